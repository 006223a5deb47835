/-! SleeveSlips -/
set_option maxRecDepth 100000
def RX0 : String := "SleeveSlips"
def TX0 : u_T := fun k => match k with
  | 0 => ("SleeveSlips", "book", "LSleeveSlips$Book;", false)
  | 1 => ("SleeveSlips", "now", "LSleeveSlips$Town;", true)
  | 2 => ("SleeveSlips", "images", "[LSleeveSlips$Town;", true)
  | 3 => ("SleeveSlips", "text", "[B", true)
  | 4 => ("SleeveSlips", "typed", "I", false)
  | 5 => ("SleeveSlips", "rest", "[I", true)
  | 6 => ("SleeveSlips", "bestSet", "I", false)
  | 7 => ("SleeveSlips", "tenths", "[I", true)
  | 8 => ("SleeveSlips", "sortWorth", "[I", true)
  | 9 => ("SleeveSlips", "sortDays", "[I", true)
  | 10 => ("SleeveSlips", "row", "[I", true)
  | 11 => ("SleeveSlips", "trace", "J", false)
  | _ => ("SleeveSlips", "kinds", "[LSleeveSlips$Person;", true)
def tyX0 : Nat → FieldType := fun k => match k with
  | 0 => .object "SleeveSlips$Book"
  | 1 => .object "SleeveSlips$Town"
  | 2 => .array (.object "SleeveSlips$Town")
  | 3 => .array .byte
  | 4 => .int
  | 5 => .array .int
  | 6 => .int
  | 7 => .array .int
  | 8 => .array .int
  | 9 => .array .int
  | 10 => .array .int
  | 11 => .long
  | _ => .array (.object "SleeveSlips$Person")
abbrev wsX00 : List Cond := u_ws RX0 TX0 13
set_option maxRecDepth 100000 in
theorem nmX0 : ∀ a, a < 13 → ∀ b, b < 13 → a ≠ b → (TX0 a).2.1 ≠ (TX0 b).2.1 := by decide +kernel
set_option maxRecDepth 100000 in
theorem tyX0_ok : ∀ k, k < 13 → parseFieldDescriptor (TX0 k).2.2.1 = some (tyX0 k) := by decide +kernel
abbrev cX0_init : ByteArray := prog_1_method_2_code
def yX0_init : MethodName := ⟨RX0, "<init>", "()V"⟩
def dkwX0_init_7 : List UInt8 := [187, 0, 64, 89, 42, 183, 0, 66, 83, 181, 0, 67, 42, 180, 0, 19, 182, 0, 71, 177]
abbrev dktX0_init_7 : List UInt8 := dkwX0_init_7 ++ []
def dkwX0_init_6 : List UInt8 := [187, 0, 58, 89, 42, 183, 0, 60, 83, 89, 7, 187, 0, 61, 89, 42, 183, 0, 63, 83, 89, 8]
abbrev dktX0_init_6 : List UInt8 := dkwX0_init_6 ++ dktX0_init_7
def dkwX0_init_5 : List UInt8 := [187, 0, 52, 89, 42, 183, 0, 54, 83, 89, 5, 187, 0, 55, 89, 42, 183, 0, 57, 83, 89, 6]
abbrev dktX0_init_5 : List UInt8 := dkwX0_init_5 ++ dktX0_init_6
def dkwX0_init_4 : List UInt8 := [188, 10, 181, 0, 44, 42, 16, 6, 189, 0, 47, 89, 3, 187, 0, 47, 89, 42, 183, 0, 49, 83, 89, 4]
abbrev dktX0_init_4 : List UInt8 := dkwX0_init_4 ++ dktX0_init_5
def dkwX0_init_3 : List UInt8 := [42, 6, 188, 10, 181, 0, 35, 42, 6, 188, 10, 181, 0, 38, 42, 6, 188, 10, 181, 0, 41, 42, 16, 8]
abbrev dktX0_init_3 : List UInt8 := dkwX0_init_3 ++ dktX0_init_4
def dkwX0_init_2 : List UInt8 := [183, 0, 18, 83, 181, 0, 23, 42, 17, 1, 44, 188, 8, 181, 0, 27, 42, 16, 8, 188, 10, 181, 0, 31]
abbrev dktX0_init_2 : List UInt8 := dkwX0_init_2 ++ dktX0_init_3
def dkwX0_init_1 : List UInt8 := [181, 0, 19, 42, 5, 189, 0, 16, 89, 3, 187, 0, 16, 89, 183, 0, 18, 83, 89, 4, 187, 0, 16, 89]
abbrev dktX0_init_1 : List UInt8 := dkwX0_init_1 ++ dktX0_init_2
def dkwX0_init_0 : List UInt8 := [42, 183, 0, 1, 42, 187, 0, 7, 89, 183, 0, 9, 181, 0, 10, 42, 187, 0, 16, 89, 183, 0, 18]
abbrev dktX0_init_0 : List UInt8 := dkwX0_init_0 ++ dktX0_init_1
theorem dksX0_init_0 : cX0_init.data.toList.drop 0 = dktX0_init_0 := by decide +kernel
theorem dksX0_init_1 : cX0_init.data.toList.drop 23 = dktX0_init_1 := dk_seg dksX0_init_0 23 rfl rfl
theorem dksX0_init_2 : cX0_init.data.toList.drop 47 = dktX0_init_2 := dk_seg dksX0_init_1 24 rfl rfl
theorem dksX0_init_3 : cX0_init.data.toList.drop 71 = dktX0_init_3 := dk_seg dksX0_init_2 24 rfl rfl
theorem dksX0_init_4 : cX0_init.data.toList.drop 95 = dktX0_init_4 := dk_seg dksX0_init_3 24 rfl rfl
theorem dksX0_init_5 : cX0_init.data.toList.drop 119 = dktX0_init_5 := dk_seg dksX0_init_4 24 rfl rfl
theorem dksX0_init_6 : cX0_init.data.toList.drop 141 = dktX0_init_6 := dk_seg dksX0_init_5 22 rfl rfl
theorem dksX0_init_7 : cX0_init.data.toList.drop 163 = dktX0_init_7 := dk_seg dksX0_init_6 22 rfl rfl
theorem dX0_init_0 : decode cX0_init 0 = .ok (.aload_n 0, 1) := dk_42 (dk_at dksX0_init_0 0 rfl rfl)
theorem dX0_init_1 : decode cX0_init 1 = .ok (.invokespecial 1, 3) := dk_183 0 1 (dk_at dksX0_init_0 1 rfl rfl)
theorem dX0_init_4 : decode cX0_init 4 = .ok (.aload_n 0, 1) := dk_42 (dk_at dksX0_init_0 4 rfl rfl)
theorem dX0_init_5 : decode cX0_init 5 = .ok (.new 7, 3) := dk_187 0 7 (dk_at dksX0_init_0 5 rfl rfl)
theorem dX0_init_8 : decode cX0_init 8 = .ok (.dup, 1) := dk_89 (dk_at dksX0_init_0 8 rfl rfl)
theorem dX0_init_9 : decode cX0_init 9 = .ok (.invokespecial 9, 3) := dk_183 0 9 (dk_at dksX0_init_0 9 rfl rfl)
theorem dX0_init_12 : decode cX0_init 12 = .ok (.putfield 10, 3) := dk_181 0 10 (dk_at dksX0_init_0 12 rfl rfl)
theorem dX0_init_15 : decode cX0_init 15 = .ok (.aload_n 0, 1) := dk_42 (dk_at dksX0_init_0 15 rfl rfl)
theorem dX0_init_16 : decode cX0_init 16 = .ok (.new 16, 3) := dk_187 0 16 (dk_at dksX0_init_0 16 rfl rfl)
theorem dX0_init_19 : decode cX0_init 19 = .ok (.dup, 1) := dk_89 (dk_at dksX0_init_0 19 rfl rfl)
theorem dX0_init_20 : decode cX0_init 20 = .ok (.invokespecial 18, 3) := dk_183 0 18 (dk_at dksX0_init_0 20 rfl rfl)
theorem dX0_init_23 : decode cX0_init 23 = .ok (.putfield 19, 3) := dk_181 0 19 (dk_at dksX0_init_1 0 rfl rfl)
theorem dX0_init_26 : decode cX0_init 26 = .ok (.aload_n 0, 1) := dk_42 (dk_at dksX0_init_1 3 rfl rfl)
theorem dX0_init_27 : decode cX0_init 27 = .ok (.iconst 2, 1) := dk_5 (dk_at dksX0_init_1 4 rfl rfl)
theorem dX0_init_28 : decode cX0_init 28 = .ok (.anewarray 16, 3) := dk_189 0 16 (dk_at dksX0_init_1 5 rfl rfl)
theorem dX0_init_31 : decode cX0_init 31 = .ok (.dup, 1) := dk_89 (dk_at dksX0_init_1 8 rfl rfl)
theorem dX0_init_32 : decode cX0_init 32 = .ok (.iconst 0, 1) := dk_3 (dk_at dksX0_init_1 9 rfl rfl)
theorem dX0_init_33 : decode cX0_init 33 = .ok (.new 16, 3) := dk_187 0 16 (dk_at dksX0_init_1 10 rfl rfl)
theorem dX0_init_36 : decode cX0_init 36 = .ok (.dup, 1) := dk_89 (dk_at dksX0_init_1 13 rfl rfl)
theorem dX0_init_37 : decode cX0_init 37 = .ok (.invokespecial 18, 3) := dk_183 0 18 (dk_at dksX0_init_1 14 rfl rfl)
theorem dX0_init_40 : decode cX0_init 40 = .ok (.aastore, 1) := dk_83 (dk_at dksX0_init_1 17 rfl rfl)
theorem dX0_init_41 : decode cX0_init 41 = .ok (.dup, 1) := dk_89 (dk_at dksX0_init_1 18 rfl rfl)
theorem dX0_init_42 : decode cX0_init 42 = .ok (.iconst 1, 1) := dk_4 (dk_at dksX0_init_1 19 rfl rfl)
theorem dX0_init_43 : decode cX0_init 43 = .ok (.new 16, 3) := dk_187 0 16 (dk_at dksX0_init_1 20 rfl rfl)
theorem dX0_init_46 : decode cX0_init 46 = .ok (.dup, 1) := dk_89 (dk_at dksX0_init_1 23 rfl rfl)
theorem dX0_init_47 : decode cX0_init 47 = .ok (.invokespecial 18, 3) := dk_183 0 18 (dk_at dksX0_init_2 0 rfl rfl)
theorem dX0_init_50 : decode cX0_init 50 = .ok (.aastore, 1) := dk_83 (dk_at dksX0_init_2 3 rfl rfl)
theorem dX0_init_51 : decode cX0_init 51 = .ok (.putfield 23, 3) := dk_181 0 23 (dk_at dksX0_init_2 4 rfl rfl)
theorem dX0_init_54 : decode cX0_init 54 = .ok (.aload_n 0, 1) := dk_42 (dk_at dksX0_init_2 7 rfl rfl)
theorem dX0_init_55 : decode cX0_init 55 = .ok (.sipush 300, 3) := dk_17 1 44 (dk_at dksX0_init_2 8 rfl rfl)
theorem dX0_init_58 : decode cX0_init 58 = .ok (.newarray .byte, 2) := dk_188_8 (dk_at dksX0_init_2 11 rfl rfl)
theorem dX0_init_60 : decode cX0_init 60 = .ok (.putfield 27, 3) := dk_181 0 27 (dk_at dksX0_init_2 13 rfl rfl)
theorem dX0_init_63 : decode cX0_init 63 = .ok (.aload_n 0, 1) := dk_42 (dk_at dksX0_init_2 16 rfl rfl)
theorem dX0_init_64 : decode cX0_init 64 = .ok (.bipush 8, 2) := dk_16 8 (dk_at dksX0_init_2 17 rfl rfl)
theorem dX0_init_66 : decode cX0_init 66 = .ok (.newarray .int, 2) := dk_188_10 (dk_at dksX0_init_2 19 rfl rfl)
theorem dX0_init_68 : decode cX0_init 68 = .ok (.putfield 31, 3) := dk_181 0 31 (dk_at dksX0_init_2 21 rfl rfl)
theorem dX0_init_71 : decode cX0_init 71 = .ok (.aload_n 0, 1) := dk_42 (dk_at dksX0_init_3 0 rfl rfl)
theorem dX0_init_72 : decode cX0_init 72 = .ok (.iconst 3, 1) := dk_6 (dk_at dksX0_init_3 1 rfl rfl)
theorem dX0_init_73 : decode cX0_init 73 = .ok (.newarray .int, 2) := dk_188_10 (dk_at dksX0_init_3 2 rfl rfl)
theorem dX0_init_75 : decode cX0_init 75 = .ok (.putfield 35, 3) := dk_181 0 35 (dk_at dksX0_init_3 4 rfl rfl)
theorem dX0_init_78 : decode cX0_init 78 = .ok (.aload_n 0, 1) := dk_42 (dk_at dksX0_init_3 7 rfl rfl)
theorem dX0_init_79 : decode cX0_init 79 = .ok (.iconst 3, 1) := dk_6 (dk_at dksX0_init_3 8 rfl rfl)
theorem dX0_init_80 : decode cX0_init 80 = .ok (.newarray .int, 2) := dk_188_10 (dk_at dksX0_init_3 9 rfl rfl)
theorem dX0_init_82 : decode cX0_init 82 = .ok (.putfield 38, 3) := dk_181 0 38 (dk_at dksX0_init_3 11 rfl rfl)
theorem dX0_init_85 : decode cX0_init 85 = .ok (.aload_n 0, 1) := dk_42 (dk_at dksX0_init_3 14 rfl rfl)
theorem dX0_init_86 : decode cX0_init 86 = .ok (.iconst 3, 1) := dk_6 (dk_at dksX0_init_3 15 rfl rfl)
theorem dX0_init_87 : decode cX0_init 87 = .ok (.newarray .int, 2) := dk_188_10 (dk_at dksX0_init_3 16 rfl rfl)
theorem dX0_init_89 : decode cX0_init 89 = .ok (.putfield 41, 3) := dk_181 0 41 (dk_at dksX0_init_3 18 rfl rfl)
theorem dX0_init_92 : decode cX0_init 92 = .ok (.aload_n 0, 1) := dk_42 (dk_at dksX0_init_3 21 rfl rfl)
theorem dX0_init_93 : decode cX0_init 93 = .ok (.bipush 8, 2) := dk_16 8 (dk_at dksX0_init_3 22 rfl rfl)
theorem dX0_init_95 : decode cX0_init 95 = .ok (.newarray .int, 2) := dk_188_10 (dk_at dksX0_init_4 0 rfl rfl)
theorem dX0_init_97 : decode cX0_init 97 = .ok (.putfield 44, 3) := dk_181 0 44 (dk_at dksX0_init_4 2 rfl rfl)
theorem dX0_init_100 : decode cX0_init 100 = .ok (.aload_n 0, 1) := dk_42 (dk_at dksX0_init_4 5 rfl rfl)
theorem dX0_init_101 : decode cX0_init 101 = .ok (.bipush 6, 2) := dk_16 6 (dk_at dksX0_init_4 6 rfl rfl)
theorem dX0_init_103 : decode cX0_init 103 = .ok (.anewarray 47, 3) := dk_189 0 47 (dk_at dksX0_init_4 8 rfl rfl)
theorem dX0_init_106 : decode cX0_init 106 = .ok (.dup, 1) := dk_89 (dk_at dksX0_init_4 11 rfl rfl)
theorem dX0_init_107 : decode cX0_init 107 = .ok (.iconst 0, 1) := dk_3 (dk_at dksX0_init_4 12 rfl rfl)
theorem dX0_init_108 : decode cX0_init 108 = .ok (.new 47, 3) := dk_187 0 47 (dk_at dksX0_init_4 13 rfl rfl)
theorem dX0_init_111 : decode cX0_init 111 = .ok (.dup, 1) := dk_89 (dk_at dksX0_init_4 16 rfl rfl)
theorem dX0_init_112 : decode cX0_init 112 = .ok (.aload_n 0, 1) := dk_42 (dk_at dksX0_init_4 17 rfl rfl)
theorem dX0_init_113 : decode cX0_init 113 = .ok (.invokespecial 49, 3) := dk_183 0 49 (dk_at dksX0_init_4 18 rfl rfl)
theorem dX0_init_116 : decode cX0_init 116 = .ok (.aastore, 1) := dk_83 (dk_at dksX0_init_4 21 rfl rfl)
theorem dX0_init_117 : decode cX0_init 117 = .ok (.dup, 1) := dk_89 (dk_at dksX0_init_4 22 rfl rfl)
theorem dX0_init_118 : decode cX0_init 118 = .ok (.iconst 1, 1) := dk_4 (dk_at dksX0_init_4 23 rfl rfl)
theorem dX0_init_119 : decode cX0_init 119 = .ok (.new 52, 3) := dk_187 0 52 (dk_at dksX0_init_5 0 rfl rfl)
theorem dX0_init_122 : decode cX0_init 122 = .ok (.dup, 1) := dk_89 (dk_at dksX0_init_5 3 rfl rfl)
theorem dX0_init_123 : decode cX0_init 123 = .ok (.aload_n 0, 1) := dk_42 (dk_at dksX0_init_5 4 rfl rfl)
theorem dX0_init_124 : decode cX0_init 124 = .ok (.invokespecial 54, 3) := dk_183 0 54 (dk_at dksX0_init_5 5 rfl rfl)
theorem dX0_init_127 : decode cX0_init 127 = .ok (.aastore, 1) := dk_83 (dk_at dksX0_init_5 8 rfl rfl)
theorem dX0_init_128 : decode cX0_init 128 = .ok (.dup, 1) := dk_89 (dk_at dksX0_init_5 9 rfl rfl)
theorem dX0_init_129 : decode cX0_init 129 = .ok (.iconst 2, 1) := dk_5 (dk_at dksX0_init_5 10 rfl rfl)
theorem dX0_init_130 : decode cX0_init 130 = .ok (.new 55, 3) := dk_187 0 55 (dk_at dksX0_init_5 11 rfl rfl)
theorem dX0_init_133 : decode cX0_init 133 = .ok (.dup, 1) := dk_89 (dk_at dksX0_init_5 14 rfl rfl)
theorem dX0_init_134 : decode cX0_init 134 = .ok (.aload_n 0, 1) := dk_42 (dk_at dksX0_init_5 15 rfl rfl)
theorem dX0_init_135 : decode cX0_init 135 = .ok (.invokespecial 57, 3) := dk_183 0 57 (dk_at dksX0_init_5 16 rfl rfl)
theorem dX0_init_138 : decode cX0_init 138 = .ok (.aastore, 1) := dk_83 (dk_at dksX0_init_5 19 rfl rfl)
theorem dX0_init_139 : decode cX0_init 139 = .ok (.dup, 1) := dk_89 (dk_at dksX0_init_5 20 rfl rfl)
theorem dX0_init_140 : decode cX0_init 140 = .ok (.iconst 3, 1) := dk_6 (dk_at dksX0_init_5 21 rfl rfl)
theorem dX0_init_141 : decode cX0_init 141 = .ok (.new 58, 3) := dk_187 0 58 (dk_at dksX0_init_6 0 rfl rfl)
theorem dX0_init_144 : decode cX0_init 144 = .ok (.dup, 1) := dk_89 (dk_at dksX0_init_6 3 rfl rfl)
theorem dX0_init_145 : decode cX0_init 145 = .ok (.aload_n 0, 1) := dk_42 (dk_at dksX0_init_6 4 rfl rfl)
theorem dX0_init_146 : decode cX0_init 146 = .ok (.invokespecial 60, 3) := dk_183 0 60 (dk_at dksX0_init_6 5 rfl rfl)
theorem dX0_init_149 : decode cX0_init 149 = .ok (.aastore, 1) := dk_83 (dk_at dksX0_init_6 8 rfl rfl)
theorem dX0_init_150 : decode cX0_init 150 = .ok (.dup, 1) := dk_89 (dk_at dksX0_init_6 9 rfl rfl)
theorem dX0_init_151 : decode cX0_init 151 = .ok (.iconst 4, 1) := dk_7 (dk_at dksX0_init_6 10 rfl rfl)
theorem dX0_init_152 : decode cX0_init 152 = .ok (.new 61, 3) := dk_187 0 61 (dk_at dksX0_init_6 11 rfl rfl)
theorem dX0_init_155 : decode cX0_init 155 = .ok (.dup, 1) := dk_89 (dk_at dksX0_init_6 14 rfl rfl)
theorem dX0_init_156 : decode cX0_init 156 = .ok (.aload_n 0, 1) := dk_42 (dk_at dksX0_init_6 15 rfl rfl)
theorem dX0_init_157 : decode cX0_init 157 = .ok (.invokespecial 63, 3) := dk_183 0 63 (dk_at dksX0_init_6 16 rfl rfl)
theorem dX0_init_160 : decode cX0_init 160 = .ok (.aastore, 1) := dk_83 (dk_at dksX0_init_6 19 rfl rfl)
theorem dX0_init_161 : decode cX0_init 161 = .ok (.dup, 1) := dk_89 (dk_at dksX0_init_6 20 rfl rfl)
theorem dX0_init_162 : decode cX0_init 162 = .ok (.iconst 5, 1) := dk_8 (dk_at dksX0_init_6 21 rfl rfl)
theorem dX0_init_163 : decode cX0_init 163 = .ok (.new 64, 3) := dk_187 0 64 (dk_at dksX0_init_7 0 rfl rfl)
theorem dX0_init_166 : decode cX0_init 166 = .ok (.dup, 1) := dk_89 (dk_at dksX0_init_7 3 rfl rfl)
theorem dX0_init_167 : decode cX0_init 167 = .ok (.aload_n 0, 1) := dk_42 (dk_at dksX0_init_7 4 rfl rfl)
theorem dX0_init_168 : decode cX0_init 168 = .ok (.invokespecial 66, 3) := dk_183 0 66 (dk_at dksX0_init_7 5 rfl rfl)
theorem dX0_init_171 : decode cX0_init 171 = .ok (.aastore, 1) := dk_83 (dk_at dksX0_init_7 8 rfl rfl)
theorem dX0_init_172 : decode cX0_init 172 = .ok (.putfield 67, 3) := dk_181 0 67 (dk_at dksX0_init_7 9 rfl rfl)
theorem dX0_init_175 : decode cX0_init 175 = .ok (.aload_n 0, 1) := dk_42 (dk_at dksX0_init_7 12 rfl rfl)
theorem dX0_init_176 : decode cX0_init 176 = .ok (.getfield 19, 3) := dk_180 0 19 (dk_at dksX0_init_7 13 rfl rfl)
theorem dX0_init_179 : decode cX0_init 179 = .ok (.invokevirtual 71, 3) := dk_182 0 71 (dk_at dksX0_init_7 16 rfl rfl)
theorem dX0_init_182 : decode cX0_init 182 = .ok (.return_, 1) := dk_177 (dk_at dksX0_init_7 19 rfl rfl)
abbrev cX0_type : ByteArray := prog_1_method_3_code
def yX0_type : MethodName := ⟨RX0, "type", "(JI)I"⟩
def dkwX0_type_3 : List UInt8 := [180, 0, 78, 172]
abbrev dktX0_type_3 : List UInt8 := dkwX0_type_3 ++ []
def dkwX0_type_2 : List UInt8 := [21, 4, 104, 123, 136, 145, 84, 42, 89, 180, 0, 78, 4, 96, 181, 0, 78, 132, 4, 255, 167, 255, 220, 42]
abbrev dktX0_type_2 : List UInt8 := dkwX0_type_2 ++ dktX0_type_3
def dkwX0_type_1 : List UInt8 := [16, 253, 172, 29, 4, 100, 54, 4, 21, 4, 155, 0, 37, 42, 180, 0, 27, 42, 180, 0, 78, 31, 16, 8]
abbrev dktX0_type_1 : List UInt8 := dkwX0_type_1 ++ dktX0_type_2
def dkwX0_type_0 : List UInt8 := [29, 4, 16, 8, 184, 0, 74, 154, 0, 5, 2, 172, 42, 180, 0, 78, 29, 96, 17, 1, 44, 164, 0, 6]
abbrev dktX0_type_0 : List UInt8 := dkwX0_type_0 ++ dktX0_type_1
theorem dksX0_type_0 : cX0_type.data.toList.drop 0 = dktX0_type_0 := by decide +kernel
theorem dksX0_type_1 : cX0_type.data.toList.drop 24 = dktX0_type_1 := dk_seg dksX0_type_0 24 rfl rfl
theorem dksX0_type_2 : cX0_type.data.toList.drop 48 = dktX0_type_2 := dk_seg dksX0_type_1 24 rfl rfl
theorem dksX0_type_3 : cX0_type.data.toList.drop 72 = dktX0_type_3 := dk_seg dksX0_type_2 24 rfl rfl
theorem dX0_type_0 : decode cX0_type 0 = .ok (.iload_n 3, 1) := dk_29 (dk_at dksX0_type_0 0 rfl rfl)
theorem dX0_type_1 : decode cX0_type 1 = .ok (.iconst 1, 1) := dk_4 (dk_at dksX0_type_0 1 rfl rfl)
theorem dX0_type_2 : decode cX0_type 2 = .ok (.bipush 8, 2) := dk_16 8 (dk_at dksX0_type_0 2 rfl rfl)
theorem dX0_type_4 : decode cX0_type 4 = .ok (.invokestatic 74, 3) := dk_184 0 74 (dk_at dksX0_type_0 4 rfl rfl)
theorem dX0_type_7 : decode cX0_type 7 = .ok (.ifCond .ne 5, 3) := dk_154 0 5 (dk_at dksX0_type_0 7 rfl rfl)
theorem dX0_type_10 : decode cX0_type 10 = .ok (.iconst (-1), 1) := dk_2 (dk_at dksX0_type_0 10 rfl rfl)
theorem dX0_type_11 : decode cX0_type 11 = .ok (.ireturn, 1) := dk_172 (dk_at dksX0_type_0 11 rfl rfl)
theorem dX0_type_12 : decode cX0_type 12 = .ok (.aload_n 0, 1) := dk_42 (dk_at dksX0_type_0 12 rfl rfl)
theorem dX0_type_13 : decode cX0_type 13 = .ok (.getfield 78, 3) := dk_180 0 78 (dk_at dksX0_type_0 13 rfl rfl)
theorem dX0_type_16 : decode cX0_type 16 = .ok (.iload_n 3, 1) := dk_29 (dk_at dksX0_type_0 16 rfl rfl)
theorem dX0_type_17 : decode cX0_type 17 = .ok (.iadd, 1) := dk_96 (dk_at dksX0_type_0 17 rfl rfl)
theorem dX0_type_18 : decode cX0_type 18 = .ok (.sipush 300, 3) := dk_17 1 44 (dk_at dksX0_type_0 18 rfl rfl)
theorem dX0_type_21 : decode cX0_type 21 = .ok (.if_icmp .le 6, 3) := dk_164 0 6 (dk_at dksX0_type_0 21 rfl rfl)
theorem dX0_type_24 : decode cX0_type 24 = .ok (.bipush (-3), 2) := dk_16 253 (dk_at dksX0_type_1 0 rfl rfl)
theorem dX0_type_26 : decode cX0_type 26 = .ok (.ireturn, 1) := dk_172 (dk_at dksX0_type_1 2 rfl rfl)
theorem dX0_type_27 : decode cX0_type 27 = .ok (.iload_n 3, 1) := dk_29 (dk_at dksX0_type_1 3 rfl rfl)
theorem dX0_type_28 : decode cX0_type 28 = .ok (.iconst 1, 1) := dk_4 (dk_at dksX0_type_1 4 rfl rfl)
theorem dX0_type_29 : decode cX0_type 29 = .ok (.isub, 1) := dk_100 (dk_at dksX0_type_1 5 rfl rfl)
theorem dX0_type_30 : decode cX0_type 30 = .ok (.istore 4, 2) := dk_54 4 (dk_at dksX0_type_1 6 rfl rfl)
theorem dX0_type_32 : decode cX0_type 32 = .ok (.iload 4, 2) := dk_21 4 (dk_at dksX0_type_1 8 rfl rfl)
theorem dX0_type_34 : decode cX0_type 34 = .ok (.ifCond .lt 37, 3) := dk_155 0 37 (dk_at dksX0_type_1 10 rfl rfl)
theorem dX0_type_37 : decode cX0_type 37 = .ok (.aload_n 0, 1) := dk_42 (dk_at dksX0_type_1 13 rfl rfl)
theorem dX0_type_38 : decode cX0_type 38 = .ok (.getfield 27, 3) := dk_180 0 27 (dk_at dksX0_type_1 14 rfl rfl)
theorem dX0_type_41 : decode cX0_type 41 = .ok (.aload_n 0, 1) := dk_42 (dk_at dksX0_type_1 17 rfl rfl)
theorem dX0_type_42 : decode cX0_type 42 = .ok (.getfield 78, 3) := dk_180 0 78 (dk_at dksX0_type_1 18 rfl rfl)
theorem dX0_type_45 : decode cX0_type 45 = .ok (.lload_n 1, 1) := dk_31 (dk_at dksX0_type_1 21 rfl rfl)
theorem dX0_type_46 : decode cX0_type 46 = .ok (.bipush 8, 2) := dk_16 8 (dk_at dksX0_type_1 22 rfl rfl)
theorem dX0_type_48 : decode cX0_type 48 = .ok (.iload 4, 2) := dk_21 4 (dk_at dksX0_type_2 0 rfl rfl)
theorem dX0_type_50 : decode cX0_type 50 = .ok (.imul, 1) := dk_104 (dk_at dksX0_type_2 2 rfl rfl)
theorem dX0_type_51 : decode cX0_type 51 = .ok (.lshr, 1) := dk_123 (dk_at dksX0_type_2 3 rfl rfl)
theorem dX0_type_52 : decode cX0_type 52 = .ok (.l2i, 1) := dk_136 (dk_at dksX0_type_2 4 rfl rfl)
theorem dX0_type_53 : decode cX0_type 53 = .ok (.i2b, 1) := dk_145 (dk_at dksX0_type_2 5 rfl rfl)
theorem dX0_type_54 : decode cX0_type 54 = .ok (.bastore, 1) := dk_84 (dk_at dksX0_type_2 6 rfl rfl)
theorem dX0_type_55 : decode cX0_type 55 = .ok (.aload_n 0, 1) := dk_42 (dk_at dksX0_type_2 7 rfl rfl)
theorem dX0_type_56 : decode cX0_type 56 = .ok (.dup, 1) := dk_89 (dk_at dksX0_type_2 8 rfl rfl)
theorem dX0_type_57 : decode cX0_type 57 = .ok (.getfield 78, 3) := dk_180 0 78 (dk_at dksX0_type_2 9 rfl rfl)
theorem dX0_type_60 : decode cX0_type 60 = .ok (.iconst 1, 1) := dk_4 (dk_at dksX0_type_2 12 rfl rfl)
theorem dX0_type_61 : decode cX0_type 61 = .ok (.iadd, 1) := dk_96 (dk_at dksX0_type_2 13 rfl rfl)
theorem dX0_type_62 : decode cX0_type 62 = .ok (.putfield 78, 3) := dk_181 0 78 (dk_at dksX0_type_2 14 rfl rfl)
theorem dX0_type_65 : decode cX0_type 65 = .ok (.iinc 4 (-1), 3) := dk_132 4 255 (dk_at dksX0_type_2 17 rfl rfl)
theorem dX0_type_68 : decode cX0_type 68 = .ok (.goto (-36), 3) := dk_167 255 220 (dk_at dksX0_type_2 20 rfl rfl)
theorem dX0_type_71 : decode cX0_type 71 = .ok (.aload_n 0, 1) := dk_42 (dk_at dksX0_type_2 23 rfl rfl)
theorem dX0_type_72 : decode cX0_type 72 = .ok (.getfield 78, 3) := dk_180 0 78 (dk_at dksX0_type_3 0 rfl rfl)
theorem dX0_type_75 : decode cX0_type 75 = .ok (.ireturn, 1) := dk_172 (dk_at dksX0_type_3 3 rfl rfl)
abbrev cX0_in : ByteArray := prog_1_method_1_code
def yX0_in : MethodName := ⟨RX0, "in", "(III)Z"⟩
def dkwX0_in_0 : List UInt8 := [26, 27, 161, 0, 12, 26, 28, 163, 0, 7, 4, 167, 0, 4, 3, 172]
abbrev dktX0_in_0 : List UInt8 := dkwX0_in_0 ++ []
theorem dksX0_in_0 : cX0_in.data.toList.drop 0 = dktX0_in_0 := by decide +kernel
theorem dX0_in_0 : decode cX0_in 0 = .ok (.iload_n 0, 1) := dk_26 (dk_at dksX0_in_0 0 rfl rfl)
theorem dX0_in_1 : decode cX0_in 1 = .ok (.iload_n 1, 1) := dk_27 (dk_at dksX0_in_0 1 rfl rfl)
theorem dX0_in_2 : decode cX0_in 2 = .ok (.if_icmp .lt 12, 3) := dk_161 0 12 (dk_at dksX0_in_0 2 rfl rfl)
theorem dX0_in_5 : decode cX0_in 5 = .ok (.iload_n 0, 1) := dk_26 (dk_at dksX0_in_0 5 rfl rfl)
theorem dX0_in_6 : decode cX0_in 6 = .ok (.iload_n 2, 1) := dk_28 (dk_at dksX0_in_0 6 rfl rfl)
theorem dX0_in_7 : decode cX0_in 7 = .ok (.if_icmp .gt 7, 3) := dk_163 0 7 (dk_at dksX0_in_0 7 rfl rfl)
theorem dX0_in_10 : decode cX0_in 10 = .ok (.iconst 1, 1) := dk_4 (dk_at dksX0_in_0 10 rfl rfl)
theorem dX0_in_11 : decode cX0_in 11 = .ok (.goto 4, 3) := dk_167 0 4 (dk_at dksX0_in_0 11 rfl rfl)
theorem dX0_in_14 : decode cX0_in 14 = .ok (.iconst 0, 1) := dk_3 (dk_at dksX0_in_0 14 rfl rfl)
theorem dX0_in_15 : decode cX0_in 15 = .ok (.ireturn, 1) := dk_172 (dk_at dksX0_in_0 15 rfl rfl)
abbrev cX0_clear : ByteArray := prog_1_method_4_code
def yX0_clear : MethodName := ⟨RX0, "clear", "()I"⟩
def dkwX0_clear_0 : List UInt8 := [42, 180, 0, 78, 60, 42, 3, 181, 0, 78, 27, 172]
abbrev dktX0_clear_0 : List UInt8 := dkwX0_clear_0 ++ []
theorem dksX0_clear_0 : cX0_clear.data.toList.drop 0 = dktX0_clear_0 := by decide +kernel
theorem dX0_clear_0 : decode cX0_clear 0 = .ok (.aload_n 0, 1) := dk_42 (dk_at dksX0_clear_0 0 rfl rfl)
theorem dX0_clear_1 : decode cX0_clear 1 = .ok (.getfield 78, 3) := dk_180 0 78 (dk_at dksX0_clear_0 1 rfl rfl)
theorem dX0_clear_4 : decode cX0_clear 4 = .ok (.istore_n 1, 1) := dk_60 (dk_at dksX0_clear_0 4 rfl rfl)
theorem dX0_clear_5 : decode cX0_clear 5 = .ok (.aload_n 0, 1) := dk_42 (dk_at dksX0_clear_0 5 rfl rfl)
theorem dX0_clear_6 : decode cX0_clear 6 = .ok (.iconst 0, 1) := dk_3 (dk_at dksX0_clear_0 6 rfl rfl)
theorem dX0_clear_7 : decode cX0_clear 7 = .ok (.putfield 78, 3) := dk_181 0 78 (dk_at dksX0_clear_0 7 rfl rfl)
theorem dX0_clear_10 : decode cX0_clear 10 = .ok (.iload_n 1, 1) := dk_27 (dk_at dksX0_clear_0 10 rfl rfl)
theorem dX0_clear_11 : decode cX0_clear 11 = .ok (.ireturn, 1) := dk_172 (dk_at dksX0_clear_0 11 rfl rfl)
abbrev cX0_town : ByteArray := prog_1_method_5_code
def yX0_town : MethodName := ⟨RX0, "town", "()I"⟩
def dkwX0_town_3 : List UInt8 := [42, 3, 181, 0, 78, 43, 180, 0, 98, 172]
abbrev dktX0_town_3 : List UInt8 := dkwX0_town_3 ++ []
def dkwX0_town_2 : List UInt8 := [21, 4, 29, 162, 0, 21, 44, 21, 4, 50, 58, 5, 25, 5, 3, 181, 0, 94, 132, 4, 1, 167, 255, 235]
abbrev dktX0_town_2 : List UInt8 := dkwX0_town_2 ++ dktX0_town_3
def dkwX0_town_1 : List UInt8 := [42, 43, 181, 0, 10, 42, 180, 0, 19, 182, 0, 71, 42, 180, 0, 23, 77, 44, 190, 62, 3, 54, 4]
abbrev dktX0_town_1 : List UInt8 := dkwX0_town_1 ++ dktX0_town_2
def dkwX0_town_0 : List UInt8 := [187, 0, 82, 89, 42, 183, 0, 84, 182, 0, 85, 76, 167, 0, 12, 77, 16, 246, 44, 180, 0, 91, 100, 172]
abbrev dktX0_town_0 : List UInt8 := dkwX0_town_0 ++ dktX0_town_1
theorem dksX0_town_0 : cX0_town.data.toList.drop 0 = dktX0_town_0 := by decide +kernel
theorem dksX0_town_1 : cX0_town.data.toList.drop 24 = dktX0_town_1 := dk_seg dksX0_town_0 24 rfl rfl
theorem dksX0_town_2 : cX0_town.data.toList.drop 47 = dktX0_town_2 := dk_seg dksX0_town_1 23 rfl rfl
theorem dksX0_town_3 : cX0_town.data.toList.drop 71 = dktX0_town_3 := dk_seg dksX0_town_2 24 rfl rfl
theorem dX0_town_0 : decode cX0_town 0 = .ok (.new 82, 3) := dk_187 0 82 (dk_at dksX0_town_0 0 rfl rfl)
theorem dX0_town_3 : decode cX0_town 3 = .ok (.dup, 1) := dk_89 (dk_at dksX0_town_0 3 rfl rfl)
theorem dX0_town_4 : decode cX0_town 4 = .ok (.aload_n 0, 1) := dk_42 (dk_at dksX0_town_0 4 rfl rfl)
theorem dX0_town_5 : decode cX0_town 5 = .ok (.invokespecial 84, 3) := dk_183 0 84 (dk_at dksX0_town_0 5 rfl rfl)
theorem dX0_town_8 : decode cX0_town 8 = .ok (.invokevirtual 85, 3) := dk_182 0 85 (dk_at dksX0_town_0 8 rfl rfl)
theorem dX0_town_11 : decode cX0_town 11 = .ok (.astore_n 1, 1) := dk_76 (dk_at dksX0_town_0 11 rfl rfl)
theorem dX0_town_12 : decode cX0_town 12 = .ok (.goto 12, 3) := dk_167 0 12 (dk_at dksX0_town_0 12 rfl rfl)
theorem dX0_town_15 : decode cX0_town 15 = .ok (.astore_n 2, 1) := dk_77 (dk_at dksX0_town_0 15 rfl rfl)
theorem dX0_town_16 : decode cX0_town 16 = .ok (.bipush (-10), 2) := dk_16 246 (dk_at dksX0_town_0 16 rfl rfl)
theorem dX0_town_18 : decode cX0_town 18 = .ok (.aload_n 2, 1) := dk_44 (dk_at dksX0_town_0 18 rfl rfl)
theorem dX0_town_19 : decode cX0_town 19 = .ok (.getfield 91, 3) := dk_180 0 91 (dk_at dksX0_town_0 19 rfl rfl)
theorem dX0_town_22 : decode cX0_town 22 = .ok (.isub, 1) := dk_100 (dk_at dksX0_town_0 22 rfl rfl)
theorem dX0_town_23 : decode cX0_town 23 = .ok (.ireturn, 1) := dk_172 (dk_at dksX0_town_0 23 rfl rfl)
theorem dX0_town_24 : decode cX0_town 24 = .ok (.aload_n 0, 1) := dk_42 (dk_at dksX0_town_1 0 rfl rfl)
theorem dX0_town_25 : decode cX0_town 25 = .ok (.aload_n 1, 1) := dk_43 (dk_at dksX0_town_1 1 rfl rfl)
theorem dX0_town_26 : decode cX0_town 26 = .ok (.putfield 10, 3) := dk_181 0 10 (dk_at dksX0_town_1 2 rfl rfl)
theorem dX0_town_29 : decode cX0_town 29 = .ok (.aload_n 0, 1) := dk_42 (dk_at dksX0_town_1 5 rfl rfl)
theorem dX0_town_30 : decode cX0_town 30 = .ok (.getfield 19, 3) := dk_180 0 19 (dk_at dksX0_town_1 6 rfl rfl)
theorem dX0_town_33 : decode cX0_town 33 = .ok (.invokevirtual 71, 3) := dk_182 0 71 (dk_at dksX0_town_1 9 rfl rfl)
theorem dX0_town_36 : decode cX0_town 36 = .ok (.aload_n 0, 1) := dk_42 (dk_at dksX0_town_1 12 rfl rfl)
theorem dX0_town_37 : decode cX0_town 37 = .ok (.getfield 23, 3) := dk_180 0 23 (dk_at dksX0_town_1 13 rfl rfl)
theorem dX0_town_40 : decode cX0_town 40 = .ok (.astore_n 2, 1) := dk_77 (dk_at dksX0_town_1 16 rfl rfl)
theorem dX0_town_41 : decode cX0_town 41 = .ok (.aload_n 2, 1) := dk_44 (dk_at dksX0_town_1 17 rfl rfl)
theorem dX0_town_42 : decode cX0_town 42 = .ok (.arraylength, 1) := dk_190 (dk_at dksX0_town_1 18 rfl rfl)
theorem dX0_town_43 : decode cX0_town 43 = .ok (.istore_n 3, 1) := dk_62 (dk_at dksX0_town_1 19 rfl rfl)
theorem dX0_town_44 : decode cX0_town 44 = .ok (.iconst 0, 1) := dk_3 (dk_at dksX0_town_1 20 rfl rfl)
theorem dX0_town_45 : decode cX0_town 45 = .ok (.istore 4, 2) := dk_54 4 (dk_at dksX0_town_1 21 rfl rfl)
theorem dX0_town_47 : decode cX0_town 47 = .ok (.iload 4, 2) := dk_21 4 (dk_at dksX0_town_2 0 rfl rfl)
theorem dX0_town_49 : decode cX0_town 49 = .ok (.iload_n 3, 1) := dk_29 (dk_at dksX0_town_2 2 rfl rfl)
theorem dX0_town_50 : decode cX0_town 50 = .ok (.if_icmp .ge 21, 3) := dk_162 0 21 (dk_at dksX0_town_2 3 rfl rfl)
theorem dX0_town_53 : decode cX0_town 53 = .ok (.aload_n 2, 1) := dk_44 (dk_at dksX0_town_2 6 rfl rfl)
theorem dX0_town_54 : decode cX0_town 54 = .ok (.iload 4, 2) := dk_21 4 (dk_at dksX0_town_2 7 rfl rfl)
theorem dX0_town_56 : decode cX0_town 56 = .ok (.aaload, 1) := dk_50 (dk_at dksX0_town_2 9 rfl rfl)
theorem dX0_town_57 : decode cX0_town 57 = .ok (.astore 5, 2) := dk_58 5 (dk_at dksX0_town_2 10 rfl rfl)
theorem dX0_town_59 : decode cX0_town 59 = .ok (.aload 5, 2) := dk_25 5 (dk_at dksX0_town_2 12 rfl rfl)
theorem dX0_town_61 : decode cX0_town 61 = .ok (.iconst 0, 1) := dk_3 (dk_at dksX0_town_2 14 rfl rfl)
theorem dX0_town_62 : decode cX0_town 62 = .ok (.putfield 94, 3) := dk_181 0 94 (dk_at dksX0_town_2 15 rfl rfl)
theorem dX0_town_65 : decode cX0_town 65 = .ok (.iinc 4 1, 3) := dk_132 4 1 (dk_at dksX0_town_2 18 rfl rfl)
theorem dX0_town_68 : decode cX0_town 68 = .ok (.goto (-21), 3) := dk_167 255 235 (dk_at dksX0_town_2 21 rfl rfl)
theorem dX0_town_71 : decode cX0_town 71 = .ok (.aload_n 0, 1) := dk_42 (dk_at dksX0_town_3 0 rfl rfl)
theorem dX0_town_72 : decode cX0_town 72 = .ok (.iconst 0, 1) := dk_3 (dk_at dksX0_town_3 1 rfl rfl)
theorem dX0_town_73 : decode cX0_town 73 = .ok (.putfield 78, 3) := dk_181 0 78 (dk_at dksX0_town_3 2 rfl rfl)
theorem dX0_town_76 : decode cX0_town 76 = .ok (.aload_n 1, 1) := dk_43 (dk_at dksX0_town_3 5 rfl rfl)
theorem dX0_town_77 : decode cX0_town 77 = .ok (.getfield 98, 3) := dk_180 0 98 (dk_at dksX0_town_3 6 rfl rfl)
theorem dX0_town_80 : decode cX0_town 80 = .ok (.ireturn, 1) := dk_172 (dk_at dksX0_town_3 9 rfl rfl)
abbrev cX0_person : ByteArray := prog_1_method_8_code
def yX0_person : MethodName := ⟨RX0, "person", "(II)I"⟩
def dkwX0_person_3 : List UInt8 := [180, 0, 19, 180, 0, 120, 27, 50, 180, 0, 124, 172]
abbrev dktX0_person_3 : List UInt8 := dkwX0_person_3 ++ []
def dkwX0_person_2 : List UInt8 := [46, 167, 0, 32, 28, 5, 160, 0, 15, 42, 180, 0, 10, 180, 0, 117, 27, 46, 167, 0, 15, 42]
abbrev dktX0_person_2 : List UInt8 := dkwX0_person_2 ++ dktX0_person_3
def dkwX0_person_1 : List UInt8 := [180, 0, 10, 180, 0, 111, 27, 46, 167, 0, 49, 28, 4, 160, 0, 15, 42, 180, 0, 10, 180, 0, 114, 27]
abbrev dktX0_person_1 : List UInt8 := dkwX0_person_1 ++ dktX0_person_2
def dkwX0_person_0 : List UInt8 := [42, 27, 182, 0, 107, 153, 0, 12, 28, 3, 6, 184, 0, 74, 154, 0, 5, 2, 172, 28, 154, 0, 15, 42]
abbrev dktX0_person_0 : List UInt8 := dkwX0_person_0 ++ dktX0_person_1
theorem dksX0_person_0 : cX0_person.data.toList.drop 0 = dktX0_person_0 := by decide +kernel
theorem dksX0_person_1 : cX0_person.data.toList.drop 24 = dktX0_person_1 := dk_seg dksX0_person_0 24 rfl rfl
theorem dksX0_person_2 : cX0_person.data.toList.drop 48 = dktX0_person_2 := dk_seg dksX0_person_1 24 rfl rfl
theorem dksX0_person_3 : cX0_person.data.toList.drop 70 = dktX0_person_3 := dk_seg dksX0_person_2 22 rfl rfl
theorem dX0_person_0 : decode cX0_person 0 = .ok (.aload_n 0, 1) := dk_42 (dk_at dksX0_person_0 0 rfl rfl)
theorem dX0_person_1 : decode cX0_person 1 = .ok (.iload_n 1, 1) := dk_27 (dk_at dksX0_person_0 1 rfl rfl)
theorem dX0_person_2 : decode cX0_person 2 = .ok (.invokevirtual 107, 3) := dk_182 0 107 (dk_at dksX0_person_0 2 rfl rfl)
theorem dX0_person_5 : decode cX0_person 5 = .ok (.ifCond .eq 12, 3) := dk_153 0 12 (dk_at dksX0_person_0 5 rfl rfl)
theorem dX0_person_8 : decode cX0_person 8 = .ok (.iload_n 2, 1) := dk_28 (dk_at dksX0_person_0 8 rfl rfl)
theorem dX0_person_9 : decode cX0_person 9 = .ok (.iconst 0, 1) := dk_3 (dk_at dksX0_person_0 9 rfl rfl)
theorem dX0_person_10 : decode cX0_person 10 = .ok (.iconst 3, 1) := dk_6 (dk_at dksX0_person_0 10 rfl rfl)
theorem dX0_person_11 : decode cX0_person 11 = .ok (.invokestatic 74, 3) := dk_184 0 74 (dk_at dksX0_person_0 11 rfl rfl)
theorem dX0_person_14 : decode cX0_person 14 = .ok (.ifCond .ne 5, 3) := dk_154 0 5 (dk_at dksX0_person_0 14 rfl rfl)
theorem dX0_person_17 : decode cX0_person 17 = .ok (.iconst (-1), 1) := dk_2 (dk_at dksX0_person_0 17 rfl rfl)
theorem dX0_person_18 : decode cX0_person 18 = .ok (.ireturn, 1) := dk_172 (dk_at dksX0_person_0 18 rfl rfl)
theorem dX0_person_19 : decode cX0_person 19 = .ok (.iload_n 2, 1) := dk_28 (dk_at dksX0_person_0 19 rfl rfl)
theorem dX0_person_20 : decode cX0_person 20 = .ok (.ifCond .ne 15, 3) := dk_154 0 15 (dk_at dksX0_person_0 20 rfl rfl)
theorem dX0_person_23 : decode cX0_person 23 = .ok (.aload_n 0, 1) := dk_42 (dk_at dksX0_person_0 23 rfl rfl)
theorem dX0_person_24 : decode cX0_person 24 = .ok (.getfield 10, 3) := dk_180 0 10 (dk_at dksX0_person_1 0 rfl rfl)
theorem dX0_person_27 : decode cX0_person 27 = .ok (.getfield 111, 3) := dk_180 0 111 (dk_at dksX0_person_1 3 rfl rfl)
theorem dX0_person_30 : decode cX0_person 30 = .ok (.iload_n 1, 1) := dk_27 (dk_at dksX0_person_1 6 rfl rfl)
theorem dX0_person_31 : decode cX0_person 31 = .ok (.iaload, 1) := dk_46 (dk_at dksX0_person_1 7 rfl rfl)
theorem dX0_person_32 : decode cX0_person 32 = .ok (.goto 49, 3) := dk_167 0 49 (dk_at dksX0_person_1 8 rfl rfl)
theorem dX0_person_35 : decode cX0_person 35 = .ok (.iload_n 2, 1) := dk_28 (dk_at dksX0_person_1 11 rfl rfl)
theorem dX0_person_36 : decode cX0_person 36 = .ok (.iconst 1, 1) := dk_4 (dk_at dksX0_person_1 12 rfl rfl)
theorem dX0_person_37 : decode cX0_person 37 = .ok (.if_icmp .ne 15, 3) := dk_160 0 15 (dk_at dksX0_person_1 13 rfl rfl)
theorem dX0_person_40 : decode cX0_person 40 = .ok (.aload_n 0, 1) := dk_42 (dk_at dksX0_person_1 16 rfl rfl)
theorem dX0_person_41 : decode cX0_person 41 = .ok (.getfield 10, 3) := dk_180 0 10 (dk_at dksX0_person_1 17 rfl rfl)
theorem dX0_person_44 : decode cX0_person 44 = .ok (.getfield 114, 3) := dk_180 0 114 (dk_at dksX0_person_1 20 rfl rfl)
theorem dX0_person_47 : decode cX0_person 47 = .ok (.iload_n 1, 1) := dk_27 (dk_at dksX0_person_1 23 rfl rfl)
theorem dX0_person_48 : decode cX0_person 48 = .ok (.iaload, 1) := dk_46 (dk_at dksX0_person_2 0 rfl rfl)
theorem dX0_person_49 : decode cX0_person 49 = .ok (.goto 32, 3) := dk_167 0 32 (dk_at dksX0_person_2 1 rfl rfl)
theorem dX0_person_52 : decode cX0_person 52 = .ok (.iload_n 2, 1) := dk_28 (dk_at dksX0_person_2 4 rfl rfl)
theorem dX0_person_53 : decode cX0_person 53 = .ok (.iconst 2, 1) := dk_5 (dk_at dksX0_person_2 5 rfl rfl)
theorem dX0_person_54 : decode cX0_person 54 = .ok (.if_icmp .ne 15, 3) := dk_160 0 15 (dk_at dksX0_person_2 6 rfl rfl)
theorem dX0_person_57 : decode cX0_person 57 = .ok (.aload_n 0, 1) := dk_42 (dk_at dksX0_person_2 9 rfl rfl)
theorem dX0_person_58 : decode cX0_person 58 = .ok (.getfield 10, 3) := dk_180 0 10 (dk_at dksX0_person_2 10 rfl rfl)
theorem dX0_person_61 : decode cX0_person 61 = .ok (.getfield 117, 3) := dk_180 0 117 (dk_at dksX0_person_2 13 rfl rfl)
theorem dX0_person_64 : decode cX0_person 64 = .ok (.iload_n 1, 1) := dk_27 (dk_at dksX0_person_2 16 rfl rfl)
theorem dX0_person_65 : decode cX0_person 65 = .ok (.iaload, 1) := dk_46 (dk_at dksX0_person_2 17 rfl rfl)
theorem dX0_person_66 : decode cX0_person 66 = .ok (.goto 15, 3) := dk_167 0 15 (dk_at dksX0_person_2 18 rfl rfl)
theorem dX0_person_69 : decode cX0_person 69 = .ok (.aload_n 0, 1) := dk_42 (dk_at dksX0_person_2 21 rfl rfl)
theorem dX0_person_70 : decode cX0_person 70 = .ok (.getfield 19, 3) := dk_180 0 19 (dk_at dksX0_person_3 0 rfl rfl)
theorem dX0_person_73 : decode cX0_person 73 = .ok (.getfield 120, 3) := dk_180 0 120 (dk_at dksX0_person_3 3 rfl rfl)
theorem dX0_person_76 : decode cX0_person 76 = .ok (.iload_n 1, 1) := dk_27 (dk_at dksX0_person_3 6 rfl rfl)
theorem dX0_person_77 : decode cX0_person 77 = .ok (.aaload, 1) := dk_50 (dk_at dksX0_person_3 7 rfl rfl)
theorem dX0_person_78 : decode cX0_person 78 = .ok (.getfield 124, 3) := dk_180 0 124 (dk_at dksX0_person_3 8 rfl rfl)
theorem dX0_person_81 : decode cX0_person 81 = .ok (.ireturn, 1) := dk_172 (dk_at dksX0_person_3 11 rfl rfl)
abbrev cX0_isPerson : ByteArray := prog_1_method_6_code
def yX0_isPerson : MethodName := ⟨RX0, "isPerson", "(I)Z"⟩
def dkwX0_isPerson_0 : List UInt8 := [27, 3, 42, 180, 0, 10, 180, 0, 101, 4, 100, 184, 0, 74, 172]
abbrev dktX0_isPerson_0 : List UInt8 := dkwX0_isPerson_0 ++ []
theorem dksX0_isPerson_0 : cX0_isPerson.data.toList.drop 0 = dktX0_isPerson_0 := by decide +kernel
theorem dX0_isPerson_0 : decode cX0_isPerson 0 = .ok (.iload_n 1, 1) := dk_27 (dk_at dksX0_isPerson_0 0 rfl rfl)
theorem dX0_isPerson_1 : decode cX0_isPerson 1 = .ok (.iconst 0, 1) := dk_3 (dk_at dksX0_isPerson_0 1 rfl rfl)
theorem dX0_isPerson_2 : decode cX0_isPerson 2 = .ok (.aload_n 0, 1) := dk_42 (dk_at dksX0_isPerson_0 2 rfl rfl)
theorem dX0_isPerson_3 : decode cX0_isPerson 3 = .ok (.getfield 10, 3) := dk_180 0 10 (dk_at dksX0_isPerson_0 3 rfl rfl)
theorem dX0_isPerson_6 : decode cX0_isPerson 6 = .ok (.getfield 101, 3) := dk_180 0 101 (dk_at dksX0_isPerson_0 6 rfl rfl)
theorem dX0_isPerson_9 : decode cX0_isPerson 9 = .ok (.iconst 1, 1) := dk_4 (dk_at dksX0_isPerson_0 9 rfl rfl)
theorem dX0_isPerson_10 : decode cX0_isPerson 10 = .ok (.isub, 1) := dk_100 (dk_at dksX0_isPerson_0 10 rfl rfl)
theorem dX0_isPerson_11 : decode cX0_isPerson 11 = .ok (.invokestatic 74, 3) := dk_184 0 74 (dk_at dksX0_isPerson_0 11 rfl rfl)
theorem dX0_isPerson_14 : decode cX0_isPerson 14 = .ok (.ireturn, 1) := dk_172 (dk_at dksX0_isPerson_0 14 rfl rfl)
abbrev cX0_asking : ByteArray := prog_1_method_9_code
def yX0_asking : MethodName := ⟨RX0, "asking", "(II)I"⟩
def dkwX0_asking_6 : List UInt8 := [182, 0, 153, 172, 2, 172]
abbrev dktX0_asking_6 : List UInt8 := dkwX0_asking_6 ++ []
def dkwX0_asking_5 : List UInt8 := [160, 0, 15, 42, 180, 0, 19, 180, 0, 150, 27, 46, 167, 0, 4, 3, 172, 42, 180, 0, 19, 27]
abbrev dktX0_asking_5 : List UInt8 := dkwX0_asking_5 ++ dktX0_asking_6
def dkwX0_asking_4 : List UInt8 := [46, 172, 42, 180, 0, 19, 180, 0, 147, 27, 46, 172, 42, 180, 0, 19, 180, 0, 147, 27, 46, 4]
abbrev dktX0_asking_4 : List UInt8 := dkwX0_asking_4 ++ dktX0_asking_5
def dkwX0_asking_3 : List UInt8 := [180, 0, 138, 27, 46, 172, 42, 180, 0, 10, 180, 0, 141, 27, 46, 172, 42, 180, 0, 10, 180, 0, 144, 27]
abbrev dktX0_asking_3 : List UInt8 := dkwX0_asking_3 ++ dktX0_asking_4
def dkwX0_asking_2 : List UInt8 := [42, 180, 0, 10, 180, 0, 132, 27, 46, 172, 42, 180, 0, 10, 180, 0, 135, 27, 46, 172, 42, 180, 0, 10]
abbrev dktX0_asking_2 : List UInt8 := dkwX0_asking_2 ++ dktX0_asking_3
def dkwX0_asking_1 : List UInt8 := [170, 0, 0, 0, 141, 0, 0, 0, 0, 0, 0, 0, 7, 0, 0, 0, 45, 0, 0, 0, 55, 0, 0, 0, 65, 0, 0, 0, 75, 0, 0, 0, 85, 0, 0, 0, 95, 0, 0, 0, 105, 0, 0, 0, 132]
abbrev dktX0_asking_1 : List UInt8 := dkwX0_asking_1 ++ dktX0_asking_2
def dkwX0_asking_0 : List UInt8 := [42, 27, 182, 0, 129, 154, 0, 5, 2, 172, 28]
abbrev dktX0_asking_0 : List UInt8 := dkwX0_asking_0 ++ dktX0_asking_1
theorem dksX0_asking_0 : cX0_asking.data.toList.drop 0 = dktX0_asking_0 := by decide +kernel
theorem dksX0_asking_1 : cX0_asking.data.toList.drop 11 = dktX0_asking_1 := dk_seg dksX0_asking_0 11 rfl rfl
theorem dksX0_asking_2 : cX0_asking.data.toList.drop 56 = dktX0_asking_2 := dk_seg dksX0_asking_1 45 rfl rfl
theorem dksX0_asking_3 : cX0_asking.data.toList.drop 80 = dktX0_asking_3 := dk_seg dksX0_asking_2 24 rfl rfl
theorem dksX0_asking_4 : cX0_asking.data.toList.drop 104 = dktX0_asking_4 := dk_seg dksX0_asking_3 24 rfl rfl
theorem dksX0_asking_5 : cX0_asking.data.toList.drop 126 = dktX0_asking_5 := dk_seg dksX0_asking_4 22 rfl rfl
theorem dksX0_asking_6 : cX0_asking.data.toList.drop 148 = dktX0_asking_6 := dk_seg dksX0_asking_5 22 rfl rfl
theorem dX0_asking_0 : decode cX0_asking 0 = .ok (.aload_n 0, 1) := dk_42 (dk_at dksX0_asking_0 0 rfl rfl)
theorem dX0_asking_1 : decode cX0_asking 1 = .ok (.iload_n 1, 1) := dk_27 (dk_at dksX0_asking_0 1 rfl rfl)
theorem dX0_asking_2 : decode cX0_asking 2 = .ok (.invokevirtual 129, 3) := dk_182 0 129 (dk_at dksX0_asking_0 2 rfl rfl)
theorem dX0_asking_5 : decode cX0_asking 5 = .ok (.ifCond .ne 5, 3) := dk_154 0 5 (dk_at dksX0_asking_0 5 rfl rfl)
theorem dX0_asking_8 : decode cX0_asking 8 = .ok (.iconst (-1), 1) := dk_2 (dk_at dksX0_asking_0 8 rfl rfl)
theorem dX0_asking_9 : decode cX0_asking 9 = .ok (.ireturn, 1) := dk_172 (dk_at dksX0_asking_0 9 rfl rfl)
theorem dX0_asking_10 : decode cX0_asking 10 = .ok (.iload_n 2, 1) := dk_28 (dk_at dksX0_asking_0 10 rfl rfl)
theorem dX0_asking_11 : decode cX0_asking 11 = .ok (.tableswitch 141 0 7 #[45, 55, 65, 75, 85, 95, 105, 132], 45) := by decide +kernel
theorem dX0_asking_56 : decode cX0_asking 56 = .ok (.aload_n 0, 1) := dk_42 (dk_at dksX0_asking_2 0 rfl rfl)
theorem dX0_asking_57 : decode cX0_asking 57 = .ok (.getfield 10, 3) := dk_180 0 10 (dk_at dksX0_asking_2 1 rfl rfl)
theorem dX0_asking_60 : decode cX0_asking 60 = .ok (.getfield 132, 3) := dk_180 0 132 (dk_at dksX0_asking_2 4 rfl rfl)
theorem dX0_asking_63 : decode cX0_asking 63 = .ok (.iload_n 1, 1) := dk_27 (dk_at dksX0_asking_2 7 rfl rfl)
theorem dX0_asking_64 : decode cX0_asking 64 = .ok (.iaload, 1) := dk_46 (dk_at dksX0_asking_2 8 rfl rfl)
theorem dX0_asking_65 : decode cX0_asking 65 = .ok (.ireturn, 1) := dk_172 (dk_at dksX0_asking_2 9 rfl rfl)
theorem dX0_asking_66 : decode cX0_asking 66 = .ok (.aload_n 0, 1) := dk_42 (dk_at dksX0_asking_2 10 rfl rfl)
theorem dX0_asking_67 : decode cX0_asking 67 = .ok (.getfield 10, 3) := dk_180 0 10 (dk_at dksX0_asking_2 11 rfl rfl)
theorem dX0_asking_70 : decode cX0_asking 70 = .ok (.getfield 135, 3) := dk_180 0 135 (dk_at dksX0_asking_2 14 rfl rfl)
theorem dX0_asking_73 : decode cX0_asking 73 = .ok (.iload_n 1, 1) := dk_27 (dk_at dksX0_asking_2 17 rfl rfl)
theorem dX0_asking_74 : decode cX0_asking 74 = .ok (.iaload, 1) := dk_46 (dk_at dksX0_asking_2 18 rfl rfl)
theorem dX0_asking_75 : decode cX0_asking 75 = .ok (.ireturn, 1) := dk_172 (dk_at dksX0_asking_2 19 rfl rfl)
theorem dX0_asking_76 : decode cX0_asking 76 = .ok (.aload_n 0, 1) := dk_42 (dk_at dksX0_asking_2 20 rfl rfl)
theorem dX0_asking_77 : decode cX0_asking 77 = .ok (.getfield 10, 3) := dk_180 0 10 (dk_at dksX0_asking_2 21 rfl rfl)
theorem dX0_asking_80 : decode cX0_asking 80 = .ok (.getfield 138, 3) := dk_180 0 138 (dk_at dksX0_asking_3 0 rfl rfl)
theorem dX0_asking_83 : decode cX0_asking 83 = .ok (.iload_n 1, 1) := dk_27 (dk_at dksX0_asking_3 3 rfl rfl)
theorem dX0_asking_84 : decode cX0_asking 84 = .ok (.iaload, 1) := dk_46 (dk_at dksX0_asking_3 4 rfl rfl)
theorem dX0_asking_85 : decode cX0_asking 85 = .ok (.ireturn, 1) := dk_172 (dk_at dksX0_asking_3 5 rfl rfl)
theorem dX0_asking_86 : decode cX0_asking 86 = .ok (.aload_n 0, 1) := dk_42 (dk_at dksX0_asking_3 6 rfl rfl)
theorem dX0_asking_87 : decode cX0_asking 87 = .ok (.getfield 10, 3) := dk_180 0 10 (dk_at dksX0_asking_3 7 rfl rfl)
theorem dX0_asking_90 : decode cX0_asking 90 = .ok (.getfield 141, 3) := dk_180 0 141 (dk_at dksX0_asking_3 10 rfl rfl)
theorem dX0_asking_93 : decode cX0_asking 93 = .ok (.iload_n 1, 1) := dk_27 (dk_at dksX0_asking_3 13 rfl rfl)
theorem dX0_asking_94 : decode cX0_asking 94 = .ok (.iaload, 1) := dk_46 (dk_at dksX0_asking_3 14 rfl rfl)
theorem dX0_asking_95 : decode cX0_asking 95 = .ok (.ireturn, 1) := dk_172 (dk_at dksX0_asking_3 15 rfl rfl)
theorem dX0_asking_96 : decode cX0_asking 96 = .ok (.aload_n 0, 1) := dk_42 (dk_at dksX0_asking_3 16 rfl rfl)
theorem dX0_asking_97 : decode cX0_asking 97 = .ok (.getfield 10, 3) := dk_180 0 10 (dk_at dksX0_asking_3 17 rfl rfl)
theorem dX0_asking_100 : decode cX0_asking 100 = .ok (.getfield 144, 3) := dk_180 0 144 (dk_at dksX0_asking_3 20 rfl rfl)
theorem dX0_asking_103 : decode cX0_asking 103 = .ok (.iload_n 1, 1) := dk_27 (dk_at dksX0_asking_3 23 rfl rfl)
theorem dX0_asking_104 : decode cX0_asking 104 = .ok (.iaload, 1) := dk_46 (dk_at dksX0_asking_4 0 rfl rfl)
theorem dX0_asking_105 : decode cX0_asking 105 = .ok (.ireturn, 1) := dk_172 (dk_at dksX0_asking_4 1 rfl rfl)
theorem dX0_asking_106 : decode cX0_asking 106 = .ok (.aload_n 0, 1) := dk_42 (dk_at dksX0_asking_4 2 rfl rfl)
theorem dX0_asking_107 : decode cX0_asking 107 = .ok (.getfield 19, 3) := dk_180 0 19 (dk_at dksX0_asking_4 3 rfl rfl)
theorem dX0_asking_110 : decode cX0_asking 110 = .ok (.getfield 147, 3) := dk_180 0 147 (dk_at dksX0_asking_4 6 rfl rfl)
theorem dX0_asking_113 : decode cX0_asking 113 = .ok (.iload_n 1, 1) := dk_27 (dk_at dksX0_asking_4 9 rfl rfl)
theorem dX0_asking_114 : decode cX0_asking 114 = .ok (.iaload, 1) := dk_46 (dk_at dksX0_asking_4 10 rfl rfl)
theorem dX0_asking_115 : decode cX0_asking 115 = .ok (.ireturn, 1) := dk_172 (dk_at dksX0_asking_4 11 rfl rfl)
theorem dX0_asking_116 : decode cX0_asking 116 = .ok (.aload_n 0, 1) := dk_42 (dk_at dksX0_asking_4 12 rfl rfl)
theorem dX0_asking_117 : decode cX0_asking 117 = .ok (.getfield 19, 3) := dk_180 0 19 (dk_at dksX0_asking_4 13 rfl rfl)
theorem dX0_asking_120 : decode cX0_asking 120 = .ok (.getfield 147, 3) := dk_180 0 147 (dk_at dksX0_asking_4 16 rfl rfl)
theorem dX0_asking_123 : decode cX0_asking 123 = .ok (.iload_n 1, 1) := dk_27 (dk_at dksX0_asking_4 19 rfl rfl)
theorem dX0_asking_124 : decode cX0_asking 124 = .ok (.iaload, 1) := dk_46 (dk_at dksX0_asking_4 20 rfl rfl)
theorem dX0_asking_125 : decode cX0_asking 125 = .ok (.iconst 1, 1) := dk_4 (dk_at dksX0_asking_4 21 rfl rfl)
theorem dX0_asking_126 : decode cX0_asking 126 = .ok (.if_icmp .ne 15, 3) := dk_160 0 15 (dk_at dksX0_asking_5 0 rfl rfl)
theorem dX0_asking_129 : decode cX0_asking 129 = .ok (.aload_n 0, 1) := dk_42 (dk_at dksX0_asking_5 3 rfl rfl)
theorem dX0_asking_130 : decode cX0_asking 130 = .ok (.getfield 19, 3) := dk_180 0 19 (dk_at dksX0_asking_5 4 rfl rfl)
theorem dX0_asking_133 : decode cX0_asking 133 = .ok (.getfield 150, 3) := dk_180 0 150 (dk_at dksX0_asking_5 7 rfl rfl)
theorem dX0_asking_136 : decode cX0_asking 136 = .ok (.iload_n 1, 1) := dk_27 (dk_at dksX0_asking_5 10 rfl rfl)
theorem dX0_asking_137 : decode cX0_asking 137 = .ok (.iaload, 1) := dk_46 (dk_at dksX0_asking_5 11 rfl rfl)
theorem dX0_asking_138 : decode cX0_asking 138 = .ok (.goto 4, 3) := dk_167 0 4 (dk_at dksX0_asking_5 12 rfl rfl)
theorem dX0_asking_141 : decode cX0_asking 141 = .ok (.iconst 0, 1) := dk_3 (dk_at dksX0_asking_5 15 rfl rfl)
theorem dX0_asking_142 : decode cX0_asking 142 = .ok (.ireturn, 1) := dk_172 (dk_at dksX0_asking_5 16 rfl rfl)
theorem dX0_asking_143 : decode cX0_asking 143 = .ok (.aload_n 0, 1) := dk_42 (dk_at dksX0_asking_5 17 rfl rfl)
theorem dX0_asking_144 : decode cX0_asking 144 = .ok (.getfield 19, 3) := dk_180 0 19 (dk_at dksX0_asking_5 18 rfl rfl)
theorem dX0_asking_147 : decode cX0_asking 147 = .ok (.iload_n 1, 1) := dk_27 (dk_at dksX0_asking_5 21 rfl rfl)
theorem dX0_asking_148 : decode cX0_asking 148 = .ok (.invokevirtual 153, 3) := dk_182 0 153 (dk_at dksX0_asking_6 0 rfl rfl)
theorem dX0_asking_151 : decode cX0_asking 151 = .ok (.ireturn, 1) := dk_172 (dk_at dksX0_asking_6 3 rfl rfl)
theorem dX0_asking_152 : decode cX0_asking 152 = .ok (.iconst (-1), 1) := dk_2 (dk_at dksX0_asking_6 4 rfl rfl)
theorem dX0_asking_153 : decode cX0_asking 153 = .ok (.ireturn, 1) := dk_172 (dk_at dksX0_asking_6 5 rfl rfl)
abbrev cX0_isAsking : ByteArray := prog_1_method_7_code
def yX0_isAsking : MethodName := ⟨RX0, "isAsking", "(I)Z"⟩
def dkwX0_isAsking_0 : List UInt8 := [27, 3, 42, 180, 0, 10, 180, 0, 104, 4, 100, 184, 0, 74, 172]
abbrev dktX0_isAsking_0 : List UInt8 := dkwX0_isAsking_0 ++ []
theorem dksX0_isAsking_0 : cX0_isAsking.data.toList.drop 0 = dktX0_isAsking_0 := by decide +kernel
theorem dX0_isAsking_0 : decode cX0_isAsking 0 = .ok (.iload_n 1, 1) := dk_27 (dk_at dksX0_isAsking_0 0 rfl rfl)
theorem dX0_isAsking_1 : decode cX0_isAsking 1 = .ok (.iconst 0, 1) := dk_3 (dk_at dksX0_isAsking_0 1 rfl rfl)
theorem dX0_isAsking_2 : decode cX0_isAsking 2 = .ok (.aload_n 0, 1) := dk_42 (dk_at dksX0_isAsking_0 2 rfl rfl)
theorem dX0_isAsking_3 : decode cX0_isAsking 3 = .ok (.getfield 10, 3) := dk_180 0 10 (dk_at dksX0_isAsking_0 3 rfl rfl)
theorem dX0_isAsking_6 : decode cX0_isAsking 6 = .ok (.getfield 104, 3) := dk_180 0 104 (dk_at dksX0_isAsking_0 6 rfl rfl)
theorem dX0_isAsking_9 : decode cX0_isAsking 9 = .ok (.iconst 1, 1) := dk_4 (dk_at dksX0_isAsking_0 9 rfl rfl)
theorem dX0_isAsking_10 : decode cX0_isAsking 10 = .ok (.isub, 1) := dk_100 (dk_at dksX0_isAsking_0 10 rfl rfl)
theorem dX0_isAsking_11 : decode cX0_isAsking 11 = .ok (.invokestatic 74, 3) := dk_184 0 74 (dk_at dksX0_isAsking_0 11 rfl rfl)
theorem dX0_isAsking_14 : decode cX0_isAsking 14 = .ok (.ireturn, 1) := dk_172 (dk_at dksX0_isAsking_0 14 rfl rfl)
abbrev cX0_slip : ByteArray := prog_1_method_10_code
def yX0_slip : MethodName := ⟨RX0, "slip", "(II)I"⟩
def dkwX0_slip_2 : List UInt8 := [16, 251, 172]
abbrev dktX0_slip_2 : List UInt8 := dkwX0_slip_2 ++ []
def dkwX0_slip_1 : List UInt8 := [180, 0, 124, 162, 0, 20, 42, 180, 0, 19, 180, 0, 120, 27, 50, 180, 0, 157, 28, 46, 167, 0, 5]
abbrev dktX0_slip_1 : List UInt8 := dkwX0_slip_1 ++ dktX0_slip_2
def dkwX0_slip_0 : List UInt8 := [42, 27, 182, 0, 107, 153, 0, 7, 28, 156, 0, 5, 2, 172, 28, 42, 180, 0, 19, 180, 0, 120, 27, 50]
abbrev dktX0_slip_0 : List UInt8 := dkwX0_slip_0 ++ dktX0_slip_1
theorem dksX0_slip_0 : cX0_slip.data.toList.drop 0 = dktX0_slip_0 := by decide +kernel
theorem dksX0_slip_1 : cX0_slip.data.toList.drop 24 = dktX0_slip_1 := dk_seg dksX0_slip_0 24 rfl rfl
theorem dksX0_slip_2 : cX0_slip.data.toList.drop 47 = dktX0_slip_2 := dk_seg dksX0_slip_1 23 rfl rfl
theorem dX0_slip_0 : decode cX0_slip 0 = .ok (.aload_n 0, 1) := dk_42 (dk_at dksX0_slip_0 0 rfl rfl)
theorem dX0_slip_1 : decode cX0_slip 1 = .ok (.iload_n 1, 1) := dk_27 (dk_at dksX0_slip_0 1 rfl rfl)
theorem dX0_slip_2 : decode cX0_slip 2 = .ok (.invokevirtual 107, 3) := dk_182 0 107 (dk_at dksX0_slip_0 2 rfl rfl)
theorem dX0_slip_5 : decode cX0_slip 5 = .ok (.ifCond .eq 7, 3) := dk_153 0 7 (dk_at dksX0_slip_0 5 rfl rfl)
theorem dX0_slip_8 : decode cX0_slip 8 = .ok (.iload_n 2, 1) := dk_28 (dk_at dksX0_slip_0 8 rfl rfl)
theorem dX0_slip_9 : decode cX0_slip 9 = .ok (.ifCond .ge 5, 3) := dk_156 0 5 (dk_at dksX0_slip_0 9 rfl rfl)
theorem dX0_slip_12 : decode cX0_slip 12 = .ok (.iconst (-1), 1) := dk_2 (dk_at dksX0_slip_0 12 rfl rfl)
theorem dX0_slip_13 : decode cX0_slip 13 = .ok (.ireturn, 1) := dk_172 (dk_at dksX0_slip_0 13 rfl rfl)
theorem dX0_slip_14 : decode cX0_slip 14 = .ok (.iload_n 2, 1) := dk_28 (dk_at dksX0_slip_0 14 rfl rfl)
theorem dX0_slip_15 : decode cX0_slip 15 = .ok (.aload_n 0, 1) := dk_42 (dk_at dksX0_slip_0 15 rfl rfl)
theorem dX0_slip_16 : decode cX0_slip 16 = .ok (.getfield 19, 3) := dk_180 0 19 (dk_at dksX0_slip_0 16 rfl rfl)
theorem dX0_slip_19 : decode cX0_slip 19 = .ok (.getfield 120, 3) := dk_180 0 120 (dk_at dksX0_slip_0 19 rfl rfl)
theorem dX0_slip_22 : decode cX0_slip 22 = .ok (.iload_n 1, 1) := dk_27 (dk_at dksX0_slip_0 22 rfl rfl)
theorem dX0_slip_23 : decode cX0_slip 23 = .ok (.aaload, 1) := dk_50 (dk_at dksX0_slip_0 23 rfl rfl)
theorem dX0_slip_24 : decode cX0_slip 24 = .ok (.getfield 124, 3) := dk_180 0 124 (dk_at dksX0_slip_1 0 rfl rfl)
theorem dX0_slip_27 : decode cX0_slip 27 = .ok (.if_icmp .ge 20, 3) := dk_162 0 20 (dk_at dksX0_slip_1 3 rfl rfl)
theorem dX0_slip_30 : decode cX0_slip 30 = .ok (.aload_n 0, 1) := dk_42 (dk_at dksX0_slip_1 6 rfl rfl)
theorem dX0_slip_31 : decode cX0_slip 31 = .ok (.getfield 19, 3) := dk_180 0 19 (dk_at dksX0_slip_1 7 rfl rfl)
theorem dX0_slip_34 : decode cX0_slip 34 = .ok (.getfield 120, 3) := dk_180 0 120 (dk_at dksX0_slip_1 10 rfl rfl)
theorem dX0_slip_37 : decode cX0_slip 37 = .ok (.iload_n 1, 1) := dk_27 (dk_at dksX0_slip_1 13 rfl rfl)
theorem dX0_slip_38 : decode cX0_slip 38 = .ok (.aaload, 1) := dk_50 (dk_at dksX0_slip_1 14 rfl rfl)
theorem dX0_slip_39 : decode cX0_slip 39 = .ok (.getfield 157, 3) := dk_180 0 157 (dk_at dksX0_slip_1 15 rfl rfl)
theorem dX0_slip_42 : decode cX0_slip 42 = .ok (.iload_n 2, 1) := dk_28 (dk_at dksX0_slip_1 18 rfl rfl)
theorem dX0_slip_43 : decode cX0_slip 43 = .ok (.iaload, 1) := dk_46 (dk_at dksX0_slip_1 19 rfl rfl)
theorem dX0_slip_44 : decode cX0_slip 44 = .ok (.goto 5, 3) := dk_167 0 5 (dk_at dksX0_slip_1 20 rfl rfl)
theorem dX0_slip_47 : decode cX0_slip 47 = .ok (.bipush (-5), 2) := dk_16 251 (dk_at dksX0_slip_2 0 rfl rfl)
theorem dX0_slip_49 : decode cX0_slip 49 = .ok (.ireturn, 1) := dk_172 (dk_at dksX0_slip_2 2 rfl rfl)
abbrev cX0_promise : ByteArray := prog_1_method_12_code
def yX0_promise : MethodName := ⟨RX0, "promise", "(I)I"⟩
def dkwX0_promise_6 : List UInt8 := [27, 46, 79, 42, 180, 0, 19, 180, 0, 120, 28, 50, 180, 0, 124, 172]
abbrev dktX0_promise_6 : List UInt8 := dkwX0_promise_6 ++ []
def dkwX0_promise_5 : List UInt8 := [180, 0, 19, 180, 0, 147, 27, 4, 79, 42, 180, 0, 19, 180, 0, 150, 27, 42, 180, 0, 10, 180, 0, 138]
abbrev dktX0_promise_5 : List UInt8 := dkwX0_promise_5 ++ dktX0_promise_6
def dkwX0_promise_4 : List UInt8 := [180, 0, 120, 28, 50, 27, 42, 180, 0, 19, 180, 0, 120, 28, 50, 180, 0, 124, 182, 0, 169, 42]
abbrev dktX0_promise_4 : List UInt8 := dkwX0_promise_4 ++ dktX0_promise_5
def dkwX0_promise_3 : List UInt8 := [3, 27, 28, 42, 180, 0, 19, 180, 0, 120, 28, 50, 180, 0, 124, 182, 0, 165, 42, 180, 0, 19]
abbrev dktX0_promise_3 : List UInt8 := dkwX0_promise_3 ++ dktX0_promise_4
def dkwX0_promise_2 : List UInt8 := [180, 0, 10, 180, 0, 132, 27, 46, 61, 42, 28, 182, 0, 162, 154, 0, 6, 16, 253, 172, 42, 180, 0, 19]
abbrev dktX0_promise_2 : List UInt8 := dkwX0_promise_2 ++ dktX0_promise_3
def dkwX0_promise_1 : List UInt8 := [180, 0, 10, 180, 0, 135, 27, 46, 42, 180, 0, 19, 180, 0, 160, 159, 0, 6, 16, 254, 172, 42]
abbrev dktX0_promise_1 : List UInt8 := dkwX0_promise_1 ++ dktX0_promise_2
def dkwX0_promise_0 : List UInt8 := [42, 27, 182, 0, 129, 154, 0, 5, 2, 172, 42, 180, 0, 19, 180, 0, 147, 27, 46, 154, 0, 22, 42]
abbrev dktX0_promise_0 : List UInt8 := dkwX0_promise_0 ++ dktX0_promise_1
theorem dksX0_promise_0 : cX0_promise.data.toList.drop 0 = dktX0_promise_0 := by decide +kernel
theorem dksX0_promise_1 : cX0_promise.data.toList.drop 23 = dktX0_promise_1 := dk_seg dksX0_promise_0 23 rfl rfl
theorem dksX0_promise_2 : cX0_promise.data.toList.drop 45 = dktX0_promise_2 := dk_seg dksX0_promise_1 22 rfl rfl
theorem dksX0_promise_3 : cX0_promise.data.toList.drop 69 = dktX0_promise_3 := dk_seg dksX0_promise_2 24 rfl rfl
theorem dksX0_promise_4 : cX0_promise.data.toList.drop 91 = dktX0_promise_4 := dk_seg dksX0_promise_3 22 rfl rfl
theorem dksX0_promise_5 : cX0_promise.data.toList.drop 113 = dktX0_promise_5 := dk_seg dksX0_promise_4 22 rfl rfl
theorem dksX0_promise_6 : cX0_promise.data.toList.drop 137 = dktX0_promise_6 := dk_seg dksX0_promise_5 24 rfl rfl
theorem dX0_promise_0 : decode cX0_promise 0 = .ok (.aload_n 0, 1) := dk_42 (dk_at dksX0_promise_0 0 rfl rfl)
theorem dX0_promise_1 : decode cX0_promise 1 = .ok (.iload_n 1, 1) := dk_27 (dk_at dksX0_promise_0 1 rfl rfl)
theorem dX0_promise_2 : decode cX0_promise 2 = .ok (.invokevirtual 129, 3) := dk_182 0 129 (dk_at dksX0_promise_0 2 rfl rfl)
theorem dX0_promise_5 : decode cX0_promise 5 = .ok (.ifCond .ne 5, 3) := dk_154 0 5 (dk_at dksX0_promise_0 5 rfl rfl)
theorem dX0_promise_8 : decode cX0_promise 8 = .ok (.iconst (-1), 1) := dk_2 (dk_at dksX0_promise_0 8 rfl rfl)
theorem dX0_promise_9 : decode cX0_promise 9 = .ok (.ireturn, 1) := dk_172 (dk_at dksX0_promise_0 9 rfl rfl)
theorem dX0_promise_10 : decode cX0_promise 10 = .ok (.aload_n 0, 1) := dk_42 (dk_at dksX0_promise_0 10 rfl rfl)
theorem dX0_promise_11 : decode cX0_promise 11 = .ok (.getfield 19, 3) := dk_180 0 19 (dk_at dksX0_promise_0 11 rfl rfl)
theorem dX0_promise_14 : decode cX0_promise 14 = .ok (.getfield 147, 3) := dk_180 0 147 (dk_at dksX0_promise_0 14 rfl rfl)
theorem dX0_promise_17 : decode cX0_promise 17 = .ok (.iload_n 1, 1) := dk_27 (dk_at dksX0_promise_0 17 rfl rfl)
theorem dX0_promise_18 : decode cX0_promise 18 = .ok (.iaload, 1) := dk_46 (dk_at dksX0_promise_0 18 rfl rfl)
theorem dX0_promise_19 : decode cX0_promise 19 = .ok (.ifCond .ne 22, 3) := dk_154 0 22 (dk_at dksX0_promise_0 19 rfl rfl)
theorem dX0_promise_22 : decode cX0_promise 22 = .ok (.aload_n 0, 1) := dk_42 (dk_at dksX0_promise_0 22 rfl rfl)
theorem dX0_promise_23 : decode cX0_promise 23 = .ok (.getfield 10, 3) := dk_180 0 10 (dk_at dksX0_promise_1 0 rfl rfl)
theorem dX0_promise_26 : decode cX0_promise 26 = .ok (.getfield 135, 3) := dk_180 0 135 (dk_at dksX0_promise_1 3 rfl rfl)
theorem dX0_promise_29 : decode cX0_promise 29 = .ok (.iload_n 1, 1) := dk_27 (dk_at dksX0_promise_1 6 rfl rfl)
theorem dX0_promise_30 : decode cX0_promise 30 = .ok (.iaload, 1) := dk_46 (dk_at dksX0_promise_1 7 rfl rfl)
theorem dX0_promise_31 : decode cX0_promise 31 = .ok (.aload_n 0, 1) := dk_42 (dk_at dksX0_promise_1 8 rfl rfl)
theorem dX0_promise_32 : decode cX0_promise 32 = .ok (.getfield 19, 3) := dk_180 0 19 (dk_at dksX0_promise_1 9 rfl rfl)
theorem dX0_promise_35 : decode cX0_promise 35 = .ok (.getfield 160, 3) := dk_180 0 160 (dk_at dksX0_promise_1 12 rfl rfl)
theorem dX0_promise_38 : decode cX0_promise 38 = .ok (.if_icmp .eq 6, 3) := dk_159 0 6 (dk_at dksX0_promise_1 15 rfl rfl)
theorem dX0_promise_41 : decode cX0_promise 41 = .ok (.bipush (-2), 2) := dk_16 254 (dk_at dksX0_promise_1 18 rfl rfl)
theorem dX0_promise_43 : decode cX0_promise 43 = .ok (.ireturn, 1) := dk_172 (dk_at dksX0_promise_1 20 rfl rfl)
theorem dX0_promise_44 : decode cX0_promise 44 = .ok (.aload_n 0, 1) := dk_42 (dk_at dksX0_promise_1 21 rfl rfl)
theorem dX0_promise_45 : decode cX0_promise 45 = .ok (.getfield 10, 3) := dk_180 0 10 (dk_at dksX0_promise_2 0 rfl rfl)
theorem dX0_promise_48 : decode cX0_promise 48 = .ok (.getfield 132, 3) := dk_180 0 132 (dk_at dksX0_promise_2 3 rfl rfl)
theorem dX0_promise_51 : decode cX0_promise 51 = .ok (.iload_n 1, 1) := dk_27 (dk_at dksX0_promise_2 6 rfl rfl)
theorem dX0_promise_52 : decode cX0_promise 52 = .ok (.iaload, 1) := dk_46 (dk_at dksX0_promise_2 7 rfl rfl)
theorem dX0_promise_53 : decode cX0_promise 53 = .ok (.istore_n 2, 1) := dk_61 (dk_at dksX0_promise_2 8 rfl rfl)
theorem dX0_promise_54 : decode cX0_promise 54 = .ok (.aload_n 0, 1) := dk_42 (dk_at dksX0_promise_2 9 rfl rfl)
theorem dX0_promise_55 : decode cX0_promise 55 = .ok (.iload_n 2, 1) := dk_28 (dk_at dksX0_promise_2 10 rfl rfl)
theorem dX0_promise_56 : decode cX0_promise 56 = .ok (.invokevirtual 162, 3) := dk_182 0 162 (dk_at dksX0_promise_2 11 rfl rfl)
theorem dX0_promise_59 : decode cX0_promise 59 = .ok (.ifCond .ne 6, 3) := dk_154 0 6 (dk_at dksX0_promise_2 14 rfl rfl)
theorem dX0_promise_62 : decode cX0_promise 62 = .ok (.bipush (-3), 2) := dk_16 253 (dk_at dksX0_promise_2 17 rfl rfl)
theorem dX0_promise_64 : decode cX0_promise 64 = .ok (.ireturn, 1) := dk_172 (dk_at dksX0_promise_2 19 rfl rfl)
theorem dX0_promise_65 : decode cX0_promise 65 = .ok (.aload_n 0, 1) := dk_42 (dk_at dksX0_promise_2 20 rfl rfl)
theorem dX0_promise_66 : decode cX0_promise 66 = .ok (.getfield 19, 3) := dk_180 0 19 (dk_at dksX0_promise_2 21 rfl rfl)
theorem dX0_promise_69 : decode cX0_promise 69 = .ok (.iconst 0, 1) := dk_3 (dk_at dksX0_promise_3 0 rfl rfl)
theorem dX0_promise_70 : decode cX0_promise 70 = .ok (.iload_n 1, 1) := dk_27 (dk_at dksX0_promise_3 1 rfl rfl)
theorem dX0_promise_71 : decode cX0_promise 71 = .ok (.iload_n 2, 1) := dk_28 (dk_at dksX0_promise_3 2 rfl rfl)
theorem dX0_promise_72 : decode cX0_promise 72 = .ok (.aload_n 0, 1) := dk_42 (dk_at dksX0_promise_3 3 rfl rfl)
theorem dX0_promise_73 : decode cX0_promise 73 = .ok (.getfield 19, 3) := dk_180 0 19 (dk_at dksX0_promise_3 4 rfl rfl)
theorem dX0_promise_76 : decode cX0_promise 76 = .ok (.getfield 120, 3) := dk_180 0 120 (dk_at dksX0_promise_3 7 rfl rfl)
theorem dX0_promise_79 : decode cX0_promise 79 = .ok (.iload_n 2, 1) := dk_28 (dk_at dksX0_promise_3 10 rfl rfl)
theorem dX0_promise_80 : decode cX0_promise 80 = .ok (.aaload, 1) := dk_50 (dk_at dksX0_promise_3 11 rfl rfl)
theorem dX0_promise_81 : decode cX0_promise 81 = .ok (.getfield 124, 3) := dk_180 0 124 (dk_at dksX0_promise_3 12 rfl rfl)
theorem dX0_promise_84 : decode cX0_promise 84 = .ok (.invokevirtual 165, 3) := dk_182 0 165 (dk_at dksX0_promise_3 15 rfl rfl)
theorem dX0_promise_87 : decode cX0_promise 87 = .ok (.aload_n 0, 1) := dk_42 (dk_at dksX0_promise_3 18 rfl rfl)
theorem dX0_promise_88 : decode cX0_promise 88 = .ok (.getfield 19, 3) := dk_180 0 19 (dk_at dksX0_promise_3 19 rfl rfl)
theorem dX0_promise_91 : decode cX0_promise 91 = .ok (.getfield 120, 3) := dk_180 0 120 (dk_at dksX0_promise_4 0 rfl rfl)
theorem dX0_promise_94 : decode cX0_promise 94 = .ok (.iload_n 2, 1) := dk_28 (dk_at dksX0_promise_4 3 rfl rfl)
theorem dX0_promise_95 : decode cX0_promise 95 = .ok (.aaload, 1) := dk_50 (dk_at dksX0_promise_4 4 rfl rfl)
theorem dX0_promise_96 : decode cX0_promise 96 = .ok (.iload_n 1, 1) := dk_27 (dk_at dksX0_promise_4 5 rfl rfl)
theorem dX0_promise_97 : decode cX0_promise 97 = .ok (.aload_n 0, 1) := dk_42 (dk_at dksX0_promise_4 6 rfl rfl)
theorem dX0_promise_98 : decode cX0_promise 98 = .ok (.getfield 19, 3) := dk_180 0 19 (dk_at dksX0_promise_4 7 rfl rfl)
theorem dX0_promise_101 : decode cX0_promise 101 = .ok (.getfield 120, 3) := dk_180 0 120 (dk_at dksX0_promise_4 10 rfl rfl)
theorem dX0_promise_104 : decode cX0_promise 104 = .ok (.iload_n 2, 1) := dk_28 (dk_at dksX0_promise_4 13 rfl rfl)
theorem dX0_promise_105 : decode cX0_promise 105 = .ok (.aaload, 1) := dk_50 (dk_at dksX0_promise_4 14 rfl rfl)
theorem dX0_promise_106 : decode cX0_promise 106 = .ok (.getfield 124, 3) := dk_180 0 124 (dk_at dksX0_promise_4 15 rfl rfl)
theorem dX0_promise_109 : decode cX0_promise 109 = .ok (.invokevirtual 169, 3) := dk_182 0 169 (dk_at dksX0_promise_4 18 rfl rfl)
theorem dX0_promise_112 : decode cX0_promise 112 = .ok (.aload_n 0, 1) := dk_42 (dk_at dksX0_promise_4 21 rfl rfl)
theorem dX0_promise_113 : decode cX0_promise 113 = .ok (.getfield 19, 3) := dk_180 0 19 (dk_at dksX0_promise_5 0 rfl rfl)
theorem dX0_promise_116 : decode cX0_promise 116 = .ok (.getfield 147, 3) := dk_180 0 147 (dk_at dksX0_promise_5 3 rfl rfl)
theorem dX0_promise_119 : decode cX0_promise 119 = .ok (.iload_n 1, 1) := dk_27 (dk_at dksX0_promise_5 6 rfl rfl)
theorem dX0_promise_120 : decode cX0_promise 120 = .ok (.iconst 1, 1) := dk_4 (dk_at dksX0_promise_5 7 rfl rfl)
theorem dX0_promise_121 : decode cX0_promise 121 = .ok (.iastore, 1) := dk_79 (dk_at dksX0_promise_5 8 rfl rfl)
theorem dX0_promise_122 : decode cX0_promise 122 = .ok (.aload_n 0, 1) := dk_42 (dk_at dksX0_promise_5 9 rfl rfl)
theorem dX0_promise_123 : decode cX0_promise 123 = .ok (.getfield 19, 3) := dk_180 0 19 (dk_at dksX0_promise_5 10 rfl rfl)
theorem dX0_promise_126 : decode cX0_promise 126 = .ok (.getfield 150, 3) := dk_180 0 150 (dk_at dksX0_promise_5 13 rfl rfl)
theorem dX0_promise_129 : decode cX0_promise 129 = .ok (.iload_n 1, 1) := dk_27 (dk_at dksX0_promise_5 16 rfl rfl)
theorem dX0_promise_130 : decode cX0_promise 130 = .ok (.aload_n 0, 1) := dk_42 (dk_at dksX0_promise_5 17 rfl rfl)
theorem dX0_promise_131 : decode cX0_promise 131 = .ok (.getfield 10, 3) := dk_180 0 10 (dk_at dksX0_promise_5 18 rfl rfl)
theorem dX0_promise_134 : decode cX0_promise 134 = .ok (.getfield 138, 3) := dk_180 0 138 (dk_at dksX0_promise_5 21 rfl rfl)
theorem dX0_promise_137 : decode cX0_promise 137 = .ok (.iload_n 1, 1) := dk_27 (dk_at dksX0_promise_6 0 rfl rfl)
theorem dX0_promise_138 : decode cX0_promise 138 = .ok (.iaload, 1) := dk_46 (dk_at dksX0_promise_6 1 rfl rfl)
theorem dX0_promise_139 : decode cX0_promise 139 = .ok (.iastore, 1) := dk_79 (dk_at dksX0_promise_6 2 rfl rfl)
theorem dX0_promise_140 : decode cX0_promise 140 = .ok (.aload_n 0, 1) := dk_42 (dk_at dksX0_promise_6 3 rfl rfl)
theorem dX0_promise_141 : decode cX0_promise 141 = .ok (.getfield 19, 3) := dk_180 0 19 (dk_at dksX0_promise_6 4 rfl rfl)
theorem dX0_promise_144 : decode cX0_promise 144 = .ok (.getfield 120, 3) := dk_180 0 120 (dk_at dksX0_promise_6 7 rfl rfl)
theorem dX0_promise_147 : decode cX0_promise 147 = .ok (.iload_n 2, 1) := dk_28 (dk_at dksX0_promise_6 10 rfl rfl)
theorem dX0_promise_148 : decode cX0_promise 148 = .ok (.aaload, 1) := dk_50 (dk_at dksX0_promise_6 11 rfl rfl)
theorem dX0_promise_149 : decode cX0_promise 149 = .ok (.getfield 124, 3) := dk_180 0 124 (dk_at dksX0_promise_6 12 rfl rfl)
theorem dX0_promise_152 : decode cX0_promise 152 = .ok (.ireturn, 1) := dk_172 (dk_at dksX0_promise_6 15 rfl rfl)
abbrev cX0_hasRoom : ByteArray := prog_1_method_11_code
def yX0_hasRoom : MethodName := ⟨RX0, "hasRoom", "(I)Z"⟩
def dkwX0_hasRoom_1 : List UInt8 := [4, 167, 0, 4, 3, 172]
abbrev dktX0_hasRoom_1 : List UInt8 := dkwX0_hasRoom_1 ++ []
def dkwX0_hasRoom_0 : List UInt8 := [42, 180, 0, 19, 180, 0, 120, 27, 50, 180, 0, 124, 42, 180, 0, 10, 180, 0, 111, 27, 46, 162, 0, 7]
abbrev dktX0_hasRoom_0 : List UInt8 := dkwX0_hasRoom_0 ++ dktX0_hasRoom_1
theorem dksX0_hasRoom_0 : cX0_hasRoom.data.toList.drop 0 = dktX0_hasRoom_0 := by decide +kernel
theorem dksX0_hasRoom_1 : cX0_hasRoom.data.toList.drop 24 = dktX0_hasRoom_1 := dk_seg dksX0_hasRoom_0 24 rfl rfl
theorem dX0_hasRoom_0 : decode cX0_hasRoom 0 = .ok (.aload_n 0, 1) := dk_42 (dk_at dksX0_hasRoom_0 0 rfl rfl)
theorem dX0_hasRoom_1 : decode cX0_hasRoom 1 = .ok (.getfield 19, 3) := dk_180 0 19 (dk_at dksX0_hasRoom_0 1 rfl rfl)
theorem dX0_hasRoom_4 : decode cX0_hasRoom 4 = .ok (.getfield 120, 3) := dk_180 0 120 (dk_at dksX0_hasRoom_0 4 rfl rfl)
theorem dX0_hasRoom_7 : decode cX0_hasRoom 7 = .ok (.iload_n 1, 1) := dk_27 (dk_at dksX0_hasRoom_0 7 rfl rfl)
theorem dX0_hasRoom_8 : decode cX0_hasRoom 8 = .ok (.aaload, 1) := dk_50 (dk_at dksX0_hasRoom_0 8 rfl rfl)
theorem dX0_hasRoom_9 : decode cX0_hasRoom 9 = .ok (.getfield 124, 3) := dk_180 0 124 (dk_at dksX0_hasRoom_0 9 rfl rfl)
theorem dX0_hasRoom_12 : decode cX0_hasRoom 12 = .ok (.aload_n 0, 1) := dk_42 (dk_at dksX0_hasRoom_0 12 rfl rfl)
theorem dX0_hasRoom_13 : decode cX0_hasRoom 13 = .ok (.getfield 10, 3) := dk_180 0 10 (dk_at dksX0_hasRoom_0 13 rfl rfl)
theorem dX0_hasRoom_16 : decode cX0_hasRoom 16 = .ok (.getfield 111, 3) := dk_180 0 111 (dk_at dksX0_hasRoom_0 16 rfl rfl)
theorem dX0_hasRoom_19 : decode cX0_hasRoom 19 = .ok (.iload_n 1, 1) := dk_27 (dk_at dksX0_hasRoom_0 19 rfl rfl)
theorem dX0_hasRoom_20 : decode cX0_hasRoom 20 = .ok (.iaload, 1) := dk_46 (dk_at dksX0_hasRoom_0 20 rfl rfl)
theorem dX0_hasRoom_21 : decode cX0_hasRoom 21 = .ok (.if_icmp .ge 7, 3) := dk_162 0 7 (dk_at dksX0_hasRoom_0 21 rfl rfl)
theorem dX0_hasRoom_24 : decode cX0_hasRoom 24 = .ok (.iconst 1, 1) := dk_4 (dk_at dksX0_hasRoom_1 0 rfl rfl)
theorem dX0_hasRoom_25 : decode cX0_hasRoom 25 = .ok (.goto 4, 3) := dk_167 0 4 (dk_at dksX0_hasRoom_1 1 rfl rfl)
theorem dX0_hasRoom_28 : decode cX0_hasRoom 28 = .ok (.iconst 0, 1) := dk_3 (dk_at dksX0_hasRoom_1 4 rfl rfl)
theorem dX0_hasRoom_29 : decode cX0_hasRoom 29 = .ok (.ireturn, 1) := dk_172 (dk_at dksX0_hasRoom_1 5 rfl rfl)
abbrev cX0_letOff : ByteArray := prog_1_method_14_code
def yX0_letOff : MethodName := ⟨RX0, "letOff", "(I)I"⟩
def dkwX0_letOff_2 : List UInt8 := [180, 0, 150, 27, 46, 172]
abbrev dktX0_letOff_2 : List UInt8 := dkwX0_letOff_2 ++ []
def dkwX0_letOff_1 : List UInt8 := [180, 0, 19, 4, 27, 182, 0, 176, 42, 180, 0, 19, 180, 0, 147, 27, 6, 79, 42, 180, 0, 19]
abbrev dktX0_letOff_1 : List UInt8 := dkwX0_letOff_1 ++ dktX0_letOff_2
def dkwX0_letOff_0 : List UInt8 := [42, 27, 182, 0, 129, 154, 0, 5, 2, 172, 42, 27, 182, 0, 173, 154, 0, 6, 16, 254, 172, 42]
abbrev dktX0_letOff_0 : List UInt8 := dkwX0_letOff_0 ++ dktX0_letOff_1
theorem dksX0_letOff_0 : cX0_letOff.data.toList.drop 0 = dktX0_letOff_0 := by decide +kernel
theorem dksX0_letOff_1 : cX0_letOff.data.toList.drop 22 = dktX0_letOff_1 := dk_seg dksX0_letOff_0 22 rfl rfl
theorem dksX0_letOff_2 : cX0_letOff.data.toList.drop 44 = dktX0_letOff_2 := dk_seg dksX0_letOff_1 22 rfl rfl
theorem dX0_letOff_0 : decode cX0_letOff 0 = .ok (.aload_n 0, 1) := dk_42 (dk_at dksX0_letOff_0 0 rfl rfl)
theorem dX0_letOff_1 : decode cX0_letOff 1 = .ok (.iload_n 1, 1) := dk_27 (dk_at dksX0_letOff_0 1 rfl rfl)
theorem dX0_letOff_2 : decode cX0_letOff 2 = .ok (.invokevirtual 129, 3) := dk_182 0 129 (dk_at dksX0_letOff_0 2 rfl rfl)
theorem dX0_letOff_5 : decode cX0_letOff 5 = .ok (.ifCond .ne 5, 3) := dk_154 0 5 (dk_at dksX0_letOff_0 5 rfl rfl)
theorem dX0_letOff_8 : decode cX0_letOff 8 = .ok (.iconst (-1), 1) := dk_2 (dk_at dksX0_letOff_0 8 rfl rfl)
theorem dX0_letOff_9 : decode cX0_letOff 9 = .ok (.ireturn, 1) := dk_172 (dk_at dksX0_letOff_0 9 rfl rfl)
theorem dX0_letOff_10 : decode cX0_letOff 10 = .ok (.aload_n 0, 1) := dk_42 (dk_at dksX0_letOff_0 10 rfl rfl)
theorem dX0_letOff_11 : decode cX0_letOff 11 = .ok (.iload_n 1, 1) := dk_27 (dk_at dksX0_letOff_0 11 rfl rfl)
theorem dX0_letOff_12 : decode cX0_letOff 12 = .ok (.invokevirtual 173, 3) := dk_182 0 173 (dk_at dksX0_letOff_0 12 rfl rfl)
theorem dX0_letOff_15 : decode cX0_letOff 15 = .ok (.ifCond .ne 6, 3) := dk_154 0 6 (dk_at dksX0_letOff_0 15 rfl rfl)
theorem dX0_letOff_18 : decode cX0_letOff 18 = .ok (.bipush (-2), 2) := dk_16 254 (dk_at dksX0_letOff_0 18 rfl rfl)
theorem dX0_letOff_20 : decode cX0_letOff 20 = .ok (.ireturn, 1) := dk_172 (dk_at dksX0_letOff_0 20 rfl rfl)
theorem dX0_letOff_21 : decode cX0_letOff 21 = .ok (.aload_n 0, 1) := dk_42 (dk_at dksX0_letOff_0 21 rfl rfl)
theorem dX0_letOff_22 : decode cX0_letOff 22 = .ok (.getfield 19, 3) := dk_180 0 19 (dk_at dksX0_letOff_1 0 rfl rfl)
theorem dX0_letOff_25 : decode cX0_letOff 25 = .ok (.iconst 1, 1) := dk_4 (dk_at dksX0_letOff_1 3 rfl rfl)
theorem dX0_letOff_26 : decode cX0_letOff 26 = .ok (.iload_n 1, 1) := dk_27 (dk_at dksX0_letOff_1 4 rfl rfl)
theorem dX0_letOff_27 : decode cX0_letOff 27 = .ok (.invokevirtual 176, 3) := dk_182 0 176 (dk_at dksX0_letOff_1 5 rfl rfl)
theorem dX0_letOff_30 : decode cX0_letOff 30 = .ok (.aload_n 0, 1) := dk_42 (dk_at dksX0_letOff_1 8 rfl rfl)
theorem dX0_letOff_31 : decode cX0_letOff 31 = .ok (.getfield 19, 3) := dk_180 0 19 (dk_at dksX0_letOff_1 9 rfl rfl)
theorem dX0_letOff_34 : decode cX0_letOff 34 = .ok (.getfield 147, 3) := dk_180 0 147 (dk_at dksX0_letOff_1 12 rfl rfl)
theorem dX0_letOff_37 : decode cX0_letOff 37 = .ok (.iload_n 1, 1) := dk_27 (dk_at dksX0_letOff_1 15 rfl rfl)
theorem dX0_letOff_38 : decode cX0_letOff 38 = .ok (.iconst 3, 1) := dk_6 (dk_at dksX0_letOff_1 16 rfl rfl)
theorem dX0_letOff_39 : decode cX0_letOff 39 = .ok (.iastore, 1) := dk_79 (dk_at dksX0_letOff_1 17 rfl rfl)
theorem dX0_letOff_40 : decode cX0_letOff 40 = .ok (.aload_n 0, 1) := dk_42 (dk_at dksX0_letOff_1 18 rfl rfl)
theorem dX0_letOff_41 : decode cX0_letOff 41 = .ok (.getfield 19, 3) := dk_180 0 19 (dk_at dksX0_letOff_1 19 rfl rfl)
theorem dX0_letOff_44 : decode cX0_letOff 44 = .ok (.getfield 150, 3) := dk_180 0 150 (dk_at dksX0_letOff_2 0 rfl rfl)
theorem dX0_letOff_47 : decode cX0_letOff 47 = .ok (.iload_n 1, 1) := dk_27 (dk_at dksX0_letOff_2 3 rfl rfl)
theorem dX0_letOff_48 : decode cX0_letOff 48 = .ok (.iaload, 1) := dk_46 (dk_at dksX0_letOff_2 4 rfl rfl)
theorem dX0_letOff_49 : decode cX0_letOff 49 = .ok (.ireturn, 1) := dk_172 (dk_at dksX0_letOff_2 5 rfl rfl)
abbrev cX0_isPinned : ByteArray := prog_1_method_13_code
def yX0_isPinned : MethodName := ⟨RX0, "isPinned", "(I)Z"⟩
def dkwX0_isPinned_0 : List UInt8 := [42, 180, 0, 19, 180, 0, 147, 27, 46, 4, 160, 0, 7, 4, 167, 0, 4, 3, 172]
abbrev dktX0_isPinned_0 : List UInt8 := dkwX0_isPinned_0 ++ []
theorem dksX0_isPinned_0 : cX0_isPinned.data.toList.drop 0 = dktX0_isPinned_0 := by decide +kernel
theorem dX0_isPinned_0 : decode cX0_isPinned 0 = .ok (.aload_n 0, 1) := dk_42 (dk_at dksX0_isPinned_0 0 rfl rfl)
theorem dX0_isPinned_1 : decode cX0_isPinned 1 = .ok (.getfield 19, 3) := dk_180 0 19 (dk_at dksX0_isPinned_0 1 rfl rfl)
theorem dX0_isPinned_4 : decode cX0_isPinned 4 = .ok (.getfield 147, 3) := dk_180 0 147 (dk_at dksX0_isPinned_0 4 rfl rfl)
theorem dX0_isPinned_7 : decode cX0_isPinned 7 = .ok (.iload_n 1, 1) := dk_27 (dk_at dksX0_isPinned_0 7 rfl rfl)
theorem dX0_isPinned_8 : decode cX0_isPinned 8 = .ok (.iaload, 1) := dk_46 (dk_at dksX0_isPinned_0 8 rfl rfl)
theorem dX0_isPinned_9 : decode cX0_isPinned 9 = .ok (.iconst 1, 1) := dk_4 (dk_at dksX0_isPinned_0 9 rfl rfl)
theorem dX0_isPinned_10 : decode cX0_isPinned 10 = .ok (.if_icmp .ne 7, 3) := dk_160 0 7 (dk_at dksX0_isPinned_0 10 rfl rfl)
theorem dX0_isPinned_13 : decode cX0_isPinned 13 = .ok (.iconst 1, 1) := dk_4 (dk_at dksX0_isPinned_0 13 rfl rfl)
theorem dX0_isPinned_14 : decode cX0_isPinned 14 = .ok (.goto 4, 3) := dk_167 0 4 (dk_at dksX0_isPinned_0 14 rfl rfl)
theorem dX0_isPinned_17 : decode cX0_isPinned 17 = .ok (.iconst 0, 1) := dk_3 (dk_at dksX0_isPinned_0 17 rfl rfl)
theorem dX0_isPinned_18 : decode cX0_isPinned 18 = .ok (.ireturn, 1) := dk_172 (dk_at dksX0_isPinned_0 18 rfl rfl)
abbrev cX0_breaks : ByteArray := prog_1_method_15_code
def yX0_breaks : MethodName := ⟨RX0, "breaks", "(I)I"⟩
def dkwX0_breaks_3 : List UInt8 := [46, 172]
abbrev dktX0_breaks_3 : List UInt8 := dkwX0_breaks_3 ++ []
def dkwX0_breaks_2 : List UInt8 := [180, 0, 179, 42, 180, 0, 10, 180, 0, 141, 27, 46, 96, 181, 0, 179, 42, 180, 0, 10, 180, 0, 141, 27]
abbrev dktX0_breaks_2 : List UInt8 := dkwX0_breaks_2 ++ dktX0_breaks_3
def dkwX0_breaks_1 : List UInt8 := [180, 0, 19, 5, 27, 182, 0, 176, 42, 180, 0, 19, 180, 0, 147, 27, 6, 79, 42, 180, 0, 19, 89]
abbrev dktX0_breaks_1 : List UInt8 := dkwX0_breaks_1 ++ dktX0_breaks_2
def dkwX0_breaks_0 : List UInt8 := [42, 27, 182, 0, 129, 154, 0, 5, 2, 172, 42, 27, 182, 0, 173, 154, 0, 6, 16, 254, 172, 42]
abbrev dktX0_breaks_0 : List UInt8 := dkwX0_breaks_0 ++ dktX0_breaks_1
theorem dksX0_breaks_0 : cX0_breaks.data.toList.drop 0 = dktX0_breaks_0 := by decide +kernel
theorem dksX0_breaks_1 : cX0_breaks.data.toList.drop 22 = dktX0_breaks_1 := dk_seg dksX0_breaks_0 22 rfl rfl
theorem dksX0_breaks_2 : cX0_breaks.data.toList.drop 45 = dktX0_breaks_2 := dk_seg dksX0_breaks_1 23 rfl rfl
theorem dksX0_breaks_3 : cX0_breaks.data.toList.drop 69 = dktX0_breaks_3 := dk_seg dksX0_breaks_2 24 rfl rfl
theorem dX0_breaks_0 : decode cX0_breaks 0 = .ok (.aload_n 0, 1) := dk_42 (dk_at dksX0_breaks_0 0 rfl rfl)
theorem dX0_breaks_1 : decode cX0_breaks 1 = .ok (.iload_n 1, 1) := dk_27 (dk_at dksX0_breaks_0 1 rfl rfl)
theorem dX0_breaks_2 : decode cX0_breaks 2 = .ok (.invokevirtual 129, 3) := dk_182 0 129 (dk_at dksX0_breaks_0 2 rfl rfl)
theorem dX0_breaks_5 : decode cX0_breaks 5 = .ok (.ifCond .ne 5, 3) := dk_154 0 5 (dk_at dksX0_breaks_0 5 rfl rfl)
theorem dX0_breaks_8 : decode cX0_breaks 8 = .ok (.iconst (-1), 1) := dk_2 (dk_at dksX0_breaks_0 8 rfl rfl)
theorem dX0_breaks_9 : decode cX0_breaks 9 = .ok (.ireturn, 1) := dk_172 (dk_at dksX0_breaks_0 9 rfl rfl)
theorem dX0_breaks_10 : decode cX0_breaks 10 = .ok (.aload_n 0, 1) := dk_42 (dk_at dksX0_breaks_0 10 rfl rfl)
theorem dX0_breaks_11 : decode cX0_breaks 11 = .ok (.iload_n 1, 1) := dk_27 (dk_at dksX0_breaks_0 11 rfl rfl)
theorem dX0_breaks_12 : decode cX0_breaks 12 = .ok (.invokevirtual 173, 3) := dk_182 0 173 (dk_at dksX0_breaks_0 12 rfl rfl)
theorem dX0_breaks_15 : decode cX0_breaks 15 = .ok (.ifCond .ne 6, 3) := dk_154 0 6 (dk_at dksX0_breaks_0 15 rfl rfl)
theorem dX0_breaks_18 : decode cX0_breaks 18 = .ok (.bipush (-2), 2) := dk_16 254 (dk_at dksX0_breaks_0 18 rfl rfl)
theorem dX0_breaks_20 : decode cX0_breaks 20 = .ok (.ireturn, 1) := dk_172 (dk_at dksX0_breaks_0 20 rfl rfl)
theorem dX0_breaks_21 : decode cX0_breaks 21 = .ok (.aload_n 0, 1) := dk_42 (dk_at dksX0_breaks_0 21 rfl rfl)
theorem dX0_breaks_22 : decode cX0_breaks 22 = .ok (.getfield 19, 3) := dk_180 0 19 (dk_at dksX0_breaks_1 0 rfl rfl)
theorem dX0_breaks_25 : decode cX0_breaks 25 = .ok (.iconst 2, 1) := dk_5 (dk_at dksX0_breaks_1 3 rfl rfl)
theorem dX0_breaks_26 : decode cX0_breaks 26 = .ok (.iload_n 1, 1) := dk_27 (dk_at dksX0_breaks_1 4 rfl rfl)
theorem dX0_breaks_27 : decode cX0_breaks 27 = .ok (.invokevirtual 176, 3) := dk_182 0 176 (dk_at dksX0_breaks_1 5 rfl rfl)
theorem dX0_breaks_30 : decode cX0_breaks 30 = .ok (.aload_n 0, 1) := dk_42 (dk_at dksX0_breaks_1 8 rfl rfl)
theorem dX0_breaks_31 : decode cX0_breaks 31 = .ok (.getfield 19, 3) := dk_180 0 19 (dk_at dksX0_breaks_1 9 rfl rfl)
theorem dX0_breaks_34 : decode cX0_breaks 34 = .ok (.getfield 147, 3) := dk_180 0 147 (dk_at dksX0_breaks_1 12 rfl rfl)
theorem dX0_breaks_37 : decode cX0_breaks 37 = .ok (.iload_n 1, 1) := dk_27 (dk_at dksX0_breaks_1 15 rfl rfl)
theorem dX0_breaks_38 : decode cX0_breaks 38 = .ok (.iconst 3, 1) := dk_6 (dk_at dksX0_breaks_1 16 rfl rfl)
theorem dX0_breaks_39 : decode cX0_breaks 39 = .ok (.iastore, 1) := dk_79 (dk_at dksX0_breaks_1 17 rfl rfl)
theorem dX0_breaks_40 : decode cX0_breaks 40 = .ok (.aload_n 0, 1) := dk_42 (dk_at dksX0_breaks_1 18 rfl rfl)
theorem dX0_breaks_41 : decode cX0_breaks 41 = .ok (.getfield 19, 3) := dk_180 0 19 (dk_at dksX0_breaks_1 19 rfl rfl)
theorem dX0_breaks_44 : decode cX0_breaks 44 = .ok (.dup, 1) := dk_89 (dk_at dksX0_breaks_1 22 rfl rfl)
theorem dX0_breaks_45 : decode cX0_breaks 45 = .ok (.getfield 179, 3) := dk_180 0 179 (dk_at dksX0_breaks_2 0 rfl rfl)
theorem dX0_breaks_48 : decode cX0_breaks 48 = .ok (.aload_n 0, 1) := dk_42 (dk_at dksX0_breaks_2 3 rfl rfl)
theorem dX0_breaks_49 : decode cX0_breaks 49 = .ok (.getfield 10, 3) := dk_180 0 10 (dk_at dksX0_breaks_2 4 rfl rfl)
theorem dX0_breaks_52 : decode cX0_breaks 52 = .ok (.getfield 141, 3) := dk_180 0 141 (dk_at dksX0_breaks_2 7 rfl rfl)
theorem dX0_breaks_55 : decode cX0_breaks 55 = .ok (.iload_n 1, 1) := dk_27 (dk_at dksX0_breaks_2 10 rfl rfl)
theorem dX0_breaks_56 : decode cX0_breaks 56 = .ok (.iaload, 1) := dk_46 (dk_at dksX0_breaks_2 11 rfl rfl)
theorem dX0_breaks_57 : decode cX0_breaks 57 = .ok (.iadd, 1) := dk_96 (dk_at dksX0_breaks_2 12 rfl rfl)
theorem dX0_breaks_58 : decode cX0_breaks 58 = .ok (.putfield 179, 3) := dk_181 0 179 (dk_at dksX0_breaks_2 13 rfl rfl)
theorem dX0_breaks_61 : decode cX0_breaks 61 = .ok (.aload_n 0, 1) := dk_42 (dk_at dksX0_breaks_2 16 rfl rfl)
theorem dX0_breaks_62 : decode cX0_breaks 62 = .ok (.getfield 10, 3) := dk_180 0 10 (dk_at dksX0_breaks_2 17 rfl rfl)
theorem dX0_breaks_65 : decode cX0_breaks 65 = .ok (.getfield 141, 3) := dk_180 0 141 (dk_at dksX0_breaks_2 20 rfl rfl)
theorem dX0_breaks_68 : decode cX0_breaks 68 = .ok (.iload_n 1, 1) := dk_27 (dk_at dksX0_breaks_2 23 rfl rfl)
theorem dX0_breaks_69 : decode cX0_breaks 69 = .ok (.iaload, 1) := dk_46 (dk_at dksX0_breaks_3 0 rfl rfl)
theorem dX0_breaks_70 : decode cX0_breaks 70 = .ok (.ireturn, 1) := dk_172 (dk_at dksX0_breaks_3 1 rfl rfl)
abbrev cX0_hand : ByteArray := prog_1_method_16_code
def yX0_hand : MethodName := ⟨RX0, "hand", "(II)I"⟩
def dkwX0_hand_4 : List UInt8 := [50, 180, 0, 124, 172]
abbrev dktX0_hand_4 : List UInt8 := dkwX0_hand_4 ++ []
def dkwX0_hand_3 : List UInt8 := [27, 42, 180, 0, 19, 180, 0, 120, 28, 50, 180, 0, 124, 182, 0, 169, 42, 180, 0, 19, 180, 0, 120, 28]
abbrev dktX0_hand_3 : List UInt8 := dkwX0_hand_3 ++ dktX0_hand_4
def dkwX0_hand_2 : List UInt8 := [154, 0, 6, 16, 253, 172, 42, 180, 0, 19, 6, 27, 182, 0, 176, 42, 180, 0, 19, 180, 0, 120, 28, 50]
abbrev dktX0_hand_2 : List UInt8 := dkwX0_hand_2 ++ dktX0_hand_3
def dkwX0_hand_1 : List UInt8 := [153, 0, 15, 42, 180, 0, 19, 27, 182, 0, 153, 28, 160, 0, 6, 16, 254, 172, 42, 28, 182, 0, 162]
abbrev dktX0_hand_1 : List UInt8 := dkwX0_hand_1 ++ dktX0_hand_2
def dkwX0_hand_0 : List UInt8 := [42, 27, 182, 0, 129, 153, 0, 11, 42, 28, 182, 0, 107, 154, 0, 5, 2, 172, 42, 27, 182, 0, 173]
abbrev dktX0_hand_0 : List UInt8 := dkwX0_hand_0 ++ dktX0_hand_1
theorem dksX0_hand_0 : cX0_hand.data.toList.drop 0 = dktX0_hand_0 := by decide +kernel
theorem dksX0_hand_1 : cX0_hand.data.toList.drop 23 = dktX0_hand_1 := dk_seg dksX0_hand_0 23 rfl rfl
theorem dksX0_hand_2 : cX0_hand.data.toList.drop 46 = dktX0_hand_2 := dk_seg dksX0_hand_1 23 rfl rfl
theorem dksX0_hand_3 : cX0_hand.data.toList.drop 70 = dktX0_hand_3 := dk_seg dksX0_hand_2 24 rfl rfl
theorem dksX0_hand_4 : cX0_hand.data.toList.drop 94 = dktX0_hand_4 := dk_seg dksX0_hand_3 24 rfl rfl
theorem dX0_hand_0 : decode cX0_hand 0 = .ok (.aload_n 0, 1) := dk_42 (dk_at dksX0_hand_0 0 rfl rfl)
theorem dX0_hand_1 : decode cX0_hand 1 = .ok (.iload_n 1, 1) := dk_27 (dk_at dksX0_hand_0 1 rfl rfl)
theorem dX0_hand_2 : decode cX0_hand 2 = .ok (.invokevirtual 129, 3) := dk_182 0 129 (dk_at dksX0_hand_0 2 rfl rfl)
theorem dX0_hand_5 : decode cX0_hand 5 = .ok (.ifCond .eq 11, 3) := dk_153 0 11 (dk_at dksX0_hand_0 5 rfl rfl)
theorem dX0_hand_8 : decode cX0_hand 8 = .ok (.aload_n 0, 1) := dk_42 (dk_at dksX0_hand_0 8 rfl rfl)
theorem dX0_hand_9 : decode cX0_hand 9 = .ok (.iload_n 2, 1) := dk_28 (dk_at dksX0_hand_0 9 rfl rfl)
theorem dX0_hand_10 : decode cX0_hand 10 = .ok (.invokevirtual 107, 3) := dk_182 0 107 (dk_at dksX0_hand_0 10 rfl rfl)
theorem dX0_hand_13 : decode cX0_hand 13 = .ok (.ifCond .ne 5, 3) := dk_154 0 5 (dk_at dksX0_hand_0 13 rfl rfl)
theorem dX0_hand_16 : decode cX0_hand 16 = .ok (.iconst (-1), 1) := dk_2 (dk_at dksX0_hand_0 16 rfl rfl)
theorem dX0_hand_17 : decode cX0_hand 17 = .ok (.ireturn, 1) := dk_172 (dk_at dksX0_hand_0 17 rfl rfl)
theorem dX0_hand_18 : decode cX0_hand 18 = .ok (.aload_n 0, 1) := dk_42 (dk_at dksX0_hand_0 18 rfl rfl)
theorem dX0_hand_19 : decode cX0_hand 19 = .ok (.iload_n 1, 1) := dk_27 (dk_at dksX0_hand_0 19 rfl rfl)
theorem dX0_hand_20 : decode cX0_hand 20 = .ok (.invokevirtual 173, 3) := dk_182 0 173 (dk_at dksX0_hand_0 20 rfl rfl)
theorem dX0_hand_23 : decode cX0_hand 23 = .ok (.ifCond .eq 15, 3) := dk_153 0 15 (dk_at dksX0_hand_1 0 rfl rfl)
theorem dX0_hand_26 : decode cX0_hand 26 = .ok (.aload_n 0, 1) := dk_42 (dk_at dksX0_hand_1 3 rfl rfl)
theorem dX0_hand_27 : decode cX0_hand 27 = .ok (.getfield 19, 3) := dk_180 0 19 (dk_at dksX0_hand_1 4 rfl rfl)
theorem dX0_hand_30 : decode cX0_hand 30 = .ok (.iload_n 1, 1) := dk_27 (dk_at dksX0_hand_1 7 rfl rfl)
theorem dX0_hand_31 : decode cX0_hand 31 = .ok (.invokevirtual 153, 3) := dk_182 0 153 (dk_at dksX0_hand_1 8 rfl rfl)
theorem dX0_hand_34 : decode cX0_hand 34 = .ok (.iload_n 2, 1) := dk_28 (dk_at dksX0_hand_1 11 rfl rfl)
theorem dX0_hand_35 : decode cX0_hand 35 = .ok (.if_icmp .ne 6, 3) := dk_160 0 6 (dk_at dksX0_hand_1 12 rfl rfl)
theorem dX0_hand_38 : decode cX0_hand 38 = .ok (.bipush (-2), 2) := dk_16 254 (dk_at dksX0_hand_1 15 rfl rfl)
theorem dX0_hand_40 : decode cX0_hand 40 = .ok (.ireturn, 1) := dk_172 (dk_at dksX0_hand_1 17 rfl rfl)
theorem dX0_hand_41 : decode cX0_hand 41 = .ok (.aload_n 0, 1) := dk_42 (dk_at dksX0_hand_1 18 rfl rfl)
theorem dX0_hand_42 : decode cX0_hand 42 = .ok (.iload_n 2, 1) := dk_28 (dk_at dksX0_hand_1 19 rfl rfl)
theorem dX0_hand_43 : decode cX0_hand 43 = .ok (.invokevirtual 162, 3) := dk_182 0 162 (dk_at dksX0_hand_1 20 rfl rfl)
theorem dX0_hand_46 : decode cX0_hand 46 = .ok (.ifCond .ne 6, 3) := dk_154 0 6 (dk_at dksX0_hand_2 0 rfl rfl)
theorem dX0_hand_49 : decode cX0_hand 49 = .ok (.bipush (-3), 2) := dk_16 253 (dk_at dksX0_hand_2 3 rfl rfl)
theorem dX0_hand_51 : decode cX0_hand 51 = .ok (.ireturn, 1) := dk_172 (dk_at dksX0_hand_2 5 rfl rfl)
theorem dX0_hand_52 : decode cX0_hand 52 = .ok (.aload_n 0, 1) := dk_42 (dk_at dksX0_hand_2 6 rfl rfl)
theorem dX0_hand_53 : decode cX0_hand 53 = .ok (.getfield 19, 3) := dk_180 0 19 (dk_at dksX0_hand_2 7 rfl rfl)
theorem dX0_hand_56 : decode cX0_hand 56 = .ok (.iconst 3, 1) := dk_6 (dk_at dksX0_hand_2 10 rfl rfl)
theorem dX0_hand_57 : decode cX0_hand 57 = .ok (.iload_n 1, 1) := dk_27 (dk_at dksX0_hand_2 11 rfl rfl)
theorem dX0_hand_58 : decode cX0_hand 58 = .ok (.invokevirtual 176, 3) := dk_182 0 176 (dk_at dksX0_hand_2 12 rfl rfl)
theorem dX0_hand_61 : decode cX0_hand 61 = .ok (.aload_n 0, 1) := dk_42 (dk_at dksX0_hand_2 15 rfl rfl)
theorem dX0_hand_62 : decode cX0_hand 62 = .ok (.getfield 19, 3) := dk_180 0 19 (dk_at dksX0_hand_2 16 rfl rfl)
theorem dX0_hand_65 : decode cX0_hand 65 = .ok (.getfield 120, 3) := dk_180 0 120 (dk_at dksX0_hand_2 19 rfl rfl)
theorem dX0_hand_68 : decode cX0_hand 68 = .ok (.iload_n 2, 1) := dk_28 (dk_at dksX0_hand_2 22 rfl rfl)
theorem dX0_hand_69 : decode cX0_hand 69 = .ok (.aaload, 1) := dk_50 (dk_at dksX0_hand_2 23 rfl rfl)
theorem dX0_hand_70 : decode cX0_hand 70 = .ok (.iload_n 1, 1) := dk_27 (dk_at dksX0_hand_3 0 rfl rfl)
theorem dX0_hand_71 : decode cX0_hand 71 = .ok (.aload_n 0, 1) := dk_42 (dk_at dksX0_hand_3 1 rfl rfl)
theorem dX0_hand_72 : decode cX0_hand 72 = .ok (.getfield 19, 3) := dk_180 0 19 (dk_at dksX0_hand_3 2 rfl rfl)
theorem dX0_hand_75 : decode cX0_hand 75 = .ok (.getfield 120, 3) := dk_180 0 120 (dk_at dksX0_hand_3 5 rfl rfl)
theorem dX0_hand_78 : decode cX0_hand 78 = .ok (.iload_n 2, 1) := dk_28 (dk_at dksX0_hand_3 8 rfl rfl)
theorem dX0_hand_79 : decode cX0_hand 79 = .ok (.aaload, 1) := dk_50 (dk_at dksX0_hand_3 9 rfl rfl)
theorem dX0_hand_80 : decode cX0_hand 80 = .ok (.getfield 124, 3) := dk_180 0 124 (dk_at dksX0_hand_3 10 rfl rfl)
theorem dX0_hand_83 : decode cX0_hand 83 = .ok (.invokevirtual 169, 3) := dk_182 0 169 (dk_at dksX0_hand_3 13 rfl rfl)
theorem dX0_hand_86 : decode cX0_hand 86 = .ok (.aload_n 0, 1) := dk_42 (dk_at dksX0_hand_3 16 rfl rfl)
theorem dX0_hand_87 : decode cX0_hand 87 = .ok (.getfield 19, 3) := dk_180 0 19 (dk_at dksX0_hand_3 17 rfl rfl)
theorem dX0_hand_90 : decode cX0_hand 90 = .ok (.getfield 120, 3) := dk_180 0 120 (dk_at dksX0_hand_3 20 rfl rfl)
theorem dX0_hand_93 : decode cX0_hand 93 = .ok (.iload_n 2, 1) := dk_28 (dk_at dksX0_hand_3 23 rfl rfl)
theorem dX0_hand_94 : decode cX0_hand 94 = .ok (.aaload, 1) := dk_50 (dk_at dksX0_hand_4 0 rfl rfl)
theorem dX0_hand_95 : decode cX0_hand 95 = .ok (.getfield 124, 3) := dk_180 0 124 (dk_at dksX0_hand_4 1 rfl rfl)
theorem dX0_hand_98 : decode cX0_hand 98 = .ok (.ireturn, 1) := dk_172 (dk_at dksX0_hand_4 4 rfl rfl)
abbrev cX0_undo : ByteArray := prog_1_method_17_code
def yX0_undo : MethodName := ⟨RX0, "undo", "()I"⟩
def dkwX0_undo_9 : List UInt8 := [28, 42, 180, 0, 19, 180, 0, 194, 27, 46, 182, 0, 169, 27, 172]
abbrev dktX0_undo_9 : List UInt8 := dkwX0_undo_9 ++ []
def dkwX0_undo_8 : List UInt8 := [3, 100, 181, 0, 179, 42, 180, 0, 19, 180, 0, 147, 28, 4, 79, 42, 180, 0, 19, 180, 0, 120, 29, 50]
abbrev dktX0_undo_8 : List UInt8 := dkwX0_undo_8 ++ dktX0_undo_9
def dkwX0_undo_7 : List UInt8 := [180, 0, 19, 180, 0, 191, 27, 46, 5, 160, 0, 15, 42, 180, 0, 10, 180, 0, 141, 28, 46, 167, 0, 4]
abbrev dktX0_undo_7 : List UInt8 := dkwX0_undo_7 ++ dktX0_undo_8
def dkwX0_undo_6 : List UInt8 := [180, 0, 120, 21, 4, 50, 28, 182, 0, 201, 182, 0, 197, 42, 180, 0, 19, 89, 180, 0, 179, 42]
abbrev dktX0_undo_6 : List UInt8 := dkwX0_undo_6 ++ dktX0_undo_7
def dkwX0_undo_5 : List UInt8 := [180, 0, 19, 28, 182, 0, 153, 54, 4, 42, 180, 0, 19, 180, 0, 120, 21, 4, 50, 42, 180, 0, 19]
abbrev dktX0_undo_5 : List UInt8 := dkwX0_undo_5 ++ dktX0_undo_6
def dkwX0_undo_4 : List UInt8 := [180, 0, 147, 28, 3, 79, 27, 172, 42, 180, 0, 19, 180, 0, 191, 27, 46, 6, 160, 0, 40, 42]
abbrev dktX0_undo_4 : List UInt8 := dkwX0_undo_4 ++ dktX0_undo_5
def dkwX0_undo_3 : List UInt8 := [180, 0, 19, 180, 0, 120, 29, 50, 42, 180, 0, 19, 180, 0, 194, 27, 46, 182, 0, 197, 42, 180, 0, 19]
abbrev dktX0_undo_3 : List UInt8 := dkwX0_undo_3 ++ dktX0_undo_4
def dkwX0_undo_2 : List UInt8 := [180, 0, 19, 180, 0, 188, 27, 46, 62, 42, 180, 0, 19, 180, 0, 191, 27, 46, 154, 0, 36, 42]
abbrev dktX0_undo_2 : List UInt8 := dkwX0_undo_2 ++ dktX0_undo_3
def dkwX0_undo_1 : List UInt8 := [181, 0, 182, 42, 180, 0, 19, 180, 0, 182, 60, 42, 180, 0, 19, 180, 0, 185, 27, 46, 61, 42]
abbrev dktX0_undo_1 : List UInt8 := dkwX0_undo_1 ++ dktX0_undo_2
def dkwX0_undo_0 : List UInt8 := [42, 180, 0, 19, 180, 0, 182, 154, 0, 6, 16, 254, 172, 42, 180, 0, 19, 89, 180, 0, 182, 4, 100]
abbrev dktX0_undo_0 : List UInt8 := dkwX0_undo_0 ++ dktX0_undo_1
theorem dksX0_undo_0 : cX0_undo.data.toList.drop 0 = dktX0_undo_0 := by decide +kernel
theorem dksX0_undo_1 : cX0_undo.data.toList.drop 23 = dktX0_undo_1 := dk_seg dksX0_undo_0 23 rfl rfl
theorem dksX0_undo_2 : cX0_undo.data.toList.drop 45 = dktX0_undo_2 := dk_seg dksX0_undo_1 22 rfl rfl
theorem dksX0_undo_3 : cX0_undo.data.toList.drop 67 = dktX0_undo_3 := dk_seg dksX0_undo_2 22 rfl rfl
theorem dksX0_undo_4 : cX0_undo.data.toList.drop 91 = dktX0_undo_4 := dk_seg dksX0_undo_3 24 rfl rfl
theorem dksX0_undo_5 : cX0_undo.data.toList.drop 113 = dktX0_undo_5 := dk_seg dksX0_undo_4 22 rfl rfl
theorem dksX0_undo_6 : cX0_undo.data.toList.drop 136 = dktX0_undo_6 := dk_seg dksX0_undo_5 23 rfl rfl
theorem dksX0_undo_7 : cX0_undo.data.toList.drop 158 = dktX0_undo_7 := dk_seg dksX0_undo_6 22 rfl rfl
theorem dksX0_undo_8 : cX0_undo.data.toList.drop 182 = dktX0_undo_8 := dk_seg dksX0_undo_7 24 rfl rfl
theorem dksX0_undo_9 : cX0_undo.data.toList.drop 206 = dktX0_undo_9 := dk_seg dksX0_undo_8 24 rfl rfl
theorem dX0_undo_0 : decode cX0_undo 0 = .ok (.aload_n 0, 1) := dk_42 (dk_at dksX0_undo_0 0 rfl rfl)
theorem dX0_undo_1 : decode cX0_undo 1 = .ok (.getfield 19, 3) := dk_180 0 19 (dk_at dksX0_undo_0 1 rfl rfl)
theorem dX0_undo_4 : decode cX0_undo 4 = .ok (.getfield 182, 3) := dk_180 0 182 (dk_at dksX0_undo_0 4 rfl rfl)
theorem dX0_undo_7 : decode cX0_undo 7 = .ok (.ifCond .ne 6, 3) := dk_154 0 6 (dk_at dksX0_undo_0 7 rfl rfl)
theorem dX0_undo_10 : decode cX0_undo 10 = .ok (.bipush (-2), 2) := dk_16 254 (dk_at dksX0_undo_0 10 rfl rfl)
theorem dX0_undo_12 : decode cX0_undo 12 = .ok (.ireturn, 1) := dk_172 (dk_at dksX0_undo_0 12 rfl rfl)
theorem dX0_undo_13 : decode cX0_undo 13 = .ok (.aload_n 0, 1) := dk_42 (dk_at dksX0_undo_0 13 rfl rfl)
theorem dX0_undo_14 : decode cX0_undo 14 = .ok (.getfield 19, 3) := dk_180 0 19 (dk_at dksX0_undo_0 14 rfl rfl)
theorem dX0_undo_17 : decode cX0_undo 17 = .ok (.dup, 1) := dk_89 (dk_at dksX0_undo_0 17 rfl rfl)
theorem dX0_undo_18 : decode cX0_undo 18 = .ok (.getfield 182, 3) := dk_180 0 182 (dk_at dksX0_undo_0 18 rfl rfl)
theorem dX0_undo_21 : decode cX0_undo 21 = .ok (.iconst 1, 1) := dk_4 (dk_at dksX0_undo_0 21 rfl rfl)
theorem dX0_undo_22 : decode cX0_undo 22 = .ok (.isub, 1) := dk_100 (dk_at dksX0_undo_0 22 rfl rfl)
theorem dX0_undo_23 : decode cX0_undo 23 = .ok (.putfield 182, 3) := dk_181 0 182 (dk_at dksX0_undo_1 0 rfl rfl)
theorem dX0_undo_26 : decode cX0_undo 26 = .ok (.aload_n 0, 1) := dk_42 (dk_at dksX0_undo_1 3 rfl rfl)
theorem dX0_undo_27 : decode cX0_undo 27 = .ok (.getfield 19, 3) := dk_180 0 19 (dk_at dksX0_undo_1 4 rfl rfl)
theorem dX0_undo_30 : decode cX0_undo 30 = .ok (.getfield 182, 3) := dk_180 0 182 (dk_at dksX0_undo_1 7 rfl rfl)
theorem dX0_undo_33 : decode cX0_undo 33 = .ok (.istore_n 1, 1) := dk_60 (dk_at dksX0_undo_1 10 rfl rfl)
theorem dX0_undo_34 : decode cX0_undo 34 = .ok (.aload_n 0, 1) := dk_42 (dk_at dksX0_undo_1 11 rfl rfl)
theorem dX0_undo_35 : decode cX0_undo 35 = .ok (.getfield 19, 3) := dk_180 0 19 (dk_at dksX0_undo_1 12 rfl rfl)
theorem dX0_undo_38 : decode cX0_undo 38 = .ok (.getfield 185, 3) := dk_180 0 185 (dk_at dksX0_undo_1 15 rfl rfl)
theorem dX0_undo_41 : decode cX0_undo 41 = .ok (.iload_n 1, 1) := dk_27 (dk_at dksX0_undo_1 18 rfl rfl)
theorem dX0_undo_42 : decode cX0_undo 42 = .ok (.iaload, 1) := dk_46 (dk_at dksX0_undo_1 19 rfl rfl)
theorem dX0_undo_43 : decode cX0_undo 43 = .ok (.istore_n 2, 1) := dk_61 (dk_at dksX0_undo_1 20 rfl rfl)
theorem dX0_undo_44 : decode cX0_undo 44 = .ok (.aload_n 0, 1) := dk_42 (dk_at dksX0_undo_1 21 rfl rfl)
theorem dX0_undo_45 : decode cX0_undo 45 = .ok (.getfield 19, 3) := dk_180 0 19 (dk_at dksX0_undo_2 0 rfl rfl)
theorem dX0_undo_48 : decode cX0_undo 48 = .ok (.getfield 188, 3) := dk_180 0 188 (dk_at dksX0_undo_2 3 rfl rfl)
theorem dX0_undo_51 : decode cX0_undo 51 = .ok (.iload_n 1, 1) := dk_27 (dk_at dksX0_undo_2 6 rfl rfl)
theorem dX0_undo_52 : decode cX0_undo 52 = .ok (.iaload, 1) := dk_46 (dk_at dksX0_undo_2 7 rfl rfl)
theorem dX0_undo_53 : decode cX0_undo 53 = .ok (.istore_n 3, 1) := dk_62 (dk_at dksX0_undo_2 8 rfl rfl)
theorem dX0_undo_54 : decode cX0_undo 54 = .ok (.aload_n 0, 1) := dk_42 (dk_at dksX0_undo_2 9 rfl rfl)
theorem dX0_undo_55 : decode cX0_undo 55 = .ok (.getfield 19, 3) := dk_180 0 19 (dk_at dksX0_undo_2 10 rfl rfl)
theorem dX0_undo_58 : decode cX0_undo 58 = .ok (.getfield 191, 3) := dk_180 0 191 (dk_at dksX0_undo_2 13 rfl rfl)
theorem dX0_undo_61 : decode cX0_undo 61 = .ok (.iload_n 1, 1) := dk_27 (dk_at dksX0_undo_2 16 rfl rfl)
theorem dX0_undo_62 : decode cX0_undo 62 = .ok (.iaload, 1) := dk_46 (dk_at dksX0_undo_2 17 rfl rfl)
theorem dX0_undo_63 : decode cX0_undo 63 = .ok (.ifCond .ne 36, 3) := dk_154 0 36 (dk_at dksX0_undo_2 18 rfl rfl)
theorem dX0_undo_66 : decode cX0_undo 66 = .ok (.aload_n 0, 1) := dk_42 (dk_at dksX0_undo_2 21 rfl rfl)
theorem dX0_undo_67 : decode cX0_undo 67 = .ok (.getfield 19, 3) := dk_180 0 19 (dk_at dksX0_undo_3 0 rfl rfl)
theorem dX0_undo_70 : decode cX0_undo 70 = .ok (.getfield 120, 3) := dk_180 0 120 (dk_at dksX0_undo_3 3 rfl rfl)
theorem dX0_undo_73 : decode cX0_undo 73 = .ok (.iload_n 3, 1) := dk_29 (dk_at dksX0_undo_3 6 rfl rfl)
theorem dX0_undo_74 : decode cX0_undo 74 = .ok (.aaload, 1) := dk_50 (dk_at dksX0_undo_3 7 rfl rfl)
theorem dX0_undo_75 : decode cX0_undo 75 = .ok (.aload_n 0, 1) := dk_42 (dk_at dksX0_undo_3 8 rfl rfl)
theorem dX0_undo_76 : decode cX0_undo 76 = .ok (.getfield 19, 3) := dk_180 0 19 (dk_at dksX0_undo_3 9 rfl rfl)
theorem dX0_undo_79 : decode cX0_undo 79 = .ok (.getfield 194, 3) := dk_180 0 194 (dk_at dksX0_undo_3 12 rfl rfl)
theorem dX0_undo_82 : decode cX0_undo 82 = .ok (.iload_n 1, 1) := dk_27 (dk_at dksX0_undo_3 15 rfl rfl)
theorem dX0_undo_83 : decode cX0_undo 83 = .ok (.iaload, 1) := dk_46 (dk_at dksX0_undo_3 16 rfl rfl)
theorem dX0_undo_84 : decode cX0_undo 84 = .ok (.invokevirtual 197, 3) := dk_182 0 197 (dk_at dksX0_undo_3 17 rfl rfl)
theorem dX0_undo_87 : decode cX0_undo 87 = .ok (.aload_n 0, 1) := dk_42 (dk_at dksX0_undo_3 20 rfl rfl)
theorem dX0_undo_88 : decode cX0_undo 88 = .ok (.getfield 19, 3) := dk_180 0 19 (dk_at dksX0_undo_3 21 rfl rfl)
theorem dX0_undo_91 : decode cX0_undo 91 = .ok (.getfield 147, 3) := dk_180 0 147 (dk_at dksX0_undo_4 0 rfl rfl)
theorem dX0_undo_94 : decode cX0_undo 94 = .ok (.iload_n 2, 1) := dk_28 (dk_at dksX0_undo_4 3 rfl rfl)
theorem dX0_undo_95 : decode cX0_undo 95 = .ok (.iconst 0, 1) := dk_3 (dk_at dksX0_undo_4 4 rfl rfl)
theorem dX0_undo_96 : decode cX0_undo 96 = .ok (.iastore, 1) := dk_79 (dk_at dksX0_undo_4 5 rfl rfl)
theorem dX0_undo_97 : decode cX0_undo 97 = .ok (.iload_n 1, 1) := dk_27 (dk_at dksX0_undo_4 6 rfl rfl)
theorem dX0_undo_98 : decode cX0_undo 98 = .ok (.ireturn, 1) := dk_172 (dk_at dksX0_undo_4 7 rfl rfl)
theorem dX0_undo_99 : decode cX0_undo 99 = .ok (.aload_n 0, 1) := dk_42 (dk_at dksX0_undo_4 8 rfl rfl)
theorem dX0_undo_100 : decode cX0_undo 100 = .ok (.getfield 19, 3) := dk_180 0 19 (dk_at dksX0_undo_4 9 rfl rfl)
theorem dX0_undo_103 : decode cX0_undo 103 = .ok (.getfield 191, 3) := dk_180 0 191 (dk_at dksX0_undo_4 12 rfl rfl)
theorem dX0_undo_106 : decode cX0_undo 106 = .ok (.iload_n 1, 1) := dk_27 (dk_at dksX0_undo_4 15 rfl rfl)
theorem dX0_undo_107 : decode cX0_undo 107 = .ok (.iaload, 1) := dk_46 (dk_at dksX0_undo_4 16 rfl rfl)
theorem dX0_undo_108 : decode cX0_undo 108 = .ok (.iconst 3, 1) := dk_6 (dk_at dksX0_undo_4 17 rfl rfl)
theorem dX0_undo_109 : decode cX0_undo 109 = .ok (.if_icmp .ne 40, 3) := dk_160 0 40 (dk_at dksX0_undo_4 18 rfl rfl)
theorem dX0_undo_112 : decode cX0_undo 112 = .ok (.aload_n 0, 1) := dk_42 (dk_at dksX0_undo_4 21 rfl rfl)
theorem dX0_undo_113 : decode cX0_undo 113 = .ok (.getfield 19, 3) := dk_180 0 19 (dk_at dksX0_undo_5 0 rfl rfl)
theorem dX0_undo_116 : decode cX0_undo 116 = .ok (.iload_n 2, 1) := dk_28 (dk_at dksX0_undo_5 3 rfl rfl)
theorem dX0_undo_117 : decode cX0_undo 117 = .ok (.invokevirtual 153, 3) := dk_182 0 153 (dk_at dksX0_undo_5 4 rfl rfl)
theorem dX0_undo_120 : decode cX0_undo 120 = .ok (.istore 4, 2) := dk_54 4 (dk_at dksX0_undo_5 7 rfl rfl)
theorem dX0_undo_122 : decode cX0_undo 122 = .ok (.aload_n 0, 1) := dk_42 (dk_at dksX0_undo_5 9 rfl rfl)
theorem dX0_undo_123 : decode cX0_undo 123 = .ok (.getfield 19, 3) := dk_180 0 19 (dk_at dksX0_undo_5 10 rfl rfl)
theorem dX0_undo_126 : decode cX0_undo 126 = .ok (.getfield 120, 3) := dk_180 0 120 (dk_at dksX0_undo_5 13 rfl rfl)
theorem dX0_undo_129 : decode cX0_undo 129 = .ok (.iload 4, 2) := dk_21 4 (dk_at dksX0_undo_5 16 rfl rfl)
theorem dX0_undo_131 : decode cX0_undo 131 = .ok (.aaload, 1) := dk_50 (dk_at dksX0_undo_5 18 rfl rfl)
theorem dX0_undo_132 : decode cX0_undo 132 = .ok (.aload_n 0, 1) := dk_42 (dk_at dksX0_undo_5 19 rfl rfl)
theorem dX0_undo_133 : decode cX0_undo 133 = .ok (.getfield 19, 3) := dk_180 0 19 (dk_at dksX0_undo_5 20 rfl rfl)
theorem dX0_undo_136 : decode cX0_undo 136 = .ok (.getfield 120, 3) := dk_180 0 120 (dk_at dksX0_undo_6 0 rfl rfl)
theorem dX0_undo_139 : decode cX0_undo 139 = .ok (.iload 4, 2) := dk_21 4 (dk_at dksX0_undo_6 3 rfl rfl)
theorem dX0_undo_141 : decode cX0_undo 141 = .ok (.aaload, 1) := dk_50 (dk_at dksX0_undo_6 5 rfl rfl)
theorem dX0_undo_142 : decode cX0_undo 142 = .ok (.iload_n 2, 1) := dk_28 (dk_at dksX0_undo_6 6 rfl rfl)
theorem dX0_undo_143 : decode cX0_undo 143 = .ok (.invokevirtual 201, 3) := dk_182 0 201 (dk_at dksX0_undo_6 7 rfl rfl)
theorem dX0_undo_146 : decode cX0_undo 146 = .ok (.invokevirtual 197, 3) := dk_182 0 197 (dk_at dksX0_undo_6 10 rfl rfl)
theorem dX0_undo_149 : decode cX0_undo 149 = .ok (.aload_n 0, 1) := dk_42 (dk_at dksX0_undo_6 13 rfl rfl)
theorem dX0_undo_150 : decode cX0_undo 150 = .ok (.getfield 19, 3) := dk_180 0 19 (dk_at dksX0_undo_6 14 rfl rfl)
theorem dX0_undo_153 : decode cX0_undo 153 = .ok (.dup, 1) := dk_89 (dk_at dksX0_undo_6 17 rfl rfl)
theorem dX0_undo_154 : decode cX0_undo 154 = .ok (.getfield 179, 3) := dk_180 0 179 (dk_at dksX0_undo_6 18 rfl rfl)
theorem dX0_undo_157 : decode cX0_undo 157 = .ok (.aload_n 0, 1) := dk_42 (dk_at dksX0_undo_6 21 rfl rfl)
theorem dX0_undo_158 : decode cX0_undo 158 = .ok (.getfield 19, 3) := dk_180 0 19 (dk_at dksX0_undo_7 0 rfl rfl)
theorem dX0_undo_161 : decode cX0_undo 161 = .ok (.getfield 191, 3) := dk_180 0 191 (dk_at dksX0_undo_7 3 rfl rfl)
theorem dX0_undo_164 : decode cX0_undo 164 = .ok (.iload_n 1, 1) := dk_27 (dk_at dksX0_undo_7 6 rfl rfl)
theorem dX0_undo_165 : decode cX0_undo 165 = .ok (.iaload, 1) := dk_46 (dk_at dksX0_undo_7 7 rfl rfl)
theorem dX0_undo_166 : decode cX0_undo 166 = .ok (.iconst 2, 1) := dk_5 (dk_at dksX0_undo_7 8 rfl rfl)
theorem dX0_undo_167 : decode cX0_undo 167 = .ok (.if_icmp .ne 15, 3) := dk_160 0 15 (dk_at dksX0_undo_7 9 rfl rfl)
theorem dX0_undo_170 : decode cX0_undo 170 = .ok (.aload_n 0, 1) := dk_42 (dk_at dksX0_undo_7 12 rfl rfl)
theorem dX0_undo_171 : decode cX0_undo 171 = .ok (.getfield 10, 3) := dk_180 0 10 (dk_at dksX0_undo_7 13 rfl rfl)
theorem dX0_undo_174 : decode cX0_undo 174 = .ok (.getfield 141, 3) := dk_180 0 141 (dk_at dksX0_undo_7 16 rfl rfl)
theorem dX0_undo_177 : decode cX0_undo 177 = .ok (.iload_n 2, 1) := dk_28 (dk_at dksX0_undo_7 19 rfl rfl)
theorem dX0_undo_178 : decode cX0_undo 178 = .ok (.iaload, 1) := dk_46 (dk_at dksX0_undo_7 20 rfl rfl)
theorem dX0_undo_179 : decode cX0_undo 179 = .ok (.goto 4, 3) := dk_167 0 4 (dk_at dksX0_undo_7 21 rfl rfl)
theorem dX0_undo_182 : decode cX0_undo 182 = .ok (.iconst 0, 1) := dk_3 (dk_at dksX0_undo_8 0 rfl rfl)
theorem dX0_undo_183 : decode cX0_undo 183 = .ok (.isub, 1) := dk_100 (dk_at dksX0_undo_8 1 rfl rfl)
theorem dX0_undo_184 : decode cX0_undo 184 = .ok (.putfield 179, 3) := dk_181 0 179 (dk_at dksX0_undo_8 2 rfl rfl)
theorem dX0_undo_187 : decode cX0_undo 187 = .ok (.aload_n 0, 1) := dk_42 (dk_at dksX0_undo_8 5 rfl rfl)
theorem dX0_undo_188 : decode cX0_undo 188 = .ok (.getfield 19, 3) := dk_180 0 19 (dk_at dksX0_undo_8 6 rfl rfl)
theorem dX0_undo_191 : decode cX0_undo 191 = .ok (.getfield 147, 3) := dk_180 0 147 (dk_at dksX0_undo_8 9 rfl rfl)
theorem dX0_undo_194 : decode cX0_undo 194 = .ok (.iload_n 2, 1) := dk_28 (dk_at dksX0_undo_8 12 rfl rfl)
theorem dX0_undo_195 : decode cX0_undo 195 = .ok (.iconst 1, 1) := dk_4 (dk_at dksX0_undo_8 13 rfl rfl)
theorem dX0_undo_196 : decode cX0_undo 196 = .ok (.iastore, 1) := dk_79 (dk_at dksX0_undo_8 14 rfl rfl)
theorem dX0_undo_197 : decode cX0_undo 197 = .ok (.aload_n 0, 1) := dk_42 (dk_at dksX0_undo_8 15 rfl rfl)
theorem dX0_undo_198 : decode cX0_undo 198 = .ok (.getfield 19, 3) := dk_180 0 19 (dk_at dksX0_undo_8 16 rfl rfl)
theorem dX0_undo_201 : decode cX0_undo 201 = .ok (.getfield 120, 3) := dk_180 0 120 (dk_at dksX0_undo_8 19 rfl rfl)
theorem dX0_undo_204 : decode cX0_undo 204 = .ok (.iload_n 3, 1) := dk_29 (dk_at dksX0_undo_8 22 rfl rfl)
theorem dX0_undo_205 : decode cX0_undo 205 = .ok (.aaload, 1) := dk_50 (dk_at dksX0_undo_8 23 rfl rfl)
theorem dX0_undo_206 : decode cX0_undo 206 = .ok (.iload_n 2, 1) := dk_28 (dk_at dksX0_undo_9 0 rfl rfl)
theorem dX0_undo_207 : decode cX0_undo 207 = .ok (.aload_n 0, 1) := dk_42 (dk_at dksX0_undo_9 1 rfl rfl)
theorem dX0_undo_208 : decode cX0_undo 208 = .ok (.getfield 19, 3) := dk_180 0 19 (dk_at dksX0_undo_9 2 rfl rfl)
theorem dX0_undo_211 : decode cX0_undo 211 = .ok (.getfield 194, 3) := dk_180 0 194 (dk_at dksX0_undo_9 5 rfl rfl)
theorem dX0_undo_214 : decode cX0_undo 214 = .ok (.iload_n 1, 1) := dk_27 (dk_at dksX0_undo_9 8 rfl rfl)
theorem dX0_undo_215 : decode cX0_undo 215 = .ok (.iaload, 1) := dk_46 (dk_at dksX0_undo_9 9 rfl rfl)
theorem dX0_undo_216 : decode cX0_undo 216 = .ok (.invokevirtual 169, 3) := dk_182 0 169 (dk_at dksX0_undo_9 10 rfl rfl)
theorem dX0_undo_219 : decode cX0_undo 219 = .ok (.iload_n 1, 1) := dk_27 (dk_at dksX0_undo_9 13 rfl rfl)
theorem dX0_undo_220 : decode cX0_undo 220 = .ok (.ireturn, 1) := dk_172 (dk_at dksX0_undo_9 14 rfl rfl)
abbrev cX0_day : ByteArray := prog_1_method_21_code
def yX0_day : MethodName := ⟨RX0, "day", "()I"⟩
def dkwX0_day_8 : List UInt8 := [180, 0, 160, 4, 96, 181, 0, 160, 42, 180, 0, 19, 3, 181, 0, 182, 27, 172]
abbrev dktX0_day_8 : List UInt8 := dkwX0_day_8 ++ []
def dkwX0_day_7 : List UInt8 := [167, 0, 12, 42, 180, 0, 19, 180, 0, 147, 28, 46, 79, 132, 2, 1, 167, 255, 122, 42, 180, 0, 19, 89]
abbrev dktX0_day_7 : List UInt8 := dkwX0_day_7 ++ dktX0_day_8
def dkwX0_day_6 : List UInt8 := [154, 0, 26, 42, 180, 0, 10, 180, 0, 135, 28, 46, 42, 180, 0, 19, 180, 0, 160, 160, 0, 7, 6]
abbrev dktX0_day_6 : List UInt8 := dkwX0_day_6 ++ dktX0_day_7
def dkwX0_day_5 : List UInt8 := [28, 46, 96, 181, 0, 179, 42, 180, 0, 19, 180, 0, 147, 28, 42, 180, 0, 19, 180, 0, 147, 28, 46]
abbrev dktX0_day_5 : List UInt8 := dkwX0_day_5 ++ dktX0_day_6
def dkwX0_day_4 : List UInt8 := [180, 0, 19, 180, 0, 147, 28, 6, 79, 42, 180, 0, 19, 89, 180, 0, 179, 42, 180, 0, 10, 180, 0, 141]
abbrev dktX0_day_4 : List UInt8 := dkwX0_day_4 ++ dktX0_day_5
def dkwX0_day_3 : List UInt8 := [28, 46, 42, 180, 0, 19, 180, 0, 160, 160, 0, 43, 42, 180, 0, 19, 5, 28, 182, 0, 176, 42]
abbrev dktX0_day_3 : List UInt8 := dkwX0_day_3 ++ dktX0_day_4
def dkwX0_day_2 : List UInt8 := [180, 0, 10, 180, 0, 104, 162, 0, 129, 42, 28, 182, 0, 173, 153, 0, 62, 42, 180, 0, 10, 180, 0, 144]
abbrev dktX0_day_2 : List UInt8 := dkwX0_day_2 ++ dktX0_day_3
def dkwX0_day_1 : List UInt8 := [180, 0, 101, 162, 0, 17, 27, 42, 28, 182, 0, 217, 96, 60, 132, 2, 1, 167, 255, 234, 3, 61, 28, 42]
abbrev dktX0_day_1 : List UInt8 := dkwX0_day_1 ++ dktX0_day_2
def dkwX0_day_0 : List UInt8 := [42, 180, 0, 19, 180, 0, 160, 16, 9, 164, 0, 6, 16, 254, 172, 3, 60, 3, 61, 28, 42, 180, 0, 10]
abbrev dktX0_day_0 : List UInt8 := dkwX0_day_0 ++ dktX0_day_1
theorem dksX0_day_0 : cX0_day.data.toList.drop 0 = dktX0_day_0 := by decide +kernel
theorem dksX0_day_1 : cX0_day.data.toList.drop 24 = dktX0_day_1 := dk_seg dksX0_day_0 24 rfl rfl
theorem dksX0_day_2 : cX0_day.data.toList.drop 48 = dktX0_day_2 := dk_seg dksX0_day_1 24 rfl rfl
theorem dksX0_day_3 : cX0_day.data.toList.drop 72 = dktX0_day_3 := dk_seg dksX0_day_2 24 rfl rfl
theorem dksX0_day_4 : cX0_day.data.toList.drop 94 = dktX0_day_4 := dk_seg dksX0_day_3 22 rfl rfl
theorem dksX0_day_5 : cX0_day.data.toList.drop 118 = dktX0_day_5 := dk_seg dksX0_day_4 24 rfl rfl
theorem dksX0_day_6 : cX0_day.data.toList.drop 141 = dktX0_day_6 := dk_seg dksX0_day_5 23 rfl rfl
theorem dksX0_day_7 : cX0_day.data.toList.drop 164 = dktX0_day_7 := dk_seg dksX0_day_6 23 rfl rfl
theorem dksX0_day_8 : cX0_day.data.toList.drop 188 = dktX0_day_8 := dk_seg dksX0_day_7 24 rfl rfl
theorem dX0_day_0 : decode cX0_day 0 = .ok (.aload_n 0, 1) := dk_42 (dk_at dksX0_day_0 0 rfl rfl)
theorem dX0_day_1 : decode cX0_day 1 = .ok (.getfield 19, 3) := dk_180 0 19 (dk_at dksX0_day_0 1 rfl rfl)
theorem dX0_day_4 : decode cX0_day 4 = .ok (.getfield 160, 3) := dk_180 0 160 (dk_at dksX0_day_0 4 rfl rfl)
theorem dX0_day_7 : decode cX0_day 7 = .ok (.bipush 9, 2) := dk_16 9 (dk_at dksX0_day_0 7 rfl rfl)
theorem dX0_day_9 : decode cX0_day 9 = .ok (.if_icmp .le 6, 3) := dk_164 0 6 (dk_at dksX0_day_0 9 rfl rfl)
theorem dX0_day_12 : decode cX0_day 12 = .ok (.bipush (-2), 2) := dk_16 254 (dk_at dksX0_day_0 12 rfl rfl)
theorem dX0_day_14 : decode cX0_day 14 = .ok (.ireturn, 1) := dk_172 (dk_at dksX0_day_0 14 rfl rfl)
theorem dX0_day_15 : decode cX0_day 15 = .ok (.iconst 0, 1) := dk_3 (dk_at dksX0_day_0 15 rfl rfl)
theorem dX0_day_16 : decode cX0_day 16 = .ok (.istore_n 1, 1) := dk_60 (dk_at dksX0_day_0 16 rfl rfl)
theorem dX0_day_17 : decode cX0_day 17 = .ok (.iconst 0, 1) := dk_3 (dk_at dksX0_day_0 17 rfl rfl)
theorem dX0_day_18 : decode cX0_day 18 = .ok (.istore_n 2, 1) := dk_61 (dk_at dksX0_day_0 18 rfl rfl)
theorem dX0_day_19 : decode cX0_day 19 = .ok (.iload_n 2, 1) := dk_28 (dk_at dksX0_day_0 19 rfl rfl)
theorem dX0_day_20 : decode cX0_day 20 = .ok (.aload_n 0, 1) := dk_42 (dk_at dksX0_day_0 20 rfl rfl)
theorem dX0_day_21 : decode cX0_day 21 = .ok (.getfield 10, 3) := dk_180 0 10 (dk_at dksX0_day_0 21 rfl rfl)
theorem dX0_day_24 : decode cX0_day 24 = .ok (.getfield 101, 3) := dk_180 0 101 (dk_at dksX0_day_1 0 rfl rfl)
theorem dX0_day_27 : decode cX0_day 27 = .ok (.if_icmp .ge 17, 3) := dk_162 0 17 (dk_at dksX0_day_1 3 rfl rfl)
theorem dX0_day_30 : decode cX0_day 30 = .ok (.iload_n 1, 1) := dk_27 (dk_at dksX0_day_1 6 rfl rfl)
theorem dX0_day_31 : decode cX0_day 31 = .ok (.aload_n 0, 1) := dk_42 (dk_at dksX0_day_1 7 rfl rfl)
theorem dX0_day_32 : decode cX0_day 32 = .ok (.iload_n 2, 1) := dk_28 (dk_at dksX0_day_1 8 rfl rfl)
theorem dX0_day_33 : decode cX0_day 33 = .ok (.invokevirtual 217, 3) := dk_182 0 217 (dk_at dksX0_day_1 9 rfl rfl)
theorem dX0_day_36 : decode cX0_day 36 = .ok (.iadd, 1) := dk_96 (dk_at dksX0_day_1 12 rfl rfl)
theorem dX0_day_37 : decode cX0_day 37 = .ok (.istore_n 1, 1) := dk_60 (dk_at dksX0_day_1 13 rfl rfl)
theorem dX0_day_38 : decode cX0_day 38 = .ok (.iinc 2 1, 3) := dk_132 2 1 (dk_at dksX0_day_1 14 rfl rfl)
theorem dX0_day_41 : decode cX0_day 41 = .ok (.goto (-22), 3) := dk_167 255 234 (dk_at dksX0_day_1 17 rfl rfl)
theorem dX0_day_44 : decode cX0_day 44 = .ok (.iconst 0, 1) := dk_3 (dk_at dksX0_day_1 20 rfl rfl)
theorem dX0_day_45 : decode cX0_day 45 = .ok (.istore_n 2, 1) := dk_61 (dk_at dksX0_day_1 21 rfl rfl)
theorem dX0_day_46 : decode cX0_day 46 = .ok (.iload_n 2, 1) := dk_28 (dk_at dksX0_day_1 22 rfl rfl)
theorem dX0_day_47 : decode cX0_day 47 = .ok (.aload_n 0, 1) := dk_42 (dk_at dksX0_day_1 23 rfl rfl)
theorem dX0_day_48 : decode cX0_day 48 = .ok (.getfield 10, 3) := dk_180 0 10 (dk_at dksX0_day_2 0 rfl rfl)
theorem dX0_day_51 : decode cX0_day 51 = .ok (.getfield 104, 3) := dk_180 0 104 (dk_at dksX0_day_2 3 rfl rfl)
theorem dX0_day_54 : decode cX0_day 54 = .ok (.if_icmp .ge 129, 3) := dk_162 0 129 (dk_at dksX0_day_2 6 rfl rfl)
theorem dX0_day_57 : decode cX0_day 57 = .ok (.aload_n 0, 1) := dk_42 (dk_at dksX0_day_2 9 rfl rfl)
theorem dX0_day_58 : decode cX0_day 58 = .ok (.iload_n 2, 1) := dk_28 (dk_at dksX0_day_2 10 rfl rfl)
theorem dX0_day_59 : decode cX0_day 59 = .ok (.invokevirtual 173, 3) := dk_182 0 173 (dk_at dksX0_day_2 11 rfl rfl)
theorem dX0_day_62 : decode cX0_day 62 = .ok (.ifCond .eq 62, 3) := dk_153 0 62 (dk_at dksX0_day_2 14 rfl rfl)
theorem dX0_day_65 : decode cX0_day 65 = .ok (.aload_n 0, 1) := dk_42 (dk_at dksX0_day_2 17 rfl rfl)
theorem dX0_day_66 : decode cX0_day 66 = .ok (.getfield 10, 3) := dk_180 0 10 (dk_at dksX0_day_2 18 rfl rfl)
theorem dX0_day_69 : decode cX0_day 69 = .ok (.getfield 144, 3) := dk_180 0 144 (dk_at dksX0_day_2 21 rfl rfl)
theorem dX0_day_72 : decode cX0_day 72 = .ok (.iload_n 2, 1) := dk_28 (dk_at dksX0_day_3 0 rfl rfl)
theorem dX0_day_73 : decode cX0_day 73 = .ok (.iaload, 1) := dk_46 (dk_at dksX0_day_3 1 rfl rfl)
theorem dX0_day_74 : decode cX0_day 74 = .ok (.aload_n 0, 1) := dk_42 (dk_at dksX0_day_3 2 rfl rfl)
theorem dX0_day_75 : decode cX0_day 75 = .ok (.getfield 19, 3) := dk_180 0 19 (dk_at dksX0_day_3 3 rfl rfl)
theorem dX0_day_78 : decode cX0_day 78 = .ok (.getfield 160, 3) := dk_180 0 160 (dk_at dksX0_day_3 6 rfl rfl)
theorem dX0_day_81 : decode cX0_day 81 = .ok (.if_icmp .ne 43, 3) := dk_160 0 43 (dk_at dksX0_day_3 9 rfl rfl)
theorem dX0_day_84 : decode cX0_day 84 = .ok (.aload_n 0, 1) := dk_42 (dk_at dksX0_day_3 12 rfl rfl)
theorem dX0_day_85 : decode cX0_day 85 = .ok (.getfield 19, 3) := dk_180 0 19 (dk_at dksX0_day_3 13 rfl rfl)
theorem dX0_day_88 : decode cX0_day 88 = .ok (.iconst 2, 1) := dk_5 (dk_at dksX0_day_3 16 rfl rfl)
theorem dX0_day_89 : decode cX0_day 89 = .ok (.iload_n 2, 1) := dk_28 (dk_at dksX0_day_3 17 rfl rfl)
theorem dX0_day_90 : decode cX0_day 90 = .ok (.invokevirtual 176, 3) := dk_182 0 176 (dk_at dksX0_day_3 18 rfl rfl)
theorem dX0_day_93 : decode cX0_day 93 = .ok (.aload_n 0, 1) := dk_42 (dk_at dksX0_day_3 21 rfl rfl)
theorem dX0_day_94 : decode cX0_day 94 = .ok (.getfield 19, 3) := dk_180 0 19 (dk_at dksX0_day_4 0 rfl rfl)
theorem dX0_day_97 : decode cX0_day 97 = .ok (.getfield 147, 3) := dk_180 0 147 (dk_at dksX0_day_4 3 rfl rfl)
theorem dX0_day_100 : decode cX0_day 100 = .ok (.iload_n 2, 1) := dk_28 (dk_at dksX0_day_4 6 rfl rfl)
theorem dX0_day_101 : decode cX0_day 101 = .ok (.iconst 3, 1) := dk_6 (dk_at dksX0_day_4 7 rfl rfl)
theorem dX0_day_102 : decode cX0_day 102 = .ok (.iastore, 1) := dk_79 (dk_at dksX0_day_4 8 rfl rfl)
theorem dX0_day_103 : decode cX0_day 103 = .ok (.aload_n 0, 1) := dk_42 (dk_at dksX0_day_4 9 rfl rfl)
theorem dX0_day_104 : decode cX0_day 104 = .ok (.getfield 19, 3) := dk_180 0 19 (dk_at dksX0_day_4 10 rfl rfl)
theorem dX0_day_107 : decode cX0_day 107 = .ok (.dup, 1) := dk_89 (dk_at dksX0_day_4 13 rfl rfl)
theorem dX0_day_108 : decode cX0_day 108 = .ok (.getfield 179, 3) := dk_180 0 179 (dk_at dksX0_day_4 14 rfl rfl)
theorem dX0_day_111 : decode cX0_day 111 = .ok (.aload_n 0, 1) := dk_42 (dk_at dksX0_day_4 17 rfl rfl)
theorem dX0_day_112 : decode cX0_day 112 = .ok (.getfield 10, 3) := dk_180 0 10 (dk_at dksX0_day_4 18 rfl rfl)
theorem dX0_day_115 : decode cX0_day 115 = .ok (.getfield 141, 3) := dk_180 0 141 (dk_at dksX0_day_4 21 rfl rfl)
theorem dX0_day_118 : decode cX0_day 118 = .ok (.iload_n 2, 1) := dk_28 (dk_at dksX0_day_5 0 rfl rfl)
theorem dX0_day_119 : decode cX0_day 119 = .ok (.iaload, 1) := dk_46 (dk_at dksX0_day_5 1 rfl rfl)
theorem dX0_day_120 : decode cX0_day 120 = .ok (.iadd, 1) := dk_96 (dk_at dksX0_day_5 2 rfl rfl)
theorem dX0_day_121 : decode cX0_day 121 = .ok (.putfield 179, 3) := dk_181 0 179 (dk_at dksX0_day_5 3 rfl rfl)
theorem dX0_day_124 : decode cX0_day 124 = .ok (.aload_n 0, 1) := dk_42 (dk_at dksX0_day_5 6 rfl rfl)
theorem dX0_day_125 : decode cX0_day 125 = .ok (.getfield 19, 3) := dk_180 0 19 (dk_at dksX0_day_5 7 rfl rfl)
theorem dX0_day_128 : decode cX0_day 128 = .ok (.getfield 147, 3) := dk_180 0 147 (dk_at dksX0_day_5 10 rfl rfl)
theorem dX0_day_131 : decode cX0_day 131 = .ok (.iload_n 2, 1) := dk_28 (dk_at dksX0_day_5 13 rfl rfl)
theorem dX0_day_132 : decode cX0_day 132 = .ok (.aload_n 0, 1) := dk_42 (dk_at dksX0_day_5 14 rfl rfl)
theorem dX0_day_133 : decode cX0_day 133 = .ok (.getfield 19, 3) := dk_180 0 19 (dk_at dksX0_day_5 15 rfl rfl)
theorem dX0_day_136 : decode cX0_day 136 = .ok (.getfield 147, 3) := dk_180 0 147 (dk_at dksX0_day_5 18 rfl rfl)
theorem dX0_day_139 : decode cX0_day 139 = .ok (.iload_n 2, 1) := dk_28 (dk_at dksX0_day_5 21 rfl rfl)
theorem dX0_day_140 : decode cX0_day 140 = .ok (.iaload, 1) := dk_46 (dk_at dksX0_day_5 22 rfl rfl)
theorem dX0_day_141 : decode cX0_day 141 = .ok (.ifCond .ne 26, 3) := dk_154 0 26 (dk_at dksX0_day_6 0 rfl rfl)
theorem dX0_day_144 : decode cX0_day 144 = .ok (.aload_n 0, 1) := dk_42 (dk_at dksX0_day_6 3 rfl rfl)
theorem dX0_day_145 : decode cX0_day 145 = .ok (.getfield 10, 3) := dk_180 0 10 (dk_at dksX0_day_6 4 rfl rfl)
theorem dX0_day_148 : decode cX0_day 148 = .ok (.getfield 135, 3) := dk_180 0 135 (dk_at dksX0_day_6 7 rfl rfl)
theorem dX0_day_151 : decode cX0_day 151 = .ok (.iload_n 2, 1) := dk_28 (dk_at dksX0_day_6 10 rfl rfl)
theorem dX0_day_152 : decode cX0_day 152 = .ok (.iaload, 1) := dk_46 (dk_at dksX0_day_6 11 rfl rfl)
theorem dX0_day_153 : decode cX0_day 153 = .ok (.aload_n 0, 1) := dk_42 (dk_at dksX0_day_6 12 rfl rfl)
theorem dX0_day_154 : decode cX0_day 154 = .ok (.getfield 19, 3) := dk_180 0 19 (dk_at dksX0_day_6 13 rfl rfl)
theorem dX0_day_157 : decode cX0_day 157 = .ok (.getfield 160, 3) := dk_180 0 160 (dk_at dksX0_day_6 16 rfl rfl)
theorem dX0_day_160 : decode cX0_day 160 = .ok (.if_icmp .ne 7, 3) := dk_160 0 7 (dk_at dksX0_day_6 19 rfl rfl)
theorem dX0_day_163 : decode cX0_day 163 = .ok (.iconst 3, 1) := dk_6 (dk_at dksX0_day_6 22 rfl rfl)
theorem dX0_day_164 : decode cX0_day 164 = .ok (.goto 12, 3) := dk_167 0 12 (dk_at dksX0_day_7 0 rfl rfl)
theorem dX0_day_167 : decode cX0_day 167 = .ok (.aload_n 0, 1) := dk_42 (dk_at dksX0_day_7 3 rfl rfl)
theorem dX0_day_168 : decode cX0_day 168 = .ok (.getfield 19, 3) := dk_180 0 19 (dk_at dksX0_day_7 4 rfl rfl)
theorem dX0_day_171 : decode cX0_day 171 = .ok (.getfield 147, 3) := dk_180 0 147 (dk_at dksX0_day_7 7 rfl rfl)
theorem dX0_day_174 : decode cX0_day 174 = .ok (.iload_n 2, 1) := dk_28 (dk_at dksX0_day_7 10 rfl rfl)
theorem dX0_day_175 : decode cX0_day 175 = .ok (.iaload, 1) := dk_46 (dk_at dksX0_day_7 11 rfl rfl)
theorem dX0_day_176 : decode cX0_day 176 = .ok (.iastore, 1) := dk_79 (dk_at dksX0_day_7 12 rfl rfl)
theorem dX0_day_177 : decode cX0_day 177 = .ok (.iinc 2 1, 3) := dk_132 2 1 (dk_at dksX0_day_7 13 rfl rfl)
theorem dX0_day_180 : decode cX0_day 180 = .ok (.goto (-134), 3) := dk_167 255 122 (dk_at dksX0_day_7 16 rfl rfl)
theorem dX0_day_183 : decode cX0_day 183 = .ok (.aload_n 0, 1) := dk_42 (dk_at dksX0_day_7 19 rfl rfl)
theorem dX0_day_184 : decode cX0_day 184 = .ok (.getfield 19, 3) := dk_180 0 19 (dk_at dksX0_day_7 20 rfl rfl)
theorem dX0_day_187 : decode cX0_day 187 = .ok (.dup, 1) := dk_89 (dk_at dksX0_day_7 23 rfl rfl)
theorem dX0_day_188 : decode cX0_day 188 = .ok (.getfield 160, 3) := dk_180 0 160 (dk_at dksX0_day_8 0 rfl rfl)
theorem dX0_day_191 : decode cX0_day 191 = .ok (.iconst 1, 1) := dk_4 (dk_at dksX0_day_8 3 rfl rfl)
theorem dX0_day_192 : decode cX0_day 192 = .ok (.iadd, 1) := dk_96 (dk_at dksX0_day_8 4 rfl rfl)
theorem dX0_day_193 : decode cX0_day 193 = .ok (.putfield 160, 3) := dk_181 0 160 (dk_at dksX0_day_8 5 rfl rfl)
theorem dX0_day_196 : decode cX0_day 196 = .ok (.aload_n 0, 1) := dk_42 (dk_at dksX0_day_8 8 rfl rfl)
theorem dX0_day_197 : decode cX0_day 197 = .ok (.getfield 19, 3) := dk_180 0 19 (dk_at dksX0_day_8 9 rfl rfl)
theorem dX0_day_200 : decode cX0_day 200 = .ok (.iconst 0, 1) := dk_3 (dk_at dksX0_day_8 12 rfl rfl)
theorem dX0_day_201 : decode cX0_day 201 = .ok (.putfield 182, 3) := dk_181 0 182 (dk_at dksX0_day_8 13 rfl rfl)
theorem dX0_day_204 : decode cX0_day 204 = .ok (.iload_n 1, 1) := dk_27 (dk_at dksX0_day_8 16 rfl rfl)
theorem dX0_day_205 : decode cX0_day 205 = .ok (.ireturn, 1) := dk_172 (dk_at dksX0_day_8 17 rfl rfl)
abbrev cX0_works : ByteArray := prog_1_method_20_code
def yX0_works : MethodName := ⟨RX0, "works", "(I)I"⟩
def dkwX0_works_5 : List UInt8 := [132, 3, 1, 132, 4, 1, 167, 255, 147, 29, 172]
abbrev dktX0_works_5 : List UInt8 := dkwX0_works_5 ++ []
def dkwX0_works_4 : List UInt8 := [89, 180, 0, 214, 42, 180, 0, 10, 180, 0, 141, 21, 6, 46, 96, 181, 0, 214, 44, 21, 5, 182, 0, 197]
abbrev dktX0_works_4 : List UInt8 := dkwX0_works_4 ++ dktX0_works_5
def dkwX0_works_3 : List UInt8 := [180, 0, 150, 21, 6, 46, 154, 0, 45, 42, 180, 0, 19, 180, 0, 147, 21, 6, 5, 79, 42, 180, 0, 19]
abbrev dktX0_works_3 : List UInt8 := dkwX0_works_3 ++ dktX0_works_4
def dkwX0_works_2 : List UInt8 := [21, 5, 46, 54, 6, 42, 180, 0, 19, 180, 0, 150, 21, 6, 92, 46, 4, 100, 79, 42, 180, 0, 19]
abbrev dktX0_works_2 : List UInt8 := dkwX0_works_2 ++ dktX0_works_3
def dkwX0_works_1 : List UInt8 := [27, 46, 162, 0, 101, 42, 44, 182, 0, 210, 54, 5, 21, 5, 16, 247, 159, 0, 81, 44, 180, 0, 157]
abbrev dktX0_works_1 : List UInt8 := dkwX0_works_1 ++ dktX0_works_2
def dkwX0_works_0 : List UInt8 := [42, 180, 0, 19, 180, 0, 120, 27, 50, 77, 3, 62, 3, 54, 4, 21, 4, 42, 180, 0, 10, 180, 0, 114]
abbrev dktX0_works_0 : List UInt8 := dkwX0_works_0 ++ dktX0_works_1
theorem dksX0_works_0 : cX0_works.data.toList.drop 0 = dktX0_works_0 := by decide +kernel
theorem dksX0_works_1 : cX0_works.data.toList.drop 24 = dktX0_works_1 := dk_seg dksX0_works_0 24 rfl rfl
theorem dksX0_works_2 : cX0_works.data.toList.drop 47 = dktX0_works_2 := dk_seg dksX0_works_1 23 rfl rfl
theorem dksX0_works_3 : cX0_works.data.toList.drop 70 = dktX0_works_3 := dk_seg dksX0_works_2 23 rfl rfl
theorem dksX0_works_4 : cX0_works.data.toList.drop 94 = dktX0_works_4 := dk_seg dksX0_works_3 24 rfl rfl
theorem dksX0_works_5 : cX0_works.data.toList.drop 118 = dktX0_works_5 := dk_seg dksX0_works_4 24 rfl rfl
theorem dX0_works_0 : decode cX0_works 0 = .ok (.aload_n 0, 1) := dk_42 (dk_at dksX0_works_0 0 rfl rfl)
theorem dX0_works_1 : decode cX0_works 1 = .ok (.getfield 19, 3) := dk_180 0 19 (dk_at dksX0_works_0 1 rfl rfl)
theorem dX0_works_4 : decode cX0_works 4 = .ok (.getfield 120, 3) := dk_180 0 120 (dk_at dksX0_works_0 4 rfl rfl)
theorem dX0_works_7 : decode cX0_works 7 = .ok (.iload_n 1, 1) := dk_27 (dk_at dksX0_works_0 7 rfl rfl)
theorem dX0_works_8 : decode cX0_works 8 = .ok (.aaload, 1) := dk_50 (dk_at dksX0_works_0 8 rfl rfl)
theorem dX0_works_9 : decode cX0_works 9 = .ok (.astore_n 2, 1) := dk_77 (dk_at dksX0_works_0 9 rfl rfl)
theorem dX0_works_10 : decode cX0_works 10 = .ok (.iconst 0, 1) := dk_3 (dk_at dksX0_works_0 10 rfl rfl)
theorem dX0_works_11 : decode cX0_works 11 = .ok (.istore_n 3, 1) := dk_62 (dk_at dksX0_works_0 11 rfl rfl)
theorem dX0_works_12 : decode cX0_works 12 = .ok (.iconst 0, 1) := dk_3 (dk_at dksX0_works_0 12 rfl rfl)
theorem dX0_works_13 : decode cX0_works 13 = .ok (.istore 4, 2) := dk_54 4 (dk_at dksX0_works_0 13 rfl rfl)
theorem dX0_works_15 : decode cX0_works 15 = .ok (.iload 4, 2) := dk_21 4 (dk_at dksX0_works_0 15 rfl rfl)
theorem dX0_works_17 : decode cX0_works 17 = .ok (.aload_n 0, 1) := dk_42 (dk_at dksX0_works_0 17 rfl rfl)
theorem dX0_works_18 : decode cX0_works 18 = .ok (.getfield 10, 3) := dk_180 0 10 (dk_at dksX0_works_0 18 rfl rfl)
theorem dX0_works_21 : decode cX0_works 21 = .ok (.getfield 114, 3) := dk_180 0 114 (dk_at dksX0_works_0 21 rfl rfl)
theorem dX0_works_24 : decode cX0_works 24 = .ok (.iload_n 1, 1) := dk_27 (dk_at dksX0_works_1 0 rfl rfl)
theorem dX0_works_25 : decode cX0_works 25 = .ok (.iaload, 1) := dk_46 (dk_at dksX0_works_1 1 rfl rfl)
theorem dX0_works_26 : decode cX0_works 26 = .ok (.if_icmp .ge 101, 3) := dk_162 0 101 (dk_at dksX0_works_1 2 rfl rfl)
theorem dX0_works_29 : decode cX0_works 29 = .ok (.aload_n 0, 1) := dk_42 (dk_at dksX0_works_1 5 rfl rfl)
theorem dX0_works_30 : decode cX0_works 30 = .ok (.aload_n 2, 1) := dk_44 (dk_at dksX0_works_1 6 rfl rfl)
theorem dX0_works_31 : decode cX0_works 31 = .ok (.invokevirtual 210, 3) := dk_182 0 210 (dk_at dksX0_works_1 7 rfl rfl)
theorem dX0_works_34 : decode cX0_works 34 = .ok (.istore 5, 2) := dk_54 5 (dk_at dksX0_works_1 10 rfl rfl)
theorem dX0_works_36 : decode cX0_works 36 = .ok (.iload 5, 2) := dk_21 5 (dk_at dksX0_works_1 12 rfl rfl)
theorem dX0_works_38 : decode cX0_works 38 = .ok (.bipush (-9), 2) := dk_16 247 (dk_at dksX0_works_1 14 rfl rfl)
theorem dX0_works_40 : decode cX0_works 40 = .ok (.if_icmp .eq 81, 3) := dk_159 0 81 (dk_at dksX0_works_1 16 rfl rfl)
theorem dX0_works_43 : decode cX0_works 43 = .ok (.aload_n 2, 1) := dk_44 (dk_at dksX0_works_1 19 rfl rfl)
theorem dX0_works_44 : decode cX0_works 44 = .ok (.getfield 157, 3) := dk_180 0 157 (dk_at dksX0_works_1 20 rfl rfl)
theorem dX0_works_47 : decode cX0_works 47 = .ok (.iload 5, 2) := dk_21 5 (dk_at dksX0_works_2 0 rfl rfl)
theorem dX0_works_49 : decode cX0_works 49 = .ok (.iaload, 1) := dk_46 (dk_at dksX0_works_2 2 rfl rfl)
theorem dX0_works_50 : decode cX0_works 50 = .ok (.istore 6, 2) := dk_54 6 (dk_at dksX0_works_2 3 rfl rfl)
theorem dX0_works_52 : decode cX0_works 52 = .ok (.aload_n 0, 1) := dk_42 (dk_at dksX0_works_2 5 rfl rfl)
theorem dX0_works_53 : decode cX0_works 53 = .ok (.getfield 19, 3) := dk_180 0 19 (dk_at dksX0_works_2 6 rfl rfl)
theorem dX0_works_56 : decode cX0_works 56 = .ok (.getfield 150, 3) := dk_180 0 150 (dk_at dksX0_works_2 9 rfl rfl)
theorem dX0_works_59 : decode cX0_works 59 = .ok (.iload 6, 2) := dk_21 6 (dk_at dksX0_works_2 12 rfl rfl)
theorem dX0_works_61 : decode cX0_works 61 = .ok (.dup2, 1) := dk_92 (dk_at dksX0_works_2 14 rfl rfl)
theorem dX0_works_62 : decode cX0_works 62 = .ok (.iaload, 1) := dk_46 (dk_at dksX0_works_2 15 rfl rfl)
theorem dX0_works_63 : decode cX0_works 63 = .ok (.iconst 1, 1) := dk_4 (dk_at dksX0_works_2 16 rfl rfl)
theorem dX0_works_64 : decode cX0_works 64 = .ok (.isub, 1) := dk_100 (dk_at dksX0_works_2 17 rfl rfl)
theorem dX0_works_65 : decode cX0_works 65 = .ok (.iastore, 1) := dk_79 (dk_at dksX0_works_2 18 rfl rfl)
theorem dX0_works_66 : decode cX0_works 66 = .ok (.aload_n 0, 1) := dk_42 (dk_at dksX0_works_2 19 rfl rfl)
theorem dX0_works_67 : decode cX0_works 67 = .ok (.getfield 19, 3) := dk_180 0 19 (dk_at dksX0_works_2 20 rfl rfl)
theorem dX0_works_70 : decode cX0_works 70 = .ok (.getfield 150, 3) := dk_180 0 150 (dk_at dksX0_works_3 0 rfl rfl)
theorem dX0_works_73 : decode cX0_works 73 = .ok (.iload 6, 2) := dk_21 6 (dk_at dksX0_works_3 3 rfl rfl)
theorem dX0_works_75 : decode cX0_works 75 = .ok (.iaload, 1) := dk_46 (dk_at dksX0_works_3 5 rfl rfl)
theorem dX0_works_76 : decode cX0_works 76 = .ok (.ifCond .ne 45, 3) := dk_154 0 45 (dk_at dksX0_works_3 6 rfl rfl)
theorem dX0_works_79 : decode cX0_works 79 = .ok (.aload_n 0, 1) := dk_42 (dk_at dksX0_works_3 9 rfl rfl)
theorem dX0_works_80 : decode cX0_works 80 = .ok (.getfield 19, 3) := dk_180 0 19 (dk_at dksX0_works_3 10 rfl rfl)
theorem dX0_works_83 : decode cX0_works 83 = .ok (.getfield 147, 3) := dk_180 0 147 (dk_at dksX0_works_3 13 rfl rfl)
theorem dX0_works_86 : decode cX0_works 86 = .ok (.iload 6, 2) := dk_21 6 (dk_at dksX0_works_3 16 rfl rfl)
theorem dX0_works_88 : decode cX0_works 88 = .ok (.iconst 2, 1) := dk_5 (dk_at dksX0_works_3 18 rfl rfl)
theorem dX0_works_89 : decode cX0_works 89 = .ok (.iastore, 1) := dk_79 (dk_at dksX0_works_3 19 rfl rfl)
theorem dX0_works_90 : decode cX0_works 90 = .ok (.aload_n 0, 1) := dk_42 (dk_at dksX0_works_3 20 rfl rfl)
theorem dX0_works_91 : decode cX0_works 91 = .ok (.getfield 19, 3) := dk_180 0 19 (dk_at dksX0_works_3 21 rfl rfl)
theorem dX0_works_94 : decode cX0_works 94 = .ok (.dup, 1) := dk_89 (dk_at dksX0_works_4 0 rfl rfl)
theorem dX0_works_95 : decode cX0_works 95 = .ok (.getfield 214, 3) := dk_180 0 214 (dk_at dksX0_works_4 1 rfl rfl)
theorem dX0_works_98 : decode cX0_works 98 = .ok (.aload_n 0, 1) := dk_42 (dk_at dksX0_works_4 4 rfl rfl)
theorem dX0_works_99 : decode cX0_works 99 = .ok (.getfield 10, 3) := dk_180 0 10 (dk_at dksX0_works_4 5 rfl rfl)
theorem dX0_works_102 : decode cX0_works 102 = .ok (.getfield 141, 3) := dk_180 0 141 (dk_at dksX0_works_4 8 rfl rfl)
theorem dX0_works_105 : decode cX0_works 105 = .ok (.iload 6, 2) := dk_21 6 (dk_at dksX0_works_4 11 rfl rfl)
theorem dX0_works_107 : decode cX0_works 107 = .ok (.iaload, 1) := dk_46 (dk_at dksX0_works_4 13 rfl rfl)
theorem dX0_works_108 : decode cX0_works 108 = .ok (.iadd, 1) := dk_96 (dk_at dksX0_works_4 14 rfl rfl)
theorem dX0_works_109 : decode cX0_works 109 = .ok (.putfield 214, 3) := dk_181 0 214 (dk_at dksX0_works_4 15 rfl rfl)
theorem dX0_works_112 : decode cX0_works 112 = .ok (.aload_n 2, 1) := dk_44 (dk_at dksX0_works_4 18 rfl rfl)
theorem dX0_works_113 : decode cX0_works 113 = .ok (.iload 5, 2) := dk_21 5 (dk_at dksX0_works_4 19 rfl rfl)
theorem dX0_works_115 : decode cX0_works 115 = .ok (.invokevirtual 197, 3) := dk_182 0 197 (dk_at dksX0_works_4 21 rfl rfl)
theorem dX0_works_118 : decode cX0_works 118 = .ok (.iinc 3 1, 3) := dk_132 3 1 (dk_at dksX0_works_5 0 rfl rfl)
theorem dX0_works_121 : decode cX0_works 121 = .ok (.iinc 4 1, 3) := dk_132 4 1 (dk_at dksX0_works_5 3 rfl rfl)
theorem dX0_works_124 : decode cX0_works 124 = .ok (.goto (-109), 3) := dk_167 255 147 (dk_at dksX0_works_5 6 rfl rfl)
theorem dX0_works_127 : decode cX0_works 127 = .ok (.iload_n 3, 1) := dk_29 (dk_at dksX0_works_5 9 rfl rfl)
theorem dX0_works_128 : decode cX0_works 128 = .ok (.ireturn, 1) := dk_172 (dk_at dksX0_works_5 10 rfl rfl)
abbrev cX0_firstOf : ByteArray := prog_1_method_19_code
def yX0_firstOf : MethodName := ⟨RX0, "firstOf", "(LSleeveSlips$Sleeve;)I"⟩
def dkwX0_firstOf_1 : List UInt8 := [172, 132, 2, 1, 167, 255, 230, 16, 247, 172]
abbrev dktX0_firstOf_1 : List UInt8 := dkwX0_firstOf_1 ++ []
def dkwX0_firstOf_0 : List UInt8 := [3, 61, 28, 43, 180, 0, 124, 162, 0, 24, 42, 43, 180, 0, 157, 28, 46, 182, 0, 207, 153, 0, 5, 28]
abbrev dktX0_firstOf_0 : List UInt8 := dkwX0_firstOf_0 ++ dktX0_firstOf_1
theorem dksX0_firstOf_0 : cX0_firstOf.data.toList.drop 0 = dktX0_firstOf_0 := by decide +kernel
theorem dksX0_firstOf_1 : cX0_firstOf.data.toList.drop 24 = dktX0_firstOf_1 := dk_seg dksX0_firstOf_0 24 rfl rfl
theorem dX0_firstOf_0 : decode cX0_firstOf 0 = .ok (.iconst 0, 1) := dk_3 (dk_at dksX0_firstOf_0 0 rfl rfl)
theorem dX0_firstOf_1 : decode cX0_firstOf 1 = .ok (.istore_n 2, 1) := dk_61 (dk_at dksX0_firstOf_0 1 rfl rfl)
theorem dX0_firstOf_2 : decode cX0_firstOf 2 = .ok (.iload_n 2, 1) := dk_28 (dk_at dksX0_firstOf_0 2 rfl rfl)
theorem dX0_firstOf_3 : decode cX0_firstOf 3 = .ok (.aload_n 1, 1) := dk_43 (dk_at dksX0_firstOf_0 3 rfl rfl)
theorem dX0_firstOf_4 : decode cX0_firstOf 4 = .ok (.getfield 124, 3) := dk_180 0 124 (dk_at dksX0_firstOf_0 4 rfl rfl)
theorem dX0_firstOf_7 : decode cX0_firstOf 7 = .ok (.if_icmp .ge 24, 3) := dk_162 0 24 (dk_at dksX0_firstOf_0 7 rfl rfl)
theorem dX0_firstOf_10 : decode cX0_firstOf 10 = .ok (.aload_n 0, 1) := dk_42 (dk_at dksX0_firstOf_0 10 rfl rfl)
theorem dX0_firstOf_11 : decode cX0_firstOf 11 = .ok (.aload_n 1, 1) := dk_43 (dk_at dksX0_firstOf_0 11 rfl rfl)
theorem dX0_firstOf_12 : decode cX0_firstOf 12 = .ok (.getfield 157, 3) := dk_180 0 157 (dk_at dksX0_firstOf_0 12 rfl rfl)
theorem dX0_firstOf_15 : decode cX0_firstOf 15 = .ok (.iload_n 2, 1) := dk_28 (dk_at dksX0_firstOf_0 15 rfl rfl)
theorem dX0_firstOf_16 : decode cX0_firstOf 16 = .ok (.iaload, 1) := dk_46 (dk_at dksX0_firstOf_0 16 rfl rfl)
theorem dX0_firstOf_17 : decode cX0_firstOf 17 = .ok (.invokevirtual 207, 3) := dk_182 0 207 (dk_at dksX0_firstOf_0 17 rfl rfl)
theorem dX0_firstOf_20 : decode cX0_firstOf 20 = .ok (.ifCond .eq 5, 3) := dk_153 0 5 (dk_at dksX0_firstOf_0 20 rfl rfl)
theorem dX0_firstOf_23 : decode cX0_firstOf 23 = .ok (.iload_n 2, 1) := dk_28 (dk_at dksX0_firstOf_0 23 rfl rfl)
theorem dX0_firstOf_24 : decode cX0_firstOf 24 = .ok (.ireturn, 1) := dk_172 (dk_at dksX0_firstOf_1 0 rfl rfl)
theorem dX0_firstOf_25 : decode cX0_firstOf 25 = .ok (.iinc 2 1, 3) := dk_132 2 1 (dk_at dksX0_firstOf_1 1 rfl rfl)
theorem dX0_firstOf_28 : decode cX0_firstOf 28 = .ok (.goto (-26), 3) := dk_167 255 230 (dk_at dksX0_firstOf_1 4 rfl rfl)
theorem dX0_firstOf_31 : decode cX0_firstOf 31 = .ok (.bipush (-9), 2) := dk_16 247 (dk_at dksX0_firstOf_1 7 rfl rfl)
theorem dX0_firstOf_33 : decode cX0_firstOf 33 = .ok (.ireturn, 1) := dk_172 (dk_at dksX0_firstOf_1 9 rfl rfl)
abbrev cX0_mayWork : ByteArray := prog_1_method_18_code
def yX0_mayWork : MethodName := ⟨RX0, "mayWork", "(I)Z"⟩
def dkwX0_mayWork_2 : List UInt8 := [160, 0, 7, 4, 167, 0, 4, 3, 61, 132, 3, 1, 167, 255, 203, 28, 172]
abbrev dktX0_mayWork_2 : List UInt8 := dkwX0_mayWork_2 ++ []
def dkwX0_mayWork_1 : List UInt8 := [180, 0, 204, 27, 46, 29, 122, 4, 126, 153, 0, 16, 42, 180, 0, 19, 180, 0, 147, 29, 46, 5]
abbrev dktX0_mayWork_1 : List UInt8 := dkwX0_mayWork_1 ++ dktX0_mayWork_2
def dkwX0_mayWork_0 : List UInt8 := [4, 61, 3, 62, 29, 42, 180, 0, 10, 180, 0, 104, 162, 0, 48, 28, 153, 0, 36, 42, 180, 0, 10]
abbrev dktX0_mayWork_0 : List UInt8 := dkwX0_mayWork_0 ++ dktX0_mayWork_1
theorem dksX0_mayWork_0 : cX0_mayWork.data.toList.drop 0 = dktX0_mayWork_0 := by decide +kernel
theorem dksX0_mayWork_1 : cX0_mayWork.data.toList.drop 23 = dktX0_mayWork_1 := dk_seg dksX0_mayWork_0 23 rfl rfl
theorem dksX0_mayWork_2 : cX0_mayWork.data.toList.drop 45 = dktX0_mayWork_2 := dk_seg dksX0_mayWork_1 22 rfl rfl
theorem dX0_mayWork_0 : decode cX0_mayWork 0 = .ok (.iconst 1, 1) := dk_4 (dk_at dksX0_mayWork_0 0 rfl rfl)
theorem dX0_mayWork_1 : decode cX0_mayWork 1 = .ok (.istore_n 2, 1) := dk_61 (dk_at dksX0_mayWork_0 1 rfl rfl)
theorem dX0_mayWork_2 : decode cX0_mayWork 2 = .ok (.iconst 0, 1) := dk_3 (dk_at dksX0_mayWork_0 2 rfl rfl)
theorem dX0_mayWork_3 : decode cX0_mayWork 3 = .ok (.istore_n 3, 1) := dk_62 (dk_at dksX0_mayWork_0 3 rfl rfl)
theorem dX0_mayWork_4 : decode cX0_mayWork 4 = .ok (.iload_n 3, 1) := dk_29 (dk_at dksX0_mayWork_0 4 rfl rfl)
theorem dX0_mayWork_5 : decode cX0_mayWork 5 = .ok (.aload_n 0, 1) := dk_42 (dk_at dksX0_mayWork_0 5 rfl rfl)
theorem dX0_mayWork_6 : decode cX0_mayWork 6 = .ok (.getfield 10, 3) := dk_180 0 10 (dk_at dksX0_mayWork_0 6 rfl rfl)
theorem dX0_mayWork_9 : decode cX0_mayWork 9 = .ok (.getfield 104, 3) := dk_180 0 104 (dk_at dksX0_mayWork_0 9 rfl rfl)
theorem dX0_mayWork_12 : decode cX0_mayWork 12 = .ok (.if_icmp .ge 48, 3) := dk_162 0 48 (dk_at dksX0_mayWork_0 12 rfl rfl)
theorem dX0_mayWork_15 : decode cX0_mayWork 15 = .ok (.iload_n 2, 1) := dk_28 (dk_at dksX0_mayWork_0 15 rfl rfl)
theorem dX0_mayWork_16 : decode cX0_mayWork 16 = .ok (.ifCond .eq 36, 3) := dk_153 0 36 (dk_at dksX0_mayWork_0 16 rfl rfl)
theorem dX0_mayWork_19 : decode cX0_mayWork 19 = .ok (.aload_n 0, 1) := dk_42 (dk_at dksX0_mayWork_0 19 rfl rfl)
theorem dX0_mayWork_20 : decode cX0_mayWork 20 = .ok (.getfield 10, 3) := dk_180 0 10 (dk_at dksX0_mayWork_0 20 rfl rfl)
theorem dX0_mayWork_23 : decode cX0_mayWork 23 = .ok (.getfield 204, 3) := dk_180 0 204 (dk_at dksX0_mayWork_1 0 rfl rfl)
theorem dX0_mayWork_26 : decode cX0_mayWork 26 = .ok (.iload_n 1, 1) := dk_27 (dk_at dksX0_mayWork_1 3 rfl rfl)
theorem dX0_mayWork_27 : decode cX0_mayWork 27 = .ok (.iaload, 1) := dk_46 (dk_at dksX0_mayWork_1 4 rfl rfl)
theorem dX0_mayWork_28 : decode cX0_mayWork 28 = .ok (.iload_n 3, 1) := dk_29 (dk_at dksX0_mayWork_1 5 rfl rfl)
theorem dX0_mayWork_29 : decode cX0_mayWork 29 = .ok (.ishr, 1) := dk_122 (dk_at dksX0_mayWork_1 6 rfl rfl)
theorem dX0_mayWork_30 : decode cX0_mayWork 30 = .ok (.iconst 1, 1) := dk_4 (dk_at dksX0_mayWork_1 7 rfl rfl)
theorem dX0_mayWork_31 : decode cX0_mayWork 31 = .ok (.iand, 1) := dk_126 (dk_at dksX0_mayWork_1 8 rfl rfl)
theorem dX0_mayWork_32 : decode cX0_mayWork 32 = .ok (.ifCond .eq 16, 3) := dk_153 0 16 (dk_at dksX0_mayWork_1 9 rfl rfl)
theorem dX0_mayWork_35 : decode cX0_mayWork 35 = .ok (.aload_n 0, 1) := dk_42 (dk_at dksX0_mayWork_1 12 rfl rfl)
theorem dX0_mayWork_36 : decode cX0_mayWork 36 = .ok (.getfield 19, 3) := dk_180 0 19 (dk_at dksX0_mayWork_1 13 rfl rfl)
theorem dX0_mayWork_39 : decode cX0_mayWork 39 = .ok (.getfield 147, 3) := dk_180 0 147 (dk_at dksX0_mayWork_1 16 rfl rfl)
theorem dX0_mayWork_42 : decode cX0_mayWork 42 = .ok (.iload_n 3, 1) := dk_29 (dk_at dksX0_mayWork_1 19 rfl rfl)
theorem dX0_mayWork_43 : decode cX0_mayWork 43 = .ok (.iaload, 1) := dk_46 (dk_at dksX0_mayWork_1 20 rfl rfl)
theorem dX0_mayWork_44 : decode cX0_mayWork 44 = .ok (.iconst 2, 1) := dk_5 (dk_at dksX0_mayWork_1 21 rfl rfl)
theorem dX0_mayWork_45 : decode cX0_mayWork 45 = .ok (.if_icmp .ne 7, 3) := dk_160 0 7 (dk_at dksX0_mayWork_2 0 rfl rfl)
theorem dX0_mayWork_48 : decode cX0_mayWork 48 = .ok (.iconst 1, 1) := dk_4 (dk_at dksX0_mayWork_2 3 rfl rfl)
theorem dX0_mayWork_49 : decode cX0_mayWork 49 = .ok (.goto 4, 3) := dk_167 0 4 (dk_at dksX0_mayWork_2 4 rfl rfl)
theorem dX0_mayWork_52 : decode cX0_mayWork 52 = .ok (.iconst 0, 1) := dk_3 (dk_at dksX0_mayWork_2 7 rfl rfl)
theorem dX0_mayWork_53 : decode cX0_mayWork 53 = .ok (.istore_n 2, 1) := dk_61 (dk_at dksX0_mayWork_2 8 rfl rfl)
theorem dX0_mayWork_54 : decode cX0_mayWork 54 = .ok (.iinc 3 1, 3) := dk_132 3 1 (dk_at dksX0_mayWork_2 9 rfl rfl)
theorem dX0_mayWork_57 : decode cX0_mayWork 57 = .ok (.goto (-53), 3) := dk_167 255 203 (dk_at dksX0_mayWork_2 12 rfl rfl)
theorem dX0_mayWork_60 : decode cX0_mayWork 60 = .ok (.iload_n 2, 1) := dk_28 (dk_at dksX0_mayWork_2 15 rfl rfl)
theorem dX0_mayWork_61 : decode cX0_mayWork 61 = .ok (.ireturn, 1) := dk_172 (dk_at dksX0_mayWork_2 16 rfl rfl)
abbrev cX0_now : ByteArray := prog_1_method_22_code
def yX0_now : MethodName := ⟨RX0, "now", "(I)I"⟩
def dkwX0_now_4 : List UInt8 := [28, 172, 42, 180, 0, 19, 180, 0, 182, 172, 2, 172]
abbrev dktX0_now_4 : List UInt8 := dkwX0_now_4 ++ []
def dkwX0_now_3 : List UInt8 := [42, 180, 0, 19, 180, 0, 160, 172, 42, 180, 0, 19, 180, 0, 214, 172, 42, 180, 0, 19, 180, 0, 179, 172]
abbrev dktX0_now_3 : List UInt8 := dkwX0_now_3 ++ dktX0_now_4
def dkwX0_now_2 : List UInt8 := [170, 0, 0, 0, 0, 0, 69, 0, 0, 0, 0, 0, 0, 0, 4, 0, 0, 0, 35, 0, 0, 0, 43, 0, 0, 0, 51, 0, 0, 0, 59, 0, 0, 0, 61]
abbrev dktX0_now_2 : List UInt8 := dkwX0_now_2 ++ dktX0_now_3
def dkwX0_now_1 : List UInt8 := [45, 21, 5, 50, 58, 6, 28, 25, 6, 180, 0, 124, 96, 61, 132, 5, 1, 167, 255, 232, 27]
abbrev dktX0_now_1 : List UInt8 := dkwX0_now_1 ++ dktX0_now_2
def dkwX0_now_0 : List UInt8 := [3, 61, 42, 180, 0, 19, 180, 0, 120, 78, 45, 190, 54, 4, 3, 54, 5, 21, 5, 21, 4, 162, 0, 23]
abbrev dktX0_now_0 : List UInt8 := dkwX0_now_0 ++ dktX0_now_1
theorem dksX0_now_0 : cX0_now.data.toList.drop 0 = dktX0_now_0 := by decide +kernel
theorem dksX0_now_1 : cX0_now.data.toList.drop 24 = dktX0_now_1 := dk_seg dksX0_now_0 24 rfl rfl
theorem dksX0_now_2 : cX0_now.data.toList.drop 45 = dktX0_now_2 := dk_seg dksX0_now_1 21 rfl rfl
theorem dksX0_now_3 : cX0_now.data.toList.drop 80 = dktX0_now_3 := dk_seg dksX0_now_2 35 rfl rfl
theorem dksX0_now_4 : cX0_now.data.toList.drop 104 = dktX0_now_4 := dk_seg dksX0_now_3 24 rfl rfl
theorem dX0_now_0 : decode cX0_now 0 = .ok (.iconst 0, 1) := dk_3 (dk_at dksX0_now_0 0 rfl rfl)
theorem dX0_now_1 : decode cX0_now 1 = .ok (.istore_n 2, 1) := dk_61 (dk_at dksX0_now_0 1 rfl rfl)
theorem dX0_now_2 : decode cX0_now 2 = .ok (.aload_n 0, 1) := dk_42 (dk_at dksX0_now_0 2 rfl rfl)
theorem dX0_now_3 : decode cX0_now 3 = .ok (.getfield 19, 3) := dk_180 0 19 (dk_at dksX0_now_0 3 rfl rfl)
theorem dX0_now_6 : decode cX0_now 6 = .ok (.getfield 120, 3) := dk_180 0 120 (dk_at dksX0_now_0 6 rfl rfl)
theorem dX0_now_9 : decode cX0_now 9 = .ok (.astore_n 3, 1) := dk_78 (dk_at dksX0_now_0 9 rfl rfl)
theorem dX0_now_10 : decode cX0_now 10 = .ok (.aload_n 3, 1) := dk_45 (dk_at dksX0_now_0 10 rfl rfl)
theorem dX0_now_11 : decode cX0_now 11 = .ok (.arraylength, 1) := dk_190 (dk_at dksX0_now_0 11 rfl rfl)
theorem dX0_now_12 : decode cX0_now 12 = .ok (.istore 4, 2) := dk_54 4 (dk_at dksX0_now_0 12 rfl rfl)
theorem dX0_now_14 : decode cX0_now 14 = .ok (.iconst 0, 1) := dk_3 (dk_at dksX0_now_0 14 rfl rfl)
theorem dX0_now_15 : decode cX0_now 15 = .ok (.istore 5, 2) := dk_54 5 (dk_at dksX0_now_0 15 rfl rfl)
theorem dX0_now_17 : decode cX0_now 17 = .ok (.iload 5, 2) := dk_21 5 (dk_at dksX0_now_0 17 rfl rfl)
theorem dX0_now_19 : decode cX0_now 19 = .ok (.iload 4, 2) := dk_21 4 (dk_at dksX0_now_0 19 rfl rfl)
theorem dX0_now_21 : decode cX0_now 21 = .ok (.if_icmp .ge 23, 3) := dk_162 0 23 (dk_at dksX0_now_0 21 rfl rfl)
theorem dX0_now_24 : decode cX0_now 24 = .ok (.aload_n 3, 1) := dk_45 (dk_at dksX0_now_1 0 rfl rfl)
theorem dX0_now_25 : decode cX0_now 25 = .ok (.iload 5, 2) := dk_21 5 (dk_at dksX0_now_1 1 rfl rfl)
theorem dX0_now_27 : decode cX0_now 27 = .ok (.aaload, 1) := dk_50 (dk_at dksX0_now_1 3 rfl rfl)
theorem dX0_now_28 : decode cX0_now 28 = .ok (.astore 6, 2) := dk_58 6 (dk_at dksX0_now_1 4 rfl rfl)
theorem dX0_now_30 : decode cX0_now 30 = .ok (.iload_n 2, 1) := dk_28 (dk_at dksX0_now_1 6 rfl rfl)
theorem dX0_now_31 : decode cX0_now 31 = .ok (.aload 6, 2) := dk_25 6 (dk_at dksX0_now_1 7 rfl rfl)
theorem dX0_now_33 : decode cX0_now 33 = .ok (.getfield 124, 3) := dk_180 0 124 (dk_at dksX0_now_1 9 rfl rfl)
theorem dX0_now_36 : decode cX0_now 36 = .ok (.iadd, 1) := dk_96 (dk_at dksX0_now_1 12 rfl rfl)
theorem dX0_now_37 : decode cX0_now 37 = .ok (.istore_n 2, 1) := dk_61 (dk_at dksX0_now_1 13 rfl rfl)
theorem dX0_now_38 : decode cX0_now 38 = .ok (.iinc 5 1, 3) := dk_132 5 1 (dk_at dksX0_now_1 14 rfl rfl)
theorem dX0_now_41 : decode cX0_now 41 = .ok (.goto (-24), 3) := dk_167 255 232 (dk_at dksX0_now_1 17 rfl rfl)
theorem dX0_now_44 : decode cX0_now 44 = .ok (.iload_n 1, 1) := dk_27 (dk_at dksX0_now_1 20 rfl rfl)
theorem dX0_now_45 : decode cX0_now 45 = .ok (.tableswitch 69 0 4 #[35, 43, 51, 59, 61], 35) := by decide +kernel
theorem dX0_now_80 : decode cX0_now 80 = .ok (.aload_n 0, 1) := dk_42 (dk_at dksX0_now_3 0 rfl rfl)
theorem dX0_now_81 : decode cX0_now 81 = .ok (.getfield 19, 3) := dk_180 0 19 (dk_at dksX0_now_3 1 rfl rfl)
theorem dX0_now_84 : decode cX0_now 84 = .ok (.getfield 160, 3) := dk_180 0 160 (dk_at dksX0_now_3 4 rfl rfl)
theorem dX0_now_87 : decode cX0_now 87 = .ok (.ireturn, 1) := dk_172 (dk_at dksX0_now_3 7 rfl rfl)
theorem dX0_now_88 : decode cX0_now 88 = .ok (.aload_n 0, 1) := dk_42 (dk_at dksX0_now_3 8 rfl rfl)
theorem dX0_now_89 : decode cX0_now 89 = .ok (.getfield 19, 3) := dk_180 0 19 (dk_at dksX0_now_3 9 rfl rfl)
theorem dX0_now_92 : decode cX0_now 92 = .ok (.getfield 214, 3) := dk_180 0 214 (dk_at dksX0_now_3 12 rfl rfl)
theorem dX0_now_95 : decode cX0_now 95 = .ok (.ireturn, 1) := dk_172 (dk_at dksX0_now_3 15 rfl rfl)
theorem dX0_now_96 : decode cX0_now 96 = .ok (.aload_n 0, 1) := dk_42 (dk_at dksX0_now_3 16 rfl rfl)
theorem dX0_now_97 : decode cX0_now 97 = .ok (.getfield 19, 3) := dk_180 0 19 (dk_at dksX0_now_3 17 rfl rfl)
theorem dX0_now_100 : decode cX0_now 100 = .ok (.getfield 179, 3) := dk_180 0 179 (dk_at dksX0_now_3 20 rfl rfl)
theorem dX0_now_103 : decode cX0_now 103 = .ok (.ireturn, 1) := dk_172 (dk_at dksX0_now_3 23 rfl rfl)
theorem dX0_now_104 : decode cX0_now 104 = .ok (.iload_n 2, 1) := dk_28 (dk_at dksX0_now_4 0 rfl rfl)
theorem dX0_now_105 : decode cX0_now 105 = .ok (.ireturn, 1) := dk_172 (dk_at dksX0_now_4 1 rfl rfl)
theorem dX0_now_106 : decode cX0_now 106 = .ok (.aload_n 0, 1) := dk_42 (dk_at dksX0_now_4 2 rfl rfl)
theorem dX0_now_107 : decode cX0_now 107 = .ok (.getfield 19, 3) := dk_180 0 19 (dk_at dksX0_now_4 3 rfl rfl)
theorem dX0_now_110 : decode cX0_now 110 = .ok (.getfield 182, 3) := dk_180 0 182 (dk_at dksX0_now_4 6 rfl rfl)
theorem dX0_now_113 : decode cX0_now 113 = .ok (.ireturn, 1) := dk_172 (dk_at dksX0_now_4 9 rfl rfl)
theorem dX0_now_114 : decode cX0_now 114 = .ok (.iconst (-1), 1) := dk_2 (dk_at dksX0_now_4 10 rfl rfl)
theorem dX0_now_115 : decode cX0_now 115 = .ok (.ireturn, 1) := dk_172 (dk_at dksX0_now_4 11 rfl rfl)
abbrev cX0_take : ByteArray := prog_1_method_26_code
def yX0_take : MethodName := ⟨RX0, "take", "(II)I"⟩
def dkwX0_take_2 : List UInt8 := [154, 0, 7, 29, 167, 0, 7, 42, 180, 0, 231, 172]
abbrev dktX0_take_2 : List UInt8 := dkwX0_take_2 ++ []
def dkwX0_take_1 : List UInt8 := [180, 0, 10, 180, 0, 111, 27, 46, 42, 180, 0, 10, 180, 0, 114, 27, 46, 182, 0, 234, 62, 28]
abbrev dktX0_take_1 : List UInt8 := dkwX0_take_1 ++ dktX0_take_2
def dkwX0_take_0 : List UInt8 := [42, 27, 182, 0, 107, 153, 0, 12, 28, 3, 4, 184, 0, 74, 154, 0, 5, 2, 172, 42, 27, 42]
abbrev dktX0_take_0 : List UInt8 := dkwX0_take_0 ++ dktX0_take_1
theorem dksX0_take_0 : cX0_take.data.toList.drop 0 = dktX0_take_0 := by decide +kernel
theorem dksX0_take_1 : cX0_take.data.toList.drop 22 = dktX0_take_1 := dk_seg dksX0_take_0 22 rfl rfl
theorem dksX0_take_2 : cX0_take.data.toList.drop 44 = dktX0_take_2 := dk_seg dksX0_take_1 22 rfl rfl
theorem dX0_take_0 : decode cX0_take 0 = .ok (.aload_n 0, 1) := dk_42 (dk_at dksX0_take_0 0 rfl rfl)
theorem dX0_take_1 : decode cX0_take 1 = .ok (.iload_n 1, 1) := dk_27 (dk_at dksX0_take_0 1 rfl rfl)
theorem dX0_take_2 : decode cX0_take 2 = .ok (.invokevirtual 107, 3) := dk_182 0 107 (dk_at dksX0_take_0 2 rfl rfl)
theorem dX0_take_5 : decode cX0_take 5 = .ok (.ifCond .eq 12, 3) := dk_153 0 12 (dk_at dksX0_take_0 5 rfl rfl)
theorem dX0_take_8 : decode cX0_take 8 = .ok (.iload_n 2, 1) := dk_28 (dk_at dksX0_take_0 8 rfl rfl)
theorem dX0_take_9 : decode cX0_take 9 = .ok (.iconst 0, 1) := dk_3 (dk_at dksX0_take_0 9 rfl rfl)
theorem dX0_take_10 : decode cX0_take 10 = .ok (.iconst 1, 1) := dk_4 (dk_at dksX0_take_0 10 rfl rfl)
theorem dX0_take_11 : decode cX0_take 11 = .ok (.invokestatic 74, 3) := dk_184 0 74 (dk_at dksX0_take_0 11 rfl rfl)
theorem dX0_take_14 : decode cX0_take 14 = .ok (.ifCond .ne 5, 3) := dk_154 0 5 (dk_at dksX0_take_0 14 rfl rfl)
theorem dX0_take_17 : decode cX0_take 17 = .ok (.iconst (-1), 1) := dk_2 (dk_at dksX0_take_0 17 rfl rfl)
theorem dX0_take_18 : decode cX0_take 18 = .ok (.ireturn, 1) := dk_172 (dk_at dksX0_take_0 18 rfl rfl)
theorem dX0_take_19 : decode cX0_take 19 = .ok (.aload_n 0, 1) := dk_42 (dk_at dksX0_take_0 19 rfl rfl)
theorem dX0_take_20 : decode cX0_take 20 = .ok (.iload_n 1, 1) := dk_27 (dk_at dksX0_take_0 20 rfl rfl)
theorem dX0_take_21 : decode cX0_take 21 = .ok (.aload_n 0, 1) := dk_42 (dk_at dksX0_take_0 21 rfl rfl)
theorem dX0_take_22 : decode cX0_take 22 = .ok (.getfield 10, 3) := dk_180 0 10 (dk_at dksX0_take_1 0 rfl rfl)
theorem dX0_take_25 : decode cX0_take 25 = .ok (.getfield 111, 3) := dk_180 0 111 (dk_at dksX0_take_1 3 rfl rfl)
theorem dX0_take_28 : decode cX0_take 28 = .ok (.iload_n 1, 1) := dk_27 (dk_at dksX0_take_1 6 rfl rfl)
theorem dX0_take_29 : decode cX0_take 29 = .ok (.iaload, 1) := dk_46 (dk_at dksX0_take_1 7 rfl rfl)
theorem dX0_take_30 : decode cX0_take 30 = .ok (.aload_n 0, 1) := dk_42 (dk_at dksX0_take_1 8 rfl rfl)
theorem dX0_take_31 : decode cX0_take 31 = .ok (.getfield 10, 3) := dk_180 0 10 (dk_at dksX0_take_1 9 rfl rfl)
theorem dX0_take_34 : decode cX0_take 34 = .ok (.getfield 114, 3) := dk_180 0 114 (dk_at dksX0_take_1 12 rfl rfl)
theorem dX0_take_37 : decode cX0_take 37 = .ok (.iload_n 1, 1) := dk_27 (dk_at dksX0_take_1 15 rfl rfl)
theorem dX0_take_38 : decode cX0_take 38 = .ok (.iaload, 1) := dk_46 (dk_at dksX0_take_1 16 rfl rfl)
theorem dX0_take_39 : decode cX0_take 39 = .ok (.invokevirtual 234, 3) := dk_182 0 234 (dk_at dksX0_take_1 17 rfl rfl)
theorem dX0_take_42 : decode cX0_take 42 = .ok (.istore_n 3, 1) := dk_62 (dk_at dksX0_take_1 20 rfl rfl)
theorem dX0_take_43 : decode cX0_take 43 = .ok (.iload_n 2, 1) := dk_28 (dk_at dksX0_take_1 21 rfl rfl)
theorem dX0_take_44 : decode cX0_take 44 = .ok (.ifCond .ne 7, 3) := dk_154 0 7 (dk_at dksX0_take_2 0 rfl rfl)
theorem dX0_take_47 : decode cX0_take 47 = .ok (.iload_n 3, 1) := dk_29 (dk_at dksX0_take_2 3 rfl rfl)
theorem dX0_take_48 : decode cX0_take 48 = .ok (.goto 7, 3) := dk_167 0 7 (dk_at dksX0_take_2 4 rfl rfl)
theorem dX0_take_51 : decode cX0_take 51 = .ok (.aload_n 0, 1) := dk_42 (dk_at dksX0_take_2 7 rfl rfl)
theorem dX0_take_52 : decode cX0_take 52 = .ok (.getfield 231, 3) := dk_180 0 231 (dk_at dksX0_take_2 8 rfl rfl)
theorem dX0_take_55 : decode cX0_take 55 = .ok (.ireturn, 1) := dk_172 (dk_at dksX0_take_2 11 rfl rfl)
abbrev cX0_bestFor : ByteArray := prog_1_method_25_code
def yX0_bestFor : MethodName := ⟨RX0, "bestFor", "(III)I"⟩
def dkwX0_bestFor_7 : List UInt8 := [181, 0, 231, 132, 6, 1, 167, 255, 161, 21, 5, 172]
abbrev dktX0_bestFor_7 : List UInt8 := dkwX0_bestFor_7 ++ []
def dkwX0_bestFor_6 : List UInt8 := [21, 5, 164, 0, 24, 42, 21, 6, 28, 29, 182, 0, 228, 153, 0, 13, 21, 7, 54, 5, 42, 21, 6]
abbrev dktX0_bestFor_6 : List UInt8 := dkwX0_bestFor_6 ++ dktX0_bestFor_7
def dkwX0_bestFor_5 : List UInt8 := [46, 104, 96, 54, 7, 132, 8, 1, 167, 255, 218, 21, 6, 21, 4, 2, 130, 126, 154, 0, 31, 21, 7]
abbrev dktX0_bestFor_5 : List UInt8 := dkwX0_bestFor_5 ++ dktX0_bestFor_6
def dkwX0_bestFor_4 : List UInt8 := [180, 0, 104, 162, 0, 32, 21, 7, 21, 6, 21, 8, 122, 4, 126, 42, 180, 0, 10, 180, 0, 141, 21, 8]
abbrev dktX0_bestFor_4 : List UInt8 := dkwX0_bestFor_4 ++ dktX0_bestFor_5
def dkwX0_bestFor_3 : List UInt8 := [54, 5, 3, 54, 6, 21, 6, 21, 4, 163, 0, 94, 3, 54, 7, 3, 54, 8, 21, 8, 42, 180, 0, 10]
abbrev dktX0_bestFor_3 : List UInt8 := dkwX0_bestFor_3 ++ dktX0_bestFor_4
def dkwX0_bestFor_2 : List UInt8 := [180, 0, 160, 161, 0, 10, 4, 21, 5, 120, 167, 0, 4, 3, 128, 54, 4, 132, 5, 1, 167, 255, 194, 2]
abbrev dktX0_bestFor_2 : List UInt8 := dkwX0_bestFor_2 ++ dktX0_bestFor_3
def dkwX0_bestFor_1 : List UInt8 := [180, 0, 132, 21, 5, 46, 27, 160, 0, 30, 42, 180, 0, 10, 180, 0, 135, 21, 5, 46, 42, 180, 0, 19]
abbrev dktX0_bestFor_1 : List UInt8 := dkwX0_bestFor_1 ++ dktX0_bestFor_2
def dkwX0_bestFor_0 : List UInt8 := [3, 54, 4, 3, 54, 5, 21, 5, 42, 180, 0, 10, 180, 0, 104, 162, 0, 56, 21, 4, 42, 180, 0, 10]
abbrev dktX0_bestFor_0 : List UInt8 := dkwX0_bestFor_0 ++ dktX0_bestFor_1
theorem dksX0_bestFor_0 : cX0_bestFor.data.toList.drop 0 = dktX0_bestFor_0 := by decide +kernel
theorem dksX0_bestFor_1 : cX0_bestFor.data.toList.drop 24 = dktX0_bestFor_1 := dk_seg dksX0_bestFor_0 24 rfl rfl
theorem dksX0_bestFor_2 : cX0_bestFor.data.toList.drop 48 = dktX0_bestFor_2 := dk_seg dksX0_bestFor_1 24 rfl rfl
theorem dksX0_bestFor_3 : cX0_bestFor.data.toList.drop 72 = dktX0_bestFor_3 := dk_seg dksX0_bestFor_2 24 rfl rfl
theorem dksX0_bestFor_4 : cX0_bestFor.data.toList.drop 96 = dktX0_bestFor_4 := dk_seg dksX0_bestFor_3 24 rfl rfl
theorem dksX0_bestFor_5 : cX0_bestFor.data.toList.drop 120 = dktX0_bestFor_5 := dk_seg dksX0_bestFor_4 24 rfl rfl
theorem dksX0_bestFor_6 : cX0_bestFor.data.toList.drop 143 = dktX0_bestFor_6 := dk_seg dksX0_bestFor_5 23 rfl rfl
theorem dksX0_bestFor_7 : cX0_bestFor.data.toList.drop 166 = dktX0_bestFor_7 := dk_seg dksX0_bestFor_6 23 rfl rfl
theorem dX0_bestFor_0 : decode cX0_bestFor 0 = .ok (.iconst 0, 1) := dk_3 (dk_at dksX0_bestFor_0 0 rfl rfl)
theorem dX0_bestFor_1 : decode cX0_bestFor 1 = .ok (.istore 4, 2) := dk_54 4 (dk_at dksX0_bestFor_0 1 rfl rfl)
theorem dX0_bestFor_3 : decode cX0_bestFor 3 = .ok (.iconst 0, 1) := dk_3 (dk_at dksX0_bestFor_0 3 rfl rfl)
theorem dX0_bestFor_4 : decode cX0_bestFor 4 = .ok (.istore 5, 2) := dk_54 5 (dk_at dksX0_bestFor_0 4 rfl rfl)
theorem dX0_bestFor_6 : decode cX0_bestFor 6 = .ok (.iload 5, 2) := dk_21 5 (dk_at dksX0_bestFor_0 6 rfl rfl)
theorem dX0_bestFor_8 : decode cX0_bestFor 8 = .ok (.aload_n 0, 1) := dk_42 (dk_at dksX0_bestFor_0 8 rfl rfl)
theorem dX0_bestFor_9 : decode cX0_bestFor 9 = .ok (.getfield 10, 3) := dk_180 0 10 (dk_at dksX0_bestFor_0 9 rfl rfl)
theorem dX0_bestFor_12 : decode cX0_bestFor 12 = .ok (.getfield 104, 3) := dk_180 0 104 (dk_at dksX0_bestFor_0 12 rfl rfl)
theorem dX0_bestFor_15 : decode cX0_bestFor 15 = .ok (.if_icmp .ge 56, 3) := dk_162 0 56 (dk_at dksX0_bestFor_0 15 rfl rfl)
theorem dX0_bestFor_18 : decode cX0_bestFor 18 = .ok (.iload 4, 2) := dk_21 4 (dk_at dksX0_bestFor_0 18 rfl rfl)
theorem dX0_bestFor_20 : decode cX0_bestFor 20 = .ok (.aload_n 0, 1) := dk_42 (dk_at dksX0_bestFor_0 20 rfl rfl)
theorem dX0_bestFor_21 : decode cX0_bestFor 21 = .ok (.getfield 10, 3) := dk_180 0 10 (dk_at dksX0_bestFor_0 21 rfl rfl)
theorem dX0_bestFor_24 : decode cX0_bestFor 24 = .ok (.getfield 132, 3) := dk_180 0 132 (dk_at dksX0_bestFor_1 0 rfl rfl)
theorem dX0_bestFor_27 : decode cX0_bestFor 27 = .ok (.iload 5, 2) := dk_21 5 (dk_at dksX0_bestFor_1 3 rfl rfl)
theorem dX0_bestFor_29 : decode cX0_bestFor 29 = .ok (.iaload, 1) := dk_46 (dk_at dksX0_bestFor_1 5 rfl rfl)
theorem dX0_bestFor_30 : decode cX0_bestFor 30 = .ok (.iload_n 1, 1) := dk_27 (dk_at dksX0_bestFor_1 6 rfl rfl)
theorem dX0_bestFor_31 : decode cX0_bestFor 31 = .ok (.if_icmp .ne 30, 3) := dk_160 0 30 (dk_at dksX0_bestFor_1 7 rfl rfl)
theorem dX0_bestFor_34 : decode cX0_bestFor 34 = .ok (.aload_n 0, 1) := dk_42 (dk_at dksX0_bestFor_1 10 rfl rfl)
theorem dX0_bestFor_35 : decode cX0_bestFor 35 = .ok (.getfield 10, 3) := dk_180 0 10 (dk_at dksX0_bestFor_1 11 rfl rfl)
theorem dX0_bestFor_38 : decode cX0_bestFor 38 = .ok (.getfield 135, 3) := dk_180 0 135 (dk_at dksX0_bestFor_1 14 rfl rfl)
theorem dX0_bestFor_41 : decode cX0_bestFor 41 = .ok (.iload 5, 2) := dk_21 5 (dk_at dksX0_bestFor_1 17 rfl rfl)
theorem dX0_bestFor_43 : decode cX0_bestFor 43 = .ok (.iaload, 1) := dk_46 (dk_at dksX0_bestFor_1 19 rfl rfl)
theorem dX0_bestFor_44 : decode cX0_bestFor 44 = .ok (.aload_n 0, 1) := dk_42 (dk_at dksX0_bestFor_1 20 rfl rfl)
theorem dX0_bestFor_45 : decode cX0_bestFor 45 = .ok (.getfield 19, 3) := dk_180 0 19 (dk_at dksX0_bestFor_1 21 rfl rfl)
theorem dX0_bestFor_48 : decode cX0_bestFor 48 = .ok (.getfield 160, 3) := dk_180 0 160 (dk_at dksX0_bestFor_2 0 rfl rfl)
theorem dX0_bestFor_51 : decode cX0_bestFor 51 = .ok (.if_icmp .lt 10, 3) := dk_161 0 10 (dk_at dksX0_bestFor_2 3 rfl rfl)
theorem dX0_bestFor_54 : decode cX0_bestFor 54 = .ok (.iconst 1, 1) := dk_4 (dk_at dksX0_bestFor_2 6 rfl rfl)
theorem dX0_bestFor_55 : decode cX0_bestFor 55 = .ok (.iload 5, 2) := dk_21 5 (dk_at dksX0_bestFor_2 7 rfl rfl)
theorem dX0_bestFor_57 : decode cX0_bestFor 57 = .ok (.ishl, 1) := dk_120 (dk_at dksX0_bestFor_2 9 rfl rfl)
theorem dX0_bestFor_58 : decode cX0_bestFor 58 = .ok (.goto 4, 3) := dk_167 0 4 (dk_at dksX0_bestFor_2 10 rfl rfl)
theorem dX0_bestFor_61 : decode cX0_bestFor 61 = .ok (.iconst 0, 1) := dk_3 (dk_at dksX0_bestFor_2 13 rfl rfl)
theorem dX0_bestFor_62 : decode cX0_bestFor 62 = .ok (.ior, 1) := dk_128 (dk_at dksX0_bestFor_2 14 rfl rfl)
theorem dX0_bestFor_63 : decode cX0_bestFor 63 = .ok (.istore 4, 2) := dk_54 4 (dk_at dksX0_bestFor_2 15 rfl rfl)
theorem dX0_bestFor_65 : decode cX0_bestFor 65 = .ok (.iinc 5 1, 3) := dk_132 5 1 (dk_at dksX0_bestFor_2 17 rfl rfl)
theorem dX0_bestFor_68 : decode cX0_bestFor 68 = .ok (.goto (-62), 3) := dk_167 255 194 (dk_at dksX0_bestFor_2 20 rfl rfl)
theorem dX0_bestFor_71 : decode cX0_bestFor 71 = .ok (.iconst (-1), 1) := dk_2 (dk_at dksX0_bestFor_2 23 rfl rfl)
theorem dX0_bestFor_72 : decode cX0_bestFor 72 = .ok (.istore 5, 2) := dk_54 5 (dk_at dksX0_bestFor_3 0 rfl rfl)
theorem dX0_bestFor_74 : decode cX0_bestFor 74 = .ok (.iconst 0, 1) := dk_3 (dk_at dksX0_bestFor_3 2 rfl rfl)
theorem dX0_bestFor_75 : decode cX0_bestFor 75 = .ok (.istore 6, 2) := dk_54 6 (dk_at dksX0_bestFor_3 3 rfl rfl)
theorem dX0_bestFor_77 : decode cX0_bestFor 77 = .ok (.iload 6, 2) := dk_21 6 (dk_at dksX0_bestFor_3 5 rfl rfl)
theorem dX0_bestFor_79 : decode cX0_bestFor 79 = .ok (.iload 4, 2) := dk_21 4 (dk_at dksX0_bestFor_3 7 rfl rfl)
theorem dX0_bestFor_81 : decode cX0_bestFor 81 = .ok (.if_icmp .gt 94, 3) := dk_163 0 94 (dk_at dksX0_bestFor_3 9 rfl rfl)
theorem dX0_bestFor_84 : decode cX0_bestFor 84 = .ok (.iconst 0, 1) := dk_3 (dk_at dksX0_bestFor_3 12 rfl rfl)
theorem dX0_bestFor_85 : decode cX0_bestFor 85 = .ok (.istore 7, 2) := dk_54 7 (dk_at dksX0_bestFor_3 13 rfl rfl)
theorem dX0_bestFor_87 : decode cX0_bestFor 87 = .ok (.iconst 0, 1) := dk_3 (dk_at dksX0_bestFor_3 15 rfl rfl)
theorem dX0_bestFor_88 : decode cX0_bestFor 88 = .ok (.istore 8, 2) := dk_54 8 (dk_at dksX0_bestFor_3 16 rfl rfl)
theorem dX0_bestFor_90 : decode cX0_bestFor 90 = .ok (.iload 8, 2) := dk_21 8 (dk_at dksX0_bestFor_3 18 rfl rfl)
theorem dX0_bestFor_92 : decode cX0_bestFor 92 = .ok (.aload_n 0, 1) := dk_42 (dk_at dksX0_bestFor_3 20 rfl rfl)
theorem dX0_bestFor_93 : decode cX0_bestFor 93 = .ok (.getfield 10, 3) := dk_180 0 10 (dk_at dksX0_bestFor_3 21 rfl rfl)
theorem dX0_bestFor_96 : decode cX0_bestFor 96 = .ok (.getfield 104, 3) := dk_180 0 104 (dk_at dksX0_bestFor_4 0 rfl rfl)
theorem dX0_bestFor_99 : decode cX0_bestFor 99 = .ok (.if_icmp .ge 32, 3) := dk_162 0 32 (dk_at dksX0_bestFor_4 3 rfl rfl)
theorem dX0_bestFor_102 : decode cX0_bestFor 102 = .ok (.iload 7, 2) := dk_21 7 (dk_at dksX0_bestFor_4 6 rfl rfl)
theorem dX0_bestFor_104 : decode cX0_bestFor 104 = .ok (.iload 6, 2) := dk_21 6 (dk_at dksX0_bestFor_4 8 rfl rfl)
theorem dX0_bestFor_106 : decode cX0_bestFor 106 = .ok (.iload 8, 2) := dk_21 8 (dk_at dksX0_bestFor_4 10 rfl rfl)
theorem dX0_bestFor_108 : decode cX0_bestFor 108 = .ok (.ishr, 1) := dk_122 (dk_at dksX0_bestFor_4 12 rfl rfl)
theorem dX0_bestFor_109 : decode cX0_bestFor 109 = .ok (.iconst 1, 1) := dk_4 (dk_at dksX0_bestFor_4 13 rfl rfl)
theorem dX0_bestFor_110 : decode cX0_bestFor 110 = .ok (.iand, 1) := dk_126 (dk_at dksX0_bestFor_4 14 rfl rfl)
theorem dX0_bestFor_111 : decode cX0_bestFor 111 = .ok (.aload_n 0, 1) := dk_42 (dk_at dksX0_bestFor_4 15 rfl rfl)
theorem dX0_bestFor_112 : decode cX0_bestFor 112 = .ok (.getfield 10, 3) := dk_180 0 10 (dk_at dksX0_bestFor_4 16 rfl rfl)
theorem dX0_bestFor_115 : decode cX0_bestFor 115 = .ok (.getfield 141, 3) := dk_180 0 141 (dk_at dksX0_bestFor_4 19 rfl rfl)
theorem dX0_bestFor_118 : decode cX0_bestFor 118 = .ok (.iload 8, 2) := dk_21 8 (dk_at dksX0_bestFor_4 22 rfl rfl)
theorem dX0_bestFor_120 : decode cX0_bestFor 120 = .ok (.iaload, 1) := dk_46 (dk_at dksX0_bestFor_5 0 rfl rfl)
theorem dX0_bestFor_121 : decode cX0_bestFor 121 = .ok (.imul, 1) := dk_104 (dk_at dksX0_bestFor_5 1 rfl rfl)
theorem dX0_bestFor_122 : decode cX0_bestFor 122 = .ok (.iadd, 1) := dk_96 (dk_at dksX0_bestFor_5 2 rfl rfl)
theorem dX0_bestFor_123 : decode cX0_bestFor 123 = .ok (.istore 7, 2) := dk_54 7 (dk_at dksX0_bestFor_5 3 rfl rfl)
theorem dX0_bestFor_125 : decode cX0_bestFor 125 = .ok (.iinc 8 1, 3) := dk_132 8 1 (dk_at dksX0_bestFor_5 5 rfl rfl)
theorem dX0_bestFor_128 : decode cX0_bestFor 128 = .ok (.goto (-38), 3) := dk_167 255 218 (dk_at dksX0_bestFor_5 8 rfl rfl)
theorem dX0_bestFor_131 : decode cX0_bestFor 131 = .ok (.iload 6, 2) := dk_21 6 (dk_at dksX0_bestFor_5 11 rfl rfl)
theorem dX0_bestFor_133 : decode cX0_bestFor 133 = .ok (.iload 4, 2) := dk_21 4 (dk_at dksX0_bestFor_5 13 rfl rfl)
theorem dX0_bestFor_135 : decode cX0_bestFor 135 = .ok (.iconst (-1), 1) := dk_2 (dk_at dksX0_bestFor_5 15 rfl rfl)
theorem dX0_bestFor_136 : decode cX0_bestFor 136 = .ok (.ixor, 1) := dk_130 (dk_at dksX0_bestFor_5 16 rfl rfl)
theorem dX0_bestFor_137 : decode cX0_bestFor 137 = .ok (.iand, 1) := dk_126 (dk_at dksX0_bestFor_5 17 rfl rfl)
theorem dX0_bestFor_138 : decode cX0_bestFor 138 = .ok (.ifCond .ne 31, 3) := dk_154 0 31 (dk_at dksX0_bestFor_5 18 rfl rfl)
theorem dX0_bestFor_141 : decode cX0_bestFor 141 = .ok (.iload 7, 2) := dk_21 7 (dk_at dksX0_bestFor_5 21 rfl rfl)
theorem dX0_bestFor_143 : decode cX0_bestFor 143 = .ok (.iload 5, 2) := dk_21 5 (dk_at dksX0_bestFor_6 0 rfl rfl)
theorem dX0_bestFor_145 : decode cX0_bestFor 145 = .ok (.if_icmp .le 24, 3) := dk_164 0 24 (dk_at dksX0_bestFor_6 2 rfl rfl)
theorem dX0_bestFor_148 : decode cX0_bestFor 148 = .ok (.aload_n 0, 1) := dk_42 (dk_at dksX0_bestFor_6 5 rfl rfl)
theorem dX0_bestFor_149 : decode cX0_bestFor 149 = .ok (.iload 6, 2) := dk_21 6 (dk_at dksX0_bestFor_6 6 rfl rfl)
theorem dX0_bestFor_151 : decode cX0_bestFor 151 = .ok (.iload_n 2, 1) := dk_28 (dk_at dksX0_bestFor_6 8 rfl rfl)
theorem dX0_bestFor_152 : decode cX0_bestFor 152 = .ok (.iload_n 3, 1) := dk_29 (dk_at dksX0_bestFor_6 9 rfl rfl)
theorem dX0_bestFor_153 : decode cX0_bestFor 153 = .ok (.invokevirtual 228, 3) := dk_182 0 228 (dk_at dksX0_bestFor_6 10 rfl rfl)
theorem dX0_bestFor_156 : decode cX0_bestFor 156 = .ok (.ifCond .eq 13, 3) := dk_153 0 13 (dk_at dksX0_bestFor_6 13 rfl rfl)
theorem dX0_bestFor_159 : decode cX0_bestFor 159 = .ok (.iload 7, 2) := dk_21 7 (dk_at dksX0_bestFor_6 16 rfl rfl)
theorem dX0_bestFor_161 : decode cX0_bestFor 161 = .ok (.istore 5, 2) := dk_54 5 (dk_at dksX0_bestFor_6 18 rfl rfl)
theorem dX0_bestFor_163 : decode cX0_bestFor 163 = .ok (.aload_n 0, 1) := dk_42 (dk_at dksX0_bestFor_6 20 rfl rfl)
theorem dX0_bestFor_164 : decode cX0_bestFor 164 = .ok (.iload 6, 2) := dk_21 6 (dk_at dksX0_bestFor_6 21 rfl rfl)
theorem dX0_bestFor_166 : decode cX0_bestFor 166 = .ok (.putfield 231, 3) := dk_181 0 231 (dk_at dksX0_bestFor_7 0 rfl rfl)
theorem dX0_bestFor_169 : decode cX0_bestFor 169 = .ok (.iinc 6 1, 3) := dk_132 6 1 (dk_at dksX0_bestFor_7 3 rfl rfl)
theorem dX0_bestFor_172 : decode cX0_bestFor 172 = .ok (.goto (-95), 3) := dk_167 255 161 (dk_at dksX0_bestFor_7 6 rfl rfl)
theorem dX0_bestFor_175 : decode cX0_bestFor 175 = .ok (.iload 5, 2) := dk_21 5 (dk_at dksX0_bestFor_7 9 rfl rfl)
theorem dX0_bestFor_177 : decode cX0_bestFor 177 = .ok (.ireturn, 1) := dk_172 (dk_at dksX0_bestFor_7 11 rfl rfl)
abbrev cX0_canKeep : ByteArray := prog_1_method_24_code
def yX0_canKeep : MethodName := ⟨RX0, "canKeep", "(III)Z"⟩
def dkwX0_canKeep_8 : List UInt8 := [21, 5, 163, 0, 5, 3, 172, 132, 5, 1, 167, 255, 67, 21, 4, 154, 0, 7, 4, 167, 0, 4, 3, 172]
abbrev dktX0_canKeep_8 : List UInt8 := dkwX0_canKeep_8 ++ []
def dkwX0_canKeep_7 : List UInt8 := [21, 4, 182, 0, 225, 54, 6, 21, 6, 16, 247, 159, 0, 20, 42, 180, 0, 10, 180, 0, 144, 21, 6, 46]
abbrev dktX0_canKeep_7 : List UInt8 := dkwX0_canKeep_7 ++ dktX0_canKeep_8
def dkwX0_canKeep_6 : List UInt8 := [46, 154, 0, 12, 4, 21, 7, 120, 2, 130, 167, 0, 4, 2, 126, 54, 4, 132, 6, 1, 167, 255, 198, 42]
abbrev dktX0_canKeep_6 : List UInt8 := dkwX0_canKeep_6 ++ dktX0_canKeep_7
def dkwX0_canKeep_5 : List UInt8 := [182, 0, 225, 54, 7, 42, 180, 0, 31, 21, 7, 92, 46, 4, 100, 79, 21, 4, 42, 180, 0, 31, 21, 7]
abbrev dktX0_canKeep_5 : List UInt8 := dkwX0_canKeep_5 ++ dktX0_canKeep_6
def dkwX0_canKeep_4 : List UInt8 := [28, 164, 0, 5, 3, 172, 3, 54, 6, 21, 6, 29, 162, 0, 58, 21, 4, 153, 0, 53, 42, 21, 4]
abbrev dktX0_canKeep_4 : List UInt8 := dkwX0_canKeep_4 ++ dktX0_canKeep_5
def dkwX0_canKeep_3 : List UInt8 := [21, 6, 42, 180, 0, 10, 180, 0, 138, 21, 6, 46, 79, 132, 6, 1, 167, 255, 190, 21, 4, 184, 0, 220]
abbrev dktX0_canKeep_3 : List UInt8 := dkwX0_canKeep_3 ++ dktX0_canKeep_4
def dkwX0_canKeep_2 : List UInt8 := [180, 0, 135, 21, 6, 46, 21, 5, 160, 0, 29, 21, 4, 4, 21, 6, 120, 128, 54, 4, 42, 180, 0, 31]
abbrev dktX0_canKeep_2 : List UInt8 := dkwX0_canKeep_2 ++ dktX0_canKeep_3
def dkwX0_canKeep_1 : List UInt8 := [42, 180, 0, 10, 180, 0, 104, 162, 0, 60, 27, 21, 6, 122, 4, 126, 4, 160, 0, 44, 42, 180, 0, 10]
abbrev dktX0_canKeep_1 : List UInt8 := dkwX0_canKeep_1 ++ dktX0_canKeep_2
def dkwX0_canKeep_0 : List UInt8 := [3, 54, 4, 42, 180, 0, 19, 180, 0, 160, 54, 5, 21, 5, 16, 9, 163, 0, 188, 3, 54, 6, 21, 6]
abbrev dktX0_canKeep_0 : List UInt8 := dkwX0_canKeep_0 ++ dktX0_canKeep_1
theorem dksX0_canKeep_0 : cX0_canKeep.data.toList.drop 0 = dktX0_canKeep_0 := by decide +kernel
theorem dksX0_canKeep_1 : cX0_canKeep.data.toList.drop 24 = dktX0_canKeep_1 := dk_seg dksX0_canKeep_0 24 rfl rfl
theorem dksX0_canKeep_2 : cX0_canKeep.data.toList.drop 48 = dktX0_canKeep_2 := dk_seg dksX0_canKeep_1 24 rfl rfl
theorem dksX0_canKeep_3 : cX0_canKeep.data.toList.drop 72 = dktX0_canKeep_3 := dk_seg dksX0_canKeep_2 24 rfl rfl
theorem dksX0_canKeep_4 : cX0_canKeep.data.toList.drop 96 = dktX0_canKeep_4 := dk_seg dksX0_canKeep_3 24 rfl rfl
theorem dksX0_canKeep_5 : cX0_canKeep.data.toList.drop 119 = dktX0_canKeep_5 := dk_seg dksX0_canKeep_4 23 rfl rfl
theorem dksX0_canKeep_6 : cX0_canKeep.data.toList.drop 143 = dktX0_canKeep_6 := dk_seg dksX0_canKeep_5 24 rfl rfl
theorem dksX0_canKeep_7 : cX0_canKeep.data.toList.drop 167 = dktX0_canKeep_7 := dk_seg dksX0_canKeep_6 24 rfl rfl
theorem dksX0_canKeep_8 : cX0_canKeep.data.toList.drop 191 = dktX0_canKeep_8 := dk_seg dksX0_canKeep_7 24 rfl rfl
theorem dX0_canKeep_0 : decode cX0_canKeep 0 = .ok (.iconst 0, 1) := dk_3 (dk_at dksX0_canKeep_0 0 rfl rfl)
theorem dX0_canKeep_1 : decode cX0_canKeep 1 = .ok (.istore 4, 2) := dk_54 4 (dk_at dksX0_canKeep_0 1 rfl rfl)
theorem dX0_canKeep_3 : decode cX0_canKeep 3 = .ok (.aload_n 0, 1) := dk_42 (dk_at dksX0_canKeep_0 3 rfl rfl)
theorem dX0_canKeep_4 : decode cX0_canKeep 4 = .ok (.getfield 19, 3) := dk_180 0 19 (dk_at dksX0_canKeep_0 4 rfl rfl)
theorem dX0_canKeep_7 : decode cX0_canKeep 7 = .ok (.getfield 160, 3) := dk_180 0 160 (dk_at dksX0_canKeep_0 7 rfl rfl)
theorem dX0_canKeep_10 : decode cX0_canKeep 10 = .ok (.istore 5, 2) := dk_54 5 (dk_at dksX0_canKeep_0 10 rfl rfl)
theorem dX0_canKeep_12 : decode cX0_canKeep 12 = .ok (.iload 5, 2) := dk_21 5 (dk_at dksX0_canKeep_0 12 rfl rfl)
theorem dX0_canKeep_14 : decode cX0_canKeep 14 = .ok (.bipush 9, 2) := dk_16 9 (dk_at dksX0_canKeep_0 14 rfl rfl)
theorem dX0_canKeep_16 : decode cX0_canKeep 16 = .ok (.if_icmp .gt 188, 3) := dk_163 0 188 (dk_at dksX0_canKeep_0 16 rfl rfl)
theorem dX0_canKeep_19 : decode cX0_canKeep 19 = .ok (.iconst 0, 1) := dk_3 (dk_at dksX0_canKeep_0 19 rfl rfl)
theorem dX0_canKeep_20 : decode cX0_canKeep 20 = .ok (.istore 6, 2) := dk_54 6 (dk_at dksX0_canKeep_0 20 rfl rfl)
theorem dX0_canKeep_22 : decode cX0_canKeep 22 = .ok (.iload 6, 2) := dk_21 6 (dk_at dksX0_canKeep_0 22 rfl rfl)
theorem dX0_canKeep_24 : decode cX0_canKeep 24 = .ok (.aload_n 0, 1) := dk_42 (dk_at dksX0_canKeep_1 0 rfl rfl)
theorem dX0_canKeep_25 : decode cX0_canKeep 25 = .ok (.getfield 10, 3) := dk_180 0 10 (dk_at dksX0_canKeep_1 1 rfl rfl)
theorem dX0_canKeep_28 : decode cX0_canKeep 28 = .ok (.getfield 104, 3) := dk_180 0 104 (dk_at dksX0_canKeep_1 4 rfl rfl)
theorem dX0_canKeep_31 : decode cX0_canKeep 31 = .ok (.if_icmp .ge 60, 3) := dk_162 0 60 (dk_at dksX0_canKeep_1 7 rfl rfl)
theorem dX0_canKeep_34 : decode cX0_canKeep 34 = .ok (.iload_n 1, 1) := dk_27 (dk_at dksX0_canKeep_1 10 rfl rfl)
theorem dX0_canKeep_35 : decode cX0_canKeep 35 = .ok (.iload 6, 2) := dk_21 6 (dk_at dksX0_canKeep_1 11 rfl rfl)
theorem dX0_canKeep_37 : decode cX0_canKeep 37 = .ok (.ishr, 1) := dk_122 (dk_at dksX0_canKeep_1 13 rfl rfl)
theorem dX0_canKeep_38 : decode cX0_canKeep 38 = .ok (.iconst 1, 1) := dk_4 (dk_at dksX0_canKeep_1 14 rfl rfl)
theorem dX0_canKeep_39 : decode cX0_canKeep 39 = .ok (.iand, 1) := dk_126 (dk_at dksX0_canKeep_1 15 rfl rfl)
theorem dX0_canKeep_40 : decode cX0_canKeep 40 = .ok (.iconst 1, 1) := dk_4 (dk_at dksX0_canKeep_1 16 rfl rfl)
theorem dX0_canKeep_41 : decode cX0_canKeep 41 = .ok (.if_icmp .ne 44, 3) := dk_160 0 44 (dk_at dksX0_canKeep_1 17 rfl rfl)
theorem dX0_canKeep_44 : decode cX0_canKeep 44 = .ok (.aload_n 0, 1) := dk_42 (dk_at dksX0_canKeep_1 20 rfl rfl)
theorem dX0_canKeep_45 : decode cX0_canKeep 45 = .ok (.getfield 10, 3) := dk_180 0 10 (dk_at dksX0_canKeep_1 21 rfl rfl)
theorem dX0_canKeep_48 : decode cX0_canKeep 48 = .ok (.getfield 135, 3) := dk_180 0 135 (dk_at dksX0_canKeep_2 0 rfl rfl)
theorem dX0_canKeep_51 : decode cX0_canKeep 51 = .ok (.iload 6, 2) := dk_21 6 (dk_at dksX0_canKeep_2 3 rfl rfl)
theorem dX0_canKeep_53 : decode cX0_canKeep 53 = .ok (.iaload, 1) := dk_46 (dk_at dksX0_canKeep_2 5 rfl rfl)
theorem dX0_canKeep_54 : decode cX0_canKeep 54 = .ok (.iload 5, 2) := dk_21 5 (dk_at dksX0_canKeep_2 6 rfl rfl)
theorem dX0_canKeep_56 : decode cX0_canKeep 56 = .ok (.if_icmp .ne 29, 3) := dk_160 0 29 (dk_at dksX0_canKeep_2 8 rfl rfl)
theorem dX0_canKeep_59 : decode cX0_canKeep 59 = .ok (.iload 4, 2) := dk_21 4 (dk_at dksX0_canKeep_2 11 rfl rfl)
theorem dX0_canKeep_61 : decode cX0_canKeep 61 = .ok (.iconst 1, 1) := dk_4 (dk_at dksX0_canKeep_2 13 rfl rfl)
theorem dX0_canKeep_62 : decode cX0_canKeep 62 = .ok (.iload 6, 2) := dk_21 6 (dk_at dksX0_canKeep_2 14 rfl rfl)
theorem dX0_canKeep_64 : decode cX0_canKeep 64 = .ok (.ishl, 1) := dk_120 (dk_at dksX0_canKeep_2 16 rfl rfl)
theorem dX0_canKeep_65 : decode cX0_canKeep 65 = .ok (.ior, 1) := dk_128 (dk_at dksX0_canKeep_2 17 rfl rfl)
theorem dX0_canKeep_66 : decode cX0_canKeep 66 = .ok (.istore 4, 2) := dk_54 4 (dk_at dksX0_canKeep_2 18 rfl rfl)
theorem dX0_canKeep_68 : decode cX0_canKeep 68 = .ok (.aload_n 0, 1) := dk_42 (dk_at dksX0_canKeep_2 20 rfl rfl)
theorem dX0_canKeep_69 : decode cX0_canKeep 69 = .ok (.getfield 31, 3) := dk_180 0 31 (dk_at dksX0_canKeep_2 21 rfl rfl)
theorem dX0_canKeep_72 : decode cX0_canKeep 72 = .ok (.iload 6, 2) := dk_21 6 (dk_at dksX0_canKeep_3 0 rfl rfl)
theorem dX0_canKeep_74 : decode cX0_canKeep 74 = .ok (.aload_n 0, 1) := dk_42 (dk_at dksX0_canKeep_3 2 rfl rfl)
theorem dX0_canKeep_75 : decode cX0_canKeep 75 = .ok (.getfield 10, 3) := dk_180 0 10 (dk_at dksX0_canKeep_3 3 rfl rfl)
theorem dX0_canKeep_78 : decode cX0_canKeep 78 = .ok (.getfield 138, 3) := dk_180 0 138 (dk_at dksX0_canKeep_3 6 rfl rfl)
theorem dX0_canKeep_81 : decode cX0_canKeep 81 = .ok (.iload 6, 2) := dk_21 6 (dk_at dksX0_canKeep_3 9 rfl rfl)
theorem dX0_canKeep_83 : decode cX0_canKeep 83 = .ok (.iaload, 1) := dk_46 (dk_at dksX0_canKeep_3 11 rfl rfl)
theorem dX0_canKeep_84 : decode cX0_canKeep 84 = .ok (.iastore, 1) := dk_79 (dk_at dksX0_canKeep_3 12 rfl rfl)
theorem dX0_canKeep_85 : decode cX0_canKeep 85 = .ok (.iinc 6 1, 3) := dk_132 6 1 (dk_at dksX0_canKeep_3 13 rfl rfl)
theorem dX0_canKeep_88 : decode cX0_canKeep 88 = .ok (.goto (-66), 3) := dk_167 255 190 (dk_at dksX0_canKeep_3 16 rfl rfl)
theorem dX0_canKeep_91 : decode cX0_canKeep 91 = .ok (.iload 4, 2) := dk_21 4 (dk_at dksX0_canKeep_3 19 rfl rfl)
theorem dX0_canKeep_93 : decode cX0_canKeep 93 = .ok (.invokestatic 220, 3) := dk_184 0 220 (dk_at dksX0_canKeep_3 21 rfl rfl)
theorem dX0_canKeep_96 : decode cX0_canKeep 96 = .ok (.iload_n 2, 1) := dk_28 (dk_at dksX0_canKeep_4 0 rfl rfl)
theorem dX0_canKeep_97 : decode cX0_canKeep 97 = .ok (.if_icmp .le 5, 3) := dk_164 0 5 (dk_at dksX0_canKeep_4 1 rfl rfl)
theorem dX0_canKeep_100 : decode cX0_canKeep 100 = .ok (.iconst 0, 1) := dk_3 (dk_at dksX0_canKeep_4 4 rfl rfl)
theorem dX0_canKeep_101 : decode cX0_canKeep 101 = .ok (.ireturn, 1) := dk_172 (dk_at dksX0_canKeep_4 5 rfl rfl)
theorem dX0_canKeep_102 : decode cX0_canKeep 102 = .ok (.iconst 0, 1) := dk_3 (dk_at dksX0_canKeep_4 6 rfl rfl)
theorem dX0_canKeep_103 : decode cX0_canKeep 103 = .ok (.istore 6, 2) := dk_54 6 (dk_at dksX0_canKeep_4 7 rfl rfl)
theorem dX0_canKeep_105 : decode cX0_canKeep 105 = .ok (.iload 6, 2) := dk_21 6 (dk_at dksX0_canKeep_4 9 rfl rfl)
theorem dX0_canKeep_107 : decode cX0_canKeep 107 = .ok (.iload_n 3, 1) := dk_29 (dk_at dksX0_canKeep_4 11 rfl rfl)
theorem dX0_canKeep_108 : decode cX0_canKeep 108 = .ok (.if_icmp .ge 58, 3) := dk_162 0 58 (dk_at dksX0_canKeep_4 12 rfl rfl)
theorem dX0_canKeep_111 : decode cX0_canKeep 111 = .ok (.iload 4, 2) := dk_21 4 (dk_at dksX0_canKeep_4 15 rfl rfl)
theorem dX0_canKeep_113 : decode cX0_canKeep 113 = .ok (.ifCond .eq 53, 3) := dk_153 0 53 (dk_at dksX0_canKeep_4 17 rfl rfl)
theorem dX0_canKeep_116 : decode cX0_canKeep 116 = .ok (.aload_n 0, 1) := dk_42 (dk_at dksX0_canKeep_4 20 rfl rfl)
theorem dX0_canKeep_117 : decode cX0_canKeep 117 = .ok (.iload 4, 2) := dk_21 4 (dk_at dksX0_canKeep_4 21 rfl rfl)
theorem dX0_canKeep_119 : decode cX0_canKeep 119 = .ok (.invokevirtual 225, 3) := dk_182 0 225 (dk_at dksX0_canKeep_5 0 rfl rfl)
theorem dX0_canKeep_122 : decode cX0_canKeep 122 = .ok (.istore 7, 2) := dk_54 7 (dk_at dksX0_canKeep_5 3 rfl rfl)
theorem dX0_canKeep_124 : decode cX0_canKeep 124 = .ok (.aload_n 0, 1) := dk_42 (dk_at dksX0_canKeep_5 5 rfl rfl)
theorem dX0_canKeep_125 : decode cX0_canKeep 125 = .ok (.getfield 31, 3) := dk_180 0 31 (dk_at dksX0_canKeep_5 6 rfl rfl)
theorem dX0_canKeep_128 : decode cX0_canKeep 128 = .ok (.iload 7, 2) := dk_21 7 (dk_at dksX0_canKeep_5 9 rfl rfl)
theorem dX0_canKeep_130 : decode cX0_canKeep 130 = .ok (.dup2, 1) := dk_92 (dk_at dksX0_canKeep_5 11 rfl rfl)
theorem dX0_canKeep_131 : decode cX0_canKeep 131 = .ok (.iaload, 1) := dk_46 (dk_at dksX0_canKeep_5 12 rfl rfl)
theorem dX0_canKeep_132 : decode cX0_canKeep 132 = .ok (.iconst 1, 1) := dk_4 (dk_at dksX0_canKeep_5 13 rfl rfl)
theorem dX0_canKeep_133 : decode cX0_canKeep 133 = .ok (.isub, 1) := dk_100 (dk_at dksX0_canKeep_5 14 rfl rfl)
theorem dX0_canKeep_134 : decode cX0_canKeep 134 = .ok (.iastore, 1) := dk_79 (dk_at dksX0_canKeep_5 15 rfl rfl)
theorem dX0_canKeep_135 : decode cX0_canKeep 135 = .ok (.iload 4, 2) := dk_21 4 (dk_at dksX0_canKeep_5 16 rfl rfl)
theorem dX0_canKeep_137 : decode cX0_canKeep 137 = .ok (.aload_n 0, 1) := dk_42 (dk_at dksX0_canKeep_5 18 rfl rfl)
theorem dX0_canKeep_138 : decode cX0_canKeep 138 = .ok (.getfield 31, 3) := dk_180 0 31 (dk_at dksX0_canKeep_5 19 rfl rfl)
theorem dX0_canKeep_141 : decode cX0_canKeep 141 = .ok (.iload 7, 2) := dk_21 7 (dk_at dksX0_canKeep_5 22 rfl rfl)
theorem dX0_canKeep_143 : decode cX0_canKeep 143 = .ok (.iaload, 1) := dk_46 (dk_at dksX0_canKeep_6 0 rfl rfl)
theorem dX0_canKeep_144 : decode cX0_canKeep 144 = .ok (.ifCond .ne 12, 3) := dk_154 0 12 (dk_at dksX0_canKeep_6 1 rfl rfl)
theorem dX0_canKeep_147 : decode cX0_canKeep 147 = .ok (.iconst 1, 1) := dk_4 (dk_at dksX0_canKeep_6 4 rfl rfl)
theorem dX0_canKeep_148 : decode cX0_canKeep 148 = .ok (.iload 7, 2) := dk_21 7 (dk_at dksX0_canKeep_6 5 rfl rfl)
theorem dX0_canKeep_150 : decode cX0_canKeep 150 = .ok (.ishl, 1) := dk_120 (dk_at dksX0_canKeep_6 7 rfl rfl)
theorem dX0_canKeep_151 : decode cX0_canKeep 151 = .ok (.iconst (-1), 1) := dk_2 (dk_at dksX0_canKeep_6 8 rfl rfl)
theorem dX0_canKeep_152 : decode cX0_canKeep 152 = .ok (.ixor, 1) := dk_130 (dk_at dksX0_canKeep_6 9 rfl rfl)
theorem dX0_canKeep_153 : decode cX0_canKeep 153 = .ok (.goto 4, 3) := dk_167 0 4 (dk_at dksX0_canKeep_6 10 rfl rfl)
theorem dX0_canKeep_156 : decode cX0_canKeep 156 = .ok (.iconst (-1), 1) := dk_2 (dk_at dksX0_canKeep_6 13 rfl rfl)
theorem dX0_canKeep_157 : decode cX0_canKeep 157 = .ok (.iand, 1) := dk_126 (dk_at dksX0_canKeep_6 14 rfl rfl)
theorem dX0_canKeep_158 : decode cX0_canKeep 158 = .ok (.istore 4, 2) := dk_54 4 (dk_at dksX0_canKeep_6 15 rfl rfl)
theorem dX0_canKeep_160 : decode cX0_canKeep 160 = .ok (.iinc 6 1, 3) := dk_132 6 1 (dk_at dksX0_canKeep_6 17 rfl rfl)
theorem dX0_canKeep_163 : decode cX0_canKeep 163 = .ok (.goto (-58), 3) := dk_167 255 198 (dk_at dksX0_canKeep_6 20 rfl rfl)
theorem dX0_canKeep_166 : decode cX0_canKeep 166 = .ok (.aload_n 0, 1) := dk_42 (dk_at dksX0_canKeep_6 23 rfl rfl)
theorem dX0_canKeep_167 : decode cX0_canKeep 167 = .ok (.iload 4, 2) := dk_21 4 (dk_at dksX0_canKeep_7 0 rfl rfl)
theorem dX0_canKeep_169 : decode cX0_canKeep 169 = .ok (.invokevirtual 225, 3) := dk_182 0 225 (dk_at dksX0_canKeep_7 2 rfl rfl)
theorem dX0_canKeep_172 : decode cX0_canKeep 172 = .ok (.istore 6, 2) := dk_54 6 (dk_at dksX0_canKeep_7 5 rfl rfl)
theorem dX0_canKeep_174 : decode cX0_canKeep 174 = .ok (.iload 6, 2) := dk_21 6 (dk_at dksX0_canKeep_7 7 rfl rfl)
theorem dX0_canKeep_176 : decode cX0_canKeep 176 = .ok (.bipush (-9), 2) := dk_16 247 (dk_at dksX0_canKeep_7 9 rfl rfl)
theorem dX0_canKeep_178 : decode cX0_canKeep 178 = .ok (.if_icmp .eq 20, 3) := dk_159 0 20 (dk_at dksX0_canKeep_7 11 rfl rfl)
theorem dX0_canKeep_181 : decode cX0_canKeep 181 = .ok (.aload_n 0, 1) := dk_42 (dk_at dksX0_canKeep_7 14 rfl rfl)
theorem dX0_canKeep_182 : decode cX0_canKeep 182 = .ok (.getfield 10, 3) := dk_180 0 10 (dk_at dksX0_canKeep_7 15 rfl rfl)
theorem dX0_canKeep_185 : decode cX0_canKeep 185 = .ok (.getfield 144, 3) := dk_180 0 144 (dk_at dksX0_canKeep_7 18 rfl rfl)
theorem dX0_canKeep_188 : decode cX0_canKeep 188 = .ok (.iload 6, 2) := dk_21 6 (dk_at dksX0_canKeep_7 21 rfl rfl)
theorem dX0_canKeep_190 : decode cX0_canKeep 190 = .ok (.iaload, 1) := dk_46 (dk_at dksX0_canKeep_7 23 rfl rfl)
theorem dX0_canKeep_191 : decode cX0_canKeep 191 = .ok (.iload 5, 2) := dk_21 5 (dk_at dksX0_canKeep_8 0 rfl rfl)
theorem dX0_canKeep_193 : decode cX0_canKeep 193 = .ok (.if_icmp .gt 5, 3) := dk_163 0 5 (dk_at dksX0_canKeep_8 2 rfl rfl)
theorem dX0_canKeep_196 : decode cX0_canKeep 196 = .ok (.iconst 0, 1) := dk_3 (dk_at dksX0_canKeep_8 5 rfl rfl)
theorem dX0_canKeep_197 : decode cX0_canKeep 197 = .ok (.ireturn, 1) := dk_172 (dk_at dksX0_canKeep_8 6 rfl rfl)
theorem dX0_canKeep_198 : decode cX0_canKeep 198 = .ok (.iinc 5 1, 3) := dk_132 5 1 (dk_at dksX0_canKeep_8 7 rfl rfl)
theorem dX0_canKeep_201 : decode cX0_canKeep 201 = .ok (.goto (-189), 3) := dk_167 255 67 (dk_at dksX0_canKeep_8 10 rfl rfl)
theorem dX0_canKeep_204 : decode cX0_canKeep 204 = .ok (.iload 4, 2) := dk_21 4 (dk_at dksX0_canKeep_8 13 rfl rfl)
theorem dX0_canKeep_206 : decode cX0_canKeep 206 = .ok (.ifCond .ne 7, 3) := dk_154 0 7 (dk_at dksX0_canKeep_8 15 rfl rfl)
theorem dX0_canKeep_209 : decode cX0_canKeep 209 = .ok (.iconst 1, 1) := dk_4 (dk_at dksX0_canKeep_8 18 rfl rfl)
theorem dX0_canKeep_210 : decode cX0_canKeep 210 = .ok (.goto 4, 3) := dk_167 0 4 (dk_at dksX0_canKeep_8 19 rfl rfl)
theorem dX0_canKeep_213 : decode cX0_canKeep 213 = .ok (.iconst 0, 1) := dk_3 (dk_at dksX0_canKeep_8 22 rfl rfl)
theorem dX0_canKeep_214 : decode cX0_canKeep 214 = .ok (.ireturn, 1) := dk_172 (dk_at dksX0_canKeep_8 23 rfl rfl)
abbrev cX0_nextDue : ByteArray := prog_1_method_23_code
def yX0_nextDue : MethodName := ⟨RX0, "nextDue", "(I)I"⟩
def dkwX0_nextDue_3 : List UInt8 := [28, 61, 132, 3, 1, 167, 255, 188, 28, 172]
abbrev dktX0_nextDue_3 : List UInt8 := dkwX0_nextDue_3 ++ []
def dkwX0_nextDue_2 : List UInt8 := [180, 0, 10, 180, 0, 144, 29, 46, 42, 180, 0, 10, 180, 0, 144, 28, 46, 162, 0, 7, 29, 167, 0, 4]
abbrev dktX0_nextDue_2 : List UInt8 := dkwX0_nextDue_2 ++ dktX0_nextDue_3
def dkwX0_nextDue_1 : List UInt8 := [160, 0, 7, 4, 167, 0, 4, 3, 54, 4, 21, 4, 153, 0, 34, 28, 16, 247, 159, 0, 24, 42]
abbrev dktX0_nextDue_1 : List UInt8 := dkwX0_nextDue_1 ++ dktX0_nextDue_2
def dkwX0_nextDue_0 : List UInt8 := [16, 247, 61, 3, 62, 29, 42, 180, 0, 10, 180, 0, 104, 162, 0, 63, 27, 29, 122, 4, 126, 4]
abbrev dktX0_nextDue_0 : List UInt8 := dkwX0_nextDue_0 ++ dktX0_nextDue_1
theorem dksX0_nextDue_0 : cX0_nextDue.data.toList.drop 0 = dktX0_nextDue_0 := by decide +kernel
theorem dksX0_nextDue_1 : cX0_nextDue.data.toList.drop 22 = dktX0_nextDue_1 := dk_seg dksX0_nextDue_0 22 rfl rfl
theorem dksX0_nextDue_2 : cX0_nextDue.data.toList.drop 44 = dktX0_nextDue_2 := dk_seg dksX0_nextDue_1 22 rfl rfl
theorem dksX0_nextDue_3 : cX0_nextDue.data.toList.drop 68 = dktX0_nextDue_3 := dk_seg dksX0_nextDue_2 24 rfl rfl
theorem dX0_nextDue_0 : decode cX0_nextDue 0 = .ok (.bipush (-9), 2) := dk_16 247 (dk_at dksX0_nextDue_0 0 rfl rfl)
theorem dX0_nextDue_2 : decode cX0_nextDue 2 = .ok (.istore_n 2, 1) := dk_61 (dk_at dksX0_nextDue_0 2 rfl rfl)
theorem dX0_nextDue_3 : decode cX0_nextDue 3 = .ok (.iconst 0, 1) := dk_3 (dk_at dksX0_nextDue_0 3 rfl rfl)
theorem dX0_nextDue_4 : decode cX0_nextDue 4 = .ok (.istore_n 3, 1) := dk_62 (dk_at dksX0_nextDue_0 4 rfl rfl)
theorem dX0_nextDue_5 : decode cX0_nextDue 5 = .ok (.iload_n 3, 1) := dk_29 (dk_at dksX0_nextDue_0 5 rfl rfl)
theorem dX0_nextDue_6 : decode cX0_nextDue 6 = .ok (.aload_n 0, 1) := dk_42 (dk_at dksX0_nextDue_0 6 rfl rfl)
theorem dX0_nextDue_7 : decode cX0_nextDue 7 = .ok (.getfield 10, 3) := dk_180 0 10 (dk_at dksX0_nextDue_0 7 rfl rfl)
theorem dX0_nextDue_10 : decode cX0_nextDue 10 = .ok (.getfield 104, 3) := dk_180 0 104 (dk_at dksX0_nextDue_0 10 rfl rfl)
theorem dX0_nextDue_13 : decode cX0_nextDue 13 = .ok (.if_icmp .ge 63, 3) := dk_162 0 63 (dk_at dksX0_nextDue_0 13 rfl rfl)
theorem dX0_nextDue_16 : decode cX0_nextDue 16 = .ok (.iload_n 1, 1) := dk_27 (dk_at dksX0_nextDue_0 16 rfl rfl)
theorem dX0_nextDue_17 : decode cX0_nextDue 17 = .ok (.iload_n 3, 1) := dk_29 (dk_at dksX0_nextDue_0 17 rfl rfl)
theorem dX0_nextDue_18 : decode cX0_nextDue 18 = .ok (.ishr, 1) := dk_122 (dk_at dksX0_nextDue_0 18 rfl rfl)
theorem dX0_nextDue_19 : decode cX0_nextDue 19 = .ok (.iconst 1, 1) := dk_4 (dk_at dksX0_nextDue_0 19 rfl rfl)
theorem dX0_nextDue_20 : decode cX0_nextDue 20 = .ok (.iand, 1) := dk_126 (dk_at dksX0_nextDue_0 20 rfl rfl)
theorem dX0_nextDue_21 : decode cX0_nextDue 21 = .ok (.iconst 1, 1) := dk_4 (dk_at dksX0_nextDue_0 21 rfl rfl)
theorem dX0_nextDue_22 : decode cX0_nextDue 22 = .ok (.if_icmp .ne 7, 3) := dk_160 0 7 (dk_at dksX0_nextDue_1 0 rfl rfl)
theorem dX0_nextDue_25 : decode cX0_nextDue 25 = .ok (.iconst 1, 1) := dk_4 (dk_at dksX0_nextDue_1 3 rfl rfl)
theorem dX0_nextDue_26 : decode cX0_nextDue 26 = .ok (.goto 4, 3) := dk_167 0 4 (dk_at dksX0_nextDue_1 4 rfl rfl)
theorem dX0_nextDue_29 : decode cX0_nextDue 29 = .ok (.iconst 0, 1) := dk_3 (dk_at dksX0_nextDue_1 7 rfl rfl)
theorem dX0_nextDue_30 : decode cX0_nextDue 30 = .ok (.istore 4, 2) := dk_54 4 (dk_at dksX0_nextDue_1 8 rfl rfl)
theorem dX0_nextDue_32 : decode cX0_nextDue 32 = .ok (.iload 4, 2) := dk_21 4 (dk_at dksX0_nextDue_1 10 rfl rfl)
theorem dX0_nextDue_34 : decode cX0_nextDue 34 = .ok (.ifCond .eq 34, 3) := dk_153 0 34 (dk_at dksX0_nextDue_1 12 rfl rfl)
theorem dX0_nextDue_37 : decode cX0_nextDue 37 = .ok (.iload_n 2, 1) := dk_28 (dk_at dksX0_nextDue_1 15 rfl rfl)
theorem dX0_nextDue_38 : decode cX0_nextDue 38 = .ok (.bipush (-9), 2) := dk_16 247 (dk_at dksX0_nextDue_1 16 rfl rfl)
theorem dX0_nextDue_40 : decode cX0_nextDue 40 = .ok (.if_icmp .eq 24, 3) := dk_159 0 24 (dk_at dksX0_nextDue_1 18 rfl rfl)
theorem dX0_nextDue_43 : decode cX0_nextDue 43 = .ok (.aload_n 0, 1) := dk_42 (dk_at dksX0_nextDue_1 21 rfl rfl)
theorem dX0_nextDue_44 : decode cX0_nextDue 44 = .ok (.getfield 10, 3) := dk_180 0 10 (dk_at dksX0_nextDue_2 0 rfl rfl)
theorem dX0_nextDue_47 : decode cX0_nextDue 47 = .ok (.getfield 144, 3) := dk_180 0 144 (dk_at dksX0_nextDue_2 3 rfl rfl)
theorem dX0_nextDue_50 : decode cX0_nextDue 50 = .ok (.iload_n 3, 1) := dk_29 (dk_at dksX0_nextDue_2 6 rfl rfl)
theorem dX0_nextDue_51 : decode cX0_nextDue 51 = .ok (.iaload, 1) := dk_46 (dk_at dksX0_nextDue_2 7 rfl rfl)
theorem dX0_nextDue_52 : decode cX0_nextDue 52 = .ok (.aload_n 0, 1) := dk_42 (dk_at dksX0_nextDue_2 8 rfl rfl)
theorem dX0_nextDue_53 : decode cX0_nextDue 53 = .ok (.getfield 10, 3) := dk_180 0 10 (dk_at dksX0_nextDue_2 9 rfl rfl)
theorem dX0_nextDue_56 : decode cX0_nextDue 56 = .ok (.getfield 144, 3) := dk_180 0 144 (dk_at dksX0_nextDue_2 12 rfl rfl)
theorem dX0_nextDue_59 : decode cX0_nextDue 59 = .ok (.iload_n 2, 1) := dk_28 (dk_at dksX0_nextDue_2 15 rfl rfl)
theorem dX0_nextDue_60 : decode cX0_nextDue 60 = .ok (.iaload, 1) := dk_46 (dk_at dksX0_nextDue_2 16 rfl rfl)
theorem dX0_nextDue_61 : decode cX0_nextDue 61 = .ok (.if_icmp .ge 7, 3) := dk_162 0 7 (dk_at dksX0_nextDue_2 17 rfl rfl)
theorem dX0_nextDue_64 : decode cX0_nextDue 64 = .ok (.iload_n 3, 1) := dk_29 (dk_at dksX0_nextDue_2 20 rfl rfl)
theorem dX0_nextDue_65 : decode cX0_nextDue 65 = .ok (.goto 4, 3) := dk_167 0 4 (dk_at dksX0_nextDue_2 21 rfl rfl)
theorem dX0_nextDue_68 : decode cX0_nextDue 68 = .ok (.iload_n 2, 1) := dk_28 (dk_at dksX0_nextDue_3 0 rfl rfl)
theorem dX0_nextDue_69 : decode cX0_nextDue 69 = .ok (.istore_n 2, 1) := dk_61 (dk_at dksX0_nextDue_3 1 rfl rfl)
theorem dX0_nextDue_70 : decode cX0_nextDue 70 = .ok (.iinc 3 1, 3) := dk_132 3 1 (dk_at dksX0_nextDue_3 2 rfl rfl)
theorem dX0_nextDue_73 : decode cX0_nextDue 73 = .ok (.goto (-68), 3) := dk_167 255 188 (dk_at dksX0_nextDue_3 5 rfl rfl)
theorem dX0_nextDue_76 : decode cX0_nextDue 76 = .ok (.iload_n 2, 1) := dk_28 (dk_at dksX0_nextDue_3 8 rfl rfl)
theorem dX0_nextDue_77 : decode cX0_nextDue 77 = .ok (.ireturn, 1) := dk_172 (dk_at dksX0_nextDue_3 9 rfl rfl)
abbrev cX0_bound : ByteArray := prog_1_method_27_code
def yX0_bound : MethodName := ⟨RX0, "bound", "(II)I"⟩
def dkwX0_bound_2 : List UInt8 := [180, 0, 111, 27, 46, 16, 99, 182, 0, 234, 172]
abbrev dktX0_bound_2 : List UInt8 := dkwX0_bound_2 ++ []
def dkwX0_bound_1 : List UInt8 := [27, 16, 8, 42, 180, 0, 10, 180, 0, 114, 27, 46, 182, 0, 234, 167, 0, 19, 42, 27, 42, 180, 0, 10]
abbrev dktX0_bound_1 : List UInt8 := dkwX0_bound_1 ++ dktX0_bound_2
def dkwX0_bound_0 : List UInt8 := [42, 27, 182, 0, 107, 153, 0, 12, 28, 3, 4, 184, 0, 74, 154, 0, 5, 2, 172, 28, 154, 0, 22, 42]
abbrev dktX0_bound_0 : List UInt8 := dkwX0_bound_0 ++ dktX0_bound_1
theorem dksX0_bound_0 : cX0_bound.data.toList.drop 0 = dktX0_bound_0 := by decide +kernel
theorem dksX0_bound_1 : cX0_bound.data.toList.drop 24 = dktX0_bound_1 := dk_seg dksX0_bound_0 24 rfl rfl
theorem dksX0_bound_2 : cX0_bound.data.toList.drop 48 = dktX0_bound_2 := dk_seg dksX0_bound_1 24 rfl rfl
theorem dX0_bound_0 : decode cX0_bound 0 = .ok (.aload_n 0, 1) := dk_42 (dk_at dksX0_bound_0 0 rfl rfl)
theorem dX0_bound_1 : decode cX0_bound 1 = .ok (.iload_n 1, 1) := dk_27 (dk_at dksX0_bound_0 1 rfl rfl)
theorem dX0_bound_2 : decode cX0_bound 2 = .ok (.invokevirtual 107, 3) := dk_182 0 107 (dk_at dksX0_bound_0 2 rfl rfl)
theorem dX0_bound_5 : decode cX0_bound 5 = .ok (.ifCond .eq 12, 3) := dk_153 0 12 (dk_at dksX0_bound_0 5 rfl rfl)
theorem dX0_bound_8 : decode cX0_bound 8 = .ok (.iload_n 2, 1) := dk_28 (dk_at dksX0_bound_0 8 rfl rfl)
theorem dX0_bound_9 : decode cX0_bound 9 = .ok (.iconst 0, 1) := dk_3 (dk_at dksX0_bound_0 9 rfl rfl)
theorem dX0_bound_10 : decode cX0_bound 10 = .ok (.iconst 1, 1) := dk_4 (dk_at dksX0_bound_0 10 rfl rfl)
theorem dX0_bound_11 : decode cX0_bound 11 = .ok (.invokestatic 74, 3) := dk_184 0 74 (dk_at dksX0_bound_0 11 rfl rfl)
theorem dX0_bound_14 : decode cX0_bound 14 = .ok (.ifCond .ne 5, 3) := dk_154 0 5 (dk_at dksX0_bound_0 14 rfl rfl)
theorem dX0_bound_17 : decode cX0_bound 17 = .ok (.iconst (-1), 1) := dk_2 (dk_at dksX0_bound_0 17 rfl rfl)
theorem dX0_bound_18 : decode cX0_bound 18 = .ok (.ireturn, 1) := dk_172 (dk_at dksX0_bound_0 18 rfl rfl)
theorem dX0_bound_19 : decode cX0_bound 19 = .ok (.iload_n 2, 1) := dk_28 (dk_at dksX0_bound_0 19 rfl rfl)
theorem dX0_bound_20 : decode cX0_bound 20 = .ok (.ifCond .ne 22, 3) := dk_154 0 22 (dk_at dksX0_bound_0 20 rfl rfl)
theorem dX0_bound_23 : decode cX0_bound 23 = .ok (.aload_n 0, 1) := dk_42 (dk_at dksX0_bound_0 23 rfl rfl)
theorem dX0_bound_24 : decode cX0_bound 24 = .ok (.iload_n 1, 1) := dk_27 (dk_at dksX0_bound_1 0 rfl rfl)
theorem dX0_bound_25 : decode cX0_bound 25 = .ok (.bipush 8, 2) := dk_16 8 (dk_at dksX0_bound_1 1 rfl rfl)
theorem dX0_bound_27 : decode cX0_bound 27 = .ok (.aload_n 0, 1) := dk_42 (dk_at dksX0_bound_1 3 rfl rfl)
theorem dX0_bound_28 : decode cX0_bound 28 = .ok (.getfield 10, 3) := dk_180 0 10 (dk_at dksX0_bound_1 4 rfl rfl)
theorem dX0_bound_31 : decode cX0_bound 31 = .ok (.getfield 114, 3) := dk_180 0 114 (dk_at dksX0_bound_1 7 rfl rfl)
theorem dX0_bound_34 : decode cX0_bound 34 = .ok (.iload_n 1, 1) := dk_27 (dk_at dksX0_bound_1 10 rfl rfl)
theorem dX0_bound_35 : decode cX0_bound 35 = .ok (.iaload, 1) := dk_46 (dk_at dksX0_bound_1 11 rfl rfl)
theorem dX0_bound_36 : decode cX0_bound 36 = .ok (.invokevirtual 234, 3) := dk_182 0 234 (dk_at dksX0_bound_1 12 rfl rfl)
theorem dX0_bound_39 : decode cX0_bound 39 = .ok (.goto 19, 3) := dk_167 0 19 (dk_at dksX0_bound_1 15 rfl rfl)
theorem dX0_bound_42 : decode cX0_bound 42 = .ok (.aload_n 0, 1) := dk_42 (dk_at dksX0_bound_1 18 rfl rfl)
theorem dX0_bound_43 : decode cX0_bound 43 = .ok (.iload_n 1, 1) := dk_27 (dk_at dksX0_bound_1 19 rfl rfl)
theorem dX0_bound_44 : decode cX0_bound 44 = .ok (.aload_n 0, 1) := dk_42 (dk_at dksX0_bound_1 20 rfl rfl)
theorem dX0_bound_45 : decode cX0_bound 45 = .ok (.getfield 10, 3) := dk_180 0 10 (dk_at dksX0_bound_1 21 rfl rfl)
theorem dX0_bound_48 : decode cX0_bound 48 = .ok (.getfield 111, 3) := dk_180 0 111 (dk_at dksX0_bound_2 0 rfl rfl)
theorem dX0_bound_51 : decode cX0_bound 51 = .ok (.iload_n 1, 1) := dk_27 (dk_at dksX0_bound_2 3 rfl rfl)
theorem dX0_bound_52 : decode cX0_bound 52 = .ok (.iaload, 1) := dk_46 (dk_at dksX0_bound_2 4 rfl rfl)
theorem dX0_bound_53 : decode cX0_bound 53 = .ok (.bipush 99, 2) := dk_16 99 (dk_at dksX0_bound_2 5 rfl rfl)
theorem dX0_bound_55 : decode cX0_bound 55 = .ok (.invokevirtual 234, 3) := dk_182 0 234 (dk_at dksX0_bound_2 7 rfl rfl)
theorem dX0_bound_58 : decode cX0_bound 58 = .ok (.ireturn, 1) := dk_172 (dk_at dksX0_bound_2 10 rfl rfl)
abbrev cX0_sort : ByteArray := prog_1_method_29_code
def yX0_sort : MethodName := ⟨RX0, "sort", "(IIII)I"⟩
def dkwX0_sort_3 : List UInt8 := [29, 79, 42, 180, 0, 41, 27, 21, 4, 79, 42, 182, 0, 238, 172]
abbrev dktX0_sort_3 : List UInt8 := dkwX0_sort_3 ++ []
def dkwX0_sort_2 : List UInt8 := [27, 46, 100, 28, 96, 16, 10, 164, 0, 5, 2, 172, 42, 180, 0, 35, 27, 28, 79, 42, 180, 0, 38, 27]
abbrev dktX0_sort_2 : List UInt8 := dkwX0_sort_2 ++ dktX0_sort_3
def dkwX0_sort_1 : List UInt8 := [184, 0, 74, 153, 0, 31, 21, 4, 4, 6, 184, 0, 74, 153, 0, 21, 42, 182, 0, 238, 42, 180, 0, 35]
abbrev dktX0_sort_1 : List UInt8 := dkwX0_sort_1 ++ dktX0_sort_2
def dkwX0_sort_0 : List UInt8 := [27, 3, 5, 184, 0, 74, 153, 0, 51, 28, 3, 16, 10, 184, 0, 74, 153, 0, 41, 29, 4, 16, 99]
abbrev dktX0_sort_0 : List UInt8 := dkwX0_sort_0 ++ dktX0_sort_1
theorem dksX0_sort_0 : cX0_sort.data.toList.drop 0 = dktX0_sort_0 := by decide +kernel
theorem dksX0_sort_1 : cX0_sort.data.toList.drop 23 = dktX0_sort_1 := dk_seg dksX0_sort_0 23 rfl rfl
theorem dksX0_sort_2 : cX0_sort.data.toList.drop 47 = dktX0_sort_2 := dk_seg dksX0_sort_1 24 rfl rfl
theorem dksX0_sort_3 : cX0_sort.data.toList.drop 71 = dktX0_sort_3 := dk_seg dksX0_sort_2 24 rfl rfl
theorem dX0_sort_0 : decode cX0_sort 0 = .ok (.iload_n 1, 1) := dk_27 (dk_at dksX0_sort_0 0 rfl rfl)
theorem dX0_sort_1 : decode cX0_sort 1 = .ok (.iconst 0, 1) := dk_3 (dk_at dksX0_sort_0 1 rfl rfl)
theorem dX0_sort_2 : decode cX0_sort 2 = .ok (.iconst 2, 1) := dk_5 (dk_at dksX0_sort_0 2 rfl rfl)
theorem dX0_sort_3 : decode cX0_sort 3 = .ok (.invokestatic 74, 3) := dk_184 0 74 (dk_at dksX0_sort_0 3 rfl rfl)
theorem dX0_sort_6 : decode cX0_sort 6 = .ok (.ifCond .eq 51, 3) := dk_153 0 51 (dk_at dksX0_sort_0 6 rfl rfl)
theorem dX0_sort_9 : decode cX0_sort 9 = .ok (.iload_n 2, 1) := dk_28 (dk_at dksX0_sort_0 9 rfl rfl)
theorem dX0_sort_10 : decode cX0_sort 10 = .ok (.iconst 0, 1) := dk_3 (dk_at dksX0_sort_0 10 rfl rfl)
theorem dX0_sort_11 : decode cX0_sort 11 = .ok (.bipush 10, 2) := dk_16 10 (dk_at dksX0_sort_0 11 rfl rfl)
theorem dX0_sort_13 : decode cX0_sort 13 = .ok (.invokestatic 74, 3) := dk_184 0 74 (dk_at dksX0_sort_0 13 rfl rfl)
theorem dX0_sort_16 : decode cX0_sort 16 = .ok (.ifCond .eq 41, 3) := dk_153 0 41 (dk_at dksX0_sort_0 16 rfl rfl)
theorem dX0_sort_19 : decode cX0_sort 19 = .ok (.iload_n 3, 1) := dk_29 (dk_at dksX0_sort_0 19 rfl rfl)
theorem dX0_sort_20 : decode cX0_sort 20 = .ok (.iconst 1, 1) := dk_4 (dk_at dksX0_sort_0 20 rfl rfl)
theorem dX0_sort_21 : decode cX0_sort 21 = .ok (.bipush 99, 2) := dk_16 99 (dk_at dksX0_sort_0 21 rfl rfl)
theorem dX0_sort_23 : decode cX0_sort 23 = .ok (.invokestatic 74, 3) := dk_184 0 74 (dk_at dksX0_sort_1 0 rfl rfl)
theorem dX0_sort_26 : decode cX0_sort 26 = .ok (.ifCond .eq 31, 3) := dk_153 0 31 (dk_at dksX0_sort_1 3 rfl rfl)
theorem dX0_sort_29 : decode cX0_sort 29 = .ok (.iload 4, 2) := dk_21 4 (dk_at dksX0_sort_1 6 rfl rfl)
theorem dX0_sort_31 : decode cX0_sort 31 = .ok (.iconst 1, 1) := dk_4 (dk_at dksX0_sort_1 8 rfl rfl)
theorem dX0_sort_32 : decode cX0_sort 32 = .ok (.iconst 3, 1) := dk_6 (dk_at dksX0_sort_1 9 rfl rfl)
theorem dX0_sort_33 : decode cX0_sort 33 = .ok (.invokestatic 74, 3) := dk_184 0 74 (dk_at dksX0_sort_1 10 rfl rfl)
theorem dX0_sort_36 : decode cX0_sort 36 = .ok (.ifCond .eq 21, 3) := dk_153 0 21 (dk_at dksX0_sort_1 13 rfl rfl)
theorem dX0_sort_39 : decode cX0_sort 39 = .ok (.aload_n 0, 1) := dk_42 (dk_at dksX0_sort_1 16 rfl rfl)
theorem dX0_sort_40 : decode cX0_sort 40 = .ok (.invokevirtual 238, 3) := dk_182 0 238 (dk_at dksX0_sort_1 17 rfl rfl)
theorem dX0_sort_43 : decode cX0_sort 43 = .ok (.aload_n 0, 1) := dk_42 (dk_at dksX0_sort_1 20 rfl rfl)
theorem dX0_sort_44 : decode cX0_sort 44 = .ok (.getfield 35, 3) := dk_180 0 35 (dk_at dksX0_sort_1 21 rfl rfl)
theorem dX0_sort_47 : decode cX0_sort 47 = .ok (.iload_n 1, 1) := dk_27 (dk_at dksX0_sort_2 0 rfl rfl)
theorem dX0_sort_48 : decode cX0_sort 48 = .ok (.iaload, 1) := dk_46 (dk_at dksX0_sort_2 1 rfl rfl)
theorem dX0_sort_49 : decode cX0_sort 49 = .ok (.isub, 1) := dk_100 (dk_at dksX0_sort_2 2 rfl rfl)
theorem dX0_sort_50 : decode cX0_sort 50 = .ok (.iload_n 2, 1) := dk_28 (dk_at dksX0_sort_2 3 rfl rfl)
theorem dX0_sort_51 : decode cX0_sort 51 = .ok (.iadd, 1) := dk_96 (dk_at dksX0_sort_2 4 rfl rfl)
theorem dX0_sort_52 : decode cX0_sort 52 = .ok (.bipush 10, 2) := dk_16 10 (dk_at dksX0_sort_2 5 rfl rfl)
theorem dX0_sort_54 : decode cX0_sort 54 = .ok (.if_icmp .le 5, 3) := dk_164 0 5 (dk_at dksX0_sort_2 7 rfl rfl)
theorem dX0_sort_57 : decode cX0_sort 57 = .ok (.iconst (-1), 1) := dk_2 (dk_at dksX0_sort_2 10 rfl rfl)
theorem dX0_sort_58 : decode cX0_sort 58 = .ok (.ireturn, 1) := dk_172 (dk_at dksX0_sort_2 11 rfl rfl)
theorem dX0_sort_59 : decode cX0_sort 59 = .ok (.aload_n 0, 1) := dk_42 (dk_at dksX0_sort_2 12 rfl rfl)
theorem dX0_sort_60 : decode cX0_sort 60 = .ok (.getfield 35, 3) := dk_180 0 35 (dk_at dksX0_sort_2 13 rfl rfl)
theorem dX0_sort_63 : decode cX0_sort 63 = .ok (.iload_n 1, 1) := dk_27 (dk_at dksX0_sort_2 16 rfl rfl)
theorem dX0_sort_64 : decode cX0_sort 64 = .ok (.iload_n 2, 1) := dk_28 (dk_at dksX0_sort_2 17 rfl rfl)
theorem dX0_sort_65 : decode cX0_sort 65 = .ok (.iastore, 1) := dk_79 (dk_at dksX0_sort_2 18 rfl rfl)
theorem dX0_sort_66 : decode cX0_sort 66 = .ok (.aload_n 0, 1) := dk_42 (dk_at dksX0_sort_2 19 rfl rfl)
theorem dX0_sort_67 : decode cX0_sort 67 = .ok (.getfield 38, 3) := dk_180 0 38 (dk_at dksX0_sort_2 20 rfl rfl)
theorem dX0_sort_70 : decode cX0_sort 70 = .ok (.iload_n 1, 1) := dk_27 (dk_at dksX0_sort_2 23 rfl rfl)
theorem dX0_sort_71 : decode cX0_sort 71 = .ok (.iload_n 3, 1) := dk_29 (dk_at dksX0_sort_3 0 rfl rfl)
theorem dX0_sort_72 : decode cX0_sort 72 = .ok (.iastore, 1) := dk_79 (dk_at dksX0_sort_3 1 rfl rfl)
theorem dX0_sort_73 : decode cX0_sort 73 = .ok (.aload_n 0, 1) := dk_42 (dk_at dksX0_sort_3 2 rfl rfl)
theorem dX0_sort_74 : decode cX0_sort 74 = .ok (.getfield 41, 3) := dk_180 0 41 (dk_at dksX0_sort_3 3 rfl rfl)
theorem dX0_sort_77 : decode cX0_sort 77 = .ok (.iload_n 1, 1) := dk_27 (dk_at dksX0_sort_3 6 rfl rfl)
theorem dX0_sort_78 : decode cX0_sort 78 = .ok (.iload 4, 2) := dk_21 4 (dk_at dksX0_sort_3 7 rfl rfl)
theorem dX0_sort_80 : decode cX0_sort 80 = .ok (.iastore, 1) := dk_79 (dk_at dksX0_sort_3 9 rfl rfl)
theorem dX0_sort_81 : decode cX0_sort 81 = .ok (.aload_n 0, 1) := dk_42 (dk_at dksX0_sort_3 10 rfl rfl)
theorem dX0_sort_82 : decode cX0_sort 82 = .ok (.invokevirtual 238, 3) := dk_182 0 238 (dk_at dksX0_sort_3 11 rfl rfl)
theorem dX0_sort_85 : decode cX0_sort 85 = .ok (.ireturn, 1) := dk_172 (dk_at dksX0_sort_3 14 rfl rfl)
abbrev cX0_allTenths : ByteArray := prog_1_method_28_code
def yX0_allTenths : MethodName := ⟨RX0, "allTenths", "()I"⟩
def dkwX0_allTenths_0 : List UInt8 := [42, 180, 0, 35, 3, 46, 42, 180, 0, 35, 4, 46, 96, 42, 180, 0, 35, 5, 46, 96, 172]
abbrev dktX0_allTenths_0 : List UInt8 := dkwX0_allTenths_0 ++ []
theorem dksX0_allTenths_0 : cX0_allTenths.data.toList.drop 0 = dktX0_allTenths_0 := by decide +kernel
theorem dX0_allTenths_0 : decode cX0_allTenths 0 = .ok (.aload_n 0, 1) := dk_42 (dk_at dksX0_allTenths_0 0 rfl rfl)
theorem dX0_allTenths_1 : decode cX0_allTenths 1 = .ok (.getfield 35, 3) := dk_180 0 35 (dk_at dksX0_allTenths_0 1 rfl rfl)
theorem dX0_allTenths_4 : decode cX0_allTenths 4 = .ok (.iconst 0, 1) := dk_3 (dk_at dksX0_allTenths_0 4 rfl rfl)
theorem dX0_allTenths_5 : decode cX0_allTenths 5 = .ok (.iaload, 1) := dk_46 (dk_at dksX0_allTenths_0 5 rfl rfl)
theorem dX0_allTenths_6 : decode cX0_allTenths 6 = .ok (.aload_n 0, 1) := dk_42 (dk_at dksX0_allTenths_0 6 rfl rfl)
theorem dX0_allTenths_7 : decode cX0_allTenths 7 = .ok (.getfield 35, 3) := dk_180 0 35 (dk_at dksX0_allTenths_0 7 rfl rfl)
theorem dX0_allTenths_10 : decode cX0_allTenths 10 = .ok (.iconst 1, 1) := dk_4 (dk_at dksX0_allTenths_0 10 rfl rfl)
theorem dX0_allTenths_11 : decode cX0_allTenths 11 = .ok (.iaload, 1) := dk_46 (dk_at dksX0_allTenths_0 11 rfl rfl)
theorem dX0_allTenths_12 : decode cX0_allTenths 12 = .ok (.iadd, 1) := dk_96 (dk_at dksX0_allTenths_0 12 rfl rfl)
theorem dX0_allTenths_13 : decode cX0_allTenths 13 = .ok (.aload_n 0, 1) := dk_42 (dk_at dksX0_allTenths_0 13 rfl rfl)
theorem dX0_allTenths_14 : decode cX0_allTenths 14 = .ok (.getfield 35, 3) := dk_180 0 35 (dk_at dksX0_allTenths_0 14 rfl rfl)
theorem dX0_allTenths_17 : decode cX0_allTenths 17 = .ok (.iconst 2, 1) := dk_5 (dk_at dksX0_allTenths_0 17 rfl rfl)
theorem dX0_allTenths_18 : decode cX0_allTenths 18 = .ok (.iaload, 1) := dk_46 (dk_at dksX0_allTenths_0 18 rfl rfl)
theorem dX0_allTenths_19 : decode cX0_allTenths 19 = .ok (.iadd, 1) := dk_96 (dk_at dksX0_allTenths_0 19 rfl rfl)
theorem dX0_allTenths_20 : decode cX0_allTenths 20 = .ok (.ireturn, 1) := dk_172 (dk_at dksX0_allTenths_0 20 rfl rfl)
abbrev cX0_expected : ByteArray := prog_1_method_34_code
def yX0_expected : MethodName := ⟨RX0, "expected", "(III)J"⟩
def dkwX0_expected_3 : List UInt8 := [22, 8, 109, 167, 0, 8, 22, 6, 22, 8, 109, 173]
abbrev dktX0_expected_3 : List UInt8 := dkwX0_expected_3 ++ []
def dkwX0_expected_2 : List UInt8 := [55, 4, 28, 184, 1, 2, 55, 6, 22, 4, 22, 6, 184, 1, 6, 55, 8, 29, 154, 0, 11, 22, 4]
abbrev dktX0_expected_2 : List UInt8 := dkwX0_expected_2 ++ dktX0_expected_3
def dkwX0_expected_1 : List UInt8 := [154, 0, 7, 20, 1, 9, 173, 42, 28, 42, 180, 0, 10, 180, 0, 111, 27, 46, 3, 3, 182, 0, 242]
abbrev dktX0_expected_1 : List UInt8 := dkwX0_expected_1 ++ dktX0_expected_2
def dkwX0_expected_0 : List UInt8 := [42, 27, 182, 0, 107, 153, 0, 22, 28, 3, 16, 6, 184, 0, 74, 153, 0, 12, 29, 3, 4, 184, 0, 74]
abbrev dktX0_expected_0 : List UInt8 := dkwX0_expected_0 ++ dktX0_expected_1
theorem dksX0_expected_0 : cX0_expected.data.toList.drop 0 = dktX0_expected_0 := by decide +kernel
theorem dksX0_expected_1 : cX0_expected.data.toList.drop 24 = dktX0_expected_1 := dk_seg dksX0_expected_0 24 rfl rfl
theorem dksX0_expected_2 : cX0_expected.data.toList.drop 47 = dktX0_expected_2 := dk_seg dksX0_expected_1 23 rfl rfl
theorem dksX0_expected_3 : cX0_expected.data.toList.drop 70 = dktX0_expected_3 := dk_seg dksX0_expected_2 23 rfl rfl
theorem dX0_expected_0 : decode cX0_expected 0 = .ok (.aload_n 0, 1) := dk_42 (dk_at dksX0_expected_0 0 rfl rfl)
theorem dX0_expected_1 : decode cX0_expected 1 = .ok (.iload_n 1, 1) := dk_27 (dk_at dksX0_expected_0 1 rfl rfl)
theorem dX0_expected_2 : decode cX0_expected 2 = .ok (.invokevirtual 107, 3) := dk_182 0 107 (dk_at dksX0_expected_0 2 rfl rfl)
theorem dX0_expected_5 : decode cX0_expected 5 = .ok (.ifCond .eq 22, 3) := dk_153 0 22 (dk_at dksX0_expected_0 5 rfl rfl)
theorem dX0_expected_8 : decode cX0_expected 8 = .ok (.iload_n 2, 1) := dk_28 (dk_at dksX0_expected_0 8 rfl rfl)
theorem dX0_expected_9 : decode cX0_expected 9 = .ok (.iconst 0, 1) := dk_3 (dk_at dksX0_expected_0 9 rfl rfl)
theorem dX0_expected_10 : decode cX0_expected 10 = .ok (.bipush 6, 2) := dk_16 6 (dk_at dksX0_expected_0 10 rfl rfl)
theorem dX0_expected_12 : decode cX0_expected 12 = .ok (.invokestatic 74, 3) := dk_184 0 74 (dk_at dksX0_expected_0 12 rfl rfl)
theorem dX0_expected_15 : decode cX0_expected 15 = .ok (.ifCond .eq 12, 3) := dk_153 0 12 (dk_at dksX0_expected_0 15 rfl rfl)
theorem dX0_expected_18 : decode cX0_expected 18 = .ok (.iload_n 3, 1) := dk_29 (dk_at dksX0_expected_0 18 rfl rfl)
theorem dX0_expected_19 : decode cX0_expected 19 = .ok (.iconst 0, 1) := dk_3 (dk_at dksX0_expected_0 19 rfl rfl)
theorem dX0_expected_20 : decode cX0_expected 20 = .ok (.iconst 1, 1) := dk_4 (dk_at dksX0_expected_0 20 rfl rfl)
theorem dX0_expected_21 : decode cX0_expected 21 = .ok (.invokestatic 74, 3) := dk_184 0 74 (dk_at dksX0_expected_0 21 rfl rfl)
theorem dX0_expected_24 : decode cX0_expected 24 = .ok (.ifCond .ne 7, 3) := dk_154 0 7 (dk_at dksX0_expected_1 0 rfl rfl)
theorem dX0_expected_27 : decode cX0_expected 27 = .ok (.ldc2_w 265, 3) := dk_20 1 9 (dk_at dksX0_expected_1 3 rfl rfl)
theorem dX0_expected_30 : decode cX0_expected 30 = .ok (.lreturn, 1) := dk_173 (dk_at dksX0_expected_1 6 rfl rfl)
theorem dX0_expected_31 : decode cX0_expected 31 = .ok (.aload_n 0, 1) := dk_42 (dk_at dksX0_expected_1 7 rfl rfl)
theorem dX0_expected_32 : decode cX0_expected 32 = .ok (.iload_n 2, 1) := dk_28 (dk_at dksX0_expected_1 8 rfl rfl)
theorem dX0_expected_33 : decode cX0_expected 33 = .ok (.aload_n 0, 1) := dk_42 (dk_at dksX0_expected_1 9 rfl rfl)
theorem dX0_expected_34 : decode cX0_expected 34 = .ok (.getfield 10, 3) := dk_180 0 10 (dk_at dksX0_expected_1 10 rfl rfl)
theorem dX0_expected_37 : decode cX0_expected 37 = .ok (.getfield 111, 3) := dk_180 0 111 (dk_at dksX0_expected_1 13 rfl rfl)
theorem dX0_expected_40 : decode cX0_expected 40 = .ok (.iload_n 1, 1) := dk_27 (dk_at dksX0_expected_1 16 rfl rfl)
theorem dX0_expected_41 : decode cX0_expected 41 = .ok (.iaload, 1) := dk_46 (dk_at dksX0_expected_1 17 rfl rfl)
theorem dX0_expected_42 : decode cX0_expected 42 = .ok (.iconst 0, 1) := dk_3 (dk_at dksX0_expected_1 18 rfl rfl)
theorem dX0_expected_43 : decode cX0_expected 43 = .ok (.iconst 0, 1) := dk_3 (dk_at dksX0_expected_1 19 rfl rfl)
theorem dX0_expected_44 : decode cX0_expected 44 = .ok (.invokevirtual 242, 3) := dk_182 0 242 (dk_at dksX0_expected_1 20 rfl rfl)
theorem dX0_expected_47 : decode cX0_expected 47 = .ok (.lstore 4, 2) := dk_55 4 (dk_at dksX0_expected_2 0 rfl rfl)
theorem dX0_expected_49 : decode cX0_expected 49 = .ok (.iload_n 2, 1) := dk_28 (dk_at dksX0_expected_2 2 rfl rfl)
theorem dX0_expected_50 : decode cX0_expected 50 = .ok (.invokestatic 258, 3) := dk_184 1 2 (dk_at dksX0_expected_2 3 rfl rfl)
theorem dX0_expected_53 : decode cX0_expected 53 = .ok (.lstore 6, 2) := dk_55 6 (dk_at dksX0_expected_2 6 rfl rfl)
theorem dX0_expected_55 : decode cX0_expected 55 = .ok (.lload 4, 2) := dk_22 4 (dk_at dksX0_expected_2 8 rfl rfl)
theorem dX0_expected_57 : decode cX0_expected 57 = .ok (.lload 6, 2) := dk_22 6 (dk_at dksX0_expected_2 10 rfl rfl)
theorem dX0_expected_59 : decode cX0_expected 59 = .ok (.invokestatic 262, 3) := dk_184 1 6 (dk_at dksX0_expected_2 12 rfl rfl)
theorem dX0_expected_62 : decode cX0_expected 62 = .ok (.lstore 8, 2) := dk_55 8 (dk_at dksX0_expected_2 15 rfl rfl)
theorem dX0_expected_64 : decode cX0_expected 64 = .ok (.iload_n 3, 1) := dk_29 (dk_at dksX0_expected_2 17 rfl rfl)
theorem dX0_expected_65 : decode cX0_expected 65 = .ok (.ifCond .ne 11, 3) := dk_154 0 11 (dk_at dksX0_expected_2 18 rfl rfl)
theorem dX0_expected_68 : decode cX0_expected 68 = .ok (.lload 4, 2) := dk_22 4 (dk_at dksX0_expected_2 21 rfl rfl)
theorem dX0_expected_70 : decode cX0_expected 70 = .ok (.lload 8, 2) := dk_22 8 (dk_at dksX0_expected_3 0 rfl rfl)
theorem dX0_expected_72 : decode cX0_expected 72 = .ok (.ldiv, 1) := dk_109 (dk_at dksX0_expected_3 2 rfl rfl)
theorem dX0_expected_73 : decode cX0_expected 73 = .ok (.goto 8, 3) := dk_167 0 8 (dk_at dksX0_expected_3 3 rfl rfl)
theorem dX0_expected_76 : decode cX0_expected 76 = .ok (.lload 6, 2) := dk_22 6 (dk_at dksX0_expected_3 6 rfl rfl)
theorem dX0_expected_78 : decode cX0_expected 78 = .ok (.lload 8, 2) := dk_22 8 (dk_at dksX0_expected_3 8 rfl rfl)
theorem dX0_expected_80 : decode cX0_expected 80 = .ok (.ldiv, 1) := dk_109 (dk_at dksX0_expected_3 10 rfl rfl)
theorem dX0_expected_81 : decode cX0_expected 81 = .ok (.lreturn, 1) := dk_173 (dk_at dksX0_expected_3 11 rfl rfl)
abbrev cX0_mean : ByteArray := prog_1_method_30_code
def yX0_mean : MethodName := ⟨RX0, "mean", "(IIII)J"⟩
def dkwX0_mean_3 : List UInt8 := [21, 4, 182, 0, 246, 184, 0, 250, 105, 97, 55, 7, 132, 9, 1, 167, 255, 209, 22, 7, 173]
abbrev dktX0_mean_3 : List UInt8 := dkwX0_mean_3 ++ []
def dkwX0_mean_2 : List UInt8 := [180, 0, 35, 21, 9, 46, 133, 22, 5, 28, 154, 0, 7, 9, 167, 0, 14, 42, 21, 9, 27, 28, 29]
abbrev dktX0_mean_2 : List UInt8 := dkwX0_mean_2 ++ dktX0_mean_3
def dkwX0_mean_1 : List UInt8 := [182, 0, 238, 100, 133, 22, 5, 105, 55, 7, 3, 54, 9, 21, 9, 6, 162, 0, 47, 22, 7, 42]
abbrev dktX0_mean_1 : List UInt8 := dkwX0_mean_1 ++ dktX0_mean_2
def dkwX0_mean_0 : List UInt8 := [27, 154, 0, 5, 9, 173, 42, 27, 4, 100, 28, 29, 96, 21, 4, 3, 182, 0, 242, 55, 5, 16, 10, 42]
abbrev dktX0_mean_0 : List UInt8 := dkwX0_mean_0 ++ dktX0_mean_1
theorem dksX0_mean_0 : cX0_mean.data.toList.drop 0 = dktX0_mean_0 := by decide +kernel
theorem dksX0_mean_1 : cX0_mean.data.toList.drop 24 = dktX0_mean_1 := dk_seg dksX0_mean_0 24 rfl rfl
theorem dksX0_mean_2 : cX0_mean.data.toList.drop 46 = dktX0_mean_2 := dk_seg dksX0_mean_1 22 rfl rfl
theorem dksX0_mean_3 : cX0_mean.data.toList.drop 69 = dktX0_mean_3 := dk_seg dksX0_mean_2 23 rfl rfl
theorem dX0_mean_0 : decode cX0_mean 0 = .ok (.iload_n 1, 1) := dk_27 (dk_at dksX0_mean_0 0 rfl rfl)
theorem dX0_mean_1 : decode cX0_mean 1 = .ok (.ifCond .ne 5, 3) := dk_154 0 5 (dk_at dksX0_mean_0 1 rfl rfl)
theorem dX0_mean_4 : decode cX0_mean 4 = .ok (.lconst 0, 1) := dk_9 (dk_at dksX0_mean_0 4 rfl rfl)
theorem dX0_mean_5 : decode cX0_mean 5 = .ok (.lreturn, 1) := dk_173 (dk_at dksX0_mean_0 5 rfl rfl)
theorem dX0_mean_6 : decode cX0_mean 6 = .ok (.aload_n 0, 1) := dk_42 (dk_at dksX0_mean_0 6 rfl rfl)
theorem dX0_mean_7 : decode cX0_mean 7 = .ok (.iload_n 1, 1) := dk_27 (dk_at dksX0_mean_0 7 rfl rfl)
theorem dX0_mean_8 : decode cX0_mean 8 = .ok (.iconst 1, 1) := dk_4 (dk_at dksX0_mean_0 8 rfl rfl)
theorem dX0_mean_9 : decode cX0_mean 9 = .ok (.isub, 1) := dk_100 (dk_at dksX0_mean_0 9 rfl rfl)
theorem dX0_mean_10 : decode cX0_mean 10 = .ok (.iload_n 2, 1) := dk_28 (dk_at dksX0_mean_0 10 rfl rfl)
theorem dX0_mean_11 : decode cX0_mean 11 = .ok (.iload_n 3, 1) := dk_29 (dk_at dksX0_mean_0 11 rfl rfl)
theorem dX0_mean_12 : decode cX0_mean 12 = .ok (.iadd, 1) := dk_96 (dk_at dksX0_mean_0 12 rfl rfl)
theorem dX0_mean_13 : decode cX0_mean 13 = .ok (.iload 4, 2) := dk_21 4 (dk_at dksX0_mean_0 13 rfl rfl)
theorem dX0_mean_15 : decode cX0_mean 15 = .ok (.iconst 0, 1) := dk_3 (dk_at dksX0_mean_0 15 rfl rfl)
theorem dX0_mean_16 : decode cX0_mean 16 = .ok (.invokevirtual 242, 3) := dk_182 0 242 (dk_at dksX0_mean_0 16 rfl rfl)
theorem dX0_mean_19 : decode cX0_mean 19 = .ok (.lstore 5, 2) := dk_55 5 (dk_at dksX0_mean_0 19 rfl rfl)
theorem dX0_mean_21 : decode cX0_mean 21 = .ok (.bipush 10, 2) := dk_16 10 (dk_at dksX0_mean_0 21 rfl rfl)
theorem dX0_mean_23 : decode cX0_mean 23 = .ok (.aload_n 0, 1) := dk_42 (dk_at dksX0_mean_0 23 rfl rfl)
theorem dX0_mean_24 : decode cX0_mean 24 = .ok (.invokevirtual 238, 3) := dk_182 0 238 (dk_at dksX0_mean_1 0 rfl rfl)
theorem dX0_mean_27 : decode cX0_mean 27 = .ok (.isub, 1) := dk_100 (dk_at dksX0_mean_1 3 rfl rfl)
theorem dX0_mean_28 : decode cX0_mean 28 = .ok (.i2l, 1) := dk_133 (dk_at dksX0_mean_1 4 rfl rfl)
theorem dX0_mean_29 : decode cX0_mean 29 = .ok (.lload 5, 2) := dk_22 5 (dk_at dksX0_mean_1 5 rfl rfl)
theorem dX0_mean_31 : decode cX0_mean 31 = .ok (.lmul, 1) := dk_105 (dk_at dksX0_mean_1 7 rfl rfl)
theorem dX0_mean_32 : decode cX0_mean 32 = .ok (.lstore 7, 2) := dk_55 7 (dk_at dksX0_mean_1 8 rfl rfl)
theorem dX0_mean_34 : decode cX0_mean 34 = .ok (.iconst 0, 1) := dk_3 (dk_at dksX0_mean_1 10 rfl rfl)
theorem dX0_mean_35 : decode cX0_mean 35 = .ok (.istore 9, 2) := dk_54 9 (dk_at dksX0_mean_1 11 rfl rfl)
theorem dX0_mean_37 : decode cX0_mean 37 = .ok (.iload 9, 2) := dk_21 9 (dk_at dksX0_mean_1 13 rfl rfl)
theorem dX0_mean_39 : decode cX0_mean 39 = .ok (.iconst 3, 1) := dk_6 (dk_at dksX0_mean_1 15 rfl rfl)
theorem dX0_mean_40 : decode cX0_mean 40 = .ok (.if_icmp .ge 47, 3) := dk_162 0 47 (dk_at dksX0_mean_1 16 rfl rfl)
theorem dX0_mean_43 : decode cX0_mean 43 = .ok (.lload 7, 2) := dk_22 7 (dk_at dksX0_mean_1 19 rfl rfl)
theorem dX0_mean_45 : decode cX0_mean 45 = .ok (.aload_n 0, 1) := dk_42 (dk_at dksX0_mean_1 21 rfl rfl)
theorem dX0_mean_46 : decode cX0_mean 46 = .ok (.getfield 35, 3) := dk_180 0 35 (dk_at dksX0_mean_2 0 rfl rfl)
theorem dX0_mean_49 : decode cX0_mean 49 = .ok (.iload 9, 2) := dk_21 9 (dk_at dksX0_mean_2 3 rfl rfl)
theorem dX0_mean_51 : decode cX0_mean 51 = .ok (.iaload, 1) := dk_46 (dk_at dksX0_mean_2 5 rfl rfl)
theorem dX0_mean_52 : decode cX0_mean 52 = .ok (.i2l, 1) := dk_133 (dk_at dksX0_mean_2 6 rfl rfl)
theorem dX0_mean_53 : decode cX0_mean 53 = .ok (.lload 5, 2) := dk_22 5 (dk_at dksX0_mean_2 7 rfl rfl)
theorem dX0_mean_55 : decode cX0_mean 55 = .ok (.iload_n 2, 1) := dk_28 (dk_at dksX0_mean_2 9 rfl rfl)
theorem dX0_mean_56 : decode cX0_mean 56 = .ok (.ifCond .ne 7, 3) := dk_154 0 7 (dk_at dksX0_mean_2 10 rfl rfl)
theorem dX0_mean_59 : decode cX0_mean 59 = .ok (.lconst 0, 1) := dk_9 (dk_at dksX0_mean_2 13 rfl rfl)
theorem dX0_mean_60 : decode cX0_mean 60 = .ok (.goto 14, 3) := dk_167 0 14 (dk_at dksX0_mean_2 14 rfl rfl)
theorem dX0_mean_63 : decode cX0_mean 63 = .ok (.aload_n 0, 1) := dk_42 (dk_at dksX0_mean_2 17 rfl rfl)
theorem dX0_mean_64 : decode cX0_mean 64 = .ok (.iload 9, 2) := dk_21 9 (dk_at dksX0_mean_2 18 rfl rfl)
theorem dX0_mean_66 : decode cX0_mean 66 = .ok (.iload_n 1, 1) := dk_27 (dk_at dksX0_mean_2 20 rfl rfl)
theorem dX0_mean_67 : decode cX0_mean 67 = .ok (.iload_n 2, 1) := dk_28 (dk_at dksX0_mean_2 21 rfl rfl)
theorem dX0_mean_68 : decode cX0_mean 68 = .ok (.iload_n 3, 1) := dk_29 (dk_at dksX0_mean_2 22 rfl rfl)
theorem dX0_mean_69 : decode cX0_mean 69 = .ok (.iload 4, 2) := dk_21 4 (dk_at dksX0_mean_3 0 rfl rfl)
theorem dX0_mean_71 : decode cX0_mean 71 = .ok (.invokevirtual 246, 3) := dk_182 0 246 (dk_at dksX0_mean_3 2 rfl rfl)
theorem dX0_mean_74 : decode cX0_mean 74 = .ok (.invokestatic 250, 3) := dk_184 0 250 (dk_at dksX0_mean_3 5 rfl rfl)
theorem dX0_mean_77 : decode cX0_mean 77 = .ok (.lmul, 1) := dk_105 (dk_at dksX0_mean_3 8 rfl rfl)
theorem dX0_mean_78 : decode cX0_mean 78 = .ok (.ladd, 1) := dk_97 (dk_at dksX0_mean_3 9 rfl rfl)
theorem dX0_mean_79 : decode cX0_mean 79 = .ok (.lstore 7, 2) := dk_55 7 (dk_at dksX0_mean_3 10 rfl rfl)
theorem dX0_mean_81 : decode cX0_mean 81 = .ok (.iinc 9 1, 3) := dk_132 9 1 (dk_at dksX0_mean_3 12 rfl rfl)
theorem dX0_mean_84 : decode cX0_mean 84 = .ok (.goto (-47), 3) := dk_167 255 209 (dk_at dksX0_mean_3 15 rfl rfl)
theorem dX0_mean_87 : decode cX0_mean 87 = .ok (.lload 7, 2) := dk_22 7 (dk_at dksX0_mean_3 18 rfl rfl)
theorem dX0_mean_89 : decode cX0_mean 89 = .ok (.lreturn, 1) := dk_173 (dk_at dksX0_mean_3 20 rfl rfl)
abbrev cX0_taken : ByteArray := prog_1_method_32_code
def yX0_taken : MethodName := ⟨RX0, "taken", "(IIIII)J"⟩
def dkwX0_taken_3 : List UInt8 := [184, 1, 2, 105, 22, 7, 97, 173]
abbrev dktX0_taken_3 : List UInt8 := dkwX0_taken_3 ++ []
def dkwX0_taken_2 : List UInt8 := [160, 0, 7, 4, 167, 0, 4, 3, 182, 0, 242, 55, 7, 42, 180, 0, 38, 27, 46, 133, 28, 4, 100]
abbrev dktX0_taken_2 : List UInt8 := dkwX0_taken_2 ++ dktX0_taken_3
def dkwX0_taken_1 : List UInt8 := [4, 167, 0, 4, 3, 96, 21, 5, 21, 6, 5, 160, 0, 7, 4, 167, 0, 4, 3, 96, 21, 6, 6]
abbrev dktX0_taken_1 : List UInt8 := dkwX0_taken_1 ++ dktX0_taken_2
def dkwX0_taken_0 : List UInt8 := [42, 180, 0, 41, 27, 46, 54, 6, 42, 28, 4, 100, 29, 4, 100, 21, 4, 96, 21, 6, 4, 160, 0, 7]
abbrev dktX0_taken_0 : List UInt8 := dkwX0_taken_0 ++ dktX0_taken_1
theorem dksX0_taken_0 : cX0_taken.data.toList.drop 0 = dktX0_taken_0 := by decide +kernel
theorem dksX0_taken_1 : cX0_taken.data.toList.drop 24 = dktX0_taken_1 := dk_seg dksX0_taken_0 24 rfl rfl
theorem dksX0_taken_2 : cX0_taken.data.toList.drop 47 = dktX0_taken_2 := dk_seg dksX0_taken_1 23 rfl rfl
theorem dksX0_taken_3 : cX0_taken.data.toList.drop 70 = dktX0_taken_3 := dk_seg dksX0_taken_2 23 rfl rfl
theorem dX0_taken_0 : decode cX0_taken 0 = .ok (.aload_n 0, 1) := dk_42 (dk_at dksX0_taken_0 0 rfl rfl)
theorem dX0_taken_1 : decode cX0_taken 1 = .ok (.getfield 41, 3) := dk_180 0 41 (dk_at dksX0_taken_0 1 rfl rfl)
theorem dX0_taken_4 : decode cX0_taken 4 = .ok (.iload_n 1, 1) := dk_27 (dk_at dksX0_taken_0 4 rfl rfl)
theorem dX0_taken_5 : decode cX0_taken 5 = .ok (.iaload, 1) := dk_46 (dk_at dksX0_taken_0 5 rfl rfl)
theorem dX0_taken_6 : decode cX0_taken 6 = .ok (.istore 6, 2) := dk_54 6 (dk_at dksX0_taken_0 6 rfl rfl)
theorem dX0_taken_8 : decode cX0_taken 8 = .ok (.aload_n 0, 1) := dk_42 (dk_at dksX0_taken_0 8 rfl rfl)
theorem dX0_taken_9 : decode cX0_taken 9 = .ok (.iload_n 2, 1) := dk_28 (dk_at dksX0_taken_0 9 rfl rfl)
theorem dX0_taken_10 : decode cX0_taken 10 = .ok (.iconst 1, 1) := dk_4 (dk_at dksX0_taken_0 10 rfl rfl)
theorem dX0_taken_11 : decode cX0_taken 11 = .ok (.isub, 1) := dk_100 (dk_at dksX0_taken_0 11 rfl rfl)
theorem dX0_taken_12 : decode cX0_taken 12 = .ok (.iload_n 3, 1) := dk_29 (dk_at dksX0_taken_0 12 rfl rfl)
theorem dX0_taken_13 : decode cX0_taken 13 = .ok (.iconst 1, 1) := dk_4 (dk_at dksX0_taken_0 13 rfl rfl)
theorem dX0_taken_14 : decode cX0_taken 14 = .ok (.isub, 1) := dk_100 (dk_at dksX0_taken_0 14 rfl rfl)
theorem dX0_taken_15 : decode cX0_taken 15 = .ok (.iload 4, 2) := dk_21 4 (dk_at dksX0_taken_0 15 rfl rfl)
theorem dX0_taken_17 : decode cX0_taken 17 = .ok (.iadd, 1) := dk_96 (dk_at dksX0_taken_0 17 rfl rfl)
theorem dX0_taken_18 : decode cX0_taken 18 = .ok (.iload 6, 2) := dk_21 6 (dk_at dksX0_taken_0 18 rfl rfl)
theorem dX0_taken_20 : decode cX0_taken 20 = .ok (.iconst 1, 1) := dk_4 (dk_at dksX0_taken_0 20 rfl rfl)
theorem dX0_taken_21 : decode cX0_taken 21 = .ok (.if_icmp .ne 7, 3) := dk_160 0 7 (dk_at dksX0_taken_0 21 rfl rfl)
theorem dX0_taken_24 : decode cX0_taken 24 = .ok (.iconst 1, 1) := dk_4 (dk_at dksX0_taken_1 0 rfl rfl)
theorem dX0_taken_25 : decode cX0_taken 25 = .ok (.goto 4, 3) := dk_167 0 4 (dk_at dksX0_taken_1 1 rfl rfl)
theorem dX0_taken_28 : decode cX0_taken 28 = .ok (.iconst 0, 1) := dk_3 (dk_at dksX0_taken_1 4 rfl rfl)
theorem dX0_taken_29 : decode cX0_taken 29 = .ok (.iadd, 1) := dk_96 (dk_at dksX0_taken_1 5 rfl rfl)
theorem dX0_taken_30 : decode cX0_taken 30 = .ok (.iload 5, 2) := dk_21 5 (dk_at dksX0_taken_1 6 rfl rfl)
theorem dX0_taken_32 : decode cX0_taken 32 = .ok (.iload 6, 2) := dk_21 6 (dk_at dksX0_taken_1 8 rfl rfl)
theorem dX0_taken_34 : decode cX0_taken 34 = .ok (.iconst 2, 1) := dk_5 (dk_at dksX0_taken_1 10 rfl rfl)
theorem dX0_taken_35 : decode cX0_taken 35 = .ok (.if_icmp .ne 7, 3) := dk_160 0 7 (dk_at dksX0_taken_1 11 rfl rfl)
theorem dX0_taken_38 : decode cX0_taken 38 = .ok (.iconst 1, 1) := dk_4 (dk_at dksX0_taken_1 14 rfl rfl)
theorem dX0_taken_39 : decode cX0_taken 39 = .ok (.goto 4, 3) := dk_167 0 4 (dk_at dksX0_taken_1 15 rfl rfl)
theorem dX0_taken_42 : decode cX0_taken 42 = .ok (.iconst 0, 1) := dk_3 (dk_at dksX0_taken_1 18 rfl rfl)
theorem dX0_taken_43 : decode cX0_taken 43 = .ok (.iadd, 1) := dk_96 (dk_at dksX0_taken_1 19 rfl rfl)
theorem dX0_taken_44 : decode cX0_taken 44 = .ok (.iload 6, 2) := dk_21 6 (dk_at dksX0_taken_1 20 rfl rfl)
theorem dX0_taken_46 : decode cX0_taken 46 = .ok (.iconst 3, 1) := dk_6 (dk_at dksX0_taken_1 22 rfl rfl)
theorem dX0_taken_47 : decode cX0_taken 47 = .ok (.if_icmp .ne 7, 3) := dk_160 0 7 (dk_at dksX0_taken_2 0 rfl rfl)
theorem dX0_taken_50 : decode cX0_taken 50 = .ok (.iconst 1, 1) := dk_4 (dk_at dksX0_taken_2 3 rfl rfl)
theorem dX0_taken_51 : decode cX0_taken 51 = .ok (.goto 4, 3) := dk_167 0 4 (dk_at dksX0_taken_2 4 rfl rfl)
theorem dX0_taken_54 : decode cX0_taken 54 = .ok (.iconst 0, 1) := dk_3 (dk_at dksX0_taken_2 7 rfl rfl)
theorem dX0_taken_55 : decode cX0_taken 55 = .ok (.invokevirtual 242, 3) := dk_182 0 242 (dk_at dksX0_taken_2 8 rfl rfl)
theorem dX0_taken_58 : decode cX0_taken 58 = .ok (.lstore 7, 2) := dk_55 7 (dk_at dksX0_taken_2 11 rfl rfl)
theorem dX0_taken_60 : decode cX0_taken 60 = .ok (.aload_n 0, 1) := dk_42 (dk_at dksX0_taken_2 13 rfl rfl)
theorem dX0_taken_61 : decode cX0_taken 61 = .ok (.getfield 38, 3) := dk_180 0 38 (dk_at dksX0_taken_2 14 rfl rfl)
theorem dX0_taken_64 : decode cX0_taken 64 = .ok (.iload_n 1, 1) := dk_27 (dk_at dksX0_taken_2 17 rfl rfl)
theorem dX0_taken_65 : decode cX0_taken 65 = .ok (.iaload, 1) := dk_46 (dk_at dksX0_taken_2 18 rfl rfl)
theorem dX0_taken_66 : decode cX0_taken 66 = .ok (.i2l, 1) := dk_133 (dk_at dksX0_taken_2 19 rfl rfl)
theorem dX0_taken_67 : decode cX0_taken 67 = .ok (.iload_n 2, 1) := dk_28 (dk_at dksX0_taken_2 20 rfl rfl)
theorem dX0_taken_68 : decode cX0_taken 68 = .ok (.iconst 1, 1) := dk_4 (dk_at dksX0_taken_2 21 rfl rfl)
theorem dX0_taken_69 : decode cX0_taken 69 = .ok (.isub, 1) := dk_100 (dk_at dksX0_taken_2 22 rfl rfl)
theorem dX0_taken_70 : decode cX0_taken 70 = .ok (.invokestatic 258, 3) := dk_184 1 2 (dk_at dksX0_taken_3 0 rfl rfl)
theorem dX0_taken_73 : decode cX0_taken 73 = .ok (.lmul, 1) := dk_105 (dk_at dksX0_taken_3 3 rfl rfl)
theorem dX0_taken_74 : decode cX0_taken 74 = .ok (.lload 7, 2) := dk_22 7 (dk_at dksX0_taken_3 4 rfl rfl)
theorem dX0_taken_76 : decode cX0_taken 76 = .ok (.ladd, 1) := dk_97 (dk_at dksX0_taken_3 6 rfl rfl)
theorem dX0_taken_77 : decode cX0_taken 77 = .ok (.lreturn, 1) := dk_173 (dk_at dksX0_taken_3 7 rfl rfl)
abbrev cX0_power : ByteArray := prog_1_method_31_code
def yX0_power : MethodName := ⟨RX0, "power", "(I)J"⟩
def dkwX0_power_0 : List UInt8 := [10, 64, 3, 62, 29, 26, 162, 0, 15, 31, 20, 1, 0, 105, 64, 132, 3, 1, 167, 255, 242, 31, 173]
abbrev dktX0_power_0 : List UInt8 := dkwX0_power_0 ++ []
theorem dksX0_power_0 : cX0_power.data.toList.drop 0 = dktX0_power_0 := by decide +kernel
theorem dX0_power_0 : decode cX0_power 0 = .ok (.lconst 1, 1) := dk_10 (dk_at dksX0_power_0 0 rfl rfl)
theorem dX0_power_1 : decode cX0_power 1 = .ok (.lstore_n 1, 1) := dk_64 (dk_at dksX0_power_0 1 rfl rfl)
theorem dX0_power_2 : decode cX0_power 2 = .ok (.iconst 0, 1) := dk_3 (dk_at dksX0_power_0 2 rfl rfl)
theorem dX0_power_3 : decode cX0_power 3 = .ok (.istore_n 3, 1) := dk_62 (dk_at dksX0_power_0 3 rfl rfl)
theorem dX0_power_4 : decode cX0_power 4 = .ok (.iload_n 3, 1) := dk_29 (dk_at dksX0_power_0 4 rfl rfl)
theorem dX0_power_5 : decode cX0_power 5 = .ok (.iload_n 0, 1) := dk_26 (dk_at dksX0_power_0 5 rfl rfl)
theorem dX0_power_6 : decode cX0_power 6 = .ok (.if_icmp .ge 15, 3) := dk_162 0 15 (dk_at dksX0_power_0 6 rfl rfl)
theorem dX0_power_9 : decode cX0_power 9 = .ok (.lload_n 1, 1) := dk_31 (dk_at dksX0_power_0 9 rfl rfl)
theorem dX0_power_10 : decode cX0_power 10 = .ok (.ldc2_w 256, 3) := dk_20 1 0 (dk_at dksX0_power_0 10 rfl rfl)
theorem dX0_power_13 : decode cX0_power 13 = .ok (.lmul, 1) := dk_105 (dk_at dksX0_power_0 13 rfl rfl)
theorem dX0_power_14 : decode cX0_power 14 = .ok (.lstore_n 1, 1) := dk_64 (dk_at dksX0_power_0 14 rfl rfl)
theorem dX0_power_15 : decode cX0_power 15 = .ok (.iinc 3 1, 3) := dk_132 3 1 (dk_at dksX0_power_0 15 rfl rfl)
theorem dX0_power_18 : decode cX0_power 18 = .ok (.goto (-14), 3) := dk_167 255 242 (dk_at dksX0_power_0 18 rfl rfl)
theorem dX0_power_21 : decode cX0_power 21 = .ok (.lload_n 1, 1) := dk_31 (dk_at dksX0_power_0 21 rfl rfl)
theorem dX0_power_22 : decode cX0_power 22 = .ok (.lreturn, 1) := dk_173 (dk_at dksX0_power_0 22 rfl rfl)
abbrev cX0_common : ByteArray := prog_1_method_33_code
def yX0_common : MethodName := ⟨RX0, "common", "(JJ)J"⟩
def dkwX0_common_0 : List UInt8 := [32, 9, 148, 154, 0, 7, 30, 167, 0, 10, 32, 30, 32, 113, 184, 1, 6, 173]
abbrev dktX0_common_0 : List UInt8 := dkwX0_common_0 ++ []
theorem dksX0_common_0 : cX0_common.data.toList.drop 0 = dktX0_common_0 := by decide +kernel
theorem dX0_common_0 : decode cX0_common 0 = .ok (.lload_n 2, 1) := dk_32 (dk_at dksX0_common_0 0 rfl rfl)
theorem dX0_common_1 : decode cX0_common 1 = .ok (.lconst 0, 1) := dk_9 (dk_at dksX0_common_0 1 rfl rfl)
theorem dX0_common_2 : decode cX0_common 2 = .ok (.lcmp, 1) := dk_148 (dk_at dksX0_common_0 2 rfl rfl)
theorem dX0_common_3 : decode cX0_common 3 = .ok (.ifCond .ne 7, 3) := dk_154 0 7 (dk_at dksX0_common_0 3 rfl rfl)
theorem dX0_common_6 : decode cX0_common 6 = .ok (.lload_n 0, 1) := dk_30 (dk_at dksX0_common_0 6 rfl rfl)
theorem dX0_common_7 : decode cX0_common 7 = .ok (.goto 10, 3) := dk_167 0 10 (dk_at dksX0_common_0 7 rfl rfl)
theorem dX0_common_10 : decode cX0_common 10 = .ok (.lload_n 2, 1) := dk_32 (dk_at dksX0_common_0 10 rfl rfl)
theorem dX0_common_11 : decode cX0_common 11 = .ok (.lload_n 0, 1) := dk_30 (dk_at dksX0_common_0 11 rfl rfl)
theorem dX0_common_12 : decode cX0_common 12 = .ok (.lload_n 2, 1) := dk_32 (dk_at dksX0_common_0 12 rfl rfl)
theorem dX0_common_13 : decode cX0_common 13 = .ok (.lrem, 1) := dk_113 (dk_at dksX0_common_0 13 rfl rfl)
theorem dX0_common_14 : decode cX0_common 14 = .ok (.invokestatic 262, 3) := dk_184 1 6 (dk_at dksX0_common_0 14 rfl rfl)
theorem dX0_common_17 : decode cX0_common 17 = .ok (.lreturn, 1) := dk_173 (dk_at dksX0_common_0 17 rfl rfl)
abbrev cX0_wise : ByteArray := prog_1_method_35_code
def yX0_wise : MethodName := ⟨RX0, "wise", "(III)I"⟩
def dkwX0_wise_2 : List UInt8 := [182, 0, 246, 42, 28, 4, 100, 29, 3, 3, 182, 0, 242, 148, 155, 0, 7, 4, 167, 0, 4, 3, 172]
abbrev dktX0_wise_2 : List UInt8 := dkwX0_wise_2 ++ []
def dkwX0_wise_1 : List UInt8 := [184, 0, 74, 153, 0, 12, 29, 4, 8, 184, 0, 74, 154, 0, 5, 2, 172, 42, 27, 28, 29, 3, 3]
abbrev dktX0_wise_1 : List UInt8 := dkwX0_wise_1 ++ dktX0_wise_2
def dkwX0_wise_0 : List UInt8 := [27, 3, 5, 184, 0, 74, 153, 0, 31, 42, 180, 0, 41, 27, 46, 153, 0, 22, 28, 4, 16, 6]
abbrev dktX0_wise_0 : List UInt8 := dkwX0_wise_0 ++ dktX0_wise_1
theorem dksX0_wise_0 : cX0_wise.data.toList.drop 0 = dktX0_wise_0 := by decide +kernel
theorem dksX0_wise_1 : cX0_wise.data.toList.drop 22 = dktX0_wise_1 := dk_seg dksX0_wise_0 22 rfl rfl
theorem dksX0_wise_2 : cX0_wise.data.toList.drop 45 = dktX0_wise_2 := dk_seg dksX0_wise_1 23 rfl rfl
theorem dX0_wise_0 : decode cX0_wise 0 = .ok (.iload_n 1, 1) := dk_27 (dk_at dksX0_wise_0 0 rfl rfl)
theorem dX0_wise_1 : decode cX0_wise 1 = .ok (.iconst 0, 1) := dk_3 (dk_at dksX0_wise_0 1 rfl rfl)
theorem dX0_wise_2 : decode cX0_wise 2 = .ok (.iconst 2, 1) := dk_5 (dk_at dksX0_wise_0 2 rfl rfl)
theorem dX0_wise_3 : decode cX0_wise 3 = .ok (.invokestatic 74, 3) := dk_184 0 74 (dk_at dksX0_wise_0 3 rfl rfl)
theorem dX0_wise_6 : decode cX0_wise 6 = .ok (.ifCond .eq 31, 3) := dk_153 0 31 (dk_at dksX0_wise_0 6 rfl rfl)
theorem dX0_wise_9 : decode cX0_wise 9 = .ok (.aload_n 0, 1) := dk_42 (dk_at dksX0_wise_0 9 rfl rfl)
theorem dX0_wise_10 : decode cX0_wise 10 = .ok (.getfield 41, 3) := dk_180 0 41 (dk_at dksX0_wise_0 10 rfl rfl)
theorem dX0_wise_13 : decode cX0_wise 13 = .ok (.iload_n 1, 1) := dk_27 (dk_at dksX0_wise_0 13 rfl rfl)
theorem dX0_wise_14 : decode cX0_wise 14 = .ok (.iaload, 1) := dk_46 (dk_at dksX0_wise_0 14 rfl rfl)
theorem dX0_wise_15 : decode cX0_wise 15 = .ok (.ifCond .eq 22, 3) := dk_153 0 22 (dk_at dksX0_wise_0 15 rfl rfl)
theorem dX0_wise_18 : decode cX0_wise 18 = .ok (.iload_n 2, 1) := dk_28 (dk_at dksX0_wise_0 18 rfl rfl)
theorem dX0_wise_19 : decode cX0_wise 19 = .ok (.iconst 1, 1) := dk_4 (dk_at dksX0_wise_0 19 rfl rfl)
theorem dX0_wise_20 : decode cX0_wise 20 = .ok (.bipush 6, 2) := dk_16 6 (dk_at dksX0_wise_0 20 rfl rfl)
theorem dX0_wise_22 : decode cX0_wise 22 = .ok (.invokestatic 74, 3) := dk_184 0 74 (dk_at dksX0_wise_1 0 rfl rfl)
theorem dX0_wise_25 : decode cX0_wise 25 = .ok (.ifCond .eq 12, 3) := dk_153 0 12 (dk_at dksX0_wise_1 3 rfl rfl)
theorem dX0_wise_28 : decode cX0_wise 28 = .ok (.iload_n 3, 1) := dk_29 (dk_at dksX0_wise_1 6 rfl rfl)
theorem dX0_wise_29 : decode cX0_wise 29 = .ok (.iconst 1, 1) := dk_4 (dk_at dksX0_wise_1 7 rfl rfl)
theorem dX0_wise_30 : decode cX0_wise 30 = .ok (.iconst 5, 1) := dk_8 (dk_at dksX0_wise_1 8 rfl rfl)
theorem dX0_wise_31 : decode cX0_wise 31 = .ok (.invokestatic 74, 3) := dk_184 0 74 (dk_at dksX0_wise_1 9 rfl rfl)
theorem dX0_wise_34 : decode cX0_wise 34 = .ok (.ifCond .ne 5, 3) := dk_154 0 5 (dk_at dksX0_wise_1 12 rfl rfl)
theorem dX0_wise_37 : decode cX0_wise 37 = .ok (.iconst (-1), 1) := dk_2 (dk_at dksX0_wise_1 15 rfl rfl)
theorem dX0_wise_38 : decode cX0_wise 38 = .ok (.ireturn, 1) := dk_172 (dk_at dksX0_wise_1 16 rfl rfl)
theorem dX0_wise_39 : decode cX0_wise 39 = .ok (.aload_n 0, 1) := dk_42 (dk_at dksX0_wise_1 17 rfl rfl)
theorem dX0_wise_40 : decode cX0_wise 40 = .ok (.iload_n 1, 1) := dk_27 (dk_at dksX0_wise_1 18 rfl rfl)
theorem dX0_wise_41 : decode cX0_wise 41 = .ok (.iload_n 2, 1) := dk_28 (dk_at dksX0_wise_1 19 rfl rfl)
theorem dX0_wise_42 : decode cX0_wise 42 = .ok (.iload_n 3, 1) := dk_29 (dk_at dksX0_wise_1 20 rfl rfl)
theorem dX0_wise_43 : decode cX0_wise 43 = .ok (.iconst 0, 1) := dk_3 (dk_at dksX0_wise_1 21 rfl rfl)
theorem dX0_wise_44 : decode cX0_wise 44 = .ok (.iconst 0, 1) := dk_3 (dk_at dksX0_wise_1 22 rfl rfl)
theorem dX0_wise_45 : decode cX0_wise 45 = .ok (.invokevirtual 246, 3) := dk_182 0 246 (dk_at dksX0_wise_2 0 rfl rfl)
theorem dX0_wise_48 : decode cX0_wise 48 = .ok (.aload_n 0, 1) := dk_42 (dk_at dksX0_wise_2 3 rfl rfl)
theorem dX0_wise_49 : decode cX0_wise 49 = .ok (.iload_n 2, 1) := dk_28 (dk_at dksX0_wise_2 4 rfl rfl)
theorem dX0_wise_50 : decode cX0_wise 50 = .ok (.iconst 1, 1) := dk_4 (dk_at dksX0_wise_2 5 rfl rfl)
theorem dX0_wise_51 : decode cX0_wise 51 = .ok (.isub, 1) := dk_100 (dk_at dksX0_wise_2 6 rfl rfl)
theorem dX0_wise_52 : decode cX0_wise 52 = .ok (.iload_n 3, 1) := dk_29 (dk_at dksX0_wise_2 7 rfl rfl)
theorem dX0_wise_53 : decode cX0_wise 53 = .ok (.iconst 0, 1) := dk_3 (dk_at dksX0_wise_2 8 rfl rfl)
theorem dX0_wise_54 : decode cX0_wise 54 = .ok (.iconst 0, 1) := dk_3 (dk_at dksX0_wise_2 9 rfl rfl)
theorem dX0_wise_55 : decode cX0_wise 55 = .ok (.invokevirtual 242, 3) := dk_182 0 242 (dk_at dksX0_wise_2 10 rfl rfl)
theorem dX0_wise_58 : decode cX0_wise 58 = .ok (.lcmp, 1) := dk_148 (dk_at dksX0_wise_2 13 rfl rfl)
theorem dX0_wise_59 : decode cX0_wise 59 = .ok (.ifCond .lt 7, 3) := dk_155 0 7 (dk_at dksX0_wise_2 14 rfl rfl)
theorem dX0_wise_62 : decode cX0_wise 62 = .ok (.iconst 1, 1) := dk_4 (dk_at dksX0_wise_2 17 rfl rfl)
theorem dX0_wise_63 : decode cX0_wise 63 = .ok (.goto 4, 3) := dk_167 0 4 (dk_at dksX0_wise_2 18 rfl rfl)
theorem dX0_wise_66 : decode cX0_wise 66 = .ok (.iconst 0, 1) := dk_3 (dk_at dksX0_wise_2 21 rfl rfl)
theorem dX0_wise_67 : decode cX0_wise 67 = .ok (.ireturn, 1) := dk_172 (dk_at dksX0_wise_2 22 rfl rfl)
abbrev cX0_ring : ByteArray := prog_1_method_37_code
def yX0_ring : MethodName := ⟨RX0, "ring", "()I"⟩
def dkwX0_ring_0 : List UInt8 := [42, 3, 182, 1, 11, 42, 180, 0, 10, 180, 0, 104, 160, 0, 7, 3, 167, 0, 4, 4, 172]
abbrev dktX0_ring_0 : List UInt8 := dkwX0_ring_0 ++ []
theorem dksX0_ring_0 : cX0_ring.data.toList.drop 0 = dktX0_ring_0 := by decide +kernel
theorem dX0_ring_0 : decode cX0_ring 0 = .ok (.aload_n 0, 1) := dk_42 (dk_at dksX0_ring_0 0 rfl rfl)
theorem dX0_ring_1 : decode cX0_ring 1 = .ok (.iconst 0, 1) := dk_3 (dk_at dksX0_ring_0 1 rfl rfl)
theorem dX0_ring_2 : decode cX0_ring 2 = .ok (.invokevirtual 267, 3) := dk_182 1 11 (dk_at dksX0_ring_0 2 rfl rfl)
theorem dX0_ring_5 : decode cX0_ring 5 = .ok (.aload_n 0, 1) := dk_42 (dk_at dksX0_ring_0 5 rfl rfl)
theorem dX0_ring_6 : decode cX0_ring 6 = .ok (.getfield 10, 3) := dk_180 0 10 (dk_at dksX0_ring_0 6 rfl rfl)
theorem dX0_ring_9 : decode cX0_ring 9 = .ok (.getfield 104, 3) := dk_180 0 104 (dk_at dksX0_ring_0 9 rfl rfl)
theorem dX0_ring_12 : decode cX0_ring 12 = .ok (.if_icmp .ne 7, 3) := dk_160 0 7 (dk_at dksX0_ring_0 12 rfl rfl)
theorem dX0_ring_15 : decode cX0_ring 15 = .ok (.iconst 0, 1) := dk_3 (dk_at dksX0_ring_0 15 rfl rfl)
theorem dX0_ring_16 : decode cX0_ring 16 = .ok (.goto 4, 3) := dk_167 0 4 (dk_at dksX0_ring_0 16 rfl rfl)
theorem dX0_ring_19 : decode cX0_ring 19 = .ok (.iconst 1, 1) := dk_4 (dk_at dksX0_ring_0 19 rfl rfl)
theorem dX0_ring_20 : decode cX0_ring 20 = .ok (.ireturn, 1) := dk_172 (dk_at dksX0_ring_0 20 rfl rfl)
abbrev cX0_inOrder : ByteArray := prog_1_method_36_code
def yX0_inOrder : MethodName := ⟨RX0, "inOrder", "(I)I"⟩
def dkwX0_inOrder_3 : List UInt8 := [29, 21, 5, 79, 132, 3, 1, 4, 54, 4, 132, 5, 1, 167, 255, 189, 167, 255, 175, 29, 172]
abbrev dktX0_inOrder_3 : List UInt8 := dkwX0_inOrder_3 ++ []
def dkwX0_inOrder_2 : List UInt8 := [180, 0, 204, 21, 5, 46, 28, 2, 130, 126, 154, 0, 24, 28, 4, 21, 5, 120, 128, 61, 42, 180, 0, 44]
abbrev dktX0_inOrder_2 : List UInt8 := dkwX0_inOrder_2 ++ dktX0_inOrder_3
def dkwX0_inOrder_1 : List UInt8 := [180, 0, 104, 162, 0, 61, 21, 4, 154, 0, 56, 28, 21, 5, 122, 4, 126, 154, 0, 41, 42, 180, 0, 10]
abbrev dktX0_inOrder_1 : List UInt8 := dkwX0_inOrder_1 ++ dktX0_inOrder_2
def dkwX0_inOrder_0 : List UInt8 := [27, 61, 3, 62, 4, 54, 4, 21, 4, 153, 0, 82, 3, 54, 4, 3, 54, 5, 21, 5, 42, 180, 0, 10]
abbrev dktX0_inOrder_0 : List UInt8 := dkwX0_inOrder_0 ++ dktX0_inOrder_1
theorem dksX0_inOrder_0 : cX0_inOrder.data.toList.drop 0 = dktX0_inOrder_0 := by decide +kernel
theorem dksX0_inOrder_1 : cX0_inOrder.data.toList.drop 24 = dktX0_inOrder_1 := dk_seg dksX0_inOrder_0 24 rfl rfl
theorem dksX0_inOrder_2 : cX0_inOrder.data.toList.drop 48 = dktX0_inOrder_2 := dk_seg dksX0_inOrder_1 24 rfl rfl
theorem dksX0_inOrder_3 : cX0_inOrder.data.toList.drop 72 = dktX0_inOrder_3 := dk_seg dksX0_inOrder_2 24 rfl rfl
theorem dX0_inOrder_0 : decode cX0_inOrder 0 = .ok (.iload_n 1, 1) := dk_27 (dk_at dksX0_inOrder_0 0 rfl rfl)
theorem dX0_inOrder_1 : decode cX0_inOrder 1 = .ok (.istore_n 2, 1) := dk_61 (dk_at dksX0_inOrder_0 1 rfl rfl)
theorem dX0_inOrder_2 : decode cX0_inOrder 2 = .ok (.iconst 0, 1) := dk_3 (dk_at dksX0_inOrder_0 2 rfl rfl)
theorem dX0_inOrder_3 : decode cX0_inOrder 3 = .ok (.istore_n 3, 1) := dk_62 (dk_at dksX0_inOrder_0 3 rfl rfl)
theorem dX0_inOrder_4 : decode cX0_inOrder 4 = .ok (.iconst 1, 1) := dk_4 (dk_at dksX0_inOrder_0 4 rfl rfl)
theorem dX0_inOrder_5 : decode cX0_inOrder 5 = .ok (.istore 4, 2) := dk_54 4 (dk_at dksX0_inOrder_0 5 rfl rfl)
theorem dX0_inOrder_7 : decode cX0_inOrder 7 = .ok (.iload 4, 2) := dk_21 4 (dk_at dksX0_inOrder_0 7 rfl rfl)
theorem dX0_inOrder_9 : decode cX0_inOrder 9 = .ok (.ifCond .eq 82, 3) := dk_153 0 82 (dk_at dksX0_inOrder_0 9 rfl rfl)
theorem dX0_inOrder_12 : decode cX0_inOrder 12 = .ok (.iconst 0, 1) := dk_3 (dk_at dksX0_inOrder_0 12 rfl rfl)
theorem dX0_inOrder_13 : decode cX0_inOrder 13 = .ok (.istore 4, 2) := dk_54 4 (dk_at dksX0_inOrder_0 13 rfl rfl)
theorem dX0_inOrder_15 : decode cX0_inOrder 15 = .ok (.iconst 0, 1) := dk_3 (dk_at dksX0_inOrder_0 15 rfl rfl)
theorem dX0_inOrder_16 : decode cX0_inOrder 16 = .ok (.istore 5, 2) := dk_54 5 (dk_at dksX0_inOrder_0 16 rfl rfl)
theorem dX0_inOrder_18 : decode cX0_inOrder 18 = .ok (.iload 5, 2) := dk_21 5 (dk_at dksX0_inOrder_0 18 rfl rfl)
theorem dX0_inOrder_20 : decode cX0_inOrder 20 = .ok (.aload_n 0, 1) := dk_42 (dk_at dksX0_inOrder_0 20 rfl rfl)
theorem dX0_inOrder_21 : decode cX0_inOrder 21 = .ok (.getfield 10, 3) := dk_180 0 10 (dk_at dksX0_inOrder_0 21 rfl rfl)
theorem dX0_inOrder_24 : decode cX0_inOrder 24 = .ok (.getfield 104, 3) := dk_180 0 104 (dk_at dksX0_inOrder_1 0 rfl rfl)
theorem dX0_inOrder_27 : decode cX0_inOrder 27 = .ok (.if_icmp .ge 61, 3) := dk_162 0 61 (dk_at dksX0_inOrder_1 3 rfl rfl)
theorem dX0_inOrder_30 : decode cX0_inOrder 30 = .ok (.iload 4, 2) := dk_21 4 (dk_at dksX0_inOrder_1 6 rfl rfl)
theorem dX0_inOrder_32 : decode cX0_inOrder 32 = .ok (.ifCond .ne 56, 3) := dk_154 0 56 (dk_at dksX0_inOrder_1 8 rfl rfl)
theorem dX0_inOrder_35 : decode cX0_inOrder 35 = .ok (.iload_n 2, 1) := dk_28 (dk_at dksX0_inOrder_1 11 rfl rfl)
theorem dX0_inOrder_36 : decode cX0_inOrder 36 = .ok (.iload 5, 2) := dk_21 5 (dk_at dksX0_inOrder_1 12 rfl rfl)
theorem dX0_inOrder_38 : decode cX0_inOrder 38 = .ok (.ishr, 1) := dk_122 (dk_at dksX0_inOrder_1 14 rfl rfl)
theorem dX0_inOrder_39 : decode cX0_inOrder 39 = .ok (.iconst 1, 1) := dk_4 (dk_at dksX0_inOrder_1 15 rfl rfl)
theorem dX0_inOrder_40 : decode cX0_inOrder 40 = .ok (.iand, 1) := dk_126 (dk_at dksX0_inOrder_1 16 rfl rfl)
theorem dX0_inOrder_41 : decode cX0_inOrder 41 = .ok (.ifCond .ne 41, 3) := dk_154 0 41 (dk_at dksX0_inOrder_1 17 rfl rfl)
theorem dX0_inOrder_44 : decode cX0_inOrder 44 = .ok (.aload_n 0, 1) := dk_42 (dk_at dksX0_inOrder_1 20 rfl rfl)
theorem dX0_inOrder_45 : decode cX0_inOrder 45 = .ok (.getfield 10, 3) := dk_180 0 10 (dk_at dksX0_inOrder_1 21 rfl rfl)
theorem dX0_inOrder_48 : decode cX0_inOrder 48 = .ok (.getfield 204, 3) := dk_180 0 204 (dk_at dksX0_inOrder_2 0 rfl rfl)
theorem dX0_inOrder_51 : decode cX0_inOrder 51 = .ok (.iload 5, 2) := dk_21 5 (dk_at dksX0_inOrder_2 3 rfl rfl)
theorem dX0_inOrder_53 : decode cX0_inOrder 53 = .ok (.iaload, 1) := dk_46 (dk_at dksX0_inOrder_2 5 rfl rfl)
theorem dX0_inOrder_54 : decode cX0_inOrder 54 = .ok (.iload_n 2, 1) := dk_28 (dk_at dksX0_inOrder_2 6 rfl rfl)
theorem dX0_inOrder_55 : decode cX0_inOrder 55 = .ok (.iconst (-1), 1) := dk_2 (dk_at dksX0_inOrder_2 7 rfl rfl)
theorem dX0_inOrder_56 : decode cX0_inOrder 56 = .ok (.ixor, 1) := dk_130 (dk_at dksX0_inOrder_2 8 rfl rfl)
theorem dX0_inOrder_57 : decode cX0_inOrder 57 = .ok (.iand, 1) := dk_126 (dk_at dksX0_inOrder_2 9 rfl rfl)
theorem dX0_inOrder_58 : decode cX0_inOrder 58 = .ok (.ifCond .ne 24, 3) := dk_154 0 24 (dk_at dksX0_inOrder_2 10 rfl rfl)
theorem dX0_inOrder_61 : decode cX0_inOrder 61 = .ok (.iload_n 2, 1) := dk_28 (dk_at dksX0_inOrder_2 13 rfl rfl)
theorem dX0_inOrder_62 : decode cX0_inOrder 62 = .ok (.iconst 1, 1) := dk_4 (dk_at dksX0_inOrder_2 14 rfl rfl)
theorem dX0_inOrder_63 : decode cX0_inOrder 63 = .ok (.iload 5, 2) := dk_21 5 (dk_at dksX0_inOrder_2 15 rfl rfl)
theorem dX0_inOrder_65 : decode cX0_inOrder 65 = .ok (.ishl, 1) := dk_120 (dk_at dksX0_inOrder_2 17 rfl rfl)
theorem dX0_inOrder_66 : decode cX0_inOrder 66 = .ok (.ior, 1) := dk_128 (dk_at dksX0_inOrder_2 18 rfl rfl)
theorem dX0_inOrder_67 : decode cX0_inOrder 67 = .ok (.istore_n 2, 1) := dk_61 (dk_at dksX0_inOrder_2 19 rfl rfl)
theorem dX0_inOrder_68 : decode cX0_inOrder 68 = .ok (.aload_n 0, 1) := dk_42 (dk_at dksX0_inOrder_2 20 rfl rfl)
theorem dX0_inOrder_69 : decode cX0_inOrder 69 = .ok (.getfield 44, 3) := dk_180 0 44 (dk_at dksX0_inOrder_2 21 rfl rfl)
theorem dX0_inOrder_72 : decode cX0_inOrder 72 = .ok (.iload_n 3, 1) := dk_29 (dk_at dksX0_inOrder_3 0 rfl rfl)
theorem dX0_inOrder_73 : decode cX0_inOrder 73 = .ok (.iload 5, 2) := dk_21 5 (dk_at dksX0_inOrder_3 1 rfl rfl)
theorem dX0_inOrder_75 : decode cX0_inOrder 75 = .ok (.iastore, 1) := dk_79 (dk_at dksX0_inOrder_3 3 rfl rfl)
theorem dX0_inOrder_76 : decode cX0_inOrder 76 = .ok (.iinc 3 1, 3) := dk_132 3 1 (dk_at dksX0_inOrder_3 4 rfl rfl)
theorem dX0_inOrder_79 : decode cX0_inOrder 79 = .ok (.iconst 1, 1) := dk_4 (dk_at dksX0_inOrder_3 7 rfl rfl)
theorem dX0_inOrder_80 : decode cX0_inOrder 80 = .ok (.istore 4, 2) := dk_54 4 (dk_at dksX0_inOrder_3 8 rfl rfl)
theorem dX0_inOrder_82 : decode cX0_inOrder 82 = .ok (.iinc 5 1, 3) := dk_132 5 1 (dk_at dksX0_inOrder_3 10 rfl rfl)
theorem dX0_inOrder_85 : decode cX0_inOrder 85 = .ok (.goto (-67), 3) := dk_167 255 189 (dk_at dksX0_inOrder_3 13 rfl rfl)
theorem dX0_inOrder_88 : decode cX0_inOrder 88 = .ok (.goto (-81), 3) := dk_167 255 175 (dk_at dksX0_inOrder_3 16 rfl rfl)
theorem dX0_inOrder_91 : decode cX0_inOrder 91 = .ok (.iload_n 3, 1) := dk_29 (dk_at dksX0_inOrder_3 19 rfl rfl)
theorem dX0_inOrder_92 : decode cX0_inOrder 92 = .ok (.ireturn, 1) := dk_172 (dk_at dksX0_inOrder_3 20 rfl rfl)
abbrev cX0_order : ByteArray := prog_1_method_38_code
def yX0_order : MethodName := ⟨RX0, "order", "(I)I"⟩
def dkwX0_order_1 : List UInt8 := [16, 247, 167, 0, 19, 27, 28, 162, 0, 12, 42, 180, 0, 44, 27, 46, 167, 0, 5, 16, 251, 172]
abbrev dktX0_order_1 : List UInt8 := dkwX0_order_1 ++ []
def dkwX0_order_0 : List UInt8 := [27, 156, 0, 5, 2, 172, 42, 3, 182, 1, 11, 61, 28, 42, 180, 0, 10, 180, 0, 104, 162, 0, 8]
abbrev dktX0_order_0 : List UInt8 := dkwX0_order_0 ++ dktX0_order_1
theorem dksX0_order_0 : cX0_order.data.toList.drop 0 = dktX0_order_0 := by decide +kernel
theorem dksX0_order_1 : cX0_order.data.toList.drop 23 = dktX0_order_1 := dk_seg dksX0_order_0 23 rfl rfl
theorem dX0_order_0 : decode cX0_order 0 = .ok (.iload_n 1, 1) := dk_27 (dk_at dksX0_order_0 0 rfl rfl)
theorem dX0_order_1 : decode cX0_order 1 = .ok (.ifCond .ge 5, 3) := dk_156 0 5 (dk_at dksX0_order_0 1 rfl rfl)
theorem dX0_order_4 : decode cX0_order 4 = .ok (.iconst (-1), 1) := dk_2 (dk_at dksX0_order_0 4 rfl rfl)
theorem dX0_order_5 : decode cX0_order 5 = .ok (.ireturn, 1) := dk_172 (dk_at dksX0_order_0 5 rfl rfl)
theorem dX0_order_6 : decode cX0_order 6 = .ok (.aload_n 0, 1) := dk_42 (dk_at dksX0_order_0 6 rfl rfl)
theorem dX0_order_7 : decode cX0_order 7 = .ok (.iconst 0, 1) := dk_3 (dk_at dksX0_order_0 7 rfl rfl)
theorem dX0_order_8 : decode cX0_order 8 = .ok (.invokevirtual 267, 3) := dk_182 1 11 (dk_at dksX0_order_0 8 rfl rfl)
theorem dX0_order_11 : decode cX0_order 11 = .ok (.istore_n 2, 1) := dk_61 (dk_at dksX0_order_0 11 rfl rfl)
theorem dX0_order_12 : decode cX0_order 12 = .ok (.iload_n 2, 1) := dk_28 (dk_at dksX0_order_0 12 rfl rfl)
theorem dX0_order_13 : decode cX0_order 13 = .ok (.aload_n 0, 1) := dk_42 (dk_at dksX0_order_0 13 rfl rfl)
theorem dX0_order_14 : decode cX0_order 14 = .ok (.getfield 10, 3) := dk_180 0 10 (dk_at dksX0_order_0 14 rfl rfl)
theorem dX0_order_17 : decode cX0_order 17 = .ok (.getfield 104, 3) := dk_180 0 104 (dk_at dksX0_order_0 17 rfl rfl)
theorem dX0_order_20 : decode cX0_order 20 = .ok (.if_icmp .ge 8, 3) := dk_162 0 8 (dk_at dksX0_order_0 20 rfl rfl)
theorem dX0_order_23 : decode cX0_order 23 = .ok (.bipush (-9), 2) := dk_16 247 (dk_at dksX0_order_1 0 rfl rfl)
theorem dX0_order_25 : decode cX0_order 25 = .ok (.goto 19, 3) := dk_167 0 19 (dk_at dksX0_order_1 2 rfl rfl)
theorem dX0_order_28 : decode cX0_order 28 = .ok (.iload_n 1, 1) := dk_27 (dk_at dksX0_order_1 5 rfl rfl)
theorem dX0_order_29 : decode cX0_order 29 = .ok (.iload_n 2, 1) := dk_28 (dk_at dksX0_order_1 6 rfl rfl)
theorem dX0_order_30 : decode cX0_order 30 = .ok (.if_icmp .ge 12, 3) := dk_162 0 12 (dk_at dksX0_order_1 7 rfl rfl)
theorem dX0_order_33 : decode cX0_order 33 = .ok (.aload_n 0, 1) := dk_42 (dk_at dksX0_order_1 10 rfl rfl)
theorem dX0_order_34 : decode cX0_order 34 = .ok (.getfield 44, 3) := dk_180 0 44 (dk_at dksX0_order_1 11 rfl rfl)
theorem dX0_order_37 : decode cX0_order 37 = .ok (.iload_n 1, 1) := dk_27 (dk_at dksX0_order_1 14 rfl rfl)
theorem dX0_order_38 : decode cX0_order 38 = .ok (.iaload, 1) := dk_46 (dk_at dksX0_order_1 15 rfl rfl)
theorem dX0_order_39 : decode cX0_order 39 = .ok (.goto 5, 3) := dk_167 0 5 (dk_at dksX0_order_1 16 rfl rfl)
theorem dX0_order_42 : decode cX0_order 42 = .ok (.bipush (-5), 2) := dk_16 251 (dk_at dksX0_order_1 19 rfl rfl)
theorem dX0_order_44 : decode cX0_order 44 = .ok (.ireturn, 1) := dk_172 (dk_at dksX0_order_1 21 rfl rfl)
abbrev cX0_fewest : ByteArray := prog_1_method_39_code
def yX0_fewest : MethodName := ⟨RX0, "fewest", "(I)I"⟩
def dkwX0_fewest_4 : List UInt8 := [172]
abbrev dktX0_fewest_4 : List UInt8 := dkwX0_fewest_4 ++ []
def dkwX0_fewest_3 : List UInt8 := [29, 167, 0, 4, 28, 61, 132, 3, 1, 167, 255, 201, 27, 154, 0, 10, 28, 184, 0, 220, 167, 0, 4, 28]
abbrev dktX0_fewest_3 : List UInt8 := dkwX0_fewest_3 ++ dktX0_fewest_4
def dkwX0_fewest_2 : List UInt8 := [184, 0, 220, 162, 0, 25, 42, 29, 182, 1, 11, 42, 180, 0, 10, 180, 0, 104, 21, 4, 100, 160, 0, 7]
abbrev dktX0_fewest_2 : List UInt8 := dkwX0_fewest_2 ++ dktX0_fewest_3
def dkwX0_fewest_1 : List UInt8 := [62, 29, 4, 42, 180, 0, 10, 180, 0, 104, 120, 162, 0, 48, 29, 184, 0, 220, 54, 4, 21, 4, 28]
abbrev dktX0_fewest_1 : List UInt8 := dkwX0_fewest_1 ++ dktX0_fewest_2
def dkwX0_fewest_0 : List UInt8 := [27, 3, 4, 184, 0, 74, 154, 0, 5, 2, 172, 4, 42, 180, 0, 10, 180, 0, 104, 120, 4, 100, 61, 3]
abbrev dktX0_fewest_0 : List UInt8 := dkwX0_fewest_0 ++ dktX0_fewest_1
theorem dksX0_fewest_0 : cX0_fewest.data.toList.drop 0 = dktX0_fewest_0 := by decide +kernel
theorem dksX0_fewest_1 : cX0_fewest.data.toList.drop 24 = dktX0_fewest_1 := dk_seg dksX0_fewest_0 24 rfl rfl
theorem dksX0_fewest_2 : cX0_fewest.data.toList.drop 47 = dktX0_fewest_2 := dk_seg dksX0_fewest_1 23 rfl rfl
theorem dksX0_fewest_3 : cX0_fewest.data.toList.drop 71 = dktX0_fewest_3 := dk_seg dksX0_fewest_2 24 rfl rfl
theorem dksX0_fewest_4 : cX0_fewest.data.toList.drop 95 = dktX0_fewest_4 := dk_seg dksX0_fewest_3 24 rfl rfl
theorem dX0_fewest_0 : decode cX0_fewest 0 = .ok (.iload_n 1, 1) := dk_27 (dk_at dksX0_fewest_0 0 rfl rfl)
theorem dX0_fewest_1 : decode cX0_fewest 1 = .ok (.iconst 0, 1) := dk_3 (dk_at dksX0_fewest_0 1 rfl rfl)
theorem dX0_fewest_2 : decode cX0_fewest 2 = .ok (.iconst 1, 1) := dk_4 (dk_at dksX0_fewest_0 2 rfl rfl)
theorem dX0_fewest_3 : decode cX0_fewest 3 = .ok (.invokestatic 74, 3) := dk_184 0 74 (dk_at dksX0_fewest_0 3 rfl rfl)
theorem dX0_fewest_6 : decode cX0_fewest 6 = .ok (.ifCond .ne 5, 3) := dk_154 0 5 (dk_at dksX0_fewest_0 6 rfl rfl)
theorem dX0_fewest_9 : decode cX0_fewest 9 = .ok (.iconst (-1), 1) := dk_2 (dk_at dksX0_fewest_0 9 rfl rfl)
theorem dX0_fewest_10 : decode cX0_fewest 10 = .ok (.ireturn, 1) := dk_172 (dk_at dksX0_fewest_0 10 rfl rfl)
theorem dX0_fewest_11 : decode cX0_fewest 11 = .ok (.iconst 1, 1) := dk_4 (dk_at dksX0_fewest_0 11 rfl rfl)
theorem dX0_fewest_12 : decode cX0_fewest 12 = .ok (.aload_n 0, 1) := dk_42 (dk_at dksX0_fewest_0 12 rfl rfl)
theorem dX0_fewest_13 : decode cX0_fewest 13 = .ok (.getfield 10, 3) := dk_180 0 10 (dk_at dksX0_fewest_0 13 rfl rfl)
theorem dX0_fewest_16 : decode cX0_fewest 16 = .ok (.getfield 104, 3) := dk_180 0 104 (dk_at dksX0_fewest_0 16 rfl rfl)
theorem dX0_fewest_19 : decode cX0_fewest 19 = .ok (.ishl, 1) := dk_120 (dk_at dksX0_fewest_0 19 rfl rfl)
theorem dX0_fewest_20 : decode cX0_fewest 20 = .ok (.iconst 1, 1) := dk_4 (dk_at dksX0_fewest_0 20 rfl rfl)
theorem dX0_fewest_21 : decode cX0_fewest 21 = .ok (.isub, 1) := dk_100 (dk_at dksX0_fewest_0 21 rfl rfl)
theorem dX0_fewest_22 : decode cX0_fewest 22 = .ok (.istore_n 2, 1) := dk_61 (dk_at dksX0_fewest_0 22 rfl rfl)
theorem dX0_fewest_23 : decode cX0_fewest 23 = .ok (.iconst 0, 1) := dk_3 (dk_at dksX0_fewest_0 23 rfl rfl)
theorem dX0_fewest_24 : decode cX0_fewest 24 = .ok (.istore_n 3, 1) := dk_62 (dk_at dksX0_fewest_1 0 rfl rfl)
theorem dX0_fewest_25 : decode cX0_fewest 25 = .ok (.iload_n 3, 1) := dk_29 (dk_at dksX0_fewest_1 1 rfl rfl)
theorem dX0_fewest_26 : decode cX0_fewest 26 = .ok (.iconst 1, 1) := dk_4 (dk_at dksX0_fewest_1 2 rfl rfl)
theorem dX0_fewest_27 : decode cX0_fewest 27 = .ok (.aload_n 0, 1) := dk_42 (dk_at dksX0_fewest_1 3 rfl rfl)
theorem dX0_fewest_28 : decode cX0_fewest 28 = .ok (.getfield 10, 3) := dk_180 0 10 (dk_at dksX0_fewest_1 4 rfl rfl)
theorem dX0_fewest_31 : decode cX0_fewest 31 = .ok (.getfield 104, 3) := dk_180 0 104 (dk_at dksX0_fewest_1 7 rfl rfl)
theorem dX0_fewest_34 : decode cX0_fewest 34 = .ok (.ishl, 1) := dk_120 (dk_at dksX0_fewest_1 10 rfl rfl)
theorem dX0_fewest_35 : decode cX0_fewest 35 = .ok (.if_icmp .ge 48, 3) := dk_162 0 48 (dk_at dksX0_fewest_1 11 rfl rfl)
theorem dX0_fewest_38 : decode cX0_fewest 38 = .ok (.iload_n 3, 1) := dk_29 (dk_at dksX0_fewest_1 14 rfl rfl)
theorem dX0_fewest_39 : decode cX0_fewest 39 = .ok (.invokestatic 220, 3) := dk_184 0 220 (dk_at dksX0_fewest_1 15 rfl rfl)
theorem dX0_fewest_42 : decode cX0_fewest 42 = .ok (.istore 4, 2) := dk_54 4 (dk_at dksX0_fewest_1 18 rfl rfl)
theorem dX0_fewest_44 : decode cX0_fewest 44 = .ok (.iload 4, 2) := dk_21 4 (dk_at dksX0_fewest_1 20 rfl rfl)
theorem dX0_fewest_46 : decode cX0_fewest 46 = .ok (.iload_n 2, 1) := dk_28 (dk_at dksX0_fewest_1 22 rfl rfl)
theorem dX0_fewest_47 : decode cX0_fewest 47 = .ok (.invokestatic 220, 3) := dk_184 0 220 (dk_at dksX0_fewest_2 0 rfl rfl)
theorem dX0_fewest_50 : decode cX0_fewest 50 = .ok (.if_icmp .ge 25, 3) := dk_162 0 25 (dk_at dksX0_fewest_2 3 rfl rfl)
theorem dX0_fewest_53 : decode cX0_fewest 53 = .ok (.aload_n 0, 1) := dk_42 (dk_at dksX0_fewest_2 6 rfl rfl)
theorem dX0_fewest_54 : decode cX0_fewest 54 = .ok (.iload_n 3, 1) := dk_29 (dk_at dksX0_fewest_2 7 rfl rfl)
theorem dX0_fewest_55 : decode cX0_fewest 55 = .ok (.invokevirtual 267, 3) := dk_182 1 11 (dk_at dksX0_fewest_2 8 rfl rfl)
theorem dX0_fewest_58 : decode cX0_fewest 58 = .ok (.aload_n 0, 1) := dk_42 (dk_at dksX0_fewest_2 11 rfl rfl)
theorem dX0_fewest_59 : decode cX0_fewest 59 = .ok (.getfield 10, 3) := dk_180 0 10 (dk_at dksX0_fewest_2 12 rfl rfl)
theorem dX0_fewest_62 : decode cX0_fewest 62 = .ok (.getfield 104, 3) := dk_180 0 104 (dk_at dksX0_fewest_2 15 rfl rfl)
theorem dX0_fewest_65 : decode cX0_fewest 65 = .ok (.iload 4, 2) := dk_21 4 (dk_at dksX0_fewest_2 18 rfl rfl)
theorem dX0_fewest_67 : decode cX0_fewest 67 = .ok (.isub, 1) := dk_100 (dk_at dksX0_fewest_2 20 rfl rfl)
theorem dX0_fewest_68 : decode cX0_fewest 68 = .ok (.if_icmp .ne 7, 3) := dk_160 0 7 (dk_at dksX0_fewest_2 21 rfl rfl)
theorem dX0_fewest_71 : decode cX0_fewest 71 = .ok (.iload_n 3, 1) := dk_29 (dk_at dksX0_fewest_3 0 rfl rfl)
theorem dX0_fewest_72 : decode cX0_fewest 72 = .ok (.goto 4, 3) := dk_167 0 4 (dk_at dksX0_fewest_3 1 rfl rfl)
theorem dX0_fewest_75 : decode cX0_fewest 75 = .ok (.iload_n 2, 1) := dk_28 (dk_at dksX0_fewest_3 4 rfl rfl)
theorem dX0_fewest_76 : decode cX0_fewest 76 = .ok (.istore_n 2, 1) := dk_61 (dk_at dksX0_fewest_3 5 rfl rfl)
theorem dX0_fewest_77 : decode cX0_fewest 77 = .ok (.iinc 3 1, 3) := dk_132 3 1 (dk_at dksX0_fewest_3 6 rfl rfl)
theorem dX0_fewest_80 : decode cX0_fewest 80 = .ok (.goto (-55), 3) := dk_167 255 201 (dk_at dksX0_fewest_3 9 rfl rfl)
theorem dX0_fewest_83 : decode cX0_fewest 83 = .ok (.iload_n 1, 1) := dk_27 (dk_at dksX0_fewest_3 12 rfl rfl)
theorem dX0_fewest_84 : decode cX0_fewest 84 = .ok (.ifCond .ne 10, 3) := dk_154 0 10 (dk_at dksX0_fewest_3 13 rfl rfl)
theorem dX0_fewest_87 : decode cX0_fewest 87 = .ok (.iload_n 2, 1) := dk_28 (dk_at dksX0_fewest_3 16 rfl rfl)
theorem dX0_fewest_88 : decode cX0_fewest 88 = .ok (.invokestatic 220, 3) := dk_184 0 220 (dk_at dksX0_fewest_3 17 rfl rfl)
theorem dX0_fewest_91 : decode cX0_fewest 91 = .ok (.goto 4, 3) := dk_167 0 4 (dk_at dksX0_fewest_3 20 rfl rfl)
theorem dX0_fewest_94 : decode cX0_fewest 94 = .ok (.iload_n 2, 1) := dk_28 (dk_at dksX0_fewest_3 23 rfl rfl)
theorem dX0_fewest_95 : decode cX0_fewest 95 = .ok (.ireturn, 1) := dk_172 (dk_at dksX0_fewest_4 0 rfl rfl)
abbrev cX0_great : ByteArray := prog_1_method_41_code
def yX0_great : MethodName := ⟨RX0, "great", "(III)I"⟩
def dkwX0_great_8 : List UInt8 := [21, 4, 158, 0, 8, 16, 247, 167, 0, 14, 29, 154, 0, 8, 21, 5, 167, 0, 5, 21, 6, 172]
abbrev dktX0_great_8 : List UInt8 := dkwX0_great_8 ++ []
def dkwX0_great_7 : List UInt8 := [4, 21, 8, 120, 167, 0, 4, 3, 128, 54, 6, 132, 8, 1, 167, 255, 134, 132, 7, 1, 167, 255, 118]
abbrev dktX0_great_7 : List UInt8 := dkwX0_great_7 ++ dktX0_great_8
def dkwX0_great_6 : List UInt8 := [21, 4, 21, 10, 100, 54, 4, 21, 5, 21, 10, 21, 7, 104, 96, 54, 5, 21, 6, 21, 10, 158, 0, 10]
abbrev dktX0_great_6 : List UInt8 := dkwX0_great_6 ++ dktX0_great_7
def dkwX0_great_5 : List UInt8 := [21, 8, 182, 1, 14, 100, 184, 1, 17, 167, 0, 4, 3, 54, 9, 21, 9, 21, 4, 184, 1, 20, 54, 10]
abbrev dktX0_great_5 : List UInt8 := dkwX0_great_5 ++ dktX0_great_6
def dkwX0_great_4 : List UInt8 := [3, 42, 180, 0, 10, 180, 0, 114, 21, 8, 46, 28, 42, 180, 0, 19, 180, 0, 160, 100, 4, 96, 104, 42]
abbrev dktX0_great_4 : List UInt8 := dkwX0_great_4 ++ dktX0_great_5
def dkwX0_great_3 : List UInt8 := [42, 21, 8, 182, 0, 162, 153, 0, 54, 42, 180, 0, 10, 180, 0, 117, 21, 8, 46, 21, 7, 160, 0, 39]
abbrev dktX0_great_3 : List UInt8 := dkwX0_great_3 ++ dktX0_great_4
def dkwX0_great_2 : List UInt8 := [54, 7, 21, 7, 16, 9, 163, 0, 137, 3, 54, 8, 21, 8, 42, 180, 0, 10, 180, 0, 101, 162, 0, 116]
abbrev dktX0_great_2 : List UInt8 := dkwX0_great_2 ++ dktX0_great_3
def dkwX0_great_1 : List UInt8 := [153, 0, 12, 29, 3, 4, 184, 0, 74, 154, 0, 5, 2, 172, 27, 54, 4, 3, 54, 5, 3, 54, 6, 3]
abbrev dktX0_great_1 : List UInt8 := dkwX0_great_1 ++ dktX0_great_2
def dkwX0_great_0 : List UInt8 := [27, 4, 16, 99, 184, 0, 74, 153, 0, 28, 28, 42, 180, 0, 19, 180, 0, 160, 16, 9, 184, 0, 74]
abbrev dktX0_great_0 : List UInt8 := dkwX0_great_0 ++ dktX0_great_1
theorem dksX0_great_0 : cX0_great.data.toList.drop 0 = dktX0_great_0 := by decide +kernel
theorem dksX0_great_1 : cX0_great.data.toList.drop 23 = dktX0_great_1 := dk_seg dksX0_great_0 23 rfl rfl
theorem dksX0_great_2 : cX0_great.data.toList.drop 47 = dktX0_great_2 := dk_seg dksX0_great_1 24 rfl rfl
theorem dksX0_great_3 : cX0_great.data.toList.drop 71 = dktX0_great_3 := dk_seg dksX0_great_2 24 rfl rfl
theorem dksX0_great_4 : cX0_great.data.toList.drop 95 = dktX0_great_4 := dk_seg dksX0_great_3 24 rfl rfl
theorem dksX0_great_5 : cX0_great.data.toList.drop 119 = dktX0_great_5 := dk_seg dksX0_great_4 24 rfl rfl
theorem dksX0_great_6 : cX0_great.data.toList.drop 143 = dktX0_great_6 := dk_seg dksX0_great_5 24 rfl rfl
theorem dksX0_great_7 : cX0_great.data.toList.drop 167 = dktX0_great_7 := dk_seg dksX0_great_6 24 rfl rfl
theorem dksX0_great_8 : cX0_great.data.toList.drop 190 = dktX0_great_8 := dk_seg dksX0_great_7 23 rfl rfl
theorem dX0_great_0 : decode cX0_great 0 = .ok (.iload_n 1, 1) := dk_27 (dk_at dksX0_great_0 0 rfl rfl)
theorem dX0_great_1 : decode cX0_great 1 = .ok (.iconst 1, 1) := dk_4 (dk_at dksX0_great_0 1 rfl rfl)
theorem dX0_great_2 : decode cX0_great 2 = .ok (.bipush 99, 2) := dk_16 99 (dk_at dksX0_great_0 2 rfl rfl)
theorem dX0_great_4 : decode cX0_great 4 = .ok (.invokestatic 74, 3) := dk_184 0 74 (dk_at dksX0_great_0 4 rfl rfl)
theorem dX0_great_7 : decode cX0_great 7 = .ok (.ifCond .eq 28, 3) := dk_153 0 28 (dk_at dksX0_great_0 7 rfl rfl)
theorem dX0_great_10 : decode cX0_great 10 = .ok (.iload_n 2, 1) := dk_28 (dk_at dksX0_great_0 10 rfl rfl)
theorem dX0_great_11 : decode cX0_great 11 = .ok (.aload_n 0, 1) := dk_42 (dk_at dksX0_great_0 11 rfl rfl)
theorem dX0_great_12 : decode cX0_great 12 = .ok (.getfield 19, 3) := dk_180 0 19 (dk_at dksX0_great_0 12 rfl rfl)
theorem dX0_great_15 : decode cX0_great 15 = .ok (.getfield 160, 3) := dk_180 0 160 (dk_at dksX0_great_0 15 rfl rfl)
theorem dX0_great_18 : decode cX0_great 18 = .ok (.bipush 9, 2) := dk_16 9 (dk_at dksX0_great_0 18 rfl rfl)
theorem dX0_great_20 : decode cX0_great 20 = .ok (.invokestatic 74, 3) := dk_184 0 74 (dk_at dksX0_great_0 20 rfl rfl)
theorem dX0_great_23 : decode cX0_great 23 = .ok (.ifCond .eq 12, 3) := dk_153 0 12 (dk_at dksX0_great_1 0 rfl rfl)
theorem dX0_great_26 : decode cX0_great 26 = .ok (.iload_n 3, 1) := dk_29 (dk_at dksX0_great_1 3 rfl rfl)
theorem dX0_great_27 : decode cX0_great 27 = .ok (.iconst 0, 1) := dk_3 (dk_at dksX0_great_1 4 rfl rfl)
theorem dX0_great_28 : decode cX0_great 28 = .ok (.iconst 1, 1) := dk_4 (dk_at dksX0_great_1 5 rfl rfl)
theorem dX0_great_29 : decode cX0_great 29 = .ok (.invokestatic 74, 3) := dk_184 0 74 (dk_at dksX0_great_1 6 rfl rfl)
theorem dX0_great_32 : decode cX0_great 32 = .ok (.ifCond .ne 5, 3) := dk_154 0 5 (dk_at dksX0_great_1 9 rfl rfl)
theorem dX0_great_35 : decode cX0_great 35 = .ok (.iconst (-1), 1) := dk_2 (dk_at dksX0_great_1 12 rfl rfl)
theorem dX0_great_36 : decode cX0_great 36 = .ok (.ireturn, 1) := dk_172 (dk_at dksX0_great_1 13 rfl rfl)
theorem dX0_great_37 : decode cX0_great 37 = .ok (.iload_n 1, 1) := dk_27 (dk_at dksX0_great_1 14 rfl rfl)
theorem dX0_great_38 : decode cX0_great 38 = .ok (.istore 4, 2) := dk_54 4 (dk_at dksX0_great_1 15 rfl rfl)
theorem dX0_great_40 : decode cX0_great 40 = .ok (.iconst 0, 1) := dk_3 (dk_at dksX0_great_1 17 rfl rfl)
theorem dX0_great_41 : decode cX0_great 41 = .ok (.istore 5, 2) := dk_54 5 (dk_at dksX0_great_1 18 rfl rfl)
theorem dX0_great_43 : decode cX0_great 43 = .ok (.iconst 0, 1) := dk_3 (dk_at dksX0_great_1 20 rfl rfl)
theorem dX0_great_44 : decode cX0_great 44 = .ok (.istore 6, 2) := dk_54 6 (dk_at dksX0_great_1 21 rfl rfl)
theorem dX0_great_46 : decode cX0_great 46 = .ok (.iconst 0, 1) := dk_3 (dk_at dksX0_great_1 23 rfl rfl)
theorem dX0_great_47 : decode cX0_great 47 = .ok (.istore 7, 2) := dk_54 7 (dk_at dksX0_great_2 0 rfl rfl)
theorem dX0_great_49 : decode cX0_great 49 = .ok (.iload 7, 2) := dk_21 7 (dk_at dksX0_great_2 2 rfl rfl)
theorem dX0_great_51 : decode cX0_great 51 = .ok (.bipush 9, 2) := dk_16 9 (dk_at dksX0_great_2 4 rfl rfl)
theorem dX0_great_53 : decode cX0_great 53 = .ok (.if_icmp .gt 137, 3) := dk_163 0 137 (dk_at dksX0_great_2 6 rfl rfl)
theorem dX0_great_56 : decode cX0_great 56 = .ok (.iconst 0, 1) := dk_3 (dk_at dksX0_great_2 9 rfl rfl)
theorem dX0_great_57 : decode cX0_great 57 = .ok (.istore 8, 2) := dk_54 8 (dk_at dksX0_great_2 10 rfl rfl)
theorem dX0_great_59 : decode cX0_great 59 = .ok (.iload 8, 2) := dk_21 8 (dk_at dksX0_great_2 12 rfl rfl)
theorem dX0_great_61 : decode cX0_great 61 = .ok (.aload_n 0, 1) := dk_42 (dk_at dksX0_great_2 14 rfl rfl)
theorem dX0_great_62 : decode cX0_great 62 = .ok (.getfield 10, 3) := dk_180 0 10 (dk_at dksX0_great_2 15 rfl rfl)
theorem dX0_great_65 : decode cX0_great 65 = .ok (.getfield 101, 3) := dk_180 0 101 (dk_at dksX0_great_2 18 rfl rfl)
theorem dX0_great_68 : decode cX0_great 68 = .ok (.if_icmp .ge 116, 3) := dk_162 0 116 (dk_at dksX0_great_2 21 rfl rfl)
theorem dX0_great_71 : decode cX0_great 71 = .ok (.aload_n 0, 1) := dk_42 (dk_at dksX0_great_3 0 rfl rfl)
theorem dX0_great_72 : decode cX0_great 72 = .ok (.iload 8, 2) := dk_21 8 (dk_at dksX0_great_3 1 rfl rfl)
theorem dX0_great_74 : decode cX0_great 74 = .ok (.invokevirtual 162, 3) := dk_182 0 162 (dk_at dksX0_great_3 3 rfl rfl)
theorem dX0_great_77 : decode cX0_great 77 = .ok (.ifCond .eq 54, 3) := dk_153 0 54 (dk_at dksX0_great_3 6 rfl rfl)
theorem dX0_great_80 : decode cX0_great 80 = .ok (.aload_n 0, 1) := dk_42 (dk_at dksX0_great_3 9 rfl rfl)
theorem dX0_great_81 : decode cX0_great 81 = .ok (.getfield 10, 3) := dk_180 0 10 (dk_at dksX0_great_3 10 rfl rfl)
theorem dX0_great_84 : decode cX0_great 84 = .ok (.getfield 117, 3) := dk_180 0 117 (dk_at dksX0_great_3 13 rfl rfl)
theorem dX0_great_87 : decode cX0_great 87 = .ok (.iload 8, 2) := dk_21 8 (dk_at dksX0_great_3 16 rfl rfl)
theorem dX0_great_89 : decode cX0_great 89 = .ok (.iaload, 1) := dk_46 (dk_at dksX0_great_3 18 rfl rfl)
theorem dX0_great_90 : decode cX0_great 90 = .ok (.iload 7, 2) := dk_21 7 (dk_at dksX0_great_3 19 rfl rfl)
theorem dX0_great_92 : decode cX0_great 92 = .ok (.if_icmp .ne 39, 3) := dk_160 0 39 (dk_at dksX0_great_3 21 rfl rfl)
theorem dX0_great_95 : decode cX0_great 95 = .ok (.iconst 0, 1) := dk_3 (dk_at dksX0_great_4 0 rfl rfl)
theorem dX0_great_96 : decode cX0_great 96 = .ok (.aload_n 0, 1) := dk_42 (dk_at dksX0_great_4 1 rfl rfl)
theorem dX0_great_97 : decode cX0_great 97 = .ok (.getfield 10, 3) := dk_180 0 10 (dk_at dksX0_great_4 2 rfl rfl)
theorem dX0_great_100 : decode cX0_great 100 = .ok (.getfield 114, 3) := dk_180 0 114 (dk_at dksX0_great_4 5 rfl rfl)
theorem dX0_great_103 : decode cX0_great 103 = .ok (.iload 8, 2) := dk_21 8 (dk_at dksX0_great_4 8 rfl rfl)
theorem dX0_great_105 : decode cX0_great 105 = .ok (.iaload, 1) := dk_46 (dk_at dksX0_great_4 10 rfl rfl)
theorem dX0_great_106 : decode cX0_great 106 = .ok (.iload_n 2, 1) := dk_28 (dk_at dksX0_great_4 11 rfl rfl)
theorem dX0_great_107 : decode cX0_great 107 = .ok (.aload_n 0, 1) := dk_42 (dk_at dksX0_great_4 12 rfl rfl)
theorem dX0_great_108 : decode cX0_great 108 = .ok (.getfield 19, 3) := dk_180 0 19 (dk_at dksX0_great_4 13 rfl rfl)
theorem dX0_great_111 : decode cX0_great 111 = .ok (.getfield 160, 3) := dk_180 0 160 (dk_at dksX0_great_4 16 rfl rfl)
theorem dX0_great_114 : decode cX0_great 114 = .ok (.isub, 1) := dk_100 (dk_at dksX0_great_4 19 rfl rfl)
theorem dX0_great_115 : decode cX0_great 115 = .ok (.iconst 1, 1) := dk_4 (dk_at dksX0_great_4 20 rfl rfl)
theorem dX0_great_116 : decode cX0_great 116 = .ok (.iadd, 1) := dk_96 (dk_at dksX0_great_4 21 rfl rfl)
theorem dX0_great_117 : decode cX0_great 117 = .ok (.imul, 1) := dk_104 (dk_at dksX0_great_4 22 rfl rfl)
theorem dX0_great_118 : decode cX0_great 118 = .ok (.aload_n 0, 1) := dk_42 (dk_at dksX0_great_4 23 rfl rfl)
theorem dX0_great_119 : decode cX0_great 119 = .ok (.iload 8, 2) := dk_21 8 (dk_at dksX0_great_5 0 rfl rfl)
theorem dX0_great_121 : decode cX0_great 121 = .ok (.invokevirtual 270, 3) := dk_182 1 14 (dk_at dksX0_great_5 2 rfl rfl)
theorem dX0_great_124 : decode cX0_great 124 = .ok (.isub, 1) := dk_100 (dk_at dksX0_great_5 5 rfl rfl)
theorem dX0_great_125 : decode cX0_great 125 = .ok (.invokestatic 273, 3) := dk_184 1 17 (dk_at dksX0_great_5 6 rfl rfl)
theorem dX0_great_128 : decode cX0_great 128 = .ok (.goto 4, 3) := dk_167 0 4 (dk_at dksX0_great_5 9 rfl rfl)
theorem dX0_great_131 : decode cX0_great 131 = .ok (.iconst 0, 1) := dk_3 (dk_at dksX0_great_5 12 rfl rfl)
theorem dX0_great_132 : decode cX0_great 132 = .ok (.istore 9, 2) := dk_54 9 (dk_at dksX0_great_5 13 rfl rfl)
theorem dX0_great_134 : decode cX0_great 134 = .ok (.iload 9, 2) := dk_21 9 (dk_at dksX0_great_5 15 rfl rfl)
theorem dX0_great_136 : decode cX0_great 136 = .ok (.iload 4, 2) := dk_21 4 (dk_at dksX0_great_5 17 rfl rfl)
theorem dX0_great_138 : decode cX0_great 138 = .ok (.invokestatic 276, 3) := dk_184 1 20 (dk_at dksX0_great_5 19 rfl rfl)
theorem dX0_great_141 : decode cX0_great 141 = .ok (.istore 10, 2) := dk_54 10 (dk_at dksX0_great_5 22 rfl rfl)
theorem dX0_great_143 : decode cX0_great 143 = .ok (.iload 4, 2) := dk_21 4 (dk_at dksX0_great_6 0 rfl rfl)
theorem dX0_great_145 : decode cX0_great 145 = .ok (.iload 10, 2) := dk_21 10 (dk_at dksX0_great_6 2 rfl rfl)
theorem dX0_great_147 : decode cX0_great 147 = .ok (.isub, 1) := dk_100 (dk_at dksX0_great_6 4 rfl rfl)
theorem dX0_great_148 : decode cX0_great 148 = .ok (.istore 4, 2) := dk_54 4 (dk_at dksX0_great_6 5 rfl rfl)
theorem dX0_great_150 : decode cX0_great 150 = .ok (.iload 5, 2) := dk_21 5 (dk_at dksX0_great_6 7 rfl rfl)
theorem dX0_great_152 : decode cX0_great 152 = .ok (.iload 10, 2) := dk_21 10 (dk_at dksX0_great_6 9 rfl rfl)
theorem dX0_great_154 : decode cX0_great 154 = .ok (.iload 7, 2) := dk_21 7 (dk_at dksX0_great_6 11 rfl rfl)
theorem dX0_great_156 : decode cX0_great 156 = .ok (.imul, 1) := dk_104 (dk_at dksX0_great_6 13 rfl rfl)
theorem dX0_great_157 : decode cX0_great 157 = .ok (.iadd, 1) := dk_96 (dk_at dksX0_great_6 14 rfl rfl)
theorem dX0_great_158 : decode cX0_great 158 = .ok (.istore 5, 2) := dk_54 5 (dk_at dksX0_great_6 15 rfl rfl)
theorem dX0_great_160 : decode cX0_great 160 = .ok (.iload 6, 2) := dk_21 6 (dk_at dksX0_great_6 17 rfl rfl)
theorem dX0_great_162 : decode cX0_great 162 = .ok (.iload 10, 2) := dk_21 10 (dk_at dksX0_great_6 19 rfl rfl)
theorem dX0_great_164 : decode cX0_great 164 = .ok (.ifCond .le 10, 3) := dk_158 0 10 (dk_at dksX0_great_6 21 rfl rfl)
theorem dX0_great_167 : decode cX0_great 167 = .ok (.iconst 1, 1) := dk_4 (dk_at dksX0_great_7 0 rfl rfl)
theorem dX0_great_168 : decode cX0_great 168 = .ok (.iload 8, 2) := dk_21 8 (dk_at dksX0_great_7 1 rfl rfl)
theorem dX0_great_170 : decode cX0_great 170 = .ok (.ishl, 1) := dk_120 (dk_at dksX0_great_7 3 rfl rfl)
theorem dX0_great_171 : decode cX0_great 171 = .ok (.goto 4, 3) := dk_167 0 4 (dk_at dksX0_great_7 4 rfl rfl)
theorem dX0_great_174 : decode cX0_great 174 = .ok (.iconst 0, 1) := dk_3 (dk_at dksX0_great_7 7 rfl rfl)
theorem dX0_great_175 : decode cX0_great 175 = .ok (.ior, 1) := dk_128 (dk_at dksX0_great_7 8 rfl rfl)
theorem dX0_great_176 : decode cX0_great 176 = .ok (.istore 6, 2) := dk_54 6 (dk_at dksX0_great_7 9 rfl rfl)
theorem dX0_great_178 : decode cX0_great 178 = .ok (.iinc 8 1, 3) := dk_132 8 1 (dk_at dksX0_great_7 11 rfl rfl)
theorem dX0_great_181 : decode cX0_great 181 = .ok (.goto (-122), 3) := dk_167 255 134 (dk_at dksX0_great_7 14 rfl rfl)
theorem dX0_great_184 : decode cX0_great 184 = .ok (.iinc 7 1, 3) := dk_132 7 1 (dk_at dksX0_great_7 17 rfl rfl)
theorem dX0_great_187 : decode cX0_great 187 = .ok (.goto (-138), 3) := dk_167 255 118 (dk_at dksX0_great_7 20 rfl rfl)
theorem dX0_great_190 : decode cX0_great 190 = .ok (.iload 4, 2) := dk_21 4 (dk_at dksX0_great_8 0 rfl rfl)
theorem dX0_great_192 : decode cX0_great 192 = .ok (.ifCond .le 8, 3) := dk_158 0 8 (dk_at dksX0_great_8 2 rfl rfl)
theorem dX0_great_195 : decode cX0_great 195 = .ok (.bipush (-9), 2) := dk_16 247 (dk_at dksX0_great_8 5 rfl rfl)
theorem dX0_great_197 : decode cX0_great 197 = .ok (.goto 14, 3) := dk_167 0 14 (dk_at dksX0_great_8 7 rfl rfl)
theorem dX0_great_200 : decode cX0_great 200 = .ok (.iload_n 3, 1) := dk_29 (dk_at dksX0_great_8 10 rfl rfl)
theorem dX0_great_201 : decode cX0_great 201 = .ok (.ifCond .ne 8, 3) := dk_154 0 8 (dk_at dksX0_great_8 11 rfl rfl)
theorem dX0_great_204 : decode cX0_great 204 = .ok (.iload 5, 2) := dk_21 5 (dk_at dksX0_great_8 14 rfl rfl)
theorem dX0_great_206 : decode cX0_great 206 = .ok (.goto 5, 3) := dk_167 0 5 (dk_at dksX0_great_8 16 rfl rfl)
theorem dX0_great_209 : decode cX0_great 209 = .ok (.iload 6, 2) := dk_21 6 (dk_at dksX0_great_8 19 rfl rfl)
theorem dX0_great_211 : decode cX0_great 211 = .ok (.ireturn, 1) := dk_172 (dk_at dksX0_great_8 21 rfl rfl)
abbrev cX0_leftOn : ByteArray := prog_1_method_40_code
def yX0_leftOn : MethodName := ⟨RX0, "leftOn", "(I)I"⟩
def dkwX0_leftOn_2 : List UInt8 := [132, 3, 1, 167, 255, 212, 28, 172]
abbrev dktX0_leftOn_2 : List UInt8 := dkwX0_leftOn_2 ++ []
def dkwX0_leftOn_1 : List UInt8 := [180, 0, 19, 180, 0, 150, 42, 180, 0, 19, 180, 0, 120, 27, 50, 180, 0, 157, 29, 46, 46, 96, 61]
abbrev dktX0_leftOn_1 : List UInt8 := dkwX0_leftOn_1 ++ dktX0_leftOn_2
def dkwX0_leftOn_0 : List UInt8 := [3, 61, 3, 62, 29, 42, 180, 0, 19, 180, 0, 120, 27, 50, 180, 0, 124, 162, 0, 34, 28, 42]
abbrev dktX0_leftOn_0 : List UInt8 := dkwX0_leftOn_0 ++ dktX0_leftOn_1
theorem dksX0_leftOn_0 : cX0_leftOn.data.toList.drop 0 = dktX0_leftOn_0 := by decide +kernel
theorem dksX0_leftOn_1 : cX0_leftOn.data.toList.drop 22 = dktX0_leftOn_1 := dk_seg dksX0_leftOn_0 22 rfl rfl
theorem dksX0_leftOn_2 : cX0_leftOn.data.toList.drop 45 = dktX0_leftOn_2 := dk_seg dksX0_leftOn_1 23 rfl rfl
theorem dX0_leftOn_0 : decode cX0_leftOn 0 = .ok (.iconst 0, 1) := dk_3 (dk_at dksX0_leftOn_0 0 rfl rfl)
theorem dX0_leftOn_1 : decode cX0_leftOn 1 = .ok (.istore_n 2, 1) := dk_61 (dk_at dksX0_leftOn_0 1 rfl rfl)
theorem dX0_leftOn_2 : decode cX0_leftOn 2 = .ok (.iconst 0, 1) := dk_3 (dk_at dksX0_leftOn_0 2 rfl rfl)
theorem dX0_leftOn_3 : decode cX0_leftOn 3 = .ok (.istore_n 3, 1) := dk_62 (dk_at dksX0_leftOn_0 3 rfl rfl)
theorem dX0_leftOn_4 : decode cX0_leftOn 4 = .ok (.iload_n 3, 1) := dk_29 (dk_at dksX0_leftOn_0 4 rfl rfl)
theorem dX0_leftOn_5 : decode cX0_leftOn 5 = .ok (.aload_n 0, 1) := dk_42 (dk_at dksX0_leftOn_0 5 rfl rfl)
theorem dX0_leftOn_6 : decode cX0_leftOn 6 = .ok (.getfield 19, 3) := dk_180 0 19 (dk_at dksX0_leftOn_0 6 rfl rfl)
theorem dX0_leftOn_9 : decode cX0_leftOn 9 = .ok (.getfield 120, 3) := dk_180 0 120 (dk_at dksX0_leftOn_0 9 rfl rfl)
theorem dX0_leftOn_12 : decode cX0_leftOn 12 = .ok (.iload_n 1, 1) := dk_27 (dk_at dksX0_leftOn_0 12 rfl rfl)
theorem dX0_leftOn_13 : decode cX0_leftOn 13 = .ok (.aaload, 1) := dk_50 (dk_at dksX0_leftOn_0 13 rfl rfl)
theorem dX0_leftOn_14 : decode cX0_leftOn 14 = .ok (.getfield 124, 3) := dk_180 0 124 (dk_at dksX0_leftOn_0 14 rfl rfl)
theorem dX0_leftOn_17 : decode cX0_leftOn 17 = .ok (.if_icmp .ge 34, 3) := dk_162 0 34 (dk_at dksX0_leftOn_0 17 rfl rfl)
theorem dX0_leftOn_20 : decode cX0_leftOn 20 = .ok (.iload_n 2, 1) := dk_28 (dk_at dksX0_leftOn_0 20 rfl rfl)
theorem dX0_leftOn_21 : decode cX0_leftOn 21 = .ok (.aload_n 0, 1) := dk_42 (dk_at dksX0_leftOn_0 21 rfl rfl)
theorem dX0_leftOn_22 : decode cX0_leftOn 22 = .ok (.getfield 19, 3) := dk_180 0 19 (dk_at dksX0_leftOn_1 0 rfl rfl)
theorem dX0_leftOn_25 : decode cX0_leftOn 25 = .ok (.getfield 150, 3) := dk_180 0 150 (dk_at dksX0_leftOn_1 3 rfl rfl)
theorem dX0_leftOn_28 : decode cX0_leftOn 28 = .ok (.aload_n 0, 1) := dk_42 (dk_at dksX0_leftOn_1 6 rfl rfl)
theorem dX0_leftOn_29 : decode cX0_leftOn 29 = .ok (.getfield 19, 3) := dk_180 0 19 (dk_at dksX0_leftOn_1 7 rfl rfl)
theorem dX0_leftOn_32 : decode cX0_leftOn 32 = .ok (.getfield 120, 3) := dk_180 0 120 (dk_at dksX0_leftOn_1 10 rfl rfl)
theorem dX0_leftOn_35 : decode cX0_leftOn 35 = .ok (.iload_n 1, 1) := dk_27 (dk_at dksX0_leftOn_1 13 rfl rfl)
theorem dX0_leftOn_36 : decode cX0_leftOn 36 = .ok (.aaload, 1) := dk_50 (dk_at dksX0_leftOn_1 14 rfl rfl)
theorem dX0_leftOn_37 : decode cX0_leftOn 37 = .ok (.getfield 157, 3) := dk_180 0 157 (dk_at dksX0_leftOn_1 15 rfl rfl)
theorem dX0_leftOn_40 : decode cX0_leftOn 40 = .ok (.iload_n 3, 1) := dk_29 (dk_at dksX0_leftOn_1 18 rfl rfl)
theorem dX0_leftOn_41 : decode cX0_leftOn 41 = .ok (.iaload, 1) := dk_46 (dk_at dksX0_leftOn_1 19 rfl rfl)
theorem dX0_leftOn_42 : decode cX0_leftOn 42 = .ok (.iaload, 1) := dk_46 (dk_at dksX0_leftOn_1 20 rfl rfl)
theorem dX0_leftOn_43 : decode cX0_leftOn 43 = .ok (.iadd, 1) := dk_96 (dk_at dksX0_leftOn_1 21 rfl rfl)
theorem dX0_leftOn_44 : decode cX0_leftOn 44 = .ok (.istore_n 2, 1) := dk_61 (dk_at dksX0_leftOn_1 22 rfl rfl)
theorem dX0_leftOn_45 : decode cX0_leftOn 45 = .ok (.iinc 3 1, 3) := dk_132 3 1 (dk_at dksX0_leftOn_2 0 rfl rfl)
theorem dX0_leftOn_48 : decode cX0_leftOn 48 = .ok (.goto (-44), 3) := dk_167 255 212 (dk_at dksX0_leftOn_2 3 rfl rfl)
theorem dX0_leftOn_51 : decode cX0_leftOn 51 = .ok (.iload_n 2, 1) := dk_28 (dk_at dksX0_leftOn_2 6 rfl rfl)
theorem dX0_leftOn_52 : decode cX0_leftOn 52 = .ok (.ireturn, 1) := dk_172 (dk_at dksX0_leftOn_2 7 rfl rfl)
abbrev cX0_rate : ByteArray := prog_1_method_42_code
def yX0_rate : MethodName := ⟨RX0, "rate", "(II)I"⟩
def dkwX0_rate_1 : List UInt8 := [182, 1, 23, 167, 0, 6, 19, 1, 26, 172]
abbrev dktX0_rate_1 : List UInt8 := dkwX0_rate_1 ++ []
def dkwX0_rate_0 : List UInt8 := [27, 3, 8, 184, 0, 74, 153, 0, 24, 42, 28, 182, 0, 107, 153, 0, 16, 42, 180, 0, 67, 27, 50, 28]
abbrev dktX0_rate_0 : List UInt8 := dkwX0_rate_0 ++ dktX0_rate_1
theorem dksX0_rate_0 : cX0_rate.data.toList.drop 0 = dktX0_rate_0 := by decide +kernel
theorem dksX0_rate_1 : cX0_rate.data.toList.drop 24 = dktX0_rate_1 := dk_seg dksX0_rate_0 24 rfl rfl
theorem dX0_rate_0 : decode cX0_rate 0 = .ok (.iload_n 1, 1) := dk_27 (dk_at dksX0_rate_0 0 rfl rfl)
theorem dX0_rate_1 : decode cX0_rate 1 = .ok (.iconst 0, 1) := dk_3 (dk_at dksX0_rate_0 1 rfl rfl)
theorem dX0_rate_2 : decode cX0_rate 2 = .ok (.iconst 5, 1) := dk_8 (dk_at dksX0_rate_0 2 rfl rfl)
theorem dX0_rate_3 : decode cX0_rate 3 = .ok (.invokestatic 74, 3) := dk_184 0 74 (dk_at dksX0_rate_0 3 rfl rfl)
theorem dX0_rate_6 : decode cX0_rate 6 = .ok (.ifCond .eq 24, 3) := dk_153 0 24 (dk_at dksX0_rate_0 6 rfl rfl)
theorem dX0_rate_9 : decode cX0_rate 9 = .ok (.aload_n 0, 1) := dk_42 (dk_at dksX0_rate_0 9 rfl rfl)
theorem dX0_rate_10 : decode cX0_rate 10 = .ok (.iload_n 2, 1) := dk_28 (dk_at dksX0_rate_0 10 rfl rfl)
theorem dX0_rate_11 : decode cX0_rate 11 = .ok (.invokevirtual 107, 3) := dk_182 0 107 (dk_at dksX0_rate_0 11 rfl rfl)
theorem dX0_rate_14 : decode cX0_rate 14 = .ok (.ifCond .eq 16, 3) := dk_153 0 16 (dk_at dksX0_rate_0 14 rfl rfl)
theorem dX0_rate_17 : decode cX0_rate 17 = .ok (.aload_n 0, 1) := dk_42 (dk_at dksX0_rate_0 17 rfl rfl)
theorem dX0_rate_18 : decode cX0_rate 18 = .ok (.getfield 67, 3) := dk_180 0 67 (dk_at dksX0_rate_0 18 rfl rfl)
theorem dX0_rate_21 : decode cX0_rate 21 = .ok (.iload_n 1, 1) := dk_27 (dk_at dksX0_rate_0 21 rfl rfl)
theorem dX0_rate_22 : decode cX0_rate 22 = .ok (.aaload, 1) := dk_50 (dk_at dksX0_rate_0 22 rfl rfl)
theorem dX0_rate_23 : decode cX0_rate 23 = .ok (.iload_n 2, 1) := dk_28 (dk_at dksX0_rate_0 23 rfl rfl)
theorem dX0_rate_24 : decode cX0_rate 24 = .ok (.invokevirtual 279, 3) := dk_182 1 23 (dk_at dksX0_rate_1 0 rfl rfl)
theorem dX0_rate_27 : decode cX0_rate 27 = .ok (.goto 6, 3) := dk_167 0 6 (dk_at dksX0_rate_1 3 rfl rfl)
theorem dX0_rate_30 : decode cX0_rate 30 = .ok (.ldc_w 282, 3) := dk_19 1 26 (dk_at dksX0_rate_1 6 rfl rfl)
theorem dX0_rate_33 : decode cX0_rate 33 = .ok (.ireturn, 1) := dk_172 (dk_at dksX0_rate_1 9 rfl rfl)
abbrev cX0_keep : ByteArray := prog_1_method_43_code
def yX0_keep : MethodName := ⟨RX0, "keep", "(I)I"⟩
def dkwX0_keep_1 : List UInt8 := [42, 180, 0, 23, 27, 50, 4, 181, 0, 94, 42, 180, 0, 19, 180, 0, 160, 172]
abbrev dktX0_keep_1 : List UInt8 := dkwX0_keep_1 ++ []
def dkwX0_keep_0 : List UInt8 := [27, 3, 4, 184, 0, 74, 154, 0, 5, 2, 172, 42, 180, 0, 23, 27, 50, 42, 180, 0, 19, 182, 1, 27]
abbrev dktX0_keep_0 : List UInt8 := dkwX0_keep_0 ++ dktX0_keep_1
theorem dksX0_keep_0 : cX0_keep.data.toList.drop 0 = dktX0_keep_0 := by decide +kernel
theorem dksX0_keep_1 : cX0_keep.data.toList.drop 24 = dktX0_keep_1 := dk_seg dksX0_keep_0 24 rfl rfl
theorem dX0_keep_0 : decode cX0_keep 0 = .ok (.iload_n 1, 1) := dk_27 (dk_at dksX0_keep_0 0 rfl rfl)
theorem dX0_keep_1 : decode cX0_keep 1 = .ok (.iconst 0, 1) := dk_3 (dk_at dksX0_keep_0 1 rfl rfl)
theorem dX0_keep_2 : decode cX0_keep 2 = .ok (.iconst 1, 1) := dk_4 (dk_at dksX0_keep_0 2 rfl rfl)
theorem dX0_keep_3 : decode cX0_keep 3 = .ok (.invokestatic 74, 3) := dk_184 0 74 (dk_at dksX0_keep_0 3 rfl rfl)
theorem dX0_keep_6 : decode cX0_keep 6 = .ok (.ifCond .ne 5, 3) := dk_154 0 5 (dk_at dksX0_keep_0 6 rfl rfl)
theorem dX0_keep_9 : decode cX0_keep 9 = .ok (.iconst (-1), 1) := dk_2 (dk_at dksX0_keep_0 9 rfl rfl)
theorem dX0_keep_10 : decode cX0_keep 10 = .ok (.ireturn, 1) := dk_172 (dk_at dksX0_keep_0 10 rfl rfl)
theorem dX0_keep_11 : decode cX0_keep 11 = .ok (.aload_n 0, 1) := dk_42 (dk_at dksX0_keep_0 11 rfl rfl)
theorem dX0_keep_12 : decode cX0_keep 12 = .ok (.getfield 23, 3) := dk_180 0 23 (dk_at dksX0_keep_0 12 rfl rfl)
theorem dX0_keep_15 : decode cX0_keep 15 = .ok (.iload_n 1, 1) := dk_27 (dk_at dksX0_keep_0 15 rfl rfl)
theorem dX0_keep_16 : decode cX0_keep 16 = .ok (.aaload, 1) := dk_50 (dk_at dksX0_keep_0 16 rfl rfl)
theorem dX0_keep_17 : decode cX0_keep 17 = .ok (.aload_n 0, 1) := dk_42 (dk_at dksX0_keep_0 17 rfl rfl)
theorem dX0_keep_18 : decode cX0_keep 18 = .ok (.getfield 19, 3) := dk_180 0 19 (dk_at dksX0_keep_0 18 rfl rfl)
theorem dX0_keep_21 : decode cX0_keep 21 = .ok (.invokevirtual 283, 3) := dk_182 1 27 (dk_at dksX0_keep_0 21 rfl rfl)
theorem dX0_keep_24 : decode cX0_keep 24 = .ok (.aload_n 0, 1) := dk_42 (dk_at dksX0_keep_1 0 rfl rfl)
theorem dX0_keep_25 : decode cX0_keep 25 = .ok (.getfield 23, 3) := dk_180 0 23 (dk_at dksX0_keep_1 1 rfl rfl)
theorem dX0_keep_28 : decode cX0_keep 28 = .ok (.iload_n 1, 1) := dk_27 (dk_at dksX0_keep_1 4 rfl rfl)
theorem dX0_keep_29 : decode cX0_keep 29 = .ok (.aaload, 1) := dk_50 (dk_at dksX0_keep_1 5 rfl rfl)
theorem dX0_keep_30 : decode cX0_keep 30 = .ok (.iconst 1, 1) := dk_4 (dk_at dksX0_keep_1 6 rfl rfl)
theorem dX0_keep_31 : decode cX0_keep 31 = .ok (.putfield 94, 3) := dk_181 0 94 (dk_at dksX0_keep_1 7 rfl rfl)
theorem dX0_keep_34 : decode cX0_keep 34 = .ok (.aload_n 0, 1) := dk_42 (dk_at dksX0_keep_1 10 rfl rfl)
theorem dX0_keep_35 : decode cX0_keep 35 = .ok (.getfield 19, 3) := dk_180 0 19 (dk_at dksX0_keep_1 11 rfl rfl)
theorem dX0_keep_38 : decode cX0_keep 38 = .ok (.getfield 160, 3) := dk_180 0 160 (dk_at dksX0_keep_1 14 rfl rfl)
theorem dX0_keep_41 : decode cX0_keep 41 = .ok (.ireturn, 1) := dk_172 (dk_at dksX0_keep_1 17 rfl rfl)
abbrev cX0_back : ByteArray := prog_1_method_44_code
def yX0_back : MethodName := ⟨RX0, "back", "(I)I"⟩
def dkwX0_back_1 : List UInt8 := [16, 254, 172, 42, 180, 0, 19, 42, 180, 0, 23, 27, 50, 182, 1, 27, 42, 180, 0, 19, 180, 0, 160, 172]
abbrev dktX0_back_1 : List UInt8 := dkwX0_back_1 ++ []
def dkwX0_back_0 : List UInt8 := [27, 3, 4, 184, 0, 74, 154, 0, 5, 2, 172, 42, 180, 0, 23, 27, 50, 180, 0, 94, 154, 0, 6]
abbrev dktX0_back_0 : List UInt8 := dkwX0_back_0 ++ dktX0_back_1
theorem dksX0_back_0 : cX0_back.data.toList.drop 0 = dktX0_back_0 := by decide +kernel
theorem dksX0_back_1 : cX0_back.data.toList.drop 23 = dktX0_back_1 := dk_seg dksX0_back_0 23 rfl rfl
theorem dX0_back_0 : decode cX0_back 0 = .ok (.iload_n 1, 1) := dk_27 (dk_at dksX0_back_0 0 rfl rfl)
theorem dX0_back_1 : decode cX0_back 1 = .ok (.iconst 0, 1) := dk_3 (dk_at dksX0_back_0 1 rfl rfl)
theorem dX0_back_2 : decode cX0_back 2 = .ok (.iconst 1, 1) := dk_4 (dk_at dksX0_back_0 2 rfl rfl)
theorem dX0_back_3 : decode cX0_back 3 = .ok (.invokestatic 74, 3) := dk_184 0 74 (dk_at dksX0_back_0 3 rfl rfl)
theorem dX0_back_6 : decode cX0_back 6 = .ok (.ifCond .ne 5, 3) := dk_154 0 5 (dk_at dksX0_back_0 6 rfl rfl)
theorem dX0_back_9 : decode cX0_back 9 = .ok (.iconst (-1), 1) := dk_2 (dk_at dksX0_back_0 9 rfl rfl)
theorem dX0_back_10 : decode cX0_back 10 = .ok (.ireturn, 1) := dk_172 (dk_at dksX0_back_0 10 rfl rfl)
theorem dX0_back_11 : decode cX0_back 11 = .ok (.aload_n 0, 1) := dk_42 (dk_at dksX0_back_0 11 rfl rfl)
theorem dX0_back_12 : decode cX0_back 12 = .ok (.getfield 23, 3) := dk_180 0 23 (dk_at dksX0_back_0 12 rfl rfl)
theorem dX0_back_15 : decode cX0_back 15 = .ok (.iload_n 1, 1) := dk_27 (dk_at dksX0_back_0 15 rfl rfl)
theorem dX0_back_16 : decode cX0_back 16 = .ok (.aaload, 1) := dk_50 (dk_at dksX0_back_0 16 rfl rfl)
theorem dX0_back_17 : decode cX0_back 17 = .ok (.getfield 94, 3) := dk_180 0 94 (dk_at dksX0_back_0 17 rfl rfl)
theorem dX0_back_20 : decode cX0_back 20 = .ok (.ifCond .ne 6, 3) := dk_154 0 6 (dk_at dksX0_back_0 20 rfl rfl)
theorem dX0_back_23 : decode cX0_back 23 = .ok (.bipush (-2), 2) := dk_16 254 (dk_at dksX0_back_1 0 rfl rfl)
theorem dX0_back_25 : decode cX0_back 25 = .ok (.ireturn, 1) := dk_172 (dk_at dksX0_back_1 2 rfl rfl)
theorem dX0_back_26 : decode cX0_back 26 = .ok (.aload_n 0, 1) := dk_42 (dk_at dksX0_back_1 3 rfl rfl)
theorem dX0_back_27 : decode cX0_back 27 = .ok (.getfield 19, 3) := dk_180 0 19 (dk_at dksX0_back_1 4 rfl rfl)
theorem dX0_back_30 : decode cX0_back 30 = .ok (.aload_n 0, 1) := dk_42 (dk_at dksX0_back_1 7 rfl rfl)
theorem dX0_back_31 : decode cX0_back 31 = .ok (.getfield 23, 3) := dk_180 0 23 (dk_at dksX0_back_1 8 rfl rfl)
theorem dX0_back_34 : decode cX0_back 34 = .ok (.iload_n 1, 1) := dk_27 (dk_at dksX0_back_1 11 rfl rfl)
theorem dX0_back_35 : decode cX0_back 35 = .ok (.aaload, 1) := dk_50 (dk_at dksX0_back_1 12 rfl rfl)
theorem dX0_back_36 : decode cX0_back 36 = .ok (.invokevirtual 283, 3) := dk_182 1 27 (dk_at dksX0_back_1 13 rfl rfl)
theorem dX0_back_39 : decode cX0_back 39 = .ok (.aload_n 0, 1) := dk_42 (dk_at dksX0_back_1 16 rfl rfl)
theorem dX0_back_40 : decode cX0_back 40 = .ok (.getfield 19, 3) := dk_180 0 19 (dk_at dksX0_back_1 17 rfl rfl)
theorem dX0_back_43 : decode cX0_back 43 = .ok (.getfield 160, 3) := dk_180 0 160 (dk_at dksX0_back_1 20 rfl rfl)
theorem dX0_back_46 : decode cX0_back 46 = .ok (.ireturn, 1) := dk_172 (dk_at dksX0_back_1 23 rfl rfl)
abbrev cX0_count : ByteArray := prog_1_method_45_code
def yX0_count : MethodName := ⟨RX0, "count", "(I)I"⟩
def dkwX0_count_3 : List UInt8 := [42, 182, 0, 238, 172, 42, 180, 0, 78, 172, 2, 172]
abbrev dktX0_count_3 : List UInt8 := dkwX0_count_3 ++ []
def dkwX0_count_2 : List UInt8 := [42, 180, 0, 10, 180, 0, 101, 172, 42, 180, 0, 10, 180, 0, 104, 172, 42, 180, 0, 10, 180, 1, 31, 172]
abbrev dktX0_count_2 : List UInt8 := dkwX0_count_2 ++ dktX0_count_3
def dkwX0_count_1 : List UInt8 := [170, 0, 0, 0, 0, 0, 69, 0, 0, 0, 0, 0, 0, 0, 4, 0, 0, 0, 35, 0, 0, 0, 43, 0, 0, 0, 51, 0, 0, 0, 59, 0, 0, 0, 64]
abbrev dktX0_count_1 : List UInt8 := dkwX0_count_1 ++ dktX0_count_2
def dkwX0_count_0 : List UInt8 := [27]
abbrev dktX0_count_0 : List UInt8 := dkwX0_count_0 ++ dktX0_count_1
theorem dksX0_count_0 : cX0_count.data.toList.drop 0 = dktX0_count_0 := by decide +kernel
theorem dksX0_count_1 : cX0_count.data.toList.drop 1 = dktX0_count_1 := dk_seg dksX0_count_0 1 rfl rfl
theorem dksX0_count_2 : cX0_count.data.toList.drop 36 = dktX0_count_2 := dk_seg dksX0_count_1 35 rfl rfl
theorem dksX0_count_3 : cX0_count.data.toList.drop 60 = dktX0_count_3 := dk_seg dksX0_count_2 24 rfl rfl
theorem dX0_count_0 : decode cX0_count 0 = .ok (.iload_n 1, 1) := dk_27 (dk_at dksX0_count_0 0 rfl rfl)
theorem dX0_count_1 : decode cX0_count 1 = .ok (.tableswitch 69 0 4 #[35, 43, 51, 59, 64], 35) := by decide +kernel
theorem dX0_count_36 : decode cX0_count 36 = .ok (.aload_n 0, 1) := dk_42 (dk_at dksX0_count_2 0 rfl rfl)
theorem dX0_count_37 : decode cX0_count 37 = .ok (.getfield 10, 3) := dk_180 0 10 (dk_at dksX0_count_2 1 rfl rfl)
theorem dX0_count_40 : decode cX0_count 40 = .ok (.getfield 101, 3) := dk_180 0 101 (dk_at dksX0_count_2 4 rfl rfl)
theorem dX0_count_43 : decode cX0_count 43 = .ok (.ireturn, 1) := dk_172 (dk_at dksX0_count_2 7 rfl rfl)
theorem dX0_count_44 : decode cX0_count 44 = .ok (.aload_n 0, 1) := dk_42 (dk_at dksX0_count_2 8 rfl rfl)
theorem dX0_count_45 : decode cX0_count 45 = .ok (.getfield 10, 3) := dk_180 0 10 (dk_at dksX0_count_2 9 rfl rfl)
theorem dX0_count_48 : decode cX0_count 48 = .ok (.getfield 104, 3) := dk_180 0 104 (dk_at dksX0_count_2 12 rfl rfl)
theorem dX0_count_51 : decode cX0_count 51 = .ok (.ireturn, 1) := dk_172 (dk_at dksX0_count_2 15 rfl rfl)
theorem dX0_count_52 : decode cX0_count 52 = .ok (.aload_n 0, 1) := dk_42 (dk_at dksX0_count_2 16 rfl rfl)
theorem dX0_count_53 : decode cX0_count 53 = .ok (.getfield 10, 3) := dk_180 0 10 (dk_at dksX0_count_2 17 rfl rfl)
theorem dX0_count_56 : decode cX0_count 56 = .ok (.getfield 287, 3) := dk_180 1 31 (dk_at dksX0_count_2 20 rfl rfl)
theorem dX0_count_59 : decode cX0_count 59 = .ok (.ireturn, 1) := dk_172 (dk_at dksX0_count_2 23 rfl rfl)
theorem dX0_count_60 : decode cX0_count 60 = .ok (.aload_n 0, 1) := dk_42 (dk_at dksX0_count_3 0 rfl rfl)
theorem dX0_count_61 : decode cX0_count 61 = .ok (.invokevirtual 238, 3) := dk_182 0 238 (dk_at dksX0_count_3 1 rfl rfl)
theorem dX0_count_64 : decode cX0_count 64 = .ok (.ireturn, 1) := dk_172 (dk_at dksX0_count_3 4 rfl rfl)
theorem dX0_count_65 : decode cX0_count 65 = .ok (.aload_n 0, 1) := dk_42 (dk_at dksX0_count_3 5 rfl rfl)
theorem dX0_count_66 : decode cX0_count 66 = .ok (.getfield 78, 3) := dk_180 0 78 (dk_at dksX0_count_3 6 rfl rfl)
theorem dX0_count_69 : decode cX0_count 69 = .ok (.ireturn, 1) := dk_172 (dk_at dksX0_count_3 9 rfl rfl)
theorem dX0_count_70 : decode cX0_count 70 = .ok (.iconst (-1), 1) := dk_2 (dk_at dksX0_count_3 10 rfl rfl)
theorem dX0_count_71 : decode cX0_count 71 = .ok (.ireturn, 1) := dk_172 (dk_at dksX0_count_3 11 rfl rfl)
abbrev cX0_trace : ByteArray := prog_1_method_46_code
def yX0_trace : MethodName := ⟨RX0, "trace", "()J"⟩
theorem dX0_trace_0 : decode cX0_trace 0 = .ok (.aload_n 0, 1) := by decide +kernel
theorem dX0_trace_1 : decode cX0_trace 1 = .ok (.getfield 290, 3) := by decide +kernel
theorem dX0_trace_4 : decode cX0_trace 4 = .ok (.lreturn, 1) := by decide +kernel
theorem q48 : (Jvm.Cond.initialized "SleeveSlips") ∈ lw_all := lw_g (lw_at lw_m1 1 rfl) rfl
theorem q73 : (Jvm.Cond.instantiable "SleeveSlips" (13 : Nat)) ∈ lw_all := lw_g (lw_at lw_m1 26 rfl) rfl
theorem q75 : (Jvm.Cond.instanceMethod ({ cls := "SleeveSlips", name := "<init>", desc := "()V" } : Jvm.MethodName)) ∈ lw_all := lw_g (lw_at lw_m1 28 rfl) rfl
theorem q76 : (Jvm.Cond.code ({ cls := "SleeveSlips", name := "<init>", desc := "()V" } : Jvm.MethodName) prog_1_method_2_code (1 : Nat) (Option.none : Option Jvm.ClassFile.FieldType)) ∈ lw_all := lw_g (lw_at lw_m1 29 rfl) rfl
theorem q77 : (Jvm.Cond.methodLink "SleeveSlips" (1 : Nat) ({ cls := "java/lang/Object", name := "<init>", desc := "()V" } : Jvm.MethodName)) ∈ lw_all := lw_g (lw_at lw_m1 30 rfl) rfl
theorem q80 : (Jvm.Cond.classLink "SleeveSlips" (7 : Nat) "SleeveSlips$Book") ∈ lw_all := lw_g (lw_at lw_m1 33 rfl) rfl
theorem q82 : (Jvm.Cond.methodLinkNest "SleeveSlips" (9 : Nat) ({ cls := "SleeveSlips$Book", name := "<init>", desc := "()V" } : Jvm.MethodName) "SleeveSlips") ∈ lw_tbl := lw_at lw_m1 35 rfl
theorem q89 : (Jvm.Cond.fieldLinkNest "SleeveSlips" (111 : Nat) "SleeveSlips$Book" "room" "[I" "SleeveSlips") ∈ lw_tbl := lw_at lw_m1 42 rfl
theorem q93 : (Jvm.Cond.fieldLinkNest "SleeveSlips" (114 : Nat) "SleeveSlips$Book" "work" "[I" "SleeveSlips") ∈ lw_tbl := lw_at lw_m1 46 rfl
theorem q96 : (Jvm.Cond.fieldLinkNest "SleeveSlips" (117 : Nat) "SleeveSlips$Book" "price" "[I" "SleeveSlips") ∈ lw_tbl := lw_at lw_m1 49 rfl
theorem q99 : (Jvm.Cond.fieldLinkNest "SleeveSlips" (132 : Nat) "SleeveSlips$Book" "whom" "[I" "SleeveSlips") ∈ lw_tbl := lw_at lw_m1 52 rfl
theorem q102 : (Jvm.Cond.fieldLinkNest "SleeveSlips" (135 : Nat) "SleeveSlips$Book" "day" "[I" "SleeveSlips") ∈ lw_tbl := lw_at lw_m1 55 rfl
theorem q105 : (Jvm.Cond.fieldLinkNest "SleeveSlips" (138 : Nat) "SleeveSlips$Book" "units" "[I" "SleeveSlips") ∈ lw_tbl := lw_at lw_m1 58 rfl
theorem q108 : (Jvm.Cond.fieldLinkNest "SleeveSlips" (141 : Nat) "SleeveSlips$Book" "worth" "[I" "SleeveSlips") ∈ lw_tbl := lw_at lw_m1 61 rfl
theorem q111 : (Jvm.Cond.fieldLinkNest "SleeveSlips" (144 : Nat) "SleeveSlips$Book" "due" "[I" "SleeveSlips") ∈ lw_tbl := lw_at lw_m1 64 rfl
theorem q114 : (Jvm.Cond.fieldLinkNest "SleeveSlips" (204 : Nat) "SleeveSlips$Book" "under" "[I" "SleeveSlips") ∈ lw_tbl := lw_at lw_m1 67 rfl
theorem q115 : (Jvm.Cond.fieldLinkNest "SleeveSlips" (101 : Nat) "SleeveSlips$Book" "people" "I" "SleeveSlips") ∈ lw_tbl := lw_at lw_m1 68 rfl
theorem q117 : (Jvm.Cond.fieldLinkNest "SleeveSlips" (104 : Nat) "SleeveSlips$Book" "askings" "I" "SleeveSlips") ∈ lw_tbl := lw_at lw_m1 70 rfl
theorem q120 : (Jvm.Cond.fieldLinkNest "SleeveSlips" (287 : Nat) "SleeveSlips$Book" "hangs" "I" "SleeveSlips") ∈ lw_tbl := lw_at lw_m1 73 rfl
theorem q121 : (Jvm.Cond.fieldLinkNest "SleeveSlips" (98 : Nat) "SleeveSlips$Book" "items" "I" "SleeveSlips") ∈ lw_tbl := lw_at lw_m1 74 rfl
theorem q151 : (Jvm.Cond.classLink "SleeveSlips" (16 : Nat) "SleeveSlips$Town") ∈ lw_all := lw_g (lw_at lw_m1 104 rfl) rfl
theorem q153 : (Jvm.Cond.methodLinkNest "SleeveSlips" (18 : Nat) ({ cls := "SleeveSlips$Town", name := "<init>", desc := "()V" } : Jvm.MethodName) "SleeveSlips") ∈ lw_tbl := lw_at lw_m1 106 rfl
theorem q165 : (Jvm.Cond.fieldLinkNest "SleeveSlips" (157 : Nat) "SleeveSlips$Sleeve" "slip" "[I" "SleeveSlips") ∈ lw_tbl := lw_at lw_m1 118 rfl
theorem q169 : (Jvm.Cond.fieldLinkNest "SleeveSlips" (124 : Nat) "SleeveSlips$Sleeve" "many" "I" "SleeveSlips") ∈ lw_tbl := lw_at lw_m1 122 rfl
theorem q177 : (Jvm.Cond.fieldLinkNest "SleeveSlips" (120 : Nat) "SleeveSlips$Town" "sleeve" "[LSleeveSlips$Sleeve;" "SleeveSlips") ∈ lw_tbl := lw_at lw_m1 130 rfl
theorem q179 : (Jvm.Cond.fieldLinkNest "SleeveSlips" (147 : Nat) "SleeveSlips$Town" "became" "[I" "SleeveSlips") ∈ lw_tbl := lw_at lw_m1 132 rfl
theorem q181 : (Jvm.Cond.fieldLinkNest "SleeveSlips" (150 : Nat) "SleeveSlips$Town" "left" "[I" "SleeveSlips") ∈ lw_tbl := lw_at lw_m1 134 rfl
theorem q183 : (Jvm.Cond.fieldLinkNest "SleeveSlips" (191 : Nat) "SleeveSlips$Town" "what" "[I" "SleeveSlips") ∈ lw_tbl := lw_at lw_m1 136 rfl
theorem q185 : (Jvm.Cond.fieldLinkNest "SleeveSlips" (185 : Nat) "SleeveSlips$Town" "which" "[I" "SleeveSlips") ∈ lw_tbl := lw_at lw_m1 138 rfl
theorem q187 : (Jvm.Cond.fieldLinkNest "SleeveSlips" (188 : Nat) "SleeveSlips$Town" "whose" "[I" "SleeveSlips") ∈ lw_tbl := lw_at lw_m1 140 rfl
theorem q189 : (Jvm.Cond.fieldLinkNest "SleeveSlips" (194 : Nat) "SleeveSlips$Town" "place" "[I" "SleeveSlips") ∈ lw_tbl := lw_at lw_m1 142 rfl
theorem q191 : (Jvm.Cond.fieldLinkNest "SleeveSlips" (182 : Nat) "SleeveSlips$Town" "deeds" "I" "SleeveSlips") ∈ lw_tbl := lw_at lw_m1 144 rfl
theorem q194 : (Jvm.Cond.fieldLinkNest "SleeveSlips" (160 : Nat) "SleeveSlips$Town" "day" "I" "SleeveSlips") ∈ lw_tbl := lw_at lw_m1 147 rfl
theorem q196 : (Jvm.Cond.fieldLinkNest "SleeveSlips" (214 : Nat) "SleeveSlips$Town" "won" "I" "SleeveSlips") ∈ lw_tbl := lw_at lw_m1 149 rfl
theorem q198 : (Jvm.Cond.fieldLinkNest "SleeveSlips" (179 : Nat) "SleeveSlips$Town" "lost" "I" "SleeveSlips") ∈ lw_tbl := lw_at lw_m1 151 rfl
theorem q199 : (Jvm.Cond.fieldLinkNest "SleeveSlips" (94 : Nat) "SleeveSlips$Town" "isKept" "Z" "SleeveSlips") ∈ lw_tbl := lw_at lw_m1 152 rfl
theorem q226 : (Jvm.Cond.classLink "SleeveSlips" (47 : Nat) "SleeveSlips$Person") ∈ lw_all := lw_g (lw_at lw_m1 179 rfl) rfl
theorem q229 : (Jvm.Cond.methodLinkNest "SleeveSlips" (49 : Nat) ({ cls := "SleeveSlips$Person", name := "<init>", desc := "(LSleeveSlips;)V" } : Jvm.MethodName) "SleeveSlips") ∈ lw_tbl := lw_at lw_m1 182 rfl
theorem q238 : (Jvm.Cond.classLink "SleeveSlips" (52 : Nat) "SleeveSlips$First") ∈ lw_all := lw_g (lw_at lw_m1 191 rfl) rfl
theorem q240 : (Jvm.Cond.methodLinkNest "SleeveSlips" (54 : Nat) ({ cls := "SleeveSlips$First", name := "<init>", desc := "(LSleeveSlips;)V" } : Jvm.MethodName) "SleeveSlips") ∈ lw_tbl := lw_at lw_m1 193 rfl
theorem q249 : (Jvm.Cond.classLink "SleeveSlips" (55 : Nat) "SleeveSlips$Short") ∈ lw_all := lw_g (lw_at lw_m1 202 rfl) rfl
theorem q251 : (Jvm.Cond.methodLinkNest "SleeveSlips" (57 : Nat) ({ cls := "SleeveSlips$Short", name := "<init>", desc := "(LSleeveSlips;)V" } : Jvm.MethodName) "SleeveSlips") ∈ lw_tbl := lw_at lw_m1 204 rfl
theorem q260 : (Jvm.Cond.classLink "SleeveSlips" (58 : Nat) "SleeveSlips$Best") ∈ lw_all := lw_g (lw_at lw_m1 213 rfl) rfl
theorem q262 : (Jvm.Cond.methodLinkNest "SleeveSlips" (60 : Nat) ({ cls := "SleeveSlips$Best", name := "<init>", desc := "(LSleeveSlips;)V" } : Jvm.MethodName) "SleeveSlips") ∈ lw_tbl := lw_at lw_m1 215 rfl
theorem q272 : (Jvm.Cond.classLink "SleeveSlips" (61 : Nat) "SleeveSlips$Miller") ∈ lw_all := lw_g (lw_at lw_m1 225 rfl) rfl
theorem q274 : (Jvm.Cond.methodLinkNest "SleeveSlips" (63 : Nat) ({ cls := "SleeveSlips$Miller", name := "<init>", desc := "(LSleeveSlips;)V" } : Jvm.MethodName) "SleeveSlips") ∈ lw_tbl := lw_at lw_m1 227 rfl
theorem q284 : (Jvm.Cond.classLink "SleeveSlips" (64 : Nat) "SleeveSlips$Tailor") ∈ lw_all := lw_g (lw_at lw_m1 237 rfl) rfl
theorem q286 : (Jvm.Cond.methodLinkNest "SleeveSlips" (66 : Nat) ({ cls := "SleeveSlips$Tailor", name := "<init>", desc := "(LSleeveSlips;)V" } : Jvm.MethodName) "SleeveSlips") ∈ lw_tbl := lw_at lw_m1 239 rfl
theorem q295 : (Jvm.Cond.methodLink "SleeveSlips" (71 : Nat) ({ cls := "SleeveSlips$Town", name := "begin", desc := "()V" } : Jvm.MethodName)) ∈ lw_all := lw_g (lw_at lw_m2 8 rfl) rfl
theorem q302 : (Jvm.Cond.fieldLink "SleeveSlips" (10 : Nat) "SleeveSlips" "book" "LSleeveSlips$Book;") ∈ lw_all := lw_g (lw_at lw_m2 15 rfl) rfl
theorem q305 : (Jvm.Cond.fieldLink "SleeveSlips" (19 : Nat) "SleeveSlips" "now" "LSleeveSlips$Town;") ∈ lw_all := lw_g (lw_at lw_m2 18 rfl) rfl
theorem q308 : (Jvm.Cond.fieldLink "SleeveSlips" (23 : Nat) "SleeveSlips" "images" "[LSleeveSlips$Town;") ∈ lw_all := lw_g (lw_at lw_m2 21 rfl) rfl
theorem q310 : (Jvm.Cond.fieldLink "SleeveSlips" (27 : Nat) "SleeveSlips" "text" "[B") ∈ lw_all := lw_g (lw_at lw_m2 23 rfl) rfl
theorem q312 : (Jvm.Cond.fieldLink "SleeveSlips" (78 : Nat) "SleeveSlips" "typed" "I") ∈ lw_all := lw_g (lw_at lw_m2 25 rfl) rfl
theorem q313 : (Jvm.Cond.fieldLink "SleeveSlips" (31 : Nat) "SleeveSlips" "rest" "[I") ∈ lw_all := lw_g (lw_at lw_m2 26 rfl) rfl
theorem q314 : (Jvm.Cond.fieldLink "SleeveSlips" (231 : Nat) "SleeveSlips" "bestSet" "I") ∈ lw_all := lw_g (lw_at lw_m2 27 rfl) rfl
theorem q315 : (Jvm.Cond.fieldLink "SleeveSlips" (35 : Nat) "SleeveSlips" "tenths" "[I") ∈ lw_all := lw_g (lw_at lw_m2 28 rfl) rfl
theorem q316 : (Jvm.Cond.fieldLink "SleeveSlips" (38 : Nat) "SleeveSlips" "sortWorth" "[I") ∈ lw_all := lw_g (lw_at lw_m2 29 rfl) rfl
theorem q317 : (Jvm.Cond.fieldLink "SleeveSlips" (41 : Nat) "SleeveSlips" "sortDays" "[I") ∈ lw_all := lw_g (lw_at lw_m2 30 rfl) rfl
theorem q318 : (Jvm.Cond.fieldLink "SleeveSlips" (44 : Nat) "SleeveSlips" "row" "[I") ∈ lw_all := lw_g (lw_at lw_m2 31 rfl) rfl
theorem q325 : (Jvm.Cond.fieldLink "SleeveSlips" (290 : Nat) "SleeveSlips" "trace" "J") ∈ lw_all := lw_g (lw_at lw_m2 38 rfl) rfl
theorem q326 : (Jvm.Cond.fieldLink "SleeveSlips" (67 : Nat) "SleeveSlips" "kinds" "[LSleeveSlips$Person;") ∈ lw_all := lw_g (lw_at lw_m2 39 rfl) rfl
theorem q327 : (Jvm.Cond.lays "SleeveSlips" "SleeveSlips" "book" "LSleeveSlips$Book;") ∈ lw_all := lw_g (lw_at lw_m2 40 rfl) rfl
theorem q328 : (Jvm.Cond.soleField "SleeveSlips" "book") ∈ lw_all := lw_g (lw_at lw_m2 41 rfl) rfl
theorem q329 : (Jvm.Cond.laysFinal "SleeveSlips" "SleeveSlips" "now" "LSleeveSlips$Town;") ∈ lw_all := lw_g (lw_at lw_m2 42 rfl) rfl
theorem q330 : (Jvm.Cond.soleField "SleeveSlips" "now") ∈ lw_all := lw_g (lw_at lw_m2 43 rfl) rfl
theorem q331 : (Jvm.Cond.laysFinal "SleeveSlips" "SleeveSlips" "images" "[LSleeveSlips$Town;") ∈ lw_all := lw_g (lw_at lw_m2 44 rfl) rfl
theorem q332 : (Jvm.Cond.soleField "SleeveSlips" "images") ∈ lw_all := lw_g (lw_at lw_m2 45 rfl) rfl
theorem q333 : (Jvm.Cond.laysFinal "SleeveSlips" "SleeveSlips" "text" "[B") ∈ lw_all := lw_g (lw_at lw_m2 46 rfl) rfl
theorem q334 : (Jvm.Cond.soleField "SleeveSlips" "text") ∈ lw_all := lw_g (lw_at lw_m2 47 rfl) rfl
theorem q335 : (Jvm.Cond.lays "SleeveSlips" "SleeveSlips" "typed" "I") ∈ lw_all := lw_g (lw_at lw_m2 48 rfl) rfl
theorem q336 : (Jvm.Cond.soleField "SleeveSlips" "typed") ∈ lw_all := lw_g (lw_at lw_m2 49 rfl) rfl
theorem q337 : (Jvm.Cond.laysFinal "SleeveSlips" "SleeveSlips" "rest" "[I") ∈ lw_all := lw_g (lw_at lw_m2 50 rfl) rfl
theorem q338 : (Jvm.Cond.soleField "SleeveSlips" "rest") ∈ lw_all := lw_g (lw_at lw_m2 51 rfl) rfl
theorem q339 : (Jvm.Cond.lays "SleeveSlips" "SleeveSlips" "bestSet" "I") ∈ lw_all := lw_g (lw_at lw_m2 52 rfl) rfl
theorem q340 : (Jvm.Cond.soleField "SleeveSlips" "bestSet") ∈ lw_all := lw_g (lw_at lw_m2 53 rfl) rfl
theorem q341 : (Jvm.Cond.laysFinal "SleeveSlips" "SleeveSlips" "tenths" "[I") ∈ lw_all := lw_g (lw_at lw_m2 54 rfl) rfl
theorem q342 : (Jvm.Cond.soleField "SleeveSlips" "tenths") ∈ lw_all := lw_g (lw_at lw_m2 55 rfl) rfl
theorem q343 : (Jvm.Cond.laysFinal "SleeveSlips" "SleeveSlips" "sortWorth" "[I") ∈ lw_all := lw_g (lw_at lw_m2 56 rfl) rfl
theorem q344 : (Jvm.Cond.soleField "SleeveSlips" "sortWorth") ∈ lw_all := lw_g (lw_at lw_m2 57 rfl) rfl
theorem q345 : (Jvm.Cond.laysFinal "SleeveSlips" "SleeveSlips" "sortDays" "[I") ∈ lw_all := lw_g (lw_at lw_m2 58 rfl) rfl
theorem q346 : (Jvm.Cond.soleField "SleeveSlips" "sortDays") ∈ lw_all := lw_g (lw_at lw_m2 59 rfl) rfl
theorem q347 : (Jvm.Cond.laysFinal "SleeveSlips" "SleeveSlips" "row" "[I") ∈ lw_all := lw_g (lw_at lw_m2 60 rfl) rfl
theorem q348 : (Jvm.Cond.soleField "SleeveSlips" "row") ∈ lw_all := lw_g (lw_at lw_m2 61 rfl) rfl
theorem q349 : (Jvm.Cond.lays "SleeveSlips" "SleeveSlips" "trace" "J") ∈ lw_all := lw_g (lw_at lw_m2 62 rfl) rfl
theorem q350 : (Jvm.Cond.soleField "SleeveSlips" "trace") ∈ lw_all := lw_g (lw_at lw_m2 63 rfl) rfl
theorem q351 : (Jvm.Cond.laysFinal "SleeveSlips" "SleeveSlips" "kinds" "[LSleeveSlips$Person;") ∈ lw_all := lw_g (lw_at lw_m2 64 rfl) rfl
theorem q352 : (Jvm.Cond.soleField "SleeveSlips" "kinds") ∈ lw_all := lw_g (lw_at lw_m2 65 rfl) rfl
theorem q353 : (Jvm.Cond.superclass "SleeveSlips" "java/lang/Object") ∈ lw_all := lw_g (lw_at lw_m2 66 rfl) rfl
theorem q355 : (Jvm.Cond.instanceMethod ({ cls := "SleeveSlips", name := "type", desc := "(JI)I" } : Jvm.MethodName)) ∈ lw_all := lw_g (lw_at lw_m2 68 rfl) rfl
theorem q356 : (Jvm.Cond.selects "SleeveSlips" ({ cls := "SleeveSlips", name := "type", desc := "(JI)I" } : Jvm.MethodName) ({ cls := "SleeveSlips", name := "type", desc := "(JI)I" } : Jvm.MethodName)) ∈ lw_all := lw_g (lw_at lw_m2 69 rfl) rfl
theorem q357 : (Jvm.Cond.code ({ cls := "SleeveSlips", name := "type", desc := "(JI)I" } : Jvm.MethodName) prog_1_method_3_code (5 : Nat) (Option.some Jvm.ClassFile.FieldType.int)) ∈ lw_all := lw_g (lw_at lw_m2 70 rfl) rfl
theorem q358 : (Jvm.Cond.methodLink "SleeveSlips" (74 : Nat) ({ cls := "SleeveSlips", name := "in", desc := "(III)Z" } : Jvm.MethodName)) ∈ lw_all := lw_g (lw_at lw_m2 71 rfl) rfl
theorem q359 : (Jvm.Cond.static ({ cls := "SleeveSlips", name := "in", desc := "(III)Z" } : Jvm.MethodName)) ∈ lw_all := lw_g (lw_at lw_m2 72 rfl) rfl
theorem q360 : (Jvm.Cond.code ({ cls := "SleeveSlips", name := "in", desc := "(III)Z" } : Jvm.MethodName) prog_1_method_1_code (3 : Nat) (Option.some Jvm.ClassFile.FieldType.boolean)) ∈ lw_all := lw_g (lw_at lw_m2 73 rfl) rfl
theorem q362 : (Jvm.Cond.instanceMethod ({ cls := "SleeveSlips", name := "clear", desc := "()I" } : Jvm.MethodName)) ∈ lw_all := lw_g (lw_at lw_m2 75 rfl) rfl
theorem q363 : (Jvm.Cond.selects "SleeveSlips" ({ cls := "SleeveSlips", name := "clear", desc := "()I" } : Jvm.MethodName) ({ cls := "SleeveSlips", name := "clear", desc := "()I" } : Jvm.MethodName)) ∈ lw_all := lw_g (lw_at lw_m2 76 rfl) rfl
theorem q364 : (Jvm.Cond.code ({ cls := "SleeveSlips", name := "clear", desc := "()I" } : Jvm.MethodName) prog_1_method_4_code (2 : Nat) (Option.some Jvm.ClassFile.FieldType.int)) ∈ lw_all := lw_g (lw_at lw_m2 77 rfl) rfl
theorem q366 : (Jvm.Cond.instanceMethod ({ cls := "SleeveSlips", name := "town", desc := "()I" } : Jvm.MethodName)) ∈ lw_all := lw_g (lw_at lw_m2 79 rfl) rfl
theorem q367 : (Jvm.Cond.selects "SleeveSlips" ({ cls := "SleeveSlips", name := "town", desc := "()I" } : Jvm.MethodName) ({ cls := "SleeveSlips", name := "town", desc := "()I" } : Jvm.MethodName)) ∈ lw_all := lw_g (lw_at lw_m2 80 rfl) rfl
theorem q368 : (Jvm.Cond.codeWith ({ cls := "SleeveSlips", name := "town", desc := "()I" } : Jvm.MethodName) prog_1_method_5_code (6 : Nat) (Option.some Jvm.ClassFile.FieldType.int) [((0 : Nat), (12 : Nat), (15 : Nat), (89 : Nat))]) ∈ lw_all := lw_g (lw_at lw_m2 81 rfl) rfl
theorem q369 : (Jvm.Cond.classLink "SleeveSlips" (89 : Nat) "SleeveSlips$Wrong") ∈ lw_all := lw_g (lw_at lw_m2 82 rfl) rfl
theorem q370 : (Jvm.Cond.classLink "SleeveSlips" (82 : Nat) "SleeveSlips$Reader") ∈ lw_all := lw_g (lw_at lw_m2 83 rfl) rfl
theorem q372 : (Jvm.Cond.methodLinkNest "SleeveSlips" (84 : Nat) ({ cls := "SleeveSlips$Reader", name := "<init>", desc := "(LSleeveSlips;)V" } : Jvm.MethodName) "SleeveSlips") ∈ lw_tbl := lw_at lw_m2 85 rfl
theorem q397 : (Jvm.Cond.methodLink "SleeveSlips" (85 : Nat) ({ cls := "SleeveSlips$Reader", name := "read", desc := "()LSleeveSlips$Book;" } : Jvm.MethodName)) ∈ lw_all := lw_g (lw_at lw_m2 110 rfl) rfl
theorem q411 : (Jvm.Cond.laysStatic "SleeveSlips" "WORDS" "[Ljava/lang/String;") ∈ lw_tbl := lw_at lw_m2 124 rfl
theorem q527 : (Jvm.Cond.fieldLinkNest "SleeveSlips" (91 : Nat) "SleeveSlips$Wrong" "at" "I" "SleeveSlips") ∈ lw_tbl := lw_at lw_m3 0 rfl
theorem q552 : (Jvm.Cond.instanceMethod ({ cls := "SleeveSlips", name := "person", desc := "(II)I" } : Jvm.MethodName)) ∈ lw_all := lw_g (lw_at lw_m3 25 rfl) rfl
theorem q553 : (Jvm.Cond.selects "SleeveSlips" ({ cls := "SleeveSlips", name := "person", desc := "(II)I" } : Jvm.MethodName) ({ cls := "SleeveSlips", name := "person", desc := "(II)I" } : Jvm.MethodName)) ∈ lw_all := lw_g (lw_at lw_m3 26 rfl) rfl
theorem q554 : (Jvm.Cond.code ({ cls := "SleeveSlips", name := "person", desc := "(II)I" } : Jvm.MethodName) prog_1_method_8_code (3 : Nat) (Option.some Jvm.ClassFile.FieldType.int)) ∈ lw_all := lw_g (lw_at lw_m3 27 rfl) rfl
theorem q555 : (Jvm.Cond.methodLink "SleeveSlips" (107 : Nat) ({ cls := "SleeveSlips", name := "isPerson", desc := "(I)Z" } : Jvm.MethodName)) ∈ lw_all := lw_g (lw_at lw_m3 28 rfl) rfl
theorem q556 : (Jvm.Cond.privateMethod ({ cls := "SleeveSlips", name := "isPerson", desc := "(I)Z" } : Jvm.MethodName)) ∈ lw_tbl := lw_at lw_m3 29 rfl
theorem q557 : (Jvm.Cond.instanceMethod ({ cls := "SleeveSlips", name := "isPerson", desc := "(I)Z" } : Jvm.MethodName)) ∈ lw_all := lw_g (lw_at lw_m3 30 rfl) rfl
theorem q558 : (Jvm.Cond.code ({ cls := "SleeveSlips", name := "isPerson", desc := "(I)Z" } : Jvm.MethodName) prog_1_method_6_code (2 : Nat) (Option.some Jvm.ClassFile.FieldType.boolean)) ∈ lw_all := lw_g (lw_at lw_m3 31 rfl) rfl
theorem q560 : (Jvm.Cond.instanceMethod ({ cls := "SleeveSlips", name := "asking", desc := "(II)I" } : Jvm.MethodName)) ∈ lw_all := lw_g (lw_at lw_m3 33 rfl) rfl
theorem q561 : (Jvm.Cond.selects "SleeveSlips" ({ cls := "SleeveSlips", name := "asking", desc := "(II)I" } : Jvm.MethodName) ({ cls := "SleeveSlips", name := "asking", desc := "(II)I" } : Jvm.MethodName)) ∈ lw_all := lw_g (lw_at lw_m3 34 rfl) rfl
theorem q562 : (Jvm.Cond.code ({ cls := "SleeveSlips", name := "asking", desc := "(II)I" } : Jvm.MethodName) prog_1_method_9_code (3 : Nat) (Option.some Jvm.ClassFile.FieldType.int)) ∈ lw_all := lw_g (lw_at lw_m3 35 rfl) rfl
theorem q563 : (Jvm.Cond.methodLink "SleeveSlips" (129 : Nat) ({ cls := "SleeveSlips", name := "isAsking", desc := "(I)Z" } : Jvm.MethodName)) ∈ lw_all := lw_g (lw_at lw_m3 36 rfl) rfl
theorem q564 : (Jvm.Cond.privateMethod ({ cls := "SleeveSlips", name := "isAsking", desc := "(I)Z" } : Jvm.MethodName)) ∈ lw_tbl := lw_at lw_m3 37 rfl
theorem q565 : (Jvm.Cond.instanceMethod ({ cls := "SleeveSlips", name := "isAsking", desc := "(I)Z" } : Jvm.MethodName)) ∈ lw_all := lw_g (lw_at lw_m3 38 rfl) rfl
theorem q566 : (Jvm.Cond.code ({ cls := "SleeveSlips", name := "isAsking", desc := "(I)Z" } : Jvm.MethodName) prog_1_method_7_code (2 : Nat) (Option.some Jvm.ClassFile.FieldType.boolean)) ∈ lw_all := lw_g (lw_at lw_m3 39 rfl) rfl
theorem q567 : (Jvm.Cond.methodLink "SleeveSlips" (153 : Nat) ({ cls := "SleeveSlips$Town", name := "sleeveOf", desc := "(I)I" } : Jvm.MethodName)) ∈ lw_all := lw_g (lw_at lw_m3 40 rfl) rfl
theorem q576 : (Jvm.Cond.instanceMethod ({ cls := "SleeveSlips", name := "slip", desc := "(II)I" } : Jvm.MethodName)) ∈ lw_all := lw_g (lw_at lw_m3 49 rfl) rfl
theorem q577 : (Jvm.Cond.selects "SleeveSlips" ({ cls := "SleeveSlips", name := "slip", desc := "(II)I" } : Jvm.MethodName) ({ cls := "SleeveSlips", name := "slip", desc := "(II)I" } : Jvm.MethodName)) ∈ lw_all := lw_g (lw_at lw_m3 50 rfl) rfl
theorem q578 : (Jvm.Cond.code ({ cls := "SleeveSlips", name := "slip", desc := "(II)I" } : Jvm.MethodName) prog_1_method_10_code (3 : Nat) (Option.some Jvm.ClassFile.FieldType.int)) ∈ lw_all := lw_g (lw_at lw_m3 51 rfl) rfl
theorem q580 : (Jvm.Cond.instanceMethod ({ cls := "SleeveSlips", name := "promise", desc := "(I)I" } : Jvm.MethodName)) ∈ lw_all := lw_g (lw_at lw_m3 53 rfl) rfl
theorem q581 : (Jvm.Cond.selects "SleeveSlips" ({ cls := "SleeveSlips", name := "promise", desc := "(I)I" } : Jvm.MethodName) ({ cls := "SleeveSlips", name := "promise", desc := "(I)I" } : Jvm.MethodName)) ∈ lw_all := lw_g (lw_at lw_m3 54 rfl) rfl
theorem q582 : (Jvm.Cond.code ({ cls := "SleeveSlips", name := "promise", desc := "(I)I" } : Jvm.MethodName) prog_1_method_12_code (3 : Nat) (Option.some Jvm.ClassFile.FieldType.int)) ∈ lw_all := lw_g (lw_at lw_m3 55 rfl) rfl
theorem q583 : (Jvm.Cond.methodLink "SleeveSlips" (162 : Nat) ({ cls := "SleeveSlips", name := "hasRoom", desc := "(I)Z" } : Jvm.MethodName)) ∈ lw_all := lw_g (lw_at lw_m3 56 rfl) rfl
theorem q584 : (Jvm.Cond.privateMethod ({ cls := "SleeveSlips", name := "hasRoom", desc := "(I)Z" } : Jvm.MethodName)) ∈ lw_tbl := lw_at lw_m3 57 rfl
theorem q585 : (Jvm.Cond.instanceMethod ({ cls := "SleeveSlips", name := "hasRoom", desc := "(I)Z" } : Jvm.MethodName)) ∈ lw_all := lw_g (lw_at lw_m3 58 rfl) rfl
theorem q586 : (Jvm.Cond.code ({ cls := "SleeveSlips", name := "hasRoom", desc := "(I)Z" } : Jvm.MethodName) prog_1_method_11_code (2 : Nat) (Option.some Jvm.ClassFile.FieldType.boolean)) ∈ lw_all := lw_g (lw_at lw_m3 59 rfl) rfl
theorem q587 : (Jvm.Cond.methodLink "SleeveSlips" (165 : Nat) ({ cls := "SleeveSlips$Town", name := "know", desc := "(IIII)V" } : Jvm.MethodName)) ∈ lw_all := lw_g (lw_at lw_m3 60 rfl) rfl
theorem q594 : (Jvm.Cond.methodLink "SleeveSlips" (169 : Nat) ({ cls := "SleeveSlips$Sleeve", name := "pin", desc := "(II)V" } : Jvm.MethodName)) ∈ lw_all := lw_g (lw_at lw_m3 67 rfl) rfl
theorem q599 : (Jvm.Cond.instanceMethod ({ cls := "SleeveSlips", name := "letOff", desc := "(I)I" } : Jvm.MethodName)) ∈ lw_all := lw_g (lw_at lw_m3 72 rfl) rfl
theorem q600 : (Jvm.Cond.selects "SleeveSlips" ({ cls := "SleeveSlips", name := "letOff", desc := "(I)I" } : Jvm.MethodName) ({ cls := "SleeveSlips", name := "letOff", desc := "(I)I" } : Jvm.MethodName)) ∈ lw_all := lw_g (lw_at lw_m3 73 rfl) rfl
theorem q601 : (Jvm.Cond.code ({ cls := "SleeveSlips", name := "letOff", desc := "(I)I" } : Jvm.MethodName) prog_1_method_14_code (2 : Nat) (Option.some Jvm.ClassFile.FieldType.int)) ∈ lw_all := lw_g (lw_at lw_m3 74 rfl) rfl
theorem q602 : (Jvm.Cond.methodLink "SleeveSlips" (173 : Nat) ({ cls := "SleeveSlips", name := "isPinned", desc := "(I)Z" } : Jvm.MethodName)) ∈ lw_all := lw_g (lw_at lw_m3 75 rfl) rfl
theorem q603 : (Jvm.Cond.privateMethod ({ cls := "SleeveSlips", name := "isPinned", desc := "(I)Z" } : Jvm.MethodName)) ∈ lw_tbl := lw_at lw_m3 76 rfl
theorem q604 : (Jvm.Cond.instanceMethod ({ cls := "SleeveSlips", name := "isPinned", desc := "(I)Z" } : Jvm.MethodName)) ∈ lw_all := lw_g (lw_at lw_m3 77 rfl) rfl
theorem q605 : (Jvm.Cond.code ({ cls := "SleeveSlips", name := "isPinned", desc := "(I)Z" } : Jvm.MethodName) prog_1_method_13_code (2 : Nat) (Option.some Jvm.ClassFile.FieldType.boolean)) ∈ lw_all := lw_g (lw_at lw_m3 78 rfl) rfl
theorem q606 : (Jvm.Cond.methodLink "SleeveSlips" (176 : Nat) ({ cls := "SleeveSlips$Town", name := "goes", desc := "(II)V" } : Jvm.MethodName)) ∈ lw_all := lw_g (lw_at lw_m3 79 rfl) rfl
theorem q617 : (Jvm.Cond.instanceMethod ({ cls := "SleeveSlips", name := "breaks", desc := "(I)I" } : Jvm.MethodName)) ∈ lw_all := lw_g (lw_at lw_m3 90 rfl) rfl
theorem q618 : (Jvm.Cond.selects "SleeveSlips" ({ cls := "SleeveSlips", name := "breaks", desc := "(I)I" } : Jvm.MethodName) ({ cls := "SleeveSlips", name := "breaks", desc := "(I)I" } : Jvm.MethodName)) ∈ lw_all := lw_g (lw_at lw_m3 91 rfl) rfl
theorem q619 : (Jvm.Cond.code ({ cls := "SleeveSlips", name := "breaks", desc := "(I)I" } : Jvm.MethodName) prog_1_method_15_code (2 : Nat) (Option.some Jvm.ClassFile.FieldType.int)) ∈ lw_all := lw_g (lw_at lw_m3 92 rfl) rfl
theorem q621 : (Jvm.Cond.instanceMethod ({ cls := "SleeveSlips", name := "hand", desc := "(II)I" } : Jvm.MethodName)) ∈ lw_all := lw_g (lw_at lw_m3 94 rfl) rfl
theorem q622 : (Jvm.Cond.selects "SleeveSlips" ({ cls := "SleeveSlips", name := "hand", desc := "(II)I" } : Jvm.MethodName) ({ cls := "SleeveSlips", name := "hand", desc := "(II)I" } : Jvm.MethodName)) ∈ lw_all := lw_g (lw_at lw_m3 95 rfl) rfl
theorem q623 : (Jvm.Cond.code ({ cls := "SleeveSlips", name := "hand", desc := "(II)I" } : Jvm.MethodName) prog_1_method_16_code (3 : Nat) (Option.some Jvm.ClassFile.FieldType.int)) ∈ lw_all := lw_g (lw_at lw_m3 96 rfl) rfl
theorem q625 : (Jvm.Cond.instanceMethod ({ cls := "SleeveSlips", name := "undo", desc := "()I" } : Jvm.MethodName)) ∈ lw_all := lw_g (lw_at lw_m3 98 rfl) rfl
theorem q626 : (Jvm.Cond.selects "SleeveSlips" ({ cls := "SleeveSlips", name := "undo", desc := "()I" } : Jvm.MethodName) ({ cls := "SleeveSlips", name := "undo", desc := "()I" } : Jvm.MethodName)) ∈ lw_all := lw_g (lw_at lw_m3 99 rfl) rfl
theorem q627 : (Jvm.Cond.code ({ cls := "SleeveSlips", name := "undo", desc := "()I" } : Jvm.MethodName) prog_1_method_17_code (5 : Nat) (Option.some Jvm.ClassFile.FieldType.int)) ∈ lw_all := lw_g (lw_at lw_m3 100 rfl) rfl
theorem q628 : (Jvm.Cond.methodLink "SleeveSlips" (197 : Nat) ({ cls := "SleeveSlips$Sleeve", name := "unpin", desc := "(I)V" } : Jvm.MethodName)) ∈ lw_all := lw_g (lw_at lw_m3 101 rfl) rfl
theorem q629 : (Jvm.Cond.methodLink "SleeveSlips" (201 : Nat) ({ cls := "SleeveSlips$Sleeve", name := "placeOf", desc := "(I)I" } : Jvm.MethodName)) ∈ lw_all := lw_g (lw_at lw_m3 102 rfl) rfl
theorem q631 : (Jvm.Cond.instanceMethod ({ cls := "SleeveSlips", name := "day", desc := "()I" } : Jvm.MethodName)) ∈ lw_all := lw_g (lw_at lw_m3 104 rfl) rfl
theorem q632 : (Jvm.Cond.selects "SleeveSlips" ({ cls := "SleeveSlips", name := "day", desc := "()I" } : Jvm.MethodName) ({ cls := "SleeveSlips", name := "day", desc := "()I" } : Jvm.MethodName)) ∈ lw_all := lw_g (lw_at lw_m3 105 rfl) rfl
theorem q633 : (Jvm.Cond.code ({ cls := "SleeveSlips", name := "day", desc := "()I" } : Jvm.MethodName) prog_1_method_21_code (3 : Nat) (Option.some Jvm.ClassFile.FieldType.int)) ∈ lw_all := lw_g (lw_at lw_m3 106 rfl) rfl
theorem q634 : (Jvm.Cond.methodLink "SleeveSlips" (217 : Nat) ({ cls := "SleeveSlips", name := "works", desc := "(I)I" } : Jvm.MethodName)) ∈ lw_all := lw_g (lw_at lw_m3 107 rfl) rfl
theorem q635 : (Jvm.Cond.privateMethod ({ cls := "SleeveSlips", name := "works", desc := "(I)I" } : Jvm.MethodName)) ∈ lw_tbl := lw_at lw_m3 108 rfl
theorem q636 : (Jvm.Cond.instanceMethod ({ cls := "SleeveSlips", name := "works", desc := "(I)I" } : Jvm.MethodName)) ∈ lw_all := lw_g (lw_at lw_m3 109 rfl) rfl
theorem q637 : (Jvm.Cond.code ({ cls := "SleeveSlips", name := "works", desc := "(I)I" } : Jvm.MethodName) prog_1_method_20_code (7 : Nat) (Option.some Jvm.ClassFile.FieldType.int)) ∈ lw_all := lw_g (lw_at lw_m3 110 rfl) rfl
theorem q638 : (Jvm.Cond.methodLink "SleeveSlips" (210 : Nat) ({ cls := "SleeveSlips", name := "firstOf", desc := "(LSleeveSlips$Sleeve;)I" } : Jvm.MethodName)) ∈ lw_all := lw_g (lw_at lw_m3 111 rfl) rfl
theorem q639 : (Jvm.Cond.privateMethod ({ cls := "SleeveSlips", name := "firstOf", desc := "(LSleeveSlips$Sleeve;)I" } : Jvm.MethodName)) ∈ lw_tbl := lw_at lw_m3 112 rfl
theorem q640 : (Jvm.Cond.instanceMethod ({ cls := "SleeveSlips", name := "firstOf", desc := "(LSleeveSlips$Sleeve;)I" } : Jvm.MethodName)) ∈ lw_all := lw_g (lw_at lw_m3 113 rfl) rfl
theorem q641 : (Jvm.Cond.code ({ cls := "SleeveSlips", name := "firstOf", desc := "(LSleeveSlips$Sleeve;)I" } : Jvm.MethodName) prog_1_method_19_code (3 : Nat) (Option.some Jvm.ClassFile.FieldType.int)) ∈ lw_all := lw_g (lw_at lw_m3 114 rfl) rfl
theorem q642 : (Jvm.Cond.methodLink "SleeveSlips" (207 : Nat) ({ cls := "SleeveSlips", name := "mayWork", desc := "(I)Z" } : Jvm.MethodName)) ∈ lw_all := lw_g (lw_at lw_m3 115 rfl) rfl
theorem q643 : (Jvm.Cond.privateMethod ({ cls := "SleeveSlips", name := "mayWork", desc := "(I)Z" } : Jvm.MethodName)) ∈ lw_tbl := lw_at lw_m3 116 rfl
theorem q644 : (Jvm.Cond.instanceMethod ({ cls := "SleeveSlips", name := "mayWork", desc := "(I)Z" } : Jvm.MethodName)) ∈ lw_all := lw_g (lw_at lw_m3 117 rfl) rfl
theorem q645 : (Jvm.Cond.code ({ cls := "SleeveSlips", name := "mayWork", desc := "(I)Z" } : Jvm.MethodName) prog_1_method_18_code (4 : Nat) (Option.some Jvm.ClassFile.FieldType.boolean)) ∈ lw_all := lw_g (lw_at lw_m3 118 rfl) rfl
theorem q647 : (Jvm.Cond.instanceMethod ({ cls := "SleeveSlips", name := "now", desc := "(I)I" } : Jvm.MethodName)) ∈ lw_all := lw_g (lw_at lw_m3 120 rfl) rfl
theorem q648 : (Jvm.Cond.selects "SleeveSlips" ({ cls := "SleeveSlips", name := "now", desc := "(I)I" } : Jvm.MethodName) ({ cls := "SleeveSlips", name := "now", desc := "(I)I" } : Jvm.MethodName)) ∈ lw_all := lw_g (lw_at lw_m3 121 rfl) rfl
theorem q649 : (Jvm.Cond.code ({ cls := "SleeveSlips", name := "now", desc := "(I)I" } : Jvm.MethodName) prog_1_method_22_code (7 : Nat) (Option.some Jvm.ClassFile.FieldType.int)) ∈ lw_all := lw_g (lw_at lw_m3 122 rfl) rfl
theorem q651 : (Jvm.Cond.instanceMethod ({ cls := "SleeveSlips", name := "take", desc := "(II)I" } : Jvm.MethodName)) ∈ lw_all := lw_g (lw_at lw_m3 124 rfl) rfl
theorem q652 : (Jvm.Cond.selects "SleeveSlips" ({ cls := "SleeveSlips", name := "take", desc := "(II)I" } : Jvm.MethodName) ({ cls := "SleeveSlips", name := "take", desc := "(II)I" } : Jvm.MethodName)) ∈ lw_all := lw_g (lw_at lw_m3 125 rfl) rfl
theorem q653 : (Jvm.Cond.code ({ cls := "SleeveSlips", name := "take", desc := "(II)I" } : Jvm.MethodName) prog_1_method_26_code (4 : Nat) (Option.some Jvm.ClassFile.FieldType.int)) ∈ lw_all := lw_g (lw_at lw_m3 126 rfl) rfl
theorem q654 : (Jvm.Cond.methodLink "SleeveSlips" (234 : Nat) ({ cls := "SleeveSlips", name := "bestFor", desc := "(III)I" } : Jvm.MethodName)) ∈ lw_all := lw_g (lw_at lw_m3 127 rfl) rfl
theorem q655 : (Jvm.Cond.privateMethod ({ cls := "SleeveSlips", name := "bestFor", desc := "(III)I" } : Jvm.MethodName)) ∈ lw_tbl := lw_at lw_m3 128 rfl
theorem q656 : (Jvm.Cond.instanceMethod ({ cls := "SleeveSlips", name := "bestFor", desc := "(III)I" } : Jvm.MethodName)) ∈ lw_all := lw_g (lw_at lw_m3 129 rfl) rfl
theorem q657 : (Jvm.Cond.code ({ cls := "SleeveSlips", name := "bestFor", desc := "(III)I" } : Jvm.MethodName) prog_1_method_25_code (9 : Nat) (Option.some Jvm.ClassFile.FieldType.int)) ∈ lw_all := lw_g (lw_at lw_m3 130 rfl) rfl
theorem q658 : (Jvm.Cond.methodLink "SleeveSlips" (228 : Nat) ({ cls := "SleeveSlips", name := "canKeep", desc := "(III)Z" } : Jvm.MethodName)) ∈ lw_all := lw_g (lw_at lw_m3 131 rfl) rfl
theorem q659 : (Jvm.Cond.privateMethod ({ cls := "SleeveSlips", name := "canKeep", desc := "(III)Z" } : Jvm.MethodName)) ∈ lw_tbl := lw_at lw_m3 132 rfl
theorem q660 : (Jvm.Cond.instanceMethod ({ cls := "SleeveSlips", name := "canKeep", desc := "(III)Z" } : Jvm.MethodName)) ∈ lw_all := lw_g (lw_at lw_m3 133 rfl) rfl
theorem q661 : (Jvm.Cond.code ({ cls := "SleeveSlips", name := "canKeep", desc := "(III)Z" } : Jvm.MethodName) prog_1_method_24_code (8 : Nat) (Option.some Jvm.ClassFile.FieldType.boolean)) ∈ lw_all := lw_g (lw_at lw_m3 134 rfl) rfl
theorem q662 : (Jvm.Cond.methodLink "SleeveSlips" (220 : Nat) ({ cls := "java/lang/Integer", name := "bitCount", desc := "(I)I" } : Jvm.MethodName)) ∈ lw_all := lw_g (lw_at lw_m3 135 rfl) rfl
theorem q668 : (Jvm.Cond.methodLink "SleeveSlips" (225 : Nat) ({ cls := "SleeveSlips", name := "nextDue", desc := "(I)I" } : Jvm.MethodName)) ∈ lw_all := lw_g (lw_at lw_m3 141 rfl) rfl
theorem q669 : (Jvm.Cond.privateMethod ({ cls := "SleeveSlips", name := "nextDue", desc := "(I)I" } : Jvm.MethodName)) ∈ lw_tbl := lw_at lw_m3 142 rfl
theorem q670 : (Jvm.Cond.instanceMethod ({ cls := "SleeveSlips", name := "nextDue", desc := "(I)I" } : Jvm.MethodName)) ∈ lw_all := lw_g (lw_at lw_m3 143 rfl) rfl
theorem q671 : (Jvm.Cond.code ({ cls := "SleeveSlips", name := "nextDue", desc := "(I)I" } : Jvm.MethodName) prog_1_method_23_code (5 : Nat) (Option.some Jvm.ClassFile.FieldType.int)) ∈ lw_all := lw_g (lw_at lw_m3 144 rfl) rfl
theorem q673 : (Jvm.Cond.instanceMethod ({ cls := "SleeveSlips", name := "bound", desc := "(II)I" } : Jvm.MethodName)) ∈ lw_all := lw_g (lw_at lw_m3 146 rfl) rfl
theorem q674 : (Jvm.Cond.selects "SleeveSlips" ({ cls := "SleeveSlips", name := "bound", desc := "(II)I" } : Jvm.MethodName) ({ cls := "SleeveSlips", name := "bound", desc := "(II)I" } : Jvm.MethodName)) ∈ lw_all := lw_g (lw_at lw_m3 147 rfl) rfl
theorem q675 : (Jvm.Cond.code ({ cls := "SleeveSlips", name := "bound", desc := "(II)I" } : Jvm.MethodName) prog_1_method_27_code (3 : Nat) (Option.some Jvm.ClassFile.FieldType.int)) ∈ lw_all := lw_g (lw_at lw_m3 148 rfl) rfl
theorem q677 : (Jvm.Cond.instanceMethod ({ cls := "SleeveSlips", name := "sort", desc := "(IIII)I" } : Jvm.MethodName)) ∈ lw_all := lw_g (lw_at lw_m3 150 rfl) rfl
theorem q678 : (Jvm.Cond.selects "SleeveSlips" ({ cls := "SleeveSlips", name := "sort", desc := "(IIII)I" } : Jvm.MethodName) ({ cls := "SleeveSlips", name := "sort", desc := "(IIII)I" } : Jvm.MethodName)) ∈ lw_all := lw_g (lw_at lw_m3 151 rfl) rfl
theorem q679 : (Jvm.Cond.code ({ cls := "SleeveSlips", name := "sort", desc := "(IIII)I" } : Jvm.MethodName) prog_1_method_29_code (5 : Nat) (Option.some Jvm.ClassFile.FieldType.int)) ∈ lw_all := lw_g (lw_at lw_m3 152 rfl) rfl
theorem q680 : (Jvm.Cond.methodLink "SleeveSlips" (238 : Nat) ({ cls := "SleeveSlips", name := "allTenths", desc := "()I" } : Jvm.MethodName)) ∈ lw_all := lw_g (lw_at lw_m3 153 rfl) rfl
theorem q681 : (Jvm.Cond.privateMethod ({ cls := "SleeveSlips", name := "allTenths", desc := "()I" } : Jvm.MethodName)) ∈ lw_tbl := lw_at lw_m3 154 rfl
theorem q682 : (Jvm.Cond.instanceMethod ({ cls := "SleeveSlips", name := "allTenths", desc := "()I" } : Jvm.MethodName)) ∈ lw_all := lw_g (lw_at lw_m3 155 rfl) rfl
theorem q683 : (Jvm.Cond.code ({ cls := "SleeveSlips", name := "allTenths", desc := "()I" } : Jvm.MethodName) prog_1_method_28_code (1 : Nat) (Option.some Jvm.ClassFile.FieldType.int)) ∈ lw_all := lw_g (lw_at lw_m3 156 rfl) rfl
theorem q685 : (Jvm.Cond.instanceMethod ({ cls := "SleeveSlips", name := "expected", desc := "(III)J" } : Jvm.MethodName)) ∈ lw_all := lw_g (lw_at lw_m3 158 rfl) rfl
theorem q686 : (Jvm.Cond.selects "SleeveSlips" ({ cls := "SleeveSlips", name := "expected", desc := "(III)J" } : Jvm.MethodName) ({ cls := "SleeveSlips", name := "expected", desc := "(III)J" } : Jvm.MethodName)) ∈ lw_all := lw_g (lw_at lw_m3 159 rfl) rfl
theorem q687 : (Jvm.Cond.code ({ cls := "SleeveSlips", name := "expected", desc := "(III)J" } : Jvm.MethodName) prog_1_method_34_code (10 : Nat) (Option.some Jvm.ClassFile.FieldType.long)) ∈ lw_all := lw_g (lw_at lw_m3 160 rfl) rfl
theorem q688 : (Jvm.Cond.constantLong "SleeveSlips" (265 : Nat) (-1 : Int64)) ∈ lw_all := lw_g (lw_at lw_m3 161 rfl) rfl
theorem q689 : (Jvm.Cond.methodLink "SleeveSlips" (242 : Nat) ({ cls := "SleeveSlips", name := "mean", desc := "(IIII)J" } : Jvm.MethodName)) ∈ lw_all := lw_g (lw_at lw_m3 162 rfl) rfl
theorem q690 : (Jvm.Cond.privateMethod ({ cls := "SleeveSlips", name := "mean", desc := "(IIII)J" } : Jvm.MethodName)) ∈ lw_tbl := lw_at lw_m3 163 rfl
theorem q691 : (Jvm.Cond.instanceMethod ({ cls := "SleeveSlips", name := "mean", desc := "(IIII)J" } : Jvm.MethodName)) ∈ lw_all := lw_g (lw_at lw_m3 164 rfl) rfl
theorem q692 : (Jvm.Cond.code ({ cls := "SleeveSlips", name := "mean", desc := "(IIII)J" } : Jvm.MethodName) prog_1_method_30_code (10 : Nat) (Option.some Jvm.ClassFile.FieldType.long)) ∈ lw_all := lw_g (lw_at lw_m3 165 rfl) rfl
theorem q693 : (Jvm.Cond.methodLink "SleeveSlips" (246 : Nat) ({ cls := "SleeveSlips", name := "taken", desc := "(IIIII)J" } : Jvm.MethodName)) ∈ lw_all := lw_g (lw_at lw_m3 166 rfl) rfl
theorem q694 : (Jvm.Cond.privateMethod ({ cls := "SleeveSlips", name := "taken", desc := "(IIIII)J" } : Jvm.MethodName)) ∈ lw_tbl := lw_at lw_m3 167 rfl
theorem q695 : (Jvm.Cond.instanceMethod ({ cls := "SleeveSlips", name := "taken", desc := "(IIIII)J" } : Jvm.MethodName)) ∈ lw_all := lw_g (lw_at lw_m3 168 rfl) rfl
theorem q696 : (Jvm.Cond.code ({ cls := "SleeveSlips", name := "taken", desc := "(IIIII)J" } : Jvm.MethodName) prog_1_method_32_code (9 : Nat) (Option.some Jvm.ClassFile.FieldType.long)) ∈ lw_all := lw_g (lw_at lw_m3 169 rfl) rfl
theorem q697 : (Jvm.Cond.methodLink "SleeveSlips" (258 : Nat) ({ cls := "SleeveSlips", name := "power", desc := "(I)J" } : Jvm.MethodName)) ∈ lw_all := lw_g (lw_at lw_m3 170 rfl) rfl
theorem q698 : (Jvm.Cond.static ({ cls := "SleeveSlips", name := "power", desc := "(I)J" } : Jvm.MethodName)) ∈ lw_all := lw_g (lw_at lw_m3 171 rfl) rfl
theorem q699 : (Jvm.Cond.code ({ cls := "SleeveSlips", name := "power", desc := "(I)J" } : Jvm.MethodName) prog_1_method_31_code (4 : Nat) (Option.some Jvm.ClassFile.FieldType.long)) ∈ lw_all := lw_g (lw_at lw_m3 172 rfl) rfl
theorem q700 : (Jvm.Cond.constantLong "SleeveSlips" (256 : Nat) (10 : Int64)) ∈ lw_all := lw_g (lw_at lw_m3 173 rfl) rfl
theorem q701 : (Jvm.Cond.methodLink "SleeveSlips" (250 : Nat) ({ cls := "java/lang/Math", name := "max", desc := "(JJ)J" } : Jvm.MethodName)) ∈ lw_all := lw_g (lw_at lw_m3 174 rfl) rfl
theorem q704 : (Jvm.Cond.methodLink "SleeveSlips" (262 : Nat) ({ cls := "SleeveSlips", name := "common", desc := "(JJ)J" } : Jvm.MethodName)) ∈ lw_all := lw_g (lw_at lw_m3 177 rfl) rfl
theorem q705 : (Jvm.Cond.static ({ cls := "SleeveSlips", name := "common", desc := "(JJ)J" } : Jvm.MethodName)) ∈ lw_all := lw_g (lw_at lw_m3 178 rfl) rfl
theorem q706 : (Jvm.Cond.code ({ cls := "SleeveSlips", name := "common", desc := "(JJ)J" } : Jvm.MethodName) prog_1_method_33_code (4 : Nat) (Option.some Jvm.ClassFile.FieldType.long)) ∈ lw_all := lw_g (lw_at lw_m3 179 rfl) rfl
theorem q708 : (Jvm.Cond.instanceMethod ({ cls := "SleeveSlips", name := "wise", desc := "(III)I" } : Jvm.MethodName)) ∈ lw_all := lw_g (lw_at lw_m3 181 rfl) rfl
theorem q709 : (Jvm.Cond.selects "SleeveSlips" ({ cls := "SleeveSlips", name := "wise", desc := "(III)I" } : Jvm.MethodName) ({ cls := "SleeveSlips", name := "wise", desc := "(III)I" } : Jvm.MethodName)) ∈ lw_all := lw_g (lw_at lw_m3 182 rfl) rfl
theorem q710 : (Jvm.Cond.code ({ cls := "SleeveSlips", name := "wise", desc := "(III)I" } : Jvm.MethodName) prog_1_method_35_code (4 : Nat) (Option.some Jvm.ClassFile.FieldType.int)) ∈ lw_all := lw_g (lw_at lw_m3 183 rfl) rfl
theorem q712 : (Jvm.Cond.instanceMethod ({ cls := "SleeveSlips", name := "ring", desc := "()I" } : Jvm.MethodName)) ∈ lw_all := lw_g (lw_at lw_m3 185 rfl) rfl
theorem q713 : (Jvm.Cond.selects "SleeveSlips" ({ cls := "SleeveSlips", name := "ring", desc := "()I" } : Jvm.MethodName) ({ cls := "SleeveSlips", name := "ring", desc := "()I" } : Jvm.MethodName)) ∈ lw_all := lw_g (lw_at lw_m3 186 rfl) rfl
theorem q714 : (Jvm.Cond.code ({ cls := "SleeveSlips", name := "ring", desc := "()I" } : Jvm.MethodName) prog_1_method_37_code (1 : Nat) (Option.some Jvm.ClassFile.FieldType.int)) ∈ lw_all := lw_g (lw_at lw_m3 187 rfl) rfl
theorem q715 : (Jvm.Cond.methodLink "SleeveSlips" (267 : Nat) ({ cls := "SleeveSlips", name := "inOrder", desc := "(I)I" } : Jvm.MethodName)) ∈ lw_all := lw_g (lw_at lw_m3 188 rfl) rfl
theorem q716 : (Jvm.Cond.privateMethod ({ cls := "SleeveSlips", name := "inOrder", desc := "(I)I" } : Jvm.MethodName)) ∈ lw_tbl := lw_at lw_m3 189 rfl
theorem q717 : (Jvm.Cond.instanceMethod ({ cls := "SleeveSlips", name := "inOrder", desc := "(I)I" } : Jvm.MethodName)) ∈ lw_all := lw_g (lw_at lw_m3 190 rfl) rfl
theorem q718 : (Jvm.Cond.code ({ cls := "SleeveSlips", name := "inOrder", desc := "(I)I" } : Jvm.MethodName) prog_1_method_36_code (6 : Nat) (Option.some Jvm.ClassFile.FieldType.int)) ∈ lw_all := lw_g (lw_at lw_m3 191 rfl) rfl
theorem q720 : (Jvm.Cond.instanceMethod ({ cls := "SleeveSlips", name := "order", desc := "(I)I" } : Jvm.MethodName)) ∈ lw_all := lw_g (lw_at lw_m3 193 rfl) rfl
theorem q721 : (Jvm.Cond.selects "SleeveSlips" ({ cls := "SleeveSlips", name := "order", desc := "(I)I" } : Jvm.MethodName) ({ cls := "SleeveSlips", name := "order", desc := "(I)I" } : Jvm.MethodName)) ∈ lw_all := lw_g (lw_at lw_m3 194 rfl) rfl
theorem q722 : (Jvm.Cond.code ({ cls := "SleeveSlips", name := "order", desc := "(I)I" } : Jvm.MethodName) prog_1_method_38_code (3 : Nat) (Option.some Jvm.ClassFile.FieldType.int)) ∈ lw_all := lw_g (lw_at lw_m3 195 rfl) rfl
theorem q724 : (Jvm.Cond.instanceMethod ({ cls := "SleeveSlips", name := "fewest", desc := "(I)I" } : Jvm.MethodName)) ∈ lw_all := lw_g (lw_at lw_m3 197 rfl) rfl
theorem q725 : (Jvm.Cond.selects "SleeveSlips" ({ cls := "SleeveSlips", name := "fewest", desc := "(I)I" } : Jvm.MethodName) ({ cls := "SleeveSlips", name := "fewest", desc := "(I)I" } : Jvm.MethodName)) ∈ lw_all := lw_g (lw_at lw_m3 198 rfl) rfl
theorem q726 : (Jvm.Cond.code ({ cls := "SleeveSlips", name := "fewest", desc := "(I)I" } : Jvm.MethodName) prog_1_method_39_code (5 : Nat) (Option.some Jvm.ClassFile.FieldType.int)) ∈ lw_all := lw_g (lw_at lw_m3 199 rfl) rfl
theorem q728 : (Jvm.Cond.instanceMethod ({ cls := "SleeveSlips", name := "great", desc := "(III)I" } : Jvm.MethodName)) ∈ lw_all := lw_g (lw_at lw_m3 201 rfl) rfl
theorem q729 : (Jvm.Cond.selects "SleeveSlips" ({ cls := "SleeveSlips", name := "great", desc := "(III)I" } : Jvm.MethodName) ({ cls := "SleeveSlips", name := "great", desc := "(III)I" } : Jvm.MethodName)) ∈ lw_all := lw_g (lw_at lw_m3 202 rfl) rfl
theorem q730 : (Jvm.Cond.code ({ cls := "SleeveSlips", name := "great", desc := "(III)I" } : Jvm.MethodName) prog_1_method_41_code (11 : Nat) (Option.some Jvm.ClassFile.FieldType.int)) ∈ lw_all := lw_g (lw_at lw_m3 203 rfl) rfl
theorem q731 : (Jvm.Cond.methodLink "SleeveSlips" (270 : Nat) ({ cls := "SleeveSlips", name := "leftOn", desc := "(I)I" } : Jvm.MethodName)) ∈ lw_all := lw_g (lw_at lw_m3 204 rfl) rfl
theorem q732 : (Jvm.Cond.privateMethod ({ cls := "SleeveSlips", name := "leftOn", desc := "(I)I" } : Jvm.MethodName)) ∈ lw_tbl := lw_at lw_m3 205 rfl
theorem q733 : (Jvm.Cond.instanceMethod ({ cls := "SleeveSlips", name := "leftOn", desc := "(I)I" } : Jvm.MethodName)) ∈ lw_all := lw_g (lw_at lw_m3 206 rfl) rfl
theorem q734 : (Jvm.Cond.code ({ cls := "SleeveSlips", name := "leftOn", desc := "(I)I" } : Jvm.MethodName) prog_1_method_40_code (4 : Nat) (Option.some Jvm.ClassFile.FieldType.int)) ∈ lw_all := lw_g (lw_at lw_m3 207 rfl) rfl
theorem q735 : (Jvm.Cond.methodLink "SleeveSlips" (273 : Nat) ({ cls := "java/lang/Math", name := "max", desc := "(II)I" } : Jvm.MethodName)) ∈ lw_all := lw_g (lw_at lw_m3 208 rfl) rfl
theorem q738 : (Jvm.Cond.methodLink "SleeveSlips" (276 : Nat) ({ cls := "java/lang/Math", name := "min", desc := "(II)I" } : Jvm.MethodName)) ∈ lw_all := lw_g (lw_at lw_m3 211 rfl) rfl
theorem q740 : (Jvm.Cond.instanceMethod ({ cls := "SleeveSlips", name := "rate", desc := "(II)I" } : Jvm.MethodName)) ∈ lw_all := lw_g (lw_at lw_m3 213 rfl) rfl
theorem q741 : (Jvm.Cond.selects "SleeveSlips" ({ cls := "SleeveSlips", name := "rate", desc := "(II)I" } : Jvm.MethodName) ({ cls := "SleeveSlips", name := "rate", desc := "(II)I" } : Jvm.MethodName)) ∈ lw_all := lw_g (lw_at lw_m3 214 rfl) rfl
theorem q742 : (Jvm.Cond.code ({ cls := "SleeveSlips", name := "rate", desc := "(II)I" } : Jvm.MethodName) prog_1_method_42_code (3 : Nat) (Option.some Jvm.ClassFile.FieldType.int)) ∈ lw_all := lw_g (lw_at lw_m3 215 rfl) rfl
theorem q743 : (Jvm.Cond.methodLink "SleeveSlips" (279 : Nat) ({ cls := "SleeveSlips$Person", name := "rate", desc := "(I)I" } : Jvm.MethodName)) ∈ lw_all := lw_g (lw_at lw_m3 216 rfl) rfl
theorem q774 : (Jvm.Cond.constant "SleeveSlips" (282 : Nat) (-1000000 : Int32)) ∈ lw_all := lw_g (lw_at lw_m4 7 rfl) rfl
theorem q776 : (Jvm.Cond.instanceMethod ({ cls := "SleeveSlips", name := "keep", desc := "(I)I" } : Jvm.MethodName)) ∈ lw_all := lw_g (lw_at lw_m4 9 rfl) rfl
theorem q777 : (Jvm.Cond.selects "SleeveSlips" ({ cls := "SleeveSlips", name := "keep", desc := "(I)I" } : Jvm.MethodName) ({ cls := "SleeveSlips", name := "keep", desc := "(I)I" } : Jvm.MethodName)) ∈ lw_all := lw_g (lw_at lw_m4 10 rfl) rfl
theorem q778 : (Jvm.Cond.code ({ cls := "SleeveSlips", name := "keep", desc := "(I)I" } : Jvm.MethodName) prog_1_method_43_code (2 : Nat) (Option.some Jvm.ClassFile.FieldType.int)) ∈ lw_all := lw_g (lw_at lw_m4 11 rfl) rfl
theorem q779 : (Jvm.Cond.methodLink "SleeveSlips" (283 : Nat) ({ cls := "SleeveSlips$Town", name := "copyOf", desc := "(LSleeveSlips$Town;)V" } : Jvm.MethodName)) ∈ lw_all := lw_g (lw_at lw_m4 12 rfl) rfl
theorem q789 : (Jvm.Cond.instanceMethod ({ cls := "SleeveSlips", name := "back", desc := "(I)I" } : Jvm.MethodName)) ∈ lw_all := lw_g (lw_at lw_m4 22 rfl) rfl
theorem q790 : (Jvm.Cond.selects "SleeveSlips" ({ cls := "SleeveSlips", name := "back", desc := "(I)I" } : Jvm.MethodName) ({ cls := "SleeveSlips", name := "back", desc := "(I)I" } : Jvm.MethodName)) ∈ lw_all := lw_g (lw_at lw_m4 23 rfl) rfl
theorem q791 : (Jvm.Cond.code ({ cls := "SleeveSlips", name := "back", desc := "(I)I" } : Jvm.MethodName) prog_1_method_44_code (2 : Nat) (Option.some Jvm.ClassFile.FieldType.int)) ∈ lw_all := lw_g (lw_at lw_m4 24 rfl) rfl
theorem q793 : (Jvm.Cond.instanceMethod ({ cls := "SleeveSlips", name := "count", desc := "(I)I" } : Jvm.MethodName)) ∈ lw_all := lw_g (lw_at lw_m4 26 rfl) rfl
theorem q794 : (Jvm.Cond.selects "SleeveSlips" ({ cls := "SleeveSlips", name := "count", desc := "(I)I" } : Jvm.MethodName) ({ cls := "SleeveSlips", name := "count", desc := "(I)I" } : Jvm.MethodName)) ∈ lw_all := lw_g (lw_at lw_m4 27 rfl) rfl
theorem q795 : (Jvm.Cond.code ({ cls := "SleeveSlips", name := "count", desc := "(I)I" } : Jvm.MethodName) prog_1_method_45_code (2 : Nat) (Option.some Jvm.ClassFile.FieldType.int)) ∈ lw_all := lw_g (lw_at lw_m4 28 rfl) rfl
theorem q797 : (Jvm.Cond.instanceMethod ({ cls := "SleeveSlips", name := "trace", desc := "()J" } : Jvm.MethodName)) ∈ lw_all := lw_g (lw_at lw_m4 30 rfl) rfl
theorem q798 : (Jvm.Cond.selects "SleeveSlips" ({ cls := "SleeveSlips", name := "trace", desc := "()J" } : Jvm.MethodName) ({ cls := "SleeveSlips", name := "trace", desc := "()J" } : Jvm.MethodName)) ∈ lw_all := lw_g (lw_at lw_m4 31 rfl) rfl
theorem q799 : (Jvm.Cond.code ({ cls := "SleeveSlips", name := "trace", desc := "()J" } : Jvm.MethodName) prog_1_method_46_code (1 : Nat) (Option.some Jvm.ClassFile.FieldType.long)) ∈ lw_all := lw_g (lw_at lw_m4 32 rfl) rfl
theorem q1146 : (Jvm.Cond.stringRef "SleeveSlips" (296 : Nat) "person") ∈ lw_tbl := lw_at lw_m5 139 rfl
theorem q1147 : (Jvm.Cond.stringRef "SleeveSlips" (298 : Nat) "ask") ∈ lw_tbl := lw_at lw_m5 140 rfl
theorem q1148 : (Jvm.Cond.stringRef "SleeveSlips" (300 : Nat) "hangs") ∈ lw_tbl := lw_at lw_m5 141 rfl
theorem in_X0 : ∀ w ∈ wsX00, w ∈ lw_all := lw_in wsX00 [327, 329, 331, 333, 335, 337, 339, 341, 343, 345, 347, 349, 351] (by decide +kernel) (by decide +kernel)
