/-! SleeveSlips$Book -/
set_option maxRecDepth 100000
def RX1 : String := "SleeveSlips$Book"
def TX1 : u_T := fun k => match k with
  | 0 => ("SleeveSlips$Book", "room", "[I", true)
  | 1 => ("SleeveSlips$Book", "work", "[I", true)
  | 2 => ("SleeveSlips$Book", "price", "[I", true)
  | 3 => ("SleeveSlips$Book", "whom", "[I", true)
  | 4 => ("SleeveSlips$Book", "day", "[I", true)
  | 5 => ("SleeveSlips$Book", "units", "[I", true)
  | 6 => ("SleeveSlips$Book", "worth", "[I", true)
  | 7 => ("SleeveSlips$Book", "due", "[I", true)
  | 8 => ("SleeveSlips$Book", "under", "[I", true)
  | 9 => ("SleeveSlips$Book", "people", "I", false)
  | 10 => ("SleeveSlips$Book", "askings", "I", false)
  | 11 => ("SleeveSlips$Book", "hangs", "I", false)
  | _ => ("SleeveSlips$Book", "items", "I", false)
def tyX1 : Nat → FieldType := fun k => match k with
  | 0 => .array .int
  | 1 => .array .int
  | 2 => .array .int
  | 3 => .array .int
  | 4 => .array .int
  | 5 => .array .int
  | 6 => .array .int
  | 7 => .array .int
  | 8 => .array .int
  | 9 => .int
  | 10 => .int
  | 11 => .int
  | _ => .int
abbrev wsX10 : List Cond := u_ws RX1 TX1 13
set_option maxRecDepth 100000 in
theorem nmX1 : ∀ a, a < 13 → ∀ b, b < 13 → a ≠ b → (TX1 a).2.1 ≠ (TX1 b).2.1 := by decide +kernel
set_option maxRecDepth 100000 in
theorem tyX1_ok : ∀ k, k < 13 → parseFieldDescriptor (TX1 k).2.2.1 = some (tyX1 k) := by decide +kernel
abbrev cX1_init : ByteArray := prog_3_method_1_code
def yX1_init : MethodName := ⟨RX1, "<init>", "()V"⟩
def dkwX1_init_3 : List UInt8 := [181, 0, 36, 177]
abbrev dktX1_init_3 : List UInt8 := dkwX1_init_3 ++ []
def dkwX1_init_2 : List UInt8 := [181, 0, 27, 42, 16, 8, 188, 10, 181, 0, 30, 42, 16, 8, 188, 10, 181, 0, 33, 42, 16, 8, 188, 10]
abbrev dktX1_init_2 : List UInt8 := dkwX1_init_2 ++ dktX1_init_3
def dkwX1_init_1 : List UInt8 := [181, 0, 18, 42, 16, 8, 188, 10, 181, 0, 21, 42, 16, 8, 188, 10, 181, 0, 24, 42, 16, 8, 188, 10]
abbrev dktX1_init_1 : List UInt8 := dkwX1_init_1 ++ dktX1_init_2
def dkwX1_init_0 : List UInt8 := [42, 183, 0, 3, 42, 7, 188, 10, 181, 0, 9, 42, 7, 188, 10, 181, 0, 15, 42, 7, 188, 10]
abbrev dktX1_init_0 : List UInt8 := dkwX1_init_0 ++ dktX1_init_1
theorem dksX1_init_0 : cX1_init.data.toList.drop 0 = dktX1_init_0 := by decide +kernel
theorem dksX1_init_1 : cX1_init.data.toList.drop 22 = dktX1_init_1 := dk_seg dksX1_init_0 22 rfl rfl
theorem dksX1_init_2 : cX1_init.data.toList.drop 46 = dktX1_init_2 := dk_seg dksX1_init_1 24 rfl rfl
theorem dksX1_init_3 : cX1_init.data.toList.drop 70 = dktX1_init_3 := dk_seg dksX1_init_2 24 rfl rfl
theorem dX1_init_0 : decode cX1_init 0 = .ok (.aload_n 0, 1) := dk_42 (dk_at dksX1_init_0 0 rfl rfl)
theorem dX1_init_1 : decode cX1_init 1 = .ok (.invokespecial 3, 3) := dk_183 0 3 (dk_at dksX1_init_0 1 rfl rfl)
theorem dX1_init_4 : decode cX1_init 4 = .ok (.aload_n 0, 1) := dk_42 (dk_at dksX1_init_0 4 rfl rfl)
theorem dX1_init_5 : decode cX1_init 5 = .ok (.iconst 4, 1) := dk_7 (dk_at dksX1_init_0 5 rfl rfl)
theorem dX1_init_6 : decode cX1_init 6 = .ok (.newarray .int, 2) := dk_188_10 (dk_at dksX1_init_0 6 rfl rfl)
theorem dX1_init_8 : decode cX1_init 8 = .ok (.putfield 9, 3) := dk_181 0 9 (dk_at dksX1_init_0 8 rfl rfl)
theorem dX1_init_11 : decode cX1_init 11 = .ok (.aload_n 0, 1) := dk_42 (dk_at dksX1_init_0 11 rfl rfl)
theorem dX1_init_12 : decode cX1_init 12 = .ok (.iconst 4, 1) := dk_7 (dk_at dksX1_init_0 12 rfl rfl)
theorem dX1_init_13 : decode cX1_init 13 = .ok (.newarray .int, 2) := dk_188_10 (dk_at dksX1_init_0 13 rfl rfl)
theorem dX1_init_15 : decode cX1_init 15 = .ok (.putfield 15, 3) := dk_181 0 15 (dk_at dksX1_init_0 15 rfl rfl)
theorem dX1_init_18 : decode cX1_init 18 = .ok (.aload_n 0, 1) := dk_42 (dk_at dksX1_init_0 18 rfl rfl)
theorem dX1_init_19 : decode cX1_init 19 = .ok (.iconst 4, 1) := dk_7 (dk_at dksX1_init_0 19 rfl rfl)
theorem dX1_init_20 : decode cX1_init 20 = .ok (.newarray .int, 2) := dk_188_10 (dk_at dksX1_init_0 20 rfl rfl)
theorem dX1_init_22 : decode cX1_init 22 = .ok (.putfield 18, 3) := dk_181 0 18 (dk_at dksX1_init_1 0 rfl rfl)
theorem dX1_init_25 : decode cX1_init 25 = .ok (.aload_n 0, 1) := dk_42 (dk_at dksX1_init_1 3 rfl rfl)
theorem dX1_init_26 : decode cX1_init 26 = .ok (.bipush 8, 2) := dk_16 8 (dk_at dksX1_init_1 4 rfl rfl)
theorem dX1_init_28 : decode cX1_init 28 = .ok (.newarray .int, 2) := dk_188_10 (dk_at dksX1_init_1 6 rfl rfl)
theorem dX1_init_30 : decode cX1_init 30 = .ok (.putfield 21, 3) := dk_181 0 21 (dk_at dksX1_init_1 8 rfl rfl)
theorem dX1_init_33 : decode cX1_init 33 = .ok (.aload_n 0, 1) := dk_42 (dk_at dksX1_init_1 11 rfl rfl)
theorem dX1_init_34 : decode cX1_init 34 = .ok (.bipush 8, 2) := dk_16 8 (dk_at dksX1_init_1 12 rfl rfl)
theorem dX1_init_36 : decode cX1_init 36 = .ok (.newarray .int, 2) := dk_188_10 (dk_at dksX1_init_1 14 rfl rfl)
theorem dX1_init_38 : decode cX1_init 38 = .ok (.putfield 24, 3) := dk_181 0 24 (dk_at dksX1_init_1 16 rfl rfl)
theorem dX1_init_41 : decode cX1_init 41 = .ok (.aload_n 0, 1) := dk_42 (dk_at dksX1_init_1 19 rfl rfl)
theorem dX1_init_42 : decode cX1_init 42 = .ok (.bipush 8, 2) := dk_16 8 (dk_at dksX1_init_1 20 rfl rfl)
theorem dX1_init_44 : decode cX1_init 44 = .ok (.newarray .int, 2) := dk_188_10 (dk_at dksX1_init_1 22 rfl rfl)
theorem dX1_init_46 : decode cX1_init 46 = .ok (.putfield 27, 3) := dk_181 0 27 (dk_at dksX1_init_2 0 rfl rfl)
theorem dX1_init_49 : decode cX1_init 49 = .ok (.aload_n 0, 1) := dk_42 (dk_at dksX1_init_2 3 rfl rfl)
theorem dX1_init_50 : decode cX1_init 50 = .ok (.bipush 8, 2) := dk_16 8 (dk_at dksX1_init_2 4 rfl rfl)
theorem dX1_init_52 : decode cX1_init 52 = .ok (.newarray .int, 2) := dk_188_10 (dk_at dksX1_init_2 6 rfl rfl)
theorem dX1_init_54 : decode cX1_init 54 = .ok (.putfield 30, 3) := dk_181 0 30 (dk_at dksX1_init_2 8 rfl rfl)
theorem dX1_init_57 : decode cX1_init 57 = .ok (.aload_n 0, 1) := dk_42 (dk_at dksX1_init_2 11 rfl rfl)
theorem dX1_init_58 : decode cX1_init 58 = .ok (.bipush 8, 2) := dk_16 8 (dk_at dksX1_init_2 12 rfl rfl)
theorem dX1_init_60 : decode cX1_init 60 = .ok (.newarray .int, 2) := dk_188_10 (dk_at dksX1_init_2 14 rfl rfl)
theorem dX1_init_62 : decode cX1_init 62 = .ok (.putfield 33, 3) := dk_181 0 33 (dk_at dksX1_init_2 16 rfl rfl)
theorem dX1_init_65 : decode cX1_init 65 = .ok (.aload_n 0, 1) := dk_42 (dk_at dksX1_init_2 19 rfl rfl)
theorem dX1_init_66 : decode cX1_init 66 = .ok (.bipush 8, 2) := dk_16 8 (dk_at dksX1_init_2 20 rfl rfl)
theorem dX1_init_68 : decode cX1_init 68 = .ok (.newarray .int, 2) := dk_188_10 (dk_at dksX1_init_2 22 rfl rfl)
theorem dX1_init_70 : decode cX1_init 70 = .ok (.putfield 36, 3) := dk_181 0 36 (dk_at dksX1_init_3 0 rfl rfl)
theorem dX1_init_73 : decode cX1_init 73 = .ok (.return_, 1) := dk_177 (dk_at dksX1_init_3 3 rfl rfl)
theorem q49 : (Jvm.Cond.initialized "SleeveSlips$Book") ∈ lw_all := lw_g (lw_at lw_m1 2 rfl) rfl
theorem q81 : (Jvm.Cond.instantiable "SleeveSlips$Book" (13 : Nat)) ∈ lw_all := lw_g (lw_at lw_m1 34 rfl) rfl
theorem q83 : (Jvm.Cond.instanceMethod ({ cls := "SleeveSlips$Book", name := "<init>", desc := "()V" } : Jvm.MethodName)) ∈ lw_all := lw_g (lw_at lw_m1 36 rfl) rfl
theorem q84 : (Jvm.Cond.code ({ cls := "SleeveSlips$Book", name := "<init>", desc := "()V" } : Jvm.MethodName) prog_3_method_1_code (1 : Nat) (Option.none : Option Jvm.ClassFile.FieldType)) ∈ lw_all := lw_g (lw_at lw_m1 37 rfl) rfl
theorem q85 : (Jvm.Cond.methodLink "SleeveSlips$Book" (3 : Nat) ({ cls := "java/lang/Object", name := "<init>", desc := "()V" } : Jvm.MethodName)) ∈ lw_all := lw_g (lw_at lw_m1 38 rfl) rfl
theorem q86 : (Jvm.Cond.fieldLink "SleeveSlips$Book" (9 : Nat) "SleeveSlips$Book" "room" "[I") ∈ lw_all := lw_g (lw_at lw_m1 39 rfl) rfl
theorem q90 : (Jvm.Cond.fieldLink "SleeveSlips$Book" (15 : Nat) "SleeveSlips$Book" "work" "[I") ∈ lw_all := lw_g (lw_at lw_m1 43 rfl) rfl
theorem q94 : (Jvm.Cond.fieldLink "SleeveSlips$Book" (18 : Nat) "SleeveSlips$Book" "price" "[I") ∈ lw_all := lw_g (lw_at lw_m1 47 rfl) rfl
theorem q97 : (Jvm.Cond.fieldLink "SleeveSlips$Book" (21 : Nat) "SleeveSlips$Book" "whom" "[I") ∈ lw_all := lw_g (lw_at lw_m1 50 rfl) rfl
theorem q100 : (Jvm.Cond.fieldLink "SleeveSlips$Book" (24 : Nat) "SleeveSlips$Book" "day" "[I") ∈ lw_all := lw_g (lw_at lw_m1 53 rfl) rfl
theorem q103 : (Jvm.Cond.fieldLink "SleeveSlips$Book" (27 : Nat) "SleeveSlips$Book" "units" "[I") ∈ lw_all := lw_g (lw_at lw_m1 56 rfl) rfl
theorem q106 : (Jvm.Cond.fieldLink "SleeveSlips$Book" (30 : Nat) "SleeveSlips$Book" "worth" "[I") ∈ lw_all := lw_g (lw_at lw_m1 59 rfl) rfl
theorem q109 : (Jvm.Cond.fieldLink "SleeveSlips$Book" (33 : Nat) "SleeveSlips$Book" "due" "[I") ∈ lw_all := lw_g (lw_at lw_m1 62 rfl) rfl
theorem q112 : (Jvm.Cond.fieldLink "SleeveSlips$Book" (36 : Nat) "SleeveSlips$Book" "under" "[I") ∈ lw_all := lw_g (lw_at lw_m1 65 rfl) rfl
theorem q123 : (Jvm.Cond.laysFinal "SleeveSlips$Book" "SleeveSlips$Book" "room" "[I") ∈ lw_all := lw_g (lw_at lw_m1 76 rfl) rfl
theorem q124 : (Jvm.Cond.soleField "SleeveSlips$Book" "room") ∈ lw_all := lw_g (lw_at lw_m1 77 rfl) rfl
theorem q125 : (Jvm.Cond.laysFinal "SleeveSlips$Book" "SleeveSlips$Book" "work" "[I") ∈ lw_all := lw_g (lw_at lw_m1 78 rfl) rfl
theorem q126 : (Jvm.Cond.soleField "SleeveSlips$Book" "work") ∈ lw_all := lw_g (lw_at lw_m1 79 rfl) rfl
theorem q127 : (Jvm.Cond.laysFinal "SleeveSlips$Book" "SleeveSlips$Book" "price" "[I") ∈ lw_all := lw_g (lw_at lw_m1 80 rfl) rfl
theorem q128 : (Jvm.Cond.soleField "SleeveSlips$Book" "price") ∈ lw_all := lw_g (lw_at lw_m1 81 rfl) rfl
theorem q129 : (Jvm.Cond.laysFinal "SleeveSlips$Book" "SleeveSlips$Book" "whom" "[I") ∈ lw_all := lw_g (lw_at lw_m1 82 rfl) rfl
theorem q130 : (Jvm.Cond.soleField "SleeveSlips$Book" "whom") ∈ lw_all := lw_g (lw_at lw_m1 83 rfl) rfl
theorem q131 : (Jvm.Cond.laysFinal "SleeveSlips$Book" "SleeveSlips$Book" "day" "[I") ∈ lw_all := lw_g (lw_at lw_m1 84 rfl) rfl
theorem q132 : (Jvm.Cond.soleField "SleeveSlips$Book" "day") ∈ lw_all := lw_g (lw_at lw_m1 85 rfl) rfl
theorem q133 : (Jvm.Cond.laysFinal "SleeveSlips$Book" "SleeveSlips$Book" "units" "[I") ∈ lw_all := lw_g (lw_at lw_m1 86 rfl) rfl
theorem q134 : (Jvm.Cond.soleField "SleeveSlips$Book" "units") ∈ lw_all := lw_g (lw_at lw_m1 87 rfl) rfl
theorem q135 : (Jvm.Cond.laysFinal "SleeveSlips$Book" "SleeveSlips$Book" "worth" "[I") ∈ lw_all := lw_g (lw_at lw_m1 88 rfl) rfl
theorem q136 : (Jvm.Cond.soleField "SleeveSlips$Book" "worth") ∈ lw_all := lw_g (lw_at lw_m1 89 rfl) rfl
theorem q137 : (Jvm.Cond.laysFinal "SleeveSlips$Book" "SleeveSlips$Book" "due" "[I") ∈ lw_all := lw_g (lw_at lw_m1 90 rfl) rfl
theorem q138 : (Jvm.Cond.soleField "SleeveSlips$Book" "due") ∈ lw_all := lw_g (lw_at lw_m1 91 rfl) rfl
theorem q139 : (Jvm.Cond.laysFinal "SleeveSlips$Book" "SleeveSlips$Book" "under" "[I") ∈ lw_all := lw_g (lw_at lw_m1 92 rfl) rfl
theorem q140 : (Jvm.Cond.soleField "SleeveSlips$Book" "under") ∈ lw_all := lw_g (lw_at lw_m1 93 rfl) rfl
theorem q141 : (Jvm.Cond.lays "SleeveSlips$Book" "SleeveSlips$Book" "people" "I") ∈ lw_all := lw_g (lw_at lw_m1 94 rfl) rfl
theorem q142 : (Jvm.Cond.soleField "SleeveSlips$Book" "people") ∈ lw_all := lw_g (lw_at lw_m1 95 rfl) rfl
theorem q143 : (Jvm.Cond.lays "SleeveSlips$Book" "SleeveSlips$Book" "askings" "I") ∈ lw_all := lw_g (lw_at lw_m1 96 rfl) rfl
theorem q144 : (Jvm.Cond.soleField "SleeveSlips$Book" "askings") ∈ lw_all := lw_g (lw_at lw_m1 97 rfl) rfl
theorem q145 : (Jvm.Cond.lays "SleeveSlips$Book" "SleeveSlips$Book" "hangs" "I") ∈ lw_all := lw_g (lw_at lw_m1 98 rfl) rfl
theorem q146 : (Jvm.Cond.soleField "SleeveSlips$Book" "hangs") ∈ lw_all := lw_g (lw_at lw_m1 99 rfl) rfl
theorem q147 : (Jvm.Cond.lays "SleeveSlips$Book" "SleeveSlips$Book" "items" "I") ∈ lw_all := lw_g (lw_at lw_m1 100 rfl) rfl
theorem q148 : (Jvm.Cond.soleField "SleeveSlips$Book" "items") ∈ lw_all := lw_g (lw_at lw_m1 101 rfl) rfl
theorem q149 : (Jvm.Cond.superclass "SleeveSlips$Book" "java/lang/Object") ∈ lw_all := lw_g (lw_at lw_m1 102 rfl) rfl
theorem in_X1 : ∀ w ∈ wsX10, w ∈ lw_all := lw_in wsX10 [123, 125, 127, 129, 131, 133, 135, 137, 139, 141, 143, 145, 147] (by decide +kernel) (by decide +kernel)

/-! SleeveSlips$Reader -/
set_option maxRecDepth 100000
def RX11 : String := "SleeveSlips$Reader"
def TX11 : u_T := fun k => match k with
  | 0 => ("SleeveSlips$Reader", "at", "I", false)
  | 1 => ("SleeveSlips$Reader", "start", "I", false)
  | 2 => ("SleeveSlips$Reader", "sort", "I", false)
  | 3 => ("SleeveSlips$Reader", "value", "I", false)
  | 4 => ("SleeveSlips$Reader", "made", "LSleeveSlips$Book;", true)
  | _ => ("SleeveSlips$Reader", "this$0", "LSleeveSlips;", true)
def tyX11 : Nat → FieldType := fun k => match k with
  | 0 => .int
  | 1 => .int
  | 2 => .int
  | 3 => .int
  | 4 => .object "SleeveSlips$Book"
  | _ => .object "SleeveSlips"
abbrev wsX110 : List Cond := u_ws RX11 TX11 6
theorem nmX11 : ∀ a, a < 6 → ∀ b, b < 6 → a ≠ b → (TX11 a).2.1 ≠ (TX11 b).2.1 := by decide +kernel
theorem tyX11_ok : ∀ k, k < 6 → parseFieldDescriptor (TX11 k).2.2.1 = some (tyX11 k) := by decide +kernel
abbrev cX11_init : ByteArray := prog_7_method_1_code
def yX11_init : MethodName := ⟨RX11, "<init>", "(LSleeveSlips;)V"⟩
def dkwX11_init_0 : List UInt8 := [42, 43, 181, 0, 3, 42, 183, 0, 9, 42, 187, 0, 15, 89, 183, 0, 17, 181, 0, 18, 177]
abbrev dktX11_init_0 : List UInt8 := dkwX11_init_0 ++ []
theorem dksX11_init_0 : cX11_init.data.toList.drop 0 = dktX11_init_0 := by decide +kernel
theorem dX11_init_0 : decode cX11_init 0 = .ok (.aload_n 0, 1) := dk_42 (dk_at dksX11_init_0 0 rfl rfl)
theorem dX11_init_1 : decode cX11_init 1 = .ok (.aload_n 1, 1) := dk_43 (dk_at dksX11_init_0 1 rfl rfl)
theorem dX11_init_2 : decode cX11_init 2 = .ok (.putfield 3, 3) := dk_181 0 3 (dk_at dksX11_init_0 2 rfl rfl)
theorem dX11_init_5 : decode cX11_init 5 = .ok (.aload_n 0, 1) := dk_42 (dk_at dksX11_init_0 5 rfl rfl)
theorem dX11_init_6 : decode cX11_init 6 = .ok (.invokespecial 9, 3) := dk_183 0 9 (dk_at dksX11_init_0 6 rfl rfl)
theorem dX11_init_9 : decode cX11_init 9 = .ok (.aload_n 0, 1) := dk_42 (dk_at dksX11_init_0 9 rfl rfl)
theorem dX11_init_10 : decode cX11_init 10 = .ok (.new 15, 3) := dk_187 0 15 (dk_at dksX11_init_0 10 rfl rfl)
theorem dX11_init_13 : decode cX11_init 13 = .ok (.dup, 1) := dk_89 (dk_at dksX11_init_0 13 rfl rfl)
theorem dX11_init_14 : decode cX11_init 14 = .ok (.invokespecial 17, 3) := dk_183 0 17 (dk_at dksX11_init_0 14 rfl rfl)
theorem dX11_init_17 : decode cX11_init 17 = .ok (.putfield 18, 3) := dk_181 0 18 (dk_at dksX11_init_0 17 rfl rfl)
theorem dX11_init_20 : decode cX11_init 20 = .ok (.return_, 1) := dk_177 (dk_at dksX11_init_0 20 rfl rfl)
abbrev cX11_read : ByteArray := prog_7_method_9_code
def yX11_read : MethodName := ⟨RX11, "read", "()LSleeveSlips$Book;"⟩
def dkwX11_read_3 : List UInt8 := [176]
abbrev dktX11_read_3 : List UInt8 := dkwX11_read_3 ++ []
def dkwX11_read_2 : List UInt8 := [182, 0, 81, 87, 42, 180, 0, 18, 89, 180, 0, 131, 4, 96, 181, 0, 131, 167, 255, 197, 42, 180, 0, 18]
abbrev dktX11_read_2 : List UInt8 := dkwX11_read_2 ++ dktX11_read_3
def dkwX11_read_1 : List UInt8 := [182, 0, 81, 87, 42, 27, 182, 0, 128, 42, 42, 180, 0, 52, 7, 160, 0, 7, 4, 167, 0, 4, 3]
abbrev dktX11_read_1 : List UInt8 := dkwX11_read_1 ++ dktX11_read_2
def dkwX11_read_0 : List UInt8 := [42, 182, 0, 78, 42, 180, 0, 52, 8, 159, 0, 57, 42, 180, 0, 52, 60, 42, 42, 27, 182, 0, 124]
abbrev dktX11_read_0 : List UInt8 := dkwX11_read_0 ++ dktX11_read_1
theorem dksX11_read_0 : cX11_read.data.toList.drop 0 = dktX11_read_0 := by decide +kernel
theorem dksX11_read_1 : cX11_read.data.toList.drop 23 = dktX11_read_1 := dk_seg dksX11_read_0 23 rfl rfl
theorem dksX11_read_2 : cX11_read.data.toList.drop 46 = dktX11_read_2 := dk_seg dksX11_read_1 23 rfl rfl
theorem dksX11_read_3 : cX11_read.data.toList.drop 70 = dktX11_read_3 := dk_seg dksX11_read_2 24 rfl rfl
theorem dX11_read_0 : decode cX11_read 0 = .ok (.aload_n 0, 1) := dk_42 (dk_at dksX11_read_0 0 rfl rfl)
theorem dX11_read_1 : decode cX11_read 1 = .ok (.invokevirtual 78, 3) := dk_182 0 78 (dk_at dksX11_read_0 1 rfl rfl)
theorem dX11_read_4 : decode cX11_read 4 = .ok (.aload_n 0, 1) := dk_42 (dk_at dksX11_read_0 4 rfl rfl)
theorem dX11_read_5 : decode cX11_read 5 = .ok (.getfield 52, 3) := dk_180 0 52 (dk_at dksX11_read_0 5 rfl rfl)
theorem dX11_read_8 : decode cX11_read 8 = .ok (.iconst 5, 1) := dk_8 (dk_at dksX11_read_0 8 rfl rfl)
theorem dX11_read_9 : decode cX11_read 9 = .ok (.if_icmp .eq 57, 3) := dk_159 0 57 (dk_at dksX11_read_0 9 rfl rfl)
theorem dX11_read_12 : decode cX11_read 12 = .ok (.aload_n 0, 1) := dk_42 (dk_at dksX11_read_0 12 rfl rfl)
theorem dX11_read_13 : decode cX11_read 13 = .ok (.getfield 52, 3) := dk_180 0 52 (dk_at dksX11_read_0 13 rfl rfl)
theorem dX11_read_16 : decode cX11_read 16 = .ok (.istore_n 1, 1) := dk_60 (dk_at dksX11_read_0 16 rfl rfl)
theorem dX11_read_17 : decode cX11_read 17 = .ok (.aload_n 0, 1) := dk_42 (dk_at dksX11_read_0 17 rfl rfl)
theorem dX11_read_18 : decode cX11_read 18 = .ok (.aload_n 0, 1) := dk_42 (dk_at dksX11_read_0 18 rfl rfl)
theorem dX11_read_19 : decode cX11_read 19 = .ok (.iload_n 1, 1) := dk_27 (dk_at dksX11_read_0 19 rfl rfl)
theorem dX11_read_20 : decode cX11_read 20 = .ok (.invokevirtual 124, 3) := dk_182 0 124 (dk_at dksX11_read_0 20 rfl rfl)
theorem dX11_read_23 : decode cX11_read 23 = .ok (.invokevirtual 81, 3) := dk_182 0 81 (dk_at dksX11_read_1 0 rfl rfl)
theorem dX11_read_26 : decode cX11_read 26 = .ok (.pop, 1) := dk_87 (dk_at dksX11_read_1 3 rfl rfl)
theorem dX11_read_27 : decode cX11_read 27 = .ok (.aload_n 0, 1) := dk_42 (dk_at dksX11_read_1 4 rfl rfl)
theorem dX11_read_28 : decode cX11_read 28 = .ok (.iload_n 1, 1) := dk_27 (dk_at dksX11_read_1 5 rfl rfl)
theorem dX11_read_29 : decode cX11_read 29 = .ok (.invokevirtual 128, 3) := dk_182 0 128 (dk_at dksX11_read_1 6 rfl rfl)
theorem dX11_read_32 : decode cX11_read 32 = .ok (.aload_n 0, 1) := dk_42 (dk_at dksX11_read_1 9 rfl rfl)
theorem dX11_read_33 : decode cX11_read 33 = .ok (.aload_n 0, 1) := dk_42 (dk_at dksX11_read_1 10 rfl rfl)
theorem dX11_read_34 : decode cX11_read 34 = .ok (.getfield 52, 3) := dk_180 0 52 (dk_at dksX11_read_1 11 rfl rfl)
theorem dX11_read_37 : decode cX11_read 37 = .ok (.iconst 4, 1) := dk_7 (dk_at dksX11_read_1 14 rfl rfl)
theorem dX11_read_38 : decode cX11_read 38 = .ok (.if_icmp .ne 7, 3) := dk_160 0 7 (dk_at dksX11_read_1 15 rfl rfl)
theorem dX11_read_41 : decode cX11_read 41 = .ok (.iconst 1, 1) := dk_4 (dk_at dksX11_read_1 18 rfl rfl)
theorem dX11_read_42 : decode cX11_read 42 = .ok (.goto 4, 3) := dk_167 0 4 (dk_at dksX11_read_1 19 rfl rfl)
theorem dX11_read_45 : decode cX11_read 45 = .ok (.iconst 0, 1) := dk_3 (dk_at dksX11_read_1 22 rfl rfl)
theorem dX11_read_46 : decode cX11_read 46 = .ok (.invokevirtual 81, 3) := dk_182 0 81 (dk_at dksX11_read_2 0 rfl rfl)
theorem dX11_read_49 : decode cX11_read 49 = .ok (.pop, 1) := dk_87 (dk_at dksX11_read_2 3 rfl rfl)
theorem dX11_read_50 : decode cX11_read 50 = .ok (.aload_n 0, 1) := dk_42 (dk_at dksX11_read_2 4 rfl rfl)
theorem dX11_read_51 : decode cX11_read 51 = .ok (.getfield 18, 3) := dk_180 0 18 (dk_at dksX11_read_2 5 rfl rfl)
theorem dX11_read_54 : decode cX11_read 54 = .ok (.dup, 1) := dk_89 (dk_at dksX11_read_2 8 rfl rfl)
theorem dX11_read_55 : decode cX11_read 55 = .ok (.getfield 131, 3) := dk_180 0 131 (dk_at dksX11_read_2 9 rfl rfl)
theorem dX11_read_58 : decode cX11_read 58 = .ok (.iconst 1, 1) := dk_4 (dk_at dksX11_read_2 12 rfl rfl)
theorem dX11_read_59 : decode cX11_read 59 = .ok (.iadd, 1) := dk_96 (dk_at dksX11_read_2 13 rfl rfl)
theorem dX11_read_60 : decode cX11_read 60 = .ok (.putfield 131, 3) := dk_181 0 131 (dk_at dksX11_read_2 14 rfl rfl)
theorem dX11_read_63 : decode cX11_read 63 = .ok (.goto (-59), 3) := dk_167 255 197 (dk_at dksX11_read_2 17 rfl rfl)
theorem dX11_read_66 : decode cX11_read 66 = .ok (.aload_n 0, 1) := dk_42 (dk_at dksX11_read_2 20 rfl rfl)
theorem dX11_read_67 : decode cX11_read 67 = .ok (.getfield 18, 3) := dk_180 0 18 (dk_at dksX11_read_2 21 rfl rfl)
theorem dX11_read_70 : decode cX11_read 70 = .ok (.areturn, 1) := dk_176 (dk_at dksX11_read_3 0 rfl rfl)
abbrev cX11_next : ByteArray := prog_7_method_4_code
def yX11_next : MethodName := ⟨RX11, "next", "()V"⟩
def dkwX11_next_11 : List UInt8 := [167, 0, 5, 16, 6, 181, 0, 52, 177]
abbrev dktX11_next_11 : List UInt8 := dkwX11_next_11 ++ []
def dkwX11_next_10 : List UInt8 := [181, 0, 52, 167, 0, 29, 42, 89, 180, 0, 22, 4, 96, 181, 0, 22, 42, 27, 16, 59, 160, 0, 7, 7]
abbrev dktX11_next_10 : List UInt8 := dkwX11_next_10 ++ dktX11_next_11
def dkwX11_next_9 : List UInt8 := [16, 48, 160, 0, 21, 42, 180, 0, 22, 42, 180, 0, 33, 100, 4, 164, 0, 8, 16, 6, 167, 0, 4, 6]
abbrev dktX11_next_9 : List UInt8 := dkwX11_next_9 ++ dktX11_next_10
def dkwX11_next_8 : List UInt8 := [42, 89, 180, 0, 22, 4, 96, 181, 0, 22, 167, 255, 208, 42, 42, 180, 0, 49, 16, 99, 163, 0, 22, 27]
abbrev dktX11_next_8 : List UInt8 := dkwX11_next_8 ++ dktX11_next_9
def dkwX11_next_7 : List UInt8 := [42, 16, 100, 16, 10, 42, 180, 0, 49, 104, 42, 182, 0, 46, 96, 16, 48, 100, 184, 0, 67, 181, 0, 49]
abbrev dktX11_next_7 : List UInt8 := dkwX11_next_7 ++ dktX11_next_8
def dkwX11_next_6 : List UInt8 := [16, 48, 16, 57, 184, 0, 55, 153, 0, 95, 42, 182, 0, 46, 16, 48, 16, 57, 184, 0, 55, 153, 0, 40]
abbrev dktX11_next_6 : List UInt8 := dkwX11_next_6 ++ dktX11_next_7
def dkwX11_next_5 : List UInt8 := [153, 0, 7, 28, 167, 0, 7, 42, 180, 0, 52, 181, 0, 52, 132, 2, 1, 167, 255, 221, 167, 0, 132, 27]
abbrev dktX11_next_5 : List UInt8 := dkwX11_next_5 ++ dktX11_next_6
def dkwX11_next_4 : List UInt8 := [181, 0, 52, 3, 61, 28, 178, 0, 59, 190, 162, 0, 33, 42, 42, 178, 0, 59, 28, 50, 182, 0, 63]
abbrev dktX11_next_4 : List UInt8 := dkwX11_next_4 ++ dktX11_next_5
def dkwX11_next_3 : List UInt8 := [16, 122, 184, 0, 55, 153, 0, 16, 42, 89, 180, 0, 22, 4, 96, 181, 0, 22, 167, 255, 232, 42, 16, 6]
abbrev dktX11_next_3 : List UInt8 := dkwX11_next_3 ++ dktX11_next_4
def dkwX11_next_2 : List UInt8 := [181, 0, 52, 167, 0, 219, 27, 16, 97, 16, 122, 184, 0, 55, 153, 0, 79, 42, 182, 0, 46, 16, 97]
abbrev dktX11_next_2 : List UInt8 := dkwX11_next_2 ++ dktX11_next_3
def dkwX11_next_1 : List UInt8 := [180, 0, 22, 181, 0, 33, 42, 3, 181, 0, 49, 42, 182, 0, 46, 60, 27, 156, 0, 11, 42, 8]
abbrev dktX11_next_1 : List UInt8 := dkwX11_next_1 ++ dktX11_next_2
def dkwX11_next_0 : List UInt8 := [42, 182, 0, 46, 16, 32, 160, 0, 16, 42, 89, 180, 0, 22, 4, 96, 181, 0, 22, 167, 255, 237, 42, 42]
abbrev dktX11_next_0 : List UInt8 := dkwX11_next_0 ++ dktX11_next_1
theorem dksX11_next_0 : cX11_next.data.toList.drop 0 = dktX11_next_0 := by decide +kernel
theorem dksX11_next_1 : cX11_next.data.toList.drop 24 = dktX11_next_1 := dk_seg dksX11_next_0 24 rfl rfl
theorem dksX11_next_2 : cX11_next.data.toList.drop 46 = dktX11_next_2 := dk_seg dksX11_next_1 22 rfl rfl
theorem dksX11_next_3 : cX11_next.data.toList.drop 69 = dktX11_next_3 := dk_seg dksX11_next_2 23 rfl rfl
theorem dksX11_next_4 : cX11_next.data.toList.drop 93 = dktX11_next_4 := dk_seg dksX11_next_3 24 rfl rfl
theorem dksX11_next_5 : cX11_next.data.toList.drop 116 = dktX11_next_5 := dk_seg dksX11_next_4 23 rfl rfl
theorem dksX11_next_6 : cX11_next.data.toList.drop 140 = dktX11_next_6 := dk_seg dksX11_next_5 24 rfl rfl
theorem dksX11_next_7 : cX11_next.data.toList.drop 164 = dktX11_next_7 := dk_seg dksX11_next_6 24 rfl rfl
theorem dksX11_next_8 : cX11_next.data.toList.drop 188 = dktX11_next_8 := dk_seg dksX11_next_7 24 rfl rfl
theorem dksX11_next_9 : cX11_next.data.toList.drop 212 = dktX11_next_9 := dk_seg dksX11_next_8 24 rfl rfl
theorem dksX11_next_10 : cX11_next.data.toList.drop 236 = dktX11_next_10 := dk_seg dksX11_next_9 24 rfl rfl
theorem dksX11_next_11 : cX11_next.data.toList.drop 260 = dktX11_next_11 := dk_seg dksX11_next_10 24 rfl rfl
theorem dX11_next_0 : decode cX11_next 0 = .ok (.aload_n 0, 1) := dk_42 (dk_at dksX11_next_0 0 rfl rfl)
theorem dX11_next_1 : decode cX11_next 1 = .ok (.invokevirtual 46, 3) := dk_182 0 46 (dk_at dksX11_next_0 1 rfl rfl)
theorem dX11_next_4 : decode cX11_next 4 = .ok (.bipush 32, 2) := dk_16 32 (dk_at dksX11_next_0 4 rfl rfl)
theorem dX11_next_6 : decode cX11_next 6 = .ok (.if_icmp .ne 16, 3) := dk_160 0 16 (dk_at dksX11_next_0 6 rfl rfl)
theorem dX11_next_9 : decode cX11_next 9 = .ok (.aload_n 0, 1) := dk_42 (dk_at dksX11_next_0 9 rfl rfl)
theorem dX11_next_10 : decode cX11_next 10 = .ok (.dup, 1) := dk_89 (dk_at dksX11_next_0 10 rfl rfl)
theorem dX11_next_11 : decode cX11_next 11 = .ok (.getfield 22, 3) := dk_180 0 22 (dk_at dksX11_next_0 11 rfl rfl)
theorem dX11_next_14 : decode cX11_next 14 = .ok (.iconst 1, 1) := dk_4 (dk_at dksX11_next_0 14 rfl rfl)
theorem dX11_next_15 : decode cX11_next 15 = .ok (.iadd, 1) := dk_96 (dk_at dksX11_next_0 15 rfl rfl)
theorem dX11_next_16 : decode cX11_next 16 = .ok (.putfield 22, 3) := dk_181 0 22 (dk_at dksX11_next_0 16 rfl rfl)
theorem dX11_next_19 : decode cX11_next 19 = .ok (.goto (-19), 3) := dk_167 255 237 (dk_at dksX11_next_0 19 rfl rfl)
theorem dX11_next_22 : decode cX11_next 22 = .ok (.aload_n 0, 1) := dk_42 (dk_at dksX11_next_0 22 rfl rfl)
theorem dX11_next_23 : decode cX11_next 23 = .ok (.aload_n 0, 1) := dk_42 (dk_at dksX11_next_0 23 rfl rfl)
theorem dX11_next_24 : decode cX11_next 24 = .ok (.getfield 22, 3) := dk_180 0 22 (dk_at dksX11_next_1 0 rfl rfl)
theorem dX11_next_27 : decode cX11_next 27 = .ok (.putfield 33, 3) := dk_181 0 33 (dk_at dksX11_next_1 3 rfl rfl)
theorem dX11_next_30 : decode cX11_next 30 = .ok (.aload_n 0, 1) := dk_42 (dk_at dksX11_next_1 6 rfl rfl)
theorem dX11_next_31 : decode cX11_next 31 = .ok (.iconst 0, 1) := dk_3 (dk_at dksX11_next_1 7 rfl rfl)
theorem dX11_next_32 : decode cX11_next 32 = .ok (.putfield 49, 3) := dk_181 0 49 (dk_at dksX11_next_1 8 rfl rfl)
theorem dX11_next_35 : decode cX11_next 35 = .ok (.aload_n 0, 1) := dk_42 (dk_at dksX11_next_1 11 rfl rfl)
theorem dX11_next_36 : decode cX11_next 36 = .ok (.invokevirtual 46, 3) := dk_182 0 46 (dk_at dksX11_next_1 12 rfl rfl)
theorem dX11_next_39 : decode cX11_next 39 = .ok (.istore_n 1, 1) := dk_60 (dk_at dksX11_next_1 15 rfl rfl)
theorem dX11_next_40 : decode cX11_next 40 = .ok (.iload_n 1, 1) := dk_27 (dk_at dksX11_next_1 16 rfl rfl)
theorem dX11_next_41 : decode cX11_next 41 = .ok (.ifCond .ge 11, 3) := dk_156 0 11 (dk_at dksX11_next_1 17 rfl rfl)
theorem dX11_next_44 : decode cX11_next 44 = .ok (.aload_n 0, 1) := dk_42 (dk_at dksX11_next_1 20 rfl rfl)
theorem dX11_next_45 : decode cX11_next 45 = .ok (.iconst 5, 1) := dk_8 (dk_at dksX11_next_1 21 rfl rfl)
theorem dX11_next_46 : decode cX11_next 46 = .ok (.putfield 52, 3) := dk_181 0 52 (dk_at dksX11_next_2 0 rfl rfl)
theorem dX11_next_49 : decode cX11_next 49 = .ok (.goto 219, 3) := dk_167 0 219 (dk_at dksX11_next_2 3 rfl rfl)
theorem dX11_next_52 : decode cX11_next 52 = .ok (.iload_n 1, 1) := dk_27 (dk_at dksX11_next_2 6 rfl rfl)
theorem dX11_next_53 : decode cX11_next 53 = .ok (.bipush 97, 2) := dk_16 97 (dk_at dksX11_next_2 7 rfl rfl)
theorem dX11_next_55 : decode cX11_next 55 = .ok (.bipush 122, 2) := dk_16 122 (dk_at dksX11_next_2 9 rfl rfl)
theorem dX11_next_57 : decode cX11_next 57 = .ok (.invokestatic 55, 3) := dk_184 0 55 (dk_at dksX11_next_2 11 rfl rfl)
theorem dX11_next_60 : decode cX11_next 60 = .ok (.ifCond .eq 79, 3) := dk_153 0 79 (dk_at dksX11_next_2 14 rfl rfl)
theorem dX11_next_63 : decode cX11_next 63 = .ok (.aload_n 0, 1) := dk_42 (dk_at dksX11_next_2 17 rfl rfl)
theorem dX11_next_64 : decode cX11_next 64 = .ok (.invokevirtual 46, 3) := dk_182 0 46 (dk_at dksX11_next_2 18 rfl rfl)
theorem dX11_next_67 : decode cX11_next 67 = .ok (.bipush 97, 2) := dk_16 97 (dk_at dksX11_next_2 21 rfl rfl)
theorem dX11_next_69 : decode cX11_next 69 = .ok (.bipush 122, 2) := dk_16 122 (dk_at dksX11_next_3 0 rfl rfl)
theorem dX11_next_71 : decode cX11_next 71 = .ok (.invokestatic 55, 3) := dk_184 0 55 (dk_at dksX11_next_3 2 rfl rfl)
theorem dX11_next_74 : decode cX11_next 74 = .ok (.ifCond .eq 16, 3) := dk_153 0 16 (dk_at dksX11_next_3 5 rfl rfl)
theorem dX11_next_77 : decode cX11_next 77 = .ok (.aload_n 0, 1) := dk_42 (dk_at dksX11_next_3 8 rfl rfl)
theorem dX11_next_78 : decode cX11_next 78 = .ok (.dup, 1) := dk_89 (dk_at dksX11_next_3 9 rfl rfl)
theorem dX11_next_79 : decode cX11_next 79 = .ok (.getfield 22, 3) := dk_180 0 22 (dk_at dksX11_next_3 10 rfl rfl)
theorem dX11_next_82 : decode cX11_next 82 = .ok (.iconst 1, 1) := dk_4 (dk_at dksX11_next_3 13 rfl rfl)
theorem dX11_next_83 : decode cX11_next 83 = .ok (.iadd, 1) := dk_96 (dk_at dksX11_next_3 14 rfl rfl)
theorem dX11_next_84 : decode cX11_next 84 = .ok (.putfield 22, 3) := dk_181 0 22 (dk_at dksX11_next_3 15 rfl rfl)
theorem dX11_next_87 : decode cX11_next 87 = .ok (.goto (-24), 3) := dk_167 255 232 (dk_at dksX11_next_3 18 rfl rfl)
theorem dX11_next_90 : decode cX11_next 90 = .ok (.aload_n 0, 1) := dk_42 (dk_at dksX11_next_3 21 rfl rfl)
theorem dX11_next_91 : decode cX11_next 91 = .ok (.bipush 6, 2) := dk_16 6 (dk_at dksX11_next_3 22 rfl rfl)
theorem dX11_next_93 : decode cX11_next 93 = .ok (.putfield 52, 3) := dk_181 0 52 (dk_at dksX11_next_4 0 rfl rfl)
theorem dX11_next_96 : decode cX11_next 96 = .ok (.iconst 0, 1) := dk_3 (dk_at dksX11_next_4 3 rfl rfl)
theorem dX11_next_97 : decode cX11_next 97 = .ok (.istore_n 2, 1) := dk_61 (dk_at dksX11_next_4 4 rfl rfl)
theorem dX11_next_98 : decode cX11_next 98 = .ok (.iload_n 2, 1) := dk_28 (dk_at dksX11_next_4 5 rfl rfl)
theorem dX11_next_99 : decode cX11_next 99 = .ok (.getstatic 59, 3) := dk_178 0 59 (dk_at dksX11_next_4 6 rfl rfl)
theorem dX11_next_102 : decode cX11_next 102 = .ok (.arraylength, 1) := dk_190 (dk_at dksX11_next_4 9 rfl rfl)
theorem dX11_next_103 : decode cX11_next 103 = .ok (.if_icmp .ge 33, 3) := dk_162 0 33 (dk_at dksX11_next_4 10 rfl rfl)
theorem dX11_next_106 : decode cX11_next 106 = .ok (.aload_n 0, 1) := dk_42 (dk_at dksX11_next_4 13 rfl rfl)
theorem dX11_next_107 : decode cX11_next 107 = .ok (.aload_n 0, 1) := dk_42 (dk_at dksX11_next_4 14 rfl rfl)
theorem dX11_next_108 : decode cX11_next 108 = .ok (.getstatic 59, 3) := dk_178 0 59 (dk_at dksX11_next_4 15 rfl rfl)
theorem dX11_next_111 : decode cX11_next 111 = .ok (.iload_n 2, 1) := dk_28 (dk_at dksX11_next_4 18 rfl rfl)
theorem dX11_next_112 : decode cX11_next 112 = .ok (.aaload, 1) := dk_50 (dk_at dksX11_next_4 19 rfl rfl)
theorem dX11_next_113 : decode cX11_next 113 = .ok (.invokevirtual 63, 3) := dk_182 0 63 (dk_at dksX11_next_4 20 rfl rfl)
theorem dX11_next_116 : decode cX11_next 116 = .ok (.ifCond .eq 7, 3) := dk_153 0 7 (dk_at dksX11_next_5 0 rfl rfl)
theorem dX11_next_119 : decode cX11_next 119 = .ok (.iload_n 2, 1) := dk_28 (dk_at dksX11_next_5 3 rfl rfl)
theorem dX11_next_120 : decode cX11_next 120 = .ok (.goto 7, 3) := dk_167 0 7 (dk_at dksX11_next_5 4 rfl rfl)
theorem dX11_next_123 : decode cX11_next 123 = .ok (.aload_n 0, 1) := dk_42 (dk_at dksX11_next_5 7 rfl rfl)
theorem dX11_next_124 : decode cX11_next 124 = .ok (.getfield 52, 3) := dk_180 0 52 (dk_at dksX11_next_5 8 rfl rfl)
theorem dX11_next_127 : decode cX11_next 127 = .ok (.putfield 52, 3) := dk_181 0 52 (dk_at dksX11_next_5 11 rfl rfl)
theorem dX11_next_130 : decode cX11_next 130 = .ok (.iinc 2 1, 3) := dk_132 2 1 (dk_at dksX11_next_5 14 rfl rfl)
theorem dX11_next_133 : decode cX11_next 133 = .ok (.goto (-35), 3) := dk_167 255 221 (dk_at dksX11_next_5 17 rfl rfl)
theorem dX11_next_136 : decode cX11_next 136 = .ok (.goto 132, 3) := dk_167 0 132 (dk_at dksX11_next_5 20 rfl rfl)
theorem dX11_next_139 : decode cX11_next 139 = .ok (.iload_n 1, 1) := dk_27 (dk_at dksX11_next_5 23 rfl rfl)
theorem dX11_next_140 : decode cX11_next 140 = .ok (.bipush 48, 2) := dk_16 48 (dk_at dksX11_next_6 0 rfl rfl)
theorem dX11_next_142 : decode cX11_next 142 = .ok (.bipush 57, 2) := dk_16 57 (dk_at dksX11_next_6 2 rfl rfl)
theorem dX11_next_144 : decode cX11_next 144 = .ok (.invokestatic 55, 3) := dk_184 0 55 (dk_at dksX11_next_6 4 rfl rfl)
theorem dX11_next_147 : decode cX11_next 147 = .ok (.ifCond .eq 95, 3) := dk_153 0 95 (dk_at dksX11_next_6 7 rfl rfl)
theorem dX11_next_150 : decode cX11_next 150 = .ok (.aload_n 0, 1) := dk_42 (dk_at dksX11_next_6 10 rfl rfl)
theorem dX11_next_151 : decode cX11_next 151 = .ok (.invokevirtual 46, 3) := dk_182 0 46 (dk_at dksX11_next_6 11 rfl rfl)
theorem dX11_next_154 : decode cX11_next 154 = .ok (.bipush 48, 2) := dk_16 48 (dk_at dksX11_next_6 14 rfl rfl)
theorem dX11_next_156 : decode cX11_next 156 = .ok (.bipush 57, 2) := dk_16 57 (dk_at dksX11_next_6 16 rfl rfl)
theorem dX11_next_158 : decode cX11_next 158 = .ok (.invokestatic 55, 3) := dk_184 0 55 (dk_at dksX11_next_6 18 rfl rfl)
theorem dX11_next_161 : decode cX11_next 161 = .ok (.ifCond .eq 40, 3) := dk_153 0 40 (dk_at dksX11_next_6 21 rfl rfl)
theorem dX11_next_164 : decode cX11_next 164 = .ok (.aload_n 0, 1) := dk_42 (dk_at dksX11_next_7 0 rfl rfl)
theorem dX11_next_165 : decode cX11_next 165 = .ok (.bipush 100, 2) := dk_16 100 (dk_at dksX11_next_7 1 rfl rfl)
theorem dX11_next_167 : decode cX11_next 167 = .ok (.bipush 10, 2) := dk_16 10 (dk_at dksX11_next_7 3 rfl rfl)
theorem dX11_next_169 : decode cX11_next 169 = .ok (.aload_n 0, 1) := dk_42 (dk_at dksX11_next_7 5 rfl rfl)
theorem dX11_next_170 : decode cX11_next 170 = .ok (.getfield 49, 3) := dk_180 0 49 (dk_at dksX11_next_7 6 rfl rfl)
theorem dX11_next_173 : decode cX11_next 173 = .ok (.imul, 1) := dk_104 (dk_at dksX11_next_7 9 rfl rfl)
theorem dX11_next_174 : decode cX11_next 174 = .ok (.aload_n 0, 1) := dk_42 (dk_at dksX11_next_7 10 rfl rfl)
theorem dX11_next_175 : decode cX11_next 175 = .ok (.invokevirtual 46, 3) := dk_182 0 46 (dk_at dksX11_next_7 11 rfl rfl)
theorem dX11_next_178 : decode cX11_next 178 = .ok (.iadd, 1) := dk_96 (dk_at dksX11_next_7 14 rfl rfl)
theorem dX11_next_179 : decode cX11_next 179 = .ok (.bipush 48, 2) := dk_16 48 (dk_at dksX11_next_7 15 rfl rfl)
theorem dX11_next_181 : decode cX11_next 181 = .ok (.isub, 1) := dk_100 (dk_at dksX11_next_7 17 rfl rfl)
theorem dX11_next_182 : decode cX11_next 182 = .ok (.invokestatic 67, 3) := dk_184 0 67 (dk_at dksX11_next_7 18 rfl rfl)
theorem dX11_next_185 : decode cX11_next 185 = .ok (.putfield 49, 3) := dk_181 0 49 (dk_at dksX11_next_7 21 rfl rfl)
theorem dX11_next_188 : decode cX11_next 188 = .ok (.aload_n 0, 1) := dk_42 (dk_at dksX11_next_8 0 rfl rfl)
theorem dX11_next_189 : decode cX11_next 189 = .ok (.dup, 1) := dk_89 (dk_at dksX11_next_8 1 rfl rfl)
theorem dX11_next_190 : decode cX11_next 190 = .ok (.getfield 22, 3) := dk_180 0 22 (dk_at dksX11_next_8 2 rfl rfl)
theorem dX11_next_193 : decode cX11_next 193 = .ok (.iconst 1, 1) := dk_4 (dk_at dksX11_next_8 5 rfl rfl)
theorem dX11_next_194 : decode cX11_next 194 = .ok (.iadd, 1) := dk_96 (dk_at dksX11_next_8 6 rfl rfl)
theorem dX11_next_195 : decode cX11_next 195 = .ok (.putfield 22, 3) := dk_181 0 22 (dk_at dksX11_next_8 7 rfl rfl)
theorem dX11_next_198 : decode cX11_next 198 = .ok (.goto (-48), 3) := dk_167 255 208 (dk_at dksX11_next_8 10 rfl rfl)
theorem dX11_next_201 : decode cX11_next 201 = .ok (.aload_n 0, 1) := dk_42 (dk_at dksX11_next_8 13 rfl rfl)
theorem dX11_next_202 : decode cX11_next 202 = .ok (.aload_n 0, 1) := dk_42 (dk_at dksX11_next_8 14 rfl rfl)
theorem dX11_next_203 : decode cX11_next 203 = .ok (.getfield 49, 3) := dk_180 0 49 (dk_at dksX11_next_8 15 rfl rfl)
theorem dX11_next_206 : decode cX11_next 206 = .ok (.bipush 99, 2) := dk_16 99 (dk_at dksX11_next_8 18 rfl rfl)
theorem dX11_next_208 : decode cX11_next 208 = .ok (.if_icmp .gt 22, 3) := dk_163 0 22 (dk_at dksX11_next_8 20 rfl rfl)
theorem dX11_next_211 : decode cX11_next 211 = .ok (.iload_n 1, 1) := dk_27 (dk_at dksX11_next_8 23 rfl rfl)
theorem dX11_next_212 : decode cX11_next 212 = .ok (.bipush 48, 2) := dk_16 48 (dk_at dksX11_next_9 0 rfl rfl)
theorem dX11_next_214 : decode cX11_next 214 = .ok (.if_icmp .ne 21, 3) := dk_160 0 21 (dk_at dksX11_next_9 2 rfl rfl)
theorem dX11_next_217 : decode cX11_next 217 = .ok (.aload_n 0, 1) := dk_42 (dk_at dksX11_next_9 5 rfl rfl)
theorem dX11_next_218 : decode cX11_next 218 = .ok (.getfield 22, 3) := dk_180 0 22 (dk_at dksX11_next_9 6 rfl rfl)
theorem dX11_next_221 : decode cX11_next 221 = .ok (.aload_n 0, 1) := dk_42 (dk_at dksX11_next_9 9 rfl rfl)
theorem dX11_next_222 : decode cX11_next 222 = .ok (.getfield 33, 3) := dk_180 0 33 (dk_at dksX11_next_9 10 rfl rfl)
theorem dX11_next_225 : decode cX11_next 225 = .ok (.isub, 1) := dk_100 (dk_at dksX11_next_9 13 rfl rfl)
theorem dX11_next_226 : decode cX11_next 226 = .ok (.iconst 1, 1) := dk_4 (dk_at dksX11_next_9 14 rfl rfl)
theorem dX11_next_227 : decode cX11_next 227 = .ok (.if_icmp .le 8, 3) := dk_164 0 8 (dk_at dksX11_next_9 15 rfl rfl)
theorem dX11_next_230 : decode cX11_next 230 = .ok (.bipush 6, 2) := dk_16 6 (dk_at dksX11_next_9 18 rfl rfl)
theorem dX11_next_232 : decode cX11_next 232 = .ok (.goto 4, 3) := dk_167 0 4 (dk_at dksX11_next_9 20 rfl rfl)
theorem dX11_next_235 : decode cX11_next 235 = .ok (.iconst 3, 1) := dk_6 (dk_at dksX11_next_9 23 rfl rfl)
theorem dX11_next_236 : decode cX11_next 236 = .ok (.putfield 52, 3) := dk_181 0 52 (dk_at dksX11_next_10 0 rfl rfl)
theorem dX11_next_239 : decode cX11_next 239 = .ok (.goto 29, 3) := dk_167 0 29 (dk_at dksX11_next_10 3 rfl rfl)
theorem dX11_next_242 : decode cX11_next 242 = .ok (.aload_n 0, 1) := dk_42 (dk_at dksX11_next_10 6 rfl rfl)
theorem dX11_next_243 : decode cX11_next 243 = .ok (.dup, 1) := dk_89 (dk_at dksX11_next_10 7 rfl rfl)
theorem dX11_next_244 : decode cX11_next 244 = .ok (.getfield 22, 3) := dk_180 0 22 (dk_at dksX11_next_10 8 rfl rfl)
theorem dX11_next_247 : decode cX11_next 247 = .ok (.iconst 1, 1) := dk_4 (dk_at dksX11_next_10 11 rfl rfl)
theorem dX11_next_248 : decode cX11_next 248 = .ok (.iadd, 1) := dk_96 (dk_at dksX11_next_10 12 rfl rfl)
theorem dX11_next_249 : decode cX11_next 249 = .ok (.putfield 22, 3) := dk_181 0 22 (dk_at dksX11_next_10 13 rfl rfl)
theorem dX11_next_252 : decode cX11_next 252 = .ok (.aload_n 0, 1) := dk_42 (dk_at dksX11_next_10 16 rfl rfl)
theorem dX11_next_253 : decode cX11_next 253 = .ok (.iload_n 1, 1) := dk_27 (dk_at dksX11_next_10 17 rfl rfl)
theorem dX11_next_254 : decode cX11_next 254 = .ok (.bipush 59, 2) := dk_16 59 (dk_at dksX11_next_10 18 rfl rfl)
theorem dX11_next_256 : decode cX11_next 256 = .ok (.if_icmp .ne 7, 3) := dk_160 0 7 (dk_at dksX11_next_10 20 rfl rfl)
theorem dX11_next_259 : decode cX11_next 259 = .ok (.iconst 4, 1) := dk_7 (dk_at dksX11_next_10 23 rfl rfl)
theorem dX11_next_260 : decode cX11_next 260 = .ok (.goto 5, 3) := dk_167 0 5 (dk_at dksX11_next_11 0 rfl rfl)
theorem dX11_next_263 : decode cX11_next 263 = .ok (.bipush 6, 2) := dk_16 6 (dk_at dksX11_next_11 3 rfl rfl)
theorem dX11_next_265 : decode cX11_next 265 = .ok (.putfield 52, 3) := dk_181 0 52 (dk_at dksX11_next_11 5 rfl rfl)
theorem dX11_next_268 : decode cX11_next 268 = .ok (.return_, 1) := dk_177 (dk_at dksX11_next_11 8 rfl rfl)
abbrev cX11_here : ByteArray := prog_7_method_2_code
def yX11_here : MethodName := ⟨RX11, "here", "()I"⟩
def dkwX11_here_1 : List UInt8 := [180, 0, 22, 51, 17, 0, 255, 126, 167, 0, 4, 2, 172]
abbrev dktX11_here_1 : List UInt8 := dkwX11_here_1 ++ []
def dkwX11_here_0 : List UInt8 := [42, 180, 0, 22, 42, 180, 0, 3, 180, 0, 26, 162, 0, 22, 42, 180, 0, 3, 180, 0, 29, 42]
abbrev dktX11_here_0 : List UInt8 := dkwX11_here_0 ++ dktX11_here_1
theorem dksX11_here_0 : cX11_here.data.toList.drop 0 = dktX11_here_0 := by decide +kernel
theorem dksX11_here_1 : cX11_here.data.toList.drop 22 = dktX11_here_1 := dk_seg dksX11_here_0 22 rfl rfl
theorem dX11_here_0 : decode cX11_here 0 = .ok (.aload_n 0, 1) := dk_42 (dk_at dksX11_here_0 0 rfl rfl)
theorem dX11_here_1 : decode cX11_here 1 = .ok (.getfield 22, 3) := dk_180 0 22 (dk_at dksX11_here_0 1 rfl rfl)
theorem dX11_here_4 : decode cX11_here 4 = .ok (.aload_n 0, 1) := dk_42 (dk_at dksX11_here_0 4 rfl rfl)
theorem dX11_here_5 : decode cX11_here 5 = .ok (.getfield 3, 3) := dk_180 0 3 (dk_at dksX11_here_0 5 rfl rfl)
theorem dX11_here_8 : decode cX11_here 8 = .ok (.getfield 26, 3) := dk_180 0 26 (dk_at dksX11_here_0 8 rfl rfl)
theorem dX11_here_11 : decode cX11_here 11 = .ok (.if_icmp .ge 22, 3) := dk_162 0 22 (dk_at dksX11_here_0 11 rfl rfl)
theorem dX11_here_14 : decode cX11_here 14 = .ok (.aload_n 0, 1) := dk_42 (dk_at dksX11_here_0 14 rfl rfl)
theorem dX11_here_15 : decode cX11_here 15 = .ok (.getfield 3, 3) := dk_180 0 3 (dk_at dksX11_here_0 15 rfl rfl)
theorem dX11_here_18 : decode cX11_here 18 = .ok (.getfield 29, 3) := dk_180 0 29 (dk_at dksX11_here_0 18 rfl rfl)
theorem dX11_here_21 : decode cX11_here 21 = .ok (.aload_n 0, 1) := dk_42 (dk_at dksX11_here_0 21 rfl rfl)
theorem dX11_here_22 : decode cX11_here 22 = .ok (.getfield 22, 3) := dk_180 0 22 (dk_at dksX11_here_1 0 rfl rfl)
theorem dX11_here_25 : decode cX11_here 25 = .ok (.baload, 1) := dk_51 (dk_at dksX11_here_1 3 rfl rfl)
theorem dX11_here_26 : decode cX11_here 26 = .ok (.sipush 255, 3) := dk_17 0 255 (dk_at dksX11_here_1 4 rfl rfl)
theorem dX11_here_29 : decode cX11_here 29 = .ok (.iand, 1) := dk_126 (dk_at dksX11_here_1 7 rfl rfl)
theorem dX11_here_30 : decode cX11_here 30 = .ok (.goto 4, 3) := dk_167 0 4 (dk_at dksX11_here_1 8 rfl rfl)
theorem dX11_here_33 : decode cX11_here 33 = .ok (.iconst (-1), 1) := dk_2 (dk_at dksX11_here_1 11 rfl rfl)
theorem dX11_here_34 : decode cX11_here 34 = .ok (.ireturn, 1) := dk_172 (dk_at dksX11_here_1 12 rfl rfl)
abbrev cX11_isTold : ByteArray := prog_7_method_3_code
def yX11_isTold : MethodName := ⟨RX11, "isTold", "(Ljava/lang/String;)Z"⟩
def dkwX11_isTold_2 : List UInt8 := [96, 51, 43, 29, 182, 0, 42, 160, 0, 7, 4, 167, 0, 4, 3, 61, 132, 3, 1, 167, 255, 213, 28, 172]
abbrev dktX11_isTold_2 : List UInt8 := dkwX11_isTold_2 ++ []
def dkwX11_isTold_1 : List UInt8 := [28, 153, 0, 45, 29, 43, 182, 0, 36, 162, 0, 37, 42, 180, 0, 3, 180, 0, 29, 42, 180, 0, 33, 29]
abbrev dktX11_isTold_1 : List UInt8 := dkwX11_isTold_1 ++ dktX11_isTold_2
def dkwX11_isTold_0 : List UInt8 := [42, 180, 0, 22, 42, 180, 0, 33, 100, 43, 182, 0, 36, 160, 0, 7, 4, 167, 0, 4, 3, 61, 3, 62]
abbrev dktX11_isTold_0 : List UInt8 := dkwX11_isTold_0 ++ dktX11_isTold_1
theorem dksX11_isTold_0 : cX11_isTold.data.toList.drop 0 = dktX11_isTold_0 := by decide +kernel
theorem dksX11_isTold_1 : cX11_isTold.data.toList.drop 24 = dktX11_isTold_1 := dk_seg dksX11_isTold_0 24 rfl rfl
theorem dksX11_isTold_2 : cX11_isTold.data.toList.drop 48 = dktX11_isTold_2 := dk_seg dksX11_isTold_1 24 rfl rfl
theorem dX11_isTold_0 : decode cX11_isTold 0 = .ok (.aload_n 0, 1) := dk_42 (dk_at dksX11_isTold_0 0 rfl rfl)
theorem dX11_isTold_1 : decode cX11_isTold 1 = .ok (.getfield 22, 3) := dk_180 0 22 (dk_at dksX11_isTold_0 1 rfl rfl)
theorem dX11_isTold_4 : decode cX11_isTold 4 = .ok (.aload_n 0, 1) := dk_42 (dk_at dksX11_isTold_0 4 rfl rfl)
theorem dX11_isTold_5 : decode cX11_isTold 5 = .ok (.getfield 33, 3) := dk_180 0 33 (dk_at dksX11_isTold_0 5 rfl rfl)
theorem dX11_isTold_8 : decode cX11_isTold 8 = .ok (.isub, 1) := dk_100 (dk_at dksX11_isTold_0 8 rfl rfl)
theorem dX11_isTold_9 : decode cX11_isTold 9 = .ok (.aload_n 1, 1) := dk_43 (dk_at dksX11_isTold_0 9 rfl rfl)
theorem dX11_isTold_10 : decode cX11_isTold 10 = .ok (.invokevirtual 36, 3) := dk_182 0 36 (dk_at dksX11_isTold_0 10 rfl rfl)
theorem dX11_isTold_13 : decode cX11_isTold 13 = .ok (.if_icmp .ne 7, 3) := dk_160 0 7 (dk_at dksX11_isTold_0 13 rfl rfl)
theorem dX11_isTold_16 : decode cX11_isTold 16 = .ok (.iconst 1, 1) := dk_4 (dk_at dksX11_isTold_0 16 rfl rfl)
theorem dX11_isTold_17 : decode cX11_isTold 17 = .ok (.goto 4, 3) := dk_167 0 4 (dk_at dksX11_isTold_0 17 rfl rfl)
theorem dX11_isTold_20 : decode cX11_isTold 20 = .ok (.iconst 0, 1) := dk_3 (dk_at dksX11_isTold_0 20 rfl rfl)
theorem dX11_isTold_21 : decode cX11_isTold 21 = .ok (.istore_n 2, 1) := dk_61 (dk_at dksX11_isTold_0 21 rfl rfl)
theorem dX11_isTold_22 : decode cX11_isTold 22 = .ok (.iconst 0, 1) := dk_3 (dk_at dksX11_isTold_0 22 rfl rfl)
theorem dX11_isTold_23 : decode cX11_isTold 23 = .ok (.istore_n 3, 1) := dk_62 (dk_at dksX11_isTold_0 23 rfl rfl)
theorem dX11_isTold_24 : decode cX11_isTold 24 = .ok (.iload_n 2, 1) := dk_28 (dk_at dksX11_isTold_1 0 rfl rfl)
theorem dX11_isTold_25 : decode cX11_isTold 25 = .ok (.ifCond .eq 45, 3) := dk_153 0 45 (dk_at dksX11_isTold_1 1 rfl rfl)
theorem dX11_isTold_28 : decode cX11_isTold 28 = .ok (.iload_n 3, 1) := dk_29 (dk_at dksX11_isTold_1 4 rfl rfl)
theorem dX11_isTold_29 : decode cX11_isTold 29 = .ok (.aload_n 1, 1) := dk_43 (dk_at dksX11_isTold_1 5 rfl rfl)
theorem dX11_isTold_30 : decode cX11_isTold 30 = .ok (.invokevirtual 36, 3) := dk_182 0 36 (dk_at dksX11_isTold_1 6 rfl rfl)
theorem dX11_isTold_33 : decode cX11_isTold 33 = .ok (.if_icmp .ge 37, 3) := dk_162 0 37 (dk_at dksX11_isTold_1 9 rfl rfl)
theorem dX11_isTold_36 : decode cX11_isTold 36 = .ok (.aload_n 0, 1) := dk_42 (dk_at dksX11_isTold_1 12 rfl rfl)
theorem dX11_isTold_37 : decode cX11_isTold 37 = .ok (.getfield 3, 3) := dk_180 0 3 (dk_at dksX11_isTold_1 13 rfl rfl)
theorem dX11_isTold_40 : decode cX11_isTold 40 = .ok (.getfield 29, 3) := dk_180 0 29 (dk_at dksX11_isTold_1 16 rfl rfl)
theorem dX11_isTold_43 : decode cX11_isTold 43 = .ok (.aload_n 0, 1) := dk_42 (dk_at dksX11_isTold_1 19 rfl rfl)
theorem dX11_isTold_44 : decode cX11_isTold 44 = .ok (.getfield 33, 3) := dk_180 0 33 (dk_at dksX11_isTold_1 20 rfl rfl)
theorem dX11_isTold_47 : decode cX11_isTold 47 = .ok (.iload_n 3, 1) := dk_29 (dk_at dksX11_isTold_1 23 rfl rfl)
theorem dX11_isTold_48 : decode cX11_isTold 48 = .ok (.iadd, 1) := dk_96 (dk_at dksX11_isTold_2 0 rfl rfl)
theorem dX11_isTold_49 : decode cX11_isTold 49 = .ok (.baload, 1) := dk_51 (dk_at dksX11_isTold_2 1 rfl rfl)
theorem dX11_isTold_50 : decode cX11_isTold 50 = .ok (.aload_n 1, 1) := dk_43 (dk_at dksX11_isTold_2 2 rfl rfl)
theorem dX11_isTold_51 : decode cX11_isTold 51 = .ok (.iload_n 3, 1) := dk_29 (dk_at dksX11_isTold_2 3 rfl rfl)
theorem dX11_isTold_52 : decode cX11_isTold 52 = .ok (.invokevirtual 42, 3) := dk_182 0 42 (dk_at dksX11_isTold_2 4 rfl rfl)
theorem dX11_isTold_55 : decode cX11_isTold 55 = .ok (.if_icmp .ne 7, 3) := dk_160 0 7 (dk_at dksX11_isTold_2 7 rfl rfl)
theorem dX11_isTold_58 : decode cX11_isTold 58 = .ok (.iconst 1, 1) := dk_4 (dk_at dksX11_isTold_2 10 rfl rfl)
theorem dX11_isTold_59 : decode cX11_isTold 59 = .ok (.goto 4, 3) := dk_167 0 4 (dk_at dksX11_isTold_2 11 rfl rfl)
theorem dX11_isTold_62 : decode cX11_isTold 62 = .ok (.iconst 0, 1) := dk_3 (dk_at dksX11_isTold_2 14 rfl rfl)
theorem dX11_isTold_63 : decode cX11_isTold 63 = .ok (.istore_n 2, 1) := dk_61 (dk_at dksX11_isTold_2 15 rfl rfl)
theorem dX11_isTold_64 : decode cX11_isTold 64 = .ok (.iinc 3 1, 3) := dk_132 3 1 (dk_at dksX11_isTold_2 16 rfl rfl)
theorem dX11_isTold_67 : decode cX11_isTold 67 = .ok (.goto (-43), 3) := dk_167 255 213 (dk_at dksX11_isTold_2 19 rfl rfl)
theorem dX11_isTold_70 : decode cX11_isTold 70 = .ok (.iload_n 2, 1) := dk_28 (dk_at dksX11_isTold_2 22 rfl rfl)
theorem dX11_isTold_71 : decode cX11_isTold 71 = .ok (.ireturn, 1) := dk_172 (dk_at dksX11_isTold_2 23 rfl rfl)
abbrev cX11_may : ByteArray := prog_7_method_8_code
def yX11_may : MethodName := ⟨RX11, "may", "(I)Z"⟩
def dkwX11_may_2 : List UInt8 := [27, 5, 160, 0, 19, 42, 180, 0, 18, 180, 0, 121, 16, 8, 162, 0, 7, 4, 167, 0, 4, 3, 172]
abbrev dktX11_may_2 : List UInt8 := dkwX11_may_2 ++ []
def dkwX11_may_1 : List UInt8 := [4, 160, 0, 23, 42, 180, 0, 18, 180, 0, 101, 16, 8, 162, 0, 7, 4, 167, 0, 29, 3, 167, 0, 25]
abbrev dktX11_may_1 : List UInt8 := dkwX11_may_1 ++ dktX11_may_2
def dkwX11_may_0 : List UInt8 := [27, 154, 0, 22, 42, 180, 0, 18, 180, 0, 89, 7, 162, 0, 7, 4, 167, 0, 54, 3, 167, 0, 50, 27]
abbrev dktX11_may_0 : List UInt8 := dkwX11_may_0 ++ dktX11_may_1
theorem dksX11_may_0 : cX11_may.data.toList.drop 0 = dktX11_may_0 := by decide +kernel
theorem dksX11_may_1 : cX11_may.data.toList.drop 24 = dktX11_may_1 := dk_seg dksX11_may_0 24 rfl rfl
theorem dksX11_may_2 : cX11_may.data.toList.drop 48 = dktX11_may_2 := dk_seg dksX11_may_1 24 rfl rfl
theorem dX11_may_0 : decode cX11_may 0 = .ok (.iload_n 1, 1) := dk_27 (dk_at dksX11_may_0 0 rfl rfl)
theorem dX11_may_1 : decode cX11_may 1 = .ok (.ifCond .ne 22, 3) := dk_154 0 22 (dk_at dksX11_may_0 1 rfl rfl)
theorem dX11_may_4 : decode cX11_may 4 = .ok (.aload_n 0, 1) := dk_42 (dk_at dksX11_may_0 4 rfl rfl)
theorem dX11_may_5 : decode cX11_may 5 = .ok (.getfield 18, 3) := dk_180 0 18 (dk_at dksX11_may_0 5 rfl rfl)
theorem dX11_may_8 : decode cX11_may 8 = .ok (.getfield 89, 3) := dk_180 0 89 (dk_at dksX11_may_0 8 rfl rfl)
theorem dX11_may_11 : decode cX11_may 11 = .ok (.iconst 4, 1) := dk_7 (dk_at dksX11_may_0 11 rfl rfl)
theorem dX11_may_12 : decode cX11_may 12 = .ok (.if_icmp .ge 7, 3) := dk_162 0 7 (dk_at dksX11_may_0 12 rfl rfl)
theorem dX11_may_15 : decode cX11_may 15 = .ok (.iconst 1, 1) := dk_4 (dk_at dksX11_may_0 15 rfl rfl)
theorem dX11_may_16 : decode cX11_may 16 = .ok (.goto 54, 3) := dk_167 0 54 (dk_at dksX11_may_0 16 rfl rfl)
theorem dX11_may_19 : decode cX11_may 19 = .ok (.iconst 0, 1) := dk_3 (dk_at dksX11_may_0 19 rfl rfl)
theorem dX11_may_20 : decode cX11_may 20 = .ok (.goto 50, 3) := dk_167 0 50 (dk_at dksX11_may_0 20 rfl rfl)
theorem dX11_may_23 : decode cX11_may 23 = .ok (.iload_n 1, 1) := dk_27 (dk_at dksX11_may_0 23 rfl rfl)
theorem dX11_may_24 : decode cX11_may 24 = .ok (.iconst 1, 1) := dk_4 (dk_at dksX11_may_1 0 rfl rfl)
theorem dX11_may_25 : decode cX11_may 25 = .ok (.if_icmp .ne 23, 3) := dk_160 0 23 (dk_at dksX11_may_1 1 rfl rfl)
theorem dX11_may_28 : decode cX11_may 28 = .ok (.aload_n 0, 1) := dk_42 (dk_at dksX11_may_1 4 rfl rfl)
theorem dX11_may_29 : decode cX11_may 29 = .ok (.getfield 18, 3) := dk_180 0 18 (dk_at dksX11_may_1 5 rfl rfl)
theorem dX11_may_32 : decode cX11_may 32 = .ok (.getfield 101, 3) := dk_180 0 101 (dk_at dksX11_may_1 8 rfl rfl)
theorem dX11_may_35 : decode cX11_may 35 = .ok (.bipush 8, 2) := dk_16 8 (dk_at dksX11_may_1 11 rfl rfl)
theorem dX11_may_37 : decode cX11_may 37 = .ok (.if_icmp .ge 7, 3) := dk_162 0 7 (dk_at dksX11_may_1 13 rfl rfl)
theorem dX11_may_40 : decode cX11_may 40 = .ok (.iconst 1, 1) := dk_4 (dk_at dksX11_may_1 16 rfl rfl)
theorem dX11_may_41 : decode cX11_may 41 = .ok (.goto 29, 3) := dk_167 0 29 (dk_at dksX11_may_1 17 rfl rfl)
theorem dX11_may_44 : decode cX11_may 44 = .ok (.iconst 0, 1) := dk_3 (dk_at dksX11_may_1 20 rfl rfl)
theorem dX11_may_45 : decode cX11_may 45 = .ok (.goto 25, 3) := dk_167 0 25 (dk_at dksX11_may_1 21 rfl rfl)
theorem dX11_may_48 : decode cX11_may 48 = .ok (.iload_n 1, 1) := dk_27 (dk_at dksX11_may_2 0 rfl rfl)
theorem dX11_may_49 : decode cX11_may 49 = .ok (.iconst 2, 1) := dk_5 (dk_at dksX11_may_2 1 rfl rfl)
theorem dX11_may_50 : decode cX11_may 50 = .ok (.if_icmp .ne 19, 3) := dk_160 0 19 (dk_at dksX11_may_2 2 rfl rfl)
theorem dX11_may_53 : decode cX11_may 53 = .ok (.aload_n 0, 1) := dk_42 (dk_at dksX11_may_2 5 rfl rfl)
theorem dX11_may_54 : decode cX11_may 54 = .ok (.getfield 18, 3) := dk_180 0 18 (dk_at dksX11_may_2 6 rfl rfl)
theorem dX11_may_57 : decode cX11_may 57 = .ok (.getfield 121, 3) := dk_180 0 121 (dk_at dksX11_may_2 9 rfl rfl)
theorem dX11_may_60 : decode cX11_may 60 = .ok (.bipush 8, 2) := dk_16 8 (dk_at dksX11_may_2 12 rfl rfl)
theorem dX11_may_62 : decode cX11_may 62 = .ok (.if_icmp .ge 7, 3) := dk_162 0 7 (dk_at dksX11_may_2 14 rfl rfl)
theorem dX11_may_65 : decode cX11_may 65 = .ok (.iconst 1, 1) := dk_4 (dk_at dksX11_may_2 17 rfl rfl)
theorem dX11_may_66 : decode cX11_may 66 = .ok (.goto 4, 3) := dk_167 0 4 (dk_at dksX11_may_2 18 rfl rfl)
theorem dX11_may_69 : decode cX11_may 69 = .ok (.iconst 0, 1) := dk_3 (dk_at dksX11_may_2 21 rfl rfl)
theorem dX11_may_70 : decode cX11_may 70 = .ok (.ireturn, 1) := dk_172 (dk_at dksX11_may_2 22 rfl rfl)
abbrev cX11_due : ByteArray := prog_7_method_5_code
def yX11_due : MethodName := ⟨RX11, "due", "(Z)I"⟩
def dkwX11_due_1 : List UInt8 := [182, 0, 78, 28, 172]
abbrev dktX11_due_1 : List UInt8 := dkwX11_due_1 ++ []
def dkwX11_due_0 : List UInt8 := [27, 154, 0, 15, 187, 0, 73, 89, 42, 180, 0, 33, 183, 0, 75, 191, 42, 180, 0, 49, 61, 42]
abbrev dktX11_due_0 : List UInt8 := dkwX11_due_0 ++ dktX11_due_1
theorem dksX11_due_0 : cX11_due.data.toList.drop 0 = dktX11_due_0 := by decide +kernel
theorem dksX11_due_1 : cX11_due.data.toList.drop 22 = dktX11_due_1 := dk_seg dksX11_due_0 22 rfl rfl
theorem dX11_due_0 : decode cX11_due 0 = .ok (.iload_n 1, 1) := dk_27 (dk_at dksX11_due_0 0 rfl rfl)
theorem dX11_due_1 : decode cX11_due 1 = .ok (.ifCond .ne 15, 3) := dk_154 0 15 (dk_at dksX11_due_0 1 rfl rfl)
theorem dX11_due_4 : decode cX11_due 4 = .ok (.new 73, 3) := dk_187 0 73 (dk_at dksX11_due_0 4 rfl rfl)
theorem dX11_due_7 : decode cX11_due 7 = .ok (.dup, 1) := dk_89 (dk_at dksX11_due_0 7 rfl rfl)
theorem dX11_due_8 : decode cX11_due 8 = .ok (.aload_n 0, 1) := dk_42 (dk_at dksX11_due_0 8 rfl rfl)
theorem dX11_due_9 : decode cX11_due 9 = .ok (.getfield 33, 3) := dk_180 0 33 (dk_at dksX11_due_0 9 rfl rfl)
theorem dX11_due_12 : decode cX11_due 12 = .ok (.invokespecial 75, 3) := dk_183 0 75 (dk_at dksX11_due_0 12 rfl rfl)
theorem dX11_due_15 : decode cX11_due 15 = .ok (.athrow, 1) := dk_191 (dk_at dksX11_due_0 15 rfl rfl)
theorem dX11_due_16 : decode cX11_due 16 = .ok (.aload_n 0, 1) := dk_42 (dk_at dksX11_due_0 16 rfl rfl)
theorem dX11_due_17 : decode cX11_due 17 = .ok (.getfield 49, 3) := dk_180 0 49 (dk_at dksX11_due_0 17 rfl rfl)
theorem dX11_due_20 : decode cX11_due 20 = .ok (.istore_n 2, 1) := dk_61 (dk_at dksX11_due_0 20 rfl rfl)
theorem dX11_due_21 : decode cX11_due 21 = .ok (.aload_n 0, 1) := dk_42 (dk_at dksX11_due_0 21 rfl rfl)
theorem dX11_due_22 : decode cX11_due 22 = .ok (.invokevirtual 78, 3) := dk_182 0 78 (dk_at dksX11_due_1 0 rfl rfl)
theorem dX11_due_25 : decode cX11_due 25 = .ok (.iload_n 2, 1) := dk_28 (dk_at dksX11_due_1 3 rfl rfl)
theorem dX11_due_26 : decode cX11_due 26 = .ok (.ireturn, 1) := dk_172 (dk_at dksX11_due_1 4 rfl rfl)
abbrev cX11_item : ByteArray := prog_7_method_7_code
def yX11_item : MethodName := ⟨RX11, "item", "(I)V"⟩
def dkwX11_item_14 : List UInt8 := [96, 181, 0, 121, 177]
abbrev dktX11_item_14 : List UInt8 := dkwX11_item_14 ++ []
def dkwX11_item_13 : List UInt8 := [180, 0, 18, 180, 0, 118, 29, 92, 46, 4, 21, 4, 120, 128, 79, 42, 180, 0, 18, 89, 180, 0, 121, 4]
abbrev dktX11_item_13 : List UInt8 := dkwX11_item_13 ++ dktX11_item_14
def dkwX11_item_12 : List UInt8 := [162, 0, 15, 42, 180, 0, 49, 29, 159, 0, 7, 4, 167, 0, 4, 3, 182, 0, 81, 54, 4, 42]
abbrev dktX11_item_12 : List UInt8 := dkwX11_item_12 ++ dktX11_item_13
def dkwX11_item_11 : List UInt8 := [182, 0, 92, 62, 42, 42, 180, 0, 52, 6, 160, 0, 29, 42, 180, 0, 49, 42, 180, 0, 18, 180, 0, 101]
abbrev dktX11_item_11 : List UInt8 := dkwX11_item_11 ++ dktX11_item_12
def dkwX11_item_10 : List UInt8 := [89, 180, 0, 101, 4, 96, 181, 0, 101, 167, 0, 88, 42, 3, 42, 180, 0, 18, 180, 0, 101, 4, 100]
abbrev dktX11_item_10 : List UInt8 := dkwX11_item_10 ++ dktX11_item_11
def dkwX11_item_9 : List UInt8 := [180, 0, 116, 28, 42, 42, 180, 0, 18, 180, 0, 107, 28, 46, 16, 9, 182, 0, 92, 79, 42, 180, 0, 18]
abbrev dktX11_item_9 : List UInt8 := dkwX11_item_9 ++ dktX11_item_10
def dkwX11_item_8 : List UInt8 := [182, 0, 92, 79, 42, 180, 0, 18, 180, 0, 113, 28, 42, 4, 16, 99, 182, 0, 92, 79, 42, 180, 0, 18]
abbrev dktX11_item_8 : List UInt8 := dkwX11_item_8 ++ dktX11_item_9
def dkwX11_item_7 : List UInt8 := [180, 0, 107, 28, 42, 3, 16, 9, 182, 0, 92, 79, 42, 180, 0, 18, 180, 0, 110, 28, 42, 4, 16, 9]
abbrev dktX11_item_7 : List UInt8 := dkwX11_item_7 ++ dktX11_item_8
def dkwX11_item_6 : List UInt8 := [180, 0, 104, 28, 42, 3, 42, 180, 0, 18, 180, 0, 89, 4, 100, 182, 0, 92, 79, 42, 180, 0, 18]
abbrev dktX11_item_6 : List UInt8 := dkwX11_item_6 ++ dktX11_item_7
def dkwX11_item_5 : List UInt8 := [180, 0, 89, 4, 96, 181, 0, 89, 167, 0, 207, 42, 180, 0, 18, 180, 0, 101, 61, 42, 180, 0, 18]
abbrev dktX11_item_5 : List UInt8 := dkwX11_item_5 ++ dktX11_item_6
def dkwX11_item_4 : List UInt8 := [180, 0, 98, 42, 180, 0, 18, 180, 0, 89, 42, 3, 16, 9, 182, 0, 92, 79, 42, 180, 0, 18, 89]
abbrev dktX11_item_4 : List UInt8 := dkwX11_item_4 ++ dktX11_item_5
def dkwX11_item_3 : List UInt8 := [180, 0, 18, 180, 0, 95, 42, 180, 0, 18, 180, 0, 89, 42, 4, 6, 182, 0, 92, 79, 42, 180, 0, 18]
abbrev dktX11_item_3 : List UInt8 := dkwX11_item_3 ++ dktX11_item_4
def dkwX11_item_2 : List UInt8 := [42, 180, 0, 18, 180, 0, 85, 42, 180, 0, 18, 180, 0, 89, 42, 4, 8, 182, 0, 92, 79, 42]
abbrev dktX11_item_2 : List UInt8 := dkwX11_item_2 ++ dktX11_item_3
def dkwX11_item_1 : List UInt8 := [171, 0, 0, 0, 0, 0, 226, 0, 0, 0, 2, 0, 0, 0, 0, 0, 0, 0, 27, 0, 0, 0, 1, 0, 0, 0, 107]
abbrev dktX11_item_1 : List UInt8 := dkwX11_item_1 ++ dktX11_item_2
def dkwX11_item_0 : List UInt8 := [27]
abbrev dktX11_item_0 : List UInt8 := dkwX11_item_0 ++ dktX11_item_1
theorem dksX11_item_0 : cX11_item.data.toList.drop 0 = dktX11_item_0 := by decide +kernel
theorem dksX11_item_1 : cX11_item.data.toList.drop 1 = dktX11_item_1 := dk_seg dksX11_item_0 1 rfl rfl
theorem dksX11_item_2 : cX11_item.data.toList.drop 28 = dktX11_item_2 := dk_seg dksX11_item_1 27 rfl rfl
theorem dksX11_item_3 : cX11_item.data.toList.drop 50 = dktX11_item_3 := dk_seg dksX11_item_2 22 rfl rfl
theorem dksX11_item_4 : cX11_item.data.toList.drop 74 = dktX11_item_4 := dk_seg dksX11_item_3 24 rfl rfl
theorem dksX11_item_5 : cX11_item.data.toList.drop 97 = dktX11_item_5 := dk_seg dksX11_item_4 23 rfl rfl
theorem dksX11_item_6 : cX11_item.data.toList.drop 120 = dktX11_item_6 := dk_seg dksX11_item_5 23 rfl rfl
theorem dksX11_item_7 : cX11_item.data.toList.drop 143 = dktX11_item_7 := dk_seg dksX11_item_6 23 rfl rfl
theorem dksX11_item_8 : cX11_item.data.toList.drop 167 = dktX11_item_8 := dk_seg dksX11_item_7 24 rfl rfl
theorem dksX11_item_9 : cX11_item.data.toList.drop 191 = dktX11_item_9 := dk_seg dksX11_item_8 24 rfl rfl
theorem dksX11_item_10 : cX11_item.data.toList.drop 215 = dktX11_item_10 := dk_seg dksX11_item_9 24 rfl rfl
theorem dksX11_item_11 : cX11_item.data.toList.drop 238 = dktX11_item_11 := dk_seg dksX11_item_10 23 rfl rfl
theorem dksX11_item_12 : cX11_item.data.toList.drop 262 = dktX11_item_12 := dk_seg dksX11_item_11 24 rfl rfl
theorem dksX11_item_13 : cX11_item.data.toList.drop 284 = dktX11_item_13 := dk_seg dksX11_item_12 22 rfl rfl
theorem dksX11_item_14 : cX11_item.data.toList.drop 308 = dktX11_item_14 := dk_seg dksX11_item_13 24 rfl rfl
theorem dX11_item_0 : decode cX11_item 0 = .ok (.iload_n 1, 1) := dk_27 (dk_at dksX11_item_0 0 rfl rfl)
theorem dX11_item_1 : decode cX11_item 1 = .ok (.lookupswitch 226 #[(0, 27), (1, 107)], 27) := by decide +kernel
theorem dX11_item_28 : decode cX11_item 28 = .ok (.aload_n 0, 1) := dk_42 (dk_at dksX11_item_2 0 rfl rfl)
theorem dX11_item_29 : decode cX11_item 29 = .ok (.getfield 18, 3) := dk_180 0 18 (dk_at dksX11_item_2 1 rfl rfl)
theorem dX11_item_32 : decode cX11_item 32 = .ok (.getfield 85, 3) := dk_180 0 85 (dk_at dksX11_item_2 4 rfl rfl)
theorem dX11_item_35 : decode cX11_item 35 = .ok (.aload_n 0, 1) := dk_42 (dk_at dksX11_item_2 7 rfl rfl)
theorem dX11_item_36 : decode cX11_item 36 = .ok (.getfield 18, 3) := dk_180 0 18 (dk_at dksX11_item_2 8 rfl rfl)
theorem dX11_item_39 : decode cX11_item 39 = .ok (.getfield 89, 3) := dk_180 0 89 (dk_at dksX11_item_2 11 rfl rfl)
theorem dX11_item_42 : decode cX11_item 42 = .ok (.aload_n 0, 1) := dk_42 (dk_at dksX11_item_2 14 rfl rfl)
theorem dX11_item_43 : decode cX11_item 43 = .ok (.iconst 1, 1) := dk_4 (dk_at dksX11_item_2 15 rfl rfl)
theorem dX11_item_44 : decode cX11_item 44 = .ok (.iconst 5, 1) := dk_8 (dk_at dksX11_item_2 16 rfl rfl)
theorem dX11_item_45 : decode cX11_item 45 = .ok (.invokevirtual 92, 3) := dk_182 0 92 (dk_at dksX11_item_2 17 rfl rfl)
theorem dX11_item_48 : decode cX11_item 48 = .ok (.iastore, 1) := dk_79 (dk_at dksX11_item_2 20 rfl rfl)
theorem dX11_item_49 : decode cX11_item 49 = .ok (.aload_n 0, 1) := dk_42 (dk_at dksX11_item_2 21 rfl rfl)
theorem dX11_item_50 : decode cX11_item 50 = .ok (.getfield 18, 3) := dk_180 0 18 (dk_at dksX11_item_3 0 rfl rfl)
theorem dX11_item_53 : decode cX11_item 53 = .ok (.getfield 95, 3) := dk_180 0 95 (dk_at dksX11_item_3 3 rfl rfl)
theorem dX11_item_56 : decode cX11_item 56 = .ok (.aload_n 0, 1) := dk_42 (dk_at dksX11_item_3 6 rfl rfl)
theorem dX11_item_57 : decode cX11_item 57 = .ok (.getfield 18, 3) := dk_180 0 18 (dk_at dksX11_item_3 7 rfl rfl)
theorem dX11_item_60 : decode cX11_item 60 = .ok (.getfield 89, 3) := dk_180 0 89 (dk_at dksX11_item_3 10 rfl rfl)
theorem dX11_item_63 : decode cX11_item 63 = .ok (.aload_n 0, 1) := dk_42 (dk_at dksX11_item_3 13 rfl rfl)
theorem dX11_item_64 : decode cX11_item 64 = .ok (.iconst 1, 1) := dk_4 (dk_at dksX11_item_3 14 rfl rfl)
theorem dX11_item_65 : decode cX11_item 65 = .ok (.iconst 3, 1) := dk_6 (dk_at dksX11_item_3 15 rfl rfl)
theorem dX11_item_66 : decode cX11_item 66 = .ok (.invokevirtual 92, 3) := dk_182 0 92 (dk_at dksX11_item_3 16 rfl rfl)
theorem dX11_item_69 : decode cX11_item 69 = .ok (.iastore, 1) := dk_79 (dk_at dksX11_item_3 19 rfl rfl)
theorem dX11_item_70 : decode cX11_item 70 = .ok (.aload_n 0, 1) := dk_42 (dk_at dksX11_item_3 20 rfl rfl)
theorem dX11_item_71 : decode cX11_item 71 = .ok (.getfield 18, 3) := dk_180 0 18 (dk_at dksX11_item_3 21 rfl rfl)
theorem dX11_item_74 : decode cX11_item 74 = .ok (.getfield 98, 3) := dk_180 0 98 (dk_at dksX11_item_4 0 rfl rfl)
theorem dX11_item_77 : decode cX11_item 77 = .ok (.aload_n 0, 1) := dk_42 (dk_at dksX11_item_4 3 rfl rfl)
theorem dX11_item_78 : decode cX11_item 78 = .ok (.getfield 18, 3) := dk_180 0 18 (dk_at dksX11_item_4 4 rfl rfl)
theorem dX11_item_81 : decode cX11_item 81 = .ok (.getfield 89, 3) := dk_180 0 89 (dk_at dksX11_item_4 7 rfl rfl)
theorem dX11_item_84 : decode cX11_item 84 = .ok (.aload_n 0, 1) := dk_42 (dk_at dksX11_item_4 10 rfl rfl)
theorem dX11_item_85 : decode cX11_item 85 = .ok (.iconst 0, 1) := dk_3 (dk_at dksX11_item_4 11 rfl rfl)
theorem dX11_item_86 : decode cX11_item 86 = .ok (.bipush 9, 2) := dk_16 9 (dk_at dksX11_item_4 12 rfl rfl)
theorem dX11_item_88 : decode cX11_item 88 = .ok (.invokevirtual 92, 3) := dk_182 0 92 (dk_at dksX11_item_4 14 rfl rfl)
theorem dX11_item_91 : decode cX11_item 91 = .ok (.iastore, 1) := dk_79 (dk_at dksX11_item_4 17 rfl rfl)
theorem dX11_item_92 : decode cX11_item 92 = .ok (.aload_n 0, 1) := dk_42 (dk_at dksX11_item_4 18 rfl rfl)
theorem dX11_item_93 : decode cX11_item 93 = .ok (.getfield 18, 3) := dk_180 0 18 (dk_at dksX11_item_4 19 rfl rfl)
theorem dX11_item_96 : decode cX11_item 96 = .ok (.dup, 1) := dk_89 (dk_at dksX11_item_4 22 rfl rfl)
theorem dX11_item_97 : decode cX11_item 97 = .ok (.getfield 89, 3) := dk_180 0 89 (dk_at dksX11_item_5 0 rfl rfl)
theorem dX11_item_100 : decode cX11_item 100 = .ok (.iconst 1, 1) := dk_4 (dk_at dksX11_item_5 3 rfl rfl)
theorem dX11_item_101 : decode cX11_item 101 = .ok (.iadd, 1) := dk_96 (dk_at dksX11_item_5 4 rfl rfl)
theorem dX11_item_102 : decode cX11_item 102 = .ok (.putfield 89, 3) := dk_181 0 89 (dk_at dksX11_item_5 5 rfl rfl)
theorem dX11_item_105 : decode cX11_item 105 = .ok (.goto 207, 3) := dk_167 0 207 (dk_at dksX11_item_5 8 rfl rfl)
theorem dX11_item_108 : decode cX11_item 108 = .ok (.aload_n 0, 1) := dk_42 (dk_at dksX11_item_5 11 rfl rfl)
theorem dX11_item_109 : decode cX11_item 109 = .ok (.getfield 18, 3) := dk_180 0 18 (dk_at dksX11_item_5 12 rfl rfl)
theorem dX11_item_112 : decode cX11_item 112 = .ok (.getfield 101, 3) := dk_180 0 101 (dk_at dksX11_item_5 15 rfl rfl)
theorem dX11_item_115 : decode cX11_item 115 = .ok (.istore_n 2, 1) := dk_61 (dk_at dksX11_item_5 18 rfl rfl)
theorem dX11_item_116 : decode cX11_item 116 = .ok (.aload_n 0, 1) := dk_42 (dk_at dksX11_item_5 19 rfl rfl)
theorem dX11_item_117 : decode cX11_item 117 = .ok (.getfield 18, 3) := dk_180 0 18 (dk_at dksX11_item_5 20 rfl rfl)
theorem dX11_item_120 : decode cX11_item 120 = .ok (.getfield 104, 3) := dk_180 0 104 (dk_at dksX11_item_6 0 rfl rfl)
theorem dX11_item_123 : decode cX11_item 123 = .ok (.iload_n 2, 1) := dk_28 (dk_at dksX11_item_6 3 rfl rfl)
theorem dX11_item_124 : decode cX11_item 124 = .ok (.aload_n 0, 1) := dk_42 (dk_at dksX11_item_6 4 rfl rfl)
theorem dX11_item_125 : decode cX11_item 125 = .ok (.iconst 0, 1) := dk_3 (dk_at dksX11_item_6 5 rfl rfl)
theorem dX11_item_126 : decode cX11_item 126 = .ok (.aload_n 0, 1) := dk_42 (dk_at dksX11_item_6 6 rfl rfl)
theorem dX11_item_127 : decode cX11_item 127 = .ok (.getfield 18, 3) := dk_180 0 18 (dk_at dksX11_item_6 7 rfl rfl)
theorem dX11_item_130 : decode cX11_item 130 = .ok (.getfield 89, 3) := dk_180 0 89 (dk_at dksX11_item_6 10 rfl rfl)
theorem dX11_item_133 : decode cX11_item 133 = .ok (.iconst 1, 1) := dk_4 (dk_at dksX11_item_6 13 rfl rfl)
theorem dX11_item_134 : decode cX11_item 134 = .ok (.isub, 1) := dk_100 (dk_at dksX11_item_6 14 rfl rfl)
theorem dX11_item_135 : decode cX11_item 135 = .ok (.invokevirtual 92, 3) := dk_182 0 92 (dk_at dksX11_item_6 15 rfl rfl)
theorem dX11_item_138 : decode cX11_item 138 = .ok (.iastore, 1) := dk_79 (dk_at dksX11_item_6 18 rfl rfl)
theorem dX11_item_139 : decode cX11_item 139 = .ok (.aload_n 0, 1) := dk_42 (dk_at dksX11_item_6 19 rfl rfl)
theorem dX11_item_140 : decode cX11_item 140 = .ok (.getfield 18, 3) := dk_180 0 18 (dk_at dksX11_item_6 20 rfl rfl)
theorem dX11_item_143 : decode cX11_item 143 = .ok (.getfield 107, 3) := dk_180 0 107 (dk_at dksX11_item_7 0 rfl rfl)
theorem dX11_item_146 : decode cX11_item 146 = .ok (.iload_n 2, 1) := dk_28 (dk_at dksX11_item_7 3 rfl rfl)
theorem dX11_item_147 : decode cX11_item 147 = .ok (.aload_n 0, 1) := dk_42 (dk_at dksX11_item_7 4 rfl rfl)
theorem dX11_item_148 : decode cX11_item 148 = .ok (.iconst 0, 1) := dk_3 (dk_at dksX11_item_7 5 rfl rfl)
theorem dX11_item_149 : decode cX11_item 149 = .ok (.bipush 9, 2) := dk_16 9 (dk_at dksX11_item_7 6 rfl rfl)
theorem dX11_item_151 : decode cX11_item 151 = .ok (.invokevirtual 92, 3) := dk_182 0 92 (dk_at dksX11_item_7 8 rfl rfl)
theorem dX11_item_154 : decode cX11_item 154 = .ok (.iastore, 1) := dk_79 (dk_at dksX11_item_7 11 rfl rfl)
theorem dX11_item_155 : decode cX11_item 155 = .ok (.aload_n 0, 1) := dk_42 (dk_at dksX11_item_7 12 rfl rfl)
theorem dX11_item_156 : decode cX11_item 156 = .ok (.getfield 18, 3) := dk_180 0 18 (dk_at dksX11_item_7 13 rfl rfl)
theorem dX11_item_159 : decode cX11_item 159 = .ok (.getfield 110, 3) := dk_180 0 110 (dk_at dksX11_item_7 16 rfl rfl)
theorem dX11_item_162 : decode cX11_item 162 = .ok (.iload_n 2, 1) := dk_28 (dk_at dksX11_item_7 19 rfl rfl)
theorem dX11_item_163 : decode cX11_item 163 = .ok (.aload_n 0, 1) := dk_42 (dk_at dksX11_item_7 20 rfl rfl)
theorem dX11_item_164 : decode cX11_item 164 = .ok (.iconst 1, 1) := dk_4 (dk_at dksX11_item_7 21 rfl rfl)
theorem dX11_item_165 : decode cX11_item 165 = .ok (.bipush 9, 2) := dk_16 9 (dk_at dksX11_item_7 22 rfl rfl)
theorem dX11_item_167 : decode cX11_item 167 = .ok (.invokevirtual 92, 3) := dk_182 0 92 (dk_at dksX11_item_8 0 rfl rfl)
theorem dX11_item_170 : decode cX11_item 170 = .ok (.iastore, 1) := dk_79 (dk_at dksX11_item_8 3 rfl rfl)
theorem dX11_item_171 : decode cX11_item 171 = .ok (.aload_n 0, 1) := dk_42 (dk_at dksX11_item_8 4 rfl rfl)
theorem dX11_item_172 : decode cX11_item 172 = .ok (.getfield 18, 3) := dk_180 0 18 (dk_at dksX11_item_8 5 rfl rfl)
theorem dX11_item_175 : decode cX11_item 175 = .ok (.getfield 113, 3) := dk_180 0 113 (dk_at dksX11_item_8 8 rfl rfl)
theorem dX11_item_178 : decode cX11_item 178 = .ok (.iload_n 2, 1) := dk_28 (dk_at dksX11_item_8 11 rfl rfl)
theorem dX11_item_179 : decode cX11_item 179 = .ok (.aload_n 0, 1) := dk_42 (dk_at dksX11_item_8 12 rfl rfl)
theorem dX11_item_180 : decode cX11_item 180 = .ok (.iconst 1, 1) := dk_4 (dk_at dksX11_item_8 13 rfl rfl)
theorem dX11_item_181 : decode cX11_item 181 = .ok (.bipush 99, 2) := dk_16 99 (dk_at dksX11_item_8 14 rfl rfl)
theorem dX11_item_183 : decode cX11_item 183 = .ok (.invokevirtual 92, 3) := dk_182 0 92 (dk_at dksX11_item_8 16 rfl rfl)
theorem dX11_item_186 : decode cX11_item 186 = .ok (.iastore, 1) := dk_79 (dk_at dksX11_item_8 19 rfl rfl)
theorem dX11_item_187 : decode cX11_item 187 = .ok (.aload_n 0, 1) := dk_42 (dk_at dksX11_item_8 20 rfl rfl)
theorem dX11_item_188 : decode cX11_item 188 = .ok (.getfield 18, 3) := dk_180 0 18 (dk_at dksX11_item_8 21 rfl rfl)
theorem dX11_item_191 : decode cX11_item 191 = .ok (.getfield 116, 3) := dk_180 0 116 (dk_at dksX11_item_9 0 rfl rfl)
theorem dX11_item_194 : decode cX11_item 194 = .ok (.iload_n 2, 1) := dk_28 (dk_at dksX11_item_9 3 rfl rfl)
theorem dX11_item_195 : decode cX11_item 195 = .ok (.aload_n 0, 1) := dk_42 (dk_at dksX11_item_9 4 rfl rfl)
theorem dX11_item_196 : decode cX11_item 196 = .ok (.aload_n 0, 1) := dk_42 (dk_at dksX11_item_9 5 rfl rfl)
theorem dX11_item_197 : decode cX11_item 197 = .ok (.getfield 18, 3) := dk_180 0 18 (dk_at dksX11_item_9 6 rfl rfl)
theorem dX11_item_200 : decode cX11_item 200 = .ok (.getfield 107, 3) := dk_180 0 107 (dk_at dksX11_item_9 9 rfl rfl)
theorem dX11_item_203 : decode cX11_item 203 = .ok (.iload_n 2, 1) := dk_28 (dk_at dksX11_item_9 12 rfl rfl)
theorem dX11_item_204 : decode cX11_item 204 = .ok (.iaload, 1) := dk_46 (dk_at dksX11_item_9 13 rfl rfl)
theorem dX11_item_205 : decode cX11_item 205 = .ok (.bipush 9, 2) := dk_16 9 (dk_at dksX11_item_9 14 rfl rfl)
theorem dX11_item_207 : decode cX11_item 207 = .ok (.invokevirtual 92, 3) := dk_182 0 92 (dk_at dksX11_item_9 16 rfl rfl)
theorem dX11_item_210 : decode cX11_item 210 = .ok (.iastore, 1) := dk_79 (dk_at dksX11_item_9 19 rfl rfl)
theorem dX11_item_211 : decode cX11_item 211 = .ok (.aload_n 0, 1) := dk_42 (dk_at dksX11_item_9 20 rfl rfl)
theorem dX11_item_212 : decode cX11_item 212 = .ok (.getfield 18, 3) := dk_180 0 18 (dk_at dksX11_item_9 21 rfl rfl)
theorem dX11_item_215 : decode cX11_item 215 = .ok (.dup, 1) := dk_89 (dk_at dksX11_item_10 0 rfl rfl)
theorem dX11_item_216 : decode cX11_item 216 = .ok (.getfield 101, 3) := dk_180 0 101 (dk_at dksX11_item_10 1 rfl rfl)
theorem dX11_item_219 : decode cX11_item 219 = .ok (.iconst 1, 1) := dk_4 (dk_at dksX11_item_10 4 rfl rfl)
theorem dX11_item_220 : decode cX11_item 220 = .ok (.iadd, 1) := dk_96 (dk_at dksX11_item_10 5 rfl rfl)
theorem dX11_item_221 : decode cX11_item 221 = .ok (.putfield 101, 3) := dk_181 0 101 (dk_at dksX11_item_10 6 rfl rfl)
theorem dX11_item_224 : decode cX11_item 224 = .ok (.goto 88, 3) := dk_167 0 88 (dk_at dksX11_item_10 9 rfl rfl)
theorem dX11_item_227 : decode cX11_item 227 = .ok (.aload_n 0, 1) := dk_42 (dk_at dksX11_item_10 12 rfl rfl)
theorem dX11_item_228 : decode cX11_item 228 = .ok (.iconst 0, 1) := dk_3 (dk_at dksX11_item_10 13 rfl rfl)
theorem dX11_item_229 : decode cX11_item 229 = .ok (.aload_n 0, 1) := dk_42 (dk_at dksX11_item_10 14 rfl rfl)
theorem dX11_item_230 : decode cX11_item 230 = .ok (.getfield 18, 3) := dk_180 0 18 (dk_at dksX11_item_10 15 rfl rfl)
theorem dX11_item_233 : decode cX11_item 233 = .ok (.getfield 101, 3) := dk_180 0 101 (dk_at dksX11_item_10 18 rfl rfl)
theorem dX11_item_236 : decode cX11_item 236 = .ok (.iconst 1, 1) := dk_4 (dk_at dksX11_item_10 21 rfl rfl)
theorem dX11_item_237 : decode cX11_item 237 = .ok (.isub, 1) := dk_100 (dk_at dksX11_item_10 22 rfl rfl)
theorem dX11_item_238 : decode cX11_item 238 = .ok (.invokevirtual 92, 3) := dk_182 0 92 (dk_at dksX11_item_11 0 rfl rfl)
theorem dX11_item_241 : decode cX11_item 241 = .ok (.istore_n 3, 1) := dk_62 (dk_at dksX11_item_11 3 rfl rfl)
theorem dX11_item_242 : decode cX11_item 242 = .ok (.aload_n 0, 1) := dk_42 (dk_at dksX11_item_11 4 rfl rfl)
theorem dX11_item_243 : decode cX11_item 243 = .ok (.aload_n 0, 1) := dk_42 (dk_at dksX11_item_11 5 rfl rfl)
theorem dX11_item_244 : decode cX11_item 244 = .ok (.getfield 52, 3) := dk_180 0 52 (dk_at dksX11_item_11 6 rfl rfl)
theorem dX11_item_247 : decode cX11_item 247 = .ok (.iconst 3, 1) := dk_6 (dk_at dksX11_item_11 9 rfl rfl)
theorem dX11_item_248 : decode cX11_item 248 = .ok (.if_icmp .ne 29, 3) := dk_160 0 29 (dk_at dksX11_item_11 10 rfl rfl)
theorem dX11_item_251 : decode cX11_item 251 = .ok (.aload_n 0, 1) := dk_42 (dk_at dksX11_item_11 13 rfl rfl)
theorem dX11_item_252 : decode cX11_item 252 = .ok (.getfield 49, 3) := dk_180 0 49 (dk_at dksX11_item_11 14 rfl rfl)
theorem dX11_item_255 : decode cX11_item 255 = .ok (.aload_n 0, 1) := dk_42 (dk_at dksX11_item_11 17 rfl rfl)
theorem dX11_item_256 : decode cX11_item 256 = .ok (.getfield 18, 3) := dk_180 0 18 (dk_at dksX11_item_11 18 rfl rfl)
theorem dX11_item_259 : decode cX11_item 259 = .ok (.getfield 101, 3) := dk_180 0 101 (dk_at dksX11_item_11 21 rfl rfl)
theorem dX11_item_262 : decode cX11_item 262 = .ok (.if_icmp .ge 15, 3) := dk_162 0 15 (dk_at dksX11_item_12 0 rfl rfl)
theorem dX11_item_265 : decode cX11_item 265 = .ok (.aload_n 0, 1) := dk_42 (dk_at dksX11_item_12 3 rfl rfl)
theorem dX11_item_266 : decode cX11_item 266 = .ok (.getfield 49, 3) := dk_180 0 49 (dk_at dksX11_item_12 4 rfl rfl)
theorem dX11_item_269 : decode cX11_item 269 = .ok (.iload_n 3, 1) := dk_29 (dk_at dksX11_item_12 7 rfl rfl)
theorem dX11_item_270 : decode cX11_item 270 = .ok (.if_icmp .eq 7, 3) := dk_159 0 7 (dk_at dksX11_item_12 8 rfl rfl)
theorem dX11_item_273 : decode cX11_item 273 = .ok (.iconst 1, 1) := dk_4 (dk_at dksX11_item_12 11 rfl rfl)
theorem dX11_item_274 : decode cX11_item 274 = .ok (.goto 4, 3) := dk_167 0 4 (dk_at dksX11_item_12 12 rfl rfl)
theorem dX11_item_277 : decode cX11_item 277 = .ok (.iconst 0, 1) := dk_3 (dk_at dksX11_item_12 15 rfl rfl)
theorem dX11_item_278 : decode cX11_item 278 = .ok (.invokevirtual 81, 3) := dk_182 0 81 (dk_at dksX11_item_12 16 rfl rfl)
theorem dX11_item_281 : decode cX11_item 281 = .ok (.istore 4, 2) := dk_54 4 (dk_at dksX11_item_12 19 rfl rfl)
theorem dX11_item_283 : decode cX11_item 283 = .ok (.aload_n 0, 1) := dk_42 (dk_at dksX11_item_12 21 rfl rfl)
theorem dX11_item_284 : decode cX11_item 284 = .ok (.getfield 18, 3) := dk_180 0 18 (dk_at dksX11_item_13 0 rfl rfl)
theorem dX11_item_287 : decode cX11_item 287 = .ok (.getfield 118, 3) := dk_180 0 118 (dk_at dksX11_item_13 3 rfl rfl)
theorem dX11_item_290 : decode cX11_item 290 = .ok (.iload_n 3, 1) := dk_29 (dk_at dksX11_item_13 6 rfl rfl)
theorem dX11_item_291 : decode cX11_item 291 = .ok (.dup2, 1) := dk_92 (dk_at dksX11_item_13 7 rfl rfl)
theorem dX11_item_292 : decode cX11_item 292 = .ok (.iaload, 1) := dk_46 (dk_at dksX11_item_13 8 rfl rfl)
theorem dX11_item_293 : decode cX11_item 293 = .ok (.iconst 1, 1) := dk_4 (dk_at dksX11_item_13 9 rfl rfl)
theorem dX11_item_294 : decode cX11_item 294 = .ok (.iload 4, 2) := dk_21 4 (dk_at dksX11_item_13 10 rfl rfl)
theorem dX11_item_296 : decode cX11_item 296 = .ok (.ishl, 1) := dk_120 (dk_at dksX11_item_13 12 rfl rfl)
theorem dX11_item_297 : decode cX11_item 297 = .ok (.ior, 1) := dk_128 (dk_at dksX11_item_13 13 rfl rfl)
theorem dX11_item_298 : decode cX11_item 298 = .ok (.iastore, 1) := dk_79 (dk_at dksX11_item_13 14 rfl rfl)
theorem dX11_item_299 : decode cX11_item 299 = .ok (.aload_n 0, 1) := dk_42 (dk_at dksX11_item_13 15 rfl rfl)
theorem dX11_item_300 : decode cX11_item 300 = .ok (.getfield 18, 3) := dk_180 0 18 (dk_at dksX11_item_13 16 rfl rfl)
theorem dX11_item_303 : decode cX11_item 303 = .ok (.dup, 1) := dk_89 (dk_at dksX11_item_13 19 rfl rfl)
theorem dX11_item_304 : decode cX11_item 304 = .ok (.getfield 121, 3) := dk_180 0 121 (dk_at dksX11_item_13 20 rfl rfl)
theorem dX11_item_307 : decode cX11_item 307 = .ok (.iconst 1, 1) := dk_4 (dk_at dksX11_item_13 23 rfl rfl)
theorem dX11_item_308 : decode cX11_item 308 = .ok (.iadd, 1) := dk_96 (dk_at dksX11_item_14 0 rfl rfl)
theorem dX11_item_309 : decode cX11_item 309 = .ok (.putfield 121, 3) := dk_181 0 121 (dk_at dksX11_item_14 1 rfl rfl)
theorem dX11_item_312 : decode cX11_item 312 = .ok (.return_, 1) := dk_177 (dk_at dksX11_item_14 4 rfl rfl)
abbrev cX11_number : ByteArray := prog_7_method_6_code
def yX11_number : MethodName := ⟨RX11, "number", "(II)I"⟩
def dkwX11_number_1 : List UInt8 := [167, 0, 4, 3, 182, 0, 81, 172]
abbrev dktX11_number_1 : List UInt8 := dkwX11_number_1 ++ []
def dkwX11_number_0 : List UInt8 := [42, 42, 180, 0, 52, 6, 160, 0, 19, 42, 180, 0, 49, 27, 28, 184, 0, 55, 153, 0, 7, 4]
abbrev dktX11_number_0 : List UInt8 := dkwX11_number_0 ++ dktX11_number_1
theorem dksX11_number_0 : cX11_number.data.toList.drop 0 = dktX11_number_0 := by decide +kernel
theorem dksX11_number_1 : cX11_number.data.toList.drop 22 = dktX11_number_1 := dk_seg dksX11_number_0 22 rfl rfl
theorem dX11_number_0 : decode cX11_number 0 = .ok (.aload_n 0, 1) := dk_42 (dk_at dksX11_number_0 0 rfl rfl)
theorem dX11_number_1 : decode cX11_number 1 = .ok (.aload_n 0, 1) := dk_42 (dk_at dksX11_number_0 1 rfl rfl)
theorem dX11_number_2 : decode cX11_number 2 = .ok (.getfield 52, 3) := dk_180 0 52 (dk_at dksX11_number_0 2 rfl rfl)
theorem dX11_number_5 : decode cX11_number 5 = .ok (.iconst 3, 1) := dk_6 (dk_at dksX11_number_0 5 rfl rfl)
theorem dX11_number_6 : decode cX11_number 6 = .ok (.if_icmp .ne 19, 3) := dk_160 0 19 (dk_at dksX11_number_0 6 rfl rfl)
theorem dX11_number_9 : decode cX11_number 9 = .ok (.aload_n 0, 1) := dk_42 (dk_at dksX11_number_0 9 rfl rfl)
theorem dX11_number_10 : decode cX11_number 10 = .ok (.getfield 49, 3) := dk_180 0 49 (dk_at dksX11_number_0 10 rfl rfl)
theorem dX11_number_13 : decode cX11_number 13 = .ok (.iload_n 1, 1) := dk_27 (dk_at dksX11_number_0 13 rfl rfl)
theorem dX11_number_14 : decode cX11_number 14 = .ok (.iload_n 2, 1) := dk_28 (dk_at dksX11_number_0 14 rfl rfl)
theorem dX11_number_15 : decode cX11_number 15 = .ok (.invokestatic 55, 3) := dk_184 0 55 (dk_at dksX11_number_0 15 rfl rfl)
theorem dX11_number_18 : decode cX11_number 18 = .ok (.ifCond .eq 7, 3) := dk_153 0 7 (dk_at dksX11_number_0 18 rfl rfl)
theorem dX11_number_21 : decode cX11_number 21 = .ok (.iconst 1, 1) := dk_4 (dk_at dksX11_number_0 21 rfl rfl)
theorem dX11_number_22 : decode cX11_number 22 = .ok (.goto 4, 3) := dk_167 0 4 (dk_at dksX11_number_1 0 rfl rfl)
theorem dX11_number_25 : decode cX11_number 25 = .ok (.iconst 0, 1) := dk_3 (dk_at dksX11_number_1 3 rfl rfl)
theorem dX11_number_26 : decode cX11_number 26 = .ok (.invokevirtual 81, 3) := dk_182 0 81 (dk_at dksX11_number_1 4 rfl rfl)
theorem dX11_number_29 : decode cX11_number 29 = .ok (.ireturn, 1) := dk_172 (dk_at dksX11_number_1 7 rfl rfl)
theorem q60 : (Jvm.Cond.initialized "SleeveSlips$Reader") ∈ lw_all := lw_g (lw_at lw_m1 13 rfl) rfl
theorem q88 : (Jvm.Cond.fieldLinkNest "SleeveSlips$Reader" (85 : Nat) "SleeveSlips$Book" "room" "[I" "SleeveSlips") ∈ lw_tbl := lw_at lw_m1 41 rfl
theorem q92 : (Jvm.Cond.fieldLinkNest "SleeveSlips$Reader" (95 : Nat) "SleeveSlips$Book" "work" "[I" "SleeveSlips") ∈ lw_tbl := lw_at lw_m1 45 rfl
theorem q95 : (Jvm.Cond.fieldLinkNest "SleeveSlips$Reader" (98 : Nat) "SleeveSlips$Book" "price" "[I" "SleeveSlips") ∈ lw_tbl := lw_at lw_m1 48 rfl
theorem q98 : (Jvm.Cond.fieldLinkNest "SleeveSlips$Reader" (104 : Nat) "SleeveSlips$Book" "whom" "[I" "SleeveSlips") ∈ lw_tbl := lw_at lw_m1 51 rfl
theorem q101 : (Jvm.Cond.fieldLinkNest "SleeveSlips$Reader" (107 : Nat) "SleeveSlips$Book" "day" "[I" "SleeveSlips") ∈ lw_tbl := lw_at lw_m1 54 rfl
theorem q104 : (Jvm.Cond.fieldLinkNest "SleeveSlips$Reader" (110 : Nat) "SleeveSlips$Book" "units" "[I" "SleeveSlips") ∈ lw_tbl := lw_at lw_m1 57 rfl
theorem q107 : (Jvm.Cond.fieldLinkNest "SleeveSlips$Reader" (113 : Nat) "SleeveSlips$Book" "worth" "[I" "SleeveSlips") ∈ lw_tbl := lw_at lw_m1 60 rfl
theorem q110 : (Jvm.Cond.fieldLinkNest "SleeveSlips$Reader" (116 : Nat) "SleeveSlips$Book" "due" "[I" "SleeveSlips") ∈ lw_tbl := lw_at lw_m1 63 rfl
theorem q113 : (Jvm.Cond.fieldLinkNest "SleeveSlips$Reader" (118 : Nat) "SleeveSlips$Book" "under" "[I" "SleeveSlips") ∈ lw_tbl := lw_at lw_m1 66 rfl
theorem q116 : (Jvm.Cond.fieldLinkNest "SleeveSlips$Reader" (89 : Nat) "SleeveSlips$Book" "people" "I" "SleeveSlips") ∈ lw_tbl := lw_at lw_m1 69 rfl
theorem q118 : (Jvm.Cond.fieldLinkNest "SleeveSlips$Reader" (101 : Nat) "SleeveSlips$Book" "askings" "I" "SleeveSlips") ∈ lw_tbl := lw_at lw_m1 71 rfl
theorem q119 : (Jvm.Cond.fieldLinkNest "SleeveSlips$Reader" (121 : Nat) "SleeveSlips$Book" "hangs" "I" "SleeveSlips") ∈ lw_tbl := lw_at lw_m1 72 rfl
theorem q122 : (Jvm.Cond.fieldLinkNest "SleeveSlips$Reader" (131 : Nat) "SleeveSlips$Book" "items" "I" "SleeveSlips") ∈ lw_tbl := lw_at lw_m1 75 rfl
theorem q309 : (Jvm.Cond.fieldLinkNest "SleeveSlips$Reader" (29 : Nat) "SleeveSlips" "text" "[B" "SleeveSlips") ∈ lw_tbl := lw_at lw_m2 22 rfl
theorem q311 : (Jvm.Cond.fieldLinkNest "SleeveSlips$Reader" (26 : Nat) "SleeveSlips" "typed" "I" "SleeveSlips") ∈ lw_tbl := lw_at lw_m2 24 rfl
theorem q371 : (Jvm.Cond.instantiable "SleeveSlips$Reader" (6 : Nat)) ∈ lw_all := lw_g (lw_at lw_m2 84 rfl) rfl
theorem q373 : (Jvm.Cond.instanceMethod ({ cls := "SleeveSlips$Reader", name := "<init>", desc := "(LSleeveSlips;)V" } : Jvm.MethodName)) ∈ lw_all := lw_g (lw_at lw_m2 86 rfl) rfl
theorem q374 : (Jvm.Cond.code ({ cls := "SleeveSlips$Reader", name := "<init>", desc := "(LSleeveSlips;)V" } : Jvm.MethodName) prog_7_method_1_code (2 : Nat) (Option.none : Option Jvm.ClassFile.FieldType)) ∈ lw_all := lw_g (lw_at lw_m2 87 rfl) rfl
theorem q375 : (Jvm.Cond.methodLink "SleeveSlips$Reader" (9 : Nat) ({ cls := "java/lang/Object", name := "<init>", desc := "()V" } : Jvm.MethodName)) ∈ lw_all := lw_g (lw_at lw_m2 88 rfl) rfl
theorem q376 : (Jvm.Cond.classLink "SleeveSlips$Reader" (15 : Nat) "SleeveSlips$Book") ∈ lw_all := lw_g (lw_at lw_m2 89 rfl) rfl
theorem q377 : (Jvm.Cond.methodLinkNest "SleeveSlips$Reader" (17 : Nat) ({ cls := "SleeveSlips$Book", name := "<init>", desc := "()V" } : Jvm.MethodName) "SleeveSlips") ∈ lw_tbl := lw_at lw_m2 90 rfl
theorem q378 : (Jvm.Cond.fieldLink "SleeveSlips$Reader" (22 : Nat) "SleeveSlips$Reader" "at" "I") ∈ lw_all := lw_g (lw_at lw_m2 91 rfl) rfl
theorem q379 : (Jvm.Cond.fieldLink "SleeveSlips$Reader" (33 : Nat) "SleeveSlips$Reader" "start" "I") ∈ lw_all := lw_g (lw_at lw_m2 92 rfl) rfl
theorem q380 : (Jvm.Cond.fieldLink "SleeveSlips$Reader" (52 : Nat) "SleeveSlips$Reader" "sort" "I") ∈ lw_all := lw_g (lw_at lw_m2 93 rfl) rfl
theorem q381 : (Jvm.Cond.fieldLink "SleeveSlips$Reader" (49 : Nat) "SleeveSlips$Reader" "value" "I") ∈ lw_all := lw_g (lw_at lw_m2 94 rfl) rfl
theorem q382 : (Jvm.Cond.fieldLink "SleeveSlips$Reader" (18 : Nat) "SleeveSlips$Reader" "made" "LSleeveSlips$Book;") ∈ lw_all := lw_g (lw_at lw_m2 95 rfl) rfl
theorem q383 : (Jvm.Cond.fieldLink "SleeveSlips$Reader" (3 : Nat) "SleeveSlips$Reader" "this$0" "LSleeveSlips;") ∈ lw_all := lw_g (lw_at lw_m2 96 rfl) rfl
theorem q384 : (Jvm.Cond.lays "SleeveSlips$Reader" "SleeveSlips$Reader" "at" "I") ∈ lw_all := lw_g (lw_at lw_m2 97 rfl) rfl
theorem q385 : (Jvm.Cond.soleField "SleeveSlips$Reader" "at") ∈ lw_all := lw_g (lw_at lw_m2 98 rfl) rfl
theorem q386 : (Jvm.Cond.lays "SleeveSlips$Reader" "SleeveSlips$Reader" "start" "I") ∈ lw_all := lw_g (lw_at lw_m2 99 rfl) rfl
theorem q387 : (Jvm.Cond.soleField "SleeveSlips$Reader" "start") ∈ lw_all := lw_g (lw_at lw_m2 100 rfl) rfl
theorem q388 : (Jvm.Cond.lays "SleeveSlips$Reader" "SleeveSlips$Reader" "sort" "I") ∈ lw_all := lw_g (lw_at lw_m2 101 rfl) rfl
theorem q389 : (Jvm.Cond.soleField "SleeveSlips$Reader" "sort") ∈ lw_all := lw_g (lw_at lw_m2 102 rfl) rfl
theorem q390 : (Jvm.Cond.lays "SleeveSlips$Reader" "SleeveSlips$Reader" "value" "I") ∈ lw_all := lw_g (lw_at lw_m2 103 rfl) rfl
theorem q391 : (Jvm.Cond.soleField "SleeveSlips$Reader" "value") ∈ lw_all := lw_g (lw_at lw_m2 104 rfl) rfl
theorem q392 : (Jvm.Cond.laysFinal "SleeveSlips$Reader" "SleeveSlips$Reader" "made" "LSleeveSlips$Book;") ∈ lw_all := lw_g (lw_at lw_m2 105 rfl) rfl
theorem q393 : (Jvm.Cond.soleField "SleeveSlips$Reader" "made") ∈ lw_all := lw_g (lw_at lw_m2 106 rfl) rfl
theorem q394 : (Jvm.Cond.laysFinal "SleeveSlips$Reader" "SleeveSlips$Reader" "this$0" "LSleeveSlips;") ∈ lw_all := lw_g (lw_at lw_m2 107 rfl) rfl
theorem q395 : (Jvm.Cond.soleField "SleeveSlips$Reader" "this$0") ∈ lw_all := lw_g (lw_at lw_m2 108 rfl) rfl
theorem q396 : (Jvm.Cond.superclass "SleeveSlips$Reader" "java/lang/Object") ∈ lw_all := lw_g (lw_at lw_m2 109 rfl) rfl
theorem q398 : (Jvm.Cond.instanceMethod ({ cls := "SleeveSlips$Reader", name := "read", desc := "()LSleeveSlips$Book;" } : Jvm.MethodName)) ∈ lw_all := lw_g (lw_at lw_m2 111 rfl) rfl
theorem q399 : (Jvm.Cond.selects "SleeveSlips$Reader" ({ cls := "SleeveSlips$Reader", name := "read", desc := "()LSleeveSlips$Book;" } : Jvm.MethodName) ({ cls := "SleeveSlips$Reader", name := "read", desc := "()LSleeveSlips$Book;" } : Jvm.MethodName)) ∈ lw_all := lw_g (lw_at lw_m2 112 rfl) rfl
theorem q400 : (Jvm.Cond.code ({ cls := "SleeveSlips$Reader", name := "read", desc := "()LSleeveSlips$Book;" } : Jvm.MethodName) prog_7_method_9_code (2 : Nat) (Option.some (Jvm.ClassFile.FieldType.object "SleeveSlips$Book"))) ∈ lw_all := lw_g (lw_at lw_m2 113 rfl) rfl
theorem q401 : (Jvm.Cond.methodLink "SleeveSlips$Reader" (78 : Nat) ({ cls := "SleeveSlips$Reader", name := "next", desc := "()V" } : Jvm.MethodName)) ∈ lw_all := lw_g (lw_at lw_m2 114 rfl) rfl
theorem q402 : (Jvm.Cond.privateMethod ({ cls := "SleeveSlips$Reader", name := "next", desc := "()V" } : Jvm.MethodName)) ∈ lw_tbl := lw_at lw_m2 115 rfl
theorem q403 : (Jvm.Cond.instanceMethod ({ cls := "SleeveSlips$Reader", name := "next", desc := "()V" } : Jvm.MethodName)) ∈ lw_all := lw_g (lw_at lw_m2 116 rfl) rfl
theorem q404 : (Jvm.Cond.code ({ cls := "SleeveSlips$Reader", name := "next", desc := "()V" } : Jvm.MethodName) prog_7_method_4_code (3 : Nat) (Option.none : Option Jvm.ClassFile.FieldType)) ∈ lw_all := lw_g (lw_at lw_m2 117 rfl) rfl
theorem q405 : (Jvm.Cond.methodLink "SleeveSlips$Reader" (46 : Nat) ({ cls := "SleeveSlips$Reader", name := "here", desc := "()I" } : Jvm.MethodName)) ∈ lw_all := lw_g (lw_at lw_m2 118 rfl) rfl
theorem q406 : (Jvm.Cond.privateMethod ({ cls := "SleeveSlips$Reader", name := "here", desc := "()I" } : Jvm.MethodName)) ∈ lw_tbl := lw_at lw_m2 119 rfl
theorem q407 : (Jvm.Cond.instanceMethod ({ cls := "SleeveSlips$Reader", name := "here", desc := "()I" } : Jvm.MethodName)) ∈ lw_all := lw_g (lw_at lw_m2 120 rfl) rfl
theorem q408 : (Jvm.Cond.code ({ cls := "SleeveSlips$Reader", name := "here", desc := "()I" } : Jvm.MethodName) prog_7_method_2_code (1 : Nat) (Option.some Jvm.ClassFile.FieldType.int)) ∈ lw_all := lw_g (lw_at lw_m2 121 rfl) rfl
theorem q409 : (Jvm.Cond.methodLinkNest "SleeveSlips$Reader" (55 : Nat) ({ cls := "SleeveSlips", name := "in", desc := "(III)Z" } : Jvm.MethodName) "SleeveSlips") ∈ lw_tbl := lw_at lw_m2 122 rfl
theorem q410 : (Jvm.Cond.fieldLinkNest "SleeveSlips$Reader" (59 : Nat) "SleeveSlips" "WORDS" "[Ljava/lang/String;" "SleeveSlips") ∈ lw_tbl := lw_at lw_m2 123 rfl
theorem q412 : (Jvm.Cond.methodLink "SleeveSlips$Reader" (63 : Nat) ({ cls := "SleeveSlips$Reader", name := "isTold", desc := "(Ljava/lang/String;)Z" } : Jvm.MethodName)) ∈ lw_all := lw_g (lw_at lw_m2 125 rfl) rfl
theorem q413 : (Jvm.Cond.privateMethod ({ cls := "SleeveSlips$Reader", name := "isTold", desc := "(Ljava/lang/String;)Z" } : Jvm.MethodName)) ∈ lw_tbl := lw_at lw_m2 126 rfl
theorem q414 : (Jvm.Cond.instanceMethod ({ cls := "SleeveSlips$Reader", name := "isTold", desc := "(Ljava/lang/String;)Z" } : Jvm.MethodName)) ∈ lw_all := lw_g (lw_at lw_m2 127 rfl) rfl
theorem q415 : (Jvm.Cond.code ({ cls := "SleeveSlips$Reader", name := "isTold", desc := "(Ljava/lang/String;)Z" } : Jvm.MethodName) prog_7_method_3_code (4 : Nat) (Option.some Jvm.ClassFile.FieldType.boolean)) ∈ lw_all := lw_g (lw_at lw_m2 128 rfl) rfl
theorem q416 : (Jvm.Cond.methodLink "SleeveSlips$Reader" (36 : Nat) ({ cls := "java/lang/String", name := "length", desc := "()I" } : Jvm.MethodName)) ∈ lw_all := lw_g (lw_at lw_m2 129 rfl) rfl
theorem q426 : (Jvm.Cond.methodLink "SleeveSlips$Reader" (42 : Nat) ({ cls := "java/lang/String", name := "charAt", desc := "(I)C" } : Jvm.MethodName)) ∈ lw_all := lw_g (lw_at lw_m2 139 rfl) rfl
theorem q464 : (Jvm.Cond.methodLink "SleeveSlips$Reader" (67 : Nat) ({ cls := "java/lang/Math", name := "min", desc := "(II)I" } : Jvm.MethodName)) ∈ lw_all := lw_g (lw_at lw_m2 177 rfl) rfl
theorem q467 : (Jvm.Cond.methodLink "SleeveSlips$Reader" (124 : Nat) ({ cls := "SleeveSlips$Reader", name := "may", desc := "(I)Z" } : Jvm.MethodName)) ∈ lw_all := lw_g (lw_at lw_m2 180 rfl) rfl
theorem q468 : (Jvm.Cond.privateMethod ({ cls := "SleeveSlips$Reader", name := "may", desc := "(I)Z" } : Jvm.MethodName)) ∈ lw_tbl := lw_at lw_m2 181 rfl
theorem q469 : (Jvm.Cond.instanceMethod ({ cls := "SleeveSlips$Reader", name := "may", desc := "(I)Z" } : Jvm.MethodName)) ∈ lw_all := lw_g (lw_at lw_m2 182 rfl) rfl
theorem q470 : (Jvm.Cond.code ({ cls := "SleeveSlips$Reader", name := "may", desc := "(I)Z" } : Jvm.MethodName) prog_7_method_8_code (2 : Nat) (Option.some Jvm.ClassFile.FieldType.boolean)) ∈ lw_all := lw_g (lw_at lw_m2 183 rfl) rfl
theorem q471 : (Jvm.Cond.methodLink "SleeveSlips$Reader" (81 : Nat) ({ cls := "SleeveSlips$Reader", name := "due", desc := "(Z)I" } : Jvm.MethodName)) ∈ lw_all := lw_g (lw_at lw_m2 184 rfl) rfl
theorem q472 : (Jvm.Cond.privateMethod ({ cls := "SleeveSlips$Reader", name := "due", desc := "(Z)I" } : Jvm.MethodName)) ∈ lw_tbl := lw_at lw_m2 185 rfl
theorem q473 : (Jvm.Cond.instanceMethod ({ cls := "SleeveSlips$Reader", name := "due", desc := "(Z)I" } : Jvm.MethodName)) ∈ lw_all := lw_g (lw_at lw_m2 186 rfl) rfl
theorem q474 : (Jvm.Cond.code ({ cls := "SleeveSlips$Reader", name := "due", desc := "(Z)I" } : Jvm.MethodName) prog_7_method_5_code (3 : Nat) (Option.some Jvm.ClassFile.FieldType.int)) ∈ lw_all := lw_g (lw_at lw_m2 187 rfl) rfl
theorem q475 : (Jvm.Cond.classLink "SleeveSlips$Reader" (73 : Nat) "SleeveSlips$Wrong") ∈ lw_all := lw_g (lw_at lw_m2 188 rfl) rfl
theorem q514 : (Jvm.Cond.methodLink "SleeveSlips$Reader" (75 : Nat) ({ cls := "SleeveSlips$Wrong", name := "<init>", desc := "(I)V" } : Jvm.MethodName)) ∈ lw_all := lw_g (lw_at lw_m2 227 rfl) rfl
theorem q543 : (Jvm.Cond.methodLink "SleeveSlips$Reader" (128 : Nat) ({ cls := "SleeveSlips$Reader", name := "item", desc := "(I)V" } : Jvm.MethodName)) ∈ lw_all := lw_g (lw_at lw_m3 16 rfl) rfl
theorem q544 : (Jvm.Cond.privateMethod ({ cls := "SleeveSlips$Reader", name := "item", desc := "(I)V" } : Jvm.MethodName)) ∈ lw_tbl := lw_at lw_m3 17 rfl
theorem q545 : (Jvm.Cond.instanceMethod ({ cls := "SleeveSlips$Reader", name := "item", desc := "(I)V" } : Jvm.MethodName)) ∈ lw_all := lw_g (lw_at lw_m3 18 rfl) rfl
theorem q546 : (Jvm.Cond.code ({ cls := "SleeveSlips$Reader", name := "item", desc := "(I)V" } : Jvm.MethodName) prog_7_method_7_code (5 : Nat) (Option.none : Option Jvm.ClassFile.FieldType)) ∈ lw_all := lw_g (lw_at lw_m3 19 rfl) rfl
theorem q547 : (Jvm.Cond.methodLink "SleeveSlips$Reader" (92 : Nat) ({ cls := "SleeveSlips$Reader", name := "number", desc := "(II)I" } : Jvm.MethodName)) ∈ lw_all := lw_g (lw_at lw_m3 20 rfl) rfl
theorem q548 : (Jvm.Cond.privateMethod ({ cls := "SleeveSlips$Reader", name := "number", desc := "(II)I" } : Jvm.MethodName)) ∈ lw_tbl := lw_at lw_m3 21 rfl
theorem q549 : (Jvm.Cond.instanceMethod ({ cls := "SleeveSlips$Reader", name := "number", desc := "(II)I" } : Jvm.MethodName)) ∈ lw_all := lw_g (lw_at lw_m3 22 rfl) rfl
theorem q550 : (Jvm.Cond.code ({ cls := "SleeveSlips$Reader", name := "number", desc := "(II)I" } : Jvm.MethodName) prog_7_method_6_code (3 : Nat) (Option.some Jvm.ClassFile.FieldType.int)) ∈ lw_all := lw_g (lw_at lw_m3 23 rfl) rfl
theorem in_X11 : ∀ w ∈ wsX110, w ∈ lw_all := lw_in wsX110 [384, 386, 388, 390, 392, 394] (by decide +kernel) (by decide +kernel)

/-! SleeveSlips$Wrong -/
set_option maxRecDepth 100000
def RX12 : String := "SleeveSlips$Wrong"
def TX12 : u_T := fun k => match k with
  | 0 => ("java/lang/Throwable", "cause", "Ljava/lang/Throwable;", false)
  | 1 => ("java/lang/Throwable", "stackTrace", "[Ljava/lang/StackTraceElement;", false)
  | 2 => ("java/lang/Throwable", "suppressedExceptions", "Ljava/util/List;", false)
  | 3 => ("java/lang/Throwable", "detailMessage", "Ljava/lang/String;", false)
  | 4 => ("java/lang/Throwable", "backtrace", "Ljava/lang/Object;", false)
  | 5 => ("java/lang/Throwable", "depth", "I", false)
  | _ => ("SleeveSlips$Wrong", "at", "I", true)
def tyX12 : Nat → FieldType := fun k => match k with
  | 0 => .object "java/lang/Throwable"
  | 1 => .array (.object "java/lang/StackTraceElement")
  | 2 => .object "java/util/List"
  | 3 => .object "java/lang/String"
  | 4 => .object "java/lang/Object"
  | 5 => .int
  | _ => .int
abbrev wsX120 : List Cond := u_ws RX12 TX12 7
theorem nmX12 : ∀ a, a < 7 → ∀ b, b < 7 → a ≠ b → (TX12 a).2.1 ≠ (TX12 b).2.1 := by decide +kernel
theorem tyX12_ok : ∀ k, k < 7 → parseFieldDescriptor (TX12 k).2.2.1 = some (tyX12 k) := by decide +kernel
abbrev cX12_init : ByteArray := prog_12_method_1_code
def yX12_init : MethodName := ⟨RX12, "<init>", "(I)V"⟩
def dkwX12_init_0 : List UInt8 := [42, 1, 1, 3, 3, 183, 0, 1, 42, 27, 181, 0, 7, 177]
abbrev dktX12_init_0 : List UInt8 := dkwX12_init_0 ++ []
theorem dksX12_init_0 : cX12_init.data.toList.drop 0 = dktX12_init_0 := by decide +kernel
theorem dX12_init_0 : decode cX12_init 0 = .ok (.aload_n 0, 1) := dk_42 (dk_at dksX12_init_0 0 rfl rfl)
theorem dX12_init_1 : decode cX12_init 1 = .ok (.aconst_null, 1) := dk_1 (dk_at dksX12_init_0 1 rfl rfl)
theorem dX12_init_2 : decode cX12_init 2 = .ok (.aconst_null, 1) := dk_1 (dk_at dksX12_init_0 2 rfl rfl)
theorem dX12_init_3 : decode cX12_init 3 = .ok (.iconst 0, 1) := dk_3 (dk_at dksX12_init_0 3 rfl rfl)
theorem dX12_init_4 : decode cX12_init 4 = .ok (.iconst 0, 1) := dk_3 (dk_at dksX12_init_0 4 rfl rfl)
theorem dX12_init_5 : decode cX12_init 5 = .ok (.invokespecial 1, 3) := dk_183 0 1 (dk_at dksX12_init_0 5 rfl rfl)
theorem dX12_init_8 : decode cX12_init 8 = .ok (.aload_n 0, 1) := dk_42 (dk_at dksX12_init_0 8 rfl rfl)
theorem dX12_init_9 : decode cX12_init 9 = .ok (.iload_n 1, 1) := dk_27 (dk_at dksX12_init_0 9 rfl rfl)
theorem dX12_init_10 : decode cX12_init 10 = .ok (.putfield 7, 3) := dk_181 0 7 (dk_at dksX12_init_0 10 rfl rfl)
theorem dX12_init_13 : decode cX12_init 13 = .ok (.return_, 1) := dk_177 (dk_at dksX12_init_0 13 rfl rfl)
theorem q69 : (Jvm.Cond.initialized "SleeveSlips$Wrong") ∈ lw_all := lw_g (lw_at lw_m1 22 rfl) rfl
theorem q476 : (Jvm.Cond.instantiable "SleeveSlips$Wrong" (7 : Nat)) ∈ lw_all := lw_g (lw_at lw_m2 189 rfl) rfl
theorem q477 : (Jvm.Cond.castable "SleeveSlips$Wrong" "SleeveSlips$Wrong") ∈ lw_tbl := lw_at lw_m2 190 rfl
theorem q484 : (Jvm.Cond.selects "SleeveSlips$Wrong" ({ cls := "java/lang/Throwable", name := "fillInStackTrace", desc := "(I)Ljava/lang/Throwable;" } : Jvm.MethodName) ({ cls := "java/lang/Throwable", name := "fillInStackTrace", desc := "(I)Ljava/lang/Throwable;" } : Jvm.MethodName)) ∈ lw_all := lw_g (lw_at lw_m2 197 rfl) rfl
theorem q485 : (Jvm.Cond.selects "SleeveSlips$Wrong" ({ cls := "java/lang/Throwable", name := "fillInStackTrace", desc := "()Ljava/lang/Throwable;" } : Jvm.MethodName) ({ cls := "java/lang/Throwable", name := "fillInStackTrace", desc := "()Ljava/lang/Throwable;" } : Jvm.MethodName)) ∈ lw_all := lw_g (lw_at lw_m2 198 rfl) rfl
theorem q486 : (Jvm.Cond.lays "SleeveSlips$Wrong" "java/lang/Throwable" "cause" "Ljava/lang/Throwable;") ∈ lw_all := lw_g (lw_at lw_m2 199 rfl) rfl
theorem q488 : (Jvm.Cond.lays "SleeveSlips$Wrong" "java/lang/Throwable" "stackTrace" "[Ljava/lang/StackTraceElement;") ∈ lw_all := lw_g (lw_at lw_m2 201 rfl) rfl
theorem q490 : (Jvm.Cond.lays "SleeveSlips$Wrong" "java/lang/Throwable" "suppressedExceptions" "Ljava/util/List;") ∈ lw_all := lw_g (lw_at lw_m2 203 rfl) rfl
theorem q492 : (Jvm.Cond.lays "SleeveSlips$Wrong" "java/lang/Throwable" "detailMessage" "Ljava/lang/String;") ∈ lw_all := lw_g (lw_at lw_m2 205 rfl) rfl
theorem q494 : (Jvm.Cond.lays "SleeveSlips$Wrong" "java/lang/Throwable" "backtrace" "Ljava/lang/Object;") ∈ lw_all := lw_g (lw_at lw_m2 207 rfl) rfl
theorem q515 : (Jvm.Cond.instanceMethod ({ cls := "SleeveSlips$Wrong", name := "<init>", desc := "(I)V" } : Jvm.MethodName)) ∈ lw_all := lw_g (lw_at lw_m2 228 rfl) rfl
theorem q516 : (Jvm.Cond.code ({ cls := "SleeveSlips$Wrong", name := "<init>", desc := "(I)V" } : Jvm.MethodName) prog_12_method_1_code (2 : Nat) (Option.none : Option Jvm.ClassFile.FieldType)) ∈ lw_all := lw_g (lw_at lw_m2 229 rfl) rfl
theorem q517 : (Jvm.Cond.methodLink "SleeveSlips$Wrong" (1 : Nat) ({ cls := "java/lang/RuntimeException", name := "<init>", desc := "(Ljava/lang/String;Ljava/lang/Throwable;ZZ)V" } : Jvm.MethodName)) ∈ lw_all := lw_g (lw_at lw_m2 230 rfl) rfl
theorem q526 : (Jvm.Cond.fieldLink "SleeveSlips$Wrong" (7 : Nat) "SleeveSlips$Wrong" "at" "I") ∈ lw_all := lw_g (lw_at lw_m2 239 rfl) rfl
theorem q533 : (Jvm.Cond.laysFinal "SleeveSlips$Wrong" "SleeveSlips$Wrong" "at" "I") ∈ lw_all := lw_g (lw_at lw_m3 6 rfl) rfl
theorem q534 : (Jvm.Cond.soleField "SleeveSlips$Wrong" "at") ∈ lw_all := lw_g (lw_at lw_m3 7 rfl) rfl
theorem q539 : (Jvm.Cond.lays "SleeveSlips$Wrong" "java/lang/Throwable" "depth" "I") ∈ lw_all := lw_g (lw_at lw_m3 12 rfl) rfl
theorem q542 : (Jvm.Cond.superclass "SleeveSlips$Wrong" "java/lang/RuntimeException") ∈ lw_all := lw_g (lw_at lw_m3 15 rfl) rfl
theorem in_X12 : ∀ w ∈ wsX120, w ∈ lw_all := lw_in wsX120 [486, 488, 490, 492, 494, 539, 533] (by decide +kernel) (by decide +kernel)

/-! SleeveSlips$Town -/
set_option maxRecDepth 100000
def RX2 : String := "SleeveSlips$Town"
def TX2 : u_T := fun k => match k with
  | 0 => ("SleeveSlips$Town", "sleeve", "[LSleeveSlips$Sleeve;", true)
  | 1 => ("SleeveSlips$Town", "became", "[I", true)
  | 2 => ("SleeveSlips$Town", "left", "[I", true)
  | 3 => ("SleeveSlips$Town", "what", "[I", true)
  | 4 => ("SleeveSlips$Town", "which", "[I", true)
  | 5 => ("SleeveSlips$Town", "whose", "[I", true)
  | 6 => ("SleeveSlips$Town", "place", "[I", true)
  | 7 => ("SleeveSlips$Town", "deeds", "I", false)
  | 8 => ("SleeveSlips$Town", "day", "I", false)
  | 9 => ("SleeveSlips$Town", "won", "I", false)
  | 10 => ("SleeveSlips$Town", "lost", "I", false)
  | _ => ("SleeveSlips$Town", "isKept", "Z", false)
def tyX2 : Nat → FieldType := fun k => match k with
  | 0 => .array (.object "SleeveSlips$Sleeve")
  | 1 => .array .int
  | 2 => .array .int
  | 3 => .array .int
  | 4 => .array .int
  | 5 => .array .int
  | 6 => .array .int
  | 7 => .int
  | 8 => .int
  | 9 => .int
  | 10 => .int
  | _ => .boolean
abbrev wsX20 : List Cond := u_ws RX2 TX2 12
theorem nmX2 : ∀ a, a < 12 → ∀ b, b < 12 → a ≠ b → (TX2 a).2.1 ≠ (TX2 b).2.1 := by decide +kernel
theorem tyX2_ok : ∀ k, k < 12 → parseFieldDescriptor (TX2 k).2.2.1 = some (tyX2 k) := by decide +kernel
abbrev cX2_init : ByteArray := prog_11_method_1_code
def yX2_init : MethodName := ⟨RX2, "<init>", "()V"⟩
def dkwX2_init_4 : List UInt8 := [188, 10, 181, 0, 34, 177]
abbrev dktX2_init_4 : List UInt8 := dkwX2_init_4 ++ []
def dkwX2_init_3 : List UInt8 := [188, 10, 181, 0, 25, 42, 16, 12, 188, 10, 181, 0, 28, 42, 16, 12, 188, 10, 181, 0, 31, 42, 16, 12]
abbrev dktX2_init_3 : List UInt8 := dkwX2_init_3 ++ dktX2_init_4
def dkwX2_init_2 : List UInt8 := [83, 181, 0, 12, 42, 16, 8, 188, 10, 181, 0, 18, 42, 16, 8, 188, 10, 181, 0, 22, 42, 16, 12]
abbrev dktX2_init_2 : List UInt8 := dkwX2_init_2 ++ dktX2_init_3
def dkwX2_init_1 : List UInt8 := [89, 183, 0, 11, 83, 89, 5, 187, 0, 9, 89, 183, 0, 11, 83, 89, 6, 187, 0, 9, 89, 183, 0, 11]
abbrev dktX2_init_1 : List UInt8 := dkwX2_init_1 ++ dktX2_init_2
def dkwX2_init_0 : List UInt8 := [42, 183, 0, 3, 42, 7, 189, 0, 9, 89, 3, 187, 0, 9, 89, 183, 0, 11, 83, 89, 4, 187, 0, 9]
abbrev dktX2_init_0 : List UInt8 := dkwX2_init_0 ++ dktX2_init_1
theorem dksX2_init_0 : cX2_init.data.toList.drop 0 = dktX2_init_0 := by decide +kernel
theorem dksX2_init_1 : cX2_init.data.toList.drop 24 = dktX2_init_1 := dk_seg dksX2_init_0 24 rfl rfl
theorem dksX2_init_2 : cX2_init.data.toList.drop 48 = dktX2_init_2 := dk_seg dksX2_init_1 24 rfl rfl
theorem dksX2_init_3 : cX2_init.data.toList.drop 71 = dktX2_init_3 := dk_seg dksX2_init_2 23 rfl rfl
theorem dksX2_init_4 : cX2_init.data.toList.drop 95 = dktX2_init_4 := dk_seg dksX2_init_3 24 rfl rfl
theorem dX2_init_0 : decode cX2_init 0 = .ok (.aload_n 0, 1) := dk_42 (dk_at dksX2_init_0 0 rfl rfl)
theorem dX2_init_1 : decode cX2_init 1 = .ok (.invokespecial 3, 3) := dk_183 0 3 (dk_at dksX2_init_0 1 rfl rfl)
theorem dX2_init_4 : decode cX2_init 4 = .ok (.aload_n 0, 1) := dk_42 (dk_at dksX2_init_0 4 rfl rfl)
theorem dX2_init_5 : decode cX2_init 5 = .ok (.iconst 4, 1) := dk_7 (dk_at dksX2_init_0 5 rfl rfl)
theorem dX2_init_6 : decode cX2_init 6 = .ok (.anewarray 9, 3) := dk_189 0 9 (dk_at dksX2_init_0 6 rfl rfl)
theorem dX2_init_9 : decode cX2_init 9 = .ok (.dup, 1) := dk_89 (dk_at dksX2_init_0 9 rfl rfl)
theorem dX2_init_10 : decode cX2_init 10 = .ok (.iconst 0, 1) := dk_3 (dk_at dksX2_init_0 10 rfl rfl)
theorem dX2_init_11 : decode cX2_init 11 = .ok (.new 9, 3) := dk_187 0 9 (dk_at dksX2_init_0 11 rfl rfl)
theorem dX2_init_14 : decode cX2_init 14 = .ok (.dup, 1) := dk_89 (dk_at dksX2_init_0 14 rfl rfl)
theorem dX2_init_15 : decode cX2_init 15 = .ok (.invokespecial 11, 3) := dk_183 0 11 (dk_at dksX2_init_0 15 rfl rfl)
theorem dX2_init_18 : decode cX2_init 18 = .ok (.aastore, 1) := dk_83 (dk_at dksX2_init_0 18 rfl rfl)
theorem dX2_init_19 : decode cX2_init 19 = .ok (.dup, 1) := dk_89 (dk_at dksX2_init_0 19 rfl rfl)
theorem dX2_init_20 : decode cX2_init 20 = .ok (.iconst 1, 1) := dk_4 (dk_at dksX2_init_0 20 rfl rfl)
theorem dX2_init_21 : decode cX2_init 21 = .ok (.new 9, 3) := dk_187 0 9 (dk_at dksX2_init_0 21 rfl rfl)
theorem dX2_init_24 : decode cX2_init 24 = .ok (.dup, 1) := dk_89 (dk_at dksX2_init_1 0 rfl rfl)
theorem dX2_init_25 : decode cX2_init 25 = .ok (.invokespecial 11, 3) := dk_183 0 11 (dk_at dksX2_init_1 1 rfl rfl)
theorem dX2_init_28 : decode cX2_init 28 = .ok (.aastore, 1) := dk_83 (dk_at dksX2_init_1 4 rfl rfl)
theorem dX2_init_29 : decode cX2_init 29 = .ok (.dup, 1) := dk_89 (dk_at dksX2_init_1 5 rfl rfl)
theorem dX2_init_30 : decode cX2_init 30 = .ok (.iconst 2, 1) := dk_5 (dk_at dksX2_init_1 6 rfl rfl)
theorem dX2_init_31 : decode cX2_init 31 = .ok (.new 9, 3) := dk_187 0 9 (dk_at dksX2_init_1 7 rfl rfl)
theorem dX2_init_34 : decode cX2_init 34 = .ok (.dup, 1) := dk_89 (dk_at dksX2_init_1 10 rfl rfl)
theorem dX2_init_35 : decode cX2_init 35 = .ok (.invokespecial 11, 3) := dk_183 0 11 (dk_at dksX2_init_1 11 rfl rfl)
theorem dX2_init_38 : decode cX2_init 38 = .ok (.aastore, 1) := dk_83 (dk_at dksX2_init_1 14 rfl rfl)
theorem dX2_init_39 : decode cX2_init 39 = .ok (.dup, 1) := dk_89 (dk_at dksX2_init_1 15 rfl rfl)
theorem dX2_init_40 : decode cX2_init 40 = .ok (.iconst 3, 1) := dk_6 (dk_at dksX2_init_1 16 rfl rfl)
theorem dX2_init_41 : decode cX2_init 41 = .ok (.new 9, 3) := dk_187 0 9 (dk_at dksX2_init_1 17 rfl rfl)
theorem dX2_init_44 : decode cX2_init 44 = .ok (.dup, 1) := dk_89 (dk_at dksX2_init_1 20 rfl rfl)
theorem dX2_init_45 : decode cX2_init 45 = .ok (.invokespecial 11, 3) := dk_183 0 11 (dk_at dksX2_init_1 21 rfl rfl)
theorem dX2_init_48 : decode cX2_init 48 = .ok (.aastore, 1) := dk_83 (dk_at dksX2_init_2 0 rfl rfl)
theorem dX2_init_49 : decode cX2_init 49 = .ok (.putfield 12, 3) := dk_181 0 12 (dk_at dksX2_init_2 1 rfl rfl)
theorem dX2_init_52 : decode cX2_init 52 = .ok (.aload_n 0, 1) := dk_42 (dk_at dksX2_init_2 4 rfl rfl)
theorem dX2_init_53 : decode cX2_init 53 = .ok (.bipush 8, 2) := dk_16 8 (dk_at dksX2_init_2 5 rfl rfl)
theorem dX2_init_55 : decode cX2_init 55 = .ok (.newarray .int, 2) := dk_188_10 (dk_at dksX2_init_2 7 rfl rfl)
theorem dX2_init_57 : decode cX2_init 57 = .ok (.putfield 18, 3) := dk_181 0 18 (dk_at dksX2_init_2 9 rfl rfl)
theorem dX2_init_60 : decode cX2_init 60 = .ok (.aload_n 0, 1) := dk_42 (dk_at dksX2_init_2 12 rfl rfl)
theorem dX2_init_61 : decode cX2_init 61 = .ok (.bipush 8, 2) := dk_16 8 (dk_at dksX2_init_2 13 rfl rfl)
theorem dX2_init_63 : decode cX2_init 63 = .ok (.newarray .int, 2) := dk_188_10 (dk_at dksX2_init_2 15 rfl rfl)
theorem dX2_init_65 : decode cX2_init 65 = .ok (.putfield 22, 3) := dk_181 0 22 (dk_at dksX2_init_2 17 rfl rfl)
theorem dX2_init_68 : decode cX2_init 68 = .ok (.aload_n 0, 1) := dk_42 (dk_at dksX2_init_2 20 rfl rfl)
theorem dX2_init_69 : decode cX2_init 69 = .ok (.bipush 12, 2) := dk_16 12 (dk_at dksX2_init_2 21 rfl rfl)
theorem dX2_init_71 : decode cX2_init 71 = .ok (.newarray .int, 2) := dk_188_10 (dk_at dksX2_init_3 0 rfl rfl)
theorem dX2_init_73 : decode cX2_init 73 = .ok (.putfield 25, 3) := dk_181 0 25 (dk_at dksX2_init_3 2 rfl rfl)
theorem dX2_init_76 : decode cX2_init 76 = .ok (.aload_n 0, 1) := dk_42 (dk_at dksX2_init_3 5 rfl rfl)
theorem dX2_init_77 : decode cX2_init 77 = .ok (.bipush 12, 2) := dk_16 12 (dk_at dksX2_init_3 6 rfl rfl)
theorem dX2_init_79 : decode cX2_init 79 = .ok (.newarray .int, 2) := dk_188_10 (dk_at dksX2_init_3 8 rfl rfl)
theorem dX2_init_81 : decode cX2_init 81 = .ok (.putfield 28, 3) := dk_181 0 28 (dk_at dksX2_init_3 10 rfl rfl)
theorem dX2_init_84 : decode cX2_init 84 = .ok (.aload_n 0, 1) := dk_42 (dk_at dksX2_init_3 13 rfl rfl)
theorem dX2_init_85 : decode cX2_init 85 = .ok (.bipush 12, 2) := dk_16 12 (dk_at dksX2_init_3 14 rfl rfl)
theorem dX2_init_87 : decode cX2_init 87 = .ok (.newarray .int, 2) := dk_188_10 (dk_at dksX2_init_3 16 rfl rfl)
theorem dX2_init_89 : decode cX2_init 89 = .ok (.putfield 31, 3) := dk_181 0 31 (dk_at dksX2_init_3 18 rfl rfl)
theorem dX2_init_92 : decode cX2_init 92 = .ok (.aload_n 0, 1) := dk_42 (dk_at dksX2_init_3 21 rfl rfl)
theorem dX2_init_93 : decode cX2_init 93 = .ok (.bipush 12, 2) := dk_16 12 (dk_at dksX2_init_3 22 rfl rfl)
theorem dX2_init_95 : decode cX2_init 95 = .ok (.newarray .int, 2) := dk_188_10 (dk_at dksX2_init_4 0 rfl rfl)
theorem dX2_init_97 : decode cX2_init 97 = .ok (.putfield 34, 3) := dk_181 0 34 (dk_at dksX2_init_4 2 rfl rfl)
theorem dX2_init_100 : decode cX2_init 100 = .ok (.return_, 1) := dk_177 (dk_at dksX2_init_4 5 rfl rfl)
abbrev cX2_begin : ByteArray := prog_11_method_2_code
def yX2_begin : MethodName := ⟨RX2, "begin", "()V"⟩
def dkwX2_begin_2 : List UInt8 := [184, 0, 41, 42, 3, 181, 0, 47, 42, 3, 181, 0, 50, 42, 3, 181, 0, 53, 42, 3, 181, 0, 56, 177]
abbrev dktX2_begin_2 : List UInt8 := dkwX2_begin_2 ++ []
def dkwX2_begin_1 : List UInt8 := [181, 0, 37, 132, 3, 1, 167, 255, 237, 42, 180, 0, 18, 3, 184, 0, 41, 42, 180, 0, 22, 3]
abbrev dktX2_begin_1 : List UInt8 := dkwX2_begin_1 ++ dktX2_begin_2
def dkwX2_begin_0 : List UInt8 := [42, 180, 0, 12, 76, 43, 190, 61, 3, 62, 29, 28, 162, 0, 20, 43, 29, 50, 58, 4, 25, 4, 3]
abbrev dktX2_begin_0 : List UInt8 := dkwX2_begin_0 ++ dktX2_begin_1
theorem dksX2_begin_0 : cX2_begin.data.toList.drop 0 = dktX2_begin_0 := by decide +kernel
theorem dksX2_begin_1 : cX2_begin.data.toList.drop 23 = dktX2_begin_1 := dk_seg dksX2_begin_0 23 rfl rfl
theorem dksX2_begin_2 : cX2_begin.data.toList.drop 45 = dktX2_begin_2 := dk_seg dksX2_begin_1 22 rfl rfl
theorem dX2_begin_0 : decode cX2_begin 0 = .ok (.aload_n 0, 1) := dk_42 (dk_at dksX2_begin_0 0 rfl rfl)
theorem dX2_begin_1 : decode cX2_begin 1 = .ok (.getfield 12, 3) := dk_180 0 12 (dk_at dksX2_begin_0 1 rfl rfl)
theorem dX2_begin_4 : decode cX2_begin 4 = .ok (.astore_n 1, 1) := dk_76 (dk_at dksX2_begin_0 4 rfl rfl)
theorem dX2_begin_5 : decode cX2_begin 5 = .ok (.aload_n 1, 1) := dk_43 (dk_at dksX2_begin_0 5 rfl rfl)
theorem dX2_begin_6 : decode cX2_begin 6 = .ok (.arraylength, 1) := dk_190 (dk_at dksX2_begin_0 6 rfl rfl)
theorem dX2_begin_7 : decode cX2_begin 7 = .ok (.istore_n 2, 1) := dk_61 (dk_at dksX2_begin_0 7 rfl rfl)
theorem dX2_begin_8 : decode cX2_begin 8 = .ok (.iconst 0, 1) := dk_3 (dk_at dksX2_begin_0 8 rfl rfl)
theorem dX2_begin_9 : decode cX2_begin 9 = .ok (.istore_n 3, 1) := dk_62 (dk_at dksX2_begin_0 9 rfl rfl)
theorem dX2_begin_10 : decode cX2_begin 10 = .ok (.iload_n 3, 1) := dk_29 (dk_at dksX2_begin_0 10 rfl rfl)
theorem dX2_begin_11 : decode cX2_begin 11 = .ok (.iload_n 2, 1) := dk_28 (dk_at dksX2_begin_0 11 rfl rfl)
theorem dX2_begin_12 : decode cX2_begin 12 = .ok (.if_icmp .ge 20, 3) := dk_162 0 20 (dk_at dksX2_begin_0 12 rfl rfl)
theorem dX2_begin_15 : decode cX2_begin 15 = .ok (.aload_n 1, 1) := dk_43 (dk_at dksX2_begin_0 15 rfl rfl)
theorem dX2_begin_16 : decode cX2_begin 16 = .ok (.iload_n 3, 1) := dk_29 (dk_at dksX2_begin_0 16 rfl rfl)
theorem dX2_begin_17 : decode cX2_begin 17 = .ok (.aaload, 1) := dk_50 (dk_at dksX2_begin_0 17 rfl rfl)
theorem dX2_begin_18 : decode cX2_begin 18 = .ok (.astore 4, 2) := dk_58 4 (dk_at dksX2_begin_0 18 rfl rfl)
theorem dX2_begin_20 : decode cX2_begin 20 = .ok (.aload 4, 2) := dk_25 4 (dk_at dksX2_begin_0 20 rfl rfl)
theorem dX2_begin_22 : decode cX2_begin 22 = .ok (.iconst 0, 1) := dk_3 (dk_at dksX2_begin_0 22 rfl rfl)
theorem dX2_begin_23 : decode cX2_begin 23 = .ok (.putfield 37, 3) := dk_181 0 37 (dk_at dksX2_begin_1 0 rfl rfl)
theorem dX2_begin_26 : decode cX2_begin 26 = .ok (.iinc 3 1, 3) := dk_132 3 1 (dk_at dksX2_begin_1 3 rfl rfl)
theorem dX2_begin_29 : decode cX2_begin 29 = .ok (.goto (-19), 3) := dk_167 255 237 (dk_at dksX2_begin_1 6 rfl rfl)
theorem dX2_begin_32 : decode cX2_begin 32 = .ok (.aload_n 0, 1) := dk_42 (dk_at dksX2_begin_1 9 rfl rfl)
theorem dX2_begin_33 : decode cX2_begin 33 = .ok (.getfield 18, 3) := dk_180 0 18 (dk_at dksX2_begin_1 10 rfl rfl)
theorem dX2_begin_36 : decode cX2_begin 36 = .ok (.iconst 0, 1) := dk_3 (dk_at dksX2_begin_1 13 rfl rfl)
theorem dX2_begin_37 : decode cX2_begin 37 = .ok (.invokestatic 41, 3) := dk_184 0 41 (dk_at dksX2_begin_1 14 rfl rfl)
theorem dX2_begin_40 : decode cX2_begin 40 = .ok (.aload_n 0, 1) := dk_42 (dk_at dksX2_begin_1 17 rfl rfl)
theorem dX2_begin_41 : decode cX2_begin 41 = .ok (.getfield 22, 3) := dk_180 0 22 (dk_at dksX2_begin_1 18 rfl rfl)
theorem dX2_begin_44 : decode cX2_begin 44 = .ok (.iconst 0, 1) := dk_3 (dk_at dksX2_begin_1 21 rfl rfl)
theorem dX2_begin_45 : decode cX2_begin 45 = .ok (.invokestatic 41, 3) := dk_184 0 41 (dk_at dksX2_begin_2 0 rfl rfl)
theorem dX2_begin_48 : decode cX2_begin 48 = .ok (.aload_n 0, 1) := dk_42 (dk_at dksX2_begin_2 3 rfl rfl)
theorem dX2_begin_49 : decode cX2_begin 49 = .ok (.iconst 0, 1) := dk_3 (dk_at dksX2_begin_2 4 rfl rfl)
theorem dX2_begin_50 : decode cX2_begin 50 = .ok (.putfield 47, 3) := dk_181 0 47 (dk_at dksX2_begin_2 5 rfl rfl)
theorem dX2_begin_53 : decode cX2_begin 53 = .ok (.aload_n 0, 1) := dk_42 (dk_at dksX2_begin_2 8 rfl rfl)
theorem dX2_begin_54 : decode cX2_begin 54 = .ok (.iconst 0, 1) := dk_3 (dk_at dksX2_begin_2 9 rfl rfl)
theorem dX2_begin_55 : decode cX2_begin 55 = .ok (.putfield 50, 3) := dk_181 0 50 (dk_at dksX2_begin_2 10 rfl rfl)
theorem dX2_begin_58 : decode cX2_begin 58 = .ok (.aload_n 0, 1) := dk_42 (dk_at dksX2_begin_2 13 rfl rfl)
theorem dX2_begin_59 : decode cX2_begin 59 = .ok (.iconst 0, 1) := dk_3 (dk_at dksX2_begin_2 14 rfl rfl)
theorem dX2_begin_60 : decode cX2_begin 60 = .ok (.putfield 53, 3) := dk_181 0 53 (dk_at dksX2_begin_2 15 rfl rfl)
theorem dX2_begin_63 : decode cX2_begin 63 = .ok (.aload_n 0, 1) := dk_42 (dk_at dksX2_begin_2 18 rfl rfl)
theorem dX2_begin_64 : decode cX2_begin 64 = .ok (.iconst 0, 1) := dk_3 (dk_at dksX2_begin_2 19 rfl rfl)
theorem dX2_begin_65 : decode cX2_begin 65 = .ok (.putfield 56, 3) := dk_181 0 56 (dk_at dksX2_begin_2 20 rfl rfl)
theorem dX2_begin_68 : decode cX2_begin 68 = .ok (.return_, 1) := dk_177 (dk_at dksX2_begin_2 23 rfl rfl)
abbrev cX2_sleeveOf : ByteArray := prog_11_method_4_code
def yX2_sleeveOf : MethodName := ⟨RX2, "sleeveOf", "(I)I"⟩
def dkwX2_sleeveOf_1 : List UInt8 := [160, 0, 7, 28, 167, 0, 4, 29, 61, 132, 3, 1, 167, 255, 227, 28, 172]
abbrev dktX2_sleeveOf_1 : List UInt8 := dkwX2_sleeveOf_1 ++ []
def dkwX2_sleeveOf_0 : List UInt8 := [16, 247, 61, 3, 62, 29, 7, 162, 0, 30, 42, 180, 0, 12, 29, 50, 27, 182, 0, 69, 16, 247]
abbrev dktX2_sleeveOf_0 : List UInt8 := dkwX2_sleeveOf_0 ++ dktX2_sleeveOf_1
theorem dksX2_sleeveOf_0 : cX2_sleeveOf.data.toList.drop 0 = dktX2_sleeveOf_0 := by decide +kernel
theorem dksX2_sleeveOf_1 : cX2_sleeveOf.data.toList.drop 22 = dktX2_sleeveOf_1 := dk_seg dksX2_sleeveOf_0 22 rfl rfl
theorem dX2_sleeveOf_0 : decode cX2_sleeveOf 0 = .ok (.bipush (-9), 2) := dk_16 247 (dk_at dksX2_sleeveOf_0 0 rfl rfl)
theorem dX2_sleeveOf_2 : decode cX2_sleeveOf 2 = .ok (.istore_n 2, 1) := dk_61 (dk_at dksX2_sleeveOf_0 2 rfl rfl)
theorem dX2_sleeveOf_3 : decode cX2_sleeveOf 3 = .ok (.iconst 0, 1) := dk_3 (dk_at dksX2_sleeveOf_0 3 rfl rfl)
theorem dX2_sleeveOf_4 : decode cX2_sleeveOf 4 = .ok (.istore_n 3, 1) := dk_62 (dk_at dksX2_sleeveOf_0 4 rfl rfl)
theorem dX2_sleeveOf_5 : decode cX2_sleeveOf 5 = .ok (.iload_n 3, 1) := dk_29 (dk_at dksX2_sleeveOf_0 5 rfl rfl)
theorem dX2_sleeveOf_6 : decode cX2_sleeveOf 6 = .ok (.iconst 4, 1) := dk_7 (dk_at dksX2_sleeveOf_0 6 rfl rfl)
theorem dX2_sleeveOf_7 : decode cX2_sleeveOf 7 = .ok (.if_icmp .ge 30, 3) := dk_162 0 30 (dk_at dksX2_sleeveOf_0 7 rfl rfl)
theorem dX2_sleeveOf_10 : decode cX2_sleeveOf 10 = .ok (.aload_n 0, 1) := dk_42 (dk_at dksX2_sleeveOf_0 10 rfl rfl)
theorem dX2_sleeveOf_11 : decode cX2_sleeveOf 11 = .ok (.getfield 12, 3) := dk_180 0 12 (dk_at dksX2_sleeveOf_0 11 rfl rfl)
theorem dX2_sleeveOf_14 : decode cX2_sleeveOf 14 = .ok (.iload_n 3, 1) := dk_29 (dk_at dksX2_sleeveOf_0 14 rfl rfl)
theorem dX2_sleeveOf_15 : decode cX2_sleeveOf 15 = .ok (.aaload, 1) := dk_50 (dk_at dksX2_sleeveOf_0 15 rfl rfl)
theorem dX2_sleeveOf_16 : decode cX2_sleeveOf 16 = .ok (.iload_n 1, 1) := dk_27 (dk_at dksX2_sleeveOf_0 16 rfl rfl)
theorem dX2_sleeveOf_17 : decode cX2_sleeveOf 17 = .ok (.invokevirtual 69, 3) := dk_182 0 69 (dk_at dksX2_sleeveOf_0 17 rfl rfl)
theorem dX2_sleeveOf_20 : decode cX2_sleeveOf 20 = .ok (.bipush (-9), 2) := dk_16 247 (dk_at dksX2_sleeveOf_0 20 rfl rfl)
theorem dX2_sleeveOf_22 : decode cX2_sleeveOf 22 = .ok (.if_icmp .ne 7, 3) := dk_160 0 7 (dk_at dksX2_sleeveOf_1 0 rfl rfl)
theorem dX2_sleeveOf_25 : decode cX2_sleeveOf 25 = .ok (.iload_n 2, 1) := dk_28 (dk_at dksX2_sleeveOf_1 3 rfl rfl)
theorem dX2_sleeveOf_26 : decode cX2_sleeveOf 26 = .ok (.goto 4, 3) := dk_167 0 4 (dk_at dksX2_sleeveOf_1 4 rfl rfl)
theorem dX2_sleeveOf_29 : decode cX2_sleeveOf 29 = .ok (.iload_n 3, 1) := dk_29 (dk_at dksX2_sleeveOf_1 7 rfl rfl)
theorem dX2_sleeveOf_30 : decode cX2_sleeveOf 30 = .ok (.istore_n 2, 1) := dk_61 (dk_at dksX2_sleeveOf_1 8 rfl rfl)
theorem dX2_sleeveOf_31 : decode cX2_sleeveOf 31 = .ok (.iinc 3 1, 3) := dk_132 3 1 (dk_at dksX2_sleeveOf_1 9 rfl rfl)
theorem dX2_sleeveOf_34 : decode cX2_sleeveOf 34 = .ok (.goto (-29), 3) := dk_167 255 227 (dk_at dksX2_sleeveOf_1 12 rfl rfl)
theorem dX2_sleeveOf_37 : decode cX2_sleeveOf 37 = .ok (.iload_n 2, 1) := dk_28 (dk_at dksX2_sleeveOf_1 15 rfl rfl)
theorem dX2_sleeveOf_38 : decode cX2_sleeveOf 38 = .ok (.ireturn, 1) := dk_172 (dk_at dksX2_sleeveOf_1 16 rfl rfl)
abbrev cX2_know : ByteArray := prog_11_method_6_code
def yX2_know : MethodName := ⟨RX2, "know", "(IIII)V"⟩
def dkwX2_know_5 : List UInt8 := [180, 0, 34, 42, 180, 0, 47, 21, 4, 79, 42, 89, 180, 0, 47, 4, 96, 181, 0, 47, 177]
abbrev dktX2_know_5 : List UInt8 := dkwX2_know_5 ++ []
def dkwX2_know_4 : List UInt8 := [27, 79, 42, 180, 0, 28, 42, 180, 0, 47, 28, 79, 42, 180, 0, 31, 42, 180, 0, 47, 29, 79, 42]
abbrev dktX2_know_4 : List UInt8 := dkwX2_know_4 ++ dktX2_know_5
def dkwX2_know_3 : List UInt8 := [180, 0, 34, 4, 42, 180, 0, 34, 3, 42, 180, 0, 47, 184, 0, 63, 42, 180, 0, 25, 42, 180, 0, 47]
abbrev dktX2_know_3 : List UInt8 := dkwX2_know_3 ++ dktX2_know_4
def dkwX2_know_2 : List UInt8 := [180, 0, 47, 184, 0, 63, 42, 180, 0, 31, 4, 42, 180, 0, 31, 3, 42, 180, 0, 47, 184, 0, 63, 42]
abbrev dktX2_know_2 : List UInt8 := dkwX2_know_2 ++ dktX2_know_3
def dkwX2_know_1 : List UInt8 := [42, 180, 0, 25, 3, 42, 180, 0, 47, 184, 0, 63, 42, 180, 0, 28, 4, 42, 180, 0, 28, 3, 42]
abbrev dktX2_know_1 : List UInt8 := dkwX2_know_1 ++ dktX2_know_2
def dkwX2_know_0 : List UInt8 := [42, 180, 0, 47, 16, 12, 160, 0, 81, 42, 89, 180, 0, 47, 4, 100, 181, 0, 47, 42, 180, 0, 25, 4]
abbrev dktX2_know_0 : List UInt8 := dkwX2_know_0 ++ dktX2_know_1
theorem dksX2_know_0 : cX2_know.data.toList.drop 0 = dktX2_know_0 := by decide +kernel
theorem dksX2_know_1 : cX2_know.data.toList.drop 24 = dktX2_know_1 := dk_seg dksX2_know_0 24 rfl rfl
theorem dksX2_know_2 : cX2_know.data.toList.drop 47 = dktX2_know_2 := dk_seg dksX2_know_1 23 rfl rfl
theorem dksX2_know_3 : cX2_know.data.toList.drop 71 = dktX2_know_3 := dk_seg dksX2_know_2 24 rfl rfl
theorem dksX2_know_4 : cX2_know.data.toList.drop 95 = dktX2_know_4 := dk_seg dksX2_know_3 24 rfl rfl
theorem dksX2_know_5 : cX2_know.data.toList.drop 118 = dktX2_know_5 := dk_seg dksX2_know_4 23 rfl rfl
theorem dX2_know_0 : decode cX2_know 0 = .ok (.aload_n 0, 1) := dk_42 (dk_at dksX2_know_0 0 rfl rfl)
theorem dX2_know_1 : decode cX2_know 1 = .ok (.getfield 47, 3) := dk_180 0 47 (dk_at dksX2_know_0 1 rfl rfl)
theorem dX2_know_4 : decode cX2_know 4 = .ok (.bipush 12, 2) := dk_16 12 (dk_at dksX2_know_0 4 rfl rfl)
theorem dX2_know_6 : decode cX2_know 6 = .ok (.if_icmp .ne 81, 3) := dk_160 0 81 (dk_at dksX2_know_0 6 rfl rfl)
theorem dX2_know_9 : decode cX2_know 9 = .ok (.aload_n 0, 1) := dk_42 (dk_at dksX2_know_0 9 rfl rfl)
theorem dX2_know_10 : decode cX2_know 10 = .ok (.dup, 1) := dk_89 (dk_at dksX2_know_0 10 rfl rfl)
theorem dX2_know_11 : decode cX2_know 11 = .ok (.getfield 47, 3) := dk_180 0 47 (dk_at dksX2_know_0 11 rfl rfl)
theorem dX2_know_14 : decode cX2_know 14 = .ok (.iconst 1, 1) := dk_4 (dk_at dksX2_know_0 14 rfl rfl)
theorem dX2_know_15 : decode cX2_know 15 = .ok (.isub, 1) := dk_100 (dk_at dksX2_know_0 15 rfl rfl)
theorem dX2_know_16 : decode cX2_know 16 = .ok (.putfield 47, 3) := dk_181 0 47 (dk_at dksX2_know_0 16 rfl rfl)
theorem dX2_know_19 : decode cX2_know 19 = .ok (.aload_n 0, 1) := dk_42 (dk_at dksX2_know_0 19 rfl rfl)
theorem dX2_know_20 : decode cX2_know 20 = .ok (.getfield 25, 3) := dk_180 0 25 (dk_at dksX2_know_0 20 rfl rfl)
theorem dX2_know_23 : decode cX2_know 23 = .ok (.iconst 1, 1) := dk_4 (dk_at dksX2_know_0 23 rfl rfl)
theorem dX2_know_24 : decode cX2_know 24 = .ok (.aload_n 0, 1) := dk_42 (dk_at dksX2_know_1 0 rfl rfl)
theorem dX2_know_25 : decode cX2_know 25 = .ok (.getfield 25, 3) := dk_180 0 25 (dk_at dksX2_know_1 1 rfl rfl)
theorem dX2_know_28 : decode cX2_know 28 = .ok (.iconst 0, 1) := dk_3 (dk_at dksX2_know_1 4 rfl rfl)
theorem dX2_know_29 : decode cX2_know 29 = .ok (.aload_n 0, 1) := dk_42 (dk_at dksX2_know_1 5 rfl rfl)
theorem dX2_know_30 : decode cX2_know 30 = .ok (.getfield 47, 3) := dk_180 0 47 (dk_at dksX2_know_1 6 rfl rfl)
theorem dX2_know_33 : decode cX2_know 33 = .ok (.invokestatic 63, 3) := dk_184 0 63 (dk_at dksX2_know_1 9 rfl rfl)
theorem dX2_know_36 : decode cX2_know 36 = .ok (.aload_n 0, 1) := dk_42 (dk_at dksX2_know_1 12 rfl rfl)
theorem dX2_know_37 : decode cX2_know 37 = .ok (.getfield 28, 3) := dk_180 0 28 (dk_at dksX2_know_1 13 rfl rfl)
theorem dX2_know_40 : decode cX2_know 40 = .ok (.iconst 1, 1) := dk_4 (dk_at dksX2_know_1 16 rfl rfl)
theorem dX2_know_41 : decode cX2_know 41 = .ok (.aload_n 0, 1) := dk_42 (dk_at dksX2_know_1 17 rfl rfl)
theorem dX2_know_42 : decode cX2_know 42 = .ok (.getfield 28, 3) := dk_180 0 28 (dk_at dksX2_know_1 18 rfl rfl)
theorem dX2_know_45 : decode cX2_know 45 = .ok (.iconst 0, 1) := dk_3 (dk_at dksX2_know_1 21 rfl rfl)
theorem dX2_know_46 : decode cX2_know 46 = .ok (.aload_n 0, 1) := dk_42 (dk_at dksX2_know_1 22 rfl rfl)
theorem dX2_know_47 : decode cX2_know 47 = .ok (.getfield 47, 3) := dk_180 0 47 (dk_at dksX2_know_2 0 rfl rfl)
theorem dX2_know_50 : decode cX2_know 50 = .ok (.invokestatic 63, 3) := dk_184 0 63 (dk_at dksX2_know_2 3 rfl rfl)
theorem dX2_know_53 : decode cX2_know 53 = .ok (.aload_n 0, 1) := dk_42 (dk_at dksX2_know_2 6 rfl rfl)
theorem dX2_know_54 : decode cX2_know 54 = .ok (.getfield 31, 3) := dk_180 0 31 (dk_at dksX2_know_2 7 rfl rfl)
theorem dX2_know_57 : decode cX2_know 57 = .ok (.iconst 1, 1) := dk_4 (dk_at dksX2_know_2 10 rfl rfl)
theorem dX2_know_58 : decode cX2_know 58 = .ok (.aload_n 0, 1) := dk_42 (dk_at dksX2_know_2 11 rfl rfl)
theorem dX2_know_59 : decode cX2_know 59 = .ok (.getfield 31, 3) := dk_180 0 31 (dk_at dksX2_know_2 12 rfl rfl)
theorem dX2_know_62 : decode cX2_know 62 = .ok (.iconst 0, 1) := dk_3 (dk_at dksX2_know_2 15 rfl rfl)
theorem dX2_know_63 : decode cX2_know 63 = .ok (.aload_n 0, 1) := dk_42 (dk_at dksX2_know_2 16 rfl rfl)
theorem dX2_know_64 : decode cX2_know 64 = .ok (.getfield 47, 3) := dk_180 0 47 (dk_at dksX2_know_2 17 rfl rfl)
theorem dX2_know_67 : decode cX2_know 67 = .ok (.invokestatic 63, 3) := dk_184 0 63 (dk_at dksX2_know_2 20 rfl rfl)
theorem dX2_know_70 : decode cX2_know 70 = .ok (.aload_n 0, 1) := dk_42 (dk_at dksX2_know_2 23 rfl rfl)
theorem dX2_know_71 : decode cX2_know 71 = .ok (.getfield 34, 3) := dk_180 0 34 (dk_at dksX2_know_3 0 rfl rfl)
theorem dX2_know_74 : decode cX2_know 74 = .ok (.iconst 1, 1) := dk_4 (dk_at dksX2_know_3 3 rfl rfl)
theorem dX2_know_75 : decode cX2_know 75 = .ok (.aload_n 0, 1) := dk_42 (dk_at dksX2_know_3 4 rfl rfl)
theorem dX2_know_76 : decode cX2_know 76 = .ok (.getfield 34, 3) := dk_180 0 34 (dk_at dksX2_know_3 5 rfl rfl)
theorem dX2_know_79 : decode cX2_know 79 = .ok (.iconst 0, 1) := dk_3 (dk_at dksX2_know_3 8 rfl rfl)
theorem dX2_know_80 : decode cX2_know 80 = .ok (.aload_n 0, 1) := dk_42 (dk_at dksX2_know_3 9 rfl rfl)
theorem dX2_know_81 : decode cX2_know 81 = .ok (.getfield 47, 3) := dk_180 0 47 (dk_at dksX2_know_3 10 rfl rfl)
theorem dX2_know_84 : decode cX2_know 84 = .ok (.invokestatic 63, 3) := dk_184 0 63 (dk_at dksX2_know_3 13 rfl rfl)
theorem dX2_know_87 : decode cX2_know 87 = .ok (.aload_n 0, 1) := dk_42 (dk_at dksX2_know_3 16 rfl rfl)
theorem dX2_know_88 : decode cX2_know 88 = .ok (.getfield 25, 3) := dk_180 0 25 (dk_at dksX2_know_3 17 rfl rfl)
theorem dX2_know_91 : decode cX2_know 91 = .ok (.aload_n 0, 1) := dk_42 (dk_at dksX2_know_3 20 rfl rfl)
theorem dX2_know_92 : decode cX2_know 92 = .ok (.getfield 47, 3) := dk_180 0 47 (dk_at dksX2_know_3 21 rfl rfl)
theorem dX2_know_95 : decode cX2_know 95 = .ok (.iload_n 1, 1) := dk_27 (dk_at dksX2_know_4 0 rfl rfl)
theorem dX2_know_96 : decode cX2_know 96 = .ok (.iastore, 1) := dk_79 (dk_at dksX2_know_4 1 rfl rfl)
theorem dX2_know_97 : decode cX2_know 97 = .ok (.aload_n 0, 1) := dk_42 (dk_at dksX2_know_4 2 rfl rfl)
theorem dX2_know_98 : decode cX2_know 98 = .ok (.getfield 28, 3) := dk_180 0 28 (dk_at dksX2_know_4 3 rfl rfl)
theorem dX2_know_101 : decode cX2_know 101 = .ok (.aload_n 0, 1) := dk_42 (dk_at dksX2_know_4 6 rfl rfl)
theorem dX2_know_102 : decode cX2_know 102 = .ok (.getfield 47, 3) := dk_180 0 47 (dk_at dksX2_know_4 7 rfl rfl)
theorem dX2_know_105 : decode cX2_know 105 = .ok (.iload_n 2, 1) := dk_28 (dk_at dksX2_know_4 10 rfl rfl)
theorem dX2_know_106 : decode cX2_know 106 = .ok (.iastore, 1) := dk_79 (dk_at dksX2_know_4 11 rfl rfl)
theorem dX2_know_107 : decode cX2_know 107 = .ok (.aload_n 0, 1) := dk_42 (dk_at dksX2_know_4 12 rfl rfl)
theorem dX2_know_108 : decode cX2_know 108 = .ok (.getfield 31, 3) := dk_180 0 31 (dk_at dksX2_know_4 13 rfl rfl)
theorem dX2_know_111 : decode cX2_know 111 = .ok (.aload_n 0, 1) := dk_42 (dk_at dksX2_know_4 16 rfl rfl)
theorem dX2_know_112 : decode cX2_know 112 = .ok (.getfield 47, 3) := dk_180 0 47 (dk_at dksX2_know_4 17 rfl rfl)
theorem dX2_know_115 : decode cX2_know 115 = .ok (.iload_n 3, 1) := dk_29 (dk_at dksX2_know_4 20 rfl rfl)
theorem dX2_know_116 : decode cX2_know 116 = .ok (.iastore, 1) := dk_79 (dk_at dksX2_know_4 21 rfl rfl)
theorem dX2_know_117 : decode cX2_know 117 = .ok (.aload_n 0, 1) := dk_42 (dk_at dksX2_know_4 22 rfl rfl)
theorem dX2_know_118 : decode cX2_know 118 = .ok (.getfield 34, 3) := dk_180 0 34 (dk_at dksX2_know_5 0 rfl rfl)
theorem dX2_know_121 : decode cX2_know 121 = .ok (.aload_n 0, 1) := dk_42 (dk_at dksX2_know_5 3 rfl rfl)
theorem dX2_know_122 : decode cX2_know 122 = .ok (.getfield 47, 3) := dk_180 0 47 (dk_at dksX2_know_5 4 rfl rfl)
theorem dX2_know_125 : decode cX2_know 125 = .ok (.iload 4, 2) := dk_21 4 (dk_at dksX2_know_5 7 rfl rfl)
theorem dX2_know_127 : decode cX2_know 127 = .ok (.iastore, 1) := dk_79 (dk_at dksX2_know_5 9 rfl rfl)
theorem dX2_know_128 : decode cX2_know 128 = .ok (.aload_n 0, 1) := dk_42 (dk_at dksX2_know_5 10 rfl rfl)
theorem dX2_know_129 : decode cX2_know 129 = .ok (.dup, 1) := dk_89 (dk_at dksX2_know_5 11 rfl rfl)
theorem dX2_know_130 : decode cX2_know 130 = .ok (.getfield 47, 3) := dk_180 0 47 (dk_at dksX2_know_5 12 rfl rfl)
theorem dX2_know_133 : decode cX2_know 133 = .ok (.iconst 1, 1) := dk_4 (dk_at dksX2_know_5 15 rfl rfl)
theorem dX2_know_134 : decode cX2_know 134 = .ok (.iadd, 1) := dk_96 (dk_at dksX2_know_5 16 rfl rfl)
theorem dX2_know_135 : decode cX2_know 135 = .ok (.putfield 47, 3) := dk_181 0 47 (dk_at dksX2_know_5 17 rfl rfl)
theorem dX2_know_138 : decode cX2_know 138 = .ok (.return_, 1) := dk_177 (dk_at dksX2_know_5 20 rfl rfl)
abbrev cX2_goes : ByteArray := prog_11_method_5_code
def yX2_goes : MethodName := ⟨RX2, "goes", "(II)V"⟩
def dkwX2_goes_1 : List UInt8 := [180, 0, 12, 29, 50, 42, 180, 0, 12, 29, 50, 28, 182, 0, 69, 182, 0, 80, 177]
abbrev dktX2_goes_1 : List UInt8 := dkwX2_goes_1 ++ []
def dkwX2_goes_0 : List UInt8 := [42, 28, 182, 0, 73, 62, 42, 27, 28, 29, 42, 180, 0, 12, 29, 50, 28, 182, 0, 69, 182, 0, 76, 42]
abbrev dktX2_goes_0 : List UInt8 := dkwX2_goes_0 ++ dktX2_goes_1
theorem dksX2_goes_0 : cX2_goes.data.toList.drop 0 = dktX2_goes_0 := by decide +kernel
theorem dksX2_goes_1 : cX2_goes.data.toList.drop 24 = dktX2_goes_1 := dk_seg dksX2_goes_0 24 rfl rfl
theorem dX2_goes_0 : decode cX2_goes 0 = .ok (.aload_n 0, 1) := dk_42 (dk_at dksX2_goes_0 0 rfl rfl)
theorem dX2_goes_1 : decode cX2_goes 1 = .ok (.iload_n 2, 1) := dk_28 (dk_at dksX2_goes_0 1 rfl rfl)
theorem dX2_goes_2 : decode cX2_goes 2 = .ok (.invokevirtual 73, 3) := dk_182 0 73 (dk_at dksX2_goes_0 2 rfl rfl)
theorem dX2_goes_5 : decode cX2_goes 5 = .ok (.istore_n 3, 1) := dk_62 (dk_at dksX2_goes_0 5 rfl rfl)
theorem dX2_goes_6 : decode cX2_goes 6 = .ok (.aload_n 0, 1) := dk_42 (dk_at dksX2_goes_0 6 rfl rfl)
theorem dX2_goes_7 : decode cX2_goes 7 = .ok (.iload_n 1, 1) := dk_27 (dk_at dksX2_goes_0 7 rfl rfl)
theorem dX2_goes_8 : decode cX2_goes 8 = .ok (.iload_n 2, 1) := dk_28 (dk_at dksX2_goes_0 8 rfl rfl)
theorem dX2_goes_9 : decode cX2_goes 9 = .ok (.iload_n 3, 1) := dk_29 (dk_at dksX2_goes_0 9 rfl rfl)
theorem dX2_goes_10 : decode cX2_goes 10 = .ok (.aload_n 0, 1) := dk_42 (dk_at dksX2_goes_0 10 rfl rfl)
theorem dX2_goes_11 : decode cX2_goes 11 = .ok (.getfield 12, 3) := dk_180 0 12 (dk_at dksX2_goes_0 11 rfl rfl)
theorem dX2_goes_14 : decode cX2_goes 14 = .ok (.iload_n 3, 1) := dk_29 (dk_at dksX2_goes_0 14 rfl rfl)
theorem dX2_goes_15 : decode cX2_goes 15 = .ok (.aaload, 1) := dk_50 (dk_at dksX2_goes_0 15 rfl rfl)
theorem dX2_goes_16 : decode cX2_goes 16 = .ok (.iload_n 2, 1) := dk_28 (dk_at dksX2_goes_0 16 rfl rfl)
theorem dX2_goes_17 : decode cX2_goes 17 = .ok (.invokevirtual 69, 3) := dk_182 0 69 (dk_at dksX2_goes_0 17 rfl rfl)
theorem dX2_goes_20 : decode cX2_goes 20 = .ok (.invokevirtual 76, 3) := dk_182 0 76 (dk_at dksX2_goes_0 20 rfl rfl)
theorem dX2_goes_23 : decode cX2_goes 23 = .ok (.aload_n 0, 1) := dk_42 (dk_at dksX2_goes_0 23 rfl rfl)
theorem dX2_goes_24 : decode cX2_goes 24 = .ok (.getfield 12, 3) := dk_180 0 12 (dk_at dksX2_goes_1 0 rfl rfl)
theorem dX2_goes_27 : decode cX2_goes 27 = .ok (.iload_n 3, 1) := dk_29 (dk_at dksX2_goes_1 3 rfl rfl)
theorem dX2_goes_28 : decode cX2_goes 28 = .ok (.aaload, 1) := dk_50 (dk_at dksX2_goes_1 4 rfl rfl)
theorem dX2_goes_29 : decode cX2_goes 29 = .ok (.aload_n 0, 1) := dk_42 (dk_at dksX2_goes_1 5 rfl rfl)
theorem dX2_goes_30 : decode cX2_goes 30 = .ok (.getfield 12, 3) := dk_180 0 12 (dk_at dksX2_goes_1 6 rfl rfl)
theorem dX2_goes_33 : decode cX2_goes 33 = .ok (.iload_n 3, 1) := dk_29 (dk_at dksX2_goes_1 9 rfl rfl)
theorem dX2_goes_34 : decode cX2_goes 34 = .ok (.aaload, 1) := dk_50 (dk_at dksX2_goes_1 10 rfl rfl)
theorem dX2_goes_35 : decode cX2_goes 35 = .ok (.iload_n 2, 1) := dk_28 (dk_at dksX2_goes_1 11 rfl rfl)
theorem dX2_goes_36 : decode cX2_goes 36 = .ok (.invokevirtual 69, 3) := dk_182 0 69 (dk_at dksX2_goes_1 12 rfl rfl)
theorem dX2_goes_39 : decode cX2_goes 39 = .ok (.invokevirtual 80, 3) := dk_182 0 80 (dk_at dksX2_goes_1 15 rfl rfl)
theorem dX2_goes_42 : decode cX2_goes 42 = .ok (.return_, 1) := dk_177 (dk_at dksX2_goes_1 18 rfl rfl)
abbrev cX2_copyOf : ByteArray := prog_11_method_3_code
def yX2_copyOf : MethodName := ⟨RX2, "copyOf", "(LSleeveSlips$Town;)V"⟩
def dkwX2_copyOf_6 : List UInt8 := [181, 0, 53, 42, 43, 180, 0, 56, 181, 0, 56, 177]
abbrev dktX2_copyOf_6 : List UInt8 := dkwX2_copyOf_6 ++ []
def dkwX2_copyOf_5 : List UInt8 := [184, 0, 63, 42, 43, 180, 0, 47, 181, 0, 47, 42, 43, 180, 0, 50, 181, 0, 50, 42, 43, 180, 0, 53]
abbrev dktX2_copyOf_5 : List UInt8 := dkwX2_copyOf_5 ++ dktX2_copyOf_6
def dkwX2_copyOf_4 : List UInt8 := [3, 42, 180, 0, 31, 3, 16, 12, 184, 0, 63, 43, 180, 0, 34, 3, 42, 180, 0, 34, 3, 16, 12]
abbrev dktX2_copyOf_4 : List UInt8 := dkwX2_copyOf_4 ++ dktX2_copyOf_5
def dkwX2_copyOf_3 : List UInt8 := [16, 12, 184, 0, 63, 43, 180, 0, 28, 3, 42, 180, 0, 28, 3, 16, 12, 184, 0, 63, 43, 180, 0, 31]
abbrev dktX2_copyOf_3 : List UInt8 := dkwX2_copyOf_3 ++ dktX2_copyOf_4
def dkwX2_copyOf_2 : List UInt8 := [180, 0, 22, 3, 42, 180, 0, 22, 3, 16, 8, 184, 0, 63, 43, 180, 0, 25, 3, 42, 180, 0, 25, 3]
abbrev dktX2_copyOf_2 : List UInt8 := dkwX2_copyOf_2 ++ dktX2_copyOf_3
def dkwX2_copyOf_1 : List UInt8 := [132, 2, 1, 167, 255, 233, 43, 180, 0, 18, 3, 42, 180, 0, 18, 3, 16, 8, 184, 0, 63, 43]
abbrev dktX2_copyOf_1 : List UInt8 := dkwX2_copyOf_1 ++ dktX2_copyOf_2
def dkwX2_copyOf_0 : List UInt8 := [3, 61, 28, 7, 162, 0, 24, 42, 180, 0, 12, 28, 50, 43, 180, 0, 12, 28, 50, 182, 0, 59]
abbrev dktX2_copyOf_0 : List UInt8 := dkwX2_copyOf_0 ++ dktX2_copyOf_1
theorem dksX2_copyOf_0 : cX2_copyOf.data.toList.drop 0 = dktX2_copyOf_0 := by decide +kernel
theorem dksX2_copyOf_1 : cX2_copyOf.data.toList.drop 22 = dktX2_copyOf_1 := dk_seg dksX2_copyOf_0 22 rfl rfl
theorem dksX2_copyOf_2 : cX2_copyOf.data.toList.drop 44 = dktX2_copyOf_2 := dk_seg dksX2_copyOf_1 22 rfl rfl
theorem dksX2_copyOf_3 : cX2_copyOf.data.toList.drop 68 = dktX2_copyOf_3 := dk_seg dksX2_copyOf_2 24 rfl rfl
theorem dksX2_copyOf_4 : cX2_copyOf.data.toList.drop 92 = dktX2_copyOf_4 := dk_seg dksX2_copyOf_3 24 rfl rfl
theorem dksX2_copyOf_5 : cX2_copyOf.data.toList.drop 115 = dktX2_copyOf_5 := dk_seg dksX2_copyOf_4 23 rfl rfl
theorem dksX2_copyOf_6 : cX2_copyOf.data.toList.drop 139 = dktX2_copyOf_6 := dk_seg dksX2_copyOf_5 24 rfl rfl
theorem dX2_copyOf_0 : decode cX2_copyOf 0 = .ok (.iconst 0, 1) := dk_3 (dk_at dksX2_copyOf_0 0 rfl rfl)
theorem dX2_copyOf_1 : decode cX2_copyOf 1 = .ok (.istore_n 2, 1) := dk_61 (dk_at dksX2_copyOf_0 1 rfl rfl)
theorem dX2_copyOf_2 : decode cX2_copyOf 2 = .ok (.iload_n 2, 1) := dk_28 (dk_at dksX2_copyOf_0 2 rfl rfl)
theorem dX2_copyOf_3 : decode cX2_copyOf 3 = .ok (.iconst 4, 1) := dk_7 (dk_at dksX2_copyOf_0 3 rfl rfl)
theorem dX2_copyOf_4 : decode cX2_copyOf 4 = .ok (.if_icmp .ge 24, 3) := dk_162 0 24 (dk_at dksX2_copyOf_0 4 rfl rfl)
theorem dX2_copyOf_7 : decode cX2_copyOf 7 = .ok (.aload_n 0, 1) := dk_42 (dk_at dksX2_copyOf_0 7 rfl rfl)
theorem dX2_copyOf_8 : decode cX2_copyOf 8 = .ok (.getfield 12, 3) := dk_180 0 12 (dk_at dksX2_copyOf_0 8 rfl rfl)
theorem dX2_copyOf_11 : decode cX2_copyOf 11 = .ok (.iload_n 2, 1) := dk_28 (dk_at dksX2_copyOf_0 11 rfl rfl)
theorem dX2_copyOf_12 : decode cX2_copyOf 12 = .ok (.aaload, 1) := dk_50 (dk_at dksX2_copyOf_0 12 rfl rfl)
theorem dX2_copyOf_13 : decode cX2_copyOf 13 = .ok (.aload_n 1, 1) := dk_43 (dk_at dksX2_copyOf_0 13 rfl rfl)
theorem dX2_copyOf_14 : decode cX2_copyOf 14 = .ok (.getfield 12, 3) := dk_180 0 12 (dk_at dksX2_copyOf_0 14 rfl rfl)
theorem dX2_copyOf_17 : decode cX2_copyOf 17 = .ok (.iload_n 2, 1) := dk_28 (dk_at dksX2_copyOf_0 17 rfl rfl)
theorem dX2_copyOf_18 : decode cX2_copyOf 18 = .ok (.aaload, 1) := dk_50 (dk_at dksX2_copyOf_0 18 rfl rfl)
theorem dX2_copyOf_19 : decode cX2_copyOf 19 = .ok (.invokevirtual 59, 3) := dk_182 0 59 (dk_at dksX2_copyOf_0 19 rfl rfl)
theorem dX2_copyOf_22 : decode cX2_copyOf 22 = .ok (.iinc 2 1, 3) := dk_132 2 1 (dk_at dksX2_copyOf_1 0 rfl rfl)
theorem dX2_copyOf_25 : decode cX2_copyOf 25 = .ok (.goto (-23), 3) := dk_167 255 233 (dk_at dksX2_copyOf_1 3 rfl rfl)
theorem dX2_copyOf_28 : decode cX2_copyOf 28 = .ok (.aload_n 1, 1) := dk_43 (dk_at dksX2_copyOf_1 6 rfl rfl)
theorem dX2_copyOf_29 : decode cX2_copyOf 29 = .ok (.getfield 18, 3) := dk_180 0 18 (dk_at dksX2_copyOf_1 7 rfl rfl)
theorem dX2_copyOf_32 : decode cX2_copyOf 32 = .ok (.iconst 0, 1) := dk_3 (dk_at dksX2_copyOf_1 10 rfl rfl)
theorem dX2_copyOf_33 : decode cX2_copyOf 33 = .ok (.aload_n 0, 1) := dk_42 (dk_at dksX2_copyOf_1 11 rfl rfl)
theorem dX2_copyOf_34 : decode cX2_copyOf 34 = .ok (.getfield 18, 3) := dk_180 0 18 (dk_at dksX2_copyOf_1 12 rfl rfl)
theorem dX2_copyOf_37 : decode cX2_copyOf 37 = .ok (.iconst 0, 1) := dk_3 (dk_at dksX2_copyOf_1 15 rfl rfl)
theorem dX2_copyOf_38 : decode cX2_copyOf 38 = .ok (.bipush 8, 2) := dk_16 8 (dk_at dksX2_copyOf_1 16 rfl rfl)
theorem dX2_copyOf_40 : decode cX2_copyOf 40 = .ok (.invokestatic 63, 3) := dk_184 0 63 (dk_at dksX2_copyOf_1 18 rfl rfl)
theorem dX2_copyOf_43 : decode cX2_copyOf 43 = .ok (.aload_n 1, 1) := dk_43 (dk_at dksX2_copyOf_1 21 rfl rfl)
theorem dX2_copyOf_44 : decode cX2_copyOf 44 = .ok (.getfield 22, 3) := dk_180 0 22 (dk_at dksX2_copyOf_2 0 rfl rfl)
theorem dX2_copyOf_47 : decode cX2_copyOf 47 = .ok (.iconst 0, 1) := dk_3 (dk_at dksX2_copyOf_2 3 rfl rfl)
theorem dX2_copyOf_48 : decode cX2_copyOf 48 = .ok (.aload_n 0, 1) := dk_42 (dk_at dksX2_copyOf_2 4 rfl rfl)
theorem dX2_copyOf_49 : decode cX2_copyOf 49 = .ok (.getfield 22, 3) := dk_180 0 22 (dk_at dksX2_copyOf_2 5 rfl rfl)
theorem dX2_copyOf_52 : decode cX2_copyOf 52 = .ok (.iconst 0, 1) := dk_3 (dk_at dksX2_copyOf_2 8 rfl rfl)
theorem dX2_copyOf_53 : decode cX2_copyOf 53 = .ok (.bipush 8, 2) := dk_16 8 (dk_at dksX2_copyOf_2 9 rfl rfl)
theorem dX2_copyOf_55 : decode cX2_copyOf 55 = .ok (.invokestatic 63, 3) := dk_184 0 63 (dk_at dksX2_copyOf_2 11 rfl rfl)
theorem dX2_copyOf_58 : decode cX2_copyOf 58 = .ok (.aload_n 1, 1) := dk_43 (dk_at dksX2_copyOf_2 14 rfl rfl)
theorem dX2_copyOf_59 : decode cX2_copyOf 59 = .ok (.getfield 25, 3) := dk_180 0 25 (dk_at dksX2_copyOf_2 15 rfl rfl)
theorem dX2_copyOf_62 : decode cX2_copyOf 62 = .ok (.iconst 0, 1) := dk_3 (dk_at dksX2_copyOf_2 18 rfl rfl)
theorem dX2_copyOf_63 : decode cX2_copyOf 63 = .ok (.aload_n 0, 1) := dk_42 (dk_at dksX2_copyOf_2 19 rfl rfl)
theorem dX2_copyOf_64 : decode cX2_copyOf 64 = .ok (.getfield 25, 3) := dk_180 0 25 (dk_at dksX2_copyOf_2 20 rfl rfl)
theorem dX2_copyOf_67 : decode cX2_copyOf 67 = .ok (.iconst 0, 1) := dk_3 (dk_at dksX2_copyOf_2 23 rfl rfl)
theorem dX2_copyOf_68 : decode cX2_copyOf 68 = .ok (.bipush 12, 2) := dk_16 12 (dk_at dksX2_copyOf_3 0 rfl rfl)
theorem dX2_copyOf_70 : decode cX2_copyOf 70 = .ok (.invokestatic 63, 3) := dk_184 0 63 (dk_at dksX2_copyOf_3 2 rfl rfl)
theorem dX2_copyOf_73 : decode cX2_copyOf 73 = .ok (.aload_n 1, 1) := dk_43 (dk_at dksX2_copyOf_3 5 rfl rfl)
theorem dX2_copyOf_74 : decode cX2_copyOf 74 = .ok (.getfield 28, 3) := dk_180 0 28 (dk_at dksX2_copyOf_3 6 rfl rfl)
theorem dX2_copyOf_77 : decode cX2_copyOf 77 = .ok (.iconst 0, 1) := dk_3 (dk_at dksX2_copyOf_3 9 rfl rfl)
theorem dX2_copyOf_78 : decode cX2_copyOf 78 = .ok (.aload_n 0, 1) := dk_42 (dk_at dksX2_copyOf_3 10 rfl rfl)
theorem dX2_copyOf_79 : decode cX2_copyOf 79 = .ok (.getfield 28, 3) := dk_180 0 28 (dk_at dksX2_copyOf_3 11 rfl rfl)
theorem dX2_copyOf_82 : decode cX2_copyOf 82 = .ok (.iconst 0, 1) := dk_3 (dk_at dksX2_copyOf_3 14 rfl rfl)
theorem dX2_copyOf_83 : decode cX2_copyOf 83 = .ok (.bipush 12, 2) := dk_16 12 (dk_at dksX2_copyOf_3 15 rfl rfl)
theorem dX2_copyOf_85 : decode cX2_copyOf 85 = .ok (.invokestatic 63, 3) := dk_184 0 63 (dk_at dksX2_copyOf_3 17 rfl rfl)
theorem dX2_copyOf_88 : decode cX2_copyOf 88 = .ok (.aload_n 1, 1) := dk_43 (dk_at dksX2_copyOf_3 20 rfl rfl)
theorem dX2_copyOf_89 : decode cX2_copyOf 89 = .ok (.getfield 31, 3) := dk_180 0 31 (dk_at dksX2_copyOf_3 21 rfl rfl)
theorem dX2_copyOf_92 : decode cX2_copyOf 92 = .ok (.iconst 0, 1) := dk_3 (dk_at dksX2_copyOf_4 0 rfl rfl)
theorem dX2_copyOf_93 : decode cX2_copyOf 93 = .ok (.aload_n 0, 1) := dk_42 (dk_at dksX2_copyOf_4 1 rfl rfl)
theorem dX2_copyOf_94 : decode cX2_copyOf 94 = .ok (.getfield 31, 3) := dk_180 0 31 (dk_at dksX2_copyOf_4 2 rfl rfl)
theorem dX2_copyOf_97 : decode cX2_copyOf 97 = .ok (.iconst 0, 1) := dk_3 (dk_at dksX2_copyOf_4 5 rfl rfl)
theorem dX2_copyOf_98 : decode cX2_copyOf 98 = .ok (.bipush 12, 2) := dk_16 12 (dk_at dksX2_copyOf_4 6 rfl rfl)
theorem dX2_copyOf_100 : decode cX2_copyOf 100 = .ok (.invokestatic 63, 3) := dk_184 0 63 (dk_at dksX2_copyOf_4 8 rfl rfl)
theorem dX2_copyOf_103 : decode cX2_copyOf 103 = .ok (.aload_n 1, 1) := dk_43 (dk_at dksX2_copyOf_4 11 rfl rfl)
theorem dX2_copyOf_104 : decode cX2_copyOf 104 = .ok (.getfield 34, 3) := dk_180 0 34 (dk_at dksX2_copyOf_4 12 rfl rfl)
theorem dX2_copyOf_107 : decode cX2_copyOf 107 = .ok (.iconst 0, 1) := dk_3 (dk_at dksX2_copyOf_4 15 rfl rfl)
theorem dX2_copyOf_108 : decode cX2_copyOf 108 = .ok (.aload_n 0, 1) := dk_42 (dk_at dksX2_copyOf_4 16 rfl rfl)
theorem dX2_copyOf_109 : decode cX2_copyOf 109 = .ok (.getfield 34, 3) := dk_180 0 34 (dk_at dksX2_copyOf_4 17 rfl rfl)
theorem dX2_copyOf_112 : decode cX2_copyOf 112 = .ok (.iconst 0, 1) := dk_3 (dk_at dksX2_copyOf_4 20 rfl rfl)
theorem dX2_copyOf_113 : decode cX2_copyOf 113 = .ok (.bipush 12, 2) := dk_16 12 (dk_at dksX2_copyOf_4 21 rfl rfl)
theorem dX2_copyOf_115 : decode cX2_copyOf 115 = .ok (.invokestatic 63, 3) := dk_184 0 63 (dk_at dksX2_copyOf_5 0 rfl rfl)
theorem dX2_copyOf_118 : decode cX2_copyOf 118 = .ok (.aload_n 0, 1) := dk_42 (dk_at dksX2_copyOf_5 3 rfl rfl)
theorem dX2_copyOf_119 : decode cX2_copyOf 119 = .ok (.aload_n 1, 1) := dk_43 (dk_at dksX2_copyOf_5 4 rfl rfl)
theorem dX2_copyOf_120 : decode cX2_copyOf 120 = .ok (.getfield 47, 3) := dk_180 0 47 (dk_at dksX2_copyOf_5 5 rfl rfl)
theorem dX2_copyOf_123 : decode cX2_copyOf 123 = .ok (.putfield 47, 3) := dk_181 0 47 (dk_at dksX2_copyOf_5 8 rfl rfl)
theorem dX2_copyOf_126 : decode cX2_copyOf 126 = .ok (.aload_n 0, 1) := dk_42 (dk_at dksX2_copyOf_5 11 rfl rfl)
theorem dX2_copyOf_127 : decode cX2_copyOf 127 = .ok (.aload_n 1, 1) := dk_43 (dk_at dksX2_copyOf_5 12 rfl rfl)
theorem dX2_copyOf_128 : decode cX2_copyOf 128 = .ok (.getfield 50, 3) := dk_180 0 50 (dk_at dksX2_copyOf_5 13 rfl rfl)
theorem dX2_copyOf_131 : decode cX2_copyOf 131 = .ok (.putfield 50, 3) := dk_181 0 50 (dk_at dksX2_copyOf_5 16 rfl rfl)
theorem dX2_copyOf_134 : decode cX2_copyOf 134 = .ok (.aload_n 0, 1) := dk_42 (dk_at dksX2_copyOf_5 19 rfl rfl)
theorem dX2_copyOf_135 : decode cX2_copyOf 135 = .ok (.aload_n 1, 1) := dk_43 (dk_at dksX2_copyOf_5 20 rfl rfl)
theorem dX2_copyOf_136 : decode cX2_copyOf 136 = .ok (.getfield 53, 3) := dk_180 0 53 (dk_at dksX2_copyOf_5 21 rfl rfl)
theorem dX2_copyOf_139 : decode cX2_copyOf 139 = .ok (.putfield 53, 3) := dk_181 0 53 (dk_at dksX2_copyOf_6 0 rfl rfl)
theorem dX2_copyOf_142 : decode cX2_copyOf 142 = .ok (.aload_n 0, 1) := dk_42 (dk_at dksX2_copyOf_6 3 rfl rfl)
theorem dX2_copyOf_143 : decode cX2_copyOf 143 = .ok (.aload_n 1, 1) := dk_43 (dk_at dksX2_copyOf_6 4 rfl rfl)
theorem dX2_copyOf_144 : decode cX2_copyOf 144 = .ok (.getfield 56, 3) := dk_180 0 56 (dk_at dksX2_copyOf_6 5 rfl rfl)
theorem dX2_copyOf_147 : decode cX2_copyOf 147 = .ok (.putfield 56, 3) := dk_181 0 56 (dk_at dksX2_copyOf_6 8 rfl rfl)
theorem dX2_copyOf_150 : decode cX2_copyOf 150 = .ok (.return_, 1) := dk_177 (dk_at dksX2_copyOf_6 11 rfl rfl)
theorem q50 : (Jvm.Cond.initialized "SleeveSlips$Town") ∈ lw_all := lw_g (lw_at lw_m1 3 rfl) rfl
theorem q152 : (Jvm.Cond.instantiable "SleeveSlips$Town" (12 : Nat)) ∈ lw_all := lw_g (lw_at lw_m1 105 rfl) rfl
theorem q154 : (Jvm.Cond.instanceMethod ({ cls := "SleeveSlips$Town", name := "<init>", desc := "()V" } : Jvm.MethodName)) ∈ lw_all := lw_g (lw_at lw_m1 107 rfl) rfl
theorem q155 : (Jvm.Cond.code ({ cls := "SleeveSlips$Town", name := "<init>", desc := "()V" } : Jvm.MethodName) prog_11_method_1_code (1 : Nat) (Option.none : Option Jvm.ClassFile.FieldType)) ∈ lw_all := lw_g (lw_at lw_m1 108 rfl) rfl
theorem q156 : (Jvm.Cond.methodLink "SleeveSlips$Town" (3 : Nat) ({ cls := "java/lang/Object", name := "<init>", desc := "()V" } : Jvm.MethodName)) ∈ lw_all := lw_g (lw_at lw_m1 109 rfl) rfl
theorem q157 : (Jvm.Cond.classLink "SleeveSlips$Town" (9 : Nat) "SleeveSlips$Sleeve") ∈ lw_all := lw_g (lw_at lw_m1 110 rfl) rfl
theorem q160 : (Jvm.Cond.methodLinkNest "SleeveSlips$Town" (11 : Nat) ({ cls := "SleeveSlips$Sleeve", name := "<init>", desc := "()V" } : Jvm.MethodName) "SleeveSlips") ∈ lw_tbl := lw_at lw_m1 113 rfl
theorem q167 : (Jvm.Cond.fieldLinkNest "SleeveSlips$Town" (37 : Nat) "SleeveSlips$Sleeve" "many" "I" "SleeveSlips") ∈ lw_tbl := lw_at lw_m1 120 rfl
theorem q175 : (Jvm.Cond.fieldLink "SleeveSlips$Town" (12 : Nat) "SleeveSlips$Town" "sleeve" "[LSleeveSlips$Sleeve;") ∈ lw_all := lw_g (lw_at lw_m1 128 rfl) rfl
theorem q178 : (Jvm.Cond.fieldLink "SleeveSlips$Town" (18 : Nat) "SleeveSlips$Town" "became" "[I") ∈ lw_all := lw_g (lw_at lw_m1 131 rfl) rfl
theorem q180 : (Jvm.Cond.fieldLink "SleeveSlips$Town" (22 : Nat) "SleeveSlips$Town" "left" "[I") ∈ lw_all := lw_g (lw_at lw_m1 133 rfl) rfl
theorem q182 : (Jvm.Cond.fieldLink "SleeveSlips$Town" (25 : Nat) "SleeveSlips$Town" "what" "[I") ∈ lw_all := lw_g (lw_at lw_m1 135 rfl) rfl
theorem q184 : (Jvm.Cond.fieldLink "SleeveSlips$Town" (28 : Nat) "SleeveSlips$Town" "which" "[I") ∈ lw_all := lw_g (lw_at lw_m1 137 rfl) rfl
theorem q186 : (Jvm.Cond.fieldLink "SleeveSlips$Town" (31 : Nat) "SleeveSlips$Town" "whose" "[I") ∈ lw_all := lw_g (lw_at lw_m1 139 rfl) rfl
theorem q188 : (Jvm.Cond.fieldLink "SleeveSlips$Town" (34 : Nat) "SleeveSlips$Town" "place" "[I") ∈ lw_all := lw_g (lw_at lw_m1 141 rfl) rfl
theorem q190 : (Jvm.Cond.fieldLink "SleeveSlips$Town" (47 : Nat) "SleeveSlips$Town" "deeds" "I") ∈ lw_all := lw_g (lw_at lw_m1 143 rfl) rfl
theorem q193 : (Jvm.Cond.fieldLink "SleeveSlips$Town" (50 : Nat) "SleeveSlips$Town" "day" "I") ∈ lw_all := lw_g (lw_at lw_m1 146 rfl) rfl
theorem q195 : (Jvm.Cond.fieldLink "SleeveSlips$Town" (53 : Nat) "SleeveSlips$Town" "won" "I") ∈ lw_all := lw_g (lw_at lw_m1 148 rfl) rfl
theorem q197 : (Jvm.Cond.fieldLink "SleeveSlips$Town" (56 : Nat) "SleeveSlips$Town" "lost" "I") ∈ lw_all := lw_g (lw_at lw_m1 150 rfl) rfl
theorem q200 : (Jvm.Cond.laysFinal "SleeveSlips$Town" "SleeveSlips$Town" "sleeve" "[LSleeveSlips$Sleeve;") ∈ lw_all := lw_g (lw_at lw_m1 153 rfl) rfl
theorem q201 : (Jvm.Cond.soleField "SleeveSlips$Town" "sleeve") ∈ lw_all := lw_g (lw_at lw_m1 154 rfl) rfl
theorem q202 : (Jvm.Cond.laysFinal "SleeveSlips$Town" "SleeveSlips$Town" "became" "[I") ∈ lw_all := lw_g (lw_at lw_m1 155 rfl) rfl
theorem q203 : (Jvm.Cond.soleField "SleeveSlips$Town" "became") ∈ lw_all := lw_g (lw_at lw_m1 156 rfl) rfl
theorem q204 : (Jvm.Cond.laysFinal "SleeveSlips$Town" "SleeveSlips$Town" "left" "[I") ∈ lw_all := lw_g (lw_at lw_m1 157 rfl) rfl
theorem q205 : (Jvm.Cond.soleField "SleeveSlips$Town" "left") ∈ lw_all := lw_g (lw_at lw_m1 158 rfl) rfl
theorem q206 : (Jvm.Cond.laysFinal "SleeveSlips$Town" "SleeveSlips$Town" "what" "[I") ∈ lw_all := lw_g (lw_at lw_m1 159 rfl) rfl
theorem q207 : (Jvm.Cond.soleField "SleeveSlips$Town" "what") ∈ lw_all := lw_g (lw_at lw_m1 160 rfl) rfl
theorem q208 : (Jvm.Cond.laysFinal "SleeveSlips$Town" "SleeveSlips$Town" "which" "[I") ∈ lw_all := lw_g (lw_at lw_m1 161 rfl) rfl
theorem q209 : (Jvm.Cond.soleField "SleeveSlips$Town" "which") ∈ lw_all := lw_g (lw_at lw_m1 162 rfl) rfl
theorem q210 : (Jvm.Cond.laysFinal "SleeveSlips$Town" "SleeveSlips$Town" "whose" "[I") ∈ lw_all := lw_g (lw_at lw_m1 163 rfl) rfl
theorem q211 : (Jvm.Cond.soleField "SleeveSlips$Town" "whose") ∈ lw_all := lw_g (lw_at lw_m1 164 rfl) rfl
theorem q212 : (Jvm.Cond.laysFinal "SleeveSlips$Town" "SleeveSlips$Town" "place" "[I") ∈ lw_all := lw_g (lw_at lw_m1 165 rfl) rfl
theorem q213 : (Jvm.Cond.soleField "SleeveSlips$Town" "place") ∈ lw_all := lw_g (lw_at lw_m1 166 rfl) rfl
theorem q214 : (Jvm.Cond.lays "SleeveSlips$Town" "SleeveSlips$Town" "deeds" "I") ∈ lw_all := lw_g (lw_at lw_m1 167 rfl) rfl
theorem q215 : (Jvm.Cond.soleField "SleeveSlips$Town" "deeds") ∈ lw_all := lw_g (lw_at lw_m1 168 rfl) rfl
theorem q216 : (Jvm.Cond.lays "SleeveSlips$Town" "SleeveSlips$Town" "day" "I") ∈ lw_all := lw_g (lw_at lw_m1 169 rfl) rfl
theorem q217 : (Jvm.Cond.soleField "SleeveSlips$Town" "day") ∈ lw_all := lw_g (lw_at lw_m1 170 rfl) rfl
theorem q218 : (Jvm.Cond.lays "SleeveSlips$Town" "SleeveSlips$Town" "won" "I") ∈ lw_all := lw_g (lw_at lw_m1 171 rfl) rfl
theorem q219 : (Jvm.Cond.soleField "SleeveSlips$Town" "won") ∈ lw_all := lw_g (lw_at lw_m1 172 rfl) rfl
theorem q220 : (Jvm.Cond.lays "SleeveSlips$Town" "SleeveSlips$Town" "lost" "I") ∈ lw_all := lw_g (lw_at lw_m1 173 rfl) rfl
theorem q221 : (Jvm.Cond.soleField "SleeveSlips$Town" "lost") ∈ lw_all := lw_g (lw_at lw_m1 174 rfl) rfl
theorem q222 : (Jvm.Cond.lays "SleeveSlips$Town" "SleeveSlips$Town" "isKept" "Z") ∈ lw_all := lw_g (lw_at lw_m1 175 rfl) rfl
theorem q223 : (Jvm.Cond.soleField "SleeveSlips$Town" "isKept") ∈ lw_all := lw_g (lw_at lw_m1 176 rfl) rfl
theorem q224 : (Jvm.Cond.superclass "SleeveSlips$Town" "java/lang/Object") ∈ lw_all := lw_g (lw_at lw_m1 177 rfl) rfl
theorem q296 : (Jvm.Cond.instanceMethod ({ cls := "SleeveSlips$Town", name := "begin", desc := "()V" } : Jvm.MethodName)) ∈ lw_all := lw_g (lw_at lw_m2 9 rfl) rfl
theorem q297 : (Jvm.Cond.selects "SleeveSlips$Town" ({ cls := "SleeveSlips$Town", name := "begin", desc := "()V" } : Jvm.MethodName) ({ cls := "SleeveSlips$Town", name := "begin", desc := "()V" } : Jvm.MethodName)) ∈ lw_all := lw_g (lw_at lw_m2 10 rfl) rfl
theorem q298 : (Jvm.Cond.code ({ cls := "SleeveSlips$Town", name := "begin", desc := "()V" } : Jvm.MethodName) prog_11_method_2_code (5 : Nat) (Option.none : Option Jvm.ClassFile.FieldType)) ∈ lw_all := lw_g (lw_at lw_m2 11 rfl) rfl
theorem q299 : (Jvm.Cond.methodLink "SleeveSlips$Town" (41 : Nat) ({ cls := "java/util/Arrays", name := "fill", desc := "([II)V" } : Jvm.MethodName)) ∈ lw_all := lw_g (lw_at lw_m2 12 rfl) rfl
theorem q568 : (Jvm.Cond.instanceMethod ({ cls := "SleeveSlips$Town", name := "sleeveOf", desc := "(I)I" } : Jvm.MethodName)) ∈ lw_all := lw_g (lw_at lw_m3 41 rfl) rfl
theorem q569 : (Jvm.Cond.selects "SleeveSlips$Town" ({ cls := "SleeveSlips$Town", name := "sleeveOf", desc := "(I)I" } : Jvm.MethodName) ({ cls := "SleeveSlips$Town", name := "sleeveOf", desc := "(I)I" } : Jvm.MethodName)) ∈ lw_all := lw_g (lw_at lw_m3 42 rfl) rfl
theorem q570 : (Jvm.Cond.code ({ cls := "SleeveSlips$Town", name := "sleeveOf", desc := "(I)I" } : Jvm.MethodName) prog_11_method_4_code (4 : Nat) (Option.some Jvm.ClassFile.FieldType.int)) ∈ lw_all := lw_g (lw_at lw_m3 43 rfl) rfl
theorem q571 : (Jvm.Cond.methodLink "SleeveSlips$Town" (69 : Nat) ({ cls := "SleeveSlips$Sleeve", name := "placeOf", desc := "(I)I" } : Jvm.MethodName)) ∈ lw_all := lw_g (lw_at lw_m3 44 rfl) rfl
theorem q588 : (Jvm.Cond.instanceMethod ({ cls := "SleeveSlips$Town", name := "know", desc := "(IIII)V" } : Jvm.MethodName)) ∈ lw_all := lw_g (lw_at lw_m3 61 rfl) rfl
theorem q589 : (Jvm.Cond.selects "SleeveSlips$Town" ({ cls := "SleeveSlips$Town", name := "know", desc := "(IIII)V" } : Jvm.MethodName) ({ cls := "SleeveSlips$Town", name := "know", desc := "(IIII)V" } : Jvm.MethodName)) ∈ lw_all := lw_g (lw_at lw_m3 62 rfl) rfl
theorem q590 : (Jvm.Cond.code ({ cls := "SleeveSlips$Town", name := "know", desc := "(IIII)V" } : Jvm.MethodName) prog_11_method_6_code (5 : Nat) (Option.none : Option Jvm.ClassFile.FieldType)) ∈ lw_all := lw_g (lw_at lw_m3 63 rfl) rfl
theorem q591 : (Jvm.Cond.methodLink "SleeveSlips$Town" (63 : Nat) ({ cls := "java/lang/System", name := "arraycopy", desc := "(Ljava/lang/Object;ILjava/lang/Object;II)V" } : Jvm.MethodName)) ∈ lw_all := lw_g (lw_at lw_m3 64 rfl) rfl
theorem q607 : (Jvm.Cond.instanceMethod ({ cls := "SleeveSlips$Town", name := "goes", desc := "(II)V" } : Jvm.MethodName)) ∈ lw_all := lw_g (lw_at lw_m3 80 rfl) rfl
theorem q608 : (Jvm.Cond.selects "SleeveSlips$Town" ({ cls := "SleeveSlips$Town", name := "goes", desc := "(II)V" } : Jvm.MethodName) ({ cls := "SleeveSlips$Town", name := "goes", desc := "(II)V" } : Jvm.MethodName)) ∈ lw_all := lw_g (lw_at lw_m3 81 rfl) rfl
theorem q609 : (Jvm.Cond.code ({ cls := "SleeveSlips$Town", name := "goes", desc := "(II)V" } : Jvm.MethodName) prog_11_method_5_code (4 : Nat) (Option.none : Option Jvm.ClassFile.FieldType)) ∈ lw_all := lw_g (lw_at lw_m3 82 rfl) rfl
theorem q610 : (Jvm.Cond.methodLink "SleeveSlips$Town" (73 : Nat) ({ cls := "SleeveSlips$Town", name := "sleeveOf", desc := "(I)I" } : Jvm.MethodName)) ∈ lw_all := lw_g (lw_at lw_m3 83 rfl) rfl
theorem q611 : (Jvm.Cond.methodLink "SleeveSlips$Town" (76 : Nat) ({ cls := "SleeveSlips$Town", name := "know", desc := "(IIII)V" } : Jvm.MethodName)) ∈ lw_all := lw_g (lw_at lw_m3 84 rfl) rfl
theorem q612 : (Jvm.Cond.methodLink "SleeveSlips$Town" (80 : Nat) ({ cls := "SleeveSlips$Sleeve", name := "unpin", desc := "(I)V" } : Jvm.MethodName)) ∈ lw_all := lw_g (lw_at lw_m3 85 rfl) rfl
theorem q780 : (Jvm.Cond.instanceMethod ({ cls := "SleeveSlips$Town", name := "copyOf", desc := "(LSleeveSlips$Town;)V" } : Jvm.MethodName)) ∈ lw_all := lw_g (lw_at lw_m4 13 rfl) rfl
theorem q781 : (Jvm.Cond.selects "SleeveSlips$Town" ({ cls := "SleeveSlips$Town", name := "copyOf", desc := "(LSleeveSlips$Town;)V" } : Jvm.MethodName) ({ cls := "SleeveSlips$Town", name := "copyOf", desc := "(LSleeveSlips$Town;)V" } : Jvm.MethodName)) ∈ lw_all := lw_g (lw_at lw_m4 14 rfl) rfl
theorem q782 : (Jvm.Cond.code ({ cls := "SleeveSlips$Town", name := "copyOf", desc := "(LSleeveSlips$Town;)V" } : Jvm.MethodName) prog_11_method_3_code (3 : Nat) (Option.none : Option Jvm.ClassFile.FieldType)) ∈ lw_all := lw_g (lw_at lw_m4 15 rfl) rfl
theorem q783 : (Jvm.Cond.methodLink "SleeveSlips$Town" (59 : Nat) ({ cls := "SleeveSlips$Sleeve", name := "copyOf", desc := "(LSleeveSlips$Sleeve;)V" } : Jvm.MethodName)) ∈ lw_all := lw_g (lw_at lw_m4 16 rfl) rfl
theorem in_X2 : ∀ w ∈ wsX20, w ∈ lw_all := lw_in wsX20 [200, 202, 204, 206, 208, 210, 212, 214, 216, 218, 220, 222] (by decide +kernel) (by decide +kernel)

/-! SleeveSlips$Sleeve -/
set_option maxRecDepth 100000
def RX3 : String := "SleeveSlips$Sleeve"
def TX3 : u_T := fun k => match k with
  | 0 => ("SleeveSlips$Sleeve", "slip", "[I", true)
  | _ => ("SleeveSlips$Sleeve", "many", "I", false)
def tyX3 : Nat → FieldType := fun k => match k with
  | 0 => .array .int
  | _ => .int
abbrev wsX30 : List Cond := u_ws RX3 TX3 2
theorem nmX3 : ∀ a, a < 2 → ∀ b, b < 2 → a ≠ b → (TX3 a).2.1 ≠ (TX3 b).2.1 := by decide +kernel
theorem tyX3_ok : ∀ k, k < 2 → parseFieldDescriptor (TX3 k).2.2.1 = some (tyX3 k) := by decide +kernel
abbrev cX3_init : ByteArray := prog_9_method_1_code
def yX3_init : MethodName := ⟨RX3, "<init>", "()V"⟩
def dkwX3_init_0 : List UInt8 := [42, 183, 0, 3, 42, 8, 188, 10, 181, 0, 9, 177]
abbrev dktX3_init_0 : List UInt8 := dkwX3_init_0 ++ []
theorem dksX3_init_0 : cX3_init.data.toList.drop 0 = dktX3_init_0 := by decide +kernel
theorem dX3_init_0 : decode cX3_init 0 = .ok (.aload_n 0, 1) := dk_42 (dk_at dksX3_init_0 0 rfl rfl)
theorem dX3_init_1 : decode cX3_init 1 = .ok (.invokespecial 3, 3) := dk_183 0 3 (dk_at dksX3_init_0 1 rfl rfl)
theorem dX3_init_4 : decode cX3_init 4 = .ok (.aload_n 0, 1) := dk_42 (dk_at dksX3_init_0 4 rfl rfl)
theorem dX3_init_5 : decode cX3_init 5 = .ok (.iconst 5, 1) := dk_8 (dk_at dksX3_init_0 5 rfl rfl)
theorem dX3_init_6 : decode cX3_init 6 = .ok (.newarray .int, 2) := dk_188_10 (dk_at dksX3_init_0 6 rfl rfl)
theorem dX3_init_8 : decode cX3_init 8 = .ok (.putfield 9, 3) := dk_181 0 9 (dk_at dksX3_init_0 8 rfl rfl)
theorem dX3_init_11 : decode cX3_init 11 = .ok (.return_, 1) := dk_177 (dk_at dksX3_init_0 11 rfl rfl)
abbrev cX3_placeOf : ByteArray := prog_9_method_3_code
def yX3_placeOf : MethodName := ⟨RX3, "placeOf", "(I)I"⟩
def dkwX3_placeOf_1 : List UInt8 := [167, 0, 4, 28, 61, 132, 3, 1, 167, 255, 229, 28, 172]
abbrev dktX3_placeOf_1 : List UInt8 := dkwX3_placeOf_1 ++ []
def dkwX3_placeOf_0 : List UInt8 := [16, 247, 61, 3, 62, 29, 42, 180, 0, 21, 162, 0, 25, 42, 180, 0, 9, 29, 46, 27, 160, 0, 7, 29]
abbrev dktX3_placeOf_0 : List UInt8 := dkwX3_placeOf_0 ++ dktX3_placeOf_1
theorem dksX3_placeOf_0 : cX3_placeOf.data.toList.drop 0 = dktX3_placeOf_0 := by decide +kernel
theorem dksX3_placeOf_1 : cX3_placeOf.data.toList.drop 24 = dktX3_placeOf_1 := dk_seg dksX3_placeOf_0 24 rfl rfl
theorem dX3_placeOf_0 : decode cX3_placeOf 0 = .ok (.bipush (-9), 2) := dk_16 247 (dk_at dksX3_placeOf_0 0 rfl rfl)
theorem dX3_placeOf_2 : decode cX3_placeOf 2 = .ok (.istore_n 2, 1) := dk_61 (dk_at dksX3_placeOf_0 2 rfl rfl)
theorem dX3_placeOf_3 : decode cX3_placeOf 3 = .ok (.iconst 0, 1) := dk_3 (dk_at dksX3_placeOf_0 3 rfl rfl)
theorem dX3_placeOf_4 : decode cX3_placeOf 4 = .ok (.istore_n 3, 1) := dk_62 (dk_at dksX3_placeOf_0 4 rfl rfl)
theorem dX3_placeOf_5 : decode cX3_placeOf 5 = .ok (.iload_n 3, 1) := dk_29 (dk_at dksX3_placeOf_0 5 rfl rfl)
theorem dX3_placeOf_6 : decode cX3_placeOf 6 = .ok (.aload_n 0, 1) := dk_42 (dk_at dksX3_placeOf_0 6 rfl rfl)
theorem dX3_placeOf_7 : decode cX3_placeOf 7 = .ok (.getfield 21, 3) := dk_180 0 21 (dk_at dksX3_placeOf_0 7 rfl rfl)
theorem dX3_placeOf_10 : decode cX3_placeOf 10 = .ok (.if_icmp .ge 25, 3) := dk_162 0 25 (dk_at dksX3_placeOf_0 10 rfl rfl)
theorem dX3_placeOf_13 : decode cX3_placeOf 13 = .ok (.aload_n 0, 1) := dk_42 (dk_at dksX3_placeOf_0 13 rfl rfl)
theorem dX3_placeOf_14 : decode cX3_placeOf 14 = .ok (.getfield 9, 3) := dk_180 0 9 (dk_at dksX3_placeOf_0 14 rfl rfl)
theorem dX3_placeOf_17 : decode cX3_placeOf 17 = .ok (.iload_n 3, 1) := dk_29 (dk_at dksX3_placeOf_0 17 rfl rfl)
theorem dX3_placeOf_18 : decode cX3_placeOf 18 = .ok (.iaload, 1) := dk_46 (dk_at dksX3_placeOf_0 18 rfl rfl)
theorem dX3_placeOf_19 : decode cX3_placeOf 19 = .ok (.iload_n 1, 1) := dk_27 (dk_at dksX3_placeOf_0 19 rfl rfl)
theorem dX3_placeOf_20 : decode cX3_placeOf 20 = .ok (.if_icmp .ne 7, 3) := dk_160 0 7 (dk_at dksX3_placeOf_0 20 rfl rfl)
theorem dX3_placeOf_23 : decode cX3_placeOf 23 = .ok (.iload_n 3, 1) := dk_29 (dk_at dksX3_placeOf_0 23 rfl rfl)
theorem dX3_placeOf_24 : decode cX3_placeOf 24 = .ok (.goto 4, 3) := dk_167 0 4 (dk_at dksX3_placeOf_1 0 rfl rfl)
theorem dX3_placeOf_27 : decode cX3_placeOf 27 = .ok (.iload_n 2, 1) := dk_28 (dk_at dksX3_placeOf_1 3 rfl rfl)
theorem dX3_placeOf_28 : decode cX3_placeOf 28 = .ok (.istore_n 2, 1) := dk_61 (dk_at dksX3_placeOf_1 4 rfl rfl)
theorem dX3_placeOf_29 : decode cX3_placeOf 29 = .ok (.iinc 3 1, 3) := dk_132 3 1 (dk_at dksX3_placeOf_1 5 rfl rfl)
theorem dX3_placeOf_32 : decode cX3_placeOf 32 = .ok (.goto (-27), 3) := dk_167 255 229 (dk_at dksX3_placeOf_1 8 rfl rfl)
theorem dX3_placeOf_35 : decode cX3_placeOf 35 = .ok (.iload_n 2, 1) := dk_28 (dk_at dksX3_placeOf_1 11 rfl rfl)
theorem dX3_placeOf_36 : decode cX3_placeOf 36 = .ok (.ireturn, 1) := dk_172 (dk_at dksX3_placeOf_1 12 rfl rfl)
abbrev cX3_pin : ByteArray := prog_9_method_4_code
def yX3_pin : MethodName := ⟨RX3, "pin", "(II)V"⟩
def dkwX3_pin_1 : List UInt8 := [132, 3, 255, 167, 255, 234, 42, 180, 0, 9, 28, 27, 79, 42, 89, 180, 0, 21, 4, 96, 181, 0, 21, 177]
abbrev dktX3_pin_1 : List UInt8 := dkwX3_pin_1 ++ []
def dkwX3_pin_0 : List UInt8 := [42, 180, 0, 21, 62, 29, 28, 164, 0, 23, 42, 180, 0, 9, 29, 42, 180, 0, 9, 29, 4, 100, 46, 79]
abbrev dktX3_pin_0 : List UInt8 := dkwX3_pin_0 ++ dktX3_pin_1
theorem dksX3_pin_0 : cX3_pin.data.toList.drop 0 = dktX3_pin_0 := by decide +kernel
theorem dksX3_pin_1 : cX3_pin.data.toList.drop 24 = dktX3_pin_1 := dk_seg dksX3_pin_0 24 rfl rfl
theorem dX3_pin_0 : decode cX3_pin 0 = .ok (.aload_n 0, 1) := dk_42 (dk_at dksX3_pin_0 0 rfl rfl)
theorem dX3_pin_1 : decode cX3_pin 1 = .ok (.getfield 21, 3) := dk_180 0 21 (dk_at dksX3_pin_0 1 rfl rfl)
theorem dX3_pin_4 : decode cX3_pin 4 = .ok (.istore_n 3, 1) := dk_62 (dk_at dksX3_pin_0 4 rfl rfl)
theorem dX3_pin_5 : decode cX3_pin 5 = .ok (.iload_n 3, 1) := dk_29 (dk_at dksX3_pin_0 5 rfl rfl)
theorem dX3_pin_6 : decode cX3_pin 6 = .ok (.iload_n 2, 1) := dk_28 (dk_at dksX3_pin_0 6 rfl rfl)
theorem dX3_pin_7 : decode cX3_pin 7 = .ok (.if_icmp .le 23, 3) := dk_164 0 23 (dk_at dksX3_pin_0 7 rfl rfl)
theorem dX3_pin_10 : decode cX3_pin 10 = .ok (.aload_n 0, 1) := dk_42 (dk_at dksX3_pin_0 10 rfl rfl)
theorem dX3_pin_11 : decode cX3_pin 11 = .ok (.getfield 9, 3) := dk_180 0 9 (dk_at dksX3_pin_0 11 rfl rfl)
theorem dX3_pin_14 : decode cX3_pin 14 = .ok (.iload_n 3, 1) := dk_29 (dk_at dksX3_pin_0 14 rfl rfl)
theorem dX3_pin_15 : decode cX3_pin 15 = .ok (.aload_n 0, 1) := dk_42 (dk_at dksX3_pin_0 15 rfl rfl)
theorem dX3_pin_16 : decode cX3_pin 16 = .ok (.getfield 9, 3) := dk_180 0 9 (dk_at dksX3_pin_0 16 rfl rfl)
theorem dX3_pin_19 : decode cX3_pin 19 = .ok (.iload_n 3, 1) := dk_29 (dk_at dksX3_pin_0 19 rfl rfl)
theorem dX3_pin_20 : decode cX3_pin 20 = .ok (.iconst 1, 1) := dk_4 (dk_at dksX3_pin_0 20 rfl rfl)
theorem dX3_pin_21 : decode cX3_pin 21 = .ok (.isub, 1) := dk_100 (dk_at dksX3_pin_0 21 rfl rfl)
theorem dX3_pin_22 : decode cX3_pin 22 = .ok (.iaload, 1) := dk_46 (dk_at dksX3_pin_0 22 rfl rfl)
theorem dX3_pin_23 : decode cX3_pin 23 = .ok (.iastore, 1) := dk_79 (dk_at dksX3_pin_0 23 rfl rfl)
theorem dX3_pin_24 : decode cX3_pin 24 = .ok (.iinc 3 (-1), 3) := dk_132 3 255 (dk_at dksX3_pin_1 0 rfl rfl)
theorem dX3_pin_27 : decode cX3_pin 27 = .ok (.goto (-22), 3) := dk_167 255 234 (dk_at dksX3_pin_1 3 rfl rfl)
theorem dX3_pin_30 : decode cX3_pin 30 = .ok (.aload_n 0, 1) := dk_42 (dk_at dksX3_pin_1 6 rfl rfl)
theorem dX3_pin_31 : decode cX3_pin 31 = .ok (.getfield 9, 3) := dk_180 0 9 (dk_at dksX3_pin_1 7 rfl rfl)
theorem dX3_pin_34 : decode cX3_pin 34 = .ok (.iload_n 2, 1) := dk_28 (dk_at dksX3_pin_1 10 rfl rfl)
theorem dX3_pin_35 : decode cX3_pin 35 = .ok (.iload_n 1, 1) := dk_27 (dk_at dksX3_pin_1 11 rfl rfl)
theorem dX3_pin_36 : decode cX3_pin 36 = .ok (.iastore, 1) := dk_79 (dk_at dksX3_pin_1 12 rfl rfl)
theorem dX3_pin_37 : decode cX3_pin 37 = .ok (.aload_n 0, 1) := dk_42 (dk_at dksX3_pin_1 13 rfl rfl)
theorem dX3_pin_38 : decode cX3_pin 38 = .ok (.dup, 1) := dk_89 (dk_at dksX3_pin_1 14 rfl rfl)
theorem dX3_pin_39 : decode cX3_pin 39 = .ok (.getfield 21, 3) := dk_180 0 21 (dk_at dksX3_pin_1 15 rfl rfl)
theorem dX3_pin_42 : decode cX3_pin 42 = .ok (.iconst 1, 1) := dk_4 (dk_at dksX3_pin_1 18 rfl rfl)
theorem dX3_pin_43 : decode cX3_pin 43 = .ok (.iadd, 1) := dk_96 (dk_at dksX3_pin_1 19 rfl rfl)
theorem dX3_pin_44 : decode cX3_pin 44 = .ok (.putfield 21, 3) := dk_181 0 21 (dk_at dksX3_pin_1 20 rfl rfl)
theorem dX3_pin_47 : decode cX3_pin 47 = .ok (.return_, 1) := dk_177 (dk_at dksX3_pin_1 23 rfl rfl)
abbrev cX3_unpin : ByteArray := prog_9_method_5_code
def yX3_unpin : MethodName := ⟨RX3, "unpin", "(I)V"⟩
def dkwX3_unpin_1 : List UInt8 := [28, 42, 180, 0, 9, 28, 4, 96, 46, 79, 132, 2, 1, 167, 255, 231, 177]
abbrev dktX3_unpin_1 : List UInt8 := dkwX3_unpin_1 ++ []
def dkwX3_unpin_0 : List UInt8 := [42, 89, 180, 0, 21, 4, 100, 181, 0, 21, 27, 61, 28, 42, 180, 0, 21, 162, 0, 23, 42, 180, 0, 9]
abbrev dktX3_unpin_0 : List UInt8 := dkwX3_unpin_0 ++ dktX3_unpin_1
theorem dksX3_unpin_0 : cX3_unpin.data.toList.drop 0 = dktX3_unpin_0 := by decide +kernel
theorem dksX3_unpin_1 : cX3_unpin.data.toList.drop 24 = dktX3_unpin_1 := dk_seg dksX3_unpin_0 24 rfl rfl
theorem dX3_unpin_0 : decode cX3_unpin 0 = .ok (.aload_n 0, 1) := dk_42 (dk_at dksX3_unpin_0 0 rfl rfl)
theorem dX3_unpin_1 : decode cX3_unpin 1 = .ok (.dup, 1) := dk_89 (dk_at dksX3_unpin_0 1 rfl rfl)
theorem dX3_unpin_2 : decode cX3_unpin 2 = .ok (.getfield 21, 3) := dk_180 0 21 (dk_at dksX3_unpin_0 2 rfl rfl)
theorem dX3_unpin_5 : decode cX3_unpin 5 = .ok (.iconst 1, 1) := dk_4 (dk_at dksX3_unpin_0 5 rfl rfl)
theorem dX3_unpin_6 : decode cX3_unpin 6 = .ok (.isub, 1) := dk_100 (dk_at dksX3_unpin_0 6 rfl rfl)
theorem dX3_unpin_7 : decode cX3_unpin 7 = .ok (.putfield 21, 3) := dk_181 0 21 (dk_at dksX3_unpin_0 7 rfl rfl)
theorem dX3_unpin_10 : decode cX3_unpin 10 = .ok (.iload_n 1, 1) := dk_27 (dk_at dksX3_unpin_0 10 rfl rfl)
theorem dX3_unpin_11 : decode cX3_unpin 11 = .ok (.istore_n 2, 1) := dk_61 (dk_at dksX3_unpin_0 11 rfl rfl)
theorem dX3_unpin_12 : decode cX3_unpin 12 = .ok (.iload_n 2, 1) := dk_28 (dk_at dksX3_unpin_0 12 rfl rfl)
theorem dX3_unpin_13 : decode cX3_unpin 13 = .ok (.aload_n 0, 1) := dk_42 (dk_at dksX3_unpin_0 13 rfl rfl)
theorem dX3_unpin_14 : decode cX3_unpin 14 = .ok (.getfield 21, 3) := dk_180 0 21 (dk_at dksX3_unpin_0 14 rfl rfl)
theorem dX3_unpin_17 : decode cX3_unpin 17 = .ok (.if_icmp .ge 23, 3) := dk_162 0 23 (dk_at dksX3_unpin_0 17 rfl rfl)
theorem dX3_unpin_20 : decode cX3_unpin 20 = .ok (.aload_n 0, 1) := dk_42 (dk_at dksX3_unpin_0 20 rfl rfl)
theorem dX3_unpin_21 : decode cX3_unpin 21 = .ok (.getfield 9, 3) := dk_180 0 9 (dk_at dksX3_unpin_0 21 rfl rfl)
theorem dX3_unpin_24 : decode cX3_unpin 24 = .ok (.iload_n 2, 1) := dk_28 (dk_at dksX3_unpin_1 0 rfl rfl)
theorem dX3_unpin_25 : decode cX3_unpin 25 = .ok (.aload_n 0, 1) := dk_42 (dk_at dksX3_unpin_1 1 rfl rfl)
theorem dX3_unpin_26 : decode cX3_unpin 26 = .ok (.getfield 9, 3) := dk_180 0 9 (dk_at dksX3_unpin_1 2 rfl rfl)
theorem dX3_unpin_29 : decode cX3_unpin 29 = .ok (.iload_n 2, 1) := dk_28 (dk_at dksX3_unpin_1 5 rfl rfl)
theorem dX3_unpin_30 : decode cX3_unpin 30 = .ok (.iconst 1, 1) := dk_4 (dk_at dksX3_unpin_1 6 rfl rfl)
theorem dX3_unpin_31 : decode cX3_unpin 31 = .ok (.iadd, 1) := dk_96 (dk_at dksX3_unpin_1 7 rfl rfl)
theorem dX3_unpin_32 : decode cX3_unpin 32 = .ok (.iaload, 1) := dk_46 (dk_at dksX3_unpin_1 8 rfl rfl)
theorem dX3_unpin_33 : decode cX3_unpin 33 = .ok (.iastore, 1) := dk_79 (dk_at dksX3_unpin_1 9 rfl rfl)
theorem dX3_unpin_34 : decode cX3_unpin 34 = .ok (.iinc 2 1, 3) := dk_132 2 1 (dk_at dksX3_unpin_1 10 rfl rfl)
theorem dX3_unpin_37 : decode cX3_unpin 37 = .ok (.goto (-25), 3) := dk_167 255 231 (dk_at dksX3_unpin_1 13 rfl rfl)
theorem dX3_unpin_40 : decode cX3_unpin 40 = .ok (.return_, 1) := dk_177 (dk_at dksX3_unpin_1 16 rfl rfl)
abbrev cX3_copyOf : ByteArray := prog_9_method_2_code
def yX3_copyOf : MethodName := ⟨RX3, "copyOf", "(LSleeveSlips$Sleeve;)V"⟩
def dkwX3_copyOf_0 : List UInt8 := [43, 180, 0, 9, 3, 42, 180, 0, 9, 3, 8, 184, 0, 15, 42, 43, 180, 0, 21, 181, 0, 21, 177]
abbrev dktX3_copyOf_0 : List UInt8 := dkwX3_copyOf_0 ++ []
theorem dksX3_copyOf_0 : cX3_copyOf.data.toList.drop 0 = dktX3_copyOf_0 := by decide +kernel
theorem dX3_copyOf_0 : decode cX3_copyOf 0 = .ok (.aload_n 1, 1) := dk_43 (dk_at dksX3_copyOf_0 0 rfl rfl)
theorem dX3_copyOf_1 : decode cX3_copyOf 1 = .ok (.getfield 9, 3) := dk_180 0 9 (dk_at dksX3_copyOf_0 1 rfl rfl)
theorem dX3_copyOf_4 : decode cX3_copyOf 4 = .ok (.iconst 0, 1) := dk_3 (dk_at dksX3_copyOf_0 4 rfl rfl)
theorem dX3_copyOf_5 : decode cX3_copyOf 5 = .ok (.aload_n 0, 1) := dk_42 (dk_at dksX3_copyOf_0 5 rfl rfl)
theorem dX3_copyOf_6 : decode cX3_copyOf 6 = .ok (.getfield 9, 3) := dk_180 0 9 (dk_at dksX3_copyOf_0 6 rfl rfl)
theorem dX3_copyOf_9 : decode cX3_copyOf 9 = .ok (.iconst 0, 1) := dk_3 (dk_at dksX3_copyOf_0 9 rfl rfl)
theorem dX3_copyOf_10 : decode cX3_copyOf 10 = .ok (.iconst 5, 1) := dk_8 (dk_at dksX3_copyOf_0 10 rfl rfl)
theorem dX3_copyOf_11 : decode cX3_copyOf 11 = .ok (.invokestatic 15, 3) := dk_184 0 15 (dk_at dksX3_copyOf_0 11 rfl rfl)
theorem dX3_copyOf_14 : decode cX3_copyOf 14 = .ok (.aload_n 0, 1) := dk_42 (dk_at dksX3_copyOf_0 14 rfl rfl)
theorem dX3_copyOf_15 : decode cX3_copyOf 15 = .ok (.aload_n 1, 1) := dk_43 (dk_at dksX3_copyOf_0 15 rfl rfl)
theorem dX3_copyOf_16 : decode cX3_copyOf 16 = .ok (.getfield 21, 3) := dk_180 0 21 (dk_at dksX3_copyOf_0 16 rfl rfl)
theorem dX3_copyOf_19 : decode cX3_copyOf 19 = .ok (.putfield 21, 3) := dk_181 0 21 (dk_at dksX3_copyOf_0 19 rfl rfl)
theorem dX3_copyOf_22 : decode cX3_copyOf 22 = .ok (.return_, 1) := dk_177 (dk_at dksX3_copyOf_0 22 rfl rfl)
theorem q51 : (Jvm.Cond.initialized "SleeveSlips$Sleeve") ∈ lw_all := lw_g (lw_at lw_m1 4 rfl) rfl
theorem q159 : (Jvm.Cond.instantiable "SleeveSlips$Sleeve" (2 : Nat)) ∈ lw_all := lw_g (lw_at lw_m1 112 rfl) rfl
theorem q161 : (Jvm.Cond.instanceMethod ({ cls := "SleeveSlips$Sleeve", name := "<init>", desc := "()V" } : Jvm.MethodName)) ∈ lw_all := lw_g (lw_at lw_m1 114 rfl) rfl
theorem q162 : (Jvm.Cond.code ({ cls := "SleeveSlips$Sleeve", name := "<init>", desc := "()V" } : Jvm.MethodName) prog_9_method_1_code (1 : Nat) (Option.none : Option Jvm.ClassFile.FieldType)) ∈ lw_all := lw_g (lw_at lw_m1 115 rfl) rfl
theorem q163 : (Jvm.Cond.methodLink "SleeveSlips$Sleeve" (3 : Nat) ({ cls := "java/lang/Object", name := "<init>", desc := "()V" } : Jvm.MethodName)) ∈ lw_all := lw_g (lw_at lw_m1 116 rfl) rfl
theorem q164 : (Jvm.Cond.fieldLink "SleeveSlips$Sleeve" (9 : Nat) "SleeveSlips$Sleeve" "slip" "[I") ∈ lw_all := lw_g (lw_at lw_m1 117 rfl) rfl
theorem q166 : (Jvm.Cond.fieldLink "SleeveSlips$Sleeve" (21 : Nat) "SleeveSlips$Sleeve" "many" "I") ∈ lw_all := lw_g (lw_at lw_m1 119 rfl) rfl
theorem q170 : (Jvm.Cond.laysFinal "SleeveSlips$Sleeve" "SleeveSlips$Sleeve" "slip" "[I") ∈ lw_all := lw_g (lw_at lw_m1 123 rfl) rfl
theorem q171 : (Jvm.Cond.soleField "SleeveSlips$Sleeve" "slip") ∈ lw_all := lw_g (lw_at lw_m1 124 rfl) rfl
theorem q172 : (Jvm.Cond.lays "SleeveSlips$Sleeve" "SleeveSlips$Sleeve" "many" "I") ∈ lw_all := lw_g (lw_at lw_m1 125 rfl) rfl
theorem q173 : (Jvm.Cond.soleField "SleeveSlips$Sleeve" "many") ∈ lw_all := lw_g (lw_at lw_m1 126 rfl) rfl
theorem q174 : (Jvm.Cond.superclass "SleeveSlips$Sleeve" "java/lang/Object") ∈ lw_all := lw_g (lw_at lw_m1 127 rfl) rfl
theorem q572 : (Jvm.Cond.instanceMethod ({ cls := "SleeveSlips$Sleeve", name := "placeOf", desc := "(I)I" } : Jvm.MethodName)) ∈ lw_all := lw_g (lw_at lw_m3 45 rfl) rfl
theorem q573 : (Jvm.Cond.selects "SleeveSlips$Sleeve" ({ cls := "SleeveSlips$Sleeve", name := "placeOf", desc := "(I)I" } : Jvm.MethodName) ({ cls := "SleeveSlips$Sleeve", name := "placeOf", desc := "(I)I" } : Jvm.MethodName)) ∈ lw_all := lw_g (lw_at lw_m3 46 rfl) rfl
theorem q574 : (Jvm.Cond.code ({ cls := "SleeveSlips$Sleeve", name := "placeOf", desc := "(I)I" } : Jvm.MethodName) prog_9_method_3_code (4 : Nat) (Option.some Jvm.ClassFile.FieldType.int)) ∈ lw_all := lw_g (lw_at lw_m3 47 rfl) rfl
theorem q595 : (Jvm.Cond.instanceMethod ({ cls := "SleeveSlips$Sleeve", name := "pin", desc := "(II)V" } : Jvm.MethodName)) ∈ lw_all := lw_g (lw_at lw_m3 68 rfl) rfl
theorem q596 : (Jvm.Cond.selects "SleeveSlips$Sleeve" ({ cls := "SleeveSlips$Sleeve", name := "pin", desc := "(II)V" } : Jvm.MethodName) ({ cls := "SleeveSlips$Sleeve", name := "pin", desc := "(II)V" } : Jvm.MethodName)) ∈ lw_all := lw_g (lw_at lw_m3 69 rfl) rfl
theorem q597 : (Jvm.Cond.code ({ cls := "SleeveSlips$Sleeve", name := "pin", desc := "(II)V" } : Jvm.MethodName) prog_9_method_4_code (4 : Nat) (Option.none : Option Jvm.ClassFile.FieldType)) ∈ lw_all := lw_g (lw_at lw_m3 70 rfl) rfl
theorem q613 : (Jvm.Cond.instanceMethod ({ cls := "SleeveSlips$Sleeve", name := "unpin", desc := "(I)V" } : Jvm.MethodName)) ∈ lw_all := lw_g (lw_at lw_m3 86 rfl) rfl
theorem q614 : (Jvm.Cond.selects "SleeveSlips$Sleeve" ({ cls := "SleeveSlips$Sleeve", name := "unpin", desc := "(I)V" } : Jvm.MethodName) ({ cls := "SleeveSlips$Sleeve", name := "unpin", desc := "(I)V" } : Jvm.MethodName)) ∈ lw_all := lw_g (lw_at lw_m3 87 rfl) rfl
theorem q615 : (Jvm.Cond.code ({ cls := "SleeveSlips$Sleeve", name := "unpin", desc := "(I)V" } : Jvm.MethodName) prog_9_method_5_code (3 : Nat) (Option.none : Option Jvm.ClassFile.FieldType)) ∈ lw_all := lw_g (lw_at lw_m3 88 rfl) rfl
theorem q784 : (Jvm.Cond.instanceMethod ({ cls := "SleeveSlips$Sleeve", name := "copyOf", desc := "(LSleeveSlips$Sleeve;)V" } : Jvm.MethodName)) ∈ lw_all := lw_g (lw_at lw_m4 17 rfl) rfl
theorem q785 : (Jvm.Cond.selects "SleeveSlips$Sleeve" ({ cls := "SleeveSlips$Sleeve", name := "copyOf", desc := "(LSleeveSlips$Sleeve;)V" } : Jvm.MethodName) ({ cls := "SleeveSlips$Sleeve", name := "copyOf", desc := "(LSleeveSlips$Sleeve;)V" } : Jvm.MethodName)) ∈ lw_all := lw_g (lw_at lw_m4 18 rfl) rfl
theorem q786 : (Jvm.Cond.code ({ cls := "SleeveSlips$Sleeve", name := "copyOf", desc := "(LSleeveSlips$Sleeve;)V" } : Jvm.MethodName) prog_9_method_2_code (2 : Nat) (Option.none : Option Jvm.ClassFile.FieldType)) ∈ lw_all := lw_g (lw_at lw_m4 19 rfl) rfl
theorem q787 : (Jvm.Cond.methodLink "SleeveSlips$Sleeve" (15 : Nat) ({ cls := "java/lang/System", name := "arraycopy", desc := "(Ljava/lang/Object;ILjava/lang/Object;II)V" } : Jvm.MethodName)) ∈ lw_all := lw_g (lw_at lw_m4 20 rfl) rfl
theorem in_X3 : ∀ w ∈ wsX30, w ∈ lw_all := lw_in wsX30 [170, 172] (by decide +kernel) (by decide +kernel)

/-! SleeveSlips$Person -/
set_option maxRecDepth 100000
def RX4 : String := "SleeveSlips$Person"
def TX4 : u_T := fun k => match k with
  | _ => ("SleeveSlips$Person", "this$0", "LSleeveSlips;", true)
def tyX4 : Nat → FieldType := fun k => match k with
  | _ => .object "SleeveSlips"
abbrev wsX40 : List Cond := u_ws RX4 TX4 1
theorem nmX4 : ∀ a, a < 1 → ∀ b, b < 1 → a ≠ b → (TX4 a).2.1 ≠ (TX4 b).2.1 := by decide +kernel
theorem tyX4_ok : ∀ k, k < 1 → parseFieldDescriptor (TX4 k).2.2.1 = some (tyX4 k) := by decide +kernel
abbrev cX4_init : ByteArray := prog_6_method_1_code
def yX4_init : MethodName := ⟨RX4, "<init>", "(LSleeveSlips;)V"⟩
def dkwX4_init_0 : List UInt8 := [42, 43, 181, 0, 1, 42, 183, 0, 7, 177]
abbrev dktX4_init_0 : List UInt8 := dkwX4_init_0 ++ []
theorem dksX4_init_0 : cX4_init.data.toList.drop 0 = dktX4_init_0 := by decide +kernel
theorem dX4_init_0 : decode cX4_init 0 = .ok (.aload_n 0, 1) := dk_42 (dk_at dksX4_init_0 0 rfl rfl)
theorem dX4_init_1 : decode cX4_init 1 = .ok (.aload_n 1, 1) := dk_43 (dk_at dksX4_init_0 1 rfl rfl)
theorem dX4_init_2 : decode cX4_init 2 = .ok (.putfield 1, 3) := dk_181 0 1 (dk_at dksX4_init_0 2 rfl rfl)
theorem dX4_init_5 : decode cX4_init 5 = .ok (.aload_n 0, 1) := dk_42 (dk_at dksX4_init_0 5 rfl rfl)
theorem dX4_init_6 : decode cX4_init 6 = .ok (.invokespecial 7, 3) := dk_183 0 7 (dk_at dksX4_init_0 6 rfl rfl)
theorem dX4_init_9 : decode cX4_init 9 = .ok (.return_, 1) := dk_177 (dk_at dksX4_init_0 9 rfl rfl)
abbrev cX4_rate : ByteArray := prog_6_method_2_code
def yX4_rate : MethodName := ⟨RX4, "rate", "(I)I"⟩
def dkwX4_rate_1 : List UInt8 := [46, 42, 180, 0, 1, 180, 0, 29, 180, 0, 33, 27, 50, 180, 0, 39, 100, 172]
abbrev dktX4_rate_1 : List UInt8 := dkwX4_rate_1 ++ []
def dkwX4_rate_0 : List UInt8 := [42, 180, 0, 1, 89, 180, 0, 13, 10, 97, 181, 0, 13, 42, 180, 0, 1, 180, 0, 19, 180, 0, 23, 27]
abbrev dktX4_rate_0 : List UInt8 := dkwX4_rate_0 ++ dktX4_rate_1
theorem dksX4_rate_0 : cX4_rate.data.toList.drop 0 = dktX4_rate_0 := by decide +kernel
theorem dksX4_rate_1 : cX4_rate.data.toList.drop 24 = dktX4_rate_1 := dk_seg dksX4_rate_0 24 rfl rfl
theorem dX4_rate_0 : decode cX4_rate 0 = .ok (.aload_n 0, 1) := dk_42 (dk_at dksX4_rate_0 0 rfl rfl)
theorem dX4_rate_1 : decode cX4_rate 1 = .ok (.getfield 1, 3) := dk_180 0 1 (dk_at dksX4_rate_0 1 rfl rfl)
theorem dX4_rate_4 : decode cX4_rate 4 = .ok (.dup, 1) := dk_89 (dk_at dksX4_rate_0 4 rfl rfl)
theorem dX4_rate_5 : decode cX4_rate 5 = .ok (.getfield 13, 3) := dk_180 0 13 (dk_at dksX4_rate_0 5 rfl rfl)
theorem dX4_rate_8 : decode cX4_rate 8 = .ok (.lconst 1, 1) := dk_10 (dk_at dksX4_rate_0 8 rfl rfl)
theorem dX4_rate_9 : decode cX4_rate 9 = .ok (.ladd, 1) := dk_97 (dk_at dksX4_rate_0 9 rfl rfl)
theorem dX4_rate_10 : decode cX4_rate 10 = .ok (.putfield 13, 3) := dk_181 0 13 (dk_at dksX4_rate_0 10 rfl rfl)
theorem dX4_rate_13 : decode cX4_rate 13 = .ok (.aload_n 0, 1) := dk_42 (dk_at dksX4_rate_0 13 rfl rfl)
theorem dX4_rate_14 : decode cX4_rate 14 = .ok (.getfield 1, 3) := dk_180 0 1 (dk_at dksX4_rate_0 14 rfl rfl)
theorem dX4_rate_17 : decode cX4_rate 17 = .ok (.getfield 19, 3) := dk_180 0 19 (dk_at dksX4_rate_0 17 rfl rfl)
theorem dX4_rate_20 : decode cX4_rate 20 = .ok (.getfield 23, 3) := dk_180 0 23 (dk_at dksX4_rate_0 20 rfl rfl)
theorem dX4_rate_23 : decode cX4_rate 23 = .ok (.iload_n 1, 1) := dk_27 (dk_at dksX4_rate_0 23 rfl rfl)
theorem dX4_rate_24 : decode cX4_rate 24 = .ok (.iaload, 1) := dk_46 (dk_at dksX4_rate_1 0 rfl rfl)
theorem dX4_rate_25 : decode cX4_rate 25 = .ok (.aload_n 0, 1) := dk_42 (dk_at dksX4_rate_1 1 rfl rfl)
theorem dX4_rate_26 : decode cX4_rate 26 = .ok (.getfield 1, 3) := dk_180 0 1 (dk_at dksX4_rate_1 2 rfl rfl)
theorem dX4_rate_29 : decode cX4_rate 29 = .ok (.getfield 29, 3) := dk_180 0 29 (dk_at dksX4_rate_1 5 rfl rfl)
theorem dX4_rate_32 : decode cX4_rate 32 = .ok (.getfield 33, 3) := dk_180 0 33 (dk_at dksX4_rate_1 8 rfl rfl)
theorem dX4_rate_35 : decode cX4_rate 35 = .ok (.iload_n 1, 1) := dk_27 (dk_at dksX4_rate_1 11 rfl rfl)
theorem dX4_rate_36 : decode cX4_rate 36 = .ok (.aaload, 1) := dk_50 (dk_at dksX4_rate_1 12 rfl rfl)
theorem dX4_rate_37 : decode cX4_rate 37 = .ok (.getfield 39, 3) := dk_180 0 39 (dk_at dksX4_rate_1 13 rfl rfl)
theorem dX4_rate_40 : decode cX4_rate 40 = .ok (.isub, 1) := dk_100 (dk_at dksX4_rate_1 16 rfl rfl)
theorem dX4_rate_41 : decode cX4_rate 41 = .ok (.ireturn, 1) := dk_172 (dk_at dksX4_rate_1 17 rfl rfl)
theorem q52 : (Jvm.Cond.initialized "SleeveSlips$Person") ∈ lw_all := lw_g (lw_at lw_m1 5 rfl) rfl
theorem q87 : (Jvm.Cond.fieldLinkNest "SleeveSlips$Person" (23 : Nat) "SleeveSlips$Book" "room" "[I" "SleeveSlips") ∈ lw_tbl := lw_at lw_m1 40 rfl
theorem q168 : (Jvm.Cond.fieldLinkNest "SleeveSlips$Person" (39 : Nat) "SleeveSlips$Sleeve" "many" "I" "SleeveSlips") ∈ lw_tbl := lw_at lw_m1 121 rfl
theorem q176 : (Jvm.Cond.fieldLinkNest "SleeveSlips$Person" (33 : Nat) "SleeveSlips$Town" "sleeve" "[LSleeveSlips$Sleeve;" "SleeveSlips") ∈ lw_tbl := lw_at lw_m1 129 rfl
theorem q228 : (Jvm.Cond.instantiable "SleeveSlips$Person" (1 : Nat)) ∈ lw_all := lw_g (lw_at lw_m1 181 rfl) rfl
theorem q230 : (Jvm.Cond.instanceMethod ({ cls := "SleeveSlips$Person", name := "<init>", desc := "(LSleeveSlips;)V" } : Jvm.MethodName)) ∈ lw_all := lw_g (lw_at lw_m1 183 rfl) rfl
theorem q231 : (Jvm.Cond.code ({ cls := "SleeveSlips$Person", name := "<init>", desc := "(LSleeveSlips;)V" } : Jvm.MethodName) prog_6_method_1_code (2 : Nat) (Option.none : Option Jvm.ClassFile.FieldType)) ∈ lw_all := lw_g (lw_at lw_m1 184 rfl) rfl
theorem q232 : (Jvm.Cond.methodLink "SleeveSlips$Person" (7 : Nat) ({ cls := "java/lang/Object", name := "<init>", desc := "()V" } : Jvm.MethodName)) ∈ lw_all := lw_g (lw_at lw_m1 185 rfl) rfl
theorem q233 : (Jvm.Cond.fieldLink "SleeveSlips$Person" (1 : Nat) "SleeveSlips$Person" "this$0" "LSleeveSlips;") ∈ lw_all := lw_g (lw_at lw_m1 186 rfl) rfl
theorem q234 : (Jvm.Cond.laysFinal "SleeveSlips$Person" "SleeveSlips$Person" "this$0" "LSleeveSlips;") ∈ lw_all := lw_g (lw_at lw_m1 187 rfl) rfl
theorem q235 : (Jvm.Cond.soleField "SleeveSlips$Person" "this$0") ∈ lw_all := lw_g (lw_at lw_m1 188 rfl) rfl
theorem q236 : (Jvm.Cond.superclass "SleeveSlips$Person" "java/lang/Object") ∈ lw_all := lw_g (lw_at lw_m1 189 rfl) rfl
theorem q303 : (Jvm.Cond.fieldLinkNest "SleeveSlips$Person" (19 : Nat) "SleeveSlips" "book" "LSleeveSlips$Book;" "SleeveSlips") ∈ lw_tbl := lw_at lw_m2 16 rfl
theorem q307 : (Jvm.Cond.fieldLinkNest "SleeveSlips$Person" (29 : Nat) "SleeveSlips" "now" "LSleeveSlips$Town;" "SleeveSlips") ∈ lw_tbl := lw_at lw_m2 20 rfl
theorem q319 : (Jvm.Cond.fieldLinkNest "SleeveSlips$Person" (13 : Nat) "SleeveSlips" "trace" "J" "SleeveSlips") ∈ lw_tbl := lw_at lw_m2 32 rfl
theorem q744 : (Jvm.Cond.instanceMethod ({ cls := "SleeveSlips$Person", name := "rate", desc := "(I)I" } : Jvm.MethodName)) ∈ lw_all := lw_g (lw_at lw_m3 217 rfl) rfl
theorem q745 : (Jvm.Cond.selects "SleeveSlips$Person" ({ cls := "SleeveSlips$Person", name := "rate", desc := "(I)I" } : Jvm.MethodName) ({ cls := "SleeveSlips$Person", name := "rate", desc := "(I)I" } : Jvm.MethodName)) ∈ lw_all := lw_g (lw_at lw_m3 218 rfl) rfl
theorem q746 : (Jvm.Cond.sameMethod "SleeveSlips$Person" "SleeveSlips$Person" "rate" "(I)I") ∈ lw_all := lw_g (lw_at lw_m3 219 rfl) rfl
theorem q773 : (Jvm.Cond.code ({ cls := "SleeveSlips$Person", name := "rate", desc := "(I)I" } : Jvm.MethodName) prog_6_method_2_code (2 : Nat) (Option.some Jvm.ClassFile.FieldType.int)) ∈ lw_all := lw_g (lw_at lw_m4 6 rfl) rfl
theorem in_X4 : ∀ w ∈ wsX40, w ∈ lw_all := lw_in wsX40 [234] (by decide +kernel) (by decide +kernel)

/-! SleeveSlips$First -/
set_option maxRecDepth 100000
def RX5 : String := "SleeveSlips$First"
def TX5 : u_T := fun k => match k with
  | 0 => ("SleeveSlips$Person", "this$0", "LSleeveSlips;", true)
  | _ => ("SleeveSlips$First", "this$0", "LSleeveSlips;", true)
def tyX5 : Nat → FieldType := fun k => match k with
  | 0 => .object "SleeveSlips"
  | _ => .object "SleeveSlips"
abbrev wsX50 : List Cond := u_ws RX5 TX5 2
-- two fields of one name: no nmX5
theorem tyX5_ok : ∀ k, k < 2 → parseFieldDescriptor (TX5 k).2.2.1 = some (tyX5 k) := by decide +kernel
abbrev cX5_init : ByteArray := prog_4_method_1_code
def yX5_init : MethodName := ⟨RX5, "<init>", "(LSleeveSlips;)V"⟩
def dkwX5_init_0 : List UInt8 := [42, 43, 181, 0, 1, 42, 43, 183, 0, 7, 177]
abbrev dktX5_init_0 : List UInt8 := dkwX5_init_0 ++ []
theorem dksX5_init_0 : cX5_init.data.toList.drop 0 = dktX5_init_0 := by decide +kernel
theorem dX5_init_0 : decode cX5_init 0 = .ok (.aload_n 0, 1) := dk_42 (dk_at dksX5_init_0 0 rfl rfl)
theorem dX5_init_1 : decode cX5_init 1 = .ok (.aload_n 1, 1) := dk_43 (dk_at dksX5_init_0 1 rfl rfl)
theorem dX5_init_2 : decode cX5_init 2 = .ok (.putfield 1, 3) := dk_181 0 1 (dk_at dksX5_init_0 2 rfl rfl)
theorem dX5_init_5 : decode cX5_init 5 = .ok (.aload_n 0, 1) := dk_42 (dk_at dksX5_init_0 5 rfl rfl)
theorem dX5_init_6 : decode cX5_init 6 = .ok (.aload_n 1, 1) := dk_43 (dk_at dksX5_init_0 6 rfl rfl)
theorem dX5_init_7 : decode cX5_init 7 = .ok (.invokespecial 7, 3) := dk_183 0 7 (dk_at dksX5_init_0 7 rfl rfl)
theorem dX5_init_10 : decode cX5_init 10 = .ok (.return_, 1) := dk_177 (dk_at dksX5_init_0 10 rfl rfl)
abbrev cX5_rate : ByteArray := prog_4_method_2_code
def yX5_rate : MethodName := ⟨RX5, "rate", "(I)I"⟩
def dkwX5_rate_1 : List UInt8 := [180, 0, 25, 180, 0, 29, 27, 46, 96, 172]
abbrev dktX5_rate_1 : List UInt8 := dkwX5_rate_1 ++ []
def dkwX5_rate_0 : List UInt8 := [42, 180, 0, 1, 89, 180, 0, 13, 20, 0, 19, 97, 181, 0, 13, 42, 27, 183, 0, 21, 42, 180, 0, 1]
abbrev dktX5_rate_0 : List UInt8 := dkwX5_rate_0 ++ dktX5_rate_1
theorem dksX5_rate_0 : cX5_rate.data.toList.drop 0 = dktX5_rate_0 := by decide +kernel
theorem dksX5_rate_1 : cX5_rate.data.toList.drop 24 = dktX5_rate_1 := dk_seg dksX5_rate_0 24 rfl rfl
theorem dX5_rate_0 : decode cX5_rate 0 = .ok (.aload_n 0, 1) := dk_42 (dk_at dksX5_rate_0 0 rfl rfl)
theorem dX5_rate_1 : decode cX5_rate 1 = .ok (.getfield 1, 3) := dk_180 0 1 (dk_at dksX5_rate_0 1 rfl rfl)
theorem dX5_rate_4 : decode cX5_rate 4 = .ok (.dup, 1) := dk_89 (dk_at dksX5_rate_0 4 rfl rfl)
theorem dX5_rate_5 : decode cX5_rate 5 = .ok (.getfield 13, 3) := dk_180 0 13 (dk_at dksX5_rate_0 5 rfl rfl)
theorem dX5_rate_8 : decode cX5_rate 8 = .ok (.ldc2_w 19, 3) := dk_20 0 19 (dk_at dksX5_rate_0 8 rfl rfl)
theorem dX5_rate_11 : decode cX5_rate 11 = .ok (.ladd, 1) := dk_97 (dk_at dksX5_rate_0 11 rfl rfl)
theorem dX5_rate_12 : decode cX5_rate 12 = .ok (.putfield 13, 3) := dk_181 0 13 (dk_at dksX5_rate_0 12 rfl rfl)
theorem dX5_rate_15 : decode cX5_rate 15 = .ok (.aload_n 0, 1) := dk_42 (dk_at dksX5_rate_0 15 rfl rfl)
theorem dX5_rate_16 : decode cX5_rate 16 = .ok (.iload_n 1, 1) := dk_27 (dk_at dksX5_rate_0 16 rfl rfl)
theorem dX5_rate_17 : decode cX5_rate 17 = .ok (.invokespecial 21, 3) := dk_183 0 21 (dk_at dksX5_rate_0 17 rfl rfl)
theorem dX5_rate_20 : decode cX5_rate 20 = .ok (.aload_n 0, 1) := dk_42 (dk_at dksX5_rate_0 20 rfl rfl)
theorem dX5_rate_21 : decode cX5_rate 21 = .ok (.getfield 1, 3) := dk_180 0 1 (dk_at dksX5_rate_0 21 rfl rfl)
theorem dX5_rate_24 : decode cX5_rate 24 = .ok (.getfield 25, 3) := dk_180 0 25 (dk_at dksX5_rate_1 0 rfl rfl)
theorem dX5_rate_27 : decode cX5_rate 27 = .ok (.getfield 29, 3) := dk_180 0 29 (dk_at dksX5_rate_1 3 rfl rfl)
theorem dX5_rate_30 : decode cX5_rate 30 = .ok (.iload_n 1, 1) := dk_27 (dk_at dksX5_rate_1 6 rfl rfl)
theorem dX5_rate_31 : decode cX5_rate 31 = .ok (.iaload, 1) := dk_46 (dk_at dksX5_rate_1 7 rfl rfl)
theorem dX5_rate_32 : decode cX5_rate 32 = .ok (.iadd, 1) := dk_96 (dk_at dksX5_rate_1 8 rfl rfl)
theorem dX5_rate_33 : decode cX5_rate 33 = .ok (.ireturn, 1) := dk_172 (dk_at dksX5_rate_1 9 rfl rfl)
theorem q53 : (Jvm.Cond.initialized "SleeveSlips$First") ∈ lw_all := lw_g (lw_at lw_m1 6 rfl) rfl
theorem q91 : (Jvm.Cond.fieldLinkNest "SleeveSlips$First" (29 : Nat) "SleeveSlips$Book" "work" "[I" "SleeveSlips") ∈ lw_tbl := lw_at lw_m1 44 rfl
theorem q239 : (Jvm.Cond.instantiable "SleeveSlips$First" (2 : Nat)) ∈ lw_all := lw_g (lw_at lw_m1 192 rfl) rfl
theorem q241 : (Jvm.Cond.instanceMethod ({ cls := "SleeveSlips$First", name := "<init>", desc := "(LSleeveSlips;)V" } : Jvm.MethodName)) ∈ lw_all := lw_g (lw_at lw_m1 194 rfl) rfl
theorem q242 : (Jvm.Cond.code ({ cls := "SleeveSlips$First", name := "<init>", desc := "(LSleeveSlips;)V" } : Jvm.MethodName) prog_4_method_1_code (2 : Nat) (Option.none : Option Jvm.ClassFile.FieldType)) ∈ lw_all := lw_g (lw_at lw_m1 195 rfl) rfl
theorem q243 : (Jvm.Cond.methodLinkNest "SleeveSlips$First" (7 : Nat) ({ cls := "SleeveSlips$Person", name := "<init>", desc := "(LSleeveSlips;)V" } : Jvm.MethodName) "SleeveSlips") ∈ lw_tbl := lw_at lw_m1 196 rfl
theorem q244 : (Jvm.Cond.fieldLink "SleeveSlips$First" (1 : Nat) "SleeveSlips$First" "this$0" "LSleeveSlips;") ∈ lw_all := lw_g (lw_at lw_m1 197 rfl) rfl
theorem q245 : (Jvm.Cond.laysFinal "SleeveSlips$First" "SleeveSlips$First" "this$0" "LSleeveSlips;") ∈ lw_all := lw_g (lw_at lw_m1 198 rfl) rfl
theorem q246 : (Jvm.Cond.soleField "SleeveSlips$First" "this$0") ∈ lw_all := lw_g (lw_at lw_m1 199 rfl) rfl
theorem q247 : (Jvm.Cond.laysFinal "SleeveSlips$First" "SleeveSlips$Person" "this$0" "LSleeveSlips;") ∈ lw_all := lw_g (lw_at lw_m1 200 rfl) rfl
theorem q248 : (Jvm.Cond.superclass "SleeveSlips$First" "SleeveSlips$Person") ∈ lw_all := lw_g (lw_at lw_m1 201 rfl) rfl
theorem q304 : (Jvm.Cond.fieldLinkNest "SleeveSlips$First" (25 : Nat) "SleeveSlips" "book" "LSleeveSlips$Book;" "SleeveSlips") ∈ lw_tbl := lw_at lw_m2 17 rfl
theorem q321 : (Jvm.Cond.fieldLinkNest "SleeveSlips$First" (13 : Nat) "SleeveSlips" "trace" "J" "SleeveSlips") ∈ lw_tbl := lw_at lw_m2 34 rfl
theorem q752 : (Jvm.Cond.instanceMethod ({ cls := "SleeveSlips$First", name := "rate", desc := "(I)I" } : Jvm.MethodName)) ∈ lw_all := lw_g (lw_at lw_m3 225 rfl) rfl
theorem q753 : (Jvm.Cond.code ({ cls := "SleeveSlips$First", name := "rate", desc := "(I)I" } : Jvm.MethodName) prog_4_method_2_code (2 : Nat) (Option.some Jvm.ClassFile.FieldType.int)) ∈ lw_all := lw_g (lw_at lw_m3 226 rfl) rfl
theorem q754 : (Jvm.Cond.constantLong "SleeveSlips$First" (19 : Nat) (10 : Int64)) ∈ lw_all := lw_g (lw_at lw_m3 227 rfl) rfl
theorem q755 : (Jvm.Cond.methodLink "SleeveSlips$First" (21 : Nat) ({ cls := "SleeveSlips$Person", name := "rate", desc := "(I)I" } : Jvm.MethodName)) ∈ lw_all := lw_g (lw_at lw_m3 228 rfl) rfl
theorem q756 : (Jvm.Cond.selects "SleeveSlips$First" ({ cls := "SleeveSlips$Person", name := "rate", desc := "(I)I" } : Jvm.MethodName) ({ cls := "SleeveSlips$First", name := "rate", desc := "(I)I" } : Jvm.MethodName)) ∈ lw_all := lw_g (lw_at lw_m3 229 rfl) rfl
theorem q1137 : (Jvm.Cond.sameMethod "SleeveSlips$First" "SleeveSlips$First" "rate" "(I)I") ∈ lw_all := lw_g (lw_at lw_m5 130 rfl) rfl
theorem q1139 : (Jvm.Cond.castable "SleeveSlips$First" "SleeveSlips$Person") ∈ lw_tbl := lw_at lw_m5 132 rfl
theorem in_X5 : ∀ w ∈ wsX50, w ∈ lw_all := lw_in wsX50 [247, 245] (by decide +kernel) (by decide +kernel)

/-! SleeveSlips$Short -/
set_option maxRecDepth 100000
def RX6 : String := "SleeveSlips$Short"
def TX6 : u_T := fun k => match k with
  | 0 => ("SleeveSlips$Person", "this$0", "LSleeveSlips;", true)
  | _ => ("SleeveSlips$Short", "this$0", "LSleeveSlips;", true)
def tyX6 : Nat → FieldType := fun k => match k with
  | 0 => .object "SleeveSlips"
  | _ => .object "SleeveSlips"
abbrev wsX60 : List Cond := u_ws RX6 TX6 2
-- two fields of one name: no nmX6
theorem tyX6_ok : ∀ k, k < 2 → parseFieldDescriptor (TX6 k).2.2.1 = some (tyX6 k) := by decide +kernel
abbrev cX6_init : ByteArray := prog_8_method_1_code
def yX6_init : MethodName := ⟨RX6, "<init>", "(LSleeveSlips;)V"⟩
def dkwX6_init_0 : List UInt8 := [42, 43, 181, 0, 1, 42, 43, 183, 0, 7, 177]
abbrev dktX6_init_0 : List UInt8 := dkwX6_init_0 ++ []
theorem dksX6_init_0 : cX6_init.data.toList.drop 0 = dktX6_init_0 := by decide +kernel
theorem dX6_init_0 : decode cX6_init 0 = .ok (.aload_n 0, 1) := dk_42 (dk_at dksX6_init_0 0 rfl rfl)
theorem dX6_init_1 : decode cX6_init 1 = .ok (.aload_n 1, 1) := dk_43 (dk_at dksX6_init_0 1 rfl rfl)
theorem dX6_init_2 : decode cX6_init 2 = .ok (.putfield 1, 3) := dk_181 0 1 (dk_at dksX6_init_0 2 rfl rfl)
theorem dX6_init_5 : decode cX6_init 5 = .ok (.aload_n 0, 1) := dk_42 (dk_at dksX6_init_0 5 rfl rfl)
theorem dX6_init_6 : decode cX6_init 6 = .ok (.aload_n 1, 1) := dk_43 (dk_at dksX6_init_0 6 rfl rfl)
theorem dX6_init_7 : decode cX6_init 7 = .ok (.invokespecial 7, 3) := dk_183 0 7 (dk_at dksX6_init_0 7 rfl rfl)
theorem dX6_init_10 : decode cX6_init 10 = .ok (.return_, 1) := dk_177 (dk_at dksX6_init_0 10 rfl rfl)
abbrev cX6_rate : ByteArray := prog_8_method_2_code
def yX6_rate : MethodName := ⟨RX6, "rate", "(I)I"⟩
def dkwX6_rate_1 : List UInt8 := [27, 182, 0, 25, 100, 172]
abbrev dktX6_rate_1 : List UInt8 := dkwX6_rate_1 ++ []
def dkwX6_rate_0 : List UInt8 := [42, 180, 0, 1, 89, 180, 0, 13, 20, 0, 19, 97, 181, 0, 13, 42, 27, 183, 0, 21, 42, 180, 0, 1]
abbrev dktX6_rate_0 : List UInt8 := dkwX6_rate_0 ++ dktX6_rate_1
theorem dksX6_rate_0 : cX6_rate.data.toList.drop 0 = dktX6_rate_0 := by decide +kernel
theorem dksX6_rate_1 : cX6_rate.data.toList.drop 24 = dktX6_rate_1 := dk_seg dksX6_rate_0 24 rfl rfl
theorem dX6_rate_0 : decode cX6_rate 0 = .ok (.aload_n 0, 1) := dk_42 (dk_at dksX6_rate_0 0 rfl rfl)
theorem dX6_rate_1 : decode cX6_rate 1 = .ok (.getfield 1, 3) := dk_180 0 1 (dk_at dksX6_rate_0 1 rfl rfl)
theorem dX6_rate_4 : decode cX6_rate 4 = .ok (.dup, 1) := dk_89 (dk_at dksX6_rate_0 4 rfl rfl)
theorem dX6_rate_5 : decode cX6_rate 5 = .ok (.getfield 13, 3) := dk_180 0 13 (dk_at dksX6_rate_0 5 rfl rfl)
theorem dX6_rate_8 : decode cX6_rate 8 = .ok (.ldc2_w 19, 3) := dk_20 0 19 (dk_at dksX6_rate_0 8 rfl rfl)
theorem dX6_rate_11 : decode cX6_rate 11 = .ok (.ladd, 1) := dk_97 (dk_at dksX6_rate_0 11 rfl rfl)
theorem dX6_rate_12 : decode cX6_rate 12 = .ok (.putfield 13, 3) := dk_181 0 13 (dk_at dksX6_rate_0 12 rfl rfl)
theorem dX6_rate_15 : decode cX6_rate 15 = .ok (.aload_n 0, 1) := dk_42 (dk_at dksX6_rate_0 15 rfl rfl)
theorem dX6_rate_16 : decode cX6_rate 16 = .ok (.iload_n 1, 1) := dk_27 (dk_at dksX6_rate_0 16 rfl rfl)
theorem dX6_rate_17 : decode cX6_rate 17 = .ok (.invokespecial 21, 3) := dk_183 0 21 (dk_at dksX6_rate_0 17 rfl rfl)
theorem dX6_rate_20 : decode cX6_rate 20 = .ok (.aload_n 0, 1) := dk_42 (dk_at dksX6_rate_0 20 rfl rfl)
theorem dX6_rate_21 : decode cX6_rate 21 = .ok (.getfield 1, 3) := dk_180 0 1 (dk_at dksX6_rate_0 21 rfl rfl)
theorem dX6_rate_24 : decode cX6_rate 24 = .ok (.iload_n 1, 1) := dk_27 (dk_at dksX6_rate_1 0 rfl rfl)
theorem dX6_rate_25 : decode cX6_rate 25 = .ok (.invokevirtual 25, 3) := dk_182 0 25 (dk_at dksX6_rate_1 1 rfl rfl)
theorem dX6_rate_28 : decode cX6_rate 28 = .ok (.isub, 1) := dk_100 (dk_at dksX6_rate_1 4 rfl rfl)
theorem dX6_rate_29 : decode cX6_rate 29 = .ok (.ireturn, 1) := dk_172 (dk_at dksX6_rate_1 5 rfl rfl)
theorem q54 : (Jvm.Cond.initialized "SleeveSlips$Short") ∈ lw_all := lw_g (lw_at lw_m1 7 rfl) rfl
theorem q250 : (Jvm.Cond.instantiable "SleeveSlips$Short" (2 : Nat)) ∈ lw_all := lw_g (lw_at lw_m1 203 rfl) rfl
theorem q252 : (Jvm.Cond.instanceMethod ({ cls := "SleeveSlips$Short", name := "<init>", desc := "(LSleeveSlips;)V" } : Jvm.MethodName)) ∈ lw_all := lw_g (lw_at lw_m1 205 rfl) rfl
theorem q253 : (Jvm.Cond.code ({ cls := "SleeveSlips$Short", name := "<init>", desc := "(LSleeveSlips;)V" } : Jvm.MethodName) prog_8_method_1_code (2 : Nat) (Option.none : Option Jvm.ClassFile.FieldType)) ∈ lw_all := lw_g (lw_at lw_m1 206 rfl) rfl
theorem q254 : (Jvm.Cond.methodLinkNest "SleeveSlips$Short" (7 : Nat) ({ cls := "SleeveSlips$Person", name := "<init>", desc := "(LSleeveSlips;)V" } : Jvm.MethodName) "SleeveSlips") ∈ lw_tbl := lw_at lw_m1 207 rfl
theorem q255 : (Jvm.Cond.fieldLink "SleeveSlips$Short" (1 : Nat) "SleeveSlips$Short" "this$0" "LSleeveSlips;") ∈ lw_all := lw_g (lw_at lw_m1 208 rfl) rfl
theorem q256 : (Jvm.Cond.laysFinal "SleeveSlips$Short" "SleeveSlips$Short" "this$0" "LSleeveSlips;") ∈ lw_all := lw_g (lw_at lw_m1 209 rfl) rfl
theorem q257 : (Jvm.Cond.soleField "SleeveSlips$Short" "this$0") ∈ lw_all := lw_g (lw_at lw_m1 210 rfl) rfl
theorem q258 : (Jvm.Cond.laysFinal "SleeveSlips$Short" "SleeveSlips$Person" "this$0" "LSleeveSlips;") ∈ lw_all := lw_g (lw_at lw_m1 211 rfl) rfl
theorem q259 : (Jvm.Cond.superclass "SleeveSlips$Short" "SleeveSlips$Person") ∈ lw_all := lw_g (lw_at lw_m1 212 rfl) rfl
theorem q323 : (Jvm.Cond.fieldLinkNest "SleeveSlips$Short" (13 : Nat) "SleeveSlips" "trace" "J" "SleeveSlips") ∈ lw_tbl := lw_at lw_m2 36 rfl
theorem q762 : (Jvm.Cond.instanceMethod ({ cls := "SleeveSlips$Short", name := "rate", desc := "(I)I" } : Jvm.MethodName)) ∈ lw_all := lw_g (lw_at lw_m3 235 rfl) rfl
theorem q763 : (Jvm.Cond.code ({ cls := "SleeveSlips$Short", name := "rate", desc := "(I)I" } : Jvm.MethodName) prog_8_method_2_code (2 : Nat) (Option.some Jvm.ClassFile.FieldType.int)) ∈ lw_all := lw_g (lw_at lw_m3 236 rfl) rfl
theorem q764 : (Jvm.Cond.constantLong "SleeveSlips$Short" (19 : Nat) (100 : Int64)) ∈ lw_all := lw_g (lw_at lw_m3 237 rfl) rfl
theorem q765 : (Jvm.Cond.methodLink "SleeveSlips$Short" (21 : Nat) ({ cls := "SleeveSlips$Person", name := "rate", desc := "(I)I" } : Jvm.MethodName)) ∈ lw_all := lw_g (lw_at lw_m3 238 rfl) rfl
theorem q766 : (Jvm.Cond.methodLinkNest "SleeveSlips$Short" (25 : Nat) ({ cls := "SleeveSlips", name := "leftOn", desc := "(I)I" } : Jvm.MethodName) "SleeveSlips") ∈ lw_tbl := lw_at lw_m3 239 rfl
theorem q767 : (Jvm.Cond.selects "SleeveSlips$Short" ({ cls := "SleeveSlips$Person", name := "rate", desc := "(I)I" } : Jvm.MethodName) ({ cls := "SleeveSlips$Short", name := "rate", desc := "(I)I" } : Jvm.MethodName)) ∈ lw_all := lw_g (lw_at lw_m4 0 rfl) rfl
theorem q1138 : (Jvm.Cond.sameMethod "SleeveSlips$Short" "SleeveSlips$Short" "rate" "(I)I") ∈ lw_all := lw_g (lw_at lw_m5 131 rfl) rfl
theorem q1140 : (Jvm.Cond.castable "SleeveSlips$Short" "SleeveSlips$Person") ∈ lw_tbl := lw_at lw_m5 133 rfl
theorem in_X6 : ∀ w ∈ wsX60, w ∈ lw_all := lw_in wsX60 [258, 256] (by decide +kernel) (by decide +kernel)

/-! SleeveSlips$Best -/
set_option maxRecDepth 100000
def RX7 : String := "SleeveSlips$Best"
def TX7 : u_T := fun k => match k with
  | 0 => ("SleeveSlips$Person", "this$0", "LSleeveSlips;", true)
  | 1 => ("SleeveSlips$First", "this$0", "LSleeveSlips;", true)
  | _ => ("SleeveSlips$Best", "this$0", "LSleeveSlips;", true)
def tyX7 : Nat → FieldType := fun k => match k with
  | 0 => .object "SleeveSlips"
  | 1 => .object "SleeveSlips"
  | _ => .object "SleeveSlips"
abbrev wsX70 : List Cond := u_ws RX7 TX7 3
-- two fields of one name: no nmX7
theorem tyX7_ok : ∀ k, k < 3 → parseFieldDescriptor (TX7 k).2.2.1 = some (tyX7 k) := by decide +kernel
abbrev cX7_init : ByteArray := prog_2_method_1_code
def yX7_init : MethodName := ⟨RX7, "<init>", "(LSleeveSlips;)V"⟩
def dkwX7_init_0 : List UInt8 := [42, 43, 181, 0, 1, 42, 43, 183, 0, 7, 177]
abbrev dktX7_init_0 : List UInt8 := dkwX7_init_0 ++ []
theorem dksX7_init_0 : cX7_init.data.toList.drop 0 = dktX7_init_0 := by decide +kernel
theorem dX7_init_0 : decode cX7_init 0 = .ok (.aload_n 0, 1) := dk_42 (dk_at dksX7_init_0 0 rfl rfl)
theorem dX7_init_1 : decode cX7_init 1 = .ok (.aload_n 1, 1) := dk_43 (dk_at dksX7_init_0 1 rfl rfl)
theorem dX7_init_2 : decode cX7_init 2 = .ok (.putfield 1, 3) := dk_181 0 1 (dk_at dksX7_init_0 2 rfl rfl)
theorem dX7_init_5 : decode cX7_init 5 = .ok (.aload_n 0, 1) := dk_42 (dk_at dksX7_init_0 5 rfl rfl)
theorem dX7_init_6 : decode cX7_init 6 = .ok (.aload_n 1, 1) := dk_43 (dk_at dksX7_init_0 6 rfl rfl)
theorem dX7_init_7 : decode cX7_init 7 = .ok (.invokespecial 7, 3) := dk_183 0 7 (dk_at dksX7_init_0 7 rfl rfl)
theorem dX7_init_10 : decode cX7_init 10 = .ok (.return_, 1) := dk_177 (dk_at dksX7_init_0 10 rfl rfl)
abbrev cX7_rate : ByteArray := prog_2_method_2_code
def yX7_rate : MethodName := ⟨RX7, "rate", "(I)I"⟩
def dkwX7_rate_0 : List UInt8 := [42, 180, 0, 1, 89, 180, 0, 13, 20, 0, 19, 97, 181, 0, 13, 5, 42, 27, 183, 0, 21, 104, 172]
abbrev dktX7_rate_0 : List UInt8 := dkwX7_rate_0 ++ []
theorem dksX7_rate_0 : cX7_rate.data.toList.drop 0 = dktX7_rate_0 := by decide +kernel
theorem dX7_rate_0 : decode cX7_rate 0 = .ok (.aload_n 0, 1) := dk_42 (dk_at dksX7_rate_0 0 rfl rfl)
theorem dX7_rate_1 : decode cX7_rate 1 = .ok (.getfield 1, 3) := dk_180 0 1 (dk_at dksX7_rate_0 1 rfl rfl)
theorem dX7_rate_4 : decode cX7_rate 4 = .ok (.dup, 1) := dk_89 (dk_at dksX7_rate_0 4 rfl rfl)
theorem dX7_rate_5 : decode cX7_rate 5 = .ok (.getfield 13, 3) := dk_180 0 13 (dk_at dksX7_rate_0 5 rfl rfl)
theorem dX7_rate_8 : decode cX7_rate 8 = .ok (.ldc2_w 19, 3) := dk_20 0 19 (dk_at dksX7_rate_0 8 rfl rfl)
theorem dX7_rate_11 : decode cX7_rate 11 = .ok (.ladd, 1) := dk_97 (dk_at dksX7_rate_0 11 rfl rfl)
theorem dX7_rate_12 : decode cX7_rate 12 = .ok (.putfield 13, 3) := dk_181 0 13 (dk_at dksX7_rate_0 12 rfl rfl)
theorem dX7_rate_15 : decode cX7_rate 15 = .ok (.iconst 2, 1) := dk_5 (dk_at dksX7_rate_0 15 rfl rfl)
theorem dX7_rate_16 : decode cX7_rate 16 = .ok (.aload_n 0, 1) := dk_42 (dk_at dksX7_rate_0 16 rfl rfl)
theorem dX7_rate_17 : decode cX7_rate 17 = .ok (.iload_n 1, 1) := dk_27 (dk_at dksX7_rate_0 17 rfl rfl)
theorem dX7_rate_18 : decode cX7_rate 18 = .ok (.invokespecial 21, 3) := dk_183 0 21 (dk_at dksX7_rate_0 18 rfl rfl)
theorem dX7_rate_21 : decode cX7_rate 21 = .ok (.imul, 1) := dk_104 (dk_at dksX7_rate_0 21 rfl rfl)
theorem dX7_rate_22 : decode cX7_rate 22 = .ok (.ireturn, 1) := dk_172 (dk_at dksX7_rate_0 22 rfl rfl)
theorem q55 : (Jvm.Cond.initialized "SleeveSlips$Best") ∈ lw_all := lw_g (lw_at lw_m1 8 rfl) rfl
theorem q261 : (Jvm.Cond.instantiable "SleeveSlips$Best" (3 : Nat)) ∈ lw_all := lw_g (lw_at lw_m1 214 rfl) rfl
theorem q263 : (Jvm.Cond.instanceMethod ({ cls := "SleeveSlips$Best", name := "<init>", desc := "(LSleeveSlips;)V" } : Jvm.MethodName)) ∈ lw_all := lw_g (lw_at lw_m1 216 rfl) rfl
theorem q264 : (Jvm.Cond.code ({ cls := "SleeveSlips$Best", name := "<init>", desc := "(LSleeveSlips;)V" } : Jvm.MethodName) prog_2_method_1_code (2 : Nat) (Option.none : Option Jvm.ClassFile.FieldType)) ∈ lw_all := lw_g (lw_at lw_m1 217 rfl) rfl
theorem q265 : (Jvm.Cond.methodLinkNest "SleeveSlips$Best" (7 : Nat) ({ cls := "SleeveSlips$First", name := "<init>", desc := "(LSleeveSlips;)V" } : Jvm.MethodName) "SleeveSlips") ∈ lw_tbl := lw_at lw_m1 218 rfl
theorem q266 : (Jvm.Cond.fieldLink "SleeveSlips$Best" (1 : Nat) "SleeveSlips$Best" "this$0" "LSleeveSlips;") ∈ lw_all := lw_g (lw_at lw_m1 219 rfl) rfl
theorem q267 : (Jvm.Cond.laysFinal "SleeveSlips$Best" "SleeveSlips$Best" "this$0" "LSleeveSlips;") ∈ lw_all := lw_g (lw_at lw_m1 220 rfl) rfl
theorem q268 : (Jvm.Cond.soleField "SleeveSlips$Best" "this$0") ∈ lw_all := lw_g (lw_at lw_m1 221 rfl) rfl
theorem q269 : (Jvm.Cond.laysFinal "SleeveSlips$Best" "SleeveSlips$First" "this$0" "LSleeveSlips;") ∈ lw_all := lw_g (lw_at lw_m1 222 rfl) rfl
theorem q270 : (Jvm.Cond.laysFinal "SleeveSlips$Best" "SleeveSlips$Person" "this$0" "LSleeveSlips;") ∈ lw_all := lw_g (lw_at lw_m1 223 rfl) rfl
theorem q271 : (Jvm.Cond.superclass "SleeveSlips$Best" "SleeveSlips$First") ∈ lw_all := lw_g (lw_at lw_m1 224 rfl) rfl
theorem q320 : (Jvm.Cond.fieldLinkNest "SleeveSlips$Best" (13 : Nat) "SleeveSlips" "trace" "J" "SleeveSlips") ∈ lw_tbl := lw_at lw_m2 33 rfl
theorem q747 : (Jvm.Cond.selects "SleeveSlips$Best" ({ cls := "SleeveSlips$Person", name := "rate", desc := "(I)I" } : Jvm.MethodName) ({ cls := "SleeveSlips$Best", name := "rate", desc := "(I)I" } : Jvm.MethodName)) ∈ lw_all := lw_g (lw_at lw_m3 220 rfl) rfl
theorem q748 : (Jvm.Cond.instanceMethod ({ cls := "SleeveSlips$Best", name := "rate", desc := "(I)I" } : Jvm.MethodName)) ∈ lw_all := lw_g (lw_at lw_m3 221 rfl) rfl
theorem q749 : (Jvm.Cond.code ({ cls := "SleeveSlips$Best", name := "rate", desc := "(I)I" } : Jvm.MethodName) prog_2_method_2_code (2 : Nat) (Option.some Jvm.ClassFile.FieldType.int)) ∈ lw_all := lw_g (lw_at lw_m3 222 rfl) rfl
theorem q750 : (Jvm.Cond.constantLong "SleeveSlips$Best" (19 : Nat) (1000 : Int64)) ∈ lw_all := lw_g (lw_at lw_m3 223 rfl) rfl
theorem q751 : (Jvm.Cond.methodLink "SleeveSlips$Best" (21 : Nat) ({ cls := "SleeveSlips$First", name := "rate", desc := "(I)I" } : Jvm.MethodName)) ∈ lw_all := lw_g (lw_at lw_m3 224 rfl) rfl
theorem q1141 : (Jvm.Cond.castable "SleeveSlips$Best" "SleeveSlips$Person") ∈ lw_tbl := lw_at lw_m5 134 rfl
theorem in_X7 : ∀ w ∈ wsX70, w ∈ lw_all := lw_in wsX70 [270, 269, 267] (by decide +kernel) (by decide +kernel)

/-! SleeveSlips$Miller -/
set_option maxRecDepth 100000
def RX8 : String := "SleeveSlips$Miller"
def TX8 : u_T := fun k => match k with
  | 0 => ("SleeveSlips$Person", "this$0", "LSleeveSlips;", true)
  | 1 => ("SleeveSlips$Short", "this$0", "LSleeveSlips;", true)
  | _ => ("SleeveSlips$Miller", "this$0", "LSleeveSlips;", true)
def tyX8 : Nat → FieldType := fun k => match k with
  | 0 => .object "SleeveSlips"
  | 1 => .object "SleeveSlips"
  | _ => .object "SleeveSlips"
abbrev wsX80 : List Cond := u_ws RX8 TX8 3
-- two fields of one name: no nmX8
theorem tyX8_ok : ∀ k, k < 3 → parseFieldDescriptor (TX8 k).2.2.1 = some (tyX8 k) := by decide +kernel
abbrev cX8_init : ByteArray := prog_5_method_1_code
def yX8_init : MethodName := ⟨RX8, "<init>", "(LSleeveSlips;)V"⟩
def dkwX8_init_0 : List UInt8 := [42, 43, 181, 0, 1, 42, 43, 183, 0, 7, 177]
abbrev dktX8_init_0 : List UInt8 := dkwX8_init_0 ++ []
theorem dksX8_init_0 : cX8_init.data.toList.drop 0 = dktX8_init_0 := by decide +kernel
theorem dX8_init_0 : decode cX8_init 0 = .ok (.aload_n 0, 1) := dk_42 (dk_at dksX8_init_0 0 rfl rfl)
theorem dX8_init_1 : decode cX8_init 1 = .ok (.aload_n 1, 1) := dk_43 (dk_at dksX8_init_0 1 rfl rfl)
theorem dX8_init_2 : decode cX8_init 2 = .ok (.putfield 1, 3) := dk_181 0 1 (dk_at dksX8_init_0 2 rfl rfl)
theorem dX8_init_5 : decode cX8_init 5 = .ok (.aload_n 0, 1) := dk_42 (dk_at dksX8_init_0 5 rfl rfl)
theorem dX8_init_6 : decode cX8_init 6 = .ok (.aload_n 1, 1) := dk_43 (dk_at dksX8_init_0 6 rfl rfl)
theorem dX8_init_7 : decode cX8_init 7 = .ok (.invokespecial 7, 3) := dk_183 0 7 (dk_at dksX8_init_0 7 rfl rfl)
theorem dX8_init_10 : decode cX8_init 10 = .ok (.return_, 1) := dk_177 (dk_at dksX8_init_0 10 rfl rfl)
abbrev cX8_rate : ByteArray := prog_5_method_2_code
def yX8_rate : MethodName := ⟨RX8, "rate", "(I)I"⟩
def dkwX8_rate_0 : List UInt8 := [42, 180, 0, 1, 89, 180, 0, 13, 20, 0, 19, 97, 181, 0, 13, 42, 27, 183, 0, 21, 27, 96, 172]
abbrev dktX8_rate_0 : List UInt8 := dkwX8_rate_0 ++ []
theorem dksX8_rate_0 : cX8_rate.data.toList.drop 0 = dktX8_rate_0 := by decide +kernel
theorem dX8_rate_0 : decode cX8_rate 0 = .ok (.aload_n 0, 1) := dk_42 (dk_at dksX8_rate_0 0 rfl rfl)
theorem dX8_rate_1 : decode cX8_rate 1 = .ok (.getfield 1, 3) := dk_180 0 1 (dk_at dksX8_rate_0 1 rfl rfl)
theorem dX8_rate_4 : decode cX8_rate 4 = .ok (.dup, 1) := dk_89 (dk_at dksX8_rate_0 4 rfl rfl)
theorem dX8_rate_5 : decode cX8_rate 5 = .ok (.getfield 13, 3) := dk_180 0 13 (dk_at dksX8_rate_0 5 rfl rfl)
theorem dX8_rate_8 : decode cX8_rate 8 = .ok (.ldc2_w 19, 3) := dk_20 0 19 (dk_at dksX8_rate_0 8 rfl rfl)
theorem dX8_rate_11 : decode cX8_rate 11 = .ok (.ladd, 1) := dk_97 (dk_at dksX8_rate_0 11 rfl rfl)
theorem dX8_rate_12 : decode cX8_rate 12 = .ok (.putfield 13, 3) := dk_181 0 13 (dk_at dksX8_rate_0 12 rfl rfl)
theorem dX8_rate_15 : decode cX8_rate 15 = .ok (.aload_n 0, 1) := dk_42 (dk_at dksX8_rate_0 15 rfl rfl)
theorem dX8_rate_16 : decode cX8_rate 16 = .ok (.iload_n 1, 1) := dk_27 (dk_at dksX8_rate_0 16 rfl rfl)
theorem dX8_rate_17 : decode cX8_rate 17 = .ok (.invokespecial 21, 3) := dk_183 0 21 (dk_at dksX8_rate_0 17 rfl rfl)
theorem dX8_rate_20 : decode cX8_rate 20 = .ok (.iload_n 1, 1) := dk_27 (dk_at dksX8_rate_0 20 rfl rfl)
theorem dX8_rate_21 : decode cX8_rate 21 = .ok (.iadd, 1) := dk_96 (dk_at dksX8_rate_0 21 rfl rfl)
theorem dX8_rate_22 : decode cX8_rate 22 = .ok (.ireturn, 1) := dk_172 (dk_at dksX8_rate_0 22 rfl rfl)
theorem q56 : (Jvm.Cond.initialized "SleeveSlips$Miller") ∈ lw_all := lw_g (lw_at lw_m1 9 rfl) rfl
theorem q273 : (Jvm.Cond.instantiable "SleeveSlips$Miller" (3 : Nat)) ∈ lw_all := lw_g (lw_at lw_m1 226 rfl) rfl
theorem q275 : (Jvm.Cond.instanceMethod ({ cls := "SleeveSlips$Miller", name := "<init>", desc := "(LSleeveSlips;)V" } : Jvm.MethodName)) ∈ lw_all := lw_g (lw_at lw_m1 228 rfl) rfl
theorem q276 : (Jvm.Cond.code ({ cls := "SleeveSlips$Miller", name := "<init>", desc := "(LSleeveSlips;)V" } : Jvm.MethodName) prog_5_method_1_code (2 : Nat) (Option.none : Option Jvm.ClassFile.FieldType)) ∈ lw_all := lw_g (lw_at lw_m1 229 rfl) rfl
theorem q277 : (Jvm.Cond.methodLinkNest "SleeveSlips$Miller" (7 : Nat) ({ cls := "SleeveSlips$Short", name := "<init>", desc := "(LSleeveSlips;)V" } : Jvm.MethodName) "SleeveSlips") ∈ lw_tbl := lw_at lw_m1 230 rfl
theorem q278 : (Jvm.Cond.fieldLink "SleeveSlips$Miller" (1 : Nat) "SleeveSlips$Miller" "this$0" "LSleeveSlips;") ∈ lw_all := lw_g (lw_at lw_m1 231 rfl) rfl
theorem q279 : (Jvm.Cond.laysFinal "SleeveSlips$Miller" "SleeveSlips$Miller" "this$0" "LSleeveSlips;") ∈ lw_all := lw_g (lw_at lw_m1 232 rfl) rfl
theorem q280 : (Jvm.Cond.soleField "SleeveSlips$Miller" "this$0") ∈ lw_all := lw_g (lw_at lw_m1 233 rfl) rfl
theorem q281 : (Jvm.Cond.laysFinal "SleeveSlips$Miller" "SleeveSlips$Short" "this$0" "LSleeveSlips;") ∈ lw_all := lw_g (lw_at lw_m1 234 rfl) rfl
theorem q282 : (Jvm.Cond.laysFinal "SleeveSlips$Miller" "SleeveSlips$Person" "this$0" "LSleeveSlips;") ∈ lw_all := lw_g (lw_at lw_m1 235 rfl) rfl
theorem q283 : (Jvm.Cond.superclass "SleeveSlips$Miller" "SleeveSlips$Short") ∈ lw_all := lw_g (lw_at lw_m1 236 rfl) rfl
theorem q322 : (Jvm.Cond.fieldLinkNest "SleeveSlips$Miller" (13 : Nat) "SleeveSlips" "trace" "J" "SleeveSlips") ∈ lw_tbl := lw_at lw_m2 35 rfl
theorem q757 : (Jvm.Cond.selects "SleeveSlips$Miller" ({ cls := "SleeveSlips$Person", name := "rate", desc := "(I)I" } : Jvm.MethodName) ({ cls := "SleeveSlips$Miller", name := "rate", desc := "(I)I" } : Jvm.MethodName)) ∈ lw_all := lw_g (lw_at lw_m3 230 rfl) rfl
theorem q758 : (Jvm.Cond.instanceMethod ({ cls := "SleeveSlips$Miller", name := "rate", desc := "(I)I" } : Jvm.MethodName)) ∈ lw_all := lw_g (lw_at lw_m3 231 rfl) rfl
theorem q759 : (Jvm.Cond.code ({ cls := "SleeveSlips$Miller", name := "rate", desc := "(I)I" } : Jvm.MethodName) prog_5_method_2_code (2 : Nat) (Option.some Jvm.ClassFile.FieldType.int)) ∈ lw_all := lw_g (lw_at lw_m3 232 rfl) rfl
theorem q760 : (Jvm.Cond.constantLong "SleeveSlips$Miller" (19 : Nat) (10000 : Int64)) ∈ lw_all := lw_g (lw_at lw_m3 233 rfl) rfl
theorem q761 : (Jvm.Cond.methodLink "SleeveSlips$Miller" (21 : Nat) ({ cls := "SleeveSlips$Short", name := "rate", desc := "(I)I" } : Jvm.MethodName)) ∈ lw_all := lw_g (lw_at lw_m3 234 rfl) rfl
theorem q1142 : (Jvm.Cond.castable "SleeveSlips$Miller" "SleeveSlips$Person") ∈ lw_tbl := lw_at lw_m5 135 rfl
theorem in_X8 : ∀ w ∈ wsX80, w ∈ lw_all := lw_in wsX80 [282, 281, 279] (by decide +kernel) (by decide +kernel)

/-! SleeveSlips$Tailor -/
set_option maxRecDepth 100000
def RX9 : String := "SleeveSlips$Tailor"
def TX9 : u_T := fun k => match k with
  | 0 => ("SleeveSlips$Person", "this$0", "LSleeveSlips;", true)
  | _ => ("SleeveSlips$Tailor", "this$0", "LSleeveSlips;", true)
def tyX9 : Nat → FieldType := fun k => match k with
  | 0 => .object "SleeveSlips"
  | _ => .object "SleeveSlips"
abbrev wsX90 : List Cond := u_ws RX9 TX9 2
-- two fields of one name: no nmX9
theorem tyX9_ok : ∀ k, k < 2 → parseFieldDescriptor (TX9 k).2.2.1 = some (tyX9 k) := by decide +kernel
abbrev cX9_init : ByteArray := prog_10_method_1_code
def yX9_init : MethodName := ⟨RX9, "<init>", "(LSleeveSlips;)V"⟩
def dkwX9_init_0 : List UInt8 := [42, 43, 181, 0, 1, 42, 43, 183, 0, 7, 177]
abbrev dktX9_init_0 : List UInt8 := dkwX9_init_0 ++ []
theorem dksX9_init_0 : cX9_init.data.toList.drop 0 = dktX9_init_0 := by decide +kernel
theorem dX9_init_0 : decode cX9_init 0 = .ok (.aload_n 0, 1) := dk_42 (dk_at dksX9_init_0 0 rfl rfl)
theorem dX9_init_1 : decode cX9_init 1 = .ok (.aload_n 1, 1) := dk_43 (dk_at dksX9_init_0 1 rfl rfl)
theorem dX9_init_2 : decode cX9_init 2 = .ok (.putfield 1, 3) := dk_181 0 1 (dk_at dksX9_init_0 2 rfl rfl)
theorem dX9_init_5 : decode cX9_init 5 = .ok (.aload_n 0, 1) := dk_42 (dk_at dksX9_init_0 5 rfl rfl)
theorem dX9_init_6 : decode cX9_init 6 = .ok (.aload_n 1, 1) := dk_43 (dk_at dksX9_init_0 6 rfl rfl)
theorem dX9_init_7 : decode cX9_init 7 = .ok (.invokespecial 7, 3) := dk_183 0 7 (dk_at dksX9_init_0 7 rfl rfl)
theorem dX9_init_10 : decode cX9_init 10 = .ok (.return_, 1) := dk_177 (dk_at dksX9_init_0 10 rfl rfl)
abbrev cX9_rate : ByteArray := prog_10_method_2_code
def yX9_rate : MethodName := ⟨RX9, "rate", "(I)I"⟩
def dkwX9_rate_1 : List UInt8 := [180, 0, 25, 180, 0, 29, 96, 172]
abbrev dktX9_rate_1 : List UInt8 := dkwX9_rate_1 ++ []
def dkwX9_rate_0 : List UInt8 := [42, 180, 0, 1, 89, 180, 0, 13, 20, 0, 19, 97, 181, 0, 13, 42, 27, 183, 0, 21, 42, 180, 0, 1]
abbrev dktX9_rate_0 : List UInt8 := dkwX9_rate_0 ++ dktX9_rate_1
theorem dksX9_rate_0 : cX9_rate.data.toList.drop 0 = dktX9_rate_0 := by decide +kernel
theorem dksX9_rate_1 : cX9_rate.data.toList.drop 24 = dktX9_rate_1 := dk_seg dksX9_rate_0 24 rfl rfl
theorem dX9_rate_0 : decode cX9_rate 0 = .ok (.aload_n 0, 1) := dk_42 (dk_at dksX9_rate_0 0 rfl rfl)
theorem dX9_rate_1 : decode cX9_rate 1 = .ok (.getfield 1, 3) := dk_180 0 1 (dk_at dksX9_rate_0 1 rfl rfl)
theorem dX9_rate_4 : decode cX9_rate 4 = .ok (.dup, 1) := dk_89 (dk_at dksX9_rate_0 4 rfl rfl)
theorem dX9_rate_5 : decode cX9_rate 5 = .ok (.getfield 13, 3) := dk_180 0 13 (dk_at dksX9_rate_0 5 rfl rfl)
theorem dX9_rate_8 : decode cX9_rate 8 = .ok (.ldc2_w 19, 3) := dk_20 0 19 (dk_at dksX9_rate_0 8 rfl rfl)
theorem dX9_rate_11 : decode cX9_rate 11 = .ok (.ladd, 1) := dk_97 (dk_at dksX9_rate_0 11 rfl rfl)
theorem dX9_rate_12 : decode cX9_rate 12 = .ok (.putfield 13, 3) := dk_181 0 13 (dk_at dksX9_rate_0 12 rfl rfl)
theorem dX9_rate_15 : decode cX9_rate 15 = .ok (.aload_n 0, 1) := dk_42 (dk_at dksX9_rate_0 15 rfl rfl)
theorem dX9_rate_16 : decode cX9_rate 16 = .ok (.iload_n 1, 1) := dk_27 (dk_at dksX9_rate_0 16 rfl rfl)
theorem dX9_rate_17 : decode cX9_rate 17 = .ok (.invokespecial 21, 3) := dk_183 0 21 (dk_at dksX9_rate_0 17 rfl rfl)
theorem dX9_rate_20 : decode cX9_rate 20 = .ok (.aload_n 0, 1) := dk_42 (dk_at dksX9_rate_0 20 rfl rfl)
theorem dX9_rate_21 : decode cX9_rate 21 = .ok (.getfield 1, 3) := dk_180 0 1 (dk_at dksX9_rate_0 21 rfl rfl)
theorem dX9_rate_24 : decode cX9_rate 24 = .ok (.getfield 25, 3) := dk_180 0 25 (dk_at dksX9_rate_1 0 rfl rfl)
theorem dX9_rate_27 : decode cX9_rate 27 = .ok (.getfield 29, 3) := dk_180 0 29 (dk_at dksX9_rate_1 3 rfl rfl)
theorem dX9_rate_30 : decode cX9_rate 30 = .ok (.iadd, 1) := dk_96 (dk_at dksX9_rate_1 6 rfl rfl)
theorem dX9_rate_31 : decode cX9_rate 31 = .ok (.ireturn, 1) := dk_172 (dk_at dksX9_rate_1 7 rfl rfl)
theorem q57 : (Jvm.Cond.initialized "SleeveSlips$Tailor") ∈ lw_all := lw_g (lw_at lw_m1 10 rfl) rfl
theorem q192 : (Jvm.Cond.fieldLinkNest "SleeveSlips$Tailor" (29 : Nat) "SleeveSlips$Town" "day" "I" "SleeveSlips") ∈ lw_tbl := lw_at lw_m1 145 rfl
theorem q285 : (Jvm.Cond.instantiable "SleeveSlips$Tailor" (2 : Nat)) ∈ lw_all := lw_g (lw_at lw_m1 238 rfl) rfl
theorem q287 : (Jvm.Cond.instanceMethod ({ cls := "SleeveSlips$Tailor", name := "<init>", desc := "(LSleeveSlips;)V" } : Jvm.MethodName)) ∈ lw_all := lw_g (lw_at lw_m2 0 rfl) rfl
theorem q288 : (Jvm.Cond.code ({ cls := "SleeveSlips$Tailor", name := "<init>", desc := "(LSleeveSlips;)V" } : Jvm.MethodName) prog_10_method_1_code (2 : Nat) (Option.none : Option Jvm.ClassFile.FieldType)) ∈ lw_all := lw_g (lw_at lw_m2 1 rfl) rfl
theorem q289 : (Jvm.Cond.methodLinkNest "SleeveSlips$Tailor" (7 : Nat) ({ cls := "SleeveSlips$Person", name := "<init>", desc := "(LSleeveSlips;)V" } : Jvm.MethodName) "SleeveSlips") ∈ lw_tbl := lw_at lw_m2 2 rfl
theorem q290 : (Jvm.Cond.fieldLink "SleeveSlips$Tailor" (1 : Nat) "SleeveSlips$Tailor" "this$0" "LSleeveSlips;") ∈ lw_all := lw_g (lw_at lw_m2 3 rfl) rfl
theorem q291 : (Jvm.Cond.laysFinal "SleeveSlips$Tailor" "SleeveSlips$Tailor" "this$0" "LSleeveSlips;") ∈ lw_all := lw_g (lw_at lw_m2 4 rfl) rfl
theorem q292 : (Jvm.Cond.soleField "SleeveSlips$Tailor" "this$0") ∈ lw_all := lw_g (lw_at lw_m2 5 rfl) rfl
theorem q293 : (Jvm.Cond.laysFinal "SleeveSlips$Tailor" "SleeveSlips$Person" "this$0" "LSleeveSlips;") ∈ lw_all := lw_g (lw_at lw_m2 6 rfl) rfl
theorem q294 : (Jvm.Cond.superclass "SleeveSlips$Tailor" "SleeveSlips$Person") ∈ lw_all := lw_g (lw_at lw_m2 7 rfl) rfl
theorem q306 : (Jvm.Cond.fieldLinkNest "SleeveSlips$Tailor" (25 : Nat) "SleeveSlips" "now" "LSleeveSlips$Town;" "SleeveSlips") ∈ lw_tbl := lw_at lw_m2 19 rfl
theorem q324 : (Jvm.Cond.fieldLinkNest "SleeveSlips$Tailor" (13 : Nat) "SleeveSlips" "trace" "J" "SleeveSlips") ∈ lw_tbl := lw_at lw_m2 37 rfl
theorem q768 : (Jvm.Cond.selects "SleeveSlips$Tailor" ({ cls := "SleeveSlips$Person", name := "rate", desc := "(I)I" } : Jvm.MethodName) ({ cls := "SleeveSlips$Tailor", name := "rate", desc := "(I)I" } : Jvm.MethodName)) ∈ lw_all := lw_g (lw_at lw_m4 1 rfl) rfl
theorem q769 : (Jvm.Cond.instanceMethod ({ cls := "SleeveSlips$Tailor", name := "rate", desc := "(I)I" } : Jvm.MethodName)) ∈ lw_all := lw_g (lw_at lw_m4 2 rfl) rfl
theorem q770 : (Jvm.Cond.code ({ cls := "SleeveSlips$Tailor", name := "rate", desc := "(I)I" } : Jvm.MethodName) prog_10_method_2_code (2 : Nat) (Option.some Jvm.ClassFile.FieldType.int)) ∈ lw_all := lw_g (lw_at lw_m4 3 rfl) rfl
theorem q771 : (Jvm.Cond.constantLong "SleeveSlips$Tailor" (19 : Nat) (100000 : Int64)) ∈ lw_all := lw_g (lw_at lw_m4 4 rfl) rfl
theorem q772 : (Jvm.Cond.methodLink "SleeveSlips$Tailor" (21 : Nat) ({ cls := "SleeveSlips$Person", name := "rate", desc := "(I)I" } : Jvm.MethodName)) ∈ lw_all := lw_g (lw_at lw_m4 5 rfl) rfl
theorem q1143 : (Jvm.Cond.castable "SleeveSlips$Tailor" "SleeveSlips$Person") ∈ lw_tbl := lw_at lw_m5 136 rfl
theorem in_X9 : ∀ w ∈ wsX90, w ∈ lw_all := lw_in wsX90 [293, 291] (by decide +kernel) (by decide +kernel)
