theorem q47 : (Jvm.Cond.initialized "SleeveSlipsLaw") ∈ lw_all := lw_g (lw_at lw_m1 0 rfl) rfl
set_option maxRecDepth 100000
theorem q72 : (Jvm.Cond.classLink "SleeveSlipsLaw" (7 : Nat) "SleeveSlips") ∈ lw_all := lw_g (lw_at lw_m1 25 rfl) rfl
theorem q74 : (Jvm.Cond.methodLink "SleeveSlipsLaw" (9 : Nat) ({ cls := "SleeveSlips", name := "<init>", desc := "()V" } : Jvm.MethodName)) ∈ lw_all := lw_g (lw_at lw_m1 27 rfl) rfl
theorem q354 : (Jvm.Cond.methodLink "SleeveSlipsLaw" (15 : Nat) ({ cls := "SleeveSlips", name := "type", desc := "(JI)I" } : Jvm.MethodName)) ∈ lw_all := lw_g (lw_at lw_m2 67 rfl) rfl
theorem q361 : (Jvm.Cond.methodLink "SleeveSlipsLaw" (20 : Nat) ({ cls := "SleeveSlips", name := "clear", desc := "()I" } : Jvm.MethodName)) ∈ lw_all := lw_g (lw_at lw_m2 74 rfl) rfl
theorem q365 : (Jvm.Cond.methodLink "SleeveSlipsLaw" (25 : Nat) ({ cls := "SleeveSlips", name := "town", desc := "()I" } : Jvm.MethodName)) ∈ lw_all := lw_g (lw_at lw_m2 78 rfl) rfl
theorem q551 : (Jvm.Cond.methodLink "SleeveSlipsLaw" (29 : Nat) ({ cls := "SleeveSlips", name := "person", desc := "(II)I" } : Jvm.MethodName)) ∈ lw_all := lw_g (lw_at lw_m3 24 rfl) rfl
theorem q559 : (Jvm.Cond.methodLink "SleeveSlipsLaw" (34 : Nat) ({ cls := "SleeveSlips", name := "asking", desc := "(II)I" } : Jvm.MethodName)) ∈ lw_all := lw_g (lw_at lw_m3 32 rfl) rfl
theorem q575 : (Jvm.Cond.methodLink "SleeveSlipsLaw" (38 : Nat) ({ cls := "SleeveSlips", name := "slip", desc := "(II)I" } : Jvm.MethodName)) ∈ lw_all := lw_g (lw_at lw_m3 48 rfl) rfl
theorem q579 : (Jvm.Cond.methodLink "SleeveSlipsLaw" (42 : Nat) ({ cls := "SleeveSlips", name := "promise", desc := "(I)I" } : Jvm.MethodName)) ∈ lw_all := lw_g (lw_at lw_m3 52 rfl) rfl
theorem q598 : (Jvm.Cond.methodLink "SleeveSlipsLaw" (47 : Nat) ({ cls := "SleeveSlips", name := "letOff", desc := "(I)I" } : Jvm.MethodName)) ∈ lw_all := lw_g (lw_at lw_m3 71 rfl) rfl
theorem q616 : (Jvm.Cond.methodLink "SleeveSlipsLaw" (51 : Nat) ({ cls := "SleeveSlips", name := "breaks", desc := "(I)I" } : Jvm.MethodName)) ∈ lw_all := lw_g (lw_at lw_m3 89 rfl) rfl
theorem q620 : (Jvm.Cond.methodLink "SleeveSlipsLaw" (55 : Nat) ({ cls := "SleeveSlips", name := "hand", desc := "(II)I" } : Jvm.MethodName)) ∈ lw_all := lw_g (lw_at lw_m3 93 rfl) rfl
theorem q624 : (Jvm.Cond.methodLink "SleeveSlipsLaw" (59 : Nat) ({ cls := "SleeveSlips", name := "undo", desc := "()I" } : Jvm.MethodName)) ∈ lw_all := lw_g (lw_at lw_m3 97 rfl) rfl
theorem q630 : (Jvm.Cond.methodLink "SleeveSlipsLaw" (63 : Nat) ({ cls := "SleeveSlips", name := "day", desc := "()I" } : Jvm.MethodName)) ∈ lw_all := lw_g (lw_at lw_m3 103 rfl) rfl
theorem q646 : (Jvm.Cond.methodLink "SleeveSlipsLaw" (67 : Nat) ({ cls := "SleeveSlips", name := "now", desc := "(I)I" } : Jvm.MethodName)) ∈ lw_all := lw_g (lw_at lw_m3 119 rfl) rfl
theorem q650 : (Jvm.Cond.methodLink "SleeveSlipsLaw" (71 : Nat) ({ cls := "SleeveSlips", name := "take", desc := "(II)I" } : Jvm.MethodName)) ∈ lw_all := lw_g (lw_at lw_m3 123 rfl) rfl
theorem q672 : (Jvm.Cond.methodLink "SleeveSlipsLaw" (75 : Nat) ({ cls := "SleeveSlips", name := "bound", desc := "(II)I" } : Jvm.MethodName)) ∈ lw_all := lw_g (lw_at lw_m3 145 rfl) rfl
theorem q676 : (Jvm.Cond.methodLink "SleeveSlipsLaw" (79 : Nat) ({ cls := "SleeveSlips", name := "sort", desc := "(IIII)I" } : Jvm.MethodName)) ∈ lw_all := lw_g (lw_at lw_m3 149 rfl) rfl
theorem q684 : (Jvm.Cond.methodLink "SleeveSlipsLaw" (84 : Nat) ({ cls := "SleeveSlips", name := "expected", desc := "(III)J" } : Jvm.MethodName)) ∈ lw_all := lw_g (lw_at lw_m3 157 rfl) rfl
theorem q707 : (Jvm.Cond.methodLink "SleeveSlipsLaw" (89 : Nat) ({ cls := "SleeveSlips", name := "wise", desc := "(III)I" } : Jvm.MethodName)) ∈ lw_all := lw_g (lw_at lw_m3 180 rfl) rfl
theorem q711 : (Jvm.Cond.methodLink "SleeveSlipsLaw" (94 : Nat) ({ cls := "SleeveSlips", name := "ring", desc := "()I" } : Jvm.MethodName)) ∈ lw_all := lw_g (lw_at lw_m3 184 rfl) rfl
theorem q719 : (Jvm.Cond.methodLink "SleeveSlipsLaw" (98 : Nat) ({ cls := "SleeveSlips", name := "order", desc := "(I)I" } : Jvm.MethodName)) ∈ lw_all := lw_g (lw_at lw_m3 192 rfl) rfl
theorem q723 : (Jvm.Cond.methodLink "SleeveSlipsLaw" (102 : Nat) ({ cls := "SleeveSlips", name := "fewest", desc := "(I)I" } : Jvm.MethodName)) ∈ lw_all := lw_g (lw_at lw_m3 196 rfl) rfl
theorem q727 : (Jvm.Cond.methodLink "SleeveSlipsLaw" (106 : Nat) ({ cls := "SleeveSlips", name := "great", desc := "(III)I" } : Jvm.MethodName)) ∈ lw_all := lw_g (lw_at lw_m3 200 rfl) rfl
theorem q739 : (Jvm.Cond.methodLink "SleeveSlipsLaw" (110 : Nat) ({ cls := "SleeveSlips", name := "rate", desc := "(II)I" } : Jvm.MethodName)) ∈ lw_all := lw_g (lw_at lw_m3 212 rfl) rfl
theorem q775 : (Jvm.Cond.methodLink "SleeveSlipsLaw" (114 : Nat) ({ cls := "SleeveSlips", name := "keep", desc := "(I)I" } : Jvm.MethodName)) ∈ lw_all := lw_g (lw_at lw_m4 8 rfl) rfl
theorem q788 : (Jvm.Cond.methodLink "SleeveSlipsLaw" (118 : Nat) ({ cls := "SleeveSlips", name := "back", desc := "(I)I" } : Jvm.MethodName)) ∈ lw_all := lw_g (lw_at lw_m4 21 rfl) rfl
theorem q792 : (Jvm.Cond.methodLink "SleeveSlipsLaw" (122 : Nat) ({ cls := "SleeveSlips", name := "count", desc := "(I)I" } : Jvm.MethodName)) ∈ lw_all := lw_g (lw_at lw_m4 25 rfl) rfl
theorem q796 : (Jvm.Cond.methodLink "SleeveSlipsLaw" (126 : Nat) ({ cls := "SleeveSlips", name := "trace", desc := "()J" } : Jvm.MethodName)) ∈ lw_all := lw_g (lw_at lw_m4 29 rfl) rfl
theorem q800 : (Jvm.Cond.classLink "SleeveSlipsLaw" (10 : Nat) "SleeveSlipsModel") ∈ lw_all := lw_g (lw_at lw_m4 33 rfl) rfl
theorem q802 : (Jvm.Cond.methodLink "SleeveSlipsLaw" (12 : Nat) ({ cls := "SleeveSlipsModel", name := "<init>", desc := "()V" } : Jvm.MethodName)) ∈ lw_all := lw_g (lw_at lw_m4 35 rfl) rfl
theorem q893 : (Jvm.Cond.methodLink "SleeveSlipsLaw" (19 : Nat) ({ cls := "SleeveSlipsModel", name := "type", desc := "(JI)I" } : Jvm.MethodName)) ∈ lw_all := lw_g (lw_at lw_m4 126 rfl) rfl
theorem q902 : (Jvm.Cond.methodLink "SleeveSlipsLaw" (24 : Nat) ({ cls := "SleeveSlipsModel", name := "clear", desc := "()I" } : Jvm.MethodName)) ∈ lw_all := lw_g (lw_at lw_m4 135 rfl) rfl
theorem q906 : (Jvm.Cond.methodLink "SleeveSlipsLaw" (28 : Nat) ({ cls := "SleeveSlipsModel", name := "town", desc := "()I" } : Jvm.MethodName)) ∈ lw_all := lw_g (lw_at lw_m4 139 rfl) rfl
theorem q938 : (Jvm.Cond.methodLink "SleeveSlipsLaw" (33 : Nat) ({ cls := "SleeveSlipsModel", name := "person", desc := "(II)I" } : Jvm.MethodName)) ∈ lw_all := lw_g (lw_at lw_m4 171 rfl) rfl
theorem q947 : (Jvm.Cond.methodLink "SleeveSlipsLaw" (37 : Nat) ({ cls := "SleeveSlipsModel", name := "asking", desc := "(II)I" } : Jvm.MethodName)) ∈ lw_all := lw_g (lw_at lw_m4 180 rfl) rfl
theorem q960 : (Jvm.Cond.methodLink "SleeveSlipsLaw" (41 : Nat) ({ cls := "SleeveSlipsModel", name := "slip", desc := "(II)I" } : Jvm.MethodName)) ∈ lw_all := lw_g (lw_at lw_m4 193 rfl) rfl
theorem q964 : (Jvm.Cond.methodLink "SleeveSlipsLaw" (46 : Nat) ({ cls := "SleeveSlipsModel", name := "promise", desc := "(I)I" } : Jvm.MethodName)) ∈ lw_all := lw_g (lw_at lw_m4 197 rfl) rfl
theorem q976 : (Jvm.Cond.methodLink "SleeveSlipsLaw" (50 : Nat) ({ cls := "SleeveSlipsModel", name := "letOff", desc := "(I)I" } : Jvm.MethodName)) ∈ lw_all := lw_g (lw_at lw_m4 209 rfl) rfl
theorem q988 : (Jvm.Cond.methodLink "SleeveSlipsLaw" (54 : Nat) ({ cls := "SleeveSlipsModel", name := "breaks", desc := "(I)I" } : Jvm.MethodName)) ∈ lw_all := lw_g (lw_at lw_m4 221 rfl) rfl
theorem q992 : (Jvm.Cond.methodLink "SleeveSlipsLaw" (58 : Nat) ({ cls := "SleeveSlipsModel", name := "hand", desc := "(II)I" } : Jvm.MethodName)) ∈ lw_all := lw_g (lw_at lw_m4 225 rfl) rfl
theorem q996 : (Jvm.Cond.methodLink "SleeveSlipsLaw" (62 : Nat) ({ cls := "SleeveSlipsModel", name := "undo", desc := "()I" } : Jvm.MethodName)) ∈ lw_all := lw_g (lw_at lw_m4 229 rfl) rfl
theorem q1000 : (Jvm.Cond.methodLink "SleeveSlipsLaw" (66 : Nat) ({ cls := "SleeveSlipsModel", name := "day", desc := "()I" } : Jvm.MethodName)) ∈ lw_all := lw_g (lw_at lw_m4 233 rfl) rfl
theorem q1012 : (Jvm.Cond.methodLink "SleeveSlipsLaw" (70 : Nat) ({ cls := "SleeveSlipsModel", name := "now", desc := "(I)I" } : Jvm.MethodName)) ∈ lw_all := lw_g (lw_at lw_m5 5 rfl) rfl
theorem q1020 : (Jvm.Cond.methodLink "SleeveSlipsLaw" (74 : Nat) ({ cls := "SleeveSlipsModel", name := "take", desc := "(II)I" } : Jvm.MethodName)) ∈ lw_all := lw_g (lw_at lw_m5 13 rfl) rfl
theorem q1042 : (Jvm.Cond.methodLink "SleeveSlipsLaw" (78 : Nat) ({ cls := "SleeveSlipsModel", name := "bound", desc := "(II)I" } : Jvm.MethodName)) ∈ lw_all := lw_g (lw_at lw_m5 35 rfl) rfl
theorem q1046 : (Jvm.Cond.methodLink "SleeveSlipsLaw" (83 : Nat) ({ cls := "SleeveSlipsModel", name := "sort", desc := "(IIII)I" } : Jvm.MethodName)) ∈ lw_all := lw_g (lw_at lw_m5 39 rfl) rfl
theorem q1057 : (Jvm.Cond.methodLink "SleeveSlipsLaw" (88 : Nat) ({ cls := "SleeveSlipsModel", name := "expected", desc := "(III)J" } : Jvm.MethodName)) ∈ lw_all := lw_g (lw_at lw_m5 50 rfl) rfl
theorem q1071 : (Jvm.Cond.methodLink "SleeveSlipsLaw" (93 : Nat) ({ cls := "SleeveSlipsModel", name := "wise", desc := "(III)I" } : Jvm.MethodName)) ∈ lw_all := lw_g (lw_at lw_m5 64 rfl) rfl
theorem q1076 : (Jvm.Cond.methodLink "SleeveSlipsLaw" (97 : Nat) ({ cls := "SleeveSlipsModel", name := "ring", desc := "()I" } : Jvm.MethodName)) ∈ lw_all := lw_g (lw_at lw_m5 69 rfl) rfl
theorem q1088 : (Jvm.Cond.methodLink "SleeveSlipsLaw" (101 : Nat) ({ cls := "SleeveSlipsModel", name := "order", desc := "(I)I" } : Jvm.MethodName)) ∈ lw_all := lw_g (lw_at lw_m5 81 rfl) rfl
theorem q1093 : (Jvm.Cond.methodLink "SleeveSlipsLaw" (105 : Nat) ({ cls := "SleeveSlipsModel", name := "fewest", desc := "(I)I" } : Jvm.MethodName)) ∈ lw_all := lw_g (lw_at lw_m5 86 rfl) rfl
theorem q1097 : (Jvm.Cond.methodLink "SleeveSlipsLaw" (109 : Nat) ({ cls := "SleeveSlipsModel", name := "great", desc := "(III)I" } : Jvm.MethodName)) ∈ lw_all := lw_g (lw_at lw_m5 90 rfl) rfl
theorem q1106 : (Jvm.Cond.methodLink "SleeveSlipsLaw" (113 : Nat) ({ cls := "SleeveSlipsModel", name := "rate", desc := "(II)I" } : Jvm.MethodName)) ∈ lw_all := lw_g (lw_at lw_m5 99 rfl) rfl
theorem q1115 : (Jvm.Cond.methodLink "SleeveSlipsLaw" (117 : Nat) ({ cls := "SleeveSlipsModel", name := "keep", desc := "(I)I" } : Jvm.MethodName)) ∈ lw_all := lw_g (lw_at lw_m5 108 rfl) rfl
theorem q1123 : (Jvm.Cond.methodLink "SleeveSlipsLaw" (121 : Nat) ({ cls := "SleeveSlipsModel", name := "back", desc := "(I)I" } : Jvm.MethodName)) ∈ lw_all := lw_g (lw_at lw_m5 116 rfl) rfl
theorem q1127 : (Jvm.Cond.methodLink "SleeveSlipsLaw" (125 : Nat) ({ cls := "SleeveSlipsModel", name := "count", desc := "(I)I" } : Jvm.MethodName)) ∈ lw_all := lw_g (lw_at lw_m5 120 rfl) rfl
theorem q1131 : (Jvm.Cond.methodLink "SleeveSlipsLaw" (130 : Nat) ({ cls := "SleeveSlipsModel", name := "trace", desc := "()J" } : Jvm.MethodName)) ∈ lw_all := lw_g (lw_at lw_m5 124 rfl) rfl
theorem q1135 : (Jvm.Cond.constantLong "SleeveSlipsLaw" (13 : Nat) (4294967295 : Int64)) ∈ lw_all := lw_g (lw_at lw_m5 128 rfl) rfl

theorem q70 : (Jvm.Cond.initialized "java/lang/System") ∈ lw_all := lw_g (lw_at lw_m1 23 rfl) rfl
set_option maxRecDepth 100000
theorem q592 : (Jvm.Cond.static ({ cls := "java/lang/System", name := "arraycopy", desc := "(Ljava/lang/Object;ILjava/lang/Object;II)V" } : Jvm.MethodName)) ∈ lw_all := lw_g (lw_at lw_m3 65 rfl) rfl
theorem q593 : (Jvm.Cond.native ({ cls := "java/lang/System", name := "arraycopy", desc := "(Ljava/lang/Object;ILjava/lang/Object;II)V" } : Jvm.MethodName)) ∈ lw_all := lw_g (lw_at lw_m3 66 rfl) rfl

theorem q150 : (Jvm.Cond.arrayClass Jvm.ClassFile.FieldType.int) ∈ lw_all := lw_g (lw_at lw_m1 103 rfl) rfl
set_option maxRecDepth 100000
theorem q158 : (Jvm.Cond.arrayOver (Jvm.ClassFile.FieldType.object "SleeveSlips$Sleeve")) ∈ lw_tbl := lw_at lw_m1 111 rfl
theorem q225 : (Jvm.Cond.arrayOver (Jvm.ClassFile.FieldType.object "SleeveSlips$Town")) ∈ lw_tbl := lw_at lw_m1 178 rfl
theorem q227 : (Jvm.Cond.arrayOver (Jvm.ClassFile.FieldType.object "SleeveSlips$Person")) ∈ lw_tbl := lw_at lw_m1 180 rfl
theorem q237 : (Jvm.Cond.arrayClass Jvm.ClassFile.FieldType.byte) ∈ lw_all := lw_g (lw_at lw_m1 190 rfl) rfl
theorem q891 : (Jvm.Cond.arrayClass Jvm.ClassFile.FieldType.boolean) ∈ lw_all := lw_g (lw_at lw_m4 124 rfl) rfl
theorem q892 : (Jvm.Cond.arrayClass Jvm.ClassFile.FieldType.long) ∈ lw_all := lw_g (lw_at lw_m4 125 rfl) rfl
theorem q1149 : (Jvm.Cond.arrayOver (Jvm.ClassFile.FieldType.object "java/lang/String")) ∈ lw_tbl := lw_at lw_m5 142 rfl

/-! java/util/Arrays -/
set_option maxRecDepth 100000
def RJ0 : String := "java/util/Arrays"
abbrev cJ0_fill : ByteArray := prog_24_method_103_code
def yJ0_fill : MethodName := ⟨RJ0, "fill", "([II)V"⟩
def dkwJ0_fill_0 : List UInt8 := [3, 61, 42, 190, 62, 28, 29, 162, 0, 13, 42, 28, 27, 79, 132, 2, 1, 167, 255, 244, 177]
abbrev dktJ0_fill_0 : List UInt8 := dkwJ0_fill_0 ++ []
theorem dksJ0_fill_0 : cJ0_fill.data.toList.drop 0 = dktJ0_fill_0 := by decide +kernel
theorem dJ0_fill_0 : decode cJ0_fill 0 = .ok (.iconst 0, 1) := dk_3 (dk_at dksJ0_fill_0 0 rfl rfl)
theorem dJ0_fill_1 : decode cJ0_fill 1 = .ok (.istore_n 2, 1) := dk_61 (dk_at dksJ0_fill_0 1 rfl rfl)
theorem dJ0_fill_2 : decode cJ0_fill 2 = .ok (.aload_n 0, 1) := dk_42 (dk_at dksJ0_fill_0 2 rfl rfl)
theorem dJ0_fill_3 : decode cJ0_fill 3 = .ok (.arraylength, 1) := dk_190 (dk_at dksJ0_fill_0 3 rfl rfl)
theorem dJ0_fill_4 : decode cJ0_fill 4 = .ok (.istore_n 3, 1) := dk_62 (dk_at dksJ0_fill_0 4 rfl rfl)
theorem dJ0_fill_5 : decode cJ0_fill 5 = .ok (.iload_n 2, 1) := dk_28 (dk_at dksJ0_fill_0 5 rfl rfl)
theorem dJ0_fill_6 : decode cJ0_fill 6 = .ok (.iload_n 3, 1) := dk_29 (dk_at dksJ0_fill_0 6 rfl rfl)
theorem dJ0_fill_7 : decode cJ0_fill 7 = .ok (.if_icmp .ge 13, 3) := dk_162 0 13 (dk_at dksJ0_fill_0 7 rfl rfl)
theorem dJ0_fill_10 : decode cJ0_fill 10 = .ok (.aload_n 0, 1) := dk_42 (dk_at dksJ0_fill_0 10 rfl rfl)
theorem dJ0_fill_11 : decode cJ0_fill 11 = .ok (.iload_n 2, 1) := dk_28 (dk_at dksJ0_fill_0 11 rfl rfl)
theorem dJ0_fill_12 : decode cJ0_fill 12 = .ok (.iload_n 1, 1) := dk_27 (dk_at dksJ0_fill_0 12 rfl rfl)
theorem dJ0_fill_13 : decode cJ0_fill 13 = .ok (.iastore, 1) := dk_79 (dk_at dksJ0_fill_0 13 rfl rfl)
theorem dJ0_fill_14 : decode cJ0_fill 14 = .ok (.iinc 2 1, 3) := dk_132 2 1 (dk_at dksJ0_fill_0 14 rfl rfl)
theorem dJ0_fill_17 : decode cJ0_fill 17 = .ok (.goto (-12), 3) := dk_167 255 244 (dk_at dksJ0_fill_0 17 rfl rfl)
theorem dJ0_fill_20 : decode cJ0_fill 20 = .ok (.return_, 1) := dk_177 (dk_at dksJ0_fill_0 20 rfl rfl)
theorem q58 : (Jvm.Cond.initialized "java/util/Arrays") ∈ lw_all := lw_g (lw_at lw_m1 11 rfl) rfl
theorem q300 : (Jvm.Cond.static ({ cls := "java/util/Arrays", name := "fill", desc := "([II)V" } : Jvm.MethodName)) ∈ lw_all := lw_g (lw_at lw_m2 13 rfl) rfl
theorem q301 : (Jvm.Cond.code ({ cls := "java/util/Arrays", name := "fill", desc := "([II)V" } : Jvm.MethodName) prog_24_method_103_code (4 : Nat) (Option.none : Option Jvm.ClassFile.FieldType)) ∈ lw_all := lw_g (lw_at lw_m2 14 rfl) rfl

/-! java/lang/String -/
set_option maxRecDepth 100000
def RJ1 : String := "java/lang/String"
abbrev cJ1_length : ByteArray := prog_19_method_54_code
def yJ1_length : MethodName := ⟨RJ1, "length", "()I"⟩
def dkwJ1_length_0 : List UInt8 := [42, 180, 0, 9, 190, 42, 182, 1, 79, 122, 172]
abbrev dktJ1_length_0 : List UInt8 := dkwJ1_length_0 ++ []
theorem dksJ1_length_0 : cJ1_length.data.toList.drop 0 = dktJ1_length_0 := by decide +kernel
theorem dJ1_length_0 : decode cJ1_length 0 = .ok (.aload_n 0, 1) := dk_42 (dk_at dksJ1_length_0 0 rfl rfl)
theorem dJ1_length_1 : decode cJ1_length 1 = .ok (.getfield 9, 3) := dk_180 0 9 (dk_at dksJ1_length_0 1 rfl rfl)
theorem dJ1_length_4 : decode cJ1_length 4 = .ok (.arraylength, 1) := dk_190 (dk_at dksJ1_length_0 4 rfl rfl)
theorem dJ1_length_5 : decode cJ1_length 5 = .ok (.aload_n 0, 1) := dk_42 (dk_at dksJ1_length_0 5 rfl rfl)
theorem dJ1_length_6 : decode cJ1_length 6 = .ok (.invokevirtual 335, 3) := dk_182 1 79 (dk_at dksJ1_length_0 6 rfl rfl)
theorem dJ1_length_9 : decode cJ1_length 9 = .ok (.ishr, 1) := dk_122 (dk_at dksJ1_length_0 9 rfl rfl)
theorem dJ1_length_10 : decode cJ1_length 10 = .ok (.ireturn, 1) := dk_172 (dk_at dksJ1_length_0 10 rfl rfl)
abbrev cJ1_coder : ByteArray := prog_19_method_152_code
def yJ1_coder : MethodName := ⟨RJ1, "coder", "()B"⟩
def dkwJ1_coder_0 : List UInt8 := [178, 0, 38, 153, 0, 10, 42, 180, 0, 15, 167, 0, 4, 4, 172]
abbrev dktJ1_coder_0 : List UInt8 := dkwJ1_coder_0 ++ []
theorem dksJ1_coder_0 : cJ1_coder.data.toList.drop 0 = dktJ1_coder_0 := by decide +kernel
theorem dJ1_coder_0 : decode cJ1_coder 0 = .ok (.getstatic 38, 3) := dk_178 0 38 (dk_at dksJ1_coder_0 0 rfl rfl)
theorem dJ1_coder_3 : decode cJ1_coder 3 = .ok (.ifCond .eq 10, 3) := dk_153 0 10 (dk_at dksJ1_coder_0 3 rfl rfl)
theorem dJ1_coder_6 : decode cJ1_coder 6 = .ok (.aload_n 0, 1) := dk_42 (dk_at dksJ1_coder_0 6 rfl rfl)
theorem dJ1_coder_7 : decode cJ1_coder 7 = .ok (.getfield 15, 3) := dk_180 0 15 (dk_at dksJ1_coder_0 7 rfl rfl)
theorem dJ1_coder_10 : decode cJ1_coder 10 = .ok (.goto 4, 3) := dk_167 0 4 (dk_at dksJ1_coder_0 10 rfl rfl)
theorem dJ1_coder_13 : decode cJ1_coder 13 = .ok (.iconst 1, 1) := dk_4 (dk_at dksJ1_coder_0 13 rfl rfl)
theorem dJ1_coder_14 : decode cJ1_coder 14 = .ok (.ireturn, 1) := dk_172 (dk_at dksJ1_coder_0 14 rfl rfl)
abbrev cJ1_charAt : ByteArray := prog_19_method_56_code
def yJ1_charAt : MethodName := ⟨RJ1, "charAt", "(I)C"⟩
def dkwJ1_charAt_1 : List UInt8 := [172]
abbrev dktJ1_charAt_1 : List UInt8 := dkwJ1_charAt_1 ++ []
def dkwJ1_charAt_0 : List UInt8 := [42, 182, 1, 236, 153, 0, 12, 42, 180, 0, 9, 27, 184, 1, 239, 172, 42, 180, 0, 9, 27, 184, 1, 242]
abbrev dktJ1_charAt_0 : List UInt8 := dkwJ1_charAt_0 ++ dktJ1_charAt_1
theorem dksJ1_charAt_0 : cJ1_charAt.data.toList.drop 0 = dktJ1_charAt_0 := by decide +kernel
theorem dksJ1_charAt_1 : cJ1_charAt.data.toList.drop 24 = dktJ1_charAt_1 := dk_seg dksJ1_charAt_0 24 rfl rfl
theorem dJ1_charAt_0 : decode cJ1_charAt 0 = .ok (.aload_n 0, 1) := dk_42 (dk_at dksJ1_charAt_0 0 rfl rfl)
theorem dJ1_charAt_1 : decode cJ1_charAt 1 = .ok (.invokevirtual 492, 3) := dk_182 1 236 (dk_at dksJ1_charAt_0 1 rfl rfl)
theorem dJ1_charAt_4 : decode cJ1_charAt 4 = .ok (.ifCond .eq 12, 3) := dk_153 0 12 (dk_at dksJ1_charAt_0 4 rfl rfl)
theorem dJ1_charAt_7 : decode cJ1_charAt 7 = .ok (.aload_n 0, 1) := dk_42 (dk_at dksJ1_charAt_0 7 rfl rfl)
theorem dJ1_charAt_8 : decode cJ1_charAt 8 = .ok (.getfield 9, 3) := dk_180 0 9 (dk_at dksJ1_charAt_0 8 rfl rfl)
theorem dJ1_charAt_11 : decode cJ1_charAt 11 = .ok (.iload_n 1, 1) := dk_27 (dk_at dksJ1_charAt_0 11 rfl rfl)
theorem dJ1_charAt_12 : decode cJ1_charAt 12 = .ok (.invokestatic 495, 3) := dk_184 1 239 (dk_at dksJ1_charAt_0 12 rfl rfl)
theorem dJ1_charAt_15 : decode cJ1_charAt 15 = .ok (.ireturn, 1) := dk_172 (dk_at dksJ1_charAt_0 15 rfl rfl)
theorem dJ1_charAt_16 : decode cJ1_charAt 16 = .ok (.aload_n 0, 1) := dk_42 (dk_at dksJ1_charAt_0 16 rfl rfl)
theorem dJ1_charAt_17 : decode cJ1_charAt 17 = .ok (.getfield 9, 3) := dk_180 0 9 (dk_at dksJ1_charAt_0 17 rfl rfl)
theorem dJ1_charAt_20 : decode cJ1_charAt 20 = .ok (.iload_n 1, 1) := dk_27 (dk_at dksJ1_charAt_0 20 rfl rfl)
theorem dJ1_charAt_21 : decode cJ1_charAt 21 = .ok (.invokestatic 498, 3) := dk_184 1 242 (dk_at dksJ1_charAt_0 21 rfl rfl)
theorem dJ1_charAt_24 : decode cJ1_charAt 24 = .ok (.ireturn, 1) := dk_172 (dk_at dksJ1_charAt_1 0 rfl rfl)
abbrev cJ1_isLatin1 : ByteArray := prog_19_method_154_code
def yJ1_isLatin1 : MethodName := ⟨RJ1, "isLatin1", "()Z"⟩
def dkwJ1_isLatin1_0 : List UInt8 := [178, 0, 38, 153, 0, 14, 42, 180, 0, 15, 154, 0, 7, 4, 167, 0, 4, 3, 172]
abbrev dktJ1_isLatin1_0 : List UInt8 := dkwJ1_isLatin1_0 ++ []
theorem dksJ1_isLatin1_0 : cJ1_isLatin1.data.toList.drop 0 = dktJ1_isLatin1_0 := by decide +kernel
theorem dJ1_isLatin1_0 : decode cJ1_isLatin1 0 = .ok (.getstatic 38, 3) := dk_178 0 38 (dk_at dksJ1_isLatin1_0 0 rfl rfl)
theorem dJ1_isLatin1_3 : decode cJ1_isLatin1 3 = .ok (.ifCond .eq 14, 3) := dk_153 0 14 (dk_at dksJ1_isLatin1_0 3 rfl rfl)
theorem dJ1_isLatin1_6 : decode cJ1_isLatin1 6 = .ok (.aload_n 0, 1) := dk_42 (dk_at dksJ1_isLatin1_0 6 rfl rfl)
theorem dJ1_isLatin1_7 : decode cJ1_isLatin1 7 = .ok (.getfield 15, 3) := dk_180 0 15 (dk_at dksJ1_isLatin1_0 7 rfl rfl)
theorem dJ1_isLatin1_10 : decode cJ1_isLatin1 10 = .ok (.ifCond .ne 7, 3) := dk_154 0 7 (dk_at dksJ1_isLatin1_0 10 rfl rfl)
theorem dJ1_isLatin1_13 : decode cJ1_isLatin1 13 = .ok (.iconst 1, 1) := dk_4 (dk_at dksJ1_isLatin1_0 13 rfl rfl)
theorem dJ1_isLatin1_14 : decode cJ1_isLatin1 14 = .ok (.goto 4, 3) := dk_167 0 4 (dk_at dksJ1_isLatin1_0 14 rfl rfl)
theorem dJ1_isLatin1_17 : decode cJ1_isLatin1 17 = .ok (.iconst 0, 1) := dk_3 (dk_at dksJ1_isLatin1_0 17 rfl rfl)
theorem dJ1_isLatin1_18 : decode cJ1_isLatin1 18 = .ok (.ireturn, 1) := dk_172 (dk_at dksJ1_isLatin1_0 18 rfl rfl)
abbrev cJ1_checkIndex : ByteArray := prog_19_method_155_code
def yJ1_checkIndex : MethodName := ⟨RJ1, "checkIndex", "(II)V"⟩
def dkwJ1_checkIndex_0 : List UInt8 := [26, 27, 178, 4, 29, 184, 4, 35, 87, 177]
abbrev dktJ1_checkIndex_0 : List UInt8 := dkwJ1_checkIndex_0 ++ []
theorem dksJ1_checkIndex_0 : cJ1_checkIndex.data.toList.drop 0 = dktJ1_checkIndex_0 := by decide +kernel
theorem dJ1_checkIndex_0 : decode cJ1_checkIndex 0 = .ok (.iload_n 0, 1) := dk_26 (dk_at dksJ1_checkIndex_0 0 rfl rfl)
theorem dJ1_checkIndex_1 : decode cJ1_checkIndex 1 = .ok (.iload_n 1, 1) := dk_27 (dk_at dksJ1_checkIndex_0 1 rfl rfl)
theorem dJ1_checkIndex_2 : decode cJ1_checkIndex 2 = .ok (.getstatic 1053, 3) := dk_178 4 29 (dk_at dksJ1_checkIndex_0 2 rfl rfl)
theorem dJ1_checkIndex_5 : decode cJ1_checkIndex 5 = .ok (.invokestatic 1059, 3) := dk_184 4 35 (dk_at dksJ1_checkIndex_0 5 rfl rfl)
theorem dJ1_checkIndex_8 : decode cJ1_checkIndex 8 = .ok (.pop, 1) := dk_87 (dk_at dksJ1_checkIndex_0 8 rfl rfl)
theorem dJ1_checkIndex_9 : decode cJ1_checkIndex 9 = .ok (.return_, 1) := dk_177 (dk_at dksJ1_checkIndex_0 9 rfl rfl)
theorem q61 : (Jvm.Cond.initialized "java/lang/String") ∈ lw_all := lw_g (lw_at lw_m1 14 rfl) rfl
theorem q417 : (Jvm.Cond.instanceMethod ({ cls := "java/lang/String", name := "length", desc := "()I" } : Jvm.MethodName)) ∈ lw_all := lw_g (lw_at lw_m2 130 rfl) rfl
theorem q418 : (Jvm.Cond.selects "java/lang/String" ({ cls := "java/lang/String", name := "length", desc := "()I" } : Jvm.MethodName) ({ cls := "java/lang/String", name := "length", desc := "()I" } : Jvm.MethodName)) ∈ lw_all := lw_g (lw_at lw_m2 131 rfl) rfl
theorem q419 : (Jvm.Cond.code ({ cls := "java/lang/String", name := "length", desc := "()I" } : Jvm.MethodName) prog_19_method_54_code (1 : Nat) (Option.some Jvm.ClassFile.FieldType.int)) ∈ lw_all := lw_g (lw_at lw_m2 132 rfl) rfl
theorem q420 : (Jvm.Cond.methodLink "java/lang/String" (335 : Nat) ({ cls := "java/lang/String", name := "coder", desc := "()B" } : Jvm.MethodName)) ∈ lw_all := lw_g (lw_at lw_m2 133 rfl) rfl
theorem q421 : (Jvm.Cond.instanceMethod ({ cls := "java/lang/String", name := "coder", desc := "()B" } : Jvm.MethodName)) ∈ lw_all := lw_g (lw_at lw_m2 134 rfl) rfl
theorem q422 : (Jvm.Cond.selects "java/lang/String" ({ cls := "java/lang/String", name := "coder", desc := "()B" } : Jvm.MethodName) ({ cls := "java/lang/String", name := "coder", desc := "()B" } : Jvm.MethodName)) ∈ lw_all := lw_g (lw_at lw_m2 135 rfl) rfl
theorem q423 : (Jvm.Cond.code ({ cls := "java/lang/String", name := "coder", desc := "()B" } : Jvm.MethodName) prog_19_method_152_code (1 : Nat) (Option.some Jvm.ClassFile.FieldType.byte)) ∈ lw_all := lw_g (lw_at lw_m2 136 rfl) rfl
theorem q424 : (Jvm.Cond.fieldLink "java/lang/String" (38 : Nat) "java/lang/String" "COMPACT_STRINGS" "Z") ∈ lw_all := lw_g (lw_at lw_m2 137 rfl) rfl
theorem q425 : (Jvm.Cond.laysStatic "java/lang/String" "COMPACT_STRINGS" "Z") ∈ lw_tbl := lw_at lw_m2 138 rfl
theorem q427 : (Jvm.Cond.instanceMethod ({ cls := "java/lang/String", name := "charAt", desc := "(I)C" } : Jvm.MethodName)) ∈ lw_all := lw_g (lw_at lw_m2 140 rfl) rfl
theorem q428 : (Jvm.Cond.selects "java/lang/String" ({ cls := "java/lang/String", name := "charAt", desc := "(I)C" } : Jvm.MethodName) ({ cls := "java/lang/String", name := "charAt", desc := "(I)C" } : Jvm.MethodName)) ∈ lw_all := lw_g (lw_at lw_m2 141 rfl) rfl
theorem q429 : (Jvm.Cond.code ({ cls := "java/lang/String", name := "charAt", desc := "(I)C" } : Jvm.MethodName) prog_19_method_56_code (2 : Nat) (Option.some Jvm.ClassFile.FieldType.char)) ∈ lw_all := lw_g (lw_at lw_m2 142 rfl) rfl
theorem q430 : (Jvm.Cond.methodLink "java/lang/String" (492 : Nat) ({ cls := "java/lang/String", name := "isLatin1", desc := "()Z" } : Jvm.MethodName)) ∈ lw_all := lw_g (lw_at lw_m2 143 rfl) rfl
theorem q431 : (Jvm.Cond.instanceMethod ({ cls := "java/lang/String", name := "isLatin1", desc := "()Z" } : Jvm.MethodName)) ∈ lw_all := lw_g (lw_at lw_m2 144 rfl) rfl
theorem q432 : (Jvm.Cond.selects "java/lang/String" ({ cls := "java/lang/String", name := "isLatin1", desc := "()Z" } : Jvm.MethodName) ({ cls := "java/lang/String", name := "isLatin1", desc := "()Z" } : Jvm.MethodName)) ∈ lw_all := lw_g (lw_at lw_m2 145 rfl) rfl
theorem q433 : (Jvm.Cond.code ({ cls := "java/lang/String", name := "isLatin1", desc := "()Z" } : Jvm.MethodName) prog_19_method_154_code (1 : Nat) (Option.some Jvm.ClassFile.FieldType.boolean)) ∈ lw_all := lw_g (lw_at lw_m2 146 rfl) rfl
theorem q434 : (Jvm.Cond.methodLink "java/lang/String" (495 : Nat) ({ cls := "java/lang/StringLatin1", name := "charAt", desc := "([BI)C" } : Jvm.MethodName)) ∈ lw_all := lw_g (lw_at lw_m2 147 rfl) rfl
theorem q438 : (Jvm.Cond.static ({ cls := "java/lang/String", name := "checkIndex", desc := "(II)V" } : Jvm.MethodName)) ∈ lw_all := lw_g (lw_at lw_m2 151 rfl) rfl
theorem q439 : (Jvm.Cond.code ({ cls := "java/lang/String", name := "checkIndex", desc := "(II)V" } : Jvm.MethodName) prog_19_method_155_code (2 : Nat) (Option.none : Option Jvm.ClassFile.FieldType)) ∈ lw_all := lw_g (lw_at lw_m2 152 rfl) rfl
theorem q440 : (Jvm.Cond.fieldLink "java/lang/String" (1053 : Nat) "jdk/internal/util/Preconditions" "SIOOBE_FORMATTER" "Ljava/util/function/BiFunction;") ∈ lw_all := lw_g (lw_at lw_m2 153 rfl) rfl
theorem q442 : (Jvm.Cond.methodLink "java/lang/String" (1059 : Nat) ({ cls := "jdk/internal/util/Preconditions", name := "checkIndex", desc := "(IILjava/util/function/BiFunction;)I" } : Jvm.MethodName)) ∈ lw_all := lw_g (lw_at lw_m2 155 rfl) rfl
theorem q445 : (Jvm.Cond.methodLink "java/lang/String" (498 : Nat) ({ cls := "java/lang/StringUTF16", name := "charAt", desc := "([BI)C" } : Jvm.MethodName)) ∈ lw_all := lw_g (lw_at lw_m2 158 rfl) rfl
theorem q1144 : (Jvm.Cond.fieldLink "java/lang/String" (9 : Nat) "java/lang/String" "value" "[B") ∈ lw_all := lw_g (lw_at lw_m5 137 rfl) rfl
theorem q1145 : (Jvm.Cond.fieldLink "java/lang/String" (15 : Nat) "java/lang/String" "coder" "B") ∈ lw_all := lw_g (lw_at lw_m5 138 rfl) rfl

/-! java/lang/Object -/
set_option maxRecDepth 100000
def RJ10 : String := "java/lang/Object"
abbrev cJ10_init : ByteArray := object_method_1_code
def yJ10_init : MethodName := ⟨RJ10, "<init>", "()V"⟩
theorem dJ10_init_0 : decode cJ10_init 0 = .ok (.return_, 1) := by decide +kernel
theorem q78 : (Jvm.Cond.instanceMethod ({ cls := "java/lang/Object", name := "<init>", desc := "()V" } : Jvm.MethodName)) ∈ lw_all := lw_g (lw_at lw_m1 31 rfl) rfl
theorem q79 : (Jvm.Cond.code ({ cls := "java/lang/Object", name := "<init>", desc := "()V" } : Jvm.MethodName) object_method_1_code (1 : Nat) (Option.none : Option Jvm.ClassFile.FieldType)) ∈ lw_all := lw_g (lw_at lw_m1 32 rfl) rfl

/-! java/lang/StringLatin1 -/
set_option maxRecDepth 100000
def RJ2 : String := "java/lang/StringLatin1"
abbrev cJ2_charAt : ByteArray := prog_20_method_2_code
def yJ2_charAt : MethodName := ⟨RJ2, "charAt", "([BI)C"⟩
def dkwJ2_charAt_0 : List UInt8 := [27, 42, 190, 184, 0, 9, 42, 27, 51, 17, 0, 255, 126, 146, 172]
abbrev dktJ2_charAt_0 : List UInt8 := dkwJ2_charAt_0 ++ []
theorem dksJ2_charAt_0 : cJ2_charAt.data.toList.drop 0 = dktJ2_charAt_0 := by decide +kernel
theorem dJ2_charAt_0 : decode cJ2_charAt 0 = .ok (.iload_n 1, 1) := dk_27 (dk_at dksJ2_charAt_0 0 rfl rfl)
theorem dJ2_charAt_1 : decode cJ2_charAt 1 = .ok (.aload_n 0, 1) := dk_42 (dk_at dksJ2_charAt_0 1 rfl rfl)
theorem dJ2_charAt_2 : decode cJ2_charAt 2 = .ok (.arraylength, 1) := dk_190 (dk_at dksJ2_charAt_0 2 rfl rfl)
theorem dJ2_charAt_3 : decode cJ2_charAt 3 = .ok (.invokestatic 9, 3) := dk_184 0 9 (dk_at dksJ2_charAt_0 3 rfl rfl)
theorem dJ2_charAt_6 : decode cJ2_charAt 6 = .ok (.aload_n 0, 1) := dk_42 (dk_at dksJ2_charAt_0 6 rfl rfl)
theorem dJ2_charAt_7 : decode cJ2_charAt 7 = .ok (.iload_n 1, 1) := dk_27 (dk_at dksJ2_charAt_0 7 rfl rfl)
theorem dJ2_charAt_8 : decode cJ2_charAt 8 = .ok (.baload, 1) := dk_51 (dk_at dksJ2_charAt_0 8 rfl rfl)
theorem dJ2_charAt_9 : decode cJ2_charAt 9 = .ok (.sipush 255, 3) := dk_17 0 255 (dk_at dksJ2_charAt_0 9 rfl rfl)
theorem dJ2_charAt_12 : decode cJ2_charAt 12 = .ok (.iand, 1) := dk_126 (dk_at dksJ2_charAt_0 12 rfl rfl)
theorem dJ2_charAt_13 : decode cJ2_charAt 13 = .ok (.i2c, 1) := dk_146 (dk_at dksJ2_charAt_0 13 rfl rfl)
theorem dJ2_charAt_14 : decode cJ2_charAt 14 = .ok (.ireturn, 1) := dk_172 (dk_at dksJ2_charAt_0 14 rfl rfl)
theorem q62 : (Jvm.Cond.initialized "java/lang/StringLatin1") ∈ lw_all := lw_g (lw_at lw_m1 15 rfl) rfl
theorem q435 : (Jvm.Cond.static ({ cls := "java/lang/StringLatin1", name := "charAt", desc := "([BI)C" } : Jvm.MethodName)) ∈ lw_all := lw_g (lw_at lw_m2 148 rfl) rfl
theorem q436 : (Jvm.Cond.code ({ cls := "java/lang/StringLatin1", name := "charAt", desc := "([BI)C" } : Jvm.MethodName) prog_20_method_2_code (2 : Nat) (Option.some Jvm.ClassFile.FieldType.char)) ∈ lw_all := lw_g (lw_at lw_m2 149 rfl) rfl
theorem q437 : (Jvm.Cond.methodLink "java/lang/StringLatin1" (9 : Nat) ({ cls := "java/lang/String", name := "checkIndex", desc := "(II)V" } : Jvm.MethodName)) ∈ lw_all := lw_g (lw_at lw_m2 150 rfl) rfl

/-! jdk/internal/util/Preconditions -/
set_option maxRecDepth 100000
def RJ3 : String := "jdk/internal/util/Preconditions"
abbrev cJ3_checkIndex : ByteArray := prog_25_method_11_code
def yJ3_checkIndex : MethodName := ⟨RJ3, "checkIndex", "(IILjava/util/function/BiFunction;)I"⟩
def dkwJ3_checkIndex_0 : List UInt8 := [26, 155, 0, 8, 26, 27, 161, 0, 10, 44, 26, 27, 184, 0, 95, 191, 26, 172]
abbrev dktJ3_checkIndex_0 : List UInt8 := dkwJ3_checkIndex_0 ++ []
theorem dksJ3_checkIndex_0 : cJ3_checkIndex.data.toList.drop 0 = dktJ3_checkIndex_0 := by decide +kernel
theorem dJ3_checkIndex_0 : decode cJ3_checkIndex 0 = .ok (.iload_n 0, 1) := dk_26 (dk_at dksJ3_checkIndex_0 0 rfl rfl)
theorem dJ3_checkIndex_1 : decode cJ3_checkIndex 1 = .ok (.ifCond .lt 8, 3) := dk_155 0 8 (dk_at dksJ3_checkIndex_0 1 rfl rfl)
theorem dJ3_checkIndex_4 : decode cJ3_checkIndex 4 = .ok (.iload_n 0, 1) := dk_26 (dk_at dksJ3_checkIndex_0 4 rfl rfl)
theorem dJ3_checkIndex_5 : decode cJ3_checkIndex 5 = .ok (.iload_n 1, 1) := dk_27 (dk_at dksJ3_checkIndex_0 5 rfl rfl)
theorem dJ3_checkIndex_6 : decode cJ3_checkIndex 6 = .ok (.if_icmp .lt 10, 3) := dk_161 0 10 (dk_at dksJ3_checkIndex_0 6 rfl rfl)
theorem dJ3_checkIndex_9 : decode cJ3_checkIndex 9 = .ok (.aload_n 2, 1) := dk_44 (dk_at dksJ3_checkIndex_0 9 rfl rfl)
theorem dJ3_checkIndex_10 : decode cJ3_checkIndex 10 = .ok (.iload_n 0, 1) := dk_26 (dk_at dksJ3_checkIndex_0 10 rfl rfl)
theorem dJ3_checkIndex_11 : decode cJ3_checkIndex 11 = .ok (.iload_n 1, 1) := dk_27 (dk_at dksJ3_checkIndex_0 11 rfl rfl)
theorem dJ3_checkIndex_12 : decode cJ3_checkIndex 12 = .ok (.invokestatic 95, 3) := dk_184 0 95 (dk_at dksJ3_checkIndex_0 12 rfl rfl)
theorem dJ3_checkIndex_15 : decode cJ3_checkIndex 15 = .ok (.athrow, 1) := dk_191 (dk_at dksJ3_checkIndex_0 15 rfl rfl)
theorem dJ3_checkIndex_16 : decode cJ3_checkIndex 16 = .ok (.iload_n 0, 1) := dk_26 (dk_at dksJ3_checkIndex_0 16 rfl rfl)
theorem dJ3_checkIndex_17 : decode cJ3_checkIndex 17 = .ok (.ireturn, 1) := dk_172 (dk_at dksJ3_checkIndex_0 17 rfl rfl)
theorem q63 : (Jvm.Cond.initialized "jdk/internal/util/Preconditions") ∈ lw_all := lw_g (lw_at lw_m1 16 rfl) rfl
theorem q441 : (Jvm.Cond.laysStatic "jdk/internal/util/Preconditions" "SIOOBE_FORMATTER" "Ljava/util/function/BiFunction;") ∈ lw_tbl := lw_at lw_m2 154 rfl
theorem q443 : (Jvm.Cond.static ({ cls := "jdk/internal/util/Preconditions", name := "checkIndex", desc := "(IILjava/util/function/BiFunction;)I" } : Jvm.MethodName)) ∈ lw_all := lw_g (lw_at lw_m2 156 rfl) rfl
theorem q444 : (Jvm.Cond.code ({ cls := "jdk/internal/util/Preconditions", name := "checkIndex", desc := "(IILjava/util/function/BiFunction;)I" } : Jvm.MethodName) prog_25_method_11_code (3 : Nat) (Option.some Jvm.ClassFile.FieldType.int)) ∈ lw_all := lw_g (lw_at lw_m2 157 rfl) rfl

/-! java/lang/StringUTF16 -/
set_option maxRecDepth 100000
def RJ4 : String := "java/lang/StringUTF16"
abbrev cJ4_charAt : ByteArray := prog_21_method_83_code
def yJ4_charAt : MethodName := ⟨RJ4, "charAt", "([BI)C"⟩
def dkwJ4_charAt_0 : List UInt8 := [27, 42, 184, 0, 67, 42, 27, 184, 0, 71, 172]
abbrev dktJ4_charAt_0 : List UInt8 := dkwJ4_charAt_0 ++ []
theorem dksJ4_charAt_0 : cJ4_charAt.data.toList.drop 0 = dktJ4_charAt_0 := by decide +kernel
theorem dJ4_charAt_0 : decode cJ4_charAt 0 = .ok (.iload_n 1, 1) := dk_27 (dk_at dksJ4_charAt_0 0 rfl rfl)
theorem dJ4_charAt_1 : decode cJ4_charAt 1 = .ok (.aload_n 0, 1) := dk_42 (dk_at dksJ4_charAt_0 1 rfl rfl)
theorem dJ4_charAt_2 : decode cJ4_charAt 2 = .ok (.invokestatic 67, 3) := dk_184 0 67 (dk_at dksJ4_charAt_0 2 rfl rfl)
theorem dJ4_charAt_5 : decode cJ4_charAt 5 = .ok (.aload_n 0, 1) := dk_42 (dk_at dksJ4_charAt_0 5 rfl rfl)
theorem dJ4_charAt_6 : decode cJ4_charAt 6 = .ok (.iload_n 1, 1) := dk_27 (dk_at dksJ4_charAt_0 6 rfl rfl)
theorem dJ4_charAt_7 : decode cJ4_charAt 7 = .ok (.invokestatic 71, 3) := dk_184 0 71 (dk_at dksJ4_charAt_0 7 rfl rfl)
theorem dJ4_charAt_10 : decode cJ4_charAt 10 = .ok (.ireturn, 1) := dk_172 (dk_at dksJ4_charAt_0 10 rfl rfl)
abbrev cJ4_checkIndex : ByteArray := prog_21_method_91_code
def yJ4_checkIndex : MethodName := ⟨RJ4, "checkIndex", "(I[B)V"⟩
def dkwJ4_checkIndex_0 : List UInt8 := [26, 43, 184, 0, 48, 184, 1, 158, 177]
abbrev dktJ4_checkIndex_0 : List UInt8 := dkwJ4_checkIndex_0 ++ []
theorem dksJ4_checkIndex_0 : cJ4_checkIndex.data.toList.drop 0 = dktJ4_checkIndex_0 := by decide +kernel
theorem dJ4_checkIndex_0 : decode cJ4_checkIndex 0 = .ok (.iload_n 0, 1) := dk_26 (dk_at dksJ4_checkIndex_0 0 rfl rfl)
theorem dJ4_checkIndex_1 : decode cJ4_checkIndex 1 = .ok (.aload_n 1, 1) := dk_43 (dk_at dksJ4_checkIndex_0 1 rfl rfl)
theorem dJ4_checkIndex_2 : decode cJ4_checkIndex 2 = .ok (.invokestatic 48, 3) := dk_184 0 48 (dk_at dksJ4_checkIndex_0 2 rfl rfl)
theorem dJ4_checkIndex_5 : decode cJ4_checkIndex 5 = .ok (.invokestatic 414, 3) := dk_184 1 158 (dk_at dksJ4_checkIndex_0 5 rfl rfl)
theorem dJ4_checkIndex_8 : decode cJ4_checkIndex 8 = .ok (.return_, 1) := dk_177 (dk_at dksJ4_checkIndex_0 8 rfl rfl)
abbrev cJ4_length : ByteArray := prog_21_method_6_code
def yJ4_length : MethodName := ⟨RJ4, "length", "([B)I"⟩
def dkwJ4_length_0 : List UInt8 := [42, 190, 4, 122, 172]
abbrev dktJ4_length_0 : List UInt8 := dkwJ4_length_0 ++ []
theorem dksJ4_length_0 : cJ4_length.data.toList.drop 0 = dktJ4_length_0 := by decide +kernel
theorem dJ4_length_0 : decode cJ4_length 0 = .ok (.aload_n 0, 1) := dk_42 (dk_at dksJ4_length_0 0 rfl rfl)
theorem dJ4_length_1 : decode cJ4_length 1 = .ok (.arraylength, 1) := dk_190 (dk_at dksJ4_length_0 1 rfl rfl)
theorem dJ4_length_2 : decode cJ4_length 2 = .ok (.iconst 1, 1) := dk_4 (dk_at dksJ4_length_0 2 rfl rfl)
theorem dJ4_length_3 : decode cJ4_length 3 = .ok (.ishr, 1) := dk_122 (dk_at dksJ4_length_0 3 rfl rfl)
theorem dJ4_length_4 : decode cJ4_length 4 = .ok (.ireturn, 1) := dk_172 (dk_at dksJ4_length_0 4 rfl rfl)
abbrev cJ4_getChar : ByteArray := prog_21_method_5_code
def yJ4_getChar : MethodName := ⟨RJ4, "getChar", "([BI)C"⟩
def dkwJ4_getChar_2 : List UInt8 := [51, 17, 0, 255, 126, 178, 0, 63, 120, 128, 146, 172]
abbrev dktJ4_getChar_2 : List UInt8 := dkwJ4_getChar_2 ++ []
def dkwJ4_getChar_1 : List UInt8 := [183, 0, 56, 191, 27, 4, 120, 60, 42, 27, 132, 1, 1, 51, 17, 0, 255, 126, 178, 0, 59, 120, 42, 27]
abbrev dktJ4_getChar_1 : List UInt8 := dkwJ4_getChar_1 ++ dktJ4_getChar_2
def dkwJ4_getChar_0 : List UInt8 := [178, 0, 44, 154, 0, 25, 27, 155, 0, 11, 27, 42, 184, 0, 48, 161, 0, 13, 187, 0, 52, 89, 18, 54]
abbrev dktJ4_getChar_0 : List UInt8 := dkwJ4_getChar_0 ++ dktJ4_getChar_1
theorem dksJ4_getChar_0 : cJ4_getChar.data.toList.drop 0 = dktJ4_getChar_0 := by decide +kernel
theorem dksJ4_getChar_1 : cJ4_getChar.data.toList.drop 24 = dktJ4_getChar_1 := dk_seg dksJ4_getChar_0 24 rfl rfl
theorem dksJ4_getChar_2 : cJ4_getChar.data.toList.drop 48 = dktJ4_getChar_2 := dk_seg dksJ4_getChar_1 24 rfl rfl
theorem dJ4_getChar_0 : decode cJ4_getChar 0 = .ok (.getstatic 44, 3) := dk_178 0 44 (dk_at dksJ4_getChar_0 0 rfl rfl)
theorem dJ4_getChar_3 : decode cJ4_getChar 3 = .ok (.ifCond .ne 25, 3) := dk_154 0 25 (dk_at dksJ4_getChar_0 3 rfl rfl)
theorem dJ4_getChar_6 : decode cJ4_getChar 6 = .ok (.iload_n 1, 1) := dk_27 (dk_at dksJ4_getChar_0 6 rfl rfl)
theorem dJ4_getChar_7 : decode cJ4_getChar 7 = .ok (.ifCond .lt 11, 3) := dk_155 0 11 (dk_at dksJ4_getChar_0 7 rfl rfl)
theorem dJ4_getChar_10 : decode cJ4_getChar 10 = .ok (.iload_n 1, 1) := dk_27 (dk_at dksJ4_getChar_0 10 rfl rfl)
theorem dJ4_getChar_11 : decode cJ4_getChar 11 = .ok (.aload_n 0, 1) := dk_42 (dk_at dksJ4_getChar_0 11 rfl rfl)
theorem dJ4_getChar_12 : decode cJ4_getChar 12 = .ok (.invokestatic 48, 3) := dk_184 0 48 (dk_at dksJ4_getChar_0 12 rfl rfl)
theorem dJ4_getChar_15 : decode cJ4_getChar 15 = .ok (.if_icmp .lt 13, 3) := dk_161 0 13 (dk_at dksJ4_getChar_0 15 rfl rfl)
theorem dJ4_getChar_18 : decode cJ4_getChar 18 = .ok (.new 52, 3) := dk_187 0 52 (dk_at dksJ4_getChar_0 18 rfl rfl)
theorem dJ4_getChar_21 : decode cJ4_getChar 21 = .ok (.dup, 1) := dk_89 (dk_at dksJ4_getChar_0 21 rfl rfl)
theorem dJ4_getChar_22 : decode cJ4_getChar 22 = .ok (.ldc 54, 2) := dk_18 54 (dk_at dksJ4_getChar_0 22 rfl rfl)
theorem dJ4_getChar_24 : decode cJ4_getChar 24 = .ok (.invokespecial 56, 3) := dk_183 0 56 (dk_at dksJ4_getChar_1 0 rfl rfl)
theorem dJ4_getChar_27 : decode cJ4_getChar 27 = .ok (.athrow, 1) := dk_191 (dk_at dksJ4_getChar_1 3 rfl rfl)
theorem dJ4_getChar_28 : decode cJ4_getChar 28 = .ok (.iload_n 1, 1) := dk_27 (dk_at dksJ4_getChar_1 4 rfl rfl)
theorem dJ4_getChar_29 : decode cJ4_getChar 29 = .ok (.iconst 1, 1) := dk_4 (dk_at dksJ4_getChar_1 5 rfl rfl)
theorem dJ4_getChar_30 : decode cJ4_getChar 30 = .ok (.ishl, 1) := dk_120 (dk_at dksJ4_getChar_1 6 rfl rfl)
theorem dJ4_getChar_31 : decode cJ4_getChar 31 = .ok (.istore_n 1, 1) := dk_60 (dk_at dksJ4_getChar_1 7 rfl rfl)
theorem dJ4_getChar_32 : decode cJ4_getChar 32 = .ok (.aload_n 0, 1) := dk_42 (dk_at dksJ4_getChar_1 8 rfl rfl)
theorem dJ4_getChar_33 : decode cJ4_getChar 33 = .ok (.iload_n 1, 1) := dk_27 (dk_at dksJ4_getChar_1 9 rfl rfl)
theorem dJ4_getChar_34 : decode cJ4_getChar 34 = .ok (.iinc 1 1, 3) := dk_132 1 1 (dk_at dksJ4_getChar_1 10 rfl rfl)
theorem dJ4_getChar_37 : decode cJ4_getChar 37 = .ok (.baload, 1) := dk_51 (dk_at dksJ4_getChar_1 13 rfl rfl)
theorem dJ4_getChar_38 : decode cJ4_getChar 38 = .ok (.sipush 255, 3) := dk_17 0 255 (dk_at dksJ4_getChar_1 14 rfl rfl)
theorem dJ4_getChar_41 : decode cJ4_getChar 41 = .ok (.iand, 1) := dk_126 (dk_at dksJ4_getChar_1 17 rfl rfl)
theorem dJ4_getChar_42 : decode cJ4_getChar 42 = .ok (.getstatic 59, 3) := dk_178 0 59 (dk_at dksJ4_getChar_1 18 rfl rfl)
theorem dJ4_getChar_45 : decode cJ4_getChar 45 = .ok (.ishl, 1) := dk_120 (dk_at dksJ4_getChar_1 21 rfl rfl)
theorem dJ4_getChar_46 : decode cJ4_getChar 46 = .ok (.aload_n 0, 1) := dk_42 (dk_at dksJ4_getChar_1 22 rfl rfl)
theorem dJ4_getChar_47 : decode cJ4_getChar 47 = .ok (.iload_n 1, 1) := dk_27 (dk_at dksJ4_getChar_1 23 rfl rfl)
theorem dJ4_getChar_48 : decode cJ4_getChar 48 = .ok (.baload, 1) := dk_51 (dk_at dksJ4_getChar_2 0 rfl rfl)
theorem dJ4_getChar_49 : decode cJ4_getChar 49 = .ok (.sipush 255, 3) := dk_17 0 255 (dk_at dksJ4_getChar_2 1 rfl rfl)
theorem dJ4_getChar_52 : decode cJ4_getChar 52 = .ok (.iand, 1) := dk_126 (dk_at dksJ4_getChar_2 4 rfl rfl)
theorem dJ4_getChar_53 : decode cJ4_getChar 53 = .ok (.getstatic 63, 3) := dk_178 0 63 (dk_at dksJ4_getChar_2 5 rfl rfl)
theorem dJ4_getChar_56 : decode cJ4_getChar 56 = .ok (.ishl, 1) := dk_120 (dk_at dksJ4_getChar_2 8 rfl rfl)
theorem dJ4_getChar_57 : decode cJ4_getChar 57 = .ok (.ior, 1) := dk_128 (dk_at dksJ4_getChar_2 9 rfl rfl)
theorem dJ4_getChar_58 : decode cJ4_getChar 58 = .ok (.i2c, 1) := dk_146 (dk_at dksJ4_getChar_2 10 rfl rfl)
theorem dJ4_getChar_59 : decode cJ4_getChar 59 = .ok (.ireturn, 1) := dk_172 (dk_at dksJ4_getChar_2 11 rfl rfl)
theorem q64 : (Jvm.Cond.initialized "java/lang/StringUTF16") ∈ lw_all := lw_g (lw_at lw_m1 17 rfl) rfl
theorem q446 : (Jvm.Cond.static ({ cls := "java/lang/StringUTF16", name := "charAt", desc := "([BI)C" } : Jvm.MethodName)) ∈ lw_all := lw_g (lw_at lw_m2 159 rfl) rfl
theorem q447 : (Jvm.Cond.code ({ cls := "java/lang/StringUTF16", name := "charAt", desc := "([BI)C" } : Jvm.MethodName) prog_21_method_83_code (2 : Nat) (Option.some Jvm.ClassFile.FieldType.char)) ∈ lw_all := lw_g (lw_at lw_m2 160 rfl) rfl
theorem q448 : (Jvm.Cond.methodLink "java/lang/StringUTF16" (67 : Nat) ({ cls := "java/lang/StringUTF16", name := "checkIndex", desc := "(I[B)V" } : Jvm.MethodName)) ∈ lw_all := lw_g (lw_at lw_m2 161 rfl) rfl
theorem q449 : (Jvm.Cond.static ({ cls := "java/lang/StringUTF16", name := "checkIndex", desc := "(I[B)V" } : Jvm.MethodName)) ∈ lw_all := lw_g (lw_at lw_m2 162 rfl) rfl
theorem q450 : (Jvm.Cond.code ({ cls := "java/lang/StringUTF16", name := "checkIndex", desc := "(I[B)V" } : Jvm.MethodName) prog_21_method_91_code (2 : Nat) (Option.none : Option Jvm.ClassFile.FieldType)) ∈ lw_all := lw_g (lw_at lw_m2 163 rfl) rfl
theorem q451 : (Jvm.Cond.methodLink "java/lang/StringUTF16" (48 : Nat) ({ cls := "java/lang/StringUTF16", name := "length", desc := "([B)I" } : Jvm.MethodName)) ∈ lw_all := lw_g (lw_at lw_m2 164 rfl) rfl
theorem q452 : (Jvm.Cond.static ({ cls := "java/lang/StringUTF16", name := "length", desc := "([B)I" } : Jvm.MethodName)) ∈ lw_all := lw_g (lw_at lw_m2 165 rfl) rfl
theorem q453 : (Jvm.Cond.code ({ cls := "java/lang/StringUTF16", name := "length", desc := "([B)I" } : Jvm.MethodName) prog_21_method_6_code (1 : Nat) (Option.some Jvm.ClassFile.FieldType.int)) ∈ lw_all := lw_g (lw_at lw_m2 166 rfl) rfl
theorem q454 : (Jvm.Cond.methodLink "java/lang/StringUTF16" (414 : Nat) ({ cls := "java/lang/String", name := "checkIndex", desc := "(II)V" } : Jvm.MethodName)) ∈ lw_all := lw_g (lw_at lw_m2 167 rfl) rfl
theorem q455 : (Jvm.Cond.methodLink "java/lang/StringUTF16" (71 : Nat) ({ cls := "java/lang/StringUTF16", name := "getChar", desc := "([BI)C" } : Jvm.MethodName)) ∈ lw_all := lw_g (lw_at lw_m2 168 rfl) rfl
theorem q456 : (Jvm.Cond.static ({ cls := "java/lang/StringUTF16", name := "getChar", desc := "([BI)C" } : Jvm.MethodName)) ∈ lw_all := lw_g (lw_at lw_m2 169 rfl) rfl
theorem q457 : (Jvm.Cond.code ({ cls := "java/lang/StringUTF16", name := "getChar", desc := "([BI)C" } : Jvm.MethodName) prog_21_method_5_code (2 : Nat) (Option.some Jvm.ClassFile.FieldType.char)) ∈ lw_all := lw_g (lw_at lw_m2 170 rfl) rfl
theorem q458 : (Jvm.Cond.fieldLink "java/lang/StringUTF16" (44 : Nat) "java/lang/StringUTF16" "$assertionsDisabled" "Z") ∈ lw_all := lw_g (lw_at lw_m2 171 rfl) rfl
theorem q459 : (Jvm.Cond.laysStatic "java/lang/StringUTF16" "$assertionsDisabled" "Z") ∈ lw_tbl := lw_at lw_m2 172 rfl
theorem q460 : (Jvm.Cond.fieldLink "java/lang/StringUTF16" (59 : Nat) "java/lang/StringUTF16" "HI_BYTE_SHIFT" "I") ∈ lw_all := lw_g (lw_at lw_m2 173 rfl) rfl
theorem q461 : (Jvm.Cond.laysStatic "java/lang/StringUTF16" "HI_BYTE_SHIFT" "I") ∈ lw_tbl := lw_at lw_m2 174 rfl
theorem q462 : (Jvm.Cond.fieldLink "java/lang/StringUTF16" (63 : Nat) "java/lang/StringUTF16" "LO_BYTE_SHIFT" "I") ∈ lw_all := lw_g (lw_at lw_m2 175 rfl) rfl
theorem q463 : (Jvm.Cond.laysStatic "java/lang/StringUTF16" "LO_BYTE_SHIFT" "I") ∈ lw_tbl := lw_at lw_m2 176 rfl

/-! java/lang/Math -/
set_option maxRecDepth 100000
def RJ5 : String := "java/lang/Math"
abbrev cJ5_min : ByteArray := prog_17_method_69_code
def yJ5_min : MethodName := ⟨RJ5, "min", "(II)I"⟩
def dkwJ5_min_0 : List UInt8 := [26, 27, 163, 0, 7, 26, 167, 0, 4, 27, 172]
abbrev dktJ5_min_0 : List UInt8 := dkwJ5_min_0 ++ []
theorem dksJ5_min_0 : cJ5_min.data.toList.drop 0 = dktJ5_min_0 := by decide +kernel
theorem dJ5_min_0 : decode cJ5_min 0 = .ok (.iload_n 0, 1) := dk_26 (dk_at dksJ5_min_0 0 rfl rfl)
theorem dJ5_min_1 : decode cJ5_min 1 = .ok (.iload_n 1, 1) := dk_27 (dk_at dksJ5_min_0 1 rfl rfl)
theorem dJ5_min_2 : decode cJ5_min 2 = .ok (.if_icmp .gt 7, 3) := dk_163 0 7 (dk_at dksJ5_min_0 2 rfl rfl)
theorem dJ5_min_5 : decode cJ5_min 5 = .ok (.iload_n 0, 1) := dk_26 (dk_at dksJ5_min_0 5 rfl rfl)
theorem dJ5_min_6 : decode cJ5_min 6 = .ok (.goto 4, 3) := dk_167 0 4 (dk_at dksJ5_min_0 6 rfl rfl)
theorem dJ5_min_9 : decode cJ5_min 9 = .ok (.iload_n 1, 1) := dk_27 (dk_at dksJ5_min_0 9 rfl rfl)
theorem dJ5_min_10 : decode cJ5_min 10 = .ok (.ireturn, 1) := dk_172 (dk_at dksJ5_min_0 10 rfl rfl)
abbrev cJ5_max : ByteArray := prog_17_method_66_code
def yJ5_max : MethodName := ⟨RJ5, "max", "(JJ)J"⟩
def dkwJ5_max_0 : List UInt8 := [30, 32, 148, 155, 0, 7, 30, 167, 0, 4, 32, 173]
abbrev dktJ5_max_0 : List UInt8 := dkwJ5_max_0 ++ []
theorem dksJ5_max_0 : cJ5_max.data.toList.drop 0 = dktJ5_max_0 := by decide +kernel
theorem dJ5_max_0 : decode cJ5_max 0 = .ok (.lload_n 0, 1) := dk_30 (dk_at dksJ5_max_0 0 rfl rfl)
theorem dJ5_max_1 : decode cJ5_max 1 = .ok (.lload_n 2, 1) := dk_32 (dk_at dksJ5_max_0 1 rfl rfl)
theorem dJ5_max_2 : decode cJ5_max 2 = .ok (.lcmp, 1) := dk_148 (dk_at dksJ5_max_0 2 rfl rfl)
theorem dJ5_max_3 : decode cJ5_max 3 = .ok (.ifCond .lt 7, 3) := dk_155 0 7 (dk_at dksJ5_max_0 3 rfl rfl)
theorem dJ5_max_6 : decode cJ5_max 6 = .ok (.lload_n 0, 1) := dk_30 (dk_at dksJ5_max_0 6 rfl rfl)
theorem dJ5_max_7 : decode cJ5_max 7 = .ok (.goto 4, 3) := dk_167 0 4 (dk_at dksJ5_max_0 7 rfl rfl)
theorem dJ5_max_10 : decode cJ5_max 10 = .ok (.lload_n 2, 1) := dk_32 (dk_at dksJ5_max_0 10 rfl rfl)
theorem dJ5_max_11 : decode cJ5_max 11 = .ok (.lreturn, 1) := dk_173 (dk_at dksJ5_max_0 11 rfl rfl)
abbrev cJ5_max_2 : ByteArray := prog_17_method_65_code
def yJ5_max_2 : MethodName := ⟨RJ5, "max", "(II)I"⟩
def dkwJ5_max_2_0 : List UInt8 := [26, 27, 161, 0, 7, 26, 167, 0, 4, 27, 172]
abbrev dktJ5_max_2_0 : List UInt8 := dkwJ5_max_2_0 ++ []
theorem dksJ5_max_2_0 : cJ5_max_2.data.toList.drop 0 = dktJ5_max_2_0 := by decide +kernel
theorem dJ5_max_2_0 : decode cJ5_max_2 0 = .ok (.iload_n 0, 1) := dk_26 (dk_at dksJ5_max_2_0 0 rfl rfl)
theorem dJ5_max_2_1 : decode cJ5_max_2 1 = .ok (.iload_n 1, 1) := dk_27 (dk_at dksJ5_max_2_0 1 rfl rfl)
theorem dJ5_max_2_2 : decode cJ5_max_2 2 = .ok (.if_icmp .lt 7, 3) := dk_161 0 7 (dk_at dksJ5_max_2_0 2 rfl rfl)
theorem dJ5_max_2_5 : decode cJ5_max_2 5 = .ok (.iload_n 0, 1) := dk_26 (dk_at dksJ5_max_2_0 5 rfl rfl)
theorem dJ5_max_2_6 : decode cJ5_max_2 6 = .ok (.goto 4, 3) := dk_167 0 4 (dk_at dksJ5_max_2_0 6 rfl rfl)
theorem dJ5_max_2_9 : decode cJ5_max_2 9 = .ok (.iload_n 1, 1) := dk_27 (dk_at dksJ5_max_2_0 9 rfl rfl)
theorem dJ5_max_2_10 : decode cJ5_max_2 10 = .ok (.ireturn, 1) := dk_172 (dk_at dksJ5_max_2_0 10 rfl rfl)
theorem q65 : (Jvm.Cond.initialized "java/lang/Math") ∈ lw_all := lw_g (lw_at lw_m1 18 rfl) rfl
theorem q465 : (Jvm.Cond.static ({ cls := "java/lang/Math", name := "min", desc := "(II)I" } : Jvm.MethodName)) ∈ lw_all := lw_g (lw_at lw_m2 178 rfl) rfl
theorem q466 : (Jvm.Cond.code ({ cls := "java/lang/Math", name := "min", desc := "(II)I" } : Jvm.MethodName) prog_17_method_69_code (2 : Nat) (Option.some Jvm.ClassFile.FieldType.int)) ∈ lw_all := lw_g (lw_at lw_m2 179 rfl) rfl
theorem q702 : (Jvm.Cond.static ({ cls := "java/lang/Math", name := "max", desc := "(JJ)J" } : Jvm.MethodName)) ∈ lw_all := lw_g (lw_at lw_m3 175 rfl) rfl
theorem q703 : (Jvm.Cond.code ({ cls := "java/lang/Math", name := "max", desc := "(JJ)J" } : Jvm.MethodName) prog_17_method_66_code (4 : Nat) (Option.some Jvm.ClassFile.FieldType.long)) ∈ lw_all := lw_g (lw_at lw_m3 176 rfl) rfl
theorem q736 : (Jvm.Cond.static ({ cls := "java/lang/Math", name := "max", desc := "(II)I" } : Jvm.MethodName)) ∈ lw_all := lw_g (lw_at lw_m3 209 rfl) rfl
theorem q737 : (Jvm.Cond.code ({ cls := "java/lang/Math", name := "max", desc := "(II)I" } : Jvm.MethodName) prog_17_method_65_code (2 : Nat) (Option.some Jvm.ClassFile.FieldType.int)) ∈ lw_all := lw_g (lw_at lw_m3 210 rfl) rfl

/-! java/lang/Throwable -/
set_option maxRecDepth 100000
def RJ6 : String := "java/lang/Throwable"
def TJ6 : u_T := fun k => match k with
  | 0 => ("java/lang/Throwable", "cause", "Ljava/lang/Throwable;", false)
  | 1 => ("java/lang/Throwable", "stackTrace", "[Ljava/lang/StackTraceElement;", false)
  | 2 => ("java/lang/Throwable", "suppressedExceptions", "Ljava/util/List;", false)
  | 3 => ("java/lang/Throwable", "detailMessage", "Ljava/lang/String;", false)
  | _ => ("java/lang/Throwable", "backtrace", "Ljava/lang/Object;", false)
def tyJ6 : Nat → FieldType := fun k => match k with
  | 0 => .object "java/lang/Throwable"
  | 1 => .array (.object "java/lang/StackTraceElement")
  | 2 => .object "java/util/List"
  | 3 => .object "java/lang/String"
  | _ => .object "java/lang/Object"
abbrev wsJ60 : List Cond := u_ws RJ6 TJ6 5
theorem nmJ6 : ∀ a, a < 5 → ∀ b, b < 5 → a ≠ b → (TJ6 a).2.1 ≠ (TJ6 b).2.1 := by decide +kernel
theorem tyJ6_ok : ∀ k, k < 5 → parseFieldDescriptor (TJ6 k).2.2.1 = some (tyJ6 k) := by decide +kernel
abbrev cJ6_init : ByteArray := prog_23_method_1_code
def yJ6_init : MethodName := ⟨RJ6, "<init>", "()V"⟩
def dkwJ6_init_1 : List UInt8 := [182, 0, 27, 87, 177]
abbrev dktJ6_init_1 : List UInt8 := dkwJ6_init_1 ++ []
def dkwJ6_init_0 : List UInt8 := [42, 183, 0, 1, 42, 42, 181, 0, 7, 42, 178, 0, 13, 181, 0, 17, 42, 178, 0, 20, 181, 0, 24, 42]
abbrev dktJ6_init_0 : List UInt8 := dkwJ6_init_0 ++ dktJ6_init_1
theorem dksJ6_init_0 : cJ6_init.data.toList.drop 0 = dktJ6_init_0 := by decide +kernel
theorem dksJ6_init_1 : cJ6_init.data.toList.drop 24 = dktJ6_init_1 := dk_seg dksJ6_init_0 24 rfl rfl
theorem dJ6_init_0 : decode cJ6_init 0 = .ok (.aload_n 0, 1) := dk_42 (dk_at dksJ6_init_0 0 rfl rfl)
theorem dJ6_init_1 : decode cJ6_init 1 = .ok (.invokespecial 1, 3) := dk_183 0 1 (dk_at dksJ6_init_0 1 rfl rfl)
theorem dJ6_init_4 : decode cJ6_init 4 = .ok (.aload_n 0, 1) := dk_42 (dk_at dksJ6_init_0 4 rfl rfl)
theorem dJ6_init_5 : decode cJ6_init 5 = .ok (.aload_n 0, 1) := dk_42 (dk_at dksJ6_init_0 5 rfl rfl)
theorem dJ6_init_6 : decode cJ6_init 6 = .ok (.putfield 7, 3) := dk_181 0 7 (dk_at dksJ6_init_0 6 rfl rfl)
theorem dJ6_init_9 : decode cJ6_init 9 = .ok (.aload_n 0, 1) := dk_42 (dk_at dksJ6_init_0 9 rfl rfl)
theorem dJ6_init_10 : decode cJ6_init 10 = .ok (.getstatic 13, 3) := dk_178 0 13 (dk_at dksJ6_init_0 10 rfl rfl)
theorem dJ6_init_13 : decode cJ6_init 13 = .ok (.putfield 17, 3) := dk_181 0 17 (dk_at dksJ6_init_0 13 rfl rfl)
theorem dJ6_init_16 : decode cJ6_init 16 = .ok (.aload_n 0, 1) := dk_42 (dk_at dksJ6_init_0 16 rfl rfl)
theorem dJ6_init_17 : decode cJ6_init 17 = .ok (.getstatic 20, 3) := dk_178 0 20 (dk_at dksJ6_init_0 17 rfl rfl)
theorem dJ6_init_20 : decode cJ6_init 20 = .ok (.putfield 24, 3) := dk_181 0 24 (dk_at dksJ6_init_0 20 rfl rfl)
theorem dJ6_init_23 : decode cJ6_init 23 = .ok (.aload_n 0, 1) := dk_42 (dk_at dksJ6_init_0 23 rfl rfl)
theorem dJ6_init_24 : decode cJ6_init 24 = .ok (.invokevirtual 27, 3) := dk_182 0 27 (dk_at dksJ6_init_1 0 rfl rfl)
theorem dJ6_init_27 : decode cJ6_init 27 = .ok (.pop, 1) := dk_87 (dk_at dksJ6_init_1 3 rfl rfl)
theorem dJ6_init_28 : decode cJ6_init 28 = .ok (.return_, 1) := dk_177 (dk_at dksJ6_init_1 4 rfl rfl)
abbrev cJ6_init_2 : ByteArray := prog_23_method_5_code
def yJ6_init_2 : MethodName := ⟨RJ6, "<init>", "(Ljava/lang/String;Ljava/lang/Throwable;ZZ)V"⟩
def dkwJ6_init_2_2 : List UInt8 := [44, 181, 0, 7, 29, 154, 0, 8, 42, 1, 181, 0, 24, 177]
abbrev dktJ6_init_2_2 : List UInt8 := dkwJ6_init_2_2 ++ []
def dkwJ6_init_2_1 : List UInt8 := [21, 4, 153, 0, 11, 42, 182, 0, 27, 87, 167, 0, 8, 42, 1, 181, 0, 17, 42, 43, 181, 0, 31, 42]
abbrev dktJ6_init_2_1 : List UInt8 := dkwJ6_init_2_1 ++ dktJ6_init_2_2
def dkwJ6_init_2_0 : List UInt8 := [42, 183, 0, 1, 42, 42, 181, 0, 7, 42, 178, 0, 13, 181, 0, 17, 42, 178, 0, 20, 181, 0, 24]
abbrev dktJ6_init_2_0 : List UInt8 := dkwJ6_init_2_0 ++ dktJ6_init_2_1
theorem dksJ6_init_2_0 : cJ6_init_2.data.toList.drop 0 = dktJ6_init_2_0 := by decide +kernel
theorem dksJ6_init_2_1 : cJ6_init_2.data.toList.drop 23 = dktJ6_init_2_1 := dk_seg dksJ6_init_2_0 23 rfl rfl
theorem dksJ6_init_2_2 : cJ6_init_2.data.toList.drop 47 = dktJ6_init_2_2 := dk_seg dksJ6_init_2_1 24 rfl rfl
theorem dJ6_init_2_0 : decode cJ6_init_2 0 = .ok (.aload_n 0, 1) := dk_42 (dk_at dksJ6_init_2_0 0 rfl rfl)
theorem dJ6_init_2_1 : decode cJ6_init_2 1 = .ok (.invokespecial 1, 3) := dk_183 0 1 (dk_at dksJ6_init_2_0 1 rfl rfl)
theorem dJ6_init_2_4 : decode cJ6_init_2 4 = .ok (.aload_n 0, 1) := dk_42 (dk_at dksJ6_init_2_0 4 rfl rfl)
theorem dJ6_init_2_5 : decode cJ6_init_2 5 = .ok (.aload_n 0, 1) := dk_42 (dk_at dksJ6_init_2_0 5 rfl rfl)
theorem dJ6_init_2_6 : decode cJ6_init_2 6 = .ok (.putfield 7, 3) := dk_181 0 7 (dk_at dksJ6_init_2_0 6 rfl rfl)
theorem dJ6_init_2_9 : decode cJ6_init_2 9 = .ok (.aload_n 0, 1) := dk_42 (dk_at dksJ6_init_2_0 9 rfl rfl)
theorem dJ6_init_2_10 : decode cJ6_init_2 10 = .ok (.getstatic 13, 3) := dk_178 0 13 (dk_at dksJ6_init_2_0 10 rfl rfl)
theorem dJ6_init_2_13 : decode cJ6_init_2 13 = .ok (.putfield 17, 3) := dk_181 0 17 (dk_at dksJ6_init_2_0 13 rfl rfl)
theorem dJ6_init_2_16 : decode cJ6_init_2 16 = .ok (.aload_n 0, 1) := dk_42 (dk_at dksJ6_init_2_0 16 rfl rfl)
theorem dJ6_init_2_17 : decode cJ6_init_2 17 = .ok (.getstatic 20, 3) := dk_178 0 20 (dk_at dksJ6_init_2_0 17 rfl rfl)
theorem dJ6_init_2_20 : decode cJ6_init_2 20 = .ok (.putfield 24, 3) := dk_181 0 24 (dk_at dksJ6_init_2_0 20 rfl rfl)
theorem dJ6_init_2_23 : decode cJ6_init_2 23 = .ok (.iload 4, 2) := dk_21 4 (dk_at dksJ6_init_2_1 0 rfl rfl)
theorem dJ6_init_2_25 : decode cJ6_init_2 25 = .ok (.ifCond .eq 11, 3) := dk_153 0 11 (dk_at dksJ6_init_2_1 2 rfl rfl)
theorem dJ6_init_2_28 : decode cJ6_init_2 28 = .ok (.aload_n 0, 1) := dk_42 (dk_at dksJ6_init_2_1 5 rfl rfl)
theorem dJ6_init_2_29 : decode cJ6_init_2 29 = .ok (.invokevirtual 27, 3) := dk_182 0 27 (dk_at dksJ6_init_2_1 6 rfl rfl)
theorem dJ6_init_2_32 : decode cJ6_init_2 32 = .ok (.pop, 1) := dk_87 (dk_at dksJ6_init_2_1 9 rfl rfl)
theorem dJ6_init_2_33 : decode cJ6_init_2 33 = .ok (.goto 8, 3) := dk_167 0 8 (dk_at dksJ6_init_2_1 10 rfl rfl)
theorem dJ6_init_2_36 : decode cJ6_init_2 36 = .ok (.aload_n 0, 1) := dk_42 (dk_at dksJ6_init_2_1 13 rfl rfl)
theorem dJ6_init_2_37 : decode cJ6_init_2 37 = .ok (.aconst_null, 1) := dk_1 (dk_at dksJ6_init_2_1 14 rfl rfl)
theorem dJ6_init_2_38 : decode cJ6_init_2 38 = .ok (.putfield 17, 3) := dk_181 0 17 (dk_at dksJ6_init_2_1 15 rfl rfl)
theorem dJ6_init_2_41 : decode cJ6_init_2 41 = .ok (.aload_n 0, 1) := dk_42 (dk_at dksJ6_init_2_1 18 rfl rfl)
theorem dJ6_init_2_42 : decode cJ6_init_2 42 = .ok (.aload_n 1, 1) := dk_43 (dk_at dksJ6_init_2_1 19 rfl rfl)
theorem dJ6_init_2_43 : decode cJ6_init_2 43 = .ok (.putfield 31, 3) := dk_181 0 31 (dk_at dksJ6_init_2_1 20 rfl rfl)
theorem dJ6_init_2_46 : decode cJ6_init_2 46 = .ok (.aload_n 0, 1) := dk_42 (dk_at dksJ6_init_2_1 23 rfl rfl)
theorem dJ6_init_2_47 : decode cJ6_init_2 47 = .ok (.aload_n 2, 1) := dk_44 (dk_at dksJ6_init_2_2 0 rfl rfl)
theorem dJ6_init_2_48 : decode cJ6_init_2 48 = .ok (.putfield 7, 3) := dk_181 0 7 (dk_at dksJ6_init_2_2 1 rfl rfl)
theorem dJ6_init_2_51 : decode cJ6_init_2 51 = .ok (.iload_n 3, 1) := dk_29 (dk_at dksJ6_init_2_2 4 rfl rfl)
theorem dJ6_init_2_52 : decode cJ6_init_2 52 = .ok (.ifCond .ne 8, 3) := dk_154 0 8 (dk_at dksJ6_init_2_2 5 rfl rfl)
theorem dJ6_init_2_55 : decode cJ6_init_2 55 = .ok (.aload_n 0, 1) := dk_42 (dk_at dksJ6_init_2_2 8 rfl rfl)
theorem dJ6_init_2_56 : decode cJ6_init_2 56 = .ok (.aconst_null, 1) := dk_1 (dk_at dksJ6_init_2_2 9 rfl rfl)
theorem dJ6_init_2_57 : decode cJ6_init_2 57 = .ok (.putfield 24, 3) := dk_181 0 24 (dk_at dksJ6_init_2_2 10 rfl rfl)
theorem dJ6_init_2_60 : decode cJ6_init_2 60 = .ok (.return_, 1) := dk_177 (dk_at dksJ6_init_2_2 13 rfl rfl)
theorem q66 : (Jvm.Cond.initialized "java/lang/Throwable") ∈ lw_all := lw_g (lw_at lw_m1 19 rfl) rfl
theorem q482 : (Jvm.Cond.declares ({ cls := "java/lang/Throwable", name := "<init>", desc := "()V" } : Jvm.MethodName)) ∈ lw_tbl := lw_at lw_m2 195 rfl
theorem q483 : (Jvm.Cond.declares ({ cls := "java/lang/Throwable", name := "<init>", desc := "(Ljava/lang/String;)V" } : Jvm.MethodName)) ∈ lw_tbl := lw_at lw_m2 196 rfl
theorem q487 : (Jvm.Cond.lays "java/lang/Throwable" "java/lang/Throwable" "cause" "Ljava/lang/Throwable;") ∈ lw_all := lw_g (lw_at lw_m2 200 rfl) rfl
theorem q489 : (Jvm.Cond.lays "java/lang/Throwable" "java/lang/Throwable" "stackTrace" "[Ljava/lang/StackTraceElement;") ∈ lw_all := lw_g (lw_at lw_m2 202 rfl) rfl
theorem q491 : (Jvm.Cond.lays "java/lang/Throwable" "java/lang/Throwable" "suppressedExceptions" "Ljava/util/List;") ∈ lw_all := lw_g (lw_at lw_m2 204 rfl) rfl
theorem q493 : (Jvm.Cond.lays "java/lang/Throwable" "java/lang/Throwable" "detailMessage" "Ljava/lang/String;") ∈ lw_all := lw_g (lw_at lw_m2 206 rfl) rfl
theorem q495 : (Jvm.Cond.lays "java/lang/Throwable" "java/lang/Throwable" "backtrace" "Ljava/lang/Object;") ∈ lw_all := lw_g (lw_at lw_m2 208 rfl) rfl
theorem q496 : (Jvm.Cond.fieldLink "java/lang/Throwable" (198 : Nat) "java/lang/Throwable" "backtrace" "Ljava/lang/Object;") ∈ lw_all := lw_g (lw_at lw_m2 209 rfl) rfl
theorem q497 : (Jvm.Cond.superclass "java/lang/Throwable" "java/lang/Object") ∈ lw_all := lw_g (lw_at lw_m2 210 rfl) rfl
theorem q498 : (Jvm.Cond.instanceMethod ({ cls := "java/lang/Throwable", name := "<init>", desc := "()V" } : Jvm.MethodName)) ∈ lw_all := lw_g (lw_at lw_m2 211 rfl) rfl
theorem q499 : (Jvm.Cond.code ({ cls := "java/lang/Throwable", name := "<init>", desc := "()V" } : Jvm.MethodName) prog_23_method_1_code (1 : Nat) (Option.none : Option Jvm.ClassFile.FieldType)) ∈ lw_all := lw_g (lw_at lw_m2 212 rfl) rfl
theorem q500 : (Jvm.Cond.methodLink "java/lang/Throwable" (1 : Nat) ({ cls := "java/lang/Object", name := "<init>", desc := "()V" } : Jvm.MethodName)) ∈ lw_all := lw_g (lw_at lw_m2 213 rfl) rfl
theorem q501 : (Jvm.Cond.fieldLink "java/lang/Throwable" (13 : Nat) "java/lang/Throwable" "UNASSIGNED_STACK" "[Ljava/lang/StackTraceElement;") ∈ lw_all := lw_g (lw_at lw_m2 214 rfl) rfl
theorem q502 : (Jvm.Cond.laysStatic "java/lang/Throwable" "UNASSIGNED_STACK" "[Ljava/lang/StackTraceElement;") ∈ lw_tbl := lw_at lw_m2 215 rfl
theorem q503 : (Jvm.Cond.fieldLink "java/lang/Throwable" (20 : Nat) "java/lang/Throwable" "SUPPRESSED_SENTINEL" "Ljava/util/List;") ∈ lw_all := lw_g (lw_at lw_m2 216 rfl) rfl
theorem q504 : (Jvm.Cond.laysStatic "java/lang/Throwable" "SUPPRESSED_SENTINEL" "Ljava/util/List;") ∈ lw_tbl := lw_at lw_m2 217 rfl
theorem q505 : (Jvm.Cond.methodLink "java/lang/Throwable" (27 : Nat) ({ cls := "java/lang/Throwable", name := "fillInStackTrace", desc := "()Ljava/lang/Throwable;" } : Jvm.MethodName)) ∈ lw_all := lw_g (lw_at lw_m2 218 rfl) rfl
theorem q506 : (Jvm.Cond.instanceMethod ({ cls := "java/lang/Throwable", name := "fillInStackTrace", desc := "()Ljava/lang/Throwable;" } : Jvm.MethodName)) ∈ lw_all := lw_g (lw_at lw_m2 219 rfl) rfl
theorem q507 : (Jvm.Cond.sameMethod "java/lang/Throwable" "java/lang/Throwable" "fillInStackTrace" "()Ljava/lang/Throwable;") ∈ lw_all := lw_g (lw_at lw_m2 220 rfl) rfl
theorem q508 : (Jvm.Cond.codeSync ({ cls := "java/lang/Throwable", name := "fillInStackTrace", desc := "()Ljava/lang/Throwable;" } : Jvm.MethodName) prog_23_method_18_code (1 : Nat) (Option.some (Jvm.ClassFile.FieldType.object "java/lang/Throwable"))) ∈ lw_all := lw_g (lw_at lw_m2 221 rfl) rfl
theorem q509 : (Jvm.Cond.methodLink "java/lang/Throwable" (202 : Nat) ({ cls := "java/lang/Throwable", name := "fillInStackTrace", desc := "(I)Ljava/lang/Throwable;" } : Jvm.MethodName)) ∈ lw_all := lw_g (lw_at lw_m2 222 rfl) rfl
theorem q510 : (Jvm.Cond.privateMethod ({ cls := "java/lang/Throwable", name := "fillInStackTrace", desc := "(I)Ljava/lang/Throwable;" } : Jvm.MethodName)) ∈ lw_tbl := lw_at lw_m2 223 rfl
theorem q511 : (Jvm.Cond.instanceMethod ({ cls := "java/lang/Throwable", name := "fillInStackTrace", desc := "(I)Ljava/lang/Throwable;" } : Jvm.MethodName)) ∈ lw_all := lw_g (lw_at lw_m2 224 rfl) rfl
theorem q512 : (Jvm.Cond.instantiable "java/lang/Throwable" (6 : Nat)) ∈ lw_all := lw_g (lw_at lw_m2 225 rfl) rfl
theorem q513 : (Jvm.Cond.native ({ cls := "java/lang/Throwable", name := "fillInStackTrace", desc := "(I)Ljava/lang/Throwable;" } : Jvm.MethodName)) ∈ lw_all := lw_g (lw_at lw_m2 226 rfl) rfl
theorem q524 : (Jvm.Cond.instanceMethod ({ cls := "java/lang/Throwable", name := "<init>", desc := "(Ljava/lang/String;Ljava/lang/Throwable;ZZ)V" } : Jvm.MethodName)) ∈ lw_all := lw_g (lw_at lw_m2 237 rfl) rfl
theorem q525 : (Jvm.Cond.code ({ cls := "java/lang/Throwable", name := "<init>", desc := "(Ljava/lang/String;Ljava/lang/Throwable;ZZ)V" } : Jvm.MethodName) prog_23_method_5_code (5 : Nat) (Option.none : Option Jvm.ClassFile.FieldType)) ∈ lw_all := lw_g (lw_at lw_m2 238 rfl) rfl
theorem q528 : (Jvm.Cond.fieldLink "java/lang/Throwable" (198 : Nat) "java/lang/Throwable" "backtrace" "Ljava/lang/Object;") ∈ lw_all := lw_g (lw_at lw_m3 1 rfl) rfl
theorem q529 : (Jvm.Cond.fieldLink "java/lang/Throwable" (31 : Nat) "java/lang/Throwable" "detailMessage" "Ljava/lang/String;") ∈ lw_all := lw_g (lw_at lw_m3 2 rfl) rfl
theorem q530 : (Jvm.Cond.fieldLink "java/lang/Throwable" (7 : Nat) "java/lang/Throwable" "cause" "Ljava/lang/Throwable;") ∈ lw_all := lw_g (lw_at lw_m3 3 rfl) rfl
theorem q531 : (Jvm.Cond.fieldLink "java/lang/Throwable" (17 : Nat) "java/lang/Throwable" "stackTrace" "[Ljava/lang/StackTraceElement;") ∈ lw_all := lw_g (lw_at lw_m3 4 rfl) rfl
theorem q532 : (Jvm.Cond.fieldLink "java/lang/Throwable" (24 : Nat) "java/lang/Throwable" "suppressedExceptions" "Ljava/util/List;") ∈ lw_all := lw_g (lw_at lw_m3 5 rfl) rfl
theorem q535 : (Jvm.Cond.soleField "java/lang/Throwable" "backtrace") ∈ lw_all := lw_g (lw_at lw_m3 8 rfl) rfl
theorem q536 : (Jvm.Cond.soleField "java/lang/Throwable" "detailMessage") ∈ lw_all := lw_g (lw_at lw_m3 9 rfl) rfl
theorem q537 : (Jvm.Cond.soleField "java/lang/Throwable" "cause") ∈ lw_all := lw_g (lw_at lw_m3 10 rfl) rfl
theorem q538 : (Jvm.Cond.soleField "java/lang/Throwable" "stackTrace") ∈ lw_all := lw_g (lw_at lw_m3 11 rfl) rfl
theorem q540 : (Jvm.Cond.soleField "java/lang/Throwable" "depth") ∈ lw_all := lw_g (lw_at lw_m3 13 rfl) rfl
theorem q541 : (Jvm.Cond.soleField "java/lang/Throwable" "suppressedExceptions") ∈ lw_all := lw_g (lw_at lw_m3 14 rfl) rfl
theorem q1136 : (Jvm.Cond.sameMethod "java/lang/Throwable" "java/lang/Throwable" "fillInStackTrace" "(I)Ljava/lang/Throwable;") ∈ lw_all := lw_g (lw_at lw_m5 129 rfl) rfl
theorem in_J6 : ∀ w ∈ wsJ60, w ∈ lw_all := lw_in wsJ60 [487, 489, 491, 493, 495] (by decide +kernel) (by decide +kernel)

/-! java/lang/Exception -/
set_option maxRecDepth 100000
def RJ7 : String := "java/lang/Exception"
abbrev cJ7_init : ByteArray := prog_15_method_5_code
def yJ7_init : MethodName := ⟨RJ7, "<init>", "(Ljava/lang/String;Ljava/lang/Throwable;ZZ)V"⟩
def dkwJ7_init_0 : List UInt8 := [42, 43, 44, 29, 21, 4, 183, 0, 16, 177]
abbrev dktJ7_init_0 : List UInt8 := dkwJ7_init_0 ++ []
theorem dksJ7_init_0 : cJ7_init.data.toList.drop 0 = dktJ7_init_0 := by decide +kernel
theorem dJ7_init_0 : decode cJ7_init 0 = .ok (.aload_n 0, 1) := dk_42 (dk_at dksJ7_init_0 0 rfl rfl)
theorem dJ7_init_1 : decode cJ7_init 1 = .ok (.aload_n 1, 1) := dk_43 (dk_at dksJ7_init_0 1 rfl rfl)
theorem dJ7_init_2 : decode cJ7_init 2 = .ok (.aload_n 2, 1) := dk_44 (dk_at dksJ7_init_0 2 rfl rfl)
theorem dJ7_init_3 : decode cJ7_init 3 = .ok (.iload_n 3, 1) := dk_29 (dk_at dksJ7_init_0 3 rfl rfl)
theorem dJ7_init_4 : decode cJ7_init 4 = .ok (.iload 4, 2) := dk_21 4 (dk_at dksJ7_init_0 4 rfl rfl)
theorem dJ7_init_6 : decode cJ7_init 6 = .ok (.invokespecial 16, 3) := dk_183 0 16 (dk_at dksJ7_init_0 6 rfl rfl)
theorem dJ7_init_9 : decode cJ7_init 9 = .ok (.return_, 1) := dk_177 (dk_at dksJ7_init_0 9 rfl rfl)
theorem q67 : (Jvm.Cond.initialized "java/lang/Exception") ∈ lw_all := lw_g (lw_at lw_m1 20 rfl) rfl
theorem q480 : (Jvm.Cond.declares ({ cls := "java/lang/Exception", name := "<init>", desc := "()V" } : Jvm.MethodName)) ∈ lw_tbl := lw_at lw_m2 193 rfl
theorem q481 : (Jvm.Cond.declares ({ cls := "java/lang/Exception", name := "<init>", desc := "(Ljava/lang/String;)V" } : Jvm.MethodName)) ∈ lw_tbl := lw_at lw_m2 194 rfl
theorem q521 : (Jvm.Cond.instanceMethod ({ cls := "java/lang/Exception", name := "<init>", desc := "(Ljava/lang/String;Ljava/lang/Throwable;ZZ)V" } : Jvm.MethodName)) ∈ lw_all := lw_g (lw_at lw_m2 234 rfl) rfl
theorem q522 : (Jvm.Cond.code ({ cls := "java/lang/Exception", name := "<init>", desc := "(Ljava/lang/String;Ljava/lang/Throwable;ZZ)V" } : Jvm.MethodName) prog_15_method_5_code (5 : Nat) (Option.none : Option Jvm.ClassFile.FieldType)) ∈ lw_all := lw_g (lw_at lw_m2 235 rfl) rfl
theorem q523 : (Jvm.Cond.methodLink "java/lang/Exception" (16 : Nat) ({ cls := "java/lang/Throwable", name := "<init>", desc := "(Ljava/lang/String;Ljava/lang/Throwable;ZZ)V" } : Jvm.MethodName)) ∈ lw_all := lw_g (lw_at lw_m2 236 rfl) rfl

/-! java/lang/RuntimeException -/
set_option maxRecDepth 100000
def RJ8 : String := "java/lang/RuntimeException"
abbrev cJ8_init : ByteArray := prog_18_method_5_code
def yJ8_init : MethodName := ⟨RJ8, "<init>", "(Ljava/lang/String;Ljava/lang/Throwable;ZZ)V"⟩
def dkwJ8_init_0 : List UInt8 := [42, 43, 44, 29, 21, 4, 183, 0, 16, 177]
abbrev dktJ8_init_0 : List UInt8 := dkwJ8_init_0 ++ []
theorem dksJ8_init_0 : cJ8_init.data.toList.drop 0 = dktJ8_init_0 := by decide +kernel
theorem dJ8_init_0 : decode cJ8_init 0 = .ok (.aload_n 0, 1) := dk_42 (dk_at dksJ8_init_0 0 rfl rfl)
theorem dJ8_init_1 : decode cJ8_init 1 = .ok (.aload_n 1, 1) := dk_43 (dk_at dksJ8_init_0 1 rfl rfl)
theorem dJ8_init_2 : decode cJ8_init 2 = .ok (.aload_n 2, 1) := dk_44 (dk_at dksJ8_init_0 2 rfl rfl)
theorem dJ8_init_3 : decode cJ8_init 3 = .ok (.iload_n 3, 1) := dk_29 (dk_at dksJ8_init_0 3 rfl rfl)
theorem dJ8_init_4 : decode cJ8_init 4 = .ok (.iload 4, 2) := dk_21 4 (dk_at dksJ8_init_0 4 rfl rfl)
theorem dJ8_init_6 : decode cJ8_init 6 = .ok (.invokespecial 16, 3) := dk_183 0 16 (dk_at dksJ8_init_0 6 rfl rfl)
theorem dJ8_init_9 : decode cJ8_init 9 = .ok (.return_, 1) := dk_177 (dk_at dksJ8_init_0 9 rfl rfl)
theorem q68 : (Jvm.Cond.initialized "java/lang/RuntimeException") ∈ lw_all := lw_g (lw_at lw_m1 21 rfl) rfl
theorem q478 : (Jvm.Cond.declares ({ cls := "java/lang/RuntimeException", name := "<init>", desc := "()V" } : Jvm.MethodName)) ∈ lw_tbl := lw_at lw_m2 191 rfl
theorem q479 : (Jvm.Cond.declares ({ cls := "java/lang/RuntimeException", name := "<init>", desc := "(Ljava/lang/String;)V" } : Jvm.MethodName)) ∈ lw_tbl := lw_at lw_m2 192 rfl
theorem q518 : (Jvm.Cond.instanceMethod ({ cls := "java/lang/RuntimeException", name := "<init>", desc := "(Ljava/lang/String;Ljava/lang/Throwable;ZZ)V" } : Jvm.MethodName)) ∈ lw_all := lw_g (lw_at lw_m2 231 rfl) rfl
theorem q519 : (Jvm.Cond.code ({ cls := "java/lang/RuntimeException", name := "<init>", desc := "(Ljava/lang/String;Ljava/lang/Throwable;ZZ)V" } : Jvm.MethodName) prog_18_method_5_code (5 : Nat) (Option.none : Option Jvm.ClassFile.FieldType)) ∈ lw_all := lw_g (lw_at lw_m2 232 rfl) rfl
theorem q520 : (Jvm.Cond.methodLink "java/lang/RuntimeException" (16 : Nat) ({ cls := "java/lang/Exception", name := "<init>", desc := "(Ljava/lang/String;Ljava/lang/Throwable;ZZ)V" } : Jvm.MethodName)) ∈ lw_all := lw_g (lw_at lw_m2 233 rfl) rfl

/-! java/lang/Integer -/
set_option maxRecDepth 100000
def RJ9 : String := "java/lang/Integer"
abbrev cJ9_bitCount : ByteArray := prog_16_method_49_code
def yJ9_bitCount : MethodName := ⟨RJ9, "bitCount", "(I)I"⟩
def dkwJ9_bitCount_2 : List UInt8 := [26, 16, 63, 126, 172]
abbrev dktJ9_bitCount_2 : List UInt8 := dkwJ9_bitCount_2 ++ []
def dkwJ9_bitCount_1 : List UInt8 := [26, 26, 7, 124, 96, 19, 1, 11, 126, 59, 26, 26, 16, 8, 124, 96, 59, 26, 26, 16, 16, 124, 96, 59]
abbrev dktJ9_bitCount_1 : List UInt8 := dkwJ9_bitCount_1 ++ dktJ9_bitCount_2
def dkwJ9_bitCount_0 : List UInt8 := [26, 26, 4, 124, 19, 1, 9, 126, 100, 59, 26, 19, 1, 10, 126, 26, 5, 124, 19, 1, 10, 126, 96, 59]
abbrev dktJ9_bitCount_0 : List UInt8 := dkwJ9_bitCount_0 ++ dktJ9_bitCount_1
theorem dksJ9_bitCount_0 : cJ9_bitCount.data.toList.drop 0 = dktJ9_bitCount_0 := by decide +kernel
theorem dksJ9_bitCount_1 : cJ9_bitCount.data.toList.drop 24 = dktJ9_bitCount_1 := dk_seg dksJ9_bitCount_0 24 rfl rfl
theorem dksJ9_bitCount_2 : cJ9_bitCount.data.toList.drop 48 = dktJ9_bitCount_2 := dk_seg dksJ9_bitCount_1 24 rfl rfl
theorem dJ9_bitCount_0 : decode cJ9_bitCount 0 = .ok (.iload_n 0, 1) := dk_26 (dk_at dksJ9_bitCount_0 0 rfl rfl)
theorem dJ9_bitCount_1 : decode cJ9_bitCount 1 = .ok (.iload_n 0, 1) := dk_26 (dk_at dksJ9_bitCount_0 1 rfl rfl)
theorem dJ9_bitCount_2 : decode cJ9_bitCount 2 = .ok (.iconst 1, 1) := dk_4 (dk_at dksJ9_bitCount_0 2 rfl rfl)
theorem dJ9_bitCount_3 : decode cJ9_bitCount 3 = .ok (.iushr, 1) := dk_124 (dk_at dksJ9_bitCount_0 3 rfl rfl)
theorem dJ9_bitCount_4 : decode cJ9_bitCount 4 = .ok (.ldc_w 265, 3) := dk_19 1 9 (dk_at dksJ9_bitCount_0 4 rfl rfl)
theorem dJ9_bitCount_7 : decode cJ9_bitCount 7 = .ok (.iand, 1) := dk_126 (dk_at dksJ9_bitCount_0 7 rfl rfl)
theorem dJ9_bitCount_8 : decode cJ9_bitCount 8 = .ok (.isub, 1) := dk_100 (dk_at dksJ9_bitCount_0 8 rfl rfl)
theorem dJ9_bitCount_9 : decode cJ9_bitCount 9 = .ok (.istore_n 0, 1) := dk_59 (dk_at dksJ9_bitCount_0 9 rfl rfl)
theorem dJ9_bitCount_10 : decode cJ9_bitCount 10 = .ok (.iload_n 0, 1) := dk_26 (dk_at dksJ9_bitCount_0 10 rfl rfl)
theorem dJ9_bitCount_11 : decode cJ9_bitCount 11 = .ok (.ldc_w 266, 3) := dk_19 1 10 (dk_at dksJ9_bitCount_0 11 rfl rfl)
theorem dJ9_bitCount_14 : decode cJ9_bitCount 14 = .ok (.iand, 1) := dk_126 (dk_at dksJ9_bitCount_0 14 rfl rfl)
theorem dJ9_bitCount_15 : decode cJ9_bitCount 15 = .ok (.iload_n 0, 1) := dk_26 (dk_at dksJ9_bitCount_0 15 rfl rfl)
theorem dJ9_bitCount_16 : decode cJ9_bitCount 16 = .ok (.iconst 2, 1) := dk_5 (dk_at dksJ9_bitCount_0 16 rfl rfl)
theorem dJ9_bitCount_17 : decode cJ9_bitCount 17 = .ok (.iushr, 1) := dk_124 (dk_at dksJ9_bitCount_0 17 rfl rfl)
theorem dJ9_bitCount_18 : decode cJ9_bitCount 18 = .ok (.ldc_w 266, 3) := dk_19 1 10 (dk_at dksJ9_bitCount_0 18 rfl rfl)
theorem dJ9_bitCount_21 : decode cJ9_bitCount 21 = .ok (.iand, 1) := dk_126 (dk_at dksJ9_bitCount_0 21 rfl rfl)
theorem dJ9_bitCount_22 : decode cJ9_bitCount 22 = .ok (.iadd, 1) := dk_96 (dk_at dksJ9_bitCount_0 22 rfl rfl)
theorem dJ9_bitCount_23 : decode cJ9_bitCount 23 = .ok (.istore_n 0, 1) := dk_59 (dk_at dksJ9_bitCount_0 23 rfl rfl)
theorem dJ9_bitCount_24 : decode cJ9_bitCount 24 = .ok (.iload_n 0, 1) := dk_26 (dk_at dksJ9_bitCount_1 0 rfl rfl)
theorem dJ9_bitCount_25 : decode cJ9_bitCount 25 = .ok (.iload_n 0, 1) := dk_26 (dk_at dksJ9_bitCount_1 1 rfl rfl)
theorem dJ9_bitCount_26 : decode cJ9_bitCount 26 = .ok (.iconst 4, 1) := dk_7 (dk_at dksJ9_bitCount_1 2 rfl rfl)
theorem dJ9_bitCount_27 : decode cJ9_bitCount 27 = .ok (.iushr, 1) := dk_124 (dk_at dksJ9_bitCount_1 3 rfl rfl)
theorem dJ9_bitCount_28 : decode cJ9_bitCount 28 = .ok (.iadd, 1) := dk_96 (dk_at dksJ9_bitCount_1 4 rfl rfl)
theorem dJ9_bitCount_29 : decode cJ9_bitCount 29 = .ok (.ldc_w 267, 3) := dk_19 1 11 (dk_at dksJ9_bitCount_1 5 rfl rfl)
theorem dJ9_bitCount_32 : decode cJ9_bitCount 32 = .ok (.iand, 1) := dk_126 (dk_at dksJ9_bitCount_1 8 rfl rfl)
theorem dJ9_bitCount_33 : decode cJ9_bitCount 33 = .ok (.istore_n 0, 1) := dk_59 (dk_at dksJ9_bitCount_1 9 rfl rfl)
theorem dJ9_bitCount_34 : decode cJ9_bitCount 34 = .ok (.iload_n 0, 1) := dk_26 (dk_at dksJ9_bitCount_1 10 rfl rfl)
theorem dJ9_bitCount_35 : decode cJ9_bitCount 35 = .ok (.iload_n 0, 1) := dk_26 (dk_at dksJ9_bitCount_1 11 rfl rfl)
theorem dJ9_bitCount_36 : decode cJ9_bitCount 36 = .ok (.bipush 8, 2) := dk_16 8 (dk_at dksJ9_bitCount_1 12 rfl rfl)
theorem dJ9_bitCount_38 : decode cJ9_bitCount 38 = .ok (.iushr, 1) := dk_124 (dk_at dksJ9_bitCount_1 14 rfl rfl)
theorem dJ9_bitCount_39 : decode cJ9_bitCount 39 = .ok (.iadd, 1) := dk_96 (dk_at dksJ9_bitCount_1 15 rfl rfl)
theorem dJ9_bitCount_40 : decode cJ9_bitCount 40 = .ok (.istore_n 0, 1) := dk_59 (dk_at dksJ9_bitCount_1 16 rfl rfl)
theorem dJ9_bitCount_41 : decode cJ9_bitCount 41 = .ok (.iload_n 0, 1) := dk_26 (dk_at dksJ9_bitCount_1 17 rfl rfl)
theorem dJ9_bitCount_42 : decode cJ9_bitCount 42 = .ok (.iload_n 0, 1) := dk_26 (dk_at dksJ9_bitCount_1 18 rfl rfl)
theorem dJ9_bitCount_43 : decode cJ9_bitCount 43 = .ok (.bipush 16, 2) := dk_16 16 (dk_at dksJ9_bitCount_1 19 rfl rfl)
theorem dJ9_bitCount_45 : decode cJ9_bitCount 45 = .ok (.iushr, 1) := dk_124 (dk_at dksJ9_bitCount_1 21 rfl rfl)
theorem dJ9_bitCount_46 : decode cJ9_bitCount 46 = .ok (.iadd, 1) := dk_96 (dk_at dksJ9_bitCount_1 22 rfl rfl)
theorem dJ9_bitCount_47 : decode cJ9_bitCount 47 = .ok (.istore_n 0, 1) := dk_59 (dk_at dksJ9_bitCount_1 23 rfl rfl)
theorem dJ9_bitCount_48 : decode cJ9_bitCount 48 = .ok (.iload_n 0, 1) := dk_26 (dk_at dksJ9_bitCount_2 0 rfl rfl)
theorem dJ9_bitCount_49 : decode cJ9_bitCount 49 = .ok (.bipush 63, 2) := dk_16 63 (dk_at dksJ9_bitCount_2 1 rfl rfl)
theorem dJ9_bitCount_51 : decode cJ9_bitCount 51 = .ok (.iand, 1) := dk_126 (dk_at dksJ9_bitCount_2 3 rfl rfl)
theorem dJ9_bitCount_52 : decode cJ9_bitCount 52 = .ok (.ireturn, 1) := dk_172 (dk_at dksJ9_bitCount_2 4 rfl rfl)
theorem q71 : (Jvm.Cond.initialized "java/lang/Integer") ∈ lw_all := lw_g (lw_at lw_m1 24 rfl) rfl
theorem q663 : (Jvm.Cond.static ({ cls := "java/lang/Integer", name := "bitCount", desc := "(I)I" } : Jvm.MethodName)) ∈ lw_all := lw_g (lw_at lw_m3 136 rfl) rfl
theorem q664 : (Jvm.Cond.code ({ cls := "java/lang/Integer", name := "bitCount", desc := "(I)I" } : Jvm.MethodName) prog_16_method_49_code (1 : Nat) (Option.some Jvm.ClassFile.FieldType.int)) ∈ lw_all := lw_g (lw_at lw_m3 137 rfl) rfl
theorem q665 : (Jvm.Cond.constant "java/lang/Integer" (265 : Nat) (1431655765 : Int32)) ∈ lw_all := lw_g (lw_at lw_m3 138 rfl) rfl
theorem q666 : (Jvm.Cond.constant "java/lang/Integer" (266 : Nat) (858993459 : Int32)) ∈ lw_all := lw_g (lw_at lw_m3 139 rfl) rfl
theorem q667 : (Jvm.Cond.constant "java/lang/Integer" (267 : Nat) (252645135 : Int32)) ∈ lw_all := lw_g (lw_at lw_m3 140 rfl) rfl
