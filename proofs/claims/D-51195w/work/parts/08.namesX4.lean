/-! CountedSkipListsModel -/
set_option maxRecDepth 100000
def RX4 : String := "CountedSkipListsModel"
def TX4 : u_T := fun k => match k with
  | 0 => ("CountedSkipListsModel", "raised", "I", false)
  | 1 => ("CountedSkipListsModel", "w", "[I", true)
  | 2 => ("CountedSkipListsModel", "names", "[J", true)
  | 3 => ("CountedSkipListsModel", "undone", "[I", true)
  | 4 => ("CountedSkipListsModel", "undoneNames", "[J", true)
  | 5 => ("CountedSkipListsModel", "slots", "[I", true)
  | 6 => ("CountedSkipListsModel", "slotNames", "[J", true)
  | 7 => ("CountedSkipListsModel", "aside", "[I", true)
  | 8 => ("CountedSkipListsModel", "asideNames", "[J", true)
  | 9 => ("CountedSkipListsModel", "isSaved", "[Z", true)
  | 10 => ("CountedSkipListsModel", "undos", "I", false)
  | 11 => ("CountedSkipListsModel", "third", "[I", true)
  | 12 => ("CountedSkipListsModel", "text", "[I", true)
  | 13 => ("CountedSkipListsModel", "length", "I", false)
  | 14 => ("CountedSkipListsModel", "at", "I", false)
  | 15 => ("CountedSkipListsModel", "errorCode", "I", false)
  | 16 => ("CountedSkipListsModel", "errorPosition", "I", false)
  | 17 => ("CountedSkipListsModel", "isBad", "Z", false)
  | 18 => ("CountedSkipListsModel", "value", "I", false)
  | 19 => ("CountedSkipListsModel", "valueAt", "I", false)
  | 20 => ("CountedSkipListsModel", "wordAt", "I", false)
  | 21 => ("CountedSkipListsModel", "newLimit", "I", false)
  | 22 => ("CountedSkipListsModel", "newLists", "I", false)
  | 23 => ("CountedSkipListsModel", "newNames", "[J", true)
  | 24 => ("CountedSkipListsModel", "newSize", "[I", true)
  | 25 => ("CountedSkipListsModel", "newKey", "[I", true)
  | 26 => ("CountedSkipListsModel", "newValue", "[I", true)
  | 27 => ("CountedSkipListsModel", "looked", "I", false)
  | 28 => ("CountedSkipListsModel", "stepped", "I", false)
  | 29 => ("CountedSkipListsModel", "stepAt", "I", false)
  | _ => ("CountedSkipListsModel", "stepOn", "I", false)
def tyX4 : Nat → FieldType := fun k => match k with
  | 0 => .int
  | 1 => .array .int
  | 2 => .array .long
  | 3 => .array .int
  | 4 => .array .long
  | 5 => .array .int
  | 6 => .array .long
  | 7 => .array .int
  | 8 => .array .long
  | 9 => .array .boolean
  | 10 => .int
  | 11 => .array .int
  | 12 => .array .int
  | 13 => .int
  | 14 => .int
  | 15 => .int
  | 16 => .int
  | 17 => .boolean
  | 18 => .int
  | 19 => .int
  | 20 => .int
  | 21 => .int
  | 22 => .int
  | 23 => .array .long
  | 24 => .array .int
  | 25 => .array .int
  | 26 => .array .int
  | 27 => .int
  | 28 => .int
  | 29 => .int
  | _ => .int
abbrev wsX40 : List Cond := u_ws RX4 TX4 31
set_option maxRecDepth 100000 in
theorem nmX4 : ∀ a, a < 31 → ∀ b, b < 31 → a ≠ b → (TX4 a).2.1 ≠ (TX4 b).2.1 := by decide +kernel
set_option maxRecDepth 100000 in
theorem tyX4_ok : ∀ k, k < 31 → parseFieldDescriptor (TX4 k).2.2.1 = some (tyX4 k) := by decide +kernel
abbrev cX4_init : ByteArray := prog_19_method_1_code
def yX4_init : MethodName := ⟨RX4, "<init>", "()V"⟩
def dkwX4_init_6 : List UInt8 := [79, 177]
abbrev dktX4_init_6 : List UInt8 := dkwX4_init_6 ++ []
def dkwX4_init_5 : List UInt8 := [42, 17, 1, 104, 188, 10, 181, 0, 56, 42, 17, 1, 104, 188, 10, 181, 0, 59, 42, 180, 0, 7, 3, 6]
abbrev dktX4_init_5 : List UInt8 := dkwX4_init_5 ++ dktX4_init_6
def dkwX4_init_4 : List UInt8 := [181, 0, 43, 42, 2, 181, 0, 46, 42, 16, 6, 188, 11, 181, 0, 50, 42, 16, 6, 188, 10, 181, 0, 53]
abbrev dktX4_init_4 : List UInt8 := dkwX4_init_4 ++ dktX4_init_5
def dkwX4_init_3 : List UInt8 := [42, 5, 188, 4, 181, 0, 36, 42, 17, 0, 182, 188, 10, 181, 0, 40, 42, 17, 3, 232, 188, 10]
abbrev dktX4_init_3 : List UInt8 := dkwX4_init_3 ++ dktX4_init_4
def dkwX4_init_2 : List UInt8 := [16, 12, 188, 11, 181, 0, 27, 42, 17, 16, 4, 188, 10, 181, 0, 30, 42, 16, 6, 188, 11, 181, 0, 33]
abbrev dktX4_init_2 : List UInt8 := dkwX4_init_2 ++ dktX4_init_3
def dkwX4_init_1 : List UInt8 := [188, 10, 181, 0, 18, 42, 16, 60, 188, 11, 181, 0, 21, 42, 17, 32, 8, 188, 10, 181, 0, 24, 42]
abbrev dktX4_init_1 : List UInt8 := dkwX4_init_1 ++ dktX4_init_2
def dkwX4_init_0 : List UInt8 := [42, 183, 0, 1, 42, 17, 16, 4, 188, 10, 181, 0, 7, 42, 16, 6, 188, 11, 181, 0, 13, 42, 18, 17]
abbrev dktX4_init_0 : List UInt8 := dkwX4_init_0 ++ dktX4_init_1
theorem dksX4_init_0 : cX4_init.data.toList.drop 0 = dktX4_init_0 := by decide +kernel
theorem dksX4_init_1 : cX4_init.data.toList.drop 24 = dktX4_init_1 := dk_seg dksX4_init_0 24 rfl rfl
theorem dksX4_init_2 : cX4_init.data.toList.drop 47 = dktX4_init_2 := dk_seg dksX4_init_1 23 rfl rfl
theorem dksX4_init_3 : cX4_init.data.toList.drop 71 = dktX4_init_3 := dk_seg dksX4_init_2 24 rfl rfl
theorem dksX4_init_4 : cX4_init.data.toList.drop 93 = dktX4_init_4 := dk_seg dksX4_init_3 22 rfl rfl
theorem dksX4_init_5 : cX4_init.data.toList.drop 117 = dktX4_init_5 := dk_seg dksX4_init_4 24 rfl rfl
theorem dksX4_init_6 : cX4_init.data.toList.drop 141 = dktX4_init_6 := dk_seg dksX4_init_5 24 rfl rfl
theorem dX4_init_0 : decode cX4_init 0 = .ok (.aload_n 0, 1) := dk_42 (dk_at dksX4_init_0 0 rfl rfl)
theorem dX4_init_1 : decode cX4_init 1 = .ok (.invokespecial 1, 3) := dk_183 0 1 (dk_at dksX4_init_0 1 rfl rfl)
theorem dX4_init_4 : decode cX4_init 4 = .ok (.aload_n 0, 1) := dk_42 (dk_at dksX4_init_0 4 rfl rfl)
theorem dX4_init_5 : decode cX4_init 5 = .ok (.sipush 4100, 3) := dk_17 16 4 (dk_at dksX4_init_0 5 rfl rfl)
theorem dX4_init_8 : decode cX4_init 8 = .ok (.newarray .int, 2) := dk_188_10 (dk_at dksX4_init_0 8 rfl rfl)
theorem dX4_init_10 : decode cX4_init 10 = .ok (.putfield 7, 3) := dk_181 0 7 (dk_at dksX4_init_0 10 rfl rfl)
theorem dX4_init_13 : decode cX4_init 13 = .ok (.aload_n 0, 1) := dk_42 (dk_at dksX4_init_0 13 rfl rfl)
theorem dX4_init_14 : decode cX4_init 14 = .ok (.bipush 6, 2) := dk_16 6 (dk_at dksX4_init_0 14 rfl rfl)
theorem dX4_init_16 : decode cX4_init 16 = .ok (.newarray .long, 2) := dk_188_11 (dk_at dksX4_init_0 16 rfl rfl)
theorem dX4_init_18 : decode cX4_init 18 = .ok (.putfield 13, 3) := dk_181 0 13 (dk_at dksX4_init_0 18 rfl rfl)
theorem dX4_init_21 : decode cX4_init 21 = .ok (.aload_n 0, 1) := dk_42 (dk_at dksX4_init_0 21 rfl rfl)
theorem dX4_init_22 : decode cX4_init 22 = .ok (.ldc 17, 2) := dk_18 17 (dk_at dksX4_init_0 22 rfl rfl)
theorem dX4_init_24 : decode cX4_init 24 = .ok (.newarray .int, 2) := dk_188_10 (dk_at dksX4_init_1 0 rfl rfl)
theorem dX4_init_26 : decode cX4_init 26 = .ok (.putfield 18, 3) := dk_181 0 18 (dk_at dksX4_init_1 2 rfl rfl)
theorem dX4_init_29 : decode cX4_init 29 = .ok (.aload_n 0, 1) := dk_42 (dk_at dksX4_init_1 5 rfl rfl)
theorem dX4_init_30 : decode cX4_init 30 = .ok (.bipush 60, 2) := dk_16 60 (dk_at dksX4_init_1 6 rfl rfl)
theorem dX4_init_32 : decode cX4_init 32 = .ok (.newarray .long, 2) := dk_188_11 (dk_at dksX4_init_1 8 rfl rfl)
theorem dX4_init_34 : decode cX4_init 34 = .ok (.putfield 21, 3) := dk_181 0 21 (dk_at dksX4_init_1 10 rfl rfl)
theorem dX4_init_37 : decode cX4_init 37 = .ok (.aload_n 0, 1) := dk_42 (dk_at dksX4_init_1 13 rfl rfl)
theorem dX4_init_38 : decode cX4_init 38 = .ok (.sipush 8200, 3) := dk_17 32 8 (dk_at dksX4_init_1 14 rfl rfl)
theorem dX4_init_41 : decode cX4_init 41 = .ok (.newarray .int, 2) := dk_188_10 (dk_at dksX4_init_1 17 rfl rfl)
theorem dX4_init_43 : decode cX4_init 43 = .ok (.putfield 24, 3) := dk_181 0 24 (dk_at dksX4_init_1 19 rfl rfl)
theorem dX4_init_46 : decode cX4_init 46 = .ok (.aload_n 0, 1) := dk_42 (dk_at dksX4_init_1 22 rfl rfl)
theorem dX4_init_47 : decode cX4_init 47 = .ok (.bipush 12, 2) := dk_16 12 (dk_at dksX4_init_2 0 rfl rfl)
theorem dX4_init_49 : decode cX4_init 49 = .ok (.newarray .long, 2) := dk_188_11 (dk_at dksX4_init_2 2 rfl rfl)
theorem dX4_init_51 : decode cX4_init 51 = .ok (.putfield 27, 3) := dk_181 0 27 (dk_at dksX4_init_2 4 rfl rfl)
theorem dX4_init_54 : decode cX4_init 54 = .ok (.aload_n 0, 1) := dk_42 (dk_at dksX4_init_2 7 rfl rfl)
theorem dX4_init_55 : decode cX4_init 55 = .ok (.sipush 4100, 3) := dk_17 16 4 (dk_at dksX4_init_2 8 rfl rfl)
theorem dX4_init_58 : decode cX4_init 58 = .ok (.newarray .int, 2) := dk_188_10 (dk_at dksX4_init_2 11 rfl rfl)
theorem dX4_init_60 : decode cX4_init 60 = .ok (.putfield 30, 3) := dk_181 0 30 (dk_at dksX4_init_2 13 rfl rfl)
theorem dX4_init_63 : decode cX4_init 63 = .ok (.aload_n 0, 1) := dk_42 (dk_at dksX4_init_2 16 rfl rfl)
theorem dX4_init_64 : decode cX4_init 64 = .ok (.bipush 6, 2) := dk_16 6 (dk_at dksX4_init_2 17 rfl rfl)
theorem dX4_init_66 : decode cX4_init 66 = .ok (.newarray .long, 2) := dk_188_11 (dk_at dksX4_init_2 19 rfl rfl)
theorem dX4_init_68 : decode cX4_init 68 = .ok (.putfield 33, 3) := dk_181 0 33 (dk_at dksX4_init_2 21 rfl rfl)
theorem dX4_init_71 : decode cX4_init 71 = .ok (.aload_n 0, 1) := dk_42 (dk_at dksX4_init_3 0 rfl rfl)
theorem dX4_init_72 : decode cX4_init 72 = .ok (.iconst 2, 1) := dk_5 (dk_at dksX4_init_3 1 rfl rfl)
theorem dX4_init_73 : decode cX4_init 73 = .ok (.newarray .boolean, 2) := dk_188_4 (dk_at dksX4_init_3 2 rfl rfl)
theorem dX4_init_75 : decode cX4_init 75 = .ok (.putfield 36, 3) := dk_181 0 36 (dk_at dksX4_init_3 4 rfl rfl)
theorem dX4_init_78 : decode cX4_init 78 = .ok (.aload_n 0, 1) := dk_42 (dk_at dksX4_init_3 7 rfl rfl)
theorem dX4_init_79 : decode cX4_init 79 = .ok (.sipush 182, 3) := dk_17 0 182 (dk_at dksX4_init_3 8 rfl rfl)
theorem dX4_init_82 : decode cX4_init 82 = .ok (.newarray .int, 2) := dk_188_10 (dk_at dksX4_init_3 11 rfl rfl)
theorem dX4_init_84 : decode cX4_init 84 = .ok (.putfield 40, 3) := dk_181 0 40 (dk_at dksX4_init_3 13 rfl rfl)
theorem dX4_init_87 : decode cX4_init 87 = .ok (.aload_n 0, 1) := dk_42 (dk_at dksX4_init_3 16 rfl rfl)
theorem dX4_init_88 : decode cX4_init 88 = .ok (.sipush 1000, 3) := dk_17 3 232 (dk_at dksX4_init_3 17 rfl rfl)
theorem dX4_init_91 : decode cX4_init 91 = .ok (.newarray .int, 2) := dk_188_10 (dk_at dksX4_init_3 20 rfl rfl)
theorem dX4_init_93 : decode cX4_init 93 = .ok (.putfield 43, 3) := dk_181 0 43 (dk_at dksX4_init_4 0 rfl rfl)
theorem dX4_init_96 : decode cX4_init 96 = .ok (.aload_n 0, 1) := dk_42 (dk_at dksX4_init_4 3 rfl rfl)
theorem dX4_init_97 : decode cX4_init 97 = .ok (.iconst (-1), 1) := dk_2 (dk_at dksX4_init_4 4 rfl rfl)
theorem dX4_init_98 : decode cX4_init 98 = .ok (.putfield 46, 3) := dk_181 0 46 (dk_at dksX4_init_4 5 rfl rfl)
theorem dX4_init_101 : decode cX4_init 101 = .ok (.aload_n 0, 1) := dk_42 (dk_at dksX4_init_4 8 rfl rfl)
theorem dX4_init_102 : decode cX4_init 102 = .ok (.bipush 6, 2) := dk_16 6 (dk_at dksX4_init_4 9 rfl rfl)
theorem dX4_init_104 : decode cX4_init 104 = .ok (.newarray .long, 2) := dk_188_11 (dk_at dksX4_init_4 11 rfl rfl)
theorem dX4_init_106 : decode cX4_init 106 = .ok (.putfield 50, 3) := dk_181 0 50 (dk_at dksX4_init_4 13 rfl rfl)
theorem dX4_init_109 : decode cX4_init 109 = .ok (.aload_n 0, 1) := dk_42 (dk_at dksX4_init_4 16 rfl rfl)
theorem dX4_init_110 : decode cX4_init 110 = .ok (.bipush 6, 2) := dk_16 6 (dk_at dksX4_init_4 17 rfl rfl)
theorem dX4_init_112 : decode cX4_init 112 = .ok (.newarray .int, 2) := dk_188_10 (dk_at dksX4_init_4 19 rfl rfl)
theorem dX4_init_114 : decode cX4_init 114 = .ok (.putfield 53, 3) := dk_181 0 53 (dk_at dksX4_init_4 21 rfl rfl)
theorem dX4_init_117 : decode cX4_init 117 = .ok (.aload_n 0, 1) := dk_42 (dk_at dksX4_init_5 0 rfl rfl)
theorem dX4_init_118 : decode cX4_init 118 = .ok (.sipush 360, 3) := dk_17 1 104 (dk_at dksX4_init_5 1 rfl rfl)
theorem dX4_init_121 : decode cX4_init 121 = .ok (.newarray .int, 2) := dk_188_10 (dk_at dksX4_init_5 4 rfl rfl)
theorem dX4_init_123 : decode cX4_init 123 = .ok (.putfield 56, 3) := dk_181 0 56 (dk_at dksX4_init_5 6 rfl rfl)
theorem dX4_init_126 : decode cX4_init 126 = .ok (.aload_n 0, 1) := dk_42 (dk_at dksX4_init_5 9 rfl rfl)
theorem dX4_init_127 : decode cX4_init 127 = .ok (.sipush 360, 3) := dk_17 1 104 (dk_at dksX4_init_5 10 rfl rfl)
theorem dX4_init_130 : decode cX4_init 130 = .ok (.newarray .int, 2) := dk_188_10 (dk_at dksX4_init_5 13 rfl rfl)
theorem dX4_init_132 : decode cX4_init 132 = .ok (.putfield 59, 3) := dk_181 0 59 (dk_at dksX4_init_5 15 rfl rfl)
theorem dX4_init_135 : decode cX4_init 135 = .ok (.aload_n 0, 1) := dk_42 (dk_at dksX4_init_5 18 rfl rfl)
theorem dX4_init_136 : decode cX4_init 136 = .ok (.getfield 7, 3) := dk_180 0 7 (dk_at dksX4_init_5 19 rfl rfl)
theorem dX4_init_139 : decode cX4_init 139 = .ok (.iconst 0, 1) := dk_3 (dk_at dksX4_init_5 22 rfl rfl)
theorem dX4_init_140 : decode cX4_init 140 = .ok (.iconst 3, 1) := dk_6 (dk_at dksX4_init_5 23 rfl rfl)
theorem dX4_init_141 : decode cX4_init 141 = .ok (.iastore, 1) := dk_79 (dk_at dksX4_init_6 0 rfl rfl)
theorem dX4_init_142 : decode cX4_init 142 = .ok (.return_, 1) := dk_177 (dk_at dksX4_init_6 1 rfl rfl)
abbrev cX4_thrown : ByteArray := prog_19_method_2_code
def yX4_thrown : MethodName := ⟨RX4, "thrown", "()I"⟩
theorem dX4_thrown_0 : decode cX4_thrown 0 = .ok (.aload_n 0, 1) := by decide +kernel
theorem dX4_thrown_1 : decode cX4_thrown 1 = .ok (.getfield 62, 3) := by decide +kernel
theorem dX4_thrown_4 : decode cX4_thrown 4 = .ok (.ireturn, 1) := by decide +kernel
abbrev cX4_append : ByteArray := prog_19_method_5_code
def yX4_append : MethodName := ⟨RX4, "append", "(IIIII)I"⟩
def dkwX4_append_2 : List UInt8 := [21, 4, 182, 0, 68, 42, 21, 5, 182, 0, 68, 42, 180, 0, 65, 172]
abbrev dktX4_append_2 : List UInt8 := dkwX4_append_2 ++ []
def dkwX4_append_1 : List UInt8 := [180, 0, 62, 158, 0, 5, 3, 172, 42, 27, 182, 0, 68, 42, 28, 182, 0, 68, 42, 29, 182, 0, 68, 42]
abbrev dktX4_append_1 : List UInt8 := dkwX4_append_1 ++ dktX4_append_2
def dkwX4_append_0 : List UInt8 := [42, 42, 180, 0, 65, 16, 20, 96, 17, 3, 232, 164, 0, 7, 4, 167, 0, 4, 3, 181, 0, 62, 42]
abbrev dktX4_append_0 : List UInt8 := dkwX4_append_0 ++ dktX4_append_1
theorem dksX4_append_0 : cX4_append.data.toList.drop 0 = dktX4_append_0 := by decide +kernel
theorem dksX4_append_1 : cX4_append.data.toList.drop 23 = dktX4_append_1 := dk_seg dksX4_append_0 23 rfl rfl
theorem dksX4_append_2 : cX4_append.data.toList.drop 47 = dktX4_append_2 := dk_seg dksX4_append_1 24 rfl rfl
theorem dX4_append_0 : decode cX4_append 0 = .ok (.aload_n 0, 1) := dk_42 (dk_at dksX4_append_0 0 rfl rfl)
theorem dX4_append_1 : decode cX4_append 1 = .ok (.aload_n 0, 1) := dk_42 (dk_at dksX4_append_0 1 rfl rfl)
theorem dX4_append_2 : decode cX4_append 2 = .ok (.getfield 65, 3) := dk_180 0 65 (dk_at dksX4_append_0 2 rfl rfl)
theorem dX4_append_5 : decode cX4_append 5 = .ok (.bipush 20, 2) := dk_16 20 (dk_at dksX4_append_0 5 rfl rfl)
theorem dX4_append_7 : decode cX4_append 7 = .ok (.iadd, 1) := dk_96 (dk_at dksX4_append_0 7 rfl rfl)
theorem dX4_append_8 : decode cX4_append 8 = .ok (.sipush 1000, 3) := dk_17 3 232 (dk_at dksX4_append_0 8 rfl rfl)
theorem dX4_append_11 : decode cX4_append 11 = .ok (.if_icmp .le 7, 3) := dk_164 0 7 (dk_at dksX4_append_0 11 rfl rfl)
theorem dX4_append_14 : decode cX4_append 14 = .ok (.iconst 1, 1) := dk_4 (dk_at dksX4_append_0 14 rfl rfl)
theorem dX4_append_15 : decode cX4_append 15 = .ok (.goto 4, 3) := dk_167 0 4 (dk_at dksX4_append_0 15 rfl rfl)
theorem dX4_append_18 : decode cX4_append 18 = .ok (.iconst 0, 1) := dk_3 (dk_at dksX4_append_0 18 rfl rfl)
theorem dX4_append_19 : decode cX4_append 19 = .ok (.putfield 62, 3) := dk_181 0 62 (dk_at dksX4_append_0 19 rfl rfl)
theorem dX4_append_22 : decode cX4_append 22 = .ok (.aload_n 0, 1) := dk_42 (dk_at dksX4_append_0 22 rfl rfl)
theorem dX4_append_23 : decode cX4_append 23 = .ok (.getfield 62, 3) := dk_180 0 62 (dk_at dksX4_append_1 0 rfl rfl)
theorem dX4_append_26 : decode cX4_append 26 = .ok (.ifCond .le 5, 3) := dk_158 0 5 (dk_at dksX4_append_1 3 rfl rfl)
theorem dX4_append_29 : decode cX4_append 29 = .ok (.iconst 0, 1) := dk_3 (dk_at dksX4_append_1 6 rfl rfl)
theorem dX4_append_30 : decode cX4_append 30 = .ok (.ireturn, 1) := dk_172 (dk_at dksX4_append_1 7 rfl rfl)
theorem dX4_append_31 : decode cX4_append 31 = .ok (.aload_n 0, 1) := dk_42 (dk_at dksX4_append_1 8 rfl rfl)
theorem dX4_append_32 : decode cX4_append 32 = .ok (.iload_n 1, 1) := dk_27 (dk_at dksX4_append_1 9 rfl rfl)
theorem dX4_append_33 : decode cX4_append 33 = .ok (.invokevirtual 68, 3) := dk_182 0 68 (dk_at dksX4_append_1 10 rfl rfl)
theorem dX4_append_36 : decode cX4_append 36 = .ok (.aload_n 0, 1) := dk_42 (dk_at dksX4_append_1 13 rfl rfl)
theorem dX4_append_37 : decode cX4_append 37 = .ok (.iload_n 2, 1) := dk_28 (dk_at dksX4_append_1 14 rfl rfl)
theorem dX4_append_38 : decode cX4_append 38 = .ok (.invokevirtual 68, 3) := dk_182 0 68 (dk_at dksX4_append_1 15 rfl rfl)
theorem dX4_append_41 : decode cX4_append 41 = .ok (.aload_n 0, 1) := dk_42 (dk_at dksX4_append_1 18 rfl rfl)
theorem dX4_append_42 : decode cX4_append 42 = .ok (.iload_n 3, 1) := dk_29 (dk_at dksX4_append_1 19 rfl rfl)
theorem dX4_append_43 : decode cX4_append 43 = .ok (.invokevirtual 68, 3) := dk_182 0 68 (dk_at dksX4_append_1 20 rfl rfl)
theorem dX4_append_46 : decode cX4_append 46 = .ok (.aload_n 0, 1) := dk_42 (dk_at dksX4_append_1 23 rfl rfl)
theorem dX4_append_47 : decode cX4_append 47 = .ok (.iload 4, 2) := dk_21 4 (dk_at dksX4_append_2 0 rfl rfl)
theorem dX4_append_49 : decode cX4_append 49 = .ok (.invokevirtual 68, 3) := dk_182 0 68 (dk_at dksX4_append_2 2 rfl rfl)
theorem dX4_append_52 : decode cX4_append 52 = .ok (.aload_n 0, 1) := dk_42 (dk_at dksX4_append_2 5 rfl rfl)
theorem dX4_append_53 : decode cX4_append 53 = .ok (.iload 5, 2) := dk_21 5 (dk_at dksX4_append_2 6 rfl rfl)
theorem dX4_append_55 : decode cX4_append 55 = .ok (.invokevirtual 68, 3) := dk_182 0 68 (dk_at dksX4_append_2 8 rfl rfl)
theorem dX4_append_58 : decode cX4_append 58 = .ok (.aload_n 0, 1) := dk_42 (dk_at dksX4_append_2 11 rfl rfl)
theorem dX4_append_59 : decode cX4_append 59 = .ok (.getfield 65, 3) := dk_180 0 65 (dk_at dksX4_append_2 12 rfl rfl)
theorem dX4_append_62 : decode cX4_append 62 = .ok (.ireturn, 1) := dk_172 (dk_at dksX4_append_2 15 rfl rfl)
abbrev cX4_bytes : ByteArray := prog_19_method_4_code
def yX4_bytes : MethodName := ⟨RX4, "bytes", "(I)V"⟩
def dkwX4_bytes_1 : List UInt8 := [89, 180, 0, 65, 4, 96, 181, 0, 65, 132, 2, 248, 167, 255, 223, 177]
abbrev dktX4_bytes_1 : List UInt8 := dkwX4_bytes_1 ++ []
def dkwX4_bytes_0 : List UInt8 := [16, 24, 61, 28, 155, 0, 35, 42, 180, 0, 43, 42, 180, 0, 65, 27, 28, 122, 17, 0, 255, 126, 79, 42]
abbrev dktX4_bytes_0 : List UInt8 := dkwX4_bytes_0 ++ dktX4_bytes_1
theorem dksX4_bytes_0 : cX4_bytes.data.toList.drop 0 = dktX4_bytes_0 := by decide +kernel
theorem dksX4_bytes_1 : cX4_bytes.data.toList.drop 24 = dktX4_bytes_1 := dk_seg dksX4_bytes_0 24 rfl rfl
theorem dX4_bytes_0 : decode cX4_bytes 0 = .ok (.bipush 24, 2) := dk_16 24 (dk_at dksX4_bytes_0 0 rfl rfl)
theorem dX4_bytes_2 : decode cX4_bytes 2 = .ok (.istore_n 2, 1) := dk_61 (dk_at dksX4_bytes_0 2 rfl rfl)
theorem dX4_bytes_3 : decode cX4_bytes 3 = .ok (.iload_n 2, 1) := dk_28 (dk_at dksX4_bytes_0 3 rfl rfl)
theorem dX4_bytes_4 : decode cX4_bytes 4 = .ok (.ifCond .lt 35, 3) := dk_155 0 35 (dk_at dksX4_bytes_0 4 rfl rfl)
theorem dX4_bytes_7 : decode cX4_bytes 7 = .ok (.aload_n 0, 1) := dk_42 (dk_at dksX4_bytes_0 7 rfl rfl)
theorem dX4_bytes_8 : decode cX4_bytes 8 = .ok (.getfield 43, 3) := dk_180 0 43 (dk_at dksX4_bytes_0 8 rfl rfl)
theorem dX4_bytes_11 : decode cX4_bytes 11 = .ok (.aload_n 0, 1) := dk_42 (dk_at dksX4_bytes_0 11 rfl rfl)
theorem dX4_bytes_12 : decode cX4_bytes 12 = .ok (.getfield 65, 3) := dk_180 0 65 (dk_at dksX4_bytes_0 12 rfl rfl)
theorem dX4_bytes_15 : decode cX4_bytes 15 = .ok (.iload_n 1, 1) := dk_27 (dk_at dksX4_bytes_0 15 rfl rfl)
theorem dX4_bytes_16 : decode cX4_bytes 16 = .ok (.iload_n 2, 1) := dk_28 (dk_at dksX4_bytes_0 16 rfl rfl)
theorem dX4_bytes_17 : decode cX4_bytes 17 = .ok (.ishr, 1) := dk_122 (dk_at dksX4_bytes_0 17 rfl rfl)
theorem dX4_bytes_18 : decode cX4_bytes 18 = .ok (.sipush 255, 3) := dk_17 0 255 (dk_at dksX4_bytes_0 18 rfl rfl)
theorem dX4_bytes_21 : decode cX4_bytes 21 = .ok (.iand, 1) := dk_126 (dk_at dksX4_bytes_0 21 rfl rfl)
theorem dX4_bytes_22 : decode cX4_bytes 22 = .ok (.iastore, 1) := dk_79 (dk_at dksX4_bytes_0 22 rfl rfl)
theorem dX4_bytes_23 : decode cX4_bytes 23 = .ok (.aload_n 0, 1) := dk_42 (dk_at dksX4_bytes_0 23 rfl rfl)
theorem dX4_bytes_24 : decode cX4_bytes 24 = .ok (.dup, 1) := dk_89 (dk_at dksX4_bytes_1 0 rfl rfl)
theorem dX4_bytes_25 : decode cX4_bytes 25 = .ok (.getfield 65, 3) := dk_180 0 65 (dk_at dksX4_bytes_1 1 rfl rfl)
theorem dX4_bytes_28 : decode cX4_bytes 28 = .ok (.iconst 1, 1) := dk_4 (dk_at dksX4_bytes_1 4 rfl rfl)
theorem dX4_bytes_29 : decode cX4_bytes 29 = .ok (.iadd, 1) := dk_96 (dk_at dksX4_bytes_1 5 rfl rfl)
theorem dX4_bytes_30 : decode cX4_bytes 30 = .ok (.putfield 65, 3) := dk_181 0 65 (dk_at dksX4_bytes_1 6 rfl rfl)
theorem dX4_bytes_33 : decode cX4_bytes 33 = .ok (.iinc 2 (-8), 3) := dk_132 2 248 (dk_at dksX4_bytes_1 9 rfl rfl)
theorem dX4_bytes_36 : decode cX4_bytes 36 = .ok (.goto (-33), 3) := dk_167 255 223 (dk_at dksX4_bytes_1 12 rfl rfl)
theorem dX4_bytes_39 : decode cX4_bytes 39 = .ok (.return_, 1) := dk_177 (dk_at dksX4_bytes_1 15 rfl rfl)
abbrev cX4_truncate : ByteArray := prog_19_method_6_code
def yX4_truncate : MethodName := ⟨RX4, "truncate", "(I)I"⟩
def dkwX4_truncate_1 : List UInt8 := [180, 0, 62, 158, 0, 5, 3, 172, 42, 27, 181, 0, 65, 27, 172]
abbrev dktX4_truncate_1 : List UInt8 := dkwX4_truncate_1 ++ []
def dkwX4_truncate_0 : List UInt8 := [42, 27, 133, 9, 42, 180, 0, 65, 133, 184, 0, 72, 153, 0, 7, 3, 167, 0, 4, 4, 181, 0, 62, 42]
abbrev dktX4_truncate_0 : List UInt8 := dkwX4_truncate_0 ++ dktX4_truncate_1
theorem dksX4_truncate_0 : cX4_truncate.data.toList.drop 0 = dktX4_truncate_0 := by decide +kernel
theorem dksX4_truncate_1 : cX4_truncate.data.toList.drop 24 = dktX4_truncate_1 := dk_seg dksX4_truncate_0 24 rfl rfl
theorem dX4_truncate_0 : decode cX4_truncate 0 = .ok (.aload_n 0, 1) := dk_42 (dk_at dksX4_truncate_0 0 rfl rfl)
theorem dX4_truncate_1 : decode cX4_truncate 1 = .ok (.iload_n 1, 1) := dk_27 (dk_at dksX4_truncate_0 1 rfl rfl)
theorem dX4_truncate_2 : decode cX4_truncate 2 = .ok (.i2l, 1) := dk_133 (dk_at dksX4_truncate_0 2 rfl rfl)
theorem dX4_truncate_3 : decode cX4_truncate 3 = .ok (.lconst 0, 1) := dk_9 (dk_at dksX4_truncate_0 3 rfl rfl)
theorem dX4_truncate_4 : decode cX4_truncate 4 = .ok (.aload_n 0, 1) := dk_42 (dk_at dksX4_truncate_0 4 rfl rfl)
theorem dX4_truncate_5 : decode cX4_truncate 5 = .ok (.getfield 65, 3) := dk_180 0 65 (dk_at dksX4_truncate_0 5 rfl rfl)
theorem dX4_truncate_8 : decode cX4_truncate 8 = .ok (.i2l, 1) := dk_133 (dk_at dksX4_truncate_0 8 rfl rfl)
theorem dX4_truncate_9 : decode cX4_truncate 9 = .ok (.invokestatic 72, 3) := dk_184 0 72 (dk_at dksX4_truncate_0 9 rfl rfl)
theorem dX4_truncate_12 : decode cX4_truncate 12 = .ok (.ifCond .eq 7, 3) := dk_153 0 7 (dk_at dksX4_truncate_0 12 rfl rfl)
theorem dX4_truncate_15 : decode cX4_truncate 15 = .ok (.iconst 0, 1) := dk_3 (dk_at dksX4_truncate_0 15 rfl rfl)
theorem dX4_truncate_16 : decode cX4_truncate 16 = .ok (.goto 4, 3) := dk_167 0 4 (dk_at dksX4_truncate_0 16 rfl rfl)
theorem dX4_truncate_19 : decode cX4_truncate 19 = .ok (.iconst 1, 1) := dk_4 (dk_at dksX4_truncate_0 19 rfl rfl)
theorem dX4_truncate_20 : decode cX4_truncate 20 = .ok (.putfield 62, 3) := dk_181 0 62 (dk_at dksX4_truncate_0 20 rfl rfl)
theorem dX4_truncate_23 : decode cX4_truncate 23 = .ok (.aload_n 0, 1) := dk_42 (dk_at dksX4_truncate_0 23 rfl rfl)
theorem dX4_truncate_24 : decode cX4_truncate 24 = .ok (.getfield 62, 3) := dk_180 0 62 (dk_at dksX4_truncate_1 0 rfl rfl)
theorem dX4_truncate_27 : decode cX4_truncate 27 = .ok (.ifCond .le 5, 3) := dk_158 0 5 (dk_at dksX4_truncate_1 3 rfl rfl)
theorem dX4_truncate_30 : decode cX4_truncate 30 = .ok (.iconst 0, 1) := dk_3 (dk_at dksX4_truncate_1 6 rfl rfl)
theorem dX4_truncate_31 : decode cX4_truncate 31 = .ok (.ireturn, 1) := dk_172 (dk_at dksX4_truncate_1 7 rfl rfl)
theorem dX4_truncate_32 : decode cX4_truncate 32 = .ok (.aload_n 0, 1) := dk_42 (dk_at dksX4_truncate_1 8 rfl rfl)
theorem dX4_truncate_33 : decode cX4_truncate 33 = .ok (.iload_n 1, 1) := dk_27 (dk_at dksX4_truncate_1 9 rfl rfl)
theorem dX4_truncate_34 : decode cX4_truncate 34 = .ok (.putfield 65, 3) := dk_181 0 65 (dk_at dksX4_truncate_1 10 rfl rfl)
theorem dX4_truncate_37 : decode cX4_truncate 37 = .ok (.iload_n 1, 1) := dk_27 (dk_at dksX4_truncate_1 13 rfl rfl)
theorem dX4_truncate_38 : decode cX4_truncate 38 = .ok (.ireturn, 1) := dk_172 (dk_at dksX4_truncate_1 14 rfl rfl)
abbrev cX4_in : ByteArray := prog_19_method_3_code
def yX4_in : MethodName := ⟨RX4, "in", "(JJJ)Z"⟩
def dkwX4_in_0 : List UInt8 := [30, 32, 148, 155, 0, 14, 30, 22, 4, 148, 157, 0, 7, 4, 167, 0, 4, 3, 172]
abbrev dktX4_in_0 : List UInt8 := dkwX4_in_0 ++ []
theorem dksX4_in_0 : cX4_in.data.toList.drop 0 = dktX4_in_0 := by decide +kernel
theorem dX4_in_0 : decode cX4_in 0 = .ok (.lload_n 0, 1) := dk_30 (dk_at dksX4_in_0 0 rfl rfl)
theorem dX4_in_1 : decode cX4_in 1 = .ok (.lload_n 2, 1) := dk_32 (dk_at dksX4_in_0 1 rfl rfl)
theorem dX4_in_2 : decode cX4_in 2 = .ok (.lcmp, 1) := dk_148 (dk_at dksX4_in_0 2 rfl rfl)
theorem dX4_in_3 : decode cX4_in 3 = .ok (.ifCond .lt 14, 3) := dk_155 0 14 (dk_at dksX4_in_0 3 rfl rfl)
theorem dX4_in_6 : decode cX4_in 6 = .ok (.lload_n 0, 1) := dk_30 (dk_at dksX4_in_0 6 rfl rfl)
theorem dX4_in_7 : decode cX4_in 7 = .ok (.lload 4, 2) := dk_22 4 (dk_at dksX4_in_0 7 rfl rfl)
theorem dX4_in_9 : decode cX4_in 9 = .ok (.lcmp, 1) := dk_148 (dk_at dksX4_in_0 9 rfl rfl)
theorem dX4_in_10 : decode cX4_in 10 = .ok (.ifCond .gt 7, 3) := dk_157 0 7 (dk_at dksX4_in_0 10 rfl rfl)
theorem dX4_in_13 : decode cX4_in 13 = .ok (.iconst 1, 1) := dk_4 (dk_at dksX4_in_0 13 rfl rfl)
theorem dX4_in_14 : decode cX4_in 14 = .ok (.goto 4, 3) := dk_167 0 4 (dk_at dksX4_in_0 14 rfl rfl)
theorem dX4_in_17 : decode cX4_in 17 = .ok (.iconst 0, 1) := dk_3 (dk_at dksX4_in_0 17 rfl rfl)
theorem dX4_in_18 : decode cX4_in 18 = .ok (.ireturn, 1) := dk_172 (dk_at dksX4_in_0 18 rfl rfl)
abbrev cX4_load : ByteArray := prog_19_method_21_code
def yX4_load : MethodName := ⟨RX4, "load", "()I"⟩
def dkwX4_load_11 : List UInt8 := [3, 84, 42, 180, 0, 36, 4, 3, 84, 42, 180, 0, 133, 172]
abbrev dktX4_load_11 : List UInt8 := dkwX4_load_11 ++ []
def dkwX4_load_10 : List UInt8 := [132, 1, 1, 167, 255, 238, 42, 180, 0, 7, 16, 7, 3, 79, 42, 3, 181, 0, 178, 42, 180, 0, 36, 3]
abbrev dktX4_load_10 : List UInt8 := dkwX4_load_10 ++ dktX4_load_11
def dkwX4_load_9 : List UInt8 := [132, 1, 1, 167, 255, 139, 3, 60, 27, 16, 6, 162, 0, 18, 42, 180, 0, 7, 4, 27, 96, 3, 79]
abbrev dktX4_load_9 : List UInt8 := dkwX4_load_9 ++ dktX4_load_10
def dkwX4_load_8 : List UInt8 := [96, 42, 180, 0, 59, 16, 60, 27, 104, 29, 96, 46, 79, 132, 3, 1, 167, 255, 200, 42, 27, 182, 0, 175]
abbrev dktX4_load_8 : List UInt8 := dkwX4_load_8 ++ dktX4_load_9
def dkwX4_load_7 : List UInt8 := [96, 29, 96, 42, 180, 0, 56, 16, 60, 27, 104, 29, 96, 46, 79, 42, 180, 0, 7, 28, 16, 62, 96, 29]
abbrev dktX4_load_7 : List UInt8 := dkwX4_load_7 ++ dktX4_load_8
def dkwX4_load_6 : List UInt8 := [180, 0, 53, 27, 46, 79, 3, 62, 29, 42, 180, 0, 53, 27, 46, 162, 0, 52, 42, 180, 0, 7, 28, 5]
abbrev dktX4_load_6 : List UInt8 := dkwX4_load_6 ++ dktX4_load_7
def dkwX4_load_5 : List UInt8 := [180, 0, 50, 27, 47, 80, 42, 180, 0, 7, 28, 3, 96, 4, 79, 42, 180, 0, 7, 28, 4, 96, 42]
abbrev dktX4_load_5 : List UInt8 := dkwX4_load_5 ++ dktX4_load_6
def dkwX4_load_4 : List UInt8 := [167, 255, 240, 3, 60, 27, 42, 180, 0, 133, 162, 0, 115, 27, 184, 0, 171, 61, 42, 180, 0, 13, 27, 42]
abbrev dktX4_load_4 : List UInt8 := dkwX4_load_4 ++ dktX4_load_5
def dkwX4_load_3 : List UInt8 := [42, 180, 0, 156, 79, 3, 60, 27, 16, 6, 162, 0, 16, 42, 180, 0, 13, 27, 9, 80, 132, 1, 1]
abbrev dktX4_load_3 : List UInt8 := dkwX4_load_3 ++ dktX4_load_4
def dkwX4_load_2 : List UInt8 := [17, 16, 4, 162, 0, 16, 42, 180, 0, 7, 27, 3, 79, 132, 1, 1, 167, 255, 239, 42, 180, 0, 7, 3]
abbrev dktX4_load_2 : List UInt8 := dkwX4_load_2 ++ dktX4_load_3
def dkwX4_load_1 : List UInt8 := [153, 0, 7, 4, 167, 0, 4, 3, 181, 0, 62, 42, 180, 0, 62, 158, 0, 5, 3, 172, 3, 60, 27]
abbrev dktX4_load_1 : List UInt8 := dkwX4_load_1 ++ dktX4_load_2
def dkwX4_load_0 : List UInt8 := [42, 3, 181, 0, 80, 42, 2, 181, 0, 46, 42, 182, 0, 168, 42, 3, 181, 0, 65, 42, 42, 180, 0, 76]
abbrev dktX4_load_0 : List UInt8 := dkwX4_load_0 ++ dktX4_load_1
theorem dksX4_load_0 : cX4_load.data.toList.drop 0 = dktX4_load_0 := by decide +kernel
theorem dksX4_load_1 : cX4_load.data.toList.drop 24 = dktX4_load_1 := dk_seg dksX4_load_0 24 rfl rfl
theorem dksX4_load_2 : cX4_load.data.toList.drop 47 = dktX4_load_2 := dk_seg dksX4_load_1 23 rfl rfl
theorem dksX4_load_3 : cX4_load.data.toList.drop 71 = dktX4_load_3 := dk_seg dksX4_load_2 24 rfl rfl
theorem dksX4_load_4 : cX4_load.data.toList.drop 94 = dktX4_load_4 := dk_seg dksX4_load_3 23 rfl rfl
theorem dksX4_load_5 : cX4_load.data.toList.drop 118 = dktX4_load_5 := dk_seg dksX4_load_4 24 rfl rfl
theorem dksX4_load_6 : cX4_load.data.toList.drop 141 = dktX4_load_6 := dk_seg dksX4_load_5 23 rfl rfl
theorem dksX4_load_7 : cX4_load.data.toList.drop 165 = dktX4_load_7 := dk_seg dksX4_load_6 24 rfl rfl
theorem dksX4_load_8 : cX4_load.data.toList.drop 189 = dktX4_load_8 := dk_seg dksX4_load_7 24 rfl rfl
theorem dksX4_load_9 : cX4_load.data.toList.drop 213 = dktX4_load_9 := dk_seg dksX4_load_8 24 rfl rfl
theorem dksX4_load_10 : cX4_load.data.toList.drop 236 = dktX4_load_10 := dk_seg dksX4_load_9 23 rfl rfl
theorem dksX4_load_11 : cX4_load.data.toList.drop 260 = dktX4_load_11 := dk_seg dksX4_load_10 24 rfl rfl
theorem dX4_load_0 : decode cX4_load 0 = .ok (.aload_n 0, 1) := dk_42 (dk_at dksX4_load_0 0 rfl rfl)
theorem dX4_load_1 : decode cX4_load 1 = .ok (.iconst 0, 1) := dk_3 (dk_at dksX4_load_0 1 rfl rfl)
theorem dX4_load_2 : decode cX4_load 2 = .ok (.putfield 80, 3) := dk_181 0 80 (dk_at dksX4_load_0 2 rfl rfl)
theorem dX4_load_5 : decode cX4_load 5 = .ok (.aload_n 0, 1) := dk_42 (dk_at dksX4_load_0 5 rfl rfl)
theorem dX4_load_6 : decode cX4_load 6 = .ok (.iconst (-1), 1) := dk_2 (dk_at dksX4_load_0 6 rfl rfl)
theorem dX4_load_7 : decode cX4_load 7 = .ok (.putfield 46, 3) := dk_181 0 46 (dk_at dksX4_load_0 7 rfl rfl)
theorem dX4_load_10 : decode cX4_load 10 = .ok (.aload_n 0, 1) := dk_42 (dk_at dksX4_load_0 10 rfl rfl)
theorem dX4_load_11 : decode cX4_load 11 = .ok (.invokevirtual 168, 3) := dk_182 0 168 (dk_at dksX4_load_0 11 rfl rfl)
theorem dX4_load_14 : decode cX4_load 14 = .ok (.aload_n 0, 1) := dk_42 (dk_at dksX4_load_0 14 rfl rfl)
theorem dX4_load_15 : decode cX4_load 15 = .ok (.iconst 0, 1) := dk_3 (dk_at dksX4_load_0 15 rfl rfl)
theorem dX4_load_16 : decode cX4_load 16 = .ok (.putfield 65, 3) := dk_181 0 65 (dk_at dksX4_load_0 16 rfl rfl)
theorem dX4_load_19 : decode cX4_load 19 = .ok (.aload_n 0, 1) := dk_42 (dk_at dksX4_load_0 19 rfl rfl)
theorem dX4_load_20 : decode cX4_load 20 = .ok (.aload_n 0, 1) := dk_42 (dk_at dksX4_load_0 20 rfl rfl)
theorem dX4_load_21 : decode cX4_load 21 = .ok (.getfield 76, 3) := dk_180 0 76 (dk_at dksX4_load_0 21 rfl rfl)
theorem dX4_load_24 : decode cX4_load 24 = .ok (.ifCond .eq 7, 3) := dk_153 0 7 (dk_at dksX4_load_1 0 rfl rfl)
theorem dX4_load_27 : decode cX4_load 27 = .ok (.iconst 1, 1) := dk_4 (dk_at dksX4_load_1 3 rfl rfl)
theorem dX4_load_28 : decode cX4_load 28 = .ok (.goto 4, 3) := dk_167 0 4 (dk_at dksX4_load_1 4 rfl rfl)
theorem dX4_load_31 : decode cX4_load 31 = .ok (.iconst 0, 1) := dk_3 (dk_at dksX4_load_1 7 rfl rfl)
theorem dX4_load_32 : decode cX4_load 32 = .ok (.putfield 62, 3) := dk_181 0 62 (dk_at dksX4_load_1 8 rfl rfl)
theorem dX4_load_35 : decode cX4_load 35 = .ok (.aload_n 0, 1) := dk_42 (dk_at dksX4_load_1 11 rfl rfl)
theorem dX4_load_36 : decode cX4_load 36 = .ok (.getfield 62, 3) := dk_180 0 62 (dk_at dksX4_load_1 12 rfl rfl)
theorem dX4_load_39 : decode cX4_load 39 = .ok (.ifCond .le 5, 3) := dk_158 0 5 (dk_at dksX4_load_1 15 rfl rfl)
theorem dX4_load_42 : decode cX4_load 42 = .ok (.iconst 0, 1) := dk_3 (dk_at dksX4_load_1 18 rfl rfl)
theorem dX4_load_43 : decode cX4_load 43 = .ok (.ireturn, 1) := dk_172 (dk_at dksX4_load_1 19 rfl rfl)
theorem dX4_load_44 : decode cX4_load 44 = .ok (.iconst 0, 1) := dk_3 (dk_at dksX4_load_1 20 rfl rfl)
theorem dX4_load_45 : decode cX4_load 45 = .ok (.istore_n 1, 1) := dk_60 (dk_at dksX4_load_1 21 rfl rfl)
theorem dX4_load_46 : decode cX4_load 46 = .ok (.iload_n 1, 1) := dk_27 (dk_at dksX4_load_1 22 rfl rfl)
theorem dX4_load_47 : decode cX4_load 47 = .ok (.sipush 4100, 3) := dk_17 16 4 (dk_at dksX4_load_2 0 rfl rfl)
theorem dX4_load_50 : decode cX4_load 50 = .ok (.if_icmp .ge 16, 3) := dk_162 0 16 (dk_at dksX4_load_2 3 rfl rfl)
theorem dX4_load_53 : decode cX4_load 53 = .ok (.aload_n 0, 1) := dk_42 (dk_at dksX4_load_2 6 rfl rfl)
theorem dX4_load_54 : decode cX4_load 54 = .ok (.getfield 7, 3) := dk_180 0 7 (dk_at dksX4_load_2 7 rfl rfl)
theorem dX4_load_57 : decode cX4_load 57 = .ok (.iload_n 1, 1) := dk_27 (dk_at dksX4_load_2 10 rfl rfl)
theorem dX4_load_58 : decode cX4_load 58 = .ok (.iconst 0, 1) := dk_3 (dk_at dksX4_load_2 11 rfl rfl)
theorem dX4_load_59 : decode cX4_load 59 = .ok (.iastore, 1) := dk_79 (dk_at dksX4_load_2 12 rfl rfl)
theorem dX4_load_60 : decode cX4_load 60 = .ok (.iinc 1 1, 3) := dk_132 1 1 (dk_at dksX4_load_2 13 rfl rfl)
theorem dX4_load_63 : decode cX4_load 63 = .ok (.goto (-17), 3) := dk_167 255 239 (dk_at dksX4_load_2 16 rfl rfl)
theorem dX4_load_66 : decode cX4_load 66 = .ok (.aload_n 0, 1) := dk_42 (dk_at dksX4_load_2 19 rfl rfl)
theorem dX4_load_67 : decode cX4_load 67 = .ok (.getfield 7, 3) := dk_180 0 7 (dk_at dksX4_load_2 20 rfl rfl)
theorem dX4_load_70 : decode cX4_load 70 = .ok (.iconst 0, 1) := dk_3 (dk_at dksX4_load_2 23 rfl rfl)
theorem dX4_load_71 : decode cX4_load 71 = .ok (.aload_n 0, 1) := dk_42 (dk_at dksX4_load_3 0 rfl rfl)
theorem dX4_load_72 : decode cX4_load 72 = .ok (.getfield 156, 3) := dk_180 0 156 (dk_at dksX4_load_3 1 rfl rfl)
theorem dX4_load_75 : decode cX4_load 75 = .ok (.iastore, 1) := dk_79 (dk_at dksX4_load_3 4 rfl rfl)
theorem dX4_load_76 : decode cX4_load 76 = .ok (.iconst 0, 1) := dk_3 (dk_at dksX4_load_3 5 rfl rfl)
theorem dX4_load_77 : decode cX4_load 77 = .ok (.istore_n 1, 1) := dk_60 (dk_at dksX4_load_3 6 rfl rfl)
theorem dX4_load_78 : decode cX4_load 78 = .ok (.iload_n 1, 1) := dk_27 (dk_at dksX4_load_3 7 rfl rfl)
theorem dX4_load_79 : decode cX4_load 79 = .ok (.bipush 6, 2) := dk_16 6 (dk_at dksX4_load_3 8 rfl rfl)
theorem dX4_load_81 : decode cX4_load 81 = .ok (.if_icmp .ge 16, 3) := dk_162 0 16 (dk_at dksX4_load_3 10 rfl rfl)
theorem dX4_load_84 : decode cX4_load 84 = .ok (.aload_n 0, 1) := dk_42 (dk_at dksX4_load_3 13 rfl rfl)
theorem dX4_load_85 : decode cX4_load 85 = .ok (.getfield 13, 3) := dk_180 0 13 (dk_at dksX4_load_3 14 rfl rfl)
theorem dX4_load_88 : decode cX4_load 88 = .ok (.iload_n 1, 1) := dk_27 (dk_at dksX4_load_3 17 rfl rfl)
theorem dX4_load_89 : decode cX4_load 89 = .ok (.lconst 0, 1) := dk_9 (dk_at dksX4_load_3 18 rfl rfl)
theorem dX4_load_90 : decode cX4_load 90 = .ok (.lastore, 1) := dk_80 (dk_at dksX4_load_3 19 rfl rfl)
theorem dX4_load_91 : decode cX4_load 91 = .ok (.iinc 1 1, 3) := dk_132 1 1 (dk_at dksX4_load_3 20 rfl rfl)
theorem dX4_load_94 : decode cX4_load 94 = .ok (.goto (-16), 3) := dk_167 255 240 (dk_at dksX4_load_4 0 rfl rfl)
theorem dX4_load_97 : decode cX4_load 97 = .ok (.iconst 0, 1) := dk_3 (dk_at dksX4_load_4 3 rfl rfl)
theorem dX4_load_98 : decode cX4_load 98 = .ok (.istore_n 1, 1) := dk_60 (dk_at dksX4_load_4 4 rfl rfl)
theorem dX4_load_99 : decode cX4_load 99 = .ok (.iload_n 1, 1) := dk_27 (dk_at dksX4_load_4 5 rfl rfl)
theorem dX4_load_100 : decode cX4_load 100 = .ok (.aload_n 0, 1) := dk_42 (dk_at dksX4_load_4 6 rfl rfl)
theorem dX4_load_101 : decode cX4_load 101 = .ok (.getfield 133, 3) := dk_180 0 133 (dk_at dksX4_load_4 7 rfl rfl)
theorem dX4_load_104 : decode cX4_load 104 = .ok (.if_icmp .ge 115, 3) := dk_162 0 115 (dk_at dksX4_load_4 10 rfl rfl)
theorem dX4_load_107 : decode cX4_load 107 = .ok (.iload_n 1, 1) := dk_27 (dk_at dksX4_load_4 13 rfl rfl)
theorem dX4_load_108 : decode cX4_load 108 = .ok (.invokestatic 171, 3) := dk_184 0 171 (dk_at dksX4_load_4 14 rfl rfl)
theorem dX4_load_111 : decode cX4_load 111 = .ok (.istore_n 2, 1) := dk_61 (dk_at dksX4_load_4 17 rfl rfl)
theorem dX4_load_112 : decode cX4_load 112 = .ok (.aload_n 0, 1) := dk_42 (dk_at dksX4_load_4 18 rfl rfl)
theorem dX4_load_113 : decode cX4_load 113 = .ok (.getfield 13, 3) := dk_180 0 13 (dk_at dksX4_load_4 19 rfl rfl)
theorem dX4_load_116 : decode cX4_load 116 = .ok (.iload_n 1, 1) := dk_27 (dk_at dksX4_load_4 22 rfl rfl)
theorem dX4_load_117 : decode cX4_load 117 = .ok (.aload_n 0, 1) := dk_42 (dk_at dksX4_load_4 23 rfl rfl)
theorem dX4_load_118 : decode cX4_load 118 = .ok (.getfield 50, 3) := dk_180 0 50 (dk_at dksX4_load_5 0 rfl rfl)
theorem dX4_load_121 : decode cX4_load 121 = .ok (.iload_n 1, 1) := dk_27 (dk_at dksX4_load_5 3 rfl rfl)
theorem dX4_load_122 : decode cX4_load 122 = .ok (.laload, 1) := dk_47 (dk_at dksX4_load_5 4 rfl rfl)
theorem dX4_load_123 : decode cX4_load 123 = .ok (.lastore, 1) := dk_80 (dk_at dksX4_load_5 5 rfl rfl)
theorem dX4_load_124 : decode cX4_load 124 = .ok (.aload_n 0, 1) := dk_42 (dk_at dksX4_load_5 6 rfl rfl)
theorem dX4_load_125 : decode cX4_load 125 = .ok (.getfield 7, 3) := dk_180 0 7 (dk_at dksX4_load_5 7 rfl rfl)
theorem dX4_load_128 : decode cX4_load 128 = .ok (.iload_n 2, 1) := dk_28 (dk_at dksX4_load_5 10 rfl rfl)
theorem dX4_load_129 : decode cX4_load 129 = .ok (.iconst 0, 1) := dk_3 (dk_at dksX4_load_5 11 rfl rfl)
theorem dX4_load_130 : decode cX4_load 130 = .ok (.iadd, 1) := dk_96 (dk_at dksX4_load_5 12 rfl rfl)
theorem dX4_load_131 : decode cX4_load 131 = .ok (.iconst 1, 1) := dk_4 (dk_at dksX4_load_5 13 rfl rfl)
theorem dX4_load_132 : decode cX4_load 132 = .ok (.iastore, 1) := dk_79 (dk_at dksX4_load_5 14 rfl rfl)
theorem dX4_load_133 : decode cX4_load 133 = .ok (.aload_n 0, 1) := dk_42 (dk_at dksX4_load_5 15 rfl rfl)
theorem dX4_load_134 : decode cX4_load 134 = .ok (.getfield 7, 3) := dk_180 0 7 (dk_at dksX4_load_5 16 rfl rfl)
theorem dX4_load_137 : decode cX4_load 137 = .ok (.iload_n 2, 1) := dk_28 (dk_at dksX4_load_5 19 rfl rfl)
theorem dX4_load_138 : decode cX4_load 138 = .ok (.iconst 1, 1) := dk_4 (dk_at dksX4_load_5 20 rfl rfl)
theorem dX4_load_139 : decode cX4_load 139 = .ok (.iadd, 1) := dk_96 (dk_at dksX4_load_5 21 rfl rfl)
theorem dX4_load_140 : decode cX4_load 140 = .ok (.aload_n 0, 1) := dk_42 (dk_at dksX4_load_5 22 rfl rfl)
theorem dX4_load_141 : decode cX4_load 141 = .ok (.getfield 53, 3) := dk_180 0 53 (dk_at dksX4_load_6 0 rfl rfl)
theorem dX4_load_144 : decode cX4_load 144 = .ok (.iload_n 1, 1) := dk_27 (dk_at dksX4_load_6 3 rfl rfl)
theorem dX4_load_145 : decode cX4_load 145 = .ok (.iaload, 1) := dk_46 (dk_at dksX4_load_6 4 rfl rfl)
theorem dX4_load_146 : decode cX4_load 146 = .ok (.iastore, 1) := dk_79 (dk_at dksX4_load_6 5 rfl rfl)
theorem dX4_load_147 : decode cX4_load 147 = .ok (.iconst 0, 1) := dk_3 (dk_at dksX4_load_6 6 rfl rfl)
theorem dX4_load_148 : decode cX4_load 148 = .ok (.istore_n 3, 1) := dk_62 (dk_at dksX4_load_6 7 rfl rfl)
theorem dX4_load_149 : decode cX4_load 149 = .ok (.iload_n 3, 1) := dk_29 (dk_at dksX4_load_6 8 rfl rfl)
theorem dX4_load_150 : decode cX4_load 150 = .ok (.aload_n 0, 1) := dk_42 (dk_at dksX4_load_6 9 rfl rfl)
theorem dX4_load_151 : decode cX4_load 151 = .ok (.getfield 53, 3) := dk_180 0 53 (dk_at dksX4_load_6 10 rfl rfl)
theorem dX4_load_154 : decode cX4_load 154 = .ok (.iload_n 1, 1) := dk_27 (dk_at dksX4_load_6 13 rfl rfl)
theorem dX4_load_155 : decode cX4_load 155 = .ok (.iaload, 1) := dk_46 (dk_at dksX4_load_6 14 rfl rfl)
theorem dX4_load_156 : decode cX4_load 156 = .ok (.if_icmp .ge 52, 3) := dk_162 0 52 (dk_at dksX4_load_6 15 rfl rfl)
theorem dX4_load_159 : decode cX4_load 159 = .ok (.aload_n 0, 1) := dk_42 (dk_at dksX4_load_6 18 rfl rfl)
theorem dX4_load_160 : decode cX4_load 160 = .ok (.getfield 7, 3) := dk_180 0 7 (dk_at dksX4_load_6 19 rfl rfl)
theorem dX4_load_163 : decode cX4_load 163 = .ok (.iload_n 2, 1) := dk_28 (dk_at dksX4_load_6 22 rfl rfl)
theorem dX4_load_164 : decode cX4_load 164 = .ok (.iconst 2, 1) := dk_5 (dk_at dksX4_load_6 23 rfl rfl)
theorem dX4_load_165 : decode cX4_load 165 = .ok (.iadd, 1) := dk_96 (dk_at dksX4_load_7 0 rfl rfl)
theorem dX4_load_166 : decode cX4_load 166 = .ok (.iload_n 3, 1) := dk_29 (dk_at dksX4_load_7 1 rfl rfl)
theorem dX4_load_167 : decode cX4_load 167 = .ok (.iadd, 1) := dk_96 (dk_at dksX4_load_7 2 rfl rfl)
theorem dX4_load_168 : decode cX4_load 168 = .ok (.aload_n 0, 1) := dk_42 (dk_at dksX4_load_7 3 rfl rfl)
theorem dX4_load_169 : decode cX4_load 169 = .ok (.getfield 56, 3) := dk_180 0 56 (dk_at dksX4_load_7 4 rfl rfl)
theorem dX4_load_172 : decode cX4_load 172 = .ok (.bipush 60, 2) := dk_16 60 (dk_at dksX4_load_7 7 rfl rfl)
theorem dX4_load_174 : decode cX4_load 174 = .ok (.iload_n 1, 1) := dk_27 (dk_at dksX4_load_7 9 rfl rfl)
theorem dX4_load_175 : decode cX4_load 175 = .ok (.imul, 1) := dk_104 (dk_at dksX4_load_7 10 rfl rfl)
theorem dX4_load_176 : decode cX4_load 176 = .ok (.iload_n 3, 1) := dk_29 (dk_at dksX4_load_7 11 rfl rfl)
theorem dX4_load_177 : decode cX4_load 177 = .ok (.iadd, 1) := dk_96 (dk_at dksX4_load_7 12 rfl rfl)
theorem dX4_load_178 : decode cX4_load 178 = .ok (.iaload, 1) := dk_46 (dk_at dksX4_load_7 13 rfl rfl)
theorem dX4_load_179 : decode cX4_load 179 = .ok (.iastore, 1) := dk_79 (dk_at dksX4_load_7 14 rfl rfl)
theorem dX4_load_180 : decode cX4_load 180 = .ok (.aload_n 0, 1) := dk_42 (dk_at dksX4_load_7 15 rfl rfl)
theorem dX4_load_181 : decode cX4_load 181 = .ok (.getfield 7, 3) := dk_180 0 7 (dk_at dksX4_load_7 16 rfl rfl)
theorem dX4_load_184 : decode cX4_load 184 = .ok (.iload_n 2, 1) := dk_28 (dk_at dksX4_load_7 19 rfl rfl)
theorem dX4_load_185 : decode cX4_load 185 = .ok (.bipush 62, 2) := dk_16 62 (dk_at dksX4_load_7 20 rfl rfl)
theorem dX4_load_187 : decode cX4_load 187 = .ok (.iadd, 1) := dk_96 (dk_at dksX4_load_7 22 rfl rfl)
theorem dX4_load_188 : decode cX4_load 188 = .ok (.iload_n 3, 1) := dk_29 (dk_at dksX4_load_7 23 rfl rfl)
theorem dX4_load_189 : decode cX4_load 189 = .ok (.iadd, 1) := dk_96 (dk_at dksX4_load_8 0 rfl rfl)
theorem dX4_load_190 : decode cX4_load 190 = .ok (.aload_n 0, 1) := dk_42 (dk_at dksX4_load_8 1 rfl rfl)
theorem dX4_load_191 : decode cX4_load 191 = .ok (.getfield 59, 3) := dk_180 0 59 (dk_at dksX4_load_8 2 rfl rfl)
theorem dX4_load_194 : decode cX4_load 194 = .ok (.bipush 60, 2) := dk_16 60 (dk_at dksX4_load_8 5 rfl rfl)
theorem dX4_load_196 : decode cX4_load 196 = .ok (.iload_n 1, 1) := dk_27 (dk_at dksX4_load_8 7 rfl rfl)
theorem dX4_load_197 : decode cX4_load 197 = .ok (.imul, 1) := dk_104 (dk_at dksX4_load_8 8 rfl rfl)
theorem dX4_load_198 : decode cX4_load 198 = .ok (.iload_n 3, 1) := dk_29 (dk_at dksX4_load_8 9 rfl rfl)
theorem dX4_load_199 : decode cX4_load 199 = .ok (.iadd, 1) := dk_96 (dk_at dksX4_load_8 10 rfl rfl)
theorem dX4_load_200 : decode cX4_load 200 = .ok (.iaload, 1) := dk_46 (dk_at dksX4_load_8 11 rfl rfl)
theorem dX4_load_201 : decode cX4_load 201 = .ok (.iastore, 1) := dk_79 (dk_at dksX4_load_8 12 rfl rfl)
theorem dX4_load_202 : decode cX4_load 202 = .ok (.iinc 3 1, 3) := dk_132 3 1 (dk_at dksX4_load_8 13 rfl rfl)
theorem dX4_load_205 : decode cX4_load 205 = .ok (.goto (-56), 3) := dk_167 255 200 (dk_at dksX4_load_8 16 rfl rfl)
theorem dX4_load_208 : decode cX4_load 208 = .ok (.aload_n 0, 1) := dk_42 (dk_at dksX4_load_8 19 rfl rfl)
theorem dX4_load_209 : decode cX4_load 209 = .ok (.iload_n 1, 1) := dk_27 (dk_at dksX4_load_8 20 rfl rfl)
theorem dX4_load_210 : decode cX4_load 210 = .ok (.invokevirtual 175, 3) := dk_182 0 175 (dk_at dksX4_load_8 21 rfl rfl)
theorem dX4_load_213 : decode cX4_load 213 = .ok (.iinc 1 1, 3) := dk_132 1 1 (dk_at dksX4_load_9 0 rfl rfl)
theorem dX4_load_216 : decode cX4_load 216 = .ok (.goto (-117), 3) := dk_167 255 139 (dk_at dksX4_load_9 3 rfl rfl)
theorem dX4_load_219 : decode cX4_load 219 = .ok (.iconst 0, 1) := dk_3 (dk_at dksX4_load_9 6 rfl rfl)
theorem dX4_load_220 : decode cX4_load 220 = .ok (.istore_n 1, 1) := dk_60 (dk_at dksX4_load_9 7 rfl rfl)
theorem dX4_load_221 : decode cX4_load 221 = .ok (.iload_n 1, 1) := dk_27 (dk_at dksX4_load_9 8 rfl rfl)
theorem dX4_load_222 : decode cX4_load 222 = .ok (.bipush 6, 2) := dk_16 6 (dk_at dksX4_load_9 9 rfl rfl)
theorem dX4_load_224 : decode cX4_load 224 = .ok (.if_icmp .ge 18, 3) := dk_162 0 18 (dk_at dksX4_load_9 11 rfl rfl)
theorem dX4_load_227 : decode cX4_load 227 = .ok (.aload_n 0, 1) := dk_42 (dk_at dksX4_load_9 14 rfl rfl)
theorem dX4_load_228 : decode cX4_load 228 = .ok (.getfield 7, 3) := dk_180 0 7 (dk_at dksX4_load_9 15 rfl rfl)
theorem dX4_load_231 : decode cX4_load 231 = .ok (.iconst 1, 1) := dk_4 (dk_at dksX4_load_9 18 rfl rfl)
theorem dX4_load_232 : decode cX4_load 232 = .ok (.iload_n 1, 1) := dk_27 (dk_at dksX4_load_9 19 rfl rfl)
theorem dX4_load_233 : decode cX4_load 233 = .ok (.iadd, 1) := dk_96 (dk_at dksX4_load_9 20 rfl rfl)
theorem dX4_load_234 : decode cX4_load 234 = .ok (.iconst 0, 1) := dk_3 (dk_at dksX4_load_9 21 rfl rfl)
theorem dX4_load_235 : decode cX4_load 235 = .ok (.iastore, 1) := dk_79 (dk_at dksX4_load_9 22 rfl rfl)
theorem dX4_load_236 : decode cX4_load 236 = .ok (.iinc 1 1, 3) := dk_132 1 1 (dk_at dksX4_load_10 0 rfl rfl)
theorem dX4_load_239 : decode cX4_load 239 = .ok (.goto (-18), 3) := dk_167 255 238 (dk_at dksX4_load_10 3 rfl rfl)
theorem dX4_load_242 : decode cX4_load 242 = .ok (.aload_n 0, 1) := dk_42 (dk_at dksX4_load_10 6 rfl rfl)
theorem dX4_load_243 : decode cX4_load 243 = .ok (.getfield 7, 3) := dk_180 0 7 (dk_at dksX4_load_10 7 rfl rfl)
theorem dX4_load_246 : decode cX4_load 246 = .ok (.bipush 7, 2) := dk_16 7 (dk_at dksX4_load_10 10 rfl rfl)
theorem dX4_load_248 : decode cX4_load 248 = .ok (.iconst 0, 1) := dk_3 (dk_at dksX4_load_10 12 rfl rfl)
theorem dX4_load_249 : decode cX4_load 249 = .ok (.iastore, 1) := dk_79 (dk_at dksX4_load_10 13 rfl rfl)
theorem dX4_load_250 : decode cX4_load 250 = .ok (.aload_n 0, 1) := dk_42 (dk_at dksX4_load_10 14 rfl rfl)
theorem dX4_load_251 : decode cX4_load 251 = .ok (.iconst 0, 1) := dk_3 (dk_at dksX4_load_10 15 rfl rfl)
theorem dX4_load_252 : decode cX4_load 252 = .ok (.putfield 178, 3) := dk_181 0 178 (dk_at dksX4_load_10 16 rfl rfl)
theorem dX4_load_255 : decode cX4_load 255 = .ok (.aload_n 0, 1) := dk_42 (dk_at dksX4_load_10 19 rfl rfl)
theorem dX4_load_256 : decode cX4_load 256 = .ok (.getfield 36, 3) := dk_180 0 36 (dk_at dksX4_load_10 20 rfl rfl)
theorem dX4_load_259 : decode cX4_load 259 = .ok (.iconst 0, 1) := dk_3 (dk_at dksX4_load_10 23 rfl rfl)
theorem dX4_load_260 : decode cX4_load 260 = .ok (.iconst 0, 1) := dk_3 (dk_at dksX4_load_11 0 rfl rfl)
theorem dX4_load_261 : decode cX4_load 261 = .ok (.bastore, 1) := dk_84 (dk_at dksX4_load_11 1 rfl rfl)
theorem dX4_load_262 : decode cX4_load 262 = .ok (.aload_n 0, 1) := dk_42 (dk_at dksX4_load_11 2 rfl rfl)
theorem dX4_load_263 : decode cX4_load 263 = .ok (.getfield 36, 3) := dk_180 0 36 (dk_at dksX4_load_11 3 rfl rfl)
theorem dX4_load_266 : decode cX4_load 266 = .ok (.iconst 1, 1) := dk_4 (dk_at dksX4_load_11 6 rfl rfl)
theorem dX4_load_267 : decode cX4_load 267 = .ok (.iconst 0, 1) := dk_3 (dk_at dksX4_load_11 7 rfl rfl)
theorem dX4_load_268 : decode cX4_load 268 = .ok (.bastore, 1) := dk_84 (dk_at dksX4_load_11 8 rfl rfl)
theorem dX4_load_269 : decode cX4_load 269 = .ok (.aload_n 0, 1) := dk_42 (dk_at dksX4_load_11 9 rfl rfl)
theorem dX4_load_270 : decode cX4_load 270 = .ok (.getfield 133, 3) := dk_180 0 133 (dk_at dksX4_load_11 10 rfl rfl)
theorem dX4_load_273 : decode cX4_load 273 = .ok (.ireturn, 1) := dk_172 (dk_at dksX4_load_11 13 rfl rfl)
abbrev cX4_readsText : ByteArray := prog_19_method_20_code
def yX4_readsText : MethodName := ⟨RX4, "readsText", "()V"⟩
def dkwX4_readsText_7 : List UInt8 := [167, 255, 187, 177]
abbrev dktX4_readsText_7 : List UInt8 := dkwX4_readsText_7 ++ []
def dkwX4_readsText_6 : List UInt8 := [42, 180, 0, 133, 16, 6, 160, 0, 12, 42, 8, 27, 182, 0, 119, 167, 0, 7, 42, 182, 0, 165]
abbrev dktX4_readsText_6 : List UInt8 := dkwX4_readsText_6 ++ dktX4_readsText_7
def dkwX4_readsText_5 : List UInt8 := [154, 0, 24, 42, 180, 0, 83, 42, 180, 0, 65, 162, 0, 12, 42, 4, 42, 180, 0, 83, 182, 0, 119, 177]
abbrev dktX4_readsText_5 : List UInt8 := dkwX4_readsText_5 ++ dktX4_readsText_6
def dkwX4_readsText_4 : List UInt8 := [180, 0, 76, 154, 0, 68, 42, 182, 0, 94, 42, 180, 0, 83, 60, 42, 20, 0, 163, 182, 0, 152]
abbrev dktX4_readsText_4 : List UInt8 := dkwX4_readsText_4 ++ dktX4_readsText_5
def dkwX4_readsText_3 : List UInt8 := [42, 5, 42, 180, 0, 123, 182, 0, 119, 42, 180, 0, 76, 154, 0, 9, 42, 16, 59, 182, 0, 146, 42]
abbrev dktX4_readsText_3 : List UInt8 := dkwX4_readsText_3 ++ dktX4_readsText_4
def dkwX4_readsText_2 : List UInt8 := [42, 180, 0, 76, 154, 0, 29, 42, 180, 0, 156, 133, 20, 0, 159, 20, 0, 161, 184, 0, 72, 154, 0, 12]
abbrev dktX4_readsText_2 : List UInt8 := dkwX4_readsText_2 ++ dktX4_readsText_3
def dkwX4_readsText_1 : List UInt8 := [182, 0, 152, 154, 0, 13, 42, 4, 42, 180, 0, 83, 182, 0, 119, 177, 42, 42, 182, 0, 129, 181, 0, 156]
abbrev dktX4_readsText_1 : List UInt8 := dkwX4_readsText_1 ++ dktX4_readsText_2
def dkwX4_readsText_0 : List UInt8 := [42, 3, 181, 0, 83, 42, 3, 181, 0, 76, 42, 3, 181, 0, 133, 42, 182, 0, 94, 42, 20, 0, 150]
abbrev dktX4_readsText_0 : List UInt8 := dkwX4_readsText_0 ++ dktX4_readsText_1
theorem dksX4_readsText_0 : cX4_readsText.data.toList.drop 0 = dktX4_readsText_0 := by decide +kernel
theorem dksX4_readsText_1 : cX4_readsText.data.toList.drop 23 = dktX4_readsText_1 := dk_seg dksX4_readsText_0 23 rfl rfl
theorem dksX4_readsText_2 : cX4_readsText.data.toList.drop 47 = dktX4_readsText_2 := dk_seg dksX4_readsText_1 24 rfl rfl
theorem dksX4_readsText_3 : cX4_readsText.data.toList.drop 71 = dktX4_readsText_3 := dk_seg dksX4_readsText_2 24 rfl rfl
theorem dksX4_readsText_4 : cX4_readsText.data.toList.drop 94 = dktX4_readsText_4 := dk_seg dksX4_readsText_3 23 rfl rfl
theorem dksX4_readsText_5 : cX4_readsText.data.toList.drop 116 = dktX4_readsText_5 := dk_seg dksX4_readsText_4 22 rfl rfl
theorem dksX4_readsText_6 : cX4_readsText.data.toList.drop 140 = dktX4_readsText_6 := dk_seg dksX4_readsText_5 24 rfl rfl
theorem dksX4_readsText_7 : cX4_readsText.data.toList.drop 162 = dktX4_readsText_7 := dk_seg dksX4_readsText_6 22 rfl rfl
theorem dX4_readsText_0 : decode cX4_readsText 0 = .ok (.aload_n 0, 1) := dk_42 (dk_at dksX4_readsText_0 0 rfl rfl)
theorem dX4_readsText_1 : decode cX4_readsText 1 = .ok (.iconst 0, 1) := dk_3 (dk_at dksX4_readsText_0 1 rfl rfl)
theorem dX4_readsText_2 : decode cX4_readsText 2 = .ok (.putfield 83, 3) := dk_181 0 83 (dk_at dksX4_readsText_0 2 rfl rfl)
theorem dX4_readsText_5 : decode cX4_readsText 5 = .ok (.aload_n 0, 1) := dk_42 (dk_at dksX4_readsText_0 5 rfl rfl)
theorem dX4_readsText_6 : decode cX4_readsText 6 = .ok (.iconst 0, 1) := dk_3 (dk_at dksX4_readsText_0 6 rfl rfl)
theorem dX4_readsText_7 : decode cX4_readsText 7 = .ok (.putfield 76, 3) := dk_181 0 76 (dk_at dksX4_readsText_0 7 rfl rfl)
theorem dX4_readsText_10 : decode cX4_readsText 10 = .ok (.aload_n 0, 1) := dk_42 (dk_at dksX4_readsText_0 10 rfl rfl)
theorem dX4_readsText_11 : decode cX4_readsText 11 = .ok (.iconst 0, 1) := dk_3 (dk_at dksX4_readsText_0 11 rfl rfl)
theorem dX4_readsText_12 : decode cX4_readsText 12 = .ok (.putfield 133, 3) := dk_181 0 133 (dk_at dksX4_readsText_0 12 rfl rfl)
theorem dX4_readsText_15 : decode cX4_readsText 15 = .ok (.aload_n 0, 1) := dk_42 (dk_at dksX4_readsText_0 15 rfl rfl)
theorem dX4_readsText_16 : decode cX4_readsText 16 = .ok (.invokevirtual 94, 3) := dk_182 0 94 (dk_at dksX4_readsText_0 16 rfl rfl)
theorem dX4_readsText_19 : decode cX4_readsText 19 = .ok (.aload_n 0, 1) := dk_42 (dk_at dksX4_readsText_0 19 rfl rfl)
theorem dX4_readsText_20 : decode cX4_readsText 20 = .ok (.ldc2_w 150, 3) := dk_20 0 150 (dk_at dksX4_readsText_0 20 rfl rfl)
theorem dX4_readsText_23 : decode cX4_readsText 23 = .ok (.invokevirtual 152, 3) := dk_182 0 152 (dk_at dksX4_readsText_1 0 rfl rfl)
theorem dX4_readsText_26 : decode cX4_readsText 26 = .ok (.ifCond .ne 13, 3) := dk_154 0 13 (dk_at dksX4_readsText_1 3 rfl rfl)
theorem dX4_readsText_29 : decode cX4_readsText 29 = .ok (.aload_n 0, 1) := dk_42 (dk_at dksX4_readsText_1 6 rfl rfl)
theorem dX4_readsText_30 : decode cX4_readsText 30 = .ok (.iconst 1, 1) := dk_4 (dk_at dksX4_readsText_1 7 rfl rfl)
theorem dX4_readsText_31 : decode cX4_readsText 31 = .ok (.aload_n 0, 1) := dk_42 (dk_at dksX4_readsText_1 8 rfl rfl)
theorem dX4_readsText_32 : decode cX4_readsText 32 = .ok (.getfield 83, 3) := dk_180 0 83 (dk_at dksX4_readsText_1 9 rfl rfl)
theorem dX4_readsText_35 : decode cX4_readsText 35 = .ok (.invokevirtual 119, 3) := dk_182 0 119 (dk_at dksX4_readsText_1 12 rfl rfl)
theorem dX4_readsText_38 : decode cX4_readsText 38 = .ok (.return_, 1) := dk_177 (dk_at dksX4_readsText_1 15 rfl rfl)
theorem dX4_readsText_39 : decode cX4_readsText 39 = .ok (.aload_n 0, 1) := dk_42 (dk_at dksX4_readsText_1 16 rfl rfl)
theorem dX4_readsText_40 : decode cX4_readsText 40 = .ok (.aload_n 0, 1) := dk_42 (dk_at dksX4_readsText_1 17 rfl rfl)
theorem dX4_readsText_41 : decode cX4_readsText 41 = .ok (.invokevirtual 129, 3) := dk_182 0 129 (dk_at dksX4_readsText_1 18 rfl rfl)
theorem dX4_readsText_44 : decode cX4_readsText 44 = .ok (.putfield 156, 3) := dk_181 0 156 (dk_at dksX4_readsText_1 21 rfl rfl)
theorem dX4_readsText_47 : decode cX4_readsText 47 = .ok (.aload_n 0, 1) := dk_42 (dk_at dksX4_readsText_2 0 rfl rfl)
theorem dX4_readsText_48 : decode cX4_readsText 48 = .ok (.getfield 76, 3) := dk_180 0 76 (dk_at dksX4_readsText_2 1 rfl rfl)
theorem dX4_readsText_51 : decode cX4_readsText 51 = .ok (.ifCond .ne 29, 3) := dk_154 0 29 (dk_at dksX4_readsText_2 4 rfl rfl)
theorem dX4_readsText_54 : decode cX4_readsText 54 = .ok (.aload_n 0, 1) := dk_42 (dk_at dksX4_readsText_2 7 rfl rfl)
theorem dX4_readsText_55 : decode cX4_readsText 55 = .ok (.getfield 156, 3) := dk_180 0 156 (dk_at dksX4_readsText_2 8 rfl rfl)
theorem dX4_readsText_58 : decode cX4_readsText 58 = .ok (.i2l, 1) := dk_133 (dk_at dksX4_readsText_2 11 rfl rfl)
theorem dX4_readsText_59 : decode cX4_readsText 59 = .ok (.ldc2_w 159, 3) := dk_20 0 159 (dk_at dksX4_readsText_2 12 rfl rfl)
theorem dX4_readsText_62 : decode cX4_readsText 62 = .ok (.ldc2_w 161, 3) := dk_20 0 161 (dk_at dksX4_readsText_2 15 rfl rfl)
theorem dX4_readsText_65 : decode cX4_readsText 65 = .ok (.invokestatic 72, 3) := dk_184 0 72 (dk_at dksX4_readsText_2 18 rfl rfl)
theorem dX4_readsText_68 : decode cX4_readsText 68 = .ok (.ifCond .ne 12, 3) := dk_154 0 12 (dk_at dksX4_readsText_2 21 rfl rfl)
theorem dX4_readsText_71 : decode cX4_readsText 71 = .ok (.aload_n 0, 1) := dk_42 (dk_at dksX4_readsText_3 0 rfl rfl)
theorem dX4_readsText_72 : decode cX4_readsText 72 = .ok (.iconst 2, 1) := dk_5 (dk_at dksX4_readsText_3 1 rfl rfl)
theorem dX4_readsText_73 : decode cX4_readsText 73 = .ok (.aload_n 0, 1) := dk_42 (dk_at dksX4_readsText_3 2 rfl rfl)
theorem dX4_readsText_74 : decode cX4_readsText 74 = .ok (.getfield 123, 3) := dk_180 0 123 (dk_at dksX4_readsText_3 3 rfl rfl)
theorem dX4_readsText_77 : decode cX4_readsText 77 = .ok (.invokevirtual 119, 3) := dk_182 0 119 (dk_at dksX4_readsText_3 6 rfl rfl)
theorem dX4_readsText_80 : decode cX4_readsText 80 = .ok (.aload_n 0, 1) := dk_42 (dk_at dksX4_readsText_3 9 rfl rfl)
theorem dX4_readsText_81 : decode cX4_readsText 81 = .ok (.getfield 76, 3) := dk_180 0 76 (dk_at dksX4_readsText_3 10 rfl rfl)
theorem dX4_readsText_84 : decode cX4_readsText 84 = .ok (.ifCond .ne 9, 3) := dk_154 0 9 (dk_at dksX4_readsText_3 13 rfl rfl)
theorem dX4_readsText_87 : decode cX4_readsText 87 = .ok (.aload_n 0, 1) := dk_42 (dk_at dksX4_readsText_3 16 rfl rfl)
theorem dX4_readsText_88 : decode cX4_readsText 88 = .ok (.bipush 59, 2) := dk_16 59 (dk_at dksX4_readsText_3 17 rfl rfl)
theorem dX4_readsText_90 : decode cX4_readsText 90 = .ok (.invokevirtual 146, 3) := dk_182 0 146 (dk_at dksX4_readsText_3 19 rfl rfl)
theorem dX4_readsText_93 : decode cX4_readsText 93 = .ok (.aload_n 0, 1) := dk_42 (dk_at dksX4_readsText_3 22 rfl rfl)
theorem dX4_readsText_94 : decode cX4_readsText 94 = .ok (.getfield 76, 3) := dk_180 0 76 (dk_at dksX4_readsText_4 0 rfl rfl)
theorem dX4_readsText_97 : decode cX4_readsText 97 = .ok (.ifCond .ne 68, 3) := dk_154 0 68 (dk_at dksX4_readsText_4 3 rfl rfl)
theorem dX4_readsText_100 : decode cX4_readsText 100 = .ok (.aload_n 0, 1) := dk_42 (dk_at dksX4_readsText_4 6 rfl rfl)
theorem dX4_readsText_101 : decode cX4_readsText 101 = .ok (.invokevirtual 94, 3) := dk_182 0 94 (dk_at dksX4_readsText_4 7 rfl rfl)
theorem dX4_readsText_104 : decode cX4_readsText 104 = .ok (.aload_n 0, 1) := dk_42 (dk_at dksX4_readsText_4 10 rfl rfl)
theorem dX4_readsText_105 : decode cX4_readsText 105 = .ok (.getfield 83, 3) := dk_180 0 83 (dk_at dksX4_readsText_4 11 rfl rfl)
theorem dX4_readsText_108 : decode cX4_readsText 108 = .ok (.istore_n 1, 1) := dk_60 (dk_at dksX4_readsText_4 14 rfl rfl)
theorem dX4_readsText_109 : decode cX4_readsText 109 = .ok (.aload_n 0, 1) := dk_42 (dk_at dksX4_readsText_4 15 rfl rfl)
theorem dX4_readsText_110 : decode cX4_readsText 110 = .ok (.ldc2_w 163, 3) := dk_20 0 163 (dk_at dksX4_readsText_4 16 rfl rfl)
theorem dX4_readsText_113 : decode cX4_readsText 113 = .ok (.invokevirtual 152, 3) := dk_182 0 152 (dk_at dksX4_readsText_4 19 rfl rfl)
theorem dX4_readsText_116 : decode cX4_readsText 116 = .ok (.ifCond .ne 24, 3) := dk_154 0 24 (dk_at dksX4_readsText_5 0 rfl rfl)
theorem dX4_readsText_119 : decode cX4_readsText 119 = .ok (.aload_n 0, 1) := dk_42 (dk_at dksX4_readsText_5 3 rfl rfl)
theorem dX4_readsText_120 : decode cX4_readsText 120 = .ok (.getfield 83, 3) := dk_180 0 83 (dk_at dksX4_readsText_5 4 rfl rfl)
theorem dX4_readsText_123 : decode cX4_readsText 123 = .ok (.aload_n 0, 1) := dk_42 (dk_at dksX4_readsText_5 7 rfl rfl)
theorem dX4_readsText_124 : decode cX4_readsText 124 = .ok (.getfield 65, 3) := dk_180 0 65 (dk_at dksX4_readsText_5 8 rfl rfl)
theorem dX4_readsText_127 : decode cX4_readsText 127 = .ok (.if_icmp .ge 12, 3) := dk_162 0 12 (dk_at dksX4_readsText_5 11 rfl rfl)
theorem dX4_readsText_130 : decode cX4_readsText 130 = .ok (.aload_n 0, 1) := dk_42 (dk_at dksX4_readsText_5 14 rfl rfl)
theorem dX4_readsText_131 : decode cX4_readsText 131 = .ok (.iconst 1, 1) := dk_4 (dk_at dksX4_readsText_5 15 rfl rfl)
theorem dX4_readsText_132 : decode cX4_readsText 132 = .ok (.aload_n 0, 1) := dk_42 (dk_at dksX4_readsText_5 16 rfl rfl)
theorem dX4_readsText_133 : decode cX4_readsText 133 = .ok (.getfield 83, 3) := dk_180 0 83 (dk_at dksX4_readsText_5 17 rfl rfl)
theorem dX4_readsText_136 : decode cX4_readsText 136 = .ok (.invokevirtual 119, 3) := dk_182 0 119 (dk_at dksX4_readsText_5 20 rfl rfl)
theorem dX4_readsText_139 : decode cX4_readsText 139 = .ok (.return_, 1) := dk_177 (dk_at dksX4_readsText_5 23 rfl rfl)
theorem dX4_readsText_140 : decode cX4_readsText 140 = .ok (.aload_n 0, 1) := dk_42 (dk_at dksX4_readsText_6 0 rfl rfl)
theorem dX4_readsText_141 : decode cX4_readsText 141 = .ok (.getfield 133, 3) := dk_180 0 133 (dk_at dksX4_readsText_6 1 rfl rfl)
theorem dX4_readsText_144 : decode cX4_readsText 144 = .ok (.bipush 6, 2) := dk_16 6 (dk_at dksX4_readsText_6 4 rfl rfl)
theorem dX4_readsText_146 : decode cX4_readsText 146 = .ok (.if_icmp .ne 12, 3) := dk_160 0 12 (dk_at dksX4_readsText_6 6 rfl rfl)
theorem dX4_readsText_149 : decode cX4_readsText 149 = .ok (.aload_n 0, 1) := dk_42 (dk_at dksX4_readsText_6 9 rfl rfl)
theorem dX4_readsText_150 : decode cX4_readsText 150 = .ok (.iconst 5, 1) := dk_8 (dk_at dksX4_readsText_6 10 rfl rfl)
theorem dX4_readsText_151 : decode cX4_readsText 151 = .ok (.iload_n 1, 1) := dk_27 (dk_at dksX4_readsText_6 11 rfl rfl)
theorem dX4_readsText_152 : decode cX4_readsText 152 = .ok (.invokevirtual 119, 3) := dk_182 0 119 (dk_at dksX4_readsText_6 12 rfl rfl)
theorem dX4_readsText_155 : decode cX4_readsText 155 = .ok (.goto 7, 3) := dk_167 0 7 (dk_at dksX4_readsText_6 15 rfl rfl)
theorem dX4_readsText_158 : decode cX4_readsText 158 = .ok (.aload_n 0, 1) := dk_42 (dk_at dksX4_readsText_6 18 rfl rfl)
theorem dX4_readsText_159 : decode cX4_readsText 159 = .ok (.invokevirtual 165, 3) := dk_182 0 165 (dk_at dksX4_readsText_6 19 rfl rfl)
theorem dX4_readsText_162 : decode cX4_readsText 162 = .ok (.goto (-69), 3) := dk_167 255 187 (dk_at dksX4_readsText_7 0 rfl rfl)
theorem dX4_readsText_165 : decode cX4_readsText 165 = .ok (.return_, 1) := dk_177 (dk_at dksX4_readsText_7 3 rfl rfl)
abbrev cX4_blanks : ByteArray := prog_19_method_8_code
def yX4_blanks : MethodName := ⟨RX4, "blanks", "()V"⟩
def dkwX4_blanks_2 : List UInt8 := [181, 0, 83, 167, 255, 207, 177]
abbrev dktX4_blanks_2 : List UInt8 := dkwX4_blanks_2 ++ []
def dkwX4_blanks_1 : List UInt8 := [159, 0, 17, 42, 180, 0, 43, 42, 180, 0, 83, 46, 16, 32, 160, 0, 16, 42, 89, 180, 0, 83, 4, 96]
abbrev dktX4_blanks_1 : List UInt8 := dkwX4_blanks_1 ++ dktX4_blanks_2
def dkwX4_blanks_0 : List UInt8 := [42, 180, 0, 83, 42, 180, 0, 65, 162, 0, 44, 42, 180, 0, 43, 42, 180, 0, 83, 46, 16, 10]
abbrev dktX4_blanks_0 : List UInt8 := dkwX4_blanks_0 ++ dktX4_blanks_1
theorem dksX4_blanks_0 : cX4_blanks.data.toList.drop 0 = dktX4_blanks_0 := by decide +kernel
theorem dksX4_blanks_1 : cX4_blanks.data.toList.drop 22 = dktX4_blanks_1 := dk_seg dksX4_blanks_0 22 rfl rfl
theorem dksX4_blanks_2 : cX4_blanks.data.toList.drop 46 = dktX4_blanks_2 := dk_seg dksX4_blanks_1 24 rfl rfl
theorem dX4_blanks_0 : decode cX4_blanks 0 = .ok (.aload_n 0, 1) := dk_42 (dk_at dksX4_blanks_0 0 rfl rfl)
theorem dX4_blanks_1 : decode cX4_blanks 1 = .ok (.getfield 83, 3) := dk_180 0 83 (dk_at dksX4_blanks_0 1 rfl rfl)
theorem dX4_blanks_4 : decode cX4_blanks 4 = .ok (.aload_n 0, 1) := dk_42 (dk_at dksX4_blanks_0 4 rfl rfl)
theorem dX4_blanks_5 : decode cX4_blanks 5 = .ok (.getfield 65, 3) := dk_180 0 65 (dk_at dksX4_blanks_0 5 rfl rfl)
theorem dX4_blanks_8 : decode cX4_blanks 8 = .ok (.if_icmp .ge 44, 3) := dk_162 0 44 (dk_at dksX4_blanks_0 8 rfl rfl)
theorem dX4_blanks_11 : decode cX4_blanks 11 = .ok (.aload_n 0, 1) := dk_42 (dk_at dksX4_blanks_0 11 rfl rfl)
theorem dX4_blanks_12 : decode cX4_blanks 12 = .ok (.getfield 43, 3) := dk_180 0 43 (dk_at dksX4_blanks_0 12 rfl rfl)
theorem dX4_blanks_15 : decode cX4_blanks 15 = .ok (.aload_n 0, 1) := dk_42 (dk_at dksX4_blanks_0 15 rfl rfl)
theorem dX4_blanks_16 : decode cX4_blanks 16 = .ok (.getfield 83, 3) := dk_180 0 83 (dk_at dksX4_blanks_0 16 rfl rfl)
theorem dX4_blanks_19 : decode cX4_blanks 19 = .ok (.iaload, 1) := dk_46 (dk_at dksX4_blanks_0 19 rfl rfl)
theorem dX4_blanks_20 : decode cX4_blanks 20 = .ok (.bipush 10, 2) := dk_16 10 (dk_at dksX4_blanks_0 20 rfl rfl)
theorem dX4_blanks_22 : decode cX4_blanks 22 = .ok (.if_icmp .eq 17, 3) := dk_159 0 17 (dk_at dksX4_blanks_1 0 rfl rfl)
theorem dX4_blanks_25 : decode cX4_blanks 25 = .ok (.aload_n 0, 1) := dk_42 (dk_at dksX4_blanks_1 3 rfl rfl)
theorem dX4_blanks_26 : decode cX4_blanks 26 = .ok (.getfield 43, 3) := dk_180 0 43 (dk_at dksX4_blanks_1 4 rfl rfl)
theorem dX4_blanks_29 : decode cX4_blanks 29 = .ok (.aload_n 0, 1) := dk_42 (dk_at dksX4_blanks_1 7 rfl rfl)
theorem dX4_blanks_30 : decode cX4_blanks 30 = .ok (.getfield 83, 3) := dk_180 0 83 (dk_at dksX4_blanks_1 8 rfl rfl)
theorem dX4_blanks_33 : decode cX4_blanks 33 = .ok (.iaload, 1) := dk_46 (dk_at dksX4_blanks_1 11 rfl rfl)
theorem dX4_blanks_34 : decode cX4_blanks 34 = .ok (.bipush 32, 2) := dk_16 32 (dk_at dksX4_blanks_1 12 rfl rfl)
theorem dX4_blanks_36 : decode cX4_blanks 36 = .ok (.if_icmp .ne 16, 3) := dk_160 0 16 (dk_at dksX4_blanks_1 14 rfl rfl)
theorem dX4_blanks_39 : decode cX4_blanks 39 = .ok (.aload_n 0, 1) := dk_42 (dk_at dksX4_blanks_1 17 rfl rfl)
theorem dX4_blanks_40 : decode cX4_blanks 40 = .ok (.dup, 1) := dk_89 (dk_at dksX4_blanks_1 18 rfl rfl)
theorem dX4_blanks_41 : decode cX4_blanks 41 = .ok (.getfield 83, 3) := dk_180 0 83 (dk_at dksX4_blanks_1 19 rfl rfl)
theorem dX4_blanks_44 : decode cX4_blanks 44 = .ok (.iconst 1, 1) := dk_4 (dk_at dksX4_blanks_1 22 rfl rfl)
theorem dX4_blanks_45 : decode cX4_blanks 45 = .ok (.iadd, 1) := dk_96 (dk_at dksX4_blanks_1 23 rfl rfl)
theorem dX4_blanks_46 : decode cX4_blanks 46 = .ok (.putfield 83, 3) := dk_181 0 83 (dk_at dksX4_blanks_2 0 rfl rfl)
theorem dX4_blanks_49 : decode cX4_blanks 49 = .ok (.goto (-49), 3) := dk_167 255 207 (dk_at dksX4_blanks_2 3 rfl rfl)
theorem dX4_blanks_52 : decode cX4_blanks 52 = .ok (.return_, 1) := dk_177 (dk_at dksX4_blanks_2 6 rfl rfl)
abbrev cX4_says : ByteArray := prog_19_method_14_code
def yX4_says : MethodName := ⟨RX4, "says", "(J)Z"⟩
def dkwX4_says_1 : List UInt8 := [154, 0, 12, 42, 29, 181, 0, 83, 42, 182, 0, 94, 21, 4, 172]
abbrev dktX4_says_1 : List UInt8 := dkwX4_says_1 ++ []
def dkwX4_says_0 : List UInt8 := [42, 180, 0, 83, 62, 42, 182, 0, 111, 31, 148, 154, 0, 7, 4, 167, 0, 4, 3, 54, 4, 21, 4]
abbrev dktX4_says_0 : List UInt8 := dkwX4_says_0 ++ dktX4_says_1
theorem dksX4_says_0 : cX4_says.data.toList.drop 0 = dktX4_says_0 := by decide +kernel
theorem dksX4_says_1 : cX4_says.data.toList.drop 23 = dktX4_says_1 := dk_seg dksX4_says_0 23 rfl rfl
theorem dX4_says_0 : decode cX4_says 0 = .ok (.aload_n 0, 1) := dk_42 (dk_at dksX4_says_0 0 rfl rfl)
theorem dX4_says_1 : decode cX4_says 1 = .ok (.getfield 83, 3) := dk_180 0 83 (dk_at dksX4_says_0 1 rfl rfl)
theorem dX4_says_4 : decode cX4_says 4 = .ok (.istore_n 3, 1) := dk_62 (dk_at dksX4_says_0 4 rfl rfl)
theorem dX4_says_5 : decode cX4_says 5 = .ok (.aload_n 0, 1) := dk_42 (dk_at dksX4_says_0 5 rfl rfl)
theorem dX4_says_6 : decode cX4_says 6 = .ok (.invokevirtual 111, 3) := dk_182 0 111 (dk_at dksX4_says_0 6 rfl rfl)
theorem dX4_says_9 : decode cX4_says 9 = .ok (.lload_n 1, 1) := dk_31 (dk_at dksX4_says_0 9 rfl rfl)
theorem dX4_says_10 : decode cX4_says 10 = .ok (.lcmp, 1) := dk_148 (dk_at dksX4_says_0 10 rfl rfl)
theorem dX4_says_11 : decode cX4_says 11 = .ok (.ifCond .ne 7, 3) := dk_154 0 7 (dk_at dksX4_says_0 11 rfl rfl)
theorem dX4_says_14 : decode cX4_says 14 = .ok (.iconst 1, 1) := dk_4 (dk_at dksX4_says_0 14 rfl rfl)
theorem dX4_says_15 : decode cX4_says 15 = .ok (.goto 4, 3) := dk_167 0 4 (dk_at dksX4_says_0 15 rfl rfl)
theorem dX4_says_18 : decode cX4_says 18 = .ok (.iconst 0, 1) := dk_3 (dk_at dksX4_says_0 18 rfl rfl)
theorem dX4_says_19 : decode cX4_says 19 = .ok (.istore 4, 2) := dk_54 4 (dk_at dksX4_says_0 19 rfl rfl)
theorem dX4_says_21 : decode cX4_says 21 = .ok (.iload 4, 2) := dk_21 4 (dk_at dksX4_says_0 21 rfl rfl)
theorem dX4_says_23 : decode cX4_says 23 = .ok (.ifCond .ne 12, 3) := dk_154 0 12 (dk_at dksX4_says_1 0 rfl rfl)
theorem dX4_says_26 : decode cX4_says 26 = .ok (.aload_n 0, 1) := dk_42 (dk_at dksX4_says_1 3 rfl rfl)
theorem dX4_says_27 : decode cX4_says 27 = .ok (.iload_n 3, 1) := dk_29 (dk_at dksX4_says_1 4 rfl rfl)
theorem dX4_says_28 : decode cX4_says 28 = .ok (.putfield 83, 3) := dk_181 0 83 (dk_at dksX4_says_1 5 rfl rfl)
theorem dX4_says_31 : decode cX4_says 31 = .ok (.aload_n 0, 1) := dk_42 (dk_at dksX4_says_1 8 rfl rfl)
theorem dX4_says_32 : decode cX4_says 32 = .ok (.invokevirtual 94, 3) := dk_182 0 94 (dk_at dksX4_says_1 9 rfl rfl)
theorem dX4_says_35 : decode cX4_says 35 = .ok (.iload 4, 2) := dk_21 4 (dk_at dksX4_says_1 12 rfl rfl)
theorem dX4_says_37 : decode cX4_says 37 = .ok (.ireturn, 1) := dk_172 (dk_at dksX4_says_1 14 rfl rfl)
abbrev cX4_takesWord : ByteArray := prog_19_method_13_code
def yX4_takesWord : MethodName := ⟨RX4, "takesWord", "()J"⟩
def dkwX4_takesWord_3 : List UInt8 := [181, 0, 83, 167, 255, 197, 31, 173]
abbrev dktX4_takesWord_3 : List UInt8 := dkwX4_takesWord_3 ++ []
def dkwX4_takesWord_2 : List UInt8 := [97, 20, 0, 86, 101, 10, 97, 167, 0, 6, 20, 0, 109, 64, 132, 3, 1, 42, 89, 180, 0, 83, 4, 96]
abbrev dktX4_takesWord_2 : List UInt8 := dkwX4_takesWord_2 ++ dktX4_takesWord_3
def dkwX4_takesWord_1 : List UInt8 := [153, 0, 54, 29, 16, 8, 162, 0, 28, 20, 0, 107, 31, 105, 42, 180, 0, 43, 42, 180, 0, 83, 46, 133]
abbrev dktX4_takesWord_1 : List UInt8 := dkwX4_takesWord_1 ++ dktX4_takesWord_2
def dkwX4_takesWord_0 : List UInt8 := [42, 182, 0, 94, 42, 42, 180, 0, 83, 181, 0, 101, 9, 64, 3, 62, 42, 42, 180, 0, 83, 182, 0, 104]
abbrev dktX4_takesWord_0 : List UInt8 := dkwX4_takesWord_0 ++ dktX4_takesWord_1
theorem dksX4_takesWord_0 : cX4_takesWord.data.toList.drop 0 = dktX4_takesWord_0 := by decide +kernel
theorem dksX4_takesWord_1 : cX4_takesWord.data.toList.drop 24 = dktX4_takesWord_1 := dk_seg dksX4_takesWord_0 24 rfl rfl
theorem dksX4_takesWord_2 : cX4_takesWord.data.toList.drop 48 = dktX4_takesWord_2 := dk_seg dksX4_takesWord_1 24 rfl rfl
theorem dksX4_takesWord_3 : cX4_takesWord.data.toList.drop 72 = dktX4_takesWord_3 := dk_seg dksX4_takesWord_2 24 rfl rfl
theorem dX4_takesWord_0 : decode cX4_takesWord 0 = .ok (.aload_n 0, 1) := dk_42 (dk_at dksX4_takesWord_0 0 rfl rfl)
theorem dX4_takesWord_1 : decode cX4_takesWord 1 = .ok (.invokevirtual 94, 3) := dk_182 0 94 (dk_at dksX4_takesWord_0 1 rfl rfl)
theorem dX4_takesWord_4 : decode cX4_takesWord 4 = .ok (.aload_n 0, 1) := dk_42 (dk_at dksX4_takesWord_0 4 rfl rfl)
theorem dX4_takesWord_5 : decode cX4_takesWord 5 = .ok (.aload_n 0, 1) := dk_42 (dk_at dksX4_takesWord_0 5 rfl rfl)
theorem dX4_takesWord_6 : decode cX4_takesWord 6 = .ok (.getfield 83, 3) := dk_180 0 83 (dk_at dksX4_takesWord_0 6 rfl rfl)
theorem dX4_takesWord_9 : decode cX4_takesWord 9 = .ok (.putfield 101, 3) := dk_181 0 101 (dk_at dksX4_takesWord_0 9 rfl rfl)
theorem dX4_takesWord_12 : decode cX4_takesWord 12 = .ok (.lconst 0, 1) := dk_9 (dk_at dksX4_takesWord_0 12 rfl rfl)
theorem dX4_takesWord_13 : decode cX4_takesWord 13 = .ok (.lstore_n 1, 1) := dk_64 (dk_at dksX4_takesWord_0 13 rfl rfl)
theorem dX4_takesWord_14 : decode cX4_takesWord 14 = .ok (.iconst 0, 1) := dk_3 (dk_at dksX4_takesWord_0 14 rfl rfl)
theorem dX4_takesWord_15 : decode cX4_takesWord 15 = .ok (.istore_n 3, 1) := dk_62 (dk_at dksX4_takesWord_0 15 rfl rfl)
theorem dX4_takesWord_16 : decode cX4_takesWord 16 = .ok (.aload_n 0, 1) := dk_42 (dk_at dksX4_takesWord_0 16 rfl rfl)
theorem dX4_takesWord_17 : decode cX4_takesWord 17 = .ok (.aload_n 0, 1) := dk_42 (dk_at dksX4_takesWord_0 17 rfl rfl)
theorem dX4_takesWord_18 : decode cX4_takesWord 18 = .ok (.getfield 83, 3) := dk_180 0 83 (dk_at dksX4_takesWord_0 18 rfl rfl)
theorem dX4_takesWord_21 : decode cX4_takesWord 21 = .ok (.invokevirtual 104, 3) := dk_182 0 104 (dk_at dksX4_takesWord_0 21 rfl rfl)
theorem dX4_takesWord_24 : decode cX4_takesWord 24 = .ok (.ifCond .eq 54, 3) := dk_153 0 54 (dk_at dksX4_takesWord_1 0 rfl rfl)
theorem dX4_takesWord_27 : decode cX4_takesWord 27 = .ok (.iload_n 3, 1) := dk_29 (dk_at dksX4_takesWord_1 3 rfl rfl)
theorem dX4_takesWord_28 : decode cX4_takesWord 28 = .ok (.bipush 8, 2) := dk_16 8 (dk_at dksX4_takesWord_1 4 rfl rfl)
theorem dX4_takesWord_30 : decode cX4_takesWord 30 = .ok (.if_icmp .ge 28, 3) := dk_162 0 28 (dk_at dksX4_takesWord_1 6 rfl rfl)
theorem dX4_takesWord_33 : decode cX4_takesWord 33 = .ok (.ldc2_w 107, 3) := dk_20 0 107 (dk_at dksX4_takesWord_1 9 rfl rfl)
theorem dX4_takesWord_36 : decode cX4_takesWord 36 = .ok (.lload_n 1, 1) := dk_31 (dk_at dksX4_takesWord_1 12 rfl rfl)
theorem dX4_takesWord_37 : decode cX4_takesWord 37 = .ok (.lmul, 1) := dk_105 (dk_at dksX4_takesWord_1 13 rfl rfl)
theorem dX4_takesWord_38 : decode cX4_takesWord 38 = .ok (.aload_n 0, 1) := dk_42 (dk_at dksX4_takesWord_1 14 rfl rfl)
theorem dX4_takesWord_39 : decode cX4_takesWord 39 = .ok (.getfield 43, 3) := dk_180 0 43 (dk_at dksX4_takesWord_1 15 rfl rfl)
theorem dX4_takesWord_42 : decode cX4_takesWord 42 = .ok (.aload_n 0, 1) := dk_42 (dk_at dksX4_takesWord_1 18 rfl rfl)
theorem dX4_takesWord_43 : decode cX4_takesWord 43 = .ok (.getfield 83, 3) := dk_180 0 83 (dk_at dksX4_takesWord_1 19 rfl rfl)
theorem dX4_takesWord_46 : decode cX4_takesWord 46 = .ok (.iaload, 1) := dk_46 (dk_at dksX4_takesWord_1 22 rfl rfl)
theorem dX4_takesWord_47 : decode cX4_takesWord 47 = .ok (.i2l, 1) := dk_133 (dk_at dksX4_takesWord_1 23 rfl rfl)
theorem dX4_takesWord_48 : decode cX4_takesWord 48 = .ok (.ladd, 1) := dk_97 (dk_at dksX4_takesWord_2 0 rfl rfl)
theorem dX4_takesWord_49 : decode cX4_takesWord 49 = .ok (.ldc2_w 86, 3) := dk_20 0 86 (dk_at dksX4_takesWord_2 1 rfl rfl)
theorem dX4_takesWord_52 : decode cX4_takesWord 52 = .ok (.lsub, 1) := dk_101 (dk_at dksX4_takesWord_2 4 rfl rfl)
theorem dX4_takesWord_53 : decode cX4_takesWord 53 = .ok (.lconst 1, 1) := dk_10 (dk_at dksX4_takesWord_2 5 rfl rfl)
theorem dX4_takesWord_54 : decode cX4_takesWord 54 = .ok (.ladd, 1) := dk_97 (dk_at dksX4_takesWord_2 6 rfl rfl)
theorem dX4_takesWord_55 : decode cX4_takesWord 55 = .ok (.goto 6, 3) := dk_167 0 6 (dk_at dksX4_takesWord_2 7 rfl rfl)
theorem dX4_takesWord_58 : decode cX4_takesWord 58 = .ok (.ldc2_w 109, 3) := dk_20 0 109 (dk_at dksX4_takesWord_2 10 rfl rfl)
theorem dX4_takesWord_61 : decode cX4_takesWord 61 = .ok (.lstore_n 1, 1) := dk_64 (dk_at dksX4_takesWord_2 13 rfl rfl)
theorem dX4_takesWord_62 : decode cX4_takesWord 62 = .ok (.iinc 3 1, 3) := dk_132 3 1 (dk_at dksX4_takesWord_2 14 rfl rfl)
theorem dX4_takesWord_65 : decode cX4_takesWord 65 = .ok (.aload_n 0, 1) := dk_42 (dk_at dksX4_takesWord_2 17 rfl rfl)
theorem dX4_takesWord_66 : decode cX4_takesWord 66 = .ok (.dup, 1) := dk_89 (dk_at dksX4_takesWord_2 18 rfl rfl)
theorem dX4_takesWord_67 : decode cX4_takesWord 67 = .ok (.getfield 83, 3) := dk_180 0 83 (dk_at dksX4_takesWord_2 19 rfl rfl)
theorem dX4_takesWord_70 : decode cX4_takesWord 70 = .ok (.iconst 1, 1) := dk_4 (dk_at dksX4_takesWord_2 22 rfl rfl)
theorem dX4_takesWord_71 : decode cX4_takesWord 71 = .ok (.iadd, 1) := dk_96 (dk_at dksX4_takesWord_2 23 rfl rfl)
theorem dX4_takesWord_72 : decode cX4_takesWord 72 = .ok (.putfield 83, 3) := dk_181 0 83 (dk_at dksX4_takesWord_3 0 rfl rfl)
theorem dX4_takesWord_75 : decode cX4_takesWord 75 = .ok (.goto (-59), 3) := dk_167 255 197 (dk_at dksX4_takesWord_3 3 rfl rfl)
theorem dX4_takesWord_78 : decode cX4_takesWord 78 = .ok (.lload_n 1, 1) := dk_31 (dk_at dksX4_takesWord_3 6 rfl rfl)
theorem dX4_takesWord_79 : decode cX4_takesWord 79 = .ok (.lreturn, 1) := dk_173 (dk_at dksX4_takesWord_3 7 rfl rfl)
abbrev cX4_isLetter : ByteArray := prog_19_method_9_code
def yX4_isLetter : MethodName := ⟨RX4, "isLetter", "(I)Z"⟩
def dkwX4_isLetter_1 : List UInt8 := [153, 0, 7, 4, 167, 0, 4, 3, 172]
abbrev dktX4_isLetter_1 : List UInt8 := dkwX4_isLetter_1 ++ []
def dkwX4_isLetter_0 : List UInt8 := [27, 42, 180, 0, 65, 162, 0, 26, 42, 180, 0, 43, 27, 46, 133, 20, 0, 86, 20, 0, 88, 184, 0, 72]
abbrev dktX4_isLetter_0 : List UInt8 := dkwX4_isLetter_0 ++ dktX4_isLetter_1
theorem dksX4_isLetter_0 : cX4_isLetter.data.toList.drop 0 = dktX4_isLetter_0 := by decide +kernel
theorem dksX4_isLetter_1 : cX4_isLetter.data.toList.drop 24 = dktX4_isLetter_1 := dk_seg dksX4_isLetter_0 24 rfl rfl
theorem dX4_isLetter_0 : decode cX4_isLetter 0 = .ok (.iload_n 1, 1) := dk_27 (dk_at dksX4_isLetter_0 0 rfl rfl)
theorem dX4_isLetter_1 : decode cX4_isLetter 1 = .ok (.aload_n 0, 1) := dk_42 (dk_at dksX4_isLetter_0 1 rfl rfl)
theorem dX4_isLetter_2 : decode cX4_isLetter 2 = .ok (.getfield 65, 3) := dk_180 0 65 (dk_at dksX4_isLetter_0 2 rfl rfl)
theorem dX4_isLetter_5 : decode cX4_isLetter 5 = .ok (.if_icmp .ge 26, 3) := dk_162 0 26 (dk_at dksX4_isLetter_0 5 rfl rfl)
theorem dX4_isLetter_8 : decode cX4_isLetter 8 = .ok (.aload_n 0, 1) := dk_42 (dk_at dksX4_isLetter_0 8 rfl rfl)
theorem dX4_isLetter_9 : decode cX4_isLetter 9 = .ok (.getfield 43, 3) := dk_180 0 43 (dk_at dksX4_isLetter_0 9 rfl rfl)
theorem dX4_isLetter_12 : decode cX4_isLetter 12 = .ok (.iload_n 1, 1) := dk_27 (dk_at dksX4_isLetter_0 12 rfl rfl)
theorem dX4_isLetter_13 : decode cX4_isLetter 13 = .ok (.iaload, 1) := dk_46 (dk_at dksX4_isLetter_0 13 rfl rfl)
theorem dX4_isLetter_14 : decode cX4_isLetter 14 = .ok (.i2l, 1) := dk_133 (dk_at dksX4_isLetter_0 14 rfl rfl)
theorem dX4_isLetter_15 : decode cX4_isLetter 15 = .ok (.ldc2_w 86, 3) := dk_20 0 86 (dk_at dksX4_isLetter_0 15 rfl rfl)
theorem dX4_isLetter_18 : decode cX4_isLetter 18 = .ok (.ldc2_w 88, 3) := dk_20 0 88 (dk_at dksX4_isLetter_0 18 rfl rfl)
theorem dX4_isLetter_21 : decode cX4_isLetter 21 = .ok (.invokestatic 72, 3) := dk_184 0 72 (dk_at dksX4_isLetter_0 21 rfl rfl)
theorem dX4_isLetter_24 : decode cX4_isLetter 24 = .ok (.ifCond .eq 7, 3) := dk_153 0 7 (dk_at dksX4_isLetter_1 0 rfl rfl)
theorem dX4_isLetter_27 : decode cX4_isLetter 27 = .ok (.iconst 1, 1) := dk_4 (dk_at dksX4_isLetter_1 3 rfl rfl)
theorem dX4_isLetter_28 : decode cX4_isLetter 28 = .ok (.goto 4, 3) := dk_167 0 4 (dk_at dksX4_isLetter_1 4 rfl rfl)
theorem dX4_isLetter_31 : decode cX4_isLetter 31 = .ok (.iconst 0, 1) := dk_3 (dk_at dksX4_isLetter_1 7 rfl rfl)
theorem dX4_isLetter_32 : decode cX4_isLetter 32 = .ok (.ireturn, 1) := dk_172 (dk_at dksX4_isLetter_1 8 rfl rfl)
abbrev cX4_fault : ByteArray := prog_19_method_7_code
def yX4_fault : MethodName := ⟨RX4, "fault", "(II)V"⟩
def dkwX4_fault_0 : List UInt8 := [42, 180, 0, 76, 154, 0, 18, 42, 4, 181, 0, 76, 42, 27, 181, 0, 80, 42, 28, 181, 0, 46, 177]
abbrev dktX4_fault_0 : List UInt8 := dkwX4_fault_0 ++ []
theorem dksX4_fault_0 : cX4_fault.data.toList.drop 0 = dktX4_fault_0 := by decide +kernel
theorem dX4_fault_0 : decode cX4_fault 0 = .ok (.aload_n 0, 1) := dk_42 (dk_at dksX4_fault_0 0 rfl rfl)
theorem dX4_fault_1 : decode cX4_fault 1 = .ok (.getfield 76, 3) := dk_180 0 76 (dk_at dksX4_fault_0 1 rfl rfl)
theorem dX4_fault_4 : decode cX4_fault 4 = .ok (.ifCond .ne 18, 3) := dk_154 0 18 (dk_at dksX4_fault_0 4 rfl rfl)
theorem dX4_fault_7 : decode cX4_fault 7 = .ok (.aload_n 0, 1) := dk_42 (dk_at dksX4_fault_0 7 rfl rfl)
theorem dX4_fault_8 : decode cX4_fault 8 = .ok (.iconst 1, 1) := dk_4 (dk_at dksX4_fault_0 8 rfl rfl)
theorem dX4_fault_9 : decode cX4_fault 9 = .ok (.putfield 76, 3) := dk_181 0 76 (dk_at dksX4_fault_0 9 rfl rfl)
theorem dX4_fault_12 : decode cX4_fault 12 = .ok (.aload_n 0, 1) := dk_42 (dk_at dksX4_fault_0 12 rfl rfl)
theorem dX4_fault_13 : decode cX4_fault 13 = .ok (.iload_n 1, 1) := dk_27 (dk_at dksX4_fault_0 13 rfl rfl)
theorem dX4_fault_14 : decode cX4_fault 14 = .ok (.putfield 80, 3) := dk_181 0 80 (dk_at dksX4_fault_0 14 rfl rfl)
theorem dX4_fault_17 : decode cX4_fault 17 = .ok (.aload_n 0, 1) := dk_42 (dk_at dksX4_fault_0 17 rfl rfl)
theorem dX4_fault_18 : decode cX4_fault 18 = .ok (.iload_n 2, 1) := dk_28 (dk_at dksX4_fault_0 18 rfl rfl)
theorem dX4_fault_19 : decode cX4_fault 19 = .ok (.putfield 46, 3) := dk_181 0 46 (dk_at dksX4_fault_0 19 rfl rfl)
theorem dX4_fault_22 : decode cX4_fault 22 = .ok (.return_, 1) := dk_177 (dk_at dksX4_fault_0 22 rfl rfl)
abbrev cX4_number : ByteArray := prog_19_method_16_code
def yX4_number : MethodName := ⟨RX4, "number", "()I"⟩
def dkwX4_number_4 : List UInt8 := [180, 0, 123, 182, 0, 119, 42, 180, 0, 126, 172]
abbrev dktX4_number_4 : List UInt8 := dkwX4_number_4 ++ []
def dkwX4_number_3 : List UInt8 := [180, 0, 83, 4, 96, 181, 0, 83, 167, 255, 196, 27, 153, 0, 8, 27, 7, 164, 0, 12, 42, 4, 42]
abbrev dktX4_number_3 : List UInt8 := dkwX4_number_3 ++ dktX4_number_4
def dkwX4_number_2 : List UInt8 := [180, 0, 83, 46, 96, 16, 48, 100, 167, 0, 7, 42, 180, 0, 126, 181, 0, 126, 132, 1, 1, 42, 89]
abbrev dktX4_number_2 : List UInt8 := dkwX4_number_2 ++ dktX4_number_3
def dkwX4_number_1 : List UInt8 := [182, 0, 97, 153, 0, 55, 42, 27, 7, 162, 0, 26, 16, 10, 42, 180, 0, 126, 104, 42, 180, 0, 43, 42]
abbrev dktX4_number_1 : List UInt8 := dkwX4_number_1 ++ dktX4_number_2
def dkwX4_number_0 : List UInt8 := [42, 182, 0, 94, 42, 42, 180, 0, 83, 181, 0, 123, 3, 60, 42, 3, 181, 0, 126, 42, 42, 180, 0, 83]
abbrev dktX4_number_0 : List UInt8 := dkwX4_number_0 ++ dktX4_number_1
theorem dksX4_number_0 : cX4_number.data.toList.drop 0 = dktX4_number_0 := by decide +kernel
theorem dksX4_number_1 : cX4_number.data.toList.drop 24 = dktX4_number_1 := dk_seg dksX4_number_0 24 rfl rfl
theorem dksX4_number_2 : cX4_number.data.toList.drop 48 = dktX4_number_2 := dk_seg dksX4_number_1 24 rfl rfl
theorem dksX4_number_3 : cX4_number.data.toList.drop 71 = dktX4_number_3 := dk_seg dksX4_number_2 23 rfl rfl
theorem dksX4_number_4 : cX4_number.data.toList.drop 94 = dktX4_number_4 := dk_seg dksX4_number_3 23 rfl rfl
theorem dX4_number_0 : decode cX4_number 0 = .ok (.aload_n 0, 1) := dk_42 (dk_at dksX4_number_0 0 rfl rfl)
theorem dX4_number_1 : decode cX4_number 1 = .ok (.invokevirtual 94, 3) := dk_182 0 94 (dk_at dksX4_number_0 1 rfl rfl)
theorem dX4_number_4 : decode cX4_number 4 = .ok (.aload_n 0, 1) := dk_42 (dk_at dksX4_number_0 4 rfl rfl)
theorem dX4_number_5 : decode cX4_number 5 = .ok (.aload_n 0, 1) := dk_42 (dk_at dksX4_number_0 5 rfl rfl)
theorem dX4_number_6 : decode cX4_number 6 = .ok (.getfield 83, 3) := dk_180 0 83 (dk_at dksX4_number_0 6 rfl rfl)
theorem dX4_number_9 : decode cX4_number 9 = .ok (.putfield 123, 3) := dk_181 0 123 (dk_at dksX4_number_0 9 rfl rfl)
theorem dX4_number_12 : decode cX4_number 12 = .ok (.iconst 0, 1) := dk_3 (dk_at dksX4_number_0 12 rfl rfl)
theorem dX4_number_13 : decode cX4_number 13 = .ok (.istore_n 1, 1) := dk_60 (dk_at dksX4_number_0 13 rfl rfl)
theorem dX4_number_14 : decode cX4_number 14 = .ok (.aload_n 0, 1) := dk_42 (dk_at dksX4_number_0 14 rfl rfl)
theorem dX4_number_15 : decode cX4_number 15 = .ok (.iconst 0, 1) := dk_3 (dk_at dksX4_number_0 15 rfl rfl)
theorem dX4_number_16 : decode cX4_number 16 = .ok (.putfield 126, 3) := dk_181 0 126 (dk_at dksX4_number_0 16 rfl rfl)
theorem dX4_number_19 : decode cX4_number 19 = .ok (.aload_n 0, 1) := dk_42 (dk_at dksX4_number_0 19 rfl rfl)
theorem dX4_number_20 : decode cX4_number 20 = .ok (.aload_n 0, 1) := dk_42 (dk_at dksX4_number_0 20 rfl rfl)
theorem dX4_number_21 : decode cX4_number 21 = .ok (.getfield 83, 3) := dk_180 0 83 (dk_at dksX4_number_0 21 rfl rfl)
theorem dX4_number_24 : decode cX4_number 24 = .ok (.invokevirtual 97, 3) := dk_182 0 97 (dk_at dksX4_number_1 0 rfl rfl)
theorem dX4_number_27 : decode cX4_number 27 = .ok (.ifCond .eq 55, 3) := dk_153 0 55 (dk_at dksX4_number_1 3 rfl rfl)
theorem dX4_number_30 : decode cX4_number 30 = .ok (.aload_n 0, 1) := dk_42 (dk_at dksX4_number_1 6 rfl rfl)
theorem dX4_number_31 : decode cX4_number 31 = .ok (.iload_n 1, 1) := dk_27 (dk_at dksX4_number_1 7 rfl rfl)
theorem dX4_number_32 : decode cX4_number 32 = .ok (.iconst 4, 1) := dk_7 (dk_at dksX4_number_1 8 rfl rfl)
theorem dX4_number_33 : decode cX4_number 33 = .ok (.if_icmp .ge 26, 3) := dk_162 0 26 (dk_at dksX4_number_1 9 rfl rfl)
theorem dX4_number_36 : decode cX4_number 36 = .ok (.bipush 10, 2) := dk_16 10 (dk_at dksX4_number_1 12 rfl rfl)
theorem dX4_number_38 : decode cX4_number 38 = .ok (.aload_n 0, 1) := dk_42 (dk_at dksX4_number_1 14 rfl rfl)
theorem dX4_number_39 : decode cX4_number 39 = .ok (.getfield 126, 3) := dk_180 0 126 (dk_at dksX4_number_1 15 rfl rfl)
theorem dX4_number_42 : decode cX4_number 42 = .ok (.imul, 1) := dk_104 (dk_at dksX4_number_1 18 rfl rfl)
theorem dX4_number_43 : decode cX4_number 43 = .ok (.aload_n 0, 1) := dk_42 (dk_at dksX4_number_1 19 rfl rfl)
theorem dX4_number_44 : decode cX4_number 44 = .ok (.getfield 43, 3) := dk_180 0 43 (dk_at dksX4_number_1 20 rfl rfl)
theorem dX4_number_47 : decode cX4_number 47 = .ok (.aload_n 0, 1) := dk_42 (dk_at dksX4_number_1 23 rfl rfl)
theorem dX4_number_48 : decode cX4_number 48 = .ok (.getfield 83, 3) := dk_180 0 83 (dk_at dksX4_number_2 0 rfl rfl)
theorem dX4_number_51 : decode cX4_number 51 = .ok (.iaload, 1) := dk_46 (dk_at dksX4_number_2 3 rfl rfl)
theorem dX4_number_52 : decode cX4_number 52 = .ok (.iadd, 1) := dk_96 (dk_at dksX4_number_2 4 rfl rfl)
theorem dX4_number_53 : decode cX4_number 53 = .ok (.bipush 48, 2) := dk_16 48 (dk_at dksX4_number_2 5 rfl rfl)
theorem dX4_number_55 : decode cX4_number 55 = .ok (.isub, 1) := dk_100 (dk_at dksX4_number_2 7 rfl rfl)
theorem dX4_number_56 : decode cX4_number 56 = .ok (.goto 7, 3) := dk_167 0 7 (dk_at dksX4_number_2 8 rfl rfl)
theorem dX4_number_59 : decode cX4_number 59 = .ok (.aload_n 0, 1) := dk_42 (dk_at dksX4_number_2 11 rfl rfl)
theorem dX4_number_60 : decode cX4_number 60 = .ok (.getfield 126, 3) := dk_180 0 126 (dk_at dksX4_number_2 12 rfl rfl)
theorem dX4_number_63 : decode cX4_number 63 = .ok (.putfield 126, 3) := dk_181 0 126 (dk_at dksX4_number_2 15 rfl rfl)
theorem dX4_number_66 : decode cX4_number 66 = .ok (.iinc 1 1, 3) := dk_132 1 1 (dk_at dksX4_number_2 18 rfl rfl)
theorem dX4_number_69 : decode cX4_number 69 = .ok (.aload_n 0, 1) := dk_42 (dk_at dksX4_number_2 21 rfl rfl)
theorem dX4_number_70 : decode cX4_number 70 = .ok (.dup, 1) := dk_89 (dk_at dksX4_number_2 22 rfl rfl)
theorem dX4_number_71 : decode cX4_number 71 = .ok (.getfield 83, 3) := dk_180 0 83 (dk_at dksX4_number_3 0 rfl rfl)
theorem dX4_number_74 : decode cX4_number 74 = .ok (.iconst 1, 1) := dk_4 (dk_at dksX4_number_3 3 rfl rfl)
theorem dX4_number_75 : decode cX4_number 75 = .ok (.iadd, 1) := dk_96 (dk_at dksX4_number_3 4 rfl rfl)
theorem dX4_number_76 : decode cX4_number 76 = .ok (.putfield 83, 3) := dk_181 0 83 (dk_at dksX4_number_3 5 rfl rfl)
theorem dX4_number_79 : decode cX4_number 79 = .ok (.goto (-60), 3) := dk_167 255 196 (dk_at dksX4_number_3 8 rfl rfl)
theorem dX4_number_82 : decode cX4_number 82 = .ok (.iload_n 1, 1) := dk_27 (dk_at dksX4_number_3 11 rfl rfl)
theorem dX4_number_83 : decode cX4_number 83 = .ok (.ifCond .eq 8, 3) := dk_153 0 8 (dk_at dksX4_number_3 12 rfl rfl)
theorem dX4_number_86 : decode cX4_number 86 = .ok (.iload_n 1, 1) := dk_27 (dk_at dksX4_number_3 15 rfl rfl)
theorem dX4_number_87 : decode cX4_number 87 = .ok (.iconst 4, 1) := dk_7 (dk_at dksX4_number_3 16 rfl rfl)
theorem dX4_number_88 : decode cX4_number 88 = .ok (.if_icmp .le 12, 3) := dk_164 0 12 (dk_at dksX4_number_3 17 rfl rfl)
theorem dX4_number_91 : decode cX4_number 91 = .ok (.aload_n 0, 1) := dk_42 (dk_at dksX4_number_3 20 rfl rfl)
theorem dX4_number_92 : decode cX4_number 92 = .ok (.iconst 1, 1) := dk_4 (dk_at dksX4_number_3 21 rfl rfl)
theorem dX4_number_93 : decode cX4_number 93 = .ok (.aload_n 0, 1) := dk_42 (dk_at dksX4_number_3 22 rfl rfl)
theorem dX4_number_94 : decode cX4_number 94 = .ok (.getfield 123, 3) := dk_180 0 123 (dk_at dksX4_number_4 0 rfl rfl)
theorem dX4_number_97 : decode cX4_number 97 = .ok (.invokevirtual 119, 3) := dk_182 0 119 (dk_at dksX4_number_4 3 rfl rfl)
theorem dX4_number_100 : decode cX4_number 100 = .ok (.aload_n 0, 1) := dk_42 (dk_at dksX4_number_4 6 rfl rfl)
theorem dX4_number_101 : decode cX4_number 101 = .ok (.getfield 126, 3) := dk_180 0 126 (dk_at dksX4_number_4 7 rfl rfl)
theorem dX4_number_104 : decode cX4_number 104 = .ok (.ireturn, 1) := dk_172 (dk_at dksX4_number_4 10 rfl rfl)
abbrev cX4_isDigit : ByteArray := prog_19_method_10_code
def yX4_isDigit : MethodName := ⟨RX4, "isDigit", "(I)Z"⟩
def dkwX4_isDigit_1 : List UInt8 := [153, 0, 7, 4, 167, 0, 4, 3, 172]
abbrev dktX4_isDigit_1 : List UInt8 := dkwX4_isDigit_1 ++ []
def dkwX4_isDigit_0 : List UInt8 := [27, 42, 180, 0, 65, 162, 0, 26, 42, 180, 0, 43, 27, 46, 133, 20, 0, 90, 20, 0, 92, 184, 0, 72]
abbrev dktX4_isDigit_0 : List UInt8 := dkwX4_isDigit_0 ++ dktX4_isDigit_1
theorem dksX4_isDigit_0 : cX4_isDigit.data.toList.drop 0 = dktX4_isDigit_0 := by decide +kernel
theorem dksX4_isDigit_1 : cX4_isDigit.data.toList.drop 24 = dktX4_isDigit_1 := dk_seg dksX4_isDigit_0 24 rfl rfl
theorem dX4_isDigit_0 : decode cX4_isDigit 0 = .ok (.iload_n 1, 1) := dk_27 (dk_at dksX4_isDigit_0 0 rfl rfl)
theorem dX4_isDigit_1 : decode cX4_isDigit 1 = .ok (.aload_n 0, 1) := dk_42 (dk_at dksX4_isDigit_0 1 rfl rfl)
theorem dX4_isDigit_2 : decode cX4_isDigit 2 = .ok (.getfield 65, 3) := dk_180 0 65 (dk_at dksX4_isDigit_0 2 rfl rfl)
theorem dX4_isDigit_5 : decode cX4_isDigit 5 = .ok (.if_icmp .ge 26, 3) := dk_162 0 26 (dk_at dksX4_isDigit_0 5 rfl rfl)
theorem dX4_isDigit_8 : decode cX4_isDigit 8 = .ok (.aload_n 0, 1) := dk_42 (dk_at dksX4_isDigit_0 8 rfl rfl)
theorem dX4_isDigit_9 : decode cX4_isDigit 9 = .ok (.getfield 43, 3) := dk_180 0 43 (dk_at dksX4_isDigit_0 9 rfl rfl)
theorem dX4_isDigit_12 : decode cX4_isDigit 12 = .ok (.iload_n 1, 1) := dk_27 (dk_at dksX4_isDigit_0 12 rfl rfl)
theorem dX4_isDigit_13 : decode cX4_isDigit 13 = .ok (.iaload, 1) := dk_46 (dk_at dksX4_isDigit_0 13 rfl rfl)
theorem dX4_isDigit_14 : decode cX4_isDigit 14 = .ok (.i2l, 1) := dk_133 (dk_at dksX4_isDigit_0 14 rfl rfl)
theorem dX4_isDigit_15 : decode cX4_isDigit 15 = .ok (.ldc2_w 90, 3) := dk_20 0 90 (dk_at dksX4_isDigit_0 15 rfl rfl)
theorem dX4_isDigit_18 : decode cX4_isDigit 18 = .ok (.ldc2_w 92, 3) := dk_20 0 92 (dk_at dksX4_isDigit_0 18 rfl rfl)
theorem dX4_isDigit_21 : decode cX4_isDigit 21 = .ok (.invokestatic 72, 3) := dk_184 0 72 (dk_at dksX4_isDigit_0 21 rfl rfl)
theorem dX4_isDigit_24 : decode cX4_isDigit 24 = .ok (.ifCond .eq 7, 3) := dk_153 0 7 (dk_at dksX4_isDigit_1 0 rfl rfl)
theorem dX4_isDigit_27 : decode cX4_isDigit 27 = .ok (.iconst 1, 1) := dk_4 (dk_at dksX4_isDigit_1 3 rfl rfl)
theorem dX4_isDigit_28 : decode cX4_isDigit 28 = .ok (.goto 4, 3) := dk_167 0 4 (dk_at dksX4_isDigit_1 4 rfl rfl)
theorem dX4_isDigit_31 : decode cX4_isDigit 31 = .ok (.iconst 0, 1) := dk_3 (dk_at dksX4_isDigit_1 7 rfl rfl)
theorem dX4_isDigit_32 : decode cX4_isDigit 32 = .ok (.ireturn, 1) := dk_172 (dk_at dksX4_isDigit_1 8 rfl rfl)
abbrev cX4_sign : ByteArray := prog_19_method_15_code
def yX4_sign : MethodName := ⟨RX4, "sign", "(C)V"⟩
def dkwX4_sign_1 : List UInt8 := [180, 0, 83, 182, 0, 119, 177]
abbrev dktX4_sign_1 : List UInt8 := dkwX4_sign_1 ++ []
def dkwX4_sign_0 : List UInt8 := [42, 27, 182, 0, 115, 153, 0, 16, 42, 89, 180, 0, 83, 4, 96, 181, 0, 83, 167, 0, 12, 42, 4, 42]
abbrev dktX4_sign_0 : List UInt8 := dkwX4_sign_0 ++ dktX4_sign_1
theorem dksX4_sign_0 : cX4_sign.data.toList.drop 0 = dktX4_sign_0 := by decide +kernel
theorem dksX4_sign_1 : cX4_sign.data.toList.drop 24 = dktX4_sign_1 := dk_seg dksX4_sign_0 24 rfl rfl
theorem dX4_sign_0 : decode cX4_sign 0 = .ok (.aload_n 0, 1) := dk_42 (dk_at dksX4_sign_0 0 rfl rfl)
theorem dX4_sign_1 : decode cX4_sign 1 = .ok (.iload_n 1, 1) := dk_27 (dk_at dksX4_sign_0 1 rfl rfl)
theorem dX4_sign_2 : decode cX4_sign 2 = .ok (.invokevirtual 115, 3) := dk_182 0 115 (dk_at dksX4_sign_0 2 rfl rfl)
theorem dX4_sign_5 : decode cX4_sign 5 = .ok (.ifCond .eq 16, 3) := dk_153 0 16 (dk_at dksX4_sign_0 5 rfl rfl)
theorem dX4_sign_8 : decode cX4_sign 8 = .ok (.aload_n 0, 1) := dk_42 (dk_at dksX4_sign_0 8 rfl rfl)
theorem dX4_sign_9 : decode cX4_sign 9 = .ok (.dup, 1) := dk_89 (dk_at dksX4_sign_0 9 rfl rfl)
theorem dX4_sign_10 : decode cX4_sign 10 = .ok (.getfield 83, 3) := dk_180 0 83 (dk_at dksX4_sign_0 10 rfl rfl)
theorem dX4_sign_13 : decode cX4_sign 13 = .ok (.iconst 1, 1) := dk_4 (dk_at dksX4_sign_0 13 rfl rfl)
theorem dX4_sign_14 : decode cX4_sign 14 = .ok (.iadd, 1) := dk_96 (dk_at dksX4_sign_0 14 rfl rfl)
theorem dX4_sign_15 : decode cX4_sign 15 = .ok (.putfield 83, 3) := dk_181 0 83 (dk_at dksX4_sign_0 15 rfl rfl)
theorem dX4_sign_18 : decode cX4_sign 18 = .ok (.goto 12, 3) := dk_167 0 12 (dk_at dksX4_sign_0 18 rfl rfl)
theorem dX4_sign_21 : decode cX4_sign 21 = .ok (.aload_n 0, 1) := dk_42 (dk_at dksX4_sign_0 21 rfl rfl)
theorem dX4_sign_22 : decode cX4_sign 22 = .ok (.iconst 1, 1) := dk_4 (dk_at dksX4_sign_0 22 rfl rfl)
theorem dX4_sign_23 : decode cX4_sign 23 = .ok (.aload_n 0, 1) := dk_42 (dk_at dksX4_sign_0 23 rfl rfl)
theorem dX4_sign_24 : decode cX4_sign 24 = .ok (.getfield 83, 3) := dk_180 0 83 (dk_at dksX4_sign_1 0 rfl rfl)
theorem dX4_sign_27 : decode cX4_sign 27 = .ok (.invokevirtual 119, 3) := dk_182 0 119 (dk_at dksX4_sign_1 3 rfl rfl)
theorem dX4_sign_30 : decode cX4_sign 30 = .ok (.return_, 1) := dk_177 (dk_at dksX4_sign_1 6 rfl rfl)
abbrev cX4_isNext : ByteArray := prog_19_method_11_code
def yX4_isNext : MethodName := ⟨RX4, "isNext", "(C)Z"⟩
def dkwX4_isNext_1 : List UInt8 := [27, 160, 0, 7, 4, 167, 0, 4, 3, 172]
abbrev dktX4_isNext_1 : List UInt8 := dkwX4_isNext_1 ++ []
def dkwX4_isNext_0 : List UInt8 := [42, 182, 0, 94, 42, 180, 0, 83, 42, 180, 0, 65, 162, 0, 20, 42, 180, 0, 43, 42, 180, 0, 83, 46]
abbrev dktX4_isNext_0 : List UInt8 := dkwX4_isNext_0 ++ dktX4_isNext_1
theorem dksX4_isNext_0 : cX4_isNext.data.toList.drop 0 = dktX4_isNext_0 := by decide +kernel
theorem dksX4_isNext_1 : cX4_isNext.data.toList.drop 24 = dktX4_isNext_1 := dk_seg dksX4_isNext_0 24 rfl rfl
theorem dX4_isNext_0 : decode cX4_isNext 0 = .ok (.aload_n 0, 1) := dk_42 (dk_at dksX4_isNext_0 0 rfl rfl)
theorem dX4_isNext_1 : decode cX4_isNext 1 = .ok (.invokevirtual 94, 3) := dk_182 0 94 (dk_at dksX4_isNext_0 1 rfl rfl)
theorem dX4_isNext_4 : decode cX4_isNext 4 = .ok (.aload_n 0, 1) := dk_42 (dk_at dksX4_isNext_0 4 rfl rfl)
theorem dX4_isNext_5 : decode cX4_isNext 5 = .ok (.getfield 83, 3) := dk_180 0 83 (dk_at dksX4_isNext_0 5 rfl rfl)
theorem dX4_isNext_8 : decode cX4_isNext 8 = .ok (.aload_n 0, 1) := dk_42 (dk_at dksX4_isNext_0 8 rfl rfl)
theorem dX4_isNext_9 : decode cX4_isNext 9 = .ok (.getfield 65, 3) := dk_180 0 65 (dk_at dksX4_isNext_0 9 rfl rfl)
theorem dX4_isNext_12 : decode cX4_isNext 12 = .ok (.if_icmp .ge 20, 3) := dk_162 0 20 (dk_at dksX4_isNext_0 12 rfl rfl)
theorem dX4_isNext_15 : decode cX4_isNext 15 = .ok (.aload_n 0, 1) := dk_42 (dk_at dksX4_isNext_0 15 rfl rfl)
theorem dX4_isNext_16 : decode cX4_isNext 16 = .ok (.getfield 43, 3) := dk_180 0 43 (dk_at dksX4_isNext_0 16 rfl rfl)
theorem dX4_isNext_19 : decode cX4_isNext 19 = .ok (.aload_n 0, 1) := dk_42 (dk_at dksX4_isNext_0 19 rfl rfl)
theorem dX4_isNext_20 : decode cX4_isNext 20 = .ok (.getfield 83, 3) := dk_180 0 83 (dk_at dksX4_isNext_0 20 rfl rfl)
theorem dX4_isNext_23 : decode cX4_isNext 23 = .ok (.iaload, 1) := dk_46 (dk_at dksX4_isNext_0 23 rfl rfl)
theorem dX4_isNext_24 : decode cX4_isNext 24 = .ok (.iload_n 1, 1) := dk_27 (dk_at dksX4_isNext_1 0 rfl rfl)
theorem dX4_isNext_25 : decode cX4_isNext 25 = .ok (.if_icmp .ne 7, 3) := dk_160 0 7 (dk_at dksX4_isNext_1 1 rfl rfl)
theorem dX4_isNext_28 : decode cX4_isNext 28 = .ok (.iconst 1, 1) := dk_4 (dk_at dksX4_isNext_1 4 rfl rfl)
theorem dX4_isNext_29 : decode cX4_isNext 29 = .ok (.goto 4, 3) := dk_167 0 4 (dk_at dksX4_isNext_1 5 rfl rfl)
theorem dX4_isNext_32 : decode cX4_isNext 32 = .ok (.iconst 0, 1) := dk_3 (dk_at dksX4_isNext_1 8 rfl rfl)
theorem dX4_isNext_33 : decode cX4_isNext 33 = .ok (.ireturn, 1) := dk_172 (dk_at dksX4_isNext_1 9 rfl rfl)
abbrev cX4_list : ByteArray := prog_19_method_19_code
def yX4_list : MethodName := ⟨RX4, "list", "()V"⟩
def dkwX4_list_5 : List UInt8 := [31, 80, 42, 89, 180, 0, 133, 4, 96, 181, 0, 133, 177]
abbrev dktX4_list_5 : List UInt8 := dkwX4_list_5 ++ []
def dkwX4_list_4 : List UInt8 := [167, 255, 229, 42, 180, 0, 76, 154, 0, 9, 42, 16, 59, 182, 0, 146, 42, 180, 0, 50, 42, 180, 0, 133]
abbrev dktX4_list_4 : List UInt8 := dkwX4_list_4 ++ dktX4_list_5
def dkwX4_list_3 : List UInt8 := [154, 0, 26, 42, 16, 45, 182, 0, 115, 154, 0, 10, 42, 182, 0, 139, 153, 0, 10, 42, 182, 0, 143]
abbrev dktX4_list_3 : List UInt8 := dkwX4_list_3 ++ dktX4_list_4
def dkwX4_list_2 : List UInt8 := [182, 0, 119, 132, 3, 1, 167, 255, 225, 42, 180, 0, 53, 42, 180, 0, 133, 3, 79, 42, 180, 0, 76]
abbrev dktX4_list_2 : List UInt8 := dkwX4_list_2 ++ dktX4_list_3
def dkwX4_list_1 : List UInt8 := [180, 0, 133, 162, 0, 29, 42, 180, 0, 50, 29, 47, 31, 148, 154, 0, 12, 42, 7, 42, 180, 0, 101]
abbrev dktX4_list_1 : List UInt8 := dkwX4_list_1 ++ dktX4_list_2
def dkwX4_list_0 : List UInt8 := [42, 182, 0, 111, 64, 31, 9, 148, 157, 0, 12, 42, 4, 42, 180, 0, 101, 182, 0, 119, 3, 62, 29, 42]
abbrev dktX4_list_0 : List UInt8 := dkwX4_list_0 ++ dktX4_list_1
theorem dksX4_list_0 : cX4_list.data.toList.drop 0 = dktX4_list_0 := by decide +kernel
theorem dksX4_list_1 : cX4_list.data.toList.drop 24 = dktX4_list_1 := dk_seg dksX4_list_0 24 rfl rfl
theorem dksX4_list_2 : cX4_list.data.toList.drop 47 = dktX4_list_2 := dk_seg dksX4_list_1 23 rfl rfl
theorem dksX4_list_3 : cX4_list.data.toList.drop 70 = dktX4_list_3 := dk_seg dksX4_list_2 23 rfl rfl
theorem dksX4_list_4 : cX4_list.data.toList.drop 93 = dktX4_list_4 := dk_seg dksX4_list_3 23 rfl rfl
theorem dksX4_list_5 : cX4_list.data.toList.drop 117 = dktX4_list_5 := dk_seg dksX4_list_4 24 rfl rfl
theorem dX4_list_0 : decode cX4_list 0 = .ok (.aload_n 0, 1) := dk_42 (dk_at dksX4_list_0 0 rfl rfl)
theorem dX4_list_1 : decode cX4_list 1 = .ok (.invokevirtual 111, 3) := dk_182 0 111 (dk_at dksX4_list_0 1 rfl rfl)
theorem dX4_list_4 : decode cX4_list 4 = .ok (.lstore_n 1, 1) := dk_64 (dk_at dksX4_list_0 4 rfl rfl)
theorem dX4_list_5 : decode cX4_list 5 = .ok (.lload_n 1, 1) := dk_31 (dk_at dksX4_list_0 5 rfl rfl)
theorem dX4_list_6 : decode cX4_list 6 = .ok (.lconst 0, 1) := dk_9 (dk_at dksX4_list_0 6 rfl rfl)
theorem dX4_list_7 : decode cX4_list 7 = .ok (.lcmp, 1) := dk_148 (dk_at dksX4_list_0 7 rfl rfl)
theorem dX4_list_8 : decode cX4_list 8 = .ok (.ifCond .gt 12, 3) := dk_157 0 12 (dk_at dksX4_list_0 8 rfl rfl)
theorem dX4_list_11 : decode cX4_list 11 = .ok (.aload_n 0, 1) := dk_42 (dk_at dksX4_list_0 11 rfl rfl)
theorem dX4_list_12 : decode cX4_list 12 = .ok (.iconst 1, 1) := dk_4 (dk_at dksX4_list_0 12 rfl rfl)
theorem dX4_list_13 : decode cX4_list 13 = .ok (.aload_n 0, 1) := dk_42 (dk_at dksX4_list_0 13 rfl rfl)
theorem dX4_list_14 : decode cX4_list 14 = .ok (.getfield 101, 3) := dk_180 0 101 (dk_at dksX4_list_0 14 rfl rfl)
theorem dX4_list_17 : decode cX4_list 17 = .ok (.invokevirtual 119, 3) := dk_182 0 119 (dk_at dksX4_list_0 17 rfl rfl)
theorem dX4_list_20 : decode cX4_list 20 = .ok (.iconst 0, 1) := dk_3 (dk_at dksX4_list_0 20 rfl rfl)
theorem dX4_list_21 : decode cX4_list 21 = .ok (.istore_n 3, 1) := dk_62 (dk_at dksX4_list_0 21 rfl rfl)
theorem dX4_list_22 : decode cX4_list 22 = .ok (.iload_n 3, 1) := dk_29 (dk_at dksX4_list_0 22 rfl rfl)
theorem dX4_list_23 : decode cX4_list 23 = .ok (.aload_n 0, 1) := dk_42 (dk_at dksX4_list_0 23 rfl rfl)
theorem dX4_list_24 : decode cX4_list 24 = .ok (.getfield 133, 3) := dk_180 0 133 (dk_at dksX4_list_1 0 rfl rfl)
theorem dX4_list_27 : decode cX4_list 27 = .ok (.if_icmp .ge 29, 3) := dk_162 0 29 (dk_at dksX4_list_1 3 rfl rfl)
theorem dX4_list_30 : decode cX4_list 30 = .ok (.aload_n 0, 1) := dk_42 (dk_at dksX4_list_1 6 rfl rfl)
theorem dX4_list_31 : decode cX4_list 31 = .ok (.getfield 50, 3) := dk_180 0 50 (dk_at dksX4_list_1 7 rfl rfl)
theorem dX4_list_34 : decode cX4_list 34 = .ok (.iload_n 3, 1) := dk_29 (dk_at dksX4_list_1 10 rfl rfl)
theorem dX4_list_35 : decode cX4_list 35 = .ok (.laload, 1) := dk_47 (dk_at dksX4_list_1 11 rfl rfl)
theorem dX4_list_36 : decode cX4_list 36 = .ok (.lload_n 1, 1) := dk_31 (dk_at dksX4_list_1 12 rfl rfl)
theorem dX4_list_37 : decode cX4_list 37 = .ok (.lcmp, 1) := dk_148 (dk_at dksX4_list_1 13 rfl rfl)
theorem dX4_list_38 : decode cX4_list 38 = .ok (.ifCond .ne 12, 3) := dk_154 0 12 (dk_at dksX4_list_1 14 rfl rfl)
theorem dX4_list_41 : decode cX4_list 41 = .ok (.aload_n 0, 1) := dk_42 (dk_at dksX4_list_1 17 rfl rfl)
theorem dX4_list_42 : decode cX4_list 42 = .ok (.iconst 4, 1) := dk_7 (dk_at dksX4_list_1 18 rfl rfl)
theorem dX4_list_43 : decode cX4_list 43 = .ok (.aload_n 0, 1) := dk_42 (dk_at dksX4_list_1 19 rfl rfl)
theorem dX4_list_44 : decode cX4_list 44 = .ok (.getfield 101, 3) := dk_180 0 101 (dk_at dksX4_list_1 20 rfl rfl)
theorem dX4_list_47 : decode cX4_list 47 = .ok (.invokevirtual 119, 3) := dk_182 0 119 (dk_at dksX4_list_2 0 rfl rfl)
theorem dX4_list_50 : decode cX4_list 50 = .ok (.iinc 3 1, 3) := dk_132 3 1 (dk_at dksX4_list_2 3 rfl rfl)
theorem dX4_list_53 : decode cX4_list 53 = .ok (.goto (-31), 3) := dk_167 255 225 (dk_at dksX4_list_2 6 rfl rfl)
theorem dX4_list_56 : decode cX4_list 56 = .ok (.aload_n 0, 1) := dk_42 (dk_at dksX4_list_2 9 rfl rfl)
theorem dX4_list_57 : decode cX4_list 57 = .ok (.getfield 53, 3) := dk_180 0 53 (dk_at dksX4_list_2 10 rfl rfl)
theorem dX4_list_60 : decode cX4_list 60 = .ok (.aload_n 0, 1) := dk_42 (dk_at dksX4_list_2 13 rfl rfl)
theorem dX4_list_61 : decode cX4_list 61 = .ok (.getfield 133, 3) := dk_180 0 133 (dk_at dksX4_list_2 14 rfl rfl)
theorem dX4_list_64 : decode cX4_list 64 = .ok (.iconst 0, 1) := dk_3 (dk_at dksX4_list_2 17 rfl rfl)
theorem dX4_list_65 : decode cX4_list 65 = .ok (.iastore, 1) := dk_79 (dk_at dksX4_list_2 18 rfl rfl)
theorem dX4_list_66 : decode cX4_list 66 = .ok (.aload_n 0, 1) := dk_42 (dk_at dksX4_list_2 19 rfl rfl)
theorem dX4_list_67 : decode cX4_list 67 = .ok (.getfield 76, 3) := dk_180 0 76 (dk_at dksX4_list_2 20 rfl rfl)
theorem dX4_list_70 : decode cX4_list 70 = .ok (.ifCond .ne 26, 3) := dk_154 0 26 (dk_at dksX4_list_3 0 rfl rfl)
theorem dX4_list_73 : decode cX4_list 73 = .ok (.aload_n 0, 1) := dk_42 (dk_at dksX4_list_3 3 rfl rfl)
theorem dX4_list_74 : decode cX4_list 74 = .ok (.bipush 45, 2) := dk_16 45 (dk_at dksX4_list_3 4 rfl rfl)
theorem dX4_list_76 : decode cX4_list 76 = .ok (.invokevirtual 115, 3) := dk_182 0 115 (dk_at dksX4_list_3 6 rfl rfl)
theorem dX4_list_79 : decode cX4_list 79 = .ok (.ifCond .ne 10, 3) := dk_154 0 10 (dk_at dksX4_list_3 9 rfl rfl)
theorem dX4_list_82 : decode cX4_list 82 = .ok (.aload_n 0, 1) := dk_42 (dk_at dksX4_list_3 12 rfl rfl)
theorem dX4_list_83 : decode cX4_list 83 = .ok (.invokevirtual 139, 3) := dk_182 0 139 (dk_at dksX4_list_3 13 rfl rfl)
theorem dX4_list_86 : decode cX4_list 86 = .ok (.ifCond .eq 10, 3) := dk_153 0 10 (dk_at dksX4_list_3 16 rfl rfl)
theorem dX4_list_89 : decode cX4_list 89 = .ok (.aload_n 0, 1) := dk_42 (dk_at dksX4_list_3 19 rfl rfl)
theorem dX4_list_90 : decode cX4_list 90 = .ok (.invokevirtual 143, 3) := dk_182 0 143 (dk_at dksX4_list_3 20 rfl rfl)
theorem dX4_list_93 : decode cX4_list 93 = .ok (.goto (-27), 3) := dk_167 255 229 (dk_at dksX4_list_4 0 rfl rfl)
theorem dX4_list_96 : decode cX4_list 96 = .ok (.aload_n 0, 1) := dk_42 (dk_at dksX4_list_4 3 rfl rfl)
theorem dX4_list_97 : decode cX4_list 97 = .ok (.getfield 76, 3) := dk_180 0 76 (dk_at dksX4_list_4 4 rfl rfl)
theorem dX4_list_100 : decode cX4_list 100 = .ok (.ifCond .ne 9, 3) := dk_154 0 9 (dk_at dksX4_list_4 7 rfl rfl)
theorem dX4_list_103 : decode cX4_list 103 = .ok (.aload_n 0, 1) := dk_42 (dk_at dksX4_list_4 10 rfl rfl)
theorem dX4_list_104 : decode cX4_list 104 = .ok (.bipush 59, 2) := dk_16 59 (dk_at dksX4_list_4 11 rfl rfl)
theorem dX4_list_106 : decode cX4_list 106 = .ok (.invokevirtual 146, 3) := dk_182 0 146 (dk_at dksX4_list_4 13 rfl rfl)
theorem dX4_list_109 : decode cX4_list 109 = .ok (.aload_n 0, 1) := dk_42 (dk_at dksX4_list_4 16 rfl rfl)
theorem dX4_list_110 : decode cX4_list 110 = .ok (.getfield 50, 3) := dk_180 0 50 (dk_at dksX4_list_4 17 rfl rfl)
theorem dX4_list_113 : decode cX4_list 113 = .ok (.aload_n 0, 1) := dk_42 (dk_at dksX4_list_4 20 rfl rfl)
theorem dX4_list_114 : decode cX4_list 114 = .ok (.getfield 133, 3) := dk_180 0 133 (dk_at dksX4_list_4 21 rfl rfl)
theorem dX4_list_117 : decode cX4_list 117 = .ok (.lload_n 1, 1) := dk_31 (dk_at dksX4_list_5 0 rfl rfl)
theorem dX4_list_118 : decode cX4_list 118 = .ok (.lastore, 1) := dk_80 (dk_at dksX4_list_5 1 rfl rfl)
theorem dX4_list_119 : decode cX4_list 119 = .ok (.aload_n 0, 1) := dk_42 (dk_at dksX4_list_5 2 rfl rfl)
theorem dX4_list_120 : decode cX4_list 120 = .ok (.dup, 1) := dk_89 (dk_at dksX4_list_5 3 rfl rfl)
theorem dX4_list_121 : decode cX4_list 121 = .ok (.getfield 133, 3) := dk_180 0 133 (dk_at dksX4_list_5 4 rfl rfl)
theorem dX4_list_124 : decode cX4_list 124 = .ok (.iconst 1, 1) := dk_4 (dk_at dksX4_list_5 7 rfl rfl)
theorem dX4_list_125 : decode cX4_list 125 = .ok (.iadd, 1) := dk_96 (dk_at dksX4_list_5 8 rfl rfl)
theorem dX4_list_126 : decode cX4_list 126 = .ok (.putfield 133, 3) := dk_181 0 133 (dk_at dksX4_list_5 9 rfl rfl)
theorem dX4_list_129 : decode cX4_list 129 = .ok (.return_, 1) := dk_177 (dk_at dksX4_list_5 12 rfl rfl)
abbrev cX4_isNumberNext : ByteArray := prog_19_method_12_code
def yX4_isNumberNext : MethodName := ⟨RX4, "isNumberNext", "()Z"⟩
def dkwX4_isNumberNext_0 : List UInt8 := [42, 182, 0, 94, 42, 42, 180, 0, 83, 182, 0, 97, 172]
abbrev dktX4_isNumberNext_0 : List UInt8 := dkwX4_isNumberNext_0 ++ []
theorem dksX4_isNumberNext_0 : cX4_isNumberNext.data.toList.drop 0 = dktX4_isNumberNext_0 := by decide +kernel
theorem dX4_isNumberNext_0 : decode cX4_isNumberNext 0 = .ok (.aload_n 0, 1) := dk_42 (dk_at dksX4_isNumberNext_0 0 rfl rfl)
theorem dX4_isNumberNext_1 : decode cX4_isNumberNext 1 = .ok (.invokevirtual 94, 3) := dk_182 0 94 (dk_at dksX4_isNumberNext_0 1 rfl rfl)
theorem dX4_isNumberNext_4 : decode cX4_isNumberNext 4 = .ok (.aload_n 0, 1) := dk_42 (dk_at dksX4_isNumberNext_0 4 rfl rfl)
theorem dX4_isNumberNext_5 : decode cX4_isNumberNext 5 = .ok (.aload_n 0, 1) := dk_42 (dk_at dksX4_isNumberNext_0 5 rfl rfl)
theorem dX4_isNumberNext_6 : decode cX4_isNumberNext 6 = .ok (.getfield 83, 3) := dk_180 0 83 (dk_at dksX4_isNumberNext_0 6 rfl rfl)
theorem dX4_isNumberNext_9 : decode cX4_isNumberNext 9 = .ok (.invokevirtual 97, 3) := dk_182 0 97 (dk_at dksX4_isNumberNext_0 9 rfl rfl)
theorem dX4_isNumberNext_12 : decode cX4_isNumberNext 12 = .ok (.ireturn, 1) := dk_172 (dk_at dksX4_isNumberNext_0 12 rfl rfl)
abbrev cX4_element : ByteArray := prog_19_method_18_code
def yX4_element : MethodName := ⟨RX4, "element", "()V"⟩
def dkwX4_element_7 : List UInt8 := [180, 0, 53, 42, 180, 0, 133, 92, 46, 4, 96, 79, 177]
abbrev dktX4_element_7 : List UInt8 := dkwX4_element_7 ++ []
def dkwX4_element_6 : List UInt8 := [42, 180, 0, 76, 154, 0, 31, 42, 180, 0, 56, 28, 29, 79, 42, 180, 0, 59, 28, 21, 4, 79, 42]
abbrev dktX4_element_6 : List UInt8 := dkwX4_element_6 ++ dktX4_element_7
def dkwX4_element_5 : List UInt8 := [16, 58, 182, 0, 115, 153, 0, 19, 42, 89, 180, 0, 83, 4, 96, 181, 0, 83, 42, 182, 0, 136, 54, 4]
abbrev dktX4_element_5 : List UInt8 := dkwX4_element_5 ++ dktX4_element_6
def dkwX4_element_4 : List UInt8 := [160, 0, 12, 42, 8, 42, 180, 0, 123, 182, 0, 119, 3, 54, 4, 42, 180, 0, 76, 154, 0, 28, 42]
abbrev dktX4_element_4 : List UInt8 := dkwX4_element_4 ++ dktX4_element_5
def dkwX4_element_3 : List UInt8 := [163, 0, 12, 42, 6, 42, 180, 0, 123, 182, 0, 119, 42, 180, 0, 76, 154, 0, 18, 27, 16, 60]
abbrev dktX4_element_3 : List UInt8 := dkwX4_element_3 ++ dktX4_element_4
def dkwX4_element_2 : List UInt8 := [182, 0, 136, 62, 42, 180, 0, 76, 154, 0, 28, 27, 158, 0, 24, 29, 42, 180, 0, 56, 28, 4, 100, 46]
abbrev dktX4_element_2 : List UInt8 := dkwX4_element_2 ++ dktX4_element_3
def dkwX4_element_1 : List UInt8 := [160, 0, 21, 42, 16, 45, 182, 0, 115, 153, 0, 12, 42, 8, 42, 180, 0, 83, 182, 0, 119, 42]
abbrev dktX4_element_1 : List UInt8 := dkwX4_element_1 ++ dktX4_element_2
def dkwX4_element_0 : List UInt8 := [42, 180, 0, 53, 42, 180, 0, 133, 46, 60, 16, 60, 42, 180, 0, 133, 104, 27, 96, 61, 27, 16, 60]
abbrev dktX4_element_0 : List UInt8 := dkwX4_element_0 ++ dktX4_element_1
theorem dksX4_element_0 : cX4_element.data.toList.drop 0 = dktX4_element_0 := by decide +kernel
theorem dksX4_element_1 : cX4_element.data.toList.drop 23 = dktX4_element_1 := dk_seg dksX4_element_0 23 rfl rfl
theorem dksX4_element_2 : cX4_element.data.toList.drop 45 = dktX4_element_2 := dk_seg dksX4_element_1 22 rfl rfl
theorem dksX4_element_3 : cX4_element.data.toList.drop 69 = dktX4_element_3 := dk_seg dksX4_element_2 24 rfl rfl
theorem dksX4_element_4 : cX4_element.data.toList.drop 91 = dktX4_element_4 := dk_seg dksX4_element_3 22 rfl rfl
theorem dksX4_element_5 : cX4_element.data.toList.drop 114 = dktX4_element_5 := dk_seg dksX4_element_4 23 rfl rfl
theorem dksX4_element_6 : cX4_element.data.toList.drop 138 = dktX4_element_6 := dk_seg dksX4_element_5 24 rfl rfl
theorem dksX4_element_7 : cX4_element.data.toList.drop 161 = dktX4_element_7 := dk_seg dksX4_element_6 23 rfl rfl
theorem dX4_element_0 : decode cX4_element 0 = .ok (.aload_n 0, 1) := dk_42 (dk_at dksX4_element_0 0 rfl rfl)
theorem dX4_element_1 : decode cX4_element 1 = .ok (.getfield 53, 3) := dk_180 0 53 (dk_at dksX4_element_0 1 rfl rfl)
theorem dX4_element_4 : decode cX4_element 4 = .ok (.aload_n 0, 1) := dk_42 (dk_at dksX4_element_0 4 rfl rfl)
theorem dX4_element_5 : decode cX4_element 5 = .ok (.getfield 133, 3) := dk_180 0 133 (dk_at dksX4_element_0 5 rfl rfl)
theorem dX4_element_8 : decode cX4_element 8 = .ok (.iaload, 1) := dk_46 (dk_at dksX4_element_0 8 rfl rfl)
theorem dX4_element_9 : decode cX4_element 9 = .ok (.istore_n 1, 1) := dk_60 (dk_at dksX4_element_0 9 rfl rfl)
theorem dX4_element_10 : decode cX4_element 10 = .ok (.bipush 60, 2) := dk_16 60 (dk_at dksX4_element_0 10 rfl rfl)
theorem dX4_element_12 : decode cX4_element 12 = .ok (.aload_n 0, 1) := dk_42 (dk_at dksX4_element_0 12 rfl rfl)
theorem dX4_element_13 : decode cX4_element 13 = .ok (.getfield 133, 3) := dk_180 0 133 (dk_at dksX4_element_0 13 rfl rfl)
theorem dX4_element_16 : decode cX4_element 16 = .ok (.imul, 1) := dk_104 (dk_at dksX4_element_0 16 rfl rfl)
theorem dX4_element_17 : decode cX4_element 17 = .ok (.iload_n 1, 1) := dk_27 (dk_at dksX4_element_0 17 rfl rfl)
theorem dX4_element_18 : decode cX4_element 18 = .ok (.iadd, 1) := dk_96 (dk_at dksX4_element_0 18 rfl rfl)
theorem dX4_element_19 : decode cX4_element 19 = .ok (.istore_n 2, 1) := dk_61 (dk_at dksX4_element_0 19 rfl rfl)
theorem dX4_element_20 : decode cX4_element 20 = .ok (.iload_n 1, 1) := dk_27 (dk_at dksX4_element_0 20 rfl rfl)
theorem dX4_element_21 : decode cX4_element 21 = .ok (.bipush 60, 2) := dk_16 60 (dk_at dksX4_element_0 21 rfl rfl)
theorem dX4_element_23 : decode cX4_element 23 = .ok (.if_icmp .ne 21, 3) := dk_160 0 21 (dk_at dksX4_element_1 0 rfl rfl)
theorem dX4_element_26 : decode cX4_element 26 = .ok (.aload_n 0, 1) := dk_42 (dk_at dksX4_element_1 3 rfl rfl)
theorem dX4_element_27 : decode cX4_element 27 = .ok (.bipush 45, 2) := dk_16 45 (dk_at dksX4_element_1 4 rfl rfl)
theorem dX4_element_29 : decode cX4_element 29 = .ok (.invokevirtual 115, 3) := dk_182 0 115 (dk_at dksX4_element_1 6 rfl rfl)
theorem dX4_element_32 : decode cX4_element 32 = .ok (.ifCond .eq 12, 3) := dk_153 0 12 (dk_at dksX4_element_1 9 rfl rfl)
theorem dX4_element_35 : decode cX4_element 35 = .ok (.aload_n 0, 1) := dk_42 (dk_at dksX4_element_1 12 rfl rfl)
theorem dX4_element_36 : decode cX4_element 36 = .ok (.iconst 5, 1) := dk_8 (dk_at dksX4_element_1 13 rfl rfl)
theorem dX4_element_37 : decode cX4_element 37 = .ok (.aload_n 0, 1) := dk_42 (dk_at dksX4_element_1 14 rfl rfl)
theorem dX4_element_38 : decode cX4_element 38 = .ok (.getfield 83, 3) := dk_180 0 83 (dk_at dksX4_element_1 15 rfl rfl)
theorem dX4_element_41 : decode cX4_element 41 = .ok (.invokevirtual 119, 3) := dk_182 0 119 (dk_at dksX4_element_1 18 rfl rfl)
theorem dX4_element_44 : decode cX4_element 44 = .ok (.aload_n 0, 1) := dk_42 (dk_at dksX4_element_1 21 rfl rfl)
theorem dX4_element_45 : decode cX4_element 45 = .ok (.invokevirtual 136, 3) := dk_182 0 136 (dk_at dksX4_element_2 0 rfl rfl)
theorem dX4_element_48 : decode cX4_element 48 = .ok (.istore_n 3, 1) := dk_62 (dk_at dksX4_element_2 3 rfl rfl)
theorem dX4_element_49 : decode cX4_element 49 = .ok (.aload_n 0, 1) := dk_42 (dk_at dksX4_element_2 4 rfl rfl)
theorem dX4_element_50 : decode cX4_element 50 = .ok (.getfield 76, 3) := dk_180 0 76 (dk_at dksX4_element_2 5 rfl rfl)
theorem dX4_element_53 : decode cX4_element 53 = .ok (.ifCond .ne 28, 3) := dk_154 0 28 (dk_at dksX4_element_2 8 rfl rfl)
theorem dX4_element_56 : decode cX4_element 56 = .ok (.iload_n 1, 1) := dk_27 (dk_at dksX4_element_2 11 rfl rfl)
theorem dX4_element_57 : decode cX4_element 57 = .ok (.ifCond .le 24, 3) := dk_158 0 24 (dk_at dksX4_element_2 12 rfl rfl)
theorem dX4_element_60 : decode cX4_element 60 = .ok (.iload_n 3, 1) := dk_29 (dk_at dksX4_element_2 15 rfl rfl)
theorem dX4_element_61 : decode cX4_element 61 = .ok (.aload_n 0, 1) := dk_42 (dk_at dksX4_element_2 16 rfl rfl)
theorem dX4_element_62 : decode cX4_element 62 = .ok (.getfield 56, 3) := dk_180 0 56 (dk_at dksX4_element_2 17 rfl rfl)
theorem dX4_element_65 : decode cX4_element 65 = .ok (.iload_n 2, 1) := dk_28 (dk_at dksX4_element_2 20 rfl rfl)
theorem dX4_element_66 : decode cX4_element 66 = .ok (.iconst 1, 1) := dk_4 (dk_at dksX4_element_2 21 rfl rfl)
theorem dX4_element_67 : decode cX4_element 67 = .ok (.isub, 1) := dk_100 (dk_at dksX4_element_2 22 rfl rfl)
theorem dX4_element_68 : decode cX4_element 68 = .ok (.iaload, 1) := dk_46 (dk_at dksX4_element_2 23 rfl rfl)
theorem dX4_element_69 : decode cX4_element 69 = .ok (.if_icmp .gt 12, 3) := dk_163 0 12 (dk_at dksX4_element_3 0 rfl rfl)
theorem dX4_element_72 : decode cX4_element 72 = .ok (.aload_n 0, 1) := dk_42 (dk_at dksX4_element_3 3 rfl rfl)
theorem dX4_element_73 : decode cX4_element 73 = .ok (.iconst 3, 1) := dk_6 (dk_at dksX4_element_3 4 rfl rfl)
theorem dX4_element_74 : decode cX4_element 74 = .ok (.aload_n 0, 1) := dk_42 (dk_at dksX4_element_3 5 rfl rfl)
theorem dX4_element_75 : decode cX4_element 75 = .ok (.getfield 123, 3) := dk_180 0 123 (dk_at dksX4_element_3 6 rfl rfl)
theorem dX4_element_78 : decode cX4_element 78 = .ok (.invokevirtual 119, 3) := dk_182 0 119 (dk_at dksX4_element_3 9 rfl rfl)
theorem dX4_element_81 : decode cX4_element 81 = .ok (.aload_n 0, 1) := dk_42 (dk_at dksX4_element_3 12 rfl rfl)
theorem dX4_element_82 : decode cX4_element 82 = .ok (.getfield 76, 3) := dk_180 0 76 (dk_at dksX4_element_3 13 rfl rfl)
theorem dX4_element_85 : decode cX4_element 85 = .ok (.ifCond .ne 18, 3) := dk_154 0 18 (dk_at dksX4_element_3 16 rfl rfl)
theorem dX4_element_88 : decode cX4_element 88 = .ok (.iload_n 1, 1) := dk_27 (dk_at dksX4_element_3 19 rfl rfl)
theorem dX4_element_89 : decode cX4_element 89 = .ok (.bipush 60, 2) := dk_16 60 (dk_at dksX4_element_3 20 rfl rfl)
theorem dX4_element_91 : decode cX4_element 91 = .ok (.if_icmp .ne 12, 3) := dk_160 0 12 (dk_at dksX4_element_4 0 rfl rfl)
theorem dX4_element_94 : decode cX4_element 94 = .ok (.aload_n 0, 1) := dk_42 (dk_at dksX4_element_4 3 rfl rfl)
theorem dX4_element_95 : decode cX4_element 95 = .ok (.iconst 5, 1) := dk_8 (dk_at dksX4_element_4 4 rfl rfl)
theorem dX4_element_96 : decode cX4_element 96 = .ok (.aload_n 0, 1) := dk_42 (dk_at dksX4_element_4 5 rfl rfl)
theorem dX4_element_97 : decode cX4_element 97 = .ok (.getfield 123, 3) := dk_180 0 123 (dk_at dksX4_element_4 6 rfl rfl)
theorem dX4_element_100 : decode cX4_element 100 = .ok (.invokevirtual 119, 3) := dk_182 0 119 (dk_at dksX4_element_4 9 rfl rfl)
theorem dX4_element_103 : decode cX4_element 103 = .ok (.iconst 0, 1) := dk_3 (dk_at dksX4_element_4 12 rfl rfl)
theorem dX4_element_104 : decode cX4_element 104 = .ok (.istore 4, 2) := dk_54 4 (dk_at dksX4_element_4 13 rfl rfl)
theorem dX4_element_106 : decode cX4_element 106 = .ok (.aload_n 0, 1) := dk_42 (dk_at dksX4_element_4 15 rfl rfl)
theorem dX4_element_107 : decode cX4_element 107 = .ok (.getfield 76, 3) := dk_180 0 76 (dk_at dksX4_element_4 16 rfl rfl)
theorem dX4_element_110 : decode cX4_element 110 = .ok (.ifCond .ne 28, 3) := dk_154 0 28 (dk_at dksX4_element_4 19 rfl rfl)
theorem dX4_element_113 : decode cX4_element 113 = .ok (.aload_n 0, 1) := dk_42 (dk_at dksX4_element_4 22 rfl rfl)
theorem dX4_element_114 : decode cX4_element 114 = .ok (.bipush 58, 2) := dk_16 58 (dk_at dksX4_element_5 0 rfl rfl)
theorem dX4_element_116 : decode cX4_element 116 = .ok (.invokevirtual 115, 3) := dk_182 0 115 (dk_at dksX4_element_5 2 rfl rfl)
theorem dX4_element_119 : decode cX4_element 119 = .ok (.ifCond .eq 19, 3) := dk_153 0 19 (dk_at dksX4_element_5 5 rfl rfl)
theorem dX4_element_122 : decode cX4_element 122 = .ok (.aload_n 0, 1) := dk_42 (dk_at dksX4_element_5 8 rfl rfl)
theorem dX4_element_123 : decode cX4_element 123 = .ok (.dup, 1) := dk_89 (dk_at dksX4_element_5 9 rfl rfl)
theorem dX4_element_124 : decode cX4_element 124 = .ok (.getfield 83, 3) := dk_180 0 83 (dk_at dksX4_element_5 10 rfl rfl)
theorem dX4_element_127 : decode cX4_element 127 = .ok (.iconst 1, 1) := dk_4 (dk_at dksX4_element_5 13 rfl rfl)
theorem dX4_element_128 : decode cX4_element 128 = .ok (.iadd, 1) := dk_96 (dk_at dksX4_element_5 14 rfl rfl)
theorem dX4_element_129 : decode cX4_element 129 = .ok (.putfield 83, 3) := dk_181 0 83 (dk_at dksX4_element_5 15 rfl rfl)
theorem dX4_element_132 : decode cX4_element 132 = .ok (.aload_n 0, 1) := dk_42 (dk_at dksX4_element_5 18 rfl rfl)
theorem dX4_element_133 : decode cX4_element 133 = .ok (.invokevirtual 136, 3) := dk_182 0 136 (dk_at dksX4_element_5 19 rfl rfl)
theorem dX4_element_136 : decode cX4_element 136 = .ok (.istore 4, 2) := dk_54 4 (dk_at dksX4_element_5 22 rfl rfl)
theorem dX4_element_138 : decode cX4_element 138 = .ok (.aload_n 0, 1) := dk_42 (dk_at dksX4_element_6 0 rfl rfl)
theorem dX4_element_139 : decode cX4_element 139 = .ok (.getfield 76, 3) := dk_180 0 76 (dk_at dksX4_element_6 1 rfl rfl)
theorem dX4_element_142 : decode cX4_element 142 = .ok (.ifCond .ne 31, 3) := dk_154 0 31 (dk_at dksX4_element_6 4 rfl rfl)
theorem dX4_element_145 : decode cX4_element 145 = .ok (.aload_n 0, 1) := dk_42 (dk_at dksX4_element_6 7 rfl rfl)
theorem dX4_element_146 : decode cX4_element 146 = .ok (.getfield 56, 3) := dk_180 0 56 (dk_at dksX4_element_6 8 rfl rfl)
theorem dX4_element_149 : decode cX4_element 149 = .ok (.iload_n 2, 1) := dk_28 (dk_at dksX4_element_6 11 rfl rfl)
theorem dX4_element_150 : decode cX4_element 150 = .ok (.iload_n 3, 1) := dk_29 (dk_at dksX4_element_6 12 rfl rfl)
theorem dX4_element_151 : decode cX4_element 151 = .ok (.iastore, 1) := dk_79 (dk_at dksX4_element_6 13 rfl rfl)
theorem dX4_element_152 : decode cX4_element 152 = .ok (.aload_n 0, 1) := dk_42 (dk_at dksX4_element_6 14 rfl rfl)
theorem dX4_element_153 : decode cX4_element 153 = .ok (.getfield 59, 3) := dk_180 0 59 (dk_at dksX4_element_6 15 rfl rfl)
theorem dX4_element_156 : decode cX4_element 156 = .ok (.iload_n 2, 1) := dk_28 (dk_at dksX4_element_6 18 rfl rfl)
theorem dX4_element_157 : decode cX4_element 157 = .ok (.iload 4, 2) := dk_21 4 (dk_at dksX4_element_6 19 rfl rfl)
theorem dX4_element_159 : decode cX4_element 159 = .ok (.iastore, 1) := dk_79 (dk_at dksX4_element_6 21 rfl rfl)
theorem dX4_element_160 : decode cX4_element 160 = .ok (.aload_n 0, 1) := dk_42 (dk_at dksX4_element_6 22 rfl rfl)
theorem dX4_element_161 : decode cX4_element 161 = .ok (.getfield 53, 3) := dk_180 0 53 (dk_at dksX4_element_7 0 rfl rfl)
theorem dX4_element_164 : decode cX4_element 164 = .ok (.aload_n 0, 1) := dk_42 (dk_at dksX4_element_7 3 rfl rfl)
theorem dX4_element_165 : decode cX4_element 165 = .ok (.getfield 133, 3) := dk_180 0 133 (dk_at dksX4_element_7 4 rfl rfl)
theorem dX4_element_168 : decode cX4_element 168 = .ok (.dup2, 1) := dk_92 (dk_at dksX4_element_7 7 rfl rfl)
theorem dX4_element_169 : decode cX4_element 169 = .ok (.iaload, 1) := dk_46 (dk_at dksX4_element_7 8 rfl rfl)
theorem dX4_element_170 : decode cX4_element 170 = .ok (.iconst 1, 1) := dk_4 (dk_at dksX4_element_7 9 rfl rfl)
theorem dX4_element_171 : decode cX4_element 171 = .ok (.iadd, 1) := dk_96 (dk_at dksX4_element_7 10 rfl rfl)
theorem dX4_element_172 : decode cX4_element 172 = .ok (.iastore, 1) := dk_79 (dk_at dksX4_element_7 11 rfl rfl)
theorem dX4_element_173 : decode cX4_element 173 = .ok (.return_, 1) := dk_177 (dk_at dksX4_element_7 12 rfl rfl)
abbrev cX4_integer : ByteArray := prog_19_method_17_code
def yX4_integer : MethodName := ⟨RX4, "integer", "()I"⟩
def dkwX4_integer_1 : List UInt8 := [172, 42, 182, 0, 129, 172]
abbrev dktX4_integer_1 : List UInt8 := dkwX4_integer_1 ++ []
def dkwX4_integer_0 : List UInt8 := [42, 16, 45, 182, 0, 115, 153, 0, 19, 42, 89, 180, 0, 83, 4, 96, 181, 0, 83, 42, 182, 0, 129, 116]
abbrev dktX4_integer_0 : List UInt8 := dkwX4_integer_0 ++ dktX4_integer_1
theorem dksX4_integer_0 : cX4_integer.data.toList.drop 0 = dktX4_integer_0 := by decide +kernel
theorem dksX4_integer_1 : cX4_integer.data.toList.drop 24 = dktX4_integer_1 := dk_seg dksX4_integer_0 24 rfl rfl
theorem dX4_integer_0 : decode cX4_integer 0 = .ok (.aload_n 0, 1) := dk_42 (dk_at dksX4_integer_0 0 rfl rfl)
theorem dX4_integer_1 : decode cX4_integer 1 = .ok (.bipush 45, 2) := dk_16 45 (dk_at dksX4_integer_0 1 rfl rfl)
theorem dX4_integer_3 : decode cX4_integer 3 = .ok (.invokevirtual 115, 3) := dk_182 0 115 (dk_at dksX4_integer_0 3 rfl rfl)
theorem dX4_integer_6 : decode cX4_integer 6 = .ok (.ifCond .eq 19, 3) := dk_153 0 19 (dk_at dksX4_integer_0 6 rfl rfl)
theorem dX4_integer_9 : decode cX4_integer 9 = .ok (.aload_n 0, 1) := dk_42 (dk_at dksX4_integer_0 9 rfl rfl)
theorem dX4_integer_10 : decode cX4_integer 10 = .ok (.dup, 1) := dk_89 (dk_at dksX4_integer_0 10 rfl rfl)
theorem dX4_integer_11 : decode cX4_integer 11 = .ok (.getfield 83, 3) := dk_180 0 83 (dk_at dksX4_integer_0 11 rfl rfl)
theorem dX4_integer_14 : decode cX4_integer 14 = .ok (.iconst 1, 1) := dk_4 (dk_at dksX4_integer_0 14 rfl rfl)
theorem dX4_integer_15 : decode cX4_integer 15 = .ok (.iadd, 1) := dk_96 (dk_at dksX4_integer_0 15 rfl rfl)
theorem dX4_integer_16 : decode cX4_integer 16 = .ok (.putfield 83, 3) := dk_181 0 83 (dk_at dksX4_integer_0 16 rfl rfl)
theorem dX4_integer_19 : decode cX4_integer 19 = .ok (.aload_n 0, 1) := dk_42 (dk_at dksX4_integer_0 19 rfl rfl)
theorem dX4_integer_20 : decode cX4_integer 20 = .ok (.invokevirtual 129, 3) := dk_182 0 129 (dk_at dksX4_integer_0 20 rfl rfl)
theorem dX4_integer_23 : decode cX4_integer 23 = .ok (.ineg, 1) := dk_116 (dk_at dksX4_integer_0 23 rfl rfl)
theorem dX4_integer_24 : decode cX4_integer 24 = .ok (.ireturn, 1) := dk_172 (dk_at dksX4_integer_1 0 rfl rfl)
theorem dX4_integer_25 : decode cX4_integer 25 = .ok (.aload_n 0, 1) := dk_42 (dk_at dksX4_integer_1 1 rfl rfl)
theorem dX4_integer_26 : decode cX4_integer 26 = .ok (.invokevirtual 129, 3) := dk_182 0 129 (dk_at dksX4_integer_1 2 rfl rfl)
theorem dX4_integer_29 : decode cX4_integer 29 = .ok (.ireturn, 1) := dk_172 (dk_at dksX4_integer_1 5 rfl rfl)
abbrev cX4_base : ByteArray := prog_19_method_25_code
def yX4_base : MethodName := ⟨RX4, "base", "(I)I"⟩
def dkwX4_base_0 : List UInt8 := [16, 8, 17, 0, 182, 26, 104, 96, 172]
abbrev dktX4_base_0 : List UInt8 := dkwX4_base_0 ++ []
theorem dksX4_base_0 : cX4_base.data.toList.drop 0 = dktX4_base_0 := by decide +kernel
theorem dX4_base_0 : decode cX4_base 0 = .ok (.bipush 8, 2) := dk_16 8 (dk_at dksX4_base_0 0 rfl rfl)
theorem dX4_base_2 : decode cX4_base 2 = .ok (.sipush 182, 3) := dk_17 0 182 (dk_at dksX4_base_0 2 rfl rfl)
theorem dX4_base_5 : decode cX4_base 5 = .ok (.iload_n 0, 1) := dk_26 (dk_at dksX4_base_0 5 rfl rfl)
theorem dX4_base_6 : decode cX4_base 6 = .ok (.imul, 1) := dk_104 (dk_at dksX4_base_0 6 rfl rfl)
theorem dX4_base_7 : decode cX4_base 7 = .ok (.iadd, 1) := dk_96 (dk_at dksX4_base_0 7 rfl rfl)
theorem dX4_base_8 : decode cX4_base 8 = .ok (.ireturn, 1) := dk_172 (dk_at dksX4_base_0 8 rfl rfl)
abbrev cX4_levels : ByteArray := prog_19_method_41_code
def yX4_levels : MethodName := ⟨RX4, "levels", "(I)V"⟩
def dkwX4_levels_2 : List UInt8 := [180, 0, 7, 28, 16, 122, 96, 29, 96, 21, 5, 79, 132, 3, 1, 167, 255, 201, 42, 27, 182, 0, 222, 177]
abbrev dktX4_levels_2 : List UInt8 := dkwX4_levels_2 ++ []
def dkwX4_levels_1 : List UInt8 := [4, 54, 5, 21, 4, 5, 112, 154, 0, 15, 21, 4, 5, 108, 54, 4, 132, 5, 1, 167, 255, 240, 42]
abbrev dktX4_levels_1 : List UInt8 := dkwX4_levels_1 ++ dktX4_levels_2
def dkwX4_levels_0 : List UInt8 := [27, 184, 0, 171, 61, 3, 62, 29, 42, 180, 0, 7, 28, 4, 96, 46, 162, 0, 49, 29, 4, 96, 54, 4]
abbrev dktX4_levels_0 : List UInt8 := dkwX4_levels_0 ++ dktX4_levels_1
theorem dksX4_levels_0 : cX4_levels.data.toList.drop 0 = dktX4_levels_0 := by decide +kernel
theorem dksX4_levels_1 : cX4_levels.data.toList.drop 24 = dktX4_levels_1 := dk_seg dksX4_levels_0 24 rfl rfl
theorem dksX4_levels_2 : cX4_levels.data.toList.drop 47 = dktX4_levels_2 := dk_seg dksX4_levels_1 23 rfl rfl
theorem dX4_levels_0 : decode cX4_levels 0 = .ok (.iload_n 1, 1) := dk_27 (dk_at dksX4_levels_0 0 rfl rfl)
theorem dX4_levels_1 : decode cX4_levels 1 = .ok (.invokestatic 171, 3) := dk_184 0 171 (dk_at dksX4_levels_0 1 rfl rfl)
theorem dX4_levels_4 : decode cX4_levels 4 = .ok (.istore_n 2, 1) := dk_61 (dk_at dksX4_levels_0 4 rfl rfl)
theorem dX4_levels_5 : decode cX4_levels 5 = .ok (.iconst 0, 1) := dk_3 (dk_at dksX4_levels_0 5 rfl rfl)
theorem dX4_levels_6 : decode cX4_levels 6 = .ok (.istore_n 3, 1) := dk_62 (dk_at dksX4_levels_0 6 rfl rfl)
theorem dX4_levels_7 : decode cX4_levels 7 = .ok (.iload_n 3, 1) := dk_29 (dk_at dksX4_levels_0 7 rfl rfl)
theorem dX4_levels_8 : decode cX4_levels 8 = .ok (.aload_n 0, 1) := dk_42 (dk_at dksX4_levels_0 8 rfl rfl)
theorem dX4_levels_9 : decode cX4_levels 9 = .ok (.getfield 7, 3) := dk_180 0 7 (dk_at dksX4_levels_0 9 rfl rfl)
theorem dX4_levels_12 : decode cX4_levels 12 = .ok (.iload_n 2, 1) := dk_28 (dk_at dksX4_levels_0 12 rfl rfl)
theorem dX4_levels_13 : decode cX4_levels 13 = .ok (.iconst 1, 1) := dk_4 (dk_at dksX4_levels_0 13 rfl rfl)
theorem dX4_levels_14 : decode cX4_levels 14 = .ok (.iadd, 1) := dk_96 (dk_at dksX4_levels_0 14 rfl rfl)
theorem dX4_levels_15 : decode cX4_levels 15 = .ok (.iaload, 1) := dk_46 (dk_at dksX4_levels_0 15 rfl rfl)
theorem dX4_levels_16 : decode cX4_levels 16 = .ok (.if_icmp .ge 49, 3) := dk_162 0 49 (dk_at dksX4_levels_0 16 rfl rfl)
theorem dX4_levels_19 : decode cX4_levels 19 = .ok (.iload_n 3, 1) := dk_29 (dk_at dksX4_levels_0 19 rfl rfl)
theorem dX4_levels_20 : decode cX4_levels 20 = .ok (.iconst 1, 1) := dk_4 (dk_at dksX4_levels_0 20 rfl rfl)
theorem dX4_levels_21 : decode cX4_levels 21 = .ok (.iadd, 1) := dk_96 (dk_at dksX4_levels_0 21 rfl rfl)
theorem dX4_levels_22 : decode cX4_levels 22 = .ok (.istore 4, 2) := dk_54 4 (dk_at dksX4_levels_0 22 rfl rfl)
theorem dX4_levels_24 : decode cX4_levels 24 = .ok (.iconst 1, 1) := dk_4 (dk_at dksX4_levels_1 0 rfl rfl)
theorem dX4_levels_25 : decode cX4_levels 25 = .ok (.istore 5, 2) := dk_54 5 (dk_at dksX4_levels_1 1 rfl rfl)
theorem dX4_levels_27 : decode cX4_levels 27 = .ok (.iload 4, 2) := dk_21 4 (dk_at dksX4_levels_1 3 rfl rfl)
theorem dX4_levels_29 : decode cX4_levels 29 = .ok (.iconst 2, 1) := dk_5 (dk_at dksX4_levels_1 5 rfl rfl)
theorem dX4_levels_30 : decode cX4_levels 30 = .ok (.irem, 1) := dk_112 (dk_at dksX4_levels_1 6 rfl rfl)
theorem dX4_levels_31 : decode cX4_levels 31 = .ok (.ifCond .ne 15, 3) := dk_154 0 15 (dk_at dksX4_levels_1 7 rfl rfl)
theorem dX4_levels_34 : decode cX4_levels 34 = .ok (.iload 4, 2) := dk_21 4 (dk_at dksX4_levels_1 10 rfl rfl)
theorem dX4_levels_36 : decode cX4_levels 36 = .ok (.iconst 2, 1) := dk_5 (dk_at dksX4_levels_1 12 rfl rfl)
theorem dX4_levels_37 : decode cX4_levels 37 = .ok (.idiv, 1) := dk_108 (dk_at dksX4_levels_1 13 rfl rfl)
theorem dX4_levels_38 : decode cX4_levels 38 = .ok (.istore 4, 2) := dk_54 4 (dk_at dksX4_levels_1 14 rfl rfl)
theorem dX4_levels_40 : decode cX4_levels 40 = .ok (.iinc 5 1, 3) := dk_132 5 1 (dk_at dksX4_levels_1 16 rfl rfl)
theorem dX4_levels_43 : decode cX4_levels 43 = .ok (.goto (-16), 3) := dk_167 255 240 (dk_at dksX4_levels_1 19 rfl rfl)
theorem dX4_levels_46 : decode cX4_levels 46 = .ok (.aload_n 0, 1) := dk_42 (dk_at dksX4_levels_1 22 rfl rfl)
theorem dX4_levels_47 : decode cX4_levels 47 = .ok (.getfield 7, 3) := dk_180 0 7 (dk_at dksX4_levels_2 0 rfl rfl)
theorem dX4_levels_50 : decode cX4_levels 50 = .ok (.iload_n 2, 1) := dk_28 (dk_at dksX4_levels_2 3 rfl rfl)
theorem dX4_levels_51 : decode cX4_levels 51 = .ok (.bipush 122, 2) := dk_16 122 (dk_at dksX4_levels_2 4 rfl rfl)
theorem dX4_levels_53 : decode cX4_levels 53 = .ok (.iadd, 1) := dk_96 (dk_at dksX4_levels_2 6 rfl rfl)
theorem dX4_levels_54 : decode cX4_levels 54 = .ok (.iload_n 3, 1) := dk_29 (dk_at dksX4_levels_2 7 rfl rfl)
theorem dX4_levels_55 : decode cX4_levels 55 = .ok (.iadd, 1) := dk_96 (dk_at dksX4_levels_2 8 rfl rfl)
theorem dX4_levels_56 : decode cX4_levels 56 = .ok (.iload 5, 2) := dk_21 5 (dk_at dksX4_levels_2 9 rfl rfl)
theorem dX4_levels_58 : decode cX4_levels 58 = .ok (.iastore, 1) := dk_79 (dk_at dksX4_levels_2 11 rfl rfl)
theorem dX4_levels_59 : decode cX4_levels 59 = .ok (.iinc 3 1, 3) := dk_132 3 1 (dk_at dksX4_levels_2 12 rfl rfl)
theorem dX4_levels_62 : decode cX4_levels 62 = .ok (.goto (-55), 3) := dk_167 255 201 (dk_at dksX4_levels_2 15 rfl rfl)
theorem dX4_levels_65 : decode cX4_levels 65 = .ok (.aload_n 0, 1) := dk_42 (dk_at dksX4_levels_2 18 rfl rfl)
theorem dX4_levels_66 : decode cX4_levels 66 = .ok (.iload_n 1, 1) := dk_27 (dk_at dksX4_levels_2 19 rfl rfl)
theorem dX4_levels_67 : decode cX4_levels 67 = .ok (.invokevirtual 222, 3) := dk_182 0 222 (dk_at dksX4_levels_2 20 rfl rfl)
theorem dX4_levels_70 : decode cX4_levels 70 = .ok (.return_, 1) := dk_177 (dk_at dksX4_levels_2 23 rfl rfl)
abbrev cX4_repairs : ByteArray := prog_19_method_40_code
def yX4_repairs : MethodName := ⟨RX4, "repairs", "(I)V"⟩
def dkwX4_repairs_1 : List UInt8 := [167, 0, 4, 3, 61, 167, 255, 230, 177]
abbrev dktX4_repairs_1 : List UInt8 := dkwX4_repairs_1 ++ []
def dkwX4_repairs_0 : List UInt8 := [4, 61, 28, 153, 0, 28, 42, 27, 182, 0, 216, 154, 0, 11, 42, 27, 182, 0, 219, 153, 0, 7, 4]
abbrev dktX4_repairs_0 : List UInt8 := dkwX4_repairs_0 ++ dktX4_repairs_1
theorem dksX4_repairs_0 : cX4_repairs.data.toList.drop 0 = dktX4_repairs_0 := by decide +kernel
theorem dksX4_repairs_1 : cX4_repairs.data.toList.drop 23 = dktX4_repairs_1 := dk_seg dksX4_repairs_0 23 rfl rfl
theorem dX4_repairs_0 : decode cX4_repairs 0 = .ok (.iconst 1, 1) := dk_4 (dk_at dksX4_repairs_0 0 rfl rfl)
theorem dX4_repairs_1 : decode cX4_repairs 1 = .ok (.istore_n 2, 1) := dk_61 (dk_at dksX4_repairs_0 1 rfl rfl)
theorem dX4_repairs_2 : decode cX4_repairs 2 = .ok (.iload_n 2, 1) := dk_28 (dk_at dksX4_repairs_0 2 rfl rfl)
theorem dX4_repairs_3 : decode cX4_repairs 3 = .ok (.ifCond .eq 28, 3) := dk_153 0 28 (dk_at dksX4_repairs_0 3 rfl rfl)
theorem dX4_repairs_6 : decode cX4_repairs 6 = .ok (.aload_n 0, 1) := dk_42 (dk_at dksX4_repairs_0 6 rfl rfl)
theorem dX4_repairs_7 : decode cX4_repairs 7 = .ok (.iload_n 1, 1) := dk_27 (dk_at dksX4_repairs_0 7 rfl rfl)
theorem dX4_repairs_8 : decode cX4_repairs 8 = .ok (.invokevirtual 216, 3) := dk_182 0 216 (dk_at dksX4_repairs_0 8 rfl rfl)
theorem dX4_repairs_11 : decode cX4_repairs 11 = .ok (.ifCond .ne 11, 3) := dk_154 0 11 (dk_at dksX4_repairs_0 11 rfl rfl)
theorem dX4_repairs_14 : decode cX4_repairs 14 = .ok (.aload_n 0, 1) := dk_42 (dk_at dksX4_repairs_0 14 rfl rfl)
theorem dX4_repairs_15 : decode cX4_repairs 15 = .ok (.iload_n 1, 1) := dk_27 (dk_at dksX4_repairs_0 15 rfl rfl)
theorem dX4_repairs_16 : decode cX4_repairs 16 = .ok (.invokevirtual 219, 3) := dk_182 0 219 (dk_at dksX4_repairs_0 16 rfl rfl)
theorem dX4_repairs_19 : decode cX4_repairs 19 = .ok (.ifCond .eq 7, 3) := dk_153 0 7 (dk_at dksX4_repairs_0 19 rfl rfl)
theorem dX4_repairs_22 : decode cX4_repairs 22 = .ok (.iconst 1, 1) := dk_4 (dk_at dksX4_repairs_0 22 rfl rfl)
theorem dX4_repairs_23 : decode cX4_repairs 23 = .ok (.goto 4, 3) := dk_167 0 4 (dk_at dksX4_repairs_1 0 rfl rfl)
theorem dX4_repairs_26 : decode cX4_repairs 26 = .ok (.iconst 0, 1) := dk_3 (dk_at dksX4_repairs_1 3 rfl rfl)
theorem dX4_repairs_27 : decode cX4_repairs 27 = .ok (.istore_n 2, 1) := dk_61 (dk_at dksX4_repairs_1 4 rfl rfl)
theorem dX4_repairs_28 : decode cX4_repairs 28 = .ok (.goto (-26), 3) := dk_167 255 230 (dk_at dksX4_repairs_1 5 rfl rfl)
theorem dX4_repairs_31 : decode cX4_repairs 31 = .ok (.return_, 1) := dk_177 (dk_at dksX4_repairs_1 8 rfl rfl)
abbrev cX4_divides : ByteArray := prog_19_method_37_code
def yX4_divides : MethodName := ⟨RX4, "divides", "(I)Z"⟩
def dkwX4_divides_6 : List UInt8 := [21, 9, 96, 46, 182, 0, 205, 4, 172, 21, 6, 54, 5, 167, 255, 127, 132, 4, 1, 167, 255, 112, 3, 172]
abbrev dktX4_divides_6 : List UInt8 := dkwX4_divides_6 ++ []
def dkwX4_divides_5 : List UInt8 := [28, 16, 122, 96, 21, 9, 96, 92, 46, 4, 96, 79, 42, 3, 21, 4, 42, 180, 0, 7, 28, 5, 96]
abbrev dktX4_divides_5 : List UInt8 := dkwX4_divides_5 ++ dktX4_divides_6
def dkwX4_divides_4 : List UInt8 := [158, 0, 20, 42, 27, 21, 4, 21, 9, 182, 0, 197, 54, 9, 132, 8, 255, 167, 255, 237, 42, 180, 0, 7]
abbrev dktX4_divides_4 : List UInt8 := dkwX4_divides_4 ++ dktX4_divides_5
def dkwX4_divides_3 : List UInt8 := [164, 0, 78, 21, 7, 5, 108, 54, 8, 42, 27, 21, 4, 21, 5, 182, 0, 197, 54, 9, 21, 8]
abbrev dktX4_divides_3 : List UInt8 := dkwX4_divides_3 ++ dktX4_divides_4
def dkwX4_divides_2 : List UInt8 := [54, 6, 42, 27, 21, 4, 21, 5, 21, 6, 182, 0, 201, 54, 7, 21, 7, 42, 180, 0, 7, 3, 46]
abbrev dktX4_divides_2 : List UInt8 := dkwX4_divides_2 ++ dktX4_divides_3
def dkwX4_divides_1 : List UInt8 := [21, 5, 42, 180, 0, 7, 28, 4, 96, 46, 162, 0, 122, 42, 27, 21, 4, 4, 96, 21, 5, 182, 0, 197]
abbrev dktX4_divides_1 : List UInt8 := dkwX4_divides_1 ++ dktX4_divides_2
def dkwX4_divides_0 : List UInt8 := [27, 184, 0, 171, 61, 42, 27, 182, 0, 194, 62, 4, 54, 4, 21, 4, 29, 163, 0, 144, 2, 54, 5]
abbrev dktX4_divides_0 : List UInt8 := dkwX4_divides_0 ++ dktX4_divides_1
theorem dksX4_divides_0 : cX4_divides.data.toList.drop 0 = dktX4_divides_0 := by decide +kernel
theorem dksX4_divides_1 : cX4_divides.data.toList.drop 23 = dktX4_divides_1 := dk_seg dksX4_divides_0 23 rfl rfl
theorem dksX4_divides_2 : cX4_divides.data.toList.drop 47 = dktX4_divides_2 := dk_seg dksX4_divides_1 24 rfl rfl
theorem dksX4_divides_3 : cX4_divides.data.toList.drop 70 = dktX4_divides_3 := dk_seg dksX4_divides_2 23 rfl rfl
theorem dksX4_divides_4 : cX4_divides.data.toList.drop 92 = dktX4_divides_4 := dk_seg dksX4_divides_3 22 rfl rfl
theorem dksX4_divides_5 : cX4_divides.data.toList.drop 116 = dktX4_divides_5 := dk_seg dksX4_divides_4 24 rfl rfl
theorem dksX4_divides_6 : cX4_divides.data.toList.drop 139 = dktX4_divides_6 := dk_seg dksX4_divides_5 23 rfl rfl
theorem dX4_divides_0 : decode cX4_divides 0 = .ok (.iload_n 1, 1) := dk_27 (dk_at dksX4_divides_0 0 rfl rfl)
theorem dX4_divides_1 : decode cX4_divides 1 = .ok (.invokestatic 171, 3) := dk_184 0 171 (dk_at dksX4_divides_0 1 rfl rfl)
theorem dX4_divides_4 : decode cX4_divides 4 = .ok (.istore_n 2, 1) := dk_61 (dk_at dksX4_divides_0 4 rfl rfl)
theorem dX4_divides_5 : decode cX4_divides 5 = .ok (.aload_n 0, 1) := dk_42 (dk_at dksX4_divides_0 5 rfl rfl)
theorem dX4_divides_6 : decode cX4_divides 6 = .ok (.iload_n 1, 1) := dk_27 (dk_at dksX4_divides_0 6 rfl rfl)
theorem dX4_divides_7 : decode cX4_divides 7 = .ok (.invokevirtual 194, 3) := dk_182 0 194 (dk_at dksX4_divides_0 7 rfl rfl)
theorem dX4_divides_10 : decode cX4_divides 10 = .ok (.istore_n 3, 1) := dk_62 (dk_at dksX4_divides_0 10 rfl rfl)
theorem dX4_divides_11 : decode cX4_divides 11 = .ok (.iconst 1, 1) := dk_4 (dk_at dksX4_divides_0 11 rfl rfl)
theorem dX4_divides_12 : decode cX4_divides 12 = .ok (.istore 4, 2) := dk_54 4 (dk_at dksX4_divides_0 12 rfl rfl)
theorem dX4_divides_14 : decode cX4_divides 14 = .ok (.iload 4, 2) := dk_21 4 (dk_at dksX4_divides_0 14 rfl rfl)
theorem dX4_divides_16 : decode cX4_divides 16 = .ok (.iload_n 3, 1) := dk_29 (dk_at dksX4_divides_0 16 rfl rfl)
theorem dX4_divides_17 : decode cX4_divides 17 = .ok (.if_icmp .gt 144, 3) := dk_163 0 144 (dk_at dksX4_divides_0 17 rfl rfl)
theorem dX4_divides_20 : decode cX4_divides 20 = .ok (.iconst (-1), 1) := dk_2 (dk_at dksX4_divides_0 20 rfl rfl)
theorem dX4_divides_21 : decode cX4_divides 21 = .ok (.istore 5, 2) := dk_54 5 (dk_at dksX4_divides_0 21 rfl rfl)
theorem dX4_divides_23 : decode cX4_divides 23 = .ok (.iload 5, 2) := dk_21 5 (dk_at dksX4_divides_1 0 rfl rfl)
theorem dX4_divides_25 : decode cX4_divides 25 = .ok (.aload_n 0, 1) := dk_42 (dk_at dksX4_divides_1 2 rfl rfl)
theorem dX4_divides_26 : decode cX4_divides 26 = .ok (.getfield 7, 3) := dk_180 0 7 (dk_at dksX4_divides_1 3 rfl rfl)
theorem dX4_divides_29 : decode cX4_divides 29 = .ok (.iload_n 2, 1) := dk_28 (dk_at dksX4_divides_1 6 rfl rfl)
theorem dX4_divides_30 : decode cX4_divides 30 = .ok (.iconst 1, 1) := dk_4 (dk_at dksX4_divides_1 7 rfl rfl)
theorem dX4_divides_31 : decode cX4_divides 31 = .ok (.iadd, 1) := dk_96 (dk_at dksX4_divides_1 8 rfl rfl)
theorem dX4_divides_32 : decode cX4_divides 32 = .ok (.iaload, 1) := dk_46 (dk_at dksX4_divides_1 9 rfl rfl)
theorem dX4_divides_33 : decode cX4_divides 33 = .ok (.if_icmp .ge 122, 3) := dk_162 0 122 (dk_at dksX4_divides_1 10 rfl rfl)
theorem dX4_divides_36 : decode cX4_divides 36 = .ok (.aload_n 0, 1) := dk_42 (dk_at dksX4_divides_1 13 rfl rfl)
theorem dX4_divides_37 : decode cX4_divides 37 = .ok (.iload_n 1, 1) := dk_27 (dk_at dksX4_divides_1 14 rfl rfl)
theorem dX4_divides_38 : decode cX4_divides 38 = .ok (.iload 4, 2) := dk_21 4 (dk_at dksX4_divides_1 15 rfl rfl)
theorem dX4_divides_40 : decode cX4_divides 40 = .ok (.iconst 1, 1) := dk_4 (dk_at dksX4_divides_1 17 rfl rfl)
theorem dX4_divides_41 : decode cX4_divides 41 = .ok (.iadd, 1) := dk_96 (dk_at dksX4_divides_1 18 rfl rfl)
theorem dX4_divides_42 : decode cX4_divides 42 = .ok (.iload 5, 2) := dk_21 5 (dk_at dksX4_divides_1 19 rfl rfl)
theorem dX4_divides_44 : decode cX4_divides 44 = .ok (.invokevirtual 197, 3) := dk_182 0 197 (dk_at dksX4_divides_1 21 rfl rfl)
theorem dX4_divides_47 : decode cX4_divides 47 = .ok (.istore 6, 2) := dk_54 6 (dk_at dksX4_divides_2 0 rfl rfl)
theorem dX4_divides_49 : decode cX4_divides 49 = .ok (.aload_n 0, 1) := dk_42 (dk_at dksX4_divides_2 2 rfl rfl)
theorem dX4_divides_50 : decode cX4_divides 50 = .ok (.iload_n 1, 1) := dk_27 (dk_at dksX4_divides_2 3 rfl rfl)
theorem dX4_divides_51 : decode cX4_divides 51 = .ok (.iload 4, 2) := dk_21 4 (dk_at dksX4_divides_2 4 rfl rfl)
theorem dX4_divides_53 : decode cX4_divides 53 = .ok (.iload 5, 2) := dk_21 5 (dk_at dksX4_divides_2 6 rfl rfl)
theorem dX4_divides_55 : decode cX4_divides 55 = .ok (.iload 6, 2) := dk_21 6 (dk_at dksX4_divides_2 8 rfl rfl)
theorem dX4_divides_57 : decode cX4_divides 57 = .ok (.invokevirtual 201, 3) := dk_182 0 201 (dk_at dksX4_divides_2 10 rfl rfl)
theorem dX4_divides_60 : decode cX4_divides 60 = .ok (.istore 7, 2) := dk_54 7 (dk_at dksX4_divides_2 13 rfl rfl)
theorem dX4_divides_62 : decode cX4_divides 62 = .ok (.iload 7, 2) := dk_21 7 (dk_at dksX4_divides_2 15 rfl rfl)
theorem dX4_divides_64 : decode cX4_divides 64 = .ok (.aload_n 0, 1) := dk_42 (dk_at dksX4_divides_2 17 rfl rfl)
theorem dX4_divides_65 : decode cX4_divides 65 = .ok (.getfield 7, 3) := dk_180 0 7 (dk_at dksX4_divides_2 18 rfl rfl)
theorem dX4_divides_68 : decode cX4_divides 68 = .ok (.iconst 0, 1) := dk_3 (dk_at dksX4_divides_2 21 rfl rfl)
theorem dX4_divides_69 : decode cX4_divides 69 = .ok (.iaload, 1) := dk_46 (dk_at dksX4_divides_2 22 rfl rfl)
theorem dX4_divides_70 : decode cX4_divides 70 = .ok (.if_icmp .le 78, 3) := dk_164 0 78 (dk_at dksX4_divides_3 0 rfl rfl)
theorem dX4_divides_73 : decode cX4_divides 73 = .ok (.iload 7, 2) := dk_21 7 (dk_at dksX4_divides_3 3 rfl rfl)
theorem dX4_divides_75 : decode cX4_divides 75 = .ok (.iconst 2, 1) := dk_5 (dk_at dksX4_divides_3 5 rfl rfl)
theorem dX4_divides_76 : decode cX4_divides 76 = .ok (.idiv, 1) := dk_108 (dk_at dksX4_divides_3 6 rfl rfl)
theorem dX4_divides_77 : decode cX4_divides 77 = .ok (.istore 8, 2) := dk_54 8 (dk_at dksX4_divides_3 7 rfl rfl)
theorem dX4_divides_79 : decode cX4_divides 79 = .ok (.aload_n 0, 1) := dk_42 (dk_at dksX4_divides_3 9 rfl rfl)
theorem dX4_divides_80 : decode cX4_divides 80 = .ok (.iload_n 1, 1) := dk_27 (dk_at dksX4_divides_3 10 rfl rfl)
theorem dX4_divides_81 : decode cX4_divides 81 = .ok (.iload 4, 2) := dk_21 4 (dk_at dksX4_divides_3 11 rfl rfl)
theorem dX4_divides_83 : decode cX4_divides 83 = .ok (.iload 5, 2) := dk_21 5 (dk_at dksX4_divides_3 13 rfl rfl)
theorem dX4_divides_85 : decode cX4_divides 85 = .ok (.invokevirtual 197, 3) := dk_182 0 197 (dk_at dksX4_divides_3 15 rfl rfl)
theorem dX4_divides_88 : decode cX4_divides 88 = .ok (.istore 9, 2) := dk_54 9 (dk_at dksX4_divides_3 18 rfl rfl)
theorem dX4_divides_90 : decode cX4_divides 90 = .ok (.iload 8, 2) := dk_21 8 (dk_at dksX4_divides_3 20 rfl rfl)
theorem dX4_divides_92 : decode cX4_divides 92 = .ok (.ifCond .le 20, 3) := dk_158 0 20 (dk_at dksX4_divides_4 0 rfl rfl)
theorem dX4_divides_95 : decode cX4_divides 95 = .ok (.aload_n 0, 1) := dk_42 (dk_at dksX4_divides_4 3 rfl rfl)
theorem dX4_divides_96 : decode cX4_divides 96 = .ok (.iload_n 1, 1) := dk_27 (dk_at dksX4_divides_4 4 rfl rfl)
theorem dX4_divides_97 : decode cX4_divides 97 = .ok (.iload 4, 2) := dk_21 4 (dk_at dksX4_divides_4 5 rfl rfl)
theorem dX4_divides_99 : decode cX4_divides 99 = .ok (.iload 9, 2) := dk_21 9 (dk_at dksX4_divides_4 7 rfl rfl)
theorem dX4_divides_101 : decode cX4_divides 101 = .ok (.invokevirtual 197, 3) := dk_182 0 197 (dk_at dksX4_divides_4 9 rfl rfl)
theorem dX4_divides_104 : decode cX4_divides 104 = .ok (.istore 9, 2) := dk_54 9 (dk_at dksX4_divides_4 12 rfl rfl)
theorem dX4_divides_106 : decode cX4_divides 106 = .ok (.iinc 8 (-1), 3) := dk_132 8 255 (dk_at dksX4_divides_4 14 rfl rfl)
theorem dX4_divides_109 : decode cX4_divides 109 = .ok (.goto (-19), 3) := dk_167 255 237 (dk_at dksX4_divides_4 17 rfl rfl)
theorem dX4_divides_112 : decode cX4_divides 112 = .ok (.aload_n 0, 1) := dk_42 (dk_at dksX4_divides_4 20 rfl rfl)
theorem dX4_divides_113 : decode cX4_divides 113 = .ok (.getfield 7, 3) := dk_180 0 7 (dk_at dksX4_divides_4 21 rfl rfl)
theorem dX4_divides_116 : decode cX4_divides 116 = .ok (.iload_n 2, 1) := dk_28 (dk_at dksX4_divides_5 0 rfl rfl)
theorem dX4_divides_117 : decode cX4_divides 117 = .ok (.bipush 122, 2) := dk_16 122 (dk_at dksX4_divides_5 1 rfl rfl)
theorem dX4_divides_119 : decode cX4_divides 119 = .ok (.iadd, 1) := dk_96 (dk_at dksX4_divides_5 3 rfl rfl)
theorem dX4_divides_120 : decode cX4_divides 120 = .ok (.iload 9, 2) := dk_21 9 (dk_at dksX4_divides_5 4 rfl rfl)
theorem dX4_divides_122 : decode cX4_divides 122 = .ok (.iadd, 1) := dk_96 (dk_at dksX4_divides_5 6 rfl rfl)
theorem dX4_divides_123 : decode cX4_divides 123 = .ok (.dup2, 1) := dk_92 (dk_at dksX4_divides_5 7 rfl rfl)
theorem dX4_divides_124 : decode cX4_divides 124 = .ok (.iaload, 1) := dk_46 (dk_at dksX4_divides_5 8 rfl rfl)
theorem dX4_divides_125 : decode cX4_divides 125 = .ok (.iconst 1, 1) := dk_4 (dk_at dksX4_divides_5 9 rfl rfl)
theorem dX4_divides_126 : decode cX4_divides 126 = .ok (.iadd, 1) := dk_96 (dk_at dksX4_divides_5 10 rfl rfl)
theorem dX4_divides_127 : decode cX4_divides 127 = .ok (.iastore, 1) := dk_79 (dk_at dksX4_divides_5 11 rfl rfl)
theorem dX4_divides_128 : decode cX4_divides 128 = .ok (.aload_n 0, 1) := dk_42 (dk_at dksX4_divides_5 12 rfl rfl)
theorem dX4_divides_129 : decode cX4_divides 129 = .ok (.iconst 0, 1) := dk_3 (dk_at dksX4_divides_5 13 rfl rfl)
theorem dX4_divides_130 : decode cX4_divides 130 = .ok (.iload 4, 2) := dk_21 4 (dk_at dksX4_divides_5 14 rfl rfl)
theorem dX4_divides_132 : decode cX4_divides 132 = .ok (.aload_n 0, 1) := dk_42 (dk_at dksX4_divides_5 16 rfl rfl)
theorem dX4_divides_133 : decode cX4_divides 133 = .ok (.getfield 7, 3) := dk_180 0 7 (dk_at dksX4_divides_5 17 rfl rfl)
theorem dX4_divides_136 : decode cX4_divides 136 = .ok (.iload_n 2, 1) := dk_28 (dk_at dksX4_divides_5 20 rfl rfl)
theorem dX4_divides_137 : decode cX4_divides 137 = .ok (.iconst 2, 1) := dk_5 (dk_at dksX4_divides_5 21 rfl rfl)
theorem dX4_divides_138 : decode cX4_divides 138 = .ok (.iadd, 1) := dk_96 (dk_at dksX4_divides_5 22 rfl rfl)
theorem dX4_divides_139 : decode cX4_divides 139 = .ok (.iload 9, 2) := dk_21 9 (dk_at dksX4_divides_6 0 rfl rfl)
theorem dX4_divides_141 : decode cX4_divides 141 = .ok (.iadd, 1) := dk_96 (dk_at dksX4_divides_6 2 rfl rfl)
theorem dX4_divides_142 : decode cX4_divides 142 = .ok (.iaload, 1) := dk_46 (dk_at dksX4_divides_6 3 rfl rfl)
theorem dX4_divides_143 : decode cX4_divides 143 = .ok (.invokevirtual 205, 3) := dk_182 0 205 (dk_at dksX4_divides_6 4 rfl rfl)
theorem dX4_divides_146 : decode cX4_divides 146 = .ok (.iconst 1, 1) := dk_4 (dk_at dksX4_divides_6 7 rfl rfl)
theorem dX4_divides_147 : decode cX4_divides 147 = .ok (.ireturn, 1) := dk_172 (dk_at dksX4_divides_6 8 rfl rfl)
theorem dX4_divides_148 : decode cX4_divides 148 = .ok (.iload 6, 2) := dk_21 6 (dk_at dksX4_divides_6 9 rfl rfl)
theorem dX4_divides_150 : decode cX4_divides 150 = .ok (.istore 5, 2) := dk_54 5 (dk_at dksX4_divides_6 11 rfl rfl)
theorem dX4_divides_152 : decode cX4_divides 152 = .ok (.goto (-129), 3) := dk_167 255 127 (dk_at dksX4_divides_6 13 rfl rfl)
theorem dX4_divides_155 : decode cX4_divides 155 = .ok (.iinc 4 1, 3) := dk_132 4 1 (dk_at dksX4_divides_6 16 rfl rfl)
theorem dX4_divides_158 : decode cX4_divides 158 = .ok (.goto (-144), 3) := dk_167 255 112 (dk_at dksX4_divides_6 19 rfl rfl)
theorem dX4_divides_161 : decode cX4_divides 161 = .ok (.iconst 0, 1) := dk_3 (dk_at dksX4_divides_6 22 rfl rfl)
theorem dX4_divides_162 : decode cX4_divides 162 = .ok (.ireturn, 1) := dk_172 (dk_at dksX4_divides_6 23 rfl rfl)
abbrev cX4_heightOf : ByteArray := prog_19_method_31_code
def yX4_heightOf : MethodName := ⟨RX4, "heightOf", "(I)I"⟩
def dkwX4_heightOf_2 : List UInt8 := [21, 4, 96, 46, 167, 0, 4, 29, 62, 132, 4, 1, 167, 255, 207, 29, 172]
abbrev dktX4_heightOf_2 : List UInt8 := dkwX4_heightOf_2 ++ []
def dkwX4_heightOf_1 : List UInt8 := [180, 0, 7, 28, 16, 122, 96, 21, 4, 96, 46, 29, 164, 0, 18, 42, 180, 0, 7, 28, 16, 122, 96]
abbrev dktX4_heightOf_1 : List UInt8 := dkwX4_heightOf_1 ++ dktX4_heightOf_2
def dkwX4_heightOf_0 : List UInt8 := [27, 184, 0, 171, 61, 3, 62, 3, 54, 4, 21, 4, 42, 180, 0, 7, 28, 4, 96, 46, 162, 0, 42, 42]
abbrev dktX4_heightOf_0 : List UInt8 := dkwX4_heightOf_0 ++ dktX4_heightOf_1
theorem dksX4_heightOf_0 : cX4_heightOf.data.toList.drop 0 = dktX4_heightOf_0 := by decide +kernel
theorem dksX4_heightOf_1 : cX4_heightOf.data.toList.drop 24 = dktX4_heightOf_1 := dk_seg dksX4_heightOf_0 24 rfl rfl
theorem dksX4_heightOf_2 : cX4_heightOf.data.toList.drop 47 = dktX4_heightOf_2 := dk_seg dksX4_heightOf_1 23 rfl rfl
theorem dX4_heightOf_0 : decode cX4_heightOf 0 = .ok (.iload_n 1, 1) := dk_27 (dk_at dksX4_heightOf_0 0 rfl rfl)
theorem dX4_heightOf_1 : decode cX4_heightOf 1 = .ok (.invokestatic 171, 3) := dk_184 0 171 (dk_at dksX4_heightOf_0 1 rfl rfl)
theorem dX4_heightOf_4 : decode cX4_heightOf 4 = .ok (.istore_n 2, 1) := dk_61 (dk_at dksX4_heightOf_0 4 rfl rfl)
theorem dX4_heightOf_5 : decode cX4_heightOf 5 = .ok (.iconst 0, 1) := dk_3 (dk_at dksX4_heightOf_0 5 rfl rfl)
theorem dX4_heightOf_6 : decode cX4_heightOf 6 = .ok (.istore_n 3, 1) := dk_62 (dk_at dksX4_heightOf_0 6 rfl rfl)
theorem dX4_heightOf_7 : decode cX4_heightOf 7 = .ok (.iconst 0, 1) := dk_3 (dk_at dksX4_heightOf_0 7 rfl rfl)
theorem dX4_heightOf_8 : decode cX4_heightOf 8 = .ok (.istore 4, 2) := dk_54 4 (dk_at dksX4_heightOf_0 8 rfl rfl)
theorem dX4_heightOf_10 : decode cX4_heightOf 10 = .ok (.iload 4, 2) := dk_21 4 (dk_at dksX4_heightOf_0 10 rfl rfl)
theorem dX4_heightOf_12 : decode cX4_heightOf 12 = .ok (.aload_n 0, 1) := dk_42 (dk_at dksX4_heightOf_0 12 rfl rfl)
theorem dX4_heightOf_13 : decode cX4_heightOf 13 = .ok (.getfield 7, 3) := dk_180 0 7 (dk_at dksX4_heightOf_0 13 rfl rfl)
theorem dX4_heightOf_16 : decode cX4_heightOf 16 = .ok (.iload_n 2, 1) := dk_28 (dk_at dksX4_heightOf_0 16 rfl rfl)
theorem dX4_heightOf_17 : decode cX4_heightOf 17 = .ok (.iconst 1, 1) := dk_4 (dk_at dksX4_heightOf_0 17 rfl rfl)
theorem dX4_heightOf_18 : decode cX4_heightOf 18 = .ok (.iadd, 1) := dk_96 (dk_at dksX4_heightOf_0 18 rfl rfl)
theorem dX4_heightOf_19 : decode cX4_heightOf 19 = .ok (.iaload, 1) := dk_46 (dk_at dksX4_heightOf_0 19 rfl rfl)
theorem dX4_heightOf_20 : decode cX4_heightOf 20 = .ok (.if_icmp .ge 42, 3) := dk_162 0 42 (dk_at dksX4_heightOf_0 20 rfl rfl)
theorem dX4_heightOf_23 : decode cX4_heightOf 23 = .ok (.aload_n 0, 1) := dk_42 (dk_at dksX4_heightOf_0 23 rfl rfl)
theorem dX4_heightOf_24 : decode cX4_heightOf 24 = .ok (.getfield 7, 3) := dk_180 0 7 (dk_at dksX4_heightOf_1 0 rfl rfl)
theorem dX4_heightOf_27 : decode cX4_heightOf 27 = .ok (.iload_n 2, 1) := dk_28 (dk_at dksX4_heightOf_1 3 rfl rfl)
theorem dX4_heightOf_28 : decode cX4_heightOf 28 = .ok (.bipush 122, 2) := dk_16 122 (dk_at dksX4_heightOf_1 4 rfl rfl)
theorem dX4_heightOf_30 : decode cX4_heightOf 30 = .ok (.iadd, 1) := dk_96 (dk_at dksX4_heightOf_1 6 rfl rfl)
theorem dX4_heightOf_31 : decode cX4_heightOf 31 = .ok (.iload 4, 2) := dk_21 4 (dk_at dksX4_heightOf_1 7 rfl rfl)
theorem dX4_heightOf_33 : decode cX4_heightOf 33 = .ok (.iadd, 1) := dk_96 (dk_at dksX4_heightOf_1 9 rfl rfl)
theorem dX4_heightOf_34 : decode cX4_heightOf 34 = .ok (.iaload, 1) := dk_46 (dk_at dksX4_heightOf_1 10 rfl rfl)
theorem dX4_heightOf_35 : decode cX4_heightOf 35 = .ok (.iload_n 3, 1) := dk_29 (dk_at dksX4_heightOf_1 11 rfl rfl)
theorem dX4_heightOf_36 : decode cX4_heightOf 36 = .ok (.if_icmp .le 18, 3) := dk_164 0 18 (dk_at dksX4_heightOf_1 12 rfl rfl)
theorem dX4_heightOf_39 : decode cX4_heightOf 39 = .ok (.aload_n 0, 1) := dk_42 (dk_at dksX4_heightOf_1 15 rfl rfl)
theorem dX4_heightOf_40 : decode cX4_heightOf 40 = .ok (.getfield 7, 3) := dk_180 0 7 (dk_at dksX4_heightOf_1 16 rfl rfl)
theorem dX4_heightOf_43 : decode cX4_heightOf 43 = .ok (.iload_n 2, 1) := dk_28 (dk_at dksX4_heightOf_1 19 rfl rfl)
theorem dX4_heightOf_44 : decode cX4_heightOf 44 = .ok (.bipush 122, 2) := dk_16 122 (dk_at dksX4_heightOf_1 20 rfl rfl)
theorem dX4_heightOf_46 : decode cX4_heightOf 46 = .ok (.iadd, 1) := dk_96 (dk_at dksX4_heightOf_1 22 rfl rfl)
theorem dX4_heightOf_47 : decode cX4_heightOf 47 = .ok (.iload 4, 2) := dk_21 4 (dk_at dksX4_heightOf_2 0 rfl rfl)
theorem dX4_heightOf_49 : decode cX4_heightOf 49 = .ok (.iadd, 1) := dk_96 (dk_at dksX4_heightOf_2 2 rfl rfl)
theorem dX4_heightOf_50 : decode cX4_heightOf 50 = .ok (.iaload, 1) := dk_46 (dk_at dksX4_heightOf_2 3 rfl rfl)
theorem dX4_heightOf_51 : decode cX4_heightOf 51 = .ok (.goto 4, 3) := dk_167 0 4 (dk_at dksX4_heightOf_2 4 rfl rfl)
theorem dX4_heightOf_54 : decode cX4_heightOf 54 = .ok (.iload_n 3, 1) := dk_29 (dk_at dksX4_heightOf_2 7 rfl rfl)
theorem dX4_heightOf_55 : decode cX4_heightOf 55 = .ok (.istore_n 3, 1) := dk_62 (dk_at dksX4_heightOf_2 8 rfl rfl)
theorem dX4_heightOf_56 : decode cX4_heightOf 56 = .ok (.iinc 4 1, 3) := dk_132 4 1 (dk_at dksX4_heightOf_2 9 rfl rfl)
theorem dX4_heightOf_59 : decode cX4_heightOf 59 = .ok (.goto (-49), 3) := dk_167 255 207 (dk_at dksX4_heightOf_2 12 rfl rfl)
theorem dX4_heightOf_62 : decode cX4_heightOf 62 = .ok (.iload_n 3, 1) := dk_29 (dk_at dksX4_heightOf_2 15 rfl rfl)
theorem dX4_heightOf_63 : decode cX4_heightOf 63 = .ok (.ireturn, 1) := dk_172 (dk_at dksX4_heightOf_2 16 rfl rfl)
abbrev cX4_after : ByteArray := prog_19_method_33_code
def yX4_after : MethodName := ⟨RX4, "after", "(III)I"⟩
def dkwX4_after_2 : List UInt8 := [167, 255, 222, 21, 5, 172]
abbrev dktX4_after_2 : List UInt8 := dkwX4_after_2 ++ []
def dkwX4_after_1 : List UInt8 := [162, 0, 26, 42, 180, 0, 7, 21, 4, 16, 122, 96, 21, 5, 96, 46, 28, 162, 0, 9, 132, 5, 1]
abbrev dktX4_after_1 : List UInt8 := dkwX4_after_1 ++ dktX4_after_2
def dkwX4_after_0 : List UInt8 := [27, 184, 0, 171, 54, 4, 29, 4, 96, 54, 5, 21, 5, 42, 180, 0, 7, 21, 4, 4, 96, 46]
abbrev dktX4_after_0 : List UInt8 := dkwX4_after_0 ++ dktX4_after_1
theorem dksX4_after_0 : cX4_after.data.toList.drop 0 = dktX4_after_0 := by decide +kernel
theorem dksX4_after_1 : cX4_after.data.toList.drop 22 = dktX4_after_1 := dk_seg dksX4_after_0 22 rfl rfl
theorem dksX4_after_2 : cX4_after.data.toList.drop 45 = dktX4_after_2 := dk_seg dksX4_after_1 23 rfl rfl
theorem dX4_after_0 : decode cX4_after 0 = .ok (.iload_n 1, 1) := dk_27 (dk_at dksX4_after_0 0 rfl rfl)
theorem dX4_after_1 : decode cX4_after 1 = .ok (.invokestatic 171, 3) := dk_184 0 171 (dk_at dksX4_after_0 1 rfl rfl)
theorem dX4_after_4 : decode cX4_after 4 = .ok (.istore 4, 2) := dk_54 4 (dk_at dksX4_after_0 4 rfl rfl)
theorem dX4_after_6 : decode cX4_after 6 = .ok (.iload_n 3, 1) := dk_29 (dk_at dksX4_after_0 6 rfl rfl)
theorem dX4_after_7 : decode cX4_after 7 = .ok (.iconst 1, 1) := dk_4 (dk_at dksX4_after_0 7 rfl rfl)
theorem dX4_after_8 : decode cX4_after 8 = .ok (.iadd, 1) := dk_96 (dk_at dksX4_after_0 8 rfl rfl)
theorem dX4_after_9 : decode cX4_after 9 = .ok (.istore 5, 2) := dk_54 5 (dk_at dksX4_after_0 9 rfl rfl)
theorem dX4_after_11 : decode cX4_after 11 = .ok (.iload 5, 2) := dk_21 5 (dk_at dksX4_after_0 11 rfl rfl)
theorem dX4_after_13 : decode cX4_after 13 = .ok (.aload_n 0, 1) := dk_42 (dk_at dksX4_after_0 13 rfl rfl)
theorem dX4_after_14 : decode cX4_after 14 = .ok (.getfield 7, 3) := dk_180 0 7 (dk_at dksX4_after_0 14 rfl rfl)
theorem dX4_after_17 : decode cX4_after 17 = .ok (.iload 4, 2) := dk_21 4 (dk_at dksX4_after_0 17 rfl rfl)
theorem dX4_after_19 : decode cX4_after 19 = .ok (.iconst 1, 1) := dk_4 (dk_at dksX4_after_0 19 rfl rfl)
theorem dX4_after_20 : decode cX4_after 20 = .ok (.iadd, 1) := dk_96 (dk_at dksX4_after_0 20 rfl rfl)
theorem dX4_after_21 : decode cX4_after 21 = .ok (.iaload, 1) := dk_46 (dk_at dksX4_after_0 21 rfl rfl)
theorem dX4_after_22 : decode cX4_after 22 = .ok (.if_icmp .ge 26, 3) := dk_162 0 26 (dk_at dksX4_after_1 0 rfl rfl)
theorem dX4_after_25 : decode cX4_after 25 = .ok (.aload_n 0, 1) := dk_42 (dk_at dksX4_after_1 3 rfl rfl)
theorem dX4_after_26 : decode cX4_after 26 = .ok (.getfield 7, 3) := dk_180 0 7 (dk_at dksX4_after_1 4 rfl rfl)
theorem dX4_after_29 : decode cX4_after 29 = .ok (.iload 4, 2) := dk_21 4 (dk_at dksX4_after_1 7 rfl rfl)
theorem dX4_after_31 : decode cX4_after 31 = .ok (.bipush 122, 2) := dk_16 122 (dk_at dksX4_after_1 9 rfl rfl)
theorem dX4_after_33 : decode cX4_after 33 = .ok (.iadd, 1) := dk_96 (dk_at dksX4_after_1 11 rfl rfl)
theorem dX4_after_34 : decode cX4_after 34 = .ok (.iload 5, 2) := dk_21 5 (dk_at dksX4_after_1 12 rfl rfl)
theorem dX4_after_36 : decode cX4_after 36 = .ok (.iadd, 1) := dk_96 (dk_at dksX4_after_1 14 rfl rfl)
theorem dX4_after_37 : decode cX4_after 37 = .ok (.iaload, 1) := dk_46 (dk_at dksX4_after_1 15 rfl rfl)
theorem dX4_after_38 : decode cX4_after 38 = .ok (.iload_n 2, 1) := dk_28 (dk_at dksX4_after_1 16 rfl rfl)
theorem dX4_after_39 : decode cX4_after 39 = .ok (.if_icmp .ge 9, 3) := dk_162 0 9 (dk_at dksX4_after_1 17 rfl rfl)
theorem dX4_after_42 : decode cX4_after 42 = .ok (.iinc 5 1, 3) := dk_132 5 1 (dk_at dksX4_after_1 20 rfl rfl)
theorem dX4_after_45 : decode cX4_after 45 = .ok (.goto (-34), 3) := dk_167 255 222 (dk_at dksX4_after_2 0 rfl rfl)
theorem dX4_after_48 : decode cX4_after 48 = .ok (.iload 5, 2) := dk_21 5 (dk_at dksX4_after_2 3 rfl rfl)
theorem dX4_after_50 : decode cX4_after 50 = .ok (.ireturn, 1) := dk_172 (dk_at dksX4_after_2 5 rfl rfl)
abbrev cX4_between : ByteArray := prog_19_method_35_code
def yX4_between : MethodName := ⟨RX4, "between", "(IIII)I"⟩
def dkwX4_between_2 : List UInt8 := [132, 7, 1, 167, 255, 219, 21, 6, 172]
abbrev dktX4_between_2 : List UInt8 := dkwX4_between_2 ++ []
def dkwX4_between_1 : List UInt8 := [180, 0, 7, 21, 5, 16, 122, 96, 21, 7, 96, 46, 28, 160, 0, 7, 4, 167, 0, 4, 3, 96, 54, 6]
abbrev dktX4_between_1 : List UInt8 := dkwX4_between_1 ++ dktX4_between_2
def dkwX4_between_0 : List UInt8 := [27, 184, 0, 171, 54, 5, 3, 54, 6, 29, 4, 96, 54, 7, 21, 7, 21, 4, 162, 0, 36, 21, 6, 42]
abbrev dktX4_between_0 : List UInt8 := dkwX4_between_0 ++ dktX4_between_1
theorem dksX4_between_0 : cX4_between.data.toList.drop 0 = dktX4_between_0 := by decide +kernel
theorem dksX4_between_1 : cX4_between.data.toList.drop 24 = dktX4_between_1 := dk_seg dksX4_between_0 24 rfl rfl
theorem dksX4_between_2 : cX4_between.data.toList.drop 48 = dktX4_between_2 := dk_seg dksX4_between_1 24 rfl rfl
theorem dX4_between_0 : decode cX4_between 0 = .ok (.iload_n 1, 1) := dk_27 (dk_at dksX4_between_0 0 rfl rfl)
theorem dX4_between_1 : decode cX4_between 1 = .ok (.invokestatic 171, 3) := dk_184 0 171 (dk_at dksX4_between_0 1 rfl rfl)
theorem dX4_between_4 : decode cX4_between 4 = .ok (.istore 5, 2) := dk_54 5 (dk_at dksX4_between_0 4 rfl rfl)
theorem dX4_between_6 : decode cX4_between 6 = .ok (.iconst 0, 1) := dk_3 (dk_at dksX4_between_0 6 rfl rfl)
theorem dX4_between_7 : decode cX4_between 7 = .ok (.istore 6, 2) := dk_54 6 (dk_at dksX4_between_0 7 rfl rfl)
theorem dX4_between_9 : decode cX4_between 9 = .ok (.iload_n 3, 1) := dk_29 (dk_at dksX4_between_0 9 rfl rfl)
theorem dX4_between_10 : decode cX4_between 10 = .ok (.iconst 1, 1) := dk_4 (dk_at dksX4_between_0 10 rfl rfl)
theorem dX4_between_11 : decode cX4_between 11 = .ok (.iadd, 1) := dk_96 (dk_at dksX4_between_0 11 rfl rfl)
theorem dX4_between_12 : decode cX4_between 12 = .ok (.istore 7, 2) := dk_54 7 (dk_at dksX4_between_0 12 rfl rfl)
theorem dX4_between_14 : decode cX4_between 14 = .ok (.iload 7, 2) := dk_21 7 (dk_at dksX4_between_0 14 rfl rfl)
theorem dX4_between_16 : decode cX4_between 16 = .ok (.iload 4, 2) := dk_21 4 (dk_at dksX4_between_0 16 rfl rfl)
theorem dX4_between_18 : decode cX4_between 18 = .ok (.if_icmp .ge 36, 3) := dk_162 0 36 (dk_at dksX4_between_0 18 rfl rfl)
theorem dX4_between_21 : decode cX4_between 21 = .ok (.iload 6, 2) := dk_21 6 (dk_at dksX4_between_0 21 rfl rfl)
theorem dX4_between_23 : decode cX4_between 23 = .ok (.aload_n 0, 1) := dk_42 (dk_at dksX4_between_0 23 rfl rfl)
theorem dX4_between_24 : decode cX4_between 24 = .ok (.getfield 7, 3) := dk_180 0 7 (dk_at dksX4_between_1 0 rfl rfl)
theorem dX4_between_27 : decode cX4_between 27 = .ok (.iload 5, 2) := dk_21 5 (dk_at dksX4_between_1 3 rfl rfl)
theorem dX4_between_29 : decode cX4_between 29 = .ok (.bipush 122, 2) := dk_16 122 (dk_at dksX4_between_1 5 rfl rfl)
theorem dX4_between_31 : decode cX4_between 31 = .ok (.iadd, 1) := dk_96 (dk_at dksX4_between_1 7 rfl rfl)
theorem dX4_between_32 : decode cX4_between 32 = .ok (.iload 7, 2) := dk_21 7 (dk_at dksX4_between_1 8 rfl rfl)
theorem dX4_between_34 : decode cX4_between 34 = .ok (.iadd, 1) := dk_96 (dk_at dksX4_between_1 10 rfl rfl)
theorem dX4_between_35 : decode cX4_between 35 = .ok (.iaload, 1) := dk_46 (dk_at dksX4_between_1 11 rfl rfl)
theorem dX4_between_36 : decode cX4_between 36 = .ok (.iload_n 2, 1) := dk_28 (dk_at dksX4_between_1 12 rfl rfl)
theorem dX4_between_37 : decode cX4_between 37 = .ok (.if_icmp .ne 7, 3) := dk_160 0 7 (dk_at dksX4_between_1 13 rfl rfl)
theorem dX4_between_40 : decode cX4_between 40 = .ok (.iconst 1, 1) := dk_4 (dk_at dksX4_between_1 16 rfl rfl)
theorem dX4_between_41 : decode cX4_between 41 = .ok (.goto 4, 3) := dk_167 0 4 (dk_at dksX4_between_1 17 rfl rfl)
theorem dX4_between_44 : decode cX4_between 44 = .ok (.iconst 0, 1) := dk_3 (dk_at dksX4_between_1 20 rfl rfl)
theorem dX4_between_45 : decode cX4_between 45 = .ok (.iadd, 1) := dk_96 (dk_at dksX4_between_1 21 rfl rfl)
theorem dX4_between_46 : decode cX4_between 46 = .ok (.istore 6, 2) := dk_54 6 (dk_at dksX4_between_1 22 rfl rfl)
theorem dX4_between_48 : decode cX4_between 48 = .ok (.iinc 7 1, 3) := dk_132 7 1 (dk_at dksX4_between_2 0 rfl rfl)
theorem dX4_between_51 : decode cX4_between 51 = .ok (.goto (-37), 3) := dk_167 255 219 (dk_at dksX4_between_2 3 rfl rfl)
theorem dX4_between_54 : decode cX4_between 54 = .ok (.iload 6, 2) := dk_21 6 (dk_at dksX4_between_2 6 rfl rfl)
theorem dX4_between_56 : decode cX4_between 56 = .ok (.ireturn, 1) := dk_172 (dk_at dksX4_between_2 8 rfl rfl)
abbrev cX4_logs : ByteArray := prog_19_method_36_code
def yX4_logs : MethodName := ⟨RX4, "logs", "(III)V"⟩
def dkwX4_logs_3 : List UInt8 := [96, 79, 42, 180, 0, 7, 6, 27, 96, 92, 46, 4, 96, 79, 177]
abbrev dktX4_logs_3 : List UInt8 := dkwX4_logs_3 ++ []
def dkwX4_logs_2 : List UInt8 := [180, 0, 7, 17, 4, 76, 6, 21, 4, 104, 96, 5, 96, 29, 79, 42, 180, 0, 7, 16, 7, 92, 46, 4]
abbrev dktX4_logs_2 : List UInt8 := dkwX4_logs_2 ++ dktX4_logs_3
def dkwX4_logs_1 : List UInt8 := [6, 21, 4, 104, 96, 27, 79, 42, 180, 0, 7, 17, 4, 76, 6, 21, 4, 104, 96, 4, 96, 28, 79, 42]
abbrev dktX4_logs_1 : List UInt8 := dkwX4_logs_1 ++ dktX4_logs_2
def dkwX4_logs_0 : List UInt8 := [42, 180, 0, 7, 16, 7, 46, 54, 4, 21, 4, 17, 3, 232, 162, 0, 60, 42, 180, 0, 7, 17, 4, 76]
abbrev dktX4_logs_0 : List UInt8 := dkwX4_logs_0 ++ dktX4_logs_1
theorem dksX4_logs_0 : cX4_logs.data.toList.drop 0 = dktX4_logs_0 := by decide +kernel
theorem dksX4_logs_1 : cX4_logs.data.toList.drop 24 = dktX4_logs_1 := dk_seg dksX4_logs_0 24 rfl rfl
theorem dksX4_logs_2 : cX4_logs.data.toList.drop 48 = dktX4_logs_2 := dk_seg dksX4_logs_1 24 rfl rfl
theorem dksX4_logs_3 : cX4_logs.data.toList.drop 72 = dktX4_logs_3 := dk_seg dksX4_logs_2 24 rfl rfl
theorem dX4_logs_0 : decode cX4_logs 0 = .ok (.aload_n 0, 1) := dk_42 (dk_at dksX4_logs_0 0 rfl rfl)
theorem dX4_logs_1 : decode cX4_logs 1 = .ok (.getfield 7, 3) := dk_180 0 7 (dk_at dksX4_logs_0 1 rfl rfl)
theorem dX4_logs_4 : decode cX4_logs 4 = .ok (.bipush 7, 2) := dk_16 7 (dk_at dksX4_logs_0 4 rfl rfl)
theorem dX4_logs_6 : decode cX4_logs 6 = .ok (.iaload, 1) := dk_46 (dk_at dksX4_logs_0 6 rfl rfl)
theorem dX4_logs_7 : decode cX4_logs 7 = .ok (.istore 4, 2) := dk_54 4 (dk_at dksX4_logs_0 7 rfl rfl)
theorem dX4_logs_9 : decode cX4_logs 9 = .ok (.iload 4, 2) := dk_21 4 (dk_at dksX4_logs_0 9 rfl rfl)
theorem dX4_logs_11 : decode cX4_logs 11 = .ok (.sipush 1000, 3) := dk_17 3 232 (dk_at dksX4_logs_0 11 rfl rfl)
theorem dX4_logs_14 : decode cX4_logs 14 = .ok (.if_icmp .ge 60, 3) := dk_162 0 60 (dk_at dksX4_logs_0 14 rfl rfl)
theorem dX4_logs_17 : decode cX4_logs 17 = .ok (.aload_n 0, 1) := dk_42 (dk_at dksX4_logs_0 17 rfl rfl)
theorem dX4_logs_18 : decode cX4_logs 18 = .ok (.getfield 7, 3) := dk_180 0 7 (dk_at dksX4_logs_0 18 rfl rfl)
theorem dX4_logs_21 : decode cX4_logs 21 = .ok (.sipush 1100, 3) := dk_17 4 76 (dk_at dksX4_logs_0 21 rfl rfl)
theorem dX4_logs_24 : decode cX4_logs 24 = .ok (.iconst 3, 1) := dk_6 (dk_at dksX4_logs_1 0 rfl rfl)
theorem dX4_logs_25 : decode cX4_logs 25 = .ok (.iload 4, 2) := dk_21 4 (dk_at dksX4_logs_1 1 rfl rfl)
theorem dX4_logs_27 : decode cX4_logs 27 = .ok (.imul, 1) := dk_104 (dk_at dksX4_logs_1 3 rfl rfl)
theorem dX4_logs_28 : decode cX4_logs 28 = .ok (.iadd, 1) := dk_96 (dk_at dksX4_logs_1 4 rfl rfl)
theorem dX4_logs_29 : decode cX4_logs 29 = .ok (.iload_n 1, 1) := dk_27 (dk_at dksX4_logs_1 5 rfl rfl)
theorem dX4_logs_30 : decode cX4_logs 30 = .ok (.iastore, 1) := dk_79 (dk_at dksX4_logs_1 6 rfl rfl)
theorem dX4_logs_31 : decode cX4_logs 31 = .ok (.aload_n 0, 1) := dk_42 (dk_at dksX4_logs_1 7 rfl rfl)
theorem dX4_logs_32 : decode cX4_logs 32 = .ok (.getfield 7, 3) := dk_180 0 7 (dk_at dksX4_logs_1 8 rfl rfl)
theorem dX4_logs_35 : decode cX4_logs 35 = .ok (.sipush 1100, 3) := dk_17 4 76 (dk_at dksX4_logs_1 11 rfl rfl)
theorem dX4_logs_38 : decode cX4_logs 38 = .ok (.iconst 3, 1) := dk_6 (dk_at dksX4_logs_1 14 rfl rfl)
theorem dX4_logs_39 : decode cX4_logs 39 = .ok (.iload 4, 2) := dk_21 4 (dk_at dksX4_logs_1 15 rfl rfl)
theorem dX4_logs_41 : decode cX4_logs 41 = .ok (.imul, 1) := dk_104 (dk_at dksX4_logs_1 17 rfl rfl)
theorem dX4_logs_42 : decode cX4_logs 42 = .ok (.iadd, 1) := dk_96 (dk_at dksX4_logs_1 18 rfl rfl)
theorem dX4_logs_43 : decode cX4_logs 43 = .ok (.iconst 1, 1) := dk_4 (dk_at dksX4_logs_1 19 rfl rfl)
theorem dX4_logs_44 : decode cX4_logs 44 = .ok (.iadd, 1) := dk_96 (dk_at dksX4_logs_1 20 rfl rfl)
theorem dX4_logs_45 : decode cX4_logs 45 = .ok (.iload_n 2, 1) := dk_28 (dk_at dksX4_logs_1 21 rfl rfl)
theorem dX4_logs_46 : decode cX4_logs 46 = .ok (.iastore, 1) := dk_79 (dk_at dksX4_logs_1 22 rfl rfl)
theorem dX4_logs_47 : decode cX4_logs 47 = .ok (.aload_n 0, 1) := dk_42 (dk_at dksX4_logs_1 23 rfl rfl)
theorem dX4_logs_48 : decode cX4_logs 48 = .ok (.getfield 7, 3) := dk_180 0 7 (dk_at dksX4_logs_2 0 rfl rfl)
theorem dX4_logs_51 : decode cX4_logs 51 = .ok (.sipush 1100, 3) := dk_17 4 76 (dk_at dksX4_logs_2 3 rfl rfl)
theorem dX4_logs_54 : decode cX4_logs 54 = .ok (.iconst 3, 1) := dk_6 (dk_at dksX4_logs_2 6 rfl rfl)
theorem dX4_logs_55 : decode cX4_logs 55 = .ok (.iload 4, 2) := dk_21 4 (dk_at dksX4_logs_2 7 rfl rfl)
theorem dX4_logs_57 : decode cX4_logs 57 = .ok (.imul, 1) := dk_104 (dk_at dksX4_logs_2 9 rfl rfl)
theorem dX4_logs_58 : decode cX4_logs 58 = .ok (.iadd, 1) := dk_96 (dk_at dksX4_logs_2 10 rfl rfl)
theorem dX4_logs_59 : decode cX4_logs 59 = .ok (.iconst 2, 1) := dk_5 (dk_at dksX4_logs_2 11 rfl rfl)
theorem dX4_logs_60 : decode cX4_logs 60 = .ok (.iadd, 1) := dk_96 (dk_at dksX4_logs_2 12 rfl rfl)
theorem dX4_logs_61 : decode cX4_logs 61 = .ok (.iload_n 3, 1) := dk_29 (dk_at dksX4_logs_2 13 rfl rfl)
theorem dX4_logs_62 : decode cX4_logs 62 = .ok (.iastore, 1) := dk_79 (dk_at dksX4_logs_2 14 rfl rfl)
theorem dX4_logs_63 : decode cX4_logs 63 = .ok (.aload_n 0, 1) := dk_42 (dk_at dksX4_logs_2 15 rfl rfl)
theorem dX4_logs_64 : decode cX4_logs 64 = .ok (.getfield 7, 3) := dk_180 0 7 (dk_at dksX4_logs_2 16 rfl rfl)
theorem dX4_logs_67 : decode cX4_logs 67 = .ok (.bipush 7, 2) := dk_16 7 (dk_at dksX4_logs_2 19 rfl rfl)
theorem dX4_logs_69 : decode cX4_logs 69 = .ok (.dup2, 1) := dk_92 (dk_at dksX4_logs_2 21 rfl rfl)
theorem dX4_logs_70 : decode cX4_logs 70 = .ok (.iaload, 1) := dk_46 (dk_at dksX4_logs_2 22 rfl rfl)
theorem dX4_logs_71 : decode cX4_logs 71 = .ok (.iconst 1, 1) := dk_4 (dk_at dksX4_logs_2 23 rfl rfl)
theorem dX4_logs_72 : decode cX4_logs 72 = .ok (.iadd, 1) := dk_96 (dk_at dksX4_logs_3 0 rfl rfl)
theorem dX4_logs_73 : decode cX4_logs 73 = .ok (.iastore, 1) := dk_79 (dk_at dksX4_logs_3 1 rfl rfl)
theorem dX4_logs_74 : decode cX4_logs 74 = .ok (.aload_n 0, 1) := dk_42 (dk_at dksX4_logs_3 2 rfl rfl)
theorem dX4_logs_75 : decode cX4_logs 75 = .ok (.getfield 7, 3) := dk_180 0 7 (dk_at dksX4_logs_3 3 rfl rfl)
theorem dX4_logs_78 : decode cX4_logs 78 = .ok (.iconst 3, 1) := dk_6 (dk_at dksX4_logs_3 6 rfl rfl)
theorem dX4_logs_79 : decode cX4_logs 79 = .ok (.iload_n 1, 1) := dk_27 (dk_at dksX4_logs_3 7 rfl rfl)
theorem dX4_logs_80 : decode cX4_logs 80 = .ok (.iadd, 1) := dk_96 (dk_at dksX4_logs_3 8 rfl rfl)
theorem dX4_logs_81 : decode cX4_logs 81 = .ok (.dup2, 1) := dk_92 (dk_at dksX4_logs_3 9 rfl rfl)
theorem dX4_logs_82 : decode cX4_logs 82 = .ok (.iaload, 1) := dk_46 (dk_at dksX4_logs_3 10 rfl rfl)
theorem dX4_logs_83 : decode cX4_logs 83 = .ok (.iconst 1, 1) := dk_4 (dk_at dksX4_logs_3 11 rfl rfl)
theorem dX4_logs_84 : decode cX4_logs 84 = .ok (.iadd, 1) := dk_96 (dk_at dksX4_logs_3 12 rfl rfl)
theorem dX4_logs_85 : decode cX4_logs 85 = .ok (.iastore, 1) := dk_79 (dk_at dksX4_logs_3 13 rfl rfl)
theorem dX4_logs_86 : decode cX4_logs 86 = .ok (.return_, 1) := dk_177 (dk_at dksX4_logs_3 14 rfl rfl)
abbrev cX4_fills : ByteArray := prog_19_method_38_code
def yX4_fills : MethodName := ⟨RX4, "fills", "(I)Z"⟩
def dkwX4_fills_3 : List UInt8 := [21, 5, 21, 6, 182, 0, 209, 4, 172, 21, 6, 54, 5, 167, 255, 206, 132, 4, 255, 167, 255, 191, 3, 172]
abbrev dktX4_fills_3 : List UInt8 := dkwX4_fills_3 ++ []
def dkwX4_fills_2 : List UInt8 := [182, 0, 197, 54, 6, 42, 27, 21, 4, 21, 5, 21, 6, 182, 0, 201, 154, 0, 16, 42, 27, 21, 4]
abbrev dktX4_fills_2 : List UInt8 := dkwX4_fills_2 ++ dktX4_fills_3
def dkwX4_fills_1 : List UInt8 := [21, 4, 4, 161, 0, 65, 2, 54, 5, 21, 5, 29, 162, 0, 50, 42, 27, 21, 4, 4, 96, 21, 5]
abbrev dktX4_fills_1 : List UInt8 := dkwX4_fills_1 ++ dktX4_fills_2
def dkwX4_fills_0 : List UInt8 := [27, 184, 0, 171, 61, 42, 180, 0, 7, 28, 4, 96, 46, 62, 42, 27, 182, 0, 194, 4, 100, 54, 4]
abbrev dktX4_fills_0 : List UInt8 := dkwX4_fills_0 ++ dktX4_fills_1
theorem dksX4_fills_0 : cX4_fills.data.toList.drop 0 = dktX4_fills_0 := by decide +kernel
theorem dksX4_fills_1 : cX4_fills.data.toList.drop 23 = dktX4_fills_1 := dk_seg dksX4_fills_0 23 rfl rfl
theorem dksX4_fills_2 : cX4_fills.data.toList.drop 46 = dktX4_fills_2 := dk_seg dksX4_fills_1 23 rfl rfl
theorem dksX4_fills_3 : cX4_fills.data.toList.drop 69 = dktX4_fills_3 := dk_seg dksX4_fills_2 23 rfl rfl
theorem dX4_fills_0 : decode cX4_fills 0 = .ok (.iload_n 1, 1) := dk_27 (dk_at dksX4_fills_0 0 rfl rfl)
theorem dX4_fills_1 : decode cX4_fills 1 = .ok (.invokestatic 171, 3) := dk_184 0 171 (dk_at dksX4_fills_0 1 rfl rfl)
theorem dX4_fills_4 : decode cX4_fills 4 = .ok (.istore_n 2, 1) := dk_61 (dk_at dksX4_fills_0 4 rfl rfl)
theorem dX4_fills_5 : decode cX4_fills 5 = .ok (.aload_n 0, 1) := dk_42 (dk_at dksX4_fills_0 5 rfl rfl)
theorem dX4_fills_6 : decode cX4_fills 6 = .ok (.getfield 7, 3) := dk_180 0 7 (dk_at dksX4_fills_0 6 rfl rfl)
theorem dX4_fills_9 : decode cX4_fills 9 = .ok (.iload_n 2, 1) := dk_28 (dk_at dksX4_fills_0 9 rfl rfl)
theorem dX4_fills_10 : decode cX4_fills 10 = .ok (.iconst 1, 1) := dk_4 (dk_at dksX4_fills_0 10 rfl rfl)
theorem dX4_fills_11 : decode cX4_fills 11 = .ok (.iadd, 1) := dk_96 (dk_at dksX4_fills_0 11 rfl rfl)
theorem dX4_fills_12 : decode cX4_fills 12 = .ok (.iaload, 1) := dk_46 (dk_at dksX4_fills_0 12 rfl rfl)
theorem dX4_fills_13 : decode cX4_fills 13 = .ok (.istore_n 3, 1) := dk_62 (dk_at dksX4_fills_0 13 rfl rfl)
theorem dX4_fills_14 : decode cX4_fills 14 = .ok (.aload_n 0, 1) := dk_42 (dk_at dksX4_fills_0 14 rfl rfl)
theorem dX4_fills_15 : decode cX4_fills 15 = .ok (.iload_n 1, 1) := dk_27 (dk_at dksX4_fills_0 15 rfl rfl)
theorem dX4_fills_16 : decode cX4_fills 16 = .ok (.invokevirtual 194, 3) := dk_182 0 194 (dk_at dksX4_fills_0 16 rfl rfl)
theorem dX4_fills_19 : decode cX4_fills 19 = .ok (.iconst 1, 1) := dk_4 (dk_at dksX4_fills_0 19 rfl rfl)
theorem dX4_fills_20 : decode cX4_fills 20 = .ok (.isub, 1) := dk_100 (dk_at dksX4_fills_0 20 rfl rfl)
theorem dX4_fills_21 : decode cX4_fills 21 = .ok (.istore 4, 2) := dk_54 4 (dk_at dksX4_fills_0 21 rfl rfl)
theorem dX4_fills_23 : decode cX4_fills 23 = .ok (.iload 4, 2) := dk_21 4 (dk_at dksX4_fills_1 0 rfl rfl)
theorem dX4_fills_25 : decode cX4_fills 25 = .ok (.iconst 1, 1) := dk_4 (dk_at dksX4_fills_1 2 rfl rfl)
theorem dX4_fills_26 : decode cX4_fills 26 = .ok (.if_icmp .lt 65, 3) := dk_161 0 65 (dk_at dksX4_fills_1 3 rfl rfl)
theorem dX4_fills_29 : decode cX4_fills 29 = .ok (.iconst (-1), 1) := dk_2 (dk_at dksX4_fills_1 6 rfl rfl)
theorem dX4_fills_30 : decode cX4_fills 30 = .ok (.istore 5, 2) := dk_54 5 (dk_at dksX4_fills_1 7 rfl rfl)
theorem dX4_fills_32 : decode cX4_fills 32 = .ok (.iload 5, 2) := dk_21 5 (dk_at dksX4_fills_1 9 rfl rfl)
theorem dX4_fills_34 : decode cX4_fills 34 = .ok (.iload_n 3, 1) := dk_29 (dk_at dksX4_fills_1 11 rfl rfl)
theorem dX4_fills_35 : decode cX4_fills 35 = .ok (.if_icmp .ge 50, 3) := dk_162 0 50 (dk_at dksX4_fills_1 12 rfl rfl)
theorem dX4_fills_38 : decode cX4_fills 38 = .ok (.aload_n 0, 1) := dk_42 (dk_at dksX4_fills_1 15 rfl rfl)
theorem dX4_fills_39 : decode cX4_fills 39 = .ok (.iload_n 1, 1) := dk_27 (dk_at dksX4_fills_1 16 rfl rfl)
theorem dX4_fills_40 : decode cX4_fills 40 = .ok (.iload 4, 2) := dk_21 4 (dk_at dksX4_fills_1 17 rfl rfl)
theorem dX4_fills_42 : decode cX4_fills 42 = .ok (.iconst 1, 1) := dk_4 (dk_at dksX4_fills_1 19 rfl rfl)
theorem dX4_fills_43 : decode cX4_fills 43 = .ok (.iadd, 1) := dk_96 (dk_at dksX4_fills_1 20 rfl rfl)
theorem dX4_fills_44 : decode cX4_fills 44 = .ok (.iload 5, 2) := dk_21 5 (dk_at dksX4_fills_1 21 rfl rfl)
theorem dX4_fills_46 : decode cX4_fills 46 = .ok (.invokevirtual 197, 3) := dk_182 0 197 (dk_at dksX4_fills_2 0 rfl rfl)
theorem dX4_fills_49 : decode cX4_fills 49 = .ok (.istore 6, 2) := dk_54 6 (dk_at dksX4_fills_2 3 rfl rfl)
theorem dX4_fills_51 : decode cX4_fills 51 = .ok (.aload_n 0, 1) := dk_42 (dk_at dksX4_fills_2 5 rfl rfl)
theorem dX4_fills_52 : decode cX4_fills 52 = .ok (.iload_n 1, 1) := dk_27 (dk_at dksX4_fills_2 6 rfl rfl)
theorem dX4_fills_53 : decode cX4_fills 53 = .ok (.iload 4, 2) := dk_21 4 (dk_at dksX4_fills_2 7 rfl rfl)
theorem dX4_fills_55 : decode cX4_fills 55 = .ok (.iload 5, 2) := dk_21 5 (dk_at dksX4_fills_2 9 rfl rfl)
theorem dX4_fills_57 : decode cX4_fills 57 = .ok (.iload 6, 2) := dk_21 6 (dk_at dksX4_fills_2 11 rfl rfl)
theorem dX4_fills_59 : decode cX4_fills 59 = .ok (.invokevirtual 201, 3) := dk_182 0 201 (dk_at dksX4_fills_2 13 rfl rfl)
theorem dX4_fills_62 : decode cX4_fills 62 = .ok (.ifCond .ne 16, 3) := dk_154 0 16 (dk_at dksX4_fills_2 16 rfl rfl)
theorem dX4_fills_65 : decode cX4_fills 65 = .ok (.aload_n 0, 1) := dk_42 (dk_at dksX4_fills_2 19 rfl rfl)
theorem dX4_fills_66 : decode cX4_fills 66 = .ok (.iload_n 1, 1) := dk_27 (dk_at dksX4_fills_2 20 rfl rfl)
theorem dX4_fills_67 : decode cX4_fills 67 = .ok (.iload 4, 2) := dk_21 4 (dk_at dksX4_fills_2 21 rfl rfl)
theorem dX4_fills_69 : decode cX4_fills 69 = .ok (.iload 5, 2) := dk_21 5 (dk_at dksX4_fills_3 0 rfl rfl)
theorem dX4_fills_71 : decode cX4_fills 71 = .ok (.iload 6, 2) := dk_21 6 (dk_at dksX4_fills_3 2 rfl rfl)
theorem dX4_fills_73 : decode cX4_fills 73 = .ok (.invokevirtual 209, 3) := dk_182 0 209 (dk_at dksX4_fills_3 4 rfl rfl)
theorem dX4_fills_76 : decode cX4_fills 76 = .ok (.iconst 1, 1) := dk_4 (dk_at dksX4_fills_3 7 rfl rfl)
theorem dX4_fills_77 : decode cX4_fills 77 = .ok (.ireturn, 1) := dk_172 (dk_at dksX4_fills_3 8 rfl rfl)
theorem dX4_fills_78 : decode cX4_fills 78 = .ok (.iload 6, 2) := dk_21 6 (dk_at dksX4_fills_3 9 rfl rfl)
theorem dX4_fills_80 : decode cX4_fills 80 = .ok (.istore 5, 2) := dk_54 5 (dk_at dksX4_fills_3 11 rfl rfl)
theorem dX4_fills_82 : decode cX4_fills 82 = .ok (.goto (-50), 3) := dk_167 255 206 (dk_at dksX4_fills_3 13 rfl rfl)
theorem dX4_fills_85 : decode cX4_fills 85 = .ok (.iinc 4 (-1), 3) := dk_132 4 255 (dk_at dksX4_fills_3 16 rfl rfl)
theorem dX4_fills_88 : decode cX4_fills 88 = .ok (.goto (-65), 3) := dk_167 255 191 (dk_at dksX4_fills_3 19 rfl rfl)
theorem dX4_fills_91 : decode cX4_fills 91 = .ok (.iconst 0, 1) := dk_3 (dk_at dksX4_fills_3 22 rfl rfl)
theorem dX4_fills_92 : decode cX4_fills 92 = .ok (.ireturn, 1) := dk_172 (dk_at dksX4_fills_3 23 rfl rfl)
abbrev cX4_fillsGap : ByteArray := prog_19_method_39_code
def yX4_fillsGap : MethodName := ⟨RX4, "fillsGap", "(IIII)V"⟩
def dkwX4_fillsGap_10 : List UInt8 := [96, 21, 7, 96, 46, 182, 0, 205, 177]
abbrev dktX4_fillsGap_10 : List UInt8 := dkwX4_fillsGap_10 ++ []
def dkwX4_fillsGap_9 : List UInt8 := [21, 5, 5, 96, 21, 7, 96, 46, 182, 0, 205, 167, 0, 21, 42, 5, 28, 42, 180, 0, 7, 21, 5, 5]
abbrev dktX4_fillsGap_9 : List UInt8 := dkwX4_fillsGap_9 ++ dktX4_fillsGap_10
def dkwX4_fillsGap_8 : List UInt8 := [180, 0, 7, 21, 5, 16, 122, 96, 21, 10, 96, 92, 46, 4, 96, 79, 42, 4, 28, 42, 180, 0, 7]
abbrev dktX4_fillsGap_8 : List UInt8 := dkwX4_fillsGap_8 ++ dktX4_fillsGap_9
def dkwX4_fillsGap_7 : List UInt8 := [159, 0, 21, 21, 10, 21, 6, 153, 0, 7, 2, 167, 0, 4, 4, 96, 54, 10, 167, 255, 224, 42]
abbrev dktX4_fillsGap_7 : List UInt8 := dkwX4_fillsGap_7 ++ dktX4_fillsGap_8
def dkwX4_fillsGap_6 : List UInt8 := [167, 0, 7, 21, 7, 4, 96, 54, 10, 42, 180, 0, 7, 21, 5, 16, 122, 96, 21, 10, 96, 46, 28]
abbrev dktX4_fillsGap_6 : List UInt8 := dkwX4_fillsGap_6 ++ dktX4_fillsGap_7
def dkwX4_fillsGap_5 : List UInt8 := [21, 7, 96, 92, 46, 4, 100, 79, 21, 9, 5, 161, 0, 94, 21, 6, 153, 0, 10, 21, 7, 4, 100]
abbrev dktX4_fillsGap_5 : List UInt8 := dkwX4_fillsGap_5 ++ dktX4_fillsGap_6
def dkwX4_fillsGap_4 : List UInt8 := [167, 0, 13, 42, 27, 28, 21, 7, 21, 8, 182, 0, 201, 54, 9, 42, 180, 0, 7, 21, 5, 16, 122, 96]
abbrev dktX4_fillsGap_4 : List UInt8 := dkwX4_fillsGap_4 ++ dktX4_fillsGap_5
def dkwX4_fillsGap_3 : List UInt8 := [21, 7, 182, 0, 197, 54, 8, 21, 6, 153, 0, 16, 42, 27, 28, 21, 8, 21, 7, 182, 0, 201]
abbrev dktX4_fillsGap_3 : List UInt8 := dkwX4_fillsGap_3 ++ dktX4_fillsGap_4
def dkwX4_fillsGap_2 : List UInt8 := [21, 6, 153, 0, 16, 42, 27, 28, 4, 96, 21, 7, 182, 0, 213, 167, 0, 13, 42, 27, 28, 4, 96]
abbrev dktX4_fillsGap_2 : List UInt8 := dkwX4_fillsGap_2 ++ dktX4_fillsGap_3
def dkwX4_fillsGap_1 : List UInt8 := [96, 160, 0, 7, 4, 167, 0, 4, 3, 54, 6, 21, 6, 153, 0, 7, 29, 167, 0, 5, 21, 4, 54, 7]
abbrev dktX4_fillsGap_1 : List UInt8 := dkwX4_fillsGap_1 ++ dktX4_fillsGap_2
def dkwX4_fillsGap_0 : List UInt8 := [27, 184, 0, 171, 54, 5, 29, 155, 0, 25, 42, 180, 0, 7, 21, 5, 16, 122, 96, 29, 96, 46, 28, 4]
abbrev dktX4_fillsGap_0 : List UInt8 := dkwX4_fillsGap_0 ++ dktX4_fillsGap_1
theorem dksX4_fillsGap_0 : cX4_fillsGap.data.toList.drop 0 = dktX4_fillsGap_0 := by decide +kernel
theorem dksX4_fillsGap_1 : cX4_fillsGap.data.toList.drop 24 = dktX4_fillsGap_1 := dk_seg dksX4_fillsGap_0 24 rfl rfl
theorem dksX4_fillsGap_2 : cX4_fillsGap.data.toList.drop 48 = dktX4_fillsGap_2 := dk_seg dksX4_fillsGap_1 24 rfl rfl
theorem dksX4_fillsGap_3 : cX4_fillsGap.data.toList.drop 71 = dktX4_fillsGap_3 := dk_seg dksX4_fillsGap_2 23 rfl rfl
theorem dksX4_fillsGap_4 : cX4_fillsGap.data.toList.drop 93 = dktX4_fillsGap_4 := dk_seg dksX4_fillsGap_3 22 rfl rfl
theorem dksX4_fillsGap_5 : cX4_fillsGap.data.toList.drop 117 = dktX4_fillsGap_5 := dk_seg dksX4_fillsGap_4 24 rfl rfl
theorem dksX4_fillsGap_6 : cX4_fillsGap.data.toList.drop 140 = dktX4_fillsGap_6 := dk_seg dksX4_fillsGap_5 23 rfl rfl
theorem dksX4_fillsGap_7 : cX4_fillsGap.data.toList.drop 163 = dktX4_fillsGap_7 := dk_seg dksX4_fillsGap_6 23 rfl rfl
theorem dksX4_fillsGap_8 : cX4_fillsGap.data.toList.drop 185 = dktX4_fillsGap_8 := dk_seg dksX4_fillsGap_7 22 rfl rfl
theorem dksX4_fillsGap_9 : cX4_fillsGap.data.toList.drop 208 = dktX4_fillsGap_9 := dk_seg dksX4_fillsGap_8 23 rfl rfl
theorem dksX4_fillsGap_10 : cX4_fillsGap.data.toList.drop 232 = dktX4_fillsGap_10 := dk_seg dksX4_fillsGap_9 24 rfl rfl
theorem dX4_fillsGap_0 : decode cX4_fillsGap 0 = .ok (.iload_n 1, 1) := dk_27 (dk_at dksX4_fillsGap_0 0 rfl rfl)
theorem dX4_fillsGap_1 : decode cX4_fillsGap 1 = .ok (.invokestatic 171, 3) := dk_184 0 171 (dk_at dksX4_fillsGap_0 1 rfl rfl)
theorem dX4_fillsGap_4 : decode cX4_fillsGap 4 = .ok (.istore 5, 2) := dk_54 5 (dk_at dksX4_fillsGap_0 4 rfl rfl)
theorem dX4_fillsGap_6 : decode cX4_fillsGap 6 = .ok (.iload_n 3, 1) := dk_29 (dk_at dksX4_fillsGap_0 6 rfl rfl)
theorem dX4_fillsGap_7 : decode cX4_fillsGap 7 = .ok (.ifCond .lt 25, 3) := dk_155 0 25 (dk_at dksX4_fillsGap_0 7 rfl rfl)
theorem dX4_fillsGap_10 : decode cX4_fillsGap 10 = .ok (.aload_n 0, 1) := dk_42 (dk_at dksX4_fillsGap_0 10 rfl rfl)
theorem dX4_fillsGap_11 : decode cX4_fillsGap 11 = .ok (.getfield 7, 3) := dk_180 0 7 (dk_at dksX4_fillsGap_0 11 rfl rfl)
theorem dX4_fillsGap_14 : decode cX4_fillsGap 14 = .ok (.iload 5, 2) := dk_21 5 (dk_at dksX4_fillsGap_0 14 rfl rfl)
theorem dX4_fillsGap_16 : decode cX4_fillsGap 16 = .ok (.bipush 122, 2) := dk_16 122 (dk_at dksX4_fillsGap_0 16 rfl rfl)
theorem dX4_fillsGap_18 : decode cX4_fillsGap 18 = .ok (.iadd, 1) := dk_96 (dk_at dksX4_fillsGap_0 18 rfl rfl)
theorem dX4_fillsGap_19 : decode cX4_fillsGap 19 = .ok (.iload_n 3, 1) := dk_29 (dk_at dksX4_fillsGap_0 19 rfl rfl)
theorem dX4_fillsGap_20 : decode cX4_fillsGap 20 = .ok (.iadd, 1) := dk_96 (dk_at dksX4_fillsGap_0 20 rfl rfl)
theorem dX4_fillsGap_21 : decode cX4_fillsGap 21 = .ok (.iaload, 1) := dk_46 (dk_at dksX4_fillsGap_0 21 rfl rfl)
theorem dX4_fillsGap_22 : decode cX4_fillsGap 22 = .ok (.iload_n 2, 1) := dk_28 (dk_at dksX4_fillsGap_0 22 rfl rfl)
theorem dX4_fillsGap_23 : decode cX4_fillsGap 23 = .ok (.iconst 1, 1) := dk_4 (dk_at dksX4_fillsGap_0 23 rfl rfl)
theorem dX4_fillsGap_24 : decode cX4_fillsGap 24 = .ok (.iadd, 1) := dk_96 (dk_at dksX4_fillsGap_1 0 rfl rfl)
theorem dX4_fillsGap_25 : decode cX4_fillsGap 25 = .ok (.if_icmp .ne 7, 3) := dk_160 0 7 (dk_at dksX4_fillsGap_1 1 rfl rfl)
theorem dX4_fillsGap_28 : decode cX4_fillsGap 28 = .ok (.iconst 1, 1) := dk_4 (dk_at dksX4_fillsGap_1 4 rfl rfl)
theorem dX4_fillsGap_29 : decode cX4_fillsGap 29 = .ok (.goto 4, 3) := dk_167 0 4 (dk_at dksX4_fillsGap_1 5 rfl rfl)
theorem dX4_fillsGap_32 : decode cX4_fillsGap 32 = .ok (.iconst 0, 1) := dk_3 (dk_at dksX4_fillsGap_1 8 rfl rfl)
theorem dX4_fillsGap_33 : decode cX4_fillsGap 33 = .ok (.istore 6, 2) := dk_54 6 (dk_at dksX4_fillsGap_1 9 rfl rfl)
theorem dX4_fillsGap_35 : decode cX4_fillsGap 35 = .ok (.iload 6, 2) := dk_21 6 (dk_at dksX4_fillsGap_1 11 rfl rfl)
theorem dX4_fillsGap_37 : decode cX4_fillsGap 37 = .ok (.ifCond .eq 7, 3) := dk_153 0 7 (dk_at dksX4_fillsGap_1 13 rfl rfl)
theorem dX4_fillsGap_40 : decode cX4_fillsGap 40 = .ok (.iload_n 3, 1) := dk_29 (dk_at dksX4_fillsGap_1 16 rfl rfl)
theorem dX4_fillsGap_41 : decode cX4_fillsGap 41 = .ok (.goto 5, 3) := dk_167 0 5 (dk_at dksX4_fillsGap_1 17 rfl rfl)
theorem dX4_fillsGap_44 : decode cX4_fillsGap 44 = .ok (.iload 4, 2) := dk_21 4 (dk_at dksX4_fillsGap_1 20 rfl rfl)
theorem dX4_fillsGap_46 : decode cX4_fillsGap 46 = .ok (.istore 7, 2) := dk_54 7 (dk_at dksX4_fillsGap_1 22 rfl rfl)
theorem dX4_fillsGap_48 : decode cX4_fillsGap 48 = .ok (.iload 6, 2) := dk_21 6 (dk_at dksX4_fillsGap_2 0 rfl rfl)
theorem dX4_fillsGap_50 : decode cX4_fillsGap 50 = .ok (.ifCond .eq 16, 3) := dk_153 0 16 (dk_at dksX4_fillsGap_2 2 rfl rfl)
theorem dX4_fillsGap_53 : decode cX4_fillsGap 53 = .ok (.aload_n 0, 1) := dk_42 (dk_at dksX4_fillsGap_2 5 rfl rfl)
theorem dX4_fillsGap_54 : decode cX4_fillsGap 54 = .ok (.iload_n 1, 1) := dk_27 (dk_at dksX4_fillsGap_2 6 rfl rfl)
theorem dX4_fillsGap_55 : decode cX4_fillsGap 55 = .ok (.iload_n 2, 1) := dk_28 (dk_at dksX4_fillsGap_2 7 rfl rfl)
theorem dX4_fillsGap_56 : decode cX4_fillsGap 56 = .ok (.iconst 1, 1) := dk_4 (dk_at dksX4_fillsGap_2 8 rfl rfl)
theorem dX4_fillsGap_57 : decode cX4_fillsGap 57 = .ok (.iadd, 1) := dk_96 (dk_at dksX4_fillsGap_2 9 rfl rfl)
theorem dX4_fillsGap_58 : decode cX4_fillsGap 58 = .ok (.iload 7, 2) := dk_21 7 (dk_at dksX4_fillsGap_2 10 rfl rfl)
theorem dX4_fillsGap_60 : decode cX4_fillsGap 60 = .ok (.invokevirtual 213, 3) := dk_182 0 213 (dk_at dksX4_fillsGap_2 12 rfl rfl)
theorem dX4_fillsGap_63 : decode cX4_fillsGap 63 = .ok (.goto 13, 3) := dk_167 0 13 (dk_at dksX4_fillsGap_2 15 rfl rfl)
theorem dX4_fillsGap_66 : decode cX4_fillsGap 66 = .ok (.aload_n 0, 1) := dk_42 (dk_at dksX4_fillsGap_2 18 rfl rfl)
theorem dX4_fillsGap_67 : decode cX4_fillsGap 67 = .ok (.iload_n 1, 1) := dk_27 (dk_at dksX4_fillsGap_2 19 rfl rfl)
theorem dX4_fillsGap_68 : decode cX4_fillsGap 68 = .ok (.iload_n 2, 1) := dk_28 (dk_at dksX4_fillsGap_2 20 rfl rfl)
theorem dX4_fillsGap_69 : decode cX4_fillsGap 69 = .ok (.iconst 1, 1) := dk_4 (dk_at dksX4_fillsGap_2 21 rfl rfl)
theorem dX4_fillsGap_70 : decode cX4_fillsGap 70 = .ok (.iadd, 1) := dk_96 (dk_at dksX4_fillsGap_2 22 rfl rfl)
theorem dX4_fillsGap_71 : decode cX4_fillsGap 71 = .ok (.iload 7, 2) := dk_21 7 (dk_at dksX4_fillsGap_3 0 rfl rfl)
theorem dX4_fillsGap_73 : decode cX4_fillsGap 73 = .ok (.invokevirtual 197, 3) := dk_182 0 197 (dk_at dksX4_fillsGap_3 2 rfl rfl)
theorem dX4_fillsGap_76 : decode cX4_fillsGap 76 = .ok (.istore 8, 2) := dk_54 8 (dk_at dksX4_fillsGap_3 5 rfl rfl)
theorem dX4_fillsGap_78 : decode cX4_fillsGap 78 = .ok (.iload 6, 2) := dk_21 6 (dk_at dksX4_fillsGap_3 7 rfl rfl)
theorem dX4_fillsGap_80 : decode cX4_fillsGap 80 = .ok (.ifCond .eq 16, 3) := dk_153 0 16 (dk_at dksX4_fillsGap_3 9 rfl rfl)
theorem dX4_fillsGap_83 : decode cX4_fillsGap 83 = .ok (.aload_n 0, 1) := dk_42 (dk_at dksX4_fillsGap_3 12 rfl rfl)
theorem dX4_fillsGap_84 : decode cX4_fillsGap 84 = .ok (.iload_n 1, 1) := dk_27 (dk_at dksX4_fillsGap_3 13 rfl rfl)
theorem dX4_fillsGap_85 : decode cX4_fillsGap 85 = .ok (.iload_n 2, 1) := dk_28 (dk_at dksX4_fillsGap_3 14 rfl rfl)
theorem dX4_fillsGap_86 : decode cX4_fillsGap 86 = .ok (.iload 8, 2) := dk_21 8 (dk_at dksX4_fillsGap_3 15 rfl rfl)
theorem dX4_fillsGap_88 : decode cX4_fillsGap 88 = .ok (.iload 7, 2) := dk_21 7 (dk_at dksX4_fillsGap_3 17 rfl rfl)
theorem dX4_fillsGap_90 : decode cX4_fillsGap 90 = .ok (.invokevirtual 201, 3) := dk_182 0 201 (dk_at dksX4_fillsGap_3 19 rfl rfl)
theorem dX4_fillsGap_93 : decode cX4_fillsGap 93 = .ok (.goto 13, 3) := dk_167 0 13 (dk_at dksX4_fillsGap_4 0 rfl rfl)
theorem dX4_fillsGap_96 : decode cX4_fillsGap 96 = .ok (.aload_n 0, 1) := dk_42 (dk_at dksX4_fillsGap_4 3 rfl rfl)
theorem dX4_fillsGap_97 : decode cX4_fillsGap 97 = .ok (.iload_n 1, 1) := dk_27 (dk_at dksX4_fillsGap_4 4 rfl rfl)
theorem dX4_fillsGap_98 : decode cX4_fillsGap 98 = .ok (.iload_n 2, 1) := dk_28 (dk_at dksX4_fillsGap_4 5 rfl rfl)
theorem dX4_fillsGap_99 : decode cX4_fillsGap 99 = .ok (.iload 7, 2) := dk_21 7 (dk_at dksX4_fillsGap_4 6 rfl rfl)
theorem dX4_fillsGap_101 : decode cX4_fillsGap 101 = .ok (.iload 8, 2) := dk_21 8 (dk_at dksX4_fillsGap_4 8 rfl rfl)
theorem dX4_fillsGap_103 : decode cX4_fillsGap 103 = .ok (.invokevirtual 201, 3) := dk_182 0 201 (dk_at dksX4_fillsGap_4 10 rfl rfl)
theorem dX4_fillsGap_106 : decode cX4_fillsGap 106 = .ok (.istore 9, 2) := dk_54 9 (dk_at dksX4_fillsGap_4 13 rfl rfl)
theorem dX4_fillsGap_108 : decode cX4_fillsGap 108 = .ok (.aload_n 0, 1) := dk_42 (dk_at dksX4_fillsGap_4 15 rfl rfl)
theorem dX4_fillsGap_109 : decode cX4_fillsGap 109 = .ok (.getfield 7, 3) := dk_180 0 7 (dk_at dksX4_fillsGap_4 16 rfl rfl)
theorem dX4_fillsGap_112 : decode cX4_fillsGap 112 = .ok (.iload 5, 2) := dk_21 5 (dk_at dksX4_fillsGap_4 19 rfl rfl)
theorem dX4_fillsGap_114 : decode cX4_fillsGap 114 = .ok (.bipush 122, 2) := dk_16 122 (dk_at dksX4_fillsGap_4 21 rfl rfl)
theorem dX4_fillsGap_116 : decode cX4_fillsGap 116 = .ok (.iadd, 1) := dk_96 (dk_at dksX4_fillsGap_4 23 rfl rfl)
theorem dX4_fillsGap_117 : decode cX4_fillsGap 117 = .ok (.iload 7, 2) := dk_21 7 (dk_at dksX4_fillsGap_5 0 rfl rfl)
theorem dX4_fillsGap_119 : decode cX4_fillsGap 119 = .ok (.iadd, 1) := dk_96 (dk_at dksX4_fillsGap_5 2 rfl rfl)
theorem dX4_fillsGap_120 : decode cX4_fillsGap 120 = .ok (.dup2, 1) := dk_92 (dk_at dksX4_fillsGap_5 3 rfl rfl)
theorem dX4_fillsGap_121 : decode cX4_fillsGap 121 = .ok (.iaload, 1) := dk_46 (dk_at dksX4_fillsGap_5 4 rfl rfl)
theorem dX4_fillsGap_122 : decode cX4_fillsGap 122 = .ok (.iconst 1, 1) := dk_4 (dk_at dksX4_fillsGap_5 5 rfl rfl)
theorem dX4_fillsGap_123 : decode cX4_fillsGap 123 = .ok (.isub, 1) := dk_100 (dk_at dksX4_fillsGap_5 6 rfl rfl)
theorem dX4_fillsGap_124 : decode cX4_fillsGap 124 = .ok (.iastore, 1) := dk_79 (dk_at dksX4_fillsGap_5 7 rfl rfl)
theorem dX4_fillsGap_125 : decode cX4_fillsGap 125 = .ok (.iload 9, 2) := dk_21 9 (dk_at dksX4_fillsGap_5 8 rfl rfl)
theorem dX4_fillsGap_127 : decode cX4_fillsGap 127 = .ok (.iconst 2, 1) := dk_5 (dk_at dksX4_fillsGap_5 10 rfl rfl)
theorem dX4_fillsGap_128 : decode cX4_fillsGap 128 = .ok (.if_icmp .lt 94, 3) := dk_161 0 94 (dk_at dksX4_fillsGap_5 11 rfl rfl)
theorem dX4_fillsGap_131 : decode cX4_fillsGap 131 = .ok (.iload 6, 2) := dk_21 6 (dk_at dksX4_fillsGap_5 14 rfl rfl)
theorem dX4_fillsGap_133 : decode cX4_fillsGap 133 = .ok (.ifCond .eq 10, 3) := dk_153 0 10 (dk_at dksX4_fillsGap_5 16 rfl rfl)
theorem dX4_fillsGap_136 : decode cX4_fillsGap 136 = .ok (.iload 7, 2) := dk_21 7 (dk_at dksX4_fillsGap_5 19 rfl rfl)
theorem dX4_fillsGap_138 : decode cX4_fillsGap 138 = .ok (.iconst 1, 1) := dk_4 (dk_at dksX4_fillsGap_5 21 rfl rfl)
theorem dX4_fillsGap_139 : decode cX4_fillsGap 139 = .ok (.isub, 1) := dk_100 (dk_at dksX4_fillsGap_5 22 rfl rfl)
theorem dX4_fillsGap_140 : decode cX4_fillsGap 140 = .ok (.goto 7, 3) := dk_167 0 7 (dk_at dksX4_fillsGap_6 0 rfl rfl)
theorem dX4_fillsGap_143 : decode cX4_fillsGap 143 = .ok (.iload 7, 2) := dk_21 7 (dk_at dksX4_fillsGap_6 3 rfl rfl)
theorem dX4_fillsGap_145 : decode cX4_fillsGap 145 = .ok (.iconst 1, 1) := dk_4 (dk_at dksX4_fillsGap_6 5 rfl rfl)
theorem dX4_fillsGap_146 : decode cX4_fillsGap 146 = .ok (.iadd, 1) := dk_96 (dk_at dksX4_fillsGap_6 6 rfl rfl)
theorem dX4_fillsGap_147 : decode cX4_fillsGap 147 = .ok (.istore 10, 2) := dk_54 10 (dk_at dksX4_fillsGap_6 7 rfl rfl)
theorem dX4_fillsGap_149 : decode cX4_fillsGap 149 = .ok (.aload_n 0, 1) := dk_42 (dk_at dksX4_fillsGap_6 9 rfl rfl)
theorem dX4_fillsGap_150 : decode cX4_fillsGap 150 = .ok (.getfield 7, 3) := dk_180 0 7 (dk_at dksX4_fillsGap_6 10 rfl rfl)
theorem dX4_fillsGap_153 : decode cX4_fillsGap 153 = .ok (.iload 5, 2) := dk_21 5 (dk_at dksX4_fillsGap_6 13 rfl rfl)
theorem dX4_fillsGap_155 : decode cX4_fillsGap 155 = .ok (.bipush 122, 2) := dk_16 122 (dk_at dksX4_fillsGap_6 15 rfl rfl)
theorem dX4_fillsGap_157 : decode cX4_fillsGap 157 = .ok (.iadd, 1) := dk_96 (dk_at dksX4_fillsGap_6 17 rfl rfl)
theorem dX4_fillsGap_158 : decode cX4_fillsGap 158 = .ok (.iload 10, 2) := dk_21 10 (dk_at dksX4_fillsGap_6 18 rfl rfl)
theorem dX4_fillsGap_160 : decode cX4_fillsGap 160 = .ok (.iadd, 1) := dk_96 (dk_at dksX4_fillsGap_6 20 rfl rfl)
theorem dX4_fillsGap_161 : decode cX4_fillsGap 161 = .ok (.iaload, 1) := dk_46 (dk_at dksX4_fillsGap_6 21 rfl rfl)
theorem dX4_fillsGap_162 : decode cX4_fillsGap 162 = .ok (.iload_n 2, 1) := dk_28 (dk_at dksX4_fillsGap_6 22 rfl rfl)
theorem dX4_fillsGap_163 : decode cX4_fillsGap 163 = .ok (.if_icmp .eq 21, 3) := dk_159 0 21 (dk_at dksX4_fillsGap_7 0 rfl rfl)
theorem dX4_fillsGap_166 : decode cX4_fillsGap 166 = .ok (.iload 10, 2) := dk_21 10 (dk_at dksX4_fillsGap_7 3 rfl rfl)
theorem dX4_fillsGap_168 : decode cX4_fillsGap 168 = .ok (.iload 6, 2) := dk_21 6 (dk_at dksX4_fillsGap_7 5 rfl rfl)
theorem dX4_fillsGap_170 : decode cX4_fillsGap 170 = .ok (.ifCond .eq 7, 3) := dk_153 0 7 (dk_at dksX4_fillsGap_7 7 rfl rfl)
theorem dX4_fillsGap_173 : decode cX4_fillsGap 173 = .ok (.iconst (-1), 1) := dk_2 (dk_at dksX4_fillsGap_7 10 rfl rfl)
theorem dX4_fillsGap_174 : decode cX4_fillsGap 174 = .ok (.goto 4, 3) := dk_167 0 4 (dk_at dksX4_fillsGap_7 11 rfl rfl)
theorem dX4_fillsGap_177 : decode cX4_fillsGap 177 = .ok (.iconst 1, 1) := dk_4 (dk_at dksX4_fillsGap_7 14 rfl rfl)
theorem dX4_fillsGap_178 : decode cX4_fillsGap 178 = .ok (.iadd, 1) := dk_96 (dk_at dksX4_fillsGap_7 15 rfl rfl)
theorem dX4_fillsGap_179 : decode cX4_fillsGap 179 = .ok (.istore 10, 2) := dk_54 10 (dk_at dksX4_fillsGap_7 16 rfl rfl)
theorem dX4_fillsGap_181 : decode cX4_fillsGap 181 = .ok (.goto (-32), 3) := dk_167 255 224 (dk_at dksX4_fillsGap_7 18 rfl rfl)
theorem dX4_fillsGap_184 : decode cX4_fillsGap 184 = .ok (.aload_n 0, 1) := dk_42 (dk_at dksX4_fillsGap_7 21 rfl rfl)
theorem dX4_fillsGap_185 : decode cX4_fillsGap 185 = .ok (.getfield 7, 3) := dk_180 0 7 (dk_at dksX4_fillsGap_8 0 rfl rfl)
theorem dX4_fillsGap_188 : decode cX4_fillsGap 188 = .ok (.iload 5, 2) := dk_21 5 (dk_at dksX4_fillsGap_8 3 rfl rfl)
theorem dX4_fillsGap_190 : decode cX4_fillsGap 190 = .ok (.bipush 122, 2) := dk_16 122 (dk_at dksX4_fillsGap_8 5 rfl rfl)
theorem dX4_fillsGap_192 : decode cX4_fillsGap 192 = .ok (.iadd, 1) := dk_96 (dk_at dksX4_fillsGap_8 7 rfl rfl)
theorem dX4_fillsGap_193 : decode cX4_fillsGap 193 = .ok (.iload 10, 2) := dk_21 10 (dk_at dksX4_fillsGap_8 8 rfl rfl)
theorem dX4_fillsGap_195 : decode cX4_fillsGap 195 = .ok (.iadd, 1) := dk_96 (dk_at dksX4_fillsGap_8 10 rfl rfl)
theorem dX4_fillsGap_196 : decode cX4_fillsGap 196 = .ok (.dup2, 1) := dk_92 (dk_at dksX4_fillsGap_8 11 rfl rfl)
theorem dX4_fillsGap_197 : decode cX4_fillsGap 197 = .ok (.iaload, 1) := dk_46 (dk_at dksX4_fillsGap_8 12 rfl rfl)
theorem dX4_fillsGap_198 : decode cX4_fillsGap 198 = .ok (.iconst 1, 1) := dk_4 (dk_at dksX4_fillsGap_8 13 rfl rfl)
theorem dX4_fillsGap_199 : decode cX4_fillsGap 199 = .ok (.iadd, 1) := dk_96 (dk_at dksX4_fillsGap_8 14 rfl rfl)
theorem dX4_fillsGap_200 : decode cX4_fillsGap 200 = .ok (.iastore, 1) := dk_79 (dk_at dksX4_fillsGap_8 15 rfl rfl)
theorem dX4_fillsGap_201 : decode cX4_fillsGap 201 = .ok (.aload_n 0, 1) := dk_42 (dk_at dksX4_fillsGap_8 16 rfl rfl)
theorem dX4_fillsGap_202 : decode cX4_fillsGap 202 = .ok (.iconst 1, 1) := dk_4 (dk_at dksX4_fillsGap_8 17 rfl rfl)
theorem dX4_fillsGap_203 : decode cX4_fillsGap 203 = .ok (.iload_n 2, 1) := dk_28 (dk_at dksX4_fillsGap_8 18 rfl rfl)
theorem dX4_fillsGap_204 : decode cX4_fillsGap 204 = .ok (.aload_n 0, 1) := dk_42 (dk_at dksX4_fillsGap_8 19 rfl rfl)
theorem dX4_fillsGap_205 : decode cX4_fillsGap 205 = .ok (.getfield 7, 3) := dk_180 0 7 (dk_at dksX4_fillsGap_8 20 rfl rfl)
theorem dX4_fillsGap_208 : decode cX4_fillsGap 208 = .ok (.iload 5, 2) := dk_21 5 (dk_at dksX4_fillsGap_9 0 rfl rfl)
theorem dX4_fillsGap_210 : decode cX4_fillsGap 210 = .ok (.iconst 2, 1) := dk_5 (dk_at dksX4_fillsGap_9 2 rfl rfl)
theorem dX4_fillsGap_211 : decode cX4_fillsGap 211 = .ok (.iadd, 1) := dk_96 (dk_at dksX4_fillsGap_9 3 rfl rfl)
theorem dX4_fillsGap_212 : decode cX4_fillsGap 212 = .ok (.iload 7, 2) := dk_21 7 (dk_at dksX4_fillsGap_9 4 rfl rfl)
theorem dX4_fillsGap_214 : decode cX4_fillsGap 214 = .ok (.iadd, 1) := dk_96 (dk_at dksX4_fillsGap_9 6 rfl rfl)
theorem dX4_fillsGap_215 : decode cX4_fillsGap 215 = .ok (.iaload, 1) := dk_46 (dk_at dksX4_fillsGap_9 7 rfl rfl)
theorem dX4_fillsGap_216 : decode cX4_fillsGap 216 = .ok (.invokevirtual 205, 3) := dk_182 0 205 (dk_at dksX4_fillsGap_9 8 rfl rfl)
theorem dX4_fillsGap_219 : decode cX4_fillsGap 219 = .ok (.goto 21, 3) := dk_167 0 21 (dk_at dksX4_fillsGap_9 11 rfl rfl)
theorem dX4_fillsGap_222 : decode cX4_fillsGap 222 = .ok (.aload_n 0, 1) := dk_42 (dk_at dksX4_fillsGap_9 14 rfl rfl)
theorem dX4_fillsGap_223 : decode cX4_fillsGap 223 = .ok (.iconst 2, 1) := dk_5 (dk_at dksX4_fillsGap_9 15 rfl rfl)
theorem dX4_fillsGap_224 : decode cX4_fillsGap 224 = .ok (.iload_n 2, 1) := dk_28 (dk_at dksX4_fillsGap_9 16 rfl rfl)
theorem dX4_fillsGap_225 : decode cX4_fillsGap 225 = .ok (.aload_n 0, 1) := dk_42 (dk_at dksX4_fillsGap_9 17 rfl rfl)
theorem dX4_fillsGap_226 : decode cX4_fillsGap 226 = .ok (.getfield 7, 3) := dk_180 0 7 (dk_at dksX4_fillsGap_9 18 rfl rfl)
theorem dX4_fillsGap_229 : decode cX4_fillsGap 229 = .ok (.iload 5, 2) := dk_21 5 (dk_at dksX4_fillsGap_9 21 rfl rfl)
theorem dX4_fillsGap_231 : decode cX4_fillsGap 231 = .ok (.iconst 2, 1) := dk_5 (dk_at dksX4_fillsGap_9 23 rfl rfl)
theorem dX4_fillsGap_232 : decode cX4_fillsGap 232 = .ok (.iadd, 1) := dk_96 (dk_at dksX4_fillsGap_10 0 rfl rfl)
theorem dX4_fillsGap_233 : decode cX4_fillsGap 233 = .ok (.iload 7, 2) := dk_21 7 (dk_at dksX4_fillsGap_10 1 rfl rfl)
theorem dX4_fillsGap_235 : decode cX4_fillsGap 235 = .ok (.iadd, 1) := dk_96 (dk_at dksX4_fillsGap_10 3 rfl rfl)
theorem dX4_fillsGap_236 : decode cX4_fillsGap 236 = .ok (.iaload, 1) := dk_46 (dk_at dksX4_fillsGap_10 4 rfl rfl)
theorem dX4_fillsGap_237 : decode cX4_fillsGap 237 = .ok (.invokevirtual 205, 3) := dk_182 0 205 (dk_at dksX4_fillsGap_10 5 rfl rfl)
theorem dX4_fillsGap_240 : decode cX4_fillsGap 240 = .ok (.return_, 1) := dk_177 (dk_at dksX4_fillsGap_10 8 rfl rfl)
abbrev cX4_ahead : ByteArray := prog_19_method_34_code
def yX4_ahead : MethodName := ⟨RX4, "ahead", "(III)I"⟩
def dkwX4_ahead_1 : List UInt8 := [96, 21, 5, 96, 46, 28, 162, 0, 9, 132, 5, 255, 167, 255, 231, 21, 5, 172]
abbrev dktX4_ahead_1 : List UInt8 := dkwX4_ahead_1 ++ []
def dkwX4_ahead_0 : List UInt8 := [27, 184, 0, 171, 54, 4, 29, 4, 100, 54, 5, 21, 5, 155, 0, 26, 42, 180, 0, 7, 21, 4, 16, 122]
abbrev dktX4_ahead_0 : List UInt8 := dkwX4_ahead_0 ++ dktX4_ahead_1
theorem dksX4_ahead_0 : cX4_ahead.data.toList.drop 0 = dktX4_ahead_0 := by decide +kernel
theorem dksX4_ahead_1 : cX4_ahead.data.toList.drop 24 = dktX4_ahead_1 := dk_seg dksX4_ahead_0 24 rfl rfl
theorem dX4_ahead_0 : decode cX4_ahead 0 = .ok (.iload_n 1, 1) := dk_27 (dk_at dksX4_ahead_0 0 rfl rfl)
theorem dX4_ahead_1 : decode cX4_ahead 1 = .ok (.invokestatic 171, 3) := dk_184 0 171 (dk_at dksX4_ahead_0 1 rfl rfl)
theorem dX4_ahead_4 : decode cX4_ahead 4 = .ok (.istore 4, 2) := dk_54 4 (dk_at dksX4_ahead_0 4 rfl rfl)
theorem dX4_ahead_6 : decode cX4_ahead 6 = .ok (.iload_n 3, 1) := dk_29 (dk_at dksX4_ahead_0 6 rfl rfl)
theorem dX4_ahead_7 : decode cX4_ahead 7 = .ok (.iconst 1, 1) := dk_4 (dk_at dksX4_ahead_0 7 rfl rfl)
theorem dX4_ahead_8 : decode cX4_ahead 8 = .ok (.isub, 1) := dk_100 (dk_at dksX4_ahead_0 8 rfl rfl)
theorem dX4_ahead_9 : decode cX4_ahead 9 = .ok (.istore 5, 2) := dk_54 5 (dk_at dksX4_ahead_0 9 rfl rfl)
theorem dX4_ahead_11 : decode cX4_ahead 11 = .ok (.iload 5, 2) := dk_21 5 (dk_at dksX4_ahead_0 11 rfl rfl)
theorem dX4_ahead_13 : decode cX4_ahead 13 = .ok (.ifCond .lt 26, 3) := dk_155 0 26 (dk_at dksX4_ahead_0 13 rfl rfl)
theorem dX4_ahead_16 : decode cX4_ahead 16 = .ok (.aload_n 0, 1) := dk_42 (dk_at dksX4_ahead_0 16 rfl rfl)
theorem dX4_ahead_17 : decode cX4_ahead 17 = .ok (.getfield 7, 3) := dk_180 0 7 (dk_at dksX4_ahead_0 17 rfl rfl)
theorem dX4_ahead_20 : decode cX4_ahead 20 = .ok (.iload 4, 2) := dk_21 4 (dk_at dksX4_ahead_0 20 rfl rfl)
theorem dX4_ahead_22 : decode cX4_ahead 22 = .ok (.bipush 122, 2) := dk_16 122 (dk_at dksX4_ahead_0 22 rfl rfl)
theorem dX4_ahead_24 : decode cX4_ahead 24 = .ok (.iadd, 1) := dk_96 (dk_at dksX4_ahead_1 0 rfl rfl)
theorem dX4_ahead_25 : decode cX4_ahead 25 = .ok (.iload 5, 2) := dk_21 5 (dk_at dksX4_ahead_1 1 rfl rfl)
theorem dX4_ahead_27 : decode cX4_ahead 27 = .ok (.iadd, 1) := dk_96 (dk_at dksX4_ahead_1 3 rfl rfl)
theorem dX4_ahead_28 : decode cX4_ahead 28 = .ok (.iaload, 1) := dk_46 (dk_at dksX4_ahead_1 4 rfl rfl)
theorem dX4_ahead_29 : decode cX4_ahead 29 = .ok (.iload_n 2, 1) := dk_28 (dk_at dksX4_ahead_1 5 rfl rfl)
theorem dX4_ahead_30 : decode cX4_ahead 30 = .ok (.if_icmp .ge 9, 3) := dk_162 0 9 (dk_at dksX4_ahead_1 6 rfl rfl)
theorem dX4_ahead_33 : decode cX4_ahead 33 = .ok (.iinc 5 (-1), 3) := dk_132 5 255 (dk_at dksX4_ahead_1 9 rfl rfl)
theorem dX4_ahead_36 : decode cX4_ahead 36 = .ok (.goto (-25), 3) := dk_167 255 231 (dk_at dksX4_ahead_1 12 rfl rfl)
theorem dX4_ahead_39 : decode cX4_ahead 39 = .ok (.iload 5, 2) := dk_21 5 (dk_at dksX4_ahead_1 15 rfl rfl)
theorem dX4_ahead_41 : decode cX4_ahead 41 = .ok (.ireturn, 1) := dk_172 (dk_at dksX4_ahead_1 17 rfl rfl)
abbrev cX4_errorCode : ByteArray := prog_19_method_22_code
def yX4_errorCode : MethodName := ⟨RX4, "errorCode", "()I"⟩
def dkwX4_errorCode_0 : List UInt8 := [42, 3, 181, 0, 62, 42, 180, 0, 80, 172]
abbrev dktX4_errorCode_0 : List UInt8 := dkwX4_errorCode_0 ++ []
theorem dksX4_errorCode_0 : cX4_errorCode.data.toList.drop 0 = dktX4_errorCode_0 := by decide +kernel
theorem dX4_errorCode_0 : decode cX4_errorCode 0 = .ok (.aload_n 0, 1) := dk_42 (dk_at dksX4_errorCode_0 0 rfl rfl)
theorem dX4_errorCode_1 : decode cX4_errorCode 1 = .ok (.iconst 0, 1) := dk_3 (dk_at dksX4_errorCode_0 1 rfl rfl)
theorem dX4_errorCode_2 : decode cX4_errorCode 2 = .ok (.putfield 62, 3) := dk_181 0 62 (dk_at dksX4_errorCode_0 2 rfl rfl)
theorem dX4_errorCode_5 : decode cX4_errorCode 5 = .ok (.aload_n 0, 1) := dk_42 (dk_at dksX4_errorCode_0 5 rfl rfl)
theorem dX4_errorCode_6 : decode cX4_errorCode 6 = .ok (.getfield 80, 3) := dk_180 0 80 (dk_at dksX4_errorCode_0 6 rfl rfl)
theorem dX4_errorCode_9 : decode cX4_errorCode 9 = .ok (.ireturn, 1) := dk_172 (dk_at dksX4_errorCode_0 9 rfl rfl)
abbrev cX4_errorPosition : ByteArray := prog_19_method_23_code
def yX4_errorPosition : MethodName := ⟨RX4, "errorPosition", "()I"⟩
def dkwX4_errorPosition_0 : List UInt8 := [42, 3, 181, 0, 62, 42, 180, 0, 46, 172]
abbrev dktX4_errorPosition_0 : List UInt8 := dkwX4_errorPosition_0 ++ []
theorem dksX4_errorPosition_0 : cX4_errorPosition.data.toList.drop 0 = dktX4_errorPosition_0 := by decide +kernel
theorem dX4_errorPosition_0 : decode cX4_errorPosition 0 = .ok (.aload_n 0, 1) := dk_42 (dk_at dksX4_errorPosition_0 0 rfl rfl)
theorem dX4_errorPosition_1 : decode cX4_errorPosition 1 = .ok (.iconst 0, 1) := dk_3 (dk_at dksX4_errorPosition_0 1 rfl rfl)
theorem dX4_errorPosition_2 : decode cX4_errorPosition 2 = .ok (.putfield 62, 3) := dk_181 0 62 (dk_at dksX4_errorPosition_0 2 rfl rfl)
theorem dX4_errorPosition_5 : decode cX4_errorPosition 5 = .ok (.aload_n 0, 1) := dk_42 (dk_at dksX4_errorPosition_0 5 rfl rfl)
theorem dX4_errorPosition_6 : decode cX4_errorPosition 6 = .ok (.getfield 46, 3) := dk_180 0 46 (dk_at dksX4_errorPosition_0 6 rfl rfl)
theorem dX4_errorPosition_9 : decode cX4_errorPosition 9 = .ok (.ireturn, 1) := dk_172 (dk_at dksX4_errorPosition_0 9 rfl rfl)
abbrev cX4_find : ByteArray := prog_19_method_24_code
def yX4_find : MethodName := ⟨RX4, "find", "()I"⟩
def dkwX4_find_5 : List UInt8 := [181, 0, 62, 29, 172, 132, 3, 1, 167, 255, 209, 3, 172]
abbrev dktX4_find_5 : List UInt8 := dkwX4_find_5 ++ []
def dkwX4_find_4 : List UInt8 := [184, 0, 171, 3, 96, 46, 153, 0, 21, 42, 180, 0, 13, 29, 47, 31, 148, 154, 0, 10, 42, 3]
abbrev dktX4_find_4 : List UInt8 := dkwX4_find_4 ++ dktX4_find_5
def dkwX4_find_3 : List UInt8 := [42, 4, 181, 0, 62, 3, 62, 29, 16, 6, 162, 0, 47, 31, 9, 148, 158, 0, 41, 42, 180, 0, 7, 29]
abbrev dktX4_find_3 : List UInt8 := dkwX4_find_3 ++ dktX4_find_4
def dkwX4_find_2 : List UInt8 := [20, 0, 86, 101, 10, 97, 167, 0, 6, 20, 0, 109, 64, 132, 3, 1, 167, 255, 199, 42, 3, 181, 0, 65]
abbrev dktX4_find_2 : List UInt8 := dkwX4_find_2 ++ dktX4_find_3
def dkwX4_find_1 : List UInt8 := [162, 0, 31, 31, 9, 148, 155, 0, 25, 20, 0, 107, 31, 105, 42, 180, 0, 43, 29, 46, 133, 97]
abbrev dktX4_find_1 : List UInt8 := dkwX4_find_1 ++ dktX4_find_2
def dkwX4_find_0 : List UInt8 := [9, 64, 3, 62, 29, 42, 180, 0, 65, 162, 0, 55, 42, 29, 182, 0, 104, 153, 0, 37, 29, 16, 8]
abbrev dktX4_find_0 : List UInt8 := dkwX4_find_0 ++ dktX4_find_1
theorem dksX4_find_0 : cX4_find.data.toList.drop 0 = dktX4_find_0 := by decide +kernel
theorem dksX4_find_1 : cX4_find.data.toList.drop 23 = dktX4_find_1 := dk_seg dksX4_find_0 23 rfl rfl
theorem dksX4_find_2 : cX4_find.data.toList.drop 45 = dktX4_find_2 := dk_seg dksX4_find_1 22 rfl rfl
theorem dksX4_find_3 : cX4_find.data.toList.drop 69 = dktX4_find_3 := dk_seg dksX4_find_2 24 rfl rfl
theorem dksX4_find_4 : cX4_find.data.toList.drop 93 = dktX4_find_4 := dk_seg dksX4_find_3 24 rfl rfl
theorem dksX4_find_5 : cX4_find.data.toList.drop 115 = dktX4_find_5 := dk_seg dksX4_find_4 22 rfl rfl
theorem dX4_find_0 : decode cX4_find 0 = .ok (.lconst 0, 1) := dk_9 (dk_at dksX4_find_0 0 rfl rfl)
theorem dX4_find_1 : decode cX4_find 1 = .ok (.lstore_n 1, 1) := dk_64 (dk_at dksX4_find_0 1 rfl rfl)
theorem dX4_find_2 : decode cX4_find 2 = .ok (.iconst 0, 1) := dk_3 (dk_at dksX4_find_0 2 rfl rfl)
theorem dX4_find_3 : decode cX4_find 3 = .ok (.istore_n 3, 1) := dk_62 (dk_at dksX4_find_0 3 rfl rfl)
theorem dX4_find_4 : decode cX4_find 4 = .ok (.iload_n 3, 1) := dk_29 (dk_at dksX4_find_0 4 rfl rfl)
theorem dX4_find_5 : decode cX4_find 5 = .ok (.aload_n 0, 1) := dk_42 (dk_at dksX4_find_0 5 rfl rfl)
theorem dX4_find_6 : decode cX4_find 6 = .ok (.getfield 65, 3) := dk_180 0 65 (dk_at dksX4_find_0 6 rfl rfl)
theorem dX4_find_9 : decode cX4_find 9 = .ok (.if_icmp .ge 55, 3) := dk_162 0 55 (dk_at dksX4_find_0 9 rfl rfl)
theorem dX4_find_12 : decode cX4_find 12 = .ok (.aload_n 0, 1) := dk_42 (dk_at dksX4_find_0 12 rfl rfl)
theorem dX4_find_13 : decode cX4_find 13 = .ok (.iload_n 3, 1) := dk_29 (dk_at dksX4_find_0 13 rfl rfl)
theorem dX4_find_14 : decode cX4_find 14 = .ok (.invokevirtual 104, 3) := dk_182 0 104 (dk_at dksX4_find_0 14 rfl rfl)
theorem dX4_find_17 : decode cX4_find 17 = .ok (.ifCond .eq 37, 3) := dk_153 0 37 (dk_at dksX4_find_0 17 rfl rfl)
theorem dX4_find_20 : decode cX4_find 20 = .ok (.iload_n 3, 1) := dk_29 (dk_at dksX4_find_0 20 rfl rfl)
theorem dX4_find_21 : decode cX4_find 21 = .ok (.bipush 8, 2) := dk_16 8 (dk_at dksX4_find_0 21 rfl rfl)
theorem dX4_find_23 : decode cX4_find 23 = .ok (.if_icmp .ge 31, 3) := dk_162 0 31 (dk_at dksX4_find_1 0 rfl rfl)
theorem dX4_find_26 : decode cX4_find 26 = .ok (.lload_n 1, 1) := dk_31 (dk_at dksX4_find_1 3 rfl rfl)
theorem dX4_find_27 : decode cX4_find 27 = .ok (.lconst 0, 1) := dk_9 (dk_at dksX4_find_1 4 rfl rfl)
theorem dX4_find_28 : decode cX4_find 28 = .ok (.lcmp, 1) := dk_148 (dk_at dksX4_find_1 5 rfl rfl)
theorem dX4_find_29 : decode cX4_find 29 = .ok (.ifCond .lt 25, 3) := dk_155 0 25 (dk_at dksX4_find_1 6 rfl rfl)
theorem dX4_find_32 : decode cX4_find 32 = .ok (.ldc2_w 107, 3) := dk_20 0 107 (dk_at dksX4_find_1 9 rfl rfl)
theorem dX4_find_35 : decode cX4_find 35 = .ok (.lload_n 1, 1) := dk_31 (dk_at dksX4_find_1 12 rfl rfl)
theorem dX4_find_36 : decode cX4_find 36 = .ok (.lmul, 1) := dk_105 (dk_at dksX4_find_1 13 rfl rfl)
theorem dX4_find_37 : decode cX4_find 37 = .ok (.aload_n 0, 1) := dk_42 (dk_at dksX4_find_1 14 rfl rfl)
theorem dX4_find_38 : decode cX4_find 38 = .ok (.getfield 43, 3) := dk_180 0 43 (dk_at dksX4_find_1 15 rfl rfl)
theorem dX4_find_41 : decode cX4_find 41 = .ok (.iload_n 3, 1) := dk_29 (dk_at dksX4_find_1 18 rfl rfl)
theorem dX4_find_42 : decode cX4_find 42 = .ok (.iaload, 1) := dk_46 (dk_at dksX4_find_1 19 rfl rfl)
theorem dX4_find_43 : decode cX4_find 43 = .ok (.i2l, 1) := dk_133 (dk_at dksX4_find_1 20 rfl rfl)
theorem dX4_find_44 : decode cX4_find 44 = .ok (.ladd, 1) := dk_97 (dk_at dksX4_find_1 21 rfl rfl)
theorem dX4_find_45 : decode cX4_find 45 = .ok (.ldc2_w 86, 3) := dk_20 0 86 (dk_at dksX4_find_2 0 rfl rfl)
theorem dX4_find_48 : decode cX4_find 48 = .ok (.lsub, 1) := dk_101 (dk_at dksX4_find_2 3 rfl rfl)
theorem dX4_find_49 : decode cX4_find 49 = .ok (.lconst 1, 1) := dk_10 (dk_at dksX4_find_2 4 rfl rfl)
theorem dX4_find_50 : decode cX4_find 50 = .ok (.ladd, 1) := dk_97 (dk_at dksX4_find_2 5 rfl rfl)
theorem dX4_find_51 : decode cX4_find 51 = .ok (.goto 6, 3) := dk_167 0 6 (dk_at dksX4_find_2 6 rfl rfl)
theorem dX4_find_54 : decode cX4_find 54 = .ok (.ldc2_w 109, 3) := dk_20 0 109 (dk_at dksX4_find_2 9 rfl rfl)
theorem dX4_find_57 : decode cX4_find 57 = .ok (.lstore_n 1, 1) := dk_64 (dk_at dksX4_find_2 12 rfl rfl)
theorem dX4_find_58 : decode cX4_find 58 = .ok (.iinc 3 1, 3) := dk_132 3 1 (dk_at dksX4_find_2 13 rfl rfl)
theorem dX4_find_61 : decode cX4_find 61 = .ok (.goto (-57), 3) := dk_167 255 199 (dk_at dksX4_find_2 16 rfl rfl)
theorem dX4_find_64 : decode cX4_find 64 = .ok (.aload_n 0, 1) := dk_42 (dk_at dksX4_find_2 19 rfl rfl)
theorem dX4_find_65 : decode cX4_find 65 = .ok (.iconst 0, 1) := dk_3 (dk_at dksX4_find_2 20 rfl rfl)
theorem dX4_find_66 : decode cX4_find 66 = .ok (.putfield 65, 3) := dk_181 0 65 (dk_at dksX4_find_2 21 rfl rfl)
theorem dX4_find_69 : decode cX4_find 69 = .ok (.aload_n 0, 1) := dk_42 (dk_at dksX4_find_3 0 rfl rfl)
theorem dX4_find_70 : decode cX4_find 70 = .ok (.iconst 1, 1) := dk_4 (dk_at dksX4_find_3 1 rfl rfl)
theorem dX4_find_71 : decode cX4_find 71 = .ok (.putfield 62, 3) := dk_181 0 62 (dk_at dksX4_find_3 2 rfl rfl)
theorem dX4_find_74 : decode cX4_find 74 = .ok (.iconst 0, 1) := dk_3 (dk_at dksX4_find_3 5 rfl rfl)
theorem dX4_find_75 : decode cX4_find 75 = .ok (.istore_n 3, 1) := dk_62 (dk_at dksX4_find_3 6 rfl rfl)
theorem dX4_find_76 : decode cX4_find 76 = .ok (.iload_n 3, 1) := dk_29 (dk_at dksX4_find_3 7 rfl rfl)
theorem dX4_find_77 : decode cX4_find 77 = .ok (.bipush 6, 2) := dk_16 6 (dk_at dksX4_find_3 8 rfl rfl)
theorem dX4_find_79 : decode cX4_find 79 = .ok (.if_icmp .ge 47, 3) := dk_162 0 47 (dk_at dksX4_find_3 10 rfl rfl)
theorem dX4_find_82 : decode cX4_find 82 = .ok (.lload_n 1, 1) := dk_31 (dk_at dksX4_find_3 13 rfl rfl)
theorem dX4_find_83 : decode cX4_find 83 = .ok (.lconst 0, 1) := dk_9 (dk_at dksX4_find_3 14 rfl rfl)
theorem dX4_find_84 : decode cX4_find 84 = .ok (.lcmp, 1) := dk_148 (dk_at dksX4_find_3 15 rfl rfl)
theorem dX4_find_85 : decode cX4_find 85 = .ok (.ifCond .le 41, 3) := dk_158 0 41 (dk_at dksX4_find_3 16 rfl rfl)
theorem dX4_find_88 : decode cX4_find 88 = .ok (.aload_n 0, 1) := dk_42 (dk_at dksX4_find_3 19 rfl rfl)
theorem dX4_find_89 : decode cX4_find 89 = .ok (.getfield 7, 3) := dk_180 0 7 (dk_at dksX4_find_3 20 rfl rfl)
theorem dX4_find_92 : decode cX4_find 92 = .ok (.iload_n 3, 1) := dk_29 (dk_at dksX4_find_3 23 rfl rfl)
theorem dX4_find_93 : decode cX4_find 93 = .ok (.invokestatic 171, 3) := dk_184 0 171 (dk_at dksX4_find_4 0 rfl rfl)
theorem dX4_find_96 : decode cX4_find 96 = .ok (.iconst 0, 1) := dk_3 (dk_at dksX4_find_4 3 rfl rfl)
theorem dX4_find_97 : decode cX4_find 97 = .ok (.iadd, 1) := dk_96 (dk_at dksX4_find_4 4 rfl rfl)
theorem dX4_find_98 : decode cX4_find 98 = .ok (.iaload, 1) := dk_46 (dk_at dksX4_find_4 5 rfl rfl)
theorem dX4_find_99 : decode cX4_find 99 = .ok (.ifCond .eq 21, 3) := dk_153 0 21 (dk_at dksX4_find_4 6 rfl rfl)
theorem dX4_find_102 : decode cX4_find 102 = .ok (.aload_n 0, 1) := dk_42 (dk_at dksX4_find_4 9 rfl rfl)
theorem dX4_find_103 : decode cX4_find 103 = .ok (.getfield 13, 3) := dk_180 0 13 (dk_at dksX4_find_4 10 rfl rfl)
theorem dX4_find_106 : decode cX4_find 106 = .ok (.iload_n 3, 1) := dk_29 (dk_at dksX4_find_4 13 rfl rfl)
theorem dX4_find_107 : decode cX4_find 107 = .ok (.laload, 1) := dk_47 (dk_at dksX4_find_4 14 rfl rfl)
theorem dX4_find_108 : decode cX4_find 108 = .ok (.lload_n 1, 1) := dk_31 (dk_at dksX4_find_4 15 rfl rfl)
theorem dX4_find_109 : decode cX4_find 109 = .ok (.lcmp, 1) := dk_148 (dk_at dksX4_find_4 16 rfl rfl)
theorem dX4_find_110 : decode cX4_find 110 = .ok (.ifCond .ne 10, 3) := dk_154 0 10 (dk_at dksX4_find_4 17 rfl rfl)
theorem dX4_find_113 : decode cX4_find 113 = .ok (.aload_n 0, 1) := dk_42 (dk_at dksX4_find_4 20 rfl rfl)
theorem dX4_find_114 : decode cX4_find 114 = .ok (.iconst 0, 1) := dk_3 (dk_at dksX4_find_4 21 rfl rfl)
theorem dX4_find_115 : decode cX4_find 115 = .ok (.putfield 62, 3) := dk_181 0 62 (dk_at dksX4_find_5 0 rfl rfl)
theorem dX4_find_118 : decode cX4_find 118 = .ok (.iload_n 3, 1) := dk_29 (dk_at dksX4_find_5 3 rfl rfl)
theorem dX4_find_119 : decode cX4_find 119 = .ok (.ireturn, 1) := dk_172 (dk_at dksX4_find_5 4 rfl rfl)
theorem dX4_find_120 : decode cX4_find 120 = .ok (.iinc 3 1, 3) := dk_132 3 1 (dk_at dksX4_find_5 5 rfl rfl)
theorem dX4_find_123 : decode cX4_find 123 = .ok (.goto (-47), 3) := dk_167 255 209 (dk_at dksX4_find_5 8 rfl rfl)
theorem dX4_find_126 : decode cX4_find 126 = .ok (.iconst 0, 1) := dk_3 (dk_at dksX4_find_5 11 rfl rfl)
theorem dX4_find_127 : decode cX4_find 127 = .ok (.ireturn, 1) := dk_172 (dk_at dksX4_find_5 12 rfl rfl)
abbrev cX4_exists : ByteArray := prog_19_method_46_code
def yX4_exists : MethodName := ⟨RX4, "exists", "(I)Z"⟩
def dkwX4_exists_0 : List UInt8 := [42, 3, 181, 0, 62, 42, 27, 182, 0, 183, 172]
abbrev dktX4_exists_0 : List UInt8 := dkwX4_exists_0 ++ []
theorem dksX4_exists_0 : cX4_exists.data.toList.drop 0 = dktX4_exists_0 := by decide +kernel
theorem dX4_exists_0 : decode cX4_exists 0 = .ok (.aload_n 0, 1) := dk_42 (dk_at dksX4_exists_0 0 rfl rfl)
theorem dX4_exists_1 : decode cX4_exists 1 = .ok (.iconst 0, 1) := dk_3 (dk_at dksX4_exists_0 1 rfl rfl)
theorem dX4_exists_2 : decode cX4_exists 2 = .ok (.putfield 62, 3) := dk_181 0 62 (dk_at dksX4_exists_0 2 rfl rfl)
theorem dX4_exists_5 : decode cX4_exists 5 = .ok (.aload_n 0, 1) := dk_42 (dk_at dksX4_exists_0 5 rfl rfl)
theorem dX4_exists_6 : decode cX4_exists 6 = .ok (.iload_n 1, 1) := dk_27 (dk_at dksX4_exists_0 6 rfl rfl)
theorem dX4_exists_7 : decode cX4_exists 7 = .ok (.invokevirtual 183, 3) := dk_182 0 183 (dk_at dksX4_exists_0 7 rfl rfl)
theorem dX4_exists_10 : decode cX4_exists 10 = .ok (.ireturn, 1) := dk_172 (dk_at dksX4_exists_0 10 rfl rfl)
abbrev cX4_isList : ByteArray := prog_19_method_26_code
def yX4_isList : MethodName := ⟨RX4, "isList", "(I)Z"⟩
def dkwX4_isList_1 : List UInt8 := [153, 0, 7, 4, 167, 0, 4, 3, 172]
abbrev dktX4_isList_1 : List UInt8 := dkwX4_isList_1 ++ []
def dkwX4_isList_0 : List UInt8 := [27, 133, 9, 20, 0, 181, 184, 0, 72, 153, 0, 21, 42, 180, 0, 7, 27, 184, 0, 171, 3, 96, 46]
abbrev dktX4_isList_0 : List UInt8 := dkwX4_isList_0 ++ dktX4_isList_1
theorem dksX4_isList_0 : cX4_isList.data.toList.drop 0 = dktX4_isList_0 := by decide +kernel
theorem dksX4_isList_1 : cX4_isList.data.toList.drop 23 = dktX4_isList_1 := dk_seg dksX4_isList_0 23 rfl rfl
theorem dX4_isList_0 : decode cX4_isList 0 = .ok (.iload_n 1, 1) := dk_27 (dk_at dksX4_isList_0 0 rfl rfl)
theorem dX4_isList_1 : decode cX4_isList 1 = .ok (.i2l, 1) := dk_133 (dk_at dksX4_isList_0 1 rfl rfl)
theorem dX4_isList_2 : decode cX4_isList 2 = .ok (.lconst 0, 1) := dk_9 (dk_at dksX4_isList_0 2 rfl rfl)
theorem dX4_isList_3 : decode cX4_isList 3 = .ok (.ldc2_w 181, 3) := dk_20 0 181 (dk_at dksX4_isList_0 3 rfl rfl)
theorem dX4_isList_6 : decode cX4_isList 6 = .ok (.invokestatic 72, 3) := dk_184 0 72 (dk_at dksX4_isList_0 6 rfl rfl)
theorem dX4_isList_9 : decode cX4_isList 9 = .ok (.ifCond .eq 21, 3) := dk_153 0 21 (dk_at dksX4_isList_0 9 rfl rfl)
theorem dX4_isList_12 : decode cX4_isList 12 = .ok (.aload_n 0, 1) := dk_42 (dk_at dksX4_isList_0 12 rfl rfl)
theorem dX4_isList_13 : decode cX4_isList 13 = .ok (.getfield 7, 3) := dk_180 0 7 (dk_at dksX4_isList_0 13 rfl rfl)
theorem dX4_isList_16 : decode cX4_isList 16 = .ok (.iload_n 1, 1) := dk_27 (dk_at dksX4_isList_0 16 rfl rfl)
theorem dX4_isList_17 : decode cX4_isList 17 = .ok (.invokestatic 171, 3) := dk_184 0 171 (dk_at dksX4_isList_0 17 rfl rfl)
theorem dX4_isList_20 : decode cX4_isList 20 = .ok (.iconst 0, 1) := dk_3 (dk_at dksX4_isList_0 20 rfl rfl)
theorem dX4_isList_21 : decode cX4_isList 21 = .ok (.iadd, 1) := dk_96 (dk_at dksX4_isList_0 21 rfl rfl)
theorem dX4_isList_22 : decode cX4_isList 22 = .ok (.iaload, 1) := dk_46 (dk_at dksX4_isList_0 22 rfl rfl)
theorem dX4_isList_23 : decode cX4_isList 23 = .ok (.ifCond .eq 7, 3) := dk_153 0 7 (dk_at dksX4_isList_1 0 rfl rfl)
theorem dX4_isList_26 : decode cX4_isList 26 = .ok (.iconst 1, 1) := dk_4 (dk_at dksX4_isList_1 3 rfl rfl)
theorem dX4_isList_27 : decode cX4_isList 27 = .ok (.goto 4, 3) := dk_167 0 4 (dk_at dksX4_isList_1 4 rfl rfl)
theorem dX4_isList_30 : decode cX4_isList 30 = .ok (.iconst 0, 1) := dk_3 (dk_at dksX4_isList_1 7 rfl rfl)
theorem dX4_isList_31 : decode cX4_isList 31 = .ok (.ireturn, 1) := dk_172 (dk_at dksX4_isList_1 8 rfl rfl)
abbrev cX4_limit : ByteArray := prog_19_method_47_code
def yX4_limit : MethodName := ⟨RX4, "limit", "()I"⟩
def dkwX4_limit_0 : List UInt8 := [42, 3, 181, 0, 62, 42, 180, 0, 7, 3, 46, 172]
abbrev dktX4_limit_0 : List UInt8 := dkwX4_limit_0 ++ []
theorem dksX4_limit_0 : cX4_limit.data.toList.drop 0 = dktX4_limit_0 := by decide +kernel
theorem dX4_limit_0 : decode cX4_limit 0 = .ok (.aload_n 0, 1) := dk_42 (dk_at dksX4_limit_0 0 rfl rfl)
theorem dX4_limit_1 : decode cX4_limit 1 = .ok (.iconst 0, 1) := dk_3 (dk_at dksX4_limit_0 1 rfl rfl)
theorem dX4_limit_2 : decode cX4_limit 2 = .ok (.putfield 62, 3) := dk_181 0 62 (dk_at dksX4_limit_0 2 rfl rfl)
theorem dX4_limit_5 : decode cX4_limit 5 = .ok (.aload_n 0, 1) := dk_42 (dk_at dksX4_limit_0 5 rfl rfl)
theorem dX4_limit_6 : decode cX4_limit 6 = .ok (.getfield 7, 3) := dk_180 0 7 (dk_at dksX4_limit_0 6 rfl rfl)
theorem dX4_limit_9 : decode cX4_limit 9 = .ok (.iconst 0, 1) := dk_3 (dk_at dksX4_limit_0 9 rfl rfl)
theorem dX4_limit_10 : decode cX4_limit 10 = .ok (.iaload, 1) := dk_46 (dk_at dksX4_limit_0 10 rfl rfl)
theorem dX4_limit_11 : decode cX4_limit 11 = .ok (.ireturn, 1) := dk_172 (dk_at dksX4_limit_0 11 rfl rfl)
abbrev cX4_size : ByteArray := prog_19_method_48_code
def yX4_size : MethodName := ⟨RX4, "size", "(I)I"⟩
def dkwX4_size_1 : List UInt8 := [3, 167, 0, 14, 42, 180, 0, 7, 27, 184, 0, 171, 4, 96, 46, 172]
abbrev dktX4_size_1 : List UInt8 := dkwX4_size_1 ++ []
def dkwX4_size_0 : List UInt8 := [42, 42, 27, 182, 0, 183, 153, 0, 7, 3, 167, 0, 4, 4, 181, 0, 62, 42, 180, 0, 62, 158, 0, 7]
abbrev dktX4_size_0 : List UInt8 := dkwX4_size_0 ++ dktX4_size_1
theorem dksX4_size_0 : cX4_size.data.toList.drop 0 = dktX4_size_0 := by decide +kernel
theorem dksX4_size_1 : cX4_size.data.toList.drop 24 = dktX4_size_1 := dk_seg dksX4_size_0 24 rfl rfl
theorem dX4_size_0 : decode cX4_size 0 = .ok (.aload_n 0, 1) := dk_42 (dk_at dksX4_size_0 0 rfl rfl)
theorem dX4_size_1 : decode cX4_size 1 = .ok (.aload_n 0, 1) := dk_42 (dk_at dksX4_size_0 1 rfl rfl)
theorem dX4_size_2 : decode cX4_size 2 = .ok (.iload_n 1, 1) := dk_27 (dk_at dksX4_size_0 2 rfl rfl)
theorem dX4_size_3 : decode cX4_size 3 = .ok (.invokevirtual 183, 3) := dk_182 0 183 (dk_at dksX4_size_0 3 rfl rfl)
theorem dX4_size_6 : decode cX4_size 6 = .ok (.ifCond .eq 7, 3) := dk_153 0 7 (dk_at dksX4_size_0 6 rfl rfl)
theorem dX4_size_9 : decode cX4_size 9 = .ok (.iconst 0, 1) := dk_3 (dk_at dksX4_size_0 9 rfl rfl)
theorem dX4_size_10 : decode cX4_size 10 = .ok (.goto 4, 3) := dk_167 0 4 (dk_at dksX4_size_0 10 rfl rfl)
theorem dX4_size_13 : decode cX4_size 13 = .ok (.iconst 1, 1) := dk_4 (dk_at dksX4_size_0 13 rfl rfl)
theorem dX4_size_14 : decode cX4_size 14 = .ok (.putfield 62, 3) := dk_181 0 62 (dk_at dksX4_size_0 14 rfl rfl)
theorem dX4_size_17 : decode cX4_size 17 = .ok (.aload_n 0, 1) := dk_42 (dk_at dksX4_size_0 17 rfl rfl)
theorem dX4_size_18 : decode cX4_size 18 = .ok (.getfield 62, 3) := dk_180 0 62 (dk_at dksX4_size_0 18 rfl rfl)
theorem dX4_size_21 : decode cX4_size 21 = .ok (.ifCond .le 7, 3) := dk_158 0 7 (dk_at dksX4_size_0 21 rfl rfl)
theorem dX4_size_24 : decode cX4_size 24 = .ok (.iconst 0, 1) := dk_3 (dk_at dksX4_size_1 0 rfl rfl)
theorem dX4_size_25 : decode cX4_size 25 = .ok (.goto 14, 3) := dk_167 0 14 (dk_at dksX4_size_1 1 rfl rfl)
theorem dX4_size_28 : decode cX4_size 28 = .ok (.aload_n 0, 1) := dk_42 (dk_at dksX4_size_1 4 rfl rfl)
theorem dX4_size_29 : decode cX4_size 29 = .ok (.getfield 7, 3) := dk_180 0 7 (dk_at dksX4_size_1 5 rfl rfl)
theorem dX4_size_32 : decode cX4_size 32 = .ok (.iload_n 1, 1) := dk_27 (dk_at dksX4_size_1 8 rfl rfl)
theorem dX4_size_33 : decode cX4_size 33 = .ok (.invokestatic 171, 3) := dk_184 0 171 (dk_at dksX4_size_1 9 rfl rfl)
theorem dX4_size_36 : decode cX4_size 36 = .ok (.iconst 1, 1) := dk_4 (dk_at dksX4_size_1 12 rfl rfl)
theorem dX4_size_37 : decode cX4_size 37 = .ok (.iadd, 1) := dk_96 (dk_at dksX4_size_1 13 rfl rfl)
theorem dX4_size_38 : decode cX4_size 38 = .ok (.iaload, 1) := dk_46 (dk_at dksX4_size_1 14 rfl rfl)
theorem dX4_size_39 : decode cX4_size 39 = .ok (.ireturn, 1) := dk_172 (dk_at dksX4_size_1 15 rfl rfl)
abbrev cX4_height : ByteArray := prog_19_method_49_code
def yX4_height : MethodName := ⟨RX4, "height", "(I)I"⟩
def dkwX4_height_1 : List UInt8 := [3, 167, 0, 8, 42, 27, 182, 0, 194, 172]
abbrev dktX4_height_1 : List UInt8 := dkwX4_height_1 ++ []
def dkwX4_height_0 : List UInt8 := [42, 42, 27, 182, 0, 183, 153, 0, 7, 3, 167, 0, 4, 4, 181, 0, 62, 42, 180, 0, 62, 158, 0, 7]
abbrev dktX4_height_0 : List UInt8 := dkwX4_height_0 ++ dktX4_height_1
theorem dksX4_height_0 : cX4_height.data.toList.drop 0 = dktX4_height_0 := by decide +kernel
theorem dksX4_height_1 : cX4_height.data.toList.drop 24 = dktX4_height_1 := dk_seg dksX4_height_0 24 rfl rfl
theorem dX4_height_0 : decode cX4_height 0 = .ok (.aload_n 0, 1) := dk_42 (dk_at dksX4_height_0 0 rfl rfl)
theorem dX4_height_1 : decode cX4_height 1 = .ok (.aload_n 0, 1) := dk_42 (dk_at dksX4_height_0 1 rfl rfl)
theorem dX4_height_2 : decode cX4_height 2 = .ok (.iload_n 1, 1) := dk_27 (dk_at dksX4_height_0 2 rfl rfl)
theorem dX4_height_3 : decode cX4_height 3 = .ok (.invokevirtual 183, 3) := dk_182 0 183 (dk_at dksX4_height_0 3 rfl rfl)
theorem dX4_height_6 : decode cX4_height 6 = .ok (.ifCond .eq 7, 3) := dk_153 0 7 (dk_at dksX4_height_0 6 rfl rfl)
theorem dX4_height_9 : decode cX4_height 9 = .ok (.iconst 0, 1) := dk_3 (dk_at dksX4_height_0 9 rfl rfl)
theorem dX4_height_10 : decode cX4_height 10 = .ok (.goto 4, 3) := dk_167 0 4 (dk_at dksX4_height_0 10 rfl rfl)
theorem dX4_height_13 : decode cX4_height 13 = .ok (.iconst 1, 1) := dk_4 (dk_at dksX4_height_0 13 rfl rfl)
theorem dX4_height_14 : decode cX4_height 14 = .ok (.putfield 62, 3) := dk_181 0 62 (dk_at dksX4_height_0 14 rfl rfl)
theorem dX4_height_17 : decode cX4_height 17 = .ok (.aload_n 0, 1) := dk_42 (dk_at dksX4_height_0 17 rfl rfl)
theorem dX4_height_18 : decode cX4_height 18 = .ok (.getfield 62, 3) := dk_180 0 62 (dk_at dksX4_height_0 18 rfl rfl)
theorem dX4_height_21 : decode cX4_height 21 = .ok (.ifCond .le 7, 3) := dk_158 0 7 (dk_at dksX4_height_0 21 rfl rfl)
theorem dX4_height_24 : decode cX4_height 24 = .ok (.iconst 0, 1) := dk_3 (dk_at dksX4_height_1 0 rfl rfl)
theorem dX4_height_25 : decode cX4_height 25 = .ok (.goto 8, 3) := dk_167 0 8 (dk_at dksX4_height_1 1 rfl rfl)
theorem dX4_height_28 : decode cX4_height 28 = .ok (.aload_n 0, 1) := dk_42 (dk_at dksX4_height_1 4 rfl rfl)
theorem dX4_height_29 : decode cX4_height 29 = .ok (.iload_n 1, 1) := dk_27 (dk_at dksX4_height_1 5 rfl rfl)
theorem dX4_height_30 : decode cX4_height 30 = .ok (.invokevirtual 194, 3) := dk_182 0 194 (dk_at dksX4_height_1 6 rfl rfl)
theorem dX4_height_33 : decode cX4_height 33 = .ok (.ireturn, 1) := dk_172 (dk_at dksX4_height_1 9 rfl rfl)
abbrev cX4_keyAt : ByteArray := prog_19_method_51_code
def yX4_keyAt : MethodName := ⟨RX4, "keyAt", "(II)I"⟩
def dkwX4_keyAt_0 : List UInt8 := [42, 27, 28, 5, 182, 0, 229, 172]
abbrev dktX4_keyAt_0 : List UInt8 := dkwX4_keyAt_0 ++ []
theorem dksX4_keyAt_0 : cX4_keyAt.data.toList.drop 0 = dktX4_keyAt_0 := by decide +kernel
theorem dX4_keyAt_0 : decode cX4_keyAt 0 = .ok (.aload_n 0, 1) := dk_42 (dk_at dksX4_keyAt_0 0 rfl rfl)
theorem dX4_keyAt_1 : decode cX4_keyAt 1 = .ok (.iload_n 1, 1) := dk_27 (dk_at dksX4_keyAt_0 1 rfl rfl)
theorem dX4_keyAt_2 : decode cX4_keyAt 2 = .ok (.iload_n 2, 1) := dk_28 (dk_at dksX4_keyAt_0 2 rfl rfl)
theorem dX4_keyAt_3 : decode cX4_keyAt 3 = .ok (.iconst 2, 1) := dk_5 (dk_at dksX4_keyAt_0 3 rfl rfl)
theorem dX4_keyAt_4 : decode cX4_keyAt 4 = .ok (.invokevirtual 229, 3) := dk_182 0 229 (dk_at dksX4_keyAt_0 4 rfl rfl)
theorem dX4_keyAt_7 : decode cX4_keyAt 7 = .ok (.ireturn, 1) := dk_172 (dk_at dksX4_keyAt_0 7 rfl rfl)
abbrev cX4_elementAt : ByteArray := prog_19_method_50_code
def yX4_elementAt : MethodName := ⟨RX4, "elementAt", "(III)I"⟩
def dkwX4_elementAt_1 : List UInt8 := [158, 0, 7, 3, 167, 0, 16, 42, 180, 0, 7, 27, 184, 0, 171, 29, 96, 28, 96, 46, 172]
abbrev dktX4_elementAt_1 : List UInt8 := dkwX4_elementAt_1 ++ []
def dkwX4_elementAt_0 : List UInt8 := [42, 42, 27, 28, 182, 0, 225, 153, 0, 7, 3, 167, 0, 4, 4, 181, 0, 62, 42, 180, 0, 62]
abbrev dktX4_elementAt_0 : List UInt8 := dkwX4_elementAt_0 ++ dktX4_elementAt_1
theorem dksX4_elementAt_0 : cX4_elementAt.data.toList.drop 0 = dktX4_elementAt_0 := by decide +kernel
theorem dksX4_elementAt_1 : cX4_elementAt.data.toList.drop 22 = dktX4_elementAt_1 := dk_seg dksX4_elementAt_0 22 rfl rfl
theorem dX4_elementAt_0 : decode cX4_elementAt 0 = .ok (.aload_n 0, 1) := dk_42 (dk_at dksX4_elementAt_0 0 rfl rfl)
theorem dX4_elementAt_1 : decode cX4_elementAt 1 = .ok (.aload_n 0, 1) := dk_42 (dk_at dksX4_elementAt_0 1 rfl rfl)
theorem dX4_elementAt_2 : decode cX4_elementAt 2 = .ok (.iload_n 1, 1) := dk_27 (dk_at dksX4_elementAt_0 2 rfl rfl)
theorem dX4_elementAt_3 : decode cX4_elementAt 3 = .ok (.iload_n 2, 1) := dk_28 (dk_at dksX4_elementAt_0 3 rfl rfl)
theorem dX4_elementAt_4 : decode cX4_elementAt 4 = .ok (.invokevirtual 225, 3) := dk_182 0 225 (dk_at dksX4_elementAt_0 4 rfl rfl)
theorem dX4_elementAt_7 : decode cX4_elementAt 7 = .ok (.ifCond .eq 7, 3) := dk_153 0 7 (dk_at dksX4_elementAt_0 7 rfl rfl)
theorem dX4_elementAt_10 : decode cX4_elementAt 10 = .ok (.iconst 0, 1) := dk_3 (dk_at dksX4_elementAt_0 10 rfl rfl)
theorem dX4_elementAt_11 : decode cX4_elementAt 11 = .ok (.goto 4, 3) := dk_167 0 4 (dk_at dksX4_elementAt_0 11 rfl rfl)
theorem dX4_elementAt_14 : decode cX4_elementAt 14 = .ok (.iconst 1, 1) := dk_4 (dk_at dksX4_elementAt_0 14 rfl rfl)
theorem dX4_elementAt_15 : decode cX4_elementAt 15 = .ok (.putfield 62, 3) := dk_181 0 62 (dk_at dksX4_elementAt_0 15 rfl rfl)
theorem dX4_elementAt_18 : decode cX4_elementAt 18 = .ok (.aload_n 0, 1) := dk_42 (dk_at dksX4_elementAt_0 18 rfl rfl)
theorem dX4_elementAt_19 : decode cX4_elementAt 19 = .ok (.getfield 62, 3) := dk_180 0 62 (dk_at dksX4_elementAt_0 19 rfl rfl)
theorem dX4_elementAt_22 : decode cX4_elementAt 22 = .ok (.ifCond .le 7, 3) := dk_158 0 7 (dk_at dksX4_elementAt_1 0 rfl rfl)
theorem dX4_elementAt_25 : decode cX4_elementAt 25 = .ok (.iconst 0, 1) := dk_3 (dk_at dksX4_elementAt_1 3 rfl rfl)
theorem dX4_elementAt_26 : decode cX4_elementAt 26 = .ok (.goto 16, 3) := dk_167 0 16 (dk_at dksX4_elementAt_1 4 rfl rfl)
theorem dX4_elementAt_29 : decode cX4_elementAt 29 = .ok (.aload_n 0, 1) := dk_42 (dk_at dksX4_elementAt_1 7 rfl rfl)
theorem dX4_elementAt_30 : decode cX4_elementAt 30 = .ok (.getfield 7, 3) := dk_180 0 7 (dk_at dksX4_elementAt_1 8 rfl rfl)
theorem dX4_elementAt_33 : decode cX4_elementAt 33 = .ok (.iload_n 1, 1) := dk_27 (dk_at dksX4_elementAt_1 11 rfl rfl)
theorem dX4_elementAt_34 : decode cX4_elementAt 34 = .ok (.invokestatic 171, 3) := dk_184 0 171 (dk_at dksX4_elementAt_1 12 rfl rfl)
theorem dX4_elementAt_37 : decode cX4_elementAt 37 = .ok (.iload_n 3, 1) := dk_29 (dk_at dksX4_elementAt_1 15 rfl rfl)
theorem dX4_elementAt_38 : decode cX4_elementAt 38 = .ok (.iadd, 1) := dk_96 (dk_at dksX4_elementAt_1 16 rfl rfl)
theorem dX4_elementAt_39 : decode cX4_elementAt 39 = .ok (.iload_n 2, 1) := dk_28 (dk_at dksX4_elementAt_1 17 rfl rfl)
theorem dX4_elementAt_40 : decode cX4_elementAt 40 = .ok (.iadd, 1) := dk_96 (dk_at dksX4_elementAt_1 18 rfl rfl)
theorem dX4_elementAt_41 : decode cX4_elementAt 41 = .ok (.iaload, 1) := dk_46 (dk_at dksX4_elementAt_1 19 rfl rfl)
theorem dX4_elementAt_42 : decode cX4_elementAt 42 = .ok (.ireturn, 1) := dk_172 (dk_at dksX4_elementAt_1 20 rfl rfl)
abbrev cX4_isPlace : ByteArray := prog_19_method_27_code
def yX4_isPlace : MethodName := ⟨RX4, "isPlace", "(II)Z"⟩
def dkwX4_isPlace_1 : List UInt8 := [133, 184, 0, 72, 153, 0, 7, 4, 167, 0, 4, 3, 172]
abbrev dktX4_isPlace_1 : List UInt8 := dkwX4_isPlace_1 ++ []
def dkwX4_isPlace_0 : List UInt8 := [42, 27, 182, 0, 183, 153, 0, 30, 28, 133, 9, 42, 180, 0, 7, 27, 184, 0, 171, 4, 96, 46, 4, 100]
abbrev dktX4_isPlace_0 : List UInt8 := dkwX4_isPlace_0 ++ dktX4_isPlace_1
theorem dksX4_isPlace_0 : cX4_isPlace.data.toList.drop 0 = dktX4_isPlace_0 := by decide +kernel
theorem dksX4_isPlace_1 : cX4_isPlace.data.toList.drop 24 = dktX4_isPlace_1 := dk_seg dksX4_isPlace_0 24 rfl rfl
theorem dX4_isPlace_0 : decode cX4_isPlace 0 = .ok (.aload_n 0, 1) := dk_42 (dk_at dksX4_isPlace_0 0 rfl rfl)
theorem dX4_isPlace_1 : decode cX4_isPlace 1 = .ok (.iload_n 1, 1) := dk_27 (dk_at dksX4_isPlace_0 1 rfl rfl)
theorem dX4_isPlace_2 : decode cX4_isPlace 2 = .ok (.invokevirtual 183, 3) := dk_182 0 183 (dk_at dksX4_isPlace_0 2 rfl rfl)
theorem dX4_isPlace_5 : decode cX4_isPlace 5 = .ok (.ifCond .eq 30, 3) := dk_153 0 30 (dk_at dksX4_isPlace_0 5 rfl rfl)
theorem dX4_isPlace_8 : decode cX4_isPlace 8 = .ok (.iload_n 2, 1) := dk_28 (dk_at dksX4_isPlace_0 8 rfl rfl)
theorem dX4_isPlace_9 : decode cX4_isPlace 9 = .ok (.i2l, 1) := dk_133 (dk_at dksX4_isPlace_0 9 rfl rfl)
theorem dX4_isPlace_10 : decode cX4_isPlace 10 = .ok (.lconst 0, 1) := dk_9 (dk_at dksX4_isPlace_0 10 rfl rfl)
theorem dX4_isPlace_11 : decode cX4_isPlace 11 = .ok (.aload_n 0, 1) := dk_42 (dk_at dksX4_isPlace_0 11 rfl rfl)
theorem dX4_isPlace_12 : decode cX4_isPlace 12 = .ok (.getfield 7, 3) := dk_180 0 7 (dk_at dksX4_isPlace_0 12 rfl rfl)
theorem dX4_isPlace_15 : decode cX4_isPlace 15 = .ok (.iload_n 1, 1) := dk_27 (dk_at dksX4_isPlace_0 15 rfl rfl)
theorem dX4_isPlace_16 : decode cX4_isPlace 16 = .ok (.invokestatic 171, 3) := dk_184 0 171 (dk_at dksX4_isPlace_0 16 rfl rfl)
theorem dX4_isPlace_19 : decode cX4_isPlace 19 = .ok (.iconst 1, 1) := dk_4 (dk_at dksX4_isPlace_0 19 rfl rfl)
theorem dX4_isPlace_20 : decode cX4_isPlace 20 = .ok (.iadd, 1) := dk_96 (dk_at dksX4_isPlace_0 20 rfl rfl)
theorem dX4_isPlace_21 : decode cX4_isPlace 21 = .ok (.iaload, 1) := dk_46 (dk_at dksX4_isPlace_0 21 rfl rfl)
theorem dX4_isPlace_22 : decode cX4_isPlace 22 = .ok (.iconst 1, 1) := dk_4 (dk_at dksX4_isPlace_0 22 rfl rfl)
theorem dX4_isPlace_23 : decode cX4_isPlace 23 = .ok (.isub, 1) := dk_100 (dk_at dksX4_isPlace_0 23 rfl rfl)
theorem dX4_isPlace_24 : decode cX4_isPlace 24 = .ok (.i2l, 1) := dk_133 (dk_at dksX4_isPlace_1 0 rfl rfl)
theorem dX4_isPlace_25 : decode cX4_isPlace 25 = .ok (.invokestatic 72, 3) := dk_184 0 72 (dk_at dksX4_isPlace_1 1 rfl rfl)
theorem dX4_isPlace_28 : decode cX4_isPlace 28 = .ok (.ifCond .eq 7, 3) := dk_153 0 7 (dk_at dksX4_isPlace_1 4 rfl rfl)
theorem dX4_isPlace_31 : decode cX4_isPlace 31 = .ok (.iconst 1, 1) := dk_4 (dk_at dksX4_isPlace_1 7 rfl rfl)
theorem dX4_isPlace_32 : decode cX4_isPlace 32 = .ok (.goto 4, 3) := dk_167 0 4 (dk_at dksX4_isPlace_1 8 rfl rfl)
theorem dX4_isPlace_35 : decode cX4_isPlace 35 = .ok (.iconst 0, 1) := dk_3 (dk_at dksX4_isPlace_1 11 rfl rfl)
theorem dX4_isPlace_36 : decode cX4_isPlace 36 = .ok (.ireturn, 1) := dk_172 (dk_at dksX4_isPlace_1 12 rfl rfl)
abbrev cX4_valueAt : ByteArray := prog_19_method_52_code
def yX4_valueAt : MethodName := ⟨RX4, "valueAt", "(II)I"⟩
def dkwX4_valueAt_0 : List UInt8 := [42, 27, 28, 16, 62, 182, 0, 229, 172]
abbrev dktX4_valueAt_0 : List UInt8 := dkwX4_valueAt_0 ++ []
theorem dksX4_valueAt_0 : cX4_valueAt.data.toList.drop 0 = dktX4_valueAt_0 := by decide +kernel
theorem dX4_valueAt_0 : decode cX4_valueAt 0 = .ok (.aload_n 0, 1) := dk_42 (dk_at dksX4_valueAt_0 0 rfl rfl)
theorem dX4_valueAt_1 : decode cX4_valueAt 1 = .ok (.iload_n 1, 1) := dk_27 (dk_at dksX4_valueAt_0 1 rfl rfl)
theorem dX4_valueAt_2 : decode cX4_valueAt 2 = .ok (.iload_n 2, 1) := dk_28 (dk_at dksX4_valueAt_0 2 rfl rfl)
theorem dX4_valueAt_3 : decode cX4_valueAt 3 = .ok (.bipush 62, 2) := dk_16 62 (dk_at dksX4_valueAt_0 3 rfl rfl)
theorem dX4_valueAt_5 : decode cX4_valueAt 5 = .ok (.invokevirtual 229, 3) := dk_182 0 229 (dk_at dksX4_valueAt_0 5 rfl rfl)
theorem dX4_valueAt_8 : decode cX4_valueAt 8 = .ok (.ireturn, 1) := dk_172 (dk_at dksX4_valueAt_0 8 rfl rfl)
abbrev cX4_heightAt : ByteArray := prog_19_method_53_code
def yX4_heightAt : MethodName := ⟨RX4, "heightAt", "(II)I"⟩
def dkwX4_heightAt_0 : List UInt8 := [42, 27, 28, 16, 122, 182, 0, 229, 172]
abbrev dktX4_heightAt_0 : List UInt8 := dkwX4_heightAt_0 ++ []
theorem dksX4_heightAt_0 : cX4_heightAt.data.toList.drop 0 = dktX4_heightAt_0 := by decide +kernel
theorem dX4_heightAt_0 : decode cX4_heightAt 0 = .ok (.aload_n 0, 1) := dk_42 (dk_at dksX4_heightAt_0 0 rfl rfl)
theorem dX4_heightAt_1 : decode cX4_heightAt 1 = .ok (.iload_n 1, 1) := dk_27 (dk_at dksX4_heightAt_0 1 rfl rfl)
theorem dX4_heightAt_2 : decode cX4_heightAt 2 = .ok (.iload_n 2, 1) := dk_28 (dk_at dksX4_heightAt_0 2 rfl rfl)
theorem dX4_heightAt_3 : decode cX4_heightAt 3 = .ok (.bipush 122, 2) := dk_16 122 (dk_at dksX4_heightAt_0 3 rfl rfl)
theorem dX4_heightAt_5 : decode cX4_heightAt 5 = .ok (.invokevirtual 229, 3) := dk_182 0 229 (dk_at dksX4_heightAt_0 5 rfl rfl)
theorem dX4_heightAt_8 : decode cX4_heightAt 8 = .ok (.ireturn, 1) := dk_172 (dk_at dksX4_heightAt_0 8 rfl rfl)
abbrev cX4_value : ByteArray := prog_19_method_54_code
def yX4_value : MethodName := ⟨RX4, "value", "(II)I"⟩
def dkwX4_value_2 : List UInt8 := [3, 167, 0, 22, 42, 180, 0, 7, 27, 184, 0, 171, 16, 62, 96, 42, 27, 28, 182, 0, 235, 96, 46, 172]
abbrev dktX4_value_2 : List UInt8 := dkwX4_value_2 ++ []
def dkwX4_value_1 : List UInt8 := [42, 27, 28, 182, 0, 235, 156, 0, 7, 6, 167, 0, 4, 3, 181, 0, 62, 42, 180, 0, 62, 158, 0, 7]
abbrev dktX4_value_1 : List UInt8 := dkwX4_value_1 ++ dktX4_value_2
def dkwX4_value_0 : List UInt8 := [42, 42, 27, 182, 0, 183, 154, 0, 7, 4, 167, 0, 28, 28, 184, 0, 232, 154, 0, 7, 5, 167, 0, 17]
abbrev dktX4_value_0 : List UInt8 := dkwX4_value_0 ++ dktX4_value_1
theorem dksX4_value_0 : cX4_value.data.toList.drop 0 = dktX4_value_0 := by decide +kernel
theorem dksX4_value_1 : cX4_value.data.toList.drop 24 = dktX4_value_1 := dk_seg dksX4_value_0 24 rfl rfl
theorem dksX4_value_2 : cX4_value.data.toList.drop 48 = dktX4_value_2 := dk_seg dksX4_value_1 24 rfl rfl
theorem dX4_value_0 : decode cX4_value 0 = .ok (.aload_n 0, 1) := dk_42 (dk_at dksX4_value_0 0 rfl rfl)
theorem dX4_value_1 : decode cX4_value 1 = .ok (.aload_n 0, 1) := dk_42 (dk_at dksX4_value_0 1 rfl rfl)
theorem dX4_value_2 : decode cX4_value 2 = .ok (.iload_n 1, 1) := dk_27 (dk_at dksX4_value_0 2 rfl rfl)
theorem dX4_value_3 : decode cX4_value 3 = .ok (.invokevirtual 183, 3) := dk_182 0 183 (dk_at dksX4_value_0 3 rfl rfl)
theorem dX4_value_6 : decode cX4_value 6 = .ok (.ifCond .ne 7, 3) := dk_154 0 7 (dk_at dksX4_value_0 6 rfl rfl)
theorem dX4_value_9 : decode cX4_value 9 = .ok (.iconst 1, 1) := dk_4 (dk_at dksX4_value_0 9 rfl rfl)
theorem dX4_value_10 : decode cX4_value 10 = .ok (.goto 28, 3) := dk_167 0 28 (dk_at dksX4_value_0 10 rfl rfl)
theorem dX4_value_13 : decode cX4_value 13 = .ok (.iload_n 2, 1) := dk_28 (dk_at dksX4_value_0 13 rfl rfl)
theorem dX4_value_14 : decode cX4_value 14 = .ok (.invokestatic 232, 3) := dk_184 0 232 (dk_at dksX4_value_0 14 rfl rfl)
theorem dX4_value_17 : decode cX4_value 17 = .ok (.ifCond .ne 7, 3) := dk_154 0 7 (dk_at dksX4_value_0 17 rfl rfl)
theorem dX4_value_20 : decode cX4_value 20 = .ok (.iconst 2, 1) := dk_5 (dk_at dksX4_value_0 20 rfl rfl)
theorem dX4_value_21 : decode cX4_value 21 = .ok (.goto 17, 3) := dk_167 0 17 (dk_at dksX4_value_0 21 rfl rfl)
theorem dX4_value_24 : decode cX4_value 24 = .ok (.aload_n 0, 1) := dk_42 (dk_at dksX4_value_1 0 rfl rfl)
theorem dX4_value_25 : decode cX4_value 25 = .ok (.iload_n 1, 1) := dk_27 (dk_at dksX4_value_1 1 rfl rfl)
theorem dX4_value_26 : decode cX4_value 26 = .ok (.iload_n 2, 1) := dk_28 (dk_at dksX4_value_1 2 rfl rfl)
theorem dX4_value_27 : decode cX4_value 27 = .ok (.invokevirtual 235, 3) := dk_182 0 235 (dk_at dksX4_value_1 3 rfl rfl)
theorem dX4_value_30 : decode cX4_value 30 = .ok (.ifCond .ge 7, 3) := dk_156 0 7 (dk_at dksX4_value_1 6 rfl rfl)
theorem dX4_value_33 : decode cX4_value 33 = .ok (.iconst 3, 1) := dk_6 (dk_at dksX4_value_1 9 rfl rfl)
theorem dX4_value_34 : decode cX4_value 34 = .ok (.goto 4, 3) := dk_167 0 4 (dk_at dksX4_value_1 10 rfl rfl)
theorem dX4_value_37 : decode cX4_value 37 = .ok (.iconst 0, 1) := dk_3 (dk_at dksX4_value_1 13 rfl rfl)
theorem dX4_value_38 : decode cX4_value 38 = .ok (.putfield 62, 3) := dk_181 0 62 (dk_at dksX4_value_1 14 rfl rfl)
theorem dX4_value_41 : decode cX4_value 41 = .ok (.aload_n 0, 1) := dk_42 (dk_at dksX4_value_1 17 rfl rfl)
theorem dX4_value_42 : decode cX4_value 42 = .ok (.getfield 62, 3) := dk_180 0 62 (dk_at dksX4_value_1 18 rfl rfl)
theorem dX4_value_45 : decode cX4_value 45 = .ok (.ifCond .le 7, 3) := dk_158 0 7 (dk_at dksX4_value_1 21 rfl rfl)
theorem dX4_value_48 : decode cX4_value 48 = .ok (.iconst 0, 1) := dk_3 (dk_at dksX4_value_2 0 rfl rfl)
theorem dX4_value_49 : decode cX4_value 49 = .ok (.goto 22, 3) := dk_167 0 22 (dk_at dksX4_value_2 1 rfl rfl)
theorem dX4_value_52 : decode cX4_value 52 = .ok (.aload_n 0, 1) := dk_42 (dk_at dksX4_value_2 4 rfl rfl)
theorem dX4_value_53 : decode cX4_value 53 = .ok (.getfield 7, 3) := dk_180 0 7 (dk_at dksX4_value_2 5 rfl rfl)
theorem dX4_value_56 : decode cX4_value 56 = .ok (.iload_n 1, 1) := dk_27 (dk_at dksX4_value_2 8 rfl rfl)
theorem dX4_value_57 : decode cX4_value 57 = .ok (.invokestatic 171, 3) := dk_184 0 171 (dk_at dksX4_value_2 9 rfl rfl)
theorem dX4_value_60 : decode cX4_value 60 = .ok (.bipush 62, 2) := dk_16 62 (dk_at dksX4_value_2 12 rfl rfl)
theorem dX4_value_62 : decode cX4_value 62 = .ok (.iadd, 1) := dk_96 (dk_at dksX4_value_2 14 rfl rfl)
theorem dX4_value_63 : decode cX4_value 63 = .ok (.aload_n 0, 1) := dk_42 (dk_at dksX4_value_2 15 rfl rfl)
theorem dX4_value_64 : decode cX4_value 64 = .ok (.iload_n 1, 1) := dk_27 (dk_at dksX4_value_2 16 rfl rfl)
theorem dX4_value_65 : decode cX4_value 65 = .ok (.iload_n 2, 1) := dk_28 (dk_at dksX4_value_2 17 rfl rfl)
theorem dX4_value_66 : decode cX4_value 66 = .ok (.invokevirtual 235, 3) := dk_182 0 235 (dk_at dksX4_value_2 18 rfl rfl)
theorem dX4_value_69 : decode cX4_value 69 = .ok (.iadd, 1) := dk_96 (dk_at dksX4_value_2 21 rfl rfl)
theorem dX4_value_70 : decode cX4_value 70 = .ok (.iaload, 1) := dk_46 (dk_at dksX4_value_2 22 rfl rfl)
theorem dX4_value_71 : decode cX4_value 71 = .ok (.ireturn, 1) := dk_172 (dk_at dksX4_value_2 23 rfl rfl)
abbrev cX4_isKey : ByteArray := prog_19_method_28_code
def yX4_isKey : MethodName := ⟨RX4, "isKey", "(I)Z"⟩
def dkwX4_isKey_0 : List UInt8 := [26, 133, 20, 0, 186, 20, 0, 188, 184, 0, 72, 172]
abbrev dktX4_isKey_0 : List UInt8 := dkwX4_isKey_0 ++ []
theorem dksX4_isKey_0 : cX4_isKey.data.toList.drop 0 = dktX4_isKey_0 := by decide +kernel
theorem dX4_isKey_0 : decode cX4_isKey 0 = .ok (.iload_n 0, 1) := dk_26 (dk_at dksX4_isKey_0 0 rfl rfl)
theorem dX4_isKey_1 : decode cX4_isKey 1 = .ok (.i2l, 1) := dk_133 (dk_at dksX4_isKey_0 1 rfl rfl)
theorem dX4_isKey_2 : decode cX4_isKey 2 = .ok (.ldc2_w 186, 3) := dk_20 0 186 (dk_at dksX4_isKey_0 2 rfl rfl)
theorem dX4_isKey_5 : decode cX4_isKey 5 = .ok (.ldc2_w 188, 3) := dk_20 0 188 (dk_at dksX4_isKey_0 5 rfl rfl)
theorem dX4_isKey_8 : decode cX4_isKey 8 = .ok (.invokestatic 72, 3) := dk_184 0 72 (dk_at dksX4_isKey_0 8 rfl rfl)
theorem dX4_isKey_11 : decode cX4_isKey 11 = .ok (.ireturn, 1) := dk_172 (dk_at dksX4_isKey_0 11 rfl rfl)
abbrev cX4_placeOf : ByteArray := prog_19_method_30_code
def yX4_placeOf : MethodName := ⟨RX4, "placeOf", "(II)I"⟩
def dkwX4_placeOf_1 : List UInt8 := [180, 0, 7, 27, 184, 0, 171, 5, 96, 29, 96, 46, 28, 160, 0, 7, 29, 167, 0, 4, 2, 172]
abbrev dktX4_placeOf_1 : List UInt8 := dkwX4_placeOf_1 ++ []
def dkwX4_placeOf_0 : List UInt8 := [42, 27, 28, 182, 0, 190, 62, 29, 42, 180, 0, 7, 27, 184, 0, 171, 4, 96, 46, 162, 0, 24, 42]
abbrev dktX4_placeOf_0 : List UInt8 := dkwX4_placeOf_0 ++ dktX4_placeOf_1
theorem dksX4_placeOf_0 : cX4_placeOf.data.toList.drop 0 = dktX4_placeOf_0 := by decide +kernel
theorem dksX4_placeOf_1 : cX4_placeOf.data.toList.drop 23 = dktX4_placeOf_1 := dk_seg dksX4_placeOf_0 23 rfl rfl
theorem dX4_placeOf_0 : decode cX4_placeOf 0 = .ok (.aload_n 0, 1) := dk_42 (dk_at dksX4_placeOf_0 0 rfl rfl)
theorem dX4_placeOf_1 : decode cX4_placeOf 1 = .ok (.iload_n 1, 1) := dk_27 (dk_at dksX4_placeOf_0 1 rfl rfl)
theorem dX4_placeOf_2 : decode cX4_placeOf 2 = .ok (.iload_n 2, 1) := dk_28 (dk_at dksX4_placeOf_0 2 rfl rfl)
theorem dX4_placeOf_3 : decode cX4_placeOf 3 = .ok (.invokevirtual 190, 3) := dk_182 0 190 (dk_at dksX4_placeOf_0 3 rfl rfl)
theorem dX4_placeOf_6 : decode cX4_placeOf 6 = .ok (.istore_n 3, 1) := dk_62 (dk_at dksX4_placeOf_0 6 rfl rfl)
theorem dX4_placeOf_7 : decode cX4_placeOf 7 = .ok (.iload_n 3, 1) := dk_29 (dk_at dksX4_placeOf_0 7 rfl rfl)
theorem dX4_placeOf_8 : decode cX4_placeOf 8 = .ok (.aload_n 0, 1) := dk_42 (dk_at dksX4_placeOf_0 8 rfl rfl)
theorem dX4_placeOf_9 : decode cX4_placeOf 9 = .ok (.getfield 7, 3) := dk_180 0 7 (dk_at dksX4_placeOf_0 9 rfl rfl)
theorem dX4_placeOf_12 : decode cX4_placeOf 12 = .ok (.iload_n 1, 1) := dk_27 (dk_at dksX4_placeOf_0 12 rfl rfl)
theorem dX4_placeOf_13 : decode cX4_placeOf 13 = .ok (.invokestatic 171, 3) := dk_184 0 171 (dk_at dksX4_placeOf_0 13 rfl rfl)
theorem dX4_placeOf_16 : decode cX4_placeOf 16 = .ok (.iconst 1, 1) := dk_4 (dk_at dksX4_placeOf_0 16 rfl rfl)
theorem dX4_placeOf_17 : decode cX4_placeOf 17 = .ok (.iadd, 1) := dk_96 (dk_at dksX4_placeOf_0 17 rfl rfl)
theorem dX4_placeOf_18 : decode cX4_placeOf 18 = .ok (.iaload, 1) := dk_46 (dk_at dksX4_placeOf_0 18 rfl rfl)
theorem dX4_placeOf_19 : decode cX4_placeOf 19 = .ok (.if_icmp .ge 24, 3) := dk_162 0 24 (dk_at dksX4_placeOf_0 19 rfl rfl)
theorem dX4_placeOf_22 : decode cX4_placeOf 22 = .ok (.aload_n 0, 1) := dk_42 (dk_at dksX4_placeOf_0 22 rfl rfl)
theorem dX4_placeOf_23 : decode cX4_placeOf 23 = .ok (.getfield 7, 3) := dk_180 0 7 (dk_at dksX4_placeOf_1 0 rfl rfl)
theorem dX4_placeOf_26 : decode cX4_placeOf 26 = .ok (.iload_n 1, 1) := dk_27 (dk_at dksX4_placeOf_1 3 rfl rfl)
theorem dX4_placeOf_27 : decode cX4_placeOf 27 = .ok (.invokestatic 171, 3) := dk_184 0 171 (dk_at dksX4_placeOf_1 4 rfl rfl)
theorem dX4_placeOf_30 : decode cX4_placeOf 30 = .ok (.iconst 2, 1) := dk_5 (dk_at dksX4_placeOf_1 7 rfl rfl)
theorem dX4_placeOf_31 : decode cX4_placeOf 31 = .ok (.iadd, 1) := dk_96 (dk_at dksX4_placeOf_1 8 rfl rfl)
theorem dX4_placeOf_32 : decode cX4_placeOf 32 = .ok (.iload_n 3, 1) := dk_29 (dk_at dksX4_placeOf_1 9 rfl rfl)
theorem dX4_placeOf_33 : decode cX4_placeOf 33 = .ok (.iadd, 1) := dk_96 (dk_at dksX4_placeOf_1 10 rfl rfl)
theorem dX4_placeOf_34 : decode cX4_placeOf 34 = .ok (.iaload, 1) := dk_46 (dk_at dksX4_placeOf_1 11 rfl rfl)
theorem dX4_placeOf_35 : decode cX4_placeOf 35 = .ok (.iload_n 2, 1) := dk_28 (dk_at dksX4_placeOf_1 12 rfl rfl)
theorem dX4_placeOf_36 : decode cX4_placeOf 36 = .ok (.if_icmp .ne 7, 3) := dk_160 0 7 (dk_at dksX4_placeOf_1 13 rfl rfl)
theorem dX4_placeOf_39 : decode cX4_placeOf 39 = .ok (.iload_n 3, 1) := dk_29 (dk_at dksX4_placeOf_1 16 rfl rfl)
theorem dX4_placeOf_40 : decode cX4_placeOf 40 = .ok (.goto 4, 3) := dk_167 0 4 (dk_at dksX4_placeOf_1 17 rfl rfl)
theorem dX4_placeOf_43 : decode cX4_placeOf 43 = .ok (.iconst (-1), 1) := dk_2 (dk_at dksX4_placeOf_1 20 rfl rfl)
theorem dX4_placeOf_44 : decode cX4_placeOf 44 = .ok (.ireturn, 1) := dk_172 (dk_at dksX4_placeOf_1 21 rfl rfl)
abbrev cX4_below : ByteArray := prog_19_method_29_code
def yX4_below : MethodName := ⟨RX4, "below", "(II)I"⟩
def dkwX4_below_1 : List UInt8 := [180, 0, 7, 29, 5, 96, 21, 4, 96, 46, 28, 162, 0, 9, 132, 4, 1, 167, 255, 225, 21, 4, 172]
abbrev dktX4_below_1 : List UInt8 := dkwX4_below_1 ++ []
def dkwX4_below_0 : List UInt8 := [27, 184, 0, 171, 62, 3, 54, 4, 21, 4, 42, 180, 0, 7, 29, 4, 96, 46, 162, 0, 24, 42]
abbrev dktX4_below_0 : List UInt8 := dkwX4_below_0 ++ dktX4_below_1
theorem dksX4_below_0 : cX4_below.data.toList.drop 0 = dktX4_below_0 := by decide +kernel
theorem dksX4_below_1 : cX4_below.data.toList.drop 22 = dktX4_below_1 := dk_seg dksX4_below_0 22 rfl rfl
theorem dX4_below_0 : decode cX4_below 0 = .ok (.iload_n 1, 1) := dk_27 (dk_at dksX4_below_0 0 rfl rfl)
theorem dX4_below_1 : decode cX4_below 1 = .ok (.invokestatic 171, 3) := dk_184 0 171 (dk_at dksX4_below_0 1 rfl rfl)
theorem dX4_below_4 : decode cX4_below 4 = .ok (.istore_n 3, 1) := dk_62 (dk_at dksX4_below_0 4 rfl rfl)
theorem dX4_below_5 : decode cX4_below 5 = .ok (.iconst 0, 1) := dk_3 (dk_at dksX4_below_0 5 rfl rfl)
theorem dX4_below_6 : decode cX4_below 6 = .ok (.istore 4, 2) := dk_54 4 (dk_at dksX4_below_0 6 rfl rfl)
theorem dX4_below_8 : decode cX4_below 8 = .ok (.iload 4, 2) := dk_21 4 (dk_at dksX4_below_0 8 rfl rfl)
theorem dX4_below_10 : decode cX4_below 10 = .ok (.aload_n 0, 1) := dk_42 (dk_at dksX4_below_0 10 rfl rfl)
theorem dX4_below_11 : decode cX4_below 11 = .ok (.getfield 7, 3) := dk_180 0 7 (dk_at dksX4_below_0 11 rfl rfl)
theorem dX4_below_14 : decode cX4_below 14 = .ok (.iload_n 3, 1) := dk_29 (dk_at dksX4_below_0 14 rfl rfl)
theorem dX4_below_15 : decode cX4_below 15 = .ok (.iconst 1, 1) := dk_4 (dk_at dksX4_below_0 15 rfl rfl)
theorem dX4_below_16 : decode cX4_below 16 = .ok (.iadd, 1) := dk_96 (dk_at dksX4_below_0 16 rfl rfl)
theorem dX4_below_17 : decode cX4_below 17 = .ok (.iaload, 1) := dk_46 (dk_at dksX4_below_0 17 rfl rfl)
theorem dX4_below_18 : decode cX4_below 18 = .ok (.if_icmp .ge 24, 3) := dk_162 0 24 (dk_at dksX4_below_0 18 rfl rfl)
theorem dX4_below_21 : decode cX4_below 21 = .ok (.aload_n 0, 1) := dk_42 (dk_at dksX4_below_0 21 rfl rfl)
theorem dX4_below_22 : decode cX4_below 22 = .ok (.getfield 7, 3) := dk_180 0 7 (dk_at dksX4_below_1 0 rfl rfl)
theorem dX4_below_25 : decode cX4_below 25 = .ok (.iload_n 3, 1) := dk_29 (dk_at dksX4_below_1 3 rfl rfl)
theorem dX4_below_26 : decode cX4_below 26 = .ok (.iconst 2, 1) := dk_5 (dk_at dksX4_below_1 4 rfl rfl)
theorem dX4_below_27 : decode cX4_below 27 = .ok (.iadd, 1) := dk_96 (dk_at dksX4_below_1 5 rfl rfl)
theorem dX4_below_28 : decode cX4_below 28 = .ok (.iload 4, 2) := dk_21 4 (dk_at dksX4_below_1 6 rfl rfl)
theorem dX4_below_30 : decode cX4_below 30 = .ok (.iadd, 1) := dk_96 (dk_at dksX4_below_1 8 rfl rfl)
theorem dX4_below_31 : decode cX4_below 31 = .ok (.iaload, 1) := dk_46 (dk_at dksX4_below_1 9 rfl rfl)
theorem dX4_below_32 : decode cX4_below 32 = .ok (.iload_n 2, 1) := dk_28 (dk_at dksX4_below_1 10 rfl rfl)
theorem dX4_below_33 : decode cX4_below 33 = .ok (.if_icmp .ge 9, 3) := dk_162 0 9 (dk_at dksX4_below_1 11 rfl rfl)
theorem dX4_below_36 : decode cX4_below 36 = .ok (.iinc 4 1, 3) := dk_132 4 1 (dk_at dksX4_below_1 14 rfl rfl)
theorem dX4_below_39 : decode cX4_below 39 = .ok (.goto (-31), 3) := dk_167 255 225 (dk_at dksX4_below_1 17 rfl rfl)
theorem dX4_below_42 : decode cX4_below 42 = .ok (.iload 4, 2) := dk_21 4 (dk_at dksX4_below_1 20 rfl rfl)
theorem dX4_below_44 : decode cX4_below 44 = .ok (.ireturn, 1) := dk_172 (dk_at dksX4_below_1 22 rfl rfl)
abbrev cX4_rank : ByteArray := prog_19_method_56_code
def yX4_rank : MethodName := ⟨RX4, "rank", "(II)I"⟩
def dkwX4_rank_0 : List UInt8 := [42, 27, 28, 182, 0, 238, 153, 0, 12, 42, 27, 28, 182, 0, 190, 167, 0, 4, 3, 172]
abbrev dktX4_rank_0 : List UInt8 := dkwX4_rank_0 ++ []
theorem dksX4_rank_0 : cX4_rank.data.toList.drop 0 = dktX4_rank_0 := by decide +kernel
theorem dX4_rank_0 : decode cX4_rank 0 = .ok (.aload_n 0, 1) := dk_42 (dk_at dksX4_rank_0 0 rfl rfl)
theorem dX4_rank_1 : decode cX4_rank 1 = .ok (.iload_n 1, 1) := dk_27 (dk_at dksX4_rank_0 1 rfl rfl)
theorem dX4_rank_2 : decode cX4_rank 2 = .ok (.iload_n 2, 1) := dk_28 (dk_at dksX4_rank_0 2 rfl rfl)
theorem dX4_rank_3 : decode cX4_rank 3 = .ok (.invokevirtual 238, 3) := dk_182 0 238 (dk_at dksX4_rank_0 3 rfl rfl)
theorem dX4_rank_6 : decode cX4_rank 6 = .ok (.ifCond .eq 12, 3) := dk_153 0 12 (dk_at dksX4_rank_0 6 rfl rfl)
theorem dX4_rank_9 : decode cX4_rank 9 = .ok (.aload_n 0, 1) := dk_42 (dk_at dksX4_rank_0 9 rfl rfl)
theorem dX4_rank_10 : decode cX4_rank 10 = .ok (.iload_n 1, 1) := dk_27 (dk_at dksX4_rank_0 10 rfl rfl)
theorem dX4_rank_11 : decode cX4_rank 11 = .ok (.iload_n 2, 1) := dk_28 (dk_at dksX4_rank_0 11 rfl rfl)
theorem dX4_rank_12 : decode cX4_rank 12 = .ok (.invokevirtual 190, 3) := dk_182 0 190 (dk_at dksX4_rank_0 12 rfl rfl)
theorem dX4_rank_15 : decode cX4_rank 15 = .ok (.goto 4, 3) := dk_167 0 4 (dk_at dksX4_rank_0 15 rfl rfl)
theorem dX4_rank_18 : decode cX4_rank 18 = .ok (.iconst 0, 1) := dk_3 (dk_at dksX4_rank_0 18 rfl rfl)
theorem dX4_rank_19 : decode cX4_rank 19 = .ok (.ireturn, 1) := dk_172 (dk_at dksX4_rank_0 19 rfl rfl)
abbrev cX4_canSeek : ByteArray := prog_19_method_55_code
def yX4_canSeek : MethodName := ⟨RX4, "canSeek", "(II)Z"⟩
def dkwX4_canSeek_1 : List UInt8 := [5, 181, 0, 62, 42, 180, 0, 62, 154, 0, 7, 4, 167, 0, 4, 3, 172]
abbrev dktX4_canSeek_1 : List UInt8 := dkwX4_canSeek_1 ++ []
def dkwX4_canSeek_0 : List UInt8 := [42, 42, 27, 182, 0, 183, 154, 0, 7, 4, 167, 0, 15, 28, 184, 0, 232, 153, 0, 7, 3, 167, 0, 4]
abbrev dktX4_canSeek_0 : List UInt8 := dkwX4_canSeek_0 ++ dktX4_canSeek_1
theorem dksX4_canSeek_0 : cX4_canSeek.data.toList.drop 0 = dktX4_canSeek_0 := by decide +kernel
theorem dksX4_canSeek_1 : cX4_canSeek.data.toList.drop 24 = dktX4_canSeek_1 := dk_seg dksX4_canSeek_0 24 rfl rfl
theorem dX4_canSeek_0 : decode cX4_canSeek 0 = .ok (.aload_n 0, 1) := dk_42 (dk_at dksX4_canSeek_0 0 rfl rfl)
theorem dX4_canSeek_1 : decode cX4_canSeek 1 = .ok (.aload_n 0, 1) := dk_42 (dk_at dksX4_canSeek_0 1 rfl rfl)
theorem dX4_canSeek_2 : decode cX4_canSeek 2 = .ok (.iload_n 1, 1) := dk_27 (dk_at dksX4_canSeek_0 2 rfl rfl)
theorem dX4_canSeek_3 : decode cX4_canSeek 3 = .ok (.invokevirtual 183, 3) := dk_182 0 183 (dk_at dksX4_canSeek_0 3 rfl rfl)
theorem dX4_canSeek_6 : decode cX4_canSeek 6 = .ok (.ifCond .ne 7, 3) := dk_154 0 7 (dk_at dksX4_canSeek_0 6 rfl rfl)
theorem dX4_canSeek_9 : decode cX4_canSeek 9 = .ok (.iconst 1, 1) := dk_4 (dk_at dksX4_canSeek_0 9 rfl rfl)
theorem dX4_canSeek_10 : decode cX4_canSeek 10 = .ok (.goto 15, 3) := dk_167 0 15 (dk_at dksX4_canSeek_0 10 rfl rfl)
theorem dX4_canSeek_13 : decode cX4_canSeek 13 = .ok (.iload_n 2, 1) := dk_28 (dk_at dksX4_canSeek_0 13 rfl rfl)
theorem dX4_canSeek_14 : decode cX4_canSeek 14 = .ok (.invokestatic 232, 3) := dk_184 0 232 (dk_at dksX4_canSeek_0 14 rfl rfl)
theorem dX4_canSeek_17 : decode cX4_canSeek 17 = .ok (.ifCond .eq 7, 3) := dk_153 0 7 (dk_at dksX4_canSeek_0 17 rfl rfl)
theorem dX4_canSeek_20 : decode cX4_canSeek 20 = .ok (.iconst 0, 1) := dk_3 (dk_at dksX4_canSeek_0 20 rfl rfl)
theorem dX4_canSeek_21 : decode cX4_canSeek 21 = .ok (.goto 4, 3) := dk_167 0 4 (dk_at dksX4_canSeek_0 21 rfl rfl)
theorem dX4_canSeek_24 : decode cX4_canSeek 24 = .ok (.iconst 2, 1) := dk_5 (dk_at dksX4_canSeek_1 0 rfl rfl)
theorem dX4_canSeek_25 : decode cX4_canSeek 25 = .ok (.putfield 62, 3) := dk_181 0 62 (dk_at dksX4_canSeek_1 1 rfl rfl)
theorem dX4_canSeek_28 : decode cX4_canSeek 28 = .ok (.aload_n 0, 1) := dk_42 (dk_at dksX4_canSeek_1 4 rfl rfl)
theorem dX4_canSeek_29 : decode cX4_canSeek 29 = .ok (.getfield 62, 3) := dk_180 0 62 (dk_at dksX4_canSeek_1 5 rfl rfl)
theorem dX4_canSeek_32 : decode cX4_canSeek 32 = .ok (.ifCond .ne 7, 3) := dk_154 0 7 (dk_at dksX4_canSeek_1 8 rfl rfl)
theorem dX4_canSeek_35 : decode cX4_canSeek 35 = .ok (.iconst 1, 1) := dk_4 (dk_at dksX4_canSeek_1 11 rfl rfl)
theorem dX4_canSeek_36 : decode cX4_canSeek 36 = .ok (.goto 4, 3) := dk_167 0 4 (dk_at dksX4_canSeek_1 12 rfl rfl)
theorem dX4_canSeek_39 : decode cX4_canSeek 39 = .ok (.iconst 0, 1) := dk_3 (dk_at dksX4_canSeek_1 15 rfl rfl)
theorem dX4_canSeek_40 : decode cX4_canSeek 40 = .ok (.ireturn, 1) := dk_172 (dk_at dksX4_canSeek_1 16 rfl rfl)
abbrev cX4_nearest : ByteArray := prog_19_method_57_code
def yX4_nearest : MethodName := ⟨RX4, "nearest", "(II)I"⟩
def dkwX4_nearest_6 : List UInt8 := [21, 4, 172]
abbrev dktX4_nearest_6 : List UInt8 := dkwX4_nearest_6 ++ []
def dkwX4_nearest_5 : List UInt8 := [180, 0, 7, 29, 5, 96, 21, 5, 96, 46, 167, 0, 5, 21, 4, 54, 4, 132, 5, 1, 167, 255, 159]
abbrev dktX4_nearest_5 : List UInt8 := dkwX4_nearest_5 ++ dktX4_nearest_6
def dkwX4_nearest_4 : List UInt8 := [21, 7, 116, 167, 0, 5, 21, 7, 54, 7, 21, 5, 153, 0, 10, 21, 6, 21, 7, 162, 0, 17, 42]
abbrev dktX4_nearest_4 : List UInt8 := dkwX4_nearest_4 ++ dktX4_nearest_5
def dkwX4_nearest_3 : List UInt8 := [28, 100, 54, 7, 21, 6, 156, 0, 9, 21, 6, 116, 167, 0, 5, 21, 6, 54, 6, 21, 7, 156, 0, 9]
abbrev dktX4_nearest_3 : List UInt8 := dkwX4_nearest_3 ++ dktX4_nearest_4
def dkwX4_nearest_2 : List UInt8 := [29, 4, 96, 46, 162, 0, 90, 42, 180, 0, 7, 29, 5, 96, 21, 5, 96, 46, 28, 100, 54, 6, 21, 4]
abbrev dktX4_nearest_2 : List UInt8 := dkwX4_nearest_2 ++ dktX4_nearest_3
def dkwX4_nearest_1 : List UInt8 := [46, 154, 0, 7, 6, 167, 0, 4, 3, 181, 0, 62, 3, 54, 4, 3, 54, 5, 21, 5, 42, 180, 0, 7]
abbrev dktX4_nearest_1 : List UInt8 := dkwX4_nearest_1 ++ dktX4_nearest_2
def dkwX4_nearest_0 : List UInt8 := [42, 27, 28, 182, 0, 238, 154, 0, 5, 3, 172, 27, 184, 0, 171, 62, 42, 42, 180, 0, 7, 29, 4, 96]
abbrev dktX4_nearest_0 : List UInt8 := dkwX4_nearest_0 ++ dktX4_nearest_1
theorem dksX4_nearest_0 : cX4_nearest.data.toList.drop 0 = dktX4_nearest_0 := by decide +kernel
theorem dksX4_nearest_1 : cX4_nearest.data.toList.drop 24 = dktX4_nearest_1 := dk_seg dksX4_nearest_0 24 rfl rfl
theorem dksX4_nearest_2 : cX4_nearest.data.toList.drop 48 = dktX4_nearest_2 := dk_seg dksX4_nearest_1 24 rfl rfl
theorem dksX4_nearest_3 : cX4_nearest.data.toList.drop 72 = dktX4_nearest_3 := dk_seg dksX4_nearest_2 24 rfl rfl
theorem dksX4_nearest_4 : cX4_nearest.data.toList.drop 96 = dktX4_nearest_4 := dk_seg dksX4_nearest_3 24 rfl rfl
theorem dksX4_nearest_5 : cX4_nearest.data.toList.drop 119 = dktX4_nearest_5 := dk_seg dksX4_nearest_4 23 rfl rfl
theorem dksX4_nearest_6 : cX4_nearest.data.toList.drop 142 = dktX4_nearest_6 := dk_seg dksX4_nearest_5 23 rfl rfl
theorem dX4_nearest_0 : decode cX4_nearest 0 = .ok (.aload_n 0, 1) := dk_42 (dk_at dksX4_nearest_0 0 rfl rfl)
theorem dX4_nearest_1 : decode cX4_nearest 1 = .ok (.iload_n 1, 1) := dk_27 (dk_at dksX4_nearest_0 1 rfl rfl)
theorem dX4_nearest_2 : decode cX4_nearest 2 = .ok (.iload_n 2, 1) := dk_28 (dk_at dksX4_nearest_0 2 rfl rfl)
theorem dX4_nearest_3 : decode cX4_nearest 3 = .ok (.invokevirtual 238, 3) := dk_182 0 238 (dk_at dksX4_nearest_0 3 rfl rfl)
theorem dX4_nearest_6 : decode cX4_nearest 6 = .ok (.ifCond .ne 5, 3) := dk_154 0 5 (dk_at dksX4_nearest_0 6 rfl rfl)
theorem dX4_nearest_9 : decode cX4_nearest 9 = .ok (.iconst 0, 1) := dk_3 (dk_at dksX4_nearest_0 9 rfl rfl)
theorem dX4_nearest_10 : decode cX4_nearest 10 = .ok (.ireturn, 1) := dk_172 (dk_at dksX4_nearest_0 10 rfl rfl)
theorem dX4_nearest_11 : decode cX4_nearest 11 = .ok (.iload_n 1, 1) := dk_27 (dk_at dksX4_nearest_0 11 rfl rfl)
theorem dX4_nearest_12 : decode cX4_nearest 12 = .ok (.invokestatic 171, 3) := dk_184 0 171 (dk_at dksX4_nearest_0 12 rfl rfl)
theorem dX4_nearest_15 : decode cX4_nearest 15 = .ok (.istore_n 3, 1) := dk_62 (dk_at dksX4_nearest_0 15 rfl rfl)
theorem dX4_nearest_16 : decode cX4_nearest 16 = .ok (.aload_n 0, 1) := dk_42 (dk_at dksX4_nearest_0 16 rfl rfl)
theorem dX4_nearest_17 : decode cX4_nearest 17 = .ok (.aload_n 0, 1) := dk_42 (dk_at dksX4_nearest_0 17 rfl rfl)
theorem dX4_nearest_18 : decode cX4_nearest 18 = .ok (.getfield 7, 3) := dk_180 0 7 (dk_at dksX4_nearest_0 18 rfl rfl)
theorem dX4_nearest_21 : decode cX4_nearest 21 = .ok (.iload_n 3, 1) := dk_29 (dk_at dksX4_nearest_0 21 rfl rfl)
theorem dX4_nearest_22 : decode cX4_nearest 22 = .ok (.iconst 1, 1) := dk_4 (dk_at dksX4_nearest_0 22 rfl rfl)
theorem dX4_nearest_23 : decode cX4_nearest 23 = .ok (.iadd, 1) := dk_96 (dk_at dksX4_nearest_0 23 rfl rfl)
theorem dX4_nearest_24 : decode cX4_nearest 24 = .ok (.iaload, 1) := dk_46 (dk_at dksX4_nearest_1 0 rfl rfl)
theorem dX4_nearest_25 : decode cX4_nearest 25 = .ok (.ifCond .ne 7, 3) := dk_154 0 7 (dk_at dksX4_nearest_1 1 rfl rfl)
theorem dX4_nearest_28 : decode cX4_nearest 28 = .ok (.iconst 3, 1) := dk_6 (dk_at dksX4_nearest_1 4 rfl rfl)
theorem dX4_nearest_29 : decode cX4_nearest 29 = .ok (.goto 4, 3) := dk_167 0 4 (dk_at dksX4_nearest_1 5 rfl rfl)
theorem dX4_nearest_32 : decode cX4_nearest 32 = .ok (.iconst 0, 1) := dk_3 (dk_at dksX4_nearest_1 8 rfl rfl)
theorem dX4_nearest_33 : decode cX4_nearest 33 = .ok (.putfield 62, 3) := dk_181 0 62 (dk_at dksX4_nearest_1 9 rfl rfl)
theorem dX4_nearest_36 : decode cX4_nearest 36 = .ok (.iconst 0, 1) := dk_3 (dk_at dksX4_nearest_1 12 rfl rfl)
theorem dX4_nearest_37 : decode cX4_nearest 37 = .ok (.istore 4, 2) := dk_54 4 (dk_at dksX4_nearest_1 13 rfl rfl)
theorem dX4_nearest_39 : decode cX4_nearest 39 = .ok (.iconst 0, 1) := dk_3 (dk_at dksX4_nearest_1 15 rfl rfl)
theorem dX4_nearest_40 : decode cX4_nearest 40 = .ok (.istore 5, 2) := dk_54 5 (dk_at dksX4_nearest_1 16 rfl rfl)
theorem dX4_nearest_42 : decode cX4_nearest 42 = .ok (.iload 5, 2) := dk_21 5 (dk_at dksX4_nearest_1 18 rfl rfl)
theorem dX4_nearest_44 : decode cX4_nearest 44 = .ok (.aload_n 0, 1) := dk_42 (dk_at dksX4_nearest_1 20 rfl rfl)
theorem dX4_nearest_45 : decode cX4_nearest 45 = .ok (.getfield 7, 3) := dk_180 0 7 (dk_at dksX4_nearest_1 21 rfl rfl)
theorem dX4_nearest_48 : decode cX4_nearest 48 = .ok (.iload_n 3, 1) := dk_29 (dk_at dksX4_nearest_2 0 rfl rfl)
theorem dX4_nearest_49 : decode cX4_nearest 49 = .ok (.iconst 1, 1) := dk_4 (dk_at dksX4_nearest_2 1 rfl rfl)
theorem dX4_nearest_50 : decode cX4_nearest 50 = .ok (.iadd, 1) := dk_96 (dk_at dksX4_nearest_2 2 rfl rfl)
theorem dX4_nearest_51 : decode cX4_nearest 51 = .ok (.iaload, 1) := dk_46 (dk_at dksX4_nearest_2 3 rfl rfl)
theorem dX4_nearest_52 : decode cX4_nearest 52 = .ok (.if_icmp .ge 90, 3) := dk_162 0 90 (dk_at dksX4_nearest_2 4 rfl rfl)
theorem dX4_nearest_55 : decode cX4_nearest 55 = .ok (.aload_n 0, 1) := dk_42 (dk_at dksX4_nearest_2 7 rfl rfl)
theorem dX4_nearest_56 : decode cX4_nearest 56 = .ok (.getfield 7, 3) := dk_180 0 7 (dk_at dksX4_nearest_2 8 rfl rfl)
theorem dX4_nearest_59 : decode cX4_nearest 59 = .ok (.iload_n 3, 1) := dk_29 (dk_at dksX4_nearest_2 11 rfl rfl)
theorem dX4_nearest_60 : decode cX4_nearest 60 = .ok (.iconst 2, 1) := dk_5 (dk_at dksX4_nearest_2 12 rfl rfl)
theorem dX4_nearest_61 : decode cX4_nearest 61 = .ok (.iadd, 1) := dk_96 (dk_at dksX4_nearest_2 13 rfl rfl)
theorem dX4_nearest_62 : decode cX4_nearest 62 = .ok (.iload 5, 2) := dk_21 5 (dk_at dksX4_nearest_2 14 rfl rfl)
theorem dX4_nearest_64 : decode cX4_nearest 64 = .ok (.iadd, 1) := dk_96 (dk_at dksX4_nearest_2 16 rfl rfl)
theorem dX4_nearest_65 : decode cX4_nearest 65 = .ok (.iaload, 1) := dk_46 (dk_at dksX4_nearest_2 17 rfl rfl)
theorem dX4_nearest_66 : decode cX4_nearest 66 = .ok (.iload_n 2, 1) := dk_28 (dk_at dksX4_nearest_2 18 rfl rfl)
theorem dX4_nearest_67 : decode cX4_nearest 67 = .ok (.isub, 1) := dk_100 (dk_at dksX4_nearest_2 19 rfl rfl)
theorem dX4_nearest_68 : decode cX4_nearest 68 = .ok (.istore 6, 2) := dk_54 6 (dk_at dksX4_nearest_2 20 rfl rfl)
theorem dX4_nearest_70 : decode cX4_nearest 70 = .ok (.iload 4, 2) := dk_21 4 (dk_at dksX4_nearest_2 22 rfl rfl)
theorem dX4_nearest_72 : decode cX4_nearest 72 = .ok (.iload_n 2, 1) := dk_28 (dk_at dksX4_nearest_3 0 rfl rfl)
theorem dX4_nearest_73 : decode cX4_nearest 73 = .ok (.isub, 1) := dk_100 (dk_at dksX4_nearest_3 1 rfl rfl)
theorem dX4_nearest_74 : decode cX4_nearest 74 = .ok (.istore 7, 2) := dk_54 7 (dk_at dksX4_nearest_3 2 rfl rfl)
theorem dX4_nearest_76 : decode cX4_nearest 76 = .ok (.iload 6, 2) := dk_21 6 (dk_at dksX4_nearest_3 4 rfl rfl)
theorem dX4_nearest_78 : decode cX4_nearest 78 = .ok (.ifCond .ge 9, 3) := dk_156 0 9 (dk_at dksX4_nearest_3 6 rfl rfl)
theorem dX4_nearest_81 : decode cX4_nearest 81 = .ok (.iload 6, 2) := dk_21 6 (dk_at dksX4_nearest_3 9 rfl rfl)
theorem dX4_nearest_83 : decode cX4_nearest 83 = .ok (.ineg, 1) := dk_116 (dk_at dksX4_nearest_3 11 rfl rfl)
theorem dX4_nearest_84 : decode cX4_nearest 84 = .ok (.goto 5, 3) := dk_167 0 5 (dk_at dksX4_nearest_3 12 rfl rfl)
theorem dX4_nearest_87 : decode cX4_nearest 87 = .ok (.iload 6, 2) := dk_21 6 (dk_at dksX4_nearest_3 15 rfl rfl)
theorem dX4_nearest_89 : decode cX4_nearest 89 = .ok (.istore 6, 2) := dk_54 6 (dk_at dksX4_nearest_3 17 rfl rfl)
theorem dX4_nearest_91 : decode cX4_nearest 91 = .ok (.iload 7, 2) := dk_21 7 (dk_at dksX4_nearest_3 19 rfl rfl)
theorem dX4_nearest_93 : decode cX4_nearest 93 = .ok (.ifCond .ge 9, 3) := dk_156 0 9 (dk_at dksX4_nearest_3 21 rfl rfl)
theorem dX4_nearest_96 : decode cX4_nearest 96 = .ok (.iload 7, 2) := dk_21 7 (dk_at dksX4_nearest_4 0 rfl rfl)
theorem dX4_nearest_98 : decode cX4_nearest 98 = .ok (.ineg, 1) := dk_116 (dk_at dksX4_nearest_4 2 rfl rfl)
theorem dX4_nearest_99 : decode cX4_nearest 99 = .ok (.goto 5, 3) := dk_167 0 5 (dk_at dksX4_nearest_4 3 rfl rfl)
theorem dX4_nearest_102 : decode cX4_nearest 102 = .ok (.iload 7, 2) := dk_21 7 (dk_at dksX4_nearest_4 6 rfl rfl)
theorem dX4_nearest_104 : decode cX4_nearest 104 = .ok (.istore 7, 2) := dk_54 7 (dk_at dksX4_nearest_4 8 rfl rfl)
theorem dX4_nearest_106 : decode cX4_nearest 106 = .ok (.iload 5, 2) := dk_21 5 (dk_at dksX4_nearest_4 10 rfl rfl)
theorem dX4_nearest_108 : decode cX4_nearest 108 = .ok (.ifCond .eq 10, 3) := dk_153 0 10 (dk_at dksX4_nearest_4 12 rfl rfl)
theorem dX4_nearest_111 : decode cX4_nearest 111 = .ok (.iload 6, 2) := dk_21 6 (dk_at dksX4_nearest_4 15 rfl rfl)
theorem dX4_nearest_113 : decode cX4_nearest 113 = .ok (.iload 7, 2) := dk_21 7 (dk_at dksX4_nearest_4 17 rfl rfl)
theorem dX4_nearest_115 : decode cX4_nearest 115 = .ok (.if_icmp .ge 17, 3) := dk_162 0 17 (dk_at dksX4_nearest_4 19 rfl rfl)
theorem dX4_nearest_118 : decode cX4_nearest 118 = .ok (.aload_n 0, 1) := dk_42 (dk_at dksX4_nearest_4 22 rfl rfl)
theorem dX4_nearest_119 : decode cX4_nearest 119 = .ok (.getfield 7, 3) := dk_180 0 7 (dk_at dksX4_nearest_5 0 rfl rfl)
theorem dX4_nearest_122 : decode cX4_nearest 122 = .ok (.iload_n 3, 1) := dk_29 (dk_at dksX4_nearest_5 3 rfl rfl)
theorem dX4_nearest_123 : decode cX4_nearest 123 = .ok (.iconst 2, 1) := dk_5 (dk_at dksX4_nearest_5 4 rfl rfl)
theorem dX4_nearest_124 : decode cX4_nearest 124 = .ok (.iadd, 1) := dk_96 (dk_at dksX4_nearest_5 5 rfl rfl)
theorem dX4_nearest_125 : decode cX4_nearest 125 = .ok (.iload 5, 2) := dk_21 5 (dk_at dksX4_nearest_5 6 rfl rfl)
theorem dX4_nearest_127 : decode cX4_nearest 127 = .ok (.iadd, 1) := dk_96 (dk_at dksX4_nearest_5 8 rfl rfl)
theorem dX4_nearest_128 : decode cX4_nearest 128 = .ok (.iaload, 1) := dk_46 (dk_at dksX4_nearest_5 9 rfl rfl)
theorem dX4_nearest_129 : decode cX4_nearest 129 = .ok (.goto 5, 3) := dk_167 0 5 (dk_at dksX4_nearest_5 10 rfl rfl)
theorem dX4_nearest_132 : decode cX4_nearest 132 = .ok (.iload 4, 2) := dk_21 4 (dk_at dksX4_nearest_5 13 rfl rfl)
theorem dX4_nearest_134 : decode cX4_nearest 134 = .ok (.istore 4, 2) := dk_54 4 (dk_at dksX4_nearest_5 15 rfl rfl)
theorem dX4_nearest_136 : decode cX4_nearest 136 = .ok (.iinc 5 1, 3) := dk_132 5 1 (dk_at dksX4_nearest_5 17 rfl rfl)
theorem dX4_nearest_139 : decode cX4_nearest 139 = .ok (.goto (-97), 3) := dk_167 255 159 (dk_at dksX4_nearest_5 20 rfl rfl)
theorem dX4_nearest_142 : decode cX4_nearest 142 = .ok (.iload 4, 2) := dk_21 4 (dk_at dksX4_nearest_6 0 rfl rfl)
theorem dX4_nearest_144 : decode cX4_nearest 144 = .ok (.ireturn, 1) := dk_172 (dk_at dksX4_nearest_6 2 rfl rfl)
abbrev cX4_rangeSum : ByteArray := prog_19_method_58_code
def yX4_rangeSum : MethodName := ⟨RX4, "rangeSum", "(III)I"⟩
def dkwX4_rangeSum_5 : List UInt8 := [167, 255, 178, 21, 4, 172]
abbrev dktX4_rangeSum_5 : List UInt8 := dkwX4_rangeSum_5 ++ []
def dkwX4_rangeSum_4 : List UInt8 := [180, 0, 7, 27, 184, 0, 171, 16, 62, 96, 21, 5, 96, 46, 167, 0, 4, 3, 96, 54, 4, 132, 5, 1]
abbrev dktX4_rangeSum_4 : List UInt8 := dkwX4_rangeSum_4 ++ dktX4_rangeSum_5
def dkwX4_rangeSum_3 : List UInt8 := [5, 96, 21, 5, 96, 46, 54, 6, 21, 4, 21, 6, 28, 161, 0, 27, 21, 6, 29, 162, 0, 21, 42]
abbrev dktX4_rangeSum_3 : List UInt8 := dkwX4_rangeSum_3 ++ dktX4_rangeSum_4
def dkwX4_rangeSum_2 : List UInt8 := [21, 5, 42, 180, 0, 7, 27, 184, 0, 171, 4, 96, 46, 162, 0, 61, 42, 180, 0, 7, 27, 184, 0, 171]
abbrev dktX4_rangeSum_2 : List UInt8 := dkwX4_rangeSum_2 ++ dktX4_rangeSum_3
def dkwX4_rangeSum_1 : List UInt8 := [153, 0, 7, 3, 167, 0, 4, 5, 181, 0, 62, 3, 54, 4, 3, 54, 5, 42, 180, 0, 62, 154, 0, 77]
abbrev dktX4_rangeSum_1 : List UInt8 := dkwX4_rangeSum_1 ++ dktX4_rangeSum_2
def dkwX4_rangeSum_0 : List UInt8 := [42, 42, 27, 182, 0, 183, 154, 0, 7, 4, 167, 0, 22, 28, 184, 0, 232, 153, 0, 14, 29, 184, 0, 232]
abbrev dktX4_rangeSum_0 : List UInt8 := dkwX4_rangeSum_0 ++ dktX4_rangeSum_1
theorem dksX4_rangeSum_0 : cX4_rangeSum.data.toList.drop 0 = dktX4_rangeSum_0 := by decide +kernel
theorem dksX4_rangeSum_1 : cX4_rangeSum.data.toList.drop 24 = dktX4_rangeSum_1 := dk_seg dksX4_rangeSum_0 24 rfl rfl
theorem dksX4_rangeSum_2 : cX4_rangeSum.data.toList.drop 48 = dktX4_rangeSum_2 := dk_seg dksX4_rangeSum_1 24 rfl rfl
theorem dksX4_rangeSum_3 : cX4_rangeSum.data.toList.drop 72 = dktX4_rangeSum_3 := dk_seg dksX4_rangeSum_2 24 rfl rfl
theorem dksX4_rangeSum_4 : cX4_rangeSum.data.toList.drop 95 = dktX4_rangeSum_4 := dk_seg dksX4_rangeSum_3 23 rfl rfl
theorem dksX4_rangeSum_5 : cX4_rangeSum.data.toList.drop 119 = dktX4_rangeSum_5 := dk_seg dksX4_rangeSum_4 24 rfl rfl
theorem dX4_rangeSum_0 : decode cX4_rangeSum 0 = .ok (.aload_n 0, 1) := dk_42 (dk_at dksX4_rangeSum_0 0 rfl rfl)
theorem dX4_rangeSum_1 : decode cX4_rangeSum 1 = .ok (.aload_n 0, 1) := dk_42 (dk_at dksX4_rangeSum_0 1 rfl rfl)
theorem dX4_rangeSum_2 : decode cX4_rangeSum 2 = .ok (.iload_n 1, 1) := dk_27 (dk_at dksX4_rangeSum_0 2 rfl rfl)
theorem dX4_rangeSum_3 : decode cX4_rangeSum 3 = .ok (.invokevirtual 183, 3) := dk_182 0 183 (dk_at dksX4_rangeSum_0 3 rfl rfl)
theorem dX4_rangeSum_6 : decode cX4_rangeSum 6 = .ok (.ifCond .ne 7, 3) := dk_154 0 7 (dk_at dksX4_rangeSum_0 6 rfl rfl)
theorem dX4_rangeSum_9 : decode cX4_rangeSum 9 = .ok (.iconst 1, 1) := dk_4 (dk_at dksX4_rangeSum_0 9 rfl rfl)
theorem dX4_rangeSum_10 : decode cX4_rangeSum 10 = .ok (.goto 22, 3) := dk_167 0 22 (dk_at dksX4_rangeSum_0 10 rfl rfl)
theorem dX4_rangeSum_13 : decode cX4_rangeSum 13 = .ok (.iload_n 2, 1) := dk_28 (dk_at dksX4_rangeSum_0 13 rfl rfl)
theorem dX4_rangeSum_14 : decode cX4_rangeSum 14 = .ok (.invokestatic 232, 3) := dk_184 0 232 (dk_at dksX4_rangeSum_0 14 rfl rfl)
theorem dX4_rangeSum_17 : decode cX4_rangeSum 17 = .ok (.ifCond .eq 14, 3) := dk_153 0 14 (dk_at dksX4_rangeSum_0 17 rfl rfl)
theorem dX4_rangeSum_20 : decode cX4_rangeSum 20 = .ok (.iload_n 3, 1) := dk_29 (dk_at dksX4_rangeSum_0 20 rfl rfl)
theorem dX4_rangeSum_21 : decode cX4_rangeSum 21 = .ok (.invokestatic 232, 3) := dk_184 0 232 (dk_at dksX4_rangeSum_0 21 rfl rfl)
theorem dX4_rangeSum_24 : decode cX4_rangeSum 24 = .ok (.ifCond .eq 7, 3) := dk_153 0 7 (dk_at dksX4_rangeSum_1 0 rfl rfl)
theorem dX4_rangeSum_27 : decode cX4_rangeSum 27 = .ok (.iconst 0, 1) := dk_3 (dk_at dksX4_rangeSum_1 3 rfl rfl)
theorem dX4_rangeSum_28 : decode cX4_rangeSum 28 = .ok (.goto 4, 3) := dk_167 0 4 (dk_at dksX4_rangeSum_1 4 rfl rfl)
theorem dX4_rangeSum_31 : decode cX4_rangeSum 31 = .ok (.iconst 2, 1) := dk_5 (dk_at dksX4_rangeSum_1 7 rfl rfl)
theorem dX4_rangeSum_32 : decode cX4_rangeSum 32 = .ok (.putfield 62, 3) := dk_181 0 62 (dk_at dksX4_rangeSum_1 8 rfl rfl)
theorem dX4_rangeSum_35 : decode cX4_rangeSum 35 = .ok (.iconst 0, 1) := dk_3 (dk_at dksX4_rangeSum_1 11 rfl rfl)
theorem dX4_rangeSum_36 : decode cX4_rangeSum 36 = .ok (.istore 4, 2) := dk_54 4 (dk_at dksX4_rangeSum_1 12 rfl rfl)
theorem dX4_rangeSum_38 : decode cX4_rangeSum 38 = .ok (.iconst 0, 1) := dk_3 (dk_at dksX4_rangeSum_1 14 rfl rfl)
theorem dX4_rangeSum_39 : decode cX4_rangeSum 39 = .ok (.istore 5, 2) := dk_54 5 (dk_at dksX4_rangeSum_1 15 rfl rfl)
theorem dX4_rangeSum_41 : decode cX4_rangeSum 41 = .ok (.aload_n 0, 1) := dk_42 (dk_at dksX4_rangeSum_1 17 rfl rfl)
theorem dX4_rangeSum_42 : decode cX4_rangeSum 42 = .ok (.getfield 62, 3) := dk_180 0 62 (dk_at dksX4_rangeSum_1 18 rfl rfl)
theorem dX4_rangeSum_45 : decode cX4_rangeSum 45 = .ok (.ifCond .ne 77, 3) := dk_154 0 77 (dk_at dksX4_rangeSum_1 21 rfl rfl)
theorem dX4_rangeSum_48 : decode cX4_rangeSum 48 = .ok (.iload 5, 2) := dk_21 5 (dk_at dksX4_rangeSum_2 0 rfl rfl)
theorem dX4_rangeSum_50 : decode cX4_rangeSum 50 = .ok (.aload_n 0, 1) := dk_42 (dk_at dksX4_rangeSum_2 2 rfl rfl)
theorem dX4_rangeSum_51 : decode cX4_rangeSum 51 = .ok (.getfield 7, 3) := dk_180 0 7 (dk_at dksX4_rangeSum_2 3 rfl rfl)
theorem dX4_rangeSum_54 : decode cX4_rangeSum 54 = .ok (.iload_n 1, 1) := dk_27 (dk_at dksX4_rangeSum_2 6 rfl rfl)
theorem dX4_rangeSum_55 : decode cX4_rangeSum 55 = .ok (.invokestatic 171, 3) := dk_184 0 171 (dk_at dksX4_rangeSum_2 7 rfl rfl)
theorem dX4_rangeSum_58 : decode cX4_rangeSum 58 = .ok (.iconst 1, 1) := dk_4 (dk_at dksX4_rangeSum_2 10 rfl rfl)
theorem dX4_rangeSum_59 : decode cX4_rangeSum 59 = .ok (.iadd, 1) := dk_96 (dk_at dksX4_rangeSum_2 11 rfl rfl)
theorem dX4_rangeSum_60 : decode cX4_rangeSum 60 = .ok (.iaload, 1) := dk_46 (dk_at dksX4_rangeSum_2 12 rfl rfl)
theorem dX4_rangeSum_61 : decode cX4_rangeSum 61 = .ok (.if_icmp .ge 61, 3) := dk_162 0 61 (dk_at dksX4_rangeSum_2 13 rfl rfl)
theorem dX4_rangeSum_64 : decode cX4_rangeSum 64 = .ok (.aload_n 0, 1) := dk_42 (dk_at dksX4_rangeSum_2 16 rfl rfl)
theorem dX4_rangeSum_65 : decode cX4_rangeSum 65 = .ok (.getfield 7, 3) := dk_180 0 7 (dk_at dksX4_rangeSum_2 17 rfl rfl)
theorem dX4_rangeSum_68 : decode cX4_rangeSum 68 = .ok (.iload_n 1, 1) := dk_27 (dk_at dksX4_rangeSum_2 20 rfl rfl)
theorem dX4_rangeSum_69 : decode cX4_rangeSum 69 = .ok (.invokestatic 171, 3) := dk_184 0 171 (dk_at dksX4_rangeSum_2 21 rfl rfl)
theorem dX4_rangeSum_72 : decode cX4_rangeSum 72 = .ok (.iconst 2, 1) := dk_5 (dk_at dksX4_rangeSum_3 0 rfl rfl)
theorem dX4_rangeSum_73 : decode cX4_rangeSum 73 = .ok (.iadd, 1) := dk_96 (dk_at dksX4_rangeSum_3 1 rfl rfl)
theorem dX4_rangeSum_74 : decode cX4_rangeSum 74 = .ok (.iload 5, 2) := dk_21 5 (dk_at dksX4_rangeSum_3 2 rfl rfl)
theorem dX4_rangeSum_76 : decode cX4_rangeSum 76 = .ok (.iadd, 1) := dk_96 (dk_at dksX4_rangeSum_3 4 rfl rfl)
theorem dX4_rangeSum_77 : decode cX4_rangeSum 77 = .ok (.iaload, 1) := dk_46 (dk_at dksX4_rangeSum_3 5 rfl rfl)
theorem dX4_rangeSum_78 : decode cX4_rangeSum 78 = .ok (.istore 6, 2) := dk_54 6 (dk_at dksX4_rangeSum_3 6 rfl rfl)
theorem dX4_rangeSum_80 : decode cX4_rangeSum 80 = .ok (.iload 4, 2) := dk_21 4 (dk_at dksX4_rangeSum_3 8 rfl rfl)
theorem dX4_rangeSum_82 : decode cX4_rangeSum 82 = .ok (.iload 6, 2) := dk_21 6 (dk_at dksX4_rangeSum_3 10 rfl rfl)
theorem dX4_rangeSum_84 : decode cX4_rangeSum 84 = .ok (.iload_n 2, 1) := dk_28 (dk_at dksX4_rangeSum_3 12 rfl rfl)
theorem dX4_rangeSum_85 : decode cX4_rangeSum 85 = .ok (.if_icmp .lt 27, 3) := dk_161 0 27 (dk_at dksX4_rangeSum_3 13 rfl rfl)
theorem dX4_rangeSum_88 : decode cX4_rangeSum 88 = .ok (.iload 6, 2) := dk_21 6 (dk_at dksX4_rangeSum_3 16 rfl rfl)
theorem dX4_rangeSum_90 : decode cX4_rangeSum 90 = .ok (.iload_n 3, 1) := dk_29 (dk_at dksX4_rangeSum_3 18 rfl rfl)
theorem dX4_rangeSum_91 : decode cX4_rangeSum 91 = .ok (.if_icmp .ge 21, 3) := dk_162 0 21 (dk_at dksX4_rangeSum_3 19 rfl rfl)
theorem dX4_rangeSum_94 : decode cX4_rangeSum 94 = .ok (.aload_n 0, 1) := dk_42 (dk_at dksX4_rangeSum_3 22 rfl rfl)
theorem dX4_rangeSum_95 : decode cX4_rangeSum 95 = .ok (.getfield 7, 3) := dk_180 0 7 (dk_at dksX4_rangeSum_4 0 rfl rfl)
theorem dX4_rangeSum_98 : decode cX4_rangeSum 98 = .ok (.iload_n 1, 1) := dk_27 (dk_at dksX4_rangeSum_4 3 rfl rfl)
theorem dX4_rangeSum_99 : decode cX4_rangeSum 99 = .ok (.invokestatic 171, 3) := dk_184 0 171 (dk_at dksX4_rangeSum_4 4 rfl rfl)
theorem dX4_rangeSum_102 : decode cX4_rangeSum 102 = .ok (.bipush 62, 2) := dk_16 62 (dk_at dksX4_rangeSum_4 7 rfl rfl)
theorem dX4_rangeSum_104 : decode cX4_rangeSum 104 = .ok (.iadd, 1) := dk_96 (dk_at dksX4_rangeSum_4 9 rfl rfl)
theorem dX4_rangeSum_105 : decode cX4_rangeSum 105 = .ok (.iload 5, 2) := dk_21 5 (dk_at dksX4_rangeSum_4 10 rfl rfl)
theorem dX4_rangeSum_107 : decode cX4_rangeSum 107 = .ok (.iadd, 1) := dk_96 (dk_at dksX4_rangeSum_4 12 rfl rfl)
theorem dX4_rangeSum_108 : decode cX4_rangeSum 108 = .ok (.iaload, 1) := dk_46 (dk_at dksX4_rangeSum_4 13 rfl rfl)
theorem dX4_rangeSum_109 : decode cX4_rangeSum 109 = .ok (.goto 4, 3) := dk_167 0 4 (dk_at dksX4_rangeSum_4 14 rfl rfl)
theorem dX4_rangeSum_112 : decode cX4_rangeSum 112 = .ok (.iconst 0, 1) := dk_3 (dk_at dksX4_rangeSum_4 17 rfl rfl)
theorem dX4_rangeSum_113 : decode cX4_rangeSum 113 = .ok (.iadd, 1) := dk_96 (dk_at dksX4_rangeSum_4 18 rfl rfl)
theorem dX4_rangeSum_114 : decode cX4_rangeSum 114 = .ok (.istore 4, 2) := dk_54 4 (dk_at dksX4_rangeSum_4 19 rfl rfl)
theorem dX4_rangeSum_116 : decode cX4_rangeSum 116 = .ok (.iinc 5 1, 3) := dk_132 5 1 (dk_at dksX4_rangeSum_4 21 rfl rfl)
theorem dX4_rangeSum_119 : decode cX4_rangeSum 119 = .ok (.goto (-78), 3) := dk_167 255 178 (dk_at dksX4_rangeSum_5 0 rfl rfl)
theorem dX4_rangeSum_122 : decode cX4_rangeSum 122 = .ok (.iload 4, 2) := dk_21 4 (dk_at dksX4_rangeSum_5 3 rfl rfl)
theorem dX4_rangeSum_124 : decode cX4_rangeSum 124 = .ok (.ireturn, 1) := dk_172 (dk_at dksX4_rangeSum_5 5 rfl rfl)
abbrev cX4_rowSize : ByteArray := prog_19_method_59_code
def yX4_rowSize : MethodName := ⟨RX4, "rowSize", "(II)I"⟩
def dkwX4_rowSize_1 : List UInt8 := [181, 0, 62, 42, 180, 0, 62, 158, 0, 7, 3, 167, 0, 9, 42, 27, 28, 182, 0, 241, 172]
abbrev dktX4_rowSize_1 : List UInt8 := dkwX4_rowSize_1 ++ []
def dkwX4_rowSize_0 : List UInt8 := [42, 42, 27, 182, 0, 183, 154, 0, 7, 4, 167, 0, 13, 28, 4, 162, 0, 7, 5, 167, 0, 4, 3]
abbrev dktX4_rowSize_0 : List UInt8 := dkwX4_rowSize_0 ++ dktX4_rowSize_1
theorem dksX4_rowSize_0 : cX4_rowSize.data.toList.drop 0 = dktX4_rowSize_0 := by decide +kernel
theorem dksX4_rowSize_1 : cX4_rowSize.data.toList.drop 23 = dktX4_rowSize_1 := dk_seg dksX4_rowSize_0 23 rfl rfl
theorem dX4_rowSize_0 : decode cX4_rowSize 0 = .ok (.aload_n 0, 1) := dk_42 (dk_at dksX4_rowSize_0 0 rfl rfl)
theorem dX4_rowSize_1 : decode cX4_rowSize 1 = .ok (.aload_n 0, 1) := dk_42 (dk_at dksX4_rowSize_0 1 rfl rfl)
theorem dX4_rowSize_2 : decode cX4_rowSize 2 = .ok (.iload_n 1, 1) := dk_27 (dk_at dksX4_rowSize_0 2 rfl rfl)
theorem dX4_rowSize_3 : decode cX4_rowSize 3 = .ok (.invokevirtual 183, 3) := dk_182 0 183 (dk_at dksX4_rowSize_0 3 rfl rfl)
theorem dX4_rowSize_6 : decode cX4_rowSize 6 = .ok (.ifCond .ne 7, 3) := dk_154 0 7 (dk_at dksX4_rowSize_0 6 rfl rfl)
theorem dX4_rowSize_9 : decode cX4_rowSize 9 = .ok (.iconst 1, 1) := dk_4 (dk_at dksX4_rowSize_0 9 rfl rfl)
theorem dX4_rowSize_10 : decode cX4_rowSize 10 = .ok (.goto 13, 3) := dk_167 0 13 (dk_at dksX4_rowSize_0 10 rfl rfl)
theorem dX4_rowSize_13 : decode cX4_rowSize 13 = .ok (.iload_n 2, 1) := dk_28 (dk_at dksX4_rowSize_0 13 rfl rfl)
theorem dX4_rowSize_14 : decode cX4_rowSize 14 = .ok (.iconst 1, 1) := dk_4 (dk_at dksX4_rowSize_0 14 rfl rfl)
theorem dX4_rowSize_15 : decode cX4_rowSize 15 = .ok (.if_icmp .ge 7, 3) := dk_162 0 7 (dk_at dksX4_rowSize_0 15 rfl rfl)
theorem dX4_rowSize_18 : decode cX4_rowSize 18 = .ok (.iconst 2, 1) := dk_5 (dk_at dksX4_rowSize_0 18 rfl rfl)
theorem dX4_rowSize_19 : decode cX4_rowSize 19 = .ok (.goto 4, 3) := dk_167 0 4 (dk_at dksX4_rowSize_0 19 rfl rfl)
theorem dX4_rowSize_22 : decode cX4_rowSize 22 = .ok (.iconst 0, 1) := dk_3 (dk_at dksX4_rowSize_0 22 rfl rfl)
theorem dX4_rowSize_23 : decode cX4_rowSize 23 = .ok (.putfield 62, 3) := dk_181 0 62 (dk_at dksX4_rowSize_1 0 rfl rfl)
theorem dX4_rowSize_26 : decode cX4_rowSize 26 = .ok (.aload_n 0, 1) := dk_42 (dk_at dksX4_rowSize_1 3 rfl rfl)
theorem dX4_rowSize_27 : decode cX4_rowSize 27 = .ok (.getfield 62, 3) := dk_180 0 62 (dk_at dksX4_rowSize_1 4 rfl rfl)
theorem dX4_rowSize_30 : decode cX4_rowSize 30 = .ok (.ifCond .le 7, 3) := dk_158 0 7 (dk_at dksX4_rowSize_1 7 rfl rfl)
theorem dX4_rowSize_33 : decode cX4_rowSize 33 = .ok (.iconst 0, 1) := dk_3 (dk_at dksX4_rowSize_1 10 rfl rfl)
theorem dX4_rowSize_34 : decode cX4_rowSize 34 = .ok (.goto 9, 3) := dk_167 0 9 (dk_at dksX4_rowSize_1 11 rfl rfl)
theorem dX4_rowSize_37 : decode cX4_rowSize 37 = .ok (.aload_n 0, 1) := dk_42 (dk_at dksX4_rowSize_1 14 rfl rfl)
theorem dX4_rowSize_38 : decode cX4_rowSize 38 = .ok (.iload_n 1, 1) := dk_27 (dk_at dksX4_rowSize_1 15 rfl rfl)
theorem dX4_rowSize_39 : decode cX4_rowSize 39 = .ok (.iload_n 2, 1) := dk_28 (dk_at dksX4_rowSize_1 16 rfl rfl)
theorem dX4_rowSize_40 : decode cX4_rowSize 40 = .ok (.invokevirtual 241, 3) := dk_182 0 241 (dk_at dksX4_rowSize_1 17 rfl rfl)
theorem dX4_rowSize_43 : decode cX4_rowSize 43 = .ok (.ireturn, 1) := dk_172 (dk_at dksX4_rowSize_1 20 rfl rfl)
abbrev cX4_inRow : ByteArray := prog_19_method_32_code
def yX4_inRow : MethodName := ⟨RX4, "inRow", "(II)I"⟩
def dkwX4_inRow_2 : List UInt8 := [54, 4, 132, 5, 1, 167, 255, 214, 21, 4, 172]
abbrev dktX4_inRow_2 : List UInt8 := dkwX4_inRow_2 ++ []
def dkwX4_inRow_1 : List UInt8 := [21, 4, 42, 180, 0, 7, 29, 16, 122, 96, 21, 5, 96, 46, 28, 161, 0, 7, 4, 167, 0, 4, 3, 96]
abbrev dktX4_inRow_1 : List UInt8 := dkwX4_inRow_1 ++ dktX4_inRow_2
def dkwX4_inRow_0 : List UInt8 := [27, 184, 0, 171, 62, 3, 54, 4, 3, 54, 5, 21, 5, 42, 180, 0, 7, 29, 4, 96, 46, 162, 0, 35]
abbrev dktX4_inRow_0 : List UInt8 := dkwX4_inRow_0 ++ dktX4_inRow_1
theorem dksX4_inRow_0 : cX4_inRow.data.toList.drop 0 = dktX4_inRow_0 := by decide +kernel
theorem dksX4_inRow_1 : cX4_inRow.data.toList.drop 24 = dktX4_inRow_1 := dk_seg dksX4_inRow_0 24 rfl rfl
theorem dksX4_inRow_2 : cX4_inRow.data.toList.drop 48 = dktX4_inRow_2 := dk_seg dksX4_inRow_1 24 rfl rfl
theorem dX4_inRow_0 : decode cX4_inRow 0 = .ok (.iload_n 1, 1) := dk_27 (dk_at dksX4_inRow_0 0 rfl rfl)
theorem dX4_inRow_1 : decode cX4_inRow 1 = .ok (.invokestatic 171, 3) := dk_184 0 171 (dk_at dksX4_inRow_0 1 rfl rfl)
theorem dX4_inRow_4 : decode cX4_inRow 4 = .ok (.istore_n 3, 1) := dk_62 (dk_at dksX4_inRow_0 4 rfl rfl)
theorem dX4_inRow_5 : decode cX4_inRow 5 = .ok (.iconst 0, 1) := dk_3 (dk_at dksX4_inRow_0 5 rfl rfl)
theorem dX4_inRow_6 : decode cX4_inRow 6 = .ok (.istore 4, 2) := dk_54 4 (dk_at dksX4_inRow_0 6 rfl rfl)
theorem dX4_inRow_8 : decode cX4_inRow 8 = .ok (.iconst 0, 1) := dk_3 (dk_at dksX4_inRow_0 8 rfl rfl)
theorem dX4_inRow_9 : decode cX4_inRow 9 = .ok (.istore 5, 2) := dk_54 5 (dk_at dksX4_inRow_0 9 rfl rfl)
theorem dX4_inRow_11 : decode cX4_inRow 11 = .ok (.iload 5, 2) := dk_21 5 (dk_at dksX4_inRow_0 11 rfl rfl)
theorem dX4_inRow_13 : decode cX4_inRow 13 = .ok (.aload_n 0, 1) := dk_42 (dk_at dksX4_inRow_0 13 rfl rfl)
theorem dX4_inRow_14 : decode cX4_inRow 14 = .ok (.getfield 7, 3) := dk_180 0 7 (dk_at dksX4_inRow_0 14 rfl rfl)
theorem dX4_inRow_17 : decode cX4_inRow 17 = .ok (.iload_n 3, 1) := dk_29 (dk_at dksX4_inRow_0 17 rfl rfl)
theorem dX4_inRow_18 : decode cX4_inRow 18 = .ok (.iconst 1, 1) := dk_4 (dk_at dksX4_inRow_0 18 rfl rfl)
theorem dX4_inRow_19 : decode cX4_inRow 19 = .ok (.iadd, 1) := dk_96 (dk_at dksX4_inRow_0 19 rfl rfl)
theorem dX4_inRow_20 : decode cX4_inRow 20 = .ok (.iaload, 1) := dk_46 (dk_at dksX4_inRow_0 20 rfl rfl)
theorem dX4_inRow_21 : decode cX4_inRow 21 = .ok (.if_icmp .ge 35, 3) := dk_162 0 35 (dk_at dksX4_inRow_0 21 rfl rfl)
theorem dX4_inRow_24 : decode cX4_inRow 24 = .ok (.iload 4, 2) := dk_21 4 (dk_at dksX4_inRow_1 0 rfl rfl)
theorem dX4_inRow_26 : decode cX4_inRow 26 = .ok (.aload_n 0, 1) := dk_42 (dk_at dksX4_inRow_1 2 rfl rfl)
theorem dX4_inRow_27 : decode cX4_inRow 27 = .ok (.getfield 7, 3) := dk_180 0 7 (dk_at dksX4_inRow_1 3 rfl rfl)
theorem dX4_inRow_30 : decode cX4_inRow 30 = .ok (.iload_n 3, 1) := dk_29 (dk_at dksX4_inRow_1 6 rfl rfl)
theorem dX4_inRow_31 : decode cX4_inRow 31 = .ok (.bipush 122, 2) := dk_16 122 (dk_at dksX4_inRow_1 7 rfl rfl)
theorem dX4_inRow_33 : decode cX4_inRow 33 = .ok (.iadd, 1) := dk_96 (dk_at dksX4_inRow_1 9 rfl rfl)
theorem dX4_inRow_34 : decode cX4_inRow 34 = .ok (.iload 5, 2) := dk_21 5 (dk_at dksX4_inRow_1 10 rfl rfl)
theorem dX4_inRow_36 : decode cX4_inRow 36 = .ok (.iadd, 1) := dk_96 (dk_at dksX4_inRow_1 12 rfl rfl)
theorem dX4_inRow_37 : decode cX4_inRow 37 = .ok (.iaload, 1) := dk_46 (dk_at dksX4_inRow_1 13 rfl rfl)
theorem dX4_inRow_38 : decode cX4_inRow 38 = .ok (.iload_n 2, 1) := dk_28 (dk_at dksX4_inRow_1 14 rfl rfl)
theorem dX4_inRow_39 : decode cX4_inRow 39 = .ok (.if_icmp .lt 7, 3) := dk_161 0 7 (dk_at dksX4_inRow_1 15 rfl rfl)
theorem dX4_inRow_42 : decode cX4_inRow 42 = .ok (.iconst 1, 1) := dk_4 (dk_at dksX4_inRow_1 18 rfl rfl)
theorem dX4_inRow_43 : decode cX4_inRow 43 = .ok (.goto 4, 3) := dk_167 0 4 (dk_at dksX4_inRow_1 19 rfl rfl)
theorem dX4_inRow_46 : decode cX4_inRow 46 = .ok (.iconst 0, 1) := dk_3 (dk_at dksX4_inRow_1 22 rfl rfl)
theorem dX4_inRow_47 : decode cX4_inRow 47 = .ok (.iadd, 1) := dk_96 (dk_at dksX4_inRow_1 23 rfl rfl)
theorem dX4_inRow_48 : decode cX4_inRow 48 = .ok (.istore 4, 2) := dk_54 4 (dk_at dksX4_inRow_2 0 rfl rfl)
theorem dX4_inRow_50 : decode cX4_inRow 50 = .ok (.iinc 5 1, 3) := dk_132 5 1 (dk_at dksX4_inRow_2 2 rfl rfl)
theorem dX4_inRow_53 : decode cX4_inRow 53 = .ok (.goto (-42), 3) := dk_167 255 214 (dk_at dksX4_inRow_2 5 rfl rfl)
theorem dX4_inRow_56 : decode cX4_inRow 56 = .ok (.iload 4, 2) := dk_21 4 (dk_at dksX4_inRow_2 8 rfl rfl)
theorem dX4_inRow_58 : decode cX4_inRow 58 = .ok (.ireturn, 1) := dk_172 (dk_at dksX4_inRow_2 10 rfl rfl)
abbrev cX4_linkWidth : ByteArray := prog_19_method_62_code
def yX4_linkWidth : MethodName := ⟨RX4, "linkWidth", "(III)I"⟩
def dkwX4_linkWidth_2 : List UInt8 := [167, 0, 14, 42, 27, 28, 21, 4, 182, 0, 197, 21, 4, 100, 172]
abbrev dktX4_linkWidth_2 : List UInt8 := dkwX4_linkWidth_2 ++ []
def dkwX4_linkWidth_1 : List UInt8 := [21, 4, 16, 254, 160, 0, 7, 4, 167, 0, 4, 3, 181, 0, 62, 42, 180, 0, 62, 158, 0, 7, 3]
abbrev dktX4_linkWidth_1 : List UInt8 := dkwX4_linkWidth_1 ++ dktX4_linkWidth_2
def dkwX4_linkWidth_0 : List UInt8 := [42, 27, 28, 182, 0, 244, 153, 0, 13, 42, 27, 28, 29, 182, 0, 247, 167, 0, 5, 16, 254, 54, 4, 42]
abbrev dktX4_linkWidth_0 : List UInt8 := dkwX4_linkWidth_0 ++ dktX4_linkWidth_1
theorem dksX4_linkWidth_0 : cX4_linkWidth.data.toList.drop 0 = dktX4_linkWidth_0 := by decide +kernel
theorem dksX4_linkWidth_1 : cX4_linkWidth.data.toList.drop 24 = dktX4_linkWidth_1 := dk_seg dksX4_linkWidth_0 24 rfl rfl
theorem dksX4_linkWidth_2 : cX4_linkWidth.data.toList.drop 47 = dktX4_linkWidth_2 := dk_seg dksX4_linkWidth_1 23 rfl rfl
theorem dX4_linkWidth_0 : decode cX4_linkWidth 0 = .ok (.aload_n 0, 1) := dk_42 (dk_at dksX4_linkWidth_0 0 rfl rfl)
theorem dX4_linkWidth_1 : decode cX4_linkWidth 1 = .ok (.iload_n 1, 1) := dk_27 (dk_at dksX4_linkWidth_0 1 rfl rfl)
theorem dX4_linkWidth_2 : decode cX4_linkWidth 2 = .ok (.iload_n 2, 1) := dk_28 (dk_at dksX4_linkWidth_0 2 rfl rfl)
theorem dX4_linkWidth_3 : decode cX4_linkWidth 3 = .ok (.invokevirtual 244, 3) := dk_182 0 244 (dk_at dksX4_linkWidth_0 3 rfl rfl)
theorem dX4_linkWidth_6 : decode cX4_linkWidth 6 = .ok (.ifCond .eq 13, 3) := dk_153 0 13 (dk_at dksX4_linkWidth_0 6 rfl rfl)
theorem dX4_linkWidth_9 : decode cX4_linkWidth 9 = .ok (.aload_n 0, 1) := dk_42 (dk_at dksX4_linkWidth_0 9 rfl rfl)
theorem dX4_linkWidth_10 : decode cX4_linkWidth 10 = .ok (.iload_n 1, 1) := dk_27 (dk_at dksX4_linkWidth_0 10 rfl rfl)
theorem dX4_linkWidth_11 : decode cX4_linkWidth 11 = .ok (.iload_n 2, 1) := dk_28 (dk_at dksX4_linkWidth_0 11 rfl rfl)
theorem dX4_linkWidth_12 : decode cX4_linkWidth 12 = .ok (.iload_n 3, 1) := dk_29 (dk_at dksX4_linkWidth_0 12 rfl rfl)
theorem dX4_linkWidth_13 : decode cX4_linkWidth 13 = .ok (.invokevirtual 247, 3) := dk_182 0 247 (dk_at dksX4_linkWidth_0 13 rfl rfl)
theorem dX4_linkWidth_16 : decode cX4_linkWidth 16 = .ok (.goto 5, 3) := dk_167 0 5 (dk_at dksX4_linkWidth_0 16 rfl rfl)
theorem dX4_linkWidth_19 : decode cX4_linkWidth 19 = .ok (.bipush (-2), 2) := dk_16 254 (dk_at dksX4_linkWidth_0 19 rfl rfl)
theorem dX4_linkWidth_21 : decode cX4_linkWidth 21 = .ok (.istore 4, 2) := dk_54 4 (dk_at dksX4_linkWidth_0 21 rfl rfl)
theorem dX4_linkWidth_23 : decode cX4_linkWidth 23 = .ok (.aload_n 0, 1) := dk_42 (dk_at dksX4_linkWidth_0 23 rfl rfl)
theorem dX4_linkWidth_24 : decode cX4_linkWidth 24 = .ok (.iload 4, 2) := dk_21 4 (dk_at dksX4_linkWidth_1 0 rfl rfl)
theorem dX4_linkWidth_26 : decode cX4_linkWidth 26 = .ok (.bipush (-2), 2) := dk_16 254 (dk_at dksX4_linkWidth_1 2 rfl rfl)
theorem dX4_linkWidth_28 : decode cX4_linkWidth 28 = .ok (.if_icmp .ne 7, 3) := dk_160 0 7 (dk_at dksX4_linkWidth_1 4 rfl rfl)
theorem dX4_linkWidth_31 : decode cX4_linkWidth 31 = .ok (.iconst 1, 1) := dk_4 (dk_at dksX4_linkWidth_1 7 rfl rfl)
theorem dX4_linkWidth_32 : decode cX4_linkWidth 32 = .ok (.goto 4, 3) := dk_167 0 4 (dk_at dksX4_linkWidth_1 8 rfl rfl)
theorem dX4_linkWidth_35 : decode cX4_linkWidth 35 = .ok (.iconst 0, 1) := dk_3 (dk_at dksX4_linkWidth_1 11 rfl rfl)
theorem dX4_linkWidth_36 : decode cX4_linkWidth 36 = .ok (.putfield 62, 3) := dk_181 0 62 (dk_at dksX4_linkWidth_1 12 rfl rfl)
theorem dX4_linkWidth_39 : decode cX4_linkWidth 39 = .ok (.aload_n 0, 1) := dk_42 (dk_at dksX4_linkWidth_1 15 rfl rfl)
theorem dX4_linkWidth_40 : decode cX4_linkWidth 40 = .ok (.getfield 62, 3) := dk_180 0 62 (dk_at dksX4_linkWidth_1 16 rfl rfl)
theorem dX4_linkWidth_43 : decode cX4_linkWidth 43 = .ok (.ifCond .le 7, 3) := dk_158 0 7 (dk_at dksX4_linkWidth_1 19 rfl rfl)
theorem dX4_linkWidth_46 : decode cX4_linkWidth 46 = .ok (.iconst 0, 1) := dk_3 (dk_at dksX4_linkWidth_1 22 rfl rfl)
theorem dX4_linkWidth_47 : decode cX4_linkWidth 47 = .ok (.goto 14, 3) := dk_167 0 14 (dk_at dksX4_linkWidth_2 0 rfl rfl)
theorem dX4_linkWidth_50 : decode cX4_linkWidth 50 = .ok (.aload_n 0, 1) := dk_42 (dk_at dksX4_linkWidth_2 3 rfl rfl)
theorem dX4_linkWidth_51 : decode cX4_linkWidth 51 = .ok (.iload_n 1, 1) := dk_27 (dk_at dksX4_linkWidth_2 4 rfl rfl)
theorem dX4_linkWidth_52 : decode cX4_linkWidth 52 = .ok (.iload_n 2, 1) := dk_28 (dk_at dksX4_linkWidth_2 5 rfl rfl)
theorem dX4_linkWidth_53 : decode cX4_linkWidth 53 = .ok (.iload 4, 2) := dk_21 4 (dk_at dksX4_linkWidth_2 6 rfl rfl)
theorem dX4_linkWidth_55 : decode cX4_linkWidth 55 = .ok (.invokevirtual 197, 3) := dk_182 0 197 (dk_at dksX4_linkWidth_2 8 rfl rfl)
theorem dX4_linkWidth_58 : decode cX4_linkWidth 58 = .ok (.iload 4, 2) := dk_21 4 (dk_at dksX4_linkWidth_2 11 rfl rfl)
theorem dX4_linkWidth_60 : decode cX4_linkWidth 60 = .ok (.isub, 1) := dk_100 (dk_at dksX4_linkWidth_2 13 rfl rfl)
theorem dX4_linkWidth_61 : decode cX4_linkWidth 61 = .ok (.ireturn, 1) := dk_172 (dk_at dksX4_linkWidth_2 14 rfl rfl)
abbrev cX4_isLevel : ByteArray := prog_19_method_61_code
def yX4_isLevel : MethodName := ⟨RX4, "isLevel", "(II)Z"⟩
def dkwX4_isLevel_1 : List UInt8 := [167, 0, 4, 3, 172]
abbrev dktX4_isLevel_1 : List UInt8 := dkwX4_isLevel_1 ++ []
def dkwX4_isLevel_0 : List UInt8 := [42, 27, 182, 0, 183, 153, 0, 22, 28, 133, 10, 42, 27, 182, 0, 194, 133, 184, 0, 72, 153, 0, 7, 4]
abbrev dktX4_isLevel_0 : List UInt8 := dkwX4_isLevel_0 ++ dktX4_isLevel_1
theorem dksX4_isLevel_0 : cX4_isLevel.data.toList.drop 0 = dktX4_isLevel_0 := by decide +kernel
theorem dksX4_isLevel_1 : cX4_isLevel.data.toList.drop 24 = dktX4_isLevel_1 := dk_seg dksX4_isLevel_0 24 rfl rfl
theorem dX4_isLevel_0 : decode cX4_isLevel 0 = .ok (.aload_n 0, 1) := dk_42 (dk_at dksX4_isLevel_0 0 rfl rfl)
theorem dX4_isLevel_1 : decode cX4_isLevel 1 = .ok (.iload_n 1, 1) := dk_27 (dk_at dksX4_isLevel_0 1 rfl rfl)
theorem dX4_isLevel_2 : decode cX4_isLevel 2 = .ok (.invokevirtual 183, 3) := dk_182 0 183 (dk_at dksX4_isLevel_0 2 rfl rfl)
theorem dX4_isLevel_5 : decode cX4_isLevel 5 = .ok (.ifCond .eq 22, 3) := dk_153 0 22 (dk_at dksX4_isLevel_0 5 rfl rfl)
theorem dX4_isLevel_8 : decode cX4_isLevel 8 = .ok (.iload_n 2, 1) := dk_28 (dk_at dksX4_isLevel_0 8 rfl rfl)
theorem dX4_isLevel_9 : decode cX4_isLevel 9 = .ok (.i2l, 1) := dk_133 (dk_at dksX4_isLevel_0 9 rfl rfl)
theorem dX4_isLevel_10 : decode cX4_isLevel 10 = .ok (.lconst 1, 1) := dk_10 (dk_at dksX4_isLevel_0 10 rfl rfl)
theorem dX4_isLevel_11 : decode cX4_isLevel 11 = .ok (.aload_n 0, 1) := dk_42 (dk_at dksX4_isLevel_0 11 rfl rfl)
theorem dX4_isLevel_12 : decode cX4_isLevel 12 = .ok (.iload_n 1, 1) := dk_27 (dk_at dksX4_isLevel_0 12 rfl rfl)
theorem dX4_isLevel_13 : decode cX4_isLevel 13 = .ok (.invokevirtual 194, 3) := dk_182 0 194 (dk_at dksX4_isLevel_0 13 rfl rfl)
theorem dX4_isLevel_16 : decode cX4_isLevel 16 = .ok (.i2l, 1) := dk_133 (dk_at dksX4_isLevel_0 16 rfl rfl)
theorem dX4_isLevel_17 : decode cX4_isLevel 17 = .ok (.invokestatic 72, 3) := dk_184 0 72 (dk_at dksX4_isLevel_0 17 rfl rfl)
theorem dX4_isLevel_20 : decode cX4_isLevel 20 = .ok (.ifCond .eq 7, 3) := dk_153 0 7 (dk_at dksX4_isLevel_0 20 rfl rfl)
theorem dX4_isLevel_23 : decode cX4_isLevel 23 = .ok (.iconst 1, 1) := dk_4 (dk_at dksX4_isLevel_0 23 rfl rfl)
theorem dX4_isLevel_24 : decode cX4_isLevel 24 = .ok (.goto 4, 3) := dk_167 0 4 (dk_at dksX4_isLevel_1 0 rfl rfl)
theorem dX4_isLevel_27 : decode cX4_isLevel 27 = .ok (.iconst 0, 1) := dk_3 (dk_at dksX4_isLevel_1 3 rfl rfl)
theorem dX4_isLevel_28 : decode cX4_isLevel 28 = .ok (.ireturn, 1) := dk_172 (dk_at dksX4_isLevel_1 4 rfl rfl)
abbrev cX4_beginOf : ByteArray := prog_19_method_60_code
def yX4_beginOf : MethodName := ⟨RX4, "beginOf", "(III)I"⟩
def dkwX4_beginOf_2 : List UInt8 := [21, 4, 172]
abbrev dktX4_beginOf_2 : List UInt8 := dkwX4_beginOf_2 ++ []
def dkwX4_beginOf_1 : List UInt8 := [54, 5, 21, 5, 29, 162, 0, 19, 42, 27, 28, 21, 4, 182, 0, 197, 54, 4, 132, 5, 1, 167, 255, 237]
abbrev dktX4_beginOf_1 : List UInt8 := dkwX4_beginOf_1 ++ dktX4_beginOf_2
def dkwX4_beginOf_0 : List UInt8 := [29, 133, 9, 42, 27, 28, 182, 0, 241, 133, 184, 0, 72, 154, 0, 6, 16, 254, 172, 2, 54, 4, 3]
abbrev dktX4_beginOf_0 : List UInt8 := dkwX4_beginOf_0 ++ dktX4_beginOf_1
theorem dksX4_beginOf_0 : cX4_beginOf.data.toList.drop 0 = dktX4_beginOf_0 := by decide +kernel
theorem dksX4_beginOf_1 : cX4_beginOf.data.toList.drop 23 = dktX4_beginOf_1 := dk_seg dksX4_beginOf_0 23 rfl rfl
theorem dksX4_beginOf_2 : cX4_beginOf.data.toList.drop 47 = dktX4_beginOf_2 := dk_seg dksX4_beginOf_1 24 rfl rfl
theorem dX4_beginOf_0 : decode cX4_beginOf 0 = .ok (.iload_n 3, 1) := dk_29 (dk_at dksX4_beginOf_0 0 rfl rfl)
theorem dX4_beginOf_1 : decode cX4_beginOf 1 = .ok (.i2l, 1) := dk_133 (dk_at dksX4_beginOf_0 1 rfl rfl)
theorem dX4_beginOf_2 : decode cX4_beginOf 2 = .ok (.lconst 0, 1) := dk_9 (dk_at dksX4_beginOf_0 2 rfl rfl)
theorem dX4_beginOf_3 : decode cX4_beginOf 3 = .ok (.aload_n 0, 1) := dk_42 (dk_at dksX4_beginOf_0 3 rfl rfl)
theorem dX4_beginOf_4 : decode cX4_beginOf 4 = .ok (.iload_n 1, 1) := dk_27 (dk_at dksX4_beginOf_0 4 rfl rfl)
theorem dX4_beginOf_5 : decode cX4_beginOf 5 = .ok (.iload_n 2, 1) := dk_28 (dk_at dksX4_beginOf_0 5 rfl rfl)
theorem dX4_beginOf_6 : decode cX4_beginOf 6 = .ok (.invokevirtual 241, 3) := dk_182 0 241 (dk_at dksX4_beginOf_0 6 rfl rfl)
theorem dX4_beginOf_9 : decode cX4_beginOf 9 = .ok (.i2l, 1) := dk_133 (dk_at dksX4_beginOf_0 9 rfl rfl)
theorem dX4_beginOf_10 : decode cX4_beginOf 10 = .ok (.invokestatic 72, 3) := dk_184 0 72 (dk_at dksX4_beginOf_0 10 rfl rfl)
theorem dX4_beginOf_13 : decode cX4_beginOf 13 = .ok (.ifCond .ne 6, 3) := dk_154 0 6 (dk_at dksX4_beginOf_0 13 rfl rfl)
theorem dX4_beginOf_16 : decode cX4_beginOf 16 = .ok (.bipush (-2), 2) := dk_16 254 (dk_at dksX4_beginOf_0 16 rfl rfl)
theorem dX4_beginOf_18 : decode cX4_beginOf 18 = .ok (.ireturn, 1) := dk_172 (dk_at dksX4_beginOf_0 18 rfl rfl)
theorem dX4_beginOf_19 : decode cX4_beginOf 19 = .ok (.iconst (-1), 1) := dk_2 (dk_at dksX4_beginOf_0 19 rfl rfl)
theorem dX4_beginOf_20 : decode cX4_beginOf 20 = .ok (.istore 4, 2) := dk_54 4 (dk_at dksX4_beginOf_0 20 rfl rfl)
theorem dX4_beginOf_22 : decode cX4_beginOf 22 = .ok (.iconst 0, 1) := dk_3 (dk_at dksX4_beginOf_0 22 rfl rfl)
theorem dX4_beginOf_23 : decode cX4_beginOf 23 = .ok (.istore 5, 2) := dk_54 5 (dk_at dksX4_beginOf_1 0 rfl rfl)
theorem dX4_beginOf_25 : decode cX4_beginOf 25 = .ok (.iload 5, 2) := dk_21 5 (dk_at dksX4_beginOf_1 2 rfl rfl)
theorem dX4_beginOf_27 : decode cX4_beginOf 27 = .ok (.iload_n 3, 1) := dk_29 (dk_at dksX4_beginOf_1 4 rfl rfl)
theorem dX4_beginOf_28 : decode cX4_beginOf 28 = .ok (.if_icmp .ge 19, 3) := dk_162 0 19 (dk_at dksX4_beginOf_1 5 rfl rfl)
theorem dX4_beginOf_31 : decode cX4_beginOf 31 = .ok (.aload_n 0, 1) := dk_42 (dk_at dksX4_beginOf_1 8 rfl rfl)
theorem dX4_beginOf_32 : decode cX4_beginOf 32 = .ok (.iload_n 1, 1) := dk_27 (dk_at dksX4_beginOf_1 9 rfl rfl)
theorem dX4_beginOf_33 : decode cX4_beginOf 33 = .ok (.iload_n 2, 1) := dk_28 (dk_at dksX4_beginOf_1 10 rfl rfl)
theorem dX4_beginOf_34 : decode cX4_beginOf 34 = .ok (.iload 4, 2) := dk_21 4 (dk_at dksX4_beginOf_1 11 rfl rfl)
theorem dX4_beginOf_36 : decode cX4_beginOf 36 = .ok (.invokevirtual 197, 3) := dk_182 0 197 (dk_at dksX4_beginOf_1 13 rfl rfl)
theorem dX4_beginOf_39 : decode cX4_beginOf 39 = .ok (.istore 4, 2) := dk_54 4 (dk_at dksX4_beginOf_1 16 rfl rfl)
theorem dX4_beginOf_41 : decode cX4_beginOf 41 = .ok (.iinc 5 1, 3) := dk_132 5 1 (dk_at dksX4_beginOf_1 18 rfl rfl)
theorem dX4_beginOf_44 : decode cX4_beginOf 44 = .ok (.goto (-19), 3) := dk_167 255 237 (dk_at dksX4_beginOf_1 21 rfl rfl)
theorem dX4_beginOf_47 : decode cX4_beginOf 47 = .ok (.iload 4, 2) := dk_21 4 (dk_at dksX4_beginOf_2 0 rfl rfl)
theorem dX4_beginOf_49 : decode cX4_beginOf 49 = .ok (.ireturn, 1) := dk_172 (dk_at dksX4_beginOf_2 2 rfl rfl)
abbrev cX4_linkSum : ByteArray := prog_19_method_63_code
def yX4_linkSum : MethodName := ⟨RX4, "linkSum", "(III)I"⟩
def dkwX4_linkSum_5 : List UInt8 := [21, 6, 172]
abbrev dktX4_linkSum_5 : List UInt8 := dkwX4_linkSum_5 ++ []
def dkwX4_linkSum_4 : List UInt8 := [180, 0, 7, 27, 184, 0, 171, 16, 62, 96, 21, 7, 96, 46, 96, 54, 6, 132, 7, 1, 167, 255, 210]
abbrev dktX4_linkSum_4 : List UInt8 := dkwX4_linkSum_4 ++ dktX4_linkSum_5
def dkwX4_linkSum_3 : List UInt8 := [163, 0, 45, 21, 7, 42, 180, 0, 7, 27, 184, 0, 171, 4, 96, 46, 162, 0, 29, 21, 6, 42]
abbrev dktX4_linkSum_3 : List UInt8 := dkwX4_linkSum_3 ++ dktX4_linkSum_4
def dkwX4_linkSum_2 : List UInt8 := [42, 27, 28, 21, 4, 182, 0, 197, 54, 5, 3, 54, 6, 21, 4, 4, 96, 54, 7, 21, 7, 21, 5]
abbrev dktX4_linkSum_2 : List UInt8 := dkwX4_linkSum_2 ++ dktX4_linkSum_3
def dkwX4_linkSum_1 : List UInt8 := [21, 4, 16, 254, 160, 0, 7, 4, 167, 0, 4, 3, 181, 0, 62, 42, 180, 0, 62, 158, 0, 5, 3, 172]
abbrev dktX4_linkSum_1 : List UInt8 := dkwX4_linkSum_1 ++ dktX4_linkSum_2
def dkwX4_linkSum_0 : List UInt8 := [42, 27, 28, 182, 0, 244, 153, 0, 13, 42, 27, 28, 29, 182, 0, 247, 167, 0, 5, 16, 254, 54, 4, 42]
abbrev dktX4_linkSum_0 : List UInt8 := dkwX4_linkSum_0 ++ dktX4_linkSum_1
theorem dksX4_linkSum_0 : cX4_linkSum.data.toList.drop 0 = dktX4_linkSum_0 := by decide +kernel
theorem dksX4_linkSum_1 : cX4_linkSum.data.toList.drop 24 = dktX4_linkSum_1 := dk_seg dksX4_linkSum_0 24 rfl rfl
theorem dksX4_linkSum_2 : cX4_linkSum.data.toList.drop 48 = dktX4_linkSum_2 := dk_seg dksX4_linkSum_1 24 rfl rfl
theorem dksX4_linkSum_3 : cX4_linkSum.data.toList.drop 71 = dktX4_linkSum_3 := dk_seg dksX4_linkSum_2 23 rfl rfl
theorem dksX4_linkSum_4 : cX4_linkSum.data.toList.drop 93 = dktX4_linkSum_4 := dk_seg dksX4_linkSum_3 22 rfl rfl
theorem dksX4_linkSum_5 : cX4_linkSum.data.toList.drop 116 = dktX4_linkSum_5 := dk_seg dksX4_linkSum_4 23 rfl rfl
theorem dX4_linkSum_0 : decode cX4_linkSum 0 = .ok (.aload_n 0, 1) := dk_42 (dk_at dksX4_linkSum_0 0 rfl rfl)
theorem dX4_linkSum_1 : decode cX4_linkSum 1 = .ok (.iload_n 1, 1) := dk_27 (dk_at dksX4_linkSum_0 1 rfl rfl)
theorem dX4_linkSum_2 : decode cX4_linkSum 2 = .ok (.iload_n 2, 1) := dk_28 (dk_at dksX4_linkSum_0 2 rfl rfl)
theorem dX4_linkSum_3 : decode cX4_linkSum 3 = .ok (.invokevirtual 244, 3) := dk_182 0 244 (dk_at dksX4_linkSum_0 3 rfl rfl)
theorem dX4_linkSum_6 : decode cX4_linkSum 6 = .ok (.ifCond .eq 13, 3) := dk_153 0 13 (dk_at dksX4_linkSum_0 6 rfl rfl)
theorem dX4_linkSum_9 : decode cX4_linkSum 9 = .ok (.aload_n 0, 1) := dk_42 (dk_at dksX4_linkSum_0 9 rfl rfl)
theorem dX4_linkSum_10 : decode cX4_linkSum 10 = .ok (.iload_n 1, 1) := dk_27 (dk_at dksX4_linkSum_0 10 rfl rfl)
theorem dX4_linkSum_11 : decode cX4_linkSum 11 = .ok (.iload_n 2, 1) := dk_28 (dk_at dksX4_linkSum_0 11 rfl rfl)
theorem dX4_linkSum_12 : decode cX4_linkSum 12 = .ok (.iload_n 3, 1) := dk_29 (dk_at dksX4_linkSum_0 12 rfl rfl)
theorem dX4_linkSum_13 : decode cX4_linkSum 13 = .ok (.invokevirtual 247, 3) := dk_182 0 247 (dk_at dksX4_linkSum_0 13 rfl rfl)
theorem dX4_linkSum_16 : decode cX4_linkSum 16 = .ok (.goto 5, 3) := dk_167 0 5 (dk_at dksX4_linkSum_0 16 rfl rfl)
theorem dX4_linkSum_19 : decode cX4_linkSum 19 = .ok (.bipush (-2), 2) := dk_16 254 (dk_at dksX4_linkSum_0 19 rfl rfl)
theorem dX4_linkSum_21 : decode cX4_linkSum 21 = .ok (.istore 4, 2) := dk_54 4 (dk_at dksX4_linkSum_0 21 rfl rfl)
theorem dX4_linkSum_23 : decode cX4_linkSum 23 = .ok (.aload_n 0, 1) := dk_42 (dk_at dksX4_linkSum_0 23 rfl rfl)
theorem dX4_linkSum_24 : decode cX4_linkSum 24 = .ok (.iload 4, 2) := dk_21 4 (dk_at dksX4_linkSum_1 0 rfl rfl)
theorem dX4_linkSum_26 : decode cX4_linkSum 26 = .ok (.bipush (-2), 2) := dk_16 254 (dk_at dksX4_linkSum_1 2 rfl rfl)
theorem dX4_linkSum_28 : decode cX4_linkSum 28 = .ok (.if_icmp .ne 7, 3) := dk_160 0 7 (dk_at dksX4_linkSum_1 4 rfl rfl)
theorem dX4_linkSum_31 : decode cX4_linkSum 31 = .ok (.iconst 1, 1) := dk_4 (dk_at dksX4_linkSum_1 7 rfl rfl)
theorem dX4_linkSum_32 : decode cX4_linkSum 32 = .ok (.goto 4, 3) := dk_167 0 4 (dk_at dksX4_linkSum_1 8 rfl rfl)
theorem dX4_linkSum_35 : decode cX4_linkSum 35 = .ok (.iconst 0, 1) := dk_3 (dk_at dksX4_linkSum_1 11 rfl rfl)
theorem dX4_linkSum_36 : decode cX4_linkSum 36 = .ok (.putfield 62, 3) := dk_181 0 62 (dk_at dksX4_linkSum_1 12 rfl rfl)
theorem dX4_linkSum_39 : decode cX4_linkSum 39 = .ok (.aload_n 0, 1) := dk_42 (dk_at dksX4_linkSum_1 15 rfl rfl)
theorem dX4_linkSum_40 : decode cX4_linkSum 40 = .ok (.getfield 62, 3) := dk_180 0 62 (dk_at dksX4_linkSum_1 16 rfl rfl)
theorem dX4_linkSum_43 : decode cX4_linkSum 43 = .ok (.ifCond .le 5, 3) := dk_158 0 5 (dk_at dksX4_linkSum_1 19 rfl rfl)
theorem dX4_linkSum_46 : decode cX4_linkSum 46 = .ok (.iconst 0, 1) := dk_3 (dk_at dksX4_linkSum_1 22 rfl rfl)
theorem dX4_linkSum_47 : decode cX4_linkSum 47 = .ok (.ireturn, 1) := dk_172 (dk_at dksX4_linkSum_1 23 rfl rfl)
theorem dX4_linkSum_48 : decode cX4_linkSum 48 = .ok (.aload_n 0, 1) := dk_42 (dk_at dksX4_linkSum_2 0 rfl rfl)
theorem dX4_linkSum_49 : decode cX4_linkSum 49 = .ok (.iload_n 1, 1) := dk_27 (dk_at dksX4_linkSum_2 1 rfl rfl)
theorem dX4_linkSum_50 : decode cX4_linkSum 50 = .ok (.iload_n 2, 1) := dk_28 (dk_at dksX4_linkSum_2 2 rfl rfl)
theorem dX4_linkSum_51 : decode cX4_linkSum 51 = .ok (.iload 4, 2) := dk_21 4 (dk_at dksX4_linkSum_2 3 rfl rfl)
theorem dX4_linkSum_53 : decode cX4_linkSum 53 = .ok (.invokevirtual 197, 3) := dk_182 0 197 (dk_at dksX4_linkSum_2 5 rfl rfl)
theorem dX4_linkSum_56 : decode cX4_linkSum 56 = .ok (.istore 5, 2) := dk_54 5 (dk_at dksX4_linkSum_2 8 rfl rfl)
theorem dX4_linkSum_58 : decode cX4_linkSum 58 = .ok (.iconst 0, 1) := dk_3 (dk_at dksX4_linkSum_2 10 rfl rfl)
theorem dX4_linkSum_59 : decode cX4_linkSum 59 = .ok (.istore 6, 2) := dk_54 6 (dk_at dksX4_linkSum_2 11 rfl rfl)
theorem dX4_linkSum_61 : decode cX4_linkSum 61 = .ok (.iload 4, 2) := dk_21 4 (dk_at dksX4_linkSum_2 13 rfl rfl)
theorem dX4_linkSum_63 : decode cX4_linkSum 63 = .ok (.iconst 1, 1) := dk_4 (dk_at dksX4_linkSum_2 15 rfl rfl)
theorem dX4_linkSum_64 : decode cX4_linkSum 64 = .ok (.iadd, 1) := dk_96 (dk_at dksX4_linkSum_2 16 rfl rfl)
theorem dX4_linkSum_65 : decode cX4_linkSum 65 = .ok (.istore 7, 2) := dk_54 7 (dk_at dksX4_linkSum_2 17 rfl rfl)
theorem dX4_linkSum_67 : decode cX4_linkSum 67 = .ok (.iload 7, 2) := dk_21 7 (dk_at dksX4_linkSum_2 19 rfl rfl)
theorem dX4_linkSum_69 : decode cX4_linkSum 69 = .ok (.iload 5, 2) := dk_21 5 (dk_at dksX4_linkSum_2 21 rfl rfl)
theorem dX4_linkSum_71 : decode cX4_linkSum 71 = .ok (.if_icmp .gt 45, 3) := dk_163 0 45 (dk_at dksX4_linkSum_3 0 rfl rfl)
theorem dX4_linkSum_74 : decode cX4_linkSum 74 = .ok (.iload 7, 2) := dk_21 7 (dk_at dksX4_linkSum_3 3 rfl rfl)
theorem dX4_linkSum_76 : decode cX4_linkSum 76 = .ok (.aload_n 0, 1) := dk_42 (dk_at dksX4_linkSum_3 5 rfl rfl)
theorem dX4_linkSum_77 : decode cX4_linkSum 77 = .ok (.getfield 7, 3) := dk_180 0 7 (dk_at dksX4_linkSum_3 6 rfl rfl)
theorem dX4_linkSum_80 : decode cX4_linkSum 80 = .ok (.iload_n 1, 1) := dk_27 (dk_at dksX4_linkSum_3 9 rfl rfl)
theorem dX4_linkSum_81 : decode cX4_linkSum 81 = .ok (.invokestatic 171, 3) := dk_184 0 171 (dk_at dksX4_linkSum_3 10 rfl rfl)
theorem dX4_linkSum_84 : decode cX4_linkSum 84 = .ok (.iconst 1, 1) := dk_4 (dk_at dksX4_linkSum_3 13 rfl rfl)
theorem dX4_linkSum_85 : decode cX4_linkSum 85 = .ok (.iadd, 1) := dk_96 (dk_at dksX4_linkSum_3 14 rfl rfl)
theorem dX4_linkSum_86 : decode cX4_linkSum 86 = .ok (.iaload, 1) := dk_46 (dk_at dksX4_linkSum_3 15 rfl rfl)
theorem dX4_linkSum_87 : decode cX4_linkSum 87 = .ok (.if_icmp .ge 29, 3) := dk_162 0 29 (dk_at dksX4_linkSum_3 16 rfl rfl)
theorem dX4_linkSum_90 : decode cX4_linkSum 90 = .ok (.iload 6, 2) := dk_21 6 (dk_at dksX4_linkSum_3 19 rfl rfl)
theorem dX4_linkSum_92 : decode cX4_linkSum 92 = .ok (.aload_n 0, 1) := dk_42 (dk_at dksX4_linkSum_3 21 rfl rfl)
theorem dX4_linkSum_93 : decode cX4_linkSum 93 = .ok (.getfield 7, 3) := dk_180 0 7 (dk_at dksX4_linkSum_4 0 rfl rfl)
theorem dX4_linkSum_96 : decode cX4_linkSum 96 = .ok (.iload_n 1, 1) := dk_27 (dk_at dksX4_linkSum_4 3 rfl rfl)
theorem dX4_linkSum_97 : decode cX4_linkSum 97 = .ok (.invokestatic 171, 3) := dk_184 0 171 (dk_at dksX4_linkSum_4 4 rfl rfl)
theorem dX4_linkSum_100 : decode cX4_linkSum 100 = .ok (.bipush 62, 2) := dk_16 62 (dk_at dksX4_linkSum_4 7 rfl rfl)
theorem dX4_linkSum_102 : decode cX4_linkSum 102 = .ok (.iadd, 1) := dk_96 (dk_at dksX4_linkSum_4 9 rfl rfl)
theorem dX4_linkSum_103 : decode cX4_linkSum 103 = .ok (.iload 7, 2) := dk_21 7 (dk_at dksX4_linkSum_4 10 rfl rfl)
theorem dX4_linkSum_105 : decode cX4_linkSum 105 = .ok (.iadd, 1) := dk_96 (dk_at dksX4_linkSum_4 12 rfl rfl)
theorem dX4_linkSum_106 : decode cX4_linkSum 106 = .ok (.iaload, 1) := dk_46 (dk_at dksX4_linkSum_4 13 rfl rfl)
theorem dX4_linkSum_107 : decode cX4_linkSum 107 = .ok (.iadd, 1) := dk_96 (dk_at dksX4_linkSum_4 14 rfl rfl)
theorem dX4_linkSum_108 : decode cX4_linkSum 108 = .ok (.istore 6, 2) := dk_54 6 (dk_at dksX4_linkSum_4 15 rfl rfl)
theorem dX4_linkSum_110 : decode cX4_linkSum 110 = .ok (.iinc 7 1, 3) := dk_132 7 1 (dk_at dksX4_linkSum_4 17 rfl rfl)
theorem dX4_linkSum_113 : decode cX4_linkSum 113 = .ok (.goto (-46), 3) := dk_167 255 210 (dk_at dksX4_linkSum_4 20 rfl rfl)
theorem dX4_linkSum_116 : decode cX4_linkSum 116 = .ok (.iload 6, 2) := dk_21 6 (dk_at dksX4_linkSum_5 0 rfl rfl)
theorem dX4_linkSum_118 : decode cX4_linkSum 118 = .ok (.ireturn, 1) := dk_172 (dk_at dksX4_linkSum_5 2 rfl rfl)
abbrev cX4_gapSize : ByteArray := prog_19_method_64_code
def yX4_gapSize : MethodName := ⟨RX4, "gapSize", "(III)I"⟩
def dkwX4_gapSize_3 : List UInt8 := [182, 0, 201, 172]
abbrev dktX4_gapSize_3 : List UInt8 := dkwX4_gapSize_3 ++ []
def dkwX4_gapSize_2 : List UInt8 := [158, 0, 7, 3, 167, 0, 21, 42, 27, 28, 21, 4, 42, 27, 28, 4, 96, 21, 4, 182, 0, 197]
abbrev dktX4_gapSize_2 : List UInt8 := dkwX4_gapSize_2 ++ dktX4_gapSize_3
def dkwX4_gapSize_1 : List UInt8 := [54, 4, 42, 21, 4, 16, 254, 160, 0, 7, 4, 167, 0, 4, 3, 181, 0, 62, 42, 180, 0, 62]
abbrev dktX4_gapSize_1 : List UInt8 := dkwX4_gapSize_1 ++ dktX4_gapSize_2
def dkwX4_gapSize_0 : List UInt8 := [42, 27, 28, 182, 0, 244, 153, 0, 15, 42, 27, 28, 4, 96, 29, 182, 0, 247, 167, 0, 5, 16, 254]
abbrev dktX4_gapSize_0 : List UInt8 := dkwX4_gapSize_0 ++ dktX4_gapSize_1
theorem dksX4_gapSize_0 : cX4_gapSize.data.toList.drop 0 = dktX4_gapSize_0 := by decide +kernel
theorem dksX4_gapSize_1 : cX4_gapSize.data.toList.drop 23 = dktX4_gapSize_1 := dk_seg dksX4_gapSize_0 23 rfl rfl
theorem dksX4_gapSize_2 : cX4_gapSize.data.toList.drop 45 = dktX4_gapSize_2 := dk_seg dksX4_gapSize_1 22 rfl rfl
theorem dksX4_gapSize_3 : cX4_gapSize.data.toList.drop 67 = dktX4_gapSize_3 := dk_seg dksX4_gapSize_2 22 rfl rfl
theorem dX4_gapSize_0 : decode cX4_gapSize 0 = .ok (.aload_n 0, 1) := dk_42 (dk_at dksX4_gapSize_0 0 rfl rfl)
theorem dX4_gapSize_1 : decode cX4_gapSize 1 = .ok (.iload_n 1, 1) := dk_27 (dk_at dksX4_gapSize_0 1 rfl rfl)
theorem dX4_gapSize_2 : decode cX4_gapSize 2 = .ok (.iload_n 2, 1) := dk_28 (dk_at dksX4_gapSize_0 2 rfl rfl)
theorem dX4_gapSize_3 : decode cX4_gapSize 3 = .ok (.invokevirtual 244, 3) := dk_182 0 244 (dk_at dksX4_gapSize_0 3 rfl rfl)
theorem dX4_gapSize_6 : decode cX4_gapSize 6 = .ok (.ifCond .eq 15, 3) := dk_153 0 15 (dk_at dksX4_gapSize_0 6 rfl rfl)
theorem dX4_gapSize_9 : decode cX4_gapSize 9 = .ok (.aload_n 0, 1) := dk_42 (dk_at dksX4_gapSize_0 9 rfl rfl)
theorem dX4_gapSize_10 : decode cX4_gapSize 10 = .ok (.iload_n 1, 1) := dk_27 (dk_at dksX4_gapSize_0 10 rfl rfl)
theorem dX4_gapSize_11 : decode cX4_gapSize 11 = .ok (.iload_n 2, 1) := dk_28 (dk_at dksX4_gapSize_0 11 rfl rfl)
theorem dX4_gapSize_12 : decode cX4_gapSize 12 = .ok (.iconst 1, 1) := dk_4 (dk_at dksX4_gapSize_0 12 rfl rfl)
theorem dX4_gapSize_13 : decode cX4_gapSize 13 = .ok (.iadd, 1) := dk_96 (dk_at dksX4_gapSize_0 13 rfl rfl)
theorem dX4_gapSize_14 : decode cX4_gapSize 14 = .ok (.iload_n 3, 1) := dk_29 (dk_at dksX4_gapSize_0 14 rfl rfl)
theorem dX4_gapSize_15 : decode cX4_gapSize 15 = .ok (.invokevirtual 247, 3) := dk_182 0 247 (dk_at dksX4_gapSize_0 15 rfl rfl)
theorem dX4_gapSize_18 : decode cX4_gapSize 18 = .ok (.goto 5, 3) := dk_167 0 5 (dk_at dksX4_gapSize_0 18 rfl rfl)
theorem dX4_gapSize_21 : decode cX4_gapSize 21 = .ok (.bipush (-2), 2) := dk_16 254 (dk_at dksX4_gapSize_0 21 rfl rfl)
theorem dX4_gapSize_23 : decode cX4_gapSize 23 = .ok (.istore 4, 2) := dk_54 4 (dk_at dksX4_gapSize_1 0 rfl rfl)
theorem dX4_gapSize_25 : decode cX4_gapSize 25 = .ok (.aload_n 0, 1) := dk_42 (dk_at dksX4_gapSize_1 2 rfl rfl)
theorem dX4_gapSize_26 : decode cX4_gapSize 26 = .ok (.iload 4, 2) := dk_21 4 (dk_at dksX4_gapSize_1 3 rfl rfl)
theorem dX4_gapSize_28 : decode cX4_gapSize 28 = .ok (.bipush (-2), 2) := dk_16 254 (dk_at dksX4_gapSize_1 5 rfl rfl)
theorem dX4_gapSize_30 : decode cX4_gapSize 30 = .ok (.if_icmp .ne 7, 3) := dk_160 0 7 (dk_at dksX4_gapSize_1 7 rfl rfl)
theorem dX4_gapSize_33 : decode cX4_gapSize 33 = .ok (.iconst 1, 1) := dk_4 (dk_at dksX4_gapSize_1 10 rfl rfl)
theorem dX4_gapSize_34 : decode cX4_gapSize 34 = .ok (.goto 4, 3) := dk_167 0 4 (dk_at dksX4_gapSize_1 11 rfl rfl)
theorem dX4_gapSize_37 : decode cX4_gapSize 37 = .ok (.iconst 0, 1) := dk_3 (dk_at dksX4_gapSize_1 14 rfl rfl)
theorem dX4_gapSize_38 : decode cX4_gapSize 38 = .ok (.putfield 62, 3) := dk_181 0 62 (dk_at dksX4_gapSize_1 15 rfl rfl)
theorem dX4_gapSize_41 : decode cX4_gapSize 41 = .ok (.aload_n 0, 1) := dk_42 (dk_at dksX4_gapSize_1 18 rfl rfl)
theorem dX4_gapSize_42 : decode cX4_gapSize 42 = .ok (.getfield 62, 3) := dk_180 0 62 (dk_at dksX4_gapSize_1 19 rfl rfl)
theorem dX4_gapSize_45 : decode cX4_gapSize 45 = .ok (.ifCond .le 7, 3) := dk_158 0 7 (dk_at dksX4_gapSize_2 0 rfl rfl)
theorem dX4_gapSize_48 : decode cX4_gapSize 48 = .ok (.iconst 0, 1) := dk_3 (dk_at dksX4_gapSize_2 3 rfl rfl)
theorem dX4_gapSize_49 : decode cX4_gapSize 49 = .ok (.goto 21, 3) := dk_167 0 21 (dk_at dksX4_gapSize_2 4 rfl rfl)
theorem dX4_gapSize_52 : decode cX4_gapSize 52 = .ok (.aload_n 0, 1) := dk_42 (dk_at dksX4_gapSize_2 7 rfl rfl)
theorem dX4_gapSize_53 : decode cX4_gapSize 53 = .ok (.iload_n 1, 1) := dk_27 (dk_at dksX4_gapSize_2 8 rfl rfl)
theorem dX4_gapSize_54 : decode cX4_gapSize 54 = .ok (.iload_n 2, 1) := dk_28 (dk_at dksX4_gapSize_2 9 rfl rfl)
theorem dX4_gapSize_55 : decode cX4_gapSize 55 = .ok (.iload 4, 2) := dk_21 4 (dk_at dksX4_gapSize_2 10 rfl rfl)
theorem dX4_gapSize_57 : decode cX4_gapSize 57 = .ok (.aload_n 0, 1) := dk_42 (dk_at dksX4_gapSize_2 12 rfl rfl)
theorem dX4_gapSize_58 : decode cX4_gapSize 58 = .ok (.iload_n 1, 1) := dk_27 (dk_at dksX4_gapSize_2 13 rfl rfl)
theorem dX4_gapSize_59 : decode cX4_gapSize 59 = .ok (.iload_n 2, 1) := dk_28 (dk_at dksX4_gapSize_2 14 rfl rfl)
theorem dX4_gapSize_60 : decode cX4_gapSize 60 = .ok (.iconst 1, 1) := dk_4 (dk_at dksX4_gapSize_2 15 rfl rfl)
theorem dX4_gapSize_61 : decode cX4_gapSize 61 = .ok (.iadd, 1) := dk_96 (dk_at dksX4_gapSize_2 16 rfl rfl)
theorem dX4_gapSize_62 : decode cX4_gapSize 62 = .ok (.iload 4, 2) := dk_21 4 (dk_at dksX4_gapSize_2 17 rfl rfl)
theorem dX4_gapSize_64 : decode cX4_gapSize 64 = .ok (.invokevirtual 197, 3) := dk_182 0 197 (dk_at dksX4_gapSize_2 19 rfl rfl)
theorem dX4_gapSize_67 : decode cX4_gapSize 67 = .ok (.invokevirtual 201, 3) := dk_182 0 201 (dk_at dksX4_gapSize_3 0 rfl rfl)
theorem dX4_gapSize_70 : decode cX4_gapSize 70 = .ok (.ireturn, 1) := dk_172 (dk_at dksX4_gapSize_3 3 rfl rfl)
abbrev cX4_links : ByteArray := prog_19_method_65_code
def yX4_links : MethodName := ⟨RX4, "links", "(I)I"⟩
def dkwX4_links_2 : List UInt8 := [96, 61, 132, 3, 1, 167, 255, 226, 28, 172]
abbrev dktX4_links_2 : List UInt8 := dkwX4_links_2 ++ []
def dkwX4_links_1 : List UInt8 := [180, 0, 62, 154, 0, 29, 29, 42, 27, 182, 0, 194, 163, 0, 20, 28, 42, 27, 29, 182, 0, 241, 4, 96]
abbrev dktX4_links_1 : List UInt8 := dkwX4_links_1 ++ dktX4_links_2
def dkwX4_links_0 : List UInt8 := [42, 42, 27, 182, 0, 183, 153, 0, 7, 3, 167, 0, 4, 4, 181, 0, 62, 3, 61, 4, 62, 42]
abbrev dktX4_links_0 : List UInt8 := dkwX4_links_0 ++ dktX4_links_1
theorem dksX4_links_0 : cX4_links.data.toList.drop 0 = dktX4_links_0 := by decide +kernel
theorem dksX4_links_1 : cX4_links.data.toList.drop 22 = dktX4_links_1 := dk_seg dksX4_links_0 22 rfl rfl
theorem dksX4_links_2 : cX4_links.data.toList.drop 46 = dktX4_links_2 := dk_seg dksX4_links_1 24 rfl rfl
theorem dX4_links_0 : decode cX4_links 0 = .ok (.aload_n 0, 1) := dk_42 (dk_at dksX4_links_0 0 rfl rfl)
theorem dX4_links_1 : decode cX4_links 1 = .ok (.aload_n 0, 1) := dk_42 (dk_at dksX4_links_0 1 rfl rfl)
theorem dX4_links_2 : decode cX4_links 2 = .ok (.iload_n 1, 1) := dk_27 (dk_at dksX4_links_0 2 rfl rfl)
theorem dX4_links_3 : decode cX4_links 3 = .ok (.invokevirtual 183, 3) := dk_182 0 183 (dk_at dksX4_links_0 3 rfl rfl)
theorem dX4_links_6 : decode cX4_links 6 = .ok (.ifCond .eq 7, 3) := dk_153 0 7 (dk_at dksX4_links_0 6 rfl rfl)
theorem dX4_links_9 : decode cX4_links 9 = .ok (.iconst 0, 1) := dk_3 (dk_at dksX4_links_0 9 rfl rfl)
theorem dX4_links_10 : decode cX4_links 10 = .ok (.goto 4, 3) := dk_167 0 4 (dk_at dksX4_links_0 10 rfl rfl)
theorem dX4_links_13 : decode cX4_links 13 = .ok (.iconst 1, 1) := dk_4 (dk_at dksX4_links_0 13 rfl rfl)
theorem dX4_links_14 : decode cX4_links 14 = .ok (.putfield 62, 3) := dk_181 0 62 (dk_at dksX4_links_0 14 rfl rfl)
theorem dX4_links_17 : decode cX4_links 17 = .ok (.iconst 0, 1) := dk_3 (dk_at dksX4_links_0 17 rfl rfl)
theorem dX4_links_18 : decode cX4_links 18 = .ok (.istore_n 2, 1) := dk_61 (dk_at dksX4_links_0 18 rfl rfl)
theorem dX4_links_19 : decode cX4_links 19 = .ok (.iconst 1, 1) := dk_4 (dk_at dksX4_links_0 19 rfl rfl)
theorem dX4_links_20 : decode cX4_links 20 = .ok (.istore_n 3, 1) := dk_62 (dk_at dksX4_links_0 20 rfl rfl)
theorem dX4_links_21 : decode cX4_links 21 = .ok (.aload_n 0, 1) := dk_42 (dk_at dksX4_links_0 21 rfl rfl)
theorem dX4_links_22 : decode cX4_links 22 = .ok (.getfield 62, 3) := dk_180 0 62 (dk_at dksX4_links_1 0 rfl rfl)
theorem dX4_links_25 : decode cX4_links 25 = .ok (.ifCond .ne 29, 3) := dk_154 0 29 (dk_at dksX4_links_1 3 rfl rfl)
theorem dX4_links_28 : decode cX4_links 28 = .ok (.iload_n 3, 1) := dk_29 (dk_at dksX4_links_1 6 rfl rfl)
theorem dX4_links_29 : decode cX4_links 29 = .ok (.aload_n 0, 1) := dk_42 (dk_at dksX4_links_1 7 rfl rfl)
theorem dX4_links_30 : decode cX4_links 30 = .ok (.iload_n 1, 1) := dk_27 (dk_at dksX4_links_1 8 rfl rfl)
theorem dX4_links_31 : decode cX4_links 31 = .ok (.invokevirtual 194, 3) := dk_182 0 194 (dk_at dksX4_links_1 9 rfl rfl)
theorem dX4_links_34 : decode cX4_links 34 = .ok (.if_icmp .gt 20, 3) := dk_163 0 20 (dk_at dksX4_links_1 12 rfl rfl)
theorem dX4_links_37 : decode cX4_links 37 = .ok (.iload_n 2, 1) := dk_28 (dk_at dksX4_links_1 15 rfl rfl)
theorem dX4_links_38 : decode cX4_links 38 = .ok (.aload_n 0, 1) := dk_42 (dk_at dksX4_links_1 16 rfl rfl)
theorem dX4_links_39 : decode cX4_links 39 = .ok (.iload_n 1, 1) := dk_27 (dk_at dksX4_links_1 17 rfl rfl)
theorem dX4_links_40 : decode cX4_links 40 = .ok (.iload_n 3, 1) := dk_29 (dk_at dksX4_links_1 18 rfl rfl)
theorem dX4_links_41 : decode cX4_links 41 = .ok (.invokevirtual 241, 3) := dk_182 0 241 (dk_at dksX4_links_1 19 rfl rfl)
theorem dX4_links_44 : decode cX4_links 44 = .ok (.iconst 1, 1) := dk_4 (dk_at dksX4_links_1 22 rfl rfl)
theorem dX4_links_45 : decode cX4_links 45 = .ok (.iadd, 1) := dk_96 (dk_at dksX4_links_1 23 rfl rfl)
theorem dX4_links_46 : decode cX4_links 46 = .ok (.iadd, 1) := dk_96 (dk_at dksX4_links_2 0 rfl rfl)
theorem dX4_links_47 : decode cX4_links 47 = .ok (.istore_n 2, 1) := dk_61 (dk_at dksX4_links_2 1 rfl rfl)
theorem dX4_links_48 : decode cX4_links 48 = .ok (.iinc 3 1, 3) := dk_132 3 1 (dk_at dksX4_links_2 2 rfl rfl)
theorem dX4_links_51 : decode cX4_links 51 = .ok (.goto (-30), 3) := dk_167 255 226 (dk_at dksX4_links_2 5 rfl rfl)
theorem dX4_links_54 : decode cX4_links 54 = .ok (.iload_n 2, 1) := dk_28 (dk_at dksX4_links_2 8 rfl rfl)
theorem dX4_links_55 : decode cX4_links 55 = .ok (.ireturn, 1) := dk_172 (dk_at dksX4_links_2 9 rfl rfl)
abbrev cX4_steps : ByteArray := prog_19_method_67_code
def yX4_steps : MethodName := ⟨RX4, "steps", "(II)I"⟩
def dkwX4_steps_0 : List UInt8 := [42, 27, 28, 182, 0, 238, 154, 0, 5, 3, 172, 42, 27, 28, 2, 182, 1, 6, 42, 180, 0, 253, 172]
abbrev dktX4_steps_0 : List UInt8 := dkwX4_steps_0 ++ []
theorem dksX4_steps_0 : cX4_steps.data.toList.drop 0 = dktX4_steps_0 := by decide +kernel
theorem dX4_steps_0 : decode cX4_steps 0 = .ok (.aload_n 0, 1) := dk_42 (dk_at dksX4_steps_0 0 rfl rfl)
theorem dX4_steps_1 : decode cX4_steps 1 = .ok (.iload_n 1, 1) := dk_27 (dk_at dksX4_steps_0 1 rfl rfl)
theorem dX4_steps_2 : decode cX4_steps 2 = .ok (.iload_n 2, 1) := dk_28 (dk_at dksX4_steps_0 2 rfl rfl)
theorem dX4_steps_3 : decode cX4_steps 3 = .ok (.invokevirtual 238, 3) := dk_182 0 238 (dk_at dksX4_steps_0 3 rfl rfl)
theorem dX4_steps_6 : decode cX4_steps 6 = .ok (.ifCond .ne 5, 3) := dk_154 0 5 (dk_at dksX4_steps_0 6 rfl rfl)
theorem dX4_steps_9 : decode cX4_steps 9 = .ok (.iconst 0, 1) := dk_3 (dk_at dksX4_steps_0 9 rfl rfl)
theorem dX4_steps_10 : decode cX4_steps 10 = .ok (.ireturn, 1) := dk_172 (dk_at dksX4_steps_0 10 rfl rfl)
theorem dX4_steps_11 : decode cX4_steps 11 = .ok (.aload_n 0, 1) := dk_42 (dk_at dksX4_steps_0 11 rfl rfl)
theorem dX4_steps_12 : decode cX4_steps 12 = .ok (.iload_n 1, 1) := dk_27 (dk_at dksX4_steps_0 12 rfl rfl)
theorem dX4_steps_13 : decode cX4_steps 13 = .ok (.iload_n 2, 1) := dk_28 (dk_at dksX4_steps_0 13 rfl rfl)
theorem dX4_steps_14 : decode cX4_steps 14 = .ok (.iconst (-1), 1) := dk_2 (dk_at dksX4_steps_0 14 rfl rfl)
theorem dX4_steps_15 : decode cX4_steps 15 = .ok (.invokevirtual 262, 3) := dk_182 1 6 (dk_at dksX4_steps_0 15 rfl rfl)
theorem dX4_steps_18 : decode cX4_steps 18 = .ok (.aload_n 0, 1) := dk_42 (dk_at dksX4_steps_0 18 rfl rfl)
theorem dX4_steps_19 : decode cX4_steps 19 = .ok (.getfield 253, 3) := dk_180 0 253 (dk_at dksX4_steps_0 19 rfl rfl)
theorem dX4_steps_22 : decode cX4_steps 22 = .ok (.ireturn, 1) := dk_172 (dk_at dksX4_steps_0 22 rfl rfl)
abbrev cX4_seeks : ByteArray := prog_19_method_66_code
def yX4_seeks : MethodName := ⟨RX4, "seeks", "(III)V"⟩
def dkwX4_seeks_6 : List UInt8 := [167, 255, 145, 177]
abbrev dktX4_seeks_6 : List UInt8 := dkwX4_seeks_6 ++ []
def dkwX4_seeks_5 : List UInt8 := [4, 96, 181, 0, 253, 42, 27, 21, 6, 21, 5, 182, 0, 197, 54, 7, 167, 255, 168, 132, 6, 255]
abbrev dktX4_seeks_5 : List UInt8 := dkwX4_seeks_5 ++ dktX4_seeks_6
def dkwX4_seeks_4 : List UInt8 := [180, 0, 253, 29, 160, 0, 15, 42, 21, 5, 181, 1, 0, 42, 21, 6, 181, 1, 3, 42, 89, 180, 0, 253]
abbrev dktX4_seeks_4 : List UInt8 := dkwX4_seeks_4 ++ dktX4_seeks_5
def dkwX4_seeks_3 : List UInt8 := [42, 180, 0, 7, 21, 4, 5, 96, 21, 7, 96, 46, 28, 161, 0, 6, 167, 0, 51, 21, 7, 54, 5, 42]
abbrev dktX4_seeks_3 : List UInt8 := dkwX4_seeks_3 ++ dktX4_seeks_4
def dkwX4_seeks_2 : List UInt8 := [21, 7, 42, 180, 0, 7, 21, 4, 4, 96, 46, 162, 0, 80, 42, 89, 180, 0, 250, 4, 96, 181, 0, 250]
abbrev dktX4_seeks_2 : List UInt8 := dkwX4_seeks_2 ++ dktX4_seeks_3
def dkwX4_seeks_1 : List UInt8 := [42, 27, 182, 0, 194, 54, 6, 21, 6, 4, 161, 0, 111, 42, 27, 21, 6, 21, 5, 182, 0, 197, 54, 7]
abbrev dktX4_seeks_1 : List UInt8 := dkwX4_seeks_1 ++ dktX4_seeks_2
def dkwX4_seeks_0 : List UInt8 := [27, 184, 0, 171, 54, 4, 42, 3, 181, 0, 250, 42, 3, 181, 0, 253, 42, 2, 181, 1, 0, 2, 54, 5]
abbrev dktX4_seeks_0 : List UInt8 := dkwX4_seeks_0 ++ dktX4_seeks_1
theorem dksX4_seeks_0 : cX4_seeks.data.toList.drop 0 = dktX4_seeks_0 := by decide +kernel
theorem dksX4_seeks_1 : cX4_seeks.data.toList.drop 24 = dktX4_seeks_1 := dk_seg dksX4_seeks_0 24 rfl rfl
theorem dksX4_seeks_2 : cX4_seeks.data.toList.drop 48 = dktX4_seeks_2 := dk_seg dksX4_seeks_1 24 rfl rfl
theorem dksX4_seeks_3 : cX4_seeks.data.toList.drop 72 = dktX4_seeks_3 := dk_seg dksX4_seeks_2 24 rfl rfl
theorem dksX4_seeks_4 : cX4_seeks.data.toList.drop 96 = dktX4_seeks_4 := dk_seg dksX4_seeks_3 24 rfl rfl
theorem dksX4_seeks_5 : cX4_seeks.data.toList.drop 120 = dktX4_seeks_5 := dk_seg dksX4_seeks_4 24 rfl rfl
theorem dksX4_seeks_6 : cX4_seeks.data.toList.drop 142 = dktX4_seeks_6 := dk_seg dksX4_seeks_5 22 rfl rfl
theorem dX4_seeks_0 : decode cX4_seeks 0 = .ok (.iload_n 1, 1) := dk_27 (dk_at dksX4_seeks_0 0 rfl rfl)
theorem dX4_seeks_1 : decode cX4_seeks 1 = .ok (.invokestatic 171, 3) := dk_184 0 171 (dk_at dksX4_seeks_0 1 rfl rfl)
theorem dX4_seeks_4 : decode cX4_seeks 4 = .ok (.istore 4, 2) := dk_54 4 (dk_at dksX4_seeks_0 4 rfl rfl)
theorem dX4_seeks_6 : decode cX4_seeks 6 = .ok (.aload_n 0, 1) := dk_42 (dk_at dksX4_seeks_0 6 rfl rfl)
theorem dX4_seeks_7 : decode cX4_seeks 7 = .ok (.iconst 0, 1) := dk_3 (dk_at dksX4_seeks_0 7 rfl rfl)
theorem dX4_seeks_8 : decode cX4_seeks 8 = .ok (.putfield 250, 3) := dk_181 0 250 (dk_at dksX4_seeks_0 8 rfl rfl)
theorem dX4_seeks_11 : decode cX4_seeks 11 = .ok (.aload_n 0, 1) := dk_42 (dk_at dksX4_seeks_0 11 rfl rfl)
theorem dX4_seeks_12 : decode cX4_seeks 12 = .ok (.iconst 0, 1) := dk_3 (dk_at dksX4_seeks_0 12 rfl rfl)
theorem dX4_seeks_13 : decode cX4_seeks 13 = .ok (.putfield 253, 3) := dk_181 0 253 (dk_at dksX4_seeks_0 13 rfl rfl)
theorem dX4_seeks_16 : decode cX4_seeks 16 = .ok (.aload_n 0, 1) := dk_42 (dk_at dksX4_seeks_0 16 rfl rfl)
theorem dX4_seeks_17 : decode cX4_seeks 17 = .ok (.iconst (-1), 1) := dk_2 (dk_at dksX4_seeks_0 17 rfl rfl)
theorem dX4_seeks_18 : decode cX4_seeks 18 = .ok (.putfield 256, 3) := dk_181 1 0 (dk_at dksX4_seeks_0 18 rfl rfl)
theorem dX4_seeks_21 : decode cX4_seeks 21 = .ok (.iconst (-1), 1) := dk_2 (dk_at dksX4_seeks_0 21 rfl rfl)
theorem dX4_seeks_22 : decode cX4_seeks 22 = .ok (.istore 5, 2) := dk_54 5 (dk_at dksX4_seeks_0 22 rfl rfl)
theorem dX4_seeks_24 : decode cX4_seeks 24 = .ok (.aload_n 0, 1) := dk_42 (dk_at dksX4_seeks_1 0 rfl rfl)
theorem dX4_seeks_25 : decode cX4_seeks 25 = .ok (.iload_n 1, 1) := dk_27 (dk_at dksX4_seeks_1 1 rfl rfl)
theorem dX4_seeks_26 : decode cX4_seeks 26 = .ok (.invokevirtual 194, 3) := dk_182 0 194 (dk_at dksX4_seeks_1 2 rfl rfl)
theorem dX4_seeks_29 : decode cX4_seeks 29 = .ok (.istore 6, 2) := dk_54 6 (dk_at dksX4_seeks_1 5 rfl rfl)
theorem dX4_seeks_31 : decode cX4_seeks 31 = .ok (.iload 6, 2) := dk_21 6 (dk_at dksX4_seeks_1 7 rfl rfl)
theorem dX4_seeks_33 : decode cX4_seeks 33 = .ok (.iconst 1, 1) := dk_4 (dk_at dksX4_seeks_1 9 rfl rfl)
theorem dX4_seeks_34 : decode cX4_seeks 34 = .ok (.if_icmp .lt 111, 3) := dk_161 0 111 (dk_at dksX4_seeks_1 10 rfl rfl)
theorem dX4_seeks_37 : decode cX4_seeks 37 = .ok (.aload_n 0, 1) := dk_42 (dk_at dksX4_seeks_1 13 rfl rfl)
theorem dX4_seeks_38 : decode cX4_seeks 38 = .ok (.iload_n 1, 1) := dk_27 (dk_at dksX4_seeks_1 14 rfl rfl)
theorem dX4_seeks_39 : decode cX4_seeks 39 = .ok (.iload 6, 2) := dk_21 6 (dk_at dksX4_seeks_1 15 rfl rfl)
theorem dX4_seeks_41 : decode cX4_seeks 41 = .ok (.iload 5, 2) := dk_21 5 (dk_at dksX4_seeks_1 17 rfl rfl)
theorem dX4_seeks_43 : decode cX4_seeks 43 = .ok (.invokevirtual 197, 3) := dk_182 0 197 (dk_at dksX4_seeks_1 19 rfl rfl)
theorem dX4_seeks_46 : decode cX4_seeks 46 = .ok (.istore 7, 2) := dk_54 7 (dk_at dksX4_seeks_1 22 rfl rfl)
theorem dX4_seeks_48 : decode cX4_seeks 48 = .ok (.iload 7, 2) := dk_21 7 (dk_at dksX4_seeks_2 0 rfl rfl)
theorem dX4_seeks_50 : decode cX4_seeks 50 = .ok (.aload_n 0, 1) := dk_42 (dk_at dksX4_seeks_2 2 rfl rfl)
theorem dX4_seeks_51 : decode cX4_seeks 51 = .ok (.getfield 7, 3) := dk_180 0 7 (dk_at dksX4_seeks_2 3 rfl rfl)
theorem dX4_seeks_54 : decode cX4_seeks 54 = .ok (.iload 4, 2) := dk_21 4 (dk_at dksX4_seeks_2 6 rfl rfl)
theorem dX4_seeks_56 : decode cX4_seeks 56 = .ok (.iconst 1, 1) := dk_4 (dk_at dksX4_seeks_2 8 rfl rfl)
theorem dX4_seeks_57 : decode cX4_seeks 57 = .ok (.iadd, 1) := dk_96 (dk_at dksX4_seeks_2 9 rfl rfl)
theorem dX4_seeks_58 : decode cX4_seeks 58 = .ok (.iaload, 1) := dk_46 (dk_at dksX4_seeks_2 10 rfl rfl)
theorem dX4_seeks_59 : decode cX4_seeks 59 = .ok (.if_icmp .ge 80, 3) := dk_162 0 80 (dk_at dksX4_seeks_2 11 rfl rfl)
theorem dX4_seeks_62 : decode cX4_seeks 62 = .ok (.aload_n 0, 1) := dk_42 (dk_at dksX4_seeks_2 14 rfl rfl)
theorem dX4_seeks_63 : decode cX4_seeks 63 = .ok (.dup, 1) := dk_89 (dk_at dksX4_seeks_2 15 rfl rfl)
theorem dX4_seeks_64 : decode cX4_seeks 64 = .ok (.getfield 250, 3) := dk_180 0 250 (dk_at dksX4_seeks_2 16 rfl rfl)
theorem dX4_seeks_67 : decode cX4_seeks 67 = .ok (.iconst 1, 1) := dk_4 (dk_at dksX4_seeks_2 19 rfl rfl)
theorem dX4_seeks_68 : decode cX4_seeks 68 = .ok (.iadd, 1) := dk_96 (dk_at dksX4_seeks_2 20 rfl rfl)
theorem dX4_seeks_69 : decode cX4_seeks 69 = .ok (.putfield 250, 3) := dk_181 0 250 (dk_at dksX4_seeks_2 21 rfl rfl)
theorem dX4_seeks_72 : decode cX4_seeks 72 = .ok (.aload_n 0, 1) := dk_42 (dk_at dksX4_seeks_3 0 rfl rfl)
theorem dX4_seeks_73 : decode cX4_seeks 73 = .ok (.getfield 7, 3) := dk_180 0 7 (dk_at dksX4_seeks_3 1 rfl rfl)
theorem dX4_seeks_76 : decode cX4_seeks 76 = .ok (.iload 4, 2) := dk_21 4 (dk_at dksX4_seeks_3 4 rfl rfl)
theorem dX4_seeks_78 : decode cX4_seeks 78 = .ok (.iconst 2, 1) := dk_5 (dk_at dksX4_seeks_3 6 rfl rfl)
theorem dX4_seeks_79 : decode cX4_seeks 79 = .ok (.iadd, 1) := dk_96 (dk_at dksX4_seeks_3 7 rfl rfl)
theorem dX4_seeks_80 : decode cX4_seeks 80 = .ok (.iload 7, 2) := dk_21 7 (dk_at dksX4_seeks_3 8 rfl rfl)
theorem dX4_seeks_82 : decode cX4_seeks 82 = .ok (.iadd, 1) := dk_96 (dk_at dksX4_seeks_3 10 rfl rfl)
theorem dX4_seeks_83 : decode cX4_seeks 83 = .ok (.iaload, 1) := dk_46 (dk_at dksX4_seeks_3 11 rfl rfl)
theorem dX4_seeks_84 : decode cX4_seeks 84 = .ok (.iload_n 2, 1) := dk_28 (dk_at dksX4_seeks_3 12 rfl rfl)
theorem dX4_seeks_85 : decode cX4_seeks 85 = .ok (.if_icmp .lt 6, 3) := dk_161 0 6 (dk_at dksX4_seeks_3 13 rfl rfl)
theorem dX4_seeks_88 : decode cX4_seeks 88 = .ok (.goto 51, 3) := dk_167 0 51 (dk_at dksX4_seeks_3 16 rfl rfl)
theorem dX4_seeks_91 : decode cX4_seeks 91 = .ok (.iload 7, 2) := dk_21 7 (dk_at dksX4_seeks_3 19 rfl rfl)
theorem dX4_seeks_93 : decode cX4_seeks 93 = .ok (.istore 5, 2) := dk_54 5 (dk_at dksX4_seeks_3 21 rfl rfl)
theorem dX4_seeks_95 : decode cX4_seeks 95 = .ok (.aload_n 0, 1) := dk_42 (dk_at dksX4_seeks_3 23 rfl rfl)
theorem dX4_seeks_96 : decode cX4_seeks 96 = .ok (.getfield 253, 3) := dk_180 0 253 (dk_at dksX4_seeks_4 0 rfl rfl)
theorem dX4_seeks_99 : decode cX4_seeks 99 = .ok (.iload_n 3, 1) := dk_29 (dk_at dksX4_seeks_4 3 rfl rfl)
theorem dX4_seeks_100 : decode cX4_seeks 100 = .ok (.if_icmp .ne 15, 3) := dk_160 0 15 (dk_at dksX4_seeks_4 4 rfl rfl)
theorem dX4_seeks_103 : decode cX4_seeks 103 = .ok (.aload_n 0, 1) := dk_42 (dk_at dksX4_seeks_4 7 rfl rfl)
theorem dX4_seeks_104 : decode cX4_seeks 104 = .ok (.iload 5, 2) := dk_21 5 (dk_at dksX4_seeks_4 8 rfl rfl)
theorem dX4_seeks_106 : decode cX4_seeks 106 = .ok (.putfield 256, 3) := dk_181 1 0 (dk_at dksX4_seeks_4 10 rfl rfl)
theorem dX4_seeks_109 : decode cX4_seeks 109 = .ok (.aload_n 0, 1) := dk_42 (dk_at dksX4_seeks_4 13 rfl rfl)
theorem dX4_seeks_110 : decode cX4_seeks 110 = .ok (.iload 6, 2) := dk_21 6 (dk_at dksX4_seeks_4 14 rfl rfl)
theorem dX4_seeks_112 : decode cX4_seeks 112 = .ok (.putfield 259, 3) := dk_181 1 3 (dk_at dksX4_seeks_4 16 rfl rfl)
theorem dX4_seeks_115 : decode cX4_seeks 115 = .ok (.aload_n 0, 1) := dk_42 (dk_at dksX4_seeks_4 19 rfl rfl)
theorem dX4_seeks_116 : decode cX4_seeks 116 = .ok (.dup, 1) := dk_89 (dk_at dksX4_seeks_4 20 rfl rfl)
theorem dX4_seeks_117 : decode cX4_seeks 117 = .ok (.getfield 253, 3) := dk_180 0 253 (dk_at dksX4_seeks_4 21 rfl rfl)
theorem dX4_seeks_120 : decode cX4_seeks 120 = .ok (.iconst 1, 1) := dk_4 (dk_at dksX4_seeks_5 0 rfl rfl)
theorem dX4_seeks_121 : decode cX4_seeks 121 = .ok (.iadd, 1) := dk_96 (dk_at dksX4_seeks_5 1 rfl rfl)
theorem dX4_seeks_122 : decode cX4_seeks 122 = .ok (.putfield 253, 3) := dk_181 0 253 (dk_at dksX4_seeks_5 2 rfl rfl)
theorem dX4_seeks_125 : decode cX4_seeks 125 = .ok (.aload_n 0, 1) := dk_42 (dk_at dksX4_seeks_5 5 rfl rfl)
theorem dX4_seeks_126 : decode cX4_seeks 126 = .ok (.iload_n 1, 1) := dk_27 (dk_at dksX4_seeks_5 6 rfl rfl)
theorem dX4_seeks_127 : decode cX4_seeks 127 = .ok (.iload 6, 2) := dk_21 6 (dk_at dksX4_seeks_5 7 rfl rfl)
theorem dX4_seeks_129 : decode cX4_seeks 129 = .ok (.iload 5, 2) := dk_21 5 (dk_at dksX4_seeks_5 9 rfl rfl)
theorem dX4_seeks_131 : decode cX4_seeks 131 = .ok (.invokevirtual 197, 3) := dk_182 0 197 (dk_at dksX4_seeks_5 11 rfl rfl)
theorem dX4_seeks_134 : decode cX4_seeks 134 = .ok (.istore 7, 2) := dk_54 7 (dk_at dksX4_seeks_5 14 rfl rfl)
theorem dX4_seeks_136 : decode cX4_seeks 136 = .ok (.goto (-88), 3) := dk_167 255 168 (dk_at dksX4_seeks_5 16 rfl rfl)
theorem dX4_seeks_139 : decode cX4_seeks 139 = .ok (.iinc 6 (-1), 3) := dk_132 6 255 (dk_at dksX4_seeks_5 19 rfl rfl)
theorem dX4_seeks_142 : decode cX4_seeks 142 = .ok (.goto (-111), 3) := dk_167 255 145 (dk_at dksX4_seeks_6 0 rfl rfl)
theorem dX4_seeks_145 : decode cX4_seeks 145 = .ok (.return_, 1) := dk_177 (dk_at dksX4_seeks_6 3 rfl rfl)
abbrev cX4_looks : ByteArray := prog_19_method_68_code
def yX4_looks : MethodName := ⟨RX4, "looks", "(II)I"⟩
def dkwX4_looks_0 : List UInt8 := [42, 27, 28, 182, 0, 238, 154, 0, 5, 3, 172, 42, 27, 28, 2, 182, 1, 6, 42, 180, 0, 250, 172]
abbrev dktX4_looks_0 : List UInt8 := dkwX4_looks_0 ++ []
theorem dksX4_looks_0 : cX4_looks.data.toList.drop 0 = dktX4_looks_0 := by decide +kernel
theorem dX4_looks_0 : decode cX4_looks 0 = .ok (.aload_n 0, 1) := dk_42 (dk_at dksX4_looks_0 0 rfl rfl)
theorem dX4_looks_1 : decode cX4_looks 1 = .ok (.iload_n 1, 1) := dk_27 (dk_at dksX4_looks_0 1 rfl rfl)
theorem dX4_looks_2 : decode cX4_looks 2 = .ok (.iload_n 2, 1) := dk_28 (dk_at dksX4_looks_0 2 rfl rfl)
theorem dX4_looks_3 : decode cX4_looks 3 = .ok (.invokevirtual 238, 3) := dk_182 0 238 (dk_at dksX4_looks_0 3 rfl rfl)
theorem dX4_looks_6 : decode cX4_looks 6 = .ok (.ifCond .ne 5, 3) := dk_154 0 5 (dk_at dksX4_looks_0 6 rfl rfl)
theorem dX4_looks_9 : decode cX4_looks 9 = .ok (.iconst 0, 1) := dk_3 (dk_at dksX4_looks_0 9 rfl rfl)
theorem dX4_looks_10 : decode cX4_looks 10 = .ok (.ireturn, 1) := dk_172 (dk_at dksX4_looks_0 10 rfl rfl)
theorem dX4_looks_11 : decode cX4_looks 11 = .ok (.aload_n 0, 1) := dk_42 (dk_at dksX4_looks_0 11 rfl rfl)
theorem dX4_looks_12 : decode cX4_looks 12 = .ok (.iload_n 1, 1) := dk_27 (dk_at dksX4_looks_0 12 rfl rfl)
theorem dX4_looks_13 : decode cX4_looks 13 = .ok (.iload_n 2, 1) := dk_28 (dk_at dksX4_looks_0 13 rfl rfl)
theorem dX4_looks_14 : decode cX4_looks 14 = .ok (.iconst (-1), 1) := dk_2 (dk_at dksX4_looks_0 14 rfl rfl)
theorem dX4_looks_15 : decode cX4_looks 15 = .ok (.invokevirtual 262, 3) := dk_182 1 6 (dk_at dksX4_looks_0 15 rfl rfl)
theorem dX4_looks_18 : decode cX4_looks 18 = .ok (.aload_n 0, 1) := dk_42 (dk_at dksX4_looks_0 18 rfl rfl)
theorem dX4_looks_19 : decode cX4_looks 19 = .ok (.getfield 250, 3) := dk_180 0 250 (dk_at dksX4_looks_0 19 rfl rfl)
theorem dX4_looks_22 : decode cX4_looks 22 = .ok (.ireturn, 1) := dk_172 (dk_at dksX4_looks_0 22 rfl rfl)
abbrev cX4_stepKey : ByteArray := prog_19_method_70_code
def yX4_stepKey : MethodName := ⟨RX4, "stepKey", "(III)I"⟩
def dkwX4_stepKey_1 : List UInt8 := [96, 46, 167, 0, 4, 3, 172]
abbrev dktX4_stepKey_1 : List UInt8 := dkwX4_stepKey_1 ++ []
def dkwX4_stepKey_0 : List UInt8 := [42, 27, 28, 29, 182, 1, 9, 153, 0, 22, 42, 180, 0, 7, 27, 184, 0, 171, 5, 96, 42, 180, 1, 0]
abbrev dktX4_stepKey_0 : List UInt8 := dkwX4_stepKey_0 ++ dktX4_stepKey_1
theorem dksX4_stepKey_0 : cX4_stepKey.data.toList.drop 0 = dktX4_stepKey_0 := by decide +kernel
theorem dksX4_stepKey_1 : cX4_stepKey.data.toList.drop 24 = dktX4_stepKey_1 := dk_seg dksX4_stepKey_0 24 rfl rfl
theorem dX4_stepKey_0 : decode cX4_stepKey 0 = .ok (.aload_n 0, 1) := dk_42 (dk_at dksX4_stepKey_0 0 rfl rfl)
theorem dX4_stepKey_1 : decode cX4_stepKey 1 = .ok (.iload_n 1, 1) := dk_27 (dk_at dksX4_stepKey_0 1 rfl rfl)
theorem dX4_stepKey_2 : decode cX4_stepKey 2 = .ok (.iload_n 2, 1) := dk_28 (dk_at dksX4_stepKey_0 2 rfl rfl)
theorem dX4_stepKey_3 : decode cX4_stepKey 3 = .ok (.iload_n 3, 1) := dk_29 (dk_at dksX4_stepKey_0 3 rfl rfl)
theorem dX4_stepKey_4 : decode cX4_stepKey 4 = .ok (.invokevirtual 265, 3) := dk_182 1 9 (dk_at dksX4_stepKey_0 4 rfl rfl)
theorem dX4_stepKey_7 : decode cX4_stepKey 7 = .ok (.ifCond .eq 22, 3) := dk_153 0 22 (dk_at dksX4_stepKey_0 7 rfl rfl)
theorem dX4_stepKey_10 : decode cX4_stepKey 10 = .ok (.aload_n 0, 1) := dk_42 (dk_at dksX4_stepKey_0 10 rfl rfl)
theorem dX4_stepKey_11 : decode cX4_stepKey 11 = .ok (.getfield 7, 3) := dk_180 0 7 (dk_at dksX4_stepKey_0 11 rfl rfl)
theorem dX4_stepKey_14 : decode cX4_stepKey 14 = .ok (.iload_n 1, 1) := dk_27 (dk_at dksX4_stepKey_0 14 rfl rfl)
theorem dX4_stepKey_15 : decode cX4_stepKey 15 = .ok (.invokestatic 171, 3) := dk_184 0 171 (dk_at dksX4_stepKey_0 15 rfl rfl)
theorem dX4_stepKey_18 : decode cX4_stepKey 18 = .ok (.iconst 2, 1) := dk_5 (dk_at dksX4_stepKey_0 18 rfl rfl)
theorem dX4_stepKey_19 : decode cX4_stepKey 19 = .ok (.iadd, 1) := dk_96 (dk_at dksX4_stepKey_0 19 rfl rfl)
theorem dX4_stepKey_20 : decode cX4_stepKey 20 = .ok (.aload_n 0, 1) := dk_42 (dk_at dksX4_stepKey_0 20 rfl rfl)
theorem dX4_stepKey_21 : decode cX4_stepKey 21 = .ok (.getfield 256, 3) := dk_180 1 0 (dk_at dksX4_stepKey_0 21 rfl rfl)
theorem dX4_stepKey_24 : decode cX4_stepKey 24 = .ok (.iadd, 1) := dk_96 (dk_at dksX4_stepKey_1 0 rfl rfl)
theorem dX4_stepKey_25 : decode cX4_stepKey 25 = .ok (.iaload, 1) := dk_46 (dk_at dksX4_stepKey_1 1 rfl rfl)
theorem dX4_stepKey_26 : decode cX4_stepKey 26 = .ok (.goto 4, 3) := dk_167 0 4 (dk_at dksX4_stepKey_1 2 rfl rfl)
theorem dX4_stepKey_29 : decode cX4_stepKey 29 = .ok (.iconst 0, 1) := dk_3 (dk_at dksX4_stepKey_1 5 rfl rfl)
theorem dX4_stepKey_30 : decode cX4_stepKey 30 = .ok (.ireturn, 1) := dk_172 (dk_at dksX4_stepKey_1 6 rfl rfl)
abbrev cX4_isStep : ByteArray := prog_19_method_69_code
def yX4_isStep : MethodName := ⟨RX4, "isStep", "(III)Z"⟩
def dkwX4_isStep_2 : List UInt8 := [180, 0, 62, 154, 0, 7, 4, 167, 0, 4, 3, 172]
abbrev dktX4_isStep_2 : List UInt8 := dkwX4_isStep_2 ++ []
def dkwX4_isStep_1 : List UInt8 := [182, 1, 6, 42, 29, 155, 0, 10, 42, 180, 1, 0, 156, 0, 7, 6, 167, 0, 4, 3, 181, 0, 62, 42]
abbrev dktX4_isStep_1 : List UInt8 := dkwX4_isStep_1 ++ dktX4_isStep_2
def dkwX4_isStep_0 : List UInt8 := [42, 27, 28, 182, 0, 238, 154, 0, 5, 3, 172, 42, 27, 28, 29, 156, 0, 7, 2, 167, 0, 4, 29]
abbrev dktX4_isStep_0 : List UInt8 := dkwX4_isStep_0 ++ dktX4_isStep_1
theorem dksX4_isStep_0 : cX4_isStep.data.toList.drop 0 = dktX4_isStep_0 := by decide +kernel
theorem dksX4_isStep_1 : cX4_isStep.data.toList.drop 23 = dktX4_isStep_1 := dk_seg dksX4_isStep_0 23 rfl rfl
theorem dksX4_isStep_2 : cX4_isStep.data.toList.drop 47 = dktX4_isStep_2 := dk_seg dksX4_isStep_1 24 rfl rfl
theorem dX4_isStep_0 : decode cX4_isStep 0 = .ok (.aload_n 0, 1) := dk_42 (dk_at dksX4_isStep_0 0 rfl rfl)
theorem dX4_isStep_1 : decode cX4_isStep 1 = .ok (.iload_n 1, 1) := dk_27 (dk_at dksX4_isStep_0 1 rfl rfl)
theorem dX4_isStep_2 : decode cX4_isStep 2 = .ok (.iload_n 2, 1) := dk_28 (dk_at dksX4_isStep_0 2 rfl rfl)
theorem dX4_isStep_3 : decode cX4_isStep 3 = .ok (.invokevirtual 238, 3) := dk_182 0 238 (dk_at dksX4_isStep_0 3 rfl rfl)
theorem dX4_isStep_6 : decode cX4_isStep 6 = .ok (.ifCond .ne 5, 3) := dk_154 0 5 (dk_at dksX4_isStep_0 6 rfl rfl)
theorem dX4_isStep_9 : decode cX4_isStep 9 = .ok (.iconst 0, 1) := dk_3 (dk_at dksX4_isStep_0 9 rfl rfl)
theorem dX4_isStep_10 : decode cX4_isStep 10 = .ok (.ireturn, 1) := dk_172 (dk_at dksX4_isStep_0 10 rfl rfl)
theorem dX4_isStep_11 : decode cX4_isStep 11 = .ok (.aload_n 0, 1) := dk_42 (dk_at dksX4_isStep_0 11 rfl rfl)
theorem dX4_isStep_12 : decode cX4_isStep 12 = .ok (.iload_n 1, 1) := dk_27 (dk_at dksX4_isStep_0 12 rfl rfl)
theorem dX4_isStep_13 : decode cX4_isStep 13 = .ok (.iload_n 2, 1) := dk_28 (dk_at dksX4_isStep_0 13 rfl rfl)
theorem dX4_isStep_14 : decode cX4_isStep 14 = .ok (.iload_n 3, 1) := dk_29 (dk_at dksX4_isStep_0 14 rfl rfl)
theorem dX4_isStep_15 : decode cX4_isStep 15 = .ok (.ifCond .ge 7, 3) := dk_156 0 7 (dk_at dksX4_isStep_0 15 rfl rfl)
theorem dX4_isStep_18 : decode cX4_isStep 18 = .ok (.iconst (-1), 1) := dk_2 (dk_at dksX4_isStep_0 18 rfl rfl)
theorem dX4_isStep_19 : decode cX4_isStep 19 = .ok (.goto 4, 3) := dk_167 0 4 (dk_at dksX4_isStep_0 19 rfl rfl)
theorem dX4_isStep_22 : decode cX4_isStep 22 = .ok (.iload_n 3, 1) := dk_29 (dk_at dksX4_isStep_0 22 rfl rfl)
theorem dX4_isStep_23 : decode cX4_isStep 23 = .ok (.invokevirtual 262, 3) := dk_182 1 6 (dk_at dksX4_isStep_1 0 rfl rfl)
theorem dX4_isStep_26 : decode cX4_isStep 26 = .ok (.aload_n 0, 1) := dk_42 (dk_at dksX4_isStep_1 3 rfl rfl)
theorem dX4_isStep_27 : decode cX4_isStep 27 = .ok (.iload_n 3, 1) := dk_29 (dk_at dksX4_isStep_1 4 rfl rfl)
theorem dX4_isStep_28 : decode cX4_isStep 28 = .ok (.ifCond .lt 10, 3) := dk_155 0 10 (dk_at dksX4_isStep_1 5 rfl rfl)
theorem dX4_isStep_31 : decode cX4_isStep 31 = .ok (.aload_n 0, 1) := dk_42 (dk_at dksX4_isStep_1 8 rfl rfl)
theorem dX4_isStep_32 : decode cX4_isStep 32 = .ok (.getfield 256, 3) := dk_180 1 0 (dk_at dksX4_isStep_1 9 rfl rfl)
theorem dX4_isStep_35 : decode cX4_isStep 35 = .ok (.ifCond .ge 7, 3) := dk_156 0 7 (dk_at dksX4_isStep_1 12 rfl rfl)
theorem dX4_isStep_38 : decode cX4_isStep 38 = .ok (.iconst 3, 1) := dk_6 (dk_at dksX4_isStep_1 15 rfl rfl)
theorem dX4_isStep_39 : decode cX4_isStep 39 = .ok (.goto 4, 3) := dk_167 0 4 (dk_at dksX4_isStep_1 16 rfl rfl)
theorem dX4_isStep_42 : decode cX4_isStep 42 = .ok (.iconst 0, 1) := dk_3 (dk_at dksX4_isStep_1 19 rfl rfl)
theorem dX4_isStep_43 : decode cX4_isStep 43 = .ok (.putfield 62, 3) := dk_181 0 62 (dk_at dksX4_isStep_1 20 rfl rfl)
theorem dX4_isStep_46 : decode cX4_isStep 46 = .ok (.aload_n 0, 1) := dk_42 (dk_at dksX4_isStep_1 23 rfl rfl)
theorem dX4_isStep_47 : decode cX4_isStep 47 = .ok (.getfield 62, 3) := dk_180 0 62 (dk_at dksX4_isStep_2 0 rfl rfl)
theorem dX4_isStep_50 : decode cX4_isStep 50 = .ok (.ifCond .ne 7, 3) := dk_154 0 7 (dk_at dksX4_isStep_2 3 rfl rfl)
theorem dX4_isStep_53 : decode cX4_isStep 53 = .ok (.iconst 1, 1) := dk_4 (dk_at dksX4_isStep_2 6 rfl rfl)
theorem dX4_isStep_54 : decode cX4_isStep 54 = .ok (.goto 4, 3) := dk_167 0 4 (dk_at dksX4_isStep_2 7 rfl rfl)
theorem dX4_isStep_57 : decode cX4_isStep 57 = .ok (.iconst 0, 1) := dk_3 (dk_at dksX4_isStep_2 10 rfl rfl)
theorem dX4_isStep_58 : decode cX4_isStep 58 = .ok (.ireturn, 1) := dk_172 (dk_at dksX4_isStep_2 11 rfl rfl)
abbrev cX4_stepLevel : ByteArray := prog_19_method_71_code
def yX4_stepLevel : MethodName := ⟨RX4, "stepLevel", "(III)I"⟩
def dkwX4_stepLevel_0 : List UInt8 := [42, 27, 28, 29, 182, 1, 9, 153, 0, 10, 42, 180, 1, 3, 167, 0, 4, 3, 172]
abbrev dktX4_stepLevel_0 : List UInt8 := dkwX4_stepLevel_0 ++ []
theorem dksX4_stepLevel_0 : cX4_stepLevel.data.toList.drop 0 = dktX4_stepLevel_0 := by decide +kernel
theorem dX4_stepLevel_0 : decode cX4_stepLevel 0 = .ok (.aload_n 0, 1) := dk_42 (dk_at dksX4_stepLevel_0 0 rfl rfl)
theorem dX4_stepLevel_1 : decode cX4_stepLevel 1 = .ok (.iload_n 1, 1) := dk_27 (dk_at dksX4_stepLevel_0 1 rfl rfl)
theorem dX4_stepLevel_2 : decode cX4_stepLevel 2 = .ok (.iload_n 2, 1) := dk_28 (dk_at dksX4_stepLevel_0 2 rfl rfl)
theorem dX4_stepLevel_3 : decode cX4_stepLevel 3 = .ok (.iload_n 3, 1) := dk_29 (dk_at dksX4_stepLevel_0 3 rfl rfl)
theorem dX4_stepLevel_4 : decode cX4_stepLevel 4 = .ok (.invokevirtual 265, 3) := dk_182 1 9 (dk_at dksX4_stepLevel_0 4 rfl rfl)
theorem dX4_stepLevel_7 : decode cX4_stepLevel 7 = .ok (.ifCond .eq 10, 3) := dk_153 0 10 (dk_at dksX4_stepLevel_0 7 rfl rfl)
theorem dX4_stepLevel_10 : decode cX4_stepLevel 10 = .ok (.aload_n 0, 1) := dk_42 (dk_at dksX4_stepLevel_0 10 rfl rfl)
theorem dX4_stepLevel_11 : decode cX4_stepLevel 11 = .ok (.getfield 259, 3) := dk_180 1 3 (dk_at dksX4_stepLevel_0 11 rfl rfl)
theorem dX4_stepLevel_14 : decode cX4_stepLevel 14 = .ok (.goto 4, 3) := dk_167 0 4 (dk_at dksX4_stepLevel_0 14 rfl rfl)
theorem dX4_stepLevel_17 : decode cX4_stepLevel 17 = .ok (.iconst 0, 1) := dk_3 (dk_at dksX4_stepLevel_0 17 rfl rfl)
theorem dX4_stepLevel_18 : decode cX4_stepLevel 18 = .ok (.ireturn, 1) := dk_172 (dk_at dksX4_stepLevel_0 18 rfl rfl)
abbrev cX4_stepsTo : ByteArray := prog_19_method_72_code
def yX4_stepsTo : MethodName := ⟨RX4, "stepsTo", "(II)I"⟩
def dkwX4_stepsTo_3 : List UInt8 := [27, 21, 5, 21, 4, 182, 0, 197, 54, 6, 167, 255, 232, 132, 5, 255, 167, 255, 209, 29, 172]
abbrev dktX4_stepsTo_3 : List UInt8 := dkwX4_stepsTo_3 ++ []
def dkwX4_stepsTo_2 : List UInt8 := [27, 21, 5, 21, 4, 182, 0, 197, 54, 6, 21, 6, 28, 163, 0, 24, 21, 6, 54, 4, 132, 3, 1, 42]
abbrev dktX4_stepsTo_2 : List UInt8 := dkwX4_stepsTo_2 ++ dktX4_stepsTo_3
def dkwX4_stepsTo_1 : List UInt8 := [180, 0, 62, 158, 0, 7, 3, 167, 0, 8, 42, 27, 182, 0, 194, 54, 5, 21, 5, 4, 161, 0, 47, 42]
abbrev dktX4_stepsTo_1 : List UInt8 := dkwX4_stepsTo_1 ++ dktX4_stepsTo_2
def dkwX4_stepsTo_0 : List UInt8 := [42, 42, 27, 28, 182, 0, 225, 153, 0, 7, 3, 167, 0, 4, 4, 181, 0, 62, 3, 62, 2, 54, 4, 42]
abbrev dktX4_stepsTo_0 : List UInt8 := dkwX4_stepsTo_0 ++ dktX4_stepsTo_1
theorem dksX4_stepsTo_0 : cX4_stepsTo.data.toList.drop 0 = dktX4_stepsTo_0 := by decide +kernel
theorem dksX4_stepsTo_1 : cX4_stepsTo.data.toList.drop 24 = dktX4_stepsTo_1 := dk_seg dksX4_stepsTo_0 24 rfl rfl
theorem dksX4_stepsTo_2 : cX4_stepsTo.data.toList.drop 48 = dktX4_stepsTo_2 := dk_seg dksX4_stepsTo_1 24 rfl rfl
theorem dksX4_stepsTo_3 : cX4_stepsTo.data.toList.drop 72 = dktX4_stepsTo_3 := dk_seg dksX4_stepsTo_2 24 rfl rfl
theorem dX4_stepsTo_0 : decode cX4_stepsTo 0 = .ok (.aload_n 0, 1) := dk_42 (dk_at dksX4_stepsTo_0 0 rfl rfl)
theorem dX4_stepsTo_1 : decode cX4_stepsTo 1 = .ok (.aload_n 0, 1) := dk_42 (dk_at dksX4_stepsTo_0 1 rfl rfl)
theorem dX4_stepsTo_2 : decode cX4_stepsTo 2 = .ok (.iload_n 1, 1) := dk_27 (dk_at dksX4_stepsTo_0 2 rfl rfl)
theorem dX4_stepsTo_3 : decode cX4_stepsTo 3 = .ok (.iload_n 2, 1) := dk_28 (dk_at dksX4_stepsTo_0 3 rfl rfl)
theorem dX4_stepsTo_4 : decode cX4_stepsTo 4 = .ok (.invokevirtual 225, 3) := dk_182 0 225 (dk_at dksX4_stepsTo_0 4 rfl rfl)
theorem dX4_stepsTo_7 : decode cX4_stepsTo 7 = .ok (.ifCond .eq 7, 3) := dk_153 0 7 (dk_at dksX4_stepsTo_0 7 rfl rfl)
theorem dX4_stepsTo_10 : decode cX4_stepsTo 10 = .ok (.iconst 0, 1) := dk_3 (dk_at dksX4_stepsTo_0 10 rfl rfl)
theorem dX4_stepsTo_11 : decode cX4_stepsTo 11 = .ok (.goto 4, 3) := dk_167 0 4 (dk_at dksX4_stepsTo_0 11 rfl rfl)
theorem dX4_stepsTo_14 : decode cX4_stepsTo 14 = .ok (.iconst 1, 1) := dk_4 (dk_at dksX4_stepsTo_0 14 rfl rfl)
theorem dX4_stepsTo_15 : decode cX4_stepsTo 15 = .ok (.putfield 62, 3) := dk_181 0 62 (dk_at dksX4_stepsTo_0 15 rfl rfl)
theorem dX4_stepsTo_18 : decode cX4_stepsTo 18 = .ok (.iconst 0, 1) := dk_3 (dk_at dksX4_stepsTo_0 18 rfl rfl)
theorem dX4_stepsTo_19 : decode cX4_stepsTo 19 = .ok (.istore_n 3, 1) := dk_62 (dk_at dksX4_stepsTo_0 19 rfl rfl)
theorem dX4_stepsTo_20 : decode cX4_stepsTo 20 = .ok (.iconst (-1), 1) := dk_2 (dk_at dksX4_stepsTo_0 20 rfl rfl)
theorem dX4_stepsTo_21 : decode cX4_stepsTo 21 = .ok (.istore 4, 2) := dk_54 4 (dk_at dksX4_stepsTo_0 21 rfl rfl)
theorem dX4_stepsTo_23 : decode cX4_stepsTo 23 = .ok (.aload_n 0, 1) := dk_42 (dk_at dksX4_stepsTo_0 23 rfl rfl)
theorem dX4_stepsTo_24 : decode cX4_stepsTo 24 = .ok (.getfield 62, 3) := dk_180 0 62 (dk_at dksX4_stepsTo_1 0 rfl rfl)
theorem dX4_stepsTo_27 : decode cX4_stepsTo 27 = .ok (.ifCond .le 7, 3) := dk_158 0 7 (dk_at dksX4_stepsTo_1 3 rfl rfl)
theorem dX4_stepsTo_30 : decode cX4_stepsTo 30 = .ok (.iconst 0, 1) := dk_3 (dk_at dksX4_stepsTo_1 6 rfl rfl)
theorem dX4_stepsTo_31 : decode cX4_stepsTo 31 = .ok (.goto 8, 3) := dk_167 0 8 (dk_at dksX4_stepsTo_1 7 rfl rfl)
theorem dX4_stepsTo_34 : decode cX4_stepsTo 34 = .ok (.aload_n 0, 1) := dk_42 (dk_at dksX4_stepsTo_1 10 rfl rfl)
theorem dX4_stepsTo_35 : decode cX4_stepsTo 35 = .ok (.iload_n 1, 1) := dk_27 (dk_at dksX4_stepsTo_1 11 rfl rfl)
theorem dX4_stepsTo_36 : decode cX4_stepsTo 36 = .ok (.invokevirtual 194, 3) := dk_182 0 194 (dk_at dksX4_stepsTo_1 12 rfl rfl)
theorem dX4_stepsTo_39 : decode cX4_stepsTo 39 = .ok (.istore 5, 2) := dk_54 5 (dk_at dksX4_stepsTo_1 15 rfl rfl)
theorem dX4_stepsTo_41 : decode cX4_stepsTo 41 = .ok (.iload 5, 2) := dk_21 5 (dk_at dksX4_stepsTo_1 17 rfl rfl)
theorem dX4_stepsTo_43 : decode cX4_stepsTo 43 = .ok (.iconst 1, 1) := dk_4 (dk_at dksX4_stepsTo_1 19 rfl rfl)
theorem dX4_stepsTo_44 : decode cX4_stepsTo 44 = .ok (.if_icmp .lt 47, 3) := dk_161 0 47 (dk_at dksX4_stepsTo_1 20 rfl rfl)
theorem dX4_stepsTo_47 : decode cX4_stepsTo 47 = .ok (.aload_n 0, 1) := dk_42 (dk_at dksX4_stepsTo_1 23 rfl rfl)
theorem dX4_stepsTo_48 : decode cX4_stepsTo 48 = .ok (.iload_n 1, 1) := dk_27 (dk_at dksX4_stepsTo_2 0 rfl rfl)
theorem dX4_stepsTo_49 : decode cX4_stepsTo 49 = .ok (.iload 5, 2) := dk_21 5 (dk_at dksX4_stepsTo_2 1 rfl rfl)
theorem dX4_stepsTo_51 : decode cX4_stepsTo 51 = .ok (.iload 4, 2) := dk_21 4 (dk_at dksX4_stepsTo_2 3 rfl rfl)
theorem dX4_stepsTo_53 : decode cX4_stepsTo 53 = .ok (.invokevirtual 197, 3) := dk_182 0 197 (dk_at dksX4_stepsTo_2 5 rfl rfl)
theorem dX4_stepsTo_56 : decode cX4_stepsTo 56 = .ok (.istore 6, 2) := dk_54 6 (dk_at dksX4_stepsTo_2 8 rfl rfl)
theorem dX4_stepsTo_58 : decode cX4_stepsTo 58 = .ok (.iload 6, 2) := dk_21 6 (dk_at dksX4_stepsTo_2 10 rfl rfl)
theorem dX4_stepsTo_60 : decode cX4_stepsTo 60 = .ok (.iload_n 2, 1) := dk_28 (dk_at dksX4_stepsTo_2 12 rfl rfl)
theorem dX4_stepsTo_61 : decode cX4_stepsTo 61 = .ok (.if_icmp .gt 24, 3) := dk_163 0 24 (dk_at dksX4_stepsTo_2 13 rfl rfl)
theorem dX4_stepsTo_64 : decode cX4_stepsTo 64 = .ok (.iload 6, 2) := dk_21 6 (dk_at dksX4_stepsTo_2 16 rfl rfl)
theorem dX4_stepsTo_66 : decode cX4_stepsTo 66 = .ok (.istore 4, 2) := dk_54 4 (dk_at dksX4_stepsTo_2 18 rfl rfl)
theorem dX4_stepsTo_68 : decode cX4_stepsTo 68 = .ok (.iinc 3 1, 3) := dk_132 3 1 (dk_at dksX4_stepsTo_2 20 rfl rfl)
theorem dX4_stepsTo_71 : decode cX4_stepsTo 71 = .ok (.aload_n 0, 1) := dk_42 (dk_at dksX4_stepsTo_2 23 rfl rfl)
theorem dX4_stepsTo_72 : decode cX4_stepsTo 72 = .ok (.iload_n 1, 1) := dk_27 (dk_at dksX4_stepsTo_3 0 rfl rfl)
theorem dX4_stepsTo_73 : decode cX4_stepsTo 73 = .ok (.iload 5, 2) := dk_21 5 (dk_at dksX4_stepsTo_3 1 rfl rfl)
theorem dX4_stepsTo_75 : decode cX4_stepsTo 75 = .ok (.iload 4, 2) := dk_21 4 (dk_at dksX4_stepsTo_3 3 rfl rfl)
theorem dX4_stepsTo_77 : decode cX4_stepsTo 77 = .ok (.invokevirtual 197, 3) := dk_182 0 197 (dk_at dksX4_stepsTo_3 5 rfl rfl)
theorem dX4_stepsTo_80 : decode cX4_stepsTo 80 = .ok (.istore 6, 2) := dk_54 6 (dk_at dksX4_stepsTo_3 8 rfl rfl)
theorem dX4_stepsTo_82 : decode cX4_stepsTo 82 = .ok (.goto (-24), 3) := dk_167 255 232 (dk_at dksX4_stepsTo_3 10 rfl rfl)
theorem dX4_stepsTo_85 : decode cX4_stepsTo 85 = .ok (.iinc 5 (-1), 3) := dk_132 5 255 (dk_at dksX4_stepsTo_3 13 rfl rfl)
theorem dX4_stepsTo_88 : decode cX4_stepsTo 88 = .ok (.goto (-47), 3) := dk_167 255 209 (dk_at dksX4_stepsTo_3 16 rfl rfl)
theorem dX4_stepsTo_91 : decode cX4_stepsTo 91 = .ok (.iload_n 3, 1) := dk_29 (dk_at dksX4_stepsTo_3 19 rfl rfl)
theorem dX4_stepsTo_92 : decode cX4_stepsTo 92 = .ok (.ireturn, 1) := dk_172 (dk_at dksX4_stepsTo_3 20 rfl rfl)
abbrev cX4_farthest : ByteArray := prog_19_method_73_code
def yX4_farthest : MethodName := ⟨RX4, "farthest", "(I)I"⟩
def dkwX4_farthest_5 : List UInt8 := [132, 4, 1, 167, 255, 182, 29, 172]
abbrev dktX4_farthest_5 : List UInt8 := dkwX4_farthest_5 ++ []
def dkwX4_farthest_4 : List UInt8 := [164, 0, 23, 42, 180, 0, 253, 61, 42, 180, 0, 7, 27, 184, 0, 171, 5, 96, 21, 4, 96, 46, 62]
abbrev dktX4_farthest_4 : List UInt8 := dkwX4_farthest_4 ++ dktX4_farthest_5
def dkwX4_farthest_3 : List UInt8 := [180, 0, 7, 27, 184, 0, 171, 5, 96, 21, 4, 96, 46, 2, 182, 1, 6, 42, 180, 0, 253, 28]
abbrev dktX4_farthest_3 : List UInt8 := dkwX4_farthest_3 ++ dktX4_farthest_4
def dkwX4_farthest_2 : List UInt8 := [154, 0, 73, 21, 4, 42, 180, 0, 7, 27, 184, 0, 171, 4, 96, 46, 162, 0, 57, 42, 27, 42]
abbrev dktX4_farthest_2 : List UInt8 := dkwX4_farthest_2 ++ dktX4_farthest_3
def dkwX4_farthest_1 : List UInt8 := [154, 0, 7, 5, 167, 0, 4, 3, 181, 0, 62, 2, 61, 3, 62, 3, 54, 4, 42, 180, 0, 62]
abbrev dktX4_farthest_1 : List UInt8 := dkwX4_farthest_1 ++ dktX4_farthest_2
def dkwX4_farthest_0 : List UInt8 := [42, 42, 27, 182, 0, 183, 154, 0, 7, 4, 167, 0, 22, 42, 180, 0, 7, 27, 184, 0, 171, 4, 96, 46]
abbrev dktX4_farthest_0 : List UInt8 := dkwX4_farthest_0 ++ dktX4_farthest_1
theorem dksX4_farthest_0 : cX4_farthest.data.toList.drop 0 = dktX4_farthest_0 := by decide +kernel
theorem dksX4_farthest_1 : cX4_farthest.data.toList.drop 24 = dktX4_farthest_1 := dk_seg dksX4_farthest_0 24 rfl rfl
theorem dksX4_farthest_2 : cX4_farthest.data.toList.drop 46 = dktX4_farthest_2 := dk_seg dksX4_farthest_1 22 rfl rfl
theorem dksX4_farthest_3 : cX4_farthest.data.toList.drop 68 = dktX4_farthest_3 := dk_seg dksX4_farthest_2 22 rfl rfl
theorem dksX4_farthest_4 : cX4_farthest.data.toList.drop 90 = dktX4_farthest_4 := dk_seg dksX4_farthest_3 22 rfl rfl
theorem dksX4_farthest_5 : cX4_farthest.data.toList.drop 113 = dktX4_farthest_5 := dk_seg dksX4_farthest_4 23 rfl rfl
theorem dX4_farthest_0 : decode cX4_farthest 0 = .ok (.aload_n 0, 1) := dk_42 (dk_at dksX4_farthest_0 0 rfl rfl)
theorem dX4_farthest_1 : decode cX4_farthest 1 = .ok (.aload_n 0, 1) := dk_42 (dk_at dksX4_farthest_0 1 rfl rfl)
theorem dX4_farthest_2 : decode cX4_farthest 2 = .ok (.iload_n 1, 1) := dk_27 (dk_at dksX4_farthest_0 2 rfl rfl)
theorem dX4_farthest_3 : decode cX4_farthest 3 = .ok (.invokevirtual 183, 3) := dk_182 0 183 (dk_at dksX4_farthest_0 3 rfl rfl)
theorem dX4_farthest_6 : decode cX4_farthest 6 = .ok (.ifCond .ne 7, 3) := dk_154 0 7 (dk_at dksX4_farthest_0 6 rfl rfl)
theorem dX4_farthest_9 : decode cX4_farthest 9 = .ok (.iconst 1, 1) := dk_4 (dk_at dksX4_farthest_0 9 rfl rfl)
theorem dX4_farthest_10 : decode cX4_farthest 10 = .ok (.goto 22, 3) := dk_167 0 22 (dk_at dksX4_farthest_0 10 rfl rfl)
theorem dX4_farthest_13 : decode cX4_farthest 13 = .ok (.aload_n 0, 1) := dk_42 (dk_at dksX4_farthest_0 13 rfl rfl)
theorem dX4_farthest_14 : decode cX4_farthest 14 = .ok (.getfield 7, 3) := dk_180 0 7 (dk_at dksX4_farthest_0 14 rfl rfl)
theorem dX4_farthest_17 : decode cX4_farthest 17 = .ok (.iload_n 1, 1) := dk_27 (dk_at dksX4_farthest_0 17 rfl rfl)
theorem dX4_farthest_18 : decode cX4_farthest 18 = .ok (.invokestatic 171, 3) := dk_184 0 171 (dk_at dksX4_farthest_0 18 rfl rfl)
theorem dX4_farthest_21 : decode cX4_farthest 21 = .ok (.iconst 1, 1) := dk_4 (dk_at dksX4_farthest_0 21 rfl rfl)
theorem dX4_farthest_22 : decode cX4_farthest 22 = .ok (.iadd, 1) := dk_96 (dk_at dksX4_farthest_0 22 rfl rfl)
theorem dX4_farthest_23 : decode cX4_farthest 23 = .ok (.iaload, 1) := dk_46 (dk_at dksX4_farthest_0 23 rfl rfl)
theorem dX4_farthest_24 : decode cX4_farthest 24 = .ok (.ifCond .ne 7, 3) := dk_154 0 7 (dk_at dksX4_farthest_1 0 rfl rfl)
theorem dX4_farthest_27 : decode cX4_farthest 27 = .ok (.iconst 2, 1) := dk_5 (dk_at dksX4_farthest_1 3 rfl rfl)
theorem dX4_farthest_28 : decode cX4_farthest 28 = .ok (.goto 4, 3) := dk_167 0 4 (dk_at dksX4_farthest_1 4 rfl rfl)
theorem dX4_farthest_31 : decode cX4_farthest 31 = .ok (.iconst 0, 1) := dk_3 (dk_at dksX4_farthest_1 7 rfl rfl)
theorem dX4_farthest_32 : decode cX4_farthest 32 = .ok (.putfield 62, 3) := dk_181 0 62 (dk_at dksX4_farthest_1 8 rfl rfl)
theorem dX4_farthest_35 : decode cX4_farthest 35 = .ok (.iconst (-1), 1) := dk_2 (dk_at dksX4_farthest_1 11 rfl rfl)
theorem dX4_farthest_36 : decode cX4_farthest 36 = .ok (.istore_n 2, 1) := dk_61 (dk_at dksX4_farthest_1 12 rfl rfl)
theorem dX4_farthest_37 : decode cX4_farthest 37 = .ok (.iconst 0, 1) := dk_3 (dk_at dksX4_farthest_1 13 rfl rfl)
theorem dX4_farthest_38 : decode cX4_farthest 38 = .ok (.istore_n 3, 1) := dk_62 (dk_at dksX4_farthest_1 14 rfl rfl)
theorem dX4_farthest_39 : decode cX4_farthest 39 = .ok (.iconst 0, 1) := dk_3 (dk_at dksX4_farthest_1 15 rfl rfl)
theorem dX4_farthest_40 : decode cX4_farthest 40 = .ok (.istore 4, 2) := dk_54 4 (dk_at dksX4_farthest_1 16 rfl rfl)
theorem dX4_farthest_42 : decode cX4_farthest 42 = .ok (.aload_n 0, 1) := dk_42 (dk_at dksX4_farthest_1 18 rfl rfl)
theorem dX4_farthest_43 : decode cX4_farthest 43 = .ok (.getfield 62, 3) := dk_180 0 62 (dk_at dksX4_farthest_1 19 rfl rfl)
theorem dX4_farthest_46 : decode cX4_farthest 46 = .ok (.ifCond .ne 73, 3) := dk_154 0 73 (dk_at dksX4_farthest_2 0 rfl rfl)
theorem dX4_farthest_49 : decode cX4_farthest 49 = .ok (.iload 4, 2) := dk_21 4 (dk_at dksX4_farthest_2 3 rfl rfl)
theorem dX4_farthest_51 : decode cX4_farthest 51 = .ok (.aload_n 0, 1) := dk_42 (dk_at dksX4_farthest_2 5 rfl rfl)
theorem dX4_farthest_52 : decode cX4_farthest 52 = .ok (.getfield 7, 3) := dk_180 0 7 (dk_at dksX4_farthest_2 6 rfl rfl)
theorem dX4_farthest_55 : decode cX4_farthest 55 = .ok (.iload_n 1, 1) := dk_27 (dk_at dksX4_farthest_2 9 rfl rfl)
theorem dX4_farthest_56 : decode cX4_farthest 56 = .ok (.invokestatic 171, 3) := dk_184 0 171 (dk_at dksX4_farthest_2 10 rfl rfl)
theorem dX4_farthest_59 : decode cX4_farthest 59 = .ok (.iconst 1, 1) := dk_4 (dk_at dksX4_farthest_2 13 rfl rfl)
theorem dX4_farthest_60 : decode cX4_farthest 60 = .ok (.iadd, 1) := dk_96 (dk_at dksX4_farthest_2 14 rfl rfl)
theorem dX4_farthest_61 : decode cX4_farthest 61 = .ok (.iaload, 1) := dk_46 (dk_at dksX4_farthest_2 15 rfl rfl)
theorem dX4_farthest_62 : decode cX4_farthest 62 = .ok (.if_icmp .ge 57, 3) := dk_162 0 57 (dk_at dksX4_farthest_2 16 rfl rfl)
theorem dX4_farthest_65 : decode cX4_farthest 65 = .ok (.aload_n 0, 1) := dk_42 (dk_at dksX4_farthest_2 19 rfl rfl)
theorem dX4_farthest_66 : decode cX4_farthest 66 = .ok (.iload_n 1, 1) := dk_27 (dk_at dksX4_farthest_2 20 rfl rfl)
theorem dX4_farthest_67 : decode cX4_farthest 67 = .ok (.aload_n 0, 1) := dk_42 (dk_at dksX4_farthest_2 21 rfl rfl)
theorem dX4_farthest_68 : decode cX4_farthest 68 = .ok (.getfield 7, 3) := dk_180 0 7 (dk_at dksX4_farthest_3 0 rfl rfl)
theorem dX4_farthest_71 : decode cX4_farthest 71 = .ok (.iload_n 1, 1) := dk_27 (dk_at dksX4_farthest_3 3 rfl rfl)
theorem dX4_farthest_72 : decode cX4_farthest 72 = .ok (.invokestatic 171, 3) := dk_184 0 171 (dk_at dksX4_farthest_3 4 rfl rfl)
theorem dX4_farthest_75 : decode cX4_farthest 75 = .ok (.iconst 2, 1) := dk_5 (dk_at dksX4_farthest_3 7 rfl rfl)
theorem dX4_farthest_76 : decode cX4_farthest 76 = .ok (.iadd, 1) := dk_96 (dk_at dksX4_farthest_3 8 rfl rfl)
theorem dX4_farthest_77 : decode cX4_farthest 77 = .ok (.iload 4, 2) := dk_21 4 (dk_at dksX4_farthest_3 9 rfl rfl)
theorem dX4_farthest_79 : decode cX4_farthest 79 = .ok (.iadd, 1) := dk_96 (dk_at dksX4_farthest_3 11 rfl rfl)
theorem dX4_farthest_80 : decode cX4_farthest 80 = .ok (.iaload, 1) := dk_46 (dk_at dksX4_farthest_3 12 rfl rfl)
theorem dX4_farthest_81 : decode cX4_farthest 81 = .ok (.iconst (-1), 1) := dk_2 (dk_at dksX4_farthest_3 13 rfl rfl)
theorem dX4_farthest_82 : decode cX4_farthest 82 = .ok (.invokevirtual 262, 3) := dk_182 1 6 (dk_at dksX4_farthest_3 14 rfl rfl)
theorem dX4_farthest_85 : decode cX4_farthest 85 = .ok (.aload_n 0, 1) := dk_42 (dk_at dksX4_farthest_3 17 rfl rfl)
theorem dX4_farthest_86 : decode cX4_farthest 86 = .ok (.getfield 253, 3) := dk_180 0 253 (dk_at dksX4_farthest_3 18 rfl rfl)
theorem dX4_farthest_89 : decode cX4_farthest 89 = .ok (.iload_n 2, 1) := dk_28 (dk_at dksX4_farthest_3 21 rfl rfl)
theorem dX4_farthest_90 : decode cX4_farthest 90 = .ok (.if_icmp .le 23, 3) := dk_164 0 23 (dk_at dksX4_farthest_4 0 rfl rfl)
theorem dX4_farthest_93 : decode cX4_farthest 93 = .ok (.aload_n 0, 1) := dk_42 (dk_at dksX4_farthest_4 3 rfl rfl)
theorem dX4_farthest_94 : decode cX4_farthest 94 = .ok (.getfield 253, 3) := dk_180 0 253 (dk_at dksX4_farthest_4 4 rfl rfl)
theorem dX4_farthest_97 : decode cX4_farthest 97 = .ok (.istore_n 2, 1) := dk_61 (dk_at dksX4_farthest_4 7 rfl rfl)
theorem dX4_farthest_98 : decode cX4_farthest 98 = .ok (.aload_n 0, 1) := dk_42 (dk_at dksX4_farthest_4 8 rfl rfl)
theorem dX4_farthest_99 : decode cX4_farthest 99 = .ok (.getfield 7, 3) := dk_180 0 7 (dk_at dksX4_farthest_4 9 rfl rfl)
theorem dX4_farthest_102 : decode cX4_farthest 102 = .ok (.iload_n 1, 1) := dk_27 (dk_at dksX4_farthest_4 12 rfl rfl)
theorem dX4_farthest_103 : decode cX4_farthest 103 = .ok (.invokestatic 171, 3) := dk_184 0 171 (dk_at dksX4_farthest_4 13 rfl rfl)
theorem dX4_farthest_106 : decode cX4_farthest 106 = .ok (.iconst 2, 1) := dk_5 (dk_at dksX4_farthest_4 16 rfl rfl)
theorem dX4_farthest_107 : decode cX4_farthest 107 = .ok (.iadd, 1) := dk_96 (dk_at dksX4_farthest_4 17 rfl rfl)
theorem dX4_farthest_108 : decode cX4_farthest 108 = .ok (.iload 4, 2) := dk_21 4 (dk_at dksX4_farthest_4 18 rfl rfl)
theorem dX4_farthest_110 : decode cX4_farthest 110 = .ok (.iadd, 1) := dk_96 (dk_at dksX4_farthest_4 20 rfl rfl)
theorem dX4_farthest_111 : decode cX4_farthest 111 = .ok (.iaload, 1) := dk_46 (dk_at dksX4_farthest_4 21 rfl rfl)
theorem dX4_farthest_112 : decode cX4_farthest 112 = .ok (.istore_n 3, 1) := dk_62 (dk_at dksX4_farthest_4 22 rfl rfl)
theorem dX4_farthest_113 : decode cX4_farthest 113 = .ok (.iinc 4 1, 3) := dk_132 4 1 (dk_at dksX4_farthest_5 0 rfl rfl)
theorem dX4_farthest_116 : decode cX4_farthest 116 = .ok (.goto (-74), 3) := dk_167 255 182 (dk_at dksX4_farthest_5 3 rfl rfl)
theorem dX4_farthest_119 : decode cX4_farthest 119 = .ok (.iload_n 3, 1) := dk_29 (dk_at dksX4_farthest_5 6 rfl rfl)
theorem dX4_farthest_120 : decode cX4_farthest 120 = .ok (.ireturn, 1) := dk_172 (dk_at dksX4_farthest_5 7 rfl rfl)
abbrev cX4_meanLooks : ByteArray := prog_19_method_74_code
def yX4_meanLooks : MethodName := ⟨RX4, "meanLooks", "(I)D"⟩
def dkwX4_meanLooks_4 : List UInt8 := [132, 4, 1, 167, 255, 220, 28, 135, 29, 135, 111, 175]
abbrev dktX4_meanLooks_4 : List UInt8 := dkwX4_meanLooks_4 ++ []
def dkwX4_meanLooks_3 : List UInt8 := [180, 0, 7, 27, 184, 0, 171, 5, 96, 21, 4, 96, 46, 2, 182, 1, 6, 28, 42, 180, 0, 250, 96, 61]
abbrev dktX4_meanLooks_3 : List UInt8 := dkwX4_meanLooks_3 ++ dktX4_meanLooks_4
def dkwX4_meanLooks_2 : List UInt8 := [180, 0, 7, 27, 184, 0, 171, 4, 96, 46, 62, 3, 54, 4, 21, 4, 29, 162, 0, 36, 42, 27, 42]
abbrev dktX4_meanLooks_2 : List UInt8 := dkwX4_meanLooks_2 ++ dktX4_meanLooks_3
def dkwX4_meanLooks_1 : List UInt8 := [154, 0, 7, 5, 167, 0, 4, 3, 181, 0, 62, 42, 180, 0, 62, 158, 0, 5, 14, 175, 3, 61, 42]
abbrev dktX4_meanLooks_1 : List UInt8 := dkwX4_meanLooks_1 ++ dktX4_meanLooks_2
def dkwX4_meanLooks_0 : List UInt8 := [42, 42, 27, 182, 0, 183, 154, 0, 7, 4, 167, 0, 22, 42, 180, 0, 7, 27, 184, 0, 171, 4, 96, 46]
abbrev dktX4_meanLooks_0 : List UInt8 := dkwX4_meanLooks_0 ++ dktX4_meanLooks_1
theorem dksX4_meanLooks_0 : cX4_meanLooks.data.toList.drop 0 = dktX4_meanLooks_0 := by decide +kernel
theorem dksX4_meanLooks_1 : cX4_meanLooks.data.toList.drop 24 = dktX4_meanLooks_1 := dk_seg dksX4_meanLooks_0 24 rfl rfl
theorem dksX4_meanLooks_2 : cX4_meanLooks.data.toList.drop 47 = dktX4_meanLooks_2 := dk_seg dksX4_meanLooks_1 23 rfl rfl
theorem dksX4_meanLooks_3 : cX4_meanLooks.data.toList.drop 70 = dktX4_meanLooks_3 := dk_seg dksX4_meanLooks_2 23 rfl rfl
theorem dksX4_meanLooks_4 : cX4_meanLooks.data.toList.drop 94 = dktX4_meanLooks_4 := dk_seg dksX4_meanLooks_3 24 rfl rfl
theorem dX4_meanLooks_0 : decode cX4_meanLooks 0 = .ok (.aload_n 0, 1) := dk_42 (dk_at dksX4_meanLooks_0 0 rfl rfl)
theorem dX4_meanLooks_1 : decode cX4_meanLooks 1 = .ok (.aload_n 0, 1) := dk_42 (dk_at dksX4_meanLooks_0 1 rfl rfl)
theorem dX4_meanLooks_2 : decode cX4_meanLooks 2 = .ok (.iload_n 1, 1) := dk_27 (dk_at dksX4_meanLooks_0 2 rfl rfl)
theorem dX4_meanLooks_3 : decode cX4_meanLooks 3 = .ok (.invokevirtual 183, 3) := dk_182 0 183 (dk_at dksX4_meanLooks_0 3 rfl rfl)
theorem dX4_meanLooks_6 : decode cX4_meanLooks 6 = .ok (.ifCond .ne 7, 3) := dk_154 0 7 (dk_at dksX4_meanLooks_0 6 rfl rfl)
theorem dX4_meanLooks_9 : decode cX4_meanLooks 9 = .ok (.iconst 1, 1) := dk_4 (dk_at dksX4_meanLooks_0 9 rfl rfl)
theorem dX4_meanLooks_10 : decode cX4_meanLooks 10 = .ok (.goto 22, 3) := dk_167 0 22 (dk_at dksX4_meanLooks_0 10 rfl rfl)
theorem dX4_meanLooks_13 : decode cX4_meanLooks 13 = .ok (.aload_n 0, 1) := dk_42 (dk_at dksX4_meanLooks_0 13 rfl rfl)
theorem dX4_meanLooks_14 : decode cX4_meanLooks 14 = .ok (.getfield 7, 3) := dk_180 0 7 (dk_at dksX4_meanLooks_0 14 rfl rfl)
theorem dX4_meanLooks_17 : decode cX4_meanLooks 17 = .ok (.iload_n 1, 1) := dk_27 (dk_at dksX4_meanLooks_0 17 rfl rfl)
theorem dX4_meanLooks_18 : decode cX4_meanLooks 18 = .ok (.invokestatic 171, 3) := dk_184 0 171 (dk_at dksX4_meanLooks_0 18 rfl rfl)
theorem dX4_meanLooks_21 : decode cX4_meanLooks 21 = .ok (.iconst 1, 1) := dk_4 (dk_at dksX4_meanLooks_0 21 rfl rfl)
theorem dX4_meanLooks_22 : decode cX4_meanLooks 22 = .ok (.iadd, 1) := dk_96 (dk_at dksX4_meanLooks_0 22 rfl rfl)
theorem dX4_meanLooks_23 : decode cX4_meanLooks 23 = .ok (.iaload, 1) := dk_46 (dk_at dksX4_meanLooks_0 23 rfl rfl)
theorem dX4_meanLooks_24 : decode cX4_meanLooks 24 = .ok (.ifCond .ne 7, 3) := dk_154 0 7 (dk_at dksX4_meanLooks_1 0 rfl rfl)
theorem dX4_meanLooks_27 : decode cX4_meanLooks 27 = .ok (.iconst 2, 1) := dk_5 (dk_at dksX4_meanLooks_1 3 rfl rfl)
theorem dX4_meanLooks_28 : decode cX4_meanLooks 28 = .ok (.goto 4, 3) := dk_167 0 4 (dk_at dksX4_meanLooks_1 4 rfl rfl)
theorem dX4_meanLooks_31 : decode cX4_meanLooks 31 = .ok (.iconst 0, 1) := dk_3 (dk_at dksX4_meanLooks_1 7 rfl rfl)
theorem dX4_meanLooks_32 : decode cX4_meanLooks 32 = .ok (.putfield 62, 3) := dk_181 0 62 (dk_at dksX4_meanLooks_1 8 rfl rfl)
theorem dX4_meanLooks_35 : decode cX4_meanLooks 35 = .ok (.aload_n 0, 1) := dk_42 (dk_at dksX4_meanLooks_1 11 rfl rfl)
theorem dX4_meanLooks_36 : decode cX4_meanLooks 36 = .ok (.getfield 62, 3) := dk_180 0 62 (dk_at dksX4_meanLooks_1 12 rfl rfl)
theorem dX4_meanLooks_39 : decode cX4_meanLooks 39 = .ok (.ifCond .le 5, 3) := dk_158 0 5 (dk_at dksX4_meanLooks_1 15 rfl rfl)
theorem dX4_meanLooks_42 : decode cX4_meanLooks 42 = .ok (.dconst 0, 1) := dk_14 (dk_at dksX4_meanLooks_1 18 rfl rfl)
theorem dX4_meanLooks_43 : decode cX4_meanLooks 43 = .ok (.dreturn, 1) := dk_175 (dk_at dksX4_meanLooks_1 19 rfl rfl)
theorem dX4_meanLooks_44 : decode cX4_meanLooks 44 = .ok (.iconst 0, 1) := dk_3 (dk_at dksX4_meanLooks_1 20 rfl rfl)
theorem dX4_meanLooks_45 : decode cX4_meanLooks 45 = .ok (.istore_n 2, 1) := dk_61 (dk_at dksX4_meanLooks_1 21 rfl rfl)
theorem dX4_meanLooks_46 : decode cX4_meanLooks 46 = .ok (.aload_n 0, 1) := dk_42 (dk_at dksX4_meanLooks_1 22 rfl rfl)
theorem dX4_meanLooks_47 : decode cX4_meanLooks 47 = .ok (.getfield 7, 3) := dk_180 0 7 (dk_at dksX4_meanLooks_2 0 rfl rfl)
theorem dX4_meanLooks_50 : decode cX4_meanLooks 50 = .ok (.iload_n 1, 1) := dk_27 (dk_at dksX4_meanLooks_2 3 rfl rfl)
theorem dX4_meanLooks_51 : decode cX4_meanLooks 51 = .ok (.invokestatic 171, 3) := dk_184 0 171 (dk_at dksX4_meanLooks_2 4 rfl rfl)
theorem dX4_meanLooks_54 : decode cX4_meanLooks 54 = .ok (.iconst 1, 1) := dk_4 (dk_at dksX4_meanLooks_2 7 rfl rfl)
theorem dX4_meanLooks_55 : decode cX4_meanLooks 55 = .ok (.iadd, 1) := dk_96 (dk_at dksX4_meanLooks_2 8 rfl rfl)
theorem dX4_meanLooks_56 : decode cX4_meanLooks 56 = .ok (.iaload, 1) := dk_46 (dk_at dksX4_meanLooks_2 9 rfl rfl)
theorem dX4_meanLooks_57 : decode cX4_meanLooks 57 = .ok (.istore_n 3, 1) := dk_62 (dk_at dksX4_meanLooks_2 10 rfl rfl)
theorem dX4_meanLooks_58 : decode cX4_meanLooks 58 = .ok (.iconst 0, 1) := dk_3 (dk_at dksX4_meanLooks_2 11 rfl rfl)
theorem dX4_meanLooks_59 : decode cX4_meanLooks 59 = .ok (.istore 4, 2) := dk_54 4 (dk_at dksX4_meanLooks_2 12 rfl rfl)
theorem dX4_meanLooks_61 : decode cX4_meanLooks 61 = .ok (.iload 4, 2) := dk_21 4 (dk_at dksX4_meanLooks_2 14 rfl rfl)
theorem dX4_meanLooks_63 : decode cX4_meanLooks 63 = .ok (.iload_n 3, 1) := dk_29 (dk_at dksX4_meanLooks_2 16 rfl rfl)
theorem dX4_meanLooks_64 : decode cX4_meanLooks 64 = .ok (.if_icmp .ge 36, 3) := dk_162 0 36 (dk_at dksX4_meanLooks_2 17 rfl rfl)
theorem dX4_meanLooks_67 : decode cX4_meanLooks 67 = .ok (.aload_n 0, 1) := dk_42 (dk_at dksX4_meanLooks_2 20 rfl rfl)
theorem dX4_meanLooks_68 : decode cX4_meanLooks 68 = .ok (.iload_n 1, 1) := dk_27 (dk_at dksX4_meanLooks_2 21 rfl rfl)
theorem dX4_meanLooks_69 : decode cX4_meanLooks 69 = .ok (.aload_n 0, 1) := dk_42 (dk_at dksX4_meanLooks_2 22 rfl rfl)
theorem dX4_meanLooks_70 : decode cX4_meanLooks 70 = .ok (.getfield 7, 3) := dk_180 0 7 (dk_at dksX4_meanLooks_3 0 rfl rfl)
theorem dX4_meanLooks_73 : decode cX4_meanLooks 73 = .ok (.iload_n 1, 1) := dk_27 (dk_at dksX4_meanLooks_3 3 rfl rfl)
theorem dX4_meanLooks_74 : decode cX4_meanLooks 74 = .ok (.invokestatic 171, 3) := dk_184 0 171 (dk_at dksX4_meanLooks_3 4 rfl rfl)
theorem dX4_meanLooks_77 : decode cX4_meanLooks 77 = .ok (.iconst 2, 1) := dk_5 (dk_at dksX4_meanLooks_3 7 rfl rfl)
theorem dX4_meanLooks_78 : decode cX4_meanLooks 78 = .ok (.iadd, 1) := dk_96 (dk_at dksX4_meanLooks_3 8 rfl rfl)
theorem dX4_meanLooks_79 : decode cX4_meanLooks 79 = .ok (.iload 4, 2) := dk_21 4 (dk_at dksX4_meanLooks_3 9 rfl rfl)
theorem dX4_meanLooks_81 : decode cX4_meanLooks 81 = .ok (.iadd, 1) := dk_96 (dk_at dksX4_meanLooks_3 11 rfl rfl)
theorem dX4_meanLooks_82 : decode cX4_meanLooks 82 = .ok (.iaload, 1) := dk_46 (dk_at dksX4_meanLooks_3 12 rfl rfl)
theorem dX4_meanLooks_83 : decode cX4_meanLooks 83 = .ok (.iconst (-1), 1) := dk_2 (dk_at dksX4_meanLooks_3 13 rfl rfl)
theorem dX4_meanLooks_84 : decode cX4_meanLooks 84 = .ok (.invokevirtual 262, 3) := dk_182 1 6 (dk_at dksX4_meanLooks_3 14 rfl rfl)
theorem dX4_meanLooks_87 : decode cX4_meanLooks 87 = .ok (.iload_n 2, 1) := dk_28 (dk_at dksX4_meanLooks_3 17 rfl rfl)
theorem dX4_meanLooks_88 : decode cX4_meanLooks 88 = .ok (.aload_n 0, 1) := dk_42 (dk_at dksX4_meanLooks_3 18 rfl rfl)
theorem dX4_meanLooks_89 : decode cX4_meanLooks 89 = .ok (.getfield 250, 3) := dk_180 0 250 (dk_at dksX4_meanLooks_3 19 rfl rfl)
theorem dX4_meanLooks_92 : decode cX4_meanLooks 92 = .ok (.iadd, 1) := dk_96 (dk_at dksX4_meanLooks_3 22 rfl rfl)
theorem dX4_meanLooks_93 : decode cX4_meanLooks 93 = .ok (.istore_n 2, 1) := dk_61 (dk_at dksX4_meanLooks_3 23 rfl rfl)
theorem dX4_meanLooks_94 : decode cX4_meanLooks 94 = .ok (.iinc 4 1, 3) := dk_132 4 1 (dk_at dksX4_meanLooks_4 0 rfl rfl)
theorem dX4_meanLooks_97 : decode cX4_meanLooks 97 = .ok (.goto (-36), 3) := dk_167 255 220 (dk_at dksX4_meanLooks_4 3 rfl rfl)
theorem dX4_meanLooks_100 : decode cX4_meanLooks 100 = .ok (.iload_n 2, 1) := dk_28 (dk_at dksX4_meanLooks_4 6 rfl rfl)
theorem dX4_meanLooks_101 : decode cX4_meanLooks 101 = .ok (.i2d, 1) := dk_135 (dk_at dksX4_meanLooks_4 7 rfl rfl)
theorem dX4_meanLooks_102 : decode cX4_meanLooks 102 = .ok (.iload_n 3, 1) := dk_29 (dk_at dksX4_meanLooks_4 8 rfl rfl)
theorem dX4_meanLooks_103 : decode cX4_meanLooks 103 = .ok (.i2d, 1) := dk_135 (dk_at dksX4_meanLooks_4 9 rfl rfl)
theorem dX4_meanLooks_104 : decode cX4_meanLooks 104 = .ok (.ddiv, 1) := dk_111 (dk_at dksX4_meanLooks_4 10 rfl rfl)
theorem dX4_meanLooks_105 : decode cX4_meanLooks 105 = .ok (.dreturn, 1) := dk_175 (dk_at dksX4_meanLooks_4 11 rfl rfl)
abbrev cX4_heightIfInserted : ByteArray := prog_19_method_75_code
def yX4_heightIfInserted : MethodName := ⟨RX4, "heightIfInserted", "(II)I"⟩
def dkwX4_heightIfInserted_4 : List UInt8 := [182, 1, 19, 21, 4, 172]
abbrev dktX4_heightIfInserted_4 : List UInt8 := dkwX4_heightIfInserted_4 ++ []
def dkwX4_heightIfInserted_3 : List UInt8 := [42, 27, 28, 3, 182, 1, 16, 62, 29, 156, 0, 7, 3, 167, 0, 8, 42, 27, 182, 0, 194, 54, 4, 42]
abbrev dktX4_heightIfInserted_3 : List UInt8 := dkwX4_heightIfInserted_3 ++ dktX4_heightIfInserted_4
def dkwX4_heightIfInserted_2 : List UInt8 := [155, 0, 7, 6, 167, 0, 4, 3, 181, 0, 62, 42, 180, 0, 62, 158, 0, 5, 3, 172, 42, 182, 1, 13]
abbrev dktX4_heightIfInserted_2 : List UInt8 := dkwX4_heightIfInserted_2 ++ dktX4_heightIfInserted_3
def dkwX4_heightIfInserted_1 : List UInt8 := [42, 180, 0, 7, 27, 184, 0, 171, 4, 96, 46, 16, 60, 159, 0, 12, 42, 27, 28, 182, 0, 235]
abbrev dktX4_heightIfInserted_1 : List UInt8 := dkwX4_heightIfInserted_1 ++ dktX4_heightIfInserted_2
def dkwX4_heightIfInserted_0 : List UInt8 := [42, 42, 27, 182, 0, 183, 154, 0, 7, 4, 167, 0, 44, 28, 184, 0, 232, 154, 0, 7, 5, 167, 0, 33]
abbrev dktX4_heightIfInserted_0 : List UInt8 := dkwX4_heightIfInserted_0 ++ dktX4_heightIfInserted_1
theorem dksX4_heightIfInserted_0 : cX4_heightIfInserted.data.toList.drop 0 = dktX4_heightIfInserted_0 := by decide +kernel
theorem dksX4_heightIfInserted_1 : cX4_heightIfInserted.data.toList.drop 24 = dktX4_heightIfInserted_1 := dk_seg dksX4_heightIfInserted_0 24 rfl rfl
theorem dksX4_heightIfInserted_2 : cX4_heightIfInserted.data.toList.drop 46 = dktX4_heightIfInserted_2 := dk_seg dksX4_heightIfInserted_1 22 rfl rfl
theorem dksX4_heightIfInserted_3 : cX4_heightIfInserted.data.toList.drop 70 = dktX4_heightIfInserted_3 := dk_seg dksX4_heightIfInserted_2 24 rfl rfl
theorem dksX4_heightIfInserted_4 : cX4_heightIfInserted.data.toList.drop 94 = dktX4_heightIfInserted_4 := dk_seg dksX4_heightIfInserted_3 24 rfl rfl
theorem dX4_heightIfInserted_0 : decode cX4_heightIfInserted 0 = .ok (.aload_n 0, 1) := dk_42 (dk_at dksX4_heightIfInserted_0 0 rfl rfl)
theorem dX4_heightIfInserted_1 : decode cX4_heightIfInserted 1 = .ok (.aload_n 0, 1) := dk_42 (dk_at dksX4_heightIfInserted_0 1 rfl rfl)
theorem dX4_heightIfInserted_2 : decode cX4_heightIfInserted 2 = .ok (.iload_n 1, 1) := dk_27 (dk_at dksX4_heightIfInserted_0 2 rfl rfl)
theorem dX4_heightIfInserted_3 : decode cX4_heightIfInserted 3 = .ok (.invokevirtual 183, 3) := dk_182 0 183 (dk_at dksX4_heightIfInserted_0 3 rfl rfl)
theorem dX4_heightIfInserted_6 : decode cX4_heightIfInserted 6 = .ok (.ifCond .ne 7, 3) := dk_154 0 7 (dk_at dksX4_heightIfInserted_0 6 rfl rfl)
theorem dX4_heightIfInserted_9 : decode cX4_heightIfInserted 9 = .ok (.iconst 1, 1) := dk_4 (dk_at dksX4_heightIfInserted_0 9 rfl rfl)
theorem dX4_heightIfInserted_10 : decode cX4_heightIfInserted 10 = .ok (.goto 44, 3) := dk_167 0 44 (dk_at dksX4_heightIfInserted_0 10 rfl rfl)
theorem dX4_heightIfInserted_13 : decode cX4_heightIfInserted 13 = .ok (.iload_n 2, 1) := dk_28 (dk_at dksX4_heightIfInserted_0 13 rfl rfl)
theorem dX4_heightIfInserted_14 : decode cX4_heightIfInserted 14 = .ok (.invokestatic 232, 3) := dk_184 0 232 (dk_at dksX4_heightIfInserted_0 14 rfl rfl)
theorem dX4_heightIfInserted_17 : decode cX4_heightIfInserted 17 = .ok (.ifCond .ne 7, 3) := dk_154 0 7 (dk_at dksX4_heightIfInserted_0 17 rfl rfl)
theorem dX4_heightIfInserted_20 : decode cX4_heightIfInserted 20 = .ok (.iconst 2, 1) := dk_5 (dk_at dksX4_heightIfInserted_0 20 rfl rfl)
theorem dX4_heightIfInserted_21 : decode cX4_heightIfInserted 21 = .ok (.goto 33, 3) := dk_167 0 33 (dk_at dksX4_heightIfInserted_0 21 rfl rfl)
theorem dX4_heightIfInserted_24 : decode cX4_heightIfInserted 24 = .ok (.aload_n 0, 1) := dk_42 (dk_at dksX4_heightIfInserted_1 0 rfl rfl)
theorem dX4_heightIfInserted_25 : decode cX4_heightIfInserted 25 = .ok (.getfield 7, 3) := dk_180 0 7 (dk_at dksX4_heightIfInserted_1 1 rfl rfl)
theorem dX4_heightIfInserted_28 : decode cX4_heightIfInserted 28 = .ok (.iload_n 1, 1) := dk_27 (dk_at dksX4_heightIfInserted_1 4 rfl rfl)
theorem dX4_heightIfInserted_29 : decode cX4_heightIfInserted 29 = .ok (.invokestatic 171, 3) := dk_184 0 171 (dk_at dksX4_heightIfInserted_1 5 rfl rfl)
theorem dX4_heightIfInserted_32 : decode cX4_heightIfInserted 32 = .ok (.iconst 1, 1) := dk_4 (dk_at dksX4_heightIfInserted_1 8 rfl rfl)
theorem dX4_heightIfInserted_33 : decode cX4_heightIfInserted 33 = .ok (.iadd, 1) := dk_96 (dk_at dksX4_heightIfInserted_1 9 rfl rfl)
theorem dX4_heightIfInserted_34 : decode cX4_heightIfInserted 34 = .ok (.iaload, 1) := dk_46 (dk_at dksX4_heightIfInserted_1 10 rfl rfl)
theorem dX4_heightIfInserted_35 : decode cX4_heightIfInserted 35 = .ok (.bipush 60, 2) := dk_16 60 (dk_at dksX4_heightIfInserted_1 11 rfl rfl)
theorem dX4_heightIfInserted_37 : decode cX4_heightIfInserted 37 = .ok (.if_icmp .eq 12, 3) := dk_159 0 12 (dk_at dksX4_heightIfInserted_1 13 rfl rfl)
theorem dX4_heightIfInserted_40 : decode cX4_heightIfInserted 40 = .ok (.aload_n 0, 1) := dk_42 (dk_at dksX4_heightIfInserted_1 16 rfl rfl)
theorem dX4_heightIfInserted_41 : decode cX4_heightIfInserted 41 = .ok (.iload_n 1, 1) := dk_27 (dk_at dksX4_heightIfInserted_1 17 rfl rfl)
theorem dX4_heightIfInserted_42 : decode cX4_heightIfInserted 42 = .ok (.iload_n 2, 1) := dk_28 (dk_at dksX4_heightIfInserted_1 18 rfl rfl)
theorem dX4_heightIfInserted_43 : decode cX4_heightIfInserted 43 = .ok (.invokevirtual 235, 3) := dk_182 0 235 (dk_at dksX4_heightIfInserted_1 19 rfl rfl)
theorem dX4_heightIfInserted_46 : decode cX4_heightIfInserted 46 = .ok (.ifCond .lt 7, 3) := dk_155 0 7 (dk_at dksX4_heightIfInserted_2 0 rfl rfl)
theorem dX4_heightIfInserted_49 : decode cX4_heightIfInserted 49 = .ok (.iconst 3, 1) := dk_6 (dk_at dksX4_heightIfInserted_2 3 rfl rfl)
theorem dX4_heightIfInserted_50 : decode cX4_heightIfInserted 50 = .ok (.goto 4, 3) := dk_167 0 4 (dk_at dksX4_heightIfInserted_2 4 rfl rfl)
theorem dX4_heightIfInserted_53 : decode cX4_heightIfInserted 53 = .ok (.iconst 0, 1) := dk_3 (dk_at dksX4_heightIfInserted_2 7 rfl rfl)
theorem dX4_heightIfInserted_54 : decode cX4_heightIfInserted 54 = .ok (.putfield 62, 3) := dk_181 0 62 (dk_at dksX4_heightIfInserted_2 8 rfl rfl)
theorem dX4_heightIfInserted_57 : decode cX4_heightIfInserted 57 = .ok (.aload_n 0, 1) := dk_42 (dk_at dksX4_heightIfInserted_2 11 rfl rfl)
theorem dX4_heightIfInserted_58 : decode cX4_heightIfInserted 58 = .ok (.getfield 62, 3) := dk_180 0 62 (dk_at dksX4_heightIfInserted_2 12 rfl rfl)
theorem dX4_heightIfInserted_61 : decode cX4_heightIfInserted 61 = .ok (.ifCond .le 5, 3) := dk_158 0 5 (dk_at dksX4_heightIfInserted_2 15 rfl rfl)
theorem dX4_heightIfInserted_64 : decode cX4_heightIfInserted 64 = .ok (.iconst 0, 1) := dk_3 (dk_at dksX4_heightIfInserted_2 18 rfl rfl)
theorem dX4_heightIfInserted_65 : decode cX4_heightIfInserted 65 = .ok (.ireturn, 1) := dk_172 (dk_at dksX4_heightIfInserted_2 19 rfl rfl)
theorem dX4_heightIfInserted_66 : decode cX4_heightIfInserted 66 = .ok (.aload_n 0, 1) := dk_42 (dk_at dksX4_heightIfInserted_2 20 rfl rfl)
theorem dX4_heightIfInserted_67 : decode cX4_heightIfInserted 67 = .ok (.invokevirtual 269, 3) := dk_182 1 13 (dk_at dksX4_heightIfInserted_2 21 rfl rfl)
theorem dX4_heightIfInserted_70 : decode cX4_heightIfInserted 70 = .ok (.aload_n 0, 1) := dk_42 (dk_at dksX4_heightIfInserted_3 0 rfl rfl)
theorem dX4_heightIfInserted_71 : decode cX4_heightIfInserted 71 = .ok (.iload_n 1, 1) := dk_27 (dk_at dksX4_heightIfInserted_3 1 rfl rfl)
theorem dX4_heightIfInserted_72 : decode cX4_heightIfInserted 72 = .ok (.iload_n 2, 1) := dk_28 (dk_at dksX4_heightIfInserted_3 2 rfl rfl)
theorem dX4_heightIfInserted_73 : decode cX4_heightIfInserted 73 = .ok (.iconst 0, 1) := dk_3 (dk_at dksX4_heightIfInserted_3 3 rfl rfl)
theorem dX4_heightIfInserted_74 : decode cX4_heightIfInserted 74 = .ok (.invokevirtual 272, 3) := dk_182 1 16 (dk_at dksX4_heightIfInserted_3 4 rfl rfl)
theorem dX4_heightIfInserted_77 : decode cX4_heightIfInserted 77 = .ok (.istore_n 3, 1) := dk_62 (dk_at dksX4_heightIfInserted_3 7 rfl rfl)
theorem dX4_heightIfInserted_78 : decode cX4_heightIfInserted 78 = .ok (.iload_n 3, 1) := dk_29 (dk_at dksX4_heightIfInserted_3 8 rfl rfl)
theorem dX4_heightIfInserted_79 : decode cX4_heightIfInserted 79 = .ok (.ifCond .ge 7, 3) := dk_156 0 7 (dk_at dksX4_heightIfInserted_3 9 rfl rfl)
theorem dX4_heightIfInserted_82 : decode cX4_heightIfInserted 82 = .ok (.iconst 0, 1) := dk_3 (dk_at dksX4_heightIfInserted_3 12 rfl rfl)
theorem dX4_heightIfInserted_83 : decode cX4_heightIfInserted 83 = .ok (.goto 8, 3) := dk_167 0 8 (dk_at dksX4_heightIfInserted_3 13 rfl rfl)
theorem dX4_heightIfInserted_86 : decode cX4_heightIfInserted 86 = .ok (.aload_n 0, 1) := dk_42 (dk_at dksX4_heightIfInserted_3 16 rfl rfl)
theorem dX4_heightIfInserted_87 : decode cX4_heightIfInserted 87 = .ok (.iload_n 1, 1) := dk_27 (dk_at dksX4_heightIfInserted_3 17 rfl rfl)
theorem dX4_heightIfInserted_88 : decode cX4_heightIfInserted 88 = .ok (.invokevirtual 194, 3) := dk_182 0 194 (dk_at dksX4_heightIfInserted_3 18 rfl rfl)
theorem dX4_heightIfInserted_91 : decode cX4_heightIfInserted 91 = .ok (.istore 4, 2) := dk_54 4 (dk_at dksX4_heightIfInserted_3 21 rfl rfl)
theorem dX4_heightIfInserted_93 : decode cX4_heightIfInserted 93 = .ok (.aload_n 0, 1) := dk_42 (dk_at dksX4_heightIfInserted_3 23 rfl rfl)
theorem dX4_heightIfInserted_94 : decode cX4_heightIfInserted 94 = .ok (.invokevirtual 275, 3) := dk_182 1 19 (dk_at dksX4_heightIfInserted_4 0 rfl rfl)
theorem dX4_heightIfInserted_97 : decode cX4_heightIfInserted 97 = .ok (.iload 4, 2) := dk_21 4 (dk_at dksX4_heightIfInserted_4 3 rfl rfl)
theorem dX4_heightIfInserted_99 : decode cX4_heightIfInserted 99 = .ok (.ireturn, 1) := dk_172 (dk_at dksX4_heightIfInserted_4 5 rfl rfl)
abbrev cX4_lays : ByteArray := prog_19_method_44_code
def yX4_lays : MethodName := ⟨RX4, "lays", "()V"⟩
def dkwX4_lays_2 : List UInt8 := [132, 1, 1, 167, 255, 235, 42, 180, 0, 7, 16, 7, 3, 79, 177]
abbrev dktX4_lays_2 : List UInt8 := dkwX4_lays_2 ++ []
def dkwX4_lays_1 : List UInt8 := [167, 255, 234, 3, 60, 27, 16, 6, 162, 0, 21, 42, 180, 0, 33, 27, 42, 180, 0, 13, 27, 47, 80]
abbrev dktX4_lays_1 : List UInt8 := dkwX4_lays_1 ++ dktX4_lays_2
def dkwX4_lays_0 : List UInt8 := [3, 60, 27, 17, 16, 4, 162, 0, 21, 42, 180, 0, 30, 27, 42, 180, 0, 7, 27, 46, 79, 132, 1, 1]
abbrev dktX4_lays_0 : List UInt8 := dkwX4_lays_0 ++ dktX4_lays_1
theorem dksX4_lays_0 : cX4_lays.data.toList.drop 0 = dktX4_lays_0 := by decide +kernel
theorem dksX4_lays_1 : cX4_lays.data.toList.drop 24 = dktX4_lays_1 := dk_seg dksX4_lays_0 24 rfl rfl
theorem dksX4_lays_2 : cX4_lays.data.toList.drop 47 = dktX4_lays_2 := dk_seg dksX4_lays_1 23 rfl rfl
theorem dX4_lays_0 : decode cX4_lays 0 = .ok (.iconst 0, 1) := dk_3 (dk_at dksX4_lays_0 0 rfl rfl)
theorem dX4_lays_1 : decode cX4_lays 1 = .ok (.istore_n 1, 1) := dk_60 (dk_at dksX4_lays_0 1 rfl rfl)
theorem dX4_lays_2 : decode cX4_lays 2 = .ok (.iload_n 1, 1) := dk_27 (dk_at dksX4_lays_0 2 rfl rfl)
theorem dX4_lays_3 : decode cX4_lays 3 = .ok (.sipush 4100, 3) := dk_17 16 4 (dk_at dksX4_lays_0 3 rfl rfl)
theorem dX4_lays_6 : decode cX4_lays 6 = .ok (.if_icmp .ge 21, 3) := dk_162 0 21 (dk_at dksX4_lays_0 6 rfl rfl)
theorem dX4_lays_9 : decode cX4_lays 9 = .ok (.aload_n 0, 1) := dk_42 (dk_at dksX4_lays_0 9 rfl rfl)
theorem dX4_lays_10 : decode cX4_lays 10 = .ok (.getfield 30, 3) := dk_180 0 30 (dk_at dksX4_lays_0 10 rfl rfl)
theorem dX4_lays_13 : decode cX4_lays 13 = .ok (.iload_n 1, 1) := dk_27 (dk_at dksX4_lays_0 13 rfl rfl)
theorem dX4_lays_14 : decode cX4_lays 14 = .ok (.aload_n 0, 1) := dk_42 (dk_at dksX4_lays_0 14 rfl rfl)
theorem dX4_lays_15 : decode cX4_lays 15 = .ok (.getfield 7, 3) := dk_180 0 7 (dk_at dksX4_lays_0 15 rfl rfl)
theorem dX4_lays_18 : decode cX4_lays 18 = .ok (.iload_n 1, 1) := dk_27 (dk_at dksX4_lays_0 18 rfl rfl)
theorem dX4_lays_19 : decode cX4_lays 19 = .ok (.iaload, 1) := dk_46 (dk_at dksX4_lays_0 19 rfl rfl)
theorem dX4_lays_20 : decode cX4_lays 20 = .ok (.iastore, 1) := dk_79 (dk_at dksX4_lays_0 20 rfl rfl)
theorem dX4_lays_21 : decode cX4_lays 21 = .ok (.iinc 1 1, 3) := dk_132 1 1 (dk_at dksX4_lays_0 21 rfl rfl)
theorem dX4_lays_24 : decode cX4_lays 24 = .ok (.goto (-22), 3) := dk_167 255 234 (dk_at dksX4_lays_1 0 rfl rfl)
theorem dX4_lays_27 : decode cX4_lays 27 = .ok (.iconst 0, 1) := dk_3 (dk_at dksX4_lays_1 3 rfl rfl)
theorem dX4_lays_28 : decode cX4_lays 28 = .ok (.istore_n 1, 1) := dk_60 (dk_at dksX4_lays_1 4 rfl rfl)
theorem dX4_lays_29 : decode cX4_lays 29 = .ok (.iload_n 1, 1) := dk_27 (dk_at dksX4_lays_1 5 rfl rfl)
theorem dX4_lays_30 : decode cX4_lays 30 = .ok (.bipush 6, 2) := dk_16 6 (dk_at dksX4_lays_1 6 rfl rfl)
theorem dX4_lays_32 : decode cX4_lays 32 = .ok (.if_icmp .ge 21, 3) := dk_162 0 21 (dk_at dksX4_lays_1 8 rfl rfl)
theorem dX4_lays_35 : decode cX4_lays 35 = .ok (.aload_n 0, 1) := dk_42 (dk_at dksX4_lays_1 11 rfl rfl)
theorem dX4_lays_36 : decode cX4_lays 36 = .ok (.getfield 33, 3) := dk_180 0 33 (dk_at dksX4_lays_1 12 rfl rfl)
theorem dX4_lays_39 : decode cX4_lays 39 = .ok (.iload_n 1, 1) := dk_27 (dk_at dksX4_lays_1 15 rfl rfl)
theorem dX4_lays_40 : decode cX4_lays 40 = .ok (.aload_n 0, 1) := dk_42 (dk_at dksX4_lays_1 16 rfl rfl)
theorem dX4_lays_41 : decode cX4_lays 41 = .ok (.getfield 13, 3) := dk_180 0 13 (dk_at dksX4_lays_1 17 rfl rfl)
theorem dX4_lays_44 : decode cX4_lays 44 = .ok (.iload_n 1, 1) := dk_27 (dk_at dksX4_lays_1 20 rfl rfl)
theorem dX4_lays_45 : decode cX4_lays 45 = .ok (.laload, 1) := dk_47 (dk_at dksX4_lays_1 21 rfl rfl)
theorem dX4_lays_46 : decode cX4_lays 46 = .ok (.lastore, 1) := dk_80 (dk_at dksX4_lays_1 22 rfl rfl)
theorem dX4_lays_47 : decode cX4_lays 47 = .ok (.iinc 1 1, 3) := dk_132 1 1 (dk_at dksX4_lays_2 0 rfl rfl)
theorem dX4_lays_50 : decode cX4_lays 50 = .ok (.goto (-21), 3) := dk_167 255 235 (dk_at dksX4_lays_2 3 rfl rfl)
theorem dX4_lays_53 : decode cX4_lays 53 = .ok (.aload_n 0, 1) := dk_42 (dk_at dksX4_lays_2 6 rfl rfl)
theorem dX4_lays_54 : decode cX4_lays 54 = .ok (.getfield 7, 3) := dk_180 0 7 (dk_at dksX4_lays_2 7 rfl rfl)
theorem dX4_lays_57 : decode cX4_lays 57 = .ok (.bipush 7, 2) := dk_16 7 (dk_at dksX4_lays_2 10 rfl rfl)
theorem dX4_lays_59 : decode cX4_lays 59 = .ok (.iconst 0, 1) := dk_3 (dk_at dksX4_lays_2 12 rfl rfl)
theorem dX4_lays_60 : decode cX4_lays 60 = .ok (.iastore, 1) := dk_79 (dk_at dksX4_lays_2 13 rfl rfl)
theorem dX4_lays_61 : decode cX4_lays 61 = .ok (.return_, 1) := dk_177 (dk_at dksX4_lays_2 14 rfl rfl)
abbrev cX4_puts : ByteArray := prog_19_method_42_code
def yX4_puts : MethodName := ⟨RX4, "puts", "(III)I"⟩
def dkwX4_puts_7 : List UInt8 := [21, 4, 4, 96, 92, 46, 4, 96, 79, 42, 27, 182, 0, 222, 21, 5, 172]
abbrev dktX4_puts_7 : List UInt8 := dkwX4_puts_7 ++ []
def dkwX4_puts_6 : List UInt8 := [96, 21, 5, 96, 29, 79, 42, 180, 0, 7, 21, 4, 16, 122, 96, 21, 5, 96, 4, 79, 42, 180, 0, 7]
abbrev dktX4_puts_6 : List UInt8 := dkwX4_puts_6 ++ dktX4_puts_7
def dkwX4_puts_5 : List UInt8 := [167, 255, 164, 42, 180, 0, 7, 21, 4, 5, 96, 21, 5, 96, 28, 79, 42, 180, 0, 7, 21, 4, 16, 62]
abbrev dktX4_puts_5 : List UInt8 := dkwX4_puts_5 ++ dktX4_puts_6
def dkwX4_puts_4 : List UInt8 := [21, 6, 96, 42, 180, 0, 7, 21, 4, 16, 122, 96, 21, 6, 96, 4, 100, 46, 79, 132, 6, 255]
abbrev dktX4_puts_4 : List UInt8 := dkwX4_puts_4 ++ dktX4_puts_5
def dkwX4_puts_3 : List UInt8 := [180, 0, 7, 21, 4, 16, 62, 96, 21, 6, 96, 4, 100, 46, 79, 42, 180, 0, 7, 21, 4, 16, 122, 96]
abbrev dktX4_puts_3 : List UInt8 := dkwX4_puts_3 ++ dktX4_puts_4
def dkwX4_puts_2 : List UInt8 := [21, 4, 5, 96, 21, 6, 96, 4, 100, 46, 79, 42, 180, 0, 7, 21, 4, 16, 62, 96, 21, 6, 96, 42]
abbrev dktX4_puts_2 : List UInt8 := dkwX4_puts_2 ++ dktX4_puts_3
def dkwX4_puts_1 : List UInt8 := [54, 6, 21, 6, 21, 5, 164, 0, 91, 42, 180, 0, 7, 21, 4, 5, 96, 21, 6, 96, 42, 180, 0, 7]
abbrev dktX4_puts_1 : List UInt8 := dkwX4_puts_1 ++ dktX4_puts_2
def dkwX4_puts_0 : List UInt8 := [27, 184, 0, 171, 54, 4, 42, 27, 28, 182, 0, 190, 54, 5, 42, 180, 0, 7, 21, 4, 4, 96, 46]
abbrev dktX4_puts_0 : List UInt8 := dkwX4_puts_0 ++ dktX4_puts_1
theorem dksX4_puts_0 : cX4_puts.data.toList.drop 0 = dktX4_puts_0 := by decide +kernel
theorem dksX4_puts_1 : cX4_puts.data.toList.drop 23 = dktX4_puts_1 := dk_seg dksX4_puts_0 23 rfl rfl
theorem dksX4_puts_2 : cX4_puts.data.toList.drop 47 = dktX4_puts_2 := dk_seg dksX4_puts_1 24 rfl rfl
theorem dksX4_puts_3 : cX4_puts.data.toList.drop 71 = dktX4_puts_3 := dk_seg dksX4_puts_2 24 rfl rfl
theorem dksX4_puts_4 : cX4_puts.data.toList.drop 95 = dktX4_puts_4 := dk_seg dksX4_puts_3 24 rfl rfl
theorem dksX4_puts_5 : cX4_puts.data.toList.drop 117 = dktX4_puts_5 := dk_seg dksX4_puts_4 22 rfl rfl
theorem dksX4_puts_6 : cX4_puts.data.toList.drop 141 = dktX4_puts_6 := dk_seg dksX4_puts_5 24 rfl rfl
theorem dksX4_puts_7 : cX4_puts.data.toList.drop 165 = dktX4_puts_7 := dk_seg dksX4_puts_6 24 rfl rfl
theorem dX4_puts_0 : decode cX4_puts 0 = .ok (.iload_n 1, 1) := dk_27 (dk_at dksX4_puts_0 0 rfl rfl)
theorem dX4_puts_1 : decode cX4_puts 1 = .ok (.invokestatic 171, 3) := dk_184 0 171 (dk_at dksX4_puts_0 1 rfl rfl)
theorem dX4_puts_4 : decode cX4_puts 4 = .ok (.istore 4, 2) := dk_54 4 (dk_at dksX4_puts_0 4 rfl rfl)
theorem dX4_puts_6 : decode cX4_puts 6 = .ok (.aload_n 0, 1) := dk_42 (dk_at dksX4_puts_0 6 rfl rfl)
theorem dX4_puts_7 : decode cX4_puts 7 = .ok (.iload_n 1, 1) := dk_27 (dk_at dksX4_puts_0 7 rfl rfl)
theorem dX4_puts_8 : decode cX4_puts 8 = .ok (.iload_n 2, 1) := dk_28 (dk_at dksX4_puts_0 8 rfl rfl)
theorem dX4_puts_9 : decode cX4_puts 9 = .ok (.invokevirtual 190, 3) := dk_182 0 190 (dk_at dksX4_puts_0 9 rfl rfl)
theorem dX4_puts_12 : decode cX4_puts 12 = .ok (.istore 5, 2) := dk_54 5 (dk_at dksX4_puts_0 12 rfl rfl)
theorem dX4_puts_14 : decode cX4_puts 14 = .ok (.aload_n 0, 1) := dk_42 (dk_at dksX4_puts_0 14 rfl rfl)
theorem dX4_puts_15 : decode cX4_puts 15 = .ok (.getfield 7, 3) := dk_180 0 7 (dk_at dksX4_puts_0 15 rfl rfl)
theorem dX4_puts_18 : decode cX4_puts 18 = .ok (.iload 4, 2) := dk_21 4 (dk_at dksX4_puts_0 18 rfl rfl)
theorem dX4_puts_20 : decode cX4_puts 20 = .ok (.iconst 1, 1) := dk_4 (dk_at dksX4_puts_0 20 rfl rfl)
theorem dX4_puts_21 : decode cX4_puts 21 = .ok (.iadd, 1) := dk_96 (dk_at dksX4_puts_0 21 rfl rfl)
theorem dX4_puts_22 : decode cX4_puts 22 = .ok (.iaload, 1) := dk_46 (dk_at dksX4_puts_0 22 rfl rfl)
theorem dX4_puts_23 : decode cX4_puts 23 = .ok (.istore 6, 2) := dk_54 6 (dk_at dksX4_puts_1 0 rfl rfl)
theorem dX4_puts_25 : decode cX4_puts 25 = .ok (.iload 6, 2) := dk_21 6 (dk_at dksX4_puts_1 2 rfl rfl)
theorem dX4_puts_27 : decode cX4_puts 27 = .ok (.iload 5, 2) := dk_21 5 (dk_at dksX4_puts_1 4 rfl rfl)
theorem dX4_puts_29 : decode cX4_puts 29 = .ok (.if_icmp .le 91, 3) := dk_164 0 91 (dk_at dksX4_puts_1 6 rfl rfl)
theorem dX4_puts_32 : decode cX4_puts 32 = .ok (.aload_n 0, 1) := dk_42 (dk_at dksX4_puts_1 9 rfl rfl)
theorem dX4_puts_33 : decode cX4_puts 33 = .ok (.getfield 7, 3) := dk_180 0 7 (dk_at dksX4_puts_1 10 rfl rfl)
theorem dX4_puts_36 : decode cX4_puts 36 = .ok (.iload 4, 2) := dk_21 4 (dk_at dksX4_puts_1 13 rfl rfl)
theorem dX4_puts_38 : decode cX4_puts 38 = .ok (.iconst 2, 1) := dk_5 (dk_at dksX4_puts_1 15 rfl rfl)
theorem dX4_puts_39 : decode cX4_puts 39 = .ok (.iadd, 1) := dk_96 (dk_at dksX4_puts_1 16 rfl rfl)
theorem dX4_puts_40 : decode cX4_puts 40 = .ok (.iload 6, 2) := dk_21 6 (dk_at dksX4_puts_1 17 rfl rfl)
theorem dX4_puts_42 : decode cX4_puts 42 = .ok (.iadd, 1) := dk_96 (dk_at dksX4_puts_1 19 rfl rfl)
theorem dX4_puts_43 : decode cX4_puts 43 = .ok (.aload_n 0, 1) := dk_42 (dk_at dksX4_puts_1 20 rfl rfl)
theorem dX4_puts_44 : decode cX4_puts 44 = .ok (.getfield 7, 3) := dk_180 0 7 (dk_at dksX4_puts_1 21 rfl rfl)
theorem dX4_puts_47 : decode cX4_puts 47 = .ok (.iload 4, 2) := dk_21 4 (dk_at dksX4_puts_2 0 rfl rfl)
theorem dX4_puts_49 : decode cX4_puts 49 = .ok (.iconst 2, 1) := dk_5 (dk_at dksX4_puts_2 2 rfl rfl)
theorem dX4_puts_50 : decode cX4_puts 50 = .ok (.iadd, 1) := dk_96 (dk_at dksX4_puts_2 3 rfl rfl)
theorem dX4_puts_51 : decode cX4_puts 51 = .ok (.iload 6, 2) := dk_21 6 (dk_at dksX4_puts_2 4 rfl rfl)
theorem dX4_puts_53 : decode cX4_puts 53 = .ok (.iadd, 1) := dk_96 (dk_at dksX4_puts_2 6 rfl rfl)
theorem dX4_puts_54 : decode cX4_puts 54 = .ok (.iconst 1, 1) := dk_4 (dk_at dksX4_puts_2 7 rfl rfl)
theorem dX4_puts_55 : decode cX4_puts 55 = .ok (.isub, 1) := dk_100 (dk_at dksX4_puts_2 8 rfl rfl)
theorem dX4_puts_56 : decode cX4_puts 56 = .ok (.iaload, 1) := dk_46 (dk_at dksX4_puts_2 9 rfl rfl)
theorem dX4_puts_57 : decode cX4_puts 57 = .ok (.iastore, 1) := dk_79 (dk_at dksX4_puts_2 10 rfl rfl)
theorem dX4_puts_58 : decode cX4_puts 58 = .ok (.aload_n 0, 1) := dk_42 (dk_at dksX4_puts_2 11 rfl rfl)
theorem dX4_puts_59 : decode cX4_puts 59 = .ok (.getfield 7, 3) := dk_180 0 7 (dk_at dksX4_puts_2 12 rfl rfl)
theorem dX4_puts_62 : decode cX4_puts 62 = .ok (.iload 4, 2) := dk_21 4 (dk_at dksX4_puts_2 15 rfl rfl)
theorem dX4_puts_64 : decode cX4_puts 64 = .ok (.bipush 62, 2) := dk_16 62 (dk_at dksX4_puts_2 17 rfl rfl)
theorem dX4_puts_66 : decode cX4_puts 66 = .ok (.iadd, 1) := dk_96 (dk_at dksX4_puts_2 19 rfl rfl)
theorem dX4_puts_67 : decode cX4_puts 67 = .ok (.iload 6, 2) := dk_21 6 (dk_at dksX4_puts_2 20 rfl rfl)
theorem dX4_puts_69 : decode cX4_puts 69 = .ok (.iadd, 1) := dk_96 (dk_at dksX4_puts_2 22 rfl rfl)
theorem dX4_puts_70 : decode cX4_puts 70 = .ok (.aload_n 0, 1) := dk_42 (dk_at dksX4_puts_2 23 rfl rfl)
theorem dX4_puts_71 : decode cX4_puts 71 = .ok (.getfield 7, 3) := dk_180 0 7 (dk_at dksX4_puts_3 0 rfl rfl)
theorem dX4_puts_74 : decode cX4_puts 74 = .ok (.iload 4, 2) := dk_21 4 (dk_at dksX4_puts_3 3 rfl rfl)
theorem dX4_puts_76 : decode cX4_puts 76 = .ok (.bipush 62, 2) := dk_16 62 (dk_at dksX4_puts_3 5 rfl rfl)
theorem dX4_puts_78 : decode cX4_puts 78 = .ok (.iadd, 1) := dk_96 (dk_at dksX4_puts_3 7 rfl rfl)
theorem dX4_puts_79 : decode cX4_puts 79 = .ok (.iload 6, 2) := dk_21 6 (dk_at dksX4_puts_3 8 rfl rfl)
theorem dX4_puts_81 : decode cX4_puts 81 = .ok (.iadd, 1) := dk_96 (dk_at dksX4_puts_3 10 rfl rfl)
theorem dX4_puts_82 : decode cX4_puts 82 = .ok (.iconst 1, 1) := dk_4 (dk_at dksX4_puts_3 11 rfl rfl)
theorem dX4_puts_83 : decode cX4_puts 83 = .ok (.isub, 1) := dk_100 (dk_at dksX4_puts_3 12 rfl rfl)
theorem dX4_puts_84 : decode cX4_puts 84 = .ok (.iaload, 1) := dk_46 (dk_at dksX4_puts_3 13 rfl rfl)
theorem dX4_puts_85 : decode cX4_puts 85 = .ok (.iastore, 1) := dk_79 (dk_at dksX4_puts_3 14 rfl rfl)
theorem dX4_puts_86 : decode cX4_puts 86 = .ok (.aload_n 0, 1) := dk_42 (dk_at dksX4_puts_3 15 rfl rfl)
theorem dX4_puts_87 : decode cX4_puts 87 = .ok (.getfield 7, 3) := dk_180 0 7 (dk_at dksX4_puts_3 16 rfl rfl)
theorem dX4_puts_90 : decode cX4_puts 90 = .ok (.iload 4, 2) := dk_21 4 (dk_at dksX4_puts_3 19 rfl rfl)
theorem dX4_puts_92 : decode cX4_puts 92 = .ok (.bipush 122, 2) := dk_16 122 (dk_at dksX4_puts_3 21 rfl rfl)
theorem dX4_puts_94 : decode cX4_puts 94 = .ok (.iadd, 1) := dk_96 (dk_at dksX4_puts_3 23 rfl rfl)
theorem dX4_puts_95 : decode cX4_puts 95 = .ok (.iload 6, 2) := dk_21 6 (dk_at dksX4_puts_4 0 rfl rfl)
theorem dX4_puts_97 : decode cX4_puts 97 = .ok (.iadd, 1) := dk_96 (dk_at dksX4_puts_4 2 rfl rfl)
theorem dX4_puts_98 : decode cX4_puts 98 = .ok (.aload_n 0, 1) := dk_42 (dk_at dksX4_puts_4 3 rfl rfl)
theorem dX4_puts_99 : decode cX4_puts 99 = .ok (.getfield 7, 3) := dk_180 0 7 (dk_at dksX4_puts_4 4 rfl rfl)
theorem dX4_puts_102 : decode cX4_puts 102 = .ok (.iload 4, 2) := dk_21 4 (dk_at dksX4_puts_4 7 rfl rfl)
theorem dX4_puts_104 : decode cX4_puts 104 = .ok (.bipush 122, 2) := dk_16 122 (dk_at dksX4_puts_4 9 rfl rfl)
theorem dX4_puts_106 : decode cX4_puts 106 = .ok (.iadd, 1) := dk_96 (dk_at dksX4_puts_4 11 rfl rfl)
theorem dX4_puts_107 : decode cX4_puts 107 = .ok (.iload 6, 2) := dk_21 6 (dk_at dksX4_puts_4 12 rfl rfl)
theorem dX4_puts_109 : decode cX4_puts 109 = .ok (.iadd, 1) := dk_96 (dk_at dksX4_puts_4 14 rfl rfl)
theorem dX4_puts_110 : decode cX4_puts 110 = .ok (.iconst 1, 1) := dk_4 (dk_at dksX4_puts_4 15 rfl rfl)
theorem dX4_puts_111 : decode cX4_puts 111 = .ok (.isub, 1) := dk_100 (dk_at dksX4_puts_4 16 rfl rfl)
theorem dX4_puts_112 : decode cX4_puts 112 = .ok (.iaload, 1) := dk_46 (dk_at dksX4_puts_4 17 rfl rfl)
theorem dX4_puts_113 : decode cX4_puts 113 = .ok (.iastore, 1) := dk_79 (dk_at dksX4_puts_4 18 rfl rfl)
theorem dX4_puts_114 : decode cX4_puts 114 = .ok (.iinc 6 (-1), 3) := dk_132 6 255 (dk_at dksX4_puts_4 19 rfl rfl)
theorem dX4_puts_117 : decode cX4_puts 117 = .ok (.goto (-92), 3) := dk_167 255 164 (dk_at dksX4_puts_5 0 rfl rfl)
theorem dX4_puts_120 : decode cX4_puts 120 = .ok (.aload_n 0, 1) := dk_42 (dk_at dksX4_puts_5 3 rfl rfl)
theorem dX4_puts_121 : decode cX4_puts 121 = .ok (.getfield 7, 3) := dk_180 0 7 (dk_at dksX4_puts_5 4 rfl rfl)
theorem dX4_puts_124 : decode cX4_puts 124 = .ok (.iload 4, 2) := dk_21 4 (dk_at dksX4_puts_5 7 rfl rfl)
theorem dX4_puts_126 : decode cX4_puts 126 = .ok (.iconst 2, 1) := dk_5 (dk_at dksX4_puts_5 9 rfl rfl)
theorem dX4_puts_127 : decode cX4_puts 127 = .ok (.iadd, 1) := dk_96 (dk_at dksX4_puts_5 10 rfl rfl)
theorem dX4_puts_128 : decode cX4_puts 128 = .ok (.iload 5, 2) := dk_21 5 (dk_at dksX4_puts_5 11 rfl rfl)
theorem dX4_puts_130 : decode cX4_puts 130 = .ok (.iadd, 1) := dk_96 (dk_at dksX4_puts_5 13 rfl rfl)
theorem dX4_puts_131 : decode cX4_puts 131 = .ok (.iload_n 2, 1) := dk_28 (dk_at dksX4_puts_5 14 rfl rfl)
theorem dX4_puts_132 : decode cX4_puts 132 = .ok (.iastore, 1) := dk_79 (dk_at dksX4_puts_5 15 rfl rfl)
theorem dX4_puts_133 : decode cX4_puts 133 = .ok (.aload_n 0, 1) := dk_42 (dk_at dksX4_puts_5 16 rfl rfl)
theorem dX4_puts_134 : decode cX4_puts 134 = .ok (.getfield 7, 3) := dk_180 0 7 (dk_at dksX4_puts_5 17 rfl rfl)
theorem dX4_puts_137 : decode cX4_puts 137 = .ok (.iload 4, 2) := dk_21 4 (dk_at dksX4_puts_5 20 rfl rfl)
theorem dX4_puts_139 : decode cX4_puts 139 = .ok (.bipush 62, 2) := dk_16 62 (dk_at dksX4_puts_5 22 rfl rfl)
theorem dX4_puts_141 : decode cX4_puts 141 = .ok (.iadd, 1) := dk_96 (dk_at dksX4_puts_6 0 rfl rfl)
theorem dX4_puts_142 : decode cX4_puts 142 = .ok (.iload 5, 2) := dk_21 5 (dk_at dksX4_puts_6 1 rfl rfl)
theorem dX4_puts_144 : decode cX4_puts 144 = .ok (.iadd, 1) := dk_96 (dk_at dksX4_puts_6 3 rfl rfl)
theorem dX4_puts_145 : decode cX4_puts 145 = .ok (.iload_n 3, 1) := dk_29 (dk_at dksX4_puts_6 4 rfl rfl)
theorem dX4_puts_146 : decode cX4_puts 146 = .ok (.iastore, 1) := dk_79 (dk_at dksX4_puts_6 5 rfl rfl)
theorem dX4_puts_147 : decode cX4_puts 147 = .ok (.aload_n 0, 1) := dk_42 (dk_at dksX4_puts_6 6 rfl rfl)
theorem dX4_puts_148 : decode cX4_puts 148 = .ok (.getfield 7, 3) := dk_180 0 7 (dk_at dksX4_puts_6 7 rfl rfl)
theorem dX4_puts_151 : decode cX4_puts 151 = .ok (.iload 4, 2) := dk_21 4 (dk_at dksX4_puts_6 10 rfl rfl)
theorem dX4_puts_153 : decode cX4_puts 153 = .ok (.bipush 122, 2) := dk_16 122 (dk_at dksX4_puts_6 12 rfl rfl)
theorem dX4_puts_155 : decode cX4_puts 155 = .ok (.iadd, 1) := dk_96 (dk_at dksX4_puts_6 14 rfl rfl)
theorem dX4_puts_156 : decode cX4_puts 156 = .ok (.iload 5, 2) := dk_21 5 (dk_at dksX4_puts_6 15 rfl rfl)
theorem dX4_puts_158 : decode cX4_puts 158 = .ok (.iadd, 1) := dk_96 (dk_at dksX4_puts_6 17 rfl rfl)
theorem dX4_puts_159 : decode cX4_puts 159 = .ok (.iconst 1, 1) := dk_4 (dk_at dksX4_puts_6 18 rfl rfl)
theorem dX4_puts_160 : decode cX4_puts 160 = .ok (.iastore, 1) := dk_79 (dk_at dksX4_puts_6 19 rfl rfl)
theorem dX4_puts_161 : decode cX4_puts 161 = .ok (.aload_n 0, 1) := dk_42 (dk_at dksX4_puts_6 20 rfl rfl)
theorem dX4_puts_162 : decode cX4_puts 162 = .ok (.getfield 7, 3) := dk_180 0 7 (dk_at dksX4_puts_6 21 rfl rfl)
theorem dX4_puts_165 : decode cX4_puts 165 = .ok (.iload 4, 2) := dk_21 4 (dk_at dksX4_puts_7 0 rfl rfl)
theorem dX4_puts_167 : decode cX4_puts 167 = .ok (.iconst 1, 1) := dk_4 (dk_at dksX4_puts_7 2 rfl rfl)
theorem dX4_puts_168 : decode cX4_puts 168 = .ok (.iadd, 1) := dk_96 (dk_at dksX4_puts_7 3 rfl rfl)
theorem dX4_puts_169 : decode cX4_puts 169 = .ok (.dup2, 1) := dk_92 (dk_at dksX4_puts_7 4 rfl rfl)
theorem dX4_puts_170 : decode cX4_puts 170 = .ok (.iaload, 1) := dk_46 (dk_at dksX4_puts_7 5 rfl rfl)
theorem dX4_puts_171 : decode cX4_puts 171 = .ok (.iconst 1, 1) := dk_4 (dk_at dksX4_puts_7 6 rfl rfl)
theorem dX4_puts_172 : decode cX4_puts 172 = .ok (.iadd, 1) := dk_96 (dk_at dksX4_puts_7 7 rfl rfl)
theorem dX4_puts_173 : decode cX4_puts 173 = .ok (.iastore, 1) := dk_79 (dk_at dksX4_puts_7 8 rfl rfl)
theorem dX4_puts_174 : decode cX4_puts 174 = .ok (.aload_n 0, 1) := dk_42 (dk_at dksX4_puts_7 9 rfl rfl)
theorem dX4_puts_175 : decode cX4_puts 175 = .ok (.iload_n 1, 1) := dk_27 (dk_at dksX4_puts_7 10 rfl rfl)
theorem dX4_puts_176 : decode cX4_puts 176 = .ok (.invokevirtual 222, 3) := dk_182 0 222 (dk_at dksX4_puts_7 11 rfl rfl)
theorem dX4_puts_179 : decode cX4_puts 179 = .ok (.iload 5, 2) := dk_21 5 (dk_at dksX4_puts_7 14 rfl rfl)
theorem dX4_puts_181 : decode cX4_puts 181 = .ok (.ireturn, 1) := dk_172 (dk_at dksX4_puts_7 16 rfl rfl)
abbrev cX4_takesBack : ByteArray := prog_19_method_45_code
def yX4_takesBack : MethodName := ⟨RX4, "takesBack", "()V"⟩
def dkwX4_takesBack_2 : List UInt8 := [132, 1, 1, 167, 255, 235, 177]
abbrev dktX4_takesBack_2 : List UInt8 := dkwX4_takesBack_2 ++ []
def dkwX4_takesBack_1 : List UInt8 := [167, 255, 234, 3, 60, 27, 16, 6, 162, 0, 21, 42, 180, 0, 13, 27, 42, 180, 0, 33, 27, 47, 80]
abbrev dktX4_takesBack_1 : List UInt8 := dkwX4_takesBack_1 ++ dktX4_takesBack_2
def dkwX4_takesBack_0 : List UInt8 := [3, 60, 27, 17, 16, 4, 162, 0, 21, 42, 180, 0, 7, 27, 42, 180, 0, 30, 27, 46, 79, 132, 1, 1]
abbrev dktX4_takesBack_0 : List UInt8 := dkwX4_takesBack_0 ++ dktX4_takesBack_1
theorem dksX4_takesBack_0 : cX4_takesBack.data.toList.drop 0 = dktX4_takesBack_0 := by decide +kernel
theorem dksX4_takesBack_1 : cX4_takesBack.data.toList.drop 24 = dktX4_takesBack_1 := dk_seg dksX4_takesBack_0 24 rfl rfl
theorem dksX4_takesBack_2 : cX4_takesBack.data.toList.drop 47 = dktX4_takesBack_2 := dk_seg dksX4_takesBack_1 23 rfl rfl
theorem dX4_takesBack_0 : decode cX4_takesBack 0 = .ok (.iconst 0, 1) := dk_3 (dk_at dksX4_takesBack_0 0 rfl rfl)
theorem dX4_takesBack_1 : decode cX4_takesBack 1 = .ok (.istore_n 1, 1) := dk_60 (dk_at dksX4_takesBack_0 1 rfl rfl)
theorem dX4_takesBack_2 : decode cX4_takesBack 2 = .ok (.iload_n 1, 1) := dk_27 (dk_at dksX4_takesBack_0 2 rfl rfl)
theorem dX4_takesBack_3 : decode cX4_takesBack 3 = .ok (.sipush 4100, 3) := dk_17 16 4 (dk_at dksX4_takesBack_0 3 rfl rfl)
theorem dX4_takesBack_6 : decode cX4_takesBack 6 = .ok (.if_icmp .ge 21, 3) := dk_162 0 21 (dk_at dksX4_takesBack_0 6 rfl rfl)
theorem dX4_takesBack_9 : decode cX4_takesBack 9 = .ok (.aload_n 0, 1) := dk_42 (dk_at dksX4_takesBack_0 9 rfl rfl)
theorem dX4_takesBack_10 : decode cX4_takesBack 10 = .ok (.getfield 7, 3) := dk_180 0 7 (dk_at dksX4_takesBack_0 10 rfl rfl)
theorem dX4_takesBack_13 : decode cX4_takesBack 13 = .ok (.iload_n 1, 1) := dk_27 (dk_at dksX4_takesBack_0 13 rfl rfl)
theorem dX4_takesBack_14 : decode cX4_takesBack 14 = .ok (.aload_n 0, 1) := dk_42 (dk_at dksX4_takesBack_0 14 rfl rfl)
theorem dX4_takesBack_15 : decode cX4_takesBack 15 = .ok (.getfield 30, 3) := dk_180 0 30 (dk_at dksX4_takesBack_0 15 rfl rfl)
theorem dX4_takesBack_18 : decode cX4_takesBack 18 = .ok (.iload_n 1, 1) := dk_27 (dk_at dksX4_takesBack_0 18 rfl rfl)
theorem dX4_takesBack_19 : decode cX4_takesBack 19 = .ok (.iaload, 1) := dk_46 (dk_at dksX4_takesBack_0 19 rfl rfl)
theorem dX4_takesBack_20 : decode cX4_takesBack 20 = .ok (.iastore, 1) := dk_79 (dk_at dksX4_takesBack_0 20 rfl rfl)
theorem dX4_takesBack_21 : decode cX4_takesBack 21 = .ok (.iinc 1 1, 3) := dk_132 1 1 (dk_at dksX4_takesBack_0 21 rfl rfl)
theorem dX4_takesBack_24 : decode cX4_takesBack 24 = .ok (.goto (-22), 3) := dk_167 255 234 (dk_at dksX4_takesBack_1 0 rfl rfl)
theorem dX4_takesBack_27 : decode cX4_takesBack 27 = .ok (.iconst 0, 1) := dk_3 (dk_at dksX4_takesBack_1 3 rfl rfl)
theorem dX4_takesBack_28 : decode cX4_takesBack 28 = .ok (.istore_n 1, 1) := dk_60 (dk_at dksX4_takesBack_1 4 rfl rfl)
theorem dX4_takesBack_29 : decode cX4_takesBack 29 = .ok (.iload_n 1, 1) := dk_27 (dk_at dksX4_takesBack_1 5 rfl rfl)
theorem dX4_takesBack_30 : decode cX4_takesBack 30 = .ok (.bipush 6, 2) := dk_16 6 (dk_at dksX4_takesBack_1 6 rfl rfl)
theorem dX4_takesBack_32 : decode cX4_takesBack 32 = .ok (.if_icmp .ge 21, 3) := dk_162 0 21 (dk_at dksX4_takesBack_1 8 rfl rfl)
theorem dX4_takesBack_35 : decode cX4_takesBack 35 = .ok (.aload_n 0, 1) := dk_42 (dk_at dksX4_takesBack_1 11 rfl rfl)
theorem dX4_takesBack_36 : decode cX4_takesBack 36 = .ok (.getfield 13, 3) := dk_180 0 13 (dk_at dksX4_takesBack_1 12 rfl rfl)
theorem dX4_takesBack_39 : decode cX4_takesBack 39 = .ok (.iload_n 1, 1) := dk_27 (dk_at dksX4_takesBack_1 15 rfl rfl)
theorem dX4_takesBack_40 : decode cX4_takesBack 40 = .ok (.aload_n 0, 1) := dk_42 (dk_at dksX4_takesBack_1 16 rfl rfl)
theorem dX4_takesBack_41 : decode cX4_takesBack 41 = .ok (.getfield 33, 3) := dk_180 0 33 (dk_at dksX4_takesBack_1 17 rfl rfl)
theorem dX4_takesBack_44 : decode cX4_takesBack 44 = .ok (.iload_n 1, 1) := dk_27 (dk_at dksX4_takesBack_1 20 rfl rfl)
theorem dX4_takesBack_45 : decode cX4_takesBack 45 = .ok (.laload, 1) := dk_47 (dk_at dksX4_takesBack_1 21 rfl rfl)
theorem dX4_takesBack_46 : decode cX4_takesBack 46 = .ok (.lastore, 1) := dk_80 (dk_at dksX4_takesBack_1 22 rfl rfl)
theorem dX4_takesBack_47 : decode cX4_takesBack 47 = .ok (.iinc 1 1, 3) := dk_132 1 1 (dk_at dksX4_takesBack_2 0 rfl rfl)
theorem dX4_takesBack_50 : decode cX4_takesBack 50 = .ok (.goto (-21), 3) := dk_167 255 235 (dk_at dksX4_takesBack_2 3 rfl rfl)
theorem dX4_takesBack_53 : decode cX4_takesBack 53 = .ok (.return_, 1) := dk_177 (dk_at dksX4_takesBack_2 6 rfl rfl)
abbrev cX4_repairsIfRemoved : ByteArray := prog_19_method_76_code
def yX4_repairsIfRemoved : MethodName := ⟨RX4, "repairsIfRemoved", "(II)I"⟩
def dkwX4_repairsIfRemoved_3 : List UInt8 := [62, 42, 182, 1, 19, 29, 172]
abbrev dktX4_repairsIfRemoved_3 : List UInt8 := dkwX4_repairsIfRemoved_3 ++ []
def dkwX4_repairsIfRemoved_2 : List UInt8 := [3, 172, 42, 182, 1, 13, 42, 27, 42, 27, 28, 182, 0, 235, 182, 1, 22, 42, 180, 0, 7, 16, 7, 46]
abbrev dktX4_repairsIfRemoved_2 : List UInt8 := dkwX4_repairsIfRemoved_2 ++ dktX4_repairsIfRemoved_3
def dkwX4_repairsIfRemoved_1 : List UInt8 := [42, 27, 28, 182, 0, 235, 156, 0, 7, 6, 167, 0, 4, 3, 181, 0, 62, 42, 180, 0, 62, 158, 0, 5]
abbrev dktX4_repairsIfRemoved_1 : List UInt8 := dkwX4_repairsIfRemoved_1 ++ dktX4_repairsIfRemoved_2
def dkwX4_repairsIfRemoved_0 : List UInt8 := [42, 42, 27, 182, 0, 183, 154, 0, 7, 4, 167, 0, 28, 28, 184, 0, 232, 154, 0, 7, 5, 167, 0, 17]
abbrev dktX4_repairsIfRemoved_0 : List UInt8 := dkwX4_repairsIfRemoved_0 ++ dktX4_repairsIfRemoved_1
theorem dksX4_repairsIfRemoved_0 : cX4_repairsIfRemoved.data.toList.drop 0 = dktX4_repairsIfRemoved_0 := by decide +kernel
theorem dksX4_repairsIfRemoved_1 : cX4_repairsIfRemoved.data.toList.drop 24 = dktX4_repairsIfRemoved_1 := dk_seg dksX4_repairsIfRemoved_0 24 rfl rfl
theorem dksX4_repairsIfRemoved_2 : cX4_repairsIfRemoved.data.toList.drop 48 = dktX4_repairsIfRemoved_2 := dk_seg dksX4_repairsIfRemoved_1 24 rfl rfl
theorem dksX4_repairsIfRemoved_3 : cX4_repairsIfRemoved.data.toList.drop 72 = dktX4_repairsIfRemoved_3 := dk_seg dksX4_repairsIfRemoved_2 24 rfl rfl
theorem dX4_repairsIfRemoved_0 : decode cX4_repairsIfRemoved 0 = .ok (.aload_n 0, 1) := dk_42 (dk_at dksX4_repairsIfRemoved_0 0 rfl rfl)
theorem dX4_repairsIfRemoved_1 : decode cX4_repairsIfRemoved 1 = .ok (.aload_n 0, 1) := dk_42 (dk_at dksX4_repairsIfRemoved_0 1 rfl rfl)
theorem dX4_repairsIfRemoved_2 : decode cX4_repairsIfRemoved 2 = .ok (.iload_n 1, 1) := dk_27 (dk_at dksX4_repairsIfRemoved_0 2 rfl rfl)
theorem dX4_repairsIfRemoved_3 : decode cX4_repairsIfRemoved 3 = .ok (.invokevirtual 183, 3) := dk_182 0 183 (dk_at dksX4_repairsIfRemoved_0 3 rfl rfl)
theorem dX4_repairsIfRemoved_6 : decode cX4_repairsIfRemoved 6 = .ok (.ifCond .ne 7, 3) := dk_154 0 7 (dk_at dksX4_repairsIfRemoved_0 6 rfl rfl)
theorem dX4_repairsIfRemoved_9 : decode cX4_repairsIfRemoved 9 = .ok (.iconst 1, 1) := dk_4 (dk_at dksX4_repairsIfRemoved_0 9 rfl rfl)
theorem dX4_repairsIfRemoved_10 : decode cX4_repairsIfRemoved 10 = .ok (.goto 28, 3) := dk_167 0 28 (dk_at dksX4_repairsIfRemoved_0 10 rfl rfl)
theorem dX4_repairsIfRemoved_13 : decode cX4_repairsIfRemoved 13 = .ok (.iload_n 2, 1) := dk_28 (dk_at dksX4_repairsIfRemoved_0 13 rfl rfl)
theorem dX4_repairsIfRemoved_14 : decode cX4_repairsIfRemoved 14 = .ok (.invokestatic 232, 3) := dk_184 0 232 (dk_at dksX4_repairsIfRemoved_0 14 rfl rfl)
theorem dX4_repairsIfRemoved_17 : decode cX4_repairsIfRemoved 17 = .ok (.ifCond .ne 7, 3) := dk_154 0 7 (dk_at dksX4_repairsIfRemoved_0 17 rfl rfl)
theorem dX4_repairsIfRemoved_20 : decode cX4_repairsIfRemoved 20 = .ok (.iconst 2, 1) := dk_5 (dk_at dksX4_repairsIfRemoved_0 20 rfl rfl)
theorem dX4_repairsIfRemoved_21 : decode cX4_repairsIfRemoved 21 = .ok (.goto 17, 3) := dk_167 0 17 (dk_at dksX4_repairsIfRemoved_0 21 rfl rfl)
theorem dX4_repairsIfRemoved_24 : decode cX4_repairsIfRemoved 24 = .ok (.aload_n 0, 1) := dk_42 (dk_at dksX4_repairsIfRemoved_1 0 rfl rfl)
theorem dX4_repairsIfRemoved_25 : decode cX4_repairsIfRemoved 25 = .ok (.iload_n 1, 1) := dk_27 (dk_at dksX4_repairsIfRemoved_1 1 rfl rfl)
theorem dX4_repairsIfRemoved_26 : decode cX4_repairsIfRemoved 26 = .ok (.iload_n 2, 1) := dk_28 (dk_at dksX4_repairsIfRemoved_1 2 rfl rfl)
theorem dX4_repairsIfRemoved_27 : decode cX4_repairsIfRemoved 27 = .ok (.invokevirtual 235, 3) := dk_182 0 235 (dk_at dksX4_repairsIfRemoved_1 3 rfl rfl)
theorem dX4_repairsIfRemoved_30 : decode cX4_repairsIfRemoved 30 = .ok (.ifCond .ge 7, 3) := dk_156 0 7 (dk_at dksX4_repairsIfRemoved_1 6 rfl rfl)
theorem dX4_repairsIfRemoved_33 : decode cX4_repairsIfRemoved 33 = .ok (.iconst 3, 1) := dk_6 (dk_at dksX4_repairsIfRemoved_1 9 rfl rfl)
theorem dX4_repairsIfRemoved_34 : decode cX4_repairsIfRemoved 34 = .ok (.goto 4, 3) := dk_167 0 4 (dk_at dksX4_repairsIfRemoved_1 10 rfl rfl)
theorem dX4_repairsIfRemoved_37 : decode cX4_repairsIfRemoved 37 = .ok (.iconst 0, 1) := dk_3 (dk_at dksX4_repairsIfRemoved_1 13 rfl rfl)
theorem dX4_repairsIfRemoved_38 : decode cX4_repairsIfRemoved 38 = .ok (.putfield 62, 3) := dk_181 0 62 (dk_at dksX4_repairsIfRemoved_1 14 rfl rfl)
theorem dX4_repairsIfRemoved_41 : decode cX4_repairsIfRemoved 41 = .ok (.aload_n 0, 1) := dk_42 (dk_at dksX4_repairsIfRemoved_1 17 rfl rfl)
theorem dX4_repairsIfRemoved_42 : decode cX4_repairsIfRemoved 42 = .ok (.getfield 62, 3) := dk_180 0 62 (dk_at dksX4_repairsIfRemoved_1 18 rfl rfl)
theorem dX4_repairsIfRemoved_45 : decode cX4_repairsIfRemoved 45 = .ok (.ifCond .le 5, 3) := dk_158 0 5 (dk_at dksX4_repairsIfRemoved_1 21 rfl rfl)
theorem dX4_repairsIfRemoved_48 : decode cX4_repairsIfRemoved 48 = .ok (.iconst 0, 1) := dk_3 (dk_at dksX4_repairsIfRemoved_2 0 rfl rfl)
theorem dX4_repairsIfRemoved_49 : decode cX4_repairsIfRemoved 49 = .ok (.ireturn, 1) := dk_172 (dk_at dksX4_repairsIfRemoved_2 1 rfl rfl)
theorem dX4_repairsIfRemoved_50 : decode cX4_repairsIfRemoved 50 = .ok (.aload_n 0, 1) := dk_42 (dk_at dksX4_repairsIfRemoved_2 2 rfl rfl)
theorem dX4_repairsIfRemoved_51 : decode cX4_repairsIfRemoved 51 = .ok (.invokevirtual 269, 3) := dk_182 1 13 (dk_at dksX4_repairsIfRemoved_2 3 rfl rfl)
theorem dX4_repairsIfRemoved_54 : decode cX4_repairsIfRemoved 54 = .ok (.aload_n 0, 1) := dk_42 (dk_at dksX4_repairsIfRemoved_2 6 rfl rfl)
theorem dX4_repairsIfRemoved_55 : decode cX4_repairsIfRemoved 55 = .ok (.iload_n 1, 1) := dk_27 (dk_at dksX4_repairsIfRemoved_2 7 rfl rfl)
theorem dX4_repairsIfRemoved_56 : decode cX4_repairsIfRemoved 56 = .ok (.aload_n 0, 1) := dk_42 (dk_at dksX4_repairsIfRemoved_2 8 rfl rfl)
theorem dX4_repairsIfRemoved_57 : decode cX4_repairsIfRemoved 57 = .ok (.iload_n 1, 1) := dk_27 (dk_at dksX4_repairsIfRemoved_2 9 rfl rfl)
theorem dX4_repairsIfRemoved_58 : decode cX4_repairsIfRemoved 58 = .ok (.iload_n 2, 1) := dk_28 (dk_at dksX4_repairsIfRemoved_2 10 rfl rfl)
theorem dX4_repairsIfRemoved_59 : decode cX4_repairsIfRemoved 59 = .ok (.invokevirtual 235, 3) := dk_182 0 235 (dk_at dksX4_repairsIfRemoved_2 11 rfl rfl)
theorem dX4_repairsIfRemoved_62 : decode cX4_repairsIfRemoved 62 = .ok (.invokevirtual 278, 3) := dk_182 1 22 (dk_at dksX4_repairsIfRemoved_2 14 rfl rfl)
theorem dX4_repairsIfRemoved_65 : decode cX4_repairsIfRemoved 65 = .ok (.aload_n 0, 1) := dk_42 (dk_at dksX4_repairsIfRemoved_2 17 rfl rfl)
theorem dX4_repairsIfRemoved_66 : decode cX4_repairsIfRemoved 66 = .ok (.getfield 7, 3) := dk_180 0 7 (dk_at dksX4_repairsIfRemoved_2 18 rfl rfl)
theorem dX4_repairsIfRemoved_69 : decode cX4_repairsIfRemoved 69 = .ok (.bipush 7, 2) := dk_16 7 (dk_at dksX4_repairsIfRemoved_2 21 rfl rfl)
theorem dX4_repairsIfRemoved_71 : decode cX4_repairsIfRemoved 71 = .ok (.iaload, 1) := dk_46 (dk_at dksX4_repairsIfRemoved_2 23 rfl rfl)
theorem dX4_repairsIfRemoved_72 : decode cX4_repairsIfRemoved 72 = .ok (.istore_n 3, 1) := dk_62 (dk_at dksX4_repairsIfRemoved_3 0 rfl rfl)
theorem dX4_repairsIfRemoved_73 : decode cX4_repairsIfRemoved 73 = .ok (.aload_n 0, 1) := dk_42 (dk_at dksX4_repairsIfRemoved_3 1 rfl rfl)
theorem dX4_repairsIfRemoved_74 : decode cX4_repairsIfRemoved 74 = .ok (.invokevirtual 275, 3) := dk_182 1 19 (dk_at dksX4_repairsIfRemoved_3 2 rfl rfl)
theorem dX4_repairsIfRemoved_77 : decode cX4_repairsIfRemoved 77 = .ok (.iload_n 3, 1) := dk_29 (dk_at dksX4_repairsIfRemoved_3 5 rfl rfl)
theorem dX4_repairsIfRemoved_78 : decode cX4_repairsIfRemoved 78 = .ok (.ireturn, 1) := dk_172 (dk_at dksX4_repairsIfRemoved_3 6 rfl rfl)
abbrev cX4_takes : ByteArray := prog_19_method_43_code
def yX4_takes : MethodName := ⟨RX4, "takes", "(II)V"⟩
def dkwX4_takes_6 : List UInt8 := [16, 122, 96, 21, 4, 96, 4, 96, 46, 79, 132, 4, 1, 167, 255, 164, 42, 27, 182, 0, 222, 177]
abbrev dktX4_takes_6 : List UInt8 := dkwX4_takes_6 ++ []
def dkwX4_takes_5 : List UInt8 := [21, 4, 96, 4, 96, 46, 79, 42, 180, 0, 7, 29, 16, 122, 96, 21, 4, 96, 42, 180, 0, 7, 29]
abbrev dktX4_takes_5 : List UInt8 := dkwX4_takes_5 ++ dktX4_takes_6
def dkwX4_takes_4 : List UInt8 := [4, 96, 46, 79, 42, 180, 0, 7, 29, 16, 62, 96, 21, 4, 96, 42, 180, 0, 7, 29, 16, 62, 96]
abbrev dktX4_takes_4 : List UInt8 := dkwX4_takes_4 ++ dktX4_takes_5
def dkwX4_takes_3 : List UInt8 := [46, 162, 0, 85, 42, 180, 0, 7, 29, 5, 96, 21, 4, 96, 42, 180, 0, 7, 29, 5, 96, 21, 4, 96]
abbrev dktX4_takes_3 : List UInt8 := dkwX4_takes_3 ++ dktX4_takes_4
def dkwX4_takes_2 : List UInt8 := [42, 180, 0, 7, 29, 4, 96, 92, 46, 4, 100, 79, 28, 54, 4, 21, 4, 42, 180, 0, 7, 29, 4, 96]
abbrev dktX4_takes_2 : List UInt8 := dkwX4_takes_2 ++ dktX4_takes_3
def dkwX4_takes_1 : List UInt8 := [42, 180, 0, 7, 29, 16, 122, 96, 28, 96, 4, 100, 42, 180, 0, 7, 29, 16, 122, 96, 28, 96, 46, 79]
abbrev dktX4_takes_1 : List UInt8 := dkwX4_takes_1 ++ dktX4_takes_2
def dkwX4_takes_0 : List UInt8 := [27, 184, 0, 171, 62, 42, 180, 0, 7, 29, 16, 122, 96, 28, 96, 46, 4, 164, 0, 31, 28, 158, 0, 27]
abbrev dktX4_takes_0 : List UInt8 := dkwX4_takes_0 ++ dktX4_takes_1
theorem dksX4_takes_0 : cX4_takes.data.toList.drop 0 = dktX4_takes_0 := by decide +kernel
theorem dksX4_takes_1 : cX4_takes.data.toList.drop 24 = dktX4_takes_1 := dk_seg dksX4_takes_0 24 rfl rfl
theorem dksX4_takes_2 : cX4_takes.data.toList.drop 48 = dktX4_takes_2 := dk_seg dksX4_takes_1 24 rfl rfl
theorem dksX4_takes_3 : cX4_takes.data.toList.drop 72 = dktX4_takes_3 := dk_seg dksX4_takes_2 24 rfl rfl
theorem dksX4_takes_4 : cX4_takes.data.toList.drop 96 = dktX4_takes_4 := dk_seg dksX4_takes_3 24 rfl rfl
theorem dksX4_takes_5 : cX4_takes.data.toList.drop 119 = dktX4_takes_5 := dk_seg dksX4_takes_4 23 rfl rfl
theorem dksX4_takes_6 : cX4_takes.data.toList.drop 142 = dktX4_takes_6 := dk_seg dksX4_takes_5 23 rfl rfl
theorem dX4_takes_0 : decode cX4_takes 0 = .ok (.iload_n 1, 1) := dk_27 (dk_at dksX4_takes_0 0 rfl rfl)
theorem dX4_takes_1 : decode cX4_takes 1 = .ok (.invokestatic 171, 3) := dk_184 0 171 (dk_at dksX4_takes_0 1 rfl rfl)
theorem dX4_takes_4 : decode cX4_takes 4 = .ok (.istore_n 3, 1) := dk_62 (dk_at dksX4_takes_0 4 rfl rfl)
theorem dX4_takes_5 : decode cX4_takes 5 = .ok (.aload_n 0, 1) := dk_42 (dk_at dksX4_takes_0 5 rfl rfl)
theorem dX4_takes_6 : decode cX4_takes 6 = .ok (.getfield 7, 3) := dk_180 0 7 (dk_at dksX4_takes_0 6 rfl rfl)
theorem dX4_takes_9 : decode cX4_takes 9 = .ok (.iload_n 3, 1) := dk_29 (dk_at dksX4_takes_0 9 rfl rfl)
theorem dX4_takes_10 : decode cX4_takes 10 = .ok (.bipush 122, 2) := dk_16 122 (dk_at dksX4_takes_0 10 rfl rfl)
theorem dX4_takes_12 : decode cX4_takes 12 = .ok (.iadd, 1) := dk_96 (dk_at dksX4_takes_0 12 rfl rfl)
theorem dX4_takes_13 : decode cX4_takes 13 = .ok (.iload_n 2, 1) := dk_28 (dk_at dksX4_takes_0 13 rfl rfl)
theorem dX4_takes_14 : decode cX4_takes 14 = .ok (.iadd, 1) := dk_96 (dk_at dksX4_takes_0 14 rfl rfl)
theorem dX4_takes_15 : decode cX4_takes 15 = .ok (.iaload, 1) := dk_46 (dk_at dksX4_takes_0 15 rfl rfl)
theorem dX4_takes_16 : decode cX4_takes 16 = .ok (.iconst 1, 1) := dk_4 (dk_at dksX4_takes_0 16 rfl rfl)
theorem dX4_takes_17 : decode cX4_takes 17 = .ok (.if_icmp .le 31, 3) := dk_164 0 31 (dk_at dksX4_takes_0 17 rfl rfl)
theorem dX4_takes_20 : decode cX4_takes 20 = .ok (.iload_n 2, 1) := dk_28 (dk_at dksX4_takes_0 20 rfl rfl)
theorem dX4_takes_21 : decode cX4_takes 21 = .ok (.ifCond .le 27, 3) := dk_158 0 27 (dk_at dksX4_takes_0 21 rfl rfl)
theorem dX4_takes_24 : decode cX4_takes 24 = .ok (.aload_n 0, 1) := dk_42 (dk_at dksX4_takes_1 0 rfl rfl)
theorem dX4_takes_25 : decode cX4_takes 25 = .ok (.getfield 7, 3) := dk_180 0 7 (dk_at dksX4_takes_1 1 rfl rfl)
theorem dX4_takes_28 : decode cX4_takes 28 = .ok (.iload_n 3, 1) := dk_29 (dk_at dksX4_takes_1 4 rfl rfl)
theorem dX4_takes_29 : decode cX4_takes 29 = .ok (.bipush 122, 2) := dk_16 122 (dk_at dksX4_takes_1 5 rfl rfl)
theorem dX4_takes_31 : decode cX4_takes 31 = .ok (.iadd, 1) := dk_96 (dk_at dksX4_takes_1 7 rfl rfl)
theorem dX4_takes_32 : decode cX4_takes 32 = .ok (.iload_n 2, 1) := dk_28 (dk_at dksX4_takes_1 8 rfl rfl)
theorem dX4_takes_33 : decode cX4_takes 33 = .ok (.iadd, 1) := dk_96 (dk_at dksX4_takes_1 9 rfl rfl)
theorem dX4_takes_34 : decode cX4_takes 34 = .ok (.iconst 1, 1) := dk_4 (dk_at dksX4_takes_1 10 rfl rfl)
theorem dX4_takes_35 : decode cX4_takes 35 = .ok (.isub, 1) := dk_100 (dk_at dksX4_takes_1 11 rfl rfl)
theorem dX4_takes_36 : decode cX4_takes 36 = .ok (.aload_n 0, 1) := dk_42 (dk_at dksX4_takes_1 12 rfl rfl)
theorem dX4_takes_37 : decode cX4_takes 37 = .ok (.getfield 7, 3) := dk_180 0 7 (dk_at dksX4_takes_1 13 rfl rfl)
theorem dX4_takes_40 : decode cX4_takes 40 = .ok (.iload_n 3, 1) := dk_29 (dk_at dksX4_takes_1 16 rfl rfl)
theorem dX4_takes_41 : decode cX4_takes 41 = .ok (.bipush 122, 2) := dk_16 122 (dk_at dksX4_takes_1 17 rfl rfl)
theorem dX4_takes_43 : decode cX4_takes 43 = .ok (.iadd, 1) := dk_96 (dk_at dksX4_takes_1 19 rfl rfl)
theorem dX4_takes_44 : decode cX4_takes 44 = .ok (.iload_n 2, 1) := dk_28 (dk_at dksX4_takes_1 20 rfl rfl)
theorem dX4_takes_45 : decode cX4_takes 45 = .ok (.iadd, 1) := dk_96 (dk_at dksX4_takes_1 21 rfl rfl)
theorem dX4_takes_46 : decode cX4_takes 46 = .ok (.iaload, 1) := dk_46 (dk_at dksX4_takes_1 22 rfl rfl)
theorem dX4_takes_47 : decode cX4_takes 47 = .ok (.iastore, 1) := dk_79 (dk_at dksX4_takes_1 23 rfl rfl)
theorem dX4_takes_48 : decode cX4_takes 48 = .ok (.aload_n 0, 1) := dk_42 (dk_at dksX4_takes_2 0 rfl rfl)
theorem dX4_takes_49 : decode cX4_takes 49 = .ok (.getfield 7, 3) := dk_180 0 7 (dk_at dksX4_takes_2 1 rfl rfl)
theorem dX4_takes_52 : decode cX4_takes 52 = .ok (.iload_n 3, 1) := dk_29 (dk_at dksX4_takes_2 4 rfl rfl)
theorem dX4_takes_53 : decode cX4_takes 53 = .ok (.iconst 1, 1) := dk_4 (dk_at dksX4_takes_2 5 rfl rfl)
theorem dX4_takes_54 : decode cX4_takes 54 = .ok (.iadd, 1) := dk_96 (dk_at dksX4_takes_2 6 rfl rfl)
theorem dX4_takes_55 : decode cX4_takes 55 = .ok (.dup2, 1) := dk_92 (dk_at dksX4_takes_2 7 rfl rfl)
theorem dX4_takes_56 : decode cX4_takes 56 = .ok (.iaload, 1) := dk_46 (dk_at dksX4_takes_2 8 rfl rfl)
theorem dX4_takes_57 : decode cX4_takes 57 = .ok (.iconst 1, 1) := dk_4 (dk_at dksX4_takes_2 9 rfl rfl)
theorem dX4_takes_58 : decode cX4_takes 58 = .ok (.isub, 1) := dk_100 (dk_at dksX4_takes_2 10 rfl rfl)
theorem dX4_takes_59 : decode cX4_takes 59 = .ok (.iastore, 1) := dk_79 (dk_at dksX4_takes_2 11 rfl rfl)
theorem dX4_takes_60 : decode cX4_takes 60 = .ok (.iload_n 2, 1) := dk_28 (dk_at dksX4_takes_2 12 rfl rfl)
theorem dX4_takes_61 : decode cX4_takes 61 = .ok (.istore 4, 2) := dk_54 4 (dk_at dksX4_takes_2 13 rfl rfl)
theorem dX4_takes_63 : decode cX4_takes 63 = .ok (.iload 4, 2) := dk_21 4 (dk_at dksX4_takes_2 15 rfl rfl)
theorem dX4_takes_65 : decode cX4_takes 65 = .ok (.aload_n 0, 1) := dk_42 (dk_at dksX4_takes_2 17 rfl rfl)
theorem dX4_takes_66 : decode cX4_takes 66 = .ok (.getfield 7, 3) := dk_180 0 7 (dk_at dksX4_takes_2 18 rfl rfl)
theorem dX4_takes_69 : decode cX4_takes 69 = .ok (.iload_n 3, 1) := dk_29 (dk_at dksX4_takes_2 21 rfl rfl)
theorem dX4_takes_70 : decode cX4_takes 70 = .ok (.iconst 1, 1) := dk_4 (dk_at dksX4_takes_2 22 rfl rfl)
theorem dX4_takes_71 : decode cX4_takes 71 = .ok (.iadd, 1) := dk_96 (dk_at dksX4_takes_2 23 rfl rfl)
theorem dX4_takes_72 : decode cX4_takes 72 = .ok (.iaload, 1) := dk_46 (dk_at dksX4_takes_3 0 rfl rfl)
theorem dX4_takes_73 : decode cX4_takes 73 = .ok (.if_icmp .ge 85, 3) := dk_162 0 85 (dk_at dksX4_takes_3 1 rfl rfl)
theorem dX4_takes_76 : decode cX4_takes 76 = .ok (.aload_n 0, 1) := dk_42 (dk_at dksX4_takes_3 4 rfl rfl)
theorem dX4_takes_77 : decode cX4_takes 77 = .ok (.getfield 7, 3) := dk_180 0 7 (dk_at dksX4_takes_3 5 rfl rfl)
theorem dX4_takes_80 : decode cX4_takes 80 = .ok (.iload_n 3, 1) := dk_29 (dk_at dksX4_takes_3 8 rfl rfl)
theorem dX4_takes_81 : decode cX4_takes 81 = .ok (.iconst 2, 1) := dk_5 (dk_at dksX4_takes_3 9 rfl rfl)
theorem dX4_takes_82 : decode cX4_takes 82 = .ok (.iadd, 1) := dk_96 (dk_at dksX4_takes_3 10 rfl rfl)
theorem dX4_takes_83 : decode cX4_takes 83 = .ok (.iload 4, 2) := dk_21 4 (dk_at dksX4_takes_3 11 rfl rfl)
theorem dX4_takes_85 : decode cX4_takes 85 = .ok (.iadd, 1) := dk_96 (dk_at dksX4_takes_3 13 rfl rfl)
theorem dX4_takes_86 : decode cX4_takes 86 = .ok (.aload_n 0, 1) := dk_42 (dk_at dksX4_takes_3 14 rfl rfl)
theorem dX4_takes_87 : decode cX4_takes 87 = .ok (.getfield 7, 3) := dk_180 0 7 (dk_at dksX4_takes_3 15 rfl rfl)
theorem dX4_takes_90 : decode cX4_takes 90 = .ok (.iload_n 3, 1) := dk_29 (dk_at dksX4_takes_3 18 rfl rfl)
theorem dX4_takes_91 : decode cX4_takes 91 = .ok (.iconst 2, 1) := dk_5 (dk_at dksX4_takes_3 19 rfl rfl)
theorem dX4_takes_92 : decode cX4_takes 92 = .ok (.iadd, 1) := dk_96 (dk_at dksX4_takes_3 20 rfl rfl)
theorem dX4_takes_93 : decode cX4_takes 93 = .ok (.iload 4, 2) := dk_21 4 (dk_at dksX4_takes_3 21 rfl rfl)
theorem dX4_takes_95 : decode cX4_takes 95 = .ok (.iadd, 1) := dk_96 (dk_at dksX4_takes_3 23 rfl rfl)
theorem dX4_takes_96 : decode cX4_takes 96 = .ok (.iconst 1, 1) := dk_4 (dk_at dksX4_takes_4 0 rfl rfl)
theorem dX4_takes_97 : decode cX4_takes 97 = .ok (.iadd, 1) := dk_96 (dk_at dksX4_takes_4 1 rfl rfl)
theorem dX4_takes_98 : decode cX4_takes 98 = .ok (.iaload, 1) := dk_46 (dk_at dksX4_takes_4 2 rfl rfl)
theorem dX4_takes_99 : decode cX4_takes 99 = .ok (.iastore, 1) := dk_79 (dk_at dksX4_takes_4 3 rfl rfl)
theorem dX4_takes_100 : decode cX4_takes 100 = .ok (.aload_n 0, 1) := dk_42 (dk_at dksX4_takes_4 4 rfl rfl)
theorem dX4_takes_101 : decode cX4_takes 101 = .ok (.getfield 7, 3) := dk_180 0 7 (dk_at dksX4_takes_4 5 rfl rfl)
theorem dX4_takes_104 : decode cX4_takes 104 = .ok (.iload_n 3, 1) := dk_29 (dk_at dksX4_takes_4 8 rfl rfl)
theorem dX4_takes_105 : decode cX4_takes 105 = .ok (.bipush 62, 2) := dk_16 62 (dk_at dksX4_takes_4 9 rfl rfl)
theorem dX4_takes_107 : decode cX4_takes 107 = .ok (.iadd, 1) := dk_96 (dk_at dksX4_takes_4 11 rfl rfl)
theorem dX4_takes_108 : decode cX4_takes 108 = .ok (.iload 4, 2) := dk_21 4 (dk_at dksX4_takes_4 12 rfl rfl)
theorem dX4_takes_110 : decode cX4_takes 110 = .ok (.iadd, 1) := dk_96 (dk_at dksX4_takes_4 14 rfl rfl)
theorem dX4_takes_111 : decode cX4_takes 111 = .ok (.aload_n 0, 1) := dk_42 (dk_at dksX4_takes_4 15 rfl rfl)
theorem dX4_takes_112 : decode cX4_takes 112 = .ok (.getfield 7, 3) := dk_180 0 7 (dk_at dksX4_takes_4 16 rfl rfl)
theorem dX4_takes_115 : decode cX4_takes 115 = .ok (.iload_n 3, 1) := dk_29 (dk_at dksX4_takes_4 19 rfl rfl)
theorem dX4_takes_116 : decode cX4_takes 116 = .ok (.bipush 62, 2) := dk_16 62 (dk_at dksX4_takes_4 20 rfl rfl)
theorem dX4_takes_118 : decode cX4_takes 118 = .ok (.iadd, 1) := dk_96 (dk_at dksX4_takes_4 22 rfl rfl)
theorem dX4_takes_119 : decode cX4_takes 119 = .ok (.iload 4, 2) := dk_21 4 (dk_at dksX4_takes_5 0 rfl rfl)
theorem dX4_takes_121 : decode cX4_takes 121 = .ok (.iadd, 1) := dk_96 (dk_at dksX4_takes_5 2 rfl rfl)
theorem dX4_takes_122 : decode cX4_takes 122 = .ok (.iconst 1, 1) := dk_4 (dk_at dksX4_takes_5 3 rfl rfl)
theorem dX4_takes_123 : decode cX4_takes 123 = .ok (.iadd, 1) := dk_96 (dk_at dksX4_takes_5 4 rfl rfl)
theorem dX4_takes_124 : decode cX4_takes 124 = .ok (.iaload, 1) := dk_46 (dk_at dksX4_takes_5 5 rfl rfl)
theorem dX4_takes_125 : decode cX4_takes 125 = .ok (.iastore, 1) := dk_79 (dk_at dksX4_takes_5 6 rfl rfl)
theorem dX4_takes_126 : decode cX4_takes 126 = .ok (.aload_n 0, 1) := dk_42 (dk_at dksX4_takes_5 7 rfl rfl)
theorem dX4_takes_127 : decode cX4_takes 127 = .ok (.getfield 7, 3) := dk_180 0 7 (dk_at dksX4_takes_5 8 rfl rfl)
theorem dX4_takes_130 : decode cX4_takes 130 = .ok (.iload_n 3, 1) := dk_29 (dk_at dksX4_takes_5 11 rfl rfl)
theorem dX4_takes_131 : decode cX4_takes 131 = .ok (.bipush 122, 2) := dk_16 122 (dk_at dksX4_takes_5 12 rfl rfl)
theorem dX4_takes_133 : decode cX4_takes 133 = .ok (.iadd, 1) := dk_96 (dk_at dksX4_takes_5 14 rfl rfl)
theorem dX4_takes_134 : decode cX4_takes 134 = .ok (.iload 4, 2) := dk_21 4 (dk_at dksX4_takes_5 15 rfl rfl)
theorem dX4_takes_136 : decode cX4_takes 136 = .ok (.iadd, 1) := dk_96 (dk_at dksX4_takes_5 17 rfl rfl)
theorem dX4_takes_137 : decode cX4_takes 137 = .ok (.aload_n 0, 1) := dk_42 (dk_at dksX4_takes_5 18 rfl rfl)
theorem dX4_takes_138 : decode cX4_takes 138 = .ok (.getfield 7, 3) := dk_180 0 7 (dk_at dksX4_takes_5 19 rfl rfl)
theorem dX4_takes_141 : decode cX4_takes 141 = .ok (.iload_n 3, 1) := dk_29 (dk_at dksX4_takes_5 22 rfl rfl)
theorem dX4_takes_142 : decode cX4_takes 142 = .ok (.bipush 122, 2) := dk_16 122 (dk_at dksX4_takes_6 0 rfl rfl)
theorem dX4_takes_144 : decode cX4_takes 144 = .ok (.iadd, 1) := dk_96 (dk_at dksX4_takes_6 2 rfl rfl)
theorem dX4_takes_145 : decode cX4_takes 145 = .ok (.iload 4, 2) := dk_21 4 (dk_at dksX4_takes_6 3 rfl rfl)
theorem dX4_takes_147 : decode cX4_takes 147 = .ok (.iadd, 1) := dk_96 (dk_at dksX4_takes_6 5 rfl rfl)
theorem dX4_takes_148 : decode cX4_takes 148 = .ok (.iconst 1, 1) := dk_4 (dk_at dksX4_takes_6 6 rfl rfl)
theorem dX4_takes_149 : decode cX4_takes 149 = .ok (.iadd, 1) := dk_96 (dk_at dksX4_takes_6 7 rfl rfl)
theorem dX4_takes_150 : decode cX4_takes 150 = .ok (.iaload, 1) := dk_46 (dk_at dksX4_takes_6 8 rfl rfl)
theorem dX4_takes_151 : decode cX4_takes 151 = .ok (.iastore, 1) := dk_79 (dk_at dksX4_takes_6 9 rfl rfl)
theorem dX4_takes_152 : decode cX4_takes 152 = .ok (.iinc 4 1, 3) := dk_132 4 1 (dk_at dksX4_takes_6 10 rfl rfl)
theorem dX4_takes_155 : decode cX4_takes 155 = .ok (.goto (-92), 3) := dk_167 255 164 (dk_at dksX4_takes_6 13 rfl rfl)
theorem dX4_takes_158 : decode cX4_takes 158 = .ok (.aload_n 0, 1) := dk_42 (dk_at dksX4_takes_6 16 rfl rfl)
theorem dX4_takes_159 : decode cX4_takes 159 = .ok (.iload_n 1, 1) := dk_27 (dk_at dksX4_takes_6 17 rfl rfl)
theorem dX4_takes_160 : decode cX4_takes 160 = .ok (.invokevirtual 222, 3) := dk_182 0 222 (dk_at dksX4_takes_6 18 rfl rfl)
theorem dX4_takes_163 : decode cX4_takes 163 = .ok (.return_, 1) := dk_177 (dk_at dksX4_takes_6 21 rfl rfl)
abbrev cX4_repairsIfLimit : ByteArray := prog_19_method_78_code
def yX4_repairsIfLimit : MethodName := ⟨RX4, "repairsIfLimit", "(I)I"⟩
def dkwX4_repairsIfLimit_2 : List UInt8 := [61, 42, 182, 1, 19, 28, 172]
abbrev dktX4_repairsIfLimit_2 : List UInt8 := dkwX4_repairsIfLimit_2 ++ []
def dkwX4_repairsIfLimit_1 : List UInt8 := [180, 0, 62, 158, 0, 5, 3, 172, 42, 182, 1, 13, 42, 27, 182, 1, 25, 42, 180, 0, 7, 16, 7, 46]
abbrev dktX4_repairsIfLimit_1 : List UInt8 := dkwX4_repairsIfLimit_1 ++ dktX4_repairsIfLimit_2
def dkwX4_repairsIfLimit_0 : List UInt8 := [42, 27, 133, 20, 0, 159, 20, 0, 161, 184, 0, 72, 153, 0, 7, 3, 167, 0, 4, 4, 181, 0, 62, 42]
abbrev dktX4_repairsIfLimit_0 : List UInt8 := dkwX4_repairsIfLimit_0 ++ dktX4_repairsIfLimit_1
theorem dksX4_repairsIfLimit_0 : cX4_repairsIfLimit.data.toList.drop 0 = dktX4_repairsIfLimit_0 := by decide +kernel
theorem dksX4_repairsIfLimit_1 : cX4_repairsIfLimit.data.toList.drop 24 = dktX4_repairsIfLimit_1 := dk_seg dksX4_repairsIfLimit_0 24 rfl rfl
theorem dksX4_repairsIfLimit_2 : cX4_repairsIfLimit.data.toList.drop 48 = dktX4_repairsIfLimit_2 := dk_seg dksX4_repairsIfLimit_1 24 rfl rfl
theorem dX4_repairsIfLimit_0 : decode cX4_repairsIfLimit 0 = .ok (.aload_n 0, 1) := dk_42 (dk_at dksX4_repairsIfLimit_0 0 rfl rfl)
theorem dX4_repairsIfLimit_1 : decode cX4_repairsIfLimit 1 = .ok (.iload_n 1, 1) := dk_27 (dk_at dksX4_repairsIfLimit_0 1 rfl rfl)
theorem dX4_repairsIfLimit_2 : decode cX4_repairsIfLimit 2 = .ok (.i2l, 1) := dk_133 (dk_at dksX4_repairsIfLimit_0 2 rfl rfl)
theorem dX4_repairsIfLimit_3 : decode cX4_repairsIfLimit 3 = .ok (.ldc2_w 159, 3) := dk_20 0 159 (dk_at dksX4_repairsIfLimit_0 3 rfl rfl)
theorem dX4_repairsIfLimit_6 : decode cX4_repairsIfLimit 6 = .ok (.ldc2_w 161, 3) := dk_20 0 161 (dk_at dksX4_repairsIfLimit_0 6 rfl rfl)
theorem dX4_repairsIfLimit_9 : decode cX4_repairsIfLimit 9 = .ok (.invokestatic 72, 3) := dk_184 0 72 (dk_at dksX4_repairsIfLimit_0 9 rfl rfl)
theorem dX4_repairsIfLimit_12 : decode cX4_repairsIfLimit 12 = .ok (.ifCond .eq 7, 3) := dk_153 0 7 (dk_at dksX4_repairsIfLimit_0 12 rfl rfl)
theorem dX4_repairsIfLimit_15 : decode cX4_repairsIfLimit 15 = .ok (.iconst 0, 1) := dk_3 (dk_at dksX4_repairsIfLimit_0 15 rfl rfl)
theorem dX4_repairsIfLimit_16 : decode cX4_repairsIfLimit 16 = .ok (.goto 4, 3) := dk_167 0 4 (dk_at dksX4_repairsIfLimit_0 16 rfl rfl)
theorem dX4_repairsIfLimit_19 : decode cX4_repairsIfLimit 19 = .ok (.iconst 1, 1) := dk_4 (dk_at dksX4_repairsIfLimit_0 19 rfl rfl)
theorem dX4_repairsIfLimit_20 : decode cX4_repairsIfLimit 20 = .ok (.putfield 62, 3) := dk_181 0 62 (dk_at dksX4_repairsIfLimit_0 20 rfl rfl)
theorem dX4_repairsIfLimit_23 : decode cX4_repairsIfLimit 23 = .ok (.aload_n 0, 1) := dk_42 (dk_at dksX4_repairsIfLimit_0 23 rfl rfl)
theorem dX4_repairsIfLimit_24 : decode cX4_repairsIfLimit 24 = .ok (.getfield 62, 3) := dk_180 0 62 (dk_at dksX4_repairsIfLimit_1 0 rfl rfl)
theorem dX4_repairsIfLimit_27 : decode cX4_repairsIfLimit 27 = .ok (.ifCond .le 5, 3) := dk_158 0 5 (dk_at dksX4_repairsIfLimit_1 3 rfl rfl)
theorem dX4_repairsIfLimit_30 : decode cX4_repairsIfLimit 30 = .ok (.iconst 0, 1) := dk_3 (dk_at dksX4_repairsIfLimit_1 6 rfl rfl)
theorem dX4_repairsIfLimit_31 : decode cX4_repairsIfLimit 31 = .ok (.ireturn, 1) := dk_172 (dk_at dksX4_repairsIfLimit_1 7 rfl rfl)
theorem dX4_repairsIfLimit_32 : decode cX4_repairsIfLimit 32 = .ok (.aload_n 0, 1) := dk_42 (dk_at dksX4_repairsIfLimit_1 8 rfl rfl)
theorem dX4_repairsIfLimit_33 : decode cX4_repairsIfLimit 33 = .ok (.invokevirtual 269, 3) := dk_182 1 13 (dk_at dksX4_repairsIfLimit_1 9 rfl rfl)
theorem dX4_repairsIfLimit_36 : decode cX4_repairsIfLimit 36 = .ok (.aload_n 0, 1) := dk_42 (dk_at dksX4_repairsIfLimit_1 12 rfl rfl)
theorem dX4_repairsIfLimit_37 : decode cX4_repairsIfLimit 37 = .ok (.iload_n 1, 1) := dk_27 (dk_at dksX4_repairsIfLimit_1 13 rfl rfl)
theorem dX4_repairsIfLimit_38 : decode cX4_repairsIfLimit 38 = .ok (.invokevirtual 281, 3) := dk_182 1 25 (dk_at dksX4_repairsIfLimit_1 14 rfl rfl)
theorem dX4_repairsIfLimit_41 : decode cX4_repairsIfLimit 41 = .ok (.aload_n 0, 1) := dk_42 (dk_at dksX4_repairsIfLimit_1 17 rfl rfl)
theorem dX4_repairsIfLimit_42 : decode cX4_repairsIfLimit 42 = .ok (.getfield 7, 3) := dk_180 0 7 (dk_at dksX4_repairsIfLimit_1 18 rfl rfl)
theorem dX4_repairsIfLimit_45 : decode cX4_repairsIfLimit 45 = .ok (.bipush 7, 2) := dk_16 7 (dk_at dksX4_repairsIfLimit_1 21 rfl rfl)
theorem dX4_repairsIfLimit_47 : decode cX4_repairsIfLimit 47 = .ok (.iaload, 1) := dk_46 (dk_at dksX4_repairsIfLimit_1 23 rfl rfl)
theorem dX4_repairsIfLimit_48 : decode cX4_repairsIfLimit 48 = .ok (.istore_n 2, 1) := dk_61 (dk_at dksX4_repairsIfLimit_2 0 rfl rfl)
theorem dX4_repairsIfLimit_49 : decode cX4_repairsIfLimit 49 = .ok (.aload_n 0, 1) := dk_42 (dk_at dksX4_repairsIfLimit_2 1 rfl rfl)
theorem dX4_repairsIfLimit_50 : decode cX4_repairsIfLimit 50 = .ok (.invokevirtual 275, 3) := dk_182 1 19 (dk_at dksX4_repairsIfLimit_2 2 rfl rfl)
theorem dX4_repairsIfLimit_53 : decode cX4_repairsIfLimit 53 = .ok (.iload_n 2, 1) := dk_28 (dk_at dksX4_repairsIfLimit_2 5 rfl rfl)
theorem dX4_repairsIfLimit_54 : decode cX4_repairsIfLimit 54 = .ok (.ireturn, 1) := dk_172 (dk_at dksX4_repairsIfLimit_2 6 rfl rfl)
abbrev cX4_limits : ByteArray := prog_19_method_77_code
def yX4_limits : MethodName := ⟨RX4, "limits", "(I)V"⟩
def dkwX4_limits_1 : List UInt8 := [28, 182, 0, 222, 132, 2, 1, 167, 255, 234, 177]
abbrev dktX4_limits_1 : List UInt8 := dkwX4_limits_1 ++ []
def dkwX4_limits_0 : List UInt8 := [42, 180, 0, 7, 3, 27, 79, 3, 61, 28, 16, 6, 162, 0, 22, 42, 28, 182, 0, 183, 153, 0, 8, 42]
abbrev dktX4_limits_0 : List UInt8 := dkwX4_limits_0 ++ dktX4_limits_1
theorem dksX4_limits_0 : cX4_limits.data.toList.drop 0 = dktX4_limits_0 := by decide +kernel
theorem dksX4_limits_1 : cX4_limits.data.toList.drop 24 = dktX4_limits_1 := dk_seg dksX4_limits_0 24 rfl rfl
theorem dX4_limits_0 : decode cX4_limits 0 = .ok (.aload_n 0, 1) := dk_42 (dk_at dksX4_limits_0 0 rfl rfl)
theorem dX4_limits_1 : decode cX4_limits 1 = .ok (.getfield 7, 3) := dk_180 0 7 (dk_at dksX4_limits_0 1 rfl rfl)
theorem dX4_limits_4 : decode cX4_limits 4 = .ok (.iconst 0, 1) := dk_3 (dk_at dksX4_limits_0 4 rfl rfl)
theorem dX4_limits_5 : decode cX4_limits 5 = .ok (.iload_n 1, 1) := dk_27 (dk_at dksX4_limits_0 5 rfl rfl)
theorem dX4_limits_6 : decode cX4_limits 6 = .ok (.iastore, 1) := dk_79 (dk_at dksX4_limits_0 6 rfl rfl)
theorem dX4_limits_7 : decode cX4_limits 7 = .ok (.iconst 0, 1) := dk_3 (dk_at dksX4_limits_0 7 rfl rfl)
theorem dX4_limits_8 : decode cX4_limits 8 = .ok (.istore_n 2, 1) := dk_61 (dk_at dksX4_limits_0 8 rfl rfl)
theorem dX4_limits_9 : decode cX4_limits 9 = .ok (.iload_n 2, 1) := dk_28 (dk_at dksX4_limits_0 9 rfl rfl)
theorem dX4_limits_10 : decode cX4_limits 10 = .ok (.bipush 6, 2) := dk_16 6 (dk_at dksX4_limits_0 10 rfl rfl)
theorem dX4_limits_12 : decode cX4_limits 12 = .ok (.if_icmp .ge 22, 3) := dk_162 0 22 (dk_at dksX4_limits_0 12 rfl rfl)
theorem dX4_limits_15 : decode cX4_limits 15 = .ok (.aload_n 0, 1) := dk_42 (dk_at dksX4_limits_0 15 rfl rfl)
theorem dX4_limits_16 : decode cX4_limits 16 = .ok (.iload_n 2, 1) := dk_28 (dk_at dksX4_limits_0 16 rfl rfl)
theorem dX4_limits_17 : decode cX4_limits 17 = .ok (.invokevirtual 183, 3) := dk_182 0 183 (dk_at dksX4_limits_0 17 rfl rfl)
theorem dX4_limits_20 : decode cX4_limits 20 = .ok (.ifCond .eq 8, 3) := dk_153 0 8 (dk_at dksX4_limits_0 20 rfl rfl)
theorem dX4_limits_23 : decode cX4_limits 23 = .ok (.aload_n 0, 1) := dk_42 (dk_at dksX4_limits_0 23 rfl rfl)
theorem dX4_limits_24 : decode cX4_limits 24 = .ok (.iload_n 2, 1) := dk_28 (dk_at dksX4_limits_1 0 rfl rfl)
theorem dX4_limits_25 : decode cX4_limits 25 = .ok (.invokevirtual 222, 3) := dk_182 0 222 (dk_at dksX4_limits_1 1 rfl rfl)
theorem dX4_limits_28 : decode cX4_limits 28 = .ok (.iinc 2 1, 3) := dk_132 2 1 (dk_at dksX4_limits_1 4 rfl rfl)
theorem dX4_limits_31 : decode cX4_limits 31 = .ok (.goto (-22), 3) := dk_167 255 234 (dk_at dksX4_limits_1 7 rfl rfl)
theorem dX4_limits_34 : decode cX4_limits 34 = .ok (.return_, 1) := dk_177 (dk_at dksX4_limits_1 10 rfl rfl)
abbrev cX4_whyNotJoin : ByteArray := prog_19_method_82_code
def yX4_whyNotJoin : MethodName := ⟨RX4, "whyNotJoin", "(II)I"⟩
def dkwX4_whyNotJoin_1 : List UInt8 := [158, 0, 7, 3, 167, 0, 9, 42, 27, 28, 182, 1, 31, 172]
abbrev dktX4_whyNotJoin_1 : List UInt8 := dkwX4_whyNotJoin_1 ++ []
def dkwX4_whyNotJoin_0 : List UInt8 := [42, 42, 27, 28, 182, 1, 28, 153, 0, 7, 3, 167, 0, 4, 4, 181, 0, 62, 42, 180, 0, 62]
abbrev dktX4_whyNotJoin_0 : List UInt8 := dkwX4_whyNotJoin_0 ++ dktX4_whyNotJoin_1
theorem dksX4_whyNotJoin_0 : cX4_whyNotJoin.data.toList.drop 0 = dktX4_whyNotJoin_0 := by decide +kernel
theorem dksX4_whyNotJoin_1 : cX4_whyNotJoin.data.toList.drop 22 = dktX4_whyNotJoin_1 := dk_seg dksX4_whyNotJoin_0 22 rfl rfl
theorem dX4_whyNotJoin_0 : decode cX4_whyNotJoin 0 = .ok (.aload_n 0, 1) := dk_42 (dk_at dksX4_whyNotJoin_0 0 rfl rfl)
theorem dX4_whyNotJoin_1 : decode cX4_whyNotJoin 1 = .ok (.aload_n 0, 1) := dk_42 (dk_at dksX4_whyNotJoin_0 1 rfl rfl)
theorem dX4_whyNotJoin_2 : decode cX4_whyNotJoin 2 = .ok (.iload_n 1, 1) := dk_27 (dk_at dksX4_whyNotJoin_0 2 rfl rfl)
theorem dX4_whyNotJoin_3 : decode cX4_whyNotJoin 3 = .ok (.iload_n 2, 1) := dk_28 (dk_at dksX4_whyNotJoin_0 3 rfl rfl)
theorem dX4_whyNotJoin_4 : decode cX4_whyNotJoin 4 = .ok (.invokevirtual 284, 3) := dk_182 1 28 (dk_at dksX4_whyNotJoin_0 4 rfl rfl)
theorem dX4_whyNotJoin_7 : decode cX4_whyNotJoin 7 = .ok (.ifCond .eq 7, 3) := dk_153 0 7 (dk_at dksX4_whyNotJoin_0 7 rfl rfl)
theorem dX4_whyNotJoin_10 : decode cX4_whyNotJoin 10 = .ok (.iconst 0, 1) := dk_3 (dk_at dksX4_whyNotJoin_0 10 rfl rfl)
theorem dX4_whyNotJoin_11 : decode cX4_whyNotJoin 11 = .ok (.goto 4, 3) := dk_167 0 4 (dk_at dksX4_whyNotJoin_0 11 rfl rfl)
theorem dX4_whyNotJoin_14 : decode cX4_whyNotJoin 14 = .ok (.iconst 1, 1) := dk_4 (dk_at dksX4_whyNotJoin_0 14 rfl rfl)
theorem dX4_whyNotJoin_15 : decode cX4_whyNotJoin 15 = .ok (.putfield 62, 3) := dk_181 0 62 (dk_at dksX4_whyNotJoin_0 15 rfl rfl)
theorem dX4_whyNotJoin_18 : decode cX4_whyNotJoin 18 = .ok (.aload_n 0, 1) := dk_42 (dk_at dksX4_whyNotJoin_0 18 rfl rfl)
theorem dX4_whyNotJoin_19 : decode cX4_whyNotJoin 19 = .ok (.getfield 62, 3) := dk_180 0 62 (dk_at dksX4_whyNotJoin_0 19 rfl rfl)
theorem dX4_whyNotJoin_22 : decode cX4_whyNotJoin 22 = .ok (.ifCond .le 7, 3) := dk_158 0 7 (dk_at dksX4_whyNotJoin_1 0 rfl rfl)
theorem dX4_whyNotJoin_25 : decode cX4_whyNotJoin 25 = .ok (.iconst 0, 1) := dk_3 (dk_at dksX4_whyNotJoin_1 3 rfl rfl)
theorem dX4_whyNotJoin_26 : decode cX4_whyNotJoin 26 = .ok (.goto 9, 3) := dk_167 0 9 (dk_at dksX4_whyNotJoin_1 4 rfl rfl)
theorem dX4_whyNotJoin_29 : decode cX4_whyNotJoin 29 = .ok (.aload_n 0, 1) := dk_42 (dk_at dksX4_whyNotJoin_1 7 rfl rfl)
theorem dX4_whyNotJoin_30 : decode cX4_whyNotJoin 30 = .ok (.iload_n 1, 1) := dk_27 (dk_at dksX4_whyNotJoin_1 8 rfl rfl)
theorem dX4_whyNotJoin_31 : decode cX4_whyNotJoin 31 = .ok (.iload_n 2, 1) := dk_28 (dk_at dksX4_whyNotJoin_1 9 rfl rfl)
theorem dX4_whyNotJoin_32 : decode cX4_whyNotJoin 32 = .ok (.invokevirtual 287, 3) := dk_182 1 31 (dk_at dksX4_whyNotJoin_1 10 rfl rfl)
theorem dX4_whyNotJoin_35 : decode cX4_whyNotJoin 35 = .ok (.ireturn, 1) := dk_172 (dk_at dksX4_whyNotJoin_1 13 rfl rfl)
abbrev cX4_areBoth : ByteArray := prog_19_method_79_code
def yX4_areBoth : MethodName := ⟨RX4, "areBoth", "(II)Z"⟩
def dkwX4_areBoth_0 : List UInt8 := [42, 27, 182, 0, 183, 153, 0, 15, 42, 28, 182, 0, 183, 153, 0, 7, 4, 167, 0, 4, 3, 172]
abbrev dktX4_areBoth_0 : List UInt8 := dkwX4_areBoth_0 ++ []
theorem dksX4_areBoth_0 : cX4_areBoth.data.toList.drop 0 = dktX4_areBoth_0 := by decide +kernel
theorem dX4_areBoth_0 : decode cX4_areBoth 0 = .ok (.aload_n 0, 1) := dk_42 (dk_at dksX4_areBoth_0 0 rfl rfl)
theorem dX4_areBoth_1 : decode cX4_areBoth 1 = .ok (.iload_n 1, 1) := dk_27 (dk_at dksX4_areBoth_0 1 rfl rfl)
theorem dX4_areBoth_2 : decode cX4_areBoth 2 = .ok (.invokevirtual 183, 3) := dk_182 0 183 (dk_at dksX4_areBoth_0 2 rfl rfl)
theorem dX4_areBoth_5 : decode cX4_areBoth 5 = .ok (.ifCond .eq 15, 3) := dk_153 0 15 (dk_at dksX4_areBoth_0 5 rfl rfl)
theorem dX4_areBoth_8 : decode cX4_areBoth 8 = .ok (.aload_n 0, 1) := dk_42 (dk_at dksX4_areBoth_0 8 rfl rfl)
theorem dX4_areBoth_9 : decode cX4_areBoth 9 = .ok (.iload_n 2, 1) := dk_28 (dk_at dksX4_areBoth_0 9 rfl rfl)
theorem dX4_areBoth_10 : decode cX4_areBoth 10 = .ok (.invokevirtual 183, 3) := dk_182 0 183 (dk_at dksX4_areBoth_0 10 rfl rfl)
theorem dX4_areBoth_13 : decode cX4_areBoth 13 = .ok (.ifCond .eq 7, 3) := dk_153 0 7 (dk_at dksX4_areBoth_0 13 rfl rfl)
theorem dX4_areBoth_16 : decode cX4_areBoth 16 = .ok (.iconst 1, 1) := dk_4 (dk_at dksX4_areBoth_0 16 rfl rfl)
theorem dX4_areBoth_17 : decode cX4_areBoth 17 = .ok (.goto 4, 3) := dk_167 0 4 (dk_at dksX4_areBoth_0 17 rfl rfl)
theorem dX4_areBoth_20 : decode cX4_areBoth 20 = .ok (.iconst 0, 1) := dk_3 (dk_at dksX4_areBoth_0 20 rfl rfl)
theorem dX4_areBoth_21 : decode cX4_areBoth 21 = .ok (.ireturn, 1) := dk_172 (dk_at dksX4_areBoth_0 21 rfl rfl)
abbrev cX4_againstJoin : ByteArray := prog_19_method_80_code
def yX4_againstJoin : MethodName := ⟨RX4, "againstJoin", "(II)I"⟩
def dkwX4_againstJoin_3 : List UInt8 := [28, 184, 0, 171, 5, 96, 46, 161, 0, 7, 6, 167, 0, 4, 3, 172]
abbrev dktX4_againstJoin_3 : List UInt8 := dkwX4_againstJoin_3 ++ []
def dkwX4_againstJoin_2 : List UInt8 := [21, 4, 158, 0, 36, 42, 180, 0, 7, 27, 184, 0, 171, 5, 96, 29, 96, 4, 100, 46, 42, 180, 0, 7]
abbrev dktX4_againstJoin_2 : List UInt8 := dkwX4_againstJoin_2 ++ dktX4_againstJoin_3
def dkwX4_againstJoin_1 : List UInt8 := [54, 4, 27, 28, 160, 0, 5, 4, 172, 29, 21, 4, 96, 16, 60, 164, 0, 5, 5, 172, 29, 158, 0, 41]
abbrev dktX4_againstJoin_1 : List UInt8 := dkwX4_againstJoin_1 ++ dktX4_againstJoin_2
def dkwX4_againstJoin_0 : List UInt8 := [42, 180, 0, 7, 27, 184, 0, 171, 4, 96, 46, 62, 42, 180, 0, 7, 28, 184, 0, 171, 4, 96, 46]
abbrev dktX4_againstJoin_0 : List UInt8 := dkwX4_againstJoin_0 ++ dktX4_againstJoin_1
theorem dksX4_againstJoin_0 : cX4_againstJoin.data.toList.drop 0 = dktX4_againstJoin_0 := by decide +kernel
theorem dksX4_againstJoin_1 : cX4_againstJoin.data.toList.drop 23 = dktX4_againstJoin_1 := dk_seg dksX4_againstJoin_0 23 rfl rfl
theorem dksX4_againstJoin_2 : cX4_againstJoin.data.toList.drop 47 = dktX4_againstJoin_2 := dk_seg dksX4_againstJoin_1 24 rfl rfl
theorem dksX4_againstJoin_3 : cX4_againstJoin.data.toList.drop 71 = dktX4_againstJoin_3 := dk_seg dksX4_againstJoin_2 24 rfl rfl
theorem dX4_againstJoin_0 : decode cX4_againstJoin 0 = .ok (.aload_n 0, 1) := dk_42 (dk_at dksX4_againstJoin_0 0 rfl rfl)
theorem dX4_againstJoin_1 : decode cX4_againstJoin 1 = .ok (.getfield 7, 3) := dk_180 0 7 (dk_at dksX4_againstJoin_0 1 rfl rfl)
theorem dX4_againstJoin_4 : decode cX4_againstJoin 4 = .ok (.iload_n 1, 1) := dk_27 (dk_at dksX4_againstJoin_0 4 rfl rfl)
theorem dX4_againstJoin_5 : decode cX4_againstJoin 5 = .ok (.invokestatic 171, 3) := dk_184 0 171 (dk_at dksX4_againstJoin_0 5 rfl rfl)
theorem dX4_againstJoin_8 : decode cX4_againstJoin 8 = .ok (.iconst 1, 1) := dk_4 (dk_at dksX4_againstJoin_0 8 rfl rfl)
theorem dX4_againstJoin_9 : decode cX4_againstJoin 9 = .ok (.iadd, 1) := dk_96 (dk_at dksX4_againstJoin_0 9 rfl rfl)
theorem dX4_againstJoin_10 : decode cX4_againstJoin 10 = .ok (.iaload, 1) := dk_46 (dk_at dksX4_againstJoin_0 10 rfl rfl)
theorem dX4_againstJoin_11 : decode cX4_againstJoin 11 = .ok (.istore_n 3, 1) := dk_62 (dk_at dksX4_againstJoin_0 11 rfl rfl)
theorem dX4_againstJoin_12 : decode cX4_againstJoin 12 = .ok (.aload_n 0, 1) := dk_42 (dk_at dksX4_againstJoin_0 12 rfl rfl)
theorem dX4_againstJoin_13 : decode cX4_againstJoin 13 = .ok (.getfield 7, 3) := dk_180 0 7 (dk_at dksX4_againstJoin_0 13 rfl rfl)
theorem dX4_againstJoin_16 : decode cX4_againstJoin 16 = .ok (.iload_n 2, 1) := dk_28 (dk_at dksX4_againstJoin_0 16 rfl rfl)
theorem dX4_againstJoin_17 : decode cX4_againstJoin 17 = .ok (.invokestatic 171, 3) := dk_184 0 171 (dk_at dksX4_againstJoin_0 17 rfl rfl)
theorem dX4_againstJoin_20 : decode cX4_againstJoin 20 = .ok (.iconst 1, 1) := dk_4 (dk_at dksX4_againstJoin_0 20 rfl rfl)
theorem dX4_againstJoin_21 : decode cX4_againstJoin 21 = .ok (.iadd, 1) := dk_96 (dk_at dksX4_againstJoin_0 21 rfl rfl)
theorem dX4_againstJoin_22 : decode cX4_againstJoin 22 = .ok (.iaload, 1) := dk_46 (dk_at dksX4_againstJoin_0 22 rfl rfl)
theorem dX4_againstJoin_23 : decode cX4_againstJoin 23 = .ok (.istore 4, 2) := dk_54 4 (dk_at dksX4_againstJoin_1 0 rfl rfl)
theorem dX4_againstJoin_25 : decode cX4_againstJoin 25 = .ok (.iload_n 1, 1) := dk_27 (dk_at dksX4_againstJoin_1 2 rfl rfl)
theorem dX4_againstJoin_26 : decode cX4_againstJoin 26 = .ok (.iload_n 2, 1) := dk_28 (dk_at dksX4_againstJoin_1 3 rfl rfl)
theorem dX4_againstJoin_27 : decode cX4_againstJoin 27 = .ok (.if_icmp .ne 5, 3) := dk_160 0 5 (dk_at dksX4_againstJoin_1 4 rfl rfl)
theorem dX4_againstJoin_30 : decode cX4_againstJoin 30 = .ok (.iconst 1, 1) := dk_4 (dk_at dksX4_againstJoin_1 7 rfl rfl)
theorem dX4_againstJoin_31 : decode cX4_againstJoin 31 = .ok (.ireturn, 1) := dk_172 (dk_at dksX4_againstJoin_1 8 rfl rfl)
theorem dX4_againstJoin_32 : decode cX4_againstJoin 32 = .ok (.iload_n 3, 1) := dk_29 (dk_at dksX4_againstJoin_1 9 rfl rfl)
theorem dX4_againstJoin_33 : decode cX4_againstJoin 33 = .ok (.iload 4, 2) := dk_21 4 (dk_at dksX4_againstJoin_1 10 rfl rfl)
theorem dX4_againstJoin_35 : decode cX4_againstJoin 35 = .ok (.iadd, 1) := dk_96 (dk_at dksX4_againstJoin_1 12 rfl rfl)
theorem dX4_againstJoin_36 : decode cX4_againstJoin 36 = .ok (.bipush 60, 2) := dk_16 60 (dk_at dksX4_againstJoin_1 13 rfl rfl)
theorem dX4_againstJoin_38 : decode cX4_againstJoin 38 = .ok (.if_icmp .le 5, 3) := dk_164 0 5 (dk_at dksX4_againstJoin_1 15 rfl rfl)
theorem dX4_againstJoin_41 : decode cX4_againstJoin 41 = .ok (.iconst 2, 1) := dk_5 (dk_at dksX4_againstJoin_1 18 rfl rfl)
theorem dX4_againstJoin_42 : decode cX4_againstJoin 42 = .ok (.ireturn, 1) := dk_172 (dk_at dksX4_againstJoin_1 19 rfl rfl)
theorem dX4_againstJoin_43 : decode cX4_againstJoin 43 = .ok (.iload_n 3, 1) := dk_29 (dk_at dksX4_againstJoin_1 20 rfl rfl)
theorem dX4_againstJoin_44 : decode cX4_againstJoin 44 = .ok (.ifCond .le 41, 3) := dk_158 0 41 (dk_at dksX4_againstJoin_1 21 rfl rfl)
theorem dX4_againstJoin_47 : decode cX4_againstJoin 47 = .ok (.iload 4, 2) := dk_21 4 (dk_at dksX4_againstJoin_2 0 rfl rfl)
theorem dX4_againstJoin_49 : decode cX4_againstJoin 49 = .ok (.ifCond .le 36, 3) := dk_158 0 36 (dk_at dksX4_againstJoin_2 2 rfl rfl)
theorem dX4_againstJoin_52 : decode cX4_againstJoin 52 = .ok (.aload_n 0, 1) := dk_42 (dk_at dksX4_againstJoin_2 5 rfl rfl)
theorem dX4_againstJoin_53 : decode cX4_againstJoin 53 = .ok (.getfield 7, 3) := dk_180 0 7 (dk_at dksX4_againstJoin_2 6 rfl rfl)
theorem dX4_againstJoin_56 : decode cX4_againstJoin 56 = .ok (.iload_n 1, 1) := dk_27 (dk_at dksX4_againstJoin_2 9 rfl rfl)
theorem dX4_againstJoin_57 : decode cX4_againstJoin 57 = .ok (.invokestatic 171, 3) := dk_184 0 171 (dk_at dksX4_againstJoin_2 10 rfl rfl)
theorem dX4_againstJoin_60 : decode cX4_againstJoin 60 = .ok (.iconst 2, 1) := dk_5 (dk_at dksX4_againstJoin_2 13 rfl rfl)
theorem dX4_againstJoin_61 : decode cX4_againstJoin 61 = .ok (.iadd, 1) := dk_96 (dk_at dksX4_againstJoin_2 14 rfl rfl)
theorem dX4_againstJoin_62 : decode cX4_againstJoin 62 = .ok (.iload_n 3, 1) := dk_29 (dk_at dksX4_againstJoin_2 15 rfl rfl)
theorem dX4_againstJoin_63 : decode cX4_againstJoin 63 = .ok (.iadd, 1) := dk_96 (dk_at dksX4_againstJoin_2 16 rfl rfl)
theorem dX4_againstJoin_64 : decode cX4_againstJoin 64 = .ok (.iconst 1, 1) := dk_4 (dk_at dksX4_againstJoin_2 17 rfl rfl)
theorem dX4_againstJoin_65 : decode cX4_againstJoin 65 = .ok (.isub, 1) := dk_100 (dk_at dksX4_againstJoin_2 18 rfl rfl)
theorem dX4_againstJoin_66 : decode cX4_againstJoin 66 = .ok (.iaload, 1) := dk_46 (dk_at dksX4_againstJoin_2 19 rfl rfl)
theorem dX4_againstJoin_67 : decode cX4_againstJoin 67 = .ok (.aload_n 0, 1) := dk_42 (dk_at dksX4_againstJoin_2 20 rfl rfl)
theorem dX4_againstJoin_68 : decode cX4_againstJoin 68 = .ok (.getfield 7, 3) := dk_180 0 7 (dk_at dksX4_againstJoin_2 21 rfl rfl)
theorem dX4_againstJoin_71 : decode cX4_againstJoin 71 = .ok (.iload_n 2, 1) := dk_28 (dk_at dksX4_againstJoin_3 0 rfl rfl)
theorem dX4_againstJoin_72 : decode cX4_againstJoin 72 = .ok (.invokestatic 171, 3) := dk_184 0 171 (dk_at dksX4_againstJoin_3 1 rfl rfl)
theorem dX4_againstJoin_75 : decode cX4_againstJoin 75 = .ok (.iconst 2, 1) := dk_5 (dk_at dksX4_againstJoin_3 4 rfl rfl)
theorem dX4_againstJoin_76 : decode cX4_againstJoin 76 = .ok (.iadd, 1) := dk_96 (dk_at dksX4_againstJoin_3 5 rfl rfl)
theorem dX4_againstJoin_77 : decode cX4_againstJoin 77 = .ok (.iaload, 1) := dk_46 (dk_at dksX4_againstJoin_3 6 rfl rfl)
theorem dX4_againstJoin_78 : decode cX4_againstJoin 78 = .ok (.if_icmp .lt 7, 3) := dk_161 0 7 (dk_at dksX4_againstJoin_3 7 rfl rfl)
theorem dX4_againstJoin_81 : decode cX4_againstJoin 81 = .ok (.iconst 3, 1) := dk_6 (dk_at dksX4_againstJoin_3 10 rfl rfl)
theorem dX4_againstJoin_82 : decode cX4_againstJoin 82 = .ok (.goto 4, 3) := dk_167 0 4 (dk_at dksX4_againstJoin_3 11 rfl rfl)
theorem dX4_againstJoin_85 : decode cX4_againstJoin 85 = .ok (.iconst 0, 1) := dk_3 (dk_at dksX4_againstJoin_3 14 rfl rfl)
theorem dX4_againstJoin_86 : decode cX4_againstJoin 86 = .ok (.ireturn, 1) := dk_172 (dk_at dksX4_againstJoin_3 15 rfl rfl)
abbrev cX4_whyNotAbsorb : ByteArray := prog_19_method_83_code
def yX4_whyNotAbsorb : MethodName := ⟨RX4, "whyNotAbsorb", "(II)I"⟩
def dkwX4_whyNotAbsorb_1 : List UInt8 := [158, 0, 7, 3, 167, 0, 9, 42, 27, 28, 182, 1, 34, 172]
abbrev dktX4_whyNotAbsorb_1 : List UInt8 := dkwX4_whyNotAbsorb_1 ++ []
def dkwX4_whyNotAbsorb_0 : List UInt8 := [42, 42, 27, 28, 182, 1, 28, 153, 0, 7, 3, 167, 0, 4, 4, 181, 0, 62, 42, 180, 0, 62]
abbrev dktX4_whyNotAbsorb_0 : List UInt8 := dkwX4_whyNotAbsorb_0 ++ dktX4_whyNotAbsorb_1
theorem dksX4_whyNotAbsorb_0 : cX4_whyNotAbsorb.data.toList.drop 0 = dktX4_whyNotAbsorb_0 := by decide +kernel
theorem dksX4_whyNotAbsorb_1 : cX4_whyNotAbsorb.data.toList.drop 22 = dktX4_whyNotAbsorb_1 := dk_seg dksX4_whyNotAbsorb_0 22 rfl rfl
theorem dX4_whyNotAbsorb_0 : decode cX4_whyNotAbsorb 0 = .ok (.aload_n 0, 1) := dk_42 (dk_at dksX4_whyNotAbsorb_0 0 rfl rfl)
theorem dX4_whyNotAbsorb_1 : decode cX4_whyNotAbsorb 1 = .ok (.aload_n 0, 1) := dk_42 (dk_at dksX4_whyNotAbsorb_0 1 rfl rfl)
theorem dX4_whyNotAbsorb_2 : decode cX4_whyNotAbsorb 2 = .ok (.iload_n 1, 1) := dk_27 (dk_at dksX4_whyNotAbsorb_0 2 rfl rfl)
theorem dX4_whyNotAbsorb_3 : decode cX4_whyNotAbsorb 3 = .ok (.iload_n 2, 1) := dk_28 (dk_at dksX4_whyNotAbsorb_0 3 rfl rfl)
theorem dX4_whyNotAbsorb_4 : decode cX4_whyNotAbsorb 4 = .ok (.invokevirtual 284, 3) := dk_182 1 28 (dk_at dksX4_whyNotAbsorb_0 4 rfl rfl)
theorem dX4_whyNotAbsorb_7 : decode cX4_whyNotAbsorb 7 = .ok (.ifCond .eq 7, 3) := dk_153 0 7 (dk_at dksX4_whyNotAbsorb_0 7 rfl rfl)
theorem dX4_whyNotAbsorb_10 : decode cX4_whyNotAbsorb 10 = .ok (.iconst 0, 1) := dk_3 (dk_at dksX4_whyNotAbsorb_0 10 rfl rfl)
theorem dX4_whyNotAbsorb_11 : decode cX4_whyNotAbsorb 11 = .ok (.goto 4, 3) := dk_167 0 4 (dk_at dksX4_whyNotAbsorb_0 11 rfl rfl)
theorem dX4_whyNotAbsorb_14 : decode cX4_whyNotAbsorb 14 = .ok (.iconst 1, 1) := dk_4 (dk_at dksX4_whyNotAbsorb_0 14 rfl rfl)
theorem dX4_whyNotAbsorb_15 : decode cX4_whyNotAbsorb 15 = .ok (.putfield 62, 3) := dk_181 0 62 (dk_at dksX4_whyNotAbsorb_0 15 rfl rfl)
theorem dX4_whyNotAbsorb_18 : decode cX4_whyNotAbsorb 18 = .ok (.aload_n 0, 1) := dk_42 (dk_at dksX4_whyNotAbsorb_0 18 rfl rfl)
theorem dX4_whyNotAbsorb_19 : decode cX4_whyNotAbsorb 19 = .ok (.getfield 62, 3) := dk_180 0 62 (dk_at dksX4_whyNotAbsorb_0 19 rfl rfl)
theorem dX4_whyNotAbsorb_22 : decode cX4_whyNotAbsorb 22 = .ok (.ifCond .le 7, 3) := dk_158 0 7 (dk_at dksX4_whyNotAbsorb_1 0 rfl rfl)
theorem dX4_whyNotAbsorb_25 : decode cX4_whyNotAbsorb 25 = .ok (.iconst 0, 1) := dk_3 (dk_at dksX4_whyNotAbsorb_1 3 rfl rfl)
theorem dX4_whyNotAbsorb_26 : decode cX4_whyNotAbsorb 26 = .ok (.goto 9, 3) := dk_167 0 9 (dk_at dksX4_whyNotAbsorb_1 4 rfl rfl)
theorem dX4_whyNotAbsorb_29 : decode cX4_whyNotAbsorb 29 = .ok (.aload_n 0, 1) := dk_42 (dk_at dksX4_whyNotAbsorb_1 7 rfl rfl)
theorem dX4_whyNotAbsorb_30 : decode cX4_whyNotAbsorb 30 = .ok (.iload_n 1, 1) := dk_27 (dk_at dksX4_whyNotAbsorb_1 8 rfl rfl)
theorem dX4_whyNotAbsorb_31 : decode cX4_whyNotAbsorb 31 = .ok (.iload_n 2, 1) := dk_28 (dk_at dksX4_whyNotAbsorb_1 9 rfl rfl)
theorem dX4_whyNotAbsorb_32 : decode cX4_whyNotAbsorb 32 = .ok (.invokevirtual 290, 3) := dk_182 1 34 (dk_at dksX4_whyNotAbsorb_1 10 rfl rfl)
theorem dX4_whyNotAbsorb_35 : decode cX4_whyNotAbsorb 35 = .ok (.ireturn, 1) := dk_172 (dk_at dksX4_whyNotAbsorb_1 13 rfl rfl)
abbrev cX4_againstAbsorb : ByteArray := prog_19_method_81_code
def yX4_againstAbsorb : MethodName := ⟨RX4, "againstAbsorb", "(II)I"⟩
def dkwX4_againstAbsorb_3 : List UInt8 := [132, 4, 1, 167, 255, 223, 3, 172]
abbrev dktX4_againstAbsorb_3 : List UInt8 := dkwX4_againstAbsorb_3 ++ []
def dkwX4_againstAbsorb_2 : List UInt8 := [42, 27, 42, 180, 0, 7, 28, 184, 0, 171, 5, 96, 21, 4, 96, 46, 182, 0, 235, 155, 0, 5, 6, 172]
abbrev dktX4_againstAbsorb_2 : List UInt8 := dkwX4_againstAbsorb_2 ++ dktX4_againstAbsorb_3
def dkwX4_againstAbsorb_1 : List UInt8 := [184, 0, 171, 4, 96, 46, 29, 96, 16, 60, 164, 0, 5, 5, 172, 3, 54, 4, 21, 4, 29, 162, 0, 33]
abbrev dktX4_againstAbsorb_1 : List UInt8 := dkwX4_againstAbsorb_1 ++ dktX4_againstAbsorb_2
def dkwX4_againstAbsorb_0 : List UInt8 := [42, 180, 0, 7, 28, 184, 0, 171, 4, 96, 46, 62, 27, 28, 160, 0, 5, 4, 172, 42, 180, 0, 7, 27]
abbrev dktX4_againstAbsorb_0 : List UInt8 := dkwX4_againstAbsorb_0 ++ dktX4_againstAbsorb_1
theorem dksX4_againstAbsorb_0 : cX4_againstAbsorb.data.toList.drop 0 = dktX4_againstAbsorb_0 := by decide +kernel
theorem dksX4_againstAbsorb_1 : cX4_againstAbsorb.data.toList.drop 24 = dktX4_againstAbsorb_1 := dk_seg dksX4_againstAbsorb_0 24 rfl rfl
theorem dksX4_againstAbsorb_2 : cX4_againstAbsorb.data.toList.drop 48 = dktX4_againstAbsorb_2 := dk_seg dksX4_againstAbsorb_1 24 rfl rfl
theorem dksX4_againstAbsorb_3 : cX4_againstAbsorb.data.toList.drop 72 = dktX4_againstAbsorb_3 := dk_seg dksX4_againstAbsorb_2 24 rfl rfl
theorem dX4_againstAbsorb_0 : decode cX4_againstAbsorb 0 = .ok (.aload_n 0, 1) := dk_42 (dk_at dksX4_againstAbsorb_0 0 rfl rfl)
theorem dX4_againstAbsorb_1 : decode cX4_againstAbsorb 1 = .ok (.getfield 7, 3) := dk_180 0 7 (dk_at dksX4_againstAbsorb_0 1 rfl rfl)
theorem dX4_againstAbsorb_4 : decode cX4_againstAbsorb 4 = .ok (.iload_n 2, 1) := dk_28 (dk_at dksX4_againstAbsorb_0 4 rfl rfl)
theorem dX4_againstAbsorb_5 : decode cX4_againstAbsorb 5 = .ok (.invokestatic 171, 3) := dk_184 0 171 (dk_at dksX4_againstAbsorb_0 5 rfl rfl)
theorem dX4_againstAbsorb_8 : decode cX4_againstAbsorb 8 = .ok (.iconst 1, 1) := dk_4 (dk_at dksX4_againstAbsorb_0 8 rfl rfl)
theorem dX4_againstAbsorb_9 : decode cX4_againstAbsorb 9 = .ok (.iadd, 1) := dk_96 (dk_at dksX4_againstAbsorb_0 9 rfl rfl)
theorem dX4_againstAbsorb_10 : decode cX4_againstAbsorb 10 = .ok (.iaload, 1) := dk_46 (dk_at dksX4_againstAbsorb_0 10 rfl rfl)
theorem dX4_againstAbsorb_11 : decode cX4_againstAbsorb 11 = .ok (.istore_n 3, 1) := dk_62 (dk_at dksX4_againstAbsorb_0 11 rfl rfl)
theorem dX4_againstAbsorb_12 : decode cX4_againstAbsorb 12 = .ok (.iload_n 1, 1) := dk_27 (dk_at dksX4_againstAbsorb_0 12 rfl rfl)
theorem dX4_againstAbsorb_13 : decode cX4_againstAbsorb 13 = .ok (.iload_n 2, 1) := dk_28 (dk_at dksX4_againstAbsorb_0 13 rfl rfl)
theorem dX4_againstAbsorb_14 : decode cX4_againstAbsorb 14 = .ok (.if_icmp .ne 5, 3) := dk_160 0 5 (dk_at dksX4_againstAbsorb_0 14 rfl rfl)
theorem dX4_againstAbsorb_17 : decode cX4_againstAbsorb 17 = .ok (.iconst 1, 1) := dk_4 (dk_at dksX4_againstAbsorb_0 17 rfl rfl)
theorem dX4_againstAbsorb_18 : decode cX4_againstAbsorb 18 = .ok (.ireturn, 1) := dk_172 (dk_at dksX4_againstAbsorb_0 18 rfl rfl)
theorem dX4_againstAbsorb_19 : decode cX4_againstAbsorb 19 = .ok (.aload_n 0, 1) := dk_42 (dk_at dksX4_againstAbsorb_0 19 rfl rfl)
theorem dX4_againstAbsorb_20 : decode cX4_againstAbsorb 20 = .ok (.getfield 7, 3) := dk_180 0 7 (dk_at dksX4_againstAbsorb_0 20 rfl rfl)
theorem dX4_againstAbsorb_23 : decode cX4_againstAbsorb 23 = .ok (.iload_n 1, 1) := dk_27 (dk_at dksX4_againstAbsorb_0 23 rfl rfl)
theorem dX4_againstAbsorb_24 : decode cX4_againstAbsorb 24 = .ok (.invokestatic 171, 3) := dk_184 0 171 (dk_at dksX4_againstAbsorb_1 0 rfl rfl)
theorem dX4_againstAbsorb_27 : decode cX4_againstAbsorb 27 = .ok (.iconst 1, 1) := dk_4 (dk_at dksX4_againstAbsorb_1 3 rfl rfl)
theorem dX4_againstAbsorb_28 : decode cX4_againstAbsorb 28 = .ok (.iadd, 1) := dk_96 (dk_at dksX4_againstAbsorb_1 4 rfl rfl)
theorem dX4_againstAbsorb_29 : decode cX4_againstAbsorb 29 = .ok (.iaload, 1) := dk_46 (dk_at dksX4_againstAbsorb_1 5 rfl rfl)
theorem dX4_againstAbsorb_30 : decode cX4_againstAbsorb 30 = .ok (.iload_n 3, 1) := dk_29 (dk_at dksX4_againstAbsorb_1 6 rfl rfl)
theorem dX4_againstAbsorb_31 : decode cX4_againstAbsorb 31 = .ok (.iadd, 1) := dk_96 (dk_at dksX4_againstAbsorb_1 7 rfl rfl)
theorem dX4_againstAbsorb_32 : decode cX4_againstAbsorb 32 = .ok (.bipush 60, 2) := dk_16 60 (dk_at dksX4_againstAbsorb_1 8 rfl rfl)
theorem dX4_againstAbsorb_34 : decode cX4_againstAbsorb 34 = .ok (.if_icmp .le 5, 3) := dk_164 0 5 (dk_at dksX4_againstAbsorb_1 10 rfl rfl)
theorem dX4_againstAbsorb_37 : decode cX4_againstAbsorb 37 = .ok (.iconst 2, 1) := dk_5 (dk_at dksX4_againstAbsorb_1 13 rfl rfl)
theorem dX4_againstAbsorb_38 : decode cX4_againstAbsorb 38 = .ok (.ireturn, 1) := dk_172 (dk_at dksX4_againstAbsorb_1 14 rfl rfl)
theorem dX4_againstAbsorb_39 : decode cX4_againstAbsorb 39 = .ok (.iconst 0, 1) := dk_3 (dk_at dksX4_againstAbsorb_1 15 rfl rfl)
theorem dX4_againstAbsorb_40 : decode cX4_againstAbsorb 40 = .ok (.istore 4, 2) := dk_54 4 (dk_at dksX4_againstAbsorb_1 16 rfl rfl)
theorem dX4_againstAbsorb_42 : decode cX4_againstAbsorb 42 = .ok (.iload 4, 2) := dk_21 4 (dk_at dksX4_againstAbsorb_1 18 rfl rfl)
theorem dX4_againstAbsorb_44 : decode cX4_againstAbsorb 44 = .ok (.iload_n 3, 1) := dk_29 (dk_at dksX4_againstAbsorb_1 20 rfl rfl)
theorem dX4_againstAbsorb_45 : decode cX4_againstAbsorb 45 = .ok (.if_icmp .ge 33, 3) := dk_162 0 33 (dk_at dksX4_againstAbsorb_1 21 rfl rfl)
theorem dX4_againstAbsorb_48 : decode cX4_againstAbsorb 48 = .ok (.aload_n 0, 1) := dk_42 (dk_at dksX4_againstAbsorb_2 0 rfl rfl)
theorem dX4_againstAbsorb_49 : decode cX4_againstAbsorb 49 = .ok (.iload_n 1, 1) := dk_27 (dk_at dksX4_againstAbsorb_2 1 rfl rfl)
theorem dX4_againstAbsorb_50 : decode cX4_againstAbsorb 50 = .ok (.aload_n 0, 1) := dk_42 (dk_at dksX4_againstAbsorb_2 2 rfl rfl)
theorem dX4_againstAbsorb_51 : decode cX4_againstAbsorb 51 = .ok (.getfield 7, 3) := dk_180 0 7 (dk_at dksX4_againstAbsorb_2 3 rfl rfl)
theorem dX4_againstAbsorb_54 : decode cX4_againstAbsorb 54 = .ok (.iload_n 2, 1) := dk_28 (dk_at dksX4_againstAbsorb_2 6 rfl rfl)
theorem dX4_againstAbsorb_55 : decode cX4_againstAbsorb 55 = .ok (.invokestatic 171, 3) := dk_184 0 171 (dk_at dksX4_againstAbsorb_2 7 rfl rfl)
theorem dX4_againstAbsorb_58 : decode cX4_againstAbsorb 58 = .ok (.iconst 2, 1) := dk_5 (dk_at dksX4_againstAbsorb_2 10 rfl rfl)
theorem dX4_againstAbsorb_59 : decode cX4_againstAbsorb 59 = .ok (.iadd, 1) := dk_96 (dk_at dksX4_againstAbsorb_2 11 rfl rfl)
theorem dX4_againstAbsorb_60 : decode cX4_againstAbsorb 60 = .ok (.iload 4, 2) := dk_21 4 (dk_at dksX4_againstAbsorb_2 12 rfl rfl)
theorem dX4_againstAbsorb_62 : decode cX4_againstAbsorb 62 = .ok (.iadd, 1) := dk_96 (dk_at dksX4_againstAbsorb_2 14 rfl rfl)
theorem dX4_againstAbsorb_63 : decode cX4_againstAbsorb 63 = .ok (.iaload, 1) := dk_46 (dk_at dksX4_againstAbsorb_2 15 rfl rfl)
theorem dX4_againstAbsorb_64 : decode cX4_againstAbsorb 64 = .ok (.invokevirtual 235, 3) := dk_182 0 235 (dk_at dksX4_againstAbsorb_2 16 rfl rfl)
theorem dX4_againstAbsorb_67 : decode cX4_againstAbsorb 67 = .ok (.ifCond .lt 5, 3) := dk_155 0 5 (dk_at dksX4_againstAbsorb_2 19 rfl rfl)
theorem dX4_againstAbsorb_70 : decode cX4_againstAbsorb 70 = .ok (.iconst 3, 1) := dk_6 (dk_at dksX4_againstAbsorb_2 22 rfl rfl)
theorem dX4_againstAbsorb_71 : decode cX4_againstAbsorb 71 = .ok (.ireturn, 1) := dk_172 (dk_at dksX4_againstAbsorb_2 23 rfl rfl)
theorem dX4_againstAbsorb_72 : decode cX4_againstAbsorb 72 = .ok (.iinc 4 1, 3) := dk_132 4 1 (dk_at dksX4_againstAbsorb_3 0 rfl rfl)
theorem dX4_againstAbsorb_75 : decode cX4_againstAbsorb 75 = .ok (.goto (-33), 3) := dk_167 255 223 (dk_at dksX4_againstAbsorb_3 3 rfl rfl)
theorem dX4_againstAbsorb_78 : decode cX4_againstAbsorb 78 = .ok (.iconst 0, 1) := dk_3 (dk_at dksX4_againstAbsorb_3 6 rfl rfl)
theorem dX4_againstAbsorb_79 : decode cX4_againstAbsorb 79 = .ok (.ireturn, 1) := dk_172 (dk_at dksX4_againstAbsorb_3 7 rfl rfl)
abbrev cX4_logSize : ByteArray := prog_19_method_84_code
def yX4_logSize : MethodName := ⟨RX4, "logSize", "()I"⟩
def dkwX4_logSize_0 : List UInt8 := [42, 3, 181, 0, 62, 42, 180, 0, 7, 16, 7, 46, 172]
abbrev dktX4_logSize_0 : List UInt8 := dkwX4_logSize_0 ++ []
theorem dksX4_logSize_0 : cX4_logSize.data.toList.drop 0 = dktX4_logSize_0 := by decide +kernel
theorem dX4_logSize_0 : decode cX4_logSize 0 = .ok (.aload_n 0, 1) := dk_42 (dk_at dksX4_logSize_0 0 rfl rfl)
theorem dX4_logSize_1 : decode cX4_logSize 1 = .ok (.iconst 0, 1) := dk_3 (dk_at dksX4_logSize_0 1 rfl rfl)
theorem dX4_logSize_2 : decode cX4_logSize 2 = .ok (.putfield 62, 3) := dk_181 0 62 (dk_at dksX4_logSize_0 2 rfl rfl)
theorem dX4_logSize_5 : decode cX4_logSize 5 = .ok (.aload_n 0, 1) := dk_42 (dk_at dksX4_logSize_0 5 rfl rfl)
theorem dX4_logSize_6 : decode cX4_logSize 6 = .ok (.getfield 7, 3) := dk_180 0 7 (dk_at dksX4_logSize_0 6 rfl rfl)
theorem dX4_logSize_9 : decode cX4_logSize 9 = .ok (.bipush 7, 2) := dk_16 7 (dk_at dksX4_logSize_0 9 rfl rfl)
theorem dX4_logSize_11 : decode cX4_logSize 11 = .ok (.iaload, 1) := dk_46 (dk_at dksX4_logSize_0 11 rfl rfl)
theorem dX4_logSize_12 : decode cX4_logSize 12 = .ok (.ireturn, 1) := dk_172 (dk_at dksX4_logSize_0 12 rfl rfl)
abbrev cX4_logKind : ByteArray := prog_19_method_86_code
def yX4_logKind : MethodName := ⟨RX4, "logKind", "(I)I"⟩
def dkwX4_logKind_0 : List UInt8 := [42, 27, 3, 182, 1, 37, 172]
abbrev dktX4_logKind_0 : List UInt8 := dkwX4_logKind_0 ++ []
theorem dksX4_logKind_0 : cX4_logKind.data.toList.drop 0 = dktX4_logKind_0 := by decide +kernel
theorem dX4_logKind_0 : decode cX4_logKind 0 = .ok (.aload_n 0, 1) := dk_42 (dk_at dksX4_logKind_0 0 rfl rfl)
theorem dX4_logKind_1 : decode cX4_logKind 1 = .ok (.iload_n 1, 1) := dk_27 (dk_at dksX4_logKind_0 1 rfl rfl)
theorem dX4_logKind_2 : decode cX4_logKind 2 = .ok (.iconst 0, 1) := dk_3 (dk_at dksX4_logKind_0 2 rfl rfl)
theorem dX4_logKind_3 : decode cX4_logKind 3 = .ok (.invokevirtual 293, 3) := dk_182 1 37 (dk_at dksX4_logKind_0 3 rfl rfl)
theorem dX4_logKind_6 : decode cX4_logKind 6 = .ok (.ireturn, 1) := dk_172 (dk_at dksX4_logKind_0 6 rfl rfl)
abbrev cX4_entryAt : ByteArray := prog_19_method_85_code
def yX4_entryAt : MethodName := ⟨RX4, "entryAt", "(II)I"⟩
def dkwX4_entryAt_2 : List UInt8 := [104, 96, 28, 96, 46, 172]
abbrev dktX4_entryAt_2 : List UInt8 := dkwX4_entryAt_2 ++ []
def dkwX4_entryAt_1 : List UInt8 := [4, 181, 0, 62, 42, 180, 0, 62, 158, 0, 7, 3, 167, 0, 17, 42, 180, 0, 7, 17, 4, 76, 6, 27]
abbrev dktX4_entryAt_1 : List UInt8 := dkwX4_entryAt_1 ++ dktX4_entryAt_2
def dkwX4_entryAt_0 : List UInt8 := [42, 27, 133, 9, 42, 180, 0, 7, 16, 7, 46, 4, 100, 133, 184, 0, 72, 153, 0, 7, 3, 167, 0, 4]
abbrev dktX4_entryAt_0 : List UInt8 := dkwX4_entryAt_0 ++ dktX4_entryAt_1
theorem dksX4_entryAt_0 : cX4_entryAt.data.toList.drop 0 = dktX4_entryAt_0 := by decide +kernel
theorem dksX4_entryAt_1 : cX4_entryAt.data.toList.drop 24 = dktX4_entryAt_1 := dk_seg dksX4_entryAt_0 24 rfl rfl
theorem dksX4_entryAt_2 : cX4_entryAt.data.toList.drop 48 = dktX4_entryAt_2 := dk_seg dksX4_entryAt_1 24 rfl rfl
theorem dX4_entryAt_0 : decode cX4_entryAt 0 = .ok (.aload_n 0, 1) := dk_42 (dk_at dksX4_entryAt_0 0 rfl rfl)
theorem dX4_entryAt_1 : decode cX4_entryAt 1 = .ok (.iload_n 1, 1) := dk_27 (dk_at dksX4_entryAt_0 1 rfl rfl)
theorem dX4_entryAt_2 : decode cX4_entryAt 2 = .ok (.i2l, 1) := dk_133 (dk_at dksX4_entryAt_0 2 rfl rfl)
theorem dX4_entryAt_3 : decode cX4_entryAt 3 = .ok (.lconst 0, 1) := dk_9 (dk_at dksX4_entryAt_0 3 rfl rfl)
theorem dX4_entryAt_4 : decode cX4_entryAt 4 = .ok (.aload_n 0, 1) := dk_42 (dk_at dksX4_entryAt_0 4 rfl rfl)
theorem dX4_entryAt_5 : decode cX4_entryAt 5 = .ok (.getfield 7, 3) := dk_180 0 7 (dk_at dksX4_entryAt_0 5 rfl rfl)
theorem dX4_entryAt_8 : decode cX4_entryAt 8 = .ok (.bipush 7, 2) := dk_16 7 (dk_at dksX4_entryAt_0 8 rfl rfl)
theorem dX4_entryAt_10 : decode cX4_entryAt 10 = .ok (.iaload, 1) := dk_46 (dk_at dksX4_entryAt_0 10 rfl rfl)
theorem dX4_entryAt_11 : decode cX4_entryAt 11 = .ok (.iconst 1, 1) := dk_4 (dk_at dksX4_entryAt_0 11 rfl rfl)
theorem dX4_entryAt_12 : decode cX4_entryAt 12 = .ok (.isub, 1) := dk_100 (dk_at dksX4_entryAt_0 12 rfl rfl)
theorem dX4_entryAt_13 : decode cX4_entryAt 13 = .ok (.i2l, 1) := dk_133 (dk_at dksX4_entryAt_0 13 rfl rfl)
theorem dX4_entryAt_14 : decode cX4_entryAt 14 = .ok (.invokestatic 72, 3) := dk_184 0 72 (dk_at dksX4_entryAt_0 14 rfl rfl)
theorem dX4_entryAt_17 : decode cX4_entryAt 17 = .ok (.ifCond .eq 7, 3) := dk_153 0 7 (dk_at dksX4_entryAt_0 17 rfl rfl)
theorem dX4_entryAt_20 : decode cX4_entryAt 20 = .ok (.iconst 0, 1) := dk_3 (dk_at dksX4_entryAt_0 20 rfl rfl)
theorem dX4_entryAt_21 : decode cX4_entryAt 21 = .ok (.goto 4, 3) := dk_167 0 4 (dk_at dksX4_entryAt_0 21 rfl rfl)
theorem dX4_entryAt_24 : decode cX4_entryAt 24 = .ok (.iconst 1, 1) := dk_4 (dk_at dksX4_entryAt_1 0 rfl rfl)
theorem dX4_entryAt_25 : decode cX4_entryAt 25 = .ok (.putfield 62, 3) := dk_181 0 62 (dk_at dksX4_entryAt_1 1 rfl rfl)
theorem dX4_entryAt_28 : decode cX4_entryAt 28 = .ok (.aload_n 0, 1) := dk_42 (dk_at dksX4_entryAt_1 4 rfl rfl)
theorem dX4_entryAt_29 : decode cX4_entryAt 29 = .ok (.getfield 62, 3) := dk_180 0 62 (dk_at dksX4_entryAt_1 5 rfl rfl)
theorem dX4_entryAt_32 : decode cX4_entryAt 32 = .ok (.ifCond .le 7, 3) := dk_158 0 7 (dk_at dksX4_entryAt_1 8 rfl rfl)
theorem dX4_entryAt_35 : decode cX4_entryAt 35 = .ok (.iconst 0, 1) := dk_3 (dk_at dksX4_entryAt_1 11 rfl rfl)
theorem dX4_entryAt_36 : decode cX4_entryAt 36 = .ok (.goto 17, 3) := dk_167 0 17 (dk_at dksX4_entryAt_1 12 rfl rfl)
theorem dX4_entryAt_39 : decode cX4_entryAt 39 = .ok (.aload_n 0, 1) := dk_42 (dk_at dksX4_entryAt_1 15 rfl rfl)
theorem dX4_entryAt_40 : decode cX4_entryAt 40 = .ok (.getfield 7, 3) := dk_180 0 7 (dk_at dksX4_entryAt_1 16 rfl rfl)
theorem dX4_entryAt_43 : decode cX4_entryAt 43 = .ok (.sipush 1100, 3) := dk_17 4 76 (dk_at dksX4_entryAt_1 19 rfl rfl)
theorem dX4_entryAt_46 : decode cX4_entryAt 46 = .ok (.iconst 3, 1) := dk_6 (dk_at dksX4_entryAt_1 22 rfl rfl)
theorem dX4_entryAt_47 : decode cX4_entryAt 47 = .ok (.iload_n 1, 1) := dk_27 (dk_at dksX4_entryAt_1 23 rfl rfl)
theorem dX4_entryAt_48 : decode cX4_entryAt 48 = .ok (.imul, 1) := dk_104 (dk_at dksX4_entryAt_2 0 rfl rfl)
theorem dX4_entryAt_49 : decode cX4_entryAt 49 = .ok (.iadd, 1) := dk_96 (dk_at dksX4_entryAt_2 1 rfl rfl)
theorem dX4_entryAt_50 : decode cX4_entryAt 50 = .ok (.iload_n 2, 1) := dk_28 (dk_at dksX4_entryAt_2 2 rfl rfl)
theorem dX4_entryAt_51 : decode cX4_entryAt 51 = .ok (.iadd, 1) := dk_96 (dk_at dksX4_entryAt_2 3 rfl rfl)
theorem dX4_entryAt_52 : decode cX4_entryAt 52 = .ok (.iaload, 1) := dk_46 (dk_at dksX4_entryAt_2 4 rfl rfl)
theorem dX4_entryAt_53 : decode cX4_entryAt 53 = .ok (.ireturn, 1) := dk_172 (dk_at dksX4_entryAt_2 5 rfl rfl)
abbrev cX4_logLevel : ByteArray := prog_19_method_87_code
def yX4_logLevel : MethodName := ⟨RX4, "logLevel", "(I)I"⟩
def dkwX4_logLevel_0 : List UInt8 := [42, 27, 4, 182, 1, 37, 172]
abbrev dktX4_logLevel_0 : List UInt8 := dkwX4_logLevel_0 ++ []
theorem dksX4_logLevel_0 : cX4_logLevel.data.toList.drop 0 = dktX4_logLevel_0 := by decide +kernel
theorem dX4_logLevel_0 : decode cX4_logLevel 0 = .ok (.aload_n 0, 1) := dk_42 (dk_at dksX4_logLevel_0 0 rfl rfl)
theorem dX4_logLevel_1 : decode cX4_logLevel 1 = .ok (.iload_n 1, 1) := dk_27 (dk_at dksX4_logLevel_0 1 rfl rfl)
theorem dX4_logLevel_2 : decode cX4_logLevel 2 = .ok (.iconst 1, 1) := dk_4 (dk_at dksX4_logLevel_0 2 rfl rfl)
theorem dX4_logLevel_3 : decode cX4_logLevel 3 = .ok (.invokevirtual 293, 3) := dk_182 1 37 (dk_at dksX4_logLevel_0 3 rfl rfl)
theorem dX4_logLevel_6 : decode cX4_logLevel 6 = .ok (.ireturn, 1) := dk_172 (dk_at dksX4_logLevel_0 6 rfl rfl)
abbrev cX4_logKey : ByteArray := prog_19_method_88_code
def yX4_logKey : MethodName := ⟨RX4, "logKey", "(I)I"⟩
def dkwX4_logKey_0 : List UInt8 := [42, 27, 5, 182, 1, 37, 172]
abbrev dktX4_logKey_0 : List UInt8 := dkwX4_logKey_0 ++ []
theorem dksX4_logKey_0 : cX4_logKey.data.toList.drop 0 = dktX4_logKey_0 := by decide +kernel
theorem dX4_logKey_0 : decode cX4_logKey 0 = .ok (.aload_n 0, 1) := dk_42 (dk_at dksX4_logKey_0 0 rfl rfl)
theorem dX4_logKey_1 : decode cX4_logKey 1 = .ok (.iload_n 1, 1) := dk_27 (dk_at dksX4_logKey_0 1 rfl rfl)
theorem dX4_logKey_2 : decode cX4_logKey 2 = .ok (.iconst 2, 1) := dk_5 (dk_at dksX4_logKey_0 2 rfl rfl)
theorem dX4_logKey_3 : decode cX4_logKey 3 = .ok (.invokevirtual 293, 3) := dk_182 1 37 (dk_at dksX4_logKey_0 3 rfl rfl)
theorem dX4_logKey_6 : decode cX4_logKey 6 = .ok (.ireturn, 1) := dk_172 (dk_at dksX4_logKey_0 6 rfl rfl)
abbrev cX4_counter : ByteArray := prog_19_method_89_code
def yX4_counter : MethodName := ⟨RX4, "counter", "(I)I"⟩
def dkwX4_counter_1 : List UInt8 := [180, 0, 62, 158, 0, 7, 3, 167, 0, 11, 42, 180, 0, 7, 4, 27, 96, 46, 172]
abbrev dktX4_counter_1 : List UInt8 := dkwX4_counter_1 ++ []
def dkwX4_counter_0 : List UInt8 := [42, 27, 133, 9, 20, 0, 181, 184, 0, 72, 153, 0, 7, 3, 167, 0, 4, 4, 181, 0, 62, 42]
abbrev dktX4_counter_0 : List UInt8 := dkwX4_counter_0 ++ dktX4_counter_1
theorem dksX4_counter_0 : cX4_counter.data.toList.drop 0 = dktX4_counter_0 := by decide +kernel
theorem dksX4_counter_1 : cX4_counter.data.toList.drop 22 = dktX4_counter_1 := dk_seg dksX4_counter_0 22 rfl rfl
theorem dX4_counter_0 : decode cX4_counter 0 = .ok (.aload_n 0, 1) := dk_42 (dk_at dksX4_counter_0 0 rfl rfl)
theorem dX4_counter_1 : decode cX4_counter 1 = .ok (.iload_n 1, 1) := dk_27 (dk_at dksX4_counter_0 1 rfl rfl)
theorem dX4_counter_2 : decode cX4_counter 2 = .ok (.i2l, 1) := dk_133 (dk_at dksX4_counter_0 2 rfl rfl)
theorem dX4_counter_3 : decode cX4_counter 3 = .ok (.lconst 0, 1) := dk_9 (dk_at dksX4_counter_0 3 rfl rfl)
theorem dX4_counter_4 : decode cX4_counter 4 = .ok (.ldc2_w 181, 3) := dk_20 0 181 (dk_at dksX4_counter_0 4 rfl rfl)
theorem dX4_counter_7 : decode cX4_counter 7 = .ok (.invokestatic 72, 3) := dk_184 0 72 (dk_at dksX4_counter_0 7 rfl rfl)
theorem dX4_counter_10 : decode cX4_counter 10 = .ok (.ifCond .eq 7, 3) := dk_153 0 7 (dk_at dksX4_counter_0 10 rfl rfl)
theorem dX4_counter_13 : decode cX4_counter 13 = .ok (.iconst 0, 1) := dk_3 (dk_at dksX4_counter_0 13 rfl rfl)
theorem dX4_counter_14 : decode cX4_counter 14 = .ok (.goto 4, 3) := dk_167 0 4 (dk_at dksX4_counter_0 14 rfl rfl)
theorem dX4_counter_17 : decode cX4_counter 17 = .ok (.iconst 1, 1) := dk_4 (dk_at dksX4_counter_0 17 rfl rfl)
theorem dX4_counter_18 : decode cX4_counter 18 = .ok (.putfield 62, 3) := dk_181 0 62 (dk_at dksX4_counter_0 18 rfl rfl)
theorem dX4_counter_21 : decode cX4_counter 21 = .ok (.aload_n 0, 1) := dk_42 (dk_at dksX4_counter_0 21 rfl rfl)
theorem dX4_counter_22 : decode cX4_counter 22 = .ok (.getfield 62, 3) := dk_180 0 62 (dk_at dksX4_counter_1 0 rfl rfl)
theorem dX4_counter_25 : decode cX4_counter 25 = .ok (.ifCond .le 7, 3) := dk_158 0 7 (dk_at dksX4_counter_1 3 rfl rfl)
theorem dX4_counter_28 : decode cX4_counter 28 = .ok (.iconst 0, 1) := dk_3 (dk_at dksX4_counter_1 6 rfl rfl)
theorem dX4_counter_29 : decode cX4_counter 29 = .ok (.goto 11, 3) := dk_167 0 11 (dk_at dksX4_counter_1 7 rfl rfl)
theorem dX4_counter_32 : decode cX4_counter 32 = .ok (.aload_n 0, 1) := dk_42 (dk_at dksX4_counter_1 10 rfl rfl)
theorem dX4_counter_33 : decode cX4_counter 33 = .ok (.getfield 7, 3) := dk_180 0 7 (dk_at dksX4_counter_1 11 rfl rfl)
theorem dX4_counter_36 : decode cX4_counter 36 = .ok (.iconst 1, 1) := dk_4 (dk_at dksX4_counter_1 14 rfl rfl)
theorem dX4_counter_37 : decode cX4_counter 37 = .ok (.iload_n 1, 1) := dk_27 (dk_at dksX4_counter_1 15 rfl rfl)
theorem dX4_counter_38 : decode cX4_counter 38 = .ok (.iadd, 1) := dk_96 (dk_at dksX4_counter_1 16 rfl rfl)
theorem dX4_counter_39 : decode cX4_counter 39 = .ok (.iaload, 1) := dk_46 (dk_at dksX4_counter_1 17 rfl rfl)
theorem dX4_counter_40 : decode cX4_counter 40 = .ok (.ireturn, 1) := dk_172 (dk_at dksX4_counter_1 18 rfl rfl)
abbrev cX4_create : ByteArray := prog_19_method_94_code
def yX4_create : MethodName := ⟨RX4, "create", "()I"⟩
def dkwX4_create_1 : List UInt8 := [158, 0, 5, 3, 172, 42, 182, 1, 43, 42, 27, 182, 1, 46, 27, 172]
abbrev dktX4_create_1 : List UInt8 := dkwX4_create_1 ++ []
def dkwX4_create_0 : List UInt8 := [42, 182, 1, 40, 60, 42, 27, 156, 0, 7, 4, 167, 0, 4, 3, 181, 0, 62, 42, 180, 0, 62]
abbrev dktX4_create_0 : List UInt8 := dkwX4_create_0 ++ dktX4_create_1
theorem dksX4_create_0 : cX4_create.data.toList.drop 0 = dktX4_create_0 := by decide +kernel
theorem dksX4_create_1 : cX4_create.data.toList.drop 22 = dktX4_create_1 := dk_seg dksX4_create_0 22 rfl rfl
theorem dX4_create_0 : decode cX4_create 0 = .ok (.aload_n 0, 1) := dk_42 (dk_at dksX4_create_0 0 rfl rfl)
theorem dX4_create_1 : decode cX4_create 1 = .ok (.invokevirtual 296, 3) := dk_182 1 40 (dk_at dksX4_create_0 1 rfl rfl)
theorem dX4_create_4 : decode cX4_create 4 = .ok (.istore_n 1, 1) := dk_60 (dk_at dksX4_create_0 4 rfl rfl)
theorem dX4_create_5 : decode cX4_create 5 = .ok (.aload_n 0, 1) := dk_42 (dk_at dksX4_create_0 5 rfl rfl)
theorem dX4_create_6 : decode cX4_create 6 = .ok (.iload_n 1, 1) := dk_27 (dk_at dksX4_create_0 6 rfl rfl)
theorem dX4_create_7 : decode cX4_create 7 = .ok (.ifCond .ge 7, 3) := dk_156 0 7 (dk_at dksX4_create_0 7 rfl rfl)
theorem dX4_create_10 : decode cX4_create 10 = .ok (.iconst 1, 1) := dk_4 (dk_at dksX4_create_0 10 rfl rfl)
theorem dX4_create_11 : decode cX4_create 11 = .ok (.goto 4, 3) := dk_167 0 4 (dk_at dksX4_create_0 11 rfl rfl)
theorem dX4_create_14 : decode cX4_create 14 = .ok (.iconst 0, 1) := dk_3 (dk_at dksX4_create_0 14 rfl rfl)
theorem dX4_create_15 : decode cX4_create 15 = .ok (.putfield 62, 3) := dk_181 0 62 (dk_at dksX4_create_0 15 rfl rfl)
theorem dX4_create_18 : decode cX4_create 18 = .ok (.aload_n 0, 1) := dk_42 (dk_at dksX4_create_0 18 rfl rfl)
theorem dX4_create_19 : decode cX4_create 19 = .ok (.getfield 62, 3) := dk_180 0 62 (dk_at dksX4_create_0 19 rfl rfl)
theorem dX4_create_22 : decode cX4_create 22 = .ok (.ifCond .le 5, 3) := dk_158 0 5 (dk_at dksX4_create_1 0 rfl rfl)
theorem dX4_create_25 : decode cX4_create 25 = .ok (.iconst 0, 1) := dk_3 (dk_at dksX4_create_1 3 rfl rfl)
theorem dX4_create_26 : decode cX4_create 26 = .ok (.ireturn, 1) := dk_172 (dk_at dksX4_create_1 4 rfl rfl)
theorem dX4_create_27 : decode cX4_create 27 = .ok (.aload_n 0, 1) := dk_42 (dk_at dksX4_create_1 5 rfl rfl)
theorem dX4_create_28 : decode cX4_create 28 = .ok (.invokevirtual 299, 3) := dk_182 1 43 (dk_at dksX4_create_1 6 rfl rfl)
theorem dX4_create_31 : decode cX4_create 31 = .ok (.aload_n 0, 1) := dk_42 (dk_at dksX4_create_1 9 rfl rfl)
theorem dX4_create_32 : decode cX4_create 32 = .ok (.iload_n 1, 1) := dk_27 (dk_at dksX4_create_1 10 rfl rfl)
theorem dX4_create_33 : decode cX4_create 33 = .ok (.invokevirtual 302, 3) := dk_182 1 46 (dk_at dksX4_create_1 11 rfl rfl)
theorem dX4_create_36 : decode cX4_create 36 = .ok (.iload_n 1, 1) := dk_27 (dk_at dksX4_create_1 14 rfl rfl)
theorem dX4_create_37 : decode cX4_create 37 = .ok (.ireturn, 1) := dk_172 (dk_at dksX4_create_1 15 rfl rfl)
abbrev cX4_spare : ByteArray := prog_19_method_91_code
def yX4_spare : MethodName := ⟨RX4, "spare", "()I"⟩
def dkwX4_spare_1 : List UInt8 := [132, 1, 1, 167, 255, 231, 2, 172]
abbrev dktX4_spare_1 : List UInt8 := dkwX4_spare_1 ++ []
def dkwX4_spare_0 : List UInt8 := [3, 60, 27, 16, 6, 162, 0, 25, 42, 180, 0, 7, 27, 184, 0, 171, 3, 96, 46, 154, 0, 5, 27, 172]
abbrev dktX4_spare_0 : List UInt8 := dkwX4_spare_0 ++ dktX4_spare_1
theorem dksX4_spare_0 : cX4_spare.data.toList.drop 0 = dktX4_spare_0 := by decide +kernel
theorem dksX4_spare_1 : cX4_spare.data.toList.drop 24 = dktX4_spare_1 := dk_seg dksX4_spare_0 24 rfl rfl
theorem dX4_spare_0 : decode cX4_spare 0 = .ok (.iconst 0, 1) := dk_3 (dk_at dksX4_spare_0 0 rfl rfl)
theorem dX4_spare_1 : decode cX4_spare 1 = .ok (.istore_n 1, 1) := dk_60 (dk_at dksX4_spare_0 1 rfl rfl)
theorem dX4_spare_2 : decode cX4_spare 2 = .ok (.iload_n 1, 1) := dk_27 (dk_at dksX4_spare_0 2 rfl rfl)
theorem dX4_spare_3 : decode cX4_spare 3 = .ok (.bipush 6, 2) := dk_16 6 (dk_at dksX4_spare_0 3 rfl rfl)
theorem dX4_spare_5 : decode cX4_spare 5 = .ok (.if_icmp .ge 25, 3) := dk_162 0 25 (dk_at dksX4_spare_0 5 rfl rfl)
theorem dX4_spare_8 : decode cX4_spare 8 = .ok (.aload_n 0, 1) := dk_42 (dk_at dksX4_spare_0 8 rfl rfl)
theorem dX4_spare_9 : decode cX4_spare 9 = .ok (.getfield 7, 3) := dk_180 0 7 (dk_at dksX4_spare_0 9 rfl rfl)
theorem dX4_spare_12 : decode cX4_spare 12 = .ok (.iload_n 1, 1) := dk_27 (dk_at dksX4_spare_0 12 rfl rfl)
theorem dX4_spare_13 : decode cX4_spare 13 = .ok (.invokestatic 171, 3) := dk_184 0 171 (dk_at dksX4_spare_0 13 rfl rfl)
theorem dX4_spare_16 : decode cX4_spare 16 = .ok (.iconst 0, 1) := dk_3 (dk_at dksX4_spare_0 16 rfl rfl)
theorem dX4_spare_17 : decode cX4_spare 17 = .ok (.iadd, 1) := dk_96 (dk_at dksX4_spare_0 17 rfl rfl)
theorem dX4_spare_18 : decode cX4_spare 18 = .ok (.iaload, 1) := dk_46 (dk_at dksX4_spare_0 18 rfl rfl)
theorem dX4_spare_19 : decode cX4_spare 19 = .ok (.ifCond .ne 5, 3) := dk_154 0 5 (dk_at dksX4_spare_0 19 rfl rfl)
theorem dX4_spare_22 : decode cX4_spare 22 = .ok (.iload_n 1, 1) := dk_27 (dk_at dksX4_spare_0 22 rfl rfl)
theorem dX4_spare_23 : decode cX4_spare 23 = .ok (.ireturn, 1) := dk_172 (dk_at dksX4_spare_0 23 rfl rfl)
theorem dX4_spare_24 : decode cX4_spare 24 = .ok (.iinc 1 1, 3) := dk_132 1 1 (dk_at dksX4_spare_1 0 rfl rfl)
theorem dX4_spare_27 : decode cX4_spare 27 = .ok (.goto (-25), 3) := dk_167 255 231 (dk_at dksX4_spare_1 3 rfl rfl)
theorem dX4_spare_30 : decode cX4_spare 30 = .ok (.iconst (-1), 1) := dk_2 (dk_at dksX4_spare_1 6 rfl rfl)
theorem dX4_spare_31 : decode cX4_spare 31 = .ok (.ireturn, 1) := dk_172 (dk_at dksX4_spare_1 7 rfl rfl)
abbrev cX4_keeps : ByteArray := prog_19_method_90_code
def yX4_keeps : MethodName := ⟨RX4, "keeps", "()V"⟩
def dkwX4_keeps_7 : List UInt8 := [16, 7, 3, 79, 42, 180, 0, 7, 16, 6, 92, 46, 4, 96, 79, 177]
abbrev dktX4_keeps_7 : List UInt8 := dkwX4_keeps_7 ++ []
def dkwX4_keeps_6 : List UInt8 := [27, 47, 80, 132, 1, 1, 167, 255, 227, 42, 89, 180, 0, 178, 4, 96, 181, 0, 178, 42, 180, 0, 7]
abbrev dktX4_keeps_6 : List UInt8 := dkwX4_keeps_6 ++ dktX4_keeps_7
def dkwX4_keeps_5 : List UInt8 := [60, 27, 16, 6, 162, 0, 29, 42, 180, 0, 21, 16, 6, 42, 180, 0, 178, 104, 27, 96, 42, 180, 0, 13]
abbrev dktX4_keeps_5 : List UInt8 := dkwX4_keeps_5 ++ dktX4_keeps_6
def dkwX4_keeps_4 : List UInt8 := [17, 16, 4, 42, 180, 0, 178, 104, 27, 96, 42, 180, 0, 7, 27, 46, 79, 132, 1, 1, 167, 255, 225, 3]
abbrev dktX4_keeps_4 : List UInt8 := dkwX4_keeps_4 ++ dktX4_keeps_5
def dkwX4_keeps_3 : List UInt8 := [42, 89, 180, 0, 178, 4, 100, 181, 0, 178, 3, 60, 27, 17, 16, 4, 162, 0, 30, 42, 180, 0, 18]
abbrev dktX4_keeps_3 : List UInt8 := dkwX4_keeps_3 ++ dktX4_keeps_4
def dkwX4_keeps_2 : List UInt8 := [162, 0, 24, 42, 180, 0, 21, 27, 16, 6, 100, 42, 180, 0, 21, 27, 47, 80, 132, 1, 1, 167, 255, 232]
abbrev dktX4_keeps_2 : List UInt8 := dkwX4_keeps_2 ++ dktX4_keeps_3
def dkwX4_keeps_1 : List UInt8 := [17, 16, 4, 100, 42, 180, 0, 18, 27, 46, 79, 132, 1, 1, 167, 255, 231, 16, 6, 60, 27, 16, 60]
abbrev dktX4_keeps_1 : List UInt8 := dkwX4_keeps_1 ++ dktX4_keeps_2
def dkwX4_keeps_0 : List UInt8 := [42, 180, 0, 178, 16, 10, 160, 0, 75, 17, 16, 4, 60, 27, 18, 17, 162, 0, 25, 42, 180, 0, 18, 27]
abbrev dktX4_keeps_0 : List UInt8 := dkwX4_keeps_0 ++ dktX4_keeps_1
theorem dksX4_keeps_0 : cX4_keeps.data.toList.drop 0 = dktX4_keeps_0 := by decide +kernel
theorem dksX4_keeps_1 : cX4_keeps.data.toList.drop 24 = dktX4_keeps_1 := dk_seg dksX4_keeps_0 24 rfl rfl
theorem dksX4_keeps_2 : cX4_keeps.data.toList.drop 47 = dktX4_keeps_2 := dk_seg dksX4_keeps_1 23 rfl rfl
theorem dksX4_keeps_3 : cX4_keeps.data.toList.drop 71 = dktX4_keeps_3 := dk_seg dksX4_keeps_2 24 rfl rfl
theorem dksX4_keeps_4 : cX4_keeps.data.toList.drop 94 = dktX4_keeps_4 := dk_seg dksX4_keeps_3 23 rfl rfl
theorem dksX4_keeps_5 : cX4_keeps.data.toList.drop 118 = dktX4_keeps_5 := dk_seg dksX4_keeps_4 24 rfl rfl
theorem dksX4_keeps_6 : cX4_keeps.data.toList.drop 142 = dktX4_keeps_6 := dk_seg dksX4_keeps_5 24 rfl rfl
theorem dksX4_keeps_7 : cX4_keeps.data.toList.drop 165 = dktX4_keeps_7 := dk_seg dksX4_keeps_6 23 rfl rfl
theorem dX4_keeps_0 : decode cX4_keeps 0 = .ok (.aload_n 0, 1) := dk_42 (dk_at dksX4_keeps_0 0 rfl rfl)
theorem dX4_keeps_1 : decode cX4_keeps 1 = .ok (.getfield 178, 3) := dk_180 0 178 (dk_at dksX4_keeps_0 1 rfl rfl)
theorem dX4_keeps_4 : decode cX4_keeps 4 = .ok (.bipush 10, 2) := dk_16 10 (dk_at dksX4_keeps_0 4 rfl rfl)
theorem dX4_keeps_6 : decode cX4_keeps 6 = .ok (.if_icmp .ne 75, 3) := dk_160 0 75 (dk_at dksX4_keeps_0 6 rfl rfl)
theorem dX4_keeps_9 : decode cX4_keeps 9 = .ok (.sipush 4100, 3) := dk_17 16 4 (dk_at dksX4_keeps_0 9 rfl rfl)
theorem dX4_keeps_12 : decode cX4_keeps 12 = .ok (.istore_n 1, 1) := dk_60 (dk_at dksX4_keeps_0 12 rfl rfl)
theorem dX4_keeps_13 : decode cX4_keeps 13 = .ok (.iload_n 1, 1) := dk_27 (dk_at dksX4_keeps_0 13 rfl rfl)
theorem dX4_keeps_14 : decode cX4_keeps 14 = .ok (.ldc 17, 2) := dk_18 17 (dk_at dksX4_keeps_0 14 rfl rfl)
theorem dX4_keeps_16 : decode cX4_keeps 16 = .ok (.if_icmp .ge 25, 3) := dk_162 0 25 (dk_at dksX4_keeps_0 16 rfl rfl)
theorem dX4_keeps_19 : decode cX4_keeps 19 = .ok (.aload_n 0, 1) := dk_42 (dk_at dksX4_keeps_0 19 rfl rfl)
theorem dX4_keeps_20 : decode cX4_keeps 20 = .ok (.getfield 18, 3) := dk_180 0 18 (dk_at dksX4_keeps_0 20 rfl rfl)
theorem dX4_keeps_23 : decode cX4_keeps 23 = .ok (.iload_n 1, 1) := dk_27 (dk_at dksX4_keeps_0 23 rfl rfl)
theorem dX4_keeps_24 : decode cX4_keeps 24 = .ok (.sipush 4100, 3) := dk_17 16 4 (dk_at dksX4_keeps_1 0 rfl rfl)
theorem dX4_keeps_27 : decode cX4_keeps 27 = .ok (.isub, 1) := dk_100 (dk_at dksX4_keeps_1 3 rfl rfl)
theorem dX4_keeps_28 : decode cX4_keeps 28 = .ok (.aload_n 0, 1) := dk_42 (dk_at dksX4_keeps_1 4 rfl rfl)
theorem dX4_keeps_29 : decode cX4_keeps 29 = .ok (.getfield 18, 3) := dk_180 0 18 (dk_at dksX4_keeps_1 5 rfl rfl)
theorem dX4_keeps_32 : decode cX4_keeps 32 = .ok (.iload_n 1, 1) := dk_27 (dk_at dksX4_keeps_1 8 rfl rfl)
theorem dX4_keeps_33 : decode cX4_keeps 33 = .ok (.iaload, 1) := dk_46 (dk_at dksX4_keeps_1 9 rfl rfl)
theorem dX4_keeps_34 : decode cX4_keeps 34 = .ok (.iastore, 1) := dk_79 (dk_at dksX4_keeps_1 10 rfl rfl)
theorem dX4_keeps_35 : decode cX4_keeps 35 = .ok (.iinc 1 1, 3) := dk_132 1 1 (dk_at dksX4_keeps_1 11 rfl rfl)
theorem dX4_keeps_38 : decode cX4_keeps 38 = .ok (.goto (-25), 3) := dk_167 255 231 (dk_at dksX4_keeps_1 14 rfl rfl)
theorem dX4_keeps_41 : decode cX4_keeps 41 = .ok (.bipush 6, 2) := dk_16 6 (dk_at dksX4_keeps_1 17 rfl rfl)
theorem dX4_keeps_43 : decode cX4_keeps 43 = .ok (.istore_n 1, 1) := dk_60 (dk_at dksX4_keeps_1 19 rfl rfl)
theorem dX4_keeps_44 : decode cX4_keeps 44 = .ok (.iload_n 1, 1) := dk_27 (dk_at dksX4_keeps_1 20 rfl rfl)
theorem dX4_keeps_45 : decode cX4_keeps 45 = .ok (.bipush 60, 2) := dk_16 60 (dk_at dksX4_keeps_1 21 rfl rfl)
theorem dX4_keeps_47 : decode cX4_keeps 47 = .ok (.if_icmp .ge 24, 3) := dk_162 0 24 (dk_at dksX4_keeps_2 0 rfl rfl)
theorem dX4_keeps_50 : decode cX4_keeps 50 = .ok (.aload_n 0, 1) := dk_42 (dk_at dksX4_keeps_2 3 rfl rfl)
theorem dX4_keeps_51 : decode cX4_keeps 51 = .ok (.getfield 21, 3) := dk_180 0 21 (dk_at dksX4_keeps_2 4 rfl rfl)
theorem dX4_keeps_54 : decode cX4_keeps 54 = .ok (.iload_n 1, 1) := dk_27 (dk_at dksX4_keeps_2 7 rfl rfl)
theorem dX4_keeps_55 : decode cX4_keeps 55 = .ok (.bipush 6, 2) := dk_16 6 (dk_at dksX4_keeps_2 8 rfl rfl)
theorem dX4_keeps_57 : decode cX4_keeps 57 = .ok (.isub, 1) := dk_100 (dk_at dksX4_keeps_2 10 rfl rfl)
theorem dX4_keeps_58 : decode cX4_keeps 58 = .ok (.aload_n 0, 1) := dk_42 (dk_at dksX4_keeps_2 11 rfl rfl)
theorem dX4_keeps_59 : decode cX4_keeps 59 = .ok (.getfield 21, 3) := dk_180 0 21 (dk_at dksX4_keeps_2 12 rfl rfl)
theorem dX4_keeps_62 : decode cX4_keeps 62 = .ok (.iload_n 1, 1) := dk_27 (dk_at dksX4_keeps_2 15 rfl rfl)
theorem dX4_keeps_63 : decode cX4_keeps 63 = .ok (.laload, 1) := dk_47 (dk_at dksX4_keeps_2 16 rfl rfl)
theorem dX4_keeps_64 : decode cX4_keeps 64 = .ok (.lastore, 1) := dk_80 (dk_at dksX4_keeps_2 17 rfl rfl)
theorem dX4_keeps_65 : decode cX4_keeps 65 = .ok (.iinc 1 1, 3) := dk_132 1 1 (dk_at dksX4_keeps_2 18 rfl rfl)
theorem dX4_keeps_68 : decode cX4_keeps 68 = .ok (.goto (-24), 3) := dk_167 255 232 (dk_at dksX4_keeps_2 21 rfl rfl)
theorem dX4_keeps_71 : decode cX4_keeps 71 = .ok (.aload_n 0, 1) := dk_42 (dk_at dksX4_keeps_3 0 rfl rfl)
theorem dX4_keeps_72 : decode cX4_keeps 72 = .ok (.dup, 1) := dk_89 (dk_at dksX4_keeps_3 1 rfl rfl)
theorem dX4_keeps_73 : decode cX4_keeps 73 = .ok (.getfield 178, 3) := dk_180 0 178 (dk_at dksX4_keeps_3 2 rfl rfl)
theorem dX4_keeps_76 : decode cX4_keeps 76 = .ok (.iconst 1, 1) := dk_4 (dk_at dksX4_keeps_3 5 rfl rfl)
theorem dX4_keeps_77 : decode cX4_keeps 77 = .ok (.isub, 1) := dk_100 (dk_at dksX4_keeps_3 6 rfl rfl)
theorem dX4_keeps_78 : decode cX4_keeps 78 = .ok (.putfield 178, 3) := dk_181 0 178 (dk_at dksX4_keeps_3 7 rfl rfl)
theorem dX4_keeps_81 : decode cX4_keeps 81 = .ok (.iconst 0, 1) := dk_3 (dk_at dksX4_keeps_3 10 rfl rfl)
theorem dX4_keeps_82 : decode cX4_keeps 82 = .ok (.istore_n 1, 1) := dk_60 (dk_at dksX4_keeps_3 11 rfl rfl)
theorem dX4_keeps_83 : decode cX4_keeps 83 = .ok (.iload_n 1, 1) := dk_27 (dk_at dksX4_keeps_3 12 rfl rfl)
theorem dX4_keeps_84 : decode cX4_keeps 84 = .ok (.sipush 4100, 3) := dk_17 16 4 (dk_at dksX4_keeps_3 13 rfl rfl)
theorem dX4_keeps_87 : decode cX4_keeps 87 = .ok (.if_icmp .ge 30, 3) := dk_162 0 30 (dk_at dksX4_keeps_3 16 rfl rfl)
theorem dX4_keeps_90 : decode cX4_keeps 90 = .ok (.aload_n 0, 1) := dk_42 (dk_at dksX4_keeps_3 19 rfl rfl)
theorem dX4_keeps_91 : decode cX4_keeps 91 = .ok (.getfield 18, 3) := dk_180 0 18 (dk_at dksX4_keeps_3 20 rfl rfl)
theorem dX4_keeps_94 : decode cX4_keeps 94 = .ok (.sipush 4100, 3) := dk_17 16 4 (dk_at dksX4_keeps_4 0 rfl rfl)
theorem dX4_keeps_97 : decode cX4_keeps 97 = .ok (.aload_n 0, 1) := dk_42 (dk_at dksX4_keeps_4 3 rfl rfl)
theorem dX4_keeps_98 : decode cX4_keeps 98 = .ok (.getfield 178, 3) := dk_180 0 178 (dk_at dksX4_keeps_4 4 rfl rfl)
theorem dX4_keeps_101 : decode cX4_keeps 101 = .ok (.imul, 1) := dk_104 (dk_at dksX4_keeps_4 7 rfl rfl)
theorem dX4_keeps_102 : decode cX4_keeps 102 = .ok (.iload_n 1, 1) := dk_27 (dk_at dksX4_keeps_4 8 rfl rfl)
theorem dX4_keeps_103 : decode cX4_keeps 103 = .ok (.iadd, 1) := dk_96 (dk_at dksX4_keeps_4 9 rfl rfl)
theorem dX4_keeps_104 : decode cX4_keeps 104 = .ok (.aload_n 0, 1) := dk_42 (dk_at dksX4_keeps_4 10 rfl rfl)
theorem dX4_keeps_105 : decode cX4_keeps 105 = .ok (.getfield 7, 3) := dk_180 0 7 (dk_at dksX4_keeps_4 11 rfl rfl)
theorem dX4_keeps_108 : decode cX4_keeps 108 = .ok (.iload_n 1, 1) := dk_27 (dk_at dksX4_keeps_4 14 rfl rfl)
theorem dX4_keeps_109 : decode cX4_keeps 109 = .ok (.iaload, 1) := dk_46 (dk_at dksX4_keeps_4 15 rfl rfl)
theorem dX4_keeps_110 : decode cX4_keeps 110 = .ok (.iastore, 1) := dk_79 (dk_at dksX4_keeps_4 16 rfl rfl)
theorem dX4_keeps_111 : decode cX4_keeps 111 = .ok (.iinc 1 1, 3) := dk_132 1 1 (dk_at dksX4_keeps_4 17 rfl rfl)
theorem dX4_keeps_114 : decode cX4_keeps 114 = .ok (.goto (-31), 3) := dk_167 255 225 (dk_at dksX4_keeps_4 20 rfl rfl)
theorem dX4_keeps_117 : decode cX4_keeps 117 = .ok (.iconst 0, 1) := dk_3 (dk_at dksX4_keeps_4 23 rfl rfl)
theorem dX4_keeps_118 : decode cX4_keeps 118 = .ok (.istore_n 1, 1) := dk_60 (dk_at dksX4_keeps_5 0 rfl rfl)
theorem dX4_keeps_119 : decode cX4_keeps 119 = .ok (.iload_n 1, 1) := dk_27 (dk_at dksX4_keeps_5 1 rfl rfl)
theorem dX4_keeps_120 : decode cX4_keeps 120 = .ok (.bipush 6, 2) := dk_16 6 (dk_at dksX4_keeps_5 2 rfl rfl)
theorem dX4_keeps_122 : decode cX4_keeps 122 = .ok (.if_icmp .ge 29, 3) := dk_162 0 29 (dk_at dksX4_keeps_5 4 rfl rfl)
theorem dX4_keeps_125 : decode cX4_keeps 125 = .ok (.aload_n 0, 1) := dk_42 (dk_at dksX4_keeps_5 7 rfl rfl)
theorem dX4_keeps_126 : decode cX4_keeps 126 = .ok (.getfield 21, 3) := dk_180 0 21 (dk_at dksX4_keeps_5 8 rfl rfl)
theorem dX4_keeps_129 : decode cX4_keeps 129 = .ok (.bipush 6, 2) := dk_16 6 (dk_at dksX4_keeps_5 11 rfl rfl)
theorem dX4_keeps_131 : decode cX4_keeps 131 = .ok (.aload_n 0, 1) := dk_42 (dk_at dksX4_keeps_5 13 rfl rfl)
theorem dX4_keeps_132 : decode cX4_keeps 132 = .ok (.getfield 178, 3) := dk_180 0 178 (dk_at dksX4_keeps_5 14 rfl rfl)
theorem dX4_keeps_135 : decode cX4_keeps 135 = .ok (.imul, 1) := dk_104 (dk_at dksX4_keeps_5 17 rfl rfl)
theorem dX4_keeps_136 : decode cX4_keeps 136 = .ok (.iload_n 1, 1) := dk_27 (dk_at dksX4_keeps_5 18 rfl rfl)
theorem dX4_keeps_137 : decode cX4_keeps 137 = .ok (.iadd, 1) := dk_96 (dk_at dksX4_keeps_5 19 rfl rfl)
theorem dX4_keeps_138 : decode cX4_keeps 138 = .ok (.aload_n 0, 1) := dk_42 (dk_at dksX4_keeps_5 20 rfl rfl)
theorem dX4_keeps_139 : decode cX4_keeps 139 = .ok (.getfield 13, 3) := dk_180 0 13 (dk_at dksX4_keeps_5 21 rfl rfl)
theorem dX4_keeps_142 : decode cX4_keeps 142 = .ok (.iload_n 1, 1) := dk_27 (dk_at dksX4_keeps_6 0 rfl rfl)
theorem dX4_keeps_143 : decode cX4_keeps 143 = .ok (.laload, 1) := dk_47 (dk_at dksX4_keeps_6 1 rfl rfl)
theorem dX4_keeps_144 : decode cX4_keeps 144 = .ok (.lastore, 1) := dk_80 (dk_at dksX4_keeps_6 2 rfl rfl)
theorem dX4_keeps_145 : decode cX4_keeps 145 = .ok (.iinc 1 1, 3) := dk_132 1 1 (dk_at dksX4_keeps_6 3 rfl rfl)
theorem dX4_keeps_148 : decode cX4_keeps 148 = .ok (.goto (-29), 3) := dk_167 255 227 (dk_at dksX4_keeps_6 6 rfl rfl)
theorem dX4_keeps_151 : decode cX4_keeps 151 = .ok (.aload_n 0, 1) := dk_42 (dk_at dksX4_keeps_6 9 rfl rfl)
theorem dX4_keeps_152 : decode cX4_keeps 152 = .ok (.dup, 1) := dk_89 (dk_at dksX4_keeps_6 10 rfl rfl)
theorem dX4_keeps_153 : decode cX4_keeps 153 = .ok (.getfield 178, 3) := dk_180 0 178 (dk_at dksX4_keeps_6 11 rfl rfl)
theorem dX4_keeps_156 : decode cX4_keeps 156 = .ok (.iconst 1, 1) := dk_4 (dk_at dksX4_keeps_6 14 rfl rfl)
theorem dX4_keeps_157 : decode cX4_keeps 157 = .ok (.iadd, 1) := dk_96 (dk_at dksX4_keeps_6 15 rfl rfl)
theorem dX4_keeps_158 : decode cX4_keeps 158 = .ok (.putfield 178, 3) := dk_181 0 178 (dk_at dksX4_keeps_6 16 rfl rfl)
theorem dX4_keeps_161 : decode cX4_keeps 161 = .ok (.aload_n 0, 1) := dk_42 (dk_at dksX4_keeps_6 19 rfl rfl)
theorem dX4_keeps_162 : decode cX4_keeps 162 = .ok (.getfield 7, 3) := dk_180 0 7 (dk_at dksX4_keeps_6 20 rfl rfl)
theorem dX4_keeps_165 : decode cX4_keeps 165 = .ok (.bipush 7, 2) := dk_16 7 (dk_at dksX4_keeps_7 0 rfl rfl)
theorem dX4_keeps_167 : decode cX4_keeps 167 = .ok (.iconst 0, 1) := dk_3 (dk_at dksX4_keeps_7 2 rfl rfl)
theorem dX4_keeps_168 : decode cX4_keeps 168 = .ok (.iastore, 1) := dk_79 (dk_at dksX4_keeps_7 3 rfl rfl)
theorem dX4_keeps_169 : decode cX4_keeps 169 = .ok (.aload_n 0, 1) := dk_42 (dk_at dksX4_keeps_7 4 rfl rfl)
theorem dX4_keeps_170 : decode cX4_keeps 170 = .ok (.getfield 7, 3) := dk_180 0 7 (dk_at dksX4_keeps_7 5 rfl rfl)
theorem dX4_keeps_173 : decode cX4_keeps 173 = .ok (.bipush 6, 2) := dk_16 6 (dk_at dksX4_keeps_7 8 rfl rfl)
theorem dX4_keeps_175 : decode cX4_keeps 175 = .ok (.dup2, 1) := dk_92 (dk_at dksX4_keeps_7 10 rfl rfl)
theorem dX4_keeps_176 : decode cX4_keeps 176 = .ok (.iaload, 1) := dk_46 (dk_at dksX4_keeps_7 11 rfl rfl)
theorem dX4_keeps_177 : decode cX4_keeps 177 = .ok (.iconst 1, 1) := dk_4 (dk_at dksX4_keeps_7 12 rfl rfl)
theorem dX4_keeps_178 : decode cX4_keeps 178 = .ok (.iadd, 1) := dk_96 (dk_at dksX4_keeps_7 13 rfl rfl)
theorem dX4_keeps_179 : decode cX4_keeps 179 = .ok (.iastore, 1) := dk_79 (dk_at dksX4_keeps_7 14 rfl rfl)
theorem dX4_keeps_180 : decode cX4_keeps 180 = .ok (.return_, 1) := dk_177 (dk_at dksX4_keeps_7 15 rfl rfl)
abbrev cX4_begins : ByteArray := prog_19_method_92_code
def yX4_begins : MethodName := ⟨RX4, "begins", "(I)V"⟩
def dkwX4_begins_1 : List UInt8 := [132, 3, 1, 167, 255, 237, 42, 180, 0, 7, 28, 3, 96, 4, 79, 42, 180, 0, 13, 27, 9, 80, 177]
abbrev dktX4_begins_1 : List UInt8 := dkwX4_begins_1 ++ []
def dkwX4_begins_0 : List UInt8 := [27, 184, 0, 171, 61, 3, 62, 29, 17, 0, 182, 162, 0, 18, 42, 180, 0, 7, 28, 29, 96, 3, 79]
abbrev dktX4_begins_0 : List UInt8 := dkwX4_begins_0 ++ dktX4_begins_1
theorem dksX4_begins_0 : cX4_begins.data.toList.drop 0 = dktX4_begins_0 := by decide +kernel
theorem dksX4_begins_1 : cX4_begins.data.toList.drop 23 = dktX4_begins_1 := dk_seg dksX4_begins_0 23 rfl rfl
theorem dX4_begins_0 : decode cX4_begins 0 = .ok (.iload_n 1, 1) := dk_27 (dk_at dksX4_begins_0 0 rfl rfl)
theorem dX4_begins_1 : decode cX4_begins 1 = .ok (.invokestatic 171, 3) := dk_184 0 171 (dk_at dksX4_begins_0 1 rfl rfl)
theorem dX4_begins_4 : decode cX4_begins 4 = .ok (.istore_n 2, 1) := dk_61 (dk_at dksX4_begins_0 4 rfl rfl)
theorem dX4_begins_5 : decode cX4_begins 5 = .ok (.iconst 0, 1) := dk_3 (dk_at dksX4_begins_0 5 rfl rfl)
theorem dX4_begins_6 : decode cX4_begins 6 = .ok (.istore_n 3, 1) := dk_62 (dk_at dksX4_begins_0 6 rfl rfl)
theorem dX4_begins_7 : decode cX4_begins 7 = .ok (.iload_n 3, 1) := dk_29 (dk_at dksX4_begins_0 7 rfl rfl)
theorem dX4_begins_8 : decode cX4_begins 8 = .ok (.sipush 182, 3) := dk_17 0 182 (dk_at dksX4_begins_0 8 rfl rfl)
theorem dX4_begins_11 : decode cX4_begins 11 = .ok (.if_icmp .ge 18, 3) := dk_162 0 18 (dk_at dksX4_begins_0 11 rfl rfl)
theorem dX4_begins_14 : decode cX4_begins 14 = .ok (.aload_n 0, 1) := dk_42 (dk_at dksX4_begins_0 14 rfl rfl)
theorem dX4_begins_15 : decode cX4_begins 15 = .ok (.getfield 7, 3) := dk_180 0 7 (dk_at dksX4_begins_0 15 rfl rfl)
theorem dX4_begins_18 : decode cX4_begins 18 = .ok (.iload_n 2, 1) := dk_28 (dk_at dksX4_begins_0 18 rfl rfl)
theorem dX4_begins_19 : decode cX4_begins 19 = .ok (.iload_n 3, 1) := dk_29 (dk_at dksX4_begins_0 19 rfl rfl)
theorem dX4_begins_20 : decode cX4_begins 20 = .ok (.iadd, 1) := dk_96 (dk_at dksX4_begins_0 20 rfl rfl)
theorem dX4_begins_21 : decode cX4_begins 21 = .ok (.iconst 0, 1) := dk_3 (dk_at dksX4_begins_0 21 rfl rfl)
theorem dX4_begins_22 : decode cX4_begins 22 = .ok (.iastore, 1) := dk_79 (dk_at dksX4_begins_0 22 rfl rfl)
theorem dX4_begins_23 : decode cX4_begins 23 = .ok (.iinc 3 1, 3) := dk_132 3 1 (dk_at dksX4_begins_1 0 rfl rfl)
theorem dX4_begins_26 : decode cX4_begins 26 = .ok (.goto (-19), 3) := dk_167 255 237 (dk_at dksX4_begins_1 3 rfl rfl)
theorem dX4_begins_29 : decode cX4_begins 29 = .ok (.aload_n 0, 1) := dk_42 (dk_at dksX4_begins_1 6 rfl rfl)
theorem dX4_begins_30 : decode cX4_begins 30 = .ok (.getfield 7, 3) := dk_180 0 7 (dk_at dksX4_begins_1 7 rfl rfl)
theorem dX4_begins_33 : decode cX4_begins 33 = .ok (.iload_n 2, 1) := dk_28 (dk_at dksX4_begins_1 10 rfl rfl)
theorem dX4_begins_34 : decode cX4_begins 34 = .ok (.iconst 0, 1) := dk_3 (dk_at dksX4_begins_1 11 rfl rfl)
theorem dX4_begins_35 : decode cX4_begins 35 = .ok (.iadd, 1) := dk_96 (dk_at dksX4_begins_1 12 rfl rfl)
theorem dX4_begins_36 : decode cX4_begins 36 = .ok (.iconst 1, 1) := dk_4 (dk_at dksX4_begins_1 13 rfl rfl)
theorem dX4_begins_37 : decode cX4_begins 37 = .ok (.iastore, 1) := dk_79 (dk_at dksX4_begins_1 14 rfl rfl)
theorem dX4_begins_38 : decode cX4_begins 38 = .ok (.aload_n 0, 1) := dk_42 (dk_at dksX4_begins_1 15 rfl rfl)
theorem dX4_begins_39 : decode cX4_begins 39 = .ok (.getfield 13, 3) := dk_180 0 13 (dk_at dksX4_begins_1 16 rfl rfl)
theorem dX4_begins_42 : decode cX4_begins 42 = .ok (.iload_n 1, 1) := dk_27 (dk_at dksX4_begins_1 19 rfl rfl)
theorem dX4_begins_43 : decode cX4_begins 43 = .ok (.lconst 0, 1) := dk_9 (dk_at dksX4_begins_1 20 rfl rfl)
theorem dX4_begins_44 : decode cX4_begins 44 = .ok (.lastore, 1) := dk_80 (dk_at dksX4_begins_1 21 rfl rfl)
theorem dX4_begins_45 : decode cX4_begins 45 = .ok (.return_, 1) := dk_177 (dk_at dksX4_begins_1 22 rfl rfl)
abbrev cX4_drop : ByteArray := prog_19_method_95_code
def yX4_drop : MethodName := ⟨RX4, "drop", "(I)I"⟩
def dkwX4_drop_2 : List UInt8 := [172]
abbrev dktX4_drop_2 : List UInt8 := dkwX4_drop_2 ++ []
def dkwX4_drop_1 : List UInt8 := [3, 172, 42, 182, 1, 43, 42, 180, 0, 7, 27, 184, 0, 171, 4, 96, 46, 61, 42, 27, 182, 1, 49, 28]
abbrev dktX4_drop_1 : List UInt8 := dkwX4_drop_1 ++ dktX4_drop_2
def dkwX4_drop_0 : List UInt8 := [42, 42, 27, 182, 0, 183, 153, 0, 7, 3, 167, 0, 4, 4, 181, 0, 62, 42, 180, 0, 62, 158, 0, 5]
abbrev dktX4_drop_0 : List UInt8 := dkwX4_drop_0 ++ dktX4_drop_1
theorem dksX4_drop_0 : cX4_drop.data.toList.drop 0 = dktX4_drop_0 := by decide +kernel
theorem dksX4_drop_1 : cX4_drop.data.toList.drop 24 = dktX4_drop_1 := dk_seg dksX4_drop_0 24 rfl rfl
theorem dksX4_drop_2 : cX4_drop.data.toList.drop 48 = dktX4_drop_2 := dk_seg dksX4_drop_1 24 rfl rfl
theorem dX4_drop_0 : decode cX4_drop 0 = .ok (.aload_n 0, 1) := dk_42 (dk_at dksX4_drop_0 0 rfl rfl)
theorem dX4_drop_1 : decode cX4_drop 1 = .ok (.aload_n 0, 1) := dk_42 (dk_at dksX4_drop_0 1 rfl rfl)
theorem dX4_drop_2 : decode cX4_drop 2 = .ok (.iload_n 1, 1) := dk_27 (dk_at dksX4_drop_0 2 rfl rfl)
theorem dX4_drop_3 : decode cX4_drop 3 = .ok (.invokevirtual 183, 3) := dk_182 0 183 (dk_at dksX4_drop_0 3 rfl rfl)
theorem dX4_drop_6 : decode cX4_drop 6 = .ok (.ifCond .eq 7, 3) := dk_153 0 7 (dk_at dksX4_drop_0 6 rfl rfl)
theorem dX4_drop_9 : decode cX4_drop 9 = .ok (.iconst 0, 1) := dk_3 (dk_at dksX4_drop_0 9 rfl rfl)
theorem dX4_drop_10 : decode cX4_drop 10 = .ok (.goto 4, 3) := dk_167 0 4 (dk_at dksX4_drop_0 10 rfl rfl)
theorem dX4_drop_13 : decode cX4_drop 13 = .ok (.iconst 1, 1) := dk_4 (dk_at dksX4_drop_0 13 rfl rfl)
theorem dX4_drop_14 : decode cX4_drop 14 = .ok (.putfield 62, 3) := dk_181 0 62 (dk_at dksX4_drop_0 14 rfl rfl)
theorem dX4_drop_17 : decode cX4_drop 17 = .ok (.aload_n 0, 1) := dk_42 (dk_at dksX4_drop_0 17 rfl rfl)
theorem dX4_drop_18 : decode cX4_drop 18 = .ok (.getfield 62, 3) := dk_180 0 62 (dk_at dksX4_drop_0 18 rfl rfl)
theorem dX4_drop_21 : decode cX4_drop 21 = .ok (.ifCond .le 5, 3) := dk_158 0 5 (dk_at dksX4_drop_0 21 rfl rfl)
theorem dX4_drop_24 : decode cX4_drop 24 = .ok (.iconst 0, 1) := dk_3 (dk_at dksX4_drop_1 0 rfl rfl)
theorem dX4_drop_25 : decode cX4_drop 25 = .ok (.ireturn, 1) := dk_172 (dk_at dksX4_drop_1 1 rfl rfl)
theorem dX4_drop_26 : decode cX4_drop 26 = .ok (.aload_n 0, 1) := dk_42 (dk_at dksX4_drop_1 2 rfl rfl)
theorem dX4_drop_27 : decode cX4_drop 27 = .ok (.invokevirtual 299, 3) := dk_182 1 43 (dk_at dksX4_drop_1 3 rfl rfl)
theorem dX4_drop_30 : decode cX4_drop 30 = .ok (.aload_n 0, 1) := dk_42 (dk_at dksX4_drop_1 6 rfl rfl)
theorem dX4_drop_31 : decode cX4_drop 31 = .ok (.getfield 7, 3) := dk_180 0 7 (dk_at dksX4_drop_1 7 rfl rfl)
theorem dX4_drop_34 : decode cX4_drop 34 = .ok (.iload_n 1, 1) := dk_27 (dk_at dksX4_drop_1 10 rfl rfl)
theorem dX4_drop_35 : decode cX4_drop 35 = .ok (.invokestatic 171, 3) := dk_184 0 171 (dk_at dksX4_drop_1 11 rfl rfl)
theorem dX4_drop_38 : decode cX4_drop 38 = .ok (.iconst 1, 1) := dk_4 (dk_at dksX4_drop_1 14 rfl rfl)
theorem dX4_drop_39 : decode cX4_drop 39 = .ok (.iadd, 1) := dk_96 (dk_at dksX4_drop_1 15 rfl rfl)
theorem dX4_drop_40 : decode cX4_drop 40 = .ok (.iaload, 1) := dk_46 (dk_at dksX4_drop_1 16 rfl rfl)
theorem dX4_drop_41 : decode cX4_drop 41 = .ok (.istore_n 2, 1) := dk_61 (dk_at dksX4_drop_1 17 rfl rfl)
theorem dX4_drop_42 : decode cX4_drop 42 = .ok (.aload_n 0, 1) := dk_42 (dk_at dksX4_drop_1 18 rfl rfl)
theorem dX4_drop_43 : decode cX4_drop 43 = .ok (.iload_n 1, 1) := dk_27 (dk_at dksX4_drop_1 19 rfl rfl)
theorem dX4_drop_44 : decode cX4_drop 44 = .ok (.invokevirtual 305, 3) := dk_182 1 49 (dk_at dksX4_drop_1 20 rfl rfl)
theorem dX4_drop_47 : decode cX4_drop 47 = .ok (.iload_n 2, 1) := dk_28 (dk_at dksX4_drop_1 23 rfl rfl)
theorem dX4_drop_48 : decode cX4_drop 48 = .ok (.ireturn, 1) := dk_172 (dk_at dksX4_drop_2 0 rfl rfl)
abbrev cX4_ends : ByteArray := prog_19_method_93_code
def yX4_ends : MethodName := ⟨RX4, "ends", "(I)V"⟩
def dkwX4_ends_1 : List UInt8 := [42, 180, 0, 13, 27, 9, 80, 177]
abbrev dktX4_ends_1 : List UInt8 := dkwX4_ends_1 ++ []
def dkwX4_ends_0 : List UInt8 := [42, 180, 0, 7, 27, 184, 0, 171, 3, 96, 3, 79, 42, 180, 0, 7, 27, 184, 0, 171, 4, 96, 3, 79]
abbrev dktX4_ends_0 : List UInt8 := dkwX4_ends_0 ++ dktX4_ends_1
theorem dksX4_ends_0 : cX4_ends.data.toList.drop 0 = dktX4_ends_0 := by decide +kernel
theorem dksX4_ends_1 : cX4_ends.data.toList.drop 24 = dktX4_ends_1 := dk_seg dksX4_ends_0 24 rfl rfl
theorem dX4_ends_0 : decode cX4_ends 0 = .ok (.aload_n 0, 1) := dk_42 (dk_at dksX4_ends_0 0 rfl rfl)
theorem dX4_ends_1 : decode cX4_ends 1 = .ok (.getfield 7, 3) := dk_180 0 7 (dk_at dksX4_ends_0 1 rfl rfl)
theorem dX4_ends_4 : decode cX4_ends 4 = .ok (.iload_n 1, 1) := dk_27 (dk_at dksX4_ends_0 4 rfl rfl)
theorem dX4_ends_5 : decode cX4_ends 5 = .ok (.invokestatic 171, 3) := dk_184 0 171 (dk_at dksX4_ends_0 5 rfl rfl)
theorem dX4_ends_8 : decode cX4_ends 8 = .ok (.iconst 0, 1) := dk_3 (dk_at dksX4_ends_0 8 rfl rfl)
theorem dX4_ends_9 : decode cX4_ends 9 = .ok (.iadd, 1) := dk_96 (dk_at dksX4_ends_0 9 rfl rfl)
theorem dX4_ends_10 : decode cX4_ends 10 = .ok (.iconst 0, 1) := dk_3 (dk_at dksX4_ends_0 10 rfl rfl)
theorem dX4_ends_11 : decode cX4_ends 11 = .ok (.iastore, 1) := dk_79 (dk_at dksX4_ends_0 11 rfl rfl)
theorem dX4_ends_12 : decode cX4_ends 12 = .ok (.aload_n 0, 1) := dk_42 (dk_at dksX4_ends_0 12 rfl rfl)
theorem dX4_ends_13 : decode cX4_ends 13 = .ok (.getfield 7, 3) := dk_180 0 7 (dk_at dksX4_ends_0 13 rfl rfl)
theorem dX4_ends_16 : decode cX4_ends 16 = .ok (.iload_n 1, 1) := dk_27 (dk_at dksX4_ends_0 16 rfl rfl)
theorem dX4_ends_17 : decode cX4_ends 17 = .ok (.invokestatic 171, 3) := dk_184 0 171 (dk_at dksX4_ends_0 17 rfl rfl)
theorem dX4_ends_20 : decode cX4_ends 20 = .ok (.iconst 1, 1) := dk_4 (dk_at dksX4_ends_0 20 rfl rfl)
theorem dX4_ends_21 : decode cX4_ends 21 = .ok (.iadd, 1) := dk_96 (dk_at dksX4_ends_0 21 rfl rfl)
theorem dX4_ends_22 : decode cX4_ends 22 = .ok (.iconst 0, 1) := dk_3 (dk_at dksX4_ends_0 22 rfl rfl)
theorem dX4_ends_23 : decode cX4_ends 23 = .ok (.iastore, 1) := dk_79 (dk_at dksX4_ends_0 23 rfl rfl)
theorem dX4_ends_24 : decode cX4_ends 24 = .ok (.aload_n 0, 1) := dk_42 (dk_at dksX4_ends_1 0 rfl rfl)
theorem dX4_ends_25 : decode cX4_ends 25 = .ok (.getfield 13, 3) := dk_180 0 13 (dk_at dksX4_ends_1 1 rfl rfl)
theorem dX4_ends_28 : decode cX4_ends 28 = .ok (.iload_n 1, 1) := dk_27 (dk_at dksX4_ends_1 4 rfl rfl)
theorem dX4_ends_29 : decode cX4_ends 29 = .ok (.lconst 0, 1) := dk_9 (dk_at dksX4_ends_1 5 rfl rfl)
theorem dX4_ends_30 : decode cX4_ends 30 = .ok (.lastore, 1) := dk_80 (dk_at dksX4_ends_1 6 rfl rfl)
theorem dX4_ends_31 : decode cX4_ends 31 = .ok (.return_, 1) := dk_177 (dk_at dksX4_ends_1 7 rfl rfl)
abbrev cX4_insert : ByteArray := prog_19_method_96_code
def yX4_insert : MethodName := ⟨RX4, "insert", "(III)I"⟩
def dkwX4_insert_3 : List UInt8 := [172, 42, 182, 1, 43, 42, 180, 0, 7, 4, 92, 46, 4, 96, 79, 42, 27, 28, 29, 182, 1, 16, 172]
abbrev dktX4_insert_3 : List UInt8 := dkwX4_insert_3 ++ []
def dkwX4_insert_2 : List UInt8 := [27, 28, 182, 0, 235, 155, 0, 7, 6, 167, 0, 4, 3, 181, 0, 62, 42, 180, 0, 62, 158, 0, 5, 3]
abbrev dktX4_insert_2 : List UInt8 := dkwX4_insert_2 ++ dktX4_insert_3
def dkwX4_insert_1 : List UInt8 := [154, 0, 7, 5, 167, 0, 33, 42, 180, 0, 7, 27, 184, 0, 171, 4, 96, 46, 16, 60, 159, 0, 12, 42]
abbrev dktX4_insert_1 : List UInt8 := dkwX4_insert_1 ++ dktX4_insert_2
def dkwX4_insert_0 : List UInt8 := [42, 42, 27, 182, 0, 183, 154, 0, 7, 4, 167, 0, 51, 28, 184, 0, 232, 153, 0, 10, 29, 184, 0, 232]
abbrev dktX4_insert_0 : List UInt8 := dkwX4_insert_0 ++ dktX4_insert_1
theorem dksX4_insert_0 : cX4_insert.data.toList.drop 0 = dktX4_insert_0 := by decide +kernel
theorem dksX4_insert_1 : cX4_insert.data.toList.drop 24 = dktX4_insert_1 := dk_seg dksX4_insert_0 24 rfl rfl
theorem dksX4_insert_2 : cX4_insert.data.toList.drop 48 = dktX4_insert_2 := dk_seg dksX4_insert_1 24 rfl rfl
theorem dksX4_insert_3 : cX4_insert.data.toList.drop 72 = dktX4_insert_3 := dk_seg dksX4_insert_2 24 rfl rfl
theorem dX4_insert_0 : decode cX4_insert 0 = .ok (.aload_n 0, 1) := dk_42 (dk_at dksX4_insert_0 0 rfl rfl)
theorem dX4_insert_1 : decode cX4_insert 1 = .ok (.aload_n 0, 1) := dk_42 (dk_at dksX4_insert_0 1 rfl rfl)
theorem dX4_insert_2 : decode cX4_insert 2 = .ok (.iload_n 1, 1) := dk_27 (dk_at dksX4_insert_0 2 rfl rfl)
theorem dX4_insert_3 : decode cX4_insert 3 = .ok (.invokevirtual 183, 3) := dk_182 0 183 (dk_at dksX4_insert_0 3 rfl rfl)
theorem dX4_insert_6 : decode cX4_insert 6 = .ok (.ifCond .ne 7, 3) := dk_154 0 7 (dk_at dksX4_insert_0 6 rfl rfl)
theorem dX4_insert_9 : decode cX4_insert 9 = .ok (.iconst 1, 1) := dk_4 (dk_at dksX4_insert_0 9 rfl rfl)
theorem dX4_insert_10 : decode cX4_insert 10 = .ok (.goto 51, 3) := dk_167 0 51 (dk_at dksX4_insert_0 10 rfl rfl)
theorem dX4_insert_13 : decode cX4_insert 13 = .ok (.iload_n 2, 1) := dk_28 (dk_at dksX4_insert_0 13 rfl rfl)
theorem dX4_insert_14 : decode cX4_insert 14 = .ok (.invokestatic 232, 3) := dk_184 0 232 (dk_at dksX4_insert_0 14 rfl rfl)
theorem dX4_insert_17 : decode cX4_insert 17 = .ok (.ifCond .eq 10, 3) := dk_153 0 10 (dk_at dksX4_insert_0 17 rfl rfl)
theorem dX4_insert_20 : decode cX4_insert 20 = .ok (.iload_n 3, 1) := dk_29 (dk_at dksX4_insert_0 20 rfl rfl)
theorem dX4_insert_21 : decode cX4_insert 21 = .ok (.invokestatic 232, 3) := dk_184 0 232 (dk_at dksX4_insert_0 21 rfl rfl)
theorem dX4_insert_24 : decode cX4_insert 24 = .ok (.ifCond .ne 7, 3) := dk_154 0 7 (dk_at dksX4_insert_1 0 rfl rfl)
theorem dX4_insert_27 : decode cX4_insert 27 = .ok (.iconst 2, 1) := dk_5 (dk_at dksX4_insert_1 3 rfl rfl)
theorem dX4_insert_28 : decode cX4_insert 28 = .ok (.goto 33, 3) := dk_167 0 33 (dk_at dksX4_insert_1 4 rfl rfl)
theorem dX4_insert_31 : decode cX4_insert 31 = .ok (.aload_n 0, 1) := dk_42 (dk_at dksX4_insert_1 7 rfl rfl)
theorem dX4_insert_32 : decode cX4_insert 32 = .ok (.getfield 7, 3) := dk_180 0 7 (dk_at dksX4_insert_1 8 rfl rfl)
theorem dX4_insert_35 : decode cX4_insert 35 = .ok (.iload_n 1, 1) := dk_27 (dk_at dksX4_insert_1 11 rfl rfl)
theorem dX4_insert_36 : decode cX4_insert 36 = .ok (.invokestatic 171, 3) := dk_184 0 171 (dk_at dksX4_insert_1 12 rfl rfl)
theorem dX4_insert_39 : decode cX4_insert 39 = .ok (.iconst 1, 1) := dk_4 (dk_at dksX4_insert_1 15 rfl rfl)
theorem dX4_insert_40 : decode cX4_insert 40 = .ok (.iadd, 1) := dk_96 (dk_at dksX4_insert_1 16 rfl rfl)
theorem dX4_insert_41 : decode cX4_insert 41 = .ok (.iaload, 1) := dk_46 (dk_at dksX4_insert_1 17 rfl rfl)
theorem dX4_insert_42 : decode cX4_insert 42 = .ok (.bipush 60, 2) := dk_16 60 (dk_at dksX4_insert_1 18 rfl rfl)
theorem dX4_insert_44 : decode cX4_insert 44 = .ok (.if_icmp .eq 12, 3) := dk_159 0 12 (dk_at dksX4_insert_1 20 rfl rfl)
theorem dX4_insert_47 : decode cX4_insert 47 = .ok (.aload_n 0, 1) := dk_42 (dk_at dksX4_insert_1 23 rfl rfl)
theorem dX4_insert_48 : decode cX4_insert 48 = .ok (.iload_n 1, 1) := dk_27 (dk_at dksX4_insert_2 0 rfl rfl)
theorem dX4_insert_49 : decode cX4_insert 49 = .ok (.iload_n 2, 1) := dk_28 (dk_at dksX4_insert_2 1 rfl rfl)
theorem dX4_insert_50 : decode cX4_insert 50 = .ok (.invokevirtual 235, 3) := dk_182 0 235 (dk_at dksX4_insert_2 2 rfl rfl)
theorem dX4_insert_53 : decode cX4_insert 53 = .ok (.ifCond .lt 7, 3) := dk_155 0 7 (dk_at dksX4_insert_2 5 rfl rfl)
theorem dX4_insert_56 : decode cX4_insert 56 = .ok (.iconst 3, 1) := dk_6 (dk_at dksX4_insert_2 8 rfl rfl)
theorem dX4_insert_57 : decode cX4_insert 57 = .ok (.goto 4, 3) := dk_167 0 4 (dk_at dksX4_insert_2 9 rfl rfl)
theorem dX4_insert_60 : decode cX4_insert 60 = .ok (.iconst 0, 1) := dk_3 (dk_at dksX4_insert_2 12 rfl rfl)
theorem dX4_insert_61 : decode cX4_insert 61 = .ok (.putfield 62, 3) := dk_181 0 62 (dk_at dksX4_insert_2 13 rfl rfl)
theorem dX4_insert_64 : decode cX4_insert 64 = .ok (.aload_n 0, 1) := dk_42 (dk_at dksX4_insert_2 16 rfl rfl)
theorem dX4_insert_65 : decode cX4_insert 65 = .ok (.getfield 62, 3) := dk_180 0 62 (dk_at dksX4_insert_2 17 rfl rfl)
theorem dX4_insert_68 : decode cX4_insert 68 = .ok (.ifCond .le 5, 3) := dk_158 0 5 (dk_at dksX4_insert_2 20 rfl rfl)
theorem dX4_insert_71 : decode cX4_insert 71 = .ok (.iconst 0, 1) := dk_3 (dk_at dksX4_insert_2 23 rfl rfl)
theorem dX4_insert_72 : decode cX4_insert 72 = .ok (.ireturn, 1) := dk_172 (dk_at dksX4_insert_3 0 rfl rfl)
theorem dX4_insert_73 : decode cX4_insert 73 = .ok (.aload_n 0, 1) := dk_42 (dk_at dksX4_insert_3 1 rfl rfl)
theorem dX4_insert_74 : decode cX4_insert 74 = .ok (.invokevirtual 299, 3) := dk_182 1 43 (dk_at dksX4_insert_3 2 rfl rfl)
theorem dX4_insert_77 : decode cX4_insert 77 = .ok (.aload_n 0, 1) := dk_42 (dk_at dksX4_insert_3 5 rfl rfl)
theorem dX4_insert_78 : decode cX4_insert 78 = .ok (.getfield 7, 3) := dk_180 0 7 (dk_at dksX4_insert_3 6 rfl rfl)
theorem dX4_insert_81 : decode cX4_insert 81 = .ok (.iconst 1, 1) := dk_4 (dk_at dksX4_insert_3 9 rfl rfl)
theorem dX4_insert_82 : decode cX4_insert 82 = .ok (.dup2, 1) := dk_92 (dk_at dksX4_insert_3 10 rfl rfl)
theorem dX4_insert_83 : decode cX4_insert 83 = .ok (.iaload, 1) := dk_46 (dk_at dksX4_insert_3 11 rfl rfl)
theorem dX4_insert_84 : decode cX4_insert 84 = .ok (.iconst 1, 1) := dk_4 (dk_at dksX4_insert_3 12 rfl rfl)
theorem dX4_insert_85 : decode cX4_insert 85 = .ok (.iadd, 1) := dk_96 (dk_at dksX4_insert_3 13 rfl rfl)
theorem dX4_insert_86 : decode cX4_insert 86 = .ok (.iastore, 1) := dk_79 (dk_at dksX4_insert_3 14 rfl rfl)
theorem dX4_insert_87 : decode cX4_insert 87 = .ok (.aload_n 0, 1) := dk_42 (dk_at dksX4_insert_3 15 rfl rfl)
theorem dX4_insert_88 : decode cX4_insert 88 = .ok (.iload_n 1, 1) := dk_27 (dk_at dksX4_insert_3 16 rfl rfl)
theorem dX4_insert_89 : decode cX4_insert 89 = .ok (.iload_n 2, 1) := dk_28 (dk_at dksX4_insert_3 17 rfl rfl)
theorem dX4_insert_90 : decode cX4_insert 90 = .ok (.iload_n 3, 1) := dk_29 (dk_at dksX4_insert_3 18 rfl rfl)
theorem dX4_insert_91 : decode cX4_insert 91 = .ok (.invokevirtual 272, 3) := dk_182 1 16 (dk_at dksX4_insert_3 19 rfl rfl)
theorem dX4_insert_94 : decode cX4_insert 94 = .ok (.ireturn, 1) := dk_172 (dk_at dksX4_insert_3 22 rfl rfl)
abbrev cX4_remove : ByteArray := prog_19_method_97_code
def yX4_remove : MethodName := ⟨RX4, "remove", "(II)I"⟩
def dkwX4_remove_3 : List UInt8 := [180, 0, 7, 27, 184, 0, 171, 16, 62, 96, 29, 96, 46, 54, 4, 42, 27, 29, 182, 1, 22, 21, 4, 172]
abbrev dktX4_remove_3 : List UInt8 := dkwX4_remove_3 ++ []
def dkwX4_remove_2 : List UInt8 := [3, 172, 42, 182, 1, 43, 42, 180, 0, 7, 5, 92, 46, 4, 96, 79, 42, 27, 28, 182, 0, 235, 62, 42]
abbrev dktX4_remove_2 : List UInt8 := dkwX4_remove_2 ++ dktX4_remove_3
def dkwX4_remove_1 : List UInt8 := [42, 27, 28, 182, 0, 235, 156, 0, 7, 6, 167, 0, 4, 3, 181, 0, 62, 42, 180, 0, 62, 158, 0, 5]
abbrev dktX4_remove_1 : List UInt8 := dkwX4_remove_1 ++ dktX4_remove_2
def dkwX4_remove_0 : List UInt8 := [42, 42, 27, 182, 0, 183, 154, 0, 7, 4, 167, 0, 28, 28, 184, 0, 232, 154, 0, 7, 5, 167, 0, 17]
abbrev dktX4_remove_0 : List UInt8 := dkwX4_remove_0 ++ dktX4_remove_1
theorem dksX4_remove_0 : cX4_remove.data.toList.drop 0 = dktX4_remove_0 := by decide +kernel
theorem dksX4_remove_1 : cX4_remove.data.toList.drop 24 = dktX4_remove_1 := dk_seg dksX4_remove_0 24 rfl rfl
theorem dksX4_remove_2 : cX4_remove.data.toList.drop 48 = dktX4_remove_2 := dk_seg dksX4_remove_1 24 rfl rfl
theorem dksX4_remove_3 : cX4_remove.data.toList.drop 72 = dktX4_remove_3 := dk_seg dksX4_remove_2 24 rfl rfl
theorem dX4_remove_0 : decode cX4_remove 0 = .ok (.aload_n 0, 1) := dk_42 (dk_at dksX4_remove_0 0 rfl rfl)
theorem dX4_remove_1 : decode cX4_remove 1 = .ok (.aload_n 0, 1) := dk_42 (dk_at dksX4_remove_0 1 rfl rfl)
theorem dX4_remove_2 : decode cX4_remove 2 = .ok (.iload_n 1, 1) := dk_27 (dk_at dksX4_remove_0 2 rfl rfl)
theorem dX4_remove_3 : decode cX4_remove 3 = .ok (.invokevirtual 183, 3) := dk_182 0 183 (dk_at dksX4_remove_0 3 rfl rfl)
theorem dX4_remove_6 : decode cX4_remove 6 = .ok (.ifCond .ne 7, 3) := dk_154 0 7 (dk_at dksX4_remove_0 6 rfl rfl)
theorem dX4_remove_9 : decode cX4_remove 9 = .ok (.iconst 1, 1) := dk_4 (dk_at dksX4_remove_0 9 rfl rfl)
theorem dX4_remove_10 : decode cX4_remove 10 = .ok (.goto 28, 3) := dk_167 0 28 (dk_at dksX4_remove_0 10 rfl rfl)
theorem dX4_remove_13 : decode cX4_remove 13 = .ok (.iload_n 2, 1) := dk_28 (dk_at dksX4_remove_0 13 rfl rfl)
theorem dX4_remove_14 : decode cX4_remove 14 = .ok (.invokestatic 232, 3) := dk_184 0 232 (dk_at dksX4_remove_0 14 rfl rfl)
theorem dX4_remove_17 : decode cX4_remove 17 = .ok (.ifCond .ne 7, 3) := dk_154 0 7 (dk_at dksX4_remove_0 17 rfl rfl)
theorem dX4_remove_20 : decode cX4_remove 20 = .ok (.iconst 2, 1) := dk_5 (dk_at dksX4_remove_0 20 rfl rfl)
theorem dX4_remove_21 : decode cX4_remove 21 = .ok (.goto 17, 3) := dk_167 0 17 (dk_at dksX4_remove_0 21 rfl rfl)
theorem dX4_remove_24 : decode cX4_remove 24 = .ok (.aload_n 0, 1) := dk_42 (dk_at dksX4_remove_1 0 rfl rfl)
theorem dX4_remove_25 : decode cX4_remove 25 = .ok (.iload_n 1, 1) := dk_27 (dk_at dksX4_remove_1 1 rfl rfl)
theorem dX4_remove_26 : decode cX4_remove 26 = .ok (.iload_n 2, 1) := dk_28 (dk_at dksX4_remove_1 2 rfl rfl)
theorem dX4_remove_27 : decode cX4_remove 27 = .ok (.invokevirtual 235, 3) := dk_182 0 235 (dk_at dksX4_remove_1 3 rfl rfl)
theorem dX4_remove_30 : decode cX4_remove 30 = .ok (.ifCond .ge 7, 3) := dk_156 0 7 (dk_at dksX4_remove_1 6 rfl rfl)
theorem dX4_remove_33 : decode cX4_remove 33 = .ok (.iconst 3, 1) := dk_6 (dk_at dksX4_remove_1 9 rfl rfl)
theorem dX4_remove_34 : decode cX4_remove 34 = .ok (.goto 4, 3) := dk_167 0 4 (dk_at dksX4_remove_1 10 rfl rfl)
theorem dX4_remove_37 : decode cX4_remove 37 = .ok (.iconst 0, 1) := dk_3 (dk_at dksX4_remove_1 13 rfl rfl)
theorem dX4_remove_38 : decode cX4_remove 38 = .ok (.putfield 62, 3) := dk_181 0 62 (dk_at dksX4_remove_1 14 rfl rfl)
theorem dX4_remove_41 : decode cX4_remove 41 = .ok (.aload_n 0, 1) := dk_42 (dk_at dksX4_remove_1 17 rfl rfl)
theorem dX4_remove_42 : decode cX4_remove 42 = .ok (.getfield 62, 3) := dk_180 0 62 (dk_at dksX4_remove_1 18 rfl rfl)
theorem dX4_remove_45 : decode cX4_remove 45 = .ok (.ifCond .le 5, 3) := dk_158 0 5 (dk_at dksX4_remove_1 21 rfl rfl)
theorem dX4_remove_48 : decode cX4_remove 48 = .ok (.iconst 0, 1) := dk_3 (dk_at dksX4_remove_2 0 rfl rfl)
theorem dX4_remove_49 : decode cX4_remove 49 = .ok (.ireturn, 1) := dk_172 (dk_at dksX4_remove_2 1 rfl rfl)
theorem dX4_remove_50 : decode cX4_remove 50 = .ok (.aload_n 0, 1) := dk_42 (dk_at dksX4_remove_2 2 rfl rfl)
theorem dX4_remove_51 : decode cX4_remove 51 = .ok (.invokevirtual 299, 3) := dk_182 1 43 (dk_at dksX4_remove_2 3 rfl rfl)
theorem dX4_remove_54 : decode cX4_remove 54 = .ok (.aload_n 0, 1) := dk_42 (dk_at dksX4_remove_2 6 rfl rfl)
theorem dX4_remove_55 : decode cX4_remove 55 = .ok (.getfield 7, 3) := dk_180 0 7 (dk_at dksX4_remove_2 7 rfl rfl)
theorem dX4_remove_58 : decode cX4_remove 58 = .ok (.iconst 2, 1) := dk_5 (dk_at dksX4_remove_2 10 rfl rfl)
theorem dX4_remove_59 : decode cX4_remove 59 = .ok (.dup2, 1) := dk_92 (dk_at dksX4_remove_2 11 rfl rfl)
theorem dX4_remove_60 : decode cX4_remove 60 = .ok (.iaload, 1) := dk_46 (dk_at dksX4_remove_2 12 rfl rfl)
theorem dX4_remove_61 : decode cX4_remove 61 = .ok (.iconst 1, 1) := dk_4 (dk_at dksX4_remove_2 13 rfl rfl)
theorem dX4_remove_62 : decode cX4_remove 62 = .ok (.iadd, 1) := dk_96 (dk_at dksX4_remove_2 14 rfl rfl)
theorem dX4_remove_63 : decode cX4_remove 63 = .ok (.iastore, 1) := dk_79 (dk_at dksX4_remove_2 15 rfl rfl)
theorem dX4_remove_64 : decode cX4_remove 64 = .ok (.aload_n 0, 1) := dk_42 (dk_at dksX4_remove_2 16 rfl rfl)
theorem dX4_remove_65 : decode cX4_remove 65 = .ok (.iload_n 1, 1) := dk_27 (dk_at dksX4_remove_2 17 rfl rfl)
theorem dX4_remove_66 : decode cX4_remove 66 = .ok (.iload_n 2, 1) := dk_28 (dk_at dksX4_remove_2 18 rfl rfl)
theorem dX4_remove_67 : decode cX4_remove 67 = .ok (.invokevirtual 235, 3) := dk_182 0 235 (dk_at dksX4_remove_2 19 rfl rfl)
theorem dX4_remove_70 : decode cX4_remove 70 = .ok (.istore_n 3, 1) := dk_62 (dk_at dksX4_remove_2 22 rfl rfl)
theorem dX4_remove_71 : decode cX4_remove 71 = .ok (.aload_n 0, 1) := dk_42 (dk_at dksX4_remove_2 23 rfl rfl)
theorem dX4_remove_72 : decode cX4_remove 72 = .ok (.getfield 7, 3) := dk_180 0 7 (dk_at dksX4_remove_3 0 rfl rfl)
theorem dX4_remove_75 : decode cX4_remove 75 = .ok (.iload_n 1, 1) := dk_27 (dk_at dksX4_remove_3 3 rfl rfl)
theorem dX4_remove_76 : decode cX4_remove 76 = .ok (.invokestatic 171, 3) := dk_184 0 171 (dk_at dksX4_remove_3 4 rfl rfl)
theorem dX4_remove_79 : decode cX4_remove 79 = .ok (.bipush 62, 2) := dk_16 62 (dk_at dksX4_remove_3 7 rfl rfl)
theorem dX4_remove_81 : decode cX4_remove 81 = .ok (.iadd, 1) := dk_96 (dk_at dksX4_remove_3 9 rfl rfl)
theorem dX4_remove_82 : decode cX4_remove 82 = .ok (.iload_n 3, 1) := dk_29 (dk_at dksX4_remove_3 10 rfl rfl)
theorem dX4_remove_83 : decode cX4_remove 83 = .ok (.iadd, 1) := dk_96 (dk_at dksX4_remove_3 11 rfl rfl)
theorem dX4_remove_84 : decode cX4_remove 84 = .ok (.iaload, 1) := dk_46 (dk_at dksX4_remove_3 12 rfl rfl)
theorem dX4_remove_85 : decode cX4_remove 85 = .ok (.istore 4, 2) := dk_54 4 (dk_at dksX4_remove_3 13 rfl rfl)
theorem dX4_remove_87 : decode cX4_remove 87 = .ok (.aload_n 0, 1) := dk_42 (dk_at dksX4_remove_3 15 rfl rfl)
theorem dX4_remove_88 : decode cX4_remove 88 = .ok (.iload_n 1, 1) := dk_27 (dk_at dksX4_remove_3 16 rfl rfl)
theorem dX4_remove_89 : decode cX4_remove 89 = .ok (.iload_n 3, 1) := dk_29 (dk_at dksX4_remove_3 17 rfl rfl)
theorem dX4_remove_90 : decode cX4_remove 90 = .ok (.invokevirtual 278, 3) := dk_182 1 22 (dk_at dksX4_remove_3 18 rfl rfl)
theorem dX4_remove_93 : decode cX4_remove 93 = .ok (.iload 4, 2) := dk_21 4 (dk_at dksX4_remove_3 21 rfl rfl)
theorem dX4_remove_95 : decode cX4_remove 95 = .ok (.ireturn, 1) := dk_172 (dk_at dksX4_remove_3 23 rfl rfl)
abbrev cX4_setValue : ByteArray := prog_19_method_98_code
def yX4_setValue : MethodName := ⟨RX4, "setValue", "(III)I"⟩
def dkwX4_setValue_4 : List UInt8 := [21, 5, 172]
abbrev dktX4_setValue_4 : List UInt8 := dkwX4_setValue_4 ++ []
def dkwX4_setValue_3 : List UInt8 := [182, 0, 235, 96, 54, 4, 42, 180, 0, 7, 21, 4, 46, 54, 5, 42, 180, 0, 7, 21, 4, 29, 79]
abbrev dktX4_setValue_3 : List UInt8 := dkwX4_setValue_3 ++ dktX4_setValue_4
def dkwX4_setValue_2 : List UInt8 := [42, 180, 0, 62, 158, 0, 5, 3, 172, 42, 182, 1, 43, 27, 184, 0, 171, 16, 62, 96, 42, 27, 28]
abbrev dktX4_setValue_2 : List UInt8 := dkwX4_setValue_2 ++ dktX4_setValue_3
def dkwX4_setValue_1 : List UInt8 := [154, 0, 7, 5, 167, 0, 17, 42, 27, 28, 182, 0, 235, 156, 0, 7, 6, 167, 0, 4, 3, 181, 0, 62]
abbrev dktX4_setValue_1 : List UInt8 := dkwX4_setValue_1 ++ dktX4_setValue_2
def dkwX4_setValue_0 : List UInt8 := [42, 42, 27, 182, 0, 183, 154, 0, 7, 4, 167, 0, 35, 28, 184, 0, 232, 153, 0, 10, 29, 184, 0, 232]
abbrev dktX4_setValue_0 : List UInt8 := dkwX4_setValue_0 ++ dktX4_setValue_1
theorem dksX4_setValue_0 : cX4_setValue.data.toList.drop 0 = dktX4_setValue_0 := by decide +kernel
theorem dksX4_setValue_1 : cX4_setValue.data.toList.drop 24 = dktX4_setValue_1 := dk_seg dksX4_setValue_0 24 rfl rfl
theorem dksX4_setValue_2 : cX4_setValue.data.toList.drop 48 = dktX4_setValue_2 := dk_seg dksX4_setValue_1 24 rfl rfl
theorem dksX4_setValue_3 : cX4_setValue.data.toList.drop 71 = dktX4_setValue_3 := dk_seg dksX4_setValue_2 23 rfl rfl
theorem dksX4_setValue_4 : cX4_setValue.data.toList.drop 94 = dktX4_setValue_4 := dk_seg dksX4_setValue_3 23 rfl rfl
theorem dX4_setValue_0 : decode cX4_setValue 0 = .ok (.aload_n 0, 1) := dk_42 (dk_at dksX4_setValue_0 0 rfl rfl)
theorem dX4_setValue_1 : decode cX4_setValue 1 = .ok (.aload_n 0, 1) := dk_42 (dk_at dksX4_setValue_0 1 rfl rfl)
theorem dX4_setValue_2 : decode cX4_setValue 2 = .ok (.iload_n 1, 1) := dk_27 (dk_at dksX4_setValue_0 2 rfl rfl)
theorem dX4_setValue_3 : decode cX4_setValue 3 = .ok (.invokevirtual 183, 3) := dk_182 0 183 (dk_at dksX4_setValue_0 3 rfl rfl)
theorem dX4_setValue_6 : decode cX4_setValue 6 = .ok (.ifCond .ne 7, 3) := dk_154 0 7 (dk_at dksX4_setValue_0 6 rfl rfl)
theorem dX4_setValue_9 : decode cX4_setValue 9 = .ok (.iconst 1, 1) := dk_4 (dk_at dksX4_setValue_0 9 rfl rfl)
theorem dX4_setValue_10 : decode cX4_setValue 10 = .ok (.goto 35, 3) := dk_167 0 35 (dk_at dksX4_setValue_0 10 rfl rfl)
theorem dX4_setValue_13 : decode cX4_setValue 13 = .ok (.iload_n 2, 1) := dk_28 (dk_at dksX4_setValue_0 13 rfl rfl)
theorem dX4_setValue_14 : decode cX4_setValue 14 = .ok (.invokestatic 232, 3) := dk_184 0 232 (dk_at dksX4_setValue_0 14 rfl rfl)
theorem dX4_setValue_17 : decode cX4_setValue 17 = .ok (.ifCond .eq 10, 3) := dk_153 0 10 (dk_at dksX4_setValue_0 17 rfl rfl)
theorem dX4_setValue_20 : decode cX4_setValue 20 = .ok (.iload_n 3, 1) := dk_29 (dk_at dksX4_setValue_0 20 rfl rfl)
theorem dX4_setValue_21 : decode cX4_setValue 21 = .ok (.invokestatic 232, 3) := dk_184 0 232 (dk_at dksX4_setValue_0 21 rfl rfl)
theorem dX4_setValue_24 : decode cX4_setValue 24 = .ok (.ifCond .ne 7, 3) := dk_154 0 7 (dk_at dksX4_setValue_1 0 rfl rfl)
theorem dX4_setValue_27 : decode cX4_setValue 27 = .ok (.iconst 2, 1) := dk_5 (dk_at dksX4_setValue_1 3 rfl rfl)
theorem dX4_setValue_28 : decode cX4_setValue 28 = .ok (.goto 17, 3) := dk_167 0 17 (dk_at dksX4_setValue_1 4 rfl rfl)
theorem dX4_setValue_31 : decode cX4_setValue 31 = .ok (.aload_n 0, 1) := dk_42 (dk_at dksX4_setValue_1 7 rfl rfl)
theorem dX4_setValue_32 : decode cX4_setValue 32 = .ok (.iload_n 1, 1) := dk_27 (dk_at dksX4_setValue_1 8 rfl rfl)
theorem dX4_setValue_33 : decode cX4_setValue 33 = .ok (.iload_n 2, 1) := dk_28 (dk_at dksX4_setValue_1 9 rfl rfl)
theorem dX4_setValue_34 : decode cX4_setValue 34 = .ok (.invokevirtual 235, 3) := dk_182 0 235 (dk_at dksX4_setValue_1 10 rfl rfl)
theorem dX4_setValue_37 : decode cX4_setValue 37 = .ok (.ifCond .ge 7, 3) := dk_156 0 7 (dk_at dksX4_setValue_1 13 rfl rfl)
theorem dX4_setValue_40 : decode cX4_setValue 40 = .ok (.iconst 3, 1) := dk_6 (dk_at dksX4_setValue_1 16 rfl rfl)
theorem dX4_setValue_41 : decode cX4_setValue 41 = .ok (.goto 4, 3) := dk_167 0 4 (dk_at dksX4_setValue_1 17 rfl rfl)
theorem dX4_setValue_44 : decode cX4_setValue 44 = .ok (.iconst 0, 1) := dk_3 (dk_at dksX4_setValue_1 20 rfl rfl)
theorem dX4_setValue_45 : decode cX4_setValue 45 = .ok (.putfield 62, 3) := dk_181 0 62 (dk_at dksX4_setValue_1 21 rfl rfl)
theorem dX4_setValue_48 : decode cX4_setValue 48 = .ok (.aload_n 0, 1) := dk_42 (dk_at dksX4_setValue_2 0 rfl rfl)
theorem dX4_setValue_49 : decode cX4_setValue 49 = .ok (.getfield 62, 3) := dk_180 0 62 (dk_at dksX4_setValue_2 1 rfl rfl)
theorem dX4_setValue_52 : decode cX4_setValue 52 = .ok (.ifCond .le 5, 3) := dk_158 0 5 (dk_at dksX4_setValue_2 4 rfl rfl)
theorem dX4_setValue_55 : decode cX4_setValue 55 = .ok (.iconst 0, 1) := dk_3 (dk_at dksX4_setValue_2 7 rfl rfl)
theorem dX4_setValue_56 : decode cX4_setValue 56 = .ok (.ireturn, 1) := dk_172 (dk_at dksX4_setValue_2 8 rfl rfl)
theorem dX4_setValue_57 : decode cX4_setValue 57 = .ok (.aload_n 0, 1) := dk_42 (dk_at dksX4_setValue_2 9 rfl rfl)
theorem dX4_setValue_58 : decode cX4_setValue 58 = .ok (.invokevirtual 299, 3) := dk_182 1 43 (dk_at dksX4_setValue_2 10 rfl rfl)
theorem dX4_setValue_61 : decode cX4_setValue 61 = .ok (.iload_n 1, 1) := dk_27 (dk_at dksX4_setValue_2 13 rfl rfl)
theorem dX4_setValue_62 : decode cX4_setValue 62 = .ok (.invokestatic 171, 3) := dk_184 0 171 (dk_at dksX4_setValue_2 14 rfl rfl)
theorem dX4_setValue_65 : decode cX4_setValue 65 = .ok (.bipush 62, 2) := dk_16 62 (dk_at dksX4_setValue_2 17 rfl rfl)
theorem dX4_setValue_67 : decode cX4_setValue 67 = .ok (.iadd, 1) := dk_96 (dk_at dksX4_setValue_2 19 rfl rfl)
theorem dX4_setValue_68 : decode cX4_setValue 68 = .ok (.aload_n 0, 1) := dk_42 (dk_at dksX4_setValue_2 20 rfl rfl)
theorem dX4_setValue_69 : decode cX4_setValue 69 = .ok (.iload_n 1, 1) := dk_27 (dk_at dksX4_setValue_2 21 rfl rfl)
theorem dX4_setValue_70 : decode cX4_setValue 70 = .ok (.iload_n 2, 1) := dk_28 (dk_at dksX4_setValue_2 22 rfl rfl)
theorem dX4_setValue_71 : decode cX4_setValue 71 = .ok (.invokevirtual 235, 3) := dk_182 0 235 (dk_at dksX4_setValue_3 0 rfl rfl)
theorem dX4_setValue_74 : decode cX4_setValue 74 = .ok (.iadd, 1) := dk_96 (dk_at dksX4_setValue_3 3 rfl rfl)
theorem dX4_setValue_75 : decode cX4_setValue 75 = .ok (.istore 4, 2) := dk_54 4 (dk_at dksX4_setValue_3 4 rfl rfl)
theorem dX4_setValue_77 : decode cX4_setValue 77 = .ok (.aload_n 0, 1) := dk_42 (dk_at dksX4_setValue_3 6 rfl rfl)
theorem dX4_setValue_78 : decode cX4_setValue 78 = .ok (.getfield 7, 3) := dk_180 0 7 (dk_at dksX4_setValue_3 7 rfl rfl)
theorem dX4_setValue_81 : decode cX4_setValue 81 = .ok (.iload 4, 2) := dk_21 4 (dk_at dksX4_setValue_3 10 rfl rfl)
theorem dX4_setValue_83 : decode cX4_setValue 83 = .ok (.iaload, 1) := dk_46 (dk_at dksX4_setValue_3 12 rfl rfl)
theorem dX4_setValue_84 : decode cX4_setValue 84 = .ok (.istore 5, 2) := dk_54 5 (dk_at dksX4_setValue_3 13 rfl rfl)
theorem dX4_setValue_86 : decode cX4_setValue 86 = .ok (.aload_n 0, 1) := dk_42 (dk_at dksX4_setValue_3 15 rfl rfl)
theorem dX4_setValue_87 : decode cX4_setValue 87 = .ok (.getfield 7, 3) := dk_180 0 7 (dk_at dksX4_setValue_3 16 rfl rfl)
theorem dX4_setValue_90 : decode cX4_setValue 90 = .ok (.iload 4, 2) := dk_21 4 (dk_at dksX4_setValue_3 19 rfl rfl)
theorem dX4_setValue_92 : decode cX4_setValue 92 = .ok (.iload_n 3, 1) := dk_29 (dk_at dksX4_setValue_3 21 rfl rfl)
theorem dX4_setValue_93 : decode cX4_setValue 93 = .ok (.iastore, 1) := dk_79 (dk_at dksX4_setValue_3 22 rfl rfl)
theorem dX4_setValue_94 : decode cX4_setValue 94 = .ok (.iload 5, 2) := dk_21 5 (dk_at dksX4_setValue_4 0 rfl rfl)
theorem dX4_setValue_96 : decode cX4_setValue 96 = .ok (.ireturn, 1) := dk_172 (dk_at dksX4_setValue_4 2 rfl rfl)
abbrev cX4_split : ByteArray := prog_19_method_101_code
def yX4_split : MethodName := ⟨RX4, "split", "(II)I"⟩
def dkwX4_split_3 : List UInt8 := [182, 1, 52, 42, 27, 182, 0, 222, 42, 29, 182, 0, 222, 29, 172]
abbrev dktX4_split_3 : List UInt8 := dkwX4_split_3 ++ []
def dkwX4_split_2 : List UInt8 := [42, 182, 1, 43, 42, 182, 1, 40, 62, 42, 29, 182, 1, 46, 42, 27, 42, 27, 28, 182, 0, 190, 29]
abbrev dktX4_split_2 : List UInt8 := dkwX4_split_2 ++ dktX4_split_3
def dkwX4_split_1 : List UInt8 := [42, 182, 1, 40, 156, 0, 7, 6, 167, 0, 4, 3, 181, 0, 62, 42, 180, 0, 62, 158, 0, 5, 3, 172]
abbrev dktX4_split_1 : List UInt8 := dkwX4_split_1 ++ dktX4_split_2
def dkwX4_split_0 : List UInt8 := [42, 42, 27, 182, 0, 183, 154, 0, 7, 4, 167, 0, 26, 28, 184, 0, 232, 154, 0, 7, 5, 167, 0, 15]
abbrev dktX4_split_0 : List UInt8 := dkwX4_split_0 ++ dktX4_split_1
theorem dksX4_split_0 : cX4_split.data.toList.drop 0 = dktX4_split_0 := by decide +kernel
theorem dksX4_split_1 : cX4_split.data.toList.drop 24 = dktX4_split_1 := dk_seg dksX4_split_0 24 rfl rfl
theorem dksX4_split_2 : cX4_split.data.toList.drop 48 = dktX4_split_2 := dk_seg dksX4_split_1 24 rfl rfl
theorem dksX4_split_3 : cX4_split.data.toList.drop 71 = dktX4_split_3 := dk_seg dksX4_split_2 23 rfl rfl
theorem dX4_split_0 : decode cX4_split 0 = .ok (.aload_n 0, 1) := dk_42 (dk_at dksX4_split_0 0 rfl rfl)
theorem dX4_split_1 : decode cX4_split 1 = .ok (.aload_n 0, 1) := dk_42 (dk_at dksX4_split_0 1 rfl rfl)
theorem dX4_split_2 : decode cX4_split 2 = .ok (.iload_n 1, 1) := dk_27 (dk_at dksX4_split_0 2 rfl rfl)
theorem dX4_split_3 : decode cX4_split 3 = .ok (.invokevirtual 183, 3) := dk_182 0 183 (dk_at dksX4_split_0 3 rfl rfl)
theorem dX4_split_6 : decode cX4_split 6 = .ok (.ifCond .ne 7, 3) := dk_154 0 7 (dk_at dksX4_split_0 6 rfl rfl)
theorem dX4_split_9 : decode cX4_split 9 = .ok (.iconst 1, 1) := dk_4 (dk_at dksX4_split_0 9 rfl rfl)
theorem dX4_split_10 : decode cX4_split 10 = .ok (.goto 26, 3) := dk_167 0 26 (dk_at dksX4_split_0 10 rfl rfl)
theorem dX4_split_13 : decode cX4_split 13 = .ok (.iload_n 2, 1) := dk_28 (dk_at dksX4_split_0 13 rfl rfl)
theorem dX4_split_14 : decode cX4_split 14 = .ok (.invokestatic 232, 3) := dk_184 0 232 (dk_at dksX4_split_0 14 rfl rfl)
theorem dX4_split_17 : decode cX4_split 17 = .ok (.ifCond .ne 7, 3) := dk_154 0 7 (dk_at dksX4_split_0 17 rfl rfl)
theorem dX4_split_20 : decode cX4_split 20 = .ok (.iconst 2, 1) := dk_5 (dk_at dksX4_split_0 20 rfl rfl)
theorem dX4_split_21 : decode cX4_split 21 = .ok (.goto 15, 3) := dk_167 0 15 (dk_at dksX4_split_0 21 rfl rfl)
theorem dX4_split_24 : decode cX4_split 24 = .ok (.aload_n 0, 1) := dk_42 (dk_at dksX4_split_1 0 rfl rfl)
theorem dX4_split_25 : decode cX4_split 25 = .ok (.invokevirtual 296, 3) := dk_182 1 40 (dk_at dksX4_split_1 1 rfl rfl)
theorem dX4_split_28 : decode cX4_split 28 = .ok (.ifCond .ge 7, 3) := dk_156 0 7 (dk_at dksX4_split_1 4 rfl rfl)
theorem dX4_split_31 : decode cX4_split 31 = .ok (.iconst 3, 1) := dk_6 (dk_at dksX4_split_1 7 rfl rfl)
theorem dX4_split_32 : decode cX4_split 32 = .ok (.goto 4, 3) := dk_167 0 4 (dk_at dksX4_split_1 8 rfl rfl)
theorem dX4_split_35 : decode cX4_split 35 = .ok (.iconst 0, 1) := dk_3 (dk_at dksX4_split_1 11 rfl rfl)
theorem dX4_split_36 : decode cX4_split 36 = .ok (.putfield 62, 3) := dk_181 0 62 (dk_at dksX4_split_1 12 rfl rfl)
theorem dX4_split_39 : decode cX4_split 39 = .ok (.aload_n 0, 1) := dk_42 (dk_at dksX4_split_1 15 rfl rfl)
theorem dX4_split_40 : decode cX4_split 40 = .ok (.getfield 62, 3) := dk_180 0 62 (dk_at dksX4_split_1 16 rfl rfl)
theorem dX4_split_43 : decode cX4_split 43 = .ok (.ifCond .le 5, 3) := dk_158 0 5 (dk_at dksX4_split_1 19 rfl rfl)
theorem dX4_split_46 : decode cX4_split 46 = .ok (.iconst 0, 1) := dk_3 (dk_at dksX4_split_1 22 rfl rfl)
theorem dX4_split_47 : decode cX4_split 47 = .ok (.ireturn, 1) := dk_172 (dk_at dksX4_split_1 23 rfl rfl)
theorem dX4_split_48 : decode cX4_split 48 = .ok (.aload_n 0, 1) := dk_42 (dk_at dksX4_split_2 0 rfl rfl)
theorem dX4_split_49 : decode cX4_split 49 = .ok (.invokevirtual 299, 3) := dk_182 1 43 (dk_at dksX4_split_2 1 rfl rfl)
theorem dX4_split_52 : decode cX4_split 52 = .ok (.aload_n 0, 1) := dk_42 (dk_at dksX4_split_2 4 rfl rfl)
theorem dX4_split_53 : decode cX4_split 53 = .ok (.invokevirtual 296, 3) := dk_182 1 40 (dk_at dksX4_split_2 5 rfl rfl)
theorem dX4_split_56 : decode cX4_split 56 = .ok (.istore_n 3, 1) := dk_62 (dk_at dksX4_split_2 8 rfl rfl)
theorem dX4_split_57 : decode cX4_split 57 = .ok (.aload_n 0, 1) := dk_42 (dk_at dksX4_split_2 9 rfl rfl)
theorem dX4_split_58 : decode cX4_split 58 = .ok (.iload_n 3, 1) := dk_29 (dk_at dksX4_split_2 10 rfl rfl)
theorem dX4_split_59 : decode cX4_split 59 = .ok (.invokevirtual 302, 3) := dk_182 1 46 (dk_at dksX4_split_2 11 rfl rfl)
theorem dX4_split_62 : decode cX4_split 62 = .ok (.aload_n 0, 1) := dk_42 (dk_at dksX4_split_2 14 rfl rfl)
theorem dX4_split_63 : decode cX4_split 63 = .ok (.iload_n 1, 1) := dk_27 (dk_at dksX4_split_2 15 rfl rfl)
theorem dX4_split_64 : decode cX4_split 64 = .ok (.aload_n 0, 1) := dk_42 (dk_at dksX4_split_2 16 rfl rfl)
theorem dX4_split_65 : decode cX4_split 65 = .ok (.iload_n 1, 1) := dk_27 (dk_at dksX4_split_2 17 rfl rfl)
theorem dX4_split_66 : decode cX4_split 66 = .ok (.iload_n 2, 1) := dk_28 (dk_at dksX4_split_2 18 rfl rfl)
theorem dX4_split_67 : decode cX4_split 67 = .ok (.invokevirtual 190, 3) := dk_182 0 190 (dk_at dksX4_split_2 19 rfl rfl)
theorem dX4_split_70 : decode cX4_split 70 = .ok (.iload_n 3, 1) := dk_29 (dk_at dksX4_split_2 22 rfl rfl)
theorem dX4_split_71 : decode cX4_split 71 = .ok (.invokevirtual 308, 3) := dk_182 1 52 (dk_at dksX4_split_3 0 rfl rfl)
theorem dX4_split_74 : decode cX4_split 74 = .ok (.aload_n 0, 1) := dk_42 (dk_at dksX4_split_3 3 rfl rfl)
theorem dX4_split_75 : decode cX4_split 75 = .ok (.iload_n 1, 1) := dk_27 (dk_at dksX4_split_3 4 rfl rfl)
theorem dX4_split_76 : decode cX4_split 76 = .ok (.invokevirtual 222, 3) := dk_182 0 222 (dk_at dksX4_split_3 5 rfl rfl)
theorem dX4_split_79 : decode cX4_split 79 = .ok (.aload_n 0, 1) := dk_42 (dk_at dksX4_split_3 8 rfl rfl)
theorem dX4_split_80 : decode cX4_split 80 = .ok (.iload_n 3, 1) := dk_29 (dk_at dksX4_split_3 9 rfl rfl)
theorem dX4_split_81 : decode cX4_split 81 = .ok (.invokevirtual 222, 3) := dk_182 0 222 (dk_at dksX4_split_3 10 rfl rfl)
theorem dX4_split_84 : decode cX4_split 84 = .ok (.iload_n 3, 1) := dk_29 (dk_at dksX4_split_3 13 rfl rfl)
theorem dX4_split_85 : decode cX4_split 85 = .ok (.ireturn, 1) := dk_172 (dk_at dksX4_split_3 14 rfl rfl)
abbrev cX4_moves : ByteArray := prog_19_method_99_code
def yX4_moves : MethodName := ⟨RX4, "moves", "(III)V"⟩
def dkwX4_moves_6 : List UInt8 := [96, 28, 79, 177]
abbrev dktX4_moves_6 : List UInt8 := dkwX4_moves_6 ++ []
def dkwX4_moves_5 : List UInt8 := [132, 7, 1, 167, 255, 164, 42, 180, 0, 7, 21, 5, 4, 96, 21, 6, 79, 42, 180, 0, 7, 21, 4, 4]
abbrev dktX4_moves_5 : List UInt8 := dkwX4_moves_5 ++ dktX4_moves_6
def dkwX4_moves_4 : List UInt8 := [21, 5, 16, 122, 96, 21, 7, 96, 42, 180, 0, 7, 21, 4, 16, 122, 96, 28, 96, 21, 7, 96, 46, 79]
abbrev dktX4_moves_4 : List UInt8 := dkwX4_moves_4 ++ dktX4_moves_5
def dkwX4_moves_3 : List UInt8 := [21, 7, 96, 42, 180, 0, 7, 21, 4, 16, 62, 96, 28, 96, 21, 7, 96, 46, 79, 42, 180, 0, 7]
abbrev dktX4_moves_3 : List UInt8 := dkwX4_moves_3 ++ dktX4_moves_4
def dkwX4_moves_2 : List UInt8 := [180, 0, 7, 21, 4, 5, 96, 28, 96, 21, 7, 96, 46, 79, 42, 180, 0, 7, 21, 5, 16, 62, 96]
abbrev dktX4_moves_2 : List UInt8 := dkwX4_moves_2 ++ dktX4_moves_3
def dkwX4_moves_1 : List UInt8 := [54, 6, 3, 54, 7, 21, 7, 21, 6, 162, 0, 91, 42, 180, 0, 7, 21, 5, 5, 96, 21, 7, 96, 42]
abbrev dktX4_moves_1 : List UInt8 := dkwX4_moves_1 ++ dktX4_moves_2
def dkwX4_moves_0 : List UInt8 := [27, 184, 0, 171, 54, 4, 29, 184, 0, 171, 54, 5, 42, 180, 0, 7, 21, 4, 4, 96, 46, 28, 100]
abbrev dktX4_moves_0 : List UInt8 := dkwX4_moves_0 ++ dktX4_moves_1
theorem dksX4_moves_0 : cX4_moves.data.toList.drop 0 = dktX4_moves_0 := by decide +kernel
theorem dksX4_moves_1 : cX4_moves.data.toList.drop 23 = dktX4_moves_1 := dk_seg dksX4_moves_0 23 rfl rfl
theorem dksX4_moves_2 : cX4_moves.data.toList.drop 47 = dktX4_moves_2 := dk_seg dksX4_moves_1 24 rfl rfl
theorem dksX4_moves_3 : cX4_moves.data.toList.drop 70 = dktX4_moves_3 := dk_seg dksX4_moves_2 23 rfl rfl
theorem dksX4_moves_4 : cX4_moves.data.toList.drop 93 = dktX4_moves_4 := dk_seg dksX4_moves_3 23 rfl rfl
theorem dksX4_moves_5 : cX4_moves.data.toList.drop 117 = dktX4_moves_5 := dk_seg dksX4_moves_4 24 rfl rfl
theorem dksX4_moves_6 : cX4_moves.data.toList.drop 141 = dktX4_moves_6 := dk_seg dksX4_moves_5 24 rfl rfl
theorem dX4_moves_0 : decode cX4_moves 0 = .ok (.iload_n 1, 1) := dk_27 (dk_at dksX4_moves_0 0 rfl rfl)
theorem dX4_moves_1 : decode cX4_moves 1 = .ok (.invokestatic 171, 3) := dk_184 0 171 (dk_at dksX4_moves_0 1 rfl rfl)
theorem dX4_moves_4 : decode cX4_moves 4 = .ok (.istore 4, 2) := dk_54 4 (dk_at dksX4_moves_0 4 rfl rfl)
theorem dX4_moves_6 : decode cX4_moves 6 = .ok (.iload_n 3, 1) := dk_29 (dk_at dksX4_moves_0 6 rfl rfl)
theorem dX4_moves_7 : decode cX4_moves 7 = .ok (.invokestatic 171, 3) := dk_184 0 171 (dk_at dksX4_moves_0 7 rfl rfl)
theorem dX4_moves_10 : decode cX4_moves 10 = .ok (.istore 5, 2) := dk_54 5 (dk_at dksX4_moves_0 10 rfl rfl)
theorem dX4_moves_12 : decode cX4_moves 12 = .ok (.aload_n 0, 1) := dk_42 (dk_at dksX4_moves_0 12 rfl rfl)
theorem dX4_moves_13 : decode cX4_moves 13 = .ok (.getfield 7, 3) := dk_180 0 7 (dk_at dksX4_moves_0 13 rfl rfl)
theorem dX4_moves_16 : decode cX4_moves 16 = .ok (.iload 4, 2) := dk_21 4 (dk_at dksX4_moves_0 16 rfl rfl)
theorem dX4_moves_18 : decode cX4_moves 18 = .ok (.iconst 1, 1) := dk_4 (dk_at dksX4_moves_0 18 rfl rfl)
theorem dX4_moves_19 : decode cX4_moves 19 = .ok (.iadd, 1) := dk_96 (dk_at dksX4_moves_0 19 rfl rfl)
theorem dX4_moves_20 : decode cX4_moves 20 = .ok (.iaload, 1) := dk_46 (dk_at dksX4_moves_0 20 rfl rfl)
theorem dX4_moves_21 : decode cX4_moves 21 = .ok (.iload_n 2, 1) := dk_28 (dk_at dksX4_moves_0 21 rfl rfl)
theorem dX4_moves_22 : decode cX4_moves 22 = .ok (.isub, 1) := dk_100 (dk_at dksX4_moves_0 22 rfl rfl)
theorem dX4_moves_23 : decode cX4_moves 23 = .ok (.istore 6, 2) := dk_54 6 (dk_at dksX4_moves_1 0 rfl rfl)
theorem dX4_moves_25 : decode cX4_moves 25 = .ok (.iconst 0, 1) := dk_3 (dk_at dksX4_moves_1 2 rfl rfl)
theorem dX4_moves_26 : decode cX4_moves 26 = .ok (.istore 7, 2) := dk_54 7 (dk_at dksX4_moves_1 3 rfl rfl)
theorem dX4_moves_28 : decode cX4_moves 28 = .ok (.iload 7, 2) := dk_21 7 (dk_at dksX4_moves_1 5 rfl rfl)
theorem dX4_moves_30 : decode cX4_moves 30 = .ok (.iload 6, 2) := dk_21 6 (dk_at dksX4_moves_1 7 rfl rfl)
theorem dX4_moves_32 : decode cX4_moves 32 = .ok (.if_icmp .ge 91, 3) := dk_162 0 91 (dk_at dksX4_moves_1 9 rfl rfl)
theorem dX4_moves_35 : decode cX4_moves 35 = .ok (.aload_n 0, 1) := dk_42 (dk_at dksX4_moves_1 12 rfl rfl)
theorem dX4_moves_36 : decode cX4_moves 36 = .ok (.getfield 7, 3) := dk_180 0 7 (dk_at dksX4_moves_1 13 rfl rfl)
theorem dX4_moves_39 : decode cX4_moves 39 = .ok (.iload 5, 2) := dk_21 5 (dk_at dksX4_moves_1 16 rfl rfl)
theorem dX4_moves_41 : decode cX4_moves 41 = .ok (.iconst 2, 1) := dk_5 (dk_at dksX4_moves_1 18 rfl rfl)
theorem dX4_moves_42 : decode cX4_moves 42 = .ok (.iadd, 1) := dk_96 (dk_at dksX4_moves_1 19 rfl rfl)
theorem dX4_moves_43 : decode cX4_moves 43 = .ok (.iload 7, 2) := dk_21 7 (dk_at dksX4_moves_1 20 rfl rfl)
theorem dX4_moves_45 : decode cX4_moves 45 = .ok (.iadd, 1) := dk_96 (dk_at dksX4_moves_1 22 rfl rfl)
theorem dX4_moves_46 : decode cX4_moves 46 = .ok (.aload_n 0, 1) := dk_42 (dk_at dksX4_moves_1 23 rfl rfl)
theorem dX4_moves_47 : decode cX4_moves 47 = .ok (.getfield 7, 3) := dk_180 0 7 (dk_at dksX4_moves_2 0 rfl rfl)
theorem dX4_moves_50 : decode cX4_moves 50 = .ok (.iload 4, 2) := dk_21 4 (dk_at dksX4_moves_2 3 rfl rfl)
theorem dX4_moves_52 : decode cX4_moves 52 = .ok (.iconst 2, 1) := dk_5 (dk_at dksX4_moves_2 5 rfl rfl)
theorem dX4_moves_53 : decode cX4_moves 53 = .ok (.iadd, 1) := dk_96 (dk_at dksX4_moves_2 6 rfl rfl)
theorem dX4_moves_54 : decode cX4_moves 54 = .ok (.iload_n 2, 1) := dk_28 (dk_at dksX4_moves_2 7 rfl rfl)
theorem dX4_moves_55 : decode cX4_moves 55 = .ok (.iadd, 1) := dk_96 (dk_at dksX4_moves_2 8 rfl rfl)
theorem dX4_moves_56 : decode cX4_moves 56 = .ok (.iload 7, 2) := dk_21 7 (dk_at dksX4_moves_2 9 rfl rfl)
theorem dX4_moves_58 : decode cX4_moves 58 = .ok (.iadd, 1) := dk_96 (dk_at dksX4_moves_2 11 rfl rfl)
theorem dX4_moves_59 : decode cX4_moves 59 = .ok (.iaload, 1) := dk_46 (dk_at dksX4_moves_2 12 rfl rfl)
theorem dX4_moves_60 : decode cX4_moves 60 = .ok (.iastore, 1) := dk_79 (dk_at dksX4_moves_2 13 rfl rfl)
theorem dX4_moves_61 : decode cX4_moves 61 = .ok (.aload_n 0, 1) := dk_42 (dk_at dksX4_moves_2 14 rfl rfl)
theorem dX4_moves_62 : decode cX4_moves 62 = .ok (.getfield 7, 3) := dk_180 0 7 (dk_at dksX4_moves_2 15 rfl rfl)
theorem dX4_moves_65 : decode cX4_moves 65 = .ok (.iload 5, 2) := dk_21 5 (dk_at dksX4_moves_2 18 rfl rfl)
theorem dX4_moves_67 : decode cX4_moves 67 = .ok (.bipush 62, 2) := dk_16 62 (dk_at dksX4_moves_2 20 rfl rfl)
theorem dX4_moves_69 : decode cX4_moves 69 = .ok (.iadd, 1) := dk_96 (dk_at dksX4_moves_2 22 rfl rfl)
theorem dX4_moves_70 : decode cX4_moves 70 = .ok (.iload 7, 2) := dk_21 7 (dk_at dksX4_moves_3 0 rfl rfl)
theorem dX4_moves_72 : decode cX4_moves 72 = .ok (.iadd, 1) := dk_96 (dk_at dksX4_moves_3 2 rfl rfl)
theorem dX4_moves_73 : decode cX4_moves 73 = .ok (.aload_n 0, 1) := dk_42 (dk_at dksX4_moves_3 3 rfl rfl)
theorem dX4_moves_74 : decode cX4_moves 74 = .ok (.getfield 7, 3) := dk_180 0 7 (dk_at dksX4_moves_3 4 rfl rfl)
theorem dX4_moves_77 : decode cX4_moves 77 = .ok (.iload 4, 2) := dk_21 4 (dk_at dksX4_moves_3 7 rfl rfl)
theorem dX4_moves_79 : decode cX4_moves 79 = .ok (.bipush 62, 2) := dk_16 62 (dk_at dksX4_moves_3 9 rfl rfl)
theorem dX4_moves_81 : decode cX4_moves 81 = .ok (.iadd, 1) := dk_96 (dk_at dksX4_moves_3 11 rfl rfl)
theorem dX4_moves_82 : decode cX4_moves 82 = .ok (.iload_n 2, 1) := dk_28 (dk_at dksX4_moves_3 12 rfl rfl)
theorem dX4_moves_83 : decode cX4_moves 83 = .ok (.iadd, 1) := dk_96 (dk_at dksX4_moves_3 13 rfl rfl)
theorem dX4_moves_84 : decode cX4_moves 84 = .ok (.iload 7, 2) := dk_21 7 (dk_at dksX4_moves_3 14 rfl rfl)
theorem dX4_moves_86 : decode cX4_moves 86 = .ok (.iadd, 1) := dk_96 (dk_at dksX4_moves_3 16 rfl rfl)
theorem dX4_moves_87 : decode cX4_moves 87 = .ok (.iaload, 1) := dk_46 (dk_at dksX4_moves_3 17 rfl rfl)
theorem dX4_moves_88 : decode cX4_moves 88 = .ok (.iastore, 1) := dk_79 (dk_at dksX4_moves_3 18 rfl rfl)
theorem dX4_moves_89 : decode cX4_moves 89 = .ok (.aload_n 0, 1) := dk_42 (dk_at dksX4_moves_3 19 rfl rfl)
theorem dX4_moves_90 : decode cX4_moves 90 = .ok (.getfield 7, 3) := dk_180 0 7 (dk_at dksX4_moves_3 20 rfl rfl)
theorem dX4_moves_93 : decode cX4_moves 93 = .ok (.iload 5, 2) := dk_21 5 (dk_at dksX4_moves_4 0 rfl rfl)
theorem dX4_moves_95 : decode cX4_moves 95 = .ok (.bipush 122, 2) := dk_16 122 (dk_at dksX4_moves_4 2 rfl rfl)
theorem dX4_moves_97 : decode cX4_moves 97 = .ok (.iadd, 1) := dk_96 (dk_at dksX4_moves_4 4 rfl rfl)
theorem dX4_moves_98 : decode cX4_moves 98 = .ok (.iload 7, 2) := dk_21 7 (dk_at dksX4_moves_4 5 rfl rfl)
theorem dX4_moves_100 : decode cX4_moves 100 = .ok (.iadd, 1) := dk_96 (dk_at dksX4_moves_4 7 rfl rfl)
theorem dX4_moves_101 : decode cX4_moves 101 = .ok (.aload_n 0, 1) := dk_42 (dk_at dksX4_moves_4 8 rfl rfl)
theorem dX4_moves_102 : decode cX4_moves 102 = .ok (.getfield 7, 3) := dk_180 0 7 (dk_at dksX4_moves_4 9 rfl rfl)
theorem dX4_moves_105 : decode cX4_moves 105 = .ok (.iload 4, 2) := dk_21 4 (dk_at dksX4_moves_4 12 rfl rfl)
theorem dX4_moves_107 : decode cX4_moves 107 = .ok (.bipush 122, 2) := dk_16 122 (dk_at dksX4_moves_4 14 rfl rfl)
theorem dX4_moves_109 : decode cX4_moves 109 = .ok (.iadd, 1) := dk_96 (dk_at dksX4_moves_4 16 rfl rfl)
theorem dX4_moves_110 : decode cX4_moves 110 = .ok (.iload_n 2, 1) := dk_28 (dk_at dksX4_moves_4 17 rfl rfl)
theorem dX4_moves_111 : decode cX4_moves 111 = .ok (.iadd, 1) := dk_96 (dk_at dksX4_moves_4 18 rfl rfl)
theorem dX4_moves_112 : decode cX4_moves 112 = .ok (.iload 7, 2) := dk_21 7 (dk_at dksX4_moves_4 19 rfl rfl)
theorem dX4_moves_114 : decode cX4_moves 114 = .ok (.iadd, 1) := dk_96 (dk_at dksX4_moves_4 21 rfl rfl)
theorem dX4_moves_115 : decode cX4_moves 115 = .ok (.iaload, 1) := dk_46 (dk_at dksX4_moves_4 22 rfl rfl)
theorem dX4_moves_116 : decode cX4_moves 116 = .ok (.iastore, 1) := dk_79 (dk_at dksX4_moves_4 23 rfl rfl)
theorem dX4_moves_117 : decode cX4_moves 117 = .ok (.iinc 7 1, 3) := dk_132 7 1 (dk_at dksX4_moves_5 0 rfl rfl)
theorem dX4_moves_120 : decode cX4_moves 120 = .ok (.goto (-92), 3) := dk_167 255 164 (dk_at dksX4_moves_5 3 rfl rfl)
theorem dX4_moves_123 : decode cX4_moves 123 = .ok (.aload_n 0, 1) := dk_42 (dk_at dksX4_moves_5 6 rfl rfl)
theorem dX4_moves_124 : decode cX4_moves 124 = .ok (.getfield 7, 3) := dk_180 0 7 (dk_at dksX4_moves_5 7 rfl rfl)
theorem dX4_moves_127 : decode cX4_moves 127 = .ok (.iload 5, 2) := dk_21 5 (dk_at dksX4_moves_5 10 rfl rfl)
theorem dX4_moves_129 : decode cX4_moves 129 = .ok (.iconst 1, 1) := dk_4 (dk_at dksX4_moves_5 12 rfl rfl)
theorem dX4_moves_130 : decode cX4_moves 130 = .ok (.iadd, 1) := dk_96 (dk_at dksX4_moves_5 13 rfl rfl)
theorem dX4_moves_131 : decode cX4_moves 131 = .ok (.iload 6, 2) := dk_21 6 (dk_at dksX4_moves_5 14 rfl rfl)
theorem dX4_moves_133 : decode cX4_moves 133 = .ok (.iastore, 1) := dk_79 (dk_at dksX4_moves_5 16 rfl rfl)
theorem dX4_moves_134 : decode cX4_moves 134 = .ok (.aload_n 0, 1) := dk_42 (dk_at dksX4_moves_5 17 rfl rfl)
theorem dX4_moves_135 : decode cX4_moves 135 = .ok (.getfield 7, 3) := dk_180 0 7 (dk_at dksX4_moves_5 18 rfl rfl)
theorem dX4_moves_138 : decode cX4_moves 138 = .ok (.iload 4, 2) := dk_21 4 (dk_at dksX4_moves_5 21 rfl rfl)
theorem dX4_moves_140 : decode cX4_moves 140 = .ok (.iconst 1, 1) := dk_4 (dk_at dksX4_moves_5 23 rfl rfl)
theorem dX4_moves_141 : decode cX4_moves 141 = .ok (.iadd, 1) := dk_96 (dk_at dksX4_moves_6 0 rfl rfl)
theorem dX4_moves_142 : decode cX4_moves 142 = .ok (.iload_n 2, 1) := dk_28 (dk_at dksX4_moves_6 1 rfl rfl)
theorem dX4_moves_143 : decode cX4_moves 143 = .ok (.iastore, 1) := dk_79 (dk_at dksX4_moves_6 2 rfl rfl)
theorem dX4_moves_144 : decode cX4_moves 144 = .ok (.return_, 1) := dk_177 (dk_at dksX4_moves_6 3 rfl rfl)
abbrev cX4_cut : ByteArray := prog_19_method_102_code
def yX4_cut : MethodName := ⟨RX4, "cut", "(III)I"⟩
def dkwX4_cut_15 : List UInt8 := [172]
abbrev dktX4_cut_15 : List UInt8 := dkwX4_cut_15 ++ []
def dkwX4_cut_14 : List UInt8 := [180, 0, 7, 21, 5, 4, 96, 21, 7, 42, 180, 0, 40, 4, 46, 96, 79, 42, 27, 182, 0, 222, 21, 4]
abbrev dktX4_cut_14 : List UInt8 := dkwX4_cut_14 ++ dktX4_cut_15
def dkwX4_cut_13 : List UInt8 := [21, 7, 96, 21, 8, 96, 42, 180, 0, 40, 16, 122, 21, 8, 96, 46, 79, 132, 8, 1, 167, 255, 166, 42]
abbrev dktX4_cut_13 : List UInt8 := dkwX4_cut_13 ++ dktX4_cut_14
def dkwX4_cut_12 : List UInt8 := [21, 8, 96, 42, 180, 0, 40, 16, 62, 21, 8, 96, 46, 79, 42, 180, 0, 7, 21, 5, 16, 122, 96]
abbrev dktX4_cut_12 : List UInt8 := dkwX4_cut_12 ++ dktX4_cut_13
def dkwX4_cut_11 : List UInt8 := [96, 42, 180, 0, 40, 5, 21, 8, 96, 46, 79, 42, 180, 0, 7, 21, 5, 16, 62, 96, 21, 7, 96]
abbrev dktX4_cut_11 : List UInt8 := dkwX4_cut_11 ++ dktX4_cut_12
def dkwX4_cut_10 : List UInt8 := [21, 8, 42, 180, 0, 40, 4, 46, 162, 0, 85, 42, 180, 0, 7, 21, 5, 5, 96, 21, 7, 96, 21, 8]
abbrev dktX4_cut_10 : List UInt8 := dkwX4_cut_10 ++ dktX4_cut_11
def dkwX4_cut_9 : List UInt8 := [96, 21, 8, 79, 132, 7, 1, 167, 255, 207, 42, 180, 0, 7, 21, 5, 4, 96, 46, 54, 7, 3, 54, 8]
abbrev dktX4_cut_9 : List UInt8 := dkwX4_cut_9 ++ dktX4_cut_10
def dkwX4_cut_8 : List UInt8 := [180, 0, 40, 21, 7, 42, 180, 0, 7, 21, 5, 21, 7, 96, 46, 79, 42, 180, 0, 7, 21, 5, 21, 7]
abbrev dktX4_cut_8 : List UInt8 := dkwX4_cut_8 ++ dktX4_cut_9
def dkwX4_cut_7 : List UInt8 := [182, 0, 222, 3, 54, 7, 21, 7, 17, 0, 182, 162, 0, 47, 42, 180, 0, 40, 21, 7, 46, 54, 8, 42]
abbrev dktX4_cut_7 : List UInt8 := dkwX4_cut_7 ++ dktX4_cut_8
def dkwX4_cut_6 : List UInt8 := [79, 132, 7, 1, 167, 255, 228, 42, 21, 4, 21, 6, 27, 182, 1, 52, 42, 21, 4, 182, 0, 222, 42, 27]
abbrev dktX4_cut_6 : List UInt8 := dkwX4_cut_6 ++ dktX4_cut_7
def dkwX4_cut_5 : List UInt8 := [21, 7, 17, 0, 182, 162, 0, 26, 42, 180, 0, 40, 21, 7, 42, 180, 0, 7, 21, 5, 21, 7, 96, 46]
abbrev dktX4_cut_5 : List UInt8 := dkwX4_cut_5 ++ dktX4_cut_6
def dkwX4_cut_4 : List UInt8 := [21, 4, 182, 0, 222, 27, 184, 0, 171, 54, 5, 42, 21, 4, 29, 182, 0, 190, 54, 6, 3, 54, 7]
abbrev dktX4_cut_4 : List UInt8 := dkwX4_cut_4 ++ dktX4_cut_5
def dkwX4_cut_3 : List UInt8 := [21, 4, 182, 1, 46, 42, 27, 42, 27, 28, 182, 0, 190, 21, 4, 182, 1, 52, 42, 27, 182, 0, 222, 42]
abbrev dktX4_cut_3 : List UInt8 := dkwX4_cut_3 ++ dktX4_cut_4
def dkwX4_cut_2 : List UInt8 := [181, 0, 62, 42, 180, 0, 62, 158, 0, 5, 3, 172, 42, 182, 1, 43, 42, 182, 1, 40, 54, 4, 42]
abbrev dktX4_cut_2 : List UInt8 := dkwX4_cut_2 ++ dktX4_cut_3
def dkwX4_cut_1 : List UInt8 := [153, 0, 8, 28, 29, 164, 0, 7, 5, 167, 0, 15, 42, 182, 1, 40, 156, 0, 7, 6, 167, 0, 4, 3]
abbrev dktX4_cut_1 : List UInt8 := dkwX4_cut_1 ++ dktX4_cut_2
def dkwX4_cut_0 : List UInt8 := [42, 42, 27, 182, 0, 183, 154, 0, 7, 4, 167, 0, 38, 28, 184, 0, 232, 153, 0, 15, 29, 184, 0, 232]
abbrev dktX4_cut_0 : List UInt8 := dkwX4_cut_0 ++ dktX4_cut_1
theorem dksX4_cut_0 : cX4_cut.data.toList.drop 0 = dktX4_cut_0 := by decide +kernel
theorem dksX4_cut_1 : cX4_cut.data.toList.drop 24 = dktX4_cut_1 := dk_seg dksX4_cut_0 24 rfl rfl
theorem dksX4_cut_2 : cX4_cut.data.toList.drop 48 = dktX4_cut_2 := dk_seg dksX4_cut_1 24 rfl rfl
theorem dksX4_cut_3 : cX4_cut.data.toList.drop 71 = dktX4_cut_3 := dk_seg dksX4_cut_2 23 rfl rfl
theorem dksX4_cut_4 : cX4_cut.data.toList.drop 95 = dktX4_cut_4 := dk_seg dksX4_cut_3 24 rfl rfl
theorem dksX4_cut_5 : cX4_cut.data.toList.drop 118 = dktX4_cut_5 := dk_seg dksX4_cut_4 23 rfl rfl
theorem dksX4_cut_6 : cX4_cut.data.toList.drop 142 = dktX4_cut_6 := dk_seg dksX4_cut_5 24 rfl rfl
theorem dksX4_cut_7 : cX4_cut.data.toList.drop 166 = dktX4_cut_7 := dk_seg dksX4_cut_6 24 rfl rfl
theorem dksX4_cut_8 : cX4_cut.data.toList.drop 190 = dktX4_cut_8 := dk_seg dksX4_cut_7 24 rfl rfl
theorem dksX4_cut_9 : cX4_cut.data.toList.drop 214 = dktX4_cut_9 := dk_seg dksX4_cut_8 24 rfl rfl
theorem dksX4_cut_10 : cX4_cut.data.toList.drop 238 = dktX4_cut_10 := dk_seg dksX4_cut_9 24 rfl rfl
theorem dksX4_cut_11 : cX4_cut.data.toList.drop 262 = dktX4_cut_11 := dk_seg dksX4_cut_10 24 rfl rfl
theorem dksX4_cut_12 : cX4_cut.data.toList.drop 285 = dktX4_cut_12 := dk_seg dksX4_cut_11 23 rfl rfl
theorem dksX4_cut_13 : cX4_cut.data.toList.drop 308 = dktX4_cut_13 := dk_seg dksX4_cut_12 23 rfl rfl
theorem dksX4_cut_14 : cX4_cut.data.toList.drop 332 = dktX4_cut_14 := dk_seg dksX4_cut_13 24 rfl rfl
theorem dksX4_cut_15 : cX4_cut.data.toList.drop 356 = dktX4_cut_15 := dk_seg dksX4_cut_14 24 rfl rfl
theorem dX4_cut_0 : decode cX4_cut 0 = .ok (.aload_n 0, 1) := dk_42 (dk_at dksX4_cut_0 0 rfl rfl)
theorem dX4_cut_1 : decode cX4_cut 1 = .ok (.aload_n 0, 1) := dk_42 (dk_at dksX4_cut_0 1 rfl rfl)
theorem dX4_cut_2 : decode cX4_cut 2 = .ok (.iload_n 1, 1) := dk_27 (dk_at dksX4_cut_0 2 rfl rfl)
theorem dX4_cut_3 : decode cX4_cut 3 = .ok (.invokevirtual 183, 3) := dk_182 0 183 (dk_at dksX4_cut_0 3 rfl rfl)
theorem dX4_cut_6 : decode cX4_cut 6 = .ok (.ifCond .ne 7, 3) := dk_154 0 7 (dk_at dksX4_cut_0 6 rfl rfl)
theorem dX4_cut_9 : decode cX4_cut 9 = .ok (.iconst 1, 1) := dk_4 (dk_at dksX4_cut_0 9 rfl rfl)
theorem dX4_cut_10 : decode cX4_cut 10 = .ok (.goto 38, 3) := dk_167 0 38 (dk_at dksX4_cut_0 10 rfl rfl)
theorem dX4_cut_13 : decode cX4_cut 13 = .ok (.iload_n 2, 1) := dk_28 (dk_at dksX4_cut_0 13 rfl rfl)
theorem dX4_cut_14 : decode cX4_cut 14 = .ok (.invokestatic 232, 3) := dk_184 0 232 (dk_at dksX4_cut_0 14 rfl rfl)
theorem dX4_cut_17 : decode cX4_cut 17 = .ok (.ifCond .eq 15, 3) := dk_153 0 15 (dk_at dksX4_cut_0 17 rfl rfl)
theorem dX4_cut_20 : decode cX4_cut 20 = .ok (.iload_n 3, 1) := dk_29 (dk_at dksX4_cut_0 20 rfl rfl)
theorem dX4_cut_21 : decode cX4_cut 21 = .ok (.invokestatic 232, 3) := dk_184 0 232 (dk_at dksX4_cut_0 21 rfl rfl)
theorem dX4_cut_24 : decode cX4_cut 24 = .ok (.ifCond .eq 8, 3) := dk_153 0 8 (dk_at dksX4_cut_1 0 rfl rfl)
theorem dX4_cut_27 : decode cX4_cut 27 = .ok (.iload_n 2, 1) := dk_28 (dk_at dksX4_cut_1 3 rfl rfl)
theorem dX4_cut_28 : decode cX4_cut 28 = .ok (.iload_n 3, 1) := dk_29 (dk_at dksX4_cut_1 4 rfl rfl)
theorem dX4_cut_29 : decode cX4_cut 29 = .ok (.if_icmp .le 7, 3) := dk_164 0 7 (dk_at dksX4_cut_1 5 rfl rfl)
theorem dX4_cut_32 : decode cX4_cut 32 = .ok (.iconst 2, 1) := dk_5 (dk_at dksX4_cut_1 8 rfl rfl)
theorem dX4_cut_33 : decode cX4_cut 33 = .ok (.goto 15, 3) := dk_167 0 15 (dk_at dksX4_cut_1 9 rfl rfl)
theorem dX4_cut_36 : decode cX4_cut 36 = .ok (.aload_n 0, 1) := dk_42 (dk_at dksX4_cut_1 12 rfl rfl)
theorem dX4_cut_37 : decode cX4_cut 37 = .ok (.invokevirtual 296, 3) := dk_182 1 40 (dk_at dksX4_cut_1 13 rfl rfl)
theorem dX4_cut_40 : decode cX4_cut 40 = .ok (.ifCond .ge 7, 3) := dk_156 0 7 (dk_at dksX4_cut_1 16 rfl rfl)
theorem dX4_cut_43 : decode cX4_cut 43 = .ok (.iconst 3, 1) := dk_6 (dk_at dksX4_cut_1 19 rfl rfl)
theorem dX4_cut_44 : decode cX4_cut 44 = .ok (.goto 4, 3) := dk_167 0 4 (dk_at dksX4_cut_1 20 rfl rfl)
theorem dX4_cut_47 : decode cX4_cut 47 = .ok (.iconst 0, 1) := dk_3 (dk_at dksX4_cut_1 23 rfl rfl)
theorem dX4_cut_48 : decode cX4_cut 48 = .ok (.putfield 62, 3) := dk_181 0 62 (dk_at dksX4_cut_2 0 rfl rfl)
theorem dX4_cut_51 : decode cX4_cut 51 = .ok (.aload_n 0, 1) := dk_42 (dk_at dksX4_cut_2 3 rfl rfl)
theorem dX4_cut_52 : decode cX4_cut 52 = .ok (.getfield 62, 3) := dk_180 0 62 (dk_at dksX4_cut_2 4 rfl rfl)
theorem dX4_cut_55 : decode cX4_cut 55 = .ok (.ifCond .le 5, 3) := dk_158 0 5 (dk_at dksX4_cut_2 7 rfl rfl)
theorem dX4_cut_58 : decode cX4_cut 58 = .ok (.iconst 0, 1) := dk_3 (dk_at dksX4_cut_2 10 rfl rfl)
theorem dX4_cut_59 : decode cX4_cut 59 = .ok (.ireturn, 1) := dk_172 (dk_at dksX4_cut_2 11 rfl rfl)
theorem dX4_cut_60 : decode cX4_cut 60 = .ok (.aload_n 0, 1) := dk_42 (dk_at dksX4_cut_2 12 rfl rfl)
theorem dX4_cut_61 : decode cX4_cut 61 = .ok (.invokevirtual 299, 3) := dk_182 1 43 (dk_at dksX4_cut_2 13 rfl rfl)
theorem dX4_cut_64 : decode cX4_cut 64 = .ok (.aload_n 0, 1) := dk_42 (dk_at dksX4_cut_2 16 rfl rfl)
theorem dX4_cut_65 : decode cX4_cut 65 = .ok (.invokevirtual 296, 3) := dk_182 1 40 (dk_at dksX4_cut_2 17 rfl rfl)
theorem dX4_cut_68 : decode cX4_cut 68 = .ok (.istore 4, 2) := dk_54 4 (dk_at dksX4_cut_2 20 rfl rfl)
theorem dX4_cut_70 : decode cX4_cut 70 = .ok (.aload_n 0, 1) := dk_42 (dk_at dksX4_cut_2 22 rfl rfl)
theorem dX4_cut_71 : decode cX4_cut 71 = .ok (.iload 4, 2) := dk_21 4 (dk_at dksX4_cut_3 0 rfl rfl)
theorem dX4_cut_73 : decode cX4_cut 73 = .ok (.invokevirtual 302, 3) := dk_182 1 46 (dk_at dksX4_cut_3 2 rfl rfl)
theorem dX4_cut_76 : decode cX4_cut 76 = .ok (.aload_n 0, 1) := dk_42 (dk_at dksX4_cut_3 5 rfl rfl)
theorem dX4_cut_77 : decode cX4_cut 77 = .ok (.iload_n 1, 1) := dk_27 (dk_at dksX4_cut_3 6 rfl rfl)
theorem dX4_cut_78 : decode cX4_cut 78 = .ok (.aload_n 0, 1) := dk_42 (dk_at dksX4_cut_3 7 rfl rfl)
theorem dX4_cut_79 : decode cX4_cut 79 = .ok (.iload_n 1, 1) := dk_27 (dk_at dksX4_cut_3 8 rfl rfl)
theorem dX4_cut_80 : decode cX4_cut 80 = .ok (.iload_n 2, 1) := dk_28 (dk_at dksX4_cut_3 9 rfl rfl)
theorem dX4_cut_81 : decode cX4_cut 81 = .ok (.invokevirtual 190, 3) := dk_182 0 190 (dk_at dksX4_cut_3 10 rfl rfl)
theorem dX4_cut_84 : decode cX4_cut 84 = .ok (.iload 4, 2) := dk_21 4 (dk_at dksX4_cut_3 13 rfl rfl)
theorem dX4_cut_86 : decode cX4_cut 86 = .ok (.invokevirtual 308, 3) := dk_182 1 52 (dk_at dksX4_cut_3 15 rfl rfl)
theorem dX4_cut_89 : decode cX4_cut 89 = .ok (.aload_n 0, 1) := dk_42 (dk_at dksX4_cut_3 18 rfl rfl)
theorem dX4_cut_90 : decode cX4_cut 90 = .ok (.iload_n 1, 1) := dk_27 (dk_at dksX4_cut_3 19 rfl rfl)
theorem dX4_cut_91 : decode cX4_cut 91 = .ok (.invokevirtual 222, 3) := dk_182 0 222 (dk_at dksX4_cut_3 20 rfl rfl)
theorem dX4_cut_94 : decode cX4_cut 94 = .ok (.aload_n 0, 1) := dk_42 (dk_at dksX4_cut_3 23 rfl rfl)
theorem dX4_cut_95 : decode cX4_cut 95 = .ok (.iload 4, 2) := dk_21 4 (dk_at dksX4_cut_4 0 rfl rfl)
theorem dX4_cut_97 : decode cX4_cut 97 = .ok (.invokevirtual 222, 3) := dk_182 0 222 (dk_at dksX4_cut_4 2 rfl rfl)
theorem dX4_cut_100 : decode cX4_cut 100 = .ok (.iload_n 1, 1) := dk_27 (dk_at dksX4_cut_4 5 rfl rfl)
theorem dX4_cut_101 : decode cX4_cut 101 = .ok (.invokestatic 171, 3) := dk_184 0 171 (dk_at dksX4_cut_4 6 rfl rfl)
theorem dX4_cut_104 : decode cX4_cut 104 = .ok (.istore 5, 2) := dk_54 5 (dk_at dksX4_cut_4 9 rfl rfl)
theorem dX4_cut_106 : decode cX4_cut 106 = .ok (.aload_n 0, 1) := dk_42 (dk_at dksX4_cut_4 11 rfl rfl)
theorem dX4_cut_107 : decode cX4_cut 107 = .ok (.iload 4, 2) := dk_21 4 (dk_at dksX4_cut_4 12 rfl rfl)
theorem dX4_cut_109 : decode cX4_cut 109 = .ok (.iload_n 3, 1) := dk_29 (dk_at dksX4_cut_4 14 rfl rfl)
theorem dX4_cut_110 : decode cX4_cut 110 = .ok (.invokevirtual 190, 3) := dk_182 0 190 (dk_at dksX4_cut_4 15 rfl rfl)
theorem dX4_cut_113 : decode cX4_cut 113 = .ok (.istore 6, 2) := dk_54 6 (dk_at dksX4_cut_4 18 rfl rfl)
theorem dX4_cut_115 : decode cX4_cut 115 = .ok (.iconst 0, 1) := dk_3 (dk_at dksX4_cut_4 20 rfl rfl)
theorem dX4_cut_116 : decode cX4_cut 116 = .ok (.istore 7, 2) := dk_54 7 (dk_at dksX4_cut_4 21 rfl rfl)
theorem dX4_cut_118 : decode cX4_cut 118 = .ok (.iload 7, 2) := dk_21 7 (dk_at dksX4_cut_5 0 rfl rfl)
theorem dX4_cut_120 : decode cX4_cut 120 = .ok (.sipush 182, 3) := dk_17 0 182 (dk_at dksX4_cut_5 2 rfl rfl)
theorem dX4_cut_123 : decode cX4_cut 123 = .ok (.if_icmp .ge 26, 3) := dk_162 0 26 (dk_at dksX4_cut_5 5 rfl rfl)
theorem dX4_cut_126 : decode cX4_cut 126 = .ok (.aload_n 0, 1) := dk_42 (dk_at dksX4_cut_5 8 rfl rfl)
theorem dX4_cut_127 : decode cX4_cut 127 = .ok (.getfield 40, 3) := dk_180 0 40 (dk_at dksX4_cut_5 9 rfl rfl)
theorem dX4_cut_130 : decode cX4_cut 130 = .ok (.iload 7, 2) := dk_21 7 (dk_at dksX4_cut_5 12 rfl rfl)
theorem dX4_cut_132 : decode cX4_cut 132 = .ok (.aload_n 0, 1) := dk_42 (dk_at dksX4_cut_5 14 rfl rfl)
theorem dX4_cut_133 : decode cX4_cut 133 = .ok (.getfield 7, 3) := dk_180 0 7 (dk_at dksX4_cut_5 15 rfl rfl)
theorem dX4_cut_136 : decode cX4_cut 136 = .ok (.iload 5, 2) := dk_21 5 (dk_at dksX4_cut_5 18 rfl rfl)
theorem dX4_cut_138 : decode cX4_cut 138 = .ok (.iload 7, 2) := dk_21 7 (dk_at dksX4_cut_5 20 rfl rfl)
theorem dX4_cut_140 : decode cX4_cut 140 = .ok (.iadd, 1) := dk_96 (dk_at dksX4_cut_5 22 rfl rfl)
theorem dX4_cut_141 : decode cX4_cut 141 = .ok (.iaload, 1) := dk_46 (dk_at dksX4_cut_5 23 rfl rfl)
theorem dX4_cut_142 : decode cX4_cut 142 = .ok (.iastore, 1) := dk_79 (dk_at dksX4_cut_6 0 rfl rfl)
theorem dX4_cut_143 : decode cX4_cut 143 = .ok (.iinc 7 1, 3) := dk_132 7 1 (dk_at dksX4_cut_6 1 rfl rfl)
theorem dX4_cut_146 : decode cX4_cut 146 = .ok (.goto (-28), 3) := dk_167 255 228 (dk_at dksX4_cut_6 4 rfl rfl)
theorem dX4_cut_149 : decode cX4_cut 149 = .ok (.aload_n 0, 1) := dk_42 (dk_at dksX4_cut_6 7 rfl rfl)
theorem dX4_cut_150 : decode cX4_cut 150 = .ok (.iload 4, 2) := dk_21 4 (dk_at dksX4_cut_6 8 rfl rfl)
theorem dX4_cut_152 : decode cX4_cut 152 = .ok (.iload 6, 2) := dk_21 6 (dk_at dksX4_cut_6 10 rfl rfl)
theorem dX4_cut_154 : decode cX4_cut 154 = .ok (.iload_n 1, 1) := dk_27 (dk_at dksX4_cut_6 12 rfl rfl)
theorem dX4_cut_155 : decode cX4_cut 155 = .ok (.invokevirtual 308, 3) := dk_182 1 52 (dk_at dksX4_cut_6 13 rfl rfl)
theorem dX4_cut_158 : decode cX4_cut 158 = .ok (.aload_n 0, 1) := dk_42 (dk_at dksX4_cut_6 16 rfl rfl)
theorem dX4_cut_159 : decode cX4_cut 159 = .ok (.iload 4, 2) := dk_21 4 (dk_at dksX4_cut_6 17 rfl rfl)
theorem dX4_cut_161 : decode cX4_cut 161 = .ok (.invokevirtual 222, 3) := dk_182 0 222 (dk_at dksX4_cut_6 19 rfl rfl)
theorem dX4_cut_164 : decode cX4_cut 164 = .ok (.aload_n 0, 1) := dk_42 (dk_at dksX4_cut_6 22 rfl rfl)
theorem dX4_cut_165 : decode cX4_cut 165 = .ok (.iload_n 1, 1) := dk_27 (dk_at dksX4_cut_6 23 rfl rfl)
theorem dX4_cut_166 : decode cX4_cut 166 = .ok (.invokevirtual 222, 3) := dk_182 0 222 (dk_at dksX4_cut_7 0 rfl rfl)
theorem dX4_cut_169 : decode cX4_cut 169 = .ok (.iconst 0, 1) := dk_3 (dk_at dksX4_cut_7 3 rfl rfl)
theorem dX4_cut_170 : decode cX4_cut 170 = .ok (.istore 7, 2) := dk_54 7 (dk_at dksX4_cut_7 4 rfl rfl)
theorem dX4_cut_172 : decode cX4_cut 172 = .ok (.iload 7, 2) := dk_21 7 (dk_at dksX4_cut_7 6 rfl rfl)
theorem dX4_cut_174 : decode cX4_cut 174 = .ok (.sipush 182, 3) := dk_17 0 182 (dk_at dksX4_cut_7 8 rfl rfl)
theorem dX4_cut_177 : decode cX4_cut 177 = .ok (.if_icmp .ge 47, 3) := dk_162 0 47 (dk_at dksX4_cut_7 11 rfl rfl)
theorem dX4_cut_180 : decode cX4_cut 180 = .ok (.aload_n 0, 1) := dk_42 (dk_at dksX4_cut_7 14 rfl rfl)
theorem dX4_cut_181 : decode cX4_cut 181 = .ok (.getfield 40, 3) := dk_180 0 40 (dk_at dksX4_cut_7 15 rfl rfl)
theorem dX4_cut_184 : decode cX4_cut 184 = .ok (.iload 7, 2) := dk_21 7 (dk_at dksX4_cut_7 18 rfl rfl)
theorem dX4_cut_186 : decode cX4_cut 186 = .ok (.iaload, 1) := dk_46 (dk_at dksX4_cut_7 20 rfl rfl)
theorem dX4_cut_187 : decode cX4_cut 187 = .ok (.istore 8, 2) := dk_54 8 (dk_at dksX4_cut_7 21 rfl rfl)
theorem dX4_cut_189 : decode cX4_cut 189 = .ok (.aload_n 0, 1) := dk_42 (dk_at dksX4_cut_7 23 rfl rfl)
theorem dX4_cut_190 : decode cX4_cut 190 = .ok (.getfield 40, 3) := dk_180 0 40 (dk_at dksX4_cut_8 0 rfl rfl)
theorem dX4_cut_193 : decode cX4_cut 193 = .ok (.iload 7, 2) := dk_21 7 (dk_at dksX4_cut_8 3 rfl rfl)
theorem dX4_cut_195 : decode cX4_cut 195 = .ok (.aload_n 0, 1) := dk_42 (dk_at dksX4_cut_8 5 rfl rfl)
theorem dX4_cut_196 : decode cX4_cut 196 = .ok (.getfield 7, 3) := dk_180 0 7 (dk_at dksX4_cut_8 6 rfl rfl)
theorem dX4_cut_199 : decode cX4_cut 199 = .ok (.iload 5, 2) := dk_21 5 (dk_at dksX4_cut_8 9 rfl rfl)
theorem dX4_cut_201 : decode cX4_cut 201 = .ok (.iload 7, 2) := dk_21 7 (dk_at dksX4_cut_8 11 rfl rfl)
theorem dX4_cut_203 : decode cX4_cut 203 = .ok (.iadd, 1) := dk_96 (dk_at dksX4_cut_8 13 rfl rfl)
theorem dX4_cut_204 : decode cX4_cut 204 = .ok (.iaload, 1) := dk_46 (dk_at dksX4_cut_8 14 rfl rfl)
theorem dX4_cut_205 : decode cX4_cut 205 = .ok (.iastore, 1) := dk_79 (dk_at dksX4_cut_8 15 rfl rfl)
theorem dX4_cut_206 : decode cX4_cut 206 = .ok (.aload_n 0, 1) := dk_42 (dk_at dksX4_cut_8 16 rfl rfl)
theorem dX4_cut_207 : decode cX4_cut 207 = .ok (.getfield 7, 3) := dk_180 0 7 (dk_at dksX4_cut_8 17 rfl rfl)
theorem dX4_cut_210 : decode cX4_cut 210 = .ok (.iload 5, 2) := dk_21 5 (dk_at dksX4_cut_8 20 rfl rfl)
theorem dX4_cut_212 : decode cX4_cut 212 = .ok (.iload 7, 2) := dk_21 7 (dk_at dksX4_cut_8 22 rfl rfl)
theorem dX4_cut_214 : decode cX4_cut 214 = .ok (.iadd, 1) := dk_96 (dk_at dksX4_cut_9 0 rfl rfl)
theorem dX4_cut_215 : decode cX4_cut 215 = .ok (.iload 8, 2) := dk_21 8 (dk_at dksX4_cut_9 1 rfl rfl)
theorem dX4_cut_217 : decode cX4_cut 217 = .ok (.iastore, 1) := dk_79 (dk_at dksX4_cut_9 3 rfl rfl)
theorem dX4_cut_218 : decode cX4_cut 218 = .ok (.iinc 7 1, 3) := dk_132 7 1 (dk_at dksX4_cut_9 4 rfl rfl)
theorem dX4_cut_221 : decode cX4_cut 221 = .ok (.goto (-49), 3) := dk_167 255 207 (dk_at dksX4_cut_9 7 rfl rfl)
theorem dX4_cut_224 : decode cX4_cut 224 = .ok (.aload_n 0, 1) := dk_42 (dk_at dksX4_cut_9 10 rfl rfl)
theorem dX4_cut_225 : decode cX4_cut 225 = .ok (.getfield 7, 3) := dk_180 0 7 (dk_at dksX4_cut_9 11 rfl rfl)
theorem dX4_cut_228 : decode cX4_cut 228 = .ok (.iload 5, 2) := dk_21 5 (dk_at dksX4_cut_9 14 rfl rfl)
theorem dX4_cut_230 : decode cX4_cut 230 = .ok (.iconst 1, 1) := dk_4 (dk_at dksX4_cut_9 16 rfl rfl)
theorem dX4_cut_231 : decode cX4_cut 231 = .ok (.iadd, 1) := dk_96 (dk_at dksX4_cut_9 17 rfl rfl)
theorem dX4_cut_232 : decode cX4_cut 232 = .ok (.iaload, 1) := dk_46 (dk_at dksX4_cut_9 18 rfl rfl)
theorem dX4_cut_233 : decode cX4_cut 233 = .ok (.istore 7, 2) := dk_54 7 (dk_at dksX4_cut_9 19 rfl rfl)
theorem dX4_cut_235 : decode cX4_cut 235 = .ok (.iconst 0, 1) := dk_3 (dk_at dksX4_cut_9 21 rfl rfl)
theorem dX4_cut_236 : decode cX4_cut 236 = .ok (.istore 8, 2) := dk_54 8 (dk_at dksX4_cut_9 22 rfl rfl)
theorem dX4_cut_238 : decode cX4_cut 238 = .ok (.iload 8, 2) := dk_21 8 (dk_at dksX4_cut_10 0 rfl rfl)
theorem dX4_cut_240 : decode cX4_cut 240 = .ok (.aload_n 0, 1) := dk_42 (dk_at dksX4_cut_10 2 rfl rfl)
theorem dX4_cut_241 : decode cX4_cut 241 = .ok (.getfield 40, 3) := dk_180 0 40 (dk_at dksX4_cut_10 3 rfl rfl)
theorem dX4_cut_244 : decode cX4_cut 244 = .ok (.iconst 1, 1) := dk_4 (dk_at dksX4_cut_10 6 rfl rfl)
theorem dX4_cut_245 : decode cX4_cut 245 = .ok (.iaload, 1) := dk_46 (dk_at dksX4_cut_10 7 rfl rfl)
theorem dX4_cut_246 : decode cX4_cut 246 = .ok (.if_icmp .ge 85, 3) := dk_162 0 85 (dk_at dksX4_cut_10 8 rfl rfl)
theorem dX4_cut_249 : decode cX4_cut 249 = .ok (.aload_n 0, 1) := dk_42 (dk_at dksX4_cut_10 11 rfl rfl)
theorem dX4_cut_250 : decode cX4_cut 250 = .ok (.getfield 7, 3) := dk_180 0 7 (dk_at dksX4_cut_10 12 rfl rfl)
theorem dX4_cut_253 : decode cX4_cut 253 = .ok (.iload 5, 2) := dk_21 5 (dk_at dksX4_cut_10 15 rfl rfl)
theorem dX4_cut_255 : decode cX4_cut 255 = .ok (.iconst 2, 1) := dk_5 (dk_at dksX4_cut_10 17 rfl rfl)
theorem dX4_cut_256 : decode cX4_cut 256 = .ok (.iadd, 1) := dk_96 (dk_at dksX4_cut_10 18 rfl rfl)
theorem dX4_cut_257 : decode cX4_cut 257 = .ok (.iload 7, 2) := dk_21 7 (dk_at dksX4_cut_10 19 rfl rfl)
theorem dX4_cut_259 : decode cX4_cut 259 = .ok (.iadd, 1) := dk_96 (dk_at dksX4_cut_10 21 rfl rfl)
theorem dX4_cut_260 : decode cX4_cut 260 = .ok (.iload 8, 2) := dk_21 8 (dk_at dksX4_cut_10 22 rfl rfl)
theorem dX4_cut_262 : decode cX4_cut 262 = .ok (.iadd, 1) := dk_96 (dk_at dksX4_cut_11 0 rfl rfl)
theorem dX4_cut_263 : decode cX4_cut 263 = .ok (.aload_n 0, 1) := dk_42 (dk_at dksX4_cut_11 1 rfl rfl)
theorem dX4_cut_264 : decode cX4_cut 264 = .ok (.getfield 40, 3) := dk_180 0 40 (dk_at dksX4_cut_11 2 rfl rfl)
theorem dX4_cut_267 : decode cX4_cut 267 = .ok (.iconst 2, 1) := dk_5 (dk_at dksX4_cut_11 5 rfl rfl)
theorem dX4_cut_268 : decode cX4_cut 268 = .ok (.iload 8, 2) := dk_21 8 (dk_at dksX4_cut_11 6 rfl rfl)
theorem dX4_cut_270 : decode cX4_cut 270 = .ok (.iadd, 1) := dk_96 (dk_at dksX4_cut_11 8 rfl rfl)
theorem dX4_cut_271 : decode cX4_cut 271 = .ok (.iaload, 1) := dk_46 (dk_at dksX4_cut_11 9 rfl rfl)
theorem dX4_cut_272 : decode cX4_cut 272 = .ok (.iastore, 1) := dk_79 (dk_at dksX4_cut_11 10 rfl rfl)
theorem dX4_cut_273 : decode cX4_cut 273 = .ok (.aload_n 0, 1) := dk_42 (dk_at dksX4_cut_11 11 rfl rfl)
theorem dX4_cut_274 : decode cX4_cut 274 = .ok (.getfield 7, 3) := dk_180 0 7 (dk_at dksX4_cut_11 12 rfl rfl)
theorem dX4_cut_277 : decode cX4_cut 277 = .ok (.iload 5, 2) := dk_21 5 (dk_at dksX4_cut_11 15 rfl rfl)
theorem dX4_cut_279 : decode cX4_cut 279 = .ok (.bipush 62, 2) := dk_16 62 (dk_at dksX4_cut_11 17 rfl rfl)
theorem dX4_cut_281 : decode cX4_cut 281 = .ok (.iadd, 1) := dk_96 (dk_at dksX4_cut_11 19 rfl rfl)
theorem dX4_cut_282 : decode cX4_cut 282 = .ok (.iload 7, 2) := dk_21 7 (dk_at dksX4_cut_11 20 rfl rfl)
theorem dX4_cut_284 : decode cX4_cut 284 = .ok (.iadd, 1) := dk_96 (dk_at dksX4_cut_11 22 rfl rfl)
theorem dX4_cut_285 : decode cX4_cut 285 = .ok (.iload 8, 2) := dk_21 8 (dk_at dksX4_cut_12 0 rfl rfl)
theorem dX4_cut_287 : decode cX4_cut 287 = .ok (.iadd, 1) := dk_96 (dk_at dksX4_cut_12 2 rfl rfl)
theorem dX4_cut_288 : decode cX4_cut 288 = .ok (.aload_n 0, 1) := dk_42 (dk_at dksX4_cut_12 3 rfl rfl)
theorem dX4_cut_289 : decode cX4_cut 289 = .ok (.getfield 40, 3) := dk_180 0 40 (dk_at dksX4_cut_12 4 rfl rfl)
theorem dX4_cut_292 : decode cX4_cut 292 = .ok (.bipush 62, 2) := dk_16 62 (dk_at dksX4_cut_12 7 rfl rfl)
theorem dX4_cut_294 : decode cX4_cut 294 = .ok (.iload 8, 2) := dk_21 8 (dk_at dksX4_cut_12 9 rfl rfl)
theorem dX4_cut_296 : decode cX4_cut 296 = .ok (.iadd, 1) := dk_96 (dk_at dksX4_cut_12 11 rfl rfl)
theorem dX4_cut_297 : decode cX4_cut 297 = .ok (.iaload, 1) := dk_46 (dk_at dksX4_cut_12 12 rfl rfl)
theorem dX4_cut_298 : decode cX4_cut 298 = .ok (.iastore, 1) := dk_79 (dk_at dksX4_cut_12 13 rfl rfl)
theorem dX4_cut_299 : decode cX4_cut 299 = .ok (.aload_n 0, 1) := dk_42 (dk_at dksX4_cut_12 14 rfl rfl)
theorem dX4_cut_300 : decode cX4_cut 300 = .ok (.getfield 7, 3) := dk_180 0 7 (dk_at dksX4_cut_12 15 rfl rfl)
theorem dX4_cut_303 : decode cX4_cut 303 = .ok (.iload 5, 2) := dk_21 5 (dk_at dksX4_cut_12 18 rfl rfl)
theorem dX4_cut_305 : decode cX4_cut 305 = .ok (.bipush 122, 2) := dk_16 122 (dk_at dksX4_cut_12 20 rfl rfl)
theorem dX4_cut_307 : decode cX4_cut 307 = .ok (.iadd, 1) := dk_96 (dk_at dksX4_cut_12 22 rfl rfl)
theorem dX4_cut_308 : decode cX4_cut 308 = .ok (.iload 7, 2) := dk_21 7 (dk_at dksX4_cut_13 0 rfl rfl)
theorem dX4_cut_310 : decode cX4_cut 310 = .ok (.iadd, 1) := dk_96 (dk_at dksX4_cut_13 2 rfl rfl)
theorem dX4_cut_311 : decode cX4_cut 311 = .ok (.iload 8, 2) := dk_21 8 (dk_at dksX4_cut_13 3 rfl rfl)
theorem dX4_cut_313 : decode cX4_cut 313 = .ok (.iadd, 1) := dk_96 (dk_at dksX4_cut_13 5 rfl rfl)
theorem dX4_cut_314 : decode cX4_cut 314 = .ok (.aload_n 0, 1) := dk_42 (dk_at dksX4_cut_13 6 rfl rfl)
theorem dX4_cut_315 : decode cX4_cut 315 = .ok (.getfield 40, 3) := dk_180 0 40 (dk_at dksX4_cut_13 7 rfl rfl)
theorem dX4_cut_318 : decode cX4_cut 318 = .ok (.bipush 122, 2) := dk_16 122 (dk_at dksX4_cut_13 10 rfl rfl)
theorem dX4_cut_320 : decode cX4_cut 320 = .ok (.iload 8, 2) := dk_21 8 (dk_at dksX4_cut_13 12 rfl rfl)
theorem dX4_cut_322 : decode cX4_cut 322 = .ok (.iadd, 1) := dk_96 (dk_at dksX4_cut_13 14 rfl rfl)
theorem dX4_cut_323 : decode cX4_cut 323 = .ok (.iaload, 1) := dk_46 (dk_at dksX4_cut_13 15 rfl rfl)
theorem dX4_cut_324 : decode cX4_cut 324 = .ok (.iastore, 1) := dk_79 (dk_at dksX4_cut_13 16 rfl rfl)
theorem dX4_cut_325 : decode cX4_cut 325 = .ok (.iinc 8 1, 3) := dk_132 8 1 (dk_at dksX4_cut_13 17 rfl rfl)
theorem dX4_cut_328 : decode cX4_cut 328 = .ok (.goto (-90), 3) := dk_167 255 166 (dk_at dksX4_cut_13 20 rfl rfl)
theorem dX4_cut_331 : decode cX4_cut 331 = .ok (.aload_n 0, 1) := dk_42 (dk_at dksX4_cut_13 23 rfl rfl)
theorem dX4_cut_332 : decode cX4_cut 332 = .ok (.getfield 7, 3) := dk_180 0 7 (dk_at dksX4_cut_14 0 rfl rfl)
theorem dX4_cut_335 : decode cX4_cut 335 = .ok (.iload 5, 2) := dk_21 5 (dk_at dksX4_cut_14 3 rfl rfl)
theorem dX4_cut_337 : decode cX4_cut 337 = .ok (.iconst 1, 1) := dk_4 (dk_at dksX4_cut_14 5 rfl rfl)
theorem dX4_cut_338 : decode cX4_cut 338 = .ok (.iadd, 1) := dk_96 (dk_at dksX4_cut_14 6 rfl rfl)
theorem dX4_cut_339 : decode cX4_cut 339 = .ok (.iload 7, 2) := dk_21 7 (dk_at dksX4_cut_14 7 rfl rfl)
theorem dX4_cut_341 : decode cX4_cut 341 = .ok (.aload_n 0, 1) := dk_42 (dk_at dksX4_cut_14 9 rfl rfl)
theorem dX4_cut_342 : decode cX4_cut 342 = .ok (.getfield 40, 3) := dk_180 0 40 (dk_at dksX4_cut_14 10 rfl rfl)
theorem dX4_cut_345 : decode cX4_cut 345 = .ok (.iconst 1, 1) := dk_4 (dk_at dksX4_cut_14 13 rfl rfl)
theorem dX4_cut_346 : decode cX4_cut 346 = .ok (.iaload, 1) := dk_46 (dk_at dksX4_cut_14 14 rfl rfl)
theorem dX4_cut_347 : decode cX4_cut 347 = .ok (.iadd, 1) := dk_96 (dk_at dksX4_cut_14 15 rfl rfl)
theorem dX4_cut_348 : decode cX4_cut 348 = .ok (.iastore, 1) := dk_79 (dk_at dksX4_cut_14 16 rfl rfl)
theorem dX4_cut_349 : decode cX4_cut 349 = .ok (.aload_n 0, 1) := dk_42 (dk_at dksX4_cut_14 17 rfl rfl)
theorem dX4_cut_350 : decode cX4_cut 350 = .ok (.iload_n 1, 1) := dk_27 (dk_at dksX4_cut_14 18 rfl rfl)
theorem dX4_cut_351 : decode cX4_cut 351 = .ok (.invokevirtual 222, 3) := dk_182 0 222 (dk_at dksX4_cut_14 19 rfl rfl)
theorem dX4_cut_354 : decode cX4_cut 354 = .ok (.iload 4, 2) := dk_21 4 (dk_at dksX4_cut_14 22 rfl rfl)
theorem dX4_cut_356 : decode cX4_cut 356 = .ok (.ireturn, 1) := dk_172 (dk_at dksX4_cut_15 0 rfl rfl)
abbrev cX4_join : ByteArray := prog_19_method_103_code
def yX4_join : MethodName := ⟨RX4, "join", "(II)I"⟩
def dkwX4_join_3 : List UInt8 := [172]
abbrev dktX4_join_3 : List UInt8 := dkwX4_join_3 ++ []
def dkwX4_join_2 : List UInt8 := [182, 1, 55, 42, 28, 182, 1, 49, 42, 27, 182, 0, 222, 42, 180, 0, 7, 27, 184, 0, 171, 4, 96, 46]
abbrev dktX4_join_2 : List UInt8 := dkwX4_join_2 ++ dktX4_join_3
def dkwX4_join_1 : List UInt8 := [167, 0, 4, 3, 181, 0, 62, 42, 180, 0, 62, 158, 0, 5, 3, 172, 42, 182, 1, 43, 42, 27, 28]
abbrev dktX4_join_1 : List UInt8 := dkwX4_join_1 ++ dktX4_join_2
def dkwX4_join_0 : List UInt8 := [42, 42, 27, 28, 182, 1, 28, 154, 0, 7, 4, 167, 0, 17, 42, 27, 28, 182, 1, 31, 153, 0, 7, 5]
abbrev dktX4_join_0 : List UInt8 := dkwX4_join_0 ++ dktX4_join_1
theorem dksX4_join_0 : cX4_join.data.toList.drop 0 = dktX4_join_0 := by decide +kernel
theorem dksX4_join_1 : cX4_join.data.toList.drop 24 = dktX4_join_1 := dk_seg dksX4_join_0 24 rfl rfl
theorem dksX4_join_2 : cX4_join.data.toList.drop 47 = dktX4_join_2 := dk_seg dksX4_join_1 23 rfl rfl
theorem dksX4_join_3 : cX4_join.data.toList.drop 71 = dktX4_join_3 := dk_seg dksX4_join_2 24 rfl rfl
theorem dX4_join_0 : decode cX4_join 0 = .ok (.aload_n 0, 1) := dk_42 (dk_at dksX4_join_0 0 rfl rfl)
theorem dX4_join_1 : decode cX4_join 1 = .ok (.aload_n 0, 1) := dk_42 (dk_at dksX4_join_0 1 rfl rfl)
theorem dX4_join_2 : decode cX4_join 2 = .ok (.iload_n 1, 1) := dk_27 (dk_at dksX4_join_0 2 rfl rfl)
theorem dX4_join_3 : decode cX4_join 3 = .ok (.iload_n 2, 1) := dk_28 (dk_at dksX4_join_0 3 rfl rfl)
theorem dX4_join_4 : decode cX4_join 4 = .ok (.invokevirtual 284, 3) := dk_182 1 28 (dk_at dksX4_join_0 4 rfl rfl)
theorem dX4_join_7 : decode cX4_join 7 = .ok (.ifCond .ne 7, 3) := dk_154 0 7 (dk_at dksX4_join_0 7 rfl rfl)
theorem dX4_join_10 : decode cX4_join 10 = .ok (.iconst 1, 1) := dk_4 (dk_at dksX4_join_0 10 rfl rfl)
theorem dX4_join_11 : decode cX4_join 11 = .ok (.goto 17, 3) := dk_167 0 17 (dk_at dksX4_join_0 11 rfl rfl)
theorem dX4_join_14 : decode cX4_join 14 = .ok (.aload_n 0, 1) := dk_42 (dk_at dksX4_join_0 14 rfl rfl)
theorem dX4_join_15 : decode cX4_join 15 = .ok (.iload_n 1, 1) := dk_27 (dk_at dksX4_join_0 15 rfl rfl)
theorem dX4_join_16 : decode cX4_join 16 = .ok (.iload_n 2, 1) := dk_28 (dk_at dksX4_join_0 16 rfl rfl)
theorem dX4_join_17 : decode cX4_join 17 = .ok (.invokevirtual 287, 3) := dk_182 1 31 (dk_at dksX4_join_0 17 rfl rfl)
theorem dX4_join_20 : decode cX4_join 20 = .ok (.ifCond .eq 7, 3) := dk_153 0 7 (dk_at dksX4_join_0 20 rfl rfl)
theorem dX4_join_23 : decode cX4_join 23 = .ok (.iconst 2, 1) := dk_5 (dk_at dksX4_join_0 23 rfl rfl)
theorem dX4_join_24 : decode cX4_join 24 = .ok (.goto 4, 3) := dk_167 0 4 (dk_at dksX4_join_1 0 rfl rfl)
theorem dX4_join_27 : decode cX4_join 27 = .ok (.iconst 0, 1) := dk_3 (dk_at dksX4_join_1 3 rfl rfl)
theorem dX4_join_28 : decode cX4_join 28 = .ok (.putfield 62, 3) := dk_181 0 62 (dk_at dksX4_join_1 4 rfl rfl)
theorem dX4_join_31 : decode cX4_join 31 = .ok (.aload_n 0, 1) := dk_42 (dk_at dksX4_join_1 7 rfl rfl)
theorem dX4_join_32 : decode cX4_join 32 = .ok (.getfield 62, 3) := dk_180 0 62 (dk_at dksX4_join_1 8 rfl rfl)
theorem dX4_join_35 : decode cX4_join 35 = .ok (.ifCond .le 5, 3) := dk_158 0 5 (dk_at dksX4_join_1 11 rfl rfl)
theorem dX4_join_38 : decode cX4_join 38 = .ok (.iconst 0, 1) := dk_3 (dk_at dksX4_join_1 14 rfl rfl)
theorem dX4_join_39 : decode cX4_join 39 = .ok (.ireturn, 1) := dk_172 (dk_at dksX4_join_1 15 rfl rfl)
theorem dX4_join_40 : decode cX4_join 40 = .ok (.aload_n 0, 1) := dk_42 (dk_at dksX4_join_1 16 rfl rfl)
theorem dX4_join_41 : decode cX4_join 41 = .ok (.invokevirtual 299, 3) := dk_182 1 43 (dk_at dksX4_join_1 17 rfl rfl)
theorem dX4_join_44 : decode cX4_join 44 = .ok (.aload_n 0, 1) := dk_42 (dk_at dksX4_join_1 20 rfl rfl)
theorem dX4_join_45 : decode cX4_join 45 = .ok (.iload_n 1, 1) := dk_27 (dk_at dksX4_join_1 21 rfl rfl)
theorem dX4_join_46 : decode cX4_join 46 = .ok (.iload_n 2, 1) := dk_28 (dk_at dksX4_join_1 22 rfl rfl)
theorem dX4_join_47 : decode cX4_join 47 = .ok (.invokevirtual 311, 3) := dk_182 1 55 (dk_at dksX4_join_2 0 rfl rfl)
theorem dX4_join_50 : decode cX4_join 50 = .ok (.aload_n 0, 1) := dk_42 (dk_at dksX4_join_2 3 rfl rfl)
theorem dX4_join_51 : decode cX4_join 51 = .ok (.iload_n 2, 1) := dk_28 (dk_at dksX4_join_2 4 rfl rfl)
theorem dX4_join_52 : decode cX4_join 52 = .ok (.invokevirtual 305, 3) := dk_182 1 49 (dk_at dksX4_join_2 5 rfl rfl)
theorem dX4_join_55 : decode cX4_join 55 = .ok (.aload_n 0, 1) := dk_42 (dk_at dksX4_join_2 8 rfl rfl)
theorem dX4_join_56 : decode cX4_join 56 = .ok (.iload_n 1, 1) := dk_27 (dk_at dksX4_join_2 9 rfl rfl)
theorem dX4_join_57 : decode cX4_join 57 = .ok (.invokevirtual 222, 3) := dk_182 0 222 (dk_at dksX4_join_2 10 rfl rfl)
theorem dX4_join_60 : decode cX4_join 60 = .ok (.aload_n 0, 1) := dk_42 (dk_at dksX4_join_2 13 rfl rfl)
theorem dX4_join_61 : decode cX4_join 61 = .ok (.getfield 7, 3) := dk_180 0 7 (dk_at dksX4_join_2 14 rfl rfl)
theorem dX4_join_64 : decode cX4_join 64 = .ok (.iload_n 1, 1) := dk_27 (dk_at dksX4_join_2 17 rfl rfl)
theorem dX4_join_65 : decode cX4_join 65 = .ok (.invokestatic 171, 3) := dk_184 0 171 (dk_at dksX4_join_2 18 rfl rfl)
theorem dX4_join_68 : decode cX4_join 68 = .ok (.iconst 1, 1) := dk_4 (dk_at dksX4_join_2 21 rfl rfl)
theorem dX4_join_69 : decode cX4_join 69 = .ok (.iadd, 1) := dk_96 (dk_at dksX4_join_2 22 rfl rfl)
theorem dX4_join_70 : decode cX4_join 70 = .ok (.iaload, 1) := dk_46 (dk_at dksX4_join_2 23 rfl rfl)
theorem dX4_join_71 : decode cX4_join 71 = .ok (.ireturn, 1) := dk_172 (dk_at dksX4_join_3 0 rfl rfl)
abbrev cX4_appends : ByteArray := prog_19_method_100_code
def yX4_appends : MethodName := ⟨RX4, "appends", "(II)V"⟩
def dkwX4_appends_6 : List UInt8 := [96, 79, 177]
abbrev dktX4_appends_6 : List UInt8 := dkwX4_appends_6 ++ []
def dkwX4_appends_5 : List UInt8 := [132, 6, 1, 167, 255, 157, 42, 180, 0, 7, 29, 4, 96, 21, 5, 42, 180, 0, 7, 21, 4, 4, 96, 46]
abbrev dktX4_appends_5 : List UInt8 := dkwX4_appends_5 ++ dktX4_appends_6
def dkwX4_appends_4 : List UInt8 := [29, 16, 122, 96, 21, 5, 96, 21, 6, 96, 42, 180, 0, 7, 21, 4, 16, 122, 96, 21, 6, 96, 46, 79]
abbrev dktX4_appends_4 : List UInt8 := dkwX4_appends_4 ++ dktX4_appends_5
def dkwX4_appends_3 : List UInt8 := [21, 5, 96, 21, 6, 96, 42, 180, 0, 7, 21, 4, 16, 62, 96, 21, 6, 96, 46, 79, 42, 180, 0, 7]
abbrev dktX4_appends_3 : List UInt8 := dkwX4_appends_3 ++ dktX4_appends_4
def dkwX4_appends_2 : List UInt8 := [21, 6, 96, 42, 180, 0, 7, 21, 4, 5, 96, 21, 6, 96, 46, 79, 42, 180, 0, 7, 29, 16, 62, 96]
abbrev dktX4_appends_2 : List UInt8 := dkwX4_appends_2 ++ dktX4_appends_3
def dkwX4_appends_1 : List UInt8 := [21, 6, 42, 180, 0, 7, 21, 4, 4, 96, 46, 162, 0, 91, 42, 180, 0, 7, 29, 5, 96, 21, 5, 96]
abbrev dktX4_appends_1 : List UInt8 := dkwX4_appends_1 ++ dktX4_appends_2
def dkwX4_appends_0 : List UInt8 := [27, 184, 0, 171, 62, 28, 184, 0, 171, 54, 4, 42, 180, 0, 7, 29, 4, 96, 46, 54, 5, 3, 54, 6]
abbrev dktX4_appends_0 : List UInt8 := dkwX4_appends_0 ++ dktX4_appends_1
theorem dksX4_appends_0 : cX4_appends.data.toList.drop 0 = dktX4_appends_0 := by decide +kernel
theorem dksX4_appends_1 : cX4_appends.data.toList.drop 24 = dktX4_appends_1 := dk_seg dksX4_appends_0 24 rfl rfl
theorem dksX4_appends_2 : cX4_appends.data.toList.drop 48 = dktX4_appends_2 := dk_seg dksX4_appends_1 24 rfl rfl
theorem dksX4_appends_3 : cX4_appends.data.toList.drop 72 = dktX4_appends_3 := dk_seg dksX4_appends_2 24 rfl rfl
theorem dksX4_appends_4 : cX4_appends.data.toList.drop 96 = dktX4_appends_4 := dk_seg dksX4_appends_3 24 rfl rfl
theorem dksX4_appends_5 : cX4_appends.data.toList.drop 120 = dktX4_appends_5 := dk_seg dksX4_appends_4 24 rfl rfl
theorem dksX4_appends_6 : cX4_appends.data.toList.drop 144 = dktX4_appends_6 := dk_seg dksX4_appends_5 24 rfl rfl
theorem dX4_appends_0 : decode cX4_appends 0 = .ok (.iload_n 1, 1) := dk_27 (dk_at dksX4_appends_0 0 rfl rfl)
theorem dX4_appends_1 : decode cX4_appends 1 = .ok (.invokestatic 171, 3) := dk_184 0 171 (dk_at dksX4_appends_0 1 rfl rfl)
theorem dX4_appends_4 : decode cX4_appends 4 = .ok (.istore_n 3, 1) := dk_62 (dk_at dksX4_appends_0 4 rfl rfl)
theorem dX4_appends_5 : decode cX4_appends 5 = .ok (.iload_n 2, 1) := dk_28 (dk_at dksX4_appends_0 5 rfl rfl)
theorem dX4_appends_6 : decode cX4_appends 6 = .ok (.invokestatic 171, 3) := dk_184 0 171 (dk_at dksX4_appends_0 6 rfl rfl)
theorem dX4_appends_9 : decode cX4_appends 9 = .ok (.istore 4, 2) := dk_54 4 (dk_at dksX4_appends_0 9 rfl rfl)
theorem dX4_appends_11 : decode cX4_appends 11 = .ok (.aload_n 0, 1) := dk_42 (dk_at dksX4_appends_0 11 rfl rfl)
theorem dX4_appends_12 : decode cX4_appends 12 = .ok (.getfield 7, 3) := dk_180 0 7 (dk_at dksX4_appends_0 12 rfl rfl)
theorem dX4_appends_15 : decode cX4_appends 15 = .ok (.iload_n 3, 1) := dk_29 (dk_at dksX4_appends_0 15 rfl rfl)
theorem dX4_appends_16 : decode cX4_appends 16 = .ok (.iconst 1, 1) := dk_4 (dk_at dksX4_appends_0 16 rfl rfl)
theorem dX4_appends_17 : decode cX4_appends 17 = .ok (.iadd, 1) := dk_96 (dk_at dksX4_appends_0 17 rfl rfl)
theorem dX4_appends_18 : decode cX4_appends 18 = .ok (.iaload, 1) := dk_46 (dk_at dksX4_appends_0 18 rfl rfl)
theorem dX4_appends_19 : decode cX4_appends 19 = .ok (.istore 5, 2) := dk_54 5 (dk_at dksX4_appends_0 19 rfl rfl)
theorem dX4_appends_21 : decode cX4_appends 21 = .ok (.iconst 0, 1) := dk_3 (dk_at dksX4_appends_0 21 rfl rfl)
theorem dX4_appends_22 : decode cX4_appends 22 = .ok (.istore 6, 2) := dk_54 6 (dk_at dksX4_appends_0 22 rfl rfl)
theorem dX4_appends_24 : decode cX4_appends 24 = .ok (.iload 6, 2) := dk_21 6 (dk_at dksX4_appends_1 0 rfl rfl)
theorem dX4_appends_26 : decode cX4_appends 26 = .ok (.aload_n 0, 1) := dk_42 (dk_at dksX4_appends_1 2 rfl rfl)
theorem dX4_appends_27 : decode cX4_appends 27 = .ok (.getfield 7, 3) := dk_180 0 7 (dk_at dksX4_appends_1 3 rfl rfl)
theorem dX4_appends_30 : decode cX4_appends 30 = .ok (.iload 4, 2) := dk_21 4 (dk_at dksX4_appends_1 6 rfl rfl)
theorem dX4_appends_32 : decode cX4_appends 32 = .ok (.iconst 1, 1) := dk_4 (dk_at dksX4_appends_1 8 rfl rfl)
theorem dX4_appends_33 : decode cX4_appends 33 = .ok (.iadd, 1) := dk_96 (dk_at dksX4_appends_1 9 rfl rfl)
theorem dX4_appends_34 : decode cX4_appends 34 = .ok (.iaload, 1) := dk_46 (dk_at dksX4_appends_1 10 rfl rfl)
theorem dX4_appends_35 : decode cX4_appends 35 = .ok (.if_icmp .ge 91, 3) := dk_162 0 91 (dk_at dksX4_appends_1 11 rfl rfl)
theorem dX4_appends_38 : decode cX4_appends 38 = .ok (.aload_n 0, 1) := dk_42 (dk_at dksX4_appends_1 14 rfl rfl)
theorem dX4_appends_39 : decode cX4_appends 39 = .ok (.getfield 7, 3) := dk_180 0 7 (dk_at dksX4_appends_1 15 rfl rfl)
theorem dX4_appends_42 : decode cX4_appends 42 = .ok (.iload_n 3, 1) := dk_29 (dk_at dksX4_appends_1 18 rfl rfl)
theorem dX4_appends_43 : decode cX4_appends 43 = .ok (.iconst 2, 1) := dk_5 (dk_at dksX4_appends_1 19 rfl rfl)
theorem dX4_appends_44 : decode cX4_appends 44 = .ok (.iadd, 1) := dk_96 (dk_at dksX4_appends_1 20 rfl rfl)
theorem dX4_appends_45 : decode cX4_appends 45 = .ok (.iload 5, 2) := dk_21 5 (dk_at dksX4_appends_1 21 rfl rfl)
theorem dX4_appends_47 : decode cX4_appends 47 = .ok (.iadd, 1) := dk_96 (dk_at dksX4_appends_1 23 rfl rfl)
theorem dX4_appends_48 : decode cX4_appends 48 = .ok (.iload 6, 2) := dk_21 6 (dk_at dksX4_appends_2 0 rfl rfl)
theorem dX4_appends_50 : decode cX4_appends 50 = .ok (.iadd, 1) := dk_96 (dk_at dksX4_appends_2 2 rfl rfl)
theorem dX4_appends_51 : decode cX4_appends 51 = .ok (.aload_n 0, 1) := dk_42 (dk_at dksX4_appends_2 3 rfl rfl)
theorem dX4_appends_52 : decode cX4_appends 52 = .ok (.getfield 7, 3) := dk_180 0 7 (dk_at dksX4_appends_2 4 rfl rfl)
theorem dX4_appends_55 : decode cX4_appends 55 = .ok (.iload 4, 2) := dk_21 4 (dk_at dksX4_appends_2 7 rfl rfl)
theorem dX4_appends_57 : decode cX4_appends 57 = .ok (.iconst 2, 1) := dk_5 (dk_at dksX4_appends_2 9 rfl rfl)
theorem dX4_appends_58 : decode cX4_appends 58 = .ok (.iadd, 1) := dk_96 (dk_at dksX4_appends_2 10 rfl rfl)
theorem dX4_appends_59 : decode cX4_appends 59 = .ok (.iload 6, 2) := dk_21 6 (dk_at dksX4_appends_2 11 rfl rfl)
theorem dX4_appends_61 : decode cX4_appends 61 = .ok (.iadd, 1) := dk_96 (dk_at dksX4_appends_2 13 rfl rfl)
theorem dX4_appends_62 : decode cX4_appends 62 = .ok (.iaload, 1) := dk_46 (dk_at dksX4_appends_2 14 rfl rfl)
theorem dX4_appends_63 : decode cX4_appends 63 = .ok (.iastore, 1) := dk_79 (dk_at dksX4_appends_2 15 rfl rfl)
theorem dX4_appends_64 : decode cX4_appends 64 = .ok (.aload_n 0, 1) := dk_42 (dk_at dksX4_appends_2 16 rfl rfl)
theorem dX4_appends_65 : decode cX4_appends 65 = .ok (.getfield 7, 3) := dk_180 0 7 (dk_at dksX4_appends_2 17 rfl rfl)
theorem dX4_appends_68 : decode cX4_appends 68 = .ok (.iload_n 3, 1) := dk_29 (dk_at dksX4_appends_2 20 rfl rfl)
theorem dX4_appends_69 : decode cX4_appends 69 = .ok (.bipush 62, 2) := dk_16 62 (dk_at dksX4_appends_2 21 rfl rfl)
theorem dX4_appends_71 : decode cX4_appends 71 = .ok (.iadd, 1) := dk_96 (dk_at dksX4_appends_2 23 rfl rfl)
theorem dX4_appends_72 : decode cX4_appends 72 = .ok (.iload 5, 2) := dk_21 5 (dk_at dksX4_appends_3 0 rfl rfl)
theorem dX4_appends_74 : decode cX4_appends 74 = .ok (.iadd, 1) := dk_96 (dk_at dksX4_appends_3 2 rfl rfl)
theorem dX4_appends_75 : decode cX4_appends 75 = .ok (.iload 6, 2) := dk_21 6 (dk_at dksX4_appends_3 3 rfl rfl)
theorem dX4_appends_77 : decode cX4_appends 77 = .ok (.iadd, 1) := dk_96 (dk_at dksX4_appends_3 5 rfl rfl)
theorem dX4_appends_78 : decode cX4_appends 78 = .ok (.aload_n 0, 1) := dk_42 (dk_at dksX4_appends_3 6 rfl rfl)
theorem dX4_appends_79 : decode cX4_appends 79 = .ok (.getfield 7, 3) := dk_180 0 7 (dk_at dksX4_appends_3 7 rfl rfl)
theorem dX4_appends_82 : decode cX4_appends 82 = .ok (.iload 4, 2) := dk_21 4 (dk_at dksX4_appends_3 10 rfl rfl)
theorem dX4_appends_84 : decode cX4_appends 84 = .ok (.bipush 62, 2) := dk_16 62 (dk_at dksX4_appends_3 12 rfl rfl)
theorem dX4_appends_86 : decode cX4_appends 86 = .ok (.iadd, 1) := dk_96 (dk_at dksX4_appends_3 14 rfl rfl)
theorem dX4_appends_87 : decode cX4_appends 87 = .ok (.iload 6, 2) := dk_21 6 (dk_at dksX4_appends_3 15 rfl rfl)
theorem dX4_appends_89 : decode cX4_appends 89 = .ok (.iadd, 1) := dk_96 (dk_at dksX4_appends_3 17 rfl rfl)
theorem dX4_appends_90 : decode cX4_appends 90 = .ok (.iaload, 1) := dk_46 (dk_at dksX4_appends_3 18 rfl rfl)
theorem dX4_appends_91 : decode cX4_appends 91 = .ok (.iastore, 1) := dk_79 (dk_at dksX4_appends_3 19 rfl rfl)
theorem dX4_appends_92 : decode cX4_appends 92 = .ok (.aload_n 0, 1) := dk_42 (dk_at dksX4_appends_3 20 rfl rfl)
theorem dX4_appends_93 : decode cX4_appends 93 = .ok (.getfield 7, 3) := dk_180 0 7 (dk_at dksX4_appends_3 21 rfl rfl)
theorem dX4_appends_96 : decode cX4_appends 96 = .ok (.iload_n 3, 1) := dk_29 (dk_at dksX4_appends_4 0 rfl rfl)
theorem dX4_appends_97 : decode cX4_appends 97 = .ok (.bipush 122, 2) := dk_16 122 (dk_at dksX4_appends_4 1 rfl rfl)
theorem dX4_appends_99 : decode cX4_appends 99 = .ok (.iadd, 1) := dk_96 (dk_at dksX4_appends_4 3 rfl rfl)
theorem dX4_appends_100 : decode cX4_appends 100 = .ok (.iload 5, 2) := dk_21 5 (dk_at dksX4_appends_4 4 rfl rfl)
theorem dX4_appends_102 : decode cX4_appends 102 = .ok (.iadd, 1) := dk_96 (dk_at dksX4_appends_4 6 rfl rfl)
theorem dX4_appends_103 : decode cX4_appends 103 = .ok (.iload 6, 2) := dk_21 6 (dk_at dksX4_appends_4 7 rfl rfl)
theorem dX4_appends_105 : decode cX4_appends 105 = .ok (.iadd, 1) := dk_96 (dk_at dksX4_appends_4 9 rfl rfl)
theorem dX4_appends_106 : decode cX4_appends 106 = .ok (.aload_n 0, 1) := dk_42 (dk_at dksX4_appends_4 10 rfl rfl)
theorem dX4_appends_107 : decode cX4_appends 107 = .ok (.getfield 7, 3) := dk_180 0 7 (dk_at dksX4_appends_4 11 rfl rfl)
theorem dX4_appends_110 : decode cX4_appends 110 = .ok (.iload 4, 2) := dk_21 4 (dk_at dksX4_appends_4 14 rfl rfl)
theorem dX4_appends_112 : decode cX4_appends 112 = .ok (.bipush 122, 2) := dk_16 122 (dk_at dksX4_appends_4 16 rfl rfl)
theorem dX4_appends_114 : decode cX4_appends 114 = .ok (.iadd, 1) := dk_96 (dk_at dksX4_appends_4 18 rfl rfl)
theorem dX4_appends_115 : decode cX4_appends 115 = .ok (.iload 6, 2) := dk_21 6 (dk_at dksX4_appends_4 19 rfl rfl)
theorem dX4_appends_117 : decode cX4_appends 117 = .ok (.iadd, 1) := dk_96 (dk_at dksX4_appends_4 21 rfl rfl)
theorem dX4_appends_118 : decode cX4_appends 118 = .ok (.iaload, 1) := dk_46 (dk_at dksX4_appends_4 22 rfl rfl)
theorem dX4_appends_119 : decode cX4_appends 119 = .ok (.iastore, 1) := dk_79 (dk_at dksX4_appends_4 23 rfl rfl)
theorem dX4_appends_120 : decode cX4_appends 120 = .ok (.iinc 6 1, 3) := dk_132 6 1 (dk_at dksX4_appends_5 0 rfl rfl)
theorem dX4_appends_123 : decode cX4_appends 123 = .ok (.goto (-99), 3) := dk_167 255 157 (dk_at dksX4_appends_5 3 rfl rfl)
theorem dX4_appends_126 : decode cX4_appends 126 = .ok (.aload_n 0, 1) := dk_42 (dk_at dksX4_appends_5 6 rfl rfl)
theorem dX4_appends_127 : decode cX4_appends 127 = .ok (.getfield 7, 3) := dk_180 0 7 (dk_at dksX4_appends_5 7 rfl rfl)
theorem dX4_appends_130 : decode cX4_appends 130 = .ok (.iload_n 3, 1) := dk_29 (dk_at dksX4_appends_5 10 rfl rfl)
theorem dX4_appends_131 : decode cX4_appends 131 = .ok (.iconst 1, 1) := dk_4 (dk_at dksX4_appends_5 11 rfl rfl)
theorem dX4_appends_132 : decode cX4_appends 132 = .ok (.iadd, 1) := dk_96 (dk_at dksX4_appends_5 12 rfl rfl)
theorem dX4_appends_133 : decode cX4_appends 133 = .ok (.iload 5, 2) := dk_21 5 (dk_at dksX4_appends_5 13 rfl rfl)
theorem dX4_appends_135 : decode cX4_appends 135 = .ok (.aload_n 0, 1) := dk_42 (dk_at dksX4_appends_5 15 rfl rfl)
theorem dX4_appends_136 : decode cX4_appends 136 = .ok (.getfield 7, 3) := dk_180 0 7 (dk_at dksX4_appends_5 16 rfl rfl)
theorem dX4_appends_139 : decode cX4_appends 139 = .ok (.iload 4, 2) := dk_21 4 (dk_at dksX4_appends_5 19 rfl rfl)
theorem dX4_appends_141 : decode cX4_appends 141 = .ok (.iconst 1, 1) := dk_4 (dk_at dksX4_appends_5 21 rfl rfl)
theorem dX4_appends_142 : decode cX4_appends 142 = .ok (.iadd, 1) := dk_96 (dk_at dksX4_appends_5 22 rfl rfl)
theorem dX4_appends_143 : decode cX4_appends 143 = .ok (.iaload, 1) := dk_46 (dk_at dksX4_appends_5 23 rfl rfl)
theorem dX4_appends_144 : decode cX4_appends 144 = .ok (.iadd, 1) := dk_96 (dk_at dksX4_appends_6 0 rfl rfl)
theorem dX4_appends_145 : decode cX4_appends 145 = .ok (.iastore, 1) := dk_79 (dk_at dksX4_appends_6 1 rfl rfl)
theorem dX4_appends_146 : decode cX4_appends 146 = .ok (.return_, 1) := dk_177 (dk_at dksX4_appends_6 2 rfl rfl)
abbrev cX4_absorb : ByteArray := prog_19_method_104_code
def yX4_absorb : MethodName := ⟨RX4, "absorb", "(II)I"⟩
def dkwX4_absorb_5 : List UInt8 := [4, 96, 46, 172]
abbrev dktX4_absorb_5 : List UInt8 := dkwX4_absorb_5 ++ []
def dkwX4_absorb_4 : List UInt8 := [182, 1, 16, 54, 6, 132, 5, 1, 167, 255, 216, 42, 28, 182, 1, 49, 42, 180, 0, 7, 27, 184, 0, 171]
abbrev dktX4_absorb_4 : List UInt8 := dkwX4_absorb_4 ++ dktX4_absorb_5
def dkwX4_absorb_3 : List UInt8 := [180, 0, 7, 29, 5, 96, 21, 5, 96, 46, 42, 180, 0, 7, 29, 16, 62, 96, 21, 5, 96, 46]
abbrev dktX4_absorb_3 : List UInt8 := dkwX4_absorb_3 ++ dktX4_absorb_4
def dkwX4_absorb_2 : List UInt8 := [62, 42, 180, 0, 7, 29, 4, 96, 46, 54, 4, 3, 54, 5, 21, 5, 21, 4, 162, 0, 39, 42, 27, 42]
abbrev dktX4_absorb_2 : List UInt8 := dkwX4_absorb_2 ++ dktX4_absorb_3
def dkwX4_absorb_1 : List UInt8 := [167, 0, 4, 3, 181, 0, 62, 42, 180, 0, 62, 158, 0, 5, 3, 172, 42, 182, 1, 43, 28, 184, 0, 171]
abbrev dktX4_absorb_1 : List UInt8 := dkwX4_absorb_1 ++ dktX4_absorb_2
def dkwX4_absorb_0 : List UInt8 := [42, 42, 27, 28, 182, 1, 28, 154, 0, 7, 4, 167, 0, 17, 42, 27, 28, 182, 1, 34, 153, 0, 7, 5]
abbrev dktX4_absorb_0 : List UInt8 := dkwX4_absorb_0 ++ dktX4_absorb_1
theorem dksX4_absorb_0 : cX4_absorb.data.toList.drop 0 = dktX4_absorb_0 := by decide +kernel
theorem dksX4_absorb_1 : cX4_absorb.data.toList.drop 24 = dktX4_absorb_1 := dk_seg dksX4_absorb_0 24 rfl rfl
theorem dksX4_absorb_2 : cX4_absorb.data.toList.drop 48 = dktX4_absorb_2 := dk_seg dksX4_absorb_1 24 rfl rfl
theorem dksX4_absorb_3 : cX4_absorb.data.toList.drop 72 = dktX4_absorb_3 := dk_seg dksX4_absorb_2 24 rfl rfl
theorem dksX4_absorb_4 : cX4_absorb.data.toList.drop 94 = dktX4_absorb_4 := dk_seg dksX4_absorb_3 22 rfl rfl
theorem dksX4_absorb_5 : cX4_absorb.data.toList.drop 118 = dktX4_absorb_5 := dk_seg dksX4_absorb_4 24 rfl rfl
theorem dX4_absorb_0 : decode cX4_absorb 0 = .ok (.aload_n 0, 1) := dk_42 (dk_at dksX4_absorb_0 0 rfl rfl)
theorem dX4_absorb_1 : decode cX4_absorb 1 = .ok (.aload_n 0, 1) := dk_42 (dk_at dksX4_absorb_0 1 rfl rfl)
theorem dX4_absorb_2 : decode cX4_absorb 2 = .ok (.iload_n 1, 1) := dk_27 (dk_at dksX4_absorb_0 2 rfl rfl)
theorem dX4_absorb_3 : decode cX4_absorb 3 = .ok (.iload_n 2, 1) := dk_28 (dk_at dksX4_absorb_0 3 rfl rfl)
theorem dX4_absorb_4 : decode cX4_absorb 4 = .ok (.invokevirtual 284, 3) := dk_182 1 28 (dk_at dksX4_absorb_0 4 rfl rfl)
theorem dX4_absorb_7 : decode cX4_absorb 7 = .ok (.ifCond .ne 7, 3) := dk_154 0 7 (dk_at dksX4_absorb_0 7 rfl rfl)
theorem dX4_absorb_10 : decode cX4_absorb 10 = .ok (.iconst 1, 1) := dk_4 (dk_at dksX4_absorb_0 10 rfl rfl)
theorem dX4_absorb_11 : decode cX4_absorb 11 = .ok (.goto 17, 3) := dk_167 0 17 (dk_at dksX4_absorb_0 11 rfl rfl)
theorem dX4_absorb_14 : decode cX4_absorb 14 = .ok (.aload_n 0, 1) := dk_42 (dk_at dksX4_absorb_0 14 rfl rfl)
theorem dX4_absorb_15 : decode cX4_absorb 15 = .ok (.iload_n 1, 1) := dk_27 (dk_at dksX4_absorb_0 15 rfl rfl)
theorem dX4_absorb_16 : decode cX4_absorb 16 = .ok (.iload_n 2, 1) := dk_28 (dk_at dksX4_absorb_0 16 rfl rfl)
theorem dX4_absorb_17 : decode cX4_absorb 17 = .ok (.invokevirtual 290, 3) := dk_182 1 34 (dk_at dksX4_absorb_0 17 rfl rfl)
theorem dX4_absorb_20 : decode cX4_absorb 20 = .ok (.ifCond .eq 7, 3) := dk_153 0 7 (dk_at dksX4_absorb_0 20 rfl rfl)
theorem dX4_absorb_23 : decode cX4_absorb 23 = .ok (.iconst 2, 1) := dk_5 (dk_at dksX4_absorb_0 23 rfl rfl)
theorem dX4_absorb_24 : decode cX4_absorb 24 = .ok (.goto 4, 3) := dk_167 0 4 (dk_at dksX4_absorb_1 0 rfl rfl)
theorem dX4_absorb_27 : decode cX4_absorb 27 = .ok (.iconst 0, 1) := dk_3 (dk_at dksX4_absorb_1 3 rfl rfl)
theorem dX4_absorb_28 : decode cX4_absorb 28 = .ok (.putfield 62, 3) := dk_181 0 62 (dk_at dksX4_absorb_1 4 rfl rfl)
theorem dX4_absorb_31 : decode cX4_absorb 31 = .ok (.aload_n 0, 1) := dk_42 (dk_at dksX4_absorb_1 7 rfl rfl)
theorem dX4_absorb_32 : decode cX4_absorb 32 = .ok (.getfield 62, 3) := dk_180 0 62 (dk_at dksX4_absorb_1 8 rfl rfl)
theorem dX4_absorb_35 : decode cX4_absorb 35 = .ok (.ifCond .le 5, 3) := dk_158 0 5 (dk_at dksX4_absorb_1 11 rfl rfl)
theorem dX4_absorb_38 : decode cX4_absorb 38 = .ok (.iconst 0, 1) := dk_3 (dk_at dksX4_absorb_1 14 rfl rfl)
theorem dX4_absorb_39 : decode cX4_absorb 39 = .ok (.ireturn, 1) := dk_172 (dk_at dksX4_absorb_1 15 rfl rfl)
theorem dX4_absorb_40 : decode cX4_absorb 40 = .ok (.aload_n 0, 1) := dk_42 (dk_at dksX4_absorb_1 16 rfl rfl)
theorem dX4_absorb_41 : decode cX4_absorb 41 = .ok (.invokevirtual 299, 3) := dk_182 1 43 (dk_at dksX4_absorb_1 17 rfl rfl)
theorem dX4_absorb_44 : decode cX4_absorb 44 = .ok (.iload_n 2, 1) := dk_28 (dk_at dksX4_absorb_1 20 rfl rfl)
theorem dX4_absorb_45 : decode cX4_absorb 45 = .ok (.invokestatic 171, 3) := dk_184 0 171 (dk_at dksX4_absorb_1 21 rfl rfl)
theorem dX4_absorb_48 : decode cX4_absorb 48 = .ok (.istore_n 3, 1) := dk_62 (dk_at dksX4_absorb_2 0 rfl rfl)
theorem dX4_absorb_49 : decode cX4_absorb 49 = .ok (.aload_n 0, 1) := dk_42 (dk_at dksX4_absorb_2 1 rfl rfl)
theorem dX4_absorb_50 : decode cX4_absorb 50 = .ok (.getfield 7, 3) := dk_180 0 7 (dk_at dksX4_absorb_2 2 rfl rfl)
theorem dX4_absorb_53 : decode cX4_absorb 53 = .ok (.iload_n 3, 1) := dk_29 (dk_at dksX4_absorb_2 5 rfl rfl)
theorem dX4_absorb_54 : decode cX4_absorb 54 = .ok (.iconst 1, 1) := dk_4 (dk_at dksX4_absorb_2 6 rfl rfl)
theorem dX4_absorb_55 : decode cX4_absorb 55 = .ok (.iadd, 1) := dk_96 (dk_at dksX4_absorb_2 7 rfl rfl)
theorem dX4_absorb_56 : decode cX4_absorb 56 = .ok (.iaload, 1) := dk_46 (dk_at dksX4_absorb_2 8 rfl rfl)
theorem dX4_absorb_57 : decode cX4_absorb 57 = .ok (.istore 4, 2) := dk_54 4 (dk_at dksX4_absorb_2 9 rfl rfl)
theorem dX4_absorb_59 : decode cX4_absorb 59 = .ok (.iconst 0, 1) := dk_3 (dk_at dksX4_absorb_2 11 rfl rfl)
theorem dX4_absorb_60 : decode cX4_absorb 60 = .ok (.istore 5, 2) := dk_54 5 (dk_at dksX4_absorb_2 12 rfl rfl)
theorem dX4_absorb_62 : decode cX4_absorb 62 = .ok (.iload 5, 2) := dk_21 5 (dk_at dksX4_absorb_2 14 rfl rfl)
theorem dX4_absorb_64 : decode cX4_absorb 64 = .ok (.iload 4, 2) := dk_21 4 (dk_at dksX4_absorb_2 16 rfl rfl)
theorem dX4_absorb_66 : decode cX4_absorb 66 = .ok (.if_icmp .ge 39, 3) := dk_162 0 39 (dk_at dksX4_absorb_2 18 rfl rfl)
theorem dX4_absorb_69 : decode cX4_absorb 69 = .ok (.aload_n 0, 1) := dk_42 (dk_at dksX4_absorb_2 21 rfl rfl)
theorem dX4_absorb_70 : decode cX4_absorb 70 = .ok (.iload_n 1, 1) := dk_27 (dk_at dksX4_absorb_2 22 rfl rfl)
theorem dX4_absorb_71 : decode cX4_absorb 71 = .ok (.aload_n 0, 1) := dk_42 (dk_at dksX4_absorb_2 23 rfl rfl)
theorem dX4_absorb_72 : decode cX4_absorb 72 = .ok (.getfield 7, 3) := dk_180 0 7 (dk_at dksX4_absorb_3 0 rfl rfl)
theorem dX4_absorb_75 : decode cX4_absorb 75 = .ok (.iload_n 3, 1) := dk_29 (dk_at dksX4_absorb_3 3 rfl rfl)
theorem dX4_absorb_76 : decode cX4_absorb 76 = .ok (.iconst 2, 1) := dk_5 (dk_at dksX4_absorb_3 4 rfl rfl)
theorem dX4_absorb_77 : decode cX4_absorb 77 = .ok (.iadd, 1) := dk_96 (dk_at dksX4_absorb_3 5 rfl rfl)
theorem dX4_absorb_78 : decode cX4_absorb 78 = .ok (.iload 5, 2) := dk_21 5 (dk_at dksX4_absorb_3 6 rfl rfl)
theorem dX4_absorb_80 : decode cX4_absorb 80 = .ok (.iadd, 1) := dk_96 (dk_at dksX4_absorb_3 8 rfl rfl)
theorem dX4_absorb_81 : decode cX4_absorb 81 = .ok (.iaload, 1) := dk_46 (dk_at dksX4_absorb_3 9 rfl rfl)
theorem dX4_absorb_82 : decode cX4_absorb 82 = .ok (.aload_n 0, 1) := dk_42 (dk_at dksX4_absorb_3 10 rfl rfl)
theorem dX4_absorb_83 : decode cX4_absorb 83 = .ok (.getfield 7, 3) := dk_180 0 7 (dk_at dksX4_absorb_3 11 rfl rfl)
theorem dX4_absorb_86 : decode cX4_absorb 86 = .ok (.iload_n 3, 1) := dk_29 (dk_at dksX4_absorb_3 14 rfl rfl)
theorem dX4_absorb_87 : decode cX4_absorb 87 = .ok (.bipush 62, 2) := dk_16 62 (dk_at dksX4_absorb_3 15 rfl rfl)
theorem dX4_absorb_89 : decode cX4_absorb 89 = .ok (.iadd, 1) := dk_96 (dk_at dksX4_absorb_3 17 rfl rfl)
theorem dX4_absorb_90 : decode cX4_absorb 90 = .ok (.iload 5, 2) := dk_21 5 (dk_at dksX4_absorb_3 18 rfl rfl)
theorem dX4_absorb_92 : decode cX4_absorb 92 = .ok (.iadd, 1) := dk_96 (dk_at dksX4_absorb_3 20 rfl rfl)
theorem dX4_absorb_93 : decode cX4_absorb 93 = .ok (.iaload, 1) := dk_46 (dk_at dksX4_absorb_3 21 rfl rfl)
theorem dX4_absorb_94 : decode cX4_absorb 94 = .ok (.invokevirtual 272, 3) := dk_182 1 16 (dk_at dksX4_absorb_4 0 rfl rfl)
theorem dX4_absorb_97 : decode cX4_absorb 97 = .ok (.istore 6, 2) := dk_54 6 (dk_at dksX4_absorb_4 3 rfl rfl)
theorem dX4_absorb_99 : decode cX4_absorb 99 = .ok (.iinc 5 1, 3) := dk_132 5 1 (dk_at dksX4_absorb_4 5 rfl rfl)
theorem dX4_absorb_102 : decode cX4_absorb 102 = .ok (.goto (-40), 3) := dk_167 255 216 (dk_at dksX4_absorb_4 8 rfl rfl)
theorem dX4_absorb_105 : decode cX4_absorb 105 = .ok (.aload_n 0, 1) := dk_42 (dk_at dksX4_absorb_4 11 rfl rfl)
theorem dX4_absorb_106 : decode cX4_absorb 106 = .ok (.iload_n 2, 1) := dk_28 (dk_at dksX4_absorb_4 12 rfl rfl)
theorem dX4_absorb_107 : decode cX4_absorb 107 = .ok (.invokevirtual 305, 3) := dk_182 1 49 (dk_at dksX4_absorb_4 13 rfl rfl)
theorem dX4_absorb_110 : decode cX4_absorb 110 = .ok (.aload_n 0, 1) := dk_42 (dk_at dksX4_absorb_4 16 rfl rfl)
theorem dX4_absorb_111 : decode cX4_absorb 111 = .ok (.getfield 7, 3) := dk_180 0 7 (dk_at dksX4_absorb_4 17 rfl rfl)
theorem dX4_absorb_114 : decode cX4_absorb 114 = .ok (.iload_n 1, 1) := dk_27 (dk_at dksX4_absorb_4 20 rfl rfl)
theorem dX4_absorb_115 : decode cX4_absorb 115 = .ok (.invokestatic 171, 3) := dk_184 0 171 (dk_at dksX4_absorb_4 21 rfl rfl)
theorem dX4_absorb_118 : decode cX4_absorb 118 = .ok (.iconst 1, 1) := dk_4 (dk_at dksX4_absorb_5 0 rfl rfl)
theorem dX4_absorb_119 : decode cX4_absorb 119 = .ok (.iadd, 1) := dk_96 (dk_at dksX4_absorb_5 1 rfl rfl)
theorem dX4_absorb_120 : decode cX4_absorb 120 = .ok (.iaload, 1) := dk_46 (dk_at dksX4_absorb_5 2 rfl rfl)
theorem dX4_absorb_121 : decode cX4_absorb 121 = .ok (.ireturn, 1) := dk_172 (dk_at dksX4_absorb_5 3 rfl rfl)
abbrev cX4_level : ByteArray := prog_19_method_105_code
def yX4_level : MethodName := ⟨RX4, "level", "(I)I"⟩
def dkwX4_level_1 : List UInt8 := [3, 172, 42, 182, 1, 43, 42, 27, 182, 0, 175, 42, 27, 182, 0, 194, 172]
abbrev dktX4_level_1 : List UInt8 := dkwX4_level_1 ++ []
def dkwX4_level_0 : List UInt8 := [42, 42, 27, 182, 0, 183, 153, 0, 7, 3, 167, 0, 4, 4, 181, 0, 62, 42, 180, 0, 62, 158, 0, 5]
abbrev dktX4_level_0 : List UInt8 := dkwX4_level_0 ++ dktX4_level_1
theorem dksX4_level_0 : cX4_level.data.toList.drop 0 = dktX4_level_0 := by decide +kernel
theorem dksX4_level_1 : cX4_level.data.toList.drop 24 = dktX4_level_1 := dk_seg dksX4_level_0 24 rfl rfl
theorem dX4_level_0 : decode cX4_level 0 = .ok (.aload_n 0, 1) := dk_42 (dk_at dksX4_level_0 0 rfl rfl)
theorem dX4_level_1 : decode cX4_level 1 = .ok (.aload_n 0, 1) := dk_42 (dk_at dksX4_level_0 1 rfl rfl)
theorem dX4_level_2 : decode cX4_level 2 = .ok (.iload_n 1, 1) := dk_27 (dk_at dksX4_level_0 2 rfl rfl)
theorem dX4_level_3 : decode cX4_level 3 = .ok (.invokevirtual 183, 3) := dk_182 0 183 (dk_at dksX4_level_0 3 rfl rfl)
theorem dX4_level_6 : decode cX4_level 6 = .ok (.ifCond .eq 7, 3) := dk_153 0 7 (dk_at dksX4_level_0 6 rfl rfl)
theorem dX4_level_9 : decode cX4_level 9 = .ok (.iconst 0, 1) := dk_3 (dk_at dksX4_level_0 9 rfl rfl)
theorem dX4_level_10 : decode cX4_level 10 = .ok (.goto 4, 3) := dk_167 0 4 (dk_at dksX4_level_0 10 rfl rfl)
theorem dX4_level_13 : decode cX4_level 13 = .ok (.iconst 1, 1) := dk_4 (dk_at dksX4_level_0 13 rfl rfl)
theorem dX4_level_14 : decode cX4_level 14 = .ok (.putfield 62, 3) := dk_181 0 62 (dk_at dksX4_level_0 14 rfl rfl)
theorem dX4_level_17 : decode cX4_level 17 = .ok (.aload_n 0, 1) := dk_42 (dk_at dksX4_level_0 17 rfl rfl)
theorem dX4_level_18 : decode cX4_level 18 = .ok (.getfield 62, 3) := dk_180 0 62 (dk_at dksX4_level_0 18 rfl rfl)
theorem dX4_level_21 : decode cX4_level 21 = .ok (.ifCond .le 5, 3) := dk_158 0 5 (dk_at dksX4_level_0 21 rfl rfl)
theorem dX4_level_24 : decode cX4_level 24 = .ok (.iconst 0, 1) := dk_3 (dk_at dksX4_level_1 0 rfl rfl)
theorem dX4_level_25 : decode cX4_level 25 = .ok (.ireturn, 1) := dk_172 (dk_at dksX4_level_1 1 rfl rfl)
theorem dX4_level_26 : decode cX4_level 26 = .ok (.aload_n 0, 1) := dk_42 (dk_at dksX4_level_1 2 rfl rfl)
theorem dX4_level_27 : decode cX4_level 27 = .ok (.invokevirtual 299, 3) := dk_182 1 43 (dk_at dksX4_level_1 3 rfl rfl)
theorem dX4_level_30 : decode cX4_level 30 = .ok (.aload_n 0, 1) := dk_42 (dk_at dksX4_level_1 6 rfl rfl)
theorem dX4_level_31 : decode cX4_level 31 = .ok (.iload_n 1, 1) := dk_27 (dk_at dksX4_level_1 7 rfl rfl)
theorem dX4_level_32 : decode cX4_level 32 = .ok (.invokevirtual 175, 3) := dk_182 0 175 (dk_at dksX4_level_1 8 rfl rfl)
theorem dX4_level_35 : decode cX4_level 35 = .ok (.aload_n 0, 1) := dk_42 (dk_at dksX4_level_1 11 rfl rfl)
theorem dX4_level_36 : decode cX4_level 36 = .ok (.iload_n 1, 1) := dk_27 (dk_at dksX4_level_1 12 rfl rfl)
theorem dX4_level_37 : decode cX4_level 37 = .ok (.invokevirtual 194, 3) := dk_182 0 194 (dk_at dksX4_level_1 13 rfl rfl)
theorem dX4_level_40 : decode cX4_level 40 = .ok (.ireturn, 1) := dk_172 (dk_at dksX4_level_1 16 rfl rfl)
abbrev cX4_setLimit : ByteArray := prog_19_method_106_code
def yX4_setLimit : MethodName := ⟨RX4, "setLimit", "(I)I"⟩
def dkwX4_setLimit_2 : List UInt8 := [28, 172]
abbrev dktX4_setLimit_2 : List UInt8 := dkwX4_setLimit_2 ++ []
def dkwX4_setLimit_1 : List UInt8 := [180, 0, 62, 158, 0, 5, 3, 172, 42, 182, 1, 43, 42, 180, 0, 7, 3, 46, 61, 42, 27, 182, 1, 25]
abbrev dktX4_setLimit_1 : List UInt8 := dkwX4_setLimit_1 ++ dktX4_setLimit_2
def dkwX4_setLimit_0 : List UInt8 := [42, 27, 133, 20, 0, 159, 20, 0, 161, 184, 0, 72, 153, 0, 7, 3, 167, 0, 4, 4, 181, 0, 62, 42]
abbrev dktX4_setLimit_0 : List UInt8 := dkwX4_setLimit_0 ++ dktX4_setLimit_1
theorem dksX4_setLimit_0 : cX4_setLimit.data.toList.drop 0 = dktX4_setLimit_0 := by decide +kernel
theorem dksX4_setLimit_1 : cX4_setLimit.data.toList.drop 24 = dktX4_setLimit_1 := dk_seg dksX4_setLimit_0 24 rfl rfl
theorem dksX4_setLimit_2 : cX4_setLimit.data.toList.drop 48 = dktX4_setLimit_2 := dk_seg dksX4_setLimit_1 24 rfl rfl
theorem dX4_setLimit_0 : decode cX4_setLimit 0 = .ok (.aload_n 0, 1) := dk_42 (dk_at dksX4_setLimit_0 0 rfl rfl)
theorem dX4_setLimit_1 : decode cX4_setLimit 1 = .ok (.iload_n 1, 1) := dk_27 (dk_at dksX4_setLimit_0 1 rfl rfl)
theorem dX4_setLimit_2 : decode cX4_setLimit 2 = .ok (.i2l, 1) := dk_133 (dk_at dksX4_setLimit_0 2 rfl rfl)
theorem dX4_setLimit_3 : decode cX4_setLimit 3 = .ok (.ldc2_w 159, 3) := dk_20 0 159 (dk_at dksX4_setLimit_0 3 rfl rfl)
theorem dX4_setLimit_6 : decode cX4_setLimit 6 = .ok (.ldc2_w 161, 3) := dk_20 0 161 (dk_at dksX4_setLimit_0 6 rfl rfl)
theorem dX4_setLimit_9 : decode cX4_setLimit 9 = .ok (.invokestatic 72, 3) := dk_184 0 72 (dk_at dksX4_setLimit_0 9 rfl rfl)
theorem dX4_setLimit_12 : decode cX4_setLimit 12 = .ok (.ifCond .eq 7, 3) := dk_153 0 7 (dk_at dksX4_setLimit_0 12 rfl rfl)
theorem dX4_setLimit_15 : decode cX4_setLimit 15 = .ok (.iconst 0, 1) := dk_3 (dk_at dksX4_setLimit_0 15 rfl rfl)
theorem dX4_setLimit_16 : decode cX4_setLimit 16 = .ok (.goto 4, 3) := dk_167 0 4 (dk_at dksX4_setLimit_0 16 rfl rfl)
theorem dX4_setLimit_19 : decode cX4_setLimit 19 = .ok (.iconst 1, 1) := dk_4 (dk_at dksX4_setLimit_0 19 rfl rfl)
theorem dX4_setLimit_20 : decode cX4_setLimit 20 = .ok (.putfield 62, 3) := dk_181 0 62 (dk_at dksX4_setLimit_0 20 rfl rfl)
theorem dX4_setLimit_23 : decode cX4_setLimit 23 = .ok (.aload_n 0, 1) := dk_42 (dk_at dksX4_setLimit_0 23 rfl rfl)
theorem dX4_setLimit_24 : decode cX4_setLimit 24 = .ok (.getfield 62, 3) := dk_180 0 62 (dk_at dksX4_setLimit_1 0 rfl rfl)
theorem dX4_setLimit_27 : decode cX4_setLimit 27 = .ok (.ifCond .le 5, 3) := dk_158 0 5 (dk_at dksX4_setLimit_1 3 rfl rfl)
theorem dX4_setLimit_30 : decode cX4_setLimit 30 = .ok (.iconst 0, 1) := dk_3 (dk_at dksX4_setLimit_1 6 rfl rfl)
theorem dX4_setLimit_31 : decode cX4_setLimit 31 = .ok (.ireturn, 1) := dk_172 (dk_at dksX4_setLimit_1 7 rfl rfl)
theorem dX4_setLimit_32 : decode cX4_setLimit 32 = .ok (.aload_n 0, 1) := dk_42 (dk_at dksX4_setLimit_1 8 rfl rfl)
theorem dX4_setLimit_33 : decode cX4_setLimit 33 = .ok (.invokevirtual 299, 3) := dk_182 1 43 (dk_at dksX4_setLimit_1 9 rfl rfl)
theorem dX4_setLimit_36 : decode cX4_setLimit 36 = .ok (.aload_n 0, 1) := dk_42 (dk_at dksX4_setLimit_1 12 rfl rfl)
theorem dX4_setLimit_37 : decode cX4_setLimit 37 = .ok (.getfield 7, 3) := dk_180 0 7 (dk_at dksX4_setLimit_1 13 rfl rfl)
theorem dX4_setLimit_40 : decode cX4_setLimit 40 = .ok (.iconst 0, 1) := dk_3 (dk_at dksX4_setLimit_1 16 rfl rfl)
theorem dX4_setLimit_41 : decode cX4_setLimit 41 = .ok (.iaload, 1) := dk_46 (dk_at dksX4_setLimit_1 17 rfl rfl)
theorem dX4_setLimit_42 : decode cX4_setLimit 42 = .ok (.istore_n 2, 1) := dk_61 (dk_at dksX4_setLimit_1 18 rfl rfl)
theorem dX4_setLimit_43 : decode cX4_setLimit 43 = .ok (.aload_n 0, 1) := dk_42 (dk_at dksX4_setLimit_1 19 rfl rfl)
theorem dX4_setLimit_44 : decode cX4_setLimit 44 = .ok (.iload_n 1, 1) := dk_27 (dk_at dksX4_setLimit_1 20 rfl rfl)
theorem dX4_setLimit_45 : decode cX4_setLimit 45 = .ok (.invokevirtual 281, 3) := dk_182 1 25 (dk_at dksX4_setLimit_1 21 rfl rfl)
theorem dX4_setLimit_48 : decode cX4_setLimit 48 = .ok (.iload_n 2, 1) := dk_28 (dk_at dksX4_setLimit_2 0 rfl rfl)
theorem dX4_setLimit_49 : decode cX4_setLimit 49 = .ok (.ireturn, 1) := dk_172 (dk_at dksX4_setLimit_2 1 rfl rfl)
abbrev cX4_undo : ByteArray := prog_19_method_107_code
def yX4_undo : MethodName := ⟨RX4, "undo", "()I"⟩
def dkwX4_undo_4 : List UInt8 := [96, 47, 80, 132, 1, 1, 167, 255, 227, 42, 180, 0, 178, 172]
abbrev dktX4_undo_4 : List UInt8 := dkwX4_undo_4 ++ []
def dkwX4_undo_3 : List UInt8 := [60, 27, 16, 6, 162, 0, 29, 42, 180, 0, 13, 27, 42, 180, 0, 21, 16, 6, 42, 180, 0, 178, 104, 27]
abbrev dktX4_undo_3 : List UInt8 := dkwX4_undo_3 ++ dktX4_undo_4
def dkwX4_undo_2 : List UInt8 := [27, 42, 180, 0, 18, 17, 16, 4, 42, 180, 0, 178, 104, 27, 96, 46, 79, 132, 1, 1, 167, 255, 225, 3]
abbrev dktX4_undo_2 : List UInt8 := dkwX4_undo_2 ++ dktX4_undo_3
def dkwX4_undo_1 : List UInt8 := [172, 42, 89, 180, 0, 178, 4, 100, 181, 0, 178, 3, 60, 27, 17, 16, 4, 162, 0, 30, 42, 180, 0, 7]
abbrev dktX4_undo_1 : List UInt8 := dkwX4_undo_1 ++ dktX4_undo_2
def dkwX4_undo_0 : List UInt8 := [42, 42, 180, 0, 178, 158, 0, 7, 3, 167, 0, 4, 4, 181, 0, 62, 42, 180, 0, 62, 158, 0, 5, 3]
abbrev dktX4_undo_0 : List UInt8 := dkwX4_undo_0 ++ dktX4_undo_1
theorem dksX4_undo_0 : cX4_undo.data.toList.drop 0 = dktX4_undo_0 := by decide +kernel
theorem dksX4_undo_1 : cX4_undo.data.toList.drop 24 = dktX4_undo_1 := dk_seg dksX4_undo_0 24 rfl rfl
theorem dksX4_undo_2 : cX4_undo.data.toList.drop 48 = dktX4_undo_2 := dk_seg dksX4_undo_1 24 rfl rfl
theorem dksX4_undo_3 : cX4_undo.data.toList.drop 72 = dktX4_undo_3 := dk_seg dksX4_undo_2 24 rfl rfl
theorem dksX4_undo_4 : cX4_undo.data.toList.drop 96 = dktX4_undo_4 := dk_seg dksX4_undo_3 24 rfl rfl
theorem dX4_undo_0 : decode cX4_undo 0 = .ok (.aload_n 0, 1) := dk_42 (dk_at dksX4_undo_0 0 rfl rfl)
theorem dX4_undo_1 : decode cX4_undo 1 = .ok (.aload_n 0, 1) := dk_42 (dk_at dksX4_undo_0 1 rfl rfl)
theorem dX4_undo_2 : decode cX4_undo 2 = .ok (.getfield 178, 3) := dk_180 0 178 (dk_at dksX4_undo_0 2 rfl rfl)
theorem dX4_undo_5 : decode cX4_undo 5 = .ok (.ifCond .le 7, 3) := dk_158 0 7 (dk_at dksX4_undo_0 5 rfl rfl)
theorem dX4_undo_8 : decode cX4_undo 8 = .ok (.iconst 0, 1) := dk_3 (dk_at dksX4_undo_0 8 rfl rfl)
theorem dX4_undo_9 : decode cX4_undo 9 = .ok (.goto 4, 3) := dk_167 0 4 (dk_at dksX4_undo_0 9 rfl rfl)
theorem dX4_undo_12 : decode cX4_undo 12 = .ok (.iconst 1, 1) := dk_4 (dk_at dksX4_undo_0 12 rfl rfl)
theorem dX4_undo_13 : decode cX4_undo 13 = .ok (.putfield 62, 3) := dk_181 0 62 (dk_at dksX4_undo_0 13 rfl rfl)
theorem dX4_undo_16 : decode cX4_undo 16 = .ok (.aload_n 0, 1) := dk_42 (dk_at dksX4_undo_0 16 rfl rfl)
theorem dX4_undo_17 : decode cX4_undo 17 = .ok (.getfield 62, 3) := dk_180 0 62 (dk_at dksX4_undo_0 17 rfl rfl)
theorem dX4_undo_20 : decode cX4_undo 20 = .ok (.ifCond .le 5, 3) := dk_158 0 5 (dk_at dksX4_undo_0 20 rfl rfl)
theorem dX4_undo_23 : decode cX4_undo 23 = .ok (.iconst 0, 1) := dk_3 (dk_at dksX4_undo_0 23 rfl rfl)
theorem dX4_undo_24 : decode cX4_undo 24 = .ok (.ireturn, 1) := dk_172 (dk_at dksX4_undo_1 0 rfl rfl)
theorem dX4_undo_25 : decode cX4_undo 25 = .ok (.aload_n 0, 1) := dk_42 (dk_at dksX4_undo_1 1 rfl rfl)
theorem dX4_undo_26 : decode cX4_undo 26 = .ok (.dup, 1) := dk_89 (dk_at dksX4_undo_1 2 rfl rfl)
theorem dX4_undo_27 : decode cX4_undo 27 = .ok (.getfield 178, 3) := dk_180 0 178 (dk_at dksX4_undo_1 3 rfl rfl)
theorem dX4_undo_30 : decode cX4_undo 30 = .ok (.iconst 1, 1) := dk_4 (dk_at dksX4_undo_1 6 rfl rfl)
theorem dX4_undo_31 : decode cX4_undo 31 = .ok (.isub, 1) := dk_100 (dk_at dksX4_undo_1 7 rfl rfl)
theorem dX4_undo_32 : decode cX4_undo 32 = .ok (.putfield 178, 3) := dk_181 0 178 (dk_at dksX4_undo_1 8 rfl rfl)
theorem dX4_undo_35 : decode cX4_undo 35 = .ok (.iconst 0, 1) := dk_3 (dk_at dksX4_undo_1 11 rfl rfl)
theorem dX4_undo_36 : decode cX4_undo 36 = .ok (.istore_n 1, 1) := dk_60 (dk_at dksX4_undo_1 12 rfl rfl)
theorem dX4_undo_37 : decode cX4_undo 37 = .ok (.iload_n 1, 1) := dk_27 (dk_at dksX4_undo_1 13 rfl rfl)
theorem dX4_undo_38 : decode cX4_undo 38 = .ok (.sipush 4100, 3) := dk_17 16 4 (dk_at dksX4_undo_1 14 rfl rfl)
theorem dX4_undo_41 : decode cX4_undo 41 = .ok (.if_icmp .ge 30, 3) := dk_162 0 30 (dk_at dksX4_undo_1 17 rfl rfl)
theorem dX4_undo_44 : decode cX4_undo 44 = .ok (.aload_n 0, 1) := dk_42 (dk_at dksX4_undo_1 20 rfl rfl)
theorem dX4_undo_45 : decode cX4_undo 45 = .ok (.getfield 7, 3) := dk_180 0 7 (dk_at dksX4_undo_1 21 rfl rfl)
theorem dX4_undo_48 : decode cX4_undo 48 = .ok (.iload_n 1, 1) := dk_27 (dk_at dksX4_undo_2 0 rfl rfl)
theorem dX4_undo_49 : decode cX4_undo 49 = .ok (.aload_n 0, 1) := dk_42 (dk_at dksX4_undo_2 1 rfl rfl)
theorem dX4_undo_50 : decode cX4_undo 50 = .ok (.getfield 18, 3) := dk_180 0 18 (dk_at dksX4_undo_2 2 rfl rfl)
theorem dX4_undo_53 : decode cX4_undo 53 = .ok (.sipush 4100, 3) := dk_17 16 4 (dk_at dksX4_undo_2 5 rfl rfl)
theorem dX4_undo_56 : decode cX4_undo 56 = .ok (.aload_n 0, 1) := dk_42 (dk_at dksX4_undo_2 8 rfl rfl)
theorem dX4_undo_57 : decode cX4_undo 57 = .ok (.getfield 178, 3) := dk_180 0 178 (dk_at dksX4_undo_2 9 rfl rfl)
theorem dX4_undo_60 : decode cX4_undo 60 = .ok (.imul, 1) := dk_104 (dk_at dksX4_undo_2 12 rfl rfl)
theorem dX4_undo_61 : decode cX4_undo 61 = .ok (.iload_n 1, 1) := dk_27 (dk_at dksX4_undo_2 13 rfl rfl)
theorem dX4_undo_62 : decode cX4_undo 62 = .ok (.iadd, 1) := dk_96 (dk_at dksX4_undo_2 14 rfl rfl)
theorem dX4_undo_63 : decode cX4_undo 63 = .ok (.iaload, 1) := dk_46 (dk_at dksX4_undo_2 15 rfl rfl)
theorem dX4_undo_64 : decode cX4_undo 64 = .ok (.iastore, 1) := dk_79 (dk_at dksX4_undo_2 16 rfl rfl)
theorem dX4_undo_65 : decode cX4_undo 65 = .ok (.iinc 1 1, 3) := dk_132 1 1 (dk_at dksX4_undo_2 17 rfl rfl)
theorem dX4_undo_68 : decode cX4_undo 68 = .ok (.goto (-31), 3) := dk_167 255 225 (dk_at dksX4_undo_2 20 rfl rfl)
theorem dX4_undo_71 : decode cX4_undo 71 = .ok (.iconst 0, 1) := dk_3 (dk_at dksX4_undo_2 23 rfl rfl)
theorem dX4_undo_72 : decode cX4_undo 72 = .ok (.istore_n 1, 1) := dk_60 (dk_at dksX4_undo_3 0 rfl rfl)
theorem dX4_undo_73 : decode cX4_undo 73 = .ok (.iload_n 1, 1) := dk_27 (dk_at dksX4_undo_3 1 rfl rfl)
theorem dX4_undo_74 : decode cX4_undo 74 = .ok (.bipush 6, 2) := dk_16 6 (dk_at dksX4_undo_3 2 rfl rfl)
theorem dX4_undo_76 : decode cX4_undo 76 = .ok (.if_icmp .ge 29, 3) := dk_162 0 29 (dk_at dksX4_undo_3 4 rfl rfl)
theorem dX4_undo_79 : decode cX4_undo 79 = .ok (.aload_n 0, 1) := dk_42 (dk_at dksX4_undo_3 7 rfl rfl)
theorem dX4_undo_80 : decode cX4_undo 80 = .ok (.getfield 13, 3) := dk_180 0 13 (dk_at dksX4_undo_3 8 rfl rfl)
theorem dX4_undo_83 : decode cX4_undo 83 = .ok (.iload_n 1, 1) := dk_27 (dk_at dksX4_undo_3 11 rfl rfl)
theorem dX4_undo_84 : decode cX4_undo 84 = .ok (.aload_n 0, 1) := dk_42 (dk_at dksX4_undo_3 12 rfl rfl)
theorem dX4_undo_85 : decode cX4_undo 85 = .ok (.getfield 21, 3) := dk_180 0 21 (dk_at dksX4_undo_3 13 rfl rfl)
theorem dX4_undo_88 : decode cX4_undo 88 = .ok (.bipush 6, 2) := dk_16 6 (dk_at dksX4_undo_3 16 rfl rfl)
theorem dX4_undo_90 : decode cX4_undo 90 = .ok (.aload_n 0, 1) := dk_42 (dk_at dksX4_undo_3 18 rfl rfl)
theorem dX4_undo_91 : decode cX4_undo 91 = .ok (.getfield 178, 3) := dk_180 0 178 (dk_at dksX4_undo_3 19 rfl rfl)
theorem dX4_undo_94 : decode cX4_undo 94 = .ok (.imul, 1) := dk_104 (dk_at dksX4_undo_3 22 rfl rfl)
theorem dX4_undo_95 : decode cX4_undo 95 = .ok (.iload_n 1, 1) := dk_27 (dk_at dksX4_undo_3 23 rfl rfl)
theorem dX4_undo_96 : decode cX4_undo 96 = .ok (.iadd, 1) := dk_96 (dk_at dksX4_undo_4 0 rfl rfl)
theorem dX4_undo_97 : decode cX4_undo 97 = .ok (.laload, 1) := dk_47 (dk_at dksX4_undo_4 1 rfl rfl)
theorem dX4_undo_98 : decode cX4_undo 98 = .ok (.lastore, 1) := dk_80 (dk_at dksX4_undo_4 2 rfl rfl)
theorem dX4_undo_99 : decode cX4_undo 99 = .ok (.iinc 1 1, 3) := dk_132 1 1 (dk_at dksX4_undo_4 3 rfl rfl)
theorem dX4_undo_102 : decode cX4_undo 102 = .ok (.goto (-29), 3) := dk_167 255 227 (dk_at dksX4_undo_4 6 rfl rfl)
theorem dX4_undo_105 : decode cX4_undo 105 = .ok (.aload_n 0, 1) := dk_42 (dk_at dksX4_undo_4 9 rfl rfl)
theorem dX4_undo_106 : decode cX4_undo 106 = .ok (.getfield 178, 3) := dk_180 0 178 (dk_at dksX4_undo_4 10 rfl rfl)
theorem dX4_undo_109 : decode cX4_undo 109 = .ok (.ireturn, 1) := dk_172 (dk_at dksX4_undo_4 13 rfl rfl)
abbrev cX4_save : ByteArray := prog_19_method_108_code
def yX4_save : MethodName := ⟨RX4, "save", "(I)V"⟩
def dkwX4_save_4 : List UInt8 := [180, 0, 36, 27, 4, 84, 177]
abbrev dktX4_save_4 : List UInt8 := dkwX4_save_4 ++ []
def dkwX4_save_3 : List UInt8 := [180, 0, 27, 16, 6, 27, 104, 28, 96, 42, 180, 0, 13, 28, 47, 80, 132, 2, 1, 167, 255, 230, 42]
abbrev dktX4_save_3 : List UInt8 := dkwX4_save_3 ++ dktX4_save_4
def dkwX4_save_2 : List UInt8 := [42, 180, 0, 7, 28, 46, 79, 132, 2, 1, 167, 255, 228, 3, 61, 28, 16, 6, 162, 0, 26, 42]
abbrev dktX4_save_2 : List UInt8 := dkwX4_save_2 ++ dktX4_save_3
def dkwX4_save_1 : List UInt8 := [158, 0, 4, 177, 3, 61, 28, 17, 16, 4, 162, 0, 27, 42, 180, 0, 24, 17, 16, 4, 27, 104, 28, 96]
abbrev dktX4_save_1 : List UInt8 := dkwX4_save_1 ++ dktX4_save_2
def dkwX4_save_0 : List UInt8 := [42, 27, 133, 9, 10, 184, 0, 72, 153, 0, 7, 3, 167, 0, 4, 4, 181, 0, 62, 42, 180, 0, 62]
abbrev dktX4_save_0 : List UInt8 := dkwX4_save_0 ++ dktX4_save_1
theorem dksX4_save_0 : cX4_save.data.toList.drop 0 = dktX4_save_0 := by decide +kernel
theorem dksX4_save_1 : cX4_save.data.toList.drop 23 = dktX4_save_1 := dk_seg dksX4_save_0 23 rfl rfl
theorem dksX4_save_2 : cX4_save.data.toList.drop 47 = dktX4_save_2 := dk_seg dksX4_save_1 24 rfl rfl
theorem dksX4_save_3 : cX4_save.data.toList.drop 69 = dktX4_save_3 := dk_seg dksX4_save_2 22 rfl rfl
theorem dksX4_save_4 : cX4_save.data.toList.drop 92 = dktX4_save_4 := dk_seg dksX4_save_3 23 rfl rfl
theorem dX4_save_0 : decode cX4_save 0 = .ok (.aload_n 0, 1) := dk_42 (dk_at dksX4_save_0 0 rfl rfl)
theorem dX4_save_1 : decode cX4_save 1 = .ok (.iload_n 1, 1) := dk_27 (dk_at dksX4_save_0 1 rfl rfl)
theorem dX4_save_2 : decode cX4_save 2 = .ok (.i2l, 1) := dk_133 (dk_at dksX4_save_0 2 rfl rfl)
theorem dX4_save_3 : decode cX4_save 3 = .ok (.lconst 0, 1) := dk_9 (dk_at dksX4_save_0 3 rfl rfl)
theorem dX4_save_4 : decode cX4_save 4 = .ok (.lconst 1, 1) := dk_10 (dk_at dksX4_save_0 4 rfl rfl)
theorem dX4_save_5 : decode cX4_save 5 = .ok (.invokestatic 72, 3) := dk_184 0 72 (dk_at dksX4_save_0 5 rfl rfl)
theorem dX4_save_8 : decode cX4_save 8 = .ok (.ifCond .eq 7, 3) := dk_153 0 7 (dk_at dksX4_save_0 8 rfl rfl)
theorem dX4_save_11 : decode cX4_save 11 = .ok (.iconst 0, 1) := dk_3 (dk_at dksX4_save_0 11 rfl rfl)
theorem dX4_save_12 : decode cX4_save 12 = .ok (.goto 4, 3) := dk_167 0 4 (dk_at dksX4_save_0 12 rfl rfl)
theorem dX4_save_15 : decode cX4_save 15 = .ok (.iconst 1, 1) := dk_4 (dk_at dksX4_save_0 15 rfl rfl)
theorem dX4_save_16 : decode cX4_save 16 = .ok (.putfield 62, 3) := dk_181 0 62 (dk_at dksX4_save_0 16 rfl rfl)
theorem dX4_save_19 : decode cX4_save 19 = .ok (.aload_n 0, 1) := dk_42 (dk_at dksX4_save_0 19 rfl rfl)
theorem dX4_save_20 : decode cX4_save 20 = .ok (.getfield 62, 3) := dk_180 0 62 (dk_at dksX4_save_0 20 rfl rfl)
theorem dX4_save_23 : decode cX4_save 23 = .ok (.ifCond .le 4, 3) := dk_158 0 4 (dk_at dksX4_save_1 0 rfl rfl)
theorem dX4_save_26 : decode cX4_save 26 = .ok (.return_, 1) := dk_177 (dk_at dksX4_save_1 3 rfl rfl)
theorem dX4_save_27 : decode cX4_save 27 = .ok (.iconst 0, 1) := dk_3 (dk_at dksX4_save_1 4 rfl rfl)
theorem dX4_save_28 : decode cX4_save 28 = .ok (.istore_n 2, 1) := dk_61 (dk_at dksX4_save_1 5 rfl rfl)
theorem dX4_save_29 : decode cX4_save 29 = .ok (.iload_n 2, 1) := dk_28 (dk_at dksX4_save_1 6 rfl rfl)
theorem dX4_save_30 : decode cX4_save 30 = .ok (.sipush 4100, 3) := dk_17 16 4 (dk_at dksX4_save_1 7 rfl rfl)
theorem dX4_save_33 : decode cX4_save 33 = .ok (.if_icmp .ge 27, 3) := dk_162 0 27 (dk_at dksX4_save_1 10 rfl rfl)
theorem dX4_save_36 : decode cX4_save 36 = .ok (.aload_n 0, 1) := dk_42 (dk_at dksX4_save_1 13 rfl rfl)
theorem dX4_save_37 : decode cX4_save 37 = .ok (.getfield 24, 3) := dk_180 0 24 (dk_at dksX4_save_1 14 rfl rfl)
theorem dX4_save_40 : decode cX4_save 40 = .ok (.sipush 4100, 3) := dk_17 16 4 (dk_at dksX4_save_1 17 rfl rfl)
theorem dX4_save_43 : decode cX4_save 43 = .ok (.iload_n 1, 1) := dk_27 (dk_at dksX4_save_1 20 rfl rfl)
theorem dX4_save_44 : decode cX4_save 44 = .ok (.imul, 1) := dk_104 (dk_at dksX4_save_1 21 rfl rfl)
theorem dX4_save_45 : decode cX4_save 45 = .ok (.iload_n 2, 1) := dk_28 (dk_at dksX4_save_1 22 rfl rfl)
theorem dX4_save_46 : decode cX4_save 46 = .ok (.iadd, 1) := dk_96 (dk_at dksX4_save_1 23 rfl rfl)
theorem dX4_save_47 : decode cX4_save 47 = .ok (.aload_n 0, 1) := dk_42 (dk_at dksX4_save_2 0 rfl rfl)
theorem dX4_save_48 : decode cX4_save 48 = .ok (.getfield 7, 3) := dk_180 0 7 (dk_at dksX4_save_2 1 rfl rfl)
theorem dX4_save_51 : decode cX4_save 51 = .ok (.iload_n 2, 1) := dk_28 (dk_at dksX4_save_2 4 rfl rfl)
theorem dX4_save_52 : decode cX4_save 52 = .ok (.iaload, 1) := dk_46 (dk_at dksX4_save_2 5 rfl rfl)
theorem dX4_save_53 : decode cX4_save 53 = .ok (.iastore, 1) := dk_79 (dk_at dksX4_save_2 6 rfl rfl)
theorem dX4_save_54 : decode cX4_save 54 = .ok (.iinc 2 1, 3) := dk_132 2 1 (dk_at dksX4_save_2 7 rfl rfl)
theorem dX4_save_57 : decode cX4_save 57 = .ok (.goto (-28), 3) := dk_167 255 228 (dk_at dksX4_save_2 10 rfl rfl)
theorem dX4_save_60 : decode cX4_save 60 = .ok (.iconst 0, 1) := dk_3 (dk_at dksX4_save_2 13 rfl rfl)
theorem dX4_save_61 : decode cX4_save 61 = .ok (.istore_n 2, 1) := dk_61 (dk_at dksX4_save_2 14 rfl rfl)
theorem dX4_save_62 : decode cX4_save 62 = .ok (.iload_n 2, 1) := dk_28 (dk_at dksX4_save_2 15 rfl rfl)
theorem dX4_save_63 : decode cX4_save 63 = .ok (.bipush 6, 2) := dk_16 6 (dk_at dksX4_save_2 16 rfl rfl)
theorem dX4_save_65 : decode cX4_save 65 = .ok (.if_icmp .ge 26, 3) := dk_162 0 26 (dk_at dksX4_save_2 18 rfl rfl)
theorem dX4_save_68 : decode cX4_save 68 = .ok (.aload_n 0, 1) := dk_42 (dk_at dksX4_save_2 21 rfl rfl)
theorem dX4_save_69 : decode cX4_save 69 = .ok (.getfield 27, 3) := dk_180 0 27 (dk_at dksX4_save_3 0 rfl rfl)
theorem dX4_save_72 : decode cX4_save 72 = .ok (.bipush 6, 2) := dk_16 6 (dk_at dksX4_save_3 3 rfl rfl)
theorem dX4_save_74 : decode cX4_save 74 = .ok (.iload_n 1, 1) := dk_27 (dk_at dksX4_save_3 5 rfl rfl)
theorem dX4_save_75 : decode cX4_save 75 = .ok (.imul, 1) := dk_104 (dk_at dksX4_save_3 6 rfl rfl)
theorem dX4_save_76 : decode cX4_save 76 = .ok (.iload_n 2, 1) := dk_28 (dk_at dksX4_save_3 7 rfl rfl)
theorem dX4_save_77 : decode cX4_save 77 = .ok (.iadd, 1) := dk_96 (dk_at dksX4_save_3 8 rfl rfl)
theorem dX4_save_78 : decode cX4_save 78 = .ok (.aload_n 0, 1) := dk_42 (dk_at dksX4_save_3 9 rfl rfl)
theorem dX4_save_79 : decode cX4_save 79 = .ok (.getfield 13, 3) := dk_180 0 13 (dk_at dksX4_save_3 10 rfl rfl)
theorem dX4_save_82 : decode cX4_save 82 = .ok (.iload_n 2, 1) := dk_28 (dk_at dksX4_save_3 13 rfl rfl)
theorem dX4_save_83 : decode cX4_save 83 = .ok (.laload, 1) := dk_47 (dk_at dksX4_save_3 14 rfl rfl)
theorem dX4_save_84 : decode cX4_save 84 = .ok (.lastore, 1) := dk_80 (dk_at dksX4_save_3 15 rfl rfl)
theorem dX4_save_85 : decode cX4_save 85 = .ok (.iinc 2 1, 3) := dk_132 2 1 (dk_at dksX4_save_3 16 rfl rfl)
theorem dX4_save_88 : decode cX4_save 88 = .ok (.goto (-26), 3) := dk_167 255 230 (dk_at dksX4_save_3 19 rfl rfl)
theorem dX4_save_91 : decode cX4_save 91 = .ok (.aload_n 0, 1) := dk_42 (dk_at dksX4_save_3 22 rfl rfl)
theorem dX4_save_92 : decode cX4_save 92 = .ok (.getfield 36, 3) := dk_180 0 36 (dk_at dksX4_save_4 0 rfl rfl)
theorem dX4_save_95 : decode cX4_save 95 = .ok (.iload_n 1, 1) := dk_27 (dk_at dksX4_save_4 3 rfl rfl)
theorem dX4_save_96 : decode cX4_save 96 = .ok (.iconst 1, 1) := dk_4 (dk_at dksX4_save_4 4 rfl rfl)
theorem dX4_save_97 : decode cX4_save 97 = .ok (.bastore, 1) := dk_84 (dk_at dksX4_save_4 5 rfl rfl)
theorem dX4_save_98 : decode cX4_save 98 = .ok (.return_, 1) := dk_177 (dk_at dksX4_save_4 6 rfl rfl)
abbrev cX4_restore : ByteArray := prog_19_method_109_code
def yX4_restore : MethodName := ⟨RX4, "restore", "(I)V"⟩
def dkwX4_restore_4 : List UInt8 := [28, 96, 47, 80, 132, 2, 1, 167, 255, 230, 42, 3, 181, 0, 178, 177]
abbrev dktX4_restore_4 : List UInt8 := dkwX4_restore_4 ++ []
def dkwX4_restore_3 : List UInt8 := [167, 255, 228, 3, 61, 28, 16, 6, 162, 0, 26, 42, 180, 0, 13, 28, 42, 180, 0, 27, 16, 6, 27, 104]
abbrev dktX4_restore_3 : List UInt8 := dkwX4_restore_3 ++ dktX4_restore_4
def dkwX4_restore_2 : List UInt8 := [162, 0, 27, 42, 180, 0, 7, 28, 42, 180, 0, 24, 17, 16, 4, 27, 104, 28, 96, 46, 79, 132, 2, 1]
abbrev dktX4_restore_2 : List UInt8 := dkwX4_restore_2 ++ dktX4_restore_3
def dkwX4_restore_1 : List UInt8 := [3, 167, 0, 4, 5, 181, 0, 62, 42, 180, 0, 62, 158, 0, 4, 177, 3, 61, 28, 17, 16, 4]
abbrev dktX4_restore_1 : List UInt8 := dkwX4_restore_1 ++ dktX4_restore_2
def dkwX4_restore_0 : List UInt8 := [42, 27, 133, 9, 10, 184, 0, 72, 154, 0, 7, 4, 167, 0, 17, 42, 180, 0, 36, 27, 51, 153, 0, 7]
abbrev dktX4_restore_0 : List UInt8 := dkwX4_restore_0 ++ dktX4_restore_1
theorem dksX4_restore_0 : cX4_restore.data.toList.drop 0 = dktX4_restore_0 := by decide +kernel
theorem dksX4_restore_1 : cX4_restore.data.toList.drop 24 = dktX4_restore_1 := dk_seg dksX4_restore_0 24 rfl rfl
theorem dksX4_restore_2 : cX4_restore.data.toList.drop 46 = dktX4_restore_2 := dk_seg dksX4_restore_1 22 rfl rfl
theorem dksX4_restore_3 : cX4_restore.data.toList.drop 70 = dktX4_restore_3 := dk_seg dksX4_restore_2 24 rfl rfl
theorem dksX4_restore_4 : cX4_restore.data.toList.drop 94 = dktX4_restore_4 := dk_seg dksX4_restore_3 24 rfl rfl
theorem dX4_restore_0 : decode cX4_restore 0 = .ok (.aload_n 0, 1) := dk_42 (dk_at dksX4_restore_0 0 rfl rfl)
theorem dX4_restore_1 : decode cX4_restore 1 = .ok (.iload_n 1, 1) := dk_27 (dk_at dksX4_restore_0 1 rfl rfl)
theorem dX4_restore_2 : decode cX4_restore 2 = .ok (.i2l, 1) := dk_133 (dk_at dksX4_restore_0 2 rfl rfl)
theorem dX4_restore_3 : decode cX4_restore 3 = .ok (.lconst 0, 1) := dk_9 (dk_at dksX4_restore_0 3 rfl rfl)
theorem dX4_restore_4 : decode cX4_restore 4 = .ok (.lconst 1, 1) := dk_10 (dk_at dksX4_restore_0 4 rfl rfl)
theorem dX4_restore_5 : decode cX4_restore 5 = .ok (.invokestatic 72, 3) := dk_184 0 72 (dk_at dksX4_restore_0 5 rfl rfl)
theorem dX4_restore_8 : decode cX4_restore 8 = .ok (.ifCond .ne 7, 3) := dk_154 0 7 (dk_at dksX4_restore_0 8 rfl rfl)
theorem dX4_restore_11 : decode cX4_restore 11 = .ok (.iconst 1, 1) := dk_4 (dk_at dksX4_restore_0 11 rfl rfl)
theorem dX4_restore_12 : decode cX4_restore 12 = .ok (.goto 17, 3) := dk_167 0 17 (dk_at dksX4_restore_0 12 rfl rfl)
theorem dX4_restore_15 : decode cX4_restore 15 = .ok (.aload_n 0, 1) := dk_42 (dk_at dksX4_restore_0 15 rfl rfl)
theorem dX4_restore_16 : decode cX4_restore 16 = .ok (.getfield 36, 3) := dk_180 0 36 (dk_at dksX4_restore_0 16 rfl rfl)
theorem dX4_restore_19 : decode cX4_restore 19 = .ok (.iload_n 1, 1) := dk_27 (dk_at dksX4_restore_0 19 rfl rfl)
theorem dX4_restore_20 : decode cX4_restore 20 = .ok (.baload, 1) := dk_51 (dk_at dksX4_restore_0 20 rfl rfl)
theorem dX4_restore_21 : decode cX4_restore 21 = .ok (.ifCond .eq 7, 3) := dk_153 0 7 (dk_at dksX4_restore_0 21 rfl rfl)
theorem dX4_restore_24 : decode cX4_restore 24 = .ok (.iconst 0, 1) := dk_3 (dk_at dksX4_restore_1 0 rfl rfl)
theorem dX4_restore_25 : decode cX4_restore 25 = .ok (.goto 4, 3) := dk_167 0 4 (dk_at dksX4_restore_1 1 rfl rfl)
theorem dX4_restore_28 : decode cX4_restore 28 = .ok (.iconst 2, 1) := dk_5 (dk_at dksX4_restore_1 4 rfl rfl)
theorem dX4_restore_29 : decode cX4_restore 29 = .ok (.putfield 62, 3) := dk_181 0 62 (dk_at dksX4_restore_1 5 rfl rfl)
theorem dX4_restore_32 : decode cX4_restore 32 = .ok (.aload_n 0, 1) := dk_42 (dk_at dksX4_restore_1 8 rfl rfl)
theorem dX4_restore_33 : decode cX4_restore 33 = .ok (.getfield 62, 3) := dk_180 0 62 (dk_at dksX4_restore_1 9 rfl rfl)
theorem dX4_restore_36 : decode cX4_restore 36 = .ok (.ifCond .le 4, 3) := dk_158 0 4 (dk_at dksX4_restore_1 12 rfl rfl)
theorem dX4_restore_39 : decode cX4_restore 39 = .ok (.return_, 1) := dk_177 (dk_at dksX4_restore_1 15 rfl rfl)
theorem dX4_restore_40 : decode cX4_restore 40 = .ok (.iconst 0, 1) := dk_3 (dk_at dksX4_restore_1 16 rfl rfl)
theorem dX4_restore_41 : decode cX4_restore 41 = .ok (.istore_n 2, 1) := dk_61 (dk_at dksX4_restore_1 17 rfl rfl)
theorem dX4_restore_42 : decode cX4_restore 42 = .ok (.iload_n 2, 1) := dk_28 (dk_at dksX4_restore_1 18 rfl rfl)
theorem dX4_restore_43 : decode cX4_restore 43 = .ok (.sipush 4100, 3) := dk_17 16 4 (dk_at dksX4_restore_1 19 rfl rfl)
theorem dX4_restore_46 : decode cX4_restore 46 = .ok (.if_icmp .ge 27, 3) := dk_162 0 27 (dk_at dksX4_restore_2 0 rfl rfl)
theorem dX4_restore_49 : decode cX4_restore 49 = .ok (.aload_n 0, 1) := dk_42 (dk_at dksX4_restore_2 3 rfl rfl)
theorem dX4_restore_50 : decode cX4_restore 50 = .ok (.getfield 7, 3) := dk_180 0 7 (dk_at dksX4_restore_2 4 rfl rfl)
theorem dX4_restore_53 : decode cX4_restore 53 = .ok (.iload_n 2, 1) := dk_28 (dk_at dksX4_restore_2 7 rfl rfl)
theorem dX4_restore_54 : decode cX4_restore 54 = .ok (.aload_n 0, 1) := dk_42 (dk_at dksX4_restore_2 8 rfl rfl)
theorem dX4_restore_55 : decode cX4_restore 55 = .ok (.getfield 24, 3) := dk_180 0 24 (dk_at dksX4_restore_2 9 rfl rfl)
theorem dX4_restore_58 : decode cX4_restore 58 = .ok (.sipush 4100, 3) := dk_17 16 4 (dk_at dksX4_restore_2 12 rfl rfl)
theorem dX4_restore_61 : decode cX4_restore 61 = .ok (.iload_n 1, 1) := dk_27 (dk_at dksX4_restore_2 15 rfl rfl)
theorem dX4_restore_62 : decode cX4_restore 62 = .ok (.imul, 1) := dk_104 (dk_at dksX4_restore_2 16 rfl rfl)
theorem dX4_restore_63 : decode cX4_restore 63 = .ok (.iload_n 2, 1) := dk_28 (dk_at dksX4_restore_2 17 rfl rfl)
theorem dX4_restore_64 : decode cX4_restore 64 = .ok (.iadd, 1) := dk_96 (dk_at dksX4_restore_2 18 rfl rfl)
theorem dX4_restore_65 : decode cX4_restore 65 = .ok (.iaload, 1) := dk_46 (dk_at dksX4_restore_2 19 rfl rfl)
theorem dX4_restore_66 : decode cX4_restore 66 = .ok (.iastore, 1) := dk_79 (dk_at dksX4_restore_2 20 rfl rfl)
theorem dX4_restore_67 : decode cX4_restore 67 = .ok (.iinc 2 1, 3) := dk_132 2 1 (dk_at dksX4_restore_2 21 rfl rfl)
theorem dX4_restore_70 : decode cX4_restore 70 = .ok (.goto (-28), 3) := dk_167 255 228 (dk_at dksX4_restore_3 0 rfl rfl)
theorem dX4_restore_73 : decode cX4_restore 73 = .ok (.iconst 0, 1) := dk_3 (dk_at dksX4_restore_3 3 rfl rfl)
theorem dX4_restore_74 : decode cX4_restore 74 = .ok (.istore_n 2, 1) := dk_61 (dk_at dksX4_restore_3 4 rfl rfl)
theorem dX4_restore_75 : decode cX4_restore 75 = .ok (.iload_n 2, 1) := dk_28 (dk_at dksX4_restore_3 5 rfl rfl)
theorem dX4_restore_76 : decode cX4_restore 76 = .ok (.bipush 6, 2) := dk_16 6 (dk_at dksX4_restore_3 6 rfl rfl)
theorem dX4_restore_78 : decode cX4_restore 78 = .ok (.if_icmp .ge 26, 3) := dk_162 0 26 (dk_at dksX4_restore_3 8 rfl rfl)
theorem dX4_restore_81 : decode cX4_restore 81 = .ok (.aload_n 0, 1) := dk_42 (dk_at dksX4_restore_3 11 rfl rfl)
theorem dX4_restore_82 : decode cX4_restore 82 = .ok (.getfield 13, 3) := dk_180 0 13 (dk_at dksX4_restore_3 12 rfl rfl)
theorem dX4_restore_85 : decode cX4_restore 85 = .ok (.iload_n 2, 1) := dk_28 (dk_at dksX4_restore_3 15 rfl rfl)
theorem dX4_restore_86 : decode cX4_restore 86 = .ok (.aload_n 0, 1) := dk_42 (dk_at dksX4_restore_3 16 rfl rfl)
theorem dX4_restore_87 : decode cX4_restore 87 = .ok (.getfield 27, 3) := dk_180 0 27 (dk_at dksX4_restore_3 17 rfl rfl)
theorem dX4_restore_90 : decode cX4_restore 90 = .ok (.bipush 6, 2) := dk_16 6 (dk_at dksX4_restore_3 20 rfl rfl)
theorem dX4_restore_92 : decode cX4_restore 92 = .ok (.iload_n 1, 1) := dk_27 (dk_at dksX4_restore_3 22 rfl rfl)
theorem dX4_restore_93 : decode cX4_restore 93 = .ok (.imul, 1) := dk_104 (dk_at dksX4_restore_3 23 rfl rfl)
theorem dX4_restore_94 : decode cX4_restore 94 = .ok (.iload_n 2, 1) := dk_28 (dk_at dksX4_restore_4 0 rfl rfl)
theorem dX4_restore_95 : decode cX4_restore 95 = .ok (.iadd, 1) := dk_96 (dk_at dksX4_restore_4 1 rfl rfl)
theorem dX4_restore_96 : decode cX4_restore 96 = .ok (.laload, 1) := dk_47 (dk_at dksX4_restore_4 2 rfl rfl)
theorem dX4_restore_97 : decode cX4_restore 97 = .ok (.lastore, 1) := dk_80 (dk_at dksX4_restore_4 3 rfl rfl)
theorem dX4_restore_98 : decode cX4_restore 98 = .ok (.iinc 2 1, 3) := dk_132 2 1 (dk_at dksX4_restore_4 4 rfl rfl)
theorem dX4_restore_101 : decode cX4_restore 101 = .ok (.goto (-26), 3) := dk_167 255 230 (dk_at dksX4_restore_4 7 rfl rfl)
theorem dX4_restore_104 : decode cX4_restore 104 = .ok (.aload_n 0, 1) := dk_42 (dk_at dksX4_restore_4 10 rfl rfl)
theorem dX4_restore_105 : decode cX4_restore 105 = .ok (.iconst 0, 1) := dk_3 (dk_at dksX4_restore_4 11 rfl rfl)
theorem dX4_restore_106 : decode cX4_restore 106 = .ok (.putfield 178, 3) := dk_181 0 178 (dk_at dksX4_restore_4 12 rfl rfl)
theorem dX4_restore_109 : decode cX4_restore 109 = .ok (.return_, 1) := dk_177 (dk_at dksX4_restore_4 15 rfl rfl)
theorem q91 : (Jvm.Cond.initialized "CountedSkipListsModel") ∈ lw_all := lw_g (lw_at lw_m1 8 rfl) rfl
theorem q1094 : (Jvm.Cond.selects "CountedSkipListsModel" ({ cls := "java/lang/Object", name := "getClass", desc := "()Ljava/lang/Class;" } : Jvm.MethodName) ({ cls := "java/lang/Object", name := "getClass", desc := "()Ljava/lang/Class;" } : Jvm.MethodName)) ∈ lw_all := lw_g (lw_at lw_m5 51 rfl) rfl
theorem q2093 : (Jvm.Cond.instantiable "CountedSkipListsModel" (31 : Nat)) ∈ lw_all := lw_g (lw_at lw_m9 90 rfl) rfl
theorem q2095 : (Jvm.Cond.instanceMethod ({ cls := "CountedSkipListsModel", name := "<init>", desc := "()V" } : Jvm.MethodName)) ∈ lw_all := lw_g (lw_at lw_m9 92 rfl) rfl
theorem q2096 : (Jvm.Cond.code ({ cls := "CountedSkipListsModel", name := "<init>", desc := "()V" } : Jvm.MethodName) prog_19_method_1_code (1 : Nat) (Option.none : Option Jvm.ClassFile.FieldType)) ∈ lw_all := lw_g (lw_at lw_m9 93 rfl) rfl
theorem q2097 : (Jvm.Cond.methodLink "CountedSkipListsModel" (1 : Nat) ({ cls := "java/lang/Object", name := "<init>", desc := "()V" } : Jvm.MethodName)) ∈ lw_all := lw_g (lw_at lw_m9 94 rfl) rfl
theorem q2098 : (Jvm.Cond.constant "CountedSkipListsModel" (17 : Nat) (41000 : Int32)) ∈ lw_all := lw_g (lw_at lw_m9 95 rfl) rfl
theorem q2099 : (Jvm.Cond.fieldLink "CountedSkipListsModel" (62 : Nat) "CountedSkipListsModel" "raised" "I") ∈ lw_all := lw_g (lw_at lw_m9 96 rfl) rfl
theorem q2100 : (Jvm.Cond.fieldLink "CountedSkipListsModel" (7 : Nat) "CountedSkipListsModel" "w" "[I") ∈ lw_all := lw_g (lw_at lw_m9 97 rfl) rfl
theorem q2101 : (Jvm.Cond.fieldLink "CountedSkipListsModel" (13 : Nat) "CountedSkipListsModel" "names" "[J") ∈ lw_all := lw_g (lw_at lw_m9 98 rfl) rfl
theorem q2102 : (Jvm.Cond.fieldLink "CountedSkipListsModel" (18 : Nat) "CountedSkipListsModel" "undone" "[I") ∈ lw_all := lw_g (lw_at lw_m9 99 rfl) rfl
theorem q2103 : (Jvm.Cond.fieldLink "CountedSkipListsModel" (21 : Nat) "CountedSkipListsModel" "undoneNames" "[J") ∈ lw_all := lw_g (lw_at lw_m9 100 rfl) rfl
theorem q2104 : (Jvm.Cond.fieldLink "CountedSkipListsModel" (24 : Nat) "CountedSkipListsModel" "slots" "[I") ∈ lw_all := lw_g (lw_at lw_m9 101 rfl) rfl
theorem q2105 : (Jvm.Cond.fieldLink "CountedSkipListsModel" (27 : Nat) "CountedSkipListsModel" "slotNames" "[J") ∈ lw_all := lw_g (lw_at lw_m9 102 rfl) rfl
theorem q2106 : (Jvm.Cond.fieldLink "CountedSkipListsModel" (30 : Nat) "CountedSkipListsModel" "aside" "[I") ∈ lw_all := lw_g (lw_at lw_m9 103 rfl) rfl
theorem q2107 : (Jvm.Cond.fieldLink "CountedSkipListsModel" (33 : Nat) "CountedSkipListsModel" "asideNames" "[J") ∈ lw_all := lw_g (lw_at lw_m9 104 rfl) rfl
theorem q2108 : (Jvm.Cond.fieldLink "CountedSkipListsModel" (36 : Nat) "CountedSkipListsModel" "isSaved" "[Z") ∈ lw_all := lw_g (lw_at lw_m9 105 rfl) rfl
theorem q2109 : (Jvm.Cond.fieldLink "CountedSkipListsModel" (178 : Nat) "CountedSkipListsModel" "undos" "I") ∈ lw_all := lw_g (lw_at lw_m9 106 rfl) rfl
theorem q2110 : (Jvm.Cond.fieldLink "CountedSkipListsModel" (40 : Nat) "CountedSkipListsModel" "third" "[I") ∈ lw_all := lw_g (lw_at lw_m9 107 rfl) rfl
theorem q2111 : (Jvm.Cond.fieldLink "CountedSkipListsModel" (43 : Nat) "CountedSkipListsModel" "text" "[I") ∈ lw_all := lw_g (lw_at lw_m9 108 rfl) rfl
theorem q2112 : (Jvm.Cond.fieldLink "CountedSkipListsModel" (65 : Nat) "CountedSkipListsModel" "length" "I") ∈ lw_all := lw_g (lw_at lw_m9 109 rfl) rfl
theorem q2113 : (Jvm.Cond.fieldLink "CountedSkipListsModel" (83 : Nat) "CountedSkipListsModel" "at" "I") ∈ lw_all := lw_g (lw_at lw_m9 110 rfl) rfl
theorem q2114 : (Jvm.Cond.fieldLink "CountedSkipListsModel" (80 : Nat) "CountedSkipListsModel" "errorCode" "I") ∈ lw_all := lw_g (lw_at lw_m9 111 rfl) rfl
theorem q2115 : (Jvm.Cond.fieldLink "CountedSkipListsModel" (46 : Nat) "CountedSkipListsModel" "errorPosition" "I") ∈ lw_all := lw_g (lw_at lw_m9 112 rfl) rfl
theorem q2116 : (Jvm.Cond.fieldLink "CountedSkipListsModel" (76 : Nat) "CountedSkipListsModel" "isBad" "Z") ∈ lw_all := lw_g (lw_at lw_m9 113 rfl) rfl
theorem q2117 : (Jvm.Cond.fieldLink "CountedSkipListsModel" (126 : Nat) "CountedSkipListsModel" "value" "I") ∈ lw_all := lw_g (lw_at lw_m9 114 rfl) rfl
theorem q2118 : (Jvm.Cond.fieldLink "CountedSkipListsModel" (123 : Nat) "CountedSkipListsModel" "valueAt" "I") ∈ lw_all := lw_g (lw_at lw_m9 115 rfl) rfl
theorem q2119 : (Jvm.Cond.fieldLink "CountedSkipListsModel" (101 : Nat) "CountedSkipListsModel" "wordAt" "I") ∈ lw_all := lw_g (lw_at lw_m9 116 rfl) rfl
theorem q2120 : (Jvm.Cond.fieldLink "CountedSkipListsModel" (156 : Nat) "CountedSkipListsModel" "newLimit" "I") ∈ lw_all := lw_g (lw_at lw_m9 117 rfl) rfl
theorem q2121 : (Jvm.Cond.fieldLink "CountedSkipListsModel" (133 : Nat) "CountedSkipListsModel" "newLists" "I") ∈ lw_all := lw_g (lw_at lw_m9 118 rfl) rfl
theorem q2122 : (Jvm.Cond.fieldLink "CountedSkipListsModel" (50 : Nat) "CountedSkipListsModel" "newNames" "[J") ∈ lw_all := lw_g (lw_at lw_m9 119 rfl) rfl
theorem q2123 : (Jvm.Cond.fieldLink "CountedSkipListsModel" (53 : Nat) "CountedSkipListsModel" "newSize" "[I") ∈ lw_all := lw_g (lw_at lw_m9 120 rfl) rfl
theorem q2124 : (Jvm.Cond.fieldLink "CountedSkipListsModel" (56 : Nat) "CountedSkipListsModel" "newKey" "[I") ∈ lw_all := lw_g (lw_at lw_m9 121 rfl) rfl
theorem q2125 : (Jvm.Cond.fieldLink "CountedSkipListsModel" (59 : Nat) "CountedSkipListsModel" "newValue" "[I") ∈ lw_all := lw_g (lw_at lw_m9 122 rfl) rfl
theorem q2126 : (Jvm.Cond.fieldLink "CountedSkipListsModel" (250 : Nat) "CountedSkipListsModel" "looked" "I") ∈ lw_all := lw_g (lw_at lw_m9 123 rfl) rfl
theorem q2127 : (Jvm.Cond.fieldLink "CountedSkipListsModel" (253 : Nat) "CountedSkipListsModel" "stepped" "I") ∈ lw_all := lw_g (lw_at lw_m9 124 rfl) rfl
theorem q2128 : (Jvm.Cond.fieldLink "CountedSkipListsModel" (256 : Nat) "CountedSkipListsModel" "stepAt" "I") ∈ lw_all := lw_g (lw_at lw_m9 125 rfl) rfl
theorem q2129 : (Jvm.Cond.fieldLink "CountedSkipListsModel" (259 : Nat) "CountedSkipListsModel" "stepOn" "I") ∈ lw_all := lw_g (lw_at lw_m9 126 rfl) rfl
theorem q2130 : (Jvm.Cond.lays "CountedSkipListsModel" "CountedSkipListsModel" "raised" "I") ∈ lw_all := lw_g (lw_at lw_m9 127 rfl) rfl
theorem q2131 : (Jvm.Cond.soleField "CountedSkipListsModel" "raised") ∈ lw_all := lw_g (lw_at lw_m9 128 rfl) rfl
theorem q2132 : (Jvm.Cond.laysFinal "CountedSkipListsModel" "CountedSkipListsModel" "w" "[I") ∈ lw_all := lw_g (lw_at lw_m9 129 rfl) rfl
theorem q2133 : (Jvm.Cond.soleField "CountedSkipListsModel" "w") ∈ lw_all := lw_g (lw_at lw_m9 130 rfl) rfl
theorem q2134 : (Jvm.Cond.laysFinal "CountedSkipListsModel" "CountedSkipListsModel" "names" "[J") ∈ lw_all := lw_g (lw_at lw_m9 131 rfl) rfl
theorem q2135 : (Jvm.Cond.soleField "CountedSkipListsModel" "names") ∈ lw_all := lw_g (lw_at lw_m9 132 rfl) rfl
theorem q2136 : (Jvm.Cond.laysFinal "CountedSkipListsModel" "CountedSkipListsModel" "undone" "[I") ∈ lw_all := lw_g (lw_at lw_m9 133 rfl) rfl
theorem q2137 : (Jvm.Cond.soleField "CountedSkipListsModel" "undone") ∈ lw_all := lw_g (lw_at lw_m9 134 rfl) rfl
theorem q2138 : (Jvm.Cond.laysFinal "CountedSkipListsModel" "CountedSkipListsModel" "undoneNames" "[J") ∈ lw_all := lw_g (lw_at lw_m9 135 rfl) rfl
theorem q2139 : (Jvm.Cond.soleField "CountedSkipListsModel" "undoneNames") ∈ lw_all := lw_g (lw_at lw_m9 136 rfl) rfl
theorem q2140 : (Jvm.Cond.laysFinal "CountedSkipListsModel" "CountedSkipListsModel" "slots" "[I") ∈ lw_all := lw_g (lw_at lw_m9 137 rfl) rfl
theorem q2141 : (Jvm.Cond.soleField "CountedSkipListsModel" "slots") ∈ lw_all := lw_g (lw_at lw_m9 138 rfl) rfl
theorem q2142 : (Jvm.Cond.laysFinal "CountedSkipListsModel" "CountedSkipListsModel" "slotNames" "[J") ∈ lw_all := lw_g (lw_at lw_m9 139 rfl) rfl
theorem q2143 : (Jvm.Cond.soleField "CountedSkipListsModel" "slotNames") ∈ lw_all := lw_g (lw_at lw_m9 140 rfl) rfl
theorem q2144 : (Jvm.Cond.laysFinal "CountedSkipListsModel" "CountedSkipListsModel" "aside" "[I") ∈ lw_all := lw_g (lw_at lw_m9 141 rfl) rfl
theorem q2145 : (Jvm.Cond.soleField "CountedSkipListsModel" "aside") ∈ lw_all := lw_g (lw_at lw_m9 142 rfl) rfl
theorem q2146 : (Jvm.Cond.laysFinal "CountedSkipListsModel" "CountedSkipListsModel" "asideNames" "[J") ∈ lw_all := lw_g (lw_at lw_m9 143 rfl) rfl
theorem q2147 : (Jvm.Cond.soleField "CountedSkipListsModel" "asideNames") ∈ lw_all := lw_g (lw_at lw_m9 144 rfl) rfl
theorem q2148 : (Jvm.Cond.laysFinal "CountedSkipListsModel" "CountedSkipListsModel" "isSaved" "[Z") ∈ lw_all := lw_g (lw_at lw_m9 145 rfl) rfl
theorem q2149 : (Jvm.Cond.soleField "CountedSkipListsModel" "isSaved") ∈ lw_all := lw_g (lw_at lw_m9 146 rfl) rfl
theorem q2150 : (Jvm.Cond.lays "CountedSkipListsModel" "CountedSkipListsModel" "undos" "I") ∈ lw_all := lw_g (lw_at lw_m9 147 rfl) rfl
theorem q2151 : (Jvm.Cond.soleField "CountedSkipListsModel" "undos") ∈ lw_all := lw_g (lw_at lw_m9 148 rfl) rfl
theorem q2152 : (Jvm.Cond.laysFinal "CountedSkipListsModel" "CountedSkipListsModel" "third" "[I") ∈ lw_all := lw_g (lw_at lw_m9 149 rfl) rfl
theorem q2153 : (Jvm.Cond.soleField "CountedSkipListsModel" "third") ∈ lw_all := lw_g (lw_at lw_m9 150 rfl) rfl
theorem q2154 : (Jvm.Cond.laysFinal "CountedSkipListsModel" "CountedSkipListsModel" "text" "[I") ∈ lw_all := lw_g (lw_at lw_m9 151 rfl) rfl
theorem q2155 : (Jvm.Cond.soleField "CountedSkipListsModel" "text") ∈ lw_all := lw_g (lw_at lw_m9 152 rfl) rfl
theorem q2156 : (Jvm.Cond.lays "CountedSkipListsModel" "CountedSkipListsModel" "length" "I") ∈ lw_all := lw_g (lw_at lw_m9 153 rfl) rfl
theorem q2157 : (Jvm.Cond.soleField "CountedSkipListsModel" "length") ∈ lw_all := lw_g (lw_at lw_m9 154 rfl) rfl
theorem q2158 : (Jvm.Cond.lays "CountedSkipListsModel" "CountedSkipListsModel" "at" "I") ∈ lw_all := lw_g (lw_at lw_m9 155 rfl) rfl
theorem q2159 : (Jvm.Cond.soleField "CountedSkipListsModel" "at") ∈ lw_all := lw_g (lw_at lw_m9 156 rfl) rfl
theorem q2160 : (Jvm.Cond.lays "CountedSkipListsModel" "CountedSkipListsModel" "errorCode" "I") ∈ lw_all := lw_g (lw_at lw_m9 157 rfl) rfl
theorem q2161 : (Jvm.Cond.soleField "CountedSkipListsModel" "errorCode") ∈ lw_all := lw_g (lw_at lw_m9 158 rfl) rfl
theorem q2162 : (Jvm.Cond.lays "CountedSkipListsModel" "CountedSkipListsModel" "errorPosition" "I") ∈ lw_all := lw_g (lw_at lw_m9 159 rfl) rfl
theorem q2163 : (Jvm.Cond.soleField "CountedSkipListsModel" "errorPosition") ∈ lw_all := lw_g (lw_at lw_m9 160 rfl) rfl
theorem q2164 : (Jvm.Cond.lays "CountedSkipListsModel" "CountedSkipListsModel" "isBad" "Z") ∈ lw_all := lw_g (lw_at lw_m9 161 rfl) rfl
theorem q2165 : (Jvm.Cond.soleField "CountedSkipListsModel" "isBad") ∈ lw_all := lw_g (lw_at lw_m9 162 rfl) rfl
theorem q2166 : (Jvm.Cond.lays "CountedSkipListsModel" "CountedSkipListsModel" "value" "I") ∈ lw_all := lw_g (lw_at lw_m9 163 rfl) rfl
theorem q2167 : (Jvm.Cond.soleField "CountedSkipListsModel" "value") ∈ lw_all := lw_g (lw_at lw_m9 164 rfl) rfl
theorem q2168 : (Jvm.Cond.lays "CountedSkipListsModel" "CountedSkipListsModel" "valueAt" "I") ∈ lw_all := lw_g (lw_at lw_m9 165 rfl) rfl
theorem q2169 : (Jvm.Cond.soleField "CountedSkipListsModel" "valueAt") ∈ lw_all := lw_g (lw_at lw_m9 166 rfl) rfl
theorem q2170 : (Jvm.Cond.lays "CountedSkipListsModel" "CountedSkipListsModel" "wordAt" "I") ∈ lw_all := lw_g (lw_at lw_m9 167 rfl) rfl
theorem q2171 : (Jvm.Cond.soleField "CountedSkipListsModel" "wordAt") ∈ lw_all := lw_g (lw_at lw_m9 168 rfl) rfl
theorem q2172 : (Jvm.Cond.lays "CountedSkipListsModel" "CountedSkipListsModel" "newLimit" "I") ∈ lw_all := lw_g (lw_at lw_m9 169 rfl) rfl
theorem q2173 : (Jvm.Cond.soleField "CountedSkipListsModel" "newLimit") ∈ lw_all := lw_g (lw_at lw_m9 170 rfl) rfl
theorem q2174 : (Jvm.Cond.lays "CountedSkipListsModel" "CountedSkipListsModel" "newLists" "I") ∈ lw_all := lw_g (lw_at lw_m9 171 rfl) rfl
theorem q2175 : (Jvm.Cond.soleField "CountedSkipListsModel" "newLists") ∈ lw_all := lw_g (lw_at lw_m9 172 rfl) rfl
theorem q2176 : (Jvm.Cond.laysFinal "CountedSkipListsModel" "CountedSkipListsModel" "newNames" "[J") ∈ lw_all := lw_g (lw_at lw_m9 173 rfl) rfl
theorem q2177 : (Jvm.Cond.soleField "CountedSkipListsModel" "newNames") ∈ lw_all := lw_g (lw_at lw_m9 174 rfl) rfl
theorem q2178 : (Jvm.Cond.laysFinal "CountedSkipListsModel" "CountedSkipListsModel" "newSize" "[I") ∈ lw_all := lw_g (lw_at lw_m9 175 rfl) rfl
theorem q2179 : (Jvm.Cond.soleField "CountedSkipListsModel" "newSize") ∈ lw_all := lw_g (lw_at lw_m9 176 rfl) rfl
theorem q2180 : (Jvm.Cond.laysFinal "CountedSkipListsModel" "CountedSkipListsModel" "newKey" "[I") ∈ lw_all := lw_g (lw_at lw_m9 177 rfl) rfl
theorem q2181 : (Jvm.Cond.soleField "CountedSkipListsModel" "newKey") ∈ lw_all := lw_g (lw_at lw_m9 178 rfl) rfl
theorem q2182 : (Jvm.Cond.laysFinal "CountedSkipListsModel" "CountedSkipListsModel" "newValue" "[I") ∈ lw_all := lw_g (lw_at lw_m9 179 rfl) rfl
theorem q2183 : (Jvm.Cond.soleField "CountedSkipListsModel" "newValue") ∈ lw_all := lw_g (lw_at lw_m9 180 rfl) rfl
theorem q2184 : (Jvm.Cond.lays "CountedSkipListsModel" "CountedSkipListsModel" "looked" "I") ∈ lw_all := lw_g (lw_at lw_m9 181 rfl) rfl
theorem q2185 : (Jvm.Cond.soleField "CountedSkipListsModel" "looked") ∈ lw_all := lw_g (lw_at lw_m9 182 rfl) rfl
theorem q2186 : (Jvm.Cond.lays "CountedSkipListsModel" "CountedSkipListsModel" "stepped" "I") ∈ lw_all := lw_g (lw_at lw_m9 183 rfl) rfl
theorem q2187 : (Jvm.Cond.soleField "CountedSkipListsModel" "stepped") ∈ lw_all := lw_g (lw_at lw_m9 184 rfl) rfl
theorem q2188 : (Jvm.Cond.lays "CountedSkipListsModel" "CountedSkipListsModel" "stepAt" "I") ∈ lw_all := lw_g (lw_at lw_m9 185 rfl) rfl
theorem q2189 : (Jvm.Cond.soleField "CountedSkipListsModel" "stepAt") ∈ lw_all := lw_g (lw_at lw_m9 186 rfl) rfl
theorem q2190 : (Jvm.Cond.lays "CountedSkipListsModel" "CountedSkipListsModel" "stepOn" "I") ∈ lw_all := lw_g (lw_at lw_m9 187 rfl) rfl
theorem q2191 : (Jvm.Cond.soleField "CountedSkipListsModel" "stepOn") ∈ lw_all := lw_g (lw_at lw_m9 188 rfl) rfl
theorem q2192 : (Jvm.Cond.superclass "CountedSkipListsModel" "java/lang/Object") ∈ lw_all := lw_g (lw_at lw_m9 189 rfl) rfl
theorem q2196 : (Jvm.Cond.instanceMethod ({ cls := "CountedSkipListsModel", name := "thrown", desc := "()I" } : Jvm.MethodName)) ∈ lw_all := lw_g (lw_at lw_m9 193 rfl) rfl
theorem q2197 : (Jvm.Cond.selects "CountedSkipListsModel" ({ cls := "CountedSkipListsModel", name := "thrown", desc := "()I" } : Jvm.MethodName) ({ cls := "CountedSkipListsModel", name := "thrown", desc := "()I" } : Jvm.MethodName)) ∈ lw_all := lw_g (lw_at lw_m9 194 rfl) rfl
theorem q2198 : (Jvm.Cond.code ({ cls := "CountedSkipListsModel", name := "thrown", desc := "()I" } : Jvm.MethodName) prog_19_method_2_code (1 : Nat) (Option.some Jvm.ClassFile.FieldType.int)) ∈ lw_all := lw_g (lw_at lw_m9 195 rfl) rfl
theorem q2200 : (Jvm.Cond.instanceMethod ({ cls := "CountedSkipListsModel", name := "append", desc := "(IIIII)I" } : Jvm.MethodName)) ∈ lw_all := lw_g (lw_at lw_m9 197 rfl) rfl
theorem q2201 : (Jvm.Cond.selects "CountedSkipListsModel" ({ cls := "CountedSkipListsModel", name := "append", desc := "(IIIII)I" } : Jvm.MethodName) ({ cls := "CountedSkipListsModel", name := "append", desc := "(IIIII)I" } : Jvm.MethodName)) ∈ lw_all := lw_g (lw_at lw_m9 198 rfl) rfl
theorem q2202 : (Jvm.Cond.code ({ cls := "CountedSkipListsModel", name := "append", desc := "(IIIII)I" } : Jvm.MethodName) prog_19_method_5_code (6 : Nat) (Option.some Jvm.ClassFile.FieldType.int)) ∈ lw_all := lw_g (lw_at lw_m9 199 rfl) rfl
theorem q2203 : (Jvm.Cond.methodLink "CountedSkipListsModel" (68 : Nat) ({ cls := "CountedSkipListsModel", name := "bytes", desc := "(I)V" } : Jvm.MethodName)) ∈ lw_all := lw_g (lw_at lw_m9 200 rfl) rfl
theorem q2204 : (Jvm.Cond.privateMethod ({ cls := "CountedSkipListsModel", name := "bytes", desc := "(I)V" } : Jvm.MethodName)) ∈ lw_tbl := lw_at lw_m9 201 rfl
theorem q2205 : (Jvm.Cond.instanceMethod ({ cls := "CountedSkipListsModel", name := "bytes", desc := "(I)V" } : Jvm.MethodName)) ∈ lw_all := lw_g (lw_at lw_m9 202 rfl) rfl
theorem q2206 : (Jvm.Cond.code ({ cls := "CountedSkipListsModel", name := "bytes", desc := "(I)V" } : Jvm.MethodName) prog_19_method_4_code (3 : Nat) (Option.none : Option Jvm.ClassFile.FieldType)) ∈ lw_all := lw_g (lw_at lw_m9 203 rfl) rfl
theorem q2208 : (Jvm.Cond.instanceMethod ({ cls := "CountedSkipListsModel", name := "truncate", desc := "(I)I" } : Jvm.MethodName)) ∈ lw_all := lw_g (lw_at lw_m9 205 rfl) rfl
theorem q2209 : (Jvm.Cond.selects "CountedSkipListsModel" ({ cls := "CountedSkipListsModel", name := "truncate", desc := "(I)I" } : Jvm.MethodName) ({ cls := "CountedSkipListsModel", name := "truncate", desc := "(I)I" } : Jvm.MethodName)) ∈ lw_all := lw_g (lw_at lw_m9 206 rfl) rfl
theorem q2210 : (Jvm.Cond.code ({ cls := "CountedSkipListsModel", name := "truncate", desc := "(I)I" } : Jvm.MethodName) prog_19_method_6_code (2 : Nat) (Option.some Jvm.ClassFile.FieldType.int)) ∈ lw_all := lw_g (lw_at lw_m9 207 rfl) rfl
theorem q2211 : (Jvm.Cond.methodLink "CountedSkipListsModel" (72 : Nat) ({ cls := "CountedSkipListsModel", name := "in", desc := "(JJJ)Z" } : Jvm.MethodName)) ∈ lw_all := lw_g (lw_at lw_m9 208 rfl) rfl
theorem q2212 : (Jvm.Cond.static ({ cls := "CountedSkipListsModel", name := "in", desc := "(JJJ)Z" } : Jvm.MethodName)) ∈ lw_all := lw_g (lw_at lw_m9 209 rfl) rfl
theorem q2213 : (Jvm.Cond.code ({ cls := "CountedSkipListsModel", name := "in", desc := "(JJJ)Z" } : Jvm.MethodName) prog_19_method_3_code (6 : Nat) (Option.some Jvm.ClassFile.FieldType.boolean)) ∈ lw_all := lw_g (lw_at lw_m9 210 rfl) rfl
theorem q2215 : (Jvm.Cond.instanceMethod ({ cls := "CountedSkipListsModel", name := "load", desc := "()I" } : Jvm.MethodName)) ∈ lw_all := lw_g (lw_at lw_m9 212 rfl) rfl
theorem q2216 : (Jvm.Cond.selects "CountedSkipListsModel" ({ cls := "CountedSkipListsModel", name := "load", desc := "()I" } : Jvm.MethodName) ({ cls := "CountedSkipListsModel", name := "load", desc := "()I" } : Jvm.MethodName)) ∈ lw_all := lw_g (lw_at lw_m9 213 rfl) rfl
theorem q2217 : (Jvm.Cond.code ({ cls := "CountedSkipListsModel", name := "load", desc := "()I" } : Jvm.MethodName) prog_19_method_21_code (4 : Nat) (Option.some Jvm.ClassFile.FieldType.int)) ∈ lw_all := lw_g (lw_at lw_m9 214 rfl) rfl
theorem q2218 : (Jvm.Cond.methodLink "CountedSkipListsModel" (168 : Nat) ({ cls := "CountedSkipListsModel", name := "readsText", desc := "()V" } : Jvm.MethodName)) ∈ lw_all := lw_g (lw_at lw_m9 215 rfl) rfl
theorem q2219 : (Jvm.Cond.privateMethod ({ cls := "CountedSkipListsModel", name := "readsText", desc := "()V" } : Jvm.MethodName)) ∈ lw_tbl := lw_at lw_m9 216 rfl
theorem q2220 : (Jvm.Cond.instanceMethod ({ cls := "CountedSkipListsModel", name := "readsText", desc := "()V" } : Jvm.MethodName)) ∈ lw_all := lw_g (lw_at lw_m9 217 rfl) rfl
theorem q2221 : (Jvm.Cond.code ({ cls := "CountedSkipListsModel", name := "readsText", desc := "()V" } : Jvm.MethodName) prog_19_method_20_code (2 : Nat) (Option.none : Option Jvm.ClassFile.FieldType)) ∈ lw_all := lw_g (lw_at lw_m9 218 rfl) rfl
theorem q2222 : (Jvm.Cond.methodLink "CountedSkipListsModel" (94 : Nat) ({ cls := "CountedSkipListsModel", name := "blanks", desc := "()V" } : Jvm.MethodName)) ∈ lw_all := lw_g (lw_at lw_m9 219 rfl) rfl
theorem q2223 : (Jvm.Cond.privateMethod ({ cls := "CountedSkipListsModel", name := "blanks", desc := "()V" } : Jvm.MethodName)) ∈ lw_tbl := lw_at lw_m9 220 rfl
theorem q2224 : (Jvm.Cond.instanceMethod ({ cls := "CountedSkipListsModel", name := "blanks", desc := "()V" } : Jvm.MethodName)) ∈ lw_all := lw_g (lw_at lw_m9 221 rfl) rfl
theorem q2225 : (Jvm.Cond.code ({ cls := "CountedSkipListsModel", name := "blanks", desc := "()V" } : Jvm.MethodName) prog_19_method_8_code (1 : Nat) (Option.none : Option Jvm.ClassFile.FieldType)) ∈ lw_all := lw_g (lw_at lw_m9 222 rfl) rfl
theorem q2226 : (Jvm.Cond.constantLong "CountedSkipListsModel" (150 : Nat) (6564179 : Int64)) ∈ lw_all := lw_g (lw_at lw_m9 223 rfl) rfl
theorem q2227 : (Jvm.Cond.methodLink "CountedSkipListsModel" (152 : Nat) ({ cls := "CountedSkipListsModel", name := "says", desc := "(J)Z" } : Jvm.MethodName)) ∈ lw_all := lw_g (lw_at lw_m9 224 rfl) rfl
theorem q2228 : (Jvm.Cond.privateMethod ({ cls := "CountedSkipListsModel", name := "says", desc := "(J)Z" } : Jvm.MethodName)) ∈ lw_tbl := lw_at lw_m9 225 rfl
theorem q2229 : (Jvm.Cond.instanceMethod ({ cls := "CountedSkipListsModel", name := "says", desc := "(J)Z" } : Jvm.MethodName)) ∈ lw_all := lw_g (lw_at lw_m9 226 rfl) rfl
theorem q2230 : (Jvm.Cond.code ({ cls := "CountedSkipListsModel", name := "says", desc := "(J)Z" } : Jvm.MethodName) prog_19_method_14_code (5 : Nat) (Option.some Jvm.ClassFile.FieldType.boolean)) ∈ lw_all := lw_g (lw_at lw_m9 227 rfl) rfl
theorem q2231 : (Jvm.Cond.methodLink "CountedSkipListsModel" (111 : Nat) ({ cls := "CountedSkipListsModel", name := "takesWord", desc := "()J" } : Jvm.MethodName)) ∈ lw_all := lw_g (lw_at lw_m9 228 rfl) rfl
theorem q2232 : (Jvm.Cond.privateMethod ({ cls := "CountedSkipListsModel", name := "takesWord", desc := "()J" } : Jvm.MethodName)) ∈ lw_tbl := lw_at lw_m9 229 rfl
theorem q2233 : (Jvm.Cond.instanceMethod ({ cls := "CountedSkipListsModel", name := "takesWord", desc := "()J" } : Jvm.MethodName)) ∈ lw_all := lw_g (lw_at lw_m9 230 rfl) rfl
theorem q2234 : (Jvm.Cond.code ({ cls := "CountedSkipListsModel", name := "takesWord", desc := "()J" } : Jvm.MethodName) prog_19_method_13_code (4 : Nat) (Option.some Jvm.ClassFile.FieldType.long)) ∈ lw_all := lw_g (lw_at lw_m9 231 rfl) rfl
theorem q2235 : (Jvm.Cond.methodLink "CountedSkipListsModel" (104 : Nat) ({ cls := "CountedSkipListsModel", name := "isLetter", desc := "(I)Z" } : Jvm.MethodName)) ∈ lw_all := lw_g (lw_at lw_m9 232 rfl) rfl
theorem q2236 : (Jvm.Cond.privateMethod ({ cls := "CountedSkipListsModel", name := "isLetter", desc := "(I)Z" } : Jvm.MethodName)) ∈ lw_tbl := lw_at lw_m9 233 rfl
theorem q2237 : (Jvm.Cond.instanceMethod ({ cls := "CountedSkipListsModel", name := "isLetter", desc := "(I)Z" } : Jvm.MethodName)) ∈ lw_all := lw_g (lw_at lw_m9 234 rfl) rfl
theorem q2238 : (Jvm.Cond.code ({ cls := "CountedSkipListsModel", name := "isLetter", desc := "(I)Z" } : Jvm.MethodName) prog_19_method_9_code (2 : Nat) (Option.some Jvm.ClassFile.FieldType.boolean)) ∈ lw_all := lw_g (lw_at lw_m9 235 rfl) rfl
theorem q2239 : (Jvm.Cond.constantLong "CountedSkipListsModel" (86 : Nat) (97 : Int64)) ∈ lw_all := lw_g (lw_at lw_m9 236 rfl) rfl
theorem q2240 : (Jvm.Cond.constantLong "CountedSkipListsModel" (88 : Nat) (122 : Int64)) ∈ lw_all := lw_g (lw_at lw_m9 237 rfl) rfl
theorem q2241 : (Jvm.Cond.constantLong "CountedSkipListsModel" (107 : Nat) (27 : Int64)) ∈ lw_all := lw_g (lw_at lw_m9 238 rfl) rfl
theorem q2242 : (Jvm.Cond.constantLong "CountedSkipListsModel" (109 : Nat) (-1 : Int64)) ∈ lw_all := lw_g (lw_at lw_m9 239 rfl) rfl
theorem q2243 : (Jvm.Cond.methodLink "CountedSkipListsModel" (119 : Nat) ({ cls := "CountedSkipListsModel", name := "fault", desc := "(II)V" } : Jvm.MethodName)) ∈ lw_all := lw_g (lw_at lw_m10 0 rfl) rfl
theorem q2244 : (Jvm.Cond.privateMethod ({ cls := "CountedSkipListsModel", name := "fault", desc := "(II)V" } : Jvm.MethodName)) ∈ lw_tbl := lw_at lw_m10 1 rfl
theorem q2245 : (Jvm.Cond.instanceMethod ({ cls := "CountedSkipListsModel", name := "fault", desc := "(II)V" } : Jvm.MethodName)) ∈ lw_all := lw_g (lw_at lw_m10 2 rfl) rfl
theorem q2246 : (Jvm.Cond.code ({ cls := "CountedSkipListsModel", name := "fault", desc := "(II)V" } : Jvm.MethodName) prog_19_method_7_code (3 : Nat) (Option.none : Option Jvm.ClassFile.FieldType)) ∈ lw_all := lw_g (lw_at lw_m10 3 rfl) rfl
theorem q2247 : (Jvm.Cond.methodLink "CountedSkipListsModel" (129 : Nat) ({ cls := "CountedSkipListsModel", name := "number", desc := "()I" } : Jvm.MethodName)) ∈ lw_all := lw_g (lw_at lw_m10 4 rfl) rfl
theorem q2248 : (Jvm.Cond.privateMethod ({ cls := "CountedSkipListsModel", name := "number", desc := "()I" } : Jvm.MethodName)) ∈ lw_tbl := lw_at lw_m10 5 rfl
theorem q2249 : (Jvm.Cond.instanceMethod ({ cls := "CountedSkipListsModel", name := "number", desc := "()I" } : Jvm.MethodName)) ∈ lw_all := lw_g (lw_at lw_m10 6 rfl) rfl
theorem q2250 : (Jvm.Cond.code ({ cls := "CountedSkipListsModel", name := "number", desc := "()I" } : Jvm.MethodName) prog_19_method_16_code (2 : Nat) (Option.some Jvm.ClassFile.FieldType.int)) ∈ lw_all := lw_g (lw_at lw_m10 7 rfl) rfl
theorem q2251 : (Jvm.Cond.methodLink "CountedSkipListsModel" (97 : Nat) ({ cls := "CountedSkipListsModel", name := "isDigit", desc := "(I)Z" } : Jvm.MethodName)) ∈ lw_all := lw_g (lw_at lw_m10 8 rfl) rfl
theorem q2252 : (Jvm.Cond.privateMethod ({ cls := "CountedSkipListsModel", name := "isDigit", desc := "(I)Z" } : Jvm.MethodName)) ∈ lw_tbl := lw_at lw_m10 9 rfl
theorem q2253 : (Jvm.Cond.instanceMethod ({ cls := "CountedSkipListsModel", name := "isDigit", desc := "(I)Z" } : Jvm.MethodName)) ∈ lw_all := lw_g (lw_at lw_m10 10 rfl) rfl
theorem q2254 : (Jvm.Cond.code ({ cls := "CountedSkipListsModel", name := "isDigit", desc := "(I)Z" } : Jvm.MethodName) prog_19_method_10_code (2 : Nat) (Option.some Jvm.ClassFile.FieldType.boolean)) ∈ lw_all := lw_g (lw_at lw_m10 11 rfl) rfl
theorem q2255 : (Jvm.Cond.constantLong "CountedSkipListsModel" (90 : Nat) (48 : Int64)) ∈ lw_all := lw_g (lw_at lw_m10 12 rfl) rfl
theorem q2256 : (Jvm.Cond.constantLong "CountedSkipListsModel" (92 : Nat) (57 : Int64)) ∈ lw_all := lw_g (lw_at lw_m10 13 rfl) rfl
theorem q2257 : (Jvm.Cond.constantLong "CountedSkipListsModel" (159 : Nat) (2 : Int64)) ∈ lw_all := lw_g (lw_at lw_m10 14 rfl) rfl
theorem q2258 : (Jvm.Cond.constantLong "CountedSkipListsModel" (161 : Nat) (7 : Int64)) ∈ lw_all := lw_g (lw_at lw_m10 15 rfl) rfl
theorem q2259 : (Jvm.Cond.methodLink "CountedSkipListsModel" (146 : Nat) ({ cls := "CountedSkipListsModel", name := "sign", desc := "(C)V" } : Jvm.MethodName)) ∈ lw_all := lw_g (lw_at lw_m10 16 rfl) rfl
theorem q2260 : (Jvm.Cond.privateMethod ({ cls := "CountedSkipListsModel", name := "sign", desc := "(C)V" } : Jvm.MethodName)) ∈ lw_tbl := lw_at lw_m10 17 rfl
theorem q2261 : (Jvm.Cond.instanceMethod ({ cls := "CountedSkipListsModel", name := "sign", desc := "(C)V" } : Jvm.MethodName)) ∈ lw_all := lw_g (lw_at lw_m10 18 rfl) rfl
theorem q2262 : (Jvm.Cond.code ({ cls := "CountedSkipListsModel", name := "sign", desc := "(C)V" } : Jvm.MethodName) prog_19_method_15_code (2 : Nat) (Option.none : Option Jvm.ClassFile.FieldType)) ∈ lw_all := lw_g (lw_at lw_m10 19 rfl) rfl
theorem q2263 : (Jvm.Cond.methodLink "CountedSkipListsModel" (115 : Nat) ({ cls := "CountedSkipListsModel", name := "isNext", desc := "(C)Z" } : Jvm.MethodName)) ∈ lw_all := lw_g (lw_at lw_m10 20 rfl) rfl
theorem q2264 : (Jvm.Cond.privateMethod ({ cls := "CountedSkipListsModel", name := "isNext", desc := "(C)Z" } : Jvm.MethodName)) ∈ lw_tbl := lw_at lw_m10 21 rfl
theorem q2265 : (Jvm.Cond.instanceMethod ({ cls := "CountedSkipListsModel", name := "isNext", desc := "(C)Z" } : Jvm.MethodName)) ∈ lw_all := lw_g (lw_at lw_m10 22 rfl) rfl
theorem q2266 : (Jvm.Cond.code ({ cls := "CountedSkipListsModel", name := "isNext", desc := "(C)Z" } : Jvm.MethodName) prog_19_method_11_code (2 : Nat) (Option.some Jvm.ClassFile.FieldType.boolean)) ∈ lw_all := lw_g (lw_at lw_m10 23 rfl) rfl
theorem q2267 : (Jvm.Cond.constantLong "CountedSkipListsModel" (163 : Nat) (243290 : Int64)) ∈ lw_all := lw_g (lw_at lw_m10 24 rfl) rfl
theorem q2268 : (Jvm.Cond.methodLink "CountedSkipListsModel" (165 : Nat) ({ cls := "CountedSkipListsModel", name := "list", desc := "()V" } : Jvm.MethodName)) ∈ lw_all := lw_g (lw_at lw_m10 25 rfl) rfl
theorem q2269 : (Jvm.Cond.privateMethod ({ cls := "CountedSkipListsModel", name := "list", desc := "()V" } : Jvm.MethodName)) ∈ lw_tbl := lw_at lw_m10 26 rfl
theorem q2270 : (Jvm.Cond.instanceMethod ({ cls := "CountedSkipListsModel", name := "list", desc := "()V" } : Jvm.MethodName)) ∈ lw_all := lw_g (lw_at lw_m10 27 rfl) rfl
theorem q2271 : (Jvm.Cond.code ({ cls := "CountedSkipListsModel", name := "list", desc := "()V" } : Jvm.MethodName) prog_19_method_19_code (4 : Nat) (Option.none : Option Jvm.ClassFile.FieldType)) ∈ lw_all := lw_g (lw_at lw_m10 28 rfl) rfl
theorem q2272 : (Jvm.Cond.methodLink "CountedSkipListsModel" (139 : Nat) ({ cls := "CountedSkipListsModel", name := "isNumberNext", desc := "()Z" } : Jvm.MethodName)) ∈ lw_all := lw_g (lw_at lw_m10 29 rfl) rfl
theorem q2273 : (Jvm.Cond.privateMethod ({ cls := "CountedSkipListsModel", name := "isNumberNext", desc := "()Z" } : Jvm.MethodName)) ∈ lw_tbl := lw_at lw_m10 30 rfl
theorem q2274 : (Jvm.Cond.instanceMethod ({ cls := "CountedSkipListsModel", name := "isNumberNext", desc := "()Z" } : Jvm.MethodName)) ∈ lw_all := lw_g (lw_at lw_m10 31 rfl) rfl
theorem q2275 : (Jvm.Cond.code ({ cls := "CountedSkipListsModel", name := "isNumberNext", desc := "()Z" } : Jvm.MethodName) prog_19_method_12_code (1 : Nat) (Option.some Jvm.ClassFile.FieldType.boolean)) ∈ lw_all := lw_g (lw_at lw_m10 32 rfl) rfl
theorem q2276 : (Jvm.Cond.methodLink "CountedSkipListsModel" (143 : Nat) ({ cls := "CountedSkipListsModel", name := "element", desc := "()V" } : Jvm.MethodName)) ∈ lw_all := lw_g (lw_at lw_m10 33 rfl) rfl
theorem q2277 : (Jvm.Cond.privateMethod ({ cls := "CountedSkipListsModel", name := "element", desc := "()V" } : Jvm.MethodName)) ∈ lw_tbl := lw_at lw_m10 34 rfl
theorem q2278 : (Jvm.Cond.instanceMethod ({ cls := "CountedSkipListsModel", name := "element", desc := "()V" } : Jvm.MethodName)) ∈ lw_all := lw_g (lw_at lw_m10 35 rfl) rfl
theorem q2279 : (Jvm.Cond.code ({ cls := "CountedSkipListsModel", name := "element", desc := "()V" } : Jvm.MethodName) prog_19_method_18_code (5 : Nat) (Option.none : Option Jvm.ClassFile.FieldType)) ∈ lw_all := lw_g (lw_at lw_m10 36 rfl) rfl
theorem q2280 : (Jvm.Cond.methodLink "CountedSkipListsModel" (136 : Nat) ({ cls := "CountedSkipListsModel", name := "integer", desc := "()I" } : Jvm.MethodName)) ∈ lw_all := lw_g (lw_at lw_m10 37 rfl) rfl
theorem q2281 : (Jvm.Cond.privateMethod ({ cls := "CountedSkipListsModel", name := "integer", desc := "()I" } : Jvm.MethodName)) ∈ lw_tbl := lw_at lw_m10 38 rfl
theorem q2282 : (Jvm.Cond.instanceMethod ({ cls := "CountedSkipListsModel", name := "integer", desc := "()I" } : Jvm.MethodName)) ∈ lw_all := lw_g (lw_at lw_m10 39 rfl) rfl
theorem q2283 : (Jvm.Cond.code ({ cls := "CountedSkipListsModel", name := "integer", desc := "()I" } : Jvm.MethodName) prog_19_method_17_code (1 : Nat) (Option.some Jvm.ClassFile.FieldType.int)) ∈ lw_all := lw_g (lw_at lw_m10 40 rfl) rfl
theorem q2284 : (Jvm.Cond.methodLink "CountedSkipListsModel" (171 : Nat) ({ cls := "CountedSkipListsModel", name := "base", desc := "(I)I" } : Jvm.MethodName)) ∈ lw_all := lw_g (lw_at lw_m10 41 rfl) rfl
theorem q2285 : (Jvm.Cond.static ({ cls := "CountedSkipListsModel", name := "base", desc := "(I)I" } : Jvm.MethodName)) ∈ lw_all := lw_g (lw_at lw_m10 42 rfl) rfl
theorem q2286 : (Jvm.Cond.code ({ cls := "CountedSkipListsModel", name := "base", desc := "(I)I" } : Jvm.MethodName) prog_19_method_25_code (1 : Nat) (Option.some Jvm.ClassFile.FieldType.int)) ∈ lw_all := lw_g (lw_at lw_m10 43 rfl) rfl
theorem q2287 : (Jvm.Cond.methodLink "CountedSkipListsModel" (175 : Nat) ({ cls := "CountedSkipListsModel", name := "levels", desc := "(I)V" } : Jvm.MethodName)) ∈ lw_all := lw_g (lw_at lw_m10 44 rfl) rfl
theorem q2288 : (Jvm.Cond.privateMethod ({ cls := "CountedSkipListsModel", name := "levels", desc := "(I)V" } : Jvm.MethodName)) ∈ lw_tbl := lw_at lw_m10 45 rfl
theorem q2289 : (Jvm.Cond.instanceMethod ({ cls := "CountedSkipListsModel", name := "levels", desc := "(I)V" } : Jvm.MethodName)) ∈ lw_all := lw_g (lw_at lw_m10 46 rfl) rfl
theorem q2290 : (Jvm.Cond.code ({ cls := "CountedSkipListsModel", name := "levels", desc := "(I)V" } : Jvm.MethodName) prog_19_method_41_code (6 : Nat) (Option.none : Option Jvm.ClassFile.FieldType)) ∈ lw_all := lw_g (lw_at lw_m10 47 rfl) rfl
theorem q2291 : (Jvm.Cond.methodLink "CountedSkipListsModel" (222 : Nat) ({ cls := "CountedSkipListsModel", name := "repairs", desc := "(I)V" } : Jvm.MethodName)) ∈ lw_all := lw_g (lw_at lw_m10 48 rfl) rfl
theorem q2292 : (Jvm.Cond.privateMethod ({ cls := "CountedSkipListsModel", name := "repairs", desc := "(I)V" } : Jvm.MethodName)) ∈ lw_tbl := lw_at lw_m10 49 rfl
theorem q2293 : (Jvm.Cond.instanceMethod ({ cls := "CountedSkipListsModel", name := "repairs", desc := "(I)V" } : Jvm.MethodName)) ∈ lw_all := lw_g (lw_at lw_m10 50 rfl) rfl
theorem q2294 : (Jvm.Cond.code ({ cls := "CountedSkipListsModel", name := "repairs", desc := "(I)V" } : Jvm.MethodName) prog_19_method_40_code (3 : Nat) (Option.none : Option Jvm.ClassFile.FieldType)) ∈ lw_all := lw_g (lw_at lw_m10 51 rfl) rfl
theorem q2295 : (Jvm.Cond.methodLink "CountedSkipListsModel" (216 : Nat) ({ cls := "CountedSkipListsModel", name := "divides", desc := "(I)Z" } : Jvm.MethodName)) ∈ lw_all := lw_g (lw_at lw_m10 52 rfl) rfl
theorem q2296 : (Jvm.Cond.privateMethod ({ cls := "CountedSkipListsModel", name := "divides", desc := "(I)Z" } : Jvm.MethodName)) ∈ lw_tbl := lw_at lw_m10 53 rfl
theorem q2297 : (Jvm.Cond.instanceMethod ({ cls := "CountedSkipListsModel", name := "divides", desc := "(I)Z" } : Jvm.MethodName)) ∈ lw_all := lw_g (lw_at lw_m10 54 rfl) rfl
theorem q2298 : (Jvm.Cond.code ({ cls := "CountedSkipListsModel", name := "divides", desc := "(I)Z" } : Jvm.MethodName) prog_19_method_37_code (10 : Nat) (Option.some Jvm.ClassFile.FieldType.boolean)) ∈ lw_all := lw_g (lw_at lw_m10 55 rfl) rfl
theorem q2299 : (Jvm.Cond.methodLink "CountedSkipListsModel" (194 : Nat) ({ cls := "CountedSkipListsModel", name := "heightOf", desc := "(I)I" } : Jvm.MethodName)) ∈ lw_all := lw_g (lw_at lw_m10 56 rfl) rfl
theorem q2300 : (Jvm.Cond.privateMethod ({ cls := "CountedSkipListsModel", name := "heightOf", desc := "(I)I" } : Jvm.MethodName)) ∈ lw_tbl := lw_at lw_m10 57 rfl
theorem q2301 : (Jvm.Cond.instanceMethod ({ cls := "CountedSkipListsModel", name := "heightOf", desc := "(I)I" } : Jvm.MethodName)) ∈ lw_all := lw_g (lw_at lw_m10 58 rfl) rfl
theorem q2302 : (Jvm.Cond.code ({ cls := "CountedSkipListsModel", name := "heightOf", desc := "(I)I" } : Jvm.MethodName) prog_19_method_31_code (5 : Nat) (Option.some Jvm.ClassFile.FieldType.int)) ∈ lw_all := lw_g (lw_at lw_m10 59 rfl) rfl
theorem q2303 : (Jvm.Cond.methodLink "CountedSkipListsModel" (197 : Nat) ({ cls := "CountedSkipListsModel", name := "after", desc := "(III)I" } : Jvm.MethodName)) ∈ lw_all := lw_g (lw_at lw_m10 60 rfl) rfl
theorem q2304 : (Jvm.Cond.privateMethod ({ cls := "CountedSkipListsModel", name := "after", desc := "(III)I" } : Jvm.MethodName)) ∈ lw_tbl := lw_at lw_m10 61 rfl
theorem q2305 : (Jvm.Cond.instanceMethod ({ cls := "CountedSkipListsModel", name := "after", desc := "(III)I" } : Jvm.MethodName)) ∈ lw_all := lw_g (lw_at lw_m10 62 rfl) rfl
theorem q2306 : (Jvm.Cond.code ({ cls := "CountedSkipListsModel", name := "after", desc := "(III)I" } : Jvm.MethodName) prog_19_method_33_code (6 : Nat) (Option.some Jvm.ClassFile.FieldType.int)) ∈ lw_all := lw_g (lw_at lw_m10 63 rfl) rfl
theorem q2307 : (Jvm.Cond.methodLink "CountedSkipListsModel" (201 : Nat) ({ cls := "CountedSkipListsModel", name := "between", desc := "(IIII)I" } : Jvm.MethodName)) ∈ lw_all := lw_g (lw_at lw_m10 64 rfl) rfl
theorem q2308 : (Jvm.Cond.privateMethod ({ cls := "CountedSkipListsModel", name := "between", desc := "(IIII)I" } : Jvm.MethodName)) ∈ lw_tbl := lw_at lw_m10 65 rfl
theorem q2309 : (Jvm.Cond.instanceMethod ({ cls := "CountedSkipListsModel", name := "between", desc := "(IIII)I" } : Jvm.MethodName)) ∈ lw_all := lw_g (lw_at lw_m10 66 rfl) rfl
theorem q2310 : (Jvm.Cond.code ({ cls := "CountedSkipListsModel", name := "between", desc := "(IIII)I" } : Jvm.MethodName) prog_19_method_35_code (8 : Nat) (Option.some Jvm.ClassFile.FieldType.int)) ∈ lw_all := lw_g (lw_at lw_m10 67 rfl) rfl
theorem q2311 : (Jvm.Cond.methodLink "CountedSkipListsModel" (205 : Nat) ({ cls := "CountedSkipListsModel", name := "logs", desc := "(III)V" } : Jvm.MethodName)) ∈ lw_all := lw_g (lw_at lw_m10 68 rfl) rfl
theorem q2312 : (Jvm.Cond.privateMethod ({ cls := "CountedSkipListsModel", name := "logs", desc := "(III)V" } : Jvm.MethodName)) ∈ lw_tbl := lw_at lw_m10 69 rfl
theorem q2313 : (Jvm.Cond.instanceMethod ({ cls := "CountedSkipListsModel", name := "logs", desc := "(III)V" } : Jvm.MethodName)) ∈ lw_all := lw_g (lw_at lw_m10 70 rfl) rfl
theorem q2314 : (Jvm.Cond.code ({ cls := "CountedSkipListsModel", name := "logs", desc := "(III)V" } : Jvm.MethodName) prog_19_method_36_code (5 : Nat) (Option.none : Option Jvm.ClassFile.FieldType)) ∈ lw_all := lw_g (lw_at lw_m10 71 rfl) rfl
theorem q2315 : (Jvm.Cond.methodLink "CountedSkipListsModel" (219 : Nat) ({ cls := "CountedSkipListsModel", name := "fills", desc := "(I)Z" } : Jvm.MethodName)) ∈ lw_all := lw_g (lw_at lw_m10 72 rfl) rfl
theorem q2316 : (Jvm.Cond.privateMethod ({ cls := "CountedSkipListsModel", name := "fills", desc := "(I)Z" } : Jvm.MethodName)) ∈ lw_tbl := lw_at lw_m10 73 rfl
theorem q2317 : (Jvm.Cond.instanceMethod ({ cls := "CountedSkipListsModel", name := "fills", desc := "(I)Z" } : Jvm.MethodName)) ∈ lw_all := lw_g (lw_at lw_m10 74 rfl) rfl
theorem q2318 : (Jvm.Cond.code ({ cls := "CountedSkipListsModel", name := "fills", desc := "(I)Z" } : Jvm.MethodName) prog_19_method_38_code (7 : Nat) (Option.some Jvm.ClassFile.FieldType.boolean)) ∈ lw_all := lw_g (lw_at lw_m10 75 rfl) rfl
theorem q2319 : (Jvm.Cond.methodLink "CountedSkipListsModel" (209 : Nat) ({ cls := "CountedSkipListsModel", name := "fillsGap", desc := "(IIII)V" } : Jvm.MethodName)) ∈ lw_all := lw_g (lw_at lw_m10 76 rfl) rfl
theorem q2320 : (Jvm.Cond.privateMethod ({ cls := "CountedSkipListsModel", name := "fillsGap", desc := "(IIII)V" } : Jvm.MethodName)) ∈ lw_tbl := lw_at lw_m10 77 rfl
theorem q2321 : (Jvm.Cond.instanceMethod ({ cls := "CountedSkipListsModel", name := "fillsGap", desc := "(IIII)V" } : Jvm.MethodName)) ∈ lw_all := lw_g (lw_at lw_m10 78 rfl) rfl
theorem q2322 : (Jvm.Cond.code ({ cls := "CountedSkipListsModel", name := "fillsGap", desc := "(IIII)V" } : Jvm.MethodName) prog_19_method_39_code (11 : Nat) (Option.none : Option Jvm.ClassFile.FieldType)) ∈ lw_all := lw_g (lw_at lw_m10 79 rfl) rfl
theorem q2323 : (Jvm.Cond.methodLink "CountedSkipListsModel" (213 : Nat) ({ cls := "CountedSkipListsModel", name := "ahead", desc := "(III)I" } : Jvm.MethodName)) ∈ lw_all := lw_g (lw_at lw_m10 80 rfl) rfl
theorem q2324 : (Jvm.Cond.privateMethod ({ cls := "CountedSkipListsModel", name := "ahead", desc := "(III)I" } : Jvm.MethodName)) ∈ lw_tbl := lw_at lw_m10 81 rfl
theorem q2325 : (Jvm.Cond.instanceMethod ({ cls := "CountedSkipListsModel", name := "ahead", desc := "(III)I" } : Jvm.MethodName)) ∈ lw_all := lw_g (lw_at lw_m10 82 rfl) rfl
theorem q2326 : (Jvm.Cond.code ({ cls := "CountedSkipListsModel", name := "ahead", desc := "(III)I" } : Jvm.MethodName) prog_19_method_34_code (6 : Nat) (Option.some Jvm.ClassFile.FieldType.int)) ∈ lw_all := lw_g (lw_at lw_m10 83 rfl) rfl
theorem q2328 : (Jvm.Cond.instanceMethod ({ cls := "CountedSkipListsModel", name := "errorCode", desc := "()I" } : Jvm.MethodName)) ∈ lw_all := lw_g (lw_at lw_m10 85 rfl) rfl
theorem q2329 : (Jvm.Cond.selects "CountedSkipListsModel" ({ cls := "CountedSkipListsModel", name := "errorCode", desc := "()I" } : Jvm.MethodName) ({ cls := "CountedSkipListsModel", name := "errorCode", desc := "()I" } : Jvm.MethodName)) ∈ lw_all := lw_g (lw_at lw_m10 86 rfl) rfl
theorem q2330 : (Jvm.Cond.code ({ cls := "CountedSkipListsModel", name := "errorCode", desc := "()I" } : Jvm.MethodName) prog_19_method_22_code (1 : Nat) (Option.some Jvm.ClassFile.FieldType.int)) ∈ lw_all := lw_g (lw_at lw_m10 87 rfl) rfl
theorem q2332 : (Jvm.Cond.instanceMethod ({ cls := "CountedSkipListsModel", name := "errorPosition", desc := "()I" } : Jvm.MethodName)) ∈ lw_all := lw_g (lw_at lw_m10 89 rfl) rfl
theorem q2333 : (Jvm.Cond.selects "CountedSkipListsModel" ({ cls := "CountedSkipListsModel", name := "errorPosition", desc := "()I" } : Jvm.MethodName) ({ cls := "CountedSkipListsModel", name := "errorPosition", desc := "()I" } : Jvm.MethodName)) ∈ lw_all := lw_g (lw_at lw_m10 90 rfl) rfl
theorem q2334 : (Jvm.Cond.code ({ cls := "CountedSkipListsModel", name := "errorPosition", desc := "()I" } : Jvm.MethodName) prog_19_method_23_code (1 : Nat) (Option.some Jvm.ClassFile.FieldType.int)) ∈ lw_all := lw_g (lw_at lw_m10 91 rfl) rfl
theorem q2336 : (Jvm.Cond.instanceMethod ({ cls := "CountedSkipListsModel", name := "find", desc := "()I" } : Jvm.MethodName)) ∈ lw_all := lw_g (lw_at lw_m10 93 rfl) rfl
theorem q2337 : (Jvm.Cond.selects "CountedSkipListsModel" ({ cls := "CountedSkipListsModel", name := "find", desc := "()I" } : Jvm.MethodName) ({ cls := "CountedSkipListsModel", name := "find", desc := "()I" } : Jvm.MethodName)) ∈ lw_all := lw_g (lw_at lw_m10 94 rfl) rfl
theorem q2338 : (Jvm.Cond.code ({ cls := "CountedSkipListsModel", name := "find", desc := "()I" } : Jvm.MethodName) prog_19_method_24_code (4 : Nat) (Option.some Jvm.ClassFile.FieldType.int)) ∈ lw_all := lw_g (lw_at lw_m10 95 rfl) rfl
theorem q2340 : (Jvm.Cond.instanceMethod ({ cls := "CountedSkipListsModel", name := "exists", desc := "(I)Z" } : Jvm.MethodName)) ∈ lw_all := lw_g (lw_at lw_m10 97 rfl) rfl
theorem q2341 : (Jvm.Cond.selects "CountedSkipListsModel" ({ cls := "CountedSkipListsModel", name := "exists", desc := "(I)Z" } : Jvm.MethodName) ({ cls := "CountedSkipListsModel", name := "exists", desc := "(I)Z" } : Jvm.MethodName)) ∈ lw_all := lw_g (lw_at lw_m10 98 rfl) rfl
theorem q2342 : (Jvm.Cond.code ({ cls := "CountedSkipListsModel", name := "exists", desc := "(I)Z" } : Jvm.MethodName) prog_19_method_46_code (2 : Nat) (Option.some Jvm.ClassFile.FieldType.boolean)) ∈ lw_all := lw_g (lw_at lw_m10 99 rfl) rfl
theorem q2343 : (Jvm.Cond.methodLink "CountedSkipListsModel" (183 : Nat) ({ cls := "CountedSkipListsModel", name := "isList", desc := "(I)Z" } : Jvm.MethodName)) ∈ lw_all := lw_g (lw_at lw_m10 100 rfl) rfl
theorem q2344 : (Jvm.Cond.privateMethod ({ cls := "CountedSkipListsModel", name := "isList", desc := "(I)Z" } : Jvm.MethodName)) ∈ lw_tbl := lw_at lw_m10 101 rfl
theorem q2345 : (Jvm.Cond.instanceMethod ({ cls := "CountedSkipListsModel", name := "isList", desc := "(I)Z" } : Jvm.MethodName)) ∈ lw_all := lw_g (lw_at lw_m10 102 rfl) rfl
theorem q2346 : (Jvm.Cond.code ({ cls := "CountedSkipListsModel", name := "isList", desc := "(I)Z" } : Jvm.MethodName) prog_19_method_26_code (2 : Nat) (Option.some Jvm.ClassFile.FieldType.boolean)) ∈ lw_all := lw_g (lw_at lw_m10 103 rfl) rfl
theorem q2347 : (Jvm.Cond.constantLong "CountedSkipListsModel" (181 : Nat) (5 : Int64)) ∈ lw_all := lw_g (lw_at lw_m10 104 rfl) rfl
theorem q2349 : (Jvm.Cond.instanceMethod ({ cls := "CountedSkipListsModel", name := "limit", desc := "()I" } : Jvm.MethodName)) ∈ lw_all := lw_g (lw_at lw_m10 106 rfl) rfl
theorem q2350 : (Jvm.Cond.selects "CountedSkipListsModel" ({ cls := "CountedSkipListsModel", name := "limit", desc := "()I" } : Jvm.MethodName) ({ cls := "CountedSkipListsModel", name := "limit", desc := "()I" } : Jvm.MethodName)) ∈ lw_all := lw_g (lw_at lw_m10 107 rfl) rfl
theorem q2351 : (Jvm.Cond.code ({ cls := "CountedSkipListsModel", name := "limit", desc := "()I" } : Jvm.MethodName) prog_19_method_47_code (1 : Nat) (Option.some Jvm.ClassFile.FieldType.int)) ∈ lw_all := lw_g (lw_at lw_m10 108 rfl) rfl
theorem q2353 : (Jvm.Cond.instanceMethod ({ cls := "CountedSkipListsModel", name := "size", desc := "(I)I" } : Jvm.MethodName)) ∈ lw_all := lw_g (lw_at lw_m10 110 rfl) rfl
theorem q2354 : (Jvm.Cond.selects "CountedSkipListsModel" ({ cls := "CountedSkipListsModel", name := "size", desc := "(I)I" } : Jvm.MethodName) ({ cls := "CountedSkipListsModel", name := "size", desc := "(I)I" } : Jvm.MethodName)) ∈ lw_all := lw_g (lw_at lw_m10 111 rfl) rfl
theorem q2355 : (Jvm.Cond.code ({ cls := "CountedSkipListsModel", name := "size", desc := "(I)I" } : Jvm.MethodName) prog_19_method_48_code (2 : Nat) (Option.some Jvm.ClassFile.FieldType.int)) ∈ lw_all := lw_g (lw_at lw_m10 112 rfl) rfl
theorem q2357 : (Jvm.Cond.instanceMethod ({ cls := "CountedSkipListsModel", name := "height", desc := "(I)I" } : Jvm.MethodName)) ∈ lw_all := lw_g (lw_at lw_m10 114 rfl) rfl
theorem q2358 : (Jvm.Cond.selects "CountedSkipListsModel" ({ cls := "CountedSkipListsModel", name := "height", desc := "(I)I" } : Jvm.MethodName) ({ cls := "CountedSkipListsModel", name := "height", desc := "(I)I" } : Jvm.MethodName)) ∈ lw_all := lw_g (lw_at lw_m10 115 rfl) rfl
theorem q2359 : (Jvm.Cond.code ({ cls := "CountedSkipListsModel", name := "height", desc := "(I)I" } : Jvm.MethodName) prog_19_method_49_code (2 : Nat) (Option.some Jvm.ClassFile.FieldType.int)) ∈ lw_all := lw_g (lw_at lw_m10 116 rfl) rfl
theorem q2361 : (Jvm.Cond.instanceMethod ({ cls := "CountedSkipListsModel", name := "keyAt", desc := "(II)I" } : Jvm.MethodName)) ∈ lw_all := lw_g (lw_at lw_m10 118 rfl) rfl
theorem q2362 : (Jvm.Cond.selects "CountedSkipListsModel" ({ cls := "CountedSkipListsModel", name := "keyAt", desc := "(II)I" } : Jvm.MethodName) ({ cls := "CountedSkipListsModel", name := "keyAt", desc := "(II)I" } : Jvm.MethodName)) ∈ lw_all := lw_g (lw_at lw_m10 119 rfl) rfl
theorem q2363 : (Jvm.Cond.code ({ cls := "CountedSkipListsModel", name := "keyAt", desc := "(II)I" } : Jvm.MethodName) prog_19_method_51_code (3 : Nat) (Option.some Jvm.ClassFile.FieldType.int)) ∈ lw_all := lw_g (lw_at lw_m10 120 rfl) rfl
theorem q2364 : (Jvm.Cond.methodLink "CountedSkipListsModel" (229 : Nat) ({ cls := "CountedSkipListsModel", name := "elementAt", desc := "(III)I" } : Jvm.MethodName)) ∈ lw_all := lw_g (lw_at lw_m10 121 rfl) rfl
theorem q2365 : (Jvm.Cond.privateMethod ({ cls := "CountedSkipListsModel", name := "elementAt", desc := "(III)I" } : Jvm.MethodName)) ∈ lw_tbl := lw_at lw_m10 122 rfl
theorem q2366 : (Jvm.Cond.instanceMethod ({ cls := "CountedSkipListsModel", name := "elementAt", desc := "(III)I" } : Jvm.MethodName)) ∈ lw_all := lw_g (lw_at lw_m10 123 rfl) rfl
theorem q2367 : (Jvm.Cond.code ({ cls := "CountedSkipListsModel", name := "elementAt", desc := "(III)I" } : Jvm.MethodName) prog_19_method_50_code (4 : Nat) (Option.some Jvm.ClassFile.FieldType.int)) ∈ lw_all := lw_g (lw_at lw_m10 124 rfl) rfl
theorem q2368 : (Jvm.Cond.methodLink "CountedSkipListsModel" (225 : Nat) ({ cls := "CountedSkipListsModel", name := "isPlace", desc := "(II)Z" } : Jvm.MethodName)) ∈ lw_all := lw_g (lw_at lw_m10 125 rfl) rfl
theorem q2369 : (Jvm.Cond.privateMethod ({ cls := "CountedSkipListsModel", name := "isPlace", desc := "(II)Z" } : Jvm.MethodName)) ∈ lw_tbl := lw_at lw_m10 126 rfl
theorem q2370 : (Jvm.Cond.instanceMethod ({ cls := "CountedSkipListsModel", name := "isPlace", desc := "(II)Z" } : Jvm.MethodName)) ∈ lw_all := lw_g (lw_at lw_m10 127 rfl) rfl
theorem q2371 : (Jvm.Cond.code ({ cls := "CountedSkipListsModel", name := "isPlace", desc := "(II)Z" } : Jvm.MethodName) prog_19_method_27_code (3 : Nat) (Option.some Jvm.ClassFile.FieldType.boolean)) ∈ lw_all := lw_g (lw_at lw_m10 128 rfl) rfl
theorem q2373 : (Jvm.Cond.instanceMethod ({ cls := "CountedSkipListsModel", name := "valueAt", desc := "(II)I" } : Jvm.MethodName)) ∈ lw_all := lw_g (lw_at lw_m10 130 rfl) rfl
theorem q2374 : (Jvm.Cond.selects "CountedSkipListsModel" ({ cls := "CountedSkipListsModel", name := "valueAt", desc := "(II)I" } : Jvm.MethodName) ({ cls := "CountedSkipListsModel", name := "valueAt", desc := "(II)I" } : Jvm.MethodName)) ∈ lw_all := lw_g (lw_at lw_m10 131 rfl) rfl
theorem q2375 : (Jvm.Cond.code ({ cls := "CountedSkipListsModel", name := "valueAt", desc := "(II)I" } : Jvm.MethodName) prog_19_method_52_code (3 : Nat) (Option.some Jvm.ClassFile.FieldType.int)) ∈ lw_all := lw_g (lw_at lw_m10 132 rfl) rfl
theorem q2377 : (Jvm.Cond.instanceMethod ({ cls := "CountedSkipListsModel", name := "heightAt", desc := "(II)I" } : Jvm.MethodName)) ∈ lw_all := lw_g (lw_at lw_m10 134 rfl) rfl
theorem q2378 : (Jvm.Cond.selects "CountedSkipListsModel" ({ cls := "CountedSkipListsModel", name := "heightAt", desc := "(II)I" } : Jvm.MethodName) ({ cls := "CountedSkipListsModel", name := "heightAt", desc := "(II)I" } : Jvm.MethodName)) ∈ lw_all := lw_g (lw_at lw_m10 135 rfl) rfl
theorem q2379 : (Jvm.Cond.code ({ cls := "CountedSkipListsModel", name := "heightAt", desc := "(II)I" } : Jvm.MethodName) prog_19_method_53_code (3 : Nat) (Option.some Jvm.ClassFile.FieldType.int)) ∈ lw_all := lw_g (lw_at lw_m10 136 rfl) rfl
theorem q2381 : (Jvm.Cond.instanceMethod ({ cls := "CountedSkipListsModel", name := "value", desc := "(II)I" } : Jvm.MethodName)) ∈ lw_all := lw_g (lw_at lw_m10 138 rfl) rfl
theorem q2382 : (Jvm.Cond.selects "CountedSkipListsModel" ({ cls := "CountedSkipListsModel", name := "value", desc := "(II)I" } : Jvm.MethodName) ({ cls := "CountedSkipListsModel", name := "value", desc := "(II)I" } : Jvm.MethodName)) ∈ lw_all := lw_g (lw_at lw_m10 139 rfl) rfl
theorem q2383 : (Jvm.Cond.code ({ cls := "CountedSkipListsModel", name := "value", desc := "(II)I" } : Jvm.MethodName) prog_19_method_54_code (3 : Nat) (Option.some Jvm.ClassFile.FieldType.int)) ∈ lw_all := lw_g (lw_at lw_m10 140 rfl) rfl
theorem q2384 : (Jvm.Cond.methodLink "CountedSkipListsModel" (232 : Nat) ({ cls := "CountedSkipListsModel", name := "isKey", desc := "(I)Z" } : Jvm.MethodName)) ∈ lw_all := lw_g (lw_at lw_m10 141 rfl) rfl
theorem q2385 : (Jvm.Cond.static ({ cls := "CountedSkipListsModel", name := "isKey", desc := "(I)Z" } : Jvm.MethodName)) ∈ lw_all := lw_g (lw_at lw_m10 142 rfl) rfl
theorem q2386 : (Jvm.Cond.code ({ cls := "CountedSkipListsModel", name := "isKey", desc := "(I)Z" } : Jvm.MethodName) prog_19_method_28_code (1 : Nat) (Option.some Jvm.ClassFile.FieldType.boolean)) ∈ lw_all := lw_g (lw_at lw_m10 143 rfl) rfl
theorem q2387 : (Jvm.Cond.constantLong "CountedSkipListsModel" (186 : Nat) (-9999 : Int64)) ∈ lw_all := lw_g (lw_at lw_m10 144 rfl) rfl
theorem q2388 : (Jvm.Cond.constantLong "CountedSkipListsModel" (188 : Nat) (9999 : Int64)) ∈ lw_all := lw_g (lw_at lw_m10 145 rfl) rfl
theorem q2389 : (Jvm.Cond.methodLink "CountedSkipListsModel" (235 : Nat) ({ cls := "CountedSkipListsModel", name := "placeOf", desc := "(II)I" } : Jvm.MethodName)) ∈ lw_all := lw_g (lw_at lw_m10 146 rfl) rfl
theorem q2390 : (Jvm.Cond.privateMethod ({ cls := "CountedSkipListsModel", name := "placeOf", desc := "(II)I" } : Jvm.MethodName)) ∈ lw_tbl := lw_at lw_m10 147 rfl
theorem q2391 : (Jvm.Cond.instanceMethod ({ cls := "CountedSkipListsModel", name := "placeOf", desc := "(II)I" } : Jvm.MethodName)) ∈ lw_all := lw_g (lw_at lw_m10 148 rfl) rfl
theorem q2392 : (Jvm.Cond.code ({ cls := "CountedSkipListsModel", name := "placeOf", desc := "(II)I" } : Jvm.MethodName) prog_19_method_30_code (4 : Nat) (Option.some Jvm.ClassFile.FieldType.int)) ∈ lw_all := lw_g (lw_at lw_m10 149 rfl) rfl
theorem q2393 : (Jvm.Cond.methodLink "CountedSkipListsModel" (190 : Nat) ({ cls := "CountedSkipListsModel", name := "below", desc := "(II)I" } : Jvm.MethodName)) ∈ lw_all := lw_g (lw_at lw_m10 150 rfl) rfl
theorem q2394 : (Jvm.Cond.privateMethod ({ cls := "CountedSkipListsModel", name := "below", desc := "(II)I" } : Jvm.MethodName)) ∈ lw_tbl := lw_at lw_m10 151 rfl
theorem q2395 : (Jvm.Cond.instanceMethod ({ cls := "CountedSkipListsModel", name := "below", desc := "(II)I" } : Jvm.MethodName)) ∈ lw_all := lw_g (lw_at lw_m10 152 rfl) rfl
theorem q2396 : (Jvm.Cond.code ({ cls := "CountedSkipListsModel", name := "below", desc := "(II)I" } : Jvm.MethodName) prog_19_method_29_code (5 : Nat) (Option.some Jvm.ClassFile.FieldType.int)) ∈ lw_all := lw_g (lw_at lw_m10 153 rfl) rfl
theorem q2398 : (Jvm.Cond.instanceMethod ({ cls := "CountedSkipListsModel", name := "rank", desc := "(II)I" } : Jvm.MethodName)) ∈ lw_all := lw_g (lw_at lw_m10 155 rfl) rfl
theorem q2399 : (Jvm.Cond.selects "CountedSkipListsModel" ({ cls := "CountedSkipListsModel", name := "rank", desc := "(II)I" } : Jvm.MethodName) ({ cls := "CountedSkipListsModel", name := "rank", desc := "(II)I" } : Jvm.MethodName)) ∈ lw_all := lw_g (lw_at lw_m10 156 rfl) rfl
theorem q2400 : (Jvm.Cond.code ({ cls := "CountedSkipListsModel", name := "rank", desc := "(II)I" } : Jvm.MethodName) prog_19_method_56_code (3 : Nat) (Option.some Jvm.ClassFile.FieldType.int)) ∈ lw_all := lw_g (lw_at lw_m10 157 rfl) rfl
theorem q2401 : (Jvm.Cond.methodLink "CountedSkipListsModel" (238 : Nat) ({ cls := "CountedSkipListsModel", name := "canSeek", desc := "(II)Z" } : Jvm.MethodName)) ∈ lw_all := lw_g (lw_at lw_m10 158 rfl) rfl
theorem q2402 : (Jvm.Cond.privateMethod ({ cls := "CountedSkipListsModel", name := "canSeek", desc := "(II)Z" } : Jvm.MethodName)) ∈ lw_tbl := lw_at lw_m10 159 rfl
theorem q2403 : (Jvm.Cond.instanceMethod ({ cls := "CountedSkipListsModel", name := "canSeek", desc := "(II)Z" } : Jvm.MethodName)) ∈ lw_all := lw_g (lw_at lw_m10 160 rfl) rfl
theorem q2404 : (Jvm.Cond.code ({ cls := "CountedSkipListsModel", name := "canSeek", desc := "(II)Z" } : Jvm.MethodName) prog_19_method_55_code (3 : Nat) (Option.some Jvm.ClassFile.FieldType.boolean)) ∈ lw_all := lw_g (lw_at lw_m10 161 rfl) rfl
theorem q2406 : (Jvm.Cond.instanceMethod ({ cls := "CountedSkipListsModel", name := "nearest", desc := "(II)I" } : Jvm.MethodName)) ∈ lw_all := lw_g (lw_at lw_m10 163 rfl) rfl
theorem q2407 : (Jvm.Cond.selects "CountedSkipListsModel" ({ cls := "CountedSkipListsModel", name := "nearest", desc := "(II)I" } : Jvm.MethodName) ({ cls := "CountedSkipListsModel", name := "nearest", desc := "(II)I" } : Jvm.MethodName)) ∈ lw_all := lw_g (lw_at lw_m10 164 rfl) rfl
theorem q2408 : (Jvm.Cond.code ({ cls := "CountedSkipListsModel", name := "nearest", desc := "(II)I" } : Jvm.MethodName) prog_19_method_57_code (8 : Nat) (Option.some Jvm.ClassFile.FieldType.int)) ∈ lw_all := lw_g (lw_at lw_m10 165 rfl) rfl
theorem q2410 : (Jvm.Cond.instanceMethod ({ cls := "CountedSkipListsModel", name := "rangeSum", desc := "(III)I" } : Jvm.MethodName)) ∈ lw_all := lw_g (lw_at lw_m10 167 rfl) rfl
theorem q2411 : (Jvm.Cond.selects "CountedSkipListsModel" ({ cls := "CountedSkipListsModel", name := "rangeSum", desc := "(III)I" } : Jvm.MethodName) ({ cls := "CountedSkipListsModel", name := "rangeSum", desc := "(III)I" } : Jvm.MethodName)) ∈ lw_all := lw_g (lw_at lw_m10 168 rfl) rfl
theorem q2412 : (Jvm.Cond.code ({ cls := "CountedSkipListsModel", name := "rangeSum", desc := "(III)I" } : Jvm.MethodName) prog_19_method_58_code (7 : Nat) (Option.some Jvm.ClassFile.FieldType.int)) ∈ lw_all := lw_g (lw_at lw_m10 169 rfl) rfl
theorem q2414 : (Jvm.Cond.instanceMethod ({ cls := "CountedSkipListsModel", name := "rowSize", desc := "(II)I" } : Jvm.MethodName)) ∈ lw_all := lw_g (lw_at lw_m10 171 rfl) rfl
theorem q2415 : (Jvm.Cond.selects "CountedSkipListsModel" ({ cls := "CountedSkipListsModel", name := "rowSize", desc := "(II)I" } : Jvm.MethodName) ({ cls := "CountedSkipListsModel", name := "rowSize", desc := "(II)I" } : Jvm.MethodName)) ∈ lw_all := lw_g (lw_at lw_m10 172 rfl) rfl
theorem q2416 : (Jvm.Cond.code ({ cls := "CountedSkipListsModel", name := "rowSize", desc := "(II)I" } : Jvm.MethodName) prog_19_method_59_code (3 : Nat) (Option.some Jvm.ClassFile.FieldType.int)) ∈ lw_all := lw_g (lw_at lw_m10 173 rfl) rfl
theorem q2417 : (Jvm.Cond.methodLink "CountedSkipListsModel" (241 : Nat) ({ cls := "CountedSkipListsModel", name := "inRow", desc := "(II)I" } : Jvm.MethodName)) ∈ lw_all := lw_g (lw_at lw_m10 174 rfl) rfl
theorem q2418 : (Jvm.Cond.privateMethod ({ cls := "CountedSkipListsModel", name := "inRow", desc := "(II)I" } : Jvm.MethodName)) ∈ lw_tbl := lw_at lw_m10 175 rfl
theorem q2419 : (Jvm.Cond.instanceMethod ({ cls := "CountedSkipListsModel", name := "inRow", desc := "(II)I" } : Jvm.MethodName)) ∈ lw_all := lw_g (lw_at lw_m10 176 rfl) rfl
theorem q2420 : (Jvm.Cond.code ({ cls := "CountedSkipListsModel", name := "inRow", desc := "(II)I" } : Jvm.MethodName) prog_19_method_32_code (6 : Nat) (Option.some Jvm.ClassFile.FieldType.int)) ∈ lw_all := lw_g (lw_at lw_m10 177 rfl) rfl
theorem q2422 : (Jvm.Cond.instanceMethod ({ cls := "CountedSkipListsModel", name := "linkWidth", desc := "(III)I" } : Jvm.MethodName)) ∈ lw_all := lw_g (lw_at lw_m10 179 rfl) rfl
theorem q2423 : (Jvm.Cond.selects "CountedSkipListsModel" ({ cls := "CountedSkipListsModel", name := "linkWidth", desc := "(III)I" } : Jvm.MethodName) ({ cls := "CountedSkipListsModel", name := "linkWidth", desc := "(III)I" } : Jvm.MethodName)) ∈ lw_all := lw_g (lw_at lw_m10 180 rfl) rfl
theorem q2424 : (Jvm.Cond.code ({ cls := "CountedSkipListsModel", name := "linkWidth", desc := "(III)I" } : Jvm.MethodName) prog_19_method_62_code (5 : Nat) (Option.some Jvm.ClassFile.FieldType.int)) ∈ lw_all := lw_g (lw_at lw_m10 181 rfl) rfl
theorem q2425 : (Jvm.Cond.methodLink "CountedSkipListsModel" (244 : Nat) ({ cls := "CountedSkipListsModel", name := "isLevel", desc := "(II)Z" } : Jvm.MethodName)) ∈ lw_all := lw_g (lw_at lw_m10 182 rfl) rfl
theorem q2426 : (Jvm.Cond.privateMethod ({ cls := "CountedSkipListsModel", name := "isLevel", desc := "(II)Z" } : Jvm.MethodName)) ∈ lw_tbl := lw_at lw_m10 183 rfl
theorem q2427 : (Jvm.Cond.instanceMethod ({ cls := "CountedSkipListsModel", name := "isLevel", desc := "(II)Z" } : Jvm.MethodName)) ∈ lw_all := lw_g (lw_at lw_m10 184 rfl) rfl
theorem q2428 : (Jvm.Cond.code ({ cls := "CountedSkipListsModel", name := "isLevel", desc := "(II)Z" } : Jvm.MethodName) prog_19_method_61_code (3 : Nat) (Option.some Jvm.ClassFile.FieldType.boolean)) ∈ lw_all := lw_g (lw_at lw_m10 185 rfl) rfl
theorem q2429 : (Jvm.Cond.methodLink "CountedSkipListsModel" (247 : Nat) ({ cls := "CountedSkipListsModel", name := "beginOf", desc := "(III)I" } : Jvm.MethodName)) ∈ lw_all := lw_g (lw_at lw_m10 186 rfl) rfl
theorem q2430 : (Jvm.Cond.privateMethod ({ cls := "CountedSkipListsModel", name := "beginOf", desc := "(III)I" } : Jvm.MethodName)) ∈ lw_tbl := lw_at lw_m10 187 rfl
theorem q2431 : (Jvm.Cond.instanceMethod ({ cls := "CountedSkipListsModel", name := "beginOf", desc := "(III)I" } : Jvm.MethodName)) ∈ lw_all := lw_g (lw_at lw_m10 188 rfl) rfl
theorem q2432 : (Jvm.Cond.code ({ cls := "CountedSkipListsModel", name := "beginOf", desc := "(III)I" } : Jvm.MethodName) prog_19_method_60_code (6 : Nat) (Option.some Jvm.ClassFile.FieldType.int)) ∈ lw_all := lw_g (lw_at lw_m10 189 rfl) rfl
theorem q2434 : (Jvm.Cond.instanceMethod ({ cls := "CountedSkipListsModel", name := "linkSum", desc := "(III)I" } : Jvm.MethodName)) ∈ lw_all := lw_g (lw_at lw_m10 191 rfl) rfl
theorem q2435 : (Jvm.Cond.selects "CountedSkipListsModel" ({ cls := "CountedSkipListsModel", name := "linkSum", desc := "(III)I" } : Jvm.MethodName) ({ cls := "CountedSkipListsModel", name := "linkSum", desc := "(III)I" } : Jvm.MethodName)) ∈ lw_all := lw_g (lw_at lw_m10 192 rfl) rfl
theorem q2436 : (Jvm.Cond.code ({ cls := "CountedSkipListsModel", name := "linkSum", desc := "(III)I" } : Jvm.MethodName) prog_19_method_63_code (8 : Nat) (Option.some Jvm.ClassFile.FieldType.int)) ∈ lw_all := lw_g (lw_at lw_m10 193 rfl) rfl
theorem q2438 : (Jvm.Cond.instanceMethod ({ cls := "CountedSkipListsModel", name := "gapSize", desc := "(III)I" } : Jvm.MethodName)) ∈ lw_all := lw_g (lw_at lw_m10 195 rfl) rfl
theorem q2439 : (Jvm.Cond.selects "CountedSkipListsModel" ({ cls := "CountedSkipListsModel", name := "gapSize", desc := "(III)I" } : Jvm.MethodName) ({ cls := "CountedSkipListsModel", name := "gapSize", desc := "(III)I" } : Jvm.MethodName)) ∈ lw_all := lw_g (lw_at lw_m10 196 rfl) rfl
theorem q2440 : (Jvm.Cond.code ({ cls := "CountedSkipListsModel", name := "gapSize", desc := "(III)I" } : Jvm.MethodName) prog_19_method_64_code (5 : Nat) (Option.some Jvm.ClassFile.FieldType.int)) ∈ lw_all := lw_g (lw_at lw_m10 197 rfl) rfl
theorem q2442 : (Jvm.Cond.instanceMethod ({ cls := "CountedSkipListsModel", name := "links", desc := "(I)I" } : Jvm.MethodName)) ∈ lw_all := lw_g (lw_at lw_m10 199 rfl) rfl
theorem q2443 : (Jvm.Cond.selects "CountedSkipListsModel" ({ cls := "CountedSkipListsModel", name := "links", desc := "(I)I" } : Jvm.MethodName) ({ cls := "CountedSkipListsModel", name := "links", desc := "(I)I" } : Jvm.MethodName)) ∈ lw_all := lw_g (lw_at lw_m10 200 rfl) rfl
theorem q2444 : (Jvm.Cond.code ({ cls := "CountedSkipListsModel", name := "links", desc := "(I)I" } : Jvm.MethodName) prog_19_method_65_code (4 : Nat) (Option.some Jvm.ClassFile.FieldType.int)) ∈ lw_all := lw_g (lw_at lw_m10 201 rfl) rfl
theorem q2446 : (Jvm.Cond.instanceMethod ({ cls := "CountedSkipListsModel", name := "steps", desc := "(II)I" } : Jvm.MethodName)) ∈ lw_all := lw_g (lw_at lw_m10 203 rfl) rfl
theorem q2447 : (Jvm.Cond.selects "CountedSkipListsModel" ({ cls := "CountedSkipListsModel", name := "steps", desc := "(II)I" } : Jvm.MethodName) ({ cls := "CountedSkipListsModel", name := "steps", desc := "(II)I" } : Jvm.MethodName)) ∈ lw_all := lw_g (lw_at lw_m10 204 rfl) rfl
theorem q2448 : (Jvm.Cond.code ({ cls := "CountedSkipListsModel", name := "steps", desc := "(II)I" } : Jvm.MethodName) prog_19_method_67_code (3 : Nat) (Option.some Jvm.ClassFile.FieldType.int)) ∈ lw_all := lw_g (lw_at lw_m10 205 rfl) rfl
theorem q2449 : (Jvm.Cond.methodLink "CountedSkipListsModel" (262 : Nat) ({ cls := "CountedSkipListsModel", name := "seeks", desc := "(III)V" } : Jvm.MethodName)) ∈ lw_all := lw_g (lw_at lw_m10 206 rfl) rfl
theorem q2450 : (Jvm.Cond.privateMethod ({ cls := "CountedSkipListsModel", name := "seeks", desc := "(III)V" } : Jvm.MethodName)) ∈ lw_tbl := lw_at lw_m10 207 rfl
theorem q2451 : (Jvm.Cond.instanceMethod ({ cls := "CountedSkipListsModel", name := "seeks", desc := "(III)V" } : Jvm.MethodName)) ∈ lw_all := lw_g (lw_at lw_m10 208 rfl) rfl
theorem q2452 : (Jvm.Cond.code ({ cls := "CountedSkipListsModel", name := "seeks", desc := "(III)V" } : Jvm.MethodName) prog_19_method_66_code (8 : Nat) (Option.none : Option Jvm.ClassFile.FieldType)) ∈ lw_all := lw_g (lw_at lw_m10 209 rfl) rfl
theorem q2454 : (Jvm.Cond.instanceMethod ({ cls := "CountedSkipListsModel", name := "looks", desc := "(II)I" } : Jvm.MethodName)) ∈ lw_all := lw_g (lw_at lw_m10 211 rfl) rfl
theorem q2455 : (Jvm.Cond.selects "CountedSkipListsModel" ({ cls := "CountedSkipListsModel", name := "looks", desc := "(II)I" } : Jvm.MethodName) ({ cls := "CountedSkipListsModel", name := "looks", desc := "(II)I" } : Jvm.MethodName)) ∈ lw_all := lw_g (lw_at lw_m10 212 rfl) rfl
theorem q2456 : (Jvm.Cond.code ({ cls := "CountedSkipListsModel", name := "looks", desc := "(II)I" } : Jvm.MethodName) prog_19_method_68_code (3 : Nat) (Option.some Jvm.ClassFile.FieldType.int)) ∈ lw_all := lw_g (lw_at lw_m10 213 rfl) rfl
theorem q2458 : (Jvm.Cond.instanceMethod ({ cls := "CountedSkipListsModel", name := "stepKey", desc := "(III)I" } : Jvm.MethodName)) ∈ lw_all := lw_g (lw_at lw_m10 215 rfl) rfl
theorem q2459 : (Jvm.Cond.selects "CountedSkipListsModel" ({ cls := "CountedSkipListsModel", name := "stepKey", desc := "(III)I" } : Jvm.MethodName) ({ cls := "CountedSkipListsModel", name := "stepKey", desc := "(III)I" } : Jvm.MethodName)) ∈ lw_all := lw_g (lw_at lw_m10 216 rfl) rfl
theorem q2460 : (Jvm.Cond.code ({ cls := "CountedSkipListsModel", name := "stepKey", desc := "(III)I" } : Jvm.MethodName) prog_19_method_70_code (4 : Nat) (Option.some Jvm.ClassFile.FieldType.int)) ∈ lw_all := lw_g (lw_at lw_m10 217 rfl) rfl
theorem q2461 : (Jvm.Cond.methodLink "CountedSkipListsModel" (265 : Nat) ({ cls := "CountedSkipListsModel", name := "isStep", desc := "(III)Z" } : Jvm.MethodName)) ∈ lw_all := lw_g (lw_at lw_m10 218 rfl) rfl
theorem q2462 : (Jvm.Cond.privateMethod ({ cls := "CountedSkipListsModel", name := "isStep", desc := "(III)Z" } : Jvm.MethodName)) ∈ lw_tbl := lw_at lw_m10 219 rfl
theorem q2463 : (Jvm.Cond.instanceMethod ({ cls := "CountedSkipListsModel", name := "isStep", desc := "(III)Z" } : Jvm.MethodName)) ∈ lw_all := lw_g (lw_at lw_m10 220 rfl) rfl
theorem q2464 : (Jvm.Cond.code ({ cls := "CountedSkipListsModel", name := "isStep", desc := "(III)Z" } : Jvm.MethodName) prog_19_method_69_code (4 : Nat) (Option.some Jvm.ClassFile.FieldType.boolean)) ∈ lw_all := lw_g (lw_at lw_m10 221 rfl) rfl
theorem q2466 : (Jvm.Cond.instanceMethod ({ cls := "CountedSkipListsModel", name := "stepLevel", desc := "(III)I" } : Jvm.MethodName)) ∈ lw_all := lw_g (lw_at lw_m10 223 rfl) rfl
theorem q2467 : (Jvm.Cond.selects "CountedSkipListsModel" ({ cls := "CountedSkipListsModel", name := "stepLevel", desc := "(III)I" } : Jvm.MethodName) ({ cls := "CountedSkipListsModel", name := "stepLevel", desc := "(III)I" } : Jvm.MethodName)) ∈ lw_all := lw_g (lw_at lw_m10 224 rfl) rfl
theorem q2468 : (Jvm.Cond.code ({ cls := "CountedSkipListsModel", name := "stepLevel", desc := "(III)I" } : Jvm.MethodName) prog_19_method_71_code (4 : Nat) (Option.some Jvm.ClassFile.FieldType.int)) ∈ lw_all := lw_g (lw_at lw_m10 225 rfl) rfl
theorem q2470 : (Jvm.Cond.instanceMethod ({ cls := "CountedSkipListsModel", name := "stepsTo", desc := "(II)I" } : Jvm.MethodName)) ∈ lw_all := lw_g (lw_at lw_m10 227 rfl) rfl
theorem q2471 : (Jvm.Cond.selects "CountedSkipListsModel" ({ cls := "CountedSkipListsModel", name := "stepsTo", desc := "(II)I" } : Jvm.MethodName) ({ cls := "CountedSkipListsModel", name := "stepsTo", desc := "(II)I" } : Jvm.MethodName)) ∈ lw_all := lw_g (lw_at lw_m10 228 rfl) rfl
theorem q2472 : (Jvm.Cond.code ({ cls := "CountedSkipListsModel", name := "stepsTo", desc := "(II)I" } : Jvm.MethodName) prog_19_method_72_code (7 : Nat) (Option.some Jvm.ClassFile.FieldType.int)) ∈ lw_all := lw_g (lw_at lw_m10 229 rfl) rfl
theorem q2474 : (Jvm.Cond.instanceMethod ({ cls := "CountedSkipListsModel", name := "farthest", desc := "(I)I" } : Jvm.MethodName)) ∈ lw_all := lw_g (lw_at lw_m10 231 rfl) rfl
theorem q2475 : (Jvm.Cond.selects "CountedSkipListsModel" ({ cls := "CountedSkipListsModel", name := "farthest", desc := "(I)I" } : Jvm.MethodName) ({ cls := "CountedSkipListsModel", name := "farthest", desc := "(I)I" } : Jvm.MethodName)) ∈ lw_all := lw_g (lw_at lw_m10 232 rfl) rfl
theorem q2476 : (Jvm.Cond.code ({ cls := "CountedSkipListsModel", name := "farthest", desc := "(I)I" } : Jvm.MethodName) prog_19_method_73_code (5 : Nat) (Option.some Jvm.ClassFile.FieldType.int)) ∈ lw_all := lw_g (lw_at lw_m10 233 rfl) rfl
theorem q2478 : (Jvm.Cond.instanceMethod ({ cls := "CountedSkipListsModel", name := "meanLooks", desc := "(I)D" } : Jvm.MethodName)) ∈ lw_all := lw_g (lw_at lw_m10 235 rfl) rfl
theorem q2479 : (Jvm.Cond.selects "CountedSkipListsModel" ({ cls := "CountedSkipListsModel", name := "meanLooks", desc := "(I)D" } : Jvm.MethodName) ({ cls := "CountedSkipListsModel", name := "meanLooks", desc := "(I)D" } : Jvm.MethodName)) ∈ lw_all := lw_g (lw_at lw_m10 236 rfl) rfl
theorem q2480 : (Jvm.Cond.code ({ cls := "CountedSkipListsModel", name := "meanLooks", desc := "(I)D" } : Jvm.MethodName) prog_19_method_74_code (5 : Nat) (Option.some Jvm.ClassFile.FieldType.double)) ∈ lw_all := lw_g (lw_at lw_m10 237 rfl) rfl
theorem q2482 : (Jvm.Cond.instanceMethod ({ cls := "CountedSkipListsModel", name := "heightIfInserted", desc := "(II)I" } : Jvm.MethodName)) ∈ lw_all := lw_g (lw_at lw_m10 239 rfl) rfl
theorem q2483 : (Jvm.Cond.selects "CountedSkipListsModel" ({ cls := "CountedSkipListsModel", name := "heightIfInserted", desc := "(II)I" } : Jvm.MethodName) ({ cls := "CountedSkipListsModel", name := "heightIfInserted", desc := "(II)I" } : Jvm.MethodName)) ∈ lw_all := lw_g (lw_at lw_m11 0 rfl) rfl
theorem q2484 : (Jvm.Cond.code ({ cls := "CountedSkipListsModel", name := "heightIfInserted", desc := "(II)I" } : Jvm.MethodName) prog_19_method_75_code (5 : Nat) (Option.some Jvm.ClassFile.FieldType.int)) ∈ lw_all := lw_g (lw_at lw_m11 1 rfl) rfl
theorem q2485 : (Jvm.Cond.methodLink "CountedSkipListsModel" (269 : Nat) ({ cls := "CountedSkipListsModel", name := "lays", desc := "()V" } : Jvm.MethodName)) ∈ lw_all := lw_g (lw_at lw_m11 2 rfl) rfl
theorem q2486 : (Jvm.Cond.privateMethod ({ cls := "CountedSkipListsModel", name := "lays", desc := "()V" } : Jvm.MethodName)) ∈ lw_tbl := lw_at lw_m11 3 rfl
theorem q2487 : (Jvm.Cond.instanceMethod ({ cls := "CountedSkipListsModel", name := "lays", desc := "()V" } : Jvm.MethodName)) ∈ lw_all := lw_g (lw_at lw_m11 4 rfl) rfl
theorem q2488 : (Jvm.Cond.code ({ cls := "CountedSkipListsModel", name := "lays", desc := "()V" } : Jvm.MethodName) prog_19_method_44_code (2 : Nat) (Option.none : Option Jvm.ClassFile.FieldType)) ∈ lw_all := lw_g (lw_at lw_m11 5 rfl) rfl
theorem q2489 : (Jvm.Cond.methodLink "CountedSkipListsModel" (272 : Nat) ({ cls := "CountedSkipListsModel", name := "puts", desc := "(III)I" } : Jvm.MethodName)) ∈ lw_all := lw_g (lw_at lw_m11 6 rfl) rfl
theorem q2490 : (Jvm.Cond.privateMethod ({ cls := "CountedSkipListsModel", name := "puts", desc := "(III)I" } : Jvm.MethodName)) ∈ lw_tbl := lw_at lw_m11 7 rfl
theorem q2491 : (Jvm.Cond.instanceMethod ({ cls := "CountedSkipListsModel", name := "puts", desc := "(III)I" } : Jvm.MethodName)) ∈ lw_all := lw_g (lw_at lw_m11 8 rfl) rfl
theorem q2492 : (Jvm.Cond.code ({ cls := "CountedSkipListsModel", name := "puts", desc := "(III)I" } : Jvm.MethodName) prog_19_method_42_code (7 : Nat) (Option.some Jvm.ClassFile.FieldType.int)) ∈ lw_all := lw_g (lw_at lw_m11 9 rfl) rfl
theorem q2493 : (Jvm.Cond.methodLink "CountedSkipListsModel" (275 : Nat) ({ cls := "CountedSkipListsModel", name := "takesBack", desc := "()V" } : Jvm.MethodName)) ∈ lw_all := lw_g (lw_at lw_m11 10 rfl) rfl
theorem q2494 : (Jvm.Cond.privateMethod ({ cls := "CountedSkipListsModel", name := "takesBack", desc := "()V" } : Jvm.MethodName)) ∈ lw_tbl := lw_at lw_m11 11 rfl
theorem q2495 : (Jvm.Cond.instanceMethod ({ cls := "CountedSkipListsModel", name := "takesBack", desc := "()V" } : Jvm.MethodName)) ∈ lw_all := lw_g (lw_at lw_m11 12 rfl) rfl
theorem q2496 : (Jvm.Cond.code ({ cls := "CountedSkipListsModel", name := "takesBack", desc := "()V" } : Jvm.MethodName) prog_19_method_45_code (2 : Nat) (Option.none : Option Jvm.ClassFile.FieldType)) ∈ lw_all := lw_g (lw_at lw_m11 13 rfl) rfl
theorem q2498 : (Jvm.Cond.instanceMethod ({ cls := "CountedSkipListsModel", name := "repairsIfRemoved", desc := "(II)I" } : Jvm.MethodName)) ∈ lw_all := lw_g (lw_at lw_m11 15 rfl) rfl
theorem q2499 : (Jvm.Cond.selects "CountedSkipListsModel" ({ cls := "CountedSkipListsModel", name := "repairsIfRemoved", desc := "(II)I" } : Jvm.MethodName) ({ cls := "CountedSkipListsModel", name := "repairsIfRemoved", desc := "(II)I" } : Jvm.MethodName)) ∈ lw_all := lw_g (lw_at lw_m11 16 rfl) rfl
theorem q2500 : (Jvm.Cond.code ({ cls := "CountedSkipListsModel", name := "repairsIfRemoved", desc := "(II)I" } : Jvm.MethodName) prog_19_method_76_code (4 : Nat) (Option.some Jvm.ClassFile.FieldType.int)) ∈ lw_all := lw_g (lw_at lw_m11 17 rfl) rfl
theorem q2501 : (Jvm.Cond.methodLink "CountedSkipListsModel" (278 : Nat) ({ cls := "CountedSkipListsModel", name := "takes", desc := "(II)V" } : Jvm.MethodName)) ∈ lw_all := lw_g (lw_at lw_m11 18 rfl) rfl
theorem q2502 : (Jvm.Cond.privateMethod ({ cls := "CountedSkipListsModel", name := "takes", desc := "(II)V" } : Jvm.MethodName)) ∈ lw_tbl := lw_at lw_m11 19 rfl
theorem q2503 : (Jvm.Cond.instanceMethod ({ cls := "CountedSkipListsModel", name := "takes", desc := "(II)V" } : Jvm.MethodName)) ∈ lw_all := lw_g (lw_at lw_m11 20 rfl) rfl
theorem q2504 : (Jvm.Cond.code ({ cls := "CountedSkipListsModel", name := "takes", desc := "(II)V" } : Jvm.MethodName) prog_19_method_43_code (5 : Nat) (Option.none : Option Jvm.ClassFile.FieldType)) ∈ lw_all := lw_g (lw_at lw_m11 21 rfl) rfl
theorem q2506 : (Jvm.Cond.instanceMethod ({ cls := "CountedSkipListsModel", name := "repairsIfLimit", desc := "(I)I" } : Jvm.MethodName)) ∈ lw_all := lw_g (lw_at lw_m11 23 rfl) rfl
theorem q2507 : (Jvm.Cond.selects "CountedSkipListsModel" ({ cls := "CountedSkipListsModel", name := "repairsIfLimit", desc := "(I)I" } : Jvm.MethodName) ({ cls := "CountedSkipListsModel", name := "repairsIfLimit", desc := "(I)I" } : Jvm.MethodName)) ∈ lw_all := lw_g (lw_at lw_m11 24 rfl) rfl
theorem q2508 : (Jvm.Cond.code ({ cls := "CountedSkipListsModel", name := "repairsIfLimit", desc := "(I)I" } : Jvm.MethodName) prog_19_method_78_code (3 : Nat) (Option.some Jvm.ClassFile.FieldType.int)) ∈ lw_all := lw_g (lw_at lw_m11 25 rfl) rfl
theorem q2509 : (Jvm.Cond.methodLink "CountedSkipListsModel" (281 : Nat) ({ cls := "CountedSkipListsModel", name := "limits", desc := "(I)V" } : Jvm.MethodName)) ∈ lw_all := lw_g (lw_at lw_m11 26 rfl) rfl
theorem q2510 : (Jvm.Cond.privateMethod ({ cls := "CountedSkipListsModel", name := "limits", desc := "(I)V" } : Jvm.MethodName)) ∈ lw_tbl := lw_at lw_m11 27 rfl
theorem q2511 : (Jvm.Cond.instanceMethod ({ cls := "CountedSkipListsModel", name := "limits", desc := "(I)V" } : Jvm.MethodName)) ∈ lw_all := lw_g (lw_at lw_m11 28 rfl) rfl
theorem q2512 : (Jvm.Cond.code ({ cls := "CountedSkipListsModel", name := "limits", desc := "(I)V" } : Jvm.MethodName) prog_19_method_77_code (3 : Nat) (Option.none : Option Jvm.ClassFile.FieldType)) ∈ lw_all := lw_g (lw_at lw_m11 29 rfl) rfl
theorem q2514 : (Jvm.Cond.instanceMethod ({ cls := "CountedSkipListsModel", name := "whyNotJoin", desc := "(II)I" } : Jvm.MethodName)) ∈ lw_all := lw_g (lw_at lw_m11 31 rfl) rfl
theorem q2515 : (Jvm.Cond.selects "CountedSkipListsModel" ({ cls := "CountedSkipListsModel", name := "whyNotJoin", desc := "(II)I" } : Jvm.MethodName) ({ cls := "CountedSkipListsModel", name := "whyNotJoin", desc := "(II)I" } : Jvm.MethodName)) ∈ lw_all := lw_g (lw_at lw_m11 32 rfl) rfl
theorem q2516 : (Jvm.Cond.code ({ cls := "CountedSkipListsModel", name := "whyNotJoin", desc := "(II)I" } : Jvm.MethodName) prog_19_method_82_code (3 : Nat) (Option.some Jvm.ClassFile.FieldType.int)) ∈ lw_all := lw_g (lw_at lw_m11 33 rfl) rfl
theorem q2517 : (Jvm.Cond.methodLink "CountedSkipListsModel" (284 : Nat) ({ cls := "CountedSkipListsModel", name := "areBoth", desc := "(II)Z" } : Jvm.MethodName)) ∈ lw_all := lw_g (lw_at lw_m11 34 rfl) rfl
theorem q2518 : (Jvm.Cond.privateMethod ({ cls := "CountedSkipListsModel", name := "areBoth", desc := "(II)Z" } : Jvm.MethodName)) ∈ lw_tbl := lw_at lw_m11 35 rfl
theorem q2519 : (Jvm.Cond.instanceMethod ({ cls := "CountedSkipListsModel", name := "areBoth", desc := "(II)Z" } : Jvm.MethodName)) ∈ lw_all := lw_g (lw_at lw_m11 36 rfl) rfl
theorem q2520 : (Jvm.Cond.code ({ cls := "CountedSkipListsModel", name := "areBoth", desc := "(II)Z" } : Jvm.MethodName) prog_19_method_79_code (3 : Nat) (Option.some Jvm.ClassFile.FieldType.boolean)) ∈ lw_all := lw_g (lw_at lw_m11 37 rfl) rfl
theorem q2521 : (Jvm.Cond.methodLink "CountedSkipListsModel" (287 : Nat) ({ cls := "CountedSkipListsModel", name := "againstJoin", desc := "(II)I" } : Jvm.MethodName)) ∈ lw_all := lw_g (lw_at lw_m11 38 rfl) rfl
theorem q2522 : (Jvm.Cond.privateMethod ({ cls := "CountedSkipListsModel", name := "againstJoin", desc := "(II)I" } : Jvm.MethodName)) ∈ lw_tbl := lw_at lw_m11 39 rfl
theorem q2523 : (Jvm.Cond.instanceMethod ({ cls := "CountedSkipListsModel", name := "againstJoin", desc := "(II)I" } : Jvm.MethodName)) ∈ lw_all := lw_g (lw_at lw_m11 40 rfl) rfl
theorem q2524 : (Jvm.Cond.code ({ cls := "CountedSkipListsModel", name := "againstJoin", desc := "(II)I" } : Jvm.MethodName) prog_19_method_80_code (5 : Nat) (Option.some Jvm.ClassFile.FieldType.int)) ∈ lw_all := lw_g (lw_at lw_m11 41 rfl) rfl
theorem q2526 : (Jvm.Cond.instanceMethod ({ cls := "CountedSkipListsModel", name := "whyNotAbsorb", desc := "(II)I" } : Jvm.MethodName)) ∈ lw_all := lw_g (lw_at lw_m11 43 rfl) rfl
theorem q2527 : (Jvm.Cond.selects "CountedSkipListsModel" ({ cls := "CountedSkipListsModel", name := "whyNotAbsorb", desc := "(II)I" } : Jvm.MethodName) ({ cls := "CountedSkipListsModel", name := "whyNotAbsorb", desc := "(II)I" } : Jvm.MethodName)) ∈ lw_all := lw_g (lw_at lw_m11 44 rfl) rfl
theorem q2528 : (Jvm.Cond.code ({ cls := "CountedSkipListsModel", name := "whyNotAbsorb", desc := "(II)I" } : Jvm.MethodName) prog_19_method_83_code (3 : Nat) (Option.some Jvm.ClassFile.FieldType.int)) ∈ lw_all := lw_g (lw_at lw_m11 45 rfl) rfl
theorem q2529 : (Jvm.Cond.methodLink "CountedSkipListsModel" (290 : Nat) ({ cls := "CountedSkipListsModel", name := "againstAbsorb", desc := "(II)I" } : Jvm.MethodName)) ∈ lw_all := lw_g (lw_at lw_m11 46 rfl) rfl
theorem q2530 : (Jvm.Cond.privateMethod ({ cls := "CountedSkipListsModel", name := "againstAbsorb", desc := "(II)I" } : Jvm.MethodName)) ∈ lw_tbl := lw_at lw_m11 47 rfl
theorem q2531 : (Jvm.Cond.instanceMethod ({ cls := "CountedSkipListsModel", name := "againstAbsorb", desc := "(II)I" } : Jvm.MethodName)) ∈ lw_all := lw_g (lw_at lw_m11 48 rfl) rfl
theorem q2532 : (Jvm.Cond.code ({ cls := "CountedSkipListsModel", name := "againstAbsorb", desc := "(II)I" } : Jvm.MethodName) prog_19_method_81_code (5 : Nat) (Option.some Jvm.ClassFile.FieldType.int)) ∈ lw_all := lw_g (lw_at lw_m11 49 rfl) rfl
theorem q2534 : (Jvm.Cond.instanceMethod ({ cls := "CountedSkipListsModel", name := "logSize", desc := "()I" } : Jvm.MethodName)) ∈ lw_all := lw_g (lw_at lw_m11 51 rfl) rfl
theorem q2535 : (Jvm.Cond.selects "CountedSkipListsModel" ({ cls := "CountedSkipListsModel", name := "logSize", desc := "()I" } : Jvm.MethodName) ({ cls := "CountedSkipListsModel", name := "logSize", desc := "()I" } : Jvm.MethodName)) ∈ lw_all := lw_g (lw_at lw_m11 52 rfl) rfl
theorem q2536 : (Jvm.Cond.code ({ cls := "CountedSkipListsModel", name := "logSize", desc := "()I" } : Jvm.MethodName) prog_19_method_84_code (1 : Nat) (Option.some Jvm.ClassFile.FieldType.int)) ∈ lw_all := lw_g (lw_at lw_m11 53 rfl) rfl
theorem q2538 : (Jvm.Cond.instanceMethod ({ cls := "CountedSkipListsModel", name := "logKind", desc := "(I)I" } : Jvm.MethodName)) ∈ lw_all := lw_g (lw_at lw_m11 55 rfl) rfl
theorem q2539 : (Jvm.Cond.selects "CountedSkipListsModel" ({ cls := "CountedSkipListsModel", name := "logKind", desc := "(I)I" } : Jvm.MethodName) ({ cls := "CountedSkipListsModel", name := "logKind", desc := "(I)I" } : Jvm.MethodName)) ∈ lw_all := lw_g (lw_at lw_m11 56 rfl) rfl
theorem q2540 : (Jvm.Cond.code ({ cls := "CountedSkipListsModel", name := "logKind", desc := "(I)I" } : Jvm.MethodName) prog_19_method_86_code (2 : Nat) (Option.some Jvm.ClassFile.FieldType.int)) ∈ lw_all := lw_g (lw_at lw_m11 57 rfl) rfl
theorem q2541 : (Jvm.Cond.methodLink "CountedSkipListsModel" (293 : Nat) ({ cls := "CountedSkipListsModel", name := "entryAt", desc := "(II)I" } : Jvm.MethodName)) ∈ lw_all := lw_g (lw_at lw_m11 58 rfl) rfl
theorem q2542 : (Jvm.Cond.privateMethod ({ cls := "CountedSkipListsModel", name := "entryAt", desc := "(II)I" } : Jvm.MethodName)) ∈ lw_tbl := lw_at lw_m11 59 rfl
theorem q2543 : (Jvm.Cond.instanceMethod ({ cls := "CountedSkipListsModel", name := "entryAt", desc := "(II)I" } : Jvm.MethodName)) ∈ lw_all := lw_g (lw_at lw_m11 60 rfl) rfl
theorem q2544 : (Jvm.Cond.code ({ cls := "CountedSkipListsModel", name := "entryAt", desc := "(II)I" } : Jvm.MethodName) prog_19_method_85_code (3 : Nat) (Option.some Jvm.ClassFile.FieldType.int)) ∈ lw_all := lw_g (lw_at lw_m11 61 rfl) rfl
theorem q2546 : (Jvm.Cond.instanceMethod ({ cls := "CountedSkipListsModel", name := "logLevel", desc := "(I)I" } : Jvm.MethodName)) ∈ lw_all := lw_g (lw_at lw_m11 63 rfl) rfl
theorem q2547 : (Jvm.Cond.selects "CountedSkipListsModel" ({ cls := "CountedSkipListsModel", name := "logLevel", desc := "(I)I" } : Jvm.MethodName) ({ cls := "CountedSkipListsModel", name := "logLevel", desc := "(I)I" } : Jvm.MethodName)) ∈ lw_all := lw_g (lw_at lw_m11 64 rfl) rfl
theorem q2548 : (Jvm.Cond.code ({ cls := "CountedSkipListsModel", name := "logLevel", desc := "(I)I" } : Jvm.MethodName) prog_19_method_87_code (2 : Nat) (Option.some Jvm.ClassFile.FieldType.int)) ∈ lw_all := lw_g (lw_at lw_m11 65 rfl) rfl
theorem q2550 : (Jvm.Cond.instanceMethod ({ cls := "CountedSkipListsModel", name := "logKey", desc := "(I)I" } : Jvm.MethodName)) ∈ lw_all := lw_g (lw_at lw_m11 67 rfl) rfl
theorem q2551 : (Jvm.Cond.selects "CountedSkipListsModel" ({ cls := "CountedSkipListsModel", name := "logKey", desc := "(I)I" } : Jvm.MethodName) ({ cls := "CountedSkipListsModel", name := "logKey", desc := "(I)I" } : Jvm.MethodName)) ∈ lw_all := lw_g (lw_at lw_m11 68 rfl) rfl
theorem q2552 : (Jvm.Cond.code ({ cls := "CountedSkipListsModel", name := "logKey", desc := "(I)I" } : Jvm.MethodName) prog_19_method_88_code (2 : Nat) (Option.some Jvm.ClassFile.FieldType.int)) ∈ lw_all := lw_g (lw_at lw_m11 69 rfl) rfl
theorem q2554 : (Jvm.Cond.instanceMethod ({ cls := "CountedSkipListsModel", name := "counter", desc := "(I)I" } : Jvm.MethodName)) ∈ lw_all := lw_g (lw_at lw_m11 71 rfl) rfl
theorem q2555 : (Jvm.Cond.selects "CountedSkipListsModel" ({ cls := "CountedSkipListsModel", name := "counter", desc := "(I)I" } : Jvm.MethodName) ({ cls := "CountedSkipListsModel", name := "counter", desc := "(I)I" } : Jvm.MethodName)) ∈ lw_all := lw_g (lw_at lw_m11 72 rfl) rfl
theorem q2556 : (Jvm.Cond.code ({ cls := "CountedSkipListsModel", name := "counter", desc := "(I)I" } : Jvm.MethodName) prog_19_method_89_code (2 : Nat) (Option.some Jvm.ClassFile.FieldType.int)) ∈ lw_all := lw_g (lw_at lw_m11 73 rfl) rfl
theorem q2558 : (Jvm.Cond.instanceMethod ({ cls := "CountedSkipListsModel", name := "create", desc := "()I" } : Jvm.MethodName)) ∈ lw_all := lw_g (lw_at lw_m11 75 rfl) rfl
theorem q2559 : (Jvm.Cond.selects "CountedSkipListsModel" ({ cls := "CountedSkipListsModel", name := "create", desc := "()I" } : Jvm.MethodName) ({ cls := "CountedSkipListsModel", name := "create", desc := "()I" } : Jvm.MethodName)) ∈ lw_all := lw_g (lw_at lw_m11 76 rfl) rfl
theorem q2560 : (Jvm.Cond.code ({ cls := "CountedSkipListsModel", name := "create", desc := "()I" } : Jvm.MethodName) prog_19_method_94_code (2 : Nat) (Option.some Jvm.ClassFile.FieldType.int)) ∈ lw_all := lw_g (lw_at lw_m11 77 rfl) rfl
theorem q2561 : (Jvm.Cond.methodLink "CountedSkipListsModel" (296 : Nat) ({ cls := "CountedSkipListsModel", name := "spare", desc := "()I" } : Jvm.MethodName)) ∈ lw_all := lw_g (lw_at lw_m11 78 rfl) rfl
theorem q2562 : (Jvm.Cond.privateMethod ({ cls := "CountedSkipListsModel", name := "spare", desc := "()I" } : Jvm.MethodName)) ∈ lw_tbl := lw_at lw_m11 79 rfl
theorem q2563 : (Jvm.Cond.instanceMethod ({ cls := "CountedSkipListsModel", name := "spare", desc := "()I" } : Jvm.MethodName)) ∈ lw_all := lw_g (lw_at lw_m11 80 rfl) rfl
theorem q2564 : (Jvm.Cond.code ({ cls := "CountedSkipListsModel", name := "spare", desc := "()I" } : Jvm.MethodName) prog_19_method_91_code (2 : Nat) (Option.some Jvm.ClassFile.FieldType.int)) ∈ lw_all := lw_g (lw_at lw_m11 81 rfl) rfl
theorem q2565 : (Jvm.Cond.methodLink "CountedSkipListsModel" (299 : Nat) ({ cls := "CountedSkipListsModel", name := "keeps", desc := "()V" } : Jvm.MethodName)) ∈ lw_all := lw_g (lw_at lw_m11 82 rfl) rfl
theorem q2566 : (Jvm.Cond.privateMethod ({ cls := "CountedSkipListsModel", name := "keeps", desc := "()V" } : Jvm.MethodName)) ∈ lw_tbl := lw_at lw_m11 83 rfl
theorem q2567 : (Jvm.Cond.instanceMethod ({ cls := "CountedSkipListsModel", name := "keeps", desc := "()V" } : Jvm.MethodName)) ∈ lw_all := lw_g (lw_at lw_m11 84 rfl) rfl
theorem q2568 : (Jvm.Cond.code ({ cls := "CountedSkipListsModel", name := "keeps", desc := "()V" } : Jvm.MethodName) prog_19_method_90_code (2 : Nat) (Option.none : Option Jvm.ClassFile.FieldType)) ∈ lw_all := lw_g (lw_at lw_m11 85 rfl) rfl
theorem q2569 : (Jvm.Cond.methodLink "CountedSkipListsModel" (302 : Nat) ({ cls := "CountedSkipListsModel", name := "begins", desc := "(I)V" } : Jvm.MethodName)) ∈ lw_all := lw_g (lw_at lw_m11 86 rfl) rfl
theorem q2570 : (Jvm.Cond.privateMethod ({ cls := "CountedSkipListsModel", name := "begins", desc := "(I)V" } : Jvm.MethodName)) ∈ lw_tbl := lw_at lw_m11 87 rfl
theorem q2571 : (Jvm.Cond.instanceMethod ({ cls := "CountedSkipListsModel", name := "begins", desc := "(I)V" } : Jvm.MethodName)) ∈ lw_all := lw_g (lw_at lw_m11 88 rfl) rfl
theorem q2572 : (Jvm.Cond.code ({ cls := "CountedSkipListsModel", name := "begins", desc := "(I)V" } : Jvm.MethodName) prog_19_method_92_code (4 : Nat) (Option.none : Option Jvm.ClassFile.FieldType)) ∈ lw_all := lw_g (lw_at lw_m11 89 rfl) rfl
theorem q2574 : (Jvm.Cond.instanceMethod ({ cls := "CountedSkipListsModel", name := "drop", desc := "(I)I" } : Jvm.MethodName)) ∈ lw_all := lw_g (lw_at lw_m11 91 rfl) rfl
theorem q2575 : (Jvm.Cond.selects "CountedSkipListsModel" ({ cls := "CountedSkipListsModel", name := "drop", desc := "(I)I" } : Jvm.MethodName) ({ cls := "CountedSkipListsModel", name := "drop", desc := "(I)I" } : Jvm.MethodName)) ∈ lw_all := lw_g (lw_at lw_m11 92 rfl) rfl
theorem q2576 : (Jvm.Cond.code ({ cls := "CountedSkipListsModel", name := "drop", desc := "(I)I" } : Jvm.MethodName) prog_19_method_95_code (3 : Nat) (Option.some Jvm.ClassFile.FieldType.int)) ∈ lw_all := lw_g (lw_at lw_m11 93 rfl) rfl
theorem q2577 : (Jvm.Cond.methodLink "CountedSkipListsModel" (305 : Nat) ({ cls := "CountedSkipListsModel", name := "ends", desc := "(I)V" } : Jvm.MethodName)) ∈ lw_all := lw_g (lw_at lw_m11 94 rfl) rfl
theorem q2578 : (Jvm.Cond.privateMethod ({ cls := "CountedSkipListsModel", name := "ends", desc := "(I)V" } : Jvm.MethodName)) ∈ lw_tbl := lw_at lw_m11 95 rfl
theorem q2579 : (Jvm.Cond.instanceMethod ({ cls := "CountedSkipListsModel", name := "ends", desc := "(I)V" } : Jvm.MethodName)) ∈ lw_all := lw_g (lw_at lw_m11 96 rfl) rfl
theorem q2580 : (Jvm.Cond.code ({ cls := "CountedSkipListsModel", name := "ends", desc := "(I)V" } : Jvm.MethodName) prog_19_method_93_code (2 : Nat) (Option.none : Option Jvm.ClassFile.FieldType)) ∈ lw_all := lw_g (lw_at lw_m11 97 rfl) rfl
theorem q2582 : (Jvm.Cond.instanceMethod ({ cls := "CountedSkipListsModel", name := "insert", desc := "(III)I" } : Jvm.MethodName)) ∈ lw_all := lw_g (lw_at lw_m11 99 rfl) rfl
theorem q2583 : (Jvm.Cond.selects "CountedSkipListsModel" ({ cls := "CountedSkipListsModel", name := "insert", desc := "(III)I" } : Jvm.MethodName) ({ cls := "CountedSkipListsModel", name := "insert", desc := "(III)I" } : Jvm.MethodName)) ∈ lw_all := lw_g (lw_at lw_m11 100 rfl) rfl
theorem q2584 : (Jvm.Cond.code ({ cls := "CountedSkipListsModel", name := "insert", desc := "(III)I" } : Jvm.MethodName) prog_19_method_96_code (4 : Nat) (Option.some Jvm.ClassFile.FieldType.int)) ∈ lw_all := lw_g (lw_at lw_m11 101 rfl) rfl
theorem q2586 : (Jvm.Cond.instanceMethod ({ cls := "CountedSkipListsModel", name := "remove", desc := "(II)I" } : Jvm.MethodName)) ∈ lw_all := lw_g (lw_at lw_m11 103 rfl) rfl
theorem q2587 : (Jvm.Cond.selects "CountedSkipListsModel" ({ cls := "CountedSkipListsModel", name := "remove", desc := "(II)I" } : Jvm.MethodName) ({ cls := "CountedSkipListsModel", name := "remove", desc := "(II)I" } : Jvm.MethodName)) ∈ lw_all := lw_g (lw_at lw_m11 104 rfl) rfl
theorem q2588 : (Jvm.Cond.code ({ cls := "CountedSkipListsModel", name := "remove", desc := "(II)I" } : Jvm.MethodName) prog_19_method_97_code (5 : Nat) (Option.some Jvm.ClassFile.FieldType.int)) ∈ lw_all := lw_g (lw_at lw_m11 105 rfl) rfl
theorem q2590 : (Jvm.Cond.instanceMethod ({ cls := "CountedSkipListsModel", name := "setValue", desc := "(III)I" } : Jvm.MethodName)) ∈ lw_all := lw_g (lw_at lw_m11 107 rfl) rfl
theorem q2591 : (Jvm.Cond.selects "CountedSkipListsModel" ({ cls := "CountedSkipListsModel", name := "setValue", desc := "(III)I" } : Jvm.MethodName) ({ cls := "CountedSkipListsModel", name := "setValue", desc := "(III)I" } : Jvm.MethodName)) ∈ lw_all := lw_g (lw_at lw_m11 108 rfl) rfl
theorem q2592 : (Jvm.Cond.code ({ cls := "CountedSkipListsModel", name := "setValue", desc := "(III)I" } : Jvm.MethodName) prog_19_method_98_code (6 : Nat) (Option.some Jvm.ClassFile.FieldType.int)) ∈ lw_all := lw_g (lw_at lw_m11 109 rfl) rfl
theorem q2594 : (Jvm.Cond.instanceMethod ({ cls := "CountedSkipListsModel", name := "split", desc := "(II)I" } : Jvm.MethodName)) ∈ lw_all := lw_g (lw_at lw_m11 111 rfl) rfl
theorem q2595 : (Jvm.Cond.selects "CountedSkipListsModel" ({ cls := "CountedSkipListsModel", name := "split", desc := "(II)I" } : Jvm.MethodName) ({ cls := "CountedSkipListsModel", name := "split", desc := "(II)I" } : Jvm.MethodName)) ∈ lw_all := lw_g (lw_at lw_m11 112 rfl) rfl
theorem q2596 : (Jvm.Cond.code ({ cls := "CountedSkipListsModel", name := "split", desc := "(II)I" } : Jvm.MethodName) prog_19_method_101_code (4 : Nat) (Option.some Jvm.ClassFile.FieldType.int)) ∈ lw_all := lw_g (lw_at lw_m11 113 rfl) rfl
theorem q2597 : (Jvm.Cond.methodLink "CountedSkipListsModel" (308 : Nat) ({ cls := "CountedSkipListsModel", name := "moves", desc := "(III)V" } : Jvm.MethodName)) ∈ lw_all := lw_g (lw_at lw_m11 114 rfl) rfl
theorem q2598 : (Jvm.Cond.privateMethod ({ cls := "CountedSkipListsModel", name := "moves", desc := "(III)V" } : Jvm.MethodName)) ∈ lw_tbl := lw_at lw_m11 115 rfl
theorem q2599 : (Jvm.Cond.instanceMethod ({ cls := "CountedSkipListsModel", name := "moves", desc := "(III)V" } : Jvm.MethodName)) ∈ lw_all := lw_g (lw_at lw_m11 116 rfl) rfl
theorem q2600 : (Jvm.Cond.code ({ cls := "CountedSkipListsModel", name := "moves", desc := "(III)V" } : Jvm.MethodName) prog_19_method_99_code (8 : Nat) (Option.none : Option Jvm.ClassFile.FieldType)) ∈ lw_all := lw_g (lw_at lw_m11 117 rfl) rfl
theorem q2602 : (Jvm.Cond.instanceMethod ({ cls := "CountedSkipListsModel", name := "cut", desc := "(III)I" } : Jvm.MethodName)) ∈ lw_all := lw_g (lw_at lw_m11 119 rfl) rfl
theorem q2603 : (Jvm.Cond.selects "CountedSkipListsModel" ({ cls := "CountedSkipListsModel", name := "cut", desc := "(III)I" } : Jvm.MethodName) ({ cls := "CountedSkipListsModel", name := "cut", desc := "(III)I" } : Jvm.MethodName)) ∈ lw_all := lw_g (lw_at lw_m11 120 rfl) rfl
theorem q2604 : (Jvm.Cond.code ({ cls := "CountedSkipListsModel", name := "cut", desc := "(III)I" } : Jvm.MethodName) prog_19_method_102_code (9 : Nat) (Option.some Jvm.ClassFile.FieldType.int)) ∈ lw_all := lw_g (lw_at lw_m11 121 rfl) rfl
theorem q2606 : (Jvm.Cond.instanceMethod ({ cls := "CountedSkipListsModel", name := "join", desc := "(II)I" } : Jvm.MethodName)) ∈ lw_all := lw_g (lw_at lw_m11 123 rfl) rfl
theorem q2607 : (Jvm.Cond.selects "CountedSkipListsModel" ({ cls := "CountedSkipListsModel", name := "join", desc := "(II)I" } : Jvm.MethodName) ({ cls := "CountedSkipListsModel", name := "join", desc := "(II)I" } : Jvm.MethodName)) ∈ lw_all := lw_g (lw_at lw_m11 124 rfl) rfl
theorem q2608 : (Jvm.Cond.code ({ cls := "CountedSkipListsModel", name := "join", desc := "(II)I" } : Jvm.MethodName) prog_19_method_103_code (3 : Nat) (Option.some Jvm.ClassFile.FieldType.int)) ∈ lw_all := lw_g (lw_at lw_m11 125 rfl) rfl
theorem q2609 : (Jvm.Cond.methodLink "CountedSkipListsModel" (311 : Nat) ({ cls := "CountedSkipListsModel", name := "appends", desc := "(II)V" } : Jvm.MethodName)) ∈ lw_all := lw_g (lw_at lw_m11 126 rfl) rfl
theorem q2610 : (Jvm.Cond.privateMethod ({ cls := "CountedSkipListsModel", name := "appends", desc := "(II)V" } : Jvm.MethodName)) ∈ lw_tbl := lw_at lw_m11 127 rfl
theorem q2611 : (Jvm.Cond.instanceMethod ({ cls := "CountedSkipListsModel", name := "appends", desc := "(II)V" } : Jvm.MethodName)) ∈ lw_all := lw_g (lw_at lw_m11 128 rfl) rfl
theorem q2612 : (Jvm.Cond.code ({ cls := "CountedSkipListsModel", name := "appends", desc := "(II)V" } : Jvm.MethodName) prog_19_method_100_code (7 : Nat) (Option.none : Option Jvm.ClassFile.FieldType)) ∈ lw_all := lw_g (lw_at lw_m11 129 rfl) rfl
theorem q2614 : (Jvm.Cond.instanceMethod ({ cls := "CountedSkipListsModel", name := "absorb", desc := "(II)I" } : Jvm.MethodName)) ∈ lw_all := lw_g (lw_at lw_m11 131 rfl) rfl
theorem q2615 : (Jvm.Cond.selects "CountedSkipListsModel" ({ cls := "CountedSkipListsModel", name := "absorb", desc := "(II)I" } : Jvm.MethodName) ({ cls := "CountedSkipListsModel", name := "absorb", desc := "(II)I" } : Jvm.MethodName)) ∈ lw_all := lw_g (lw_at lw_m11 132 rfl) rfl
theorem q2616 : (Jvm.Cond.code ({ cls := "CountedSkipListsModel", name := "absorb", desc := "(II)I" } : Jvm.MethodName) prog_19_method_104_code (7 : Nat) (Option.some Jvm.ClassFile.FieldType.int)) ∈ lw_all := lw_g (lw_at lw_m11 133 rfl) rfl
theorem q2618 : (Jvm.Cond.instanceMethod ({ cls := "CountedSkipListsModel", name := "level", desc := "(I)I" } : Jvm.MethodName)) ∈ lw_all := lw_g (lw_at lw_m11 135 rfl) rfl
theorem q2619 : (Jvm.Cond.selects "CountedSkipListsModel" ({ cls := "CountedSkipListsModel", name := "level", desc := "(I)I" } : Jvm.MethodName) ({ cls := "CountedSkipListsModel", name := "level", desc := "(I)I" } : Jvm.MethodName)) ∈ lw_all := lw_g (lw_at lw_m11 136 rfl) rfl
theorem q2620 : (Jvm.Cond.code ({ cls := "CountedSkipListsModel", name := "level", desc := "(I)I" } : Jvm.MethodName) prog_19_method_105_code (2 : Nat) (Option.some Jvm.ClassFile.FieldType.int)) ∈ lw_all := lw_g (lw_at lw_m11 137 rfl) rfl
theorem q2622 : (Jvm.Cond.instanceMethod ({ cls := "CountedSkipListsModel", name := "setLimit", desc := "(I)I" } : Jvm.MethodName)) ∈ lw_all := lw_g (lw_at lw_m11 139 rfl) rfl
theorem q2623 : (Jvm.Cond.selects "CountedSkipListsModel" ({ cls := "CountedSkipListsModel", name := "setLimit", desc := "(I)I" } : Jvm.MethodName) ({ cls := "CountedSkipListsModel", name := "setLimit", desc := "(I)I" } : Jvm.MethodName)) ∈ lw_all := lw_g (lw_at lw_m11 140 rfl) rfl
theorem q2624 : (Jvm.Cond.code ({ cls := "CountedSkipListsModel", name := "setLimit", desc := "(I)I" } : Jvm.MethodName) prog_19_method_106_code (3 : Nat) (Option.some Jvm.ClassFile.FieldType.int)) ∈ lw_all := lw_g (lw_at lw_m11 141 rfl) rfl
theorem q2626 : (Jvm.Cond.instanceMethod ({ cls := "CountedSkipListsModel", name := "undo", desc := "()I" } : Jvm.MethodName)) ∈ lw_all := lw_g (lw_at lw_m11 143 rfl) rfl
theorem q2627 : (Jvm.Cond.selects "CountedSkipListsModel" ({ cls := "CountedSkipListsModel", name := "undo", desc := "()I" } : Jvm.MethodName) ({ cls := "CountedSkipListsModel", name := "undo", desc := "()I" } : Jvm.MethodName)) ∈ lw_all := lw_g (lw_at lw_m11 144 rfl) rfl
theorem q2628 : (Jvm.Cond.code ({ cls := "CountedSkipListsModel", name := "undo", desc := "()I" } : Jvm.MethodName) prog_19_method_107_code (2 : Nat) (Option.some Jvm.ClassFile.FieldType.int)) ∈ lw_all := lw_g (lw_at lw_m11 145 rfl) rfl
theorem q2630 : (Jvm.Cond.instanceMethod ({ cls := "CountedSkipListsModel", name := "save", desc := "(I)V" } : Jvm.MethodName)) ∈ lw_all := lw_g (lw_at lw_m11 147 rfl) rfl
theorem q2631 : (Jvm.Cond.selects "CountedSkipListsModel" ({ cls := "CountedSkipListsModel", name := "save", desc := "(I)V" } : Jvm.MethodName) ({ cls := "CountedSkipListsModel", name := "save", desc := "(I)V" } : Jvm.MethodName)) ∈ lw_all := lw_g (lw_at lw_m11 148 rfl) rfl
theorem q2632 : (Jvm.Cond.code ({ cls := "CountedSkipListsModel", name := "save", desc := "(I)V" } : Jvm.MethodName) prog_19_method_108_code (3 : Nat) (Option.none : Option Jvm.ClassFile.FieldType)) ∈ lw_all := lw_g (lw_at lw_m11 149 rfl) rfl
theorem q2634 : (Jvm.Cond.instanceMethod ({ cls := "CountedSkipListsModel", name := "restore", desc := "(I)V" } : Jvm.MethodName)) ∈ lw_all := lw_g (lw_at lw_m11 151 rfl) rfl
theorem q2635 : (Jvm.Cond.selects "CountedSkipListsModel" ({ cls := "CountedSkipListsModel", name := "restore", desc := "(I)V" } : Jvm.MethodName) ({ cls := "CountedSkipListsModel", name := "restore", desc := "(I)V" } : Jvm.MethodName)) ∈ lw_all := lw_g (lw_at lw_m11 152 rfl) rfl
theorem q2636 : (Jvm.Cond.code ({ cls := "CountedSkipListsModel", name := "restore", desc := "(I)V" } : Jvm.MethodName) prog_19_method_109_code (3 : Nat) (Option.none : Option Jvm.ClassFile.FieldType)) ∈ lw_all := lw_g (lw_at lw_m11 153 rfl) rfl
theorem q2666 : (Jvm.Cond.castable "CountedSkipListsModel" "java/lang/Object") ∈ lw_tbl := lw_at lw_m11 183 rfl
theorem in_X4 : ∀ w ∈ wsX40, w ∈ lw_all := lw_in wsX40 [2130, 2132, 2134, 2136, 2138, 2140, 2142, 2144, 2146, 2148, 2150, 2152, 2154, 2156, 2158, 2160, 2162, 2164, 2166, 2168, 2170, 2172, 2174, 2176, 2178, 2180, 2182, 2184, 2186, 2188, 2190] (by decide +kernel) (by decide +kernel)

