/-! CountedSkipListsLaw -/
set_option maxRecDepth 100000
def RX0 : String := "CountedSkipListsLaw"
abbrev cX0_append : ByteArray := method_3_code
def yX0_append : MethodName := ⟨RX0, "append", "(LCountedSkipLists;IIIII[J)I"⟩
def dkwX0_append_1 : List UInt8 := [172]
abbrev dktX0_append_1 : List UInt8 := dkwX0_append_1 ++ []
def dkwX0_append_0 : List UInt8 := [25, 6, 3, 42, 27, 28, 29, 21, 4, 21, 5, 182, 0, 7, 133, 80, 167, 0, 7, 58, 7, 4, 172, 3]
abbrev dktX0_append_0 : List UInt8 := dkwX0_append_0 ++ dktX0_append_1
theorem dksX0_append_0 : cX0_append.data.toList.drop 0 = dktX0_append_0 := by decide +kernel
theorem dksX0_append_1 : cX0_append.data.toList.drop 24 = dktX0_append_1 := dk_seg dksX0_append_0 24 rfl rfl
theorem dX0_append_0 : decode cX0_append 0 = .ok (.aload 6, 2) := dk_25 6 (dk_at dksX0_append_0 0 rfl rfl)
theorem dX0_append_2 : decode cX0_append 2 = .ok (.iconst 0, 1) := dk_3 (dk_at dksX0_append_0 2 rfl rfl)
theorem dX0_append_3 : decode cX0_append 3 = .ok (.aload_n 0, 1) := dk_42 (dk_at dksX0_append_0 3 rfl rfl)
theorem dX0_append_4 : decode cX0_append 4 = .ok (.iload_n 1, 1) := dk_27 (dk_at dksX0_append_0 4 rfl rfl)
theorem dX0_append_5 : decode cX0_append 5 = .ok (.iload_n 2, 1) := dk_28 (dk_at dksX0_append_0 5 rfl rfl)
theorem dX0_append_6 : decode cX0_append 6 = .ok (.iload_n 3, 1) := dk_29 (dk_at dksX0_append_0 6 rfl rfl)
theorem dX0_append_7 : decode cX0_append 7 = .ok (.iload 4, 2) := dk_21 4 (dk_at dksX0_append_0 7 rfl rfl)
theorem dX0_append_9 : decode cX0_append 9 = .ok (.iload 5, 2) := dk_21 5 (dk_at dksX0_append_0 9 rfl rfl)
theorem dX0_append_11 : decode cX0_append 11 = .ok (.invokevirtual 7, 3) := dk_182 0 7 (dk_at dksX0_append_0 11 rfl rfl)
theorem dX0_append_14 : decode cX0_append 14 = .ok (.i2l, 1) := dk_133 (dk_at dksX0_append_0 14 rfl rfl)
theorem dX0_append_15 : decode cX0_append 15 = .ok (.lastore, 1) := dk_80 (dk_at dksX0_append_0 15 rfl rfl)
theorem dX0_append_16 : decode cX0_append 16 = .ok (.goto 7, 3) := dk_167 0 7 (dk_at dksX0_append_0 16 rfl rfl)
theorem dX0_append_19 : decode cX0_append 19 = .ok (.astore 7, 2) := dk_58 7 (dk_at dksX0_append_0 19 rfl rfl)
theorem dX0_append_21 : decode cX0_append 21 = .ok (.iconst 1, 1) := dk_4 (dk_at dksX0_append_0 21 rfl rfl)
theorem dX0_append_22 : decode cX0_append 22 = .ok (.ireturn, 1) := dk_172 (dk_at dksX0_append_0 22 rfl rfl)
theorem dX0_append_23 : decode cX0_append 23 = .ok (.iconst 0, 1) := dk_3 (dk_at dksX0_append_0 23 rfl rfl)
theorem dX0_append_24 : decode cX0_append 24 = .ok (.ireturn, 1) := dk_172 (dk_at dksX0_append_1 0 rfl rfl)
abbrev cX0_truncate : ByteArray := method_4_code
def yX0_truncate : MethodName := ⟨RX0, "truncate", "(LCountedSkipLists;I[J)I"⟩
def dkwX0_truncate_0 : List UInt8 := [44, 3, 42, 27, 182, 0, 15, 133, 80, 167, 0, 6, 78, 4, 172, 3, 172]
abbrev dktX0_truncate_0 : List UInt8 := dkwX0_truncate_0 ++ []
theorem dksX0_truncate_0 : cX0_truncate.data.toList.drop 0 = dktX0_truncate_0 := by decide +kernel
theorem dX0_truncate_0 : decode cX0_truncate 0 = .ok (.aload_n 2, 1) := dk_44 (dk_at dksX0_truncate_0 0 rfl rfl)
theorem dX0_truncate_1 : decode cX0_truncate 1 = .ok (.iconst 0, 1) := dk_3 (dk_at dksX0_truncate_0 1 rfl rfl)
theorem dX0_truncate_2 : decode cX0_truncate 2 = .ok (.aload_n 0, 1) := dk_42 (dk_at dksX0_truncate_0 2 rfl rfl)
theorem dX0_truncate_3 : decode cX0_truncate 3 = .ok (.iload_n 1, 1) := dk_27 (dk_at dksX0_truncate_0 3 rfl rfl)
theorem dX0_truncate_4 : decode cX0_truncate 4 = .ok (.invokevirtual 15, 3) := dk_182 0 15 (dk_at dksX0_truncate_0 4 rfl rfl)
theorem dX0_truncate_7 : decode cX0_truncate 7 = .ok (.i2l, 1) := dk_133 (dk_at dksX0_truncate_0 7 rfl rfl)
theorem dX0_truncate_8 : decode cX0_truncate 8 = .ok (.lastore, 1) := dk_80 (dk_at dksX0_truncate_0 8 rfl rfl)
theorem dX0_truncate_9 : decode cX0_truncate 9 = .ok (.goto 6, 3) := dk_167 0 6 (dk_at dksX0_truncate_0 9 rfl rfl)
theorem dX0_truncate_12 : decode cX0_truncate 12 = .ok (.astore_n 3, 1) := dk_78 (dk_at dksX0_truncate_0 12 rfl rfl)
theorem dX0_truncate_13 : decode cX0_truncate 13 = .ok (.iconst 1, 1) := dk_4 (dk_at dksX0_truncate_0 13 rfl rfl)
theorem dX0_truncate_14 : decode cX0_truncate 14 = .ok (.ireturn, 1) := dk_172 (dk_at dksX0_truncate_0 14 rfl rfl)
theorem dX0_truncate_15 : decode cX0_truncate 15 = .ok (.iconst 0, 1) := dk_3 (dk_at dksX0_truncate_0 15 rfl rfl)
theorem dX0_truncate_16 : decode cX0_truncate 16 = .ok (.ireturn, 1) := dk_172 (dk_at dksX0_truncate_0 16 rfl rfl)
abbrev cX0_load : ByteArray := method_5_code
def yX0_load : MethodName := ⟨RX0, "load", "(LCountedSkipLists;[J)I"⟩
def dkwX0_load_0 : List UInt8 := [43, 3, 42, 182, 0, 21, 133, 80, 167, 0, 6, 77, 4, 172, 3, 172]
abbrev dktX0_load_0 : List UInt8 := dkwX0_load_0 ++ []
theorem dksX0_load_0 : cX0_load.data.toList.drop 0 = dktX0_load_0 := by decide +kernel
theorem dX0_load_0 : decode cX0_load 0 = .ok (.aload_n 1, 1) := dk_43 (dk_at dksX0_load_0 0 rfl rfl)
theorem dX0_load_1 : decode cX0_load 1 = .ok (.iconst 0, 1) := dk_3 (dk_at dksX0_load_0 1 rfl rfl)
theorem dX0_load_2 : decode cX0_load 2 = .ok (.aload_n 0, 1) := dk_42 (dk_at dksX0_load_0 2 rfl rfl)
theorem dX0_load_3 : decode cX0_load 3 = .ok (.invokevirtual 21, 3) := dk_182 0 21 (dk_at dksX0_load_0 3 rfl rfl)
theorem dX0_load_6 : decode cX0_load 6 = .ok (.i2l, 1) := dk_133 (dk_at dksX0_load_0 6 rfl rfl)
theorem dX0_load_7 : decode cX0_load 7 = .ok (.lastore, 1) := dk_80 (dk_at dksX0_load_0 7 rfl rfl)
theorem dX0_load_8 : decode cX0_load 8 = .ok (.goto 6, 3) := dk_167 0 6 (dk_at dksX0_load_0 8 rfl rfl)
theorem dX0_load_11 : decode cX0_load 11 = .ok (.astore_n 2, 1) := dk_77 (dk_at dksX0_load_0 11 rfl rfl)
theorem dX0_load_12 : decode cX0_load 12 = .ok (.iconst 1, 1) := dk_4 (dk_at dksX0_load_0 12 rfl rfl)
theorem dX0_load_13 : decode cX0_load 13 = .ok (.ireturn, 1) := dk_172 (dk_at dksX0_load_0 13 rfl rfl)
theorem dX0_load_14 : decode cX0_load 14 = .ok (.iconst 0, 1) := dk_3 (dk_at dksX0_load_0 14 rfl rfl)
theorem dX0_load_15 : decode cX0_load 15 = .ok (.ireturn, 1) := dk_172 (dk_at dksX0_load_0 15 rfl rfl)
abbrev cX0_find : ByteArray := method_6_code
def yX0_find : MethodName := ⟨RX0, "find", "(LCountedSkipLists;[J)I"⟩
def dkwX0_find_0 : List UInt8 := [43, 3, 42, 182, 0, 27, 133, 80, 167, 0, 6, 77, 4, 172, 3, 172]
abbrev dktX0_find_0 : List UInt8 := dkwX0_find_0 ++ []
theorem dksX0_find_0 : cX0_find.data.toList.drop 0 = dktX0_find_0 := by decide +kernel
theorem dX0_find_0 : decode cX0_find 0 = .ok (.aload_n 1, 1) := dk_43 (dk_at dksX0_find_0 0 rfl rfl)
theorem dX0_find_1 : decode cX0_find 1 = .ok (.iconst 0, 1) := dk_3 (dk_at dksX0_find_0 1 rfl rfl)
theorem dX0_find_2 : decode cX0_find 2 = .ok (.aload_n 0, 1) := dk_42 (dk_at dksX0_find_0 2 rfl rfl)
theorem dX0_find_3 : decode cX0_find 3 = .ok (.invokevirtual 27, 3) := dk_182 0 27 (dk_at dksX0_find_0 3 rfl rfl)
theorem dX0_find_6 : decode cX0_find 6 = .ok (.i2l, 1) := dk_133 (dk_at dksX0_find_0 6 rfl rfl)
theorem dX0_find_7 : decode cX0_find 7 = .ok (.lastore, 1) := dk_80 (dk_at dksX0_find_0 7 rfl rfl)
theorem dX0_find_8 : decode cX0_find 8 = .ok (.goto 6, 3) := dk_167 0 6 (dk_at dksX0_find_0 8 rfl rfl)
theorem dX0_find_11 : decode cX0_find 11 = .ok (.astore_n 2, 1) := dk_77 (dk_at dksX0_find_0 11 rfl rfl)
theorem dX0_find_12 : decode cX0_find 12 = .ok (.iconst 1, 1) := dk_4 (dk_at dksX0_find_0 12 rfl rfl)
theorem dX0_find_13 : decode cX0_find 13 = .ok (.ireturn, 1) := dk_172 (dk_at dksX0_find_0 13 rfl rfl)
theorem dX0_find_14 : decode cX0_find 14 = .ok (.iconst 0, 1) := dk_3 (dk_at dksX0_find_0 14 rfl rfl)
theorem dX0_find_15 : decode cX0_find 15 = .ok (.ireturn, 1) := dk_172 (dk_at dksX0_find_0 15 rfl rfl)
abbrev cX0_size : ByteArray := method_7_code
def yX0_size : MethodName := ⟨RX0, "size", "(LCountedSkipLists;I[J)I"⟩
def dkwX0_size_0 : List UInt8 := [44, 3, 42, 27, 182, 0, 32, 133, 80, 167, 0, 6, 78, 4, 172, 3, 172]
abbrev dktX0_size_0 : List UInt8 := dkwX0_size_0 ++ []
theorem dksX0_size_0 : cX0_size.data.toList.drop 0 = dktX0_size_0 := by decide +kernel
theorem dX0_size_0 : decode cX0_size 0 = .ok (.aload_n 2, 1) := dk_44 (dk_at dksX0_size_0 0 rfl rfl)
theorem dX0_size_1 : decode cX0_size 1 = .ok (.iconst 0, 1) := dk_3 (dk_at dksX0_size_0 1 rfl rfl)
theorem dX0_size_2 : decode cX0_size 2 = .ok (.aload_n 0, 1) := dk_42 (dk_at dksX0_size_0 2 rfl rfl)
theorem dX0_size_3 : decode cX0_size 3 = .ok (.iload_n 1, 1) := dk_27 (dk_at dksX0_size_0 3 rfl rfl)
theorem dX0_size_4 : decode cX0_size 4 = .ok (.invokevirtual 32, 3) := dk_182 0 32 (dk_at dksX0_size_0 4 rfl rfl)
theorem dX0_size_7 : decode cX0_size 7 = .ok (.i2l, 1) := dk_133 (dk_at dksX0_size_0 7 rfl rfl)
theorem dX0_size_8 : decode cX0_size 8 = .ok (.lastore, 1) := dk_80 (dk_at dksX0_size_0 8 rfl rfl)
theorem dX0_size_9 : decode cX0_size 9 = .ok (.goto 6, 3) := dk_167 0 6 (dk_at dksX0_size_0 9 rfl rfl)
theorem dX0_size_12 : decode cX0_size 12 = .ok (.astore_n 3, 1) := dk_78 (dk_at dksX0_size_0 12 rfl rfl)
theorem dX0_size_13 : decode cX0_size 13 = .ok (.iconst 1, 1) := dk_4 (dk_at dksX0_size_0 13 rfl rfl)
theorem dX0_size_14 : decode cX0_size 14 = .ok (.ireturn, 1) := dk_172 (dk_at dksX0_size_0 14 rfl rfl)
theorem dX0_size_15 : decode cX0_size 15 = .ok (.iconst 0, 1) := dk_3 (dk_at dksX0_size_0 15 rfl rfl)
theorem dX0_size_16 : decode cX0_size 16 = .ok (.ireturn, 1) := dk_172 (dk_at dksX0_size_0 16 rfl rfl)
abbrev cX0_height : ByteArray := method_8_code
def yX0_height : MethodName := ⟨RX0, "height", "(LCountedSkipLists;I[J)I"⟩
def dkwX0_height_0 : List UInt8 := [44, 3, 42, 27, 182, 0, 35, 133, 80, 167, 0, 6, 78, 4, 172, 3, 172]
abbrev dktX0_height_0 : List UInt8 := dkwX0_height_0 ++ []
theorem dksX0_height_0 : cX0_height.data.toList.drop 0 = dktX0_height_0 := by decide +kernel
theorem dX0_height_0 : decode cX0_height 0 = .ok (.aload_n 2, 1) := dk_44 (dk_at dksX0_height_0 0 rfl rfl)
theorem dX0_height_1 : decode cX0_height 1 = .ok (.iconst 0, 1) := dk_3 (dk_at dksX0_height_0 1 rfl rfl)
theorem dX0_height_2 : decode cX0_height 2 = .ok (.aload_n 0, 1) := dk_42 (dk_at dksX0_height_0 2 rfl rfl)
theorem dX0_height_3 : decode cX0_height 3 = .ok (.iload_n 1, 1) := dk_27 (dk_at dksX0_height_0 3 rfl rfl)
theorem dX0_height_4 : decode cX0_height 4 = .ok (.invokevirtual 35, 3) := dk_182 0 35 (dk_at dksX0_height_0 4 rfl rfl)
theorem dX0_height_7 : decode cX0_height 7 = .ok (.i2l, 1) := dk_133 (dk_at dksX0_height_0 7 rfl rfl)
theorem dX0_height_8 : decode cX0_height 8 = .ok (.lastore, 1) := dk_80 (dk_at dksX0_height_0 8 rfl rfl)
theorem dX0_height_9 : decode cX0_height 9 = .ok (.goto 6, 3) := dk_167 0 6 (dk_at dksX0_height_0 9 rfl rfl)
theorem dX0_height_12 : decode cX0_height 12 = .ok (.astore_n 3, 1) := dk_78 (dk_at dksX0_height_0 12 rfl rfl)
theorem dX0_height_13 : decode cX0_height 13 = .ok (.iconst 1, 1) := dk_4 (dk_at dksX0_height_0 13 rfl rfl)
theorem dX0_height_14 : decode cX0_height 14 = .ok (.ireturn, 1) := dk_172 (dk_at dksX0_height_0 14 rfl rfl)
theorem dX0_height_15 : decode cX0_height 15 = .ok (.iconst 0, 1) := dk_3 (dk_at dksX0_height_0 15 rfl rfl)
theorem dX0_height_16 : decode cX0_height 16 = .ok (.ireturn, 1) := dk_172 (dk_at dksX0_height_0 16 rfl rfl)
abbrev cX0_keyAt : ByteArray := method_9_code
def yX0_keyAt : MethodName := ⟨RX0, "keyAt", "(LCountedSkipLists;II[J)I"⟩
def dkwX0_keyAt_0 : List UInt8 := [45, 3, 42, 27, 28, 182, 0, 38, 133, 80, 167, 0, 7, 58, 4, 4, 172, 3, 172]
abbrev dktX0_keyAt_0 : List UInt8 := dkwX0_keyAt_0 ++ []
theorem dksX0_keyAt_0 : cX0_keyAt.data.toList.drop 0 = dktX0_keyAt_0 := by decide +kernel
theorem dX0_keyAt_0 : decode cX0_keyAt 0 = .ok (.aload_n 3, 1) := dk_45 (dk_at dksX0_keyAt_0 0 rfl rfl)
theorem dX0_keyAt_1 : decode cX0_keyAt 1 = .ok (.iconst 0, 1) := dk_3 (dk_at dksX0_keyAt_0 1 rfl rfl)
theorem dX0_keyAt_2 : decode cX0_keyAt 2 = .ok (.aload_n 0, 1) := dk_42 (dk_at dksX0_keyAt_0 2 rfl rfl)
theorem dX0_keyAt_3 : decode cX0_keyAt 3 = .ok (.iload_n 1, 1) := dk_27 (dk_at dksX0_keyAt_0 3 rfl rfl)
theorem dX0_keyAt_4 : decode cX0_keyAt 4 = .ok (.iload_n 2, 1) := dk_28 (dk_at dksX0_keyAt_0 4 rfl rfl)
theorem dX0_keyAt_5 : decode cX0_keyAt 5 = .ok (.invokevirtual 38, 3) := dk_182 0 38 (dk_at dksX0_keyAt_0 5 rfl rfl)
theorem dX0_keyAt_8 : decode cX0_keyAt 8 = .ok (.i2l, 1) := dk_133 (dk_at dksX0_keyAt_0 8 rfl rfl)
theorem dX0_keyAt_9 : decode cX0_keyAt 9 = .ok (.lastore, 1) := dk_80 (dk_at dksX0_keyAt_0 9 rfl rfl)
theorem dX0_keyAt_10 : decode cX0_keyAt 10 = .ok (.goto 7, 3) := dk_167 0 7 (dk_at dksX0_keyAt_0 10 rfl rfl)
theorem dX0_keyAt_13 : decode cX0_keyAt 13 = .ok (.astore 4, 2) := dk_58 4 (dk_at dksX0_keyAt_0 13 rfl rfl)
theorem dX0_keyAt_15 : decode cX0_keyAt 15 = .ok (.iconst 1, 1) := dk_4 (dk_at dksX0_keyAt_0 15 rfl rfl)
theorem dX0_keyAt_16 : decode cX0_keyAt 16 = .ok (.ireturn, 1) := dk_172 (dk_at dksX0_keyAt_0 16 rfl rfl)
theorem dX0_keyAt_17 : decode cX0_keyAt 17 = .ok (.iconst 0, 1) := dk_3 (dk_at dksX0_keyAt_0 17 rfl rfl)
theorem dX0_keyAt_18 : decode cX0_keyAt 18 = .ok (.ireturn, 1) := dk_172 (dk_at dksX0_keyAt_0 18 rfl rfl)
abbrev cX0_valueAt : ByteArray := method_10_code
def yX0_valueAt : MethodName := ⟨RX0, "valueAt", "(LCountedSkipLists;II[J)I"⟩
def dkwX0_valueAt_0 : List UInt8 := [45, 3, 42, 27, 28, 182, 0, 42, 133, 80, 167, 0, 7, 58, 4, 4, 172, 3, 172]
abbrev dktX0_valueAt_0 : List UInt8 := dkwX0_valueAt_0 ++ []
theorem dksX0_valueAt_0 : cX0_valueAt.data.toList.drop 0 = dktX0_valueAt_0 := by decide +kernel
theorem dX0_valueAt_0 : decode cX0_valueAt 0 = .ok (.aload_n 3, 1) := dk_45 (dk_at dksX0_valueAt_0 0 rfl rfl)
theorem dX0_valueAt_1 : decode cX0_valueAt 1 = .ok (.iconst 0, 1) := dk_3 (dk_at dksX0_valueAt_0 1 rfl rfl)
theorem dX0_valueAt_2 : decode cX0_valueAt 2 = .ok (.aload_n 0, 1) := dk_42 (dk_at dksX0_valueAt_0 2 rfl rfl)
theorem dX0_valueAt_3 : decode cX0_valueAt 3 = .ok (.iload_n 1, 1) := dk_27 (dk_at dksX0_valueAt_0 3 rfl rfl)
theorem dX0_valueAt_4 : decode cX0_valueAt 4 = .ok (.iload_n 2, 1) := dk_28 (dk_at dksX0_valueAt_0 4 rfl rfl)
theorem dX0_valueAt_5 : decode cX0_valueAt 5 = .ok (.invokevirtual 42, 3) := dk_182 0 42 (dk_at dksX0_valueAt_0 5 rfl rfl)
theorem dX0_valueAt_8 : decode cX0_valueAt 8 = .ok (.i2l, 1) := dk_133 (dk_at dksX0_valueAt_0 8 rfl rfl)
theorem dX0_valueAt_9 : decode cX0_valueAt 9 = .ok (.lastore, 1) := dk_80 (dk_at dksX0_valueAt_0 9 rfl rfl)
theorem dX0_valueAt_10 : decode cX0_valueAt 10 = .ok (.goto 7, 3) := dk_167 0 7 (dk_at dksX0_valueAt_0 10 rfl rfl)
theorem dX0_valueAt_13 : decode cX0_valueAt 13 = .ok (.astore 4, 2) := dk_58 4 (dk_at dksX0_valueAt_0 13 rfl rfl)
theorem dX0_valueAt_15 : decode cX0_valueAt 15 = .ok (.iconst 1, 1) := dk_4 (dk_at dksX0_valueAt_0 15 rfl rfl)
theorem dX0_valueAt_16 : decode cX0_valueAt 16 = .ok (.ireturn, 1) := dk_172 (dk_at dksX0_valueAt_0 16 rfl rfl)
theorem dX0_valueAt_17 : decode cX0_valueAt 17 = .ok (.iconst 0, 1) := dk_3 (dk_at dksX0_valueAt_0 17 rfl rfl)
theorem dX0_valueAt_18 : decode cX0_valueAt 18 = .ok (.ireturn, 1) := dk_172 (dk_at dksX0_valueAt_0 18 rfl rfl)
abbrev cX0_heightAt : ByteArray := method_11_code
def yX0_heightAt : MethodName := ⟨RX0, "heightAt", "(LCountedSkipLists;II[J)I"⟩
def dkwX0_heightAt_0 : List UInt8 := [45, 3, 42, 27, 28, 182, 0, 45, 133, 80, 167, 0, 7, 58, 4, 4, 172, 3, 172]
abbrev dktX0_heightAt_0 : List UInt8 := dkwX0_heightAt_0 ++ []
theorem dksX0_heightAt_0 : cX0_heightAt.data.toList.drop 0 = dktX0_heightAt_0 := by decide +kernel
theorem dX0_heightAt_0 : decode cX0_heightAt 0 = .ok (.aload_n 3, 1) := dk_45 (dk_at dksX0_heightAt_0 0 rfl rfl)
theorem dX0_heightAt_1 : decode cX0_heightAt 1 = .ok (.iconst 0, 1) := dk_3 (dk_at dksX0_heightAt_0 1 rfl rfl)
theorem dX0_heightAt_2 : decode cX0_heightAt 2 = .ok (.aload_n 0, 1) := dk_42 (dk_at dksX0_heightAt_0 2 rfl rfl)
theorem dX0_heightAt_3 : decode cX0_heightAt 3 = .ok (.iload_n 1, 1) := dk_27 (dk_at dksX0_heightAt_0 3 rfl rfl)
theorem dX0_heightAt_4 : decode cX0_heightAt 4 = .ok (.iload_n 2, 1) := dk_28 (dk_at dksX0_heightAt_0 4 rfl rfl)
theorem dX0_heightAt_5 : decode cX0_heightAt 5 = .ok (.invokevirtual 45, 3) := dk_182 0 45 (dk_at dksX0_heightAt_0 5 rfl rfl)
theorem dX0_heightAt_8 : decode cX0_heightAt 8 = .ok (.i2l, 1) := dk_133 (dk_at dksX0_heightAt_0 8 rfl rfl)
theorem dX0_heightAt_9 : decode cX0_heightAt 9 = .ok (.lastore, 1) := dk_80 (dk_at dksX0_heightAt_0 9 rfl rfl)
theorem dX0_heightAt_10 : decode cX0_heightAt 10 = .ok (.goto 7, 3) := dk_167 0 7 (dk_at dksX0_heightAt_0 10 rfl rfl)
theorem dX0_heightAt_13 : decode cX0_heightAt 13 = .ok (.astore 4, 2) := dk_58 4 (dk_at dksX0_heightAt_0 13 rfl rfl)
theorem dX0_heightAt_15 : decode cX0_heightAt 15 = .ok (.iconst 1, 1) := dk_4 (dk_at dksX0_heightAt_0 15 rfl rfl)
theorem dX0_heightAt_16 : decode cX0_heightAt 16 = .ok (.ireturn, 1) := dk_172 (dk_at dksX0_heightAt_0 16 rfl rfl)
theorem dX0_heightAt_17 : decode cX0_heightAt 17 = .ok (.iconst 0, 1) := dk_3 (dk_at dksX0_heightAt_0 17 rfl rfl)
theorem dX0_heightAt_18 : decode cX0_heightAt 18 = .ok (.ireturn, 1) := dk_172 (dk_at dksX0_heightAt_0 18 rfl rfl)
abbrev cX0_value : ByteArray := method_12_code
def yX0_value : MethodName := ⟨RX0, "value", "(LCountedSkipLists;II[J)I"⟩
def dkwX0_value_1 : List UInt8 := [172, 3, 172]
abbrev dktX0_value_1 : List UInt8 := dkwX0_value_1 ++ []
def dkwX0_value_0 : List UInt8 := [45, 3, 42, 27, 28, 182, 0, 48, 133, 80, 167, 0, 15, 58, 4, 4, 172, 58, 4, 5, 172, 58, 4, 6]
abbrev dktX0_value_0 : List UInt8 := dkwX0_value_0 ++ dktX0_value_1
theorem dksX0_value_0 : cX0_value.data.toList.drop 0 = dktX0_value_0 := by decide +kernel
theorem dksX0_value_1 : cX0_value.data.toList.drop 24 = dktX0_value_1 := dk_seg dksX0_value_0 24 rfl rfl
theorem dX0_value_0 : decode cX0_value 0 = .ok (.aload_n 3, 1) := dk_45 (dk_at dksX0_value_0 0 rfl rfl)
theorem dX0_value_1 : decode cX0_value 1 = .ok (.iconst 0, 1) := dk_3 (dk_at dksX0_value_0 1 rfl rfl)
theorem dX0_value_2 : decode cX0_value 2 = .ok (.aload_n 0, 1) := dk_42 (dk_at dksX0_value_0 2 rfl rfl)
theorem dX0_value_3 : decode cX0_value 3 = .ok (.iload_n 1, 1) := dk_27 (dk_at dksX0_value_0 3 rfl rfl)
theorem dX0_value_4 : decode cX0_value 4 = .ok (.iload_n 2, 1) := dk_28 (dk_at dksX0_value_0 4 rfl rfl)
theorem dX0_value_5 : decode cX0_value 5 = .ok (.invokevirtual 48, 3) := dk_182 0 48 (dk_at dksX0_value_0 5 rfl rfl)
theorem dX0_value_8 : decode cX0_value 8 = .ok (.i2l, 1) := dk_133 (dk_at dksX0_value_0 8 rfl rfl)
theorem dX0_value_9 : decode cX0_value 9 = .ok (.lastore, 1) := dk_80 (dk_at dksX0_value_0 9 rfl rfl)
theorem dX0_value_10 : decode cX0_value 10 = .ok (.goto 15, 3) := dk_167 0 15 (dk_at dksX0_value_0 10 rfl rfl)
theorem dX0_value_13 : decode cX0_value 13 = .ok (.astore 4, 2) := dk_58 4 (dk_at dksX0_value_0 13 rfl rfl)
theorem dX0_value_15 : decode cX0_value 15 = .ok (.iconst 1, 1) := dk_4 (dk_at dksX0_value_0 15 rfl rfl)
theorem dX0_value_16 : decode cX0_value 16 = .ok (.ireturn, 1) := dk_172 (dk_at dksX0_value_0 16 rfl rfl)
theorem dX0_value_17 : decode cX0_value 17 = .ok (.astore 4, 2) := dk_58 4 (dk_at dksX0_value_0 17 rfl rfl)
theorem dX0_value_19 : decode cX0_value 19 = .ok (.iconst 2, 1) := dk_5 (dk_at dksX0_value_0 19 rfl rfl)
theorem dX0_value_20 : decode cX0_value 20 = .ok (.ireturn, 1) := dk_172 (dk_at dksX0_value_0 20 rfl rfl)
theorem dX0_value_21 : decode cX0_value 21 = .ok (.astore 4, 2) := dk_58 4 (dk_at dksX0_value_0 21 rfl rfl)
theorem dX0_value_23 : decode cX0_value 23 = .ok (.iconst 3, 1) := dk_6 (dk_at dksX0_value_0 23 rfl rfl)
theorem dX0_value_24 : decode cX0_value 24 = .ok (.ireturn, 1) := dk_172 (dk_at dksX0_value_1 0 rfl rfl)
theorem dX0_value_25 : decode cX0_value 25 = .ok (.iconst 0, 1) := dk_3 (dk_at dksX0_value_1 1 rfl rfl)
theorem dX0_value_26 : decode cX0_value 26 = .ok (.ireturn, 1) := dk_172 (dk_at dksX0_value_1 2 rfl rfl)
abbrev cX0_rank : ByteArray := method_13_code
def yX0_rank : MethodName := ⟨RX0, "rank", "(LCountedSkipLists;II[J)I"⟩
def dkwX0_rank_0 : List UInt8 := [45, 3, 42, 27, 28, 182, 0, 51, 133, 80, 167, 0, 11, 58, 4, 4, 172, 58, 4, 5, 172, 3, 172]
abbrev dktX0_rank_0 : List UInt8 := dkwX0_rank_0 ++ []
theorem dksX0_rank_0 : cX0_rank.data.toList.drop 0 = dktX0_rank_0 := by decide +kernel
theorem dX0_rank_0 : decode cX0_rank 0 = .ok (.aload_n 3, 1) := dk_45 (dk_at dksX0_rank_0 0 rfl rfl)
theorem dX0_rank_1 : decode cX0_rank 1 = .ok (.iconst 0, 1) := dk_3 (dk_at dksX0_rank_0 1 rfl rfl)
theorem dX0_rank_2 : decode cX0_rank 2 = .ok (.aload_n 0, 1) := dk_42 (dk_at dksX0_rank_0 2 rfl rfl)
theorem dX0_rank_3 : decode cX0_rank 3 = .ok (.iload_n 1, 1) := dk_27 (dk_at dksX0_rank_0 3 rfl rfl)
theorem dX0_rank_4 : decode cX0_rank 4 = .ok (.iload_n 2, 1) := dk_28 (dk_at dksX0_rank_0 4 rfl rfl)
theorem dX0_rank_5 : decode cX0_rank 5 = .ok (.invokevirtual 51, 3) := dk_182 0 51 (dk_at dksX0_rank_0 5 rfl rfl)
theorem dX0_rank_8 : decode cX0_rank 8 = .ok (.i2l, 1) := dk_133 (dk_at dksX0_rank_0 8 rfl rfl)
theorem dX0_rank_9 : decode cX0_rank 9 = .ok (.lastore, 1) := dk_80 (dk_at dksX0_rank_0 9 rfl rfl)
theorem dX0_rank_10 : decode cX0_rank 10 = .ok (.goto 11, 3) := dk_167 0 11 (dk_at dksX0_rank_0 10 rfl rfl)
theorem dX0_rank_13 : decode cX0_rank 13 = .ok (.astore 4, 2) := dk_58 4 (dk_at dksX0_rank_0 13 rfl rfl)
theorem dX0_rank_15 : decode cX0_rank 15 = .ok (.iconst 1, 1) := dk_4 (dk_at dksX0_rank_0 15 rfl rfl)
theorem dX0_rank_16 : decode cX0_rank 16 = .ok (.ireturn, 1) := dk_172 (dk_at dksX0_rank_0 16 rfl rfl)
theorem dX0_rank_17 : decode cX0_rank 17 = .ok (.astore 4, 2) := dk_58 4 (dk_at dksX0_rank_0 17 rfl rfl)
theorem dX0_rank_19 : decode cX0_rank 19 = .ok (.iconst 2, 1) := dk_5 (dk_at dksX0_rank_0 19 rfl rfl)
theorem dX0_rank_20 : decode cX0_rank 20 = .ok (.ireturn, 1) := dk_172 (dk_at dksX0_rank_0 20 rfl rfl)
theorem dX0_rank_21 : decode cX0_rank 21 = .ok (.iconst 0, 1) := dk_3 (dk_at dksX0_rank_0 21 rfl rfl)
theorem dX0_rank_22 : decode cX0_rank 22 = .ok (.ireturn, 1) := dk_172 (dk_at dksX0_rank_0 22 rfl rfl)
abbrev cX0_nearest : ByteArray := method_14_code
def yX0_nearest : MethodName := ⟨RX0, "nearest", "(LCountedSkipLists;II[J)I"⟩
def dkwX0_nearest_1 : List UInt8 := [172, 3, 172]
abbrev dktX0_nearest_1 : List UInt8 := dkwX0_nearest_1 ++ []
def dkwX0_nearest_0 : List UInt8 := [45, 3, 42, 27, 28, 182, 0, 54, 133, 80, 167, 0, 15, 58, 4, 4, 172, 58, 4, 5, 172, 58, 4, 6]
abbrev dktX0_nearest_0 : List UInt8 := dkwX0_nearest_0 ++ dktX0_nearest_1
theorem dksX0_nearest_0 : cX0_nearest.data.toList.drop 0 = dktX0_nearest_0 := by decide +kernel
theorem dksX0_nearest_1 : cX0_nearest.data.toList.drop 24 = dktX0_nearest_1 := dk_seg dksX0_nearest_0 24 rfl rfl
theorem dX0_nearest_0 : decode cX0_nearest 0 = .ok (.aload_n 3, 1) := dk_45 (dk_at dksX0_nearest_0 0 rfl rfl)
theorem dX0_nearest_1 : decode cX0_nearest 1 = .ok (.iconst 0, 1) := dk_3 (dk_at dksX0_nearest_0 1 rfl rfl)
theorem dX0_nearest_2 : decode cX0_nearest 2 = .ok (.aload_n 0, 1) := dk_42 (dk_at dksX0_nearest_0 2 rfl rfl)
theorem dX0_nearest_3 : decode cX0_nearest 3 = .ok (.iload_n 1, 1) := dk_27 (dk_at dksX0_nearest_0 3 rfl rfl)
theorem dX0_nearest_4 : decode cX0_nearest 4 = .ok (.iload_n 2, 1) := dk_28 (dk_at dksX0_nearest_0 4 rfl rfl)
theorem dX0_nearest_5 : decode cX0_nearest 5 = .ok (.invokevirtual 54, 3) := dk_182 0 54 (dk_at dksX0_nearest_0 5 rfl rfl)
theorem dX0_nearest_8 : decode cX0_nearest 8 = .ok (.i2l, 1) := dk_133 (dk_at dksX0_nearest_0 8 rfl rfl)
theorem dX0_nearest_9 : decode cX0_nearest 9 = .ok (.lastore, 1) := dk_80 (dk_at dksX0_nearest_0 9 rfl rfl)
theorem dX0_nearest_10 : decode cX0_nearest 10 = .ok (.goto 15, 3) := dk_167 0 15 (dk_at dksX0_nearest_0 10 rfl rfl)
theorem dX0_nearest_13 : decode cX0_nearest 13 = .ok (.astore 4, 2) := dk_58 4 (dk_at dksX0_nearest_0 13 rfl rfl)
theorem dX0_nearest_15 : decode cX0_nearest 15 = .ok (.iconst 1, 1) := dk_4 (dk_at dksX0_nearest_0 15 rfl rfl)
theorem dX0_nearest_16 : decode cX0_nearest 16 = .ok (.ireturn, 1) := dk_172 (dk_at dksX0_nearest_0 16 rfl rfl)
theorem dX0_nearest_17 : decode cX0_nearest 17 = .ok (.astore 4, 2) := dk_58 4 (dk_at dksX0_nearest_0 17 rfl rfl)
theorem dX0_nearest_19 : decode cX0_nearest 19 = .ok (.iconst 2, 1) := dk_5 (dk_at dksX0_nearest_0 19 rfl rfl)
theorem dX0_nearest_20 : decode cX0_nearest 20 = .ok (.ireturn, 1) := dk_172 (dk_at dksX0_nearest_0 20 rfl rfl)
theorem dX0_nearest_21 : decode cX0_nearest 21 = .ok (.astore 4, 2) := dk_58 4 (dk_at dksX0_nearest_0 21 rfl rfl)
theorem dX0_nearest_23 : decode cX0_nearest 23 = .ok (.iconst 3, 1) := dk_6 (dk_at dksX0_nearest_0 23 rfl rfl)
theorem dX0_nearest_24 : decode cX0_nearest 24 = .ok (.ireturn, 1) := dk_172 (dk_at dksX0_nearest_1 0 rfl rfl)
theorem dX0_nearest_25 : decode cX0_nearest 25 = .ok (.iconst 0, 1) := dk_3 (dk_at dksX0_nearest_1 1 rfl rfl)
theorem dX0_nearest_26 : decode cX0_nearest 26 = .ok (.ireturn, 1) := dk_172 (dk_at dksX0_nearest_1 2 rfl rfl)
abbrev cX0_rangeSum : ByteArray := method_15_code
def yX0_rangeSum : MethodName := ⟨RX0, "rangeSum", "(LCountedSkipLists;III[J)I"⟩
def dkwX0_rangeSum_1 : List UInt8 := [172]
abbrev dktX0_rangeSum_1 : List UInt8 := dkwX0_rangeSum_1 ++ []
def dkwX0_rangeSum_0 : List UInt8 := [25, 4, 3, 42, 27, 28, 29, 182, 0, 57, 133, 80, 167, 0, 11, 58, 5, 4, 172, 58, 5, 5, 172, 3]
abbrev dktX0_rangeSum_0 : List UInt8 := dkwX0_rangeSum_0 ++ dktX0_rangeSum_1
theorem dksX0_rangeSum_0 : cX0_rangeSum.data.toList.drop 0 = dktX0_rangeSum_0 := by decide +kernel
theorem dksX0_rangeSum_1 : cX0_rangeSum.data.toList.drop 24 = dktX0_rangeSum_1 := dk_seg dksX0_rangeSum_0 24 rfl rfl
theorem dX0_rangeSum_0 : decode cX0_rangeSum 0 = .ok (.aload 4, 2) := dk_25 4 (dk_at dksX0_rangeSum_0 0 rfl rfl)
theorem dX0_rangeSum_2 : decode cX0_rangeSum 2 = .ok (.iconst 0, 1) := dk_3 (dk_at dksX0_rangeSum_0 2 rfl rfl)
theorem dX0_rangeSum_3 : decode cX0_rangeSum 3 = .ok (.aload_n 0, 1) := dk_42 (dk_at dksX0_rangeSum_0 3 rfl rfl)
theorem dX0_rangeSum_4 : decode cX0_rangeSum 4 = .ok (.iload_n 1, 1) := dk_27 (dk_at dksX0_rangeSum_0 4 rfl rfl)
theorem dX0_rangeSum_5 : decode cX0_rangeSum 5 = .ok (.iload_n 2, 1) := dk_28 (dk_at dksX0_rangeSum_0 5 rfl rfl)
theorem dX0_rangeSum_6 : decode cX0_rangeSum 6 = .ok (.iload_n 3, 1) := dk_29 (dk_at dksX0_rangeSum_0 6 rfl rfl)
theorem dX0_rangeSum_7 : decode cX0_rangeSum 7 = .ok (.invokevirtual 57, 3) := dk_182 0 57 (dk_at dksX0_rangeSum_0 7 rfl rfl)
theorem dX0_rangeSum_10 : decode cX0_rangeSum 10 = .ok (.i2l, 1) := dk_133 (dk_at dksX0_rangeSum_0 10 rfl rfl)
theorem dX0_rangeSum_11 : decode cX0_rangeSum 11 = .ok (.lastore, 1) := dk_80 (dk_at dksX0_rangeSum_0 11 rfl rfl)
theorem dX0_rangeSum_12 : decode cX0_rangeSum 12 = .ok (.goto 11, 3) := dk_167 0 11 (dk_at dksX0_rangeSum_0 12 rfl rfl)
theorem dX0_rangeSum_15 : decode cX0_rangeSum 15 = .ok (.astore 5, 2) := dk_58 5 (dk_at dksX0_rangeSum_0 15 rfl rfl)
theorem dX0_rangeSum_17 : decode cX0_rangeSum 17 = .ok (.iconst 1, 1) := dk_4 (dk_at dksX0_rangeSum_0 17 rfl rfl)
theorem dX0_rangeSum_18 : decode cX0_rangeSum 18 = .ok (.ireturn, 1) := dk_172 (dk_at dksX0_rangeSum_0 18 rfl rfl)
theorem dX0_rangeSum_19 : decode cX0_rangeSum 19 = .ok (.astore 5, 2) := dk_58 5 (dk_at dksX0_rangeSum_0 19 rfl rfl)
theorem dX0_rangeSum_21 : decode cX0_rangeSum 21 = .ok (.iconst 2, 1) := dk_5 (dk_at dksX0_rangeSum_0 21 rfl rfl)
theorem dX0_rangeSum_22 : decode cX0_rangeSum 22 = .ok (.ireturn, 1) := dk_172 (dk_at dksX0_rangeSum_0 22 rfl rfl)
theorem dX0_rangeSum_23 : decode cX0_rangeSum 23 = .ok (.iconst 0, 1) := dk_3 (dk_at dksX0_rangeSum_0 23 rfl rfl)
theorem dX0_rangeSum_24 : decode cX0_rangeSum 24 = .ok (.ireturn, 1) := dk_172 (dk_at dksX0_rangeSum_1 0 rfl rfl)
abbrev cX0_rowSize : ByteArray := method_16_code
def yX0_rowSize : MethodName := ⟨RX0, "rowSize", "(LCountedSkipLists;II[J)I"⟩
def dkwX0_rowSize_0 : List UInt8 := [45, 3, 42, 27, 28, 182, 0, 61, 133, 80, 167, 0, 11, 58, 4, 4, 172, 58, 4, 5, 172, 3, 172]
abbrev dktX0_rowSize_0 : List UInt8 := dkwX0_rowSize_0 ++ []
theorem dksX0_rowSize_0 : cX0_rowSize.data.toList.drop 0 = dktX0_rowSize_0 := by decide +kernel
theorem dX0_rowSize_0 : decode cX0_rowSize 0 = .ok (.aload_n 3, 1) := dk_45 (dk_at dksX0_rowSize_0 0 rfl rfl)
theorem dX0_rowSize_1 : decode cX0_rowSize 1 = .ok (.iconst 0, 1) := dk_3 (dk_at dksX0_rowSize_0 1 rfl rfl)
theorem dX0_rowSize_2 : decode cX0_rowSize 2 = .ok (.aload_n 0, 1) := dk_42 (dk_at dksX0_rowSize_0 2 rfl rfl)
theorem dX0_rowSize_3 : decode cX0_rowSize 3 = .ok (.iload_n 1, 1) := dk_27 (dk_at dksX0_rowSize_0 3 rfl rfl)
theorem dX0_rowSize_4 : decode cX0_rowSize 4 = .ok (.iload_n 2, 1) := dk_28 (dk_at dksX0_rowSize_0 4 rfl rfl)
theorem dX0_rowSize_5 : decode cX0_rowSize 5 = .ok (.invokevirtual 61, 3) := dk_182 0 61 (dk_at dksX0_rowSize_0 5 rfl rfl)
theorem dX0_rowSize_8 : decode cX0_rowSize 8 = .ok (.i2l, 1) := dk_133 (dk_at dksX0_rowSize_0 8 rfl rfl)
theorem dX0_rowSize_9 : decode cX0_rowSize 9 = .ok (.lastore, 1) := dk_80 (dk_at dksX0_rowSize_0 9 rfl rfl)
theorem dX0_rowSize_10 : decode cX0_rowSize 10 = .ok (.goto 11, 3) := dk_167 0 11 (dk_at dksX0_rowSize_0 10 rfl rfl)
theorem dX0_rowSize_13 : decode cX0_rowSize 13 = .ok (.astore 4, 2) := dk_58 4 (dk_at dksX0_rowSize_0 13 rfl rfl)
theorem dX0_rowSize_15 : decode cX0_rowSize 15 = .ok (.iconst 1, 1) := dk_4 (dk_at dksX0_rowSize_0 15 rfl rfl)
theorem dX0_rowSize_16 : decode cX0_rowSize 16 = .ok (.ireturn, 1) := dk_172 (dk_at dksX0_rowSize_0 16 rfl rfl)
theorem dX0_rowSize_17 : decode cX0_rowSize 17 = .ok (.astore 4, 2) := dk_58 4 (dk_at dksX0_rowSize_0 17 rfl rfl)
theorem dX0_rowSize_19 : decode cX0_rowSize 19 = .ok (.iconst 2, 1) := dk_5 (dk_at dksX0_rowSize_0 19 rfl rfl)
theorem dX0_rowSize_20 : decode cX0_rowSize 20 = .ok (.ireturn, 1) := dk_172 (dk_at dksX0_rowSize_0 20 rfl rfl)
theorem dX0_rowSize_21 : decode cX0_rowSize 21 = .ok (.iconst 0, 1) := dk_3 (dk_at dksX0_rowSize_0 21 rfl rfl)
theorem dX0_rowSize_22 : decode cX0_rowSize 22 = .ok (.ireturn, 1) := dk_172 (dk_at dksX0_rowSize_0 22 rfl rfl)
abbrev cX0_linkWidth : ByteArray := method_17_code
def yX0_linkWidth : MethodName := ⟨RX0, "linkWidth", "(LCountedSkipLists;III[J)I"⟩
def dkwX0_linkWidth_0 : List UInt8 := [25, 4, 3, 42, 27, 28, 29, 182, 0, 64, 133, 80, 167, 0, 7, 58, 5, 4, 172, 3, 172]
abbrev dktX0_linkWidth_0 : List UInt8 := dkwX0_linkWidth_0 ++ []
theorem dksX0_linkWidth_0 : cX0_linkWidth.data.toList.drop 0 = dktX0_linkWidth_0 := by decide +kernel
theorem dX0_linkWidth_0 : decode cX0_linkWidth 0 = .ok (.aload 4, 2) := dk_25 4 (dk_at dksX0_linkWidth_0 0 rfl rfl)
theorem dX0_linkWidth_2 : decode cX0_linkWidth 2 = .ok (.iconst 0, 1) := dk_3 (dk_at dksX0_linkWidth_0 2 rfl rfl)
theorem dX0_linkWidth_3 : decode cX0_linkWidth 3 = .ok (.aload_n 0, 1) := dk_42 (dk_at dksX0_linkWidth_0 3 rfl rfl)
theorem dX0_linkWidth_4 : decode cX0_linkWidth 4 = .ok (.iload_n 1, 1) := dk_27 (dk_at dksX0_linkWidth_0 4 rfl rfl)
theorem dX0_linkWidth_5 : decode cX0_linkWidth 5 = .ok (.iload_n 2, 1) := dk_28 (dk_at dksX0_linkWidth_0 5 rfl rfl)
theorem dX0_linkWidth_6 : decode cX0_linkWidth 6 = .ok (.iload_n 3, 1) := dk_29 (dk_at dksX0_linkWidth_0 6 rfl rfl)
theorem dX0_linkWidth_7 : decode cX0_linkWidth 7 = .ok (.invokevirtual 64, 3) := dk_182 0 64 (dk_at dksX0_linkWidth_0 7 rfl rfl)
theorem dX0_linkWidth_10 : decode cX0_linkWidth 10 = .ok (.i2l, 1) := dk_133 (dk_at dksX0_linkWidth_0 10 rfl rfl)
theorem dX0_linkWidth_11 : decode cX0_linkWidth 11 = .ok (.lastore, 1) := dk_80 (dk_at dksX0_linkWidth_0 11 rfl rfl)
theorem dX0_linkWidth_12 : decode cX0_linkWidth 12 = .ok (.goto 7, 3) := dk_167 0 7 (dk_at dksX0_linkWidth_0 12 rfl rfl)
theorem dX0_linkWidth_15 : decode cX0_linkWidth 15 = .ok (.astore 5, 2) := dk_58 5 (dk_at dksX0_linkWidth_0 15 rfl rfl)
theorem dX0_linkWidth_17 : decode cX0_linkWidth 17 = .ok (.iconst 1, 1) := dk_4 (dk_at dksX0_linkWidth_0 17 rfl rfl)
theorem dX0_linkWidth_18 : decode cX0_linkWidth 18 = .ok (.ireturn, 1) := dk_172 (dk_at dksX0_linkWidth_0 18 rfl rfl)
theorem dX0_linkWidth_19 : decode cX0_linkWidth 19 = .ok (.iconst 0, 1) := dk_3 (dk_at dksX0_linkWidth_0 19 rfl rfl)
theorem dX0_linkWidth_20 : decode cX0_linkWidth 20 = .ok (.ireturn, 1) := dk_172 (dk_at dksX0_linkWidth_0 20 rfl rfl)
abbrev cX0_linkSum : ByteArray := method_18_code
def yX0_linkSum : MethodName := ⟨RX0, "linkSum", "(LCountedSkipLists;III[J)I"⟩
def dkwX0_linkSum_0 : List UInt8 := [25, 4, 3, 42, 27, 28, 29, 182, 0, 67, 133, 80, 167, 0, 7, 58, 5, 4, 172, 3, 172]
abbrev dktX0_linkSum_0 : List UInt8 := dkwX0_linkSum_0 ++ []
theorem dksX0_linkSum_0 : cX0_linkSum.data.toList.drop 0 = dktX0_linkSum_0 := by decide +kernel
theorem dX0_linkSum_0 : decode cX0_linkSum 0 = .ok (.aload 4, 2) := dk_25 4 (dk_at dksX0_linkSum_0 0 rfl rfl)
theorem dX0_linkSum_2 : decode cX0_linkSum 2 = .ok (.iconst 0, 1) := dk_3 (dk_at dksX0_linkSum_0 2 rfl rfl)
theorem dX0_linkSum_3 : decode cX0_linkSum 3 = .ok (.aload_n 0, 1) := dk_42 (dk_at dksX0_linkSum_0 3 rfl rfl)
theorem dX0_linkSum_4 : decode cX0_linkSum 4 = .ok (.iload_n 1, 1) := dk_27 (dk_at dksX0_linkSum_0 4 rfl rfl)
theorem dX0_linkSum_5 : decode cX0_linkSum 5 = .ok (.iload_n 2, 1) := dk_28 (dk_at dksX0_linkSum_0 5 rfl rfl)
theorem dX0_linkSum_6 : decode cX0_linkSum 6 = .ok (.iload_n 3, 1) := dk_29 (dk_at dksX0_linkSum_0 6 rfl rfl)
theorem dX0_linkSum_7 : decode cX0_linkSum 7 = .ok (.invokevirtual 67, 3) := dk_182 0 67 (dk_at dksX0_linkSum_0 7 rfl rfl)
theorem dX0_linkSum_10 : decode cX0_linkSum 10 = .ok (.i2l, 1) := dk_133 (dk_at dksX0_linkSum_0 10 rfl rfl)
theorem dX0_linkSum_11 : decode cX0_linkSum 11 = .ok (.lastore, 1) := dk_80 (dk_at dksX0_linkSum_0 11 rfl rfl)
theorem dX0_linkSum_12 : decode cX0_linkSum 12 = .ok (.goto 7, 3) := dk_167 0 7 (dk_at dksX0_linkSum_0 12 rfl rfl)
theorem dX0_linkSum_15 : decode cX0_linkSum 15 = .ok (.astore 5, 2) := dk_58 5 (dk_at dksX0_linkSum_0 15 rfl rfl)
theorem dX0_linkSum_17 : decode cX0_linkSum 17 = .ok (.iconst 1, 1) := dk_4 (dk_at dksX0_linkSum_0 17 rfl rfl)
theorem dX0_linkSum_18 : decode cX0_linkSum 18 = .ok (.ireturn, 1) := dk_172 (dk_at dksX0_linkSum_0 18 rfl rfl)
theorem dX0_linkSum_19 : decode cX0_linkSum 19 = .ok (.iconst 0, 1) := dk_3 (dk_at dksX0_linkSum_0 19 rfl rfl)
theorem dX0_linkSum_20 : decode cX0_linkSum 20 = .ok (.ireturn, 1) := dk_172 (dk_at dksX0_linkSum_0 20 rfl rfl)
abbrev cX0_gapSize : ByteArray := method_19_code
def yX0_gapSize : MethodName := ⟨RX0, "gapSize", "(LCountedSkipLists;III[J)I"⟩
def dkwX0_gapSize_0 : List UInt8 := [25, 4, 3, 42, 27, 28, 29, 182, 0, 70, 133, 80, 167, 0, 7, 58, 5, 4, 172, 3, 172]
abbrev dktX0_gapSize_0 : List UInt8 := dkwX0_gapSize_0 ++ []
theorem dksX0_gapSize_0 : cX0_gapSize.data.toList.drop 0 = dktX0_gapSize_0 := by decide +kernel
theorem dX0_gapSize_0 : decode cX0_gapSize 0 = .ok (.aload 4, 2) := dk_25 4 (dk_at dksX0_gapSize_0 0 rfl rfl)
theorem dX0_gapSize_2 : decode cX0_gapSize 2 = .ok (.iconst 0, 1) := dk_3 (dk_at dksX0_gapSize_0 2 rfl rfl)
theorem dX0_gapSize_3 : decode cX0_gapSize 3 = .ok (.aload_n 0, 1) := dk_42 (dk_at dksX0_gapSize_0 3 rfl rfl)
theorem dX0_gapSize_4 : decode cX0_gapSize 4 = .ok (.iload_n 1, 1) := dk_27 (dk_at dksX0_gapSize_0 4 rfl rfl)
theorem dX0_gapSize_5 : decode cX0_gapSize 5 = .ok (.iload_n 2, 1) := dk_28 (dk_at dksX0_gapSize_0 5 rfl rfl)
theorem dX0_gapSize_6 : decode cX0_gapSize 6 = .ok (.iload_n 3, 1) := dk_29 (dk_at dksX0_gapSize_0 6 rfl rfl)
theorem dX0_gapSize_7 : decode cX0_gapSize 7 = .ok (.invokevirtual 70, 3) := dk_182 0 70 (dk_at dksX0_gapSize_0 7 rfl rfl)
theorem dX0_gapSize_10 : decode cX0_gapSize 10 = .ok (.i2l, 1) := dk_133 (dk_at dksX0_gapSize_0 10 rfl rfl)
theorem dX0_gapSize_11 : decode cX0_gapSize 11 = .ok (.lastore, 1) := dk_80 (dk_at dksX0_gapSize_0 11 rfl rfl)
theorem dX0_gapSize_12 : decode cX0_gapSize 12 = .ok (.goto 7, 3) := dk_167 0 7 (dk_at dksX0_gapSize_0 12 rfl rfl)
theorem dX0_gapSize_15 : decode cX0_gapSize 15 = .ok (.astore 5, 2) := dk_58 5 (dk_at dksX0_gapSize_0 15 rfl rfl)
theorem dX0_gapSize_17 : decode cX0_gapSize 17 = .ok (.iconst 1, 1) := dk_4 (dk_at dksX0_gapSize_0 17 rfl rfl)
theorem dX0_gapSize_18 : decode cX0_gapSize 18 = .ok (.ireturn, 1) := dk_172 (dk_at dksX0_gapSize_0 18 rfl rfl)
theorem dX0_gapSize_19 : decode cX0_gapSize 19 = .ok (.iconst 0, 1) := dk_3 (dk_at dksX0_gapSize_0 19 rfl rfl)
theorem dX0_gapSize_20 : decode cX0_gapSize 20 = .ok (.ireturn, 1) := dk_172 (dk_at dksX0_gapSize_0 20 rfl rfl)
abbrev cX0_links : ByteArray := method_20_code
def yX0_links : MethodName := ⟨RX0, "links", "(LCountedSkipLists;I[J)I"⟩
def dkwX0_links_0 : List UInt8 := [44, 3, 42, 27, 182, 0, 73, 133, 80, 167, 0, 6, 78, 4, 172, 3, 172]
abbrev dktX0_links_0 : List UInt8 := dkwX0_links_0 ++ []
theorem dksX0_links_0 : cX0_links.data.toList.drop 0 = dktX0_links_0 := by decide +kernel
theorem dX0_links_0 : decode cX0_links 0 = .ok (.aload_n 2, 1) := dk_44 (dk_at dksX0_links_0 0 rfl rfl)
theorem dX0_links_1 : decode cX0_links 1 = .ok (.iconst 0, 1) := dk_3 (dk_at dksX0_links_0 1 rfl rfl)
theorem dX0_links_2 : decode cX0_links 2 = .ok (.aload_n 0, 1) := dk_42 (dk_at dksX0_links_0 2 rfl rfl)
theorem dX0_links_3 : decode cX0_links 3 = .ok (.iload_n 1, 1) := dk_27 (dk_at dksX0_links_0 3 rfl rfl)
theorem dX0_links_4 : decode cX0_links 4 = .ok (.invokevirtual 73, 3) := dk_182 0 73 (dk_at dksX0_links_0 4 rfl rfl)
theorem dX0_links_7 : decode cX0_links 7 = .ok (.i2l, 1) := dk_133 (dk_at dksX0_links_0 7 rfl rfl)
theorem dX0_links_8 : decode cX0_links 8 = .ok (.lastore, 1) := dk_80 (dk_at dksX0_links_0 8 rfl rfl)
theorem dX0_links_9 : decode cX0_links 9 = .ok (.goto 6, 3) := dk_167 0 6 (dk_at dksX0_links_0 9 rfl rfl)
theorem dX0_links_12 : decode cX0_links 12 = .ok (.astore_n 3, 1) := dk_78 (dk_at dksX0_links_0 12 rfl rfl)
theorem dX0_links_13 : decode cX0_links 13 = .ok (.iconst 1, 1) := dk_4 (dk_at dksX0_links_0 13 rfl rfl)
theorem dX0_links_14 : decode cX0_links 14 = .ok (.ireturn, 1) := dk_172 (dk_at dksX0_links_0 14 rfl rfl)
theorem dX0_links_15 : decode cX0_links 15 = .ok (.iconst 0, 1) := dk_3 (dk_at dksX0_links_0 15 rfl rfl)
theorem dX0_links_16 : decode cX0_links 16 = .ok (.ireturn, 1) := dk_172 (dk_at dksX0_links_0 16 rfl rfl)
abbrev cX0_steps : ByteArray := method_21_code
def yX0_steps : MethodName := ⟨RX0, "steps", "(LCountedSkipLists;II[J)I"⟩
def dkwX0_steps_0 : List UInt8 := [45, 3, 42, 27, 28, 182, 0, 76, 133, 80, 167, 0, 11, 58, 4, 4, 172, 58, 4, 5, 172, 3, 172]
abbrev dktX0_steps_0 : List UInt8 := dkwX0_steps_0 ++ []
theorem dksX0_steps_0 : cX0_steps.data.toList.drop 0 = dktX0_steps_0 := by decide +kernel
theorem dX0_steps_0 : decode cX0_steps 0 = .ok (.aload_n 3, 1) := dk_45 (dk_at dksX0_steps_0 0 rfl rfl)
theorem dX0_steps_1 : decode cX0_steps 1 = .ok (.iconst 0, 1) := dk_3 (dk_at dksX0_steps_0 1 rfl rfl)
theorem dX0_steps_2 : decode cX0_steps 2 = .ok (.aload_n 0, 1) := dk_42 (dk_at dksX0_steps_0 2 rfl rfl)
theorem dX0_steps_3 : decode cX0_steps 3 = .ok (.iload_n 1, 1) := dk_27 (dk_at dksX0_steps_0 3 rfl rfl)
theorem dX0_steps_4 : decode cX0_steps 4 = .ok (.iload_n 2, 1) := dk_28 (dk_at dksX0_steps_0 4 rfl rfl)
theorem dX0_steps_5 : decode cX0_steps 5 = .ok (.invokevirtual 76, 3) := dk_182 0 76 (dk_at dksX0_steps_0 5 rfl rfl)
theorem dX0_steps_8 : decode cX0_steps 8 = .ok (.i2l, 1) := dk_133 (dk_at dksX0_steps_0 8 rfl rfl)
theorem dX0_steps_9 : decode cX0_steps 9 = .ok (.lastore, 1) := dk_80 (dk_at dksX0_steps_0 9 rfl rfl)
theorem dX0_steps_10 : decode cX0_steps 10 = .ok (.goto 11, 3) := dk_167 0 11 (dk_at dksX0_steps_0 10 rfl rfl)
theorem dX0_steps_13 : decode cX0_steps 13 = .ok (.astore 4, 2) := dk_58 4 (dk_at dksX0_steps_0 13 rfl rfl)
theorem dX0_steps_15 : decode cX0_steps 15 = .ok (.iconst 1, 1) := dk_4 (dk_at dksX0_steps_0 15 rfl rfl)
theorem dX0_steps_16 : decode cX0_steps 16 = .ok (.ireturn, 1) := dk_172 (dk_at dksX0_steps_0 16 rfl rfl)
theorem dX0_steps_17 : decode cX0_steps 17 = .ok (.astore 4, 2) := dk_58 4 (dk_at dksX0_steps_0 17 rfl rfl)
theorem dX0_steps_19 : decode cX0_steps 19 = .ok (.iconst 2, 1) := dk_5 (dk_at dksX0_steps_0 19 rfl rfl)
theorem dX0_steps_20 : decode cX0_steps 20 = .ok (.ireturn, 1) := dk_172 (dk_at dksX0_steps_0 20 rfl rfl)
theorem dX0_steps_21 : decode cX0_steps 21 = .ok (.iconst 0, 1) := dk_3 (dk_at dksX0_steps_0 21 rfl rfl)
theorem dX0_steps_22 : decode cX0_steps 22 = .ok (.ireturn, 1) := dk_172 (dk_at dksX0_steps_0 22 rfl rfl)
abbrev cX0_looks : ByteArray := method_22_code
def yX0_looks : MethodName := ⟨RX0, "looks", "(LCountedSkipLists;II[J)I"⟩
def dkwX0_looks_0 : List UInt8 := [45, 3, 42, 27, 28, 182, 0, 79, 133, 80, 167, 0, 11, 58, 4, 4, 172, 58, 4, 5, 172, 3, 172]
abbrev dktX0_looks_0 : List UInt8 := dkwX0_looks_0 ++ []
theorem dksX0_looks_0 : cX0_looks.data.toList.drop 0 = dktX0_looks_0 := by decide +kernel
theorem dX0_looks_0 : decode cX0_looks 0 = .ok (.aload_n 3, 1) := dk_45 (dk_at dksX0_looks_0 0 rfl rfl)
theorem dX0_looks_1 : decode cX0_looks 1 = .ok (.iconst 0, 1) := dk_3 (dk_at dksX0_looks_0 1 rfl rfl)
theorem dX0_looks_2 : decode cX0_looks 2 = .ok (.aload_n 0, 1) := dk_42 (dk_at dksX0_looks_0 2 rfl rfl)
theorem dX0_looks_3 : decode cX0_looks 3 = .ok (.iload_n 1, 1) := dk_27 (dk_at dksX0_looks_0 3 rfl rfl)
theorem dX0_looks_4 : decode cX0_looks 4 = .ok (.iload_n 2, 1) := dk_28 (dk_at dksX0_looks_0 4 rfl rfl)
theorem dX0_looks_5 : decode cX0_looks 5 = .ok (.invokevirtual 79, 3) := dk_182 0 79 (dk_at dksX0_looks_0 5 rfl rfl)
theorem dX0_looks_8 : decode cX0_looks 8 = .ok (.i2l, 1) := dk_133 (dk_at dksX0_looks_0 8 rfl rfl)
theorem dX0_looks_9 : decode cX0_looks 9 = .ok (.lastore, 1) := dk_80 (dk_at dksX0_looks_0 9 rfl rfl)
theorem dX0_looks_10 : decode cX0_looks 10 = .ok (.goto 11, 3) := dk_167 0 11 (dk_at dksX0_looks_0 10 rfl rfl)
theorem dX0_looks_13 : decode cX0_looks 13 = .ok (.astore 4, 2) := dk_58 4 (dk_at dksX0_looks_0 13 rfl rfl)
theorem dX0_looks_15 : decode cX0_looks 15 = .ok (.iconst 1, 1) := dk_4 (dk_at dksX0_looks_0 15 rfl rfl)
theorem dX0_looks_16 : decode cX0_looks 16 = .ok (.ireturn, 1) := dk_172 (dk_at dksX0_looks_0 16 rfl rfl)
theorem dX0_looks_17 : decode cX0_looks 17 = .ok (.astore 4, 2) := dk_58 4 (dk_at dksX0_looks_0 17 rfl rfl)
theorem dX0_looks_19 : decode cX0_looks 19 = .ok (.iconst 2, 1) := dk_5 (dk_at dksX0_looks_0 19 rfl rfl)
theorem dX0_looks_20 : decode cX0_looks 20 = .ok (.ireturn, 1) := dk_172 (dk_at dksX0_looks_0 20 rfl rfl)
theorem dX0_looks_21 : decode cX0_looks 21 = .ok (.iconst 0, 1) := dk_3 (dk_at dksX0_looks_0 21 rfl rfl)
theorem dX0_looks_22 : decode cX0_looks 22 = .ok (.ireturn, 1) := dk_172 (dk_at dksX0_looks_0 22 rfl rfl)
abbrev cX0_stepKey : ByteArray := method_23_code
def yX0_stepKey : MethodName := ⟨RX0, "stepKey", "(LCountedSkipLists;III[J)I"⟩
def dkwX0_stepKey_1 : List UInt8 := [58, 5, 6, 172, 3, 172]
abbrev dktX0_stepKey_1 : List UInt8 := dkwX0_stepKey_1 ++ []
def dkwX0_stepKey_0 : List UInt8 := [25, 4, 3, 42, 27, 28, 29, 182, 0, 82, 133, 80, 167, 0, 15, 58, 5, 4, 172, 58, 5, 5, 172]
abbrev dktX0_stepKey_0 : List UInt8 := dkwX0_stepKey_0 ++ dktX0_stepKey_1
theorem dksX0_stepKey_0 : cX0_stepKey.data.toList.drop 0 = dktX0_stepKey_0 := by decide +kernel
theorem dksX0_stepKey_1 : cX0_stepKey.data.toList.drop 23 = dktX0_stepKey_1 := dk_seg dksX0_stepKey_0 23 rfl rfl
theorem dX0_stepKey_0 : decode cX0_stepKey 0 = .ok (.aload 4, 2) := dk_25 4 (dk_at dksX0_stepKey_0 0 rfl rfl)
theorem dX0_stepKey_2 : decode cX0_stepKey 2 = .ok (.iconst 0, 1) := dk_3 (dk_at dksX0_stepKey_0 2 rfl rfl)
theorem dX0_stepKey_3 : decode cX0_stepKey 3 = .ok (.aload_n 0, 1) := dk_42 (dk_at dksX0_stepKey_0 3 rfl rfl)
theorem dX0_stepKey_4 : decode cX0_stepKey 4 = .ok (.iload_n 1, 1) := dk_27 (dk_at dksX0_stepKey_0 4 rfl rfl)
theorem dX0_stepKey_5 : decode cX0_stepKey 5 = .ok (.iload_n 2, 1) := dk_28 (dk_at dksX0_stepKey_0 5 rfl rfl)
theorem dX0_stepKey_6 : decode cX0_stepKey 6 = .ok (.iload_n 3, 1) := dk_29 (dk_at dksX0_stepKey_0 6 rfl rfl)
theorem dX0_stepKey_7 : decode cX0_stepKey 7 = .ok (.invokevirtual 82, 3) := dk_182 0 82 (dk_at dksX0_stepKey_0 7 rfl rfl)
theorem dX0_stepKey_10 : decode cX0_stepKey 10 = .ok (.i2l, 1) := dk_133 (dk_at dksX0_stepKey_0 10 rfl rfl)
theorem dX0_stepKey_11 : decode cX0_stepKey 11 = .ok (.lastore, 1) := dk_80 (dk_at dksX0_stepKey_0 11 rfl rfl)
theorem dX0_stepKey_12 : decode cX0_stepKey 12 = .ok (.goto 15, 3) := dk_167 0 15 (dk_at dksX0_stepKey_0 12 rfl rfl)
theorem dX0_stepKey_15 : decode cX0_stepKey 15 = .ok (.astore 5, 2) := dk_58 5 (dk_at dksX0_stepKey_0 15 rfl rfl)
theorem dX0_stepKey_17 : decode cX0_stepKey 17 = .ok (.iconst 1, 1) := dk_4 (dk_at dksX0_stepKey_0 17 rfl rfl)
theorem dX0_stepKey_18 : decode cX0_stepKey 18 = .ok (.ireturn, 1) := dk_172 (dk_at dksX0_stepKey_0 18 rfl rfl)
theorem dX0_stepKey_19 : decode cX0_stepKey 19 = .ok (.astore 5, 2) := dk_58 5 (dk_at dksX0_stepKey_0 19 rfl rfl)
theorem dX0_stepKey_21 : decode cX0_stepKey 21 = .ok (.iconst 2, 1) := dk_5 (dk_at dksX0_stepKey_0 21 rfl rfl)
theorem dX0_stepKey_22 : decode cX0_stepKey 22 = .ok (.ireturn, 1) := dk_172 (dk_at dksX0_stepKey_0 22 rfl rfl)
theorem dX0_stepKey_23 : decode cX0_stepKey 23 = .ok (.astore 5, 2) := dk_58 5 (dk_at dksX0_stepKey_1 0 rfl rfl)
theorem dX0_stepKey_25 : decode cX0_stepKey 25 = .ok (.iconst 3, 1) := dk_6 (dk_at dksX0_stepKey_1 2 rfl rfl)
theorem dX0_stepKey_26 : decode cX0_stepKey 26 = .ok (.ireturn, 1) := dk_172 (dk_at dksX0_stepKey_1 3 rfl rfl)
theorem dX0_stepKey_27 : decode cX0_stepKey 27 = .ok (.iconst 0, 1) := dk_3 (dk_at dksX0_stepKey_1 4 rfl rfl)
theorem dX0_stepKey_28 : decode cX0_stepKey 28 = .ok (.ireturn, 1) := dk_172 (dk_at dksX0_stepKey_1 5 rfl rfl)
abbrev cX0_stepLevel : ByteArray := method_24_code
def yX0_stepLevel : MethodName := ⟨RX0, "stepLevel", "(LCountedSkipLists;III[J)I"⟩
def dkwX0_stepLevel_1 : List UInt8 := [58, 5, 6, 172, 3, 172]
abbrev dktX0_stepLevel_1 : List UInt8 := dkwX0_stepLevel_1 ++ []
def dkwX0_stepLevel_0 : List UInt8 := [25, 4, 3, 42, 27, 28, 29, 182, 0, 85, 133, 80, 167, 0, 15, 58, 5, 4, 172, 58, 5, 5, 172]
abbrev dktX0_stepLevel_0 : List UInt8 := dkwX0_stepLevel_0 ++ dktX0_stepLevel_1
theorem dksX0_stepLevel_0 : cX0_stepLevel.data.toList.drop 0 = dktX0_stepLevel_0 := by decide +kernel
theorem dksX0_stepLevel_1 : cX0_stepLevel.data.toList.drop 23 = dktX0_stepLevel_1 := dk_seg dksX0_stepLevel_0 23 rfl rfl
theorem dX0_stepLevel_0 : decode cX0_stepLevel 0 = .ok (.aload 4, 2) := dk_25 4 (dk_at dksX0_stepLevel_0 0 rfl rfl)
theorem dX0_stepLevel_2 : decode cX0_stepLevel 2 = .ok (.iconst 0, 1) := dk_3 (dk_at dksX0_stepLevel_0 2 rfl rfl)
theorem dX0_stepLevel_3 : decode cX0_stepLevel 3 = .ok (.aload_n 0, 1) := dk_42 (dk_at dksX0_stepLevel_0 3 rfl rfl)
theorem dX0_stepLevel_4 : decode cX0_stepLevel 4 = .ok (.iload_n 1, 1) := dk_27 (dk_at dksX0_stepLevel_0 4 rfl rfl)
theorem dX0_stepLevel_5 : decode cX0_stepLevel 5 = .ok (.iload_n 2, 1) := dk_28 (dk_at dksX0_stepLevel_0 5 rfl rfl)
theorem dX0_stepLevel_6 : decode cX0_stepLevel 6 = .ok (.iload_n 3, 1) := dk_29 (dk_at dksX0_stepLevel_0 6 rfl rfl)
theorem dX0_stepLevel_7 : decode cX0_stepLevel 7 = .ok (.invokevirtual 85, 3) := dk_182 0 85 (dk_at dksX0_stepLevel_0 7 rfl rfl)
theorem dX0_stepLevel_10 : decode cX0_stepLevel 10 = .ok (.i2l, 1) := dk_133 (dk_at dksX0_stepLevel_0 10 rfl rfl)
theorem dX0_stepLevel_11 : decode cX0_stepLevel 11 = .ok (.lastore, 1) := dk_80 (dk_at dksX0_stepLevel_0 11 rfl rfl)
theorem dX0_stepLevel_12 : decode cX0_stepLevel 12 = .ok (.goto 15, 3) := dk_167 0 15 (dk_at dksX0_stepLevel_0 12 rfl rfl)
theorem dX0_stepLevel_15 : decode cX0_stepLevel 15 = .ok (.astore 5, 2) := dk_58 5 (dk_at dksX0_stepLevel_0 15 rfl rfl)
theorem dX0_stepLevel_17 : decode cX0_stepLevel 17 = .ok (.iconst 1, 1) := dk_4 (dk_at dksX0_stepLevel_0 17 rfl rfl)
theorem dX0_stepLevel_18 : decode cX0_stepLevel 18 = .ok (.ireturn, 1) := dk_172 (dk_at dksX0_stepLevel_0 18 rfl rfl)
theorem dX0_stepLevel_19 : decode cX0_stepLevel 19 = .ok (.astore 5, 2) := dk_58 5 (dk_at dksX0_stepLevel_0 19 rfl rfl)
theorem dX0_stepLevel_21 : decode cX0_stepLevel 21 = .ok (.iconst 2, 1) := dk_5 (dk_at dksX0_stepLevel_0 21 rfl rfl)
theorem dX0_stepLevel_22 : decode cX0_stepLevel 22 = .ok (.ireturn, 1) := dk_172 (dk_at dksX0_stepLevel_0 22 rfl rfl)
theorem dX0_stepLevel_23 : decode cX0_stepLevel 23 = .ok (.astore 5, 2) := dk_58 5 (dk_at dksX0_stepLevel_1 0 rfl rfl)
theorem dX0_stepLevel_25 : decode cX0_stepLevel 25 = .ok (.iconst 3, 1) := dk_6 (dk_at dksX0_stepLevel_1 2 rfl rfl)
theorem dX0_stepLevel_26 : decode cX0_stepLevel 26 = .ok (.ireturn, 1) := dk_172 (dk_at dksX0_stepLevel_1 3 rfl rfl)
theorem dX0_stepLevel_27 : decode cX0_stepLevel 27 = .ok (.iconst 0, 1) := dk_3 (dk_at dksX0_stepLevel_1 4 rfl rfl)
theorem dX0_stepLevel_28 : decode cX0_stepLevel 28 = .ok (.ireturn, 1) := dk_172 (dk_at dksX0_stepLevel_1 5 rfl rfl)
abbrev cX0_stepsTo : ByteArray := method_25_code
def yX0_stepsTo : MethodName := ⟨RX0, "stepsTo", "(LCountedSkipLists;II[J)I"⟩
def dkwX0_stepsTo_0 : List UInt8 := [45, 3, 42, 27, 28, 182, 0, 88, 133, 80, 167, 0, 7, 58, 4, 4, 172, 3, 172]
abbrev dktX0_stepsTo_0 : List UInt8 := dkwX0_stepsTo_0 ++ []
theorem dksX0_stepsTo_0 : cX0_stepsTo.data.toList.drop 0 = dktX0_stepsTo_0 := by decide +kernel
theorem dX0_stepsTo_0 : decode cX0_stepsTo 0 = .ok (.aload_n 3, 1) := dk_45 (dk_at dksX0_stepsTo_0 0 rfl rfl)
theorem dX0_stepsTo_1 : decode cX0_stepsTo 1 = .ok (.iconst 0, 1) := dk_3 (dk_at dksX0_stepsTo_0 1 rfl rfl)
theorem dX0_stepsTo_2 : decode cX0_stepsTo 2 = .ok (.aload_n 0, 1) := dk_42 (dk_at dksX0_stepsTo_0 2 rfl rfl)
theorem dX0_stepsTo_3 : decode cX0_stepsTo 3 = .ok (.iload_n 1, 1) := dk_27 (dk_at dksX0_stepsTo_0 3 rfl rfl)
theorem dX0_stepsTo_4 : decode cX0_stepsTo 4 = .ok (.iload_n 2, 1) := dk_28 (dk_at dksX0_stepsTo_0 4 rfl rfl)
theorem dX0_stepsTo_5 : decode cX0_stepsTo 5 = .ok (.invokevirtual 88, 3) := dk_182 0 88 (dk_at dksX0_stepsTo_0 5 rfl rfl)
theorem dX0_stepsTo_8 : decode cX0_stepsTo 8 = .ok (.i2l, 1) := dk_133 (dk_at dksX0_stepsTo_0 8 rfl rfl)
theorem dX0_stepsTo_9 : decode cX0_stepsTo 9 = .ok (.lastore, 1) := dk_80 (dk_at dksX0_stepsTo_0 9 rfl rfl)
theorem dX0_stepsTo_10 : decode cX0_stepsTo 10 = .ok (.goto 7, 3) := dk_167 0 7 (dk_at dksX0_stepsTo_0 10 rfl rfl)
theorem dX0_stepsTo_13 : decode cX0_stepsTo 13 = .ok (.astore 4, 2) := dk_58 4 (dk_at dksX0_stepsTo_0 13 rfl rfl)
theorem dX0_stepsTo_15 : decode cX0_stepsTo 15 = .ok (.iconst 1, 1) := dk_4 (dk_at dksX0_stepsTo_0 15 rfl rfl)
theorem dX0_stepsTo_16 : decode cX0_stepsTo 16 = .ok (.ireturn, 1) := dk_172 (dk_at dksX0_stepsTo_0 16 rfl rfl)
theorem dX0_stepsTo_17 : decode cX0_stepsTo 17 = .ok (.iconst 0, 1) := dk_3 (dk_at dksX0_stepsTo_0 17 rfl rfl)
theorem dX0_stepsTo_18 : decode cX0_stepsTo 18 = .ok (.ireturn, 1) := dk_172 (dk_at dksX0_stepsTo_0 18 rfl rfl)
abbrev cX0_farthest : ByteArray := method_26_code
def yX0_farthest : MethodName := ⟨RX0, "farthest", "(LCountedSkipLists;I[J)I"⟩
def dkwX0_farthest_0 : List UInt8 := [44, 3, 42, 27, 182, 0, 91, 133, 80, 167, 0, 9, 78, 4, 172, 78, 5, 172, 3, 172]
abbrev dktX0_farthest_0 : List UInt8 := dkwX0_farthest_0 ++ []
theorem dksX0_farthest_0 : cX0_farthest.data.toList.drop 0 = dktX0_farthest_0 := by decide +kernel
theorem dX0_farthest_0 : decode cX0_farthest 0 = .ok (.aload_n 2, 1) := dk_44 (dk_at dksX0_farthest_0 0 rfl rfl)
theorem dX0_farthest_1 : decode cX0_farthest 1 = .ok (.iconst 0, 1) := dk_3 (dk_at dksX0_farthest_0 1 rfl rfl)
theorem dX0_farthest_2 : decode cX0_farthest 2 = .ok (.aload_n 0, 1) := dk_42 (dk_at dksX0_farthest_0 2 rfl rfl)
theorem dX0_farthest_3 : decode cX0_farthest 3 = .ok (.iload_n 1, 1) := dk_27 (dk_at dksX0_farthest_0 3 rfl rfl)
theorem dX0_farthest_4 : decode cX0_farthest 4 = .ok (.invokevirtual 91, 3) := dk_182 0 91 (dk_at dksX0_farthest_0 4 rfl rfl)
theorem dX0_farthest_7 : decode cX0_farthest 7 = .ok (.i2l, 1) := dk_133 (dk_at dksX0_farthest_0 7 rfl rfl)
theorem dX0_farthest_8 : decode cX0_farthest 8 = .ok (.lastore, 1) := dk_80 (dk_at dksX0_farthest_0 8 rfl rfl)
theorem dX0_farthest_9 : decode cX0_farthest 9 = .ok (.goto 9, 3) := dk_167 0 9 (dk_at dksX0_farthest_0 9 rfl rfl)
theorem dX0_farthest_12 : decode cX0_farthest 12 = .ok (.astore_n 3, 1) := dk_78 (dk_at dksX0_farthest_0 12 rfl rfl)
theorem dX0_farthest_13 : decode cX0_farthest 13 = .ok (.iconst 1, 1) := dk_4 (dk_at dksX0_farthest_0 13 rfl rfl)
theorem dX0_farthest_14 : decode cX0_farthest 14 = .ok (.ireturn, 1) := dk_172 (dk_at dksX0_farthest_0 14 rfl rfl)
theorem dX0_farthest_15 : decode cX0_farthest 15 = .ok (.astore_n 3, 1) := dk_78 (dk_at dksX0_farthest_0 15 rfl rfl)
theorem dX0_farthest_16 : decode cX0_farthest 16 = .ok (.iconst 2, 1) := dk_5 (dk_at dksX0_farthest_0 16 rfl rfl)
theorem dX0_farthest_17 : decode cX0_farthest 17 = .ok (.ireturn, 1) := dk_172 (dk_at dksX0_farthest_0 17 rfl rfl)
theorem dX0_farthest_18 : decode cX0_farthest 18 = .ok (.iconst 0, 1) := dk_3 (dk_at dksX0_farthest_0 18 rfl rfl)
theorem dX0_farthest_19 : decode cX0_farthest 19 = .ok (.ireturn, 1) := dk_172 (dk_at dksX0_farthest_0 19 rfl rfl)
abbrev cX0_meanLooks : ByteArray := method_27_code
def yX0_meanLooks : MethodName := ⟨RX0, "meanLooks", "(LCountedSkipLists;I[D)I"⟩
def dkwX0_meanLooks_0 : List UInt8 := [44, 3, 42, 27, 182, 0, 94, 82, 167, 0, 9, 78, 4, 172, 78, 5, 172, 3, 172]
abbrev dktX0_meanLooks_0 : List UInt8 := dkwX0_meanLooks_0 ++ []
theorem dksX0_meanLooks_0 : cX0_meanLooks.data.toList.drop 0 = dktX0_meanLooks_0 := by decide +kernel
theorem dX0_meanLooks_0 : decode cX0_meanLooks 0 = .ok (.aload_n 2, 1) := dk_44 (dk_at dksX0_meanLooks_0 0 rfl rfl)
theorem dX0_meanLooks_1 : decode cX0_meanLooks 1 = .ok (.iconst 0, 1) := dk_3 (dk_at dksX0_meanLooks_0 1 rfl rfl)
theorem dX0_meanLooks_2 : decode cX0_meanLooks 2 = .ok (.aload_n 0, 1) := dk_42 (dk_at dksX0_meanLooks_0 2 rfl rfl)
theorem dX0_meanLooks_3 : decode cX0_meanLooks 3 = .ok (.iload_n 1, 1) := dk_27 (dk_at dksX0_meanLooks_0 3 rfl rfl)
theorem dX0_meanLooks_4 : decode cX0_meanLooks 4 = .ok (.invokevirtual 94, 3) := dk_182 0 94 (dk_at dksX0_meanLooks_0 4 rfl rfl)
theorem dX0_meanLooks_7 : decode cX0_meanLooks 7 = .ok (.dastore, 1) := dk_82 (dk_at dksX0_meanLooks_0 7 rfl rfl)
theorem dX0_meanLooks_8 : decode cX0_meanLooks 8 = .ok (.goto 9, 3) := dk_167 0 9 (dk_at dksX0_meanLooks_0 8 rfl rfl)
theorem dX0_meanLooks_11 : decode cX0_meanLooks 11 = .ok (.astore_n 3, 1) := dk_78 (dk_at dksX0_meanLooks_0 11 rfl rfl)
theorem dX0_meanLooks_12 : decode cX0_meanLooks 12 = .ok (.iconst 1, 1) := dk_4 (dk_at dksX0_meanLooks_0 12 rfl rfl)
theorem dX0_meanLooks_13 : decode cX0_meanLooks 13 = .ok (.ireturn, 1) := dk_172 (dk_at dksX0_meanLooks_0 13 rfl rfl)
theorem dX0_meanLooks_14 : decode cX0_meanLooks 14 = .ok (.astore_n 3, 1) := dk_78 (dk_at dksX0_meanLooks_0 14 rfl rfl)
theorem dX0_meanLooks_15 : decode cX0_meanLooks 15 = .ok (.iconst 2, 1) := dk_5 (dk_at dksX0_meanLooks_0 15 rfl rfl)
theorem dX0_meanLooks_16 : decode cX0_meanLooks 16 = .ok (.ireturn, 1) := dk_172 (dk_at dksX0_meanLooks_0 16 rfl rfl)
theorem dX0_meanLooks_17 : decode cX0_meanLooks 17 = .ok (.iconst 0, 1) := dk_3 (dk_at dksX0_meanLooks_0 17 rfl rfl)
theorem dX0_meanLooks_18 : decode cX0_meanLooks 18 = .ok (.ireturn, 1) := dk_172 (dk_at dksX0_meanLooks_0 18 rfl rfl)
abbrev cX0_heightIfInserted : ByteArray := method_28_code
def yX0_heightIfInserted : MethodName := ⟨RX0, "heightIfInserted", "(LCountedSkipLists;II[J)I"⟩
def dkwX0_heightIfInserted_1 : List UInt8 := [172, 3, 172]
abbrev dktX0_heightIfInserted_1 : List UInt8 := dkwX0_heightIfInserted_1 ++ []
def dkwX0_heightIfInserted_0 : List UInt8 := [45, 3, 42, 27, 28, 182, 0, 98, 133, 80, 167, 0, 15, 58, 4, 4, 172, 58, 4, 5, 172, 58, 4, 6]
abbrev dktX0_heightIfInserted_0 : List UInt8 := dkwX0_heightIfInserted_0 ++ dktX0_heightIfInserted_1
theorem dksX0_heightIfInserted_0 : cX0_heightIfInserted.data.toList.drop 0 = dktX0_heightIfInserted_0 := by decide +kernel
theorem dksX0_heightIfInserted_1 : cX0_heightIfInserted.data.toList.drop 24 = dktX0_heightIfInserted_1 := dk_seg dksX0_heightIfInserted_0 24 rfl rfl
theorem dX0_heightIfInserted_0 : decode cX0_heightIfInserted 0 = .ok (.aload_n 3, 1) := dk_45 (dk_at dksX0_heightIfInserted_0 0 rfl rfl)
theorem dX0_heightIfInserted_1 : decode cX0_heightIfInserted 1 = .ok (.iconst 0, 1) := dk_3 (dk_at dksX0_heightIfInserted_0 1 rfl rfl)
theorem dX0_heightIfInserted_2 : decode cX0_heightIfInserted 2 = .ok (.aload_n 0, 1) := dk_42 (dk_at dksX0_heightIfInserted_0 2 rfl rfl)
theorem dX0_heightIfInserted_3 : decode cX0_heightIfInserted 3 = .ok (.iload_n 1, 1) := dk_27 (dk_at dksX0_heightIfInserted_0 3 rfl rfl)
theorem dX0_heightIfInserted_4 : decode cX0_heightIfInserted 4 = .ok (.iload_n 2, 1) := dk_28 (dk_at dksX0_heightIfInserted_0 4 rfl rfl)
theorem dX0_heightIfInserted_5 : decode cX0_heightIfInserted 5 = .ok (.invokevirtual 98, 3) := dk_182 0 98 (dk_at dksX0_heightIfInserted_0 5 rfl rfl)
theorem dX0_heightIfInserted_8 : decode cX0_heightIfInserted 8 = .ok (.i2l, 1) := dk_133 (dk_at dksX0_heightIfInserted_0 8 rfl rfl)
theorem dX0_heightIfInserted_9 : decode cX0_heightIfInserted 9 = .ok (.lastore, 1) := dk_80 (dk_at dksX0_heightIfInserted_0 9 rfl rfl)
theorem dX0_heightIfInserted_10 : decode cX0_heightIfInserted 10 = .ok (.goto 15, 3) := dk_167 0 15 (dk_at dksX0_heightIfInserted_0 10 rfl rfl)
theorem dX0_heightIfInserted_13 : decode cX0_heightIfInserted 13 = .ok (.astore 4, 2) := dk_58 4 (dk_at dksX0_heightIfInserted_0 13 rfl rfl)
theorem dX0_heightIfInserted_15 : decode cX0_heightIfInserted 15 = .ok (.iconst 1, 1) := dk_4 (dk_at dksX0_heightIfInserted_0 15 rfl rfl)
theorem dX0_heightIfInserted_16 : decode cX0_heightIfInserted 16 = .ok (.ireturn, 1) := dk_172 (dk_at dksX0_heightIfInserted_0 16 rfl rfl)
theorem dX0_heightIfInserted_17 : decode cX0_heightIfInserted 17 = .ok (.astore 4, 2) := dk_58 4 (dk_at dksX0_heightIfInserted_0 17 rfl rfl)
theorem dX0_heightIfInserted_19 : decode cX0_heightIfInserted 19 = .ok (.iconst 2, 1) := dk_5 (dk_at dksX0_heightIfInserted_0 19 rfl rfl)
theorem dX0_heightIfInserted_20 : decode cX0_heightIfInserted 20 = .ok (.ireturn, 1) := dk_172 (dk_at dksX0_heightIfInserted_0 20 rfl rfl)
theorem dX0_heightIfInserted_21 : decode cX0_heightIfInserted 21 = .ok (.astore 4, 2) := dk_58 4 (dk_at dksX0_heightIfInserted_0 21 rfl rfl)
theorem dX0_heightIfInserted_23 : decode cX0_heightIfInserted 23 = .ok (.iconst 3, 1) := dk_6 (dk_at dksX0_heightIfInserted_0 23 rfl rfl)
theorem dX0_heightIfInserted_24 : decode cX0_heightIfInserted 24 = .ok (.ireturn, 1) := dk_172 (dk_at dksX0_heightIfInserted_1 0 rfl rfl)
theorem dX0_heightIfInserted_25 : decode cX0_heightIfInserted 25 = .ok (.iconst 0, 1) := dk_3 (dk_at dksX0_heightIfInserted_1 1 rfl rfl)
theorem dX0_heightIfInserted_26 : decode cX0_heightIfInserted 26 = .ok (.ireturn, 1) := dk_172 (dk_at dksX0_heightIfInserted_1 2 rfl rfl)
abbrev cX0_repairsIfRemoved : ByteArray := method_29_code
def yX0_repairsIfRemoved : MethodName := ⟨RX0, "repairsIfRemoved", "(LCountedSkipLists;II[J)I"⟩
def dkwX0_repairsIfRemoved_1 : List UInt8 := [172, 3, 172]
abbrev dktX0_repairsIfRemoved_1 : List UInt8 := dkwX0_repairsIfRemoved_1 ++ []
def dkwX0_repairsIfRemoved_0 : List UInt8 := [45, 3, 42, 27, 28, 182, 0, 101, 133, 80, 167, 0, 15, 58, 4, 4, 172, 58, 4, 5, 172, 58, 4, 6]
abbrev dktX0_repairsIfRemoved_0 : List UInt8 := dkwX0_repairsIfRemoved_0 ++ dktX0_repairsIfRemoved_1
theorem dksX0_repairsIfRemoved_0 : cX0_repairsIfRemoved.data.toList.drop 0 = dktX0_repairsIfRemoved_0 := by decide +kernel
theorem dksX0_repairsIfRemoved_1 : cX0_repairsIfRemoved.data.toList.drop 24 = dktX0_repairsIfRemoved_1 := dk_seg dksX0_repairsIfRemoved_0 24 rfl rfl
theorem dX0_repairsIfRemoved_0 : decode cX0_repairsIfRemoved 0 = .ok (.aload_n 3, 1) := dk_45 (dk_at dksX0_repairsIfRemoved_0 0 rfl rfl)
theorem dX0_repairsIfRemoved_1 : decode cX0_repairsIfRemoved 1 = .ok (.iconst 0, 1) := dk_3 (dk_at dksX0_repairsIfRemoved_0 1 rfl rfl)
theorem dX0_repairsIfRemoved_2 : decode cX0_repairsIfRemoved 2 = .ok (.aload_n 0, 1) := dk_42 (dk_at dksX0_repairsIfRemoved_0 2 rfl rfl)
theorem dX0_repairsIfRemoved_3 : decode cX0_repairsIfRemoved 3 = .ok (.iload_n 1, 1) := dk_27 (dk_at dksX0_repairsIfRemoved_0 3 rfl rfl)
theorem dX0_repairsIfRemoved_4 : decode cX0_repairsIfRemoved 4 = .ok (.iload_n 2, 1) := dk_28 (dk_at dksX0_repairsIfRemoved_0 4 rfl rfl)
theorem dX0_repairsIfRemoved_5 : decode cX0_repairsIfRemoved 5 = .ok (.invokevirtual 101, 3) := dk_182 0 101 (dk_at dksX0_repairsIfRemoved_0 5 rfl rfl)
theorem dX0_repairsIfRemoved_8 : decode cX0_repairsIfRemoved 8 = .ok (.i2l, 1) := dk_133 (dk_at dksX0_repairsIfRemoved_0 8 rfl rfl)
theorem dX0_repairsIfRemoved_9 : decode cX0_repairsIfRemoved 9 = .ok (.lastore, 1) := dk_80 (dk_at dksX0_repairsIfRemoved_0 9 rfl rfl)
theorem dX0_repairsIfRemoved_10 : decode cX0_repairsIfRemoved 10 = .ok (.goto 15, 3) := dk_167 0 15 (dk_at dksX0_repairsIfRemoved_0 10 rfl rfl)
theorem dX0_repairsIfRemoved_13 : decode cX0_repairsIfRemoved 13 = .ok (.astore 4, 2) := dk_58 4 (dk_at dksX0_repairsIfRemoved_0 13 rfl rfl)
theorem dX0_repairsIfRemoved_15 : decode cX0_repairsIfRemoved 15 = .ok (.iconst 1, 1) := dk_4 (dk_at dksX0_repairsIfRemoved_0 15 rfl rfl)
theorem dX0_repairsIfRemoved_16 : decode cX0_repairsIfRemoved 16 = .ok (.ireturn, 1) := dk_172 (dk_at dksX0_repairsIfRemoved_0 16 rfl rfl)
theorem dX0_repairsIfRemoved_17 : decode cX0_repairsIfRemoved 17 = .ok (.astore 4, 2) := dk_58 4 (dk_at dksX0_repairsIfRemoved_0 17 rfl rfl)
theorem dX0_repairsIfRemoved_19 : decode cX0_repairsIfRemoved 19 = .ok (.iconst 2, 1) := dk_5 (dk_at dksX0_repairsIfRemoved_0 19 rfl rfl)
theorem dX0_repairsIfRemoved_20 : decode cX0_repairsIfRemoved 20 = .ok (.ireturn, 1) := dk_172 (dk_at dksX0_repairsIfRemoved_0 20 rfl rfl)
theorem dX0_repairsIfRemoved_21 : decode cX0_repairsIfRemoved 21 = .ok (.astore 4, 2) := dk_58 4 (dk_at dksX0_repairsIfRemoved_0 21 rfl rfl)
theorem dX0_repairsIfRemoved_23 : decode cX0_repairsIfRemoved 23 = .ok (.iconst 3, 1) := dk_6 (dk_at dksX0_repairsIfRemoved_0 23 rfl rfl)
theorem dX0_repairsIfRemoved_24 : decode cX0_repairsIfRemoved 24 = .ok (.ireturn, 1) := dk_172 (dk_at dksX0_repairsIfRemoved_1 0 rfl rfl)
theorem dX0_repairsIfRemoved_25 : decode cX0_repairsIfRemoved 25 = .ok (.iconst 0, 1) := dk_3 (dk_at dksX0_repairsIfRemoved_1 1 rfl rfl)
theorem dX0_repairsIfRemoved_26 : decode cX0_repairsIfRemoved 26 = .ok (.ireturn, 1) := dk_172 (dk_at dksX0_repairsIfRemoved_1 2 rfl rfl)
abbrev cX0_repairsIfLimit : ByteArray := method_30_code
def yX0_repairsIfLimit : MethodName := ⟨RX0, "repairsIfLimit", "(LCountedSkipLists;I[J)I"⟩
def dkwX0_repairsIfLimit_0 : List UInt8 := [44, 3, 42, 27, 182, 0, 104, 133, 80, 167, 0, 6, 78, 4, 172, 3, 172]
abbrev dktX0_repairsIfLimit_0 : List UInt8 := dkwX0_repairsIfLimit_0 ++ []
theorem dksX0_repairsIfLimit_0 : cX0_repairsIfLimit.data.toList.drop 0 = dktX0_repairsIfLimit_0 := by decide +kernel
theorem dX0_repairsIfLimit_0 : decode cX0_repairsIfLimit 0 = .ok (.aload_n 2, 1) := dk_44 (dk_at dksX0_repairsIfLimit_0 0 rfl rfl)
theorem dX0_repairsIfLimit_1 : decode cX0_repairsIfLimit 1 = .ok (.iconst 0, 1) := dk_3 (dk_at dksX0_repairsIfLimit_0 1 rfl rfl)
theorem dX0_repairsIfLimit_2 : decode cX0_repairsIfLimit 2 = .ok (.aload_n 0, 1) := dk_42 (dk_at dksX0_repairsIfLimit_0 2 rfl rfl)
theorem dX0_repairsIfLimit_3 : decode cX0_repairsIfLimit 3 = .ok (.iload_n 1, 1) := dk_27 (dk_at dksX0_repairsIfLimit_0 3 rfl rfl)
theorem dX0_repairsIfLimit_4 : decode cX0_repairsIfLimit 4 = .ok (.invokevirtual 104, 3) := dk_182 0 104 (dk_at dksX0_repairsIfLimit_0 4 rfl rfl)
theorem dX0_repairsIfLimit_7 : decode cX0_repairsIfLimit 7 = .ok (.i2l, 1) := dk_133 (dk_at dksX0_repairsIfLimit_0 7 rfl rfl)
theorem dX0_repairsIfLimit_8 : decode cX0_repairsIfLimit 8 = .ok (.lastore, 1) := dk_80 (dk_at dksX0_repairsIfLimit_0 8 rfl rfl)
theorem dX0_repairsIfLimit_9 : decode cX0_repairsIfLimit 9 = .ok (.goto 6, 3) := dk_167 0 6 (dk_at dksX0_repairsIfLimit_0 9 rfl rfl)
theorem dX0_repairsIfLimit_12 : decode cX0_repairsIfLimit 12 = .ok (.astore_n 3, 1) := dk_78 (dk_at dksX0_repairsIfLimit_0 12 rfl rfl)
theorem dX0_repairsIfLimit_13 : decode cX0_repairsIfLimit 13 = .ok (.iconst 1, 1) := dk_4 (dk_at dksX0_repairsIfLimit_0 13 rfl rfl)
theorem dX0_repairsIfLimit_14 : decode cX0_repairsIfLimit 14 = .ok (.ireturn, 1) := dk_172 (dk_at dksX0_repairsIfLimit_0 14 rfl rfl)
theorem dX0_repairsIfLimit_15 : decode cX0_repairsIfLimit 15 = .ok (.iconst 0, 1) := dk_3 (dk_at dksX0_repairsIfLimit_0 15 rfl rfl)
theorem dX0_repairsIfLimit_16 : decode cX0_repairsIfLimit 16 = .ok (.ireturn, 1) := dk_172 (dk_at dksX0_repairsIfLimit_0 16 rfl rfl)
abbrev cX0_whyNotJoin : ByteArray := method_31_code
def yX0_whyNotJoin : MethodName := ⟨RX0, "whyNotJoin", "(LCountedSkipLists;II[J)I"⟩
def dkwX0_whyNotJoin_0 : List UInt8 := [45, 3, 42, 27, 28, 182, 0, 107, 133, 80, 167, 0, 7, 58, 4, 4, 172, 3, 172]
abbrev dktX0_whyNotJoin_0 : List UInt8 := dkwX0_whyNotJoin_0 ++ []
theorem dksX0_whyNotJoin_0 : cX0_whyNotJoin.data.toList.drop 0 = dktX0_whyNotJoin_0 := by decide +kernel
theorem dX0_whyNotJoin_0 : decode cX0_whyNotJoin 0 = .ok (.aload_n 3, 1) := dk_45 (dk_at dksX0_whyNotJoin_0 0 rfl rfl)
theorem dX0_whyNotJoin_1 : decode cX0_whyNotJoin 1 = .ok (.iconst 0, 1) := dk_3 (dk_at dksX0_whyNotJoin_0 1 rfl rfl)
theorem dX0_whyNotJoin_2 : decode cX0_whyNotJoin 2 = .ok (.aload_n 0, 1) := dk_42 (dk_at dksX0_whyNotJoin_0 2 rfl rfl)
theorem dX0_whyNotJoin_3 : decode cX0_whyNotJoin 3 = .ok (.iload_n 1, 1) := dk_27 (dk_at dksX0_whyNotJoin_0 3 rfl rfl)
theorem dX0_whyNotJoin_4 : decode cX0_whyNotJoin 4 = .ok (.iload_n 2, 1) := dk_28 (dk_at dksX0_whyNotJoin_0 4 rfl rfl)
theorem dX0_whyNotJoin_5 : decode cX0_whyNotJoin 5 = .ok (.invokevirtual 107, 3) := dk_182 0 107 (dk_at dksX0_whyNotJoin_0 5 rfl rfl)
theorem dX0_whyNotJoin_8 : decode cX0_whyNotJoin 8 = .ok (.i2l, 1) := dk_133 (dk_at dksX0_whyNotJoin_0 8 rfl rfl)
theorem dX0_whyNotJoin_9 : decode cX0_whyNotJoin 9 = .ok (.lastore, 1) := dk_80 (dk_at dksX0_whyNotJoin_0 9 rfl rfl)
theorem dX0_whyNotJoin_10 : decode cX0_whyNotJoin 10 = .ok (.goto 7, 3) := dk_167 0 7 (dk_at dksX0_whyNotJoin_0 10 rfl rfl)
theorem dX0_whyNotJoin_13 : decode cX0_whyNotJoin 13 = .ok (.astore 4, 2) := dk_58 4 (dk_at dksX0_whyNotJoin_0 13 rfl rfl)
theorem dX0_whyNotJoin_15 : decode cX0_whyNotJoin 15 = .ok (.iconst 1, 1) := dk_4 (dk_at dksX0_whyNotJoin_0 15 rfl rfl)
theorem dX0_whyNotJoin_16 : decode cX0_whyNotJoin 16 = .ok (.ireturn, 1) := dk_172 (dk_at dksX0_whyNotJoin_0 16 rfl rfl)
theorem dX0_whyNotJoin_17 : decode cX0_whyNotJoin 17 = .ok (.iconst 0, 1) := dk_3 (dk_at dksX0_whyNotJoin_0 17 rfl rfl)
theorem dX0_whyNotJoin_18 : decode cX0_whyNotJoin 18 = .ok (.ireturn, 1) := dk_172 (dk_at dksX0_whyNotJoin_0 18 rfl rfl)
abbrev cX0_whyNotAbsorb : ByteArray := method_32_code
def yX0_whyNotAbsorb : MethodName := ⟨RX0, "whyNotAbsorb", "(LCountedSkipLists;II[J)I"⟩
def dkwX0_whyNotAbsorb_0 : List UInt8 := [45, 3, 42, 27, 28, 182, 0, 110, 133, 80, 167, 0, 7, 58, 4, 4, 172, 3, 172]
abbrev dktX0_whyNotAbsorb_0 : List UInt8 := dkwX0_whyNotAbsorb_0 ++ []
theorem dksX0_whyNotAbsorb_0 : cX0_whyNotAbsorb.data.toList.drop 0 = dktX0_whyNotAbsorb_0 := by decide +kernel
theorem dX0_whyNotAbsorb_0 : decode cX0_whyNotAbsorb 0 = .ok (.aload_n 3, 1) := dk_45 (dk_at dksX0_whyNotAbsorb_0 0 rfl rfl)
theorem dX0_whyNotAbsorb_1 : decode cX0_whyNotAbsorb 1 = .ok (.iconst 0, 1) := dk_3 (dk_at dksX0_whyNotAbsorb_0 1 rfl rfl)
theorem dX0_whyNotAbsorb_2 : decode cX0_whyNotAbsorb 2 = .ok (.aload_n 0, 1) := dk_42 (dk_at dksX0_whyNotAbsorb_0 2 rfl rfl)
theorem dX0_whyNotAbsorb_3 : decode cX0_whyNotAbsorb 3 = .ok (.iload_n 1, 1) := dk_27 (dk_at dksX0_whyNotAbsorb_0 3 rfl rfl)
theorem dX0_whyNotAbsorb_4 : decode cX0_whyNotAbsorb 4 = .ok (.iload_n 2, 1) := dk_28 (dk_at dksX0_whyNotAbsorb_0 4 rfl rfl)
theorem dX0_whyNotAbsorb_5 : decode cX0_whyNotAbsorb 5 = .ok (.invokevirtual 110, 3) := dk_182 0 110 (dk_at dksX0_whyNotAbsorb_0 5 rfl rfl)
theorem dX0_whyNotAbsorb_8 : decode cX0_whyNotAbsorb 8 = .ok (.i2l, 1) := dk_133 (dk_at dksX0_whyNotAbsorb_0 8 rfl rfl)
theorem dX0_whyNotAbsorb_9 : decode cX0_whyNotAbsorb 9 = .ok (.lastore, 1) := dk_80 (dk_at dksX0_whyNotAbsorb_0 9 rfl rfl)
theorem dX0_whyNotAbsorb_10 : decode cX0_whyNotAbsorb 10 = .ok (.goto 7, 3) := dk_167 0 7 (dk_at dksX0_whyNotAbsorb_0 10 rfl rfl)
theorem dX0_whyNotAbsorb_13 : decode cX0_whyNotAbsorb 13 = .ok (.astore 4, 2) := dk_58 4 (dk_at dksX0_whyNotAbsorb_0 13 rfl rfl)
theorem dX0_whyNotAbsorb_15 : decode cX0_whyNotAbsorb 15 = .ok (.iconst 1, 1) := dk_4 (dk_at dksX0_whyNotAbsorb_0 15 rfl rfl)
theorem dX0_whyNotAbsorb_16 : decode cX0_whyNotAbsorb 16 = .ok (.ireturn, 1) := dk_172 (dk_at dksX0_whyNotAbsorb_0 16 rfl rfl)
theorem dX0_whyNotAbsorb_17 : decode cX0_whyNotAbsorb 17 = .ok (.iconst 0, 1) := dk_3 (dk_at dksX0_whyNotAbsorb_0 17 rfl rfl)
theorem dX0_whyNotAbsorb_18 : decode cX0_whyNotAbsorb 18 = .ok (.ireturn, 1) := dk_172 (dk_at dksX0_whyNotAbsorb_0 18 rfl rfl)
abbrev cX0_logKind : ByteArray := method_33_code
def yX0_logKind : MethodName := ⟨RX0, "logKind", "(LCountedSkipLists;I[J)I"⟩
def dkwX0_logKind_0 : List UInt8 := [44, 3, 42, 27, 182, 0, 113, 133, 80, 167, 0, 6, 78, 4, 172, 3, 172]
abbrev dktX0_logKind_0 : List UInt8 := dkwX0_logKind_0 ++ []
theorem dksX0_logKind_0 : cX0_logKind.data.toList.drop 0 = dktX0_logKind_0 := by decide +kernel
theorem dX0_logKind_0 : decode cX0_logKind 0 = .ok (.aload_n 2, 1) := dk_44 (dk_at dksX0_logKind_0 0 rfl rfl)
theorem dX0_logKind_1 : decode cX0_logKind 1 = .ok (.iconst 0, 1) := dk_3 (dk_at dksX0_logKind_0 1 rfl rfl)
theorem dX0_logKind_2 : decode cX0_logKind 2 = .ok (.aload_n 0, 1) := dk_42 (dk_at dksX0_logKind_0 2 rfl rfl)
theorem dX0_logKind_3 : decode cX0_logKind 3 = .ok (.iload_n 1, 1) := dk_27 (dk_at dksX0_logKind_0 3 rfl rfl)
theorem dX0_logKind_4 : decode cX0_logKind 4 = .ok (.invokevirtual 113, 3) := dk_182 0 113 (dk_at dksX0_logKind_0 4 rfl rfl)
theorem dX0_logKind_7 : decode cX0_logKind 7 = .ok (.i2l, 1) := dk_133 (dk_at dksX0_logKind_0 7 rfl rfl)
theorem dX0_logKind_8 : decode cX0_logKind 8 = .ok (.lastore, 1) := dk_80 (dk_at dksX0_logKind_0 8 rfl rfl)
theorem dX0_logKind_9 : decode cX0_logKind 9 = .ok (.goto 6, 3) := dk_167 0 6 (dk_at dksX0_logKind_0 9 rfl rfl)
theorem dX0_logKind_12 : decode cX0_logKind 12 = .ok (.astore_n 3, 1) := dk_78 (dk_at dksX0_logKind_0 12 rfl rfl)
theorem dX0_logKind_13 : decode cX0_logKind 13 = .ok (.iconst 1, 1) := dk_4 (dk_at dksX0_logKind_0 13 rfl rfl)
theorem dX0_logKind_14 : decode cX0_logKind 14 = .ok (.ireturn, 1) := dk_172 (dk_at dksX0_logKind_0 14 rfl rfl)
theorem dX0_logKind_15 : decode cX0_logKind 15 = .ok (.iconst 0, 1) := dk_3 (dk_at dksX0_logKind_0 15 rfl rfl)
theorem dX0_logKind_16 : decode cX0_logKind 16 = .ok (.ireturn, 1) := dk_172 (dk_at dksX0_logKind_0 16 rfl rfl)
abbrev cX0_logLevel : ByteArray := method_34_code
def yX0_logLevel : MethodName := ⟨RX0, "logLevel", "(LCountedSkipLists;I[J)I"⟩
def dkwX0_logLevel_0 : List UInt8 := [44, 3, 42, 27, 182, 0, 116, 133, 80, 167, 0, 6, 78, 4, 172, 3, 172]
abbrev dktX0_logLevel_0 : List UInt8 := dkwX0_logLevel_0 ++ []
theorem dksX0_logLevel_0 : cX0_logLevel.data.toList.drop 0 = dktX0_logLevel_0 := by decide +kernel
theorem dX0_logLevel_0 : decode cX0_logLevel 0 = .ok (.aload_n 2, 1) := dk_44 (dk_at dksX0_logLevel_0 0 rfl rfl)
theorem dX0_logLevel_1 : decode cX0_logLevel 1 = .ok (.iconst 0, 1) := dk_3 (dk_at dksX0_logLevel_0 1 rfl rfl)
theorem dX0_logLevel_2 : decode cX0_logLevel 2 = .ok (.aload_n 0, 1) := dk_42 (dk_at dksX0_logLevel_0 2 rfl rfl)
theorem dX0_logLevel_3 : decode cX0_logLevel 3 = .ok (.iload_n 1, 1) := dk_27 (dk_at dksX0_logLevel_0 3 rfl rfl)
theorem dX0_logLevel_4 : decode cX0_logLevel 4 = .ok (.invokevirtual 116, 3) := dk_182 0 116 (dk_at dksX0_logLevel_0 4 rfl rfl)
theorem dX0_logLevel_7 : decode cX0_logLevel 7 = .ok (.i2l, 1) := dk_133 (dk_at dksX0_logLevel_0 7 rfl rfl)
theorem dX0_logLevel_8 : decode cX0_logLevel 8 = .ok (.lastore, 1) := dk_80 (dk_at dksX0_logLevel_0 8 rfl rfl)
theorem dX0_logLevel_9 : decode cX0_logLevel 9 = .ok (.goto 6, 3) := dk_167 0 6 (dk_at dksX0_logLevel_0 9 rfl rfl)
theorem dX0_logLevel_12 : decode cX0_logLevel 12 = .ok (.astore_n 3, 1) := dk_78 (dk_at dksX0_logLevel_0 12 rfl rfl)
theorem dX0_logLevel_13 : decode cX0_logLevel 13 = .ok (.iconst 1, 1) := dk_4 (dk_at dksX0_logLevel_0 13 rfl rfl)
theorem dX0_logLevel_14 : decode cX0_logLevel 14 = .ok (.ireturn, 1) := dk_172 (dk_at dksX0_logLevel_0 14 rfl rfl)
theorem dX0_logLevel_15 : decode cX0_logLevel 15 = .ok (.iconst 0, 1) := dk_3 (dk_at dksX0_logLevel_0 15 rfl rfl)
theorem dX0_logLevel_16 : decode cX0_logLevel 16 = .ok (.ireturn, 1) := dk_172 (dk_at dksX0_logLevel_0 16 rfl rfl)
abbrev cX0_logKey : ByteArray := method_35_code
def yX0_logKey : MethodName := ⟨RX0, "logKey", "(LCountedSkipLists;I[J)I"⟩
def dkwX0_logKey_0 : List UInt8 := [44, 3, 42, 27, 182, 0, 119, 133, 80, 167, 0, 6, 78, 4, 172, 3, 172]
abbrev dktX0_logKey_0 : List UInt8 := dkwX0_logKey_0 ++ []
theorem dksX0_logKey_0 : cX0_logKey.data.toList.drop 0 = dktX0_logKey_0 := by decide +kernel
theorem dX0_logKey_0 : decode cX0_logKey 0 = .ok (.aload_n 2, 1) := dk_44 (dk_at dksX0_logKey_0 0 rfl rfl)
theorem dX0_logKey_1 : decode cX0_logKey 1 = .ok (.iconst 0, 1) := dk_3 (dk_at dksX0_logKey_0 1 rfl rfl)
theorem dX0_logKey_2 : decode cX0_logKey 2 = .ok (.aload_n 0, 1) := dk_42 (dk_at dksX0_logKey_0 2 rfl rfl)
theorem dX0_logKey_3 : decode cX0_logKey 3 = .ok (.iload_n 1, 1) := dk_27 (dk_at dksX0_logKey_0 3 rfl rfl)
theorem dX0_logKey_4 : decode cX0_logKey 4 = .ok (.invokevirtual 119, 3) := dk_182 0 119 (dk_at dksX0_logKey_0 4 rfl rfl)
theorem dX0_logKey_7 : decode cX0_logKey 7 = .ok (.i2l, 1) := dk_133 (dk_at dksX0_logKey_0 7 rfl rfl)
theorem dX0_logKey_8 : decode cX0_logKey 8 = .ok (.lastore, 1) := dk_80 (dk_at dksX0_logKey_0 8 rfl rfl)
theorem dX0_logKey_9 : decode cX0_logKey 9 = .ok (.goto 6, 3) := dk_167 0 6 (dk_at dksX0_logKey_0 9 rfl rfl)
theorem dX0_logKey_12 : decode cX0_logKey 12 = .ok (.astore_n 3, 1) := dk_78 (dk_at dksX0_logKey_0 12 rfl rfl)
theorem dX0_logKey_13 : decode cX0_logKey 13 = .ok (.iconst 1, 1) := dk_4 (dk_at dksX0_logKey_0 13 rfl rfl)
theorem dX0_logKey_14 : decode cX0_logKey 14 = .ok (.ireturn, 1) := dk_172 (dk_at dksX0_logKey_0 14 rfl rfl)
theorem dX0_logKey_15 : decode cX0_logKey 15 = .ok (.iconst 0, 1) := dk_3 (dk_at dksX0_logKey_0 15 rfl rfl)
theorem dX0_logKey_16 : decode cX0_logKey 16 = .ok (.ireturn, 1) := dk_172 (dk_at dksX0_logKey_0 16 rfl rfl)
abbrev cX0_counter : ByteArray := method_36_code
def yX0_counter : MethodName := ⟨RX0, "counter", "(LCountedSkipLists;I[J)I"⟩
def dkwX0_counter_0 : List UInt8 := [44, 3, 42, 27, 182, 0, 122, 133, 80, 167, 0, 6, 78, 4, 172, 3, 172]
abbrev dktX0_counter_0 : List UInt8 := dkwX0_counter_0 ++ []
theorem dksX0_counter_0 : cX0_counter.data.toList.drop 0 = dktX0_counter_0 := by decide +kernel
theorem dX0_counter_0 : decode cX0_counter 0 = .ok (.aload_n 2, 1) := dk_44 (dk_at dksX0_counter_0 0 rfl rfl)
theorem dX0_counter_1 : decode cX0_counter 1 = .ok (.iconst 0, 1) := dk_3 (dk_at dksX0_counter_0 1 rfl rfl)
theorem dX0_counter_2 : decode cX0_counter 2 = .ok (.aload_n 0, 1) := dk_42 (dk_at dksX0_counter_0 2 rfl rfl)
theorem dX0_counter_3 : decode cX0_counter 3 = .ok (.iload_n 1, 1) := dk_27 (dk_at dksX0_counter_0 3 rfl rfl)
theorem dX0_counter_4 : decode cX0_counter 4 = .ok (.invokevirtual 122, 3) := dk_182 0 122 (dk_at dksX0_counter_0 4 rfl rfl)
theorem dX0_counter_7 : decode cX0_counter 7 = .ok (.i2l, 1) := dk_133 (dk_at dksX0_counter_0 7 rfl rfl)
theorem dX0_counter_8 : decode cX0_counter 8 = .ok (.lastore, 1) := dk_80 (dk_at dksX0_counter_0 8 rfl rfl)
theorem dX0_counter_9 : decode cX0_counter 9 = .ok (.goto 6, 3) := dk_167 0 6 (dk_at dksX0_counter_0 9 rfl rfl)
theorem dX0_counter_12 : decode cX0_counter 12 = .ok (.astore_n 3, 1) := dk_78 (dk_at dksX0_counter_0 12 rfl rfl)
theorem dX0_counter_13 : decode cX0_counter 13 = .ok (.iconst 1, 1) := dk_4 (dk_at dksX0_counter_0 13 rfl rfl)
theorem dX0_counter_14 : decode cX0_counter 14 = .ok (.ireturn, 1) := dk_172 (dk_at dksX0_counter_0 14 rfl rfl)
theorem dX0_counter_15 : decode cX0_counter 15 = .ok (.iconst 0, 1) := dk_3 (dk_at dksX0_counter_0 15 rfl rfl)
theorem dX0_counter_16 : decode cX0_counter 16 = .ok (.ireturn, 1) := dk_172 (dk_at dksX0_counter_0 16 rfl rfl)
abbrev cX0_create : ByteArray := method_37_code
def yX0_create : MethodName := ⟨RX0, "create", "(LCountedSkipLists;[J)I"⟩
def dkwX0_create_0 : List UInt8 := [43, 3, 42, 182, 0, 125, 133, 80, 167, 0, 6, 77, 4, 172, 3, 172]
abbrev dktX0_create_0 : List UInt8 := dkwX0_create_0 ++ []
theorem dksX0_create_0 : cX0_create.data.toList.drop 0 = dktX0_create_0 := by decide +kernel
theorem dX0_create_0 : decode cX0_create 0 = .ok (.aload_n 1, 1) := dk_43 (dk_at dksX0_create_0 0 rfl rfl)
theorem dX0_create_1 : decode cX0_create 1 = .ok (.iconst 0, 1) := dk_3 (dk_at dksX0_create_0 1 rfl rfl)
theorem dX0_create_2 : decode cX0_create 2 = .ok (.aload_n 0, 1) := dk_42 (dk_at dksX0_create_0 2 rfl rfl)
theorem dX0_create_3 : decode cX0_create 3 = .ok (.invokevirtual 125, 3) := dk_182 0 125 (dk_at dksX0_create_0 3 rfl rfl)
theorem dX0_create_6 : decode cX0_create 6 = .ok (.i2l, 1) := dk_133 (dk_at dksX0_create_0 6 rfl rfl)
theorem dX0_create_7 : decode cX0_create 7 = .ok (.lastore, 1) := dk_80 (dk_at dksX0_create_0 7 rfl rfl)
theorem dX0_create_8 : decode cX0_create 8 = .ok (.goto 6, 3) := dk_167 0 6 (dk_at dksX0_create_0 8 rfl rfl)
theorem dX0_create_11 : decode cX0_create 11 = .ok (.astore_n 2, 1) := dk_77 (dk_at dksX0_create_0 11 rfl rfl)
theorem dX0_create_12 : decode cX0_create 12 = .ok (.iconst 1, 1) := dk_4 (dk_at dksX0_create_0 12 rfl rfl)
theorem dX0_create_13 : decode cX0_create 13 = .ok (.ireturn, 1) := dk_172 (dk_at dksX0_create_0 13 rfl rfl)
theorem dX0_create_14 : decode cX0_create 14 = .ok (.iconst 0, 1) := dk_3 (dk_at dksX0_create_0 14 rfl rfl)
theorem dX0_create_15 : decode cX0_create 15 = .ok (.ireturn, 1) := dk_172 (dk_at dksX0_create_0 15 rfl rfl)
abbrev cX0_drop : ByteArray := method_38_code
def yX0_drop : MethodName := ⟨RX0, "drop", "(LCountedSkipLists;I[J)I"⟩
def dkwX0_drop_0 : List UInt8 := [44, 3, 42, 27, 182, 0, 128, 133, 80, 167, 0, 6, 78, 4, 172, 3, 172]
abbrev dktX0_drop_0 : List UInt8 := dkwX0_drop_0 ++ []
theorem dksX0_drop_0 : cX0_drop.data.toList.drop 0 = dktX0_drop_0 := by decide +kernel
theorem dX0_drop_0 : decode cX0_drop 0 = .ok (.aload_n 2, 1) := dk_44 (dk_at dksX0_drop_0 0 rfl rfl)
theorem dX0_drop_1 : decode cX0_drop 1 = .ok (.iconst 0, 1) := dk_3 (dk_at dksX0_drop_0 1 rfl rfl)
theorem dX0_drop_2 : decode cX0_drop 2 = .ok (.aload_n 0, 1) := dk_42 (dk_at dksX0_drop_0 2 rfl rfl)
theorem dX0_drop_3 : decode cX0_drop 3 = .ok (.iload_n 1, 1) := dk_27 (dk_at dksX0_drop_0 3 rfl rfl)
theorem dX0_drop_4 : decode cX0_drop 4 = .ok (.invokevirtual 128, 3) := dk_182 0 128 (dk_at dksX0_drop_0 4 rfl rfl)
theorem dX0_drop_7 : decode cX0_drop 7 = .ok (.i2l, 1) := dk_133 (dk_at dksX0_drop_0 7 rfl rfl)
theorem dX0_drop_8 : decode cX0_drop 8 = .ok (.lastore, 1) := dk_80 (dk_at dksX0_drop_0 8 rfl rfl)
theorem dX0_drop_9 : decode cX0_drop 9 = .ok (.goto 6, 3) := dk_167 0 6 (dk_at dksX0_drop_0 9 rfl rfl)
theorem dX0_drop_12 : decode cX0_drop 12 = .ok (.astore_n 3, 1) := dk_78 (dk_at dksX0_drop_0 12 rfl rfl)
theorem dX0_drop_13 : decode cX0_drop 13 = .ok (.iconst 1, 1) := dk_4 (dk_at dksX0_drop_0 13 rfl rfl)
theorem dX0_drop_14 : decode cX0_drop 14 = .ok (.ireturn, 1) := dk_172 (dk_at dksX0_drop_0 14 rfl rfl)
theorem dX0_drop_15 : decode cX0_drop 15 = .ok (.iconst 0, 1) := dk_3 (dk_at dksX0_drop_0 15 rfl rfl)
theorem dX0_drop_16 : decode cX0_drop 16 = .ok (.ireturn, 1) := dk_172 (dk_at dksX0_drop_0 16 rfl rfl)
abbrev cX0_insert : ByteArray := method_39_code
def yX0_insert : MethodName := ⟨RX0, "insert", "(LCountedSkipLists;III[J)I"⟩
def dkwX0_insert_1 : List UInt8 := [58, 5, 6, 172, 3, 172]
abbrev dktX0_insert_1 : List UInt8 := dkwX0_insert_1 ++ []
def dkwX0_insert_0 : List UInt8 := [25, 4, 3, 42, 27, 28, 29, 182, 0, 131, 133, 80, 167, 0, 15, 58, 5, 4, 172, 58, 5, 5, 172]
abbrev dktX0_insert_0 : List UInt8 := dkwX0_insert_0 ++ dktX0_insert_1
theorem dksX0_insert_0 : cX0_insert.data.toList.drop 0 = dktX0_insert_0 := by decide +kernel
theorem dksX0_insert_1 : cX0_insert.data.toList.drop 23 = dktX0_insert_1 := dk_seg dksX0_insert_0 23 rfl rfl
theorem dX0_insert_0 : decode cX0_insert 0 = .ok (.aload 4, 2) := dk_25 4 (dk_at dksX0_insert_0 0 rfl rfl)
theorem dX0_insert_2 : decode cX0_insert 2 = .ok (.iconst 0, 1) := dk_3 (dk_at dksX0_insert_0 2 rfl rfl)
theorem dX0_insert_3 : decode cX0_insert 3 = .ok (.aload_n 0, 1) := dk_42 (dk_at dksX0_insert_0 3 rfl rfl)
theorem dX0_insert_4 : decode cX0_insert 4 = .ok (.iload_n 1, 1) := dk_27 (dk_at dksX0_insert_0 4 rfl rfl)
theorem dX0_insert_5 : decode cX0_insert 5 = .ok (.iload_n 2, 1) := dk_28 (dk_at dksX0_insert_0 5 rfl rfl)
theorem dX0_insert_6 : decode cX0_insert 6 = .ok (.iload_n 3, 1) := dk_29 (dk_at dksX0_insert_0 6 rfl rfl)
theorem dX0_insert_7 : decode cX0_insert 7 = .ok (.invokevirtual 131, 3) := dk_182 0 131 (dk_at dksX0_insert_0 7 rfl rfl)
theorem dX0_insert_10 : decode cX0_insert 10 = .ok (.i2l, 1) := dk_133 (dk_at dksX0_insert_0 10 rfl rfl)
theorem dX0_insert_11 : decode cX0_insert 11 = .ok (.lastore, 1) := dk_80 (dk_at dksX0_insert_0 11 rfl rfl)
theorem dX0_insert_12 : decode cX0_insert 12 = .ok (.goto 15, 3) := dk_167 0 15 (dk_at dksX0_insert_0 12 rfl rfl)
theorem dX0_insert_15 : decode cX0_insert 15 = .ok (.astore 5, 2) := dk_58 5 (dk_at dksX0_insert_0 15 rfl rfl)
theorem dX0_insert_17 : decode cX0_insert 17 = .ok (.iconst 1, 1) := dk_4 (dk_at dksX0_insert_0 17 rfl rfl)
theorem dX0_insert_18 : decode cX0_insert 18 = .ok (.ireturn, 1) := dk_172 (dk_at dksX0_insert_0 18 rfl rfl)
theorem dX0_insert_19 : decode cX0_insert 19 = .ok (.astore 5, 2) := dk_58 5 (dk_at dksX0_insert_0 19 rfl rfl)
theorem dX0_insert_21 : decode cX0_insert 21 = .ok (.iconst 2, 1) := dk_5 (dk_at dksX0_insert_0 21 rfl rfl)
theorem dX0_insert_22 : decode cX0_insert 22 = .ok (.ireturn, 1) := dk_172 (dk_at dksX0_insert_0 22 rfl rfl)
theorem dX0_insert_23 : decode cX0_insert 23 = .ok (.astore 5, 2) := dk_58 5 (dk_at dksX0_insert_1 0 rfl rfl)
theorem dX0_insert_25 : decode cX0_insert 25 = .ok (.iconst 3, 1) := dk_6 (dk_at dksX0_insert_1 2 rfl rfl)
theorem dX0_insert_26 : decode cX0_insert 26 = .ok (.ireturn, 1) := dk_172 (dk_at dksX0_insert_1 3 rfl rfl)
theorem dX0_insert_27 : decode cX0_insert 27 = .ok (.iconst 0, 1) := dk_3 (dk_at dksX0_insert_1 4 rfl rfl)
theorem dX0_insert_28 : decode cX0_insert 28 = .ok (.ireturn, 1) := dk_172 (dk_at dksX0_insert_1 5 rfl rfl)
abbrev cX0_remove : ByteArray := method_40_code
def yX0_remove : MethodName := ⟨RX0, "remove", "(LCountedSkipLists;II[J)I"⟩
def dkwX0_remove_1 : List UInt8 := [172, 3, 172]
abbrev dktX0_remove_1 : List UInt8 := dkwX0_remove_1 ++ []
def dkwX0_remove_0 : List UInt8 := [45, 3, 42, 27, 28, 182, 0, 134, 133, 80, 167, 0, 15, 58, 4, 4, 172, 58, 4, 5, 172, 58, 4, 6]
abbrev dktX0_remove_0 : List UInt8 := dkwX0_remove_0 ++ dktX0_remove_1
theorem dksX0_remove_0 : cX0_remove.data.toList.drop 0 = dktX0_remove_0 := by decide +kernel
theorem dksX0_remove_1 : cX0_remove.data.toList.drop 24 = dktX0_remove_1 := dk_seg dksX0_remove_0 24 rfl rfl
theorem dX0_remove_0 : decode cX0_remove 0 = .ok (.aload_n 3, 1) := dk_45 (dk_at dksX0_remove_0 0 rfl rfl)
theorem dX0_remove_1 : decode cX0_remove 1 = .ok (.iconst 0, 1) := dk_3 (dk_at dksX0_remove_0 1 rfl rfl)
theorem dX0_remove_2 : decode cX0_remove 2 = .ok (.aload_n 0, 1) := dk_42 (dk_at dksX0_remove_0 2 rfl rfl)
theorem dX0_remove_3 : decode cX0_remove 3 = .ok (.iload_n 1, 1) := dk_27 (dk_at dksX0_remove_0 3 rfl rfl)
theorem dX0_remove_4 : decode cX0_remove 4 = .ok (.iload_n 2, 1) := dk_28 (dk_at dksX0_remove_0 4 rfl rfl)
theorem dX0_remove_5 : decode cX0_remove 5 = .ok (.invokevirtual 134, 3) := dk_182 0 134 (dk_at dksX0_remove_0 5 rfl rfl)
theorem dX0_remove_8 : decode cX0_remove 8 = .ok (.i2l, 1) := dk_133 (dk_at dksX0_remove_0 8 rfl rfl)
theorem dX0_remove_9 : decode cX0_remove 9 = .ok (.lastore, 1) := dk_80 (dk_at dksX0_remove_0 9 rfl rfl)
theorem dX0_remove_10 : decode cX0_remove 10 = .ok (.goto 15, 3) := dk_167 0 15 (dk_at dksX0_remove_0 10 rfl rfl)
theorem dX0_remove_13 : decode cX0_remove 13 = .ok (.astore 4, 2) := dk_58 4 (dk_at dksX0_remove_0 13 rfl rfl)
theorem dX0_remove_15 : decode cX0_remove 15 = .ok (.iconst 1, 1) := dk_4 (dk_at dksX0_remove_0 15 rfl rfl)
theorem dX0_remove_16 : decode cX0_remove 16 = .ok (.ireturn, 1) := dk_172 (dk_at dksX0_remove_0 16 rfl rfl)
theorem dX0_remove_17 : decode cX0_remove 17 = .ok (.astore 4, 2) := dk_58 4 (dk_at dksX0_remove_0 17 rfl rfl)
theorem dX0_remove_19 : decode cX0_remove 19 = .ok (.iconst 2, 1) := dk_5 (dk_at dksX0_remove_0 19 rfl rfl)
theorem dX0_remove_20 : decode cX0_remove 20 = .ok (.ireturn, 1) := dk_172 (dk_at dksX0_remove_0 20 rfl rfl)
theorem dX0_remove_21 : decode cX0_remove 21 = .ok (.astore 4, 2) := dk_58 4 (dk_at dksX0_remove_0 21 rfl rfl)
theorem dX0_remove_23 : decode cX0_remove 23 = .ok (.iconst 3, 1) := dk_6 (dk_at dksX0_remove_0 23 rfl rfl)
theorem dX0_remove_24 : decode cX0_remove 24 = .ok (.ireturn, 1) := dk_172 (dk_at dksX0_remove_1 0 rfl rfl)
theorem dX0_remove_25 : decode cX0_remove 25 = .ok (.iconst 0, 1) := dk_3 (dk_at dksX0_remove_1 1 rfl rfl)
theorem dX0_remove_26 : decode cX0_remove 26 = .ok (.ireturn, 1) := dk_172 (dk_at dksX0_remove_1 2 rfl rfl)
abbrev cX0_setValue : ByteArray := method_41_code
def yX0_setValue : MethodName := ⟨RX0, "setValue", "(LCountedSkipLists;III[J)I"⟩
def dkwX0_setValue_1 : List UInt8 := [58, 5, 6, 172, 3, 172]
abbrev dktX0_setValue_1 : List UInt8 := dkwX0_setValue_1 ++ []
def dkwX0_setValue_0 : List UInt8 := [25, 4, 3, 42, 27, 28, 29, 182, 0, 137, 133, 80, 167, 0, 15, 58, 5, 4, 172, 58, 5, 5, 172]
abbrev dktX0_setValue_0 : List UInt8 := dkwX0_setValue_0 ++ dktX0_setValue_1
theorem dksX0_setValue_0 : cX0_setValue.data.toList.drop 0 = dktX0_setValue_0 := by decide +kernel
theorem dksX0_setValue_1 : cX0_setValue.data.toList.drop 23 = dktX0_setValue_1 := dk_seg dksX0_setValue_0 23 rfl rfl
theorem dX0_setValue_0 : decode cX0_setValue 0 = .ok (.aload 4, 2) := dk_25 4 (dk_at dksX0_setValue_0 0 rfl rfl)
theorem dX0_setValue_2 : decode cX0_setValue 2 = .ok (.iconst 0, 1) := dk_3 (dk_at dksX0_setValue_0 2 rfl rfl)
theorem dX0_setValue_3 : decode cX0_setValue 3 = .ok (.aload_n 0, 1) := dk_42 (dk_at dksX0_setValue_0 3 rfl rfl)
theorem dX0_setValue_4 : decode cX0_setValue 4 = .ok (.iload_n 1, 1) := dk_27 (dk_at dksX0_setValue_0 4 rfl rfl)
theorem dX0_setValue_5 : decode cX0_setValue 5 = .ok (.iload_n 2, 1) := dk_28 (dk_at dksX0_setValue_0 5 rfl rfl)
theorem dX0_setValue_6 : decode cX0_setValue 6 = .ok (.iload_n 3, 1) := dk_29 (dk_at dksX0_setValue_0 6 rfl rfl)
theorem dX0_setValue_7 : decode cX0_setValue 7 = .ok (.invokevirtual 137, 3) := dk_182 0 137 (dk_at dksX0_setValue_0 7 rfl rfl)
theorem dX0_setValue_10 : decode cX0_setValue 10 = .ok (.i2l, 1) := dk_133 (dk_at dksX0_setValue_0 10 rfl rfl)
theorem dX0_setValue_11 : decode cX0_setValue 11 = .ok (.lastore, 1) := dk_80 (dk_at dksX0_setValue_0 11 rfl rfl)
theorem dX0_setValue_12 : decode cX0_setValue 12 = .ok (.goto 15, 3) := dk_167 0 15 (dk_at dksX0_setValue_0 12 rfl rfl)
theorem dX0_setValue_15 : decode cX0_setValue 15 = .ok (.astore 5, 2) := dk_58 5 (dk_at dksX0_setValue_0 15 rfl rfl)
theorem dX0_setValue_17 : decode cX0_setValue 17 = .ok (.iconst 1, 1) := dk_4 (dk_at dksX0_setValue_0 17 rfl rfl)
theorem dX0_setValue_18 : decode cX0_setValue 18 = .ok (.ireturn, 1) := dk_172 (dk_at dksX0_setValue_0 18 rfl rfl)
theorem dX0_setValue_19 : decode cX0_setValue 19 = .ok (.astore 5, 2) := dk_58 5 (dk_at dksX0_setValue_0 19 rfl rfl)
theorem dX0_setValue_21 : decode cX0_setValue 21 = .ok (.iconst 2, 1) := dk_5 (dk_at dksX0_setValue_0 21 rfl rfl)
theorem dX0_setValue_22 : decode cX0_setValue 22 = .ok (.ireturn, 1) := dk_172 (dk_at dksX0_setValue_0 22 rfl rfl)
theorem dX0_setValue_23 : decode cX0_setValue 23 = .ok (.astore 5, 2) := dk_58 5 (dk_at dksX0_setValue_1 0 rfl rfl)
theorem dX0_setValue_25 : decode cX0_setValue 25 = .ok (.iconst 3, 1) := dk_6 (dk_at dksX0_setValue_1 2 rfl rfl)
theorem dX0_setValue_26 : decode cX0_setValue 26 = .ok (.ireturn, 1) := dk_172 (dk_at dksX0_setValue_1 3 rfl rfl)
theorem dX0_setValue_27 : decode cX0_setValue 27 = .ok (.iconst 0, 1) := dk_3 (dk_at dksX0_setValue_1 4 rfl rfl)
theorem dX0_setValue_28 : decode cX0_setValue 28 = .ok (.ireturn, 1) := dk_172 (dk_at dksX0_setValue_1 5 rfl rfl)
abbrev cX0_split : ByteArray := method_42_code
def yX0_split : MethodName := ⟨RX0, "split", "(LCountedSkipLists;II[J)I"⟩
def dkwX0_split_1 : List UInt8 := [172, 3, 172]
abbrev dktX0_split_1 : List UInt8 := dkwX0_split_1 ++ []
def dkwX0_split_0 : List UInt8 := [45, 3, 42, 27, 28, 182, 0, 140, 133, 80, 167, 0, 15, 58, 4, 4, 172, 58, 4, 5, 172, 58, 4, 6]
abbrev dktX0_split_0 : List UInt8 := dkwX0_split_0 ++ dktX0_split_1
theorem dksX0_split_0 : cX0_split.data.toList.drop 0 = dktX0_split_0 := by decide +kernel
theorem dksX0_split_1 : cX0_split.data.toList.drop 24 = dktX0_split_1 := dk_seg dksX0_split_0 24 rfl rfl
theorem dX0_split_0 : decode cX0_split 0 = .ok (.aload_n 3, 1) := dk_45 (dk_at dksX0_split_0 0 rfl rfl)
theorem dX0_split_1 : decode cX0_split 1 = .ok (.iconst 0, 1) := dk_3 (dk_at dksX0_split_0 1 rfl rfl)
theorem dX0_split_2 : decode cX0_split 2 = .ok (.aload_n 0, 1) := dk_42 (dk_at dksX0_split_0 2 rfl rfl)
theorem dX0_split_3 : decode cX0_split 3 = .ok (.iload_n 1, 1) := dk_27 (dk_at dksX0_split_0 3 rfl rfl)
theorem dX0_split_4 : decode cX0_split 4 = .ok (.iload_n 2, 1) := dk_28 (dk_at dksX0_split_0 4 rfl rfl)
theorem dX0_split_5 : decode cX0_split 5 = .ok (.invokevirtual 140, 3) := dk_182 0 140 (dk_at dksX0_split_0 5 rfl rfl)
theorem dX0_split_8 : decode cX0_split 8 = .ok (.i2l, 1) := dk_133 (dk_at dksX0_split_0 8 rfl rfl)
theorem dX0_split_9 : decode cX0_split 9 = .ok (.lastore, 1) := dk_80 (dk_at dksX0_split_0 9 rfl rfl)
theorem dX0_split_10 : decode cX0_split 10 = .ok (.goto 15, 3) := dk_167 0 15 (dk_at dksX0_split_0 10 rfl rfl)
theorem dX0_split_13 : decode cX0_split 13 = .ok (.astore 4, 2) := dk_58 4 (dk_at dksX0_split_0 13 rfl rfl)
theorem dX0_split_15 : decode cX0_split 15 = .ok (.iconst 1, 1) := dk_4 (dk_at dksX0_split_0 15 rfl rfl)
theorem dX0_split_16 : decode cX0_split 16 = .ok (.ireturn, 1) := dk_172 (dk_at dksX0_split_0 16 rfl rfl)
theorem dX0_split_17 : decode cX0_split 17 = .ok (.astore 4, 2) := dk_58 4 (dk_at dksX0_split_0 17 rfl rfl)
theorem dX0_split_19 : decode cX0_split 19 = .ok (.iconst 2, 1) := dk_5 (dk_at dksX0_split_0 19 rfl rfl)
theorem dX0_split_20 : decode cX0_split 20 = .ok (.ireturn, 1) := dk_172 (dk_at dksX0_split_0 20 rfl rfl)
theorem dX0_split_21 : decode cX0_split 21 = .ok (.astore 4, 2) := dk_58 4 (dk_at dksX0_split_0 21 rfl rfl)
theorem dX0_split_23 : decode cX0_split 23 = .ok (.iconst 3, 1) := dk_6 (dk_at dksX0_split_0 23 rfl rfl)
theorem dX0_split_24 : decode cX0_split 24 = .ok (.ireturn, 1) := dk_172 (dk_at dksX0_split_1 0 rfl rfl)
theorem dX0_split_25 : decode cX0_split 25 = .ok (.iconst 0, 1) := dk_3 (dk_at dksX0_split_1 1 rfl rfl)
theorem dX0_split_26 : decode cX0_split 26 = .ok (.ireturn, 1) := dk_172 (dk_at dksX0_split_1 2 rfl rfl)
abbrev cX0_cut : ByteArray := method_43_code
def yX0_cut : MethodName := ⟨RX0, "cut", "(LCountedSkipLists;III[J)I"⟩
def dkwX0_cut_1 : List UInt8 := [58, 5, 6, 172, 3, 172]
abbrev dktX0_cut_1 : List UInt8 := dkwX0_cut_1 ++ []
def dkwX0_cut_0 : List UInt8 := [25, 4, 3, 42, 27, 28, 29, 182, 0, 143, 133, 80, 167, 0, 15, 58, 5, 4, 172, 58, 5, 5, 172]
abbrev dktX0_cut_0 : List UInt8 := dkwX0_cut_0 ++ dktX0_cut_1
theorem dksX0_cut_0 : cX0_cut.data.toList.drop 0 = dktX0_cut_0 := by decide +kernel
theorem dksX0_cut_1 : cX0_cut.data.toList.drop 23 = dktX0_cut_1 := dk_seg dksX0_cut_0 23 rfl rfl
theorem dX0_cut_0 : decode cX0_cut 0 = .ok (.aload 4, 2) := dk_25 4 (dk_at dksX0_cut_0 0 rfl rfl)
theorem dX0_cut_2 : decode cX0_cut 2 = .ok (.iconst 0, 1) := dk_3 (dk_at dksX0_cut_0 2 rfl rfl)
theorem dX0_cut_3 : decode cX0_cut 3 = .ok (.aload_n 0, 1) := dk_42 (dk_at dksX0_cut_0 3 rfl rfl)
theorem dX0_cut_4 : decode cX0_cut 4 = .ok (.iload_n 1, 1) := dk_27 (dk_at dksX0_cut_0 4 rfl rfl)
theorem dX0_cut_5 : decode cX0_cut 5 = .ok (.iload_n 2, 1) := dk_28 (dk_at dksX0_cut_0 5 rfl rfl)
theorem dX0_cut_6 : decode cX0_cut 6 = .ok (.iload_n 3, 1) := dk_29 (dk_at dksX0_cut_0 6 rfl rfl)
theorem dX0_cut_7 : decode cX0_cut 7 = .ok (.invokevirtual 143, 3) := dk_182 0 143 (dk_at dksX0_cut_0 7 rfl rfl)
theorem dX0_cut_10 : decode cX0_cut 10 = .ok (.i2l, 1) := dk_133 (dk_at dksX0_cut_0 10 rfl rfl)
theorem dX0_cut_11 : decode cX0_cut 11 = .ok (.lastore, 1) := dk_80 (dk_at dksX0_cut_0 11 rfl rfl)
theorem dX0_cut_12 : decode cX0_cut 12 = .ok (.goto 15, 3) := dk_167 0 15 (dk_at dksX0_cut_0 12 rfl rfl)
theorem dX0_cut_15 : decode cX0_cut 15 = .ok (.astore 5, 2) := dk_58 5 (dk_at dksX0_cut_0 15 rfl rfl)
theorem dX0_cut_17 : decode cX0_cut 17 = .ok (.iconst 1, 1) := dk_4 (dk_at dksX0_cut_0 17 rfl rfl)
theorem dX0_cut_18 : decode cX0_cut 18 = .ok (.ireturn, 1) := dk_172 (dk_at dksX0_cut_0 18 rfl rfl)
theorem dX0_cut_19 : decode cX0_cut 19 = .ok (.astore 5, 2) := dk_58 5 (dk_at dksX0_cut_0 19 rfl rfl)
theorem dX0_cut_21 : decode cX0_cut 21 = .ok (.iconst 2, 1) := dk_5 (dk_at dksX0_cut_0 21 rfl rfl)
theorem dX0_cut_22 : decode cX0_cut 22 = .ok (.ireturn, 1) := dk_172 (dk_at dksX0_cut_0 22 rfl rfl)
theorem dX0_cut_23 : decode cX0_cut 23 = .ok (.astore 5, 2) := dk_58 5 (dk_at dksX0_cut_1 0 rfl rfl)
theorem dX0_cut_25 : decode cX0_cut 25 = .ok (.iconst 3, 1) := dk_6 (dk_at dksX0_cut_1 2 rfl rfl)
theorem dX0_cut_26 : decode cX0_cut 26 = .ok (.ireturn, 1) := dk_172 (dk_at dksX0_cut_1 3 rfl rfl)
theorem dX0_cut_27 : decode cX0_cut 27 = .ok (.iconst 0, 1) := dk_3 (dk_at dksX0_cut_1 4 rfl rfl)
theorem dX0_cut_28 : decode cX0_cut 28 = .ok (.ireturn, 1) := dk_172 (dk_at dksX0_cut_1 5 rfl rfl)
abbrev cX0_join : ByteArray := method_44_code
def yX0_join : MethodName := ⟨RX0, "join", "(LCountedSkipLists;II[J)I"⟩
def dkwX0_join_0 : List UInt8 := [45, 3, 42, 27, 28, 182, 0, 146, 133, 80, 167, 0, 11, 58, 4, 4, 172, 58, 4, 5, 172, 3, 172]
abbrev dktX0_join_0 : List UInt8 := dkwX0_join_0 ++ []
theorem dksX0_join_0 : cX0_join.data.toList.drop 0 = dktX0_join_0 := by decide +kernel
theorem dX0_join_0 : decode cX0_join 0 = .ok (.aload_n 3, 1) := dk_45 (dk_at dksX0_join_0 0 rfl rfl)
theorem dX0_join_1 : decode cX0_join 1 = .ok (.iconst 0, 1) := dk_3 (dk_at dksX0_join_0 1 rfl rfl)
theorem dX0_join_2 : decode cX0_join 2 = .ok (.aload_n 0, 1) := dk_42 (dk_at dksX0_join_0 2 rfl rfl)
theorem dX0_join_3 : decode cX0_join 3 = .ok (.iload_n 1, 1) := dk_27 (dk_at dksX0_join_0 3 rfl rfl)
theorem dX0_join_4 : decode cX0_join 4 = .ok (.iload_n 2, 1) := dk_28 (dk_at dksX0_join_0 4 rfl rfl)
theorem dX0_join_5 : decode cX0_join 5 = .ok (.invokevirtual 146, 3) := dk_182 0 146 (dk_at dksX0_join_0 5 rfl rfl)
theorem dX0_join_8 : decode cX0_join 8 = .ok (.i2l, 1) := dk_133 (dk_at dksX0_join_0 8 rfl rfl)
theorem dX0_join_9 : decode cX0_join 9 = .ok (.lastore, 1) := dk_80 (dk_at dksX0_join_0 9 rfl rfl)
theorem dX0_join_10 : decode cX0_join 10 = .ok (.goto 11, 3) := dk_167 0 11 (dk_at dksX0_join_0 10 rfl rfl)
theorem dX0_join_13 : decode cX0_join 13 = .ok (.astore 4, 2) := dk_58 4 (dk_at dksX0_join_0 13 rfl rfl)
theorem dX0_join_15 : decode cX0_join 15 = .ok (.iconst 1, 1) := dk_4 (dk_at dksX0_join_0 15 rfl rfl)
theorem dX0_join_16 : decode cX0_join 16 = .ok (.ireturn, 1) := dk_172 (dk_at dksX0_join_0 16 rfl rfl)
theorem dX0_join_17 : decode cX0_join 17 = .ok (.astore 4, 2) := dk_58 4 (dk_at dksX0_join_0 17 rfl rfl)
theorem dX0_join_19 : decode cX0_join 19 = .ok (.iconst 2, 1) := dk_5 (dk_at dksX0_join_0 19 rfl rfl)
theorem dX0_join_20 : decode cX0_join 20 = .ok (.ireturn, 1) := dk_172 (dk_at dksX0_join_0 20 rfl rfl)
theorem dX0_join_21 : decode cX0_join 21 = .ok (.iconst 0, 1) := dk_3 (dk_at dksX0_join_0 21 rfl rfl)
theorem dX0_join_22 : decode cX0_join 22 = .ok (.ireturn, 1) := dk_172 (dk_at dksX0_join_0 22 rfl rfl)
abbrev cX0_absorb : ByteArray := method_45_code
def yX0_absorb : MethodName := ⟨RX0, "absorb", "(LCountedSkipLists;II[J)I"⟩
def dkwX0_absorb_0 : List UInt8 := [45, 3, 42, 27, 28, 182, 0, 149, 133, 80, 167, 0, 11, 58, 4, 4, 172, 58, 4, 5, 172, 3, 172]
abbrev dktX0_absorb_0 : List UInt8 := dkwX0_absorb_0 ++ []
theorem dksX0_absorb_0 : cX0_absorb.data.toList.drop 0 = dktX0_absorb_0 := by decide +kernel
theorem dX0_absorb_0 : decode cX0_absorb 0 = .ok (.aload_n 3, 1) := dk_45 (dk_at dksX0_absorb_0 0 rfl rfl)
theorem dX0_absorb_1 : decode cX0_absorb 1 = .ok (.iconst 0, 1) := dk_3 (dk_at dksX0_absorb_0 1 rfl rfl)
theorem dX0_absorb_2 : decode cX0_absorb 2 = .ok (.aload_n 0, 1) := dk_42 (dk_at dksX0_absorb_0 2 rfl rfl)
theorem dX0_absorb_3 : decode cX0_absorb 3 = .ok (.iload_n 1, 1) := dk_27 (dk_at dksX0_absorb_0 3 rfl rfl)
theorem dX0_absorb_4 : decode cX0_absorb 4 = .ok (.iload_n 2, 1) := dk_28 (dk_at dksX0_absorb_0 4 rfl rfl)
theorem dX0_absorb_5 : decode cX0_absorb 5 = .ok (.invokevirtual 149, 3) := dk_182 0 149 (dk_at dksX0_absorb_0 5 rfl rfl)
theorem dX0_absorb_8 : decode cX0_absorb 8 = .ok (.i2l, 1) := dk_133 (dk_at dksX0_absorb_0 8 rfl rfl)
theorem dX0_absorb_9 : decode cX0_absorb 9 = .ok (.lastore, 1) := dk_80 (dk_at dksX0_absorb_0 9 rfl rfl)
theorem dX0_absorb_10 : decode cX0_absorb 10 = .ok (.goto 11, 3) := dk_167 0 11 (dk_at dksX0_absorb_0 10 rfl rfl)
theorem dX0_absorb_13 : decode cX0_absorb 13 = .ok (.astore 4, 2) := dk_58 4 (dk_at dksX0_absorb_0 13 rfl rfl)
theorem dX0_absorb_15 : decode cX0_absorb 15 = .ok (.iconst 1, 1) := dk_4 (dk_at dksX0_absorb_0 15 rfl rfl)
theorem dX0_absorb_16 : decode cX0_absorb 16 = .ok (.ireturn, 1) := dk_172 (dk_at dksX0_absorb_0 16 rfl rfl)
theorem dX0_absorb_17 : decode cX0_absorb 17 = .ok (.astore 4, 2) := dk_58 4 (dk_at dksX0_absorb_0 17 rfl rfl)
theorem dX0_absorb_19 : decode cX0_absorb 19 = .ok (.iconst 2, 1) := dk_5 (dk_at dksX0_absorb_0 19 rfl rfl)
theorem dX0_absorb_20 : decode cX0_absorb 20 = .ok (.ireturn, 1) := dk_172 (dk_at dksX0_absorb_0 20 rfl rfl)
theorem dX0_absorb_21 : decode cX0_absorb 21 = .ok (.iconst 0, 1) := dk_3 (dk_at dksX0_absorb_0 21 rfl rfl)
theorem dX0_absorb_22 : decode cX0_absorb 22 = .ok (.ireturn, 1) := dk_172 (dk_at dksX0_absorb_0 22 rfl rfl)
abbrev cX0_level : ByteArray := method_46_code
def yX0_level : MethodName := ⟨RX0, "level", "(LCountedSkipLists;I[J)I"⟩
def dkwX0_level_0 : List UInt8 := [44, 3, 42, 27, 182, 0, 152, 133, 80, 167, 0, 6, 78, 4, 172, 3, 172]
abbrev dktX0_level_0 : List UInt8 := dkwX0_level_0 ++ []
theorem dksX0_level_0 : cX0_level.data.toList.drop 0 = dktX0_level_0 := by decide +kernel
theorem dX0_level_0 : decode cX0_level 0 = .ok (.aload_n 2, 1) := dk_44 (dk_at dksX0_level_0 0 rfl rfl)
theorem dX0_level_1 : decode cX0_level 1 = .ok (.iconst 0, 1) := dk_3 (dk_at dksX0_level_0 1 rfl rfl)
theorem dX0_level_2 : decode cX0_level 2 = .ok (.aload_n 0, 1) := dk_42 (dk_at dksX0_level_0 2 rfl rfl)
theorem dX0_level_3 : decode cX0_level 3 = .ok (.iload_n 1, 1) := dk_27 (dk_at dksX0_level_0 3 rfl rfl)
theorem dX0_level_4 : decode cX0_level 4 = .ok (.invokevirtual 152, 3) := dk_182 0 152 (dk_at dksX0_level_0 4 rfl rfl)
theorem dX0_level_7 : decode cX0_level 7 = .ok (.i2l, 1) := dk_133 (dk_at dksX0_level_0 7 rfl rfl)
theorem dX0_level_8 : decode cX0_level 8 = .ok (.lastore, 1) := dk_80 (dk_at dksX0_level_0 8 rfl rfl)
theorem dX0_level_9 : decode cX0_level 9 = .ok (.goto 6, 3) := dk_167 0 6 (dk_at dksX0_level_0 9 rfl rfl)
theorem dX0_level_12 : decode cX0_level 12 = .ok (.astore_n 3, 1) := dk_78 (dk_at dksX0_level_0 12 rfl rfl)
theorem dX0_level_13 : decode cX0_level 13 = .ok (.iconst 1, 1) := dk_4 (dk_at dksX0_level_0 13 rfl rfl)
theorem dX0_level_14 : decode cX0_level 14 = .ok (.ireturn, 1) := dk_172 (dk_at dksX0_level_0 14 rfl rfl)
theorem dX0_level_15 : decode cX0_level 15 = .ok (.iconst 0, 1) := dk_3 (dk_at dksX0_level_0 15 rfl rfl)
theorem dX0_level_16 : decode cX0_level 16 = .ok (.ireturn, 1) := dk_172 (dk_at dksX0_level_0 16 rfl rfl)
abbrev cX0_setLimit : ByteArray := method_47_code
def yX0_setLimit : MethodName := ⟨RX0, "setLimit", "(LCountedSkipLists;I[J)I"⟩
def dkwX0_setLimit_0 : List UInt8 := [44, 3, 42, 27, 182, 0, 155, 133, 80, 167, 0, 6, 78, 4, 172, 3, 172]
abbrev dktX0_setLimit_0 : List UInt8 := dkwX0_setLimit_0 ++ []
theorem dksX0_setLimit_0 : cX0_setLimit.data.toList.drop 0 = dktX0_setLimit_0 := by decide +kernel
theorem dX0_setLimit_0 : decode cX0_setLimit 0 = .ok (.aload_n 2, 1) := dk_44 (dk_at dksX0_setLimit_0 0 rfl rfl)
theorem dX0_setLimit_1 : decode cX0_setLimit 1 = .ok (.iconst 0, 1) := dk_3 (dk_at dksX0_setLimit_0 1 rfl rfl)
theorem dX0_setLimit_2 : decode cX0_setLimit 2 = .ok (.aload_n 0, 1) := dk_42 (dk_at dksX0_setLimit_0 2 rfl rfl)
theorem dX0_setLimit_3 : decode cX0_setLimit 3 = .ok (.iload_n 1, 1) := dk_27 (dk_at dksX0_setLimit_0 3 rfl rfl)
theorem dX0_setLimit_4 : decode cX0_setLimit 4 = .ok (.invokevirtual 155, 3) := dk_182 0 155 (dk_at dksX0_setLimit_0 4 rfl rfl)
theorem dX0_setLimit_7 : decode cX0_setLimit 7 = .ok (.i2l, 1) := dk_133 (dk_at dksX0_setLimit_0 7 rfl rfl)
theorem dX0_setLimit_8 : decode cX0_setLimit 8 = .ok (.lastore, 1) := dk_80 (dk_at dksX0_setLimit_0 8 rfl rfl)
theorem dX0_setLimit_9 : decode cX0_setLimit 9 = .ok (.goto 6, 3) := dk_167 0 6 (dk_at dksX0_setLimit_0 9 rfl rfl)
theorem dX0_setLimit_12 : decode cX0_setLimit 12 = .ok (.astore_n 3, 1) := dk_78 (dk_at dksX0_setLimit_0 12 rfl rfl)
theorem dX0_setLimit_13 : decode cX0_setLimit 13 = .ok (.iconst 1, 1) := dk_4 (dk_at dksX0_setLimit_0 13 rfl rfl)
theorem dX0_setLimit_14 : decode cX0_setLimit 14 = .ok (.ireturn, 1) := dk_172 (dk_at dksX0_setLimit_0 14 rfl rfl)
theorem dX0_setLimit_15 : decode cX0_setLimit 15 = .ok (.iconst 0, 1) := dk_3 (dk_at dksX0_setLimit_0 15 rfl rfl)
theorem dX0_setLimit_16 : decode cX0_setLimit 16 = .ok (.ireturn, 1) := dk_172 (dk_at dksX0_setLimit_0 16 rfl rfl)
abbrev cX0_undo : ByteArray := method_48_code
def yX0_undo : MethodName := ⟨RX0, "undo", "(LCountedSkipLists;[J)I"⟩
def dkwX0_undo_0 : List UInt8 := [43, 3, 42, 182, 0, 158, 133, 80, 167, 0, 6, 77, 4, 172, 3, 172]
abbrev dktX0_undo_0 : List UInt8 := dkwX0_undo_0 ++ []
theorem dksX0_undo_0 : cX0_undo.data.toList.drop 0 = dktX0_undo_0 := by decide +kernel
theorem dX0_undo_0 : decode cX0_undo 0 = .ok (.aload_n 1, 1) := dk_43 (dk_at dksX0_undo_0 0 rfl rfl)
theorem dX0_undo_1 : decode cX0_undo 1 = .ok (.iconst 0, 1) := dk_3 (dk_at dksX0_undo_0 1 rfl rfl)
theorem dX0_undo_2 : decode cX0_undo 2 = .ok (.aload_n 0, 1) := dk_42 (dk_at dksX0_undo_0 2 rfl rfl)
theorem dX0_undo_3 : decode cX0_undo 3 = .ok (.invokevirtual 158, 3) := dk_182 0 158 (dk_at dksX0_undo_0 3 rfl rfl)
theorem dX0_undo_6 : decode cX0_undo 6 = .ok (.i2l, 1) := dk_133 (dk_at dksX0_undo_0 6 rfl rfl)
theorem dX0_undo_7 : decode cX0_undo 7 = .ok (.lastore, 1) := dk_80 (dk_at dksX0_undo_0 7 rfl rfl)
theorem dX0_undo_8 : decode cX0_undo 8 = .ok (.goto 6, 3) := dk_167 0 6 (dk_at dksX0_undo_0 8 rfl rfl)
theorem dX0_undo_11 : decode cX0_undo 11 = .ok (.astore_n 2, 1) := dk_77 (dk_at dksX0_undo_0 11 rfl rfl)
theorem dX0_undo_12 : decode cX0_undo 12 = .ok (.iconst 1, 1) := dk_4 (dk_at dksX0_undo_0 12 rfl rfl)
theorem dX0_undo_13 : decode cX0_undo 13 = .ok (.ireturn, 1) := dk_172 (dk_at dksX0_undo_0 13 rfl rfl)
theorem dX0_undo_14 : decode cX0_undo 14 = .ok (.iconst 0, 1) := dk_3 (dk_at dksX0_undo_0 14 rfl rfl)
theorem dX0_undo_15 : decode cX0_undo 15 = .ok (.ireturn, 1) := dk_172 (dk_at dksX0_undo_0 15 rfl rfl)
abbrev cX0_save : ByteArray := method_49_code
def yX0_save : MethodName := ⟨RX0, "save", "(LCountedSkipLists;I)I"⟩
def dkwX0_save_0 : List UInt8 := [42, 27, 182, 0, 161, 167, 0, 6, 77, 4, 172, 3, 172]
abbrev dktX0_save_0 : List UInt8 := dkwX0_save_0 ++ []
theorem dksX0_save_0 : cX0_save.data.toList.drop 0 = dktX0_save_0 := by decide +kernel
theorem dX0_save_0 : decode cX0_save 0 = .ok (.aload_n 0, 1) := dk_42 (dk_at dksX0_save_0 0 rfl rfl)
theorem dX0_save_1 : decode cX0_save 1 = .ok (.iload_n 1, 1) := dk_27 (dk_at dksX0_save_0 1 rfl rfl)
theorem dX0_save_2 : decode cX0_save 2 = .ok (.invokevirtual 161, 3) := dk_182 0 161 (dk_at dksX0_save_0 2 rfl rfl)
theorem dX0_save_5 : decode cX0_save 5 = .ok (.goto 6, 3) := dk_167 0 6 (dk_at dksX0_save_0 5 rfl rfl)
theorem dX0_save_8 : decode cX0_save 8 = .ok (.astore_n 2, 1) := dk_77 (dk_at dksX0_save_0 8 rfl rfl)
theorem dX0_save_9 : decode cX0_save 9 = .ok (.iconst 1, 1) := dk_4 (dk_at dksX0_save_0 9 rfl rfl)
theorem dX0_save_10 : decode cX0_save 10 = .ok (.ireturn, 1) := dk_172 (dk_at dksX0_save_0 10 rfl rfl)
theorem dX0_save_11 : decode cX0_save 11 = .ok (.iconst 0, 1) := dk_3 (dk_at dksX0_save_0 11 rfl rfl)
theorem dX0_save_12 : decode cX0_save 12 = .ok (.ireturn, 1) := dk_172 (dk_at dksX0_save_0 12 rfl rfl)
abbrev cX0_restore : ByteArray := method_50_code
def yX0_restore : MethodName := ⟨RX0, "restore", "(LCountedSkipLists;I)I"⟩
def dkwX0_restore_0 : List UInt8 := [42, 27, 182, 0, 165, 167, 0, 9, 77, 4, 172, 77, 5, 172, 3, 172]
abbrev dktX0_restore_0 : List UInt8 := dkwX0_restore_0 ++ []
theorem dksX0_restore_0 : cX0_restore.data.toList.drop 0 = dktX0_restore_0 := by decide +kernel
theorem dX0_restore_0 : decode cX0_restore 0 = .ok (.aload_n 0, 1) := dk_42 (dk_at dksX0_restore_0 0 rfl rfl)
theorem dX0_restore_1 : decode cX0_restore 1 = .ok (.iload_n 1, 1) := dk_27 (dk_at dksX0_restore_0 1 rfl rfl)
theorem dX0_restore_2 : decode cX0_restore 2 = .ok (.invokevirtual 165, 3) := dk_182 0 165 (dk_at dksX0_restore_0 2 rfl rfl)
theorem dX0_restore_5 : decode cX0_restore 5 = .ok (.goto 9, 3) := dk_167 0 9 (dk_at dksX0_restore_0 5 rfl rfl)
theorem dX0_restore_8 : decode cX0_restore 8 = .ok (.astore_n 2, 1) := dk_77 (dk_at dksX0_restore_0 8 rfl rfl)
theorem dX0_restore_9 : decode cX0_restore 9 = .ok (.iconst 1, 1) := dk_4 (dk_at dksX0_restore_0 9 rfl rfl)
theorem dX0_restore_10 : decode cX0_restore 10 = .ok (.ireturn, 1) := dk_172 (dk_at dksX0_restore_0 10 rfl rfl)
theorem dX0_restore_11 : decode cX0_restore 11 = .ok (.astore_n 2, 1) := dk_77 (dk_at dksX0_restore_0 11 rfl rfl)
theorem dX0_restore_12 : decode cX0_restore 12 = .ok (.iconst 2, 1) := dk_5 (dk_at dksX0_restore_0 12 rfl rfl)
theorem dX0_restore_13 : decode cX0_restore 13 = .ok (.ireturn, 1) := dk_172 (dk_at dksX0_restore_0 13 rfl rfl)
theorem dX0_restore_14 : decode cX0_restore 14 = .ok (.iconst 0, 1) := dk_3 (dk_at dksX0_restore_0 14 rfl rfl)
theorem dX0_restore_15 : decode cX0_restore 15 = .ok (.ireturn, 1) := dk_172 (dk_at dksX0_restore_0 15 rfl rfl)
theorem q83 : (Jvm.Cond.initialized "CountedSkipListsLaw") ∈ lw_all := lw_g (lw_at lw_m1 0 rfl) rfl
theorem q131 : (Jvm.Cond.classLink "CountedSkipListsLaw" (8 : Nat) "CountedSkipLists") ∈ lw_all := lw_g (lw_at lw_m1 48 rfl) rfl
theorem q133 : (Jvm.Cond.methodLink "CountedSkipListsLaw" (168 : Nat) ({ cls := "CountedSkipLists", name := "<init>", desc := "()V" } : Jvm.MethodName)) ∈ lw_all := lw_g (lw_at lw_m1 50 rfl) rfl
theorem q247 : (Jvm.Cond.methodLink "CountedSkipListsLaw" (189 : Nat) ({ cls := "CountedSkipLists", name := "errorCode", desc := "()I" } : Jvm.MethodName)) ∈ lw_all := lw_g (lw_at lw_m1 164 rfl) rfl
theorem q251 : (Jvm.Cond.methodLink "CountedSkipListsLaw" (193 : Nat) ({ cls := "CountedSkipLists", name := "errorPosition", desc := "()I" } : Jvm.MethodName)) ∈ lw_all := lw_g (lw_at lw_m1 168 rfl) rfl
theorem q255 : (Jvm.Cond.methodLink "CountedSkipListsLaw" (200 : Nat) ({ cls := "CountedSkipLists", name := "exists", desc := "(I)Z" } : Jvm.MethodName)) ∈ lw_all := lw_g (lw_at lw_m1 172 rfl) rfl
theorem q262 : (Jvm.Cond.methodLink "CountedSkipListsLaw" (205 : Nat) ({ cls := "CountedSkipLists", name := "limit", desc := "()I" } : Jvm.MethodName)) ∈ lw_all := lw_g (lw_at lw_m1 179 rfl) rfl
theorem q266 : (Jvm.Cond.methodLink "CountedSkipListsLaw" (290 : Nat) ({ cls := "CountedSkipLists", name := "logSize", desc := "()I" } : Jvm.MethodName)) ∈ lw_all := lw_g (lw_at lw_m1 183 rfl) rfl
theorem q278 : (Jvm.Cond.methodLink "CountedSkipListsLaw" (172 : Nat) ({ cls := "CountedSkipListsLaw", name := "append", desc := "(LCountedSkipLists;IIIII[J)I" } : Jvm.MethodName)) ∈ lw_all := lw_g (lw_at lw_m1 195 rfl) rfl
theorem q279 : (Jvm.Cond.static ({ cls := "CountedSkipListsLaw", name := "append", desc := "(LCountedSkipLists;IIIII[J)I" } : Jvm.MethodName)) ∈ lw_all := lw_g (lw_at lw_m1 196 rfl) rfl
theorem q280 : (Jvm.Cond.codeWith ({ cls := "CountedSkipListsLaw", name := "append", desc := "(LCountedSkipLists;IIIII[J)I" } : Jvm.MethodName) method_3_code (8 : Nat) (Option.some Jvm.ClassFile.FieldType.int) [((0 : Nat), (16 : Nat), (19 : Nat), (13 : Nat))]) ∈ lw_all := lw_g (lw_at lw_m1 197 rfl) rfl
theorem q281 : (Jvm.Cond.classLink "CountedSkipListsLaw" (13 : Nat) "java/lang/IllegalStateException") ∈ lw_all := lw_g (lw_at lw_m1 198 rfl) rfl
theorem q282 : (Jvm.Cond.methodLink "CountedSkipListsLaw" (7 : Nat) ({ cls := "CountedSkipLists", name := "append", desc := "(IIIII)I" } : Jvm.MethodName)) ∈ lw_all := lw_g (lw_at lw_m1 199 rfl) rfl
theorem q356 : (Jvm.Cond.methodLink "CountedSkipListsLaw" (181 : Nat) ({ cls := "CountedSkipListsLaw", name := "truncate", desc := "(LCountedSkipLists;I[J)I" } : Jvm.MethodName)) ∈ lw_all := lw_g (lw_at lw_m2 33 rfl) rfl
theorem q357 : (Jvm.Cond.static ({ cls := "CountedSkipListsLaw", name := "truncate", desc := "(LCountedSkipLists;I[J)I" } : Jvm.MethodName)) ∈ lw_all := lw_g (lw_at lw_m2 34 rfl) rfl
theorem q358 : (Jvm.Cond.codeWith ({ cls := "CountedSkipListsLaw", name := "truncate", desc := "(LCountedSkipLists;I[J)I" } : Jvm.MethodName) method_4_code (4 : Nat) (Option.some Jvm.ClassFile.FieldType.int) [((0 : Nat), (9 : Nat), (12 : Nat), (19 : Nat))]) ∈ lw_all := lw_g (lw_at lw_m2 35 rfl) rfl
theorem q359 : (Jvm.Cond.classLink "CountedSkipListsLaw" (19 : Nat) "java/lang/IndexOutOfBoundsException") ∈ lw_all := lw_g (lw_at lw_m2 36 rfl) rfl
theorem q391 : (Jvm.Cond.methodLink "CountedSkipListsLaw" (15 : Nat) ({ cls := "CountedSkipLists", name := "truncate", desc := "(I)I" } : Jvm.MethodName)) ∈ lw_all := lw_g (lw_at lw_m2 68 rfl) rfl
theorem q413 : (Jvm.Cond.methodLink "CountedSkipListsLaw" (185 : Nat) ({ cls := "CountedSkipListsLaw", name := "load", desc := "(LCountedSkipLists;[J)I" } : Jvm.MethodName)) ∈ lw_all := lw_g (lw_at lw_m2 90 rfl) rfl
theorem q414 : (Jvm.Cond.static ({ cls := "CountedSkipListsLaw", name := "load", desc := "(LCountedSkipLists;[J)I" } : Jvm.MethodName)) ∈ lw_all := lw_g (lw_at lw_m2 91 rfl) rfl
theorem q415 : (Jvm.Cond.codeWith ({ cls := "CountedSkipListsLaw", name := "load", desc := "(LCountedSkipLists;[J)I" } : Jvm.MethodName) method_5_code (3 : Nat) (Option.some Jvm.ClassFile.FieldType.int) [((0 : Nat), (8 : Nat), (11 : Nat), (25 : Nat))]) ∈ lw_all := lw_g (lw_at lw_m2 92 rfl) rfl
theorem q416 : (Jvm.Cond.classLink "CountedSkipListsLaw" (25 : Nat) "java/lang/IllegalArgumentException") ∈ lw_all := lw_g (lw_at lw_m2 93 rfl) rfl
theorem q417 : (Jvm.Cond.methodLink "CountedSkipListsLaw" (21 : Nat) ({ cls := "CountedSkipLists", name := "load", desc := "()I" } : Jvm.MethodName)) ∈ lw_all := lw_g (lw_at lw_m2 94 rfl) rfl
theorem q1131 : (Jvm.Cond.methodLink "CountedSkipListsLaw" (197 : Nat) ({ cls := "CountedSkipListsLaw", name := "find", desc := "(LCountedSkipLists;[J)I" } : Jvm.MethodName)) ∈ lw_all := lw_g (lw_at lw_m5 88 rfl) rfl
theorem q1132 : (Jvm.Cond.static ({ cls := "CountedSkipListsLaw", name := "find", desc := "(LCountedSkipLists;[J)I" } : Jvm.MethodName)) ∈ lw_all := lw_g (lw_at lw_m5 89 rfl) rfl
theorem q1133 : (Jvm.Cond.codeWith ({ cls := "CountedSkipListsLaw", name := "find", desc := "(LCountedSkipLists;[J)I" } : Jvm.MethodName) method_6_code (3 : Nat) (Option.some Jvm.ClassFile.FieldType.int) [((0 : Nat), (8 : Nat), (11 : Nat), (30 : Nat))]) ∈ lw_all := lw_g (lw_at lw_m5 90 rfl) rfl
theorem q1134 : (Jvm.Cond.classLink "CountedSkipListsLaw" (30 : Nat) "java/util/NoSuchElementException") ∈ lw_all := lw_g (lw_at lw_m5 91 rfl) rfl
theorem q1135 : (Jvm.Cond.methodLink "CountedSkipListsLaw" (27 : Nat) ({ cls := "CountedSkipLists", name := "find", desc := "()I" } : Jvm.MethodName)) ∈ lw_all := lw_g (lw_at lw_m5 92 rfl) rfl
theorem q1163 : (Jvm.Cond.methodLink "CountedSkipListsLaw" (209 : Nat) ({ cls := "CountedSkipListsLaw", name := "size", desc := "(LCountedSkipLists;I[J)I" } : Jvm.MethodName)) ∈ lw_all := lw_g (lw_at lw_m5 120 rfl) rfl
theorem q1164 : (Jvm.Cond.static ({ cls := "CountedSkipListsLaw", name := "size", desc := "(LCountedSkipLists;I[J)I" } : Jvm.MethodName)) ∈ lw_all := lw_g (lw_at lw_m5 121 rfl) rfl
theorem q1165 : (Jvm.Cond.codeWith ({ cls := "CountedSkipListsLaw", name := "size", desc := "(LCountedSkipLists;I[J)I" } : Jvm.MethodName) method_7_code (4 : Nat) (Option.some Jvm.ClassFile.FieldType.int) [((0 : Nat), (9 : Nat), (12 : Nat), (19 : Nat))]) ∈ lw_all := lw_g (lw_at lw_m5 122 rfl) rfl
theorem q1166 : (Jvm.Cond.methodLink "CountedSkipListsLaw" (32 : Nat) ({ cls := "CountedSkipLists", name := "size", desc := "(I)I" } : Jvm.MethodName)) ∈ lw_all := lw_g (lw_at lw_m5 123 rfl) rfl
theorem q1175 : (Jvm.Cond.methodLink "CountedSkipListsLaw" (212 : Nat) ({ cls := "CountedSkipListsLaw", name := "height", desc := "(LCountedSkipLists;I[J)I" } : Jvm.MethodName)) ∈ lw_all := lw_g (lw_at lw_m5 132 rfl) rfl
theorem q1176 : (Jvm.Cond.static ({ cls := "CountedSkipListsLaw", name := "height", desc := "(LCountedSkipLists;I[J)I" } : Jvm.MethodName)) ∈ lw_all := lw_g (lw_at lw_m5 133 rfl) rfl
theorem q1177 : (Jvm.Cond.codeWith ({ cls := "CountedSkipListsLaw", name := "height", desc := "(LCountedSkipLists;I[J)I" } : Jvm.MethodName) method_8_code (4 : Nat) (Option.some Jvm.ClassFile.FieldType.int) [((0 : Nat), (9 : Nat), (12 : Nat), (19 : Nat))]) ∈ lw_all := lw_g (lw_at lw_m5 134 rfl) rfl
theorem q1178 : (Jvm.Cond.methodLink "CountedSkipListsLaw" (35 : Nat) ({ cls := "CountedSkipLists", name := "height", desc := "(I)I" } : Jvm.MethodName)) ∈ lw_all := lw_g (lw_at lw_m5 135 rfl) rfl
theorem q1183 : (Jvm.Cond.methodLink "CountedSkipListsLaw" (215 : Nat) ({ cls := "CountedSkipListsLaw", name := "keyAt", desc := "(LCountedSkipLists;II[J)I" } : Jvm.MethodName)) ∈ lw_all := lw_g (lw_at lw_m5 140 rfl) rfl
theorem q1184 : (Jvm.Cond.static ({ cls := "CountedSkipListsLaw", name := "keyAt", desc := "(LCountedSkipLists;II[J)I" } : Jvm.MethodName)) ∈ lw_all := lw_g (lw_at lw_m5 141 rfl) rfl
theorem q1185 : (Jvm.Cond.codeWith ({ cls := "CountedSkipListsLaw", name := "keyAt", desc := "(LCountedSkipLists;II[J)I" } : Jvm.MethodName) method_9_code (5 : Nat) (Option.some Jvm.ClassFile.FieldType.int) [((0 : Nat), (10 : Nat), (13 : Nat), (19 : Nat))]) ∈ lw_all := lw_g (lw_at lw_m5 142 rfl) rfl
theorem q1186 : (Jvm.Cond.methodLink "CountedSkipListsLaw" (38 : Nat) ({ cls := "CountedSkipLists", name := "keyAt", desc := "(II)I" } : Jvm.MethodName)) ∈ lw_all := lw_g (lw_at lw_m5 143 rfl) rfl
theorem q1198 : (Jvm.Cond.methodLink "CountedSkipListsLaw" (219 : Nat) ({ cls := "CountedSkipListsLaw", name := "valueAt", desc := "(LCountedSkipLists;II[J)I" } : Jvm.MethodName)) ∈ lw_all := lw_g (lw_at lw_m5 155 rfl) rfl
theorem q1199 : (Jvm.Cond.static ({ cls := "CountedSkipListsLaw", name := "valueAt", desc := "(LCountedSkipLists;II[J)I" } : Jvm.MethodName)) ∈ lw_all := lw_g (lw_at lw_m5 156 rfl) rfl
theorem q1200 : (Jvm.Cond.codeWith ({ cls := "CountedSkipListsLaw", name := "valueAt", desc := "(LCountedSkipLists;II[J)I" } : Jvm.MethodName) method_10_code (5 : Nat) (Option.some Jvm.ClassFile.FieldType.int) [((0 : Nat), (10 : Nat), (13 : Nat), (19 : Nat))]) ∈ lw_all := lw_g (lw_at lw_m5 157 rfl) rfl
theorem q1201 : (Jvm.Cond.methodLink "CountedSkipListsLaw" (42 : Nat) ({ cls := "CountedSkipLists", name := "valueAt", desc := "(II)I" } : Jvm.MethodName)) ∈ lw_all := lw_g (lw_at lw_m5 158 rfl) rfl
theorem q1205 : (Jvm.Cond.methodLink "CountedSkipListsLaw" (222 : Nat) ({ cls := "CountedSkipListsLaw", name := "heightAt", desc := "(LCountedSkipLists;II[J)I" } : Jvm.MethodName)) ∈ lw_all := lw_g (lw_at lw_m5 162 rfl) rfl
theorem q1206 : (Jvm.Cond.static ({ cls := "CountedSkipListsLaw", name := "heightAt", desc := "(LCountedSkipLists;II[J)I" } : Jvm.MethodName)) ∈ lw_all := lw_g (lw_at lw_m5 163 rfl) rfl
theorem q1207 : (Jvm.Cond.codeWith ({ cls := "CountedSkipListsLaw", name := "heightAt", desc := "(LCountedSkipLists;II[J)I" } : Jvm.MethodName) method_11_code (5 : Nat) (Option.some Jvm.ClassFile.FieldType.int) [((0 : Nat), (10 : Nat), (13 : Nat), (19 : Nat))]) ∈ lw_all := lw_g (lw_at lw_m5 164 rfl) rfl
theorem q1208 : (Jvm.Cond.methodLink "CountedSkipListsLaw" (45 : Nat) ({ cls := "CountedSkipLists", name := "heightAt", desc := "(II)I" } : Jvm.MethodName)) ∈ lw_all := lw_g (lw_at lw_m5 165 rfl) rfl
theorem q1212 : (Jvm.Cond.methodLink "CountedSkipListsLaw" (225 : Nat) ({ cls := "CountedSkipListsLaw", name := "value", desc := "(LCountedSkipLists;II[J)I" } : Jvm.MethodName)) ∈ lw_all := lw_g (lw_at lw_m5 169 rfl) rfl
theorem q1213 : (Jvm.Cond.static ({ cls := "CountedSkipListsLaw", name := "value", desc := "(LCountedSkipLists;II[J)I" } : Jvm.MethodName)) ∈ lw_all := lw_g (lw_at lw_m5 170 rfl) rfl
theorem q1214 : (Jvm.Cond.codeWith ({ cls := "CountedSkipListsLaw", name := "value", desc := "(LCountedSkipLists;II[J)I" } : Jvm.MethodName) method_12_code (5 : Nat) (Option.some Jvm.ClassFile.FieldType.int) [((0 : Nat), (10 : Nat), (13 : Nat), (19 : Nat)), ((0 : Nat), (10 : Nat), (17 : Nat), (25 : Nat)), ((0 : Nat), (10 : Nat), (21 : Nat), (30 : Nat))]) ∈ lw_all := lw_g (lw_at lw_m5 171 rfl) rfl
theorem q1215 : (Jvm.Cond.methodLink "CountedSkipListsLaw" (48 : Nat) ({ cls := "CountedSkipLists", name := "value", desc := "(II)I" } : Jvm.MethodName)) ∈ lw_all := lw_g (lw_at lw_m5 172 rfl) rfl
theorem q1275 : (Jvm.Cond.methodLink "CountedSkipListsLaw" (228 : Nat) ({ cls := "CountedSkipListsLaw", name := "rank", desc := "(LCountedSkipLists;II[J)I" } : Jvm.MethodName)) ∈ lw_all := lw_g (lw_at lw_m5 232 rfl) rfl
theorem q1276 : (Jvm.Cond.static ({ cls := "CountedSkipListsLaw", name := "rank", desc := "(LCountedSkipLists;II[J)I" } : Jvm.MethodName)) ∈ lw_all := lw_g (lw_at lw_m5 233 rfl) rfl
theorem q1277 : (Jvm.Cond.codeWith ({ cls := "CountedSkipListsLaw", name := "rank", desc := "(LCountedSkipLists;II[J)I" } : Jvm.MethodName) method_13_code (5 : Nat) (Option.some Jvm.ClassFile.FieldType.int) [((0 : Nat), (10 : Nat), (13 : Nat), (19 : Nat)), ((0 : Nat), (10 : Nat), (17 : Nat), (25 : Nat))]) ∈ lw_all := lw_g (lw_at lw_m5 234 rfl) rfl
theorem q1278 : (Jvm.Cond.methodLink "CountedSkipListsLaw" (51 : Nat) ({ cls := "CountedSkipLists", name := "rank", desc := "(II)I" } : Jvm.MethodName)) ∈ lw_all := lw_g (lw_at lw_m5 235 rfl) rfl
theorem q1286 : (Jvm.Cond.methodLink "CountedSkipListsLaw" (231 : Nat) ({ cls := "CountedSkipListsLaw", name := "nearest", desc := "(LCountedSkipLists;II[J)I" } : Jvm.MethodName)) ∈ lw_all := lw_g (lw_at lw_m6 3 rfl) rfl
theorem q1287 : (Jvm.Cond.static ({ cls := "CountedSkipListsLaw", name := "nearest", desc := "(LCountedSkipLists;II[J)I" } : Jvm.MethodName)) ∈ lw_all := lw_g (lw_at lw_m6 4 rfl) rfl
theorem q1288 : (Jvm.Cond.codeWith ({ cls := "CountedSkipListsLaw", name := "nearest", desc := "(LCountedSkipLists;II[J)I" } : Jvm.MethodName) method_14_code (5 : Nat) (Option.some Jvm.ClassFile.FieldType.int) [((0 : Nat), (10 : Nat), (13 : Nat), (19 : Nat)), ((0 : Nat), (10 : Nat), (17 : Nat), (25 : Nat)), ((0 : Nat), (10 : Nat), (21 : Nat), (30 : Nat))]) ∈ lw_all := lw_g (lw_at lw_m6 5 rfl) rfl
theorem q1289 : (Jvm.Cond.methodLink "CountedSkipListsLaw" (54 : Nat) ({ cls := "CountedSkipLists", name := "nearest", desc := "(II)I" } : Jvm.MethodName)) ∈ lw_all := lw_g (lw_at lw_m6 6 rfl) rfl
theorem q1294 : (Jvm.Cond.methodLink "CountedSkipListsLaw" (234 : Nat) ({ cls := "CountedSkipListsLaw", name := "rangeSum", desc := "(LCountedSkipLists;III[J)I" } : Jvm.MethodName)) ∈ lw_all := lw_g (lw_at lw_m6 11 rfl) rfl
theorem q1295 : (Jvm.Cond.static ({ cls := "CountedSkipListsLaw", name := "rangeSum", desc := "(LCountedSkipLists;III[J)I" } : Jvm.MethodName)) ∈ lw_all := lw_g (lw_at lw_m6 12 rfl) rfl
theorem q1296 : (Jvm.Cond.codeWith ({ cls := "CountedSkipListsLaw", name := "rangeSum", desc := "(LCountedSkipLists;III[J)I" } : Jvm.MethodName) method_15_code (6 : Nat) (Option.some Jvm.ClassFile.FieldType.int) [((0 : Nat), (12 : Nat), (15 : Nat), (19 : Nat)), ((0 : Nat), (12 : Nat), (19 : Nat), (25 : Nat))]) ∈ lw_all := lw_g (lw_at lw_m6 13 rfl) rfl
theorem q1297 : (Jvm.Cond.methodLink "CountedSkipListsLaw" (57 : Nat) ({ cls := "CountedSkipLists", name := "rangeSum", desc := "(III)I" } : Jvm.MethodName)) ∈ lw_all := lw_g (lw_at lw_m6 14 rfl) rfl
theorem q1305 : (Jvm.Cond.methodLink "CountedSkipListsLaw" (238 : Nat) ({ cls := "CountedSkipListsLaw", name := "rowSize", desc := "(LCountedSkipLists;II[J)I" } : Jvm.MethodName)) ∈ lw_all := lw_g (lw_at lw_m6 22 rfl) rfl
theorem q1306 : (Jvm.Cond.static ({ cls := "CountedSkipListsLaw", name := "rowSize", desc := "(LCountedSkipLists;II[J)I" } : Jvm.MethodName)) ∈ lw_all := lw_g (lw_at lw_m6 23 rfl) rfl
theorem q1307 : (Jvm.Cond.codeWith ({ cls := "CountedSkipListsLaw", name := "rowSize", desc := "(LCountedSkipLists;II[J)I" } : Jvm.MethodName) method_16_code (5 : Nat) (Option.some Jvm.ClassFile.FieldType.int) [((0 : Nat), (10 : Nat), (13 : Nat), (19 : Nat)), ((0 : Nat), (10 : Nat), (17 : Nat), (25 : Nat))]) ∈ lw_all := lw_g (lw_at lw_m6 24 rfl) rfl
theorem q1308 : (Jvm.Cond.methodLink "CountedSkipListsLaw" (61 : Nat) ({ cls := "CountedSkipLists", name := "rowSize", desc := "(II)I" } : Jvm.MethodName)) ∈ lw_all := lw_g (lw_at lw_m6 25 rfl) rfl
theorem q1313 : (Jvm.Cond.methodLink "CountedSkipListsLaw" (241 : Nat) ({ cls := "CountedSkipListsLaw", name := "linkWidth", desc := "(LCountedSkipLists;III[J)I" } : Jvm.MethodName)) ∈ lw_all := lw_g (lw_at lw_m6 30 rfl) rfl
theorem q1314 : (Jvm.Cond.static ({ cls := "CountedSkipListsLaw", name := "linkWidth", desc := "(LCountedSkipLists;III[J)I" } : Jvm.MethodName)) ∈ lw_all := lw_g (lw_at lw_m6 31 rfl) rfl
theorem q1315 : (Jvm.Cond.codeWith ({ cls := "CountedSkipListsLaw", name := "linkWidth", desc := "(LCountedSkipLists;III[J)I" } : Jvm.MethodName) method_17_code (6 : Nat) (Option.some Jvm.ClassFile.FieldType.int) [((0 : Nat), (12 : Nat), (15 : Nat), (19 : Nat))]) ∈ lw_all := lw_g (lw_at lw_m6 32 rfl) rfl
theorem q1316 : (Jvm.Cond.methodLink "CountedSkipListsLaw" (64 : Nat) ({ cls := "CountedSkipLists", name := "linkWidth", desc := "(III)I" } : Jvm.MethodName)) ∈ lw_all := lw_g (lw_at lw_m6 33 rfl) rfl
theorem q1324 : (Jvm.Cond.methodLink "CountedSkipListsLaw" (244 : Nat) ({ cls := "CountedSkipListsLaw", name := "linkSum", desc := "(LCountedSkipLists;III[J)I" } : Jvm.MethodName)) ∈ lw_all := lw_g (lw_at lw_m6 41 rfl) rfl
theorem q1325 : (Jvm.Cond.static ({ cls := "CountedSkipListsLaw", name := "linkSum", desc := "(LCountedSkipLists;III[J)I" } : Jvm.MethodName)) ∈ lw_all := lw_g (lw_at lw_m6 42 rfl) rfl
theorem q1326 : (Jvm.Cond.codeWith ({ cls := "CountedSkipListsLaw", name := "linkSum", desc := "(LCountedSkipLists;III[J)I" } : Jvm.MethodName) method_18_code (6 : Nat) (Option.some Jvm.ClassFile.FieldType.int) [((0 : Nat), (12 : Nat), (15 : Nat), (19 : Nat))]) ∈ lw_all := lw_g (lw_at lw_m6 43 rfl) rfl
theorem q1327 : (Jvm.Cond.methodLink "CountedSkipListsLaw" (67 : Nat) ({ cls := "CountedSkipLists", name := "linkSum", desc := "(III)I" } : Jvm.MethodName)) ∈ lw_all := lw_g (lw_at lw_m6 44 rfl) rfl
theorem q1331 : (Jvm.Cond.methodLink "CountedSkipListsLaw" (247 : Nat) ({ cls := "CountedSkipListsLaw", name := "gapSize", desc := "(LCountedSkipLists;III[J)I" } : Jvm.MethodName)) ∈ lw_all := lw_g (lw_at lw_m6 48 rfl) rfl
theorem q1332 : (Jvm.Cond.static ({ cls := "CountedSkipListsLaw", name := "gapSize", desc := "(LCountedSkipLists;III[J)I" } : Jvm.MethodName)) ∈ lw_all := lw_g (lw_at lw_m6 49 rfl) rfl
theorem q1333 : (Jvm.Cond.codeWith ({ cls := "CountedSkipListsLaw", name := "gapSize", desc := "(LCountedSkipLists;III[J)I" } : Jvm.MethodName) method_19_code (6 : Nat) (Option.some Jvm.ClassFile.FieldType.int) [((0 : Nat), (12 : Nat), (15 : Nat), (19 : Nat))]) ∈ lw_all := lw_g (lw_at lw_m6 50 rfl) rfl
theorem q1334 : (Jvm.Cond.methodLink "CountedSkipListsLaw" (70 : Nat) ({ cls := "CountedSkipLists", name := "gapSize", desc := "(III)I" } : Jvm.MethodName)) ∈ lw_all := lw_g (lw_at lw_m6 51 rfl) rfl
theorem q1339 : (Jvm.Cond.methodLink "CountedSkipListsLaw" (250 : Nat) ({ cls := "CountedSkipListsLaw", name := "links", desc := "(LCountedSkipLists;I[J)I" } : Jvm.MethodName)) ∈ lw_all := lw_g (lw_at lw_m6 56 rfl) rfl
theorem q1340 : (Jvm.Cond.static ({ cls := "CountedSkipListsLaw", name := "links", desc := "(LCountedSkipLists;I[J)I" } : Jvm.MethodName)) ∈ lw_all := lw_g (lw_at lw_m6 57 rfl) rfl
theorem q1341 : (Jvm.Cond.codeWith ({ cls := "CountedSkipListsLaw", name := "links", desc := "(LCountedSkipLists;I[J)I" } : Jvm.MethodName) method_20_code (4 : Nat) (Option.some Jvm.ClassFile.FieldType.int) [((0 : Nat), (9 : Nat), (12 : Nat), (19 : Nat))]) ∈ lw_all := lw_g (lw_at lw_m6 58 rfl) rfl
theorem q1342 : (Jvm.Cond.methodLink "CountedSkipListsLaw" (73 : Nat) ({ cls := "CountedSkipLists", name := "links", desc := "(I)I" } : Jvm.MethodName)) ∈ lw_all := lw_g (lw_at lw_m6 59 rfl) rfl
theorem q1347 : (Jvm.Cond.methodLink "CountedSkipListsLaw" (253 : Nat) ({ cls := "CountedSkipListsLaw", name := "steps", desc := "(LCountedSkipLists;II[J)I" } : Jvm.MethodName)) ∈ lw_all := lw_g (lw_at lw_m6 64 rfl) rfl
theorem q1348 : (Jvm.Cond.static ({ cls := "CountedSkipListsLaw", name := "steps", desc := "(LCountedSkipLists;II[J)I" } : Jvm.MethodName)) ∈ lw_all := lw_g (lw_at lw_m6 65 rfl) rfl
theorem q1349 : (Jvm.Cond.codeWith ({ cls := "CountedSkipListsLaw", name := "steps", desc := "(LCountedSkipLists;II[J)I" } : Jvm.MethodName) method_21_code (5 : Nat) (Option.some Jvm.ClassFile.FieldType.int) [((0 : Nat), (10 : Nat), (13 : Nat), (19 : Nat)), ((0 : Nat), (10 : Nat), (17 : Nat), (25 : Nat))]) ∈ lw_all := lw_g (lw_at lw_m6 66 rfl) rfl
theorem q1350 : (Jvm.Cond.methodLink "CountedSkipListsLaw" (76 : Nat) ({ cls := "CountedSkipLists", name := "steps", desc := "(II)I" } : Jvm.MethodName)) ∈ lw_all := lw_g (lw_at lw_m6 67 rfl) rfl
theorem q1386 : (Jvm.Cond.methodLink "CountedSkipListsLaw" (256 : Nat) ({ cls := "CountedSkipListsLaw", name := "looks", desc := "(LCountedSkipLists;II[J)I" } : Jvm.MethodName)) ∈ lw_all := lw_g (lw_at lw_m6 103 rfl) rfl
theorem q1387 : (Jvm.Cond.static ({ cls := "CountedSkipListsLaw", name := "looks", desc := "(LCountedSkipLists;II[J)I" } : Jvm.MethodName)) ∈ lw_all := lw_g (lw_at lw_m6 104 rfl) rfl
theorem q1388 : (Jvm.Cond.codeWith ({ cls := "CountedSkipListsLaw", name := "looks", desc := "(LCountedSkipLists;II[J)I" } : Jvm.MethodName) method_22_code (5 : Nat) (Option.some Jvm.ClassFile.FieldType.int) [((0 : Nat), (10 : Nat), (13 : Nat), (19 : Nat)), ((0 : Nat), (10 : Nat), (17 : Nat), (25 : Nat))]) ∈ lw_all := lw_g (lw_at lw_m6 105 rfl) rfl
theorem q1389 : (Jvm.Cond.methodLink "CountedSkipListsLaw" (79 : Nat) ({ cls := "CountedSkipLists", name := "looks", desc := "(II)I" } : Jvm.MethodName)) ∈ lw_all := lw_g (lw_at lw_m6 106 rfl) rfl
theorem q1393 : (Jvm.Cond.methodLink "CountedSkipListsLaw" (259 : Nat) ({ cls := "CountedSkipListsLaw", name := "stepKey", desc := "(LCountedSkipLists;III[J)I" } : Jvm.MethodName)) ∈ lw_all := lw_g (lw_at lw_m6 110 rfl) rfl
theorem q1394 : (Jvm.Cond.static ({ cls := "CountedSkipListsLaw", name := "stepKey", desc := "(LCountedSkipLists;III[J)I" } : Jvm.MethodName)) ∈ lw_all := lw_g (lw_at lw_m6 111 rfl) rfl
theorem q1395 : (Jvm.Cond.codeWith ({ cls := "CountedSkipListsLaw", name := "stepKey", desc := "(LCountedSkipLists;III[J)I" } : Jvm.MethodName) method_23_code (6 : Nat) (Option.some Jvm.ClassFile.FieldType.int) [((0 : Nat), (12 : Nat), (15 : Nat), (19 : Nat)), ((0 : Nat), (12 : Nat), (19 : Nat), (25 : Nat)), ((0 : Nat), (12 : Nat), (23 : Nat), (30 : Nat))]) ∈ lw_all := lw_g (lw_at lw_m6 112 rfl) rfl
theorem q1396 : (Jvm.Cond.methodLink "CountedSkipListsLaw" (82 : Nat) ({ cls := "CountedSkipLists", name := "stepKey", desc := "(III)I" } : Jvm.MethodName)) ∈ lw_all := lw_g (lw_at lw_m6 113 rfl) rfl
theorem q1404 : (Jvm.Cond.methodLink "CountedSkipListsLaw" (262 : Nat) ({ cls := "CountedSkipListsLaw", name := "stepLevel", desc := "(LCountedSkipLists;III[J)I" } : Jvm.MethodName)) ∈ lw_all := lw_g (lw_at lw_m6 121 rfl) rfl
theorem q1405 : (Jvm.Cond.static ({ cls := "CountedSkipListsLaw", name := "stepLevel", desc := "(LCountedSkipLists;III[J)I" } : Jvm.MethodName)) ∈ lw_all := lw_g (lw_at lw_m6 122 rfl) rfl
theorem q1406 : (Jvm.Cond.codeWith ({ cls := "CountedSkipListsLaw", name := "stepLevel", desc := "(LCountedSkipLists;III[J)I" } : Jvm.MethodName) method_24_code (6 : Nat) (Option.some Jvm.ClassFile.FieldType.int) [((0 : Nat), (12 : Nat), (15 : Nat), (19 : Nat)), ((0 : Nat), (12 : Nat), (19 : Nat), (25 : Nat)), ((0 : Nat), (12 : Nat), (23 : Nat), (30 : Nat))]) ∈ lw_all := lw_g (lw_at lw_m6 123 rfl) rfl
theorem q1407 : (Jvm.Cond.methodLink "CountedSkipListsLaw" (85 : Nat) ({ cls := "CountedSkipLists", name := "stepLevel", desc := "(III)I" } : Jvm.MethodName)) ∈ lw_all := lw_g (lw_at lw_m6 124 rfl) rfl
theorem q1411 : (Jvm.Cond.methodLink "CountedSkipListsLaw" (265 : Nat) ({ cls := "CountedSkipListsLaw", name := "stepsTo", desc := "(LCountedSkipLists;II[J)I" } : Jvm.MethodName)) ∈ lw_all := lw_g (lw_at lw_m6 128 rfl) rfl
theorem q1412 : (Jvm.Cond.static ({ cls := "CountedSkipListsLaw", name := "stepsTo", desc := "(LCountedSkipLists;II[J)I" } : Jvm.MethodName)) ∈ lw_all := lw_g (lw_at lw_m6 129 rfl) rfl
theorem q1413 : (Jvm.Cond.codeWith ({ cls := "CountedSkipListsLaw", name := "stepsTo", desc := "(LCountedSkipLists;II[J)I" } : Jvm.MethodName) method_25_code (5 : Nat) (Option.some Jvm.ClassFile.FieldType.int) [((0 : Nat), (10 : Nat), (13 : Nat), (19 : Nat))]) ∈ lw_all := lw_g (lw_at lw_m6 130 rfl) rfl
theorem q1414 : (Jvm.Cond.methodLink "CountedSkipListsLaw" (88 : Nat) ({ cls := "CountedSkipLists", name := "stepsTo", desc := "(II)I" } : Jvm.MethodName)) ∈ lw_all := lw_g (lw_at lw_m6 131 rfl) rfl
theorem q1418 : (Jvm.Cond.methodLink "CountedSkipListsLaw" (268 : Nat) ({ cls := "CountedSkipListsLaw", name := "farthest", desc := "(LCountedSkipLists;I[J)I" } : Jvm.MethodName)) ∈ lw_all := lw_g (lw_at lw_m6 135 rfl) rfl
theorem q1419 : (Jvm.Cond.static ({ cls := "CountedSkipListsLaw", name := "farthest", desc := "(LCountedSkipLists;I[J)I" } : Jvm.MethodName)) ∈ lw_all := lw_g (lw_at lw_m6 136 rfl) rfl
theorem q1420 : (Jvm.Cond.codeWith ({ cls := "CountedSkipListsLaw", name := "farthest", desc := "(LCountedSkipLists;I[J)I" } : Jvm.MethodName) method_26_code (4 : Nat) (Option.some Jvm.ClassFile.FieldType.int) [((0 : Nat), (9 : Nat), (12 : Nat), (19 : Nat)), ((0 : Nat), (9 : Nat), (15 : Nat), (30 : Nat))]) ∈ lw_all := lw_g (lw_at lw_m6 137 rfl) rfl
theorem q1421 : (Jvm.Cond.methodLink "CountedSkipListsLaw" (91 : Nat) ({ cls := "CountedSkipLists", name := "farthest", desc := "(I)I" } : Jvm.MethodName)) ∈ lw_all := lw_g (lw_at lw_m6 138 rfl) rfl
theorem q1729 : (Jvm.Cond.methodLink "CountedSkipListsLaw" (271 : Nat) ({ cls := "CountedSkipListsLaw", name := "meanLooks", desc := "(LCountedSkipLists;I[D)I" } : Jvm.MethodName)) ∈ lw_all := lw_g (lw_at lw_m7 206 rfl) rfl
theorem q1730 : (Jvm.Cond.static ({ cls := "CountedSkipListsLaw", name := "meanLooks", desc := "(LCountedSkipLists;I[D)I" } : Jvm.MethodName)) ∈ lw_all := lw_g (lw_at lw_m7 207 rfl) rfl
theorem q1731 : (Jvm.Cond.codeWith ({ cls := "CountedSkipListsLaw", name := "meanLooks", desc := "(LCountedSkipLists;I[D)I" } : Jvm.MethodName) method_27_code (4 : Nat) (Option.some Jvm.ClassFile.FieldType.int) [((0 : Nat), (8 : Nat), (11 : Nat), (19 : Nat)), ((0 : Nat), (8 : Nat), (14 : Nat), (30 : Nat))]) ∈ lw_all := lw_g (lw_at lw_m7 208 rfl) rfl
theorem q1732 : (Jvm.Cond.methodLink "CountedSkipListsLaw" (94 : Nat) ({ cls := "CountedSkipLists", name := "meanLooks", desc := "(I)D" } : Jvm.MethodName)) ∈ lw_all := lw_g (lw_at lw_m7 209 rfl) rfl
theorem q1736 : (Jvm.Cond.methodLink "CountedSkipListsLaw" (275 : Nat) ({ cls := "CountedSkipListsLaw", name := "heightIfInserted", desc := "(LCountedSkipLists;II[J)I" } : Jvm.MethodName)) ∈ lw_all := lw_g (lw_at lw_m7 213 rfl) rfl
theorem q1737 : (Jvm.Cond.static ({ cls := "CountedSkipListsLaw", name := "heightIfInserted", desc := "(LCountedSkipLists;II[J)I" } : Jvm.MethodName)) ∈ lw_all := lw_g (lw_at lw_m7 214 rfl) rfl
theorem q1738 : (Jvm.Cond.codeWith ({ cls := "CountedSkipListsLaw", name := "heightIfInserted", desc := "(LCountedSkipLists;II[J)I" } : Jvm.MethodName) method_28_code (5 : Nat) (Option.some Jvm.ClassFile.FieldType.int) [((0 : Nat), (10 : Nat), (13 : Nat), (19 : Nat)), ((0 : Nat), (10 : Nat), (17 : Nat), (25 : Nat)), ((0 : Nat), (10 : Nat), (21 : Nat), (13 : Nat))]) ∈ lw_all := lw_g (lw_at lw_m7 215 rfl) rfl
theorem q1739 : (Jvm.Cond.methodLink "CountedSkipListsLaw" (98 : Nat) ({ cls := "CountedSkipLists", name := "heightIfInserted", desc := "(II)I" } : Jvm.MethodName)) ∈ lw_all := lw_g (lw_at lw_m7 216 rfl) rfl
theorem q1766 : (Jvm.Cond.methodLink "CountedSkipListsLaw" (278 : Nat) ({ cls := "CountedSkipListsLaw", name := "repairsIfRemoved", desc := "(LCountedSkipLists;II[J)I" } : Jvm.MethodName)) ∈ lw_all := lw_g (lw_at lw_m8 3 rfl) rfl
theorem q1767 : (Jvm.Cond.static ({ cls := "CountedSkipListsLaw", name := "repairsIfRemoved", desc := "(LCountedSkipLists;II[J)I" } : Jvm.MethodName)) ∈ lw_all := lw_g (lw_at lw_m8 4 rfl) rfl
theorem q1768 : (Jvm.Cond.codeWith ({ cls := "CountedSkipListsLaw", name := "repairsIfRemoved", desc := "(LCountedSkipLists;II[J)I" } : Jvm.MethodName) method_29_code (5 : Nat) (Option.some Jvm.ClassFile.FieldType.int) [((0 : Nat), (10 : Nat), (13 : Nat), (19 : Nat)), ((0 : Nat), (10 : Nat), (17 : Nat), (25 : Nat)), ((0 : Nat), (10 : Nat), (21 : Nat), (30 : Nat))]) ∈ lw_all := lw_g (lw_at lw_m8 5 rfl) rfl
theorem q1769 : (Jvm.Cond.methodLink "CountedSkipListsLaw" (101 : Nat) ({ cls := "CountedSkipLists", name := "repairsIfRemoved", desc := "(II)I" } : Jvm.MethodName)) ∈ lw_all := lw_g (lw_at lw_m8 6 rfl) rfl
theorem q1777 : (Jvm.Cond.methodLink "CountedSkipListsLaw" (281 : Nat) ({ cls := "CountedSkipListsLaw", name := "repairsIfLimit", desc := "(LCountedSkipLists;I[J)I" } : Jvm.MethodName)) ∈ lw_all := lw_g (lw_at lw_m8 14 rfl) rfl
theorem q1778 : (Jvm.Cond.static ({ cls := "CountedSkipListsLaw", name := "repairsIfLimit", desc := "(LCountedSkipLists;I[J)I" } : Jvm.MethodName)) ∈ lw_all := lw_g (lw_at lw_m8 15 rfl) rfl
theorem q1779 : (Jvm.Cond.codeWith ({ cls := "CountedSkipListsLaw", name := "repairsIfLimit", desc := "(LCountedSkipLists;I[J)I" } : Jvm.MethodName) method_30_code (4 : Nat) (Option.some Jvm.ClassFile.FieldType.int) [((0 : Nat), (9 : Nat), (12 : Nat), (25 : Nat))]) ∈ lw_all := lw_g (lw_at lw_m8 16 rfl) rfl
theorem q1780 : (Jvm.Cond.methodLink "CountedSkipListsLaw" (104 : Nat) ({ cls := "CountedSkipLists", name := "repairsIfLimit", desc := "(I)I" } : Jvm.MethodName)) ∈ lw_all := lw_g (lw_at lw_m8 17 rfl) rfl
theorem q1784 : (Jvm.Cond.methodLink "CountedSkipListsLaw" (284 : Nat) ({ cls := "CountedSkipListsLaw", name := "whyNotJoin", desc := "(LCountedSkipLists;II[J)I" } : Jvm.MethodName)) ∈ lw_all := lw_g (lw_at lw_m8 21 rfl) rfl
theorem q1785 : (Jvm.Cond.static ({ cls := "CountedSkipListsLaw", name := "whyNotJoin", desc := "(LCountedSkipLists;II[J)I" } : Jvm.MethodName)) ∈ lw_all := lw_g (lw_at lw_m8 22 rfl) rfl
theorem q1786 : (Jvm.Cond.codeWith ({ cls := "CountedSkipListsLaw", name := "whyNotJoin", desc := "(LCountedSkipLists;II[J)I" } : Jvm.MethodName) method_31_code (5 : Nat) (Option.some Jvm.ClassFile.FieldType.int) [((0 : Nat), (10 : Nat), (13 : Nat), (19 : Nat))]) ∈ lw_all := lw_g (lw_at lw_m8 23 rfl) rfl
theorem q1787 : (Jvm.Cond.methodLink "CountedSkipListsLaw" (107 : Nat) ({ cls := "CountedSkipLists", name := "whyNotJoin", desc := "(II)I" } : Jvm.MethodName)) ∈ lw_all := lw_g (lw_at lw_m8 24 rfl) rfl
theorem q1795 : (Jvm.Cond.methodLink "CountedSkipListsLaw" (287 : Nat) ({ cls := "CountedSkipListsLaw", name := "whyNotAbsorb", desc := "(LCountedSkipLists;II[J)I" } : Jvm.MethodName)) ∈ lw_all := lw_g (lw_at lw_m8 32 rfl) rfl
theorem q1796 : (Jvm.Cond.static ({ cls := "CountedSkipListsLaw", name := "whyNotAbsorb", desc := "(LCountedSkipLists;II[J)I" } : Jvm.MethodName)) ∈ lw_all := lw_g (lw_at lw_m8 33 rfl) rfl
theorem q1797 : (Jvm.Cond.codeWith ({ cls := "CountedSkipListsLaw", name := "whyNotAbsorb", desc := "(LCountedSkipLists;II[J)I" } : Jvm.MethodName) method_32_code (5 : Nat) (Option.some Jvm.ClassFile.FieldType.int) [((0 : Nat), (10 : Nat), (13 : Nat), (19 : Nat))]) ∈ lw_all := lw_g (lw_at lw_m8 34 rfl) rfl
theorem q1798 : (Jvm.Cond.methodLink "CountedSkipListsLaw" (110 : Nat) ({ cls := "CountedSkipLists", name := "whyNotAbsorb", desc := "(II)I" } : Jvm.MethodName)) ∈ lw_all := lw_g (lw_at lw_m8 35 rfl) rfl
theorem q1802 : (Jvm.Cond.methodLink "CountedSkipListsLaw" (294 : Nat) ({ cls := "CountedSkipListsLaw", name := "logKind", desc := "(LCountedSkipLists;I[J)I" } : Jvm.MethodName)) ∈ lw_all := lw_g (lw_at lw_m8 39 rfl) rfl
theorem q1803 : (Jvm.Cond.static ({ cls := "CountedSkipListsLaw", name := "logKind", desc := "(LCountedSkipLists;I[J)I" } : Jvm.MethodName)) ∈ lw_all := lw_g (lw_at lw_m8 40 rfl) rfl
theorem q1804 : (Jvm.Cond.codeWith ({ cls := "CountedSkipListsLaw", name := "logKind", desc := "(LCountedSkipLists;I[J)I" } : Jvm.MethodName) method_33_code (4 : Nat) (Option.some Jvm.ClassFile.FieldType.int) [((0 : Nat), (9 : Nat), (12 : Nat), (19 : Nat))]) ∈ lw_all := lw_g (lw_at lw_m8 41 rfl) rfl
theorem q1805 : (Jvm.Cond.methodLink "CountedSkipListsLaw" (113 : Nat) ({ cls := "CountedSkipLists", name := "logKind", desc := "(I)I" } : Jvm.MethodName)) ∈ lw_all := lw_g (lw_at lw_m8 42 rfl) rfl
theorem q1841 : (Jvm.Cond.methodLink "CountedSkipListsLaw" (297 : Nat) ({ cls := "CountedSkipListsLaw", name := "logLevel", desc := "(LCountedSkipLists;I[J)I" } : Jvm.MethodName)) ∈ lw_all := lw_g (lw_at lw_m8 78 rfl) rfl
theorem q1842 : (Jvm.Cond.static ({ cls := "CountedSkipListsLaw", name := "logLevel", desc := "(LCountedSkipLists;I[J)I" } : Jvm.MethodName)) ∈ lw_all := lw_g (lw_at lw_m8 79 rfl) rfl
theorem q1843 : (Jvm.Cond.codeWith ({ cls := "CountedSkipListsLaw", name := "logLevel", desc := "(LCountedSkipLists;I[J)I" } : Jvm.MethodName) method_34_code (4 : Nat) (Option.some Jvm.ClassFile.FieldType.int) [((0 : Nat), (9 : Nat), (12 : Nat), (19 : Nat))]) ∈ lw_all := lw_g (lw_at lw_m8 80 rfl) rfl
theorem q1844 : (Jvm.Cond.methodLink "CountedSkipListsLaw" (116 : Nat) ({ cls := "CountedSkipLists", name := "logLevel", desc := "(I)I" } : Jvm.MethodName)) ∈ lw_all := lw_g (lw_at lw_m8 81 rfl) rfl
theorem q1852 : (Jvm.Cond.methodLink "CountedSkipListsLaw" (300 : Nat) ({ cls := "CountedSkipListsLaw", name := "logKey", desc := "(LCountedSkipLists;I[J)I" } : Jvm.MethodName)) ∈ lw_all := lw_g (lw_at lw_m8 89 rfl) rfl
theorem q1853 : (Jvm.Cond.static ({ cls := "CountedSkipListsLaw", name := "logKey", desc := "(LCountedSkipLists;I[J)I" } : Jvm.MethodName)) ∈ lw_all := lw_g (lw_at lw_m8 90 rfl) rfl
theorem q1854 : (Jvm.Cond.codeWith ({ cls := "CountedSkipListsLaw", name := "logKey", desc := "(LCountedSkipLists;I[J)I" } : Jvm.MethodName) method_35_code (4 : Nat) (Option.some Jvm.ClassFile.FieldType.int) [((0 : Nat), (9 : Nat), (12 : Nat), (19 : Nat))]) ∈ lw_all := lw_g (lw_at lw_m8 91 rfl) rfl
theorem q1855 : (Jvm.Cond.methodLink "CountedSkipListsLaw" (119 : Nat) ({ cls := "CountedSkipLists", name := "logKey", desc := "(I)I" } : Jvm.MethodName)) ∈ lw_all := lw_g (lw_at lw_m8 92 rfl) rfl
theorem q1863 : (Jvm.Cond.methodLink "CountedSkipListsLaw" (303 : Nat) ({ cls := "CountedSkipListsLaw", name := "counter", desc := "(LCountedSkipLists;I[J)I" } : Jvm.MethodName)) ∈ lw_all := lw_g (lw_at lw_m8 100 rfl) rfl
theorem q1864 : (Jvm.Cond.static ({ cls := "CountedSkipListsLaw", name := "counter", desc := "(LCountedSkipLists;I[J)I" } : Jvm.MethodName)) ∈ lw_all := lw_g (lw_at lw_m8 101 rfl) rfl
theorem q1865 : (Jvm.Cond.codeWith ({ cls := "CountedSkipListsLaw", name := "counter", desc := "(LCountedSkipLists;I[J)I" } : Jvm.MethodName) method_36_code (4 : Nat) (Option.some Jvm.ClassFile.FieldType.int) [((0 : Nat), (9 : Nat), (12 : Nat), (25 : Nat))]) ∈ lw_all := lw_g (lw_at lw_m8 102 rfl) rfl
theorem q1866 : (Jvm.Cond.methodLink "CountedSkipListsLaw" (122 : Nat) ({ cls := "CountedSkipLists", name := "counter", desc := "(I)I" } : Jvm.MethodName)) ∈ lw_all := lw_g (lw_at lw_m8 103 rfl) rfl
theorem q1870 : (Jvm.Cond.methodLink "CountedSkipListsLaw" (306 : Nat) ({ cls := "CountedSkipListsLaw", name := "create", desc := "(LCountedSkipLists;[J)I" } : Jvm.MethodName)) ∈ lw_all := lw_g (lw_at lw_m8 107 rfl) rfl
theorem q1871 : (Jvm.Cond.static ({ cls := "CountedSkipListsLaw", name := "create", desc := "(LCountedSkipLists;[J)I" } : Jvm.MethodName)) ∈ lw_all := lw_g (lw_at lw_m8 108 rfl) rfl
theorem q1872 : (Jvm.Cond.codeWith ({ cls := "CountedSkipListsLaw", name := "create", desc := "(LCountedSkipLists;[J)I" } : Jvm.MethodName) method_37_code (3 : Nat) (Option.some Jvm.ClassFile.FieldType.int) [((0 : Nat), (8 : Nat), (11 : Nat), (13 : Nat))]) ∈ lw_all := lw_g (lw_at lw_m8 109 rfl) rfl
theorem q1873 : (Jvm.Cond.methodLink "CountedSkipListsLaw" (125 : Nat) ({ cls := "CountedSkipLists", name := "create", desc := "()I" } : Jvm.MethodName)) ∈ lw_all := lw_g (lw_at lw_m8 110 rfl) rfl
theorem q1961 : (Jvm.Cond.methodLink "CountedSkipListsLaw" (309 : Nat) ({ cls := "CountedSkipListsLaw", name := "drop", desc := "(LCountedSkipLists;I[J)I" } : Jvm.MethodName)) ∈ lw_all := lw_g (lw_at lw_m8 198 rfl) rfl
theorem q1962 : (Jvm.Cond.static ({ cls := "CountedSkipListsLaw", name := "drop", desc := "(LCountedSkipLists;I[J)I" } : Jvm.MethodName)) ∈ lw_all := lw_g (lw_at lw_m8 199 rfl) rfl
theorem q1963 : (Jvm.Cond.codeWith ({ cls := "CountedSkipListsLaw", name := "drop", desc := "(LCountedSkipLists;I[J)I" } : Jvm.MethodName) method_38_code (4 : Nat) (Option.some Jvm.ClassFile.FieldType.int) [((0 : Nat), (9 : Nat), (12 : Nat), (19 : Nat))]) ∈ lw_all := lw_g (lw_at lw_m8 200 rfl) rfl
theorem q1964 : (Jvm.Cond.methodLink "CountedSkipListsLaw" (128 : Nat) ({ cls := "CountedSkipLists", name := "drop", desc := "(I)I" } : Jvm.MethodName)) ∈ lw_all := lw_g (lw_at lw_m8 201 rfl) rfl
theorem q1968 : (Jvm.Cond.methodLink "CountedSkipListsLaw" (312 : Nat) ({ cls := "CountedSkipListsLaw", name := "insert", desc := "(LCountedSkipLists;III[J)I" } : Jvm.MethodName)) ∈ lw_all := lw_g (lw_at lw_m8 205 rfl) rfl
theorem q1969 : (Jvm.Cond.static ({ cls := "CountedSkipListsLaw", name := "insert", desc := "(LCountedSkipLists;III[J)I" } : Jvm.MethodName)) ∈ lw_all := lw_g (lw_at lw_m8 206 rfl) rfl
theorem q1970 : (Jvm.Cond.codeWith ({ cls := "CountedSkipListsLaw", name := "insert", desc := "(LCountedSkipLists;III[J)I" } : Jvm.MethodName) method_39_code (6 : Nat) (Option.some Jvm.ClassFile.FieldType.int) [((0 : Nat), (12 : Nat), (15 : Nat), (19 : Nat)), ((0 : Nat), (12 : Nat), (19 : Nat), (25 : Nat)), ((0 : Nat), (12 : Nat), (23 : Nat), (13 : Nat))]) ∈ lw_all := lw_g (lw_at lw_m8 207 rfl) rfl
theorem q1971 : (Jvm.Cond.methodLink "CountedSkipListsLaw" (131 : Nat) ({ cls := "CountedSkipLists", name := "insert", desc := "(III)I" } : Jvm.MethodName)) ∈ lw_all := lw_g (lw_at lw_m8 208 rfl) rfl
theorem q1984 : (Jvm.Cond.methodLink "CountedSkipListsLaw" (315 : Nat) ({ cls := "CountedSkipListsLaw", name := "remove", desc := "(LCountedSkipLists;II[J)I" } : Jvm.MethodName)) ∈ lw_all := lw_g (lw_at lw_m8 221 rfl) rfl
theorem q1985 : (Jvm.Cond.static ({ cls := "CountedSkipListsLaw", name := "remove", desc := "(LCountedSkipLists;II[J)I" } : Jvm.MethodName)) ∈ lw_all := lw_g (lw_at lw_m8 222 rfl) rfl
theorem q1986 : (Jvm.Cond.codeWith ({ cls := "CountedSkipListsLaw", name := "remove", desc := "(LCountedSkipLists;II[J)I" } : Jvm.MethodName) method_40_code (5 : Nat) (Option.some Jvm.ClassFile.FieldType.int) [((0 : Nat), (10 : Nat), (13 : Nat), (19 : Nat)), ((0 : Nat), (10 : Nat), (17 : Nat), (25 : Nat)), ((0 : Nat), (10 : Nat), (21 : Nat), (30 : Nat))]) ∈ lw_all := lw_g (lw_at lw_m8 223 rfl) rfl
theorem q1987 : (Jvm.Cond.methodLink "CountedSkipListsLaw" (134 : Nat) ({ cls := "CountedSkipLists", name := "remove", desc := "(II)I" } : Jvm.MethodName)) ∈ lw_all := lw_g (lw_at lw_m8 224 rfl) rfl
theorem q1991 : (Jvm.Cond.methodLink "CountedSkipListsLaw" (318 : Nat) ({ cls := "CountedSkipListsLaw", name := "setValue", desc := "(LCountedSkipLists;III[J)I" } : Jvm.MethodName)) ∈ lw_all := lw_g (lw_at lw_m8 228 rfl) rfl
theorem q1992 : (Jvm.Cond.static ({ cls := "CountedSkipListsLaw", name := "setValue", desc := "(LCountedSkipLists;III[J)I" } : Jvm.MethodName)) ∈ lw_all := lw_g (lw_at lw_m8 229 rfl) rfl
theorem q1993 : (Jvm.Cond.codeWith ({ cls := "CountedSkipListsLaw", name := "setValue", desc := "(LCountedSkipLists;III[J)I" } : Jvm.MethodName) method_41_code (6 : Nat) (Option.some Jvm.ClassFile.FieldType.int) [((0 : Nat), (12 : Nat), (15 : Nat), (19 : Nat)), ((0 : Nat), (12 : Nat), (19 : Nat), (25 : Nat)), ((0 : Nat), (12 : Nat), (23 : Nat), (30 : Nat))]) ∈ lw_all := lw_g (lw_at lw_m8 230 rfl) rfl
theorem q1994 : (Jvm.Cond.methodLink "CountedSkipListsLaw" (137 : Nat) ({ cls := "CountedSkipLists", name := "setValue", desc := "(III)I" } : Jvm.MethodName)) ∈ lw_all := lw_g (lw_at lw_m8 231 rfl) rfl
theorem q2002 : (Jvm.Cond.methodLink "CountedSkipListsLaw" (321 : Nat) ({ cls := "CountedSkipListsLaw", name := "split", desc := "(LCountedSkipLists;II[J)I" } : Jvm.MethodName)) ∈ lw_all := lw_g (lw_at lw_m8 239 rfl) rfl
theorem q2003 : (Jvm.Cond.static ({ cls := "CountedSkipListsLaw", name := "split", desc := "(LCountedSkipLists;II[J)I" } : Jvm.MethodName)) ∈ lw_all := lw_g (lw_at lw_m9 0 rfl) rfl
theorem q2004 : (Jvm.Cond.codeWith ({ cls := "CountedSkipListsLaw", name := "split", desc := "(LCountedSkipLists;II[J)I" } : Jvm.MethodName) method_42_code (5 : Nat) (Option.some Jvm.ClassFile.FieldType.int) [((0 : Nat), (10 : Nat), (13 : Nat), (19 : Nat)), ((0 : Nat), (10 : Nat), (17 : Nat), (25 : Nat)), ((0 : Nat), (10 : Nat), (21 : Nat), (13 : Nat))]) ∈ lw_all := lw_g (lw_at lw_m9 1 rfl) rfl
theorem q2005 : (Jvm.Cond.methodLink "CountedSkipListsLaw" (140 : Nat) ({ cls := "CountedSkipLists", name := "split", desc := "(II)I" } : Jvm.MethodName)) ∈ lw_all := lw_g (lw_at lw_m9 2 rfl) rfl
theorem q2015 : (Jvm.Cond.methodLink "CountedSkipListsLaw" (324 : Nat) ({ cls := "CountedSkipListsLaw", name := "cut", desc := "(LCountedSkipLists;III[J)I" } : Jvm.MethodName)) ∈ lw_all := lw_g (lw_at lw_m9 12 rfl) rfl
theorem q2016 : (Jvm.Cond.static ({ cls := "CountedSkipListsLaw", name := "cut", desc := "(LCountedSkipLists;III[J)I" } : Jvm.MethodName)) ∈ lw_all := lw_g (lw_at lw_m9 13 rfl) rfl
theorem q2017 : (Jvm.Cond.codeWith ({ cls := "CountedSkipListsLaw", name := "cut", desc := "(LCountedSkipLists;III[J)I" } : Jvm.MethodName) method_43_code (6 : Nat) (Option.some Jvm.ClassFile.FieldType.int) [((0 : Nat), (12 : Nat), (15 : Nat), (19 : Nat)), ((0 : Nat), (12 : Nat), (19 : Nat), (25 : Nat)), ((0 : Nat), (12 : Nat), (23 : Nat), (13 : Nat))]) ∈ lw_all := lw_g (lw_at lw_m9 14 rfl) rfl
theorem q2018 : (Jvm.Cond.methodLink "CountedSkipListsLaw" (143 : Nat) ({ cls := "CountedSkipLists", name := "cut", desc := "(III)I" } : Jvm.MethodName)) ∈ lw_all := lw_g (lw_at lw_m9 15 rfl) rfl
theorem q2026 : (Jvm.Cond.methodLink "CountedSkipListsLaw" (327 : Nat) ({ cls := "CountedSkipListsLaw", name := "join", desc := "(LCountedSkipLists;II[J)I" } : Jvm.MethodName)) ∈ lw_all := lw_g (lw_at lw_m9 23 rfl) rfl
theorem q2027 : (Jvm.Cond.static ({ cls := "CountedSkipListsLaw", name := "join", desc := "(LCountedSkipLists;II[J)I" } : Jvm.MethodName)) ∈ lw_all := lw_g (lw_at lw_m9 24 rfl) rfl
theorem q2028 : (Jvm.Cond.codeWith ({ cls := "CountedSkipListsLaw", name := "join", desc := "(LCountedSkipLists;II[J)I" } : Jvm.MethodName) method_44_code (5 : Nat) (Option.some Jvm.ClassFile.FieldType.int) [((0 : Nat), (10 : Nat), (13 : Nat), (19 : Nat)), ((0 : Nat), (10 : Nat), (17 : Nat), (13 : Nat))]) ∈ lw_all := lw_g (lw_at lw_m9 25 rfl) rfl
theorem q2029 : (Jvm.Cond.methodLink "CountedSkipListsLaw" (146 : Nat) ({ cls := "CountedSkipLists", name := "join", desc := "(II)I" } : Jvm.MethodName)) ∈ lw_all := lw_g (lw_at lw_m9 26 rfl) rfl
theorem q2034 : (Jvm.Cond.methodLink "CountedSkipListsLaw" (330 : Nat) ({ cls := "CountedSkipListsLaw", name := "absorb", desc := "(LCountedSkipLists;II[J)I" } : Jvm.MethodName)) ∈ lw_all := lw_g (lw_at lw_m9 31 rfl) rfl
theorem q2035 : (Jvm.Cond.static ({ cls := "CountedSkipListsLaw", name := "absorb", desc := "(LCountedSkipLists;II[J)I" } : Jvm.MethodName)) ∈ lw_all := lw_g (lw_at lw_m9 32 rfl) rfl
theorem q2036 : (Jvm.Cond.codeWith ({ cls := "CountedSkipListsLaw", name := "absorb", desc := "(LCountedSkipLists;II[J)I" } : Jvm.MethodName) method_45_code (5 : Nat) (Option.some Jvm.ClassFile.FieldType.int) [((0 : Nat), (10 : Nat), (13 : Nat), (19 : Nat)), ((0 : Nat), (10 : Nat), (17 : Nat), (13 : Nat))]) ∈ lw_all := lw_g (lw_at lw_m9 33 rfl) rfl
theorem q2037 : (Jvm.Cond.methodLink "CountedSkipListsLaw" (149 : Nat) ({ cls := "CountedSkipLists", name := "absorb", desc := "(II)I" } : Jvm.MethodName)) ∈ lw_all := lw_g (lw_at lw_m9 34 rfl) rfl
theorem q2042 : (Jvm.Cond.methodLink "CountedSkipListsLaw" (333 : Nat) ({ cls := "CountedSkipListsLaw", name := "level", desc := "(LCountedSkipLists;I[J)I" } : Jvm.MethodName)) ∈ lw_all := lw_g (lw_at lw_m9 39 rfl) rfl
theorem q2043 : (Jvm.Cond.static ({ cls := "CountedSkipListsLaw", name := "level", desc := "(LCountedSkipLists;I[J)I" } : Jvm.MethodName)) ∈ lw_all := lw_g (lw_at lw_m9 40 rfl) rfl
theorem q2044 : (Jvm.Cond.codeWith ({ cls := "CountedSkipListsLaw", name := "level", desc := "(LCountedSkipLists;I[J)I" } : Jvm.MethodName) method_46_code (4 : Nat) (Option.some Jvm.ClassFile.FieldType.int) [((0 : Nat), (9 : Nat), (12 : Nat), (19 : Nat))]) ∈ lw_all := lw_g (lw_at lw_m9 41 rfl) rfl
theorem q2045 : (Jvm.Cond.methodLink "CountedSkipListsLaw" (152 : Nat) ({ cls := "CountedSkipLists", name := "level", desc := "(I)I" } : Jvm.MethodName)) ∈ lw_all := lw_g (lw_at lw_m9 42 rfl) rfl
theorem q2050 : (Jvm.Cond.methodLink "CountedSkipListsLaw" (336 : Nat) ({ cls := "CountedSkipListsLaw", name := "setLimit", desc := "(LCountedSkipLists;I[J)I" } : Jvm.MethodName)) ∈ lw_all := lw_g (lw_at lw_m9 47 rfl) rfl
theorem q2051 : (Jvm.Cond.static ({ cls := "CountedSkipListsLaw", name := "setLimit", desc := "(LCountedSkipLists;I[J)I" } : Jvm.MethodName)) ∈ lw_all := lw_g (lw_at lw_m9 48 rfl) rfl
theorem q2052 : (Jvm.Cond.codeWith ({ cls := "CountedSkipListsLaw", name := "setLimit", desc := "(LCountedSkipLists;I[J)I" } : Jvm.MethodName) method_47_code (4 : Nat) (Option.some Jvm.ClassFile.FieldType.int) [((0 : Nat), (9 : Nat), (12 : Nat), (25 : Nat))]) ∈ lw_all := lw_g (lw_at lw_m9 49 rfl) rfl
theorem q2053 : (Jvm.Cond.methodLink "CountedSkipListsLaw" (155 : Nat) ({ cls := "CountedSkipLists", name := "setLimit", desc := "(I)I" } : Jvm.MethodName)) ∈ lw_all := lw_g (lw_at lw_m9 50 rfl) rfl
theorem q2057 : (Jvm.Cond.methodLink "CountedSkipListsLaw" (339 : Nat) ({ cls := "CountedSkipListsLaw", name := "undo", desc := "(LCountedSkipLists;[J)I" } : Jvm.MethodName)) ∈ lw_all := lw_g (lw_at lw_m9 54 rfl) rfl
theorem q2058 : (Jvm.Cond.static ({ cls := "CountedSkipListsLaw", name := "undo", desc := "(LCountedSkipLists;[J)I" } : Jvm.MethodName)) ∈ lw_all := lw_g (lw_at lw_m9 55 rfl) rfl
theorem q2059 : (Jvm.Cond.codeWith ({ cls := "CountedSkipListsLaw", name := "undo", desc := "(LCountedSkipLists;[J)I" } : Jvm.MethodName) method_48_code (3 : Nat) (Option.some Jvm.ClassFile.FieldType.int) [((0 : Nat), (8 : Nat), (11 : Nat), (13 : Nat))]) ∈ lw_all := lw_g (lw_at lw_m9 56 rfl) rfl
theorem q2060 : (Jvm.Cond.methodLink "CountedSkipListsLaw" (158 : Nat) ({ cls := "CountedSkipLists", name := "undo", desc := "()I" } : Jvm.MethodName)) ∈ lw_all := lw_g (lw_at lw_m9 57 rfl) rfl
theorem q2075 : (Jvm.Cond.methodLink "CountedSkipListsLaw" (342 : Nat) ({ cls := "CountedSkipListsLaw", name := "save", desc := "(LCountedSkipLists;I)I" } : Jvm.MethodName)) ∈ lw_all := lw_g (lw_at lw_m9 72 rfl) rfl
theorem q2076 : (Jvm.Cond.static ({ cls := "CountedSkipListsLaw", name := "save", desc := "(LCountedSkipLists;I)I" } : Jvm.MethodName)) ∈ lw_all := lw_g (lw_at lw_m9 73 rfl) rfl
theorem q2077 : (Jvm.Cond.codeWith ({ cls := "CountedSkipListsLaw", name := "save", desc := "(LCountedSkipLists;I)I" } : Jvm.MethodName) method_49_code (3 : Nat) (Option.some Jvm.ClassFile.FieldType.int) [((0 : Nat), (5 : Nat), (8 : Nat), (19 : Nat))]) ∈ lw_all := lw_g (lw_at lw_m9 74 rfl) rfl
theorem q2078 : (Jvm.Cond.methodLink "CountedSkipListsLaw" (161 : Nat) ({ cls := "CountedSkipLists", name := "save", desc := "(I)V" } : Jvm.MethodName)) ∈ lw_all := lw_g (lw_at lw_m9 75 rfl) rfl
theorem q2085 : (Jvm.Cond.methodLink "CountedSkipListsLaw" (346 : Nat) ({ cls := "CountedSkipListsLaw", name := "restore", desc := "(LCountedSkipLists;I)I" } : Jvm.MethodName)) ∈ lw_all := lw_g (lw_at lw_m9 82 rfl) rfl
theorem q2086 : (Jvm.Cond.static ({ cls := "CountedSkipListsLaw", name := "restore", desc := "(LCountedSkipLists;I)I" } : Jvm.MethodName)) ∈ lw_all := lw_g (lw_at lw_m9 83 rfl) rfl
theorem q2087 : (Jvm.Cond.codeWith ({ cls := "CountedSkipListsLaw", name := "restore", desc := "(LCountedSkipLists;I)I" } : Jvm.MethodName) method_50_code (3 : Nat) (Option.some Jvm.ClassFile.FieldType.int) [((0 : Nat), (5 : Nat), (8 : Nat), (19 : Nat)), ((0 : Nat), (5 : Nat), (11 : Nat), (30 : Nat))]) ∈ lw_all := lw_g (lw_at lw_m9 84 rfl) rfl
theorem q2088 : (Jvm.Cond.methodLink "CountedSkipListsLaw" (165 : Nat) ({ cls := "CountedSkipLists", name := "restore", desc := "(I)V" } : Jvm.MethodName)) ∈ lw_all := lw_g (lw_at lw_m9 85 rfl) rfl
theorem q2092 : (Jvm.Cond.classLink "CountedSkipListsLaw" (169 : Nat) "CountedSkipListsModel") ∈ lw_all := lw_g (lw_at lw_m9 89 rfl) rfl
theorem q2094 : (Jvm.Cond.methodLink "CountedSkipListsLaw" (171 : Nat) ({ cls := "CountedSkipListsModel", name := "<init>", desc := "()V" } : Jvm.MethodName)) ∈ lw_all := lw_g (lw_at lw_m9 91 rfl) rfl
theorem q2195 : (Jvm.Cond.methodLink "CountedSkipListsLaw" (178 : Nat) ({ cls := "CountedSkipListsModel", name := "thrown", desc := "()I" } : Jvm.MethodName)) ∈ lw_all := lw_g (lw_at lw_m9 192 rfl) rfl
theorem q2199 : (Jvm.Cond.methodLink "CountedSkipListsLaw" (177 : Nat) ({ cls := "CountedSkipListsModel", name := "append", desc := "(IIIII)I" } : Jvm.MethodName)) ∈ lw_all := lw_g (lw_at lw_m9 196 rfl) rfl
theorem q2207 : (Jvm.Cond.methodLink "CountedSkipListsLaw" (184 : Nat) ({ cls := "CountedSkipListsModel", name := "truncate", desc := "(I)I" } : Jvm.MethodName)) ∈ lw_all := lw_g (lw_at lw_m9 204 rfl) rfl
theorem q2214 : (Jvm.Cond.methodLink "CountedSkipListsLaw" (188 : Nat) ({ cls := "CountedSkipListsModel", name := "load", desc := "()I" } : Jvm.MethodName)) ∈ lw_all := lw_g (lw_at lw_m9 211 rfl) rfl
theorem q2327 : (Jvm.Cond.methodLink "CountedSkipListsLaw" (192 : Nat) ({ cls := "CountedSkipListsModel", name := "errorCode", desc := "()I" } : Jvm.MethodName)) ∈ lw_all := lw_g (lw_at lw_m10 84 rfl) rfl
theorem q2331 : (Jvm.Cond.methodLink "CountedSkipListsLaw" (196 : Nat) ({ cls := "CountedSkipListsModel", name := "errorPosition", desc := "()I" } : Jvm.MethodName)) ∈ lw_all := lw_g (lw_at lw_m10 88 rfl) rfl
theorem q2335 : (Jvm.Cond.methodLink "CountedSkipListsLaw" (199 : Nat) ({ cls := "CountedSkipListsModel", name := "find", desc := "()I" } : Jvm.MethodName)) ∈ lw_all := lw_g (lw_at lw_m10 92 rfl) rfl
theorem q2339 : (Jvm.Cond.methodLink "CountedSkipListsLaw" (204 : Nat) ({ cls := "CountedSkipListsModel", name := "exists", desc := "(I)Z" } : Jvm.MethodName)) ∈ lw_all := lw_g (lw_at lw_m10 96 rfl) rfl
theorem q2348 : (Jvm.Cond.methodLink "CountedSkipListsLaw" (208 : Nat) ({ cls := "CountedSkipListsModel", name := "limit", desc := "()I" } : Jvm.MethodName)) ∈ lw_all := lw_g (lw_at lw_m10 105 rfl) rfl
theorem q2352 : (Jvm.Cond.methodLink "CountedSkipListsLaw" (211 : Nat) ({ cls := "CountedSkipListsModel", name := "size", desc := "(I)I" } : Jvm.MethodName)) ∈ lw_all := lw_g (lw_at lw_m10 109 rfl) rfl
theorem q2356 : (Jvm.Cond.methodLink "CountedSkipListsLaw" (214 : Nat) ({ cls := "CountedSkipListsModel", name := "height", desc := "(I)I" } : Jvm.MethodName)) ∈ lw_all := lw_g (lw_at lw_m10 113 rfl) rfl
theorem q2360 : (Jvm.Cond.methodLink "CountedSkipListsLaw" (218 : Nat) ({ cls := "CountedSkipListsModel", name := "keyAt", desc := "(II)I" } : Jvm.MethodName)) ∈ lw_all := lw_g (lw_at lw_m10 117 rfl) rfl
theorem q2372 : (Jvm.Cond.methodLink "CountedSkipListsLaw" (221 : Nat) ({ cls := "CountedSkipListsModel", name := "valueAt", desc := "(II)I" } : Jvm.MethodName)) ∈ lw_all := lw_g (lw_at lw_m10 129 rfl) rfl
theorem q2376 : (Jvm.Cond.methodLink "CountedSkipListsLaw" (224 : Nat) ({ cls := "CountedSkipListsModel", name := "heightAt", desc := "(II)I" } : Jvm.MethodName)) ∈ lw_all := lw_g (lw_at lw_m10 133 rfl) rfl
theorem q2380 : (Jvm.Cond.methodLink "CountedSkipListsLaw" (227 : Nat) ({ cls := "CountedSkipListsModel", name := "value", desc := "(II)I" } : Jvm.MethodName)) ∈ lw_all := lw_g (lw_at lw_m10 137 rfl) rfl
theorem q2397 : (Jvm.Cond.methodLink "CountedSkipListsLaw" (230 : Nat) ({ cls := "CountedSkipListsModel", name := "rank", desc := "(II)I" } : Jvm.MethodName)) ∈ lw_all := lw_g (lw_at lw_m10 154 rfl) rfl
theorem q2405 : (Jvm.Cond.methodLink "CountedSkipListsLaw" (233 : Nat) ({ cls := "CountedSkipListsModel", name := "nearest", desc := "(II)I" } : Jvm.MethodName)) ∈ lw_all := lw_g (lw_at lw_m10 162 rfl) rfl
theorem q2409 : (Jvm.Cond.methodLink "CountedSkipListsLaw" (237 : Nat) ({ cls := "CountedSkipListsModel", name := "rangeSum", desc := "(III)I" } : Jvm.MethodName)) ∈ lw_all := lw_g (lw_at lw_m10 166 rfl) rfl
theorem q2413 : (Jvm.Cond.methodLink "CountedSkipListsLaw" (240 : Nat) ({ cls := "CountedSkipListsModel", name := "rowSize", desc := "(II)I" } : Jvm.MethodName)) ∈ lw_all := lw_g (lw_at lw_m10 170 rfl) rfl
theorem q2421 : (Jvm.Cond.methodLink "CountedSkipListsLaw" (243 : Nat) ({ cls := "CountedSkipListsModel", name := "linkWidth", desc := "(III)I" } : Jvm.MethodName)) ∈ lw_all := lw_g (lw_at lw_m10 178 rfl) rfl
theorem q2433 : (Jvm.Cond.methodLink "CountedSkipListsLaw" (246 : Nat) ({ cls := "CountedSkipListsModel", name := "linkSum", desc := "(III)I" } : Jvm.MethodName)) ∈ lw_all := lw_g (lw_at lw_m10 190 rfl) rfl
theorem q2437 : (Jvm.Cond.methodLink "CountedSkipListsLaw" (249 : Nat) ({ cls := "CountedSkipListsModel", name := "gapSize", desc := "(III)I" } : Jvm.MethodName)) ∈ lw_all := lw_g (lw_at lw_m10 194 rfl) rfl
theorem q2441 : (Jvm.Cond.methodLink "CountedSkipListsLaw" (252 : Nat) ({ cls := "CountedSkipListsModel", name := "links", desc := "(I)I" } : Jvm.MethodName)) ∈ lw_all := lw_g (lw_at lw_m10 198 rfl) rfl
theorem q2445 : (Jvm.Cond.methodLink "CountedSkipListsLaw" (255 : Nat) ({ cls := "CountedSkipListsModel", name := "steps", desc := "(II)I" } : Jvm.MethodName)) ∈ lw_all := lw_g (lw_at lw_m10 202 rfl) rfl
theorem q2453 : (Jvm.Cond.methodLink "CountedSkipListsLaw" (258 : Nat) ({ cls := "CountedSkipListsModel", name := "looks", desc := "(II)I" } : Jvm.MethodName)) ∈ lw_all := lw_g (lw_at lw_m10 210 rfl) rfl
theorem q2457 : (Jvm.Cond.methodLink "CountedSkipListsLaw" (261 : Nat) ({ cls := "CountedSkipListsModel", name := "stepKey", desc := "(III)I" } : Jvm.MethodName)) ∈ lw_all := lw_g (lw_at lw_m10 214 rfl) rfl
theorem q2465 : (Jvm.Cond.methodLink "CountedSkipListsLaw" (264 : Nat) ({ cls := "CountedSkipListsModel", name := "stepLevel", desc := "(III)I" } : Jvm.MethodName)) ∈ lw_all := lw_g (lw_at lw_m10 222 rfl) rfl
theorem q2469 : (Jvm.Cond.methodLink "CountedSkipListsLaw" (267 : Nat) ({ cls := "CountedSkipListsModel", name := "stepsTo", desc := "(II)I" } : Jvm.MethodName)) ∈ lw_all := lw_g (lw_at lw_m10 226 rfl) rfl
theorem q2473 : (Jvm.Cond.methodLink "CountedSkipListsLaw" (270 : Nat) ({ cls := "CountedSkipListsModel", name := "farthest", desc := "(I)I" } : Jvm.MethodName)) ∈ lw_all := lw_g (lw_at lw_m10 230 rfl) rfl
theorem q2477 : (Jvm.Cond.methodLink "CountedSkipListsLaw" (274 : Nat) ({ cls := "CountedSkipListsModel", name := "meanLooks", desc := "(I)D" } : Jvm.MethodName)) ∈ lw_all := lw_g (lw_at lw_m10 234 rfl) rfl
theorem q2481 : (Jvm.Cond.methodLink "CountedSkipListsLaw" (277 : Nat) ({ cls := "CountedSkipListsModel", name := "heightIfInserted", desc := "(II)I" } : Jvm.MethodName)) ∈ lw_all := lw_g (lw_at lw_m10 238 rfl) rfl
theorem q2497 : (Jvm.Cond.methodLink "CountedSkipListsLaw" (280 : Nat) ({ cls := "CountedSkipListsModel", name := "repairsIfRemoved", desc := "(II)I" } : Jvm.MethodName)) ∈ lw_all := lw_g (lw_at lw_m11 14 rfl) rfl
theorem q2505 : (Jvm.Cond.methodLink "CountedSkipListsLaw" (283 : Nat) ({ cls := "CountedSkipListsModel", name := "repairsIfLimit", desc := "(I)I" } : Jvm.MethodName)) ∈ lw_all := lw_g (lw_at lw_m11 22 rfl) rfl
theorem q2513 : (Jvm.Cond.methodLink "CountedSkipListsLaw" (286 : Nat) ({ cls := "CountedSkipListsModel", name := "whyNotJoin", desc := "(II)I" } : Jvm.MethodName)) ∈ lw_all := lw_g (lw_at lw_m11 30 rfl) rfl
theorem q2525 : (Jvm.Cond.methodLink "CountedSkipListsLaw" (289 : Nat) ({ cls := "CountedSkipListsModel", name := "whyNotAbsorb", desc := "(II)I" } : Jvm.MethodName)) ∈ lw_all := lw_g (lw_at lw_m11 42 rfl) rfl
theorem q2533 : (Jvm.Cond.methodLink "CountedSkipListsLaw" (293 : Nat) ({ cls := "CountedSkipListsModel", name := "logSize", desc := "()I" } : Jvm.MethodName)) ∈ lw_all := lw_g (lw_at lw_m11 50 rfl) rfl
theorem q2537 : (Jvm.Cond.methodLink "CountedSkipListsLaw" (296 : Nat) ({ cls := "CountedSkipListsModel", name := "logKind", desc := "(I)I" } : Jvm.MethodName)) ∈ lw_all := lw_g (lw_at lw_m11 54 rfl) rfl
theorem q2545 : (Jvm.Cond.methodLink "CountedSkipListsLaw" (299 : Nat) ({ cls := "CountedSkipListsModel", name := "logLevel", desc := "(I)I" } : Jvm.MethodName)) ∈ lw_all := lw_g (lw_at lw_m11 62 rfl) rfl
theorem q2549 : (Jvm.Cond.methodLink "CountedSkipListsLaw" (302 : Nat) ({ cls := "CountedSkipListsModel", name := "logKey", desc := "(I)I" } : Jvm.MethodName)) ∈ lw_all := lw_g (lw_at lw_m11 66 rfl) rfl
theorem q2553 : (Jvm.Cond.methodLink "CountedSkipListsLaw" (305 : Nat) ({ cls := "CountedSkipListsModel", name := "counter", desc := "(I)I" } : Jvm.MethodName)) ∈ lw_all := lw_g (lw_at lw_m11 70 rfl) rfl
theorem q2557 : (Jvm.Cond.methodLink "CountedSkipListsLaw" (308 : Nat) ({ cls := "CountedSkipListsModel", name := "create", desc := "()I" } : Jvm.MethodName)) ∈ lw_all := lw_g (lw_at lw_m11 74 rfl) rfl
theorem q2573 : (Jvm.Cond.methodLink "CountedSkipListsLaw" (311 : Nat) ({ cls := "CountedSkipListsModel", name := "drop", desc := "(I)I" } : Jvm.MethodName)) ∈ lw_all := lw_g (lw_at lw_m11 90 rfl) rfl
theorem q2581 : (Jvm.Cond.methodLink "CountedSkipListsLaw" (314 : Nat) ({ cls := "CountedSkipListsModel", name := "insert", desc := "(III)I" } : Jvm.MethodName)) ∈ lw_all := lw_g (lw_at lw_m11 98 rfl) rfl
theorem q2585 : (Jvm.Cond.methodLink "CountedSkipListsLaw" (317 : Nat) ({ cls := "CountedSkipListsModel", name := "remove", desc := "(II)I" } : Jvm.MethodName)) ∈ lw_all := lw_g (lw_at lw_m11 102 rfl) rfl
theorem q2589 : (Jvm.Cond.methodLink "CountedSkipListsLaw" (320 : Nat) ({ cls := "CountedSkipListsModel", name := "setValue", desc := "(III)I" } : Jvm.MethodName)) ∈ lw_all := lw_g (lw_at lw_m11 106 rfl) rfl
theorem q2593 : (Jvm.Cond.methodLink "CountedSkipListsLaw" (323 : Nat) ({ cls := "CountedSkipListsModel", name := "split", desc := "(II)I" } : Jvm.MethodName)) ∈ lw_all := lw_g (lw_at lw_m11 110 rfl) rfl
theorem q2601 : (Jvm.Cond.methodLink "CountedSkipListsLaw" (326 : Nat) ({ cls := "CountedSkipListsModel", name := "cut", desc := "(III)I" } : Jvm.MethodName)) ∈ lw_all := lw_g (lw_at lw_m11 118 rfl) rfl
theorem q2605 : (Jvm.Cond.methodLink "CountedSkipListsLaw" (329 : Nat) ({ cls := "CountedSkipListsModel", name := "join", desc := "(II)I" } : Jvm.MethodName)) ∈ lw_all := lw_g (lw_at lw_m11 122 rfl) rfl
theorem q2613 : (Jvm.Cond.methodLink "CountedSkipListsLaw" (332 : Nat) ({ cls := "CountedSkipListsModel", name := "absorb", desc := "(II)I" } : Jvm.MethodName)) ∈ lw_all := lw_g (lw_at lw_m11 130 rfl) rfl
theorem q2617 : (Jvm.Cond.methodLink "CountedSkipListsLaw" (335 : Nat) ({ cls := "CountedSkipListsModel", name := "level", desc := "(I)I" } : Jvm.MethodName)) ∈ lw_all := lw_g (lw_at lw_m11 134 rfl) rfl
theorem q2621 : (Jvm.Cond.methodLink "CountedSkipListsLaw" (338 : Nat) ({ cls := "CountedSkipListsModel", name := "setLimit", desc := "(I)I" } : Jvm.MethodName)) ∈ lw_all := lw_g (lw_at lw_m11 138 rfl) rfl
theorem q2625 : (Jvm.Cond.methodLink "CountedSkipListsLaw" (341 : Nat) ({ cls := "CountedSkipListsModel", name := "undo", desc := "()I" } : Jvm.MethodName)) ∈ lw_all := lw_g (lw_at lw_m11 142 rfl) rfl
theorem q2629 : (Jvm.Cond.methodLink "CountedSkipListsLaw" (345 : Nat) ({ cls := "CountedSkipListsModel", name := "save", desc := "(I)V" } : Jvm.MethodName)) ∈ lw_all := lw_g (lw_at lw_m11 146 rfl) rfl
theorem q2633 : (Jvm.Cond.methodLink "CountedSkipListsLaw" (348 : Nat) ({ cls := "CountedSkipListsModel", name := "restore", desc := "(I)V" } : Jvm.MethodName)) ∈ lw_all := lw_g (lw_at lw_m11 150 rfl) rfl

/-! CountedSkipLists -/
set_option maxRecDepth 100000
def RX1 : String := "CountedSkipLists"
def TX1 : u_T := fun k => match k with
  | 0 => ("CountedSkipLists", "text", "[B", true)
  | 1 => ("CountedSkipLists", "length", "I", false)
  | 2 => ("CountedSkipLists", "errorCode", "I", false)
  | 3 => ("CountedSkipLists", "errorPosition", "I", false)
  | 4 => ("CountedSkipLists", "now", "LCountedSkipLists$State;", false)
  | 5 => ("CountedSkipLists", "past", "Ljava/util/ArrayDeque;", true)
  | _ => ("CountedSkipLists", "saved", "[LCountedSkipLists$State;", true)
def tyX1 : Nat → FieldType := fun k => match k with
  | 0 => .array .byte
  | 1 => .int
  | 2 => .int
  | 3 => .int
  | 4 => .object "CountedSkipLists$State"
  | 5 => .object "java/util/ArrayDeque"
  | _ => .array (.object "CountedSkipLists$State")
abbrev wsX10 : List Cond := u_ws RX1 TX1 7
theorem nmX1 : ∀ a, a < 7 → ∀ b, b < 7 → a ≠ b → (TX1 a).2.1 ≠ (TX1 b).2.1 := by decide +kernel
theorem tyX1_ok : ∀ k, k < 7 → parseFieldDescriptor (TX1 k).2.2.1 = some (tyX1 k) := by decide +kernel
abbrev cX1_init : ByteArray := prog_1_method_10_code
def yX1_init : MethodName := ⟨RX1, "<init>", "()V"⟩
def dkwX1_init_2 : List UInt8 := [181, 0, 107, 177]
abbrev dktX1_init_2 : List UInt8 := dkwX1_init_2 ++ []
def dkwX1_init_1 : List UInt8 := [183, 0, 93, 181, 0, 96, 42, 187, 0, 100, 89, 16, 10, 183, 0, 102, 181, 0, 103, 42, 5, 189, 0, 91]
abbrev dktX1_init_1 : List UInt8 := dkwX1_init_1 ++ dktX1_init_2
def dkwX1_init_0 : List UInt8 := [42, 183, 0, 81, 42, 17, 3, 232, 188, 8, 181, 0, 84, 42, 2, 181, 0, 88, 42, 187, 0, 91, 89, 6]
abbrev dktX1_init_0 : List UInt8 := dkwX1_init_0 ++ dktX1_init_1
theorem dksX1_init_0 : cX1_init.data.toList.drop 0 = dktX1_init_0 := by decide +kernel
theorem dksX1_init_1 : cX1_init.data.toList.drop 24 = dktX1_init_1 := dk_seg dksX1_init_0 24 rfl rfl
theorem dksX1_init_2 : cX1_init.data.toList.drop 48 = dktX1_init_2 := dk_seg dksX1_init_1 24 rfl rfl
theorem dX1_init_0 : decode cX1_init 0 = .ok (.aload_n 0, 1) := dk_42 (dk_at dksX1_init_0 0 rfl rfl)
theorem dX1_init_1 : decode cX1_init 1 = .ok (.invokespecial 81, 3) := dk_183 0 81 (dk_at dksX1_init_0 1 rfl rfl)
theorem dX1_init_4 : decode cX1_init 4 = .ok (.aload_n 0, 1) := dk_42 (dk_at dksX1_init_0 4 rfl rfl)
theorem dX1_init_5 : decode cX1_init 5 = .ok (.sipush 1000, 3) := dk_17 3 232 (dk_at dksX1_init_0 5 rfl rfl)
theorem dX1_init_8 : decode cX1_init 8 = .ok (.newarray .byte, 2) := dk_188_8 (dk_at dksX1_init_0 8 rfl rfl)
theorem dX1_init_10 : decode cX1_init 10 = .ok (.putfield 84, 3) := dk_181 0 84 (dk_at dksX1_init_0 10 rfl rfl)
theorem dX1_init_13 : decode cX1_init 13 = .ok (.aload_n 0, 1) := dk_42 (dk_at dksX1_init_0 13 rfl rfl)
theorem dX1_init_14 : decode cX1_init 14 = .ok (.iconst (-1), 1) := dk_2 (dk_at dksX1_init_0 14 rfl rfl)
theorem dX1_init_15 : decode cX1_init 15 = .ok (.putfield 88, 3) := dk_181 0 88 (dk_at dksX1_init_0 15 rfl rfl)
theorem dX1_init_18 : decode cX1_init 18 = .ok (.aload_n 0, 1) := dk_42 (dk_at dksX1_init_0 18 rfl rfl)
theorem dX1_init_19 : decode cX1_init 19 = .ok (.new 91, 3) := dk_187 0 91 (dk_at dksX1_init_0 19 rfl rfl)
theorem dX1_init_22 : decode cX1_init 22 = .ok (.dup, 1) := dk_89 (dk_at dksX1_init_0 22 rfl rfl)
theorem dX1_init_23 : decode cX1_init 23 = .ok (.iconst 3, 1) := dk_6 (dk_at dksX1_init_0 23 rfl rfl)
theorem dX1_init_24 : decode cX1_init 24 = .ok (.invokespecial 93, 3) := dk_183 0 93 (dk_at dksX1_init_1 0 rfl rfl)
theorem dX1_init_27 : decode cX1_init 27 = .ok (.putfield 96, 3) := dk_181 0 96 (dk_at dksX1_init_1 3 rfl rfl)
theorem dX1_init_30 : decode cX1_init 30 = .ok (.aload_n 0, 1) := dk_42 (dk_at dksX1_init_1 6 rfl rfl)
theorem dX1_init_31 : decode cX1_init 31 = .ok (.new 100, 3) := dk_187 0 100 (dk_at dksX1_init_1 7 rfl rfl)
theorem dX1_init_34 : decode cX1_init 34 = .ok (.dup, 1) := dk_89 (dk_at dksX1_init_1 10 rfl rfl)
theorem dX1_init_35 : decode cX1_init 35 = .ok (.bipush 10, 2) := dk_16 10 (dk_at dksX1_init_1 11 rfl rfl)
theorem dX1_init_37 : decode cX1_init 37 = .ok (.invokespecial 102, 3) := dk_183 0 102 (dk_at dksX1_init_1 13 rfl rfl)
theorem dX1_init_40 : decode cX1_init 40 = .ok (.putfield 103, 3) := dk_181 0 103 (dk_at dksX1_init_1 16 rfl rfl)
theorem dX1_init_43 : decode cX1_init 43 = .ok (.aload_n 0, 1) := dk_42 (dk_at dksX1_init_1 19 rfl rfl)
theorem dX1_init_44 : decode cX1_init 44 = .ok (.iconst 2, 1) := dk_5 (dk_at dksX1_init_1 20 rfl rfl)
theorem dX1_init_45 : decode cX1_init 45 = .ok (.anewarray 91, 3) := dk_189 0 91 (dk_at dksX1_init_1 21 rfl rfl)
theorem dX1_init_48 : decode cX1_init 48 = .ok (.putfield 107, 3) := dk_181 0 107 (dk_at dksX1_init_2 0 rfl rfl)
theorem dX1_init_51 : decode cX1_init 51 = .ok (.return_, 1) := dk_177 (dk_at dksX1_init_2 3 rfl rfl)
abbrev cX1_errorCode : ByteArray := prog_1_method_14_code
def yX1_errorCode : MethodName := ⟨RX1, "errorCode", "()I"⟩
theorem dX1_errorCode_0 : decode cX1_errorCode 0 = .ok (.aload_n 0, 1) := by decide +kernel
theorem dX1_errorCode_1 : decode cX1_errorCode 1 = .ok (.getfield 120, 3) := by decide +kernel
theorem dX1_errorCode_4 : decode cX1_errorCode 4 = .ok (.ireturn, 1) := by decide +kernel
abbrev cX1_errorPosition : ByteArray := prog_1_method_15_code
def yX1_errorPosition : MethodName := ⟨RX1, "errorPosition", "()I"⟩
theorem dX1_errorPosition_0 : decode cX1_errorPosition 0 = .ok (.aload_n 0, 1) := by decide +kernel
theorem dX1_errorPosition_1 : decode cX1_errorPosition 1 = .ok (.getfield 88, 3) := by decide +kernel
theorem dX1_errorPosition_4 : decode cX1_errorPosition 4 = .ok (.ireturn, 1) := by decide +kernel
abbrev cX1_exists : ByteArray := prog_1_method_17_code
def yX1_exists : MethodName := ⟨RX1, "exists", "(I)Z"⟩
def dkwX1_exists_1 : List UInt8 := [167, 0, 4, 3, 172]
abbrev dktX1_exists_1 : List UInt8 := dkwX1_exists_1 ++ []
def dkwX1_exists_0 : List UInt8 := [27, 3, 8, 184, 0, 18, 153, 0, 19, 42, 180, 0, 96, 180, 0, 163, 27, 50, 198, 0, 7, 4]
abbrev dktX1_exists_0 : List UInt8 := dkwX1_exists_0 ++ dktX1_exists_1
theorem dksX1_exists_0 : cX1_exists.data.toList.drop 0 = dktX1_exists_0 := by decide +kernel
theorem dksX1_exists_1 : cX1_exists.data.toList.drop 22 = dktX1_exists_1 := dk_seg dksX1_exists_0 22 rfl rfl
theorem dX1_exists_0 : decode cX1_exists 0 = .ok (.iload_n 1, 1) := dk_27 (dk_at dksX1_exists_0 0 rfl rfl)
theorem dX1_exists_1 : decode cX1_exists 1 = .ok (.iconst 0, 1) := dk_3 (dk_at dksX1_exists_0 1 rfl rfl)
theorem dX1_exists_2 : decode cX1_exists 2 = .ok (.iconst 5, 1) := dk_8 (dk_at dksX1_exists_0 2 rfl rfl)
theorem dX1_exists_3 : decode cX1_exists 3 = .ok (.invokestatic 18, 3) := dk_184 0 18 (dk_at dksX1_exists_0 3 rfl rfl)
theorem dX1_exists_6 : decode cX1_exists 6 = .ok (.ifCond .eq 19, 3) := dk_153 0 19 (dk_at dksX1_exists_0 6 rfl rfl)
theorem dX1_exists_9 : decode cX1_exists 9 = .ok (.aload_n 0, 1) := dk_42 (dk_at dksX1_exists_0 9 rfl rfl)
theorem dX1_exists_10 : decode cX1_exists 10 = .ok (.getfield 96, 3) := dk_180 0 96 (dk_at dksX1_exists_0 10 rfl rfl)
theorem dX1_exists_13 : decode cX1_exists 13 = .ok (.getfield 163, 3) := dk_180 0 163 (dk_at dksX1_exists_0 13 rfl rfl)
theorem dX1_exists_16 : decode cX1_exists 16 = .ok (.iload_n 1, 1) := dk_27 (dk_at dksX1_exists_0 16 rfl rfl)
theorem dX1_exists_17 : decode cX1_exists 17 = .ok (.aaload, 1) := dk_50 (dk_at dksX1_exists_0 17 rfl rfl)
theorem dX1_exists_18 : decode cX1_exists 18 = .ok (.ifnull 7, 3) := dk_198 0 7 (dk_at dksX1_exists_0 18 rfl rfl)
theorem dX1_exists_21 : decode cX1_exists 21 = .ok (.iconst 1, 1) := dk_4 (dk_at dksX1_exists_0 21 rfl rfl)
theorem dX1_exists_22 : decode cX1_exists 22 = .ok (.goto 4, 3) := dk_167 0 4 (dk_at dksX1_exists_1 0 rfl rfl)
theorem dX1_exists_25 : decode cX1_exists 25 = .ok (.iconst 0, 1) := dk_3 (dk_at dksX1_exists_1 3 rfl rfl)
theorem dX1_exists_26 : decode cX1_exists 26 = .ok (.ireturn, 1) := dk_172 (dk_at dksX1_exists_1 4 rfl rfl)
abbrev cX1_isIn : ByteArray := prog_1_method_1_code
def yX1_isIn : MethodName := ⟨RX1, "isIn", "(III)Z"⟩
def dkwX1_isIn_0 : List UInt8 := [26, 27, 161, 0, 12, 26, 28, 163, 0, 7, 4, 167, 0, 4, 3, 172]
abbrev dktX1_isIn_0 : List UInt8 := dkwX1_isIn_0 ++ []
theorem dksX1_isIn_0 : cX1_isIn.data.toList.drop 0 = dktX1_isIn_0 := by decide +kernel
theorem dX1_isIn_0 : decode cX1_isIn 0 = .ok (.iload_n 0, 1) := dk_26 (dk_at dksX1_isIn_0 0 rfl rfl)
theorem dX1_isIn_1 : decode cX1_isIn 1 = .ok (.iload_n 1, 1) := dk_27 (dk_at dksX1_isIn_0 1 rfl rfl)
theorem dX1_isIn_2 : decode cX1_isIn 2 = .ok (.if_icmp .lt 12, 3) := dk_161 0 12 (dk_at dksX1_isIn_0 2 rfl rfl)
theorem dX1_isIn_5 : decode cX1_isIn 5 = .ok (.iload_n 0, 1) := dk_26 (dk_at dksX1_isIn_0 5 rfl rfl)
theorem dX1_isIn_6 : decode cX1_isIn 6 = .ok (.iload_n 2, 1) := dk_28 (dk_at dksX1_isIn_0 6 rfl rfl)
theorem dX1_isIn_7 : decode cX1_isIn 7 = .ok (.if_icmp .gt 7, 3) := dk_163 0 7 (dk_at dksX1_isIn_0 7 rfl rfl)
theorem dX1_isIn_10 : decode cX1_isIn 10 = .ok (.iconst 1, 1) := dk_4 (dk_at dksX1_isIn_0 10 rfl rfl)
theorem dX1_isIn_11 : decode cX1_isIn 11 = .ok (.goto 4, 3) := dk_167 0 4 (dk_at dksX1_isIn_0 11 rfl rfl)
theorem dX1_isIn_14 : decode cX1_isIn 14 = .ok (.iconst 0, 1) := dk_3 (dk_at dksX1_isIn_0 14 rfl rfl)
theorem dX1_isIn_15 : decode cX1_isIn 15 = .ok (.ireturn, 1) := dk_172 (dk_at dksX1_isIn_0 15 rfl rfl)
abbrev cX1_limit : ByteArray := prog_1_method_18_code
def yX1_limit : MethodName := ⟨RX1, "limit", "()I"⟩
def dkwX1_limit_0 : List UInt8 := [42, 180, 0, 96, 180, 0, 176, 172]
abbrev dktX1_limit_0 : List UInt8 := dkwX1_limit_0 ++ []
theorem dksX1_limit_0 : cX1_limit.data.toList.drop 0 = dktX1_limit_0 := by decide +kernel
theorem dX1_limit_0 : decode cX1_limit 0 = .ok (.aload_n 0, 1) := dk_42 (dk_at dksX1_limit_0 0 rfl rfl)
theorem dX1_limit_1 : decode cX1_limit 1 = .ok (.getfield 96, 3) := dk_180 0 96 (dk_at dksX1_limit_0 1 rfl rfl)
theorem dX1_limit_4 : decode cX1_limit 4 = .ok (.getfield 176, 3) := dk_180 0 176 (dk_at dksX1_limit_0 4 rfl rfl)
theorem dX1_limit_7 : decode cX1_limit 7 = .ok (.ireturn, 1) := dk_172 (dk_at dksX1_limit_0 7 rfl rfl)
abbrev cX1_logSize : ByteArray := prog_1_method_53_code
def yX1_logSize : MethodName := ⟨RX1, "logSize", "()I"⟩
def dkwX1_logSize_0 : List UInt8 := [42, 180, 0, 96, 180, 1, 79, 182, 1, 73, 172]
abbrev dktX1_logSize_0 : List UInt8 := dkwX1_logSize_0 ++ []
theorem dksX1_logSize_0 : cX1_logSize.data.toList.drop 0 = dktX1_logSize_0 := by decide +kernel
theorem dX1_logSize_0 : decode cX1_logSize 0 = .ok (.aload_n 0, 1) := dk_42 (dk_at dksX1_logSize_0 0 rfl rfl)
theorem dX1_logSize_1 : decode cX1_logSize 1 = .ok (.getfield 96, 3) := dk_180 0 96 (dk_at dksX1_logSize_0 1 rfl rfl)
theorem dX1_logSize_4 : decode cX1_logSize 4 = .ok (.getfield 335, 3) := dk_180 1 79 (dk_at dksX1_logSize_0 4 rfl rfl)
theorem dX1_logSize_7 : decode cX1_logSize 7 = .ok (.invokevirtual 329, 3) := dk_182 1 73 (dk_at dksX1_logSize_0 7 rfl rfl)
theorem dX1_logSize_10 : decode cX1_logSize 10 = .ok (.ireturn, 1) := dk_172 (dk_at dksX1_logSize_0 10 rfl rfl)
abbrev cX1_append : ByteArray := prog_1_method_11_code
def yX1_append : MethodName := ⟨RX1, "append", "(IIIII)I"⟩
def dkwX1_append_4 : List UInt8 := [42, 89, 180, 0, 111, 16, 20, 96, 181, 0, 111, 42, 180, 0, 111, 172]
abbrev dktX1_append_4 : List UInt8 := dkwX1_append_4 ++ []
def dkwX1_append_3 : List UInt8 := [21, 7, 7, 108, 46, 16, 24, 16, 8, 21, 7, 7, 112, 104, 100, 122, 145, 84, 132, 7, 1, 167, 255, 215]
abbrev dktX1_append_3 : List UInt8 := dkwX1_append_3 ++ dktX1_append_4
def dkwX1_append_2 : List UInt8 := [3, 54, 7, 21, 7, 16, 20, 162, 0, 40, 42, 180, 0, 84, 42, 180, 0, 111, 21, 7, 96, 25, 6]
abbrev dktX1_append_2 : List UInt8 := dkwX1_append_2 ++ dktX1_append_3
def dkwX1_append_1 : List UInt8 := [89, 3, 27, 79, 89, 4, 28, 79, 89, 5, 29, 79, 89, 6, 21, 4, 79, 89, 7, 21, 5, 79, 58, 6]
abbrev dktX1_append_1 : List UInt8 := dkwX1_append_1 ++ dktX1_append_2
def dkwX1_append_0 : List UInt8 := [42, 180, 0, 111, 16, 20, 96, 17, 3, 232, 163, 0, 7, 4, 167, 0, 4, 3, 184, 0, 114, 8, 188, 10]
abbrev dktX1_append_0 : List UInt8 := dkwX1_append_0 ++ dktX1_append_1
theorem dksX1_append_0 : cX1_append.data.toList.drop 0 = dktX1_append_0 := by decide +kernel
theorem dksX1_append_1 : cX1_append.data.toList.drop 24 = dktX1_append_1 := dk_seg dksX1_append_0 24 rfl rfl
theorem dksX1_append_2 : cX1_append.data.toList.drop 48 = dktX1_append_2 := dk_seg dksX1_append_1 24 rfl rfl
theorem dksX1_append_3 : cX1_append.data.toList.drop 71 = dktX1_append_3 := dk_seg dksX1_append_2 23 rfl rfl
theorem dksX1_append_4 : cX1_append.data.toList.drop 95 = dktX1_append_4 := dk_seg dksX1_append_3 24 rfl rfl
theorem dX1_append_0 : decode cX1_append 0 = .ok (.aload_n 0, 1) := dk_42 (dk_at dksX1_append_0 0 rfl rfl)
theorem dX1_append_1 : decode cX1_append 1 = .ok (.getfield 111, 3) := dk_180 0 111 (dk_at dksX1_append_0 1 rfl rfl)
theorem dX1_append_4 : decode cX1_append 4 = .ok (.bipush 20, 2) := dk_16 20 (dk_at dksX1_append_0 4 rfl rfl)
theorem dX1_append_6 : decode cX1_append 6 = .ok (.iadd, 1) := dk_96 (dk_at dksX1_append_0 6 rfl rfl)
theorem dX1_append_7 : decode cX1_append 7 = .ok (.sipush 1000, 3) := dk_17 3 232 (dk_at dksX1_append_0 7 rfl rfl)
theorem dX1_append_10 : decode cX1_append 10 = .ok (.if_icmp .gt 7, 3) := dk_163 0 7 (dk_at dksX1_append_0 10 rfl rfl)
theorem dX1_append_13 : decode cX1_append 13 = .ok (.iconst 1, 1) := dk_4 (dk_at dksX1_append_0 13 rfl rfl)
theorem dX1_append_14 : decode cX1_append 14 = .ok (.goto 4, 3) := dk_167 0 4 (dk_at dksX1_append_0 14 rfl rfl)
theorem dX1_append_17 : decode cX1_append 17 = .ok (.iconst 0, 1) := dk_3 (dk_at dksX1_append_0 17 rfl rfl)
theorem dX1_append_18 : decode cX1_append 18 = .ok (.invokestatic 114, 3) := dk_184 0 114 (dk_at dksX1_append_0 18 rfl rfl)
theorem dX1_append_21 : decode cX1_append 21 = .ok (.iconst 5, 1) := dk_8 (dk_at dksX1_append_0 21 rfl rfl)
theorem dX1_append_22 : decode cX1_append 22 = .ok (.newarray .int, 2) := dk_188_10 (dk_at dksX1_append_0 22 rfl rfl)
theorem dX1_append_24 : decode cX1_append 24 = .ok (.dup, 1) := dk_89 (dk_at dksX1_append_1 0 rfl rfl)
theorem dX1_append_25 : decode cX1_append 25 = .ok (.iconst 0, 1) := dk_3 (dk_at dksX1_append_1 1 rfl rfl)
theorem dX1_append_26 : decode cX1_append 26 = .ok (.iload_n 1, 1) := dk_27 (dk_at dksX1_append_1 2 rfl rfl)
theorem dX1_append_27 : decode cX1_append 27 = .ok (.iastore, 1) := dk_79 (dk_at dksX1_append_1 3 rfl rfl)
theorem dX1_append_28 : decode cX1_append 28 = .ok (.dup, 1) := dk_89 (dk_at dksX1_append_1 4 rfl rfl)
theorem dX1_append_29 : decode cX1_append 29 = .ok (.iconst 1, 1) := dk_4 (dk_at dksX1_append_1 5 rfl rfl)
theorem dX1_append_30 : decode cX1_append 30 = .ok (.iload_n 2, 1) := dk_28 (dk_at dksX1_append_1 6 rfl rfl)
theorem dX1_append_31 : decode cX1_append 31 = .ok (.iastore, 1) := dk_79 (dk_at dksX1_append_1 7 rfl rfl)
theorem dX1_append_32 : decode cX1_append 32 = .ok (.dup, 1) := dk_89 (dk_at dksX1_append_1 8 rfl rfl)
theorem dX1_append_33 : decode cX1_append 33 = .ok (.iconst 2, 1) := dk_5 (dk_at dksX1_append_1 9 rfl rfl)
theorem dX1_append_34 : decode cX1_append 34 = .ok (.iload_n 3, 1) := dk_29 (dk_at dksX1_append_1 10 rfl rfl)
theorem dX1_append_35 : decode cX1_append 35 = .ok (.iastore, 1) := dk_79 (dk_at dksX1_append_1 11 rfl rfl)
theorem dX1_append_36 : decode cX1_append 36 = .ok (.dup, 1) := dk_89 (dk_at dksX1_append_1 12 rfl rfl)
theorem dX1_append_37 : decode cX1_append 37 = .ok (.iconst 3, 1) := dk_6 (dk_at dksX1_append_1 13 rfl rfl)
theorem dX1_append_38 : decode cX1_append 38 = .ok (.iload 4, 2) := dk_21 4 (dk_at dksX1_append_1 14 rfl rfl)
theorem dX1_append_40 : decode cX1_append 40 = .ok (.iastore, 1) := dk_79 (dk_at dksX1_append_1 16 rfl rfl)
theorem dX1_append_41 : decode cX1_append 41 = .ok (.dup, 1) := dk_89 (dk_at dksX1_append_1 17 rfl rfl)
theorem dX1_append_42 : decode cX1_append 42 = .ok (.iconst 4, 1) := dk_7 (dk_at dksX1_append_1 18 rfl rfl)
theorem dX1_append_43 : decode cX1_append 43 = .ok (.iload 5, 2) := dk_21 5 (dk_at dksX1_append_1 19 rfl rfl)
theorem dX1_append_45 : decode cX1_append 45 = .ok (.iastore, 1) := dk_79 (dk_at dksX1_append_1 21 rfl rfl)
theorem dX1_append_46 : decode cX1_append 46 = .ok (.astore 6, 2) := dk_58 6 (dk_at dksX1_append_1 22 rfl rfl)
theorem dX1_append_48 : decode cX1_append 48 = .ok (.iconst 0, 1) := dk_3 (dk_at dksX1_append_2 0 rfl rfl)
theorem dX1_append_49 : decode cX1_append 49 = .ok (.istore 7, 2) := dk_54 7 (dk_at dksX1_append_2 1 rfl rfl)
theorem dX1_append_51 : decode cX1_append 51 = .ok (.iload 7, 2) := dk_21 7 (dk_at dksX1_append_2 3 rfl rfl)
theorem dX1_append_53 : decode cX1_append 53 = .ok (.bipush 20, 2) := dk_16 20 (dk_at dksX1_append_2 5 rfl rfl)
theorem dX1_append_55 : decode cX1_append 55 = .ok (.if_icmp .ge 40, 3) := dk_162 0 40 (dk_at dksX1_append_2 7 rfl rfl)
theorem dX1_append_58 : decode cX1_append 58 = .ok (.aload_n 0, 1) := dk_42 (dk_at dksX1_append_2 10 rfl rfl)
theorem dX1_append_59 : decode cX1_append 59 = .ok (.getfield 84, 3) := dk_180 0 84 (dk_at dksX1_append_2 11 rfl rfl)
theorem dX1_append_62 : decode cX1_append 62 = .ok (.aload_n 0, 1) := dk_42 (dk_at dksX1_append_2 14 rfl rfl)
theorem dX1_append_63 : decode cX1_append 63 = .ok (.getfield 111, 3) := dk_180 0 111 (dk_at dksX1_append_2 15 rfl rfl)
theorem dX1_append_66 : decode cX1_append 66 = .ok (.iload 7, 2) := dk_21 7 (dk_at dksX1_append_2 18 rfl rfl)
theorem dX1_append_68 : decode cX1_append 68 = .ok (.iadd, 1) := dk_96 (dk_at dksX1_append_2 20 rfl rfl)
theorem dX1_append_69 : decode cX1_append 69 = .ok (.aload 6, 2) := dk_25 6 (dk_at dksX1_append_2 21 rfl rfl)
theorem dX1_append_71 : decode cX1_append 71 = .ok (.iload 7, 2) := dk_21 7 (dk_at dksX1_append_3 0 rfl rfl)
theorem dX1_append_73 : decode cX1_append 73 = .ok (.iconst 4, 1) := dk_7 (dk_at dksX1_append_3 2 rfl rfl)
theorem dX1_append_74 : decode cX1_append 74 = .ok (.idiv, 1) := dk_108 (dk_at dksX1_append_3 3 rfl rfl)
theorem dX1_append_75 : decode cX1_append 75 = .ok (.iaload, 1) := dk_46 (dk_at dksX1_append_3 4 rfl rfl)
theorem dX1_append_76 : decode cX1_append 76 = .ok (.bipush 24, 2) := dk_16 24 (dk_at dksX1_append_3 5 rfl rfl)
theorem dX1_append_78 : decode cX1_append 78 = .ok (.bipush 8, 2) := dk_16 8 (dk_at dksX1_append_3 7 rfl rfl)
theorem dX1_append_80 : decode cX1_append 80 = .ok (.iload 7, 2) := dk_21 7 (dk_at dksX1_append_3 9 rfl rfl)
theorem dX1_append_82 : decode cX1_append 82 = .ok (.iconst 4, 1) := dk_7 (dk_at dksX1_append_3 11 rfl rfl)
theorem dX1_append_83 : decode cX1_append 83 = .ok (.irem, 1) := dk_112 (dk_at dksX1_append_3 12 rfl rfl)
theorem dX1_append_84 : decode cX1_append 84 = .ok (.imul, 1) := dk_104 (dk_at dksX1_append_3 13 rfl rfl)
theorem dX1_append_85 : decode cX1_append 85 = .ok (.isub, 1) := dk_100 (dk_at dksX1_append_3 14 rfl rfl)
theorem dX1_append_86 : decode cX1_append 86 = .ok (.ishr, 1) := dk_122 (dk_at dksX1_append_3 15 rfl rfl)
theorem dX1_append_87 : decode cX1_append 87 = .ok (.i2b, 1) := dk_145 (dk_at dksX1_append_3 16 rfl rfl)
theorem dX1_append_88 : decode cX1_append 88 = .ok (.bastore, 1) := dk_84 (dk_at dksX1_append_3 17 rfl rfl)
theorem dX1_append_89 : decode cX1_append 89 = .ok (.iinc 7 1, 3) := dk_132 7 1 (dk_at dksX1_append_3 18 rfl rfl)
theorem dX1_append_92 : decode cX1_append 92 = .ok (.goto (-41), 3) := dk_167 255 215 (dk_at dksX1_append_3 21 rfl rfl)
theorem dX1_append_95 : decode cX1_append 95 = .ok (.aload_n 0, 1) := dk_42 (dk_at dksX1_append_4 0 rfl rfl)
theorem dX1_append_96 : decode cX1_append 96 = .ok (.dup, 1) := dk_89 (dk_at dksX1_append_4 1 rfl rfl)
theorem dX1_append_97 : decode cX1_append 97 = .ok (.getfield 111, 3) := dk_180 0 111 (dk_at dksX1_append_4 2 rfl rfl)
theorem dX1_append_100 : decode cX1_append 100 = .ok (.bipush 20, 2) := dk_16 20 (dk_at dksX1_append_4 5 rfl rfl)
theorem dX1_append_102 : decode cX1_append 102 = .ok (.iadd, 1) := dk_96 (dk_at dksX1_append_4 7 rfl rfl)
theorem dX1_append_103 : decode cX1_append 103 = .ok (.putfield 111, 3) := dk_181 0 111 (dk_at dksX1_append_4 8 rfl rfl)
theorem dX1_append_106 : decode cX1_append 106 = .ok (.aload_n 0, 1) := dk_42 (dk_at dksX1_append_4 11 rfl rfl)
theorem dX1_append_107 : decode cX1_append 107 = .ok (.getfield 111, 3) := dk_180 0 111 (dk_at dksX1_append_4 12 rfl rfl)
theorem dX1_append_110 : decode cX1_append 110 = .ok (.ireturn, 1) := dk_172 (dk_at dksX1_append_4 15 rfl rfl)
abbrev cX1_checkState : ByteArray := prog_1_method_4_code
def yX1_checkState : MethodName := ⟨RX1, "checkState", "(Z)V"⟩
def dkwX1_checkState_0 : List UInt8 := [26, 154, 0, 11, 187, 0, 10, 89, 183, 0, 12, 191, 177]
abbrev dktX1_checkState_0 : List UInt8 := dkwX1_checkState_0 ++ []
theorem dksX1_checkState_0 : cX1_checkState.data.toList.drop 0 = dktX1_checkState_0 := by decide +kernel
theorem dX1_checkState_0 : decode cX1_checkState 0 = .ok (.iload_n 0, 1) := dk_26 (dk_at dksX1_checkState_0 0 rfl rfl)
theorem dX1_checkState_1 : decode cX1_checkState 1 = .ok (.ifCond .ne 11, 3) := dk_154 0 11 (dk_at dksX1_checkState_0 1 rfl rfl)
theorem dX1_checkState_4 : decode cX1_checkState 4 = .ok (.new 10, 3) := dk_187 0 10 (dk_at dksX1_checkState_0 4 rfl rfl)
theorem dX1_checkState_7 : decode cX1_checkState 7 = .ok (.dup, 1) := dk_89 (dk_at dksX1_checkState_0 7 rfl rfl)
theorem dX1_checkState_8 : decode cX1_checkState 8 = .ok (.invokespecial 12, 3) := dk_183 0 12 (dk_at dksX1_checkState_0 8 rfl rfl)
theorem dX1_checkState_11 : decode cX1_checkState 11 = .ok (.athrow, 1) := dk_191 (dk_at dksX1_checkState_0 11 rfl rfl)
theorem dX1_checkState_12 : decode cX1_checkState 12 = .ok (.return_, 1) := dk_177 (dk_at dksX1_checkState_0 12 rfl rfl)
abbrev cX1_truncate : ByteArray := prog_1_method_12_code
def yX1_truncate : MethodName := ⟨RX1, "truncate", "(I)I"⟩
def dkwX1_truncate_0 : List UInt8 := [27, 3, 42, 180, 0, 111, 184, 0, 18, 184, 0, 117, 42, 27, 181, 0, 111, 42, 180, 0, 111, 172]
abbrev dktX1_truncate_0 : List UInt8 := dkwX1_truncate_0 ++ []
theorem dksX1_truncate_0 : cX1_truncate.data.toList.drop 0 = dktX1_truncate_0 := by decide +kernel
theorem dX1_truncate_0 : decode cX1_truncate 0 = .ok (.iload_n 1, 1) := dk_27 (dk_at dksX1_truncate_0 0 rfl rfl)
theorem dX1_truncate_1 : decode cX1_truncate 1 = .ok (.iconst 0, 1) := dk_3 (dk_at dksX1_truncate_0 1 rfl rfl)
theorem dX1_truncate_2 : decode cX1_truncate 2 = .ok (.aload_n 0, 1) := dk_42 (dk_at dksX1_truncate_0 2 rfl rfl)
theorem dX1_truncate_3 : decode cX1_truncate 3 = .ok (.getfield 111, 3) := dk_180 0 111 (dk_at dksX1_truncate_0 3 rfl rfl)
theorem dX1_truncate_6 : decode cX1_truncate 6 = .ok (.invokestatic 18, 3) := dk_184 0 18 (dk_at dksX1_truncate_0 6 rfl rfl)
theorem dX1_truncate_9 : decode cX1_truncate 9 = .ok (.invokestatic 117, 3) := dk_184 0 117 (dk_at dksX1_truncate_0 9 rfl rfl)
theorem dX1_truncate_12 : decode cX1_truncate 12 = .ok (.aload_n 0, 1) := dk_42 (dk_at dksX1_truncate_0 12 rfl rfl)
theorem dX1_truncate_13 : decode cX1_truncate 13 = .ok (.iload_n 1, 1) := dk_27 (dk_at dksX1_truncate_0 13 rfl rfl)
theorem dX1_truncate_14 : decode cX1_truncate 14 = .ok (.putfield 111, 3) := dk_181 0 111 (dk_at dksX1_truncate_0 14 rfl rfl)
theorem dX1_truncate_17 : decode cX1_truncate 17 = .ok (.aload_n 0, 1) := dk_42 (dk_at dksX1_truncate_0 17 rfl rfl)
theorem dX1_truncate_18 : decode cX1_truncate 18 = .ok (.getfield 111, 3) := dk_180 0 111 (dk_at dksX1_truncate_0 18 rfl rfl)
theorem dX1_truncate_21 : decode cX1_truncate 21 = .ok (.ireturn, 1) := dk_172 (dk_at dksX1_truncate_0 21 rfl rfl)
abbrev cX1_checkIndex : ByteArray := prog_1_method_2_code
def yX1_checkIndex : MethodName := ⟨RX1, "checkIndex", "(Z)V"⟩
def dkwX1_checkIndex_0 : List UInt8 := [26, 154, 0, 11, 187, 0, 1, 89, 183, 0, 3, 191, 177]
abbrev dktX1_checkIndex_0 : List UInt8 := dkwX1_checkIndex_0 ++ []
theorem dksX1_checkIndex_0 : cX1_checkIndex.data.toList.drop 0 = dktX1_checkIndex_0 := by decide +kernel
theorem dX1_checkIndex_0 : decode cX1_checkIndex 0 = .ok (.iload_n 0, 1) := dk_26 (dk_at dksX1_checkIndex_0 0 rfl rfl)
theorem dX1_checkIndex_1 : decode cX1_checkIndex 1 = .ok (.ifCond .ne 11, 3) := dk_154 0 11 (dk_at dksX1_checkIndex_0 1 rfl rfl)
theorem dX1_checkIndex_4 : decode cX1_checkIndex 4 = .ok (.new 1, 3) := dk_187 0 1 (dk_at dksX1_checkIndex_0 4 rfl rfl)
theorem dX1_checkIndex_7 : decode cX1_checkIndex 7 = .ok (.dup, 1) := dk_89 (dk_at dksX1_checkIndex_0 7 rfl rfl)
theorem dX1_checkIndex_8 : decode cX1_checkIndex 8 = .ok (.invokespecial 3, 3) := dk_183 0 3 (dk_at dksX1_checkIndex_0 8 rfl rfl)
theorem dX1_checkIndex_11 : decode cX1_checkIndex 11 = .ok (.athrow, 1) := dk_191 (dk_at dksX1_checkIndex_0 11 rfl rfl)
theorem dX1_checkIndex_12 : decode cX1_checkIndex 12 = .ok (.return_, 1) := dk_177 (dk_at dksX1_checkIndex_0 12 rfl rfl)
abbrev cX1_load : ByteArray := prog_1_method_13_code
def yX1_load : MethodName := ⟨RX1, "load", "()I"⟩
def dkwX1_load_4 : List UInt8 := [182, 0, 143, 172]
abbrev dktX1_load_4 : List UInt8 := dkwX1_load_4 ++ []
def dkwX1_load_3 : List UInt8 := [61, 28, 5, 162, 0, 16, 42, 180, 0, 107, 28, 1, 83, 132, 2, 1, 167, 255, 241, 42, 180, 0, 96]
abbrev dktX1_load_3 : List UInt8 := dkwX1_load_3 ++ dktX1_load_4
def dkwX1_load_2 : List UInt8 := [42, 44, 180, 0, 137, 181, 0, 88, 187, 0, 7, 89, 183, 0, 9, 191, 42, 180, 0, 103, 182, 0, 140, 3]
abbrev dktX1_load_2 : List UInt8 := dkwX1_load_2 ++ dktX1_load_3
def dkwX1_load_1 : List UInt8 := [89, 42, 27, 183, 0, 125, 182, 0, 128, 181, 0, 96, 167, 0, 28, 77, 42, 44, 180, 0, 134, 181, 0, 120]
abbrev dktX1_load_1 : List UInt8 := dkwX1_load_1 ++ dktX1_load_2
def dkwX1_load_0 : List UInt8 := [42, 180, 0, 111, 60, 42, 3, 181, 0, 111, 42, 3, 181, 0, 120, 42, 2, 181, 0, 88, 42, 187, 0, 123]
abbrev dktX1_load_0 : List UInt8 := dkwX1_load_0 ++ dktX1_load_1
theorem dksX1_load_0 : cX1_load.data.toList.drop 0 = dktX1_load_0 := by decide +kernel
theorem dksX1_load_1 : cX1_load.data.toList.drop 24 = dktX1_load_1 := dk_seg dksX1_load_0 24 rfl rfl
theorem dksX1_load_2 : cX1_load.data.toList.drop 48 = dktX1_load_2 := dk_seg dksX1_load_1 24 rfl rfl
theorem dksX1_load_3 : cX1_load.data.toList.drop 72 = dktX1_load_3 := dk_seg dksX1_load_2 24 rfl rfl
theorem dksX1_load_4 : cX1_load.data.toList.drop 95 = dktX1_load_4 := dk_seg dksX1_load_3 23 rfl rfl
theorem dX1_load_0 : decode cX1_load 0 = .ok (.aload_n 0, 1) := dk_42 (dk_at dksX1_load_0 0 rfl rfl)
theorem dX1_load_1 : decode cX1_load 1 = .ok (.getfield 111, 3) := dk_180 0 111 (dk_at dksX1_load_0 1 rfl rfl)
theorem dX1_load_4 : decode cX1_load 4 = .ok (.istore_n 1, 1) := dk_60 (dk_at dksX1_load_0 4 rfl rfl)
theorem dX1_load_5 : decode cX1_load 5 = .ok (.aload_n 0, 1) := dk_42 (dk_at dksX1_load_0 5 rfl rfl)
theorem dX1_load_6 : decode cX1_load 6 = .ok (.iconst 0, 1) := dk_3 (dk_at dksX1_load_0 6 rfl rfl)
theorem dX1_load_7 : decode cX1_load 7 = .ok (.putfield 111, 3) := dk_181 0 111 (dk_at dksX1_load_0 7 rfl rfl)
theorem dX1_load_10 : decode cX1_load 10 = .ok (.aload_n 0, 1) := dk_42 (dk_at dksX1_load_0 10 rfl rfl)
theorem dX1_load_11 : decode cX1_load 11 = .ok (.iconst 0, 1) := dk_3 (dk_at dksX1_load_0 11 rfl rfl)
theorem dX1_load_12 : decode cX1_load 12 = .ok (.putfield 120, 3) := dk_181 0 120 (dk_at dksX1_load_0 12 rfl rfl)
theorem dX1_load_15 : decode cX1_load 15 = .ok (.aload_n 0, 1) := dk_42 (dk_at dksX1_load_0 15 rfl rfl)
theorem dX1_load_16 : decode cX1_load 16 = .ok (.iconst (-1), 1) := dk_2 (dk_at dksX1_load_0 16 rfl rfl)
theorem dX1_load_17 : decode cX1_load 17 = .ok (.putfield 88, 3) := dk_181 0 88 (dk_at dksX1_load_0 17 rfl rfl)
theorem dX1_load_20 : decode cX1_load 20 = .ok (.aload_n 0, 1) := dk_42 (dk_at dksX1_load_0 20 rfl rfl)
theorem dX1_load_21 : decode cX1_load 21 = .ok (.new 123, 3) := dk_187 0 123 (dk_at dksX1_load_0 21 rfl rfl)
theorem dX1_load_24 : decode cX1_load 24 = .ok (.dup, 1) := dk_89 (dk_at dksX1_load_1 0 rfl rfl)
theorem dX1_load_25 : decode cX1_load 25 = .ok (.aload_n 0, 1) := dk_42 (dk_at dksX1_load_1 1 rfl rfl)
theorem dX1_load_26 : decode cX1_load 26 = .ok (.iload_n 1, 1) := dk_27 (dk_at dksX1_load_1 2 rfl rfl)
theorem dX1_load_27 : decode cX1_load 27 = .ok (.invokespecial 125, 3) := dk_183 0 125 (dk_at dksX1_load_1 3 rfl rfl)
theorem dX1_load_30 : decode cX1_load 30 = .ok (.invokevirtual 128, 3) := dk_182 0 128 (dk_at dksX1_load_1 6 rfl rfl)
theorem dX1_load_33 : decode cX1_load 33 = .ok (.putfield 96, 3) := dk_181 0 96 (dk_at dksX1_load_1 9 rfl rfl)
theorem dX1_load_36 : decode cX1_load 36 = .ok (.goto 28, 3) := dk_167 0 28 (dk_at dksX1_load_1 12 rfl rfl)
theorem dX1_load_39 : decode cX1_load 39 = .ok (.astore_n 2, 1) := dk_77 (dk_at dksX1_load_1 15 rfl rfl)
theorem dX1_load_40 : decode cX1_load 40 = .ok (.aload_n 0, 1) := dk_42 (dk_at dksX1_load_1 16 rfl rfl)
theorem dX1_load_41 : decode cX1_load 41 = .ok (.aload_n 2, 1) := dk_44 (dk_at dksX1_load_1 17 rfl rfl)
theorem dX1_load_42 : decode cX1_load 42 = .ok (.getfield 134, 3) := dk_180 0 134 (dk_at dksX1_load_1 18 rfl rfl)
theorem dX1_load_45 : decode cX1_load 45 = .ok (.putfield 120, 3) := dk_181 0 120 (dk_at dksX1_load_1 21 rfl rfl)
theorem dX1_load_48 : decode cX1_load 48 = .ok (.aload_n 0, 1) := dk_42 (dk_at dksX1_load_2 0 rfl rfl)
theorem dX1_load_49 : decode cX1_load 49 = .ok (.aload_n 2, 1) := dk_44 (dk_at dksX1_load_2 1 rfl rfl)
theorem dX1_load_50 : decode cX1_load 50 = .ok (.getfield 137, 3) := dk_180 0 137 (dk_at dksX1_load_2 2 rfl rfl)
theorem dX1_load_53 : decode cX1_load 53 = .ok (.putfield 88, 3) := dk_181 0 88 (dk_at dksX1_load_2 5 rfl rfl)
theorem dX1_load_56 : decode cX1_load 56 = .ok (.new 7, 3) := dk_187 0 7 (dk_at dksX1_load_2 8 rfl rfl)
theorem dX1_load_59 : decode cX1_load 59 = .ok (.dup, 1) := dk_89 (dk_at dksX1_load_2 11 rfl rfl)
theorem dX1_load_60 : decode cX1_load 60 = .ok (.invokespecial 9, 3) := dk_183 0 9 (dk_at dksX1_load_2 12 rfl rfl)
theorem dX1_load_63 : decode cX1_load 63 = .ok (.athrow, 1) := dk_191 (dk_at dksX1_load_2 15 rfl rfl)
theorem dX1_load_64 : decode cX1_load 64 = .ok (.aload_n 0, 1) := dk_42 (dk_at dksX1_load_2 16 rfl rfl)
theorem dX1_load_65 : decode cX1_load 65 = .ok (.getfield 103, 3) := dk_180 0 103 (dk_at dksX1_load_2 17 rfl rfl)
theorem dX1_load_68 : decode cX1_load 68 = .ok (.invokevirtual 140, 3) := dk_182 0 140 (dk_at dksX1_load_2 20 rfl rfl)
theorem dX1_load_71 : decode cX1_load 71 = .ok (.iconst 0, 1) := dk_3 (dk_at dksX1_load_2 23 rfl rfl)
theorem dX1_load_72 : decode cX1_load 72 = .ok (.istore_n 2, 1) := dk_61 (dk_at dksX1_load_3 0 rfl rfl)
theorem dX1_load_73 : decode cX1_load 73 = .ok (.iload_n 2, 1) := dk_28 (dk_at dksX1_load_3 1 rfl rfl)
theorem dX1_load_74 : decode cX1_load 74 = .ok (.iconst 2, 1) := dk_5 (dk_at dksX1_load_3 2 rfl rfl)
theorem dX1_load_75 : decode cX1_load 75 = .ok (.if_icmp .ge 16, 3) := dk_162 0 16 (dk_at dksX1_load_3 3 rfl rfl)
theorem dX1_load_78 : decode cX1_load 78 = .ok (.aload_n 0, 1) := dk_42 (dk_at dksX1_load_3 6 rfl rfl)
theorem dX1_load_79 : decode cX1_load 79 = .ok (.getfield 107, 3) := dk_180 0 107 (dk_at dksX1_load_3 7 rfl rfl)
theorem dX1_load_82 : decode cX1_load 82 = .ok (.iload_n 2, 1) := dk_28 (dk_at dksX1_load_3 10 rfl rfl)
theorem dX1_load_83 : decode cX1_load 83 = .ok (.aconst_null, 1) := dk_1 (dk_at dksX1_load_3 11 rfl rfl)
theorem dX1_load_84 : decode cX1_load 84 = .ok (.aastore, 1) := dk_83 (dk_at dksX1_load_3 12 rfl rfl)
theorem dX1_load_85 : decode cX1_load 85 = .ok (.iinc 2 1, 3) := dk_132 2 1 (dk_at dksX1_load_3 13 rfl rfl)
theorem dX1_load_88 : decode cX1_load 88 = .ok (.goto (-15), 3) := dk_167 255 241 (dk_at dksX1_load_3 16 rfl rfl)
theorem dX1_load_91 : decode cX1_load 91 = .ok (.aload_n 0, 1) := dk_42 (dk_at dksX1_load_3 19 rfl rfl)
theorem dX1_load_92 : decode cX1_load 92 = .ok (.getfield 96, 3) := dk_180 0 96 (dk_at dksX1_load_3 20 rfl rfl)
theorem dX1_load_95 : decode cX1_load 95 = .ok (.invokevirtual 143, 3) := dk_182 0 143 (dk_at dksX1_load_4 0 rfl rfl)
theorem dX1_load_98 : decode cX1_load 98 = .ok (.ireturn, 1) := dk_172 (dk_at dksX1_load_4 3 rfl rfl)
abbrev cX1_repairs : ByteArray := prog_1_method_9_code
def yX1_repairs : MethodName := ⟨RX1, "repairs", "(LCountedSkipLists$SkipList;ILCountedSkipLists$Journal;)V"⟩
def dkwX1_repairs_3 : List UInt8 := [83, 89, 4, 25, 4, 83, 184, 0, 60, 58, 5, 167, 255, 206, 177]
abbrev dktX1_repairs_3 : List UInt8 := dkwX1_repairs_3 ++ []
def dkwX1_repairs_2 : List UInt8 := [25, 5, 180, 0, 68, 25, 6, 42, 25, 5, 182, 0, 71, 182, 0, 75, 42, 5, 189, 0, 49, 89, 3, 45]
abbrev dktX1_repairs_2 : List UInt8 := dkwX1_repairs_2 ++ dktX1_repairs_3
def dkwX1_repairs_1 : List UInt8 := [4, 25, 4, 83, 184, 0, 60, 58, 5, 25, 5, 198, 0, 51, 25, 5, 184, 0, 64, 58, 6, 44, 25, 6]
abbrev dktX1_repairs_1 : List UInt8 := dkwX1_repairs_1 ++ dktX1_repairs_2
def dkwX1_repairs_0 : List UInt8 := [27, 186, 0, 54, 0, 0, 78, 186, 0, 57, 0, 0, 58, 4, 42, 5, 189, 0, 49, 89, 3, 45, 83, 89]
abbrev dktX1_repairs_0 : List UInt8 := dkwX1_repairs_0 ++ dktX1_repairs_1
theorem dksX1_repairs_0 : cX1_repairs.data.toList.drop 0 = dktX1_repairs_0 := by decide +kernel
theorem dksX1_repairs_1 : cX1_repairs.data.toList.drop 24 = dktX1_repairs_1 := dk_seg dksX1_repairs_0 24 rfl rfl
theorem dksX1_repairs_2 : cX1_repairs.data.toList.drop 48 = dktX1_repairs_2 := dk_seg dksX1_repairs_1 24 rfl rfl
theorem dksX1_repairs_3 : cX1_repairs.data.toList.drop 72 = dktX1_repairs_3 := dk_seg dksX1_repairs_2 24 rfl rfl
theorem dX1_repairs_0 : decode cX1_repairs 0 = .ok (.iload_n 1, 1) := dk_27 (dk_at dksX1_repairs_0 0 rfl rfl)
theorem dX1_repairs_1 : decode cX1_repairs 1 = .ok (.invokedynamic 54, 5) := by decide +kernel
theorem dX1_repairs_6 : decode cX1_repairs 6 = .ok (.astore_n 3, 1) := dk_78 (dk_at dksX1_repairs_0 6 rfl rfl)
theorem dX1_repairs_7 : decode cX1_repairs 7 = .ok (.invokedynamic 57, 5) := by decide +kernel
theorem dX1_repairs_12 : decode cX1_repairs 12 = .ok (.astore 4, 2) := dk_58 4 (dk_at dksX1_repairs_0 12 rfl rfl)
theorem dX1_repairs_14 : decode cX1_repairs 14 = .ok (.aload_n 0, 1) := dk_42 (dk_at dksX1_repairs_0 14 rfl rfl)
theorem dX1_repairs_15 : decode cX1_repairs 15 = .ok (.iconst 2, 1) := dk_5 (dk_at dksX1_repairs_0 15 rfl rfl)
theorem dX1_repairs_16 : decode cX1_repairs 16 = .ok (.anewarray 49, 3) := dk_189 0 49 (dk_at dksX1_repairs_0 16 rfl rfl)
theorem dX1_repairs_19 : decode cX1_repairs 19 = .ok (.dup, 1) := dk_89 (dk_at dksX1_repairs_0 19 rfl rfl)
theorem dX1_repairs_20 : decode cX1_repairs 20 = .ok (.iconst 0, 1) := dk_3 (dk_at dksX1_repairs_0 20 rfl rfl)
theorem dX1_repairs_21 : decode cX1_repairs 21 = .ok (.aload_n 3, 1) := dk_45 (dk_at dksX1_repairs_0 21 rfl rfl)
theorem dX1_repairs_22 : decode cX1_repairs 22 = .ok (.aastore, 1) := dk_83 (dk_at dksX1_repairs_0 22 rfl rfl)
theorem dX1_repairs_23 : decode cX1_repairs 23 = .ok (.dup, 1) := dk_89 (dk_at dksX1_repairs_0 23 rfl rfl)
theorem dX1_repairs_24 : decode cX1_repairs 24 = .ok (.iconst 1, 1) := dk_4 (dk_at dksX1_repairs_1 0 rfl rfl)
theorem dX1_repairs_25 : decode cX1_repairs 25 = .ok (.aload 4, 2) := dk_25 4 (dk_at dksX1_repairs_1 1 rfl rfl)
theorem dX1_repairs_27 : decode cX1_repairs 27 = .ok (.aastore, 1) := dk_83 (dk_at dksX1_repairs_1 3 rfl rfl)
theorem dX1_repairs_28 : decode cX1_repairs 28 = .ok (.invokestatic 60, 3) := dk_184 0 60 (dk_at dksX1_repairs_1 4 rfl rfl)
theorem dX1_repairs_31 : decode cX1_repairs 31 = .ok (.astore 5, 2) := dk_58 5 (dk_at dksX1_repairs_1 7 rfl rfl)
theorem dX1_repairs_33 : decode cX1_repairs 33 = .ok (.aload 5, 2) := dk_25 5 (dk_at dksX1_repairs_1 9 rfl rfl)
theorem dX1_repairs_35 : decode cX1_repairs 35 = .ok (.ifnull 51, 3) := dk_198 0 51 (dk_at dksX1_repairs_1 11 rfl rfl)
theorem dX1_repairs_38 : decode cX1_repairs 38 = .ok (.aload 5, 2) := dk_25 5 (dk_at dksX1_repairs_1 14 rfl rfl)
theorem dX1_repairs_40 : decode cX1_repairs 40 = .ok (.invokestatic 64, 3) := dk_184 0 64 (dk_at dksX1_repairs_1 16 rfl rfl)
theorem dX1_repairs_43 : decode cX1_repairs 43 = .ok (.astore 6, 2) := dk_58 6 (dk_at dksX1_repairs_1 19 rfl rfl)
theorem dX1_repairs_45 : decode cX1_repairs 45 = .ok (.aload_n 2, 1) := dk_44 (dk_at dksX1_repairs_1 21 rfl rfl)
theorem dX1_repairs_46 : decode cX1_repairs 46 = .ok (.aload 6, 2) := dk_25 6 (dk_at dksX1_repairs_1 22 rfl rfl)
theorem dX1_repairs_48 : decode cX1_repairs 48 = .ok (.aload 5, 2) := dk_25 5 (dk_at dksX1_repairs_2 0 rfl rfl)
theorem dX1_repairs_50 : decode cX1_repairs 50 = .ok (.getfield 68, 3) := dk_180 0 68 (dk_at dksX1_repairs_2 2 rfl rfl)
theorem dX1_repairs_53 : decode cX1_repairs 53 = .ok (.aload 6, 2) := dk_25 6 (dk_at dksX1_repairs_2 5 rfl rfl)
theorem dX1_repairs_55 : decode cX1_repairs 55 = .ok (.aload_n 0, 1) := dk_42 (dk_at dksX1_repairs_2 7 rfl rfl)
theorem dX1_repairs_56 : decode cX1_repairs 56 = .ok (.aload 5, 2) := dk_25 5 (dk_at dksX1_repairs_2 8 rfl rfl)
theorem dX1_repairs_58 : decode cX1_repairs 58 = .ok (.invokevirtual 71, 3) := dk_182 0 71 (dk_at dksX1_repairs_2 10 rfl rfl)
theorem dX1_repairs_61 : decode cX1_repairs 61 = .ok (.invokevirtual 75, 3) := dk_182 0 75 (dk_at dksX1_repairs_2 13 rfl rfl)
theorem dX1_repairs_64 : decode cX1_repairs 64 = .ok (.aload_n 0, 1) := dk_42 (dk_at dksX1_repairs_2 16 rfl rfl)
theorem dX1_repairs_65 : decode cX1_repairs 65 = .ok (.iconst 2, 1) := dk_5 (dk_at dksX1_repairs_2 17 rfl rfl)
theorem dX1_repairs_66 : decode cX1_repairs 66 = .ok (.anewarray 49, 3) := dk_189 0 49 (dk_at dksX1_repairs_2 18 rfl rfl)
theorem dX1_repairs_69 : decode cX1_repairs 69 = .ok (.dup, 1) := dk_89 (dk_at dksX1_repairs_2 21 rfl rfl)
theorem dX1_repairs_70 : decode cX1_repairs 70 = .ok (.iconst 0, 1) := dk_3 (dk_at dksX1_repairs_2 22 rfl rfl)
theorem dX1_repairs_71 : decode cX1_repairs 71 = .ok (.aload_n 3, 1) := dk_45 (dk_at dksX1_repairs_2 23 rfl rfl)
theorem dX1_repairs_72 : decode cX1_repairs 72 = .ok (.aastore, 1) := dk_83 (dk_at dksX1_repairs_3 0 rfl rfl)
theorem dX1_repairs_73 : decode cX1_repairs 73 = .ok (.dup, 1) := dk_89 (dk_at dksX1_repairs_3 1 rfl rfl)
theorem dX1_repairs_74 : decode cX1_repairs 74 = .ok (.iconst 1, 1) := dk_4 (dk_at dksX1_repairs_3 2 rfl rfl)
theorem dX1_repairs_75 : decode cX1_repairs 75 = .ok (.aload 4, 2) := dk_25 4 (dk_at dksX1_repairs_3 3 rfl rfl)
theorem dX1_repairs_77 : decode cX1_repairs 77 = .ok (.aastore, 1) := dk_83 (dk_at dksX1_repairs_3 5 rfl rfl)
theorem dX1_repairs_78 : decode cX1_repairs 78 = .ok (.invokestatic 60, 3) := dk_184 0 60 (dk_at dksX1_repairs_3 6 rfl rfl)
theorem dX1_repairs_81 : decode cX1_repairs 81 = .ok (.astore 5, 2) := dk_58 5 (dk_at dksX1_repairs_3 9 rfl rfl)
theorem dX1_repairs_83 : decode cX1_repairs 83 = .ok (.goto (-50), 3) := dk_167 255 206 (dk_at dksX1_repairs_3 11 rfl rfl)
theorem dX1_repairs_86 : decode cX1_repairs 86 = .ok (.return_, 1) := dk_177 (dk_at dksX1_repairs_3 14 rfl rfl)
abbrev cX1_lambda_repairs_0 : ByteArray := prog_1_method_80_code
def yX1_lambda_repairs_0 : MethodName := ⟨RX1, "lambda$repairs$0", "(ILCountedSkipLists$SkipList;)LCountedSkipLists$Gap;"⟩
def dkwX1_lambda_repairs_0_0 : List UInt8 := [43, 26, 182, 1, 179, 176]
abbrev dktX1_lambda_repairs_0_0 : List UInt8 := dkwX1_lambda_repairs_0_0 ++ []
theorem dksX1_lambda_repairs_0_0 : cX1_lambda_repairs_0.data.toList.drop 0 = dktX1_lambda_repairs_0_0 := by decide +kernel
theorem dX1_lambda_repairs_0_0 : decode cX1_lambda_repairs_0 0 = .ok (.aload_n 1, 1) := dk_43 (dk_at dksX1_lambda_repairs_0_0 0 rfl rfl)
theorem dX1_lambda_repairs_0_1 : decode cX1_lambda_repairs_0 1 = .ok (.iload_n 0, 1) := dk_26 (dk_at dksX1_lambda_repairs_0_0 1 rfl rfl)
theorem dX1_lambda_repairs_0_2 : decode cX1_lambda_repairs_0 2 = .ok (.invokevirtual 435, 3) := dk_182 1 179 (dk_at dksX1_lambda_repairs_0_0 2 rfl rfl)
theorem dX1_lambda_repairs_0_5 : decode cX1_lambda_repairs_0 5 = .ok (.areturn, 1) := dk_176 (dk_at dksX1_lambda_repairs_0_0 5 rfl rfl)
abbrev cX1_lambda_repairs_1 : ByteArray := prog_1_method_79_code
def yX1_lambda_repairs_1 : MethodName := ⟨RX1, "lambda$repairs$1", "(LCountedSkipLists$SkipList;)LCountedSkipLists$Gap;"⟩
theorem dX1_lambda_repairs_1_0 : decode cX1_lambda_repairs_1 0 = .ok (.aload_n 0, 1) := by decide +kernel
theorem dX1_lambda_repairs_1_1 : decode cX1_lambda_repairs_1 1 = .ok (.invokevirtual 431, 3) := by decide +kernel
theorem dX1_lambda_repairs_1_4 : decode cX1_lambda_repairs_1 4 = .ok (.areturn, 1) := by decide +kernel
abbrev cX1_first : ByteArray := prog_1_method_8_code
def yX1_first : MethodName := ⟨RX1, "first", "(LCountedSkipLists$SkipList;[LCountedSkipLists$Rule;)LCountedSkipLists$Gap;"⟩
def dkwX1_first_1 : List UInt8 := [185, 0, 48, 2, 0, 58, 6, 25, 6, 198, 0, 6, 25, 6, 176, 132, 4, 1, 167, 255, 223, 1, 176]
abbrev dktX1_first_1 : List UInt8 := dkwX1_first_1 ++ []
def dkwX1_first_0 : List UInt8 := [43, 77, 44, 190, 62, 3, 54, 4, 21, 4, 29, 162, 0, 33, 44, 21, 4, 50, 58, 5, 25, 5, 42]
abbrev dktX1_first_0 : List UInt8 := dkwX1_first_0 ++ dktX1_first_1
theorem dksX1_first_0 : cX1_first.data.toList.drop 0 = dktX1_first_0 := by decide +kernel
theorem dksX1_first_1 : cX1_first.data.toList.drop 23 = dktX1_first_1 := dk_seg dksX1_first_0 23 rfl rfl
theorem dX1_first_0 : decode cX1_first 0 = .ok (.aload_n 1, 1) := dk_43 (dk_at dksX1_first_0 0 rfl rfl)
theorem dX1_first_1 : decode cX1_first 1 = .ok (.astore_n 2, 1) := dk_77 (dk_at dksX1_first_0 1 rfl rfl)
theorem dX1_first_2 : decode cX1_first 2 = .ok (.aload_n 2, 1) := dk_44 (dk_at dksX1_first_0 2 rfl rfl)
theorem dX1_first_3 : decode cX1_first 3 = .ok (.arraylength, 1) := dk_190 (dk_at dksX1_first_0 3 rfl rfl)
theorem dX1_first_4 : decode cX1_first 4 = .ok (.istore_n 3, 1) := dk_62 (dk_at dksX1_first_0 4 rfl rfl)
theorem dX1_first_5 : decode cX1_first 5 = .ok (.iconst 0, 1) := dk_3 (dk_at dksX1_first_0 5 rfl rfl)
theorem dX1_first_6 : decode cX1_first 6 = .ok (.istore 4, 2) := dk_54 4 (dk_at dksX1_first_0 6 rfl rfl)
theorem dX1_first_8 : decode cX1_first 8 = .ok (.iload 4, 2) := dk_21 4 (dk_at dksX1_first_0 8 rfl rfl)
theorem dX1_first_10 : decode cX1_first 10 = .ok (.iload_n 3, 1) := dk_29 (dk_at dksX1_first_0 10 rfl rfl)
theorem dX1_first_11 : decode cX1_first 11 = .ok (.if_icmp .ge 33, 3) := dk_162 0 33 (dk_at dksX1_first_0 11 rfl rfl)
theorem dX1_first_14 : decode cX1_first 14 = .ok (.aload_n 2, 1) := dk_44 (dk_at dksX1_first_0 14 rfl rfl)
theorem dX1_first_15 : decode cX1_first 15 = .ok (.iload 4, 2) := dk_21 4 (dk_at dksX1_first_0 15 rfl rfl)
theorem dX1_first_17 : decode cX1_first 17 = .ok (.aaload, 1) := dk_50 (dk_at dksX1_first_0 17 rfl rfl)
theorem dX1_first_18 : decode cX1_first 18 = .ok (.astore 5, 2) := dk_58 5 (dk_at dksX1_first_0 18 rfl rfl)
theorem dX1_first_20 : decode cX1_first 20 = .ok (.aload 5, 2) := dk_25 5 (dk_at dksX1_first_0 20 rfl rfl)
theorem dX1_first_22 : decode cX1_first 22 = .ok (.aload_n 0, 1) := dk_42 (dk_at dksX1_first_0 22 rfl rfl)
theorem dX1_first_23 : decode cX1_first 23 = .ok (.invokeinterface 48 2, 5) := by decide +kernel
theorem dX1_first_28 : decode cX1_first 28 = .ok (.astore 6, 2) := dk_58 6 (dk_at dksX1_first_1 5 rfl rfl)
theorem dX1_first_30 : decode cX1_first 30 = .ok (.aload 6, 2) := dk_25 6 (dk_at dksX1_first_1 7 rfl rfl)
theorem dX1_first_32 : decode cX1_first 32 = .ok (.ifnull 6, 3) := dk_198 0 6 (dk_at dksX1_first_1 9 rfl rfl)
theorem dX1_first_35 : decode cX1_first 35 = .ok (.aload 6, 2) := dk_25 6 (dk_at dksX1_first_1 12 rfl rfl)
theorem dX1_first_37 : decode cX1_first 37 = .ok (.areturn, 1) := dk_176 (dk_at dksX1_first_1 14 rfl rfl)
theorem dX1_first_38 : decode cX1_first 38 = .ok (.iinc 4 1, 3) := dk_132 4 1 (dk_at dksX1_first_1 15 rfl rfl)
theorem dX1_first_41 : decode cX1_first 41 = .ok (.goto (-33), 3) := dk_167 255 223 (dk_at dksX1_first_1 18 rfl rfl)
theorem dX1_first_44 : decode cX1_first 44 = .ok (.aconst_null, 1) := dk_1 (dk_at dksX1_first_1 21 rfl rfl)
theorem dX1_first_45 : decode cX1_first 45 = .ok (.areturn, 1) := dk_176 (dk_at dksX1_first_1 22 rfl rfl)
abbrev cX1_mendOf : ByteArray := prog_1_method_7_code
def yX1_mendOf : MethodName := ⟨RX1, "mendOf", "(LCountedSkipLists$Gap;)LCountedSkipLists$Mend;"⟩
def dkwX1_mendOf_1 : List UInt8 := [167, 0, 6, 178, 0, 45, 176]
abbrev dktX1_mendOf_1 : List UInt8 := dkwX1_mendOf_1 ++ []
def dkwX1_mendOf_0 : List UInt8 := [42, 180, 0, 26, 158, 0, 9, 178, 0, 32, 167, 0, 19, 42, 182, 0, 38, 153, 0, 9, 178, 0, 42]
abbrev dktX1_mendOf_0 : List UInt8 := dkwX1_mendOf_0 ++ dktX1_mendOf_1
theorem dksX1_mendOf_0 : cX1_mendOf.data.toList.drop 0 = dktX1_mendOf_0 := by decide +kernel
theorem dksX1_mendOf_1 : cX1_mendOf.data.toList.drop 23 = dktX1_mendOf_1 := dk_seg dksX1_mendOf_0 23 rfl rfl
theorem dX1_mendOf_0 : decode cX1_mendOf 0 = .ok (.aload_n 0, 1) := dk_42 (dk_at dksX1_mendOf_0 0 rfl rfl)
theorem dX1_mendOf_1 : decode cX1_mendOf 1 = .ok (.getfield 26, 3) := dk_180 0 26 (dk_at dksX1_mendOf_0 1 rfl rfl)
theorem dX1_mendOf_4 : decode cX1_mendOf 4 = .ok (.ifCond .le 9, 3) := dk_158 0 9 (dk_at dksX1_mendOf_0 4 rfl rfl)
theorem dX1_mendOf_7 : decode cX1_mendOf 7 = .ok (.getstatic 32, 3) := dk_178 0 32 (dk_at dksX1_mendOf_0 7 rfl rfl)
theorem dX1_mendOf_10 : decode cX1_mendOf 10 = .ok (.goto 19, 3) := dk_167 0 19 (dk_at dksX1_mendOf_0 10 rfl rfl)
theorem dX1_mendOf_13 : decode cX1_mendOf 13 = .ok (.aload_n 0, 1) := dk_42 (dk_at dksX1_mendOf_0 13 rfl rfl)
theorem dX1_mendOf_14 : decode cX1_mendOf 14 = .ok (.invokevirtual 38, 3) := dk_182 0 38 (dk_at dksX1_mendOf_0 14 rfl rfl)
theorem dX1_mendOf_17 : decode cX1_mendOf 17 = .ok (.ifCond .eq 9, 3) := dk_153 0 9 (dk_at dksX1_mendOf_0 17 rfl rfl)
theorem dX1_mendOf_20 : decode cX1_mendOf 20 = .ok (.getstatic 42, 3) := dk_178 0 42 (dk_at dksX1_mendOf_0 20 rfl rfl)
theorem dX1_mendOf_23 : decode cX1_mendOf 23 = .ok (.goto 6, 3) := dk_167 0 6 (dk_at dksX1_mendOf_1 0 rfl rfl)
theorem dX1_mendOf_26 : decode cX1_mendOf 26 = .ok (.getstatic 45, 3) := dk_178 0 45 (dk_at dksX1_mendOf_1 3 rfl rfl)
theorem dX1_mendOf_29 : decode cX1_mendOf 29 = .ok (.areturn, 1) := dk_176 (dk_at dksX1_mendOf_1 6 rfl rfl)
abbrev cX1_find : ByteArray := prog_1_method_16_code
def yX1_find : MethodName := ⟨RX1, "find", "()I"⟩
def dkwX1_find_4 : List UInt8 := [182, 0, 172, 153, 0, 5, 29, 172, 132, 3, 1, 167, 255, 207, 187, 0, 13, 89, 183, 0, 15, 191]
abbrev dktX1_find_4 : List UInt8 := dkwX1_find_4 ++ []
def dkwX1_find_3 : List UInt8 := [180, 0, 96, 180, 0, 163, 29, 50, 198, 0, 24, 42, 180, 0, 96, 180, 0, 163, 29, 50, 180, 0, 166, 44]
abbrev dktX1_find_3 : List UInt8 := dkwX1_find_3 ++ dktX1_find_4
def dkwX1_find_2 : List UInt8 := [77, 42, 3, 181, 0, 111, 3, 62, 29, 16, 6, 162, 0, 49, 44, 182, 0, 158, 154, 0, 36, 42]
abbrev dktX1_find_2 : List UInt8 := dkwX1_find_2 ++ dktX1_find_3
def dkwX1_find_1 : List UInt8 := [180, 0, 84, 28, 51, 17, 0, 255, 126, 146, 182, 0, 150, 87, 132, 2, 1, 167, 255, 229, 43, 182, 0, 154]
abbrev dktX1_find_1 : List UInt8 := dkwX1_find_1 ++ dktX1_find_2
def dkwX1_find_0 : List UInt8 := [187, 0, 147, 89, 42, 180, 0, 111, 183, 0, 149, 76, 3, 61, 28, 42, 180, 0, 111, 162, 0, 25, 43, 42]
abbrev dktX1_find_0 : List UInt8 := dkwX1_find_0 ++ dktX1_find_1
theorem dksX1_find_0 : cX1_find.data.toList.drop 0 = dktX1_find_0 := by decide +kernel
theorem dksX1_find_1 : cX1_find.data.toList.drop 24 = dktX1_find_1 := dk_seg dksX1_find_0 24 rfl rfl
theorem dksX1_find_2 : cX1_find.data.toList.drop 48 = dktX1_find_2 := dk_seg dksX1_find_1 24 rfl rfl
theorem dksX1_find_3 : cX1_find.data.toList.drop 70 = dktX1_find_3 := dk_seg dksX1_find_2 22 rfl rfl
theorem dksX1_find_4 : cX1_find.data.toList.drop 94 = dktX1_find_4 := dk_seg dksX1_find_3 24 rfl rfl
theorem dX1_find_0 : decode cX1_find 0 = .ok (.new 147, 3) := dk_187 0 147 (dk_at dksX1_find_0 0 rfl rfl)
theorem dX1_find_3 : decode cX1_find 3 = .ok (.dup, 1) := dk_89 (dk_at dksX1_find_0 3 rfl rfl)
theorem dX1_find_4 : decode cX1_find 4 = .ok (.aload_n 0, 1) := dk_42 (dk_at dksX1_find_0 4 rfl rfl)
theorem dX1_find_5 : decode cX1_find 5 = .ok (.getfield 111, 3) := dk_180 0 111 (dk_at dksX1_find_0 5 rfl rfl)
theorem dX1_find_8 : decode cX1_find 8 = .ok (.invokespecial 149, 3) := dk_183 0 149 (dk_at dksX1_find_0 8 rfl rfl)
theorem dX1_find_11 : decode cX1_find 11 = .ok (.astore_n 1, 1) := dk_76 (dk_at dksX1_find_0 11 rfl rfl)
theorem dX1_find_12 : decode cX1_find 12 = .ok (.iconst 0, 1) := dk_3 (dk_at dksX1_find_0 12 rfl rfl)
theorem dX1_find_13 : decode cX1_find 13 = .ok (.istore_n 2, 1) := dk_61 (dk_at dksX1_find_0 13 rfl rfl)
theorem dX1_find_14 : decode cX1_find 14 = .ok (.iload_n 2, 1) := dk_28 (dk_at dksX1_find_0 14 rfl rfl)
theorem dX1_find_15 : decode cX1_find 15 = .ok (.aload_n 0, 1) := dk_42 (dk_at dksX1_find_0 15 rfl rfl)
theorem dX1_find_16 : decode cX1_find 16 = .ok (.getfield 111, 3) := dk_180 0 111 (dk_at dksX1_find_0 16 rfl rfl)
theorem dX1_find_19 : decode cX1_find 19 = .ok (.if_icmp .ge 25, 3) := dk_162 0 25 (dk_at dksX1_find_0 19 rfl rfl)
theorem dX1_find_22 : decode cX1_find 22 = .ok (.aload_n 1, 1) := dk_43 (dk_at dksX1_find_0 22 rfl rfl)
theorem dX1_find_23 : decode cX1_find 23 = .ok (.aload_n 0, 1) := dk_42 (dk_at dksX1_find_0 23 rfl rfl)
theorem dX1_find_24 : decode cX1_find 24 = .ok (.getfield 84, 3) := dk_180 0 84 (dk_at dksX1_find_1 0 rfl rfl)
theorem dX1_find_27 : decode cX1_find 27 = .ok (.iload_n 2, 1) := dk_28 (dk_at dksX1_find_1 3 rfl rfl)
theorem dX1_find_28 : decode cX1_find 28 = .ok (.baload, 1) := dk_51 (dk_at dksX1_find_1 4 rfl rfl)
theorem dX1_find_29 : decode cX1_find 29 = .ok (.sipush 255, 3) := dk_17 0 255 (dk_at dksX1_find_1 5 rfl rfl)
theorem dX1_find_32 : decode cX1_find 32 = .ok (.iand, 1) := dk_126 (dk_at dksX1_find_1 8 rfl rfl)
theorem dX1_find_33 : decode cX1_find 33 = .ok (.i2c, 1) := dk_146 (dk_at dksX1_find_1 9 rfl rfl)
theorem dX1_find_34 : decode cX1_find 34 = .ok (.invokevirtual 150, 3) := dk_182 0 150 (dk_at dksX1_find_1 10 rfl rfl)
theorem dX1_find_37 : decode cX1_find 37 = .ok (.pop, 1) := dk_87 (dk_at dksX1_find_1 13 rfl rfl)
theorem dX1_find_38 : decode cX1_find 38 = .ok (.iinc 2 1, 3) := dk_132 2 1 (dk_at dksX1_find_1 14 rfl rfl)
theorem dX1_find_41 : decode cX1_find 41 = .ok (.goto (-27), 3) := dk_167 255 229 (dk_at dksX1_find_1 17 rfl rfl)
theorem dX1_find_44 : decode cX1_find 44 = .ok (.aload_n 1, 1) := dk_43 (dk_at dksX1_find_1 20 rfl rfl)
theorem dX1_find_45 : decode cX1_find 45 = .ok (.invokevirtual 154, 3) := dk_182 0 154 (dk_at dksX1_find_1 21 rfl rfl)
theorem dX1_find_48 : decode cX1_find 48 = .ok (.astore_n 2, 1) := dk_77 (dk_at dksX1_find_2 0 rfl rfl)
theorem dX1_find_49 : decode cX1_find 49 = .ok (.aload_n 0, 1) := dk_42 (dk_at dksX1_find_2 1 rfl rfl)
theorem dX1_find_50 : decode cX1_find 50 = .ok (.iconst 0, 1) := dk_3 (dk_at dksX1_find_2 2 rfl rfl)
theorem dX1_find_51 : decode cX1_find 51 = .ok (.putfield 111, 3) := dk_181 0 111 (dk_at dksX1_find_2 3 rfl rfl)
theorem dX1_find_54 : decode cX1_find 54 = .ok (.iconst 0, 1) := dk_3 (dk_at dksX1_find_2 6 rfl rfl)
theorem dX1_find_55 : decode cX1_find 55 = .ok (.istore_n 3, 1) := dk_62 (dk_at dksX1_find_2 7 rfl rfl)
theorem dX1_find_56 : decode cX1_find 56 = .ok (.iload_n 3, 1) := dk_29 (dk_at dksX1_find_2 8 rfl rfl)
theorem dX1_find_57 : decode cX1_find 57 = .ok (.bipush 6, 2) := dk_16 6 (dk_at dksX1_find_2 9 rfl rfl)
theorem dX1_find_59 : decode cX1_find 59 = .ok (.if_icmp .ge 49, 3) := dk_162 0 49 (dk_at dksX1_find_2 11 rfl rfl)
theorem dX1_find_62 : decode cX1_find 62 = .ok (.aload_n 2, 1) := dk_44 (dk_at dksX1_find_2 14 rfl rfl)
theorem dX1_find_63 : decode cX1_find 63 = .ok (.invokevirtual 158, 3) := dk_182 0 158 (dk_at dksX1_find_2 15 rfl rfl)
theorem dX1_find_66 : decode cX1_find 66 = .ok (.ifCond .ne 36, 3) := dk_154 0 36 (dk_at dksX1_find_2 18 rfl rfl)
theorem dX1_find_69 : decode cX1_find 69 = .ok (.aload_n 0, 1) := dk_42 (dk_at dksX1_find_2 21 rfl rfl)
theorem dX1_find_70 : decode cX1_find 70 = .ok (.getfield 96, 3) := dk_180 0 96 (dk_at dksX1_find_3 0 rfl rfl)
theorem dX1_find_73 : decode cX1_find 73 = .ok (.getfield 163, 3) := dk_180 0 163 (dk_at dksX1_find_3 3 rfl rfl)
theorem dX1_find_76 : decode cX1_find 76 = .ok (.iload_n 3, 1) := dk_29 (dk_at dksX1_find_3 6 rfl rfl)
theorem dX1_find_77 : decode cX1_find 77 = .ok (.aaload, 1) := dk_50 (dk_at dksX1_find_3 7 rfl rfl)
theorem dX1_find_78 : decode cX1_find 78 = .ok (.ifnull 24, 3) := dk_198 0 24 (dk_at dksX1_find_3 8 rfl rfl)
theorem dX1_find_81 : decode cX1_find 81 = .ok (.aload_n 0, 1) := dk_42 (dk_at dksX1_find_3 11 rfl rfl)
theorem dX1_find_82 : decode cX1_find 82 = .ok (.getfield 96, 3) := dk_180 0 96 (dk_at dksX1_find_3 12 rfl rfl)
theorem dX1_find_85 : decode cX1_find 85 = .ok (.getfield 163, 3) := dk_180 0 163 (dk_at dksX1_find_3 15 rfl rfl)
theorem dX1_find_88 : decode cX1_find 88 = .ok (.iload_n 3, 1) := dk_29 (dk_at dksX1_find_3 18 rfl rfl)
theorem dX1_find_89 : decode cX1_find 89 = .ok (.aaload, 1) := dk_50 (dk_at dksX1_find_3 19 rfl rfl)
theorem dX1_find_90 : decode cX1_find 90 = .ok (.getfield 166, 3) := dk_180 0 166 (dk_at dksX1_find_3 20 rfl rfl)
theorem dX1_find_93 : decode cX1_find 93 = .ok (.aload_n 2, 1) := dk_44 (dk_at dksX1_find_3 23 rfl rfl)
theorem dX1_find_94 : decode cX1_find 94 = .ok (.invokevirtual 172, 3) := dk_182 0 172 (dk_at dksX1_find_4 0 rfl rfl)
theorem dX1_find_97 : decode cX1_find 97 = .ok (.ifCond .eq 5, 3) := dk_153 0 5 (dk_at dksX1_find_4 3 rfl rfl)
theorem dX1_find_100 : decode cX1_find 100 = .ok (.iload_n 3, 1) := dk_29 (dk_at dksX1_find_4 6 rfl rfl)
theorem dX1_find_101 : decode cX1_find 101 = .ok (.ireturn, 1) := dk_172 (dk_at dksX1_find_4 7 rfl rfl)
theorem dX1_find_102 : decode cX1_find 102 = .ok (.iinc 3 1, 3) := dk_132 3 1 (dk_at dksX1_find_4 8 rfl rfl)
theorem dX1_find_105 : decode cX1_find 105 = .ok (.goto (-49), 3) := dk_167 255 207 (dk_at dksX1_find_4 11 rfl rfl)
theorem dX1_find_108 : decode cX1_find 108 = .ok (.new 13, 3) := dk_187 0 13 (dk_at dksX1_find_4 14 rfl rfl)
theorem dX1_find_111 : decode cX1_find 111 = .ok (.dup, 1) := dk_89 (dk_at dksX1_find_4 17 rfl rfl)
theorem dX1_find_112 : decode cX1_find 112 = .ok (.invokespecial 15, 3) := dk_183 0 15 (dk_at dksX1_find_4 18 rfl rfl)
theorem dX1_find_115 : decode cX1_find 115 = .ok (.athrow, 1) := dk_191 (dk_at dksX1_find_4 21 rfl rfl)
abbrev cX1_size : ByteArray := prog_1_method_21_code
def yX1_size : MethodName := ⟨RX1, "size", "(I)I"⟩
def dkwX1_size_0 : List UInt8 := [42, 27, 182, 0, 183, 180, 0, 191, 172]
abbrev dktX1_size_0 : List UInt8 := dkwX1_size_0 ++ []
theorem dksX1_size_0 : cX1_size.data.toList.drop 0 = dktX1_size_0 := by decide +kernel
theorem dX1_size_0 : decode cX1_size 0 = .ok (.aload_n 0, 1) := dk_42 (dk_at dksX1_size_0 0 rfl rfl)
theorem dX1_size_1 : decode cX1_size 1 = .ok (.iload_n 1, 1) := dk_27 (dk_at dksX1_size_0 1 rfl rfl)
theorem dX1_size_2 : decode cX1_size 2 = .ok (.invokevirtual 183, 3) := dk_182 0 183 (dk_at dksX1_size_0 2 rfl rfl)
theorem dX1_size_5 : decode cX1_size 5 = .ok (.getfield 191, 3) := dk_180 0 191 (dk_at dksX1_size_0 5 rfl rfl)
theorem dX1_size_8 : decode cX1_size 8 = .ok (.ireturn, 1) := dk_172 (dk_at dksX1_size_0 8 rfl rfl)
abbrev cX1_at : ByteArray := prog_1_method_19_code
def yX1_at : MethodName := ⟨RX1, "at", "(I)LCountedSkipLists$SkipList;"⟩
def dkwX1_at_0 : List UInt8 := [42, 27, 182, 0, 179, 184, 0, 117, 42, 180, 0, 96, 180, 0, 163, 27, 50, 176]
abbrev dktX1_at_0 : List UInt8 := dkwX1_at_0 ++ []
theorem dksX1_at_0 : cX1_at.data.toList.drop 0 = dktX1_at_0 := by decide +kernel
theorem dX1_at_0 : decode cX1_at 0 = .ok (.aload_n 0, 1) := dk_42 (dk_at dksX1_at_0 0 rfl rfl)
theorem dX1_at_1 : decode cX1_at 1 = .ok (.iload_n 1, 1) := dk_27 (dk_at dksX1_at_0 1 rfl rfl)
theorem dX1_at_2 : decode cX1_at 2 = .ok (.invokevirtual 179, 3) := dk_182 0 179 (dk_at dksX1_at_0 2 rfl rfl)
theorem dX1_at_5 : decode cX1_at 5 = .ok (.invokestatic 117, 3) := dk_184 0 117 (dk_at dksX1_at_0 5 rfl rfl)
theorem dX1_at_8 : decode cX1_at 8 = .ok (.aload_n 0, 1) := dk_42 (dk_at dksX1_at_0 8 rfl rfl)
theorem dX1_at_9 : decode cX1_at 9 = .ok (.getfield 96, 3) := dk_180 0 96 (dk_at dksX1_at_0 9 rfl rfl)
theorem dX1_at_12 : decode cX1_at 12 = .ok (.getfield 163, 3) := dk_180 0 163 (dk_at dksX1_at_0 12 rfl rfl)
theorem dX1_at_15 : decode cX1_at 15 = .ok (.iload_n 1, 1) := dk_27 (dk_at dksX1_at_0 15 rfl rfl)
theorem dX1_at_16 : decode cX1_at 16 = .ok (.aaload, 1) := dk_50 (dk_at dksX1_at_0 16 rfl rfl)
theorem dX1_at_17 : decode cX1_at 17 = .ok (.areturn, 1) := dk_176 (dk_at dksX1_at_0 17 rfl rfl)
abbrev cX1_height : ByteArray := prog_1_method_22_code
def yX1_height : MethodName := ⟨RX1, "height", "(I)I"⟩
def dkwX1_height_0 : List UInt8 := [42, 27, 182, 0, 183, 182, 0, 192, 172]
abbrev dktX1_height_0 : List UInt8 := dkwX1_height_0 ++ []
theorem dksX1_height_0 : cX1_height.data.toList.drop 0 = dktX1_height_0 := by decide +kernel
theorem dX1_height_0 : decode cX1_height 0 = .ok (.aload_n 0, 1) := dk_42 (dk_at dksX1_height_0 0 rfl rfl)
theorem dX1_height_1 : decode cX1_height 1 = .ok (.iload_n 1, 1) := dk_27 (dk_at dksX1_height_0 1 rfl rfl)
theorem dX1_height_2 : decode cX1_height 2 = .ok (.invokevirtual 183, 3) := dk_182 0 183 (dk_at dksX1_height_0 2 rfl rfl)
theorem dX1_height_5 : decode cX1_height 5 = .ok (.invokevirtual 192, 3) := dk_182 0 192 (dk_at dksX1_height_0 5 rfl rfl)
theorem dX1_height_8 : decode cX1_height 8 = .ok (.ireturn, 1) := dk_172 (dk_at dksX1_height_0 8 rfl rfl)
abbrev cX1_keyAt : ByteArray := prog_1_method_24_code
def yX1_keyAt : MethodName := ⟨RX1, "keyAt", "(II)I"⟩
def dkwX1_keyAt_0 : List UInt8 := [42, 27, 28, 182, 0, 199, 180, 0, 203, 172]
abbrev dktX1_keyAt_0 : List UInt8 := dkwX1_keyAt_0 ++ []
theorem dksX1_keyAt_0 : cX1_keyAt.data.toList.drop 0 = dktX1_keyAt_0 := by decide +kernel
theorem dX1_keyAt_0 : decode cX1_keyAt 0 = .ok (.aload_n 0, 1) := dk_42 (dk_at dksX1_keyAt_0 0 rfl rfl)
theorem dX1_keyAt_1 : decode cX1_keyAt 1 = .ok (.iload_n 1, 1) := dk_27 (dk_at dksX1_keyAt_0 1 rfl rfl)
theorem dX1_keyAt_2 : decode cX1_keyAt 2 = .ok (.iload_n 2, 1) := dk_28 (dk_at dksX1_keyAt_0 2 rfl rfl)
theorem dX1_keyAt_3 : decode cX1_keyAt 3 = .ok (.invokevirtual 199, 3) := dk_182 0 199 (dk_at dksX1_keyAt_0 3 rfl rfl)
theorem dX1_keyAt_6 : decode cX1_keyAt 6 = .ok (.getfield 203, 3) := dk_180 0 203 (dk_at dksX1_keyAt_0 6 rfl rfl)
theorem dX1_keyAt_9 : decode cX1_keyAt 9 = .ok (.ireturn, 1) := dk_172 (dk_at dksX1_keyAt_0 9 rfl rfl)
abbrev cX1_nodeAt : ByteArray := prog_1_method_23_code
def yX1_nodeAt : MethodName := ⟨RX1, "nodeAt", "(II)LCountedSkipLists$Node;"⟩
def dkwX1_nodeAt_1 : List UInt8 := [188, 10, 182, 0, 195, 176]
abbrev dktX1_nodeAt_1 : List UInt8 := dkwX1_nodeAt_1 ++ []
def dkwX1_nodeAt_0 : List UInt8 := [42, 27, 182, 0, 183, 78, 28, 3, 45, 180, 0, 191, 4, 100, 184, 0, 18, 184, 0, 117, 45, 28, 4]
abbrev dktX1_nodeAt_0 : List UInt8 := dkwX1_nodeAt_0 ++ dktX1_nodeAt_1
theorem dksX1_nodeAt_0 : cX1_nodeAt.data.toList.drop 0 = dktX1_nodeAt_0 := by decide +kernel
theorem dksX1_nodeAt_1 : cX1_nodeAt.data.toList.drop 23 = dktX1_nodeAt_1 := dk_seg dksX1_nodeAt_0 23 rfl rfl
theorem dX1_nodeAt_0 : decode cX1_nodeAt 0 = .ok (.aload_n 0, 1) := dk_42 (dk_at dksX1_nodeAt_0 0 rfl rfl)
theorem dX1_nodeAt_1 : decode cX1_nodeAt 1 = .ok (.iload_n 1, 1) := dk_27 (dk_at dksX1_nodeAt_0 1 rfl rfl)
theorem dX1_nodeAt_2 : decode cX1_nodeAt 2 = .ok (.invokevirtual 183, 3) := dk_182 0 183 (dk_at dksX1_nodeAt_0 2 rfl rfl)
theorem dX1_nodeAt_5 : decode cX1_nodeAt 5 = .ok (.astore_n 3, 1) := dk_78 (dk_at dksX1_nodeAt_0 5 rfl rfl)
theorem dX1_nodeAt_6 : decode cX1_nodeAt 6 = .ok (.iload_n 2, 1) := dk_28 (dk_at dksX1_nodeAt_0 6 rfl rfl)
theorem dX1_nodeAt_7 : decode cX1_nodeAt 7 = .ok (.iconst 0, 1) := dk_3 (dk_at dksX1_nodeAt_0 7 rfl rfl)
theorem dX1_nodeAt_8 : decode cX1_nodeAt 8 = .ok (.aload_n 3, 1) := dk_45 (dk_at dksX1_nodeAt_0 8 rfl rfl)
theorem dX1_nodeAt_9 : decode cX1_nodeAt 9 = .ok (.getfield 191, 3) := dk_180 0 191 (dk_at dksX1_nodeAt_0 9 rfl rfl)
theorem dX1_nodeAt_12 : decode cX1_nodeAt 12 = .ok (.iconst 1, 1) := dk_4 (dk_at dksX1_nodeAt_0 12 rfl rfl)
theorem dX1_nodeAt_13 : decode cX1_nodeAt 13 = .ok (.isub, 1) := dk_100 (dk_at dksX1_nodeAt_0 13 rfl rfl)
theorem dX1_nodeAt_14 : decode cX1_nodeAt 14 = .ok (.invokestatic 18, 3) := dk_184 0 18 (dk_at dksX1_nodeAt_0 14 rfl rfl)
theorem dX1_nodeAt_17 : decode cX1_nodeAt 17 = .ok (.invokestatic 117, 3) := dk_184 0 117 (dk_at dksX1_nodeAt_0 17 rfl rfl)
theorem dX1_nodeAt_20 : decode cX1_nodeAt 20 = .ok (.aload_n 3, 1) := dk_45 (dk_at dksX1_nodeAt_0 20 rfl rfl)
theorem dX1_nodeAt_21 : decode cX1_nodeAt 21 = .ok (.iload_n 2, 1) := dk_28 (dk_at dksX1_nodeAt_0 21 rfl rfl)
theorem dX1_nodeAt_22 : decode cX1_nodeAt 22 = .ok (.iconst 1, 1) := dk_4 (dk_at dksX1_nodeAt_0 22 rfl rfl)
theorem dX1_nodeAt_23 : decode cX1_nodeAt 23 = .ok (.newarray .int, 2) := dk_188_10 (dk_at dksX1_nodeAt_1 0 rfl rfl)
theorem dX1_nodeAt_25 : decode cX1_nodeAt 25 = .ok (.invokevirtual 195, 3) := dk_182 0 195 (dk_at dksX1_nodeAt_1 2 rfl rfl)
theorem dX1_nodeAt_28 : decode cX1_nodeAt 28 = .ok (.areturn, 1) := dk_176 (dk_at dksX1_nodeAt_1 5 rfl rfl)
abbrev cX1_valueAt : ByteArray := prog_1_method_25_code
def yX1_valueAt : MethodName := ⟨RX1, "valueAt", "(II)I"⟩
def dkwX1_valueAt_0 : List UInt8 := [42, 27, 28, 182, 0, 199, 180, 0, 208, 172]
abbrev dktX1_valueAt_0 : List UInt8 := dkwX1_valueAt_0 ++ []
theorem dksX1_valueAt_0 : cX1_valueAt.data.toList.drop 0 = dktX1_valueAt_0 := by decide +kernel
theorem dX1_valueAt_0 : decode cX1_valueAt 0 = .ok (.aload_n 0, 1) := dk_42 (dk_at dksX1_valueAt_0 0 rfl rfl)
theorem dX1_valueAt_1 : decode cX1_valueAt 1 = .ok (.iload_n 1, 1) := dk_27 (dk_at dksX1_valueAt_0 1 rfl rfl)
theorem dX1_valueAt_2 : decode cX1_valueAt 2 = .ok (.iload_n 2, 1) := dk_28 (dk_at dksX1_valueAt_0 2 rfl rfl)
theorem dX1_valueAt_3 : decode cX1_valueAt 3 = .ok (.invokevirtual 199, 3) := dk_182 0 199 (dk_at dksX1_valueAt_0 3 rfl rfl)
theorem dX1_valueAt_6 : decode cX1_valueAt 6 = .ok (.getfield 208, 3) := dk_180 0 208 (dk_at dksX1_valueAt_0 6 rfl rfl)
theorem dX1_valueAt_9 : decode cX1_valueAt 9 = .ok (.ireturn, 1) := dk_172 (dk_at dksX1_valueAt_0 9 rfl rfl)
abbrev cX1_heightAt : ByteArray := prog_1_method_26_code
def yX1_heightAt : MethodName := ⟨RX1, "heightAt", "(II)I"⟩
def dkwX1_heightAt_0 : List UInt8 := [42, 27, 28, 182, 0, 199, 180, 0, 211, 172]
abbrev dktX1_heightAt_0 : List UInt8 := dkwX1_heightAt_0 ++ []
theorem dksX1_heightAt_0 : cX1_heightAt.data.toList.drop 0 = dktX1_heightAt_0 := by decide +kernel
theorem dX1_heightAt_0 : decode cX1_heightAt 0 = .ok (.aload_n 0, 1) := dk_42 (dk_at dksX1_heightAt_0 0 rfl rfl)
theorem dX1_heightAt_1 : decode cX1_heightAt 1 = .ok (.iload_n 1, 1) := dk_27 (dk_at dksX1_heightAt_0 1 rfl rfl)
theorem dX1_heightAt_2 : decode cX1_heightAt 2 = .ok (.iload_n 2, 1) := dk_28 (dk_at dksX1_heightAt_0 2 rfl rfl)
theorem dX1_heightAt_3 : decode cX1_heightAt 3 = .ok (.invokevirtual 199, 3) := dk_182 0 199 (dk_at dksX1_heightAt_0 3 rfl rfl)
theorem dX1_heightAt_6 : decode cX1_heightAt 6 = .ok (.getfield 211, 3) := dk_180 0 211 (dk_at dksX1_heightAt_0 6 rfl rfl)
theorem dX1_heightAt_9 : decode cX1_heightAt 9 = .ok (.ireturn, 1) := dk_172 (dk_at dksX1_heightAt_0 9 rfl rfl)
abbrev cX1_value : ByteArray := prog_1_method_28_code
def yX1_value : MethodName := ⟨RX1, "value", "(II)I"⟩
def dkwX1_value_0 : List UInt8 := [42, 27, 28, 182, 0, 229, 28, 184, 0, 232, 180, 0, 208, 172]
abbrev dktX1_value_0 : List UInt8 := dkwX1_value_0 ++ []
theorem dksX1_value_0 : cX1_value.data.toList.drop 0 = dktX1_value_0 := by decide +kernel
theorem dX1_value_0 : decode cX1_value 0 = .ok (.aload_n 0, 1) := dk_42 (dk_at dksX1_value_0 0 rfl rfl)
theorem dX1_value_1 : decode cX1_value 1 = .ok (.iload_n 1, 1) := dk_27 (dk_at dksX1_value_0 1 rfl rfl)
theorem dX1_value_2 : decode cX1_value 2 = .ok (.iload_n 2, 1) := dk_28 (dk_at dksX1_value_0 2 rfl rfl)
theorem dX1_value_3 : decode cX1_value 3 = .ok (.invokevirtual 229, 3) := dk_182 0 229 (dk_at dksX1_value_0 3 rfl rfl)
theorem dX1_value_6 : decode cX1_value 6 = .ok (.iload_n 2, 1) := dk_28 (dk_at dksX1_value_0 6 rfl rfl)
theorem dX1_value_7 : decode cX1_value 7 = .ok (.invokestatic 232, 3) := dk_184 0 232 (dk_at dksX1_value_0 7 rfl rfl)
theorem dX1_value_10 : decode cX1_value 10 = .ok (.getfield 208, 3) := dk_180 0 208 (dk_at dksX1_value_0 10 rfl rfl)
theorem dX1_value_13 : decode cX1_value 13 = .ok (.ireturn, 1) := dk_172 (dk_at dksX1_value_0 13 rfl rfl)
abbrev cX1_at_2 : ByteArray := prog_1_method_20_code
def yX1_at_2 : MethodName := ⟨RX1, "at", "(II)LCountedSkipLists$SkipList;"⟩
def dkwX1_at_2_0 : List UInt8 := [42, 27, 182, 0, 183, 78, 4, 188, 10, 89, 3, 28, 79, 184, 0, 187, 45, 176]
abbrev dktX1_at_2_0 : List UInt8 := dkwX1_at_2_0 ++ []
theorem dksX1_at_2_0 : cX1_at_2.data.toList.drop 0 = dktX1_at_2_0 := by decide +kernel
theorem dX1_at_2_0 : decode cX1_at_2 0 = .ok (.aload_n 0, 1) := dk_42 (dk_at dksX1_at_2_0 0 rfl rfl)
theorem dX1_at_2_1 : decode cX1_at_2 1 = .ok (.iload_n 1, 1) := dk_27 (dk_at dksX1_at_2_0 1 rfl rfl)
theorem dX1_at_2_2 : decode cX1_at_2 2 = .ok (.invokevirtual 183, 3) := dk_182 0 183 (dk_at dksX1_at_2_0 2 rfl rfl)
theorem dX1_at_2_5 : decode cX1_at_2 5 = .ok (.astore_n 3, 1) := dk_78 (dk_at dksX1_at_2_0 5 rfl rfl)
theorem dX1_at_2_6 : decode cX1_at_2 6 = .ok (.iconst 1, 1) := dk_4 (dk_at dksX1_at_2_0 6 rfl rfl)
theorem dX1_at_2_7 : decode cX1_at_2 7 = .ok (.newarray .int, 2) := dk_188_10 (dk_at dksX1_at_2_0 7 rfl rfl)
theorem dX1_at_2_9 : decode cX1_at_2 9 = .ok (.dup, 1) := dk_89 (dk_at dksX1_at_2_0 9 rfl rfl)
theorem dX1_at_2_10 : decode cX1_at_2 10 = .ok (.iconst 0, 1) := dk_3 (dk_at dksX1_at_2_0 10 rfl rfl)
theorem dX1_at_2_11 : decode cX1_at_2 11 = .ok (.iload_n 2, 1) := dk_28 (dk_at dksX1_at_2_0 11 rfl rfl)
theorem dX1_at_2_12 : decode cX1_at_2 12 = .ok (.iastore, 1) := dk_79 (dk_at dksX1_at_2_0 12 rfl rfl)
theorem dX1_at_2_13 : decode cX1_at_2 13 = .ok (.invokestatic 187, 3) := dk_184 0 187 (dk_at dksX1_at_2_0 13 rfl rfl)
theorem dX1_at_2_16 : decode cX1_at_2 16 = .ok (.aload_n 3, 1) := dk_45 (dk_at dksX1_at_2_0 16 rfl rfl)
theorem dX1_at_2_17 : decode cX1_at_2 17 = .ok (.areturn, 1) := dk_176 (dk_at dksX1_at_2_0 17 rfl rfl)
abbrev cX1_checkNumbers : ByteArray := prog_1_method_6_code
def yX1_checkNumbers : MethodName := ⟨RX1, "checkNumbers", "([I)V"⟩
def dkwX1_checkNumbers_1 : List UInt8 := [17, 39, 15, 184, 0, 18, 184, 0, 22, 132, 3, 1, 167, 255, 229, 177]
abbrev dktX1_checkNumbers_1 : List UInt8 := dkwX1_checkNumbers_1 ++ []
def dkwX1_checkNumbers_0 : List UInt8 := [42, 76, 43, 190, 61, 3, 62, 29, 28, 162, 0, 28, 43, 29, 46, 54, 4, 21, 4, 17, 216, 241]
abbrev dktX1_checkNumbers_0 : List UInt8 := dkwX1_checkNumbers_0 ++ dktX1_checkNumbers_1
theorem dksX1_checkNumbers_0 : cX1_checkNumbers.data.toList.drop 0 = dktX1_checkNumbers_0 := by decide +kernel
theorem dksX1_checkNumbers_1 : cX1_checkNumbers.data.toList.drop 22 = dktX1_checkNumbers_1 := dk_seg dksX1_checkNumbers_0 22 rfl rfl
theorem dX1_checkNumbers_0 : decode cX1_checkNumbers 0 = .ok (.aload_n 0, 1) := dk_42 (dk_at dksX1_checkNumbers_0 0 rfl rfl)
theorem dX1_checkNumbers_1 : decode cX1_checkNumbers 1 = .ok (.astore_n 1, 1) := dk_76 (dk_at dksX1_checkNumbers_0 1 rfl rfl)
theorem dX1_checkNumbers_2 : decode cX1_checkNumbers 2 = .ok (.aload_n 1, 1) := dk_43 (dk_at dksX1_checkNumbers_0 2 rfl rfl)
theorem dX1_checkNumbers_3 : decode cX1_checkNumbers 3 = .ok (.arraylength, 1) := dk_190 (dk_at dksX1_checkNumbers_0 3 rfl rfl)
theorem dX1_checkNumbers_4 : decode cX1_checkNumbers 4 = .ok (.istore_n 2, 1) := dk_61 (dk_at dksX1_checkNumbers_0 4 rfl rfl)
theorem dX1_checkNumbers_5 : decode cX1_checkNumbers 5 = .ok (.iconst 0, 1) := dk_3 (dk_at dksX1_checkNumbers_0 5 rfl rfl)
theorem dX1_checkNumbers_6 : decode cX1_checkNumbers 6 = .ok (.istore_n 3, 1) := dk_62 (dk_at dksX1_checkNumbers_0 6 rfl rfl)
theorem dX1_checkNumbers_7 : decode cX1_checkNumbers 7 = .ok (.iload_n 3, 1) := dk_29 (dk_at dksX1_checkNumbers_0 7 rfl rfl)
theorem dX1_checkNumbers_8 : decode cX1_checkNumbers 8 = .ok (.iload_n 2, 1) := dk_28 (dk_at dksX1_checkNumbers_0 8 rfl rfl)
theorem dX1_checkNumbers_9 : decode cX1_checkNumbers 9 = .ok (.if_icmp .ge 28, 3) := dk_162 0 28 (dk_at dksX1_checkNumbers_0 9 rfl rfl)
theorem dX1_checkNumbers_12 : decode cX1_checkNumbers 12 = .ok (.aload_n 1, 1) := dk_43 (dk_at dksX1_checkNumbers_0 12 rfl rfl)
theorem dX1_checkNumbers_13 : decode cX1_checkNumbers 13 = .ok (.iload_n 3, 1) := dk_29 (dk_at dksX1_checkNumbers_0 13 rfl rfl)
theorem dX1_checkNumbers_14 : decode cX1_checkNumbers 14 = .ok (.iaload, 1) := dk_46 (dk_at dksX1_checkNumbers_0 14 rfl rfl)
theorem dX1_checkNumbers_15 : decode cX1_checkNumbers 15 = .ok (.istore 4, 2) := dk_54 4 (dk_at dksX1_checkNumbers_0 15 rfl rfl)
theorem dX1_checkNumbers_17 : decode cX1_checkNumbers 17 = .ok (.iload 4, 2) := dk_21 4 (dk_at dksX1_checkNumbers_0 17 rfl rfl)
theorem dX1_checkNumbers_19 : decode cX1_checkNumbers 19 = .ok (.sipush (-9999), 3) := dk_17 216 241 (dk_at dksX1_checkNumbers_0 19 rfl rfl)
theorem dX1_checkNumbers_22 : decode cX1_checkNumbers 22 = .ok (.sipush 9999, 3) := dk_17 39 15 (dk_at dksX1_checkNumbers_1 0 rfl rfl)
theorem dX1_checkNumbers_25 : decode cX1_checkNumbers 25 = .ok (.invokestatic 18, 3) := dk_184 0 18 (dk_at dksX1_checkNumbers_1 3 rfl rfl)
theorem dX1_checkNumbers_28 : decode cX1_checkNumbers 28 = .ok (.invokestatic 22, 3) := dk_184 0 22 (dk_at dksX1_checkNumbers_1 6 rfl rfl)
theorem dX1_checkNumbers_31 : decode cX1_checkNumbers 31 = .ok (.iinc 3 1, 3) := dk_132 3 1 (dk_at dksX1_checkNumbers_1 9 rfl rfl)
theorem dX1_checkNumbers_34 : decode cX1_checkNumbers 34 = .ok (.goto (-27), 3) := dk_167 255 229 (dk_at dksX1_checkNumbers_1 12 rfl rfl)
theorem dX1_checkNumbers_37 : decode cX1_checkNumbers 37 = .ok (.return_, 1) := dk_177 (dk_at dksX1_checkNumbers_1 15 rfl rfl)
abbrev cX1_checkArgument : ByteArray := prog_1_method_3_code
def yX1_checkArgument : MethodName := ⟨RX1, "checkArgument", "(Z)V"⟩
def dkwX1_checkArgument_0 : List UInt8 := [26, 154, 0, 11, 187, 0, 7, 89, 183, 0, 9, 191, 177]
abbrev dktX1_checkArgument_0 : List UInt8 := dkwX1_checkArgument_0 ++ []
theorem dksX1_checkArgument_0 : cX1_checkArgument.data.toList.drop 0 = dktX1_checkArgument_0 := by decide +kernel
theorem dX1_checkArgument_0 : decode cX1_checkArgument 0 = .ok (.iload_n 0, 1) := dk_26 (dk_at dksX1_checkArgument_0 0 rfl rfl)
theorem dX1_checkArgument_1 : decode cX1_checkArgument 1 = .ok (.ifCond .ne 11, 3) := dk_154 0 11 (dk_at dksX1_checkArgument_0 1 rfl rfl)
theorem dX1_checkArgument_4 : decode cX1_checkArgument 4 = .ok (.new 7, 3) := dk_187 0 7 (dk_at dksX1_checkArgument_0 4 rfl rfl)
theorem dX1_checkArgument_7 : decode cX1_checkArgument 7 = .ok (.dup, 1) := dk_89 (dk_at dksX1_checkArgument_0 7 rfl rfl)
theorem dX1_checkArgument_8 : decode cX1_checkArgument 8 = .ok (.invokespecial 9, 3) := dk_183 0 9 (dk_at dksX1_checkArgument_0 8 rfl rfl)
theorem dX1_checkArgument_11 : decode cX1_checkArgument 11 = .ok (.athrow, 1) := dk_191 (dk_at dksX1_checkArgument_0 11 rfl rfl)
theorem dX1_checkArgument_12 : decode cX1_checkArgument 12 = .ok (.return_, 1) := dk_177 (dk_at dksX1_checkArgument_0 12 rfl rfl)
abbrev cX1_nodeOf : ByteArray := prog_1_method_27_code
def yX1_nodeOf : MethodName := ⟨RX1, "nodeOf", "(LCountedSkipLists$SkipList;I)LCountedSkipLists$Node;"⟩
def dkwX1_nodeOf_0 : List UInt8 := [42, 27, 182, 0, 213, 77, 44, 182, 0, 217, 184, 0, 222, 44, 182, 0, 225, 192, 0, 204, 176]
abbrev dktX1_nodeOf_0 : List UInt8 := dkwX1_nodeOf_0 ++ []
theorem dksX1_nodeOf_0 : cX1_nodeOf.data.toList.drop 0 = dktX1_nodeOf_0 := by decide +kernel
theorem dX1_nodeOf_0 : decode cX1_nodeOf 0 = .ok (.aload_n 0, 1) := dk_42 (dk_at dksX1_nodeOf_0 0 rfl rfl)
theorem dX1_nodeOf_1 : decode cX1_nodeOf 1 = .ok (.iload_n 1, 1) := dk_27 (dk_at dksX1_nodeOf_0 1 rfl rfl)
theorem dX1_nodeOf_2 : decode cX1_nodeOf 2 = .ok (.invokevirtual 213, 3) := dk_182 0 213 (dk_at dksX1_nodeOf_0 2 rfl rfl)
theorem dX1_nodeOf_5 : decode cX1_nodeOf 5 = .ok (.astore_n 2, 1) := dk_77 (dk_at dksX1_nodeOf_0 5 rfl rfl)
theorem dX1_nodeOf_6 : decode cX1_nodeOf 6 = .ok (.aload_n 2, 1) := dk_44 (dk_at dksX1_nodeOf_0 6 rfl rfl)
theorem dX1_nodeOf_7 : decode cX1_nodeOf 7 = .ok (.invokevirtual 217, 3) := dk_182 0 217 (dk_at dksX1_nodeOf_0 7 rfl rfl)
theorem dX1_nodeOf_10 : decode cX1_nodeOf 10 = .ok (.invokestatic 222, 3) := dk_184 0 222 (dk_at dksX1_nodeOf_0 10 rfl rfl)
theorem dX1_nodeOf_13 : decode cX1_nodeOf 13 = .ok (.aload_n 2, 1) := dk_44 (dk_at dksX1_nodeOf_0 13 rfl rfl)
theorem dX1_nodeOf_14 : decode cX1_nodeOf 14 = .ok (.invokevirtual 225, 3) := dk_182 0 225 (dk_at dksX1_nodeOf_0 14 rfl rfl)
theorem dX1_nodeOf_17 : decode cX1_nodeOf 17 = .ok (.checkcast 204, 3) := dk_192 0 204 (dk_at dksX1_nodeOf_0 17 rfl rfl)
theorem dX1_nodeOf_20 : decode cX1_nodeOf 20 = .ok (.areturn, 1) := dk_176 (dk_at dksX1_nodeOf_0 20 rfl rfl)
abbrev cX1_checkElement : ByteArray := prog_1_method_5_code
def yX1_checkElement : MethodName := ⟨RX1, "checkElement", "(Z)V"⟩
def dkwX1_checkElement_0 : List UInt8 := [26, 154, 0, 11, 187, 0, 13, 89, 183, 0, 15, 191, 177]
abbrev dktX1_checkElement_0 : List UInt8 := dkwX1_checkElement_0 ++ []
theorem dksX1_checkElement_0 : cX1_checkElement.data.toList.drop 0 = dktX1_checkElement_0 := by decide +kernel
theorem dX1_checkElement_0 : decode cX1_checkElement 0 = .ok (.iload_n 0, 1) := dk_26 (dk_at dksX1_checkElement_0 0 rfl rfl)
theorem dX1_checkElement_1 : decode cX1_checkElement 1 = .ok (.ifCond .ne 11, 3) := dk_154 0 11 (dk_at dksX1_checkElement_0 1 rfl rfl)
theorem dX1_checkElement_4 : decode cX1_checkElement 4 = .ok (.new 13, 3) := dk_187 0 13 (dk_at dksX1_checkElement_0 4 rfl rfl)
theorem dX1_checkElement_7 : decode cX1_checkElement 7 = .ok (.dup, 1) := dk_89 (dk_at dksX1_checkElement_0 7 rfl rfl)
theorem dX1_checkElement_8 : decode cX1_checkElement 8 = .ok (.invokespecial 15, 3) := dk_183 0 15 (dk_at dksX1_checkElement_0 8 rfl rfl)
theorem dX1_checkElement_11 : decode cX1_checkElement 11 = .ok (.athrow, 1) := dk_191 (dk_at dksX1_checkElement_0 11 rfl rfl)
theorem dX1_checkElement_12 : decode cX1_checkElement 12 = .ok (.return_, 1) := dk_177 (dk_at dksX1_checkElement_0 12 rfl rfl)
abbrev cX1_rank : ByteArray := prog_1_method_29_code
def yX1_rank : MethodName := ⟨RX1, "rank", "(II)I"⟩
def dkwX1_rank_0 : List UInt8 := [42, 27, 28, 182, 0, 229, 28, 182, 0, 236, 172]
abbrev dktX1_rank_0 : List UInt8 := dkwX1_rank_0 ++ []
theorem dksX1_rank_0 : cX1_rank.data.toList.drop 0 = dktX1_rank_0 := by decide +kernel
theorem dX1_rank_0 : decode cX1_rank 0 = .ok (.aload_n 0, 1) := dk_42 (dk_at dksX1_rank_0 0 rfl rfl)
theorem dX1_rank_1 : decode cX1_rank 1 = .ok (.iload_n 1, 1) := dk_27 (dk_at dksX1_rank_0 1 rfl rfl)
theorem dX1_rank_2 : decode cX1_rank 2 = .ok (.iload_n 2, 1) := dk_28 (dk_at dksX1_rank_0 2 rfl rfl)
theorem dX1_rank_3 : decode cX1_rank 3 = .ok (.invokevirtual 229, 3) := dk_182 0 229 (dk_at dksX1_rank_0 3 rfl rfl)
theorem dX1_rank_6 : decode cX1_rank 6 = .ok (.iload_n 2, 1) := dk_28 (dk_at dksX1_rank_0 6 rfl rfl)
theorem dX1_rank_7 : decode cX1_rank 7 = .ok (.invokevirtual 236, 3) := dk_182 0 236 (dk_at dksX1_rank_0 7 rfl rfl)
theorem dX1_rank_10 : decode cX1_rank 10 = .ok (.ireturn, 1) := dk_172 (dk_at dksX1_rank_0 10 rfl rfl)
abbrev cX1_nearest : ByteArray := prog_1_method_30_code
def yX1_nearest : MethodName := ⟨RX1, "nearest", "(II)I"⟩
def dkwX1_nearest_3 : List UInt8 := [182, 0, 240, 54, 6, 28, 21, 6, 100, 21, 5, 28, 100, 163, 0, 8, 21, 6, 167, 0, 5, 21, 5, 172]
abbrev dktX1_nearest_3 : List UInt8 := dkwX1_nearest_3 ++ []
def dkwX1_nearest_2 : List UInt8 := [42, 27, 21, 4, 182, 0, 240, 54, 5, 21, 4, 154, 0, 6, 21, 5, 172, 42, 27, 21, 4, 4, 100]
abbrev dktX1_nearest_2 : List UInt8 := dkwX1_nearest_2 ++ dktX1_nearest_3
def dkwX1_nearest_1 : List UInt8 := [182, 0, 236, 54, 4, 21, 4, 45, 180, 0, 191, 160, 0, 13, 42, 27, 21, 4, 4, 100, 182, 0, 240, 172]
abbrev dktX1_nearest_1 : List UInt8 := dkwX1_nearest_1 ++ dktX1_nearest_2
def dkwX1_nearest_0 : List UInt8 := [42, 27, 28, 182, 0, 229, 78, 45, 180, 0, 191, 158, 0, 7, 4, 167, 0, 4, 3, 184, 0, 222, 45, 28]
abbrev dktX1_nearest_0 : List UInt8 := dkwX1_nearest_0 ++ dktX1_nearest_1
theorem dksX1_nearest_0 : cX1_nearest.data.toList.drop 0 = dktX1_nearest_0 := by decide +kernel
theorem dksX1_nearest_1 : cX1_nearest.data.toList.drop 24 = dktX1_nearest_1 := dk_seg dksX1_nearest_0 24 rfl rfl
theorem dksX1_nearest_2 : cX1_nearest.data.toList.drop 48 = dktX1_nearest_2 := dk_seg dksX1_nearest_1 24 rfl rfl
theorem dksX1_nearest_3 : cX1_nearest.data.toList.drop 71 = dktX1_nearest_3 := dk_seg dksX1_nearest_2 23 rfl rfl
theorem dX1_nearest_0 : decode cX1_nearest 0 = .ok (.aload_n 0, 1) := dk_42 (dk_at dksX1_nearest_0 0 rfl rfl)
theorem dX1_nearest_1 : decode cX1_nearest 1 = .ok (.iload_n 1, 1) := dk_27 (dk_at dksX1_nearest_0 1 rfl rfl)
theorem dX1_nearest_2 : decode cX1_nearest 2 = .ok (.iload_n 2, 1) := dk_28 (dk_at dksX1_nearest_0 2 rfl rfl)
theorem dX1_nearest_3 : decode cX1_nearest 3 = .ok (.invokevirtual 229, 3) := dk_182 0 229 (dk_at dksX1_nearest_0 3 rfl rfl)
theorem dX1_nearest_6 : decode cX1_nearest 6 = .ok (.astore_n 3, 1) := dk_78 (dk_at dksX1_nearest_0 6 rfl rfl)
theorem dX1_nearest_7 : decode cX1_nearest 7 = .ok (.aload_n 3, 1) := dk_45 (dk_at dksX1_nearest_0 7 rfl rfl)
theorem dX1_nearest_8 : decode cX1_nearest 8 = .ok (.getfield 191, 3) := dk_180 0 191 (dk_at dksX1_nearest_0 8 rfl rfl)
theorem dX1_nearest_11 : decode cX1_nearest 11 = .ok (.ifCond .le 7, 3) := dk_158 0 7 (dk_at dksX1_nearest_0 11 rfl rfl)
theorem dX1_nearest_14 : decode cX1_nearest 14 = .ok (.iconst 1, 1) := dk_4 (dk_at dksX1_nearest_0 14 rfl rfl)
theorem dX1_nearest_15 : decode cX1_nearest 15 = .ok (.goto 4, 3) := dk_167 0 4 (dk_at dksX1_nearest_0 15 rfl rfl)
theorem dX1_nearest_18 : decode cX1_nearest 18 = .ok (.iconst 0, 1) := dk_3 (dk_at dksX1_nearest_0 18 rfl rfl)
theorem dX1_nearest_19 : decode cX1_nearest 19 = .ok (.invokestatic 222, 3) := dk_184 0 222 (dk_at dksX1_nearest_0 19 rfl rfl)
theorem dX1_nearest_22 : decode cX1_nearest 22 = .ok (.aload_n 3, 1) := dk_45 (dk_at dksX1_nearest_0 22 rfl rfl)
theorem dX1_nearest_23 : decode cX1_nearest 23 = .ok (.iload_n 2, 1) := dk_28 (dk_at dksX1_nearest_0 23 rfl rfl)
theorem dX1_nearest_24 : decode cX1_nearest 24 = .ok (.invokevirtual 236, 3) := dk_182 0 236 (dk_at dksX1_nearest_1 0 rfl rfl)
theorem dX1_nearest_27 : decode cX1_nearest 27 = .ok (.istore 4, 2) := dk_54 4 (dk_at dksX1_nearest_1 3 rfl rfl)
theorem dX1_nearest_29 : decode cX1_nearest 29 = .ok (.iload 4, 2) := dk_21 4 (dk_at dksX1_nearest_1 5 rfl rfl)
theorem dX1_nearest_31 : decode cX1_nearest 31 = .ok (.aload_n 3, 1) := dk_45 (dk_at dksX1_nearest_1 7 rfl rfl)
theorem dX1_nearest_32 : decode cX1_nearest 32 = .ok (.getfield 191, 3) := dk_180 0 191 (dk_at dksX1_nearest_1 8 rfl rfl)
theorem dX1_nearest_35 : decode cX1_nearest 35 = .ok (.if_icmp .ne 13, 3) := dk_160 0 13 (dk_at dksX1_nearest_1 11 rfl rfl)
theorem dX1_nearest_38 : decode cX1_nearest 38 = .ok (.aload_n 0, 1) := dk_42 (dk_at dksX1_nearest_1 14 rfl rfl)
theorem dX1_nearest_39 : decode cX1_nearest 39 = .ok (.iload_n 1, 1) := dk_27 (dk_at dksX1_nearest_1 15 rfl rfl)
theorem dX1_nearest_40 : decode cX1_nearest 40 = .ok (.iload 4, 2) := dk_21 4 (dk_at dksX1_nearest_1 16 rfl rfl)
theorem dX1_nearest_42 : decode cX1_nearest 42 = .ok (.iconst 1, 1) := dk_4 (dk_at dksX1_nearest_1 18 rfl rfl)
theorem dX1_nearest_43 : decode cX1_nearest 43 = .ok (.isub, 1) := dk_100 (dk_at dksX1_nearest_1 19 rfl rfl)
theorem dX1_nearest_44 : decode cX1_nearest 44 = .ok (.invokevirtual 240, 3) := dk_182 0 240 (dk_at dksX1_nearest_1 20 rfl rfl)
theorem dX1_nearest_47 : decode cX1_nearest 47 = .ok (.ireturn, 1) := dk_172 (dk_at dksX1_nearest_1 23 rfl rfl)
theorem dX1_nearest_48 : decode cX1_nearest 48 = .ok (.aload_n 0, 1) := dk_42 (dk_at dksX1_nearest_2 0 rfl rfl)
theorem dX1_nearest_49 : decode cX1_nearest 49 = .ok (.iload_n 1, 1) := dk_27 (dk_at dksX1_nearest_2 1 rfl rfl)
theorem dX1_nearest_50 : decode cX1_nearest 50 = .ok (.iload 4, 2) := dk_21 4 (dk_at dksX1_nearest_2 2 rfl rfl)
theorem dX1_nearest_52 : decode cX1_nearest 52 = .ok (.invokevirtual 240, 3) := dk_182 0 240 (dk_at dksX1_nearest_2 4 rfl rfl)
theorem dX1_nearest_55 : decode cX1_nearest 55 = .ok (.istore 5, 2) := dk_54 5 (dk_at dksX1_nearest_2 7 rfl rfl)
theorem dX1_nearest_57 : decode cX1_nearest 57 = .ok (.iload 4, 2) := dk_21 4 (dk_at dksX1_nearest_2 9 rfl rfl)
theorem dX1_nearest_59 : decode cX1_nearest 59 = .ok (.ifCond .ne 6, 3) := dk_154 0 6 (dk_at dksX1_nearest_2 11 rfl rfl)
theorem dX1_nearest_62 : decode cX1_nearest 62 = .ok (.iload 5, 2) := dk_21 5 (dk_at dksX1_nearest_2 14 rfl rfl)
theorem dX1_nearest_64 : decode cX1_nearest 64 = .ok (.ireturn, 1) := dk_172 (dk_at dksX1_nearest_2 16 rfl rfl)
theorem dX1_nearest_65 : decode cX1_nearest 65 = .ok (.aload_n 0, 1) := dk_42 (dk_at dksX1_nearest_2 17 rfl rfl)
theorem dX1_nearest_66 : decode cX1_nearest 66 = .ok (.iload_n 1, 1) := dk_27 (dk_at dksX1_nearest_2 18 rfl rfl)
theorem dX1_nearest_67 : decode cX1_nearest 67 = .ok (.iload 4, 2) := dk_21 4 (dk_at dksX1_nearest_2 19 rfl rfl)
theorem dX1_nearest_69 : decode cX1_nearest 69 = .ok (.iconst 1, 1) := dk_4 (dk_at dksX1_nearest_2 21 rfl rfl)
theorem dX1_nearest_70 : decode cX1_nearest 70 = .ok (.isub, 1) := dk_100 (dk_at dksX1_nearest_2 22 rfl rfl)
theorem dX1_nearest_71 : decode cX1_nearest 71 = .ok (.invokevirtual 240, 3) := dk_182 0 240 (dk_at dksX1_nearest_3 0 rfl rfl)
theorem dX1_nearest_74 : decode cX1_nearest 74 = .ok (.istore 6, 2) := dk_54 6 (dk_at dksX1_nearest_3 3 rfl rfl)
theorem dX1_nearest_76 : decode cX1_nearest 76 = .ok (.iload_n 2, 1) := dk_28 (dk_at dksX1_nearest_3 5 rfl rfl)
theorem dX1_nearest_77 : decode cX1_nearest 77 = .ok (.iload 6, 2) := dk_21 6 (dk_at dksX1_nearest_3 6 rfl rfl)
theorem dX1_nearest_79 : decode cX1_nearest 79 = .ok (.isub, 1) := dk_100 (dk_at dksX1_nearest_3 8 rfl rfl)
theorem dX1_nearest_80 : decode cX1_nearest 80 = .ok (.iload 5, 2) := dk_21 5 (dk_at dksX1_nearest_3 9 rfl rfl)
theorem dX1_nearest_82 : decode cX1_nearest 82 = .ok (.iload_n 2, 1) := dk_28 (dk_at dksX1_nearest_3 11 rfl rfl)
theorem dX1_nearest_83 : decode cX1_nearest 83 = .ok (.isub, 1) := dk_100 (dk_at dksX1_nearest_3 12 rfl rfl)
theorem dX1_nearest_84 : decode cX1_nearest 84 = .ok (.if_icmp .gt 8, 3) := dk_163 0 8 (dk_at dksX1_nearest_3 13 rfl rfl)
theorem dX1_nearest_87 : decode cX1_nearest 87 = .ok (.iload 6, 2) := dk_21 6 (dk_at dksX1_nearest_3 16 rfl rfl)
theorem dX1_nearest_89 : decode cX1_nearest 89 = .ok (.goto 5, 3) := dk_167 0 5 (dk_at dksX1_nearest_3 18 rfl rfl)
theorem dX1_nearest_92 : decode cX1_nearest 92 = .ok (.iload 5, 2) := dk_21 5 (dk_at dksX1_nearest_3 21 rfl rfl)
theorem dX1_nearest_94 : decode cX1_nearest 94 = .ok (.ireturn, 1) := dk_172 (dk_at dksX1_nearest_3 23 rfl rfl)
abbrev cX1_rangeSum : ByteArray := prog_1_method_31_code
def yX1_rangeSum : MethodName := ⟨RX1, "rangeSum", "(III)I"⟩
def dkwX1_rangeSum_1 : List UInt8 := [163, 0, 7, 3, 167, 0, 16, 25, 4, 29, 182, 0, 244, 25, 4, 28, 182, 0, 244, 100, 172]
abbrev dktX1_rangeSum_1 : List UInt8 := dkwX1_rangeSum_1 ++ []
def dkwX1_rangeSum_0 : List UInt8 := [42, 27, 182, 0, 183, 58, 4, 5, 188, 10, 89, 3, 28, 79, 89, 4, 29, 79, 184, 0, 187, 29, 28]
abbrev dktX1_rangeSum_0 : List UInt8 := dkwX1_rangeSum_0 ++ dktX1_rangeSum_1
theorem dksX1_rangeSum_0 : cX1_rangeSum.data.toList.drop 0 = dktX1_rangeSum_0 := by decide +kernel
theorem dksX1_rangeSum_1 : cX1_rangeSum.data.toList.drop 23 = dktX1_rangeSum_1 := dk_seg dksX1_rangeSum_0 23 rfl rfl
theorem dX1_rangeSum_0 : decode cX1_rangeSum 0 = .ok (.aload_n 0, 1) := dk_42 (dk_at dksX1_rangeSum_0 0 rfl rfl)
theorem dX1_rangeSum_1 : decode cX1_rangeSum 1 = .ok (.iload_n 1, 1) := dk_27 (dk_at dksX1_rangeSum_0 1 rfl rfl)
theorem dX1_rangeSum_2 : decode cX1_rangeSum 2 = .ok (.invokevirtual 183, 3) := dk_182 0 183 (dk_at dksX1_rangeSum_0 2 rfl rfl)
theorem dX1_rangeSum_5 : decode cX1_rangeSum 5 = .ok (.astore 4, 2) := dk_58 4 (dk_at dksX1_rangeSum_0 5 rfl rfl)
theorem dX1_rangeSum_7 : decode cX1_rangeSum 7 = .ok (.iconst 2, 1) := dk_5 (dk_at dksX1_rangeSum_0 7 rfl rfl)
theorem dX1_rangeSum_8 : decode cX1_rangeSum 8 = .ok (.newarray .int, 2) := dk_188_10 (dk_at dksX1_rangeSum_0 8 rfl rfl)
theorem dX1_rangeSum_10 : decode cX1_rangeSum 10 = .ok (.dup, 1) := dk_89 (dk_at dksX1_rangeSum_0 10 rfl rfl)
theorem dX1_rangeSum_11 : decode cX1_rangeSum 11 = .ok (.iconst 0, 1) := dk_3 (dk_at dksX1_rangeSum_0 11 rfl rfl)
theorem dX1_rangeSum_12 : decode cX1_rangeSum 12 = .ok (.iload_n 2, 1) := dk_28 (dk_at dksX1_rangeSum_0 12 rfl rfl)
theorem dX1_rangeSum_13 : decode cX1_rangeSum 13 = .ok (.iastore, 1) := dk_79 (dk_at dksX1_rangeSum_0 13 rfl rfl)
theorem dX1_rangeSum_14 : decode cX1_rangeSum 14 = .ok (.dup, 1) := dk_89 (dk_at dksX1_rangeSum_0 14 rfl rfl)
theorem dX1_rangeSum_15 : decode cX1_rangeSum 15 = .ok (.iconst 1, 1) := dk_4 (dk_at dksX1_rangeSum_0 15 rfl rfl)
theorem dX1_rangeSum_16 : decode cX1_rangeSum 16 = .ok (.iload_n 3, 1) := dk_29 (dk_at dksX1_rangeSum_0 16 rfl rfl)
theorem dX1_rangeSum_17 : decode cX1_rangeSum 17 = .ok (.iastore, 1) := dk_79 (dk_at dksX1_rangeSum_0 17 rfl rfl)
theorem dX1_rangeSum_18 : decode cX1_rangeSum 18 = .ok (.invokestatic 187, 3) := dk_184 0 187 (dk_at dksX1_rangeSum_0 18 rfl rfl)
theorem dX1_rangeSum_21 : decode cX1_rangeSum 21 = .ok (.iload_n 3, 1) := dk_29 (dk_at dksX1_rangeSum_0 21 rfl rfl)
theorem dX1_rangeSum_22 : decode cX1_rangeSum 22 = .ok (.iload_n 2, 1) := dk_28 (dk_at dksX1_rangeSum_0 22 rfl rfl)
theorem dX1_rangeSum_23 : decode cX1_rangeSum 23 = .ok (.if_icmp .gt 7, 3) := dk_163 0 7 (dk_at dksX1_rangeSum_1 0 rfl rfl)
theorem dX1_rangeSum_26 : decode cX1_rangeSum 26 = .ok (.iconst 0, 1) := dk_3 (dk_at dksX1_rangeSum_1 3 rfl rfl)
theorem dX1_rangeSum_27 : decode cX1_rangeSum 27 = .ok (.goto 16, 3) := dk_167 0 16 (dk_at dksX1_rangeSum_1 4 rfl rfl)
theorem dX1_rangeSum_30 : decode cX1_rangeSum 30 = .ok (.aload 4, 2) := dk_25 4 (dk_at dksX1_rangeSum_1 7 rfl rfl)
theorem dX1_rangeSum_32 : decode cX1_rangeSum 32 = .ok (.iload_n 3, 1) := dk_29 (dk_at dksX1_rangeSum_1 9 rfl rfl)
theorem dX1_rangeSum_33 : decode cX1_rangeSum 33 = .ok (.invokevirtual 244, 3) := dk_182 0 244 (dk_at dksX1_rangeSum_1 10 rfl rfl)
theorem dX1_rangeSum_36 : decode cX1_rangeSum 36 = .ok (.aload 4, 2) := dk_25 4 (dk_at dksX1_rangeSum_1 13 rfl rfl)
theorem dX1_rangeSum_38 : decode cX1_rangeSum 38 = .ok (.iload_n 2, 1) := dk_28 (dk_at dksX1_rangeSum_1 15 rfl rfl)
theorem dX1_rangeSum_39 : decode cX1_rangeSum 39 = .ok (.invokevirtual 244, 3) := dk_182 0 244 (dk_at dksX1_rangeSum_1 16 rfl rfl)
theorem dX1_rangeSum_42 : decode cX1_rangeSum 42 = .ok (.isub, 1) := dk_100 (dk_at dksX1_rangeSum_1 19 rfl rfl)
theorem dX1_rangeSum_43 : decode cX1_rangeSum 43 = .ok (.ireturn, 1) := dk_172 (dk_at dksX1_rangeSum_1 20 rfl rfl)
abbrev cX1_rowSize : ByteArray := prog_1_method_32_code
def yX1_rowSize : MethodName := ⟨RX1, "rowSize", "(II)I"⟩
def dkwX1_rowSize_2 : List UInt8 := [25, 5, 28, 182, 0, 251, 58, 5, 167, 255, 240, 21, 4, 172]
abbrev dktX1_rowSize_2 : List UInt8 := dkwX1_rowSize_2 ++ []
def dkwX1_rowSize_1 : List UInt8 := [16, 8, 163, 0, 32, 45, 180, 0, 247, 28, 182, 0, 251, 58, 5, 25, 5, 198, 0, 17, 132, 4, 1]
abbrev dktX1_rowSize_1 : List UInt8 := dkwX1_rowSize_1 ++ dktX1_rowSize_2
def dkwX1_rowSize_0 : List UInt8 := [42, 27, 182, 0, 183, 78, 28, 4, 161, 0, 7, 4, 167, 0, 4, 3, 184, 0, 22, 3, 54, 4, 28]
abbrev dktX1_rowSize_0 : List UInt8 := dkwX1_rowSize_0 ++ dktX1_rowSize_1
theorem dksX1_rowSize_0 : cX1_rowSize.data.toList.drop 0 = dktX1_rowSize_0 := by decide +kernel
theorem dksX1_rowSize_1 : cX1_rowSize.data.toList.drop 23 = dktX1_rowSize_1 := dk_seg dksX1_rowSize_0 23 rfl rfl
theorem dksX1_rowSize_2 : cX1_rowSize.data.toList.drop 46 = dktX1_rowSize_2 := dk_seg dksX1_rowSize_1 23 rfl rfl
theorem dX1_rowSize_0 : decode cX1_rowSize 0 = .ok (.aload_n 0, 1) := dk_42 (dk_at dksX1_rowSize_0 0 rfl rfl)
theorem dX1_rowSize_1 : decode cX1_rowSize 1 = .ok (.iload_n 1, 1) := dk_27 (dk_at dksX1_rowSize_0 1 rfl rfl)
theorem dX1_rowSize_2 : decode cX1_rowSize 2 = .ok (.invokevirtual 183, 3) := dk_182 0 183 (dk_at dksX1_rowSize_0 2 rfl rfl)
theorem dX1_rowSize_5 : decode cX1_rowSize 5 = .ok (.astore_n 3, 1) := dk_78 (dk_at dksX1_rowSize_0 5 rfl rfl)
theorem dX1_rowSize_6 : decode cX1_rowSize 6 = .ok (.iload_n 2, 1) := dk_28 (dk_at dksX1_rowSize_0 6 rfl rfl)
theorem dX1_rowSize_7 : decode cX1_rowSize 7 = .ok (.iconst 1, 1) := dk_4 (dk_at dksX1_rowSize_0 7 rfl rfl)
theorem dX1_rowSize_8 : decode cX1_rowSize 8 = .ok (.if_icmp .lt 7, 3) := dk_161 0 7 (dk_at dksX1_rowSize_0 8 rfl rfl)
theorem dX1_rowSize_11 : decode cX1_rowSize 11 = .ok (.iconst 1, 1) := dk_4 (dk_at dksX1_rowSize_0 11 rfl rfl)
theorem dX1_rowSize_12 : decode cX1_rowSize 12 = .ok (.goto 4, 3) := dk_167 0 4 (dk_at dksX1_rowSize_0 12 rfl rfl)
theorem dX1_rowSize_15 : decode cX1_rowSize 15 = .ok (.iconst 0, 1) := dk_3 (dk_at dksX1_rowSize_0 15 rfl rfl)
theorem dX1_rowSize_16 : decode cX1_rowSize 16 = .ok (.invokestatic 22, 3) := dk_184 0 22 (dk_at dksX1_rowSize_0 16 rfl rfl)
theorem dX1_rowSize_19 : decode cX1_rowSize 19 = .ok (.iconst 0, 1) := dk_3 (dk_at dksX1_rowSize_0 19 rfl rfl)
theorem dX1_rowSize_20 : decode cX1_rowSize 20 = .ok (.istore 4, 2) := dk_54 4 (dk_at dksX1_rowSize_0 20 rfl rfl)
theorem dX1_rowSize_22 : decode cX1_rowSize 22 = .ok (.iload_n 2, 1) := dk_28 (dk_at dksX1_rowSize_0 22 rfl rfl)
theorem dX1_rowSize_23 : decode cX1_rowSize 23 = .ok (.bipush 8, 2) := dk_16 8 (dk_at dksX1_rowSize_1 0 rfl rfl)
theorem dX1_rowSize_25 : decode cX1_rowSize 25 = .ok (.if_icmp .gt 32, 3) := dk_163 0 32 (dk_at dksX1_rowSize_1 2 rfl rfl)
theorem dX1_rowSize_28 : decode cX1_rowSize 28 = .ok (.aload_n 3, 1) := dk_45 (dk_at dksX1_rowSize_1 5 rfl rfl)
theorem dX1_rowSize_29 : decode cX1_rowSize 29 = .ok (.getfield 247, 3) := dk_180 0 247 (dk_at dksX1_rowSize_1 6 rfl rfl)
theorem dX1_rowSize_32 : decode cX1_rowSize 32 = .ok (.iload_n 2, 1) := dk_28 (dk_at dksX1_rowSize_1 9 rfl rfl)
theorem dX1_rowSize_33 : decode cX1_rowSize 33 = .ok (.invokevirtual 251, 3) := dk_182 0 251 (dk_at dksX1_rowSize_1 10 rfl rfl)
theorem dX1_rowSize_36 : decode cX1_rowSize 36 = .ok (.astore 5, 2) := dk_58 5 (dk_at dksX1_rowSize_1 13 rfl rfl)
theorem dX1_rowSize_38 : decode cX1_rowSize 38 = .ok (.aload 5, 2) := dk_25 5 (dk_at dksX1_rowSize_1 15 rfl rfl)
theorem dX1_rowSize_40 : decode cX1_rowSize 40 = .ok (.ifnull 17, 3) := dk_198 0 17 (dk_at dksX1_rowSize_1 17 rfl rfl)
theorem dX1_rowSize_43 : decode cX1_rowSize 43 = .ok (.iinc 4 1, 3) := dk_132 4 1 (dk_at dksX1_rowSize_1 20 rfl rfl)
theorem dX1_rowSize_46 : decode cX1_rowSize 46 = .ok (.aload 5, 2) := dk_25 5 (dk_at dksX1_rowSize_2 0 rfl rfl)
theorem dX1_rowSize_48 : decode cX1_rowSize 48 = .ok (.iload_n 2, 1) := dk_28 (dk_at dksX1_rowSize_2 2 rfl rfl)
theorem dX1_rowSize_49 : decode cX1_rowSize 49 = .ok (.invokevirtual 251, 3) := dk_182 0 251 (dk_at dksX1_rowSize_2 3 rfl rfl)
theorem dX1_rowSize_52 : decode cX1_rowSize 52 = .ok (.astore 5, 2) := dk_58 5 (dk_at dksX1_rowSize_2 6 rfl rfl)
theorem dX1_rowSize_54 : decode cX1_rowSize 54 = .ok (.goto (-16), 3) := dk_167 255 240 (dk_at dksX1_rowSize_2 8 rfl rfl)
theorem dX1_rowSize_57 : decode cX1_rowSize 57 = .ok (.iload 4, 2) := dk_21 4 (dk_at dksX1_rowSize_2 11 rfl rfl)
theorem dX1_rowSize_59 : decode cX1_rowSize 59 = .ok (.ireturn, 1) := dk_172 (dk_at dksX1_rowSize_2 13 rfl rfl)
abbrev cX1_linkWidth : ByteArray := prog_1_method_34_code
def yX1_linkWidth : MethodName := ⟨RX1, "linkWidth", "(III)I"⟩
def dkwX1_linkWidth_0 : List UInt8 := [42, 27, 28, 29, 3, 182, 0, 255, 180, 1, 3, 28, 46, 172]
abbrev dktX1_linkWidth_0 : List UInt8 := dkwX1_linkWidth_0 ++ []
theorem dksX1_linkWidth_0 : cX1_linkWidth.data.toList.drop 0 = dktX1_linkWidth_0 := by decide +kernel
theorem dX1_linkWidth_0 : decode cX1_linkWidth 0 = .ok (.aload_n 0, 1) := dk_42 (dk_at dksX1_linkWidth_0 0 rfl rfl)
theorem dX1_linkWidth_1 : decode cX1_linkWidth 1 = .ok (.iload_n 1, 1) := dk_27 (dk_at dksX1_linkWidth_0 1 rfl rfl)
theorem dX1_linkWidth_2 : decode cX1_linkWidth 2 = .ok (.iload_n 2, 1) := dk_28 (dk_at dksX1_linkWidth_0 2 rfl rfl)
theorem dX1_linkWidth_3 : decode cX1_linkWidth 3 = .ok (.iload_n 3, 1) := dk_29 (dk_at dksX1_linkWidth_0 3 rfl rfl)
theorem dX1_linkWidth_4 : decode cX1_linkWidth 4 = .ok (.iconst 0, 1) := dk_3 (dk_at dksX1_linkWidth_0 4 rfl rfl)
theorem dX1_linkWidth_5 : decode cX1_linkWidth 5 = .ok (.invokevirtual 255, 3) := dk_182 0 255 (dk_at dksX1_linkWidth_0 5 rfl rfl)
theorem dX1_linkWidth_8 : decode cX1_linkWidth 8 = .ok (.getfield 259, 3) := dk_180 1 3 (dk_at dksX1_linkWidth_0 8 rfl rfl)
theorem dX1_linkWidth_11 : decode cX1_linkWidth 11 = .ok (.iload_n 2, 1) := dk_28 (dk_at dksX1_linkWidth_0 11 rfl rfl)
theorem dX1_linkWidth_12 : decode cX1_linkWidth 12 = .ok (.iaload, 1) := dk_46 (dk_at dksX1_linkWidth_0 12 rfl rfl)
theorem dX1_linkWidth_13 : decode cX1_linkWidth 13 = .ok (.ireturn, 1) := dk_172 (dk_at dksX1_linkWidth_0 13 rfl rfl)
abbrev cX1_linkAt : ByteArray := prog_1_method_33_code
def yX1_linkAt : MethodName := ⟨RX1, "linkAt", "(IIII)LCountedSkipLists$Node;"⟩
def dkwX1_linkAt_3 : List UInt8 := [198, 0, 7, 4, 167, 0, 4, 3, 184, 0, 117, 25, 6, 176]
abbrev dktX1_linkAt_3 : List UInt8 := dkwX1_linkAt_3 ++ []
def dkwX1_linkAt_2 : List UInt8 := [25, 6, 198, 0, 20, 25, 6, 28, 21, 4, 96, 182, 0, 251, 58, 6, 132, 7, 1, 167, 255, 231, 25, 6]
abbrev dktX1_linkAt_2 : List UInt8 := dkwX1_linkAt_2 ++ dktX1_linkAt_3
def dkwX1_linkAt_1 : List UInt8 := [4, 167, 0, 4, 3, 184, 0, 117, 25, 5, 180, 0, 247, 58, 6, 3, 54, 7, 21, 7, 29, 162, 0, 25]
abbrev dktX1_linkAt_1 : List UInt8 := dkwX1_linkAt_1 ++ dktX1_linkAt_2
def dkwX1_linkAt_0 : List UInt8 := [42, 27, 182, 0, 183, 58, 5, 28, 4, 25, 5, 182, 0, 192, 184, 0, 18, 153, 0, 11, 29, 155, 0, 7]
abbrev dktX1_linkAt_0 : List UInt8 := dkwX1_linkAt_0 ++ dktX1_linkAt_1
theorem dksX1_linkAt_0 : cX1_linkAt.data.toList.drop 0 = dktX1_linkAt_0 := by decide +kernel
theorem dksX1_linkAt_1 : cX1_linkAt.data.toList.drop 24 = dktX1_linkAt_1 := dk_seg dksX1_linkAt_0 24 rfl rfl
theorem dksX1_linkAt_2 : cX1_linkAt.data.toList.drop 48 = dktX1_linkAt_2 := dk_seg dksX1_linkAt_1 24 rfl rfl
theorem dksX1_linkAt_3 : cX1_linkAt.data.toList.drop 72 = dktX1_linkAt_3 := dk_seg dksX1_linkAt_2 24 rfl rfl
theorem dX1_linkAt_0 : decode cX1_linkAt 0 = .ok (.aload_n 0, 1) := dk_42 (dk_at dksX1_linkAt_0 0 rfl rfl)
theorem dX1_linkAt_1 : decode cX1_linkAt 1 = .ok (.iload_n 1, 1) := dk_27 (dk_at dksX1_linkAt_0 1 rfl rfl)
theorem dX1_linkAt_2 : decode cX1_linkAt 2 = .ok (.invokevirtual 183, 3) := dk_182 0 183 (dk_at dksX1_linkAt_0 2 rfl rfl)
theorem dX1_linkAt_5 : decode cX1_linkAt 5 = .ok (.astore 5, 2) := dk_58 5 (dk_at dksX1_linkAt_0 5 rfl rfl)
theorem dX1_linkAt_7 : decode cX1_linkAt 7 = .ok (.iload_n 2, 1) := dk_28 (dk_at dksX1_linkAt_0 7 rfl rfl)
theorem dX1_linkAt_8 : decode cX1_linkAt 8 = .ok (.iconst 1, 1) := dk_4 (dk_at dksX1_linkAt_0 8 rfl rfl)
theorem dX1_linkAt_9 : decode cX1_linkAt 9 = .ok (.aload 5, 2) := dk_25 5 (dk_at dksX1_linkAt_0 9 rfl rfl)
theorem dX1_linkAt_11 : decode cX1_linkAt 11 = .ok (.invokevirtual 192, 3) := dk_182 0 192 (dk_at dksX1_linkAt_0 11 rfl rfl)
theorem dX1_linkAt_14 : decode cX1_linkAt 14 = .ok (.invokestatic 18, 3) := dk_184 0 18 (dk_at dksX1_linkAt_0 14 rfl rfl)
theorem dX1_linkAt_17 : decode cX1_linkAt 17 = .ok (.ifCond .eq 11, 3) := dk_153 0 11 (dk_at dksX1_linkAt_0 17 rfl rfl)
theorem dX1_linkAt_20 : decode cX1_linkAt 20 = .ok (.iload_n 3, 1) := dk_29 (dk_at dksX1_linkAt_0 20 rfl rfl)
theorem dX1_linkAt_21 : decode cX1_linkAt 21 = .ok (.ifCond .lt 7, 3) := dk_155 0 7 (dk_at dksX1_linkAt_0 21 rfl rfl)
theorem dX1_linkAt_24 : decode cX1_linkAt 24 = .ok (.iconst 1, 1) := dk_4 (dk_at dksX1_linkAt_1 0 rfl rfl)
theorem dX1_linkAt_25 : decode cX1_linkAt 25 = .ok (.goto 4, 3) := dk_167 0 4 (dk_at dksX1_linkAt_1 1 rfl rfl)
theorem dX1_linkAt_28 : decode cX1_linkAt 28 = .ok (.iconst 0, 1) := dk_3 (dk_at dksX1_linkAt_1 4 rfl rfl)
theorem dX1_linkAt_29 : decode cX1_linkAt 29 = .ok (.invokestatic 117, 3) := dk_184 0 117 (dk_at dksX1_linkAt_1 5 rfl rfl)
theorem dX1_linkAt_32 : decode cX1_linkAt 32 = .ok (.aload 5, 2) := dk_25 5 (dk_at dksX1_linkAt_1 8 rfl rfl)
theorem dX1_linkAt_34 : decode cX1_linkAt 34 = .ok (.getfield 247, 3) := dk_180 0 247 (dk_at dksX1_linkAt_1 10 rfl rfl)
theorem dX1_linkAt_37 : decode cX1_linkAt 37 = .ok (.astore 6, 2) := dk_58 6 (dk_at dksX1_linkAt_1 13 rfl rfl)
theorem dX1_linkAt_39 : decode cX1_linkAt 39 = .ok (.iconst 0, 1) := dk_3 (dk_at dksX1_linkAt_1 15 rfl rfl)
theorem dX1_linkAt_40 : decode cX1_linkAt 40 = .ok (.istore 7, 2) := dk_54 7 (dk_at dksX1_linkAt_1 16 rfl rfl)
theorem dX1_linkAt_42 : decode cX1_linkAt 42 = .ok (.iload 7, 2) := dk_21 7 (dk_at dksX1_linkAt_1 18 rfl rfl)
theorem dX1_linkAt_44 : decode cX1_linkAt 44 = .ok (.iload_n 3, 1) := dk_29 (dk_at dksX1_linkAt_1 20 rfl rfl)
theorem dX1_linkAt_45 : decode cX1_linkAt 45 = .ok (.if_icmp .ge 25, 3) := dk_162 0 25 (dk_at dksX1_linkAt_1 21 rfl rfl)
theorem dX1_linkAt_48 : decode cX1_linkAt 48 = .ok (.aload 6, 2) := dk_25 6 (dk_at dksX1_linkAt_2 0 rfl rfl)
theorem dX1_linkAt_50 : decode cX1_linkAt 50 = .ok (.ifnull 20, 3) := dk_198 0 20 (dk_at dksX1_linkAt_2 2 rfl rfl)
theorem dX1_linkAt_53 : decode cX1_linkAt 53 = .ok (.aload 6, 2) := dk_25 6 (dk_at dksX1_linkAt_2 5 rfl rfl)
theorem dX1_linkAt_55 : decode cX1_linkAt 55 = .ok (.iload_n 2, 1) := dk_28 (dk_at dksX1_linkAt_2 7 rfl rfl)
theorem dX1_linkAt_56 : decode cX1_linkAt 56 = .ok (.iload 4, 2) := dk_21 4 (dk_at dksX1_linkAt_2 8 rfl rfl)
theorem dX1_linkAt_58 : decode cX1_linkAt 58 = .ok (.iadd, 1) := dk_96 (dk_at dksX1_linkAt_2 10 rfl rfl)
theorem dX1_linkAt_59 : decode cX1_linkAt 59 = .ok (.invokevirtual 251, 3) := dk_182 0 251 (dk_at dksX1_linkAt_2 11 rfl rfl)
theorem dX1_linkAt_62 : decode cX1_linkAt 62 = .ok (.astore 6, 2) := dk_58 6 (dk_at dksX1_linkAt_2 14 rfl rfl)
theorem dX1_linkAt_64 : decode cX1_linkAt 64 = .ok (.iinc 7 1, 3) := dk_132 7 1 (dk_at dksX1_linkAt_2 16 rfl rfl)
theorem dX1_linkAt_67 : decode cX1_linkAt 67 = .ok (.goto (-25), 3) := dk_167 255 231 (dk_at dksX1_linkAt_2 19 rfl rfl)
theorem dX1_linkAt_70 : decode cX1_linkAt 70 = .ok (.aload 6, 2) := dk_25 6 (dk_at dksX1_linkAt_2 22 rfl rfl)
theorem dX1_linkAt_72 : decode cX1_linkAt 72 = .ok (.ifnull 7, 3) := dk_198 0 7 (dk_at dksX1_linkAt_3 0 rfl rfl)
theorem dX1_linkAt_75 : decode cX1_linkAt 75 = .ok (.iconst 1, 1) := dk_4 (dk_at dksX1_linkAt_3 3 rfl rfl)
theorem dX1_linkAt_76 : decode cX1_linkAt 76 = .ok (.goto 4, 3) := dk_167 0 4 (dk_at dksX1_linkAt_3 4 rfl rfl)
theorem dX1_linkAt_79 : decode cX1_linkAt 79 = .ok (.iconst 0, 1) := dk_3 (dk_at dksX1_linkAt_3 7 rfl rfl)
theorem dX1_linkAt_80 : decode cX1_linkAt 80 = .ok (.invokestatic 117, 3) := dk_184 0 117 (dk_at dksX1_linkAt_3 8 rfl rfl)
theorem dX1_linkAt_83 : decode cX1_linkAt 83 = .ok (.aload 6, 2) := dk_25 6 (dk_at dksX1_linkAt_3 11 rfl rfl)
theorem dX1_linkAt_85 : decode cX1_linkAt 85 = .ok (.areturn, 1) := dk_176 (dk_at dksX1_linkAt_3 13 rfl rfl)
abbrev cX1_linkSum : ByteArray := prog_1_method_35_code
def yX1_linkSum : MethodName := ⟨RX1, "linkSum", "(III)I"⟩
def dkwX1_linkSum_0 : List UInt8 := [42, 27, 28, 29, 3, 182, 0, 255, 58, 4, 25, 4, 180, 1, 7, 28, 46, 172]
abbrev dktX1_linkSum_0 : List UInt8 := dkwX1_linkSum_0 ++ []
theorem dksX1_linkSum_0 : cX1_linkSum.data.toList.drop 0 = dktX1_linkSum_0 := by decide +kernel
theorem dX1_linkSum_0 : decode cX1_linkSum 0 = .ok (.aload_n 0, 1) := dk_42 (dk_at dksX1_linkSum_0 0 rfl rfl)
theorem dX1_linkSum_1 : decode cX1_linkSum 1 = .ok (.iload_n 1, 1) := dk_27 (dk_at dksX1_linkSum_0 1 rfl rfl)
theorem dX1_linkSum_2 : decode cX1_linkSum 2 = .ok (.iload_n 2, 1) := dk_28 (dk_at dksX1_linkSum_0 2 rfl rfl)
theorem dX1_linkSum_3 : decode cX1_linkSum 3 = .ok (.iload_n 3, 1) := dk_29 (dk_at dksX1_linkSum_0 3 rfl rfl)
theorem dX1_linkSum_4 : decode cX1_linkSum 4 = .ok (.iconst 0, 1) := dk_3 (dk_at dksX1_linkSum_0 4 rfl rfl)
theorem dX1_linkSum_5 : decode cX1_linkSum 5 = .ok (.invokevirtual 255, 3) := dk_182 0 255 (dk_at dksX1_linkSum_0 5 rfl rfl)
theorem dX1_linkSum_8 : decode cX1_linkSum 8 = .ok (.astore 4, 2) := dk_58 4 (dk_at dksX1_linkSum_0 8 rfl rfl)
theorem dX1_linkSum_10 : decode cX1_linkSum 10 = .ok (.aload 4, 2) := dk_25 4 (dk_at dksX1_linkSum_0 10 rfl rfl)
theorem dX1_linkSum_12 : decode cX1_linkSum 12 = .ok (.getfield 263, 3) := dk_180 1 7 (dk_at dksX1_linkSum_0 12 rfl rfl)
theorem dX1_linkSum_15 : decode cX1_linkSum 15 = .ok (.iload_n 2, 1) := dk_28 (dk_at dksX1_linkSum_0 15 rfl rfl)
theorem dX1_linkSum_16 : decode cX1_linkSum 16 = .ok (.iaload, 1) := dk_46 (dk_at dksX1_linkSum_0 16 rfl rfl)
theorem dX1_linkSum_17 : decode cX1_linkSum 17 = .ok (.ireturn, 1) := dk_172 (dk_at dksX1_linkSum_0 17 rfl rfl)
abbrev cX1_gapSize : ByteArray := prog_1_method_36_code
def yX1_gapSize : MethodName := ⟨RX1, "gapSize", "(III)I"⟩
def dkwX1_gapSize_1 : List UInt8 := [182, 1, 10, 172]
abbrev dktX1_gapSize_1 : List UInt8 := dkwX1_gapSize_1 ++ []
def dkwX1_gapSize_0 : List UInt8 := [42, 27, 28, 29, 4, 182, 0, 255, 58, 4, 42, 180, 0, 96, 180, 0, 163, 27, 50, 28, 25, 4]
abbrev dktX1_gapSize_0 : List UInt8 := dkwX1_gapSize_0 ++ dktX1_gapSize_1
theorem dksX1_gapSize_0 : cX1_gapSize.data.toList.drop 0 = dktX1_gapSize_0 := by decide +kernel
theorem dksX1_gapSize_1 : cX1_gapSize.data.toList.drop 22 = dktX1_gapSize_1 := dk_seg dksX1_gapSize_0 22 rfl rfl
theorem dX1_gapSize_0 : decode cX1_gapSize 0 = .ok (.aload_n 0, 1) := dk_42 (dk_at dksX1_gapSize_0 0 rfl rfl)
theorem dX1_gapSize_1 : decode cX1_gapSize 1 = .ok (.iload_n 1, 1) := dk_27 (dk_at dksX1_gapSize_0 1 rfl rfl)
theorem dX1_gapSize_2 : decode cX1_gapSize 2 = .ok (.iload_n 2, 1) := dk_28 (dk_at dksX1_gapSize_0 2 rfl rfl)
theorem dX1_gapSize_3 : decode cX1_gapSize 3 = .ok (.iload_n 3, 1) := dk_29 (dk_at dksX1_gapSize_0 3 rfl rfl)
theorem dX1_gapSize_4 : decode cX1_gapSize 4 = .ok (.iconst 1, 1) := dk_4 (dk_at dksX1_gapSize_0 4 rfl rfl)
theorem dX1_gapSize_5 : decode cX1_gapSize 5 = .ok (.invokevirtual 255, 3) := dk_182 0 255 (dk_at dksX1_gapSize_0 5 rfl rfl)
theorem dX1_gapSize_8 : decode cX1_gapSize 8 = .ok (.astore 4, 2) := dk_58 4 (dk_at dksX1_gapSize_0 8 rfl rfl)
theorem dX1_gapSize_10 : decode cX1_gapSize 10 = .ok (.aload_n 0, 1) := dk_42 (dk_at dksX1_gapSize_0 10 rfl rfl)
theorem dX1_gapSize_11 : decode cX1_gapSize 11 = .ok (.getfield 96, 3) := dk_180 0 96 (dk_at dksX1_gapSize_0 11 rfl rfl)
theorem dX1_gapSize_14 : decode cX1_gapSize 14 = .ok (.getfield 163, 3) := dk_180 0 163 (dk_at dksX1_gapSize_0 14 rfl rfl)
theorem dX1_gapSize_17 : decode cX1_gapSize 17 = .ok (.iload_n 1, 1) := dk_27 (dk_at dksX1_gapSize_0 17 rfl rfl)
theorem dX1_gapSize_18 : decode cX1_gapSize 18 = .ok (.aaload, 1) := dk_50 (dk_at dksX1_gapSize_0 18 rfl rfl)
theorem dX1_gapSize_19 : decode cX1_gapSize 19 = .ok (.iload_n 2, 1) := dk_28 (dk_at dksX1_gapSize_0 19 rfl rfl)
theorem dX1_gapSize_20 : decode cX1_gapSize 20 = .ok (.aload 4, 2) := dk_25 4 (dk_at dksX1_gapSize_0 20 rfl rfl)
theorem dX1_gapSize_22 : decode cX1_gapSize 22 = .ok (.invokevirtual 266, 3) := dk_182 1 10 (dk_at dksX1_gapSize_1 0 rfl rfl)
theorem dX1_gapSize_25 : decode cX1_gapSize 25 = .ok (.ireturn, 1) := dk_172 (dk_at dksX1_gapSize_1 3 rfl rfl)
abbrev cX1_links : ByteArray := prog_1_method_37_code
def yX1_links : MethodName := ⟨RX1, "links", "(I)I"⟩
def dkwX1_links_1 : List UInt8 := [96, 61, 132, 3, 255, 167, 255, 238, 28, 172]
abbrev dktX1_links_1 : List UInt8 := dkwX1_links_1 ++ []
def dkwX1_links_0 : List UInt8 := [3, 61, 42, 27, 182, 0, 183, 182, 0, 192, 62, 29, 158, 0, 20, 28, 42, 27, 29, 182, 1, 14, 4, 96]
abbrev dktX1_links_0 : List UInt8 := dkwX1_links_0 ++ dktX1_links_1
theorem dksX1_links_0 : cX1_links.data.toList.drop 0 = dktX1_links_0 := by decide +kernel
theorem dksX1_links_1 : cX1_links.data.toList.drop 24 = dktX1_links_1 := dk_seg dksX1_links_0 24 rfl rfl
theorem dX1_links_0 : decode cX1_links 0 = .ok (.iconst 0, 1) := dk_3 (dk_at dksX1_links_0 0 rfl rfl)
theorem dX1_links_1 : decode cX1_links 1 = .ok (.istore_n 2, 1) := dk_61 (dk_at dksX1_links_0 1 rfl rfl)
theorem dX1_links_2 : decode cX1_links 2 = .ok (.aload_n 0, 1) := dk_42 (dk_at dksX1_links_0 2 rfl rfl)
theorem dX1_links_3 : decode cX1_links 3 = .ok (.iload_n 1, 1) := dk_27 (dk_at dksX1_links_0 3 rfl rfl)
theorem dX1_links_4 : decode cX1_links 4 = .ok (.invokevirtual 183, 3) := dk_182 0 183 (dk_at dksX1_links_0 4 rfl rfl)
theorem dX1_links_7 : decode cX1_links 7 = .ok (.invokevirtual 192, 3) := dk_182 0 192 (dk_at dksX1_links_0 7 rfl rfl)
theorem dX1_links_10 : decode cX1_links 10 = .ok (.istore_n 3, 1) := dk_62 (dk_at dksX1_links_0 10 rfl rfl)
theorem dX1_links_11 : decode cX1_links 11 = .ok (.iload_n 3, 1) := dk_29 (dk_at dksX1_links_0 11 rfl rfl)
theorem dX1_links_12 : decode cX1_links 12 = .ok (.ifCond .le 20, 3) := dk_158 0 20 (dk_at dksX1_links_0 12 rfl rfl)
theorem dX1_links_15 : decode cX1_links 15 = .ok (.iload_n 2, 1) := dk_28 (dk_at dksX1_links_0 15 rfl rfl)
theorem dX1_links_16 : decode cX1_links 16 = .ok (.aload_n 0, 1) := dk_42 (dk_at dksX1_links_0 16 rfl rfl)
theorem dX1_links_17 : decode cX1_links 17 = .ok (.iload_n 1, 1) := dk_27 (dk_at dksX1_links_0 17 rfl rfl)
theorem dX1_links_18 : decode cX1_links 18 = .ok (.iload_n 3, 1) := dk_29 (dk_at dksX1_links_0 18 rfl rfl)
theorem dX1_links_19 : decode cX1_links 19 = .ok (.invokevirtual 270, 3) := dk_182 1 14 (dk_at dksX1_links_0 19 rfl rfl)
theorem dX1_links_22 : decode cX1_links 22 = .ok (.iconst 1, 1) := dk_4 (dk_at dksX1_links_0 22 rfl rfl)
theorem dX1_links_23 : decode cX1_links 23 = .ok (.iadd, 1) := dk_96 (dk_at dksX1_links_0 23 rfl rfl)
theorem dX1_links_24 : decode cX1_links 24 = .ok (.iadd, 1) := dk_96 (dk_at dksX1_links_1 0 rfl rfl)
theorem dX1_links_25 : decode cX1_links 25 = .ok (.istore_n 2, 1) := dk_61 (dk_at dksX1_links_1 1 rfl rfl)
theorem dX1_links_26 : decode cX1_links 26 = .ok (.iinc 3 (-1), 3) := dk_132 3 255 (dk_at dksX1_links_1 2 rfl rfl)
theorem dX1_links_29 : decode cX1_links 29 = .ok (.goto (-18), 3) := dk_167 255 238 (dk_at dksX1_links_1 5 rfl rfl)
theorem dX1_links_32 : decode cX1_links 32 = .ok (.iload_n 2, 1) := dk_28 (dk_at dksX1_links_1 8 rfl rfl)
theorem dX1_links_33 : decode cX1_links 33 = .ok (.ireturn, 1) := dk_172 (dk_at dksX1_links_1 9 rfl rfl)
abbrev cX1_steps : ByteArray := prog_1_method_38_code
def yX1_steps : MethodName := ⟨RX1, "steps", "(II)I"⟩
def dkwX1_steps_0 : List UInt8 := [42, 27, 28, 182, 0, 229, 28, 182, 1, 17, 180, 1, 21, 172]
abbrev dktX1_steps_0 : List UInt8 := dkwX1_steps_0 ++ []
theorem dksX1_steps_0 : cX1_steps.data.toList.drop 0 = dktX1_steps_0 := by decide +kernel
theorem dX1_steps_0 : decode cX1_steps 0 = .ok (.aload_n 0, 1) := dk_42 (dk_at dksX1_steps_0 0 rfl rfl)
theorem dX1_steps_1 : decode cX1_steps 1 = .ok (.iload_n 1, 1) := dk_27 (dk_at dksX1_steps_0 1 rfl rfl)
theorem dX1_steps_2 : decode cX1_steps 2 = .ok (.iload_n 2, 1) := dk_28 (dk_at dksX1_steps_0 2 rfl rfl)
theorem dX1_steps_3 : decode cX1_steps 3 = .ok (.invokevirtual 229, 3) := dk_182 0 229 (dk_at dksX1_steps_0 3 rfl rfl)
theorem dX1_steps_6 : decode cX1_steps 6 = .ok (.iload_n 2, 1) := dk_28 (dk_at dksX1_steps_0 6 rfl rfl)
theorem dX1_steps_7 : decode cX1_steps 7 = .ok (.invokevirtual 273, 3) := dk_182 1 17 (dk_at dksX1_steps_0 7 rfl rfl)
theorem dX1_steps_10 : decode cX1_steps 10 = .ok (.getfield 277, 3) := dk_180 1 21 (dk_at dksX1_steps_0 10 rfl rfl)
theorem dX1_steps_13 : decode cX1_steps 13 = .ok (.ireturn, 1) := dk_172 (dk_at dksX1_steps_0 13 rfl rfl)
abbrev cX1_looks : ByteArray := prog_1_method_39_code
def yX1_looks : MethodName := ⟨RX1, "looks", "(II)I"⟩
def dkwX1_looks_0 : List UInt8 := [42, 27, 28, 182, 0, 229, 28, 182, 1, 17, 180, 1, 26, 172]
abbrev dktX1_looks_0 : List UInt8 := dkwX1_looks_0 ++ []
theorem dksX1_looks_0 : cX1_looks.data.toList.drop 0 = dktX1_looks_0 := by decide +kernel
theorem dX1_looks_0 : decode cX1_looks 0 = .ok (.aload_n 0, 1) := dk_42 (dk_at dksX1_looks_0 0 rfl rfl)
theorem dX1_looks_1 : decode cX1_looks 1 = .ok (.iload_n 1, 1) := dk_27 (dk_at dksX1_looks_0 1 rfl rfl)
theorem dX1_looks_2 : decode cX1_looks 2 = .ok (.iload_n 2, 1) := dk_28 (dk_at dksX1_looks_0 2 rfl rfl)
theorem dX1_looks_3 : decode cX1_looks 3 = .ok (.invokevirtual 229, 3) := dk_182 0 229 (dk_at dksX1_looks_0 3 rfl rfl)
theorem dX1_looks_6 : decode cX1_looks 6 = .ok (.iload_n 2, 1) := dk_28 (dk_at dksX1_looks_0 6 rfl rfl)
theorem dX1_looks_7 : decode cX1_looks 7 = .ok (.invokevirtual 273, 3) := dk_182 1 17 (dk_at dksX1_looks_0 7 rfl rfl)
theorem dX1_looks_10 : decode cX1_looks 10 = .ok (.getfield 282, 3) := dk_180 1 26 (dk_at dksX1_looks_0 10 rfl rfl)
theorem dX1_looks_13 : decode cX1_looks 13 = .ok (.ireturn, 1) := dk_172 (dk_at dksX1_looks_0 13 rfl rfl)
abbrev cX1_stepKey : ByteArray := prog_1_method_41_code
def yX1_stepKey : MethodName := ⟨RX1, "stepKey", "(III)I"⟩
def dkwX1_stepKey_0 : List UInt8 := [42, 27, 28, 29, 182, 1, 29, 180, 1, 33, 29, 46, 172]
abbrev dktX1_stepKey_0 : List UInt8 := dkwX1_stepKey_0 ++ []
theorem dksX1_stepKey_0 : cX1_stepKey.data.toList.drop 0 = dktX1_stepKey_0 := by decide +kernel
theorem dX1_stepKey_0 : decode cX1_stepKey 0 = .ok (.aload_n 0, 1) := dk_42 (dk_at dksX1_stepKey_0 0 rfl rfl)
theorem dX1_stepKey_1 : decode cX1_stepKey 1 = .ok (.iload_n 1, 1) := dk_27 (dk_at dksX1_stepKey_0 1 rfl rfl)
theorem dX1_stepKey_2 : decode cX1_stepKey 2 = .ok (.iload_n 2, 1) := dk_28 (dk_at dksX1_stepKey_0 2 rfl rfl)
theorem dX1_stepKey_3 : decode cX1_stepKey 3 = .ok (.iload_n 3, 1) := dk_29 (dk_at dksX1_stepKey_0 3 rfl rfl)
theorem dX1_stepKey_4 : decode cX1_stepKey 4 = .ok (.invokevirtual 285, 3) := dk_182 1 29 (dk_at dksX1_stepKey_0 4 rfl rfl)
theorem dX1_stepKey_7 : decode cX1_stepKey 7 = .ok (.getfield 289, 3) := dk_180 1 33 (dk_at dksX1_stepKey_0 7 rfl rfl)
theorem dX1_stepKey_10 : decode cX1_stepKey 10 = .ok (.iload_n 3, 1) := dk_29 (dk_at dksX1_stepKey_0 10 rfl rfl)
theorem dX1_stepKey_11 : decode cX1_stepKey 11 = .ok (.iaload, 1) := dk_46 (dk_at dksX1_stepKey_0 11 rfl rfl)
theorem dX1_stepKey_12 : decode cX1_stepKey 12 = .ok (.ireturn, 1) := dk_172 (dk_at dksX1_stepKey_0 12 rfl rfl)
abbrev cX1_searchWith : ByteArray := prog_1_method_40_code
def yX1_searchWith : MethodName := ⟨RX1, "searchWith", "(III)LCountedSkipLists$SkipList$Search;"⟩
def dkwX1_searchWith_1 : List UInt8 := [184, 0, 222, 25, 4, 176]
abbrev dktX1_searchWith_1 : List UInt8 := dkwX1_searchWith_1 ++ []
def dkwX1_searchWith_0 : List UInt8 := [42, 27, 28, 182, 0, 229, 28, 182, 1, 17, 58, 4, 29, 3, 25, 4, 180, 1, 21, 4, 100, 184, 0, 18]
abbrev dktX1_searchWith_0 : List UInt8 := dkwX1_searchWith_0 ++ dktX1_searchWith_1
theorem dksX1_searchWith_0 : cX1_searchWith.data.toList.drop 0 = dktX1_searchWith_0 := by decide +kernel
theorem dksX1_searchWith_1 : cX1_searchWith.data.toList.drop 24 = dktX1_searchWith_1 := dk_seg dksX1_searchWith_0 24 rfl rfl
theorem dX1_searchWith_0 : decode cX1_searchWith 0 = .ok (.aload_n 0, 1) := dk_42 (dk_at dksX1_searchWith_0 0 rfl rfl)
theorem dX1_searchWith_1 : decode cX1_searchWith 1 = .ok (.iload_n 1, 1) := dk_27 (dk_at dksX1_searchWith_0 1 rfl rfl)
theorem dX1_searchWith_2 : decode cX1_searchWith 2 = .ok (.iload_n 2, 1) := dk_28 (dk_at dksX1_searchWith_0 2 rfl rfl)
theorem dX1_searchWith_3 : decode cX1_searchWith 3 = .ok (.invokevirtual 229, 3) := dk_182 0 229 (dk_at dksX1_searchWith_0 3 rfl rfl)
theorem dX1_searchWith_6 : decode cX1_searchWith 6 = .ok (.iload_n 2, 1) := dk_28 (dk_at dksX1_searchWith_0 6 rfl rfl)
theorem dX1_searchWith_7 : decode cX1_searchWith 7 = .ok (.invokevirtual 273, 3) := dk_182 1 17 (dk_at dksX1_searchWith_0 7 rfl rfl)
theorem dX1_searchWith_10 : decode cX1_searchWith 10 = .ok (.astore 4, 2) := dk_58 4 (dk_at dksX1_searchWith_0 10 rfl rfl)
theorem dX1_searchWith_12 : decode cX1_searchWith 12 = .ok (.iload_n 3, 1) := dk_29 (dk_at dksX1_searchWith_0 12 rfl rfl)
theorem dX1_searchWith_13 : decode cX1_searchWith 13 = .ok (.iconst 0, 1) := dk_3 (dk_at dksX1_searchWith_0 13 rfl rfl)
theorem dX1_searchWith_14 : decode cX1_searchWith 14 = .ok (.aload 4, 2) := dk_25 4 (dk_at dksX1_searchWith_0 14 rfl rfl)
theorem dX1_searchWith_16 : decode cX1_searchWith 16 = .ok (.getfield 277, 3) := dk_180 1 21 (dk_at dksX1_searchWith_0 16 rfl rfl)
theorem dX1_searchWith_19 : decode cX1_searchWith 19 = .ok (.iconst 1, 1) := dk_4 (dk_at dksX1_searchWith_0 19 rfl rfl)
theorem dX1_searchWith_20 : decode cX1_searchWith 20 = .ok (.isub, 1) := dk_100 (dk_at dksX1_searchWith_0 20 rfl rfl)
theorem dX1_searchWith_21 : decode cX1_searchWith 21 = .ok (.invokestatic 18, 3) := dk_184 0 18 (dk_at dksX1_searchWith_0 21 rfl rfl)
theorem dX1_searchWith_24 : decode cX1_searchWith 24 = .ok (.invokestatic 222, 3) := dk_184 0 222 (dk_at dksX1_searchWith_1 0 rfl rfl)
theorem dX1_searchWith_27 : decode cX1_searchWith 27 = .ok (.aload 4, 2) := dk_25 4 (dk_at dksX1_searchWith_1 3 rfl rfl)
theorem dX1_searchWith_29 : decode cX1_searchWith 29 = .ok (.areturn, 1) := dk_176 (dk_at dksX1_searchWith_1 5 rfl rfl)
abbrev cX1_stepLevel : ByteArray := prog_1_method_42_code
def yX1_stepLevel : MethodName := ⟨RX1, "stepLevel", "(III)I"⟩
def dkwX1_stepLevel_0 : List UInt8 := [42, 27, 28, 29, 182, 1, 29, 180, 1, 36, 29, 46, 172]
abbrev dktX1_stepLevel_0 : List UInt8 := dkwX1_stepLevel_0 ++ []
theorem dksX1_stepLevel_0 : cX1_stepLevel.data.toList.drop 0 = dktX1_stepLevel_0 := by decide +kernel
theorem dX1_stepLevel_0 : decode cX1_stepLevel 0 = .ok (.aload_n 0, 1) := dk_42 (dk_at dksX1_stepLevel_0 0 rfl rfl)
theorem dX1_stepLevel_1 : decode cX1_stepLevel 1 = .ok (.iload_n 1, 1) := dk_27 (dk_at dksX1_stepLevel_0 1 rfl rfl)
theorem dX1_stepLevel_2 : decode cX1_stepLevel 2 = .ok (.iload_n 2, 1) := dk_28 (dk_at dksX1_stepLevel_0 2 rfl rfl)
theorem dX1_stepLevel_3 : decode cX1_stepLevel 3 = .ok (.iload_n 3, 1) := dk_29 (dk_at dksX1_stepLevel_0 3 rfl rfl)
theorem dX1_stepLevel_4 : decode cX1_stepLevel 4 = .ok (.invokevirtual 285, 3) := dk_182 1 29 (dk_at dksX1_stepLevel_0 4 rfl rfl)
theorem dX1_stepLevel_7 : decode cX1_stepLevel 7 = .ok (.getfield 292, 3) := dk_180 1 36 (dk_at dksX1_stepLevel_0 7 rfl rfl)
theorem dX1_stepLevel_10 : decode cX1_stepLevel 10 = .ok (.iload_n 3, 1) := dk_29 (dk_at dksX1_stepLevel_0 10 rfl rfl)
theorem dX1_stepLevel_11 : decode cX1_stepLevel 11 = .ok (.iaload, 1) := dk_46 (dk_at dksX1_stepLevel_0 11 rfl rfl)
theorem dX1_stepLevel_12 : decode cX1_stepLevel 12 = .ok (.ireturn, 1) := dk_172 (dk_at dksX1_stepLevel_0 12 rfl rfl)
abbrev cX1_stepsTo : ByteArray := prog_1_method_43_code
def yX1_stepsTo : MethodName := ⟨RX1, "stepsTo", "(II)I"⟩
def dkwX1_stepsTo_1 : List UInt8 := [58, 4, 45, 28, 25, 4, 182, 0, 195, 58, 5, 25, 4, 3, 46, 172]
abbrev dktX1_stepsTo_1 : List UInt8 := dkwX1_stepsTo_1 ++ []
def dkwX1_stepsTo_0 : List UInt8 := [42, 27, 182, 0, 183, 78, 28, 3, 45, 180, 0, 191, 4, 100, 184, 0, 18, 184, 0, 117, 4, 188, 10]
abbrev dktX1_stepsTo_0 : List UInt8 := dkwX1_stepsTo_0 ++ dktX1_stepsTo_1
theorem dksX1_stepsTo_0 : cX1_stepsTo.data.toList.drop 0 = dktX1_stepsTo_0 := by decide +kernel
theorem dksX1_stepsTo_1 : cX1_stepsTo.data.toList.drop 23 = dktX1_stepsTo_1 := dk_seg dksX1_stepsTo_0 23 rfl rfl
theorem dX1_stepsTo_0 : decode cX1_stepsTo 0 = .ok (.aload_n 0, 1) := dk_42 (dk_at dksX1_stepsTo_0 0 rfl rfl)
theorem dX1_stepsTo_1 : decode cX1_stepsTo 1 = .ok (.iload_n 1, 1) := dk_27 (dk_at dksX1_stepsTo_0 1 rfl rfl)
theorem dX1_stepsTo_2 : decode cX1_stepsTo 2 = .ok (.invokevirtual 183, 3) := dk_182 0 183 (dk_at dksX1_stepsTo_0 2 rfl rfl)
theorem dX1_stepsTo_5 : decode cX1_stepsTo 5 = .ok (.astore_n 3, 1) := dk_78 (dk_at dksX1_stepsTo_0 5 rfl rfl)
theorem dX1_stepsTo_6 : decode cX1_stepsTo 6 = .ok (.iload_n 2, 1) := dk_28 (dk_at dksX1_stepsTo_0 6 rfl rfl)
theorem dX1_stepsTo_7 : decode cX1_stepsTo 7 = .ok (.iconst 0, 1) := dk_3 (dk_at dksX1_stepsTo_0 7 rfl rfl)
theorem dX1_stepsTo_8 : decode cX1_stepsTo 8 = .ok (.aload_n 3, 1) := dk_45 (dk_at dksX1_stepsTo_0 8 rfl rfl)
theorem dX1_stepsTo_9 : decode cX1_stepsTo 9 = .ok (.getfield 191, 3) := dk_180 0 191 (dk_at dksX1_stepsTo_0 9 rfl rfl)
theorem dX1_stepsTo_12 : decode cX1_stepsTo 12 = .ok (.iconst 1, 1) := dk_4 (dk_at dksX1_stepsTo_0 12 rfl rfl)
theorem dX1_stepsTo_13 : decode cX1_stepsTo 13 = .ok (.isub, 1) := dk_100 (dk_at dksX1_stepsTo_0 13 rfl rfl)
theorem dX1_stepsTo_14 : decode cX1_stepsTo 14 = .ok (.invokestatic 18, 3) := dk_184 0 18 (dk_at dksX1_stepsTo_0 14 rfl rfl)
theorem dX1_stepsTo_17 : decode cX1_stepsTo 17 = .ok (.invokestatic 117, 3) := dk_184 0 117 (dk_at dksX1_stepsTo_0 17 rfl rfl)
theorem dX1_stepsTo_20 : decode cX1_stepsTo 20 = .ok (.iconst 1, 1) := dk_4 (dk_at dksX1_stepsTo_0 20 rfl rfl)
theorem dX1_stepsTo_21 : decode cX1_stepsTo 21 = .ok (.newarray .int, 2) := dk_188_10 (dk_at dksX1_stepsTo_0 21 rfl rfl)
theorem dX1_stepsTo_23 : decode cX1_stepsTo 23 = .ok (.astore 4, 2) := dk_58 4 (dk_at dksX1_stepsTo_1 0 rfl rfl)
theorem dX1_stepsTo_25 : decode cX1_stepsTo 25 = .ok (.aload_n 3, 1) := dk_45 (dk_at dksX1_stepsTo_1 2 rfl rfl)
theorem dX1_stepsTo_26 : decode cX1_stepsTo 26 = .ok (.iload_n 2, 1) := dk_28 (dk_at dksX1_stepsTo_1 3 rfl rfl)
theorem dX1_stepsTo_27 : decode cX1_stepsTo 27 = .ok (.aload 4, 2) := dk_25 4 (dk_at dksX1_stepsTo_1 4 rfl rfl)
theorem dX1_stepsTo_29 : decode cX1_stepsTo 29 = .ok (.invokevirtual 195, 3) := dk_182 0 195 (dk_at dksX1_stepsTo_1 6 rfl rfl)
theorem dX1_stepsTo_32 : decode cX1_stepsTo 32 = .ok (.astore 5, 2) := dk_58 5 (dk_at dksX1_stepsTo_1 9 rfl rfl)
theorem dX1_stepsTo_34 : decode cX1_stepsTo 34 = .ok (.aload 4, 2) := dk_25 4 (dk_at dksX1_stepsTo_1 11 rfl rfl)
theorem dX1_stepsTo_36 : decode cX1_stepsTo 36 = .ok (.iconst 0, 1) := dk_3 (dk_at dksX1_stepsTo_1 13 rfl rfl)
theorem dX1_stepsTo_37 : decode cX1_stepsTo 37 = .ok (.iaload, 1) := dk_46 (dk_at dksX1_stepsTo_1 14 rfl rfl)
theorem dX1_stepsTo_38 : decode cX1_stepsTo 38 = .ok (.ireturn, 1) := dk_172 (dk_at dksX1_stepsTo_1 15 rfl rfl)
abbrev cX1_farthest : ByteArray := prog_1_method_44_code
def yX1_farthest : MethodName := ⟨RX1, "farthest", "(I)I"⟩
def dkwX1_farthest_3 : List UInt8 := [54, 5, 25, 4, 4, 182, 0, 251, 58, 4, 167, 255, 213, 45, 182, 1, 49, 192, 1, 42, 180, 1, 52, 172]
abbrev dktX1_farthest_3 : List UInt8 := dkwX1_farthest_3 ++ []
def dkwX1_farthest_2 : List UInt8 := [89, 25, 4, 180, 0, 203, 44, 25, 4, 180, 0, 203, 182, 1, 17, 180, 1, 21, 183, 1, 44, 182, 1, 47]
abbrev dktX1_farthest_2 : List UInt8 := dkwX1_farthest_2 ++ dktX1_farthest_3
def dkwX1_farthest_1 : List UInt8 := [89, 183, 1, 41, 78, 44, 180, 0, 247, 4, 182, 0, 251, 58, 4, 25, 4, 198, 0, 44, 45, 187, 1, 42]
abbrev dktX1_farthest_1 : List UInt8 := dkwX1_farthest_1 ++ dktX1_farthest_2
def dkwX1_farthest_0 : List UInt8 := [42, 27, 182, 0, 183, 77, 44, 180, 0, 191, 158, 0, 7, 4, 167, 0, 4, 3, 184, 0, 222, 187, 1, 39]
abbrev dktX1_farthest_0 : List UInt8 := dkwX1_farthest_0 ++ dktX1_farthest_1
theorem dksX1_farthest_0 : cX1_farthest.data.toList.drop 0 = dktX1_farthest_0 := by decide +kernel
theorem dksX1_farthest_1 : cX1_farthest.data.toList.drop 24 = dktX1_farthest_1 := dk_seg dksX1_farthest_0 24 rfl rfl
theorem dksX1_farthest_2 : cX1_farthest.data.toList.drop 48 = dktX1_farthest_2 := dk_seg dksX1_farthest_1 24 rfl rfl
theorem dksX1_farthest_3 : cX1_farthest.data.toList.drop 72 = dktX1_farthest_3 := dk_seg dksX1_farthest_2 24 rfl rfl
theorem dX1_farthest_0 : decode cX1_farthest 0 = .ok (.aload_n 0, 1) := dk_42 (dk_at dksX1_farthest_0 0 rfl rfl)
theorem dX1_farthest_1 : decode cX1_farthest 1 = .ok (.iload_n 1, 1) := dk_27 (dk_at dksX1_farthest_0 1 rfl rfl)
theorem dX1_farthest_2 : decode cX1_farthest 2 = .ok (.invokevirtual 183, 3) := dk_182 0 183 (dk_at dksX1_farthest_0 2 rfl rfl)
theorem dX1_farthest_5 : decode cX1_farthest 5 = .ok (.astore_n 2, 1) := dk_77 (dk_at dksX1_farthest_0 5 rfl rfl)
theorem dX1_farthest_6 : decode cX1_farthest 6 = .ok (.aload_n 2, 1) := dk_44 (dk_at dksX1_farthest_0 6 rfl rfl)
theorem dX1_farthest_7 : decode cX1_farthest 7 = .ok (.getfield 191, 3) := dk_180 0 191 (dk_at dksX1_farthest_0 7 rfl rfl)
theorem dX1_farthest_10 : decode cX1_farthest 10 = .ok (.ifCond .le 7, 3) := dk_158 0 7 (dk_at dksX1_farthest_0 10 rfl rfl)
theorem dX1_farthest_13 : decode cX1_farthest 13 = .ok (.iconst 1, 1) := dk_4 (dk_at dksX1_farthest_0 13 rfl rfl)
theorem dX1_farthest_14 : decode cX1_farthest 14 = .ok (.goto 4, 3) := dk_167 0 4 (dk_at dksX1_farthest_0 14 rfl rfl)
theorem dX1_farthest_17 : decode cX1_farthest 17 = .ok (.iconst 0, 1) := dk_3 (dk_at dksX1_farthest_0 17 rfl rfl)
theorem dX1_farthest_18 : decode cX1_farthest 18 = .ok (.invokestatic 222, 3) := dk_184 0 222 (dk_at dksX1_farthest_0 18 rfl rfl)
theorem dX1_farthest_21 : decode cX1_farthest 21 = .ok (.new 295, 3) := dk_187 1 39 (dk_at dksX1_farthest_0 21 rfl rfl)
theorem dX1_farthest_24 : decode cX1_farthest 24 = .ok (.dup, 1) := dk_89 (dk_at dksX1_farthest_1 0 rfl rfl)
theorem dX1_farthest_25 : decode cX1_farthest 25 = .ok (.invokespecial 297, 3) := dk_183 1 41 (dk_at dksX1_farthest_1 1 rfl rfl)
theorem dX1_farthest_28 : decode cX1_farthest 28 = .ok (.astore_n 3, 1) := dk_78 (dk_at dksX1_farthest_1 4 rfl rfl)
theorem dX1_farthest_29 : decode cX1_farthest 29 = .ok (.aload_n 2, 1) := dk_44 (dk_at dksX1_farthest_1 5 rfl rfl)
theorem dX1_farthest_30 : decode cX1_farthest 30 = .ok (.getfield 247, 3) := dk_180 0 247 (dk_at dksX1_farthest_1 6 rfl rfl)
theorem dX1_farthest_33 : decode cX1_farthest 33 = .ok (.iconst 1, 1) := dk_4 (dk_at dksX1_farthest_1 9 rfl rfl)
theorem dX1_farthest_34 : decode cX1_farthest 34 = .ok (.invokevirtual 251, 3) := dk_182 0 251 (dk_at dksX1_farthest_1 10 rfl rfl)
theorem dX1_farthest_37 : decode cX1_farthest 37 = .ok (.astore 4, 2) := dk_58 4 (dk_at dksX1_farthest_1 13 rfl rfl)
theorem dX1_farthest_39 : decode cX1_farthest 39 = .ok (.aload 4, 2) := dk_25 4 (dk_at dksX1_farthest_1 15 rfl rfl)
theorem dX1_farthest_41 : decode cX1_farthest 41 = .ok (.ifnull 44, 3) := dk_198 0 44 (dk_at dksX1_farthest_1 17 rfl rfl)
theorem dX1_farthest_44 : decode cX1_farthest 44 = .ok (.aload_n 3, 1) := dk_45 (dk_at dksX1_farthest_1 20 rfl rfl)
theorem dX1_farthest_45 : decode cX1_farthest 45 = .ok (.new 298, 3) := dk_187 1 42 (dk_at dksX1_farthest_1 21 rfl rfl)
theorem dX1_farthest_48 : decode cX1_farthest 48 = .ok (.dup, 1) := dk_89 (dk_at dksX1_farthest_2 0 rfl rfl)
theorem dX1_farthest_49 : decode cX1_farthest 49 = .ok (.aload 4, 2) := dk_25 4 (dk_at dksX1_farthest_2 1 rfl rfl)
theorem dX1_farthest_51 : decode cX1_farthest 51 = .ok (.getfield 203, 3) := dk_180 0 203 (dk_at dksX1_farthest_2 3 rfl rfl)
theorem dX1_farthest_54 : decode cX1_farthest 54 = .ok (.aload_n 2, 1) := dk_44 (dk_at dksX1_farthest_2 6 rfl rfl)
theorem dX1_farthest_55 : decode cX1_farthest 55 = .ok (.aload 4, 2) := dk_25 4 (dk_at dksX1_farthest_2 7 rfl rfl)
theorem dX1_farthest_57 : decode cX1_farthest 57 = .ok (.getfield 203, 3) := dk_180 0 203 (dk_at dksX1_farthest_2 9 rfl rfl)
theorem dX1_farthest_60 : decode cX1_farthest 60 = .ok (.invokevirtual 273, 3) := dk_182 1 17 (dk_at dksX1_farthest_2 12 rfl rfl)
theorem dX1_farthest_63 : decode cX1_farthest 63 = .ok (.getfield 277, 3) := dk_180 1 21 (dk_at dksX1_farthest_2 15 rfl rfl)
theorem dX1_farthest_66 : decode cX1_farthest 66 = .ok (.invokespecial 300, 3) := dk_183 1 44 (dk_at dksX1_farthest_2 18 rfl rfl)
theorem dX1_farthest_69 : decode cX1_farthest 69 = .ok (.invokevirtual 303, 3) := dk_182 1 47 (dk_at dksX1_farthest_2 21 rfl rfl)
theorem dX1_farthest_72 : decode cX1_farthest 72 = .ok (.istore 5, 2) := dk_54 5 (dk_at dksX1_farthest_3 0 rfl rfl)
theorem dX1_farthest_74 : decode cX1_farthest 74 = .ok (.aload 4, 2) := dk_25 4 (dk_at dksX1_farthest_3 2 rfl rfl)
theorem dX1_farthest_76 : decode cX1_farthest 76 = .ok (.iconst 1, 1) := dk_4 (dk_at dksX1_farthest_3 4 rfl rfl)
theorem dX1_farthest_77 : decode cX1_farthest 77 = .ok (.invokevirtual 251, 3) := dk_182 0 251 (dk_at dksX1_farthest_3 5 rfl rfl)
theorem dX1_farthest_80 : decode cX1_farthest 80 = .ok (.astore 4, 2) := dk_58 4 (dk_at dksX1_farthest_3 8 rfl rfl)
theorem dX1_farthest_82 : decode cX1_farthest 82 = .ok (.goto (-43), 3) := dk_167 255 213 (dk_at dksX1_farthest_3 10 rfl rfl)
theorem dX1_farthest_85 : decode cX1_farthest 85 = .ok (.aload_n 3, 1) := dk_45 (dk_at dksX1_farthest_3 13 rfl rfl)
theorem dX1_farthest_86 : decode cX1_farthest 86 = .ok (.invokevirtual 305, 3) := dk_182 1 49 (dk_at dksX1_farthest_3 14 rfl rfl)
theorem dX1_farthest_89 : decode cX1_farthest 89 = .ok (.checkcast 298, 3) := dk_192 1 42 (dk_at dksX1_farthest_3 17 rfl rfl)
theorem dX1_farthest_92 : decode cX1_farthest 92 = .ok (.getfield 308, 3) := dk_180 1 52 (dk_at dksX1_farthest_3 20 rfl rfl)
theorem dX1_farthest_95 : decode cX1_farthest 95 = .ok (.ireturn, 1) := dk_172 (dk_at dksX1_farthest_3 23 rfl rfl)
abbrev cX1_meanLooks : ByteArray := prog_1_method_45_code
def yX1_meanLooks : MethodName := ⟨RX1, "meanLooks", "(I)D"⟩
def dkwX1_meanLooks_3 : List UInt8 := [175]
abbrev dktX1_meanLooks_3 : List UInt8 := dkwX1_meanLooks_3 ++ []
def dkwX1_meanLooks_2 : List UInt8 := [180, 1, 26, 96, 62, 25, 4, 4, 182, 0, 251, 58, 4, 167, 255, 228, 29, 135, 44, 180, 0, 191, 135, 111]
abbrev dktX1_meanLooks_2 : List UInt8 := dkwX1_meanLooks_2 ++ dktX1_meanLooks_3
def dkwX1_meanLooks_1 : List UInt8 := [180, 0, 247, 4, 182, 0, 251, 58, 4, 25, 4, 198, 0, 29, 29, 44, 25, 4, 180, 0, 203, 182, 1, 17]
abbrev dktX1_meanLooks_1 : List UInt8 := dkwX1_meanLooks_1 ++ dktX1_meanLooks_2
def dkwX1_meanLooks_0 : List UInt8 := [42, 27, 182, 0, 183, 77, 44, 180, 0, 191, 158, 0, 7, 4, 167, 0, 4, 3, 184, 0, 222, 3, 62, 44]
abbrev dktX1_meanLooks_0 : List UInt8 := dkwX1_meanLooks_0 ++ dktX1_meanLooks_1
theorem dksX1_meanLooks_0 : cX1_meanLooks.data.toList.drop 0 = dktX1_meanLooks_0 := by decide +kernel
theorem dksX1_meanLooks_1 : cX1_meanLooks.data.toList.drop 24 = dktX1_meanLooks_1 := dk_seg dksX1_meanLooks_0 24 rfl rfl
theorem dksX1_meanLooks_2 : cX1_meanLooks.data.toList.drop 48 = dktX1_meanLooks_2 := dk_seg dksX1_meanLooks_1 24 rfl rfl
theorem dksX1_meanLooks_3 : cX1_meanLooks.data.toList.drop 72 = dktX1_meanLooks_3 := dk_seg dksX1_meanLooks_2 24 rfl rfl
theorem dX1_meanLooks_0 : decode cX1_meanLooks 0 = .ok (.aload_n 0, 1) := dk_42 (dk_at dksX1_meanLooks_0 0 rfl rfl)
theorem dX1_meanLooks_1 : decode cX1_meanLooks 1 = .ok (.iload_n 1, 1) := dk_27 (dk_at dksX1_meanLooks_0 1 rfl rfl)
theorem dX1_meanLooks_2 : decode cX1_meanLooks 2 = .ok (.invokevirtual 183, 3) := dk_182 0 183 (dk_at dksX1_meanLooks_0 2 rfl rfl)
theorem dX1_meanLooks_5 : decode cX1_meanLooks 5 = .ok (.astore_n 2, 1) := dk_77 (dk_at dksX1_meanLooks_0 5 rfl rfl)
theorem dX1_meanLooks_6 : decode cX1_meanLooks 6 = .ok (.aload_n 2, 1) := dk_44 (dk_at dksX1_meanLooks_0 6 rfl rfl)
theorem dX1_meanLooks_7 : decode cX1_meanLooks 7 = .ok (.getfield 191, 3) := dk_180 0 191 (dk_at dksX1_meanLooks_0 7 rfl rfl)
theorem dX1_meanLooks_10 : decode cX1_meanLooks 10 = .ok (.ifCond .le 7, 3) := dk_158 0 7 (dk_at dksX1_meanLooks_0 10 rfl rfl)
theorem dX1_meanLooks_13 : decode cX1_meanLooks 13 = .ok (.iconst 1, 1) := dk_4 (dk_at dksX1_meanLooks_0 13 rfl rfl)
theorem dX1_meanLooks_14 : decode cX1_meanLooks 14 = .ok (.goto 4, 3) := dk_167 0 4 (dk_at dksX1_meanLooks_0 14 rfl rfl)
theorem dX1_meanLooks_17 : decode cX1_meanLooks 17 = .ok (.iconst 0, 1) := dk_3 (dk_at dksX1_meanLooks_0 17 rfl rfl)
theorem dX1_meanLooks_18 : decode cX1_meanLooks 18 = .ok (.invokestatic 222, 3) := dk_184 0 222 (dk_at dksX1_meanLooks_0 18 rfl rfl)
theorem dX1_meanLooks_21 : decode cX1_meanLooks 21 = .ok (.iconst 0, 1) := dk_3 (dk_at dksX1_meanLooks_0 21 rfl rfl)
theorem dX1_meanLooks_22 : decode cX1_meanLooks 22 = .ok (.istore_n 3, 1) := dk_62 (dk_at dksX1_meanLooks_0 22 rfl rfl)
theorem dX1_meanLooks_23 : decode cX1_meanLooks 23 = .ok (.aload_n 2, 1) := dk_44 (dk_at dksX1_meanLooks_0 23 rfl rfl)
theorem dX1_meanLooks_24 : decode cX1_meanLooks 24 = .ok (.getfield 247, 3) := dk_180 0 247 (dk_at dksX1_meanLooks_1 0 rfl rfl)
theorem dX1_meanLooks_27 : decode cX1_meanLooks 27 = .ok (.iconst 1, 1) := dk_4 (dk_at dksX1_meanLooks_1 3 rfl rfl)
theorem dX1_meanLooks_28 : decode cX1_meanLooks 28 = .ok (.invokevirtual 251, 3) := dk_182 0 251 (dk_at dksX1_meanLooks_1 4 rfl rfl)
theorem dX1_meanLooks_31 : decode cX1_meanLooks 31 = .ok (.astore 4, 2) := dk_58 4 (dk_at dksX1_meanLooks_1 7 rfl rfl)
theorem dX1_meanLooks_33 : decode cX1_meanLooks 33 = .ok (.aload 4, 2) := dk_25 4 (dk_at dksX1_meanLooks_1 9 rfl rfl)
theorem dX1_meanLooks_35 : decode cX1_meanLooks 35 = .ok (.ifnull 29, 3) := dk_198 0 29 (dk_at dksX1_meanLooks_1 11 rfl rfl)
theorem dX1_meanLooks_38 : decode cX1_meanLooks 38 = .ok (.iload_n 3, 1) := dk_29 (dk_at dksX1_meanLooks_1 14 rfl rfl)
theorem dX1_meanLooks_39 : decode cX1_meanLooks 39 = .ok (.aload_n 2, 1) := dk_44 (dk_at dksX1_meanLooks_1 15 rfl rfl)
theorem dX1_meanLooks_40 : decode cX1_meanLooks 40 = .ok (.aload 4, 2) := dk_25 4 (dk_at dksX1_meanLooks_1 16 rfl rfl)
theorem dX1_meanLooks_42 : decode cX1_meanLooks 42 = .ok (.getfield 203, 3) := dk_180 0 203 (dk_at dksX1_meanLooks_1 18 rfl rfl)
theorem dX1_meanLooks_45 : decode cX1_meanLooks 45 = .ok (.invokevirtual 273, 3) := dk_182 1 17 (dk_at dksX1_meanLooks_1 21 rfl rfl)
theorem dX1_meanLooks_48 : decode cX1_meanLooks 48 = .ok (.getfield 282, 3) := dk_180 1 26 (dk_at dksX1_meanLooks_2 0 rfl rfl)
theorem dX1_meanLooks_51 : decode cX1_meanLooks 51 = .ok (.iadd, 1) := dk_96 (dk_at dksX1_meanLooks_2 3 rfl rfl)
theorem dX1_meanLooks_52 : decode cX1_meanLooks 52 = .ok (.istore_n 3, 1) := dk_62 (dk_at dksX1_meanLooks_2 4 rfl rfl)
theorem dX1_meanLooks_53 : decode cX1_meanLooks 53 = .ok (.aload 4, 2) := dk_25 4 (dk_at dksX1_meanLooks_2 5 rfl rfl)
theorem dX1_meanLooks_55 : decode cX1_meanLooks 55 = .ok (.iconst 1, 1) := dk_4 (dk_at dksX1_meanLooks_2 7 rfl rfl)
theorem dX1_meanLooks_56 : decode cX1_meanLooks 56 = .ok (.invokevirtual 251, 3) := dk_182 0 251 (dk_at dksX1_meanLooks_2 8 rfl rfl)
theorem dX1_meanLooks_59 : decode cX1_meanLooks 59 = .ok (.astore 4, 2) := dk_58 4 (dk_at dksX1_meanLooks_2 11 rfl rfl)
theorem dX1_meanLooks_61 : decode cX1_meanLooks 61 = .ok (.goto (-28), 3) := dk_167 255 228 (dk_at dksX1_meanLooks_2 13 rfl rfl)
theorem dX1_meanLooks_64 : decode cX1_meanLooks 64 = .ok (.iload_n 3, 1) := dk_29 (dk_at dksX1_meanLooks_2 16 rfl rfl)
theorem dX1_meanLooks_65 : decode cX1_meanLooks 65 = .ok (.i2d, 1) := dk_135 (dk_at dksX1_meanLooks_2 17 rfl rfl)
theorem dX1_meanLooks_66 : decode cX1_meanLooks 66 = .ok (.aload_n 2, 1) := dk_44 (dk_at dksX1_meanLooks_2 18 rfl rfl)
theorem dX1_meanLooks_67 : decode cX1_meanLooks 67 = .ok (.getfield 191, 3) := dk_180 0 191 (dk_at dksX1_meanLooks_2 19 rfl rfl)
theorem dX1_meanLooks_70 : decode cX1_meanLooks 70 = .ok (.i2d, 1) := dk_135 (dk_at dksX1_meanLooks_2 22 rfl rfl)
theorem dX1_meanLooks_71 : decode cX1_meanLooks 71 = .ok (.ddiv, 1) := dk_111 (dk_at dksX1_meanLooks_2 23 rfl rfl)
theorem dX1_meanLooks_72 : decode cX1_meanLooks 72 = .ok (.dreturn, 1) := dk_175 (dk_at dksX1_meanLooks_3 0 rfl rfl)
abbrev cX1_heightIfInserted : ByteArray := prog_1_method_47_code
def yX1_heightIfInserted : MethodName := ⟨RX1, "heightIfInserted", "(II)I"⟩
def dkwX1_heightIfInserted_2 : List UInt8 := [25, 4, 182, 0, 192, 172]
abbrev dktX1_heightIfInserted_2 : List UInt8 := dkwX1_heightIfInserted_2 ++ []
def dkwX1_heightIfInserted_1 : List UInt8 := [182, 1, 61, 54, 5, 25, 4, 42, 180, 0, 96, 180, 0, 176, 187, 0, 76, 89, 183, 1, 64, 184, 1, 65]
abbrev dktX1_heightIfInserted_1 : List UInt8 := dkwX1_heightIfInserted_1 ++ dktX1_heightIfInserted_2
def dkwX1_heightIfInserted_0 : List UInt8 := [42, 27, 28, 182, 0, 229, 78, 42, 45, 28, 182, 1, 53, 45, 182, 1, 57, 58, 4, 25, 4, 28, 3]
abbrev dktX1_heightIfInserted_0 : List UInt8 := dkwX1_heightIfInserted_0 ++ dktX1_heightIfInserted_1
theorem dksX1_heightIfInserted_0 : cX1_heightIfInserted.data.toList.drop 0 = dktX1_heightIfInserted_0 := by decide +kernel
theorem dksX1_heightIfInserted_1 : cX1_heightIfInserted.data.toList.drop 23 = dktX1_heightIfInserted_1 := dk_seg dksX1_heightIfInserted_0 23 rfl rfl
theorem dksX1_heightIfInserted_2 : cX1_heightIfInserted.data.toList.drop 47 = dktX1_heightIfInserted_2 := dk_seg dksX1_heightIfInserted_1 24 rfl rfl
theorem dX1_heightIfInserted_0 : decode cX1_heightIfInserted 0 = .ok (.aload_n 0, 1) := dk_42 (dk_at dksX1_heightIfInserted_0 0 rfl rfl)
theorem dX1_heightIfInserted_1 : decode cX1_heightIfInserted 1 = .ok (.iload_n 1, 1) := dk_27 (dk_at dksX1_heightIfInserted_0 1 rfl rfl)
theorem dX1_heightIfInserted_2 : decode cX1_heightIfInserted 2 = .ok (.iload_n 2, 1) := dk_28 (dk_at dksX1_heightIfInserted_0 2 rfl rfl)
theorem dX1_heightIfInserted_3 : decode cX1_heightIfInserted 3 = .ok (.invokevirtual 229, 3) := dk_182 0 229 (dk_at dksX1_heightIfInserted_0 3 rfl rfl)
theorem dX1_heightIfInserted_6 : decode cX1_heightIfInserted 6 = .ok (.astore_n 3, 1) := dk_78 (dk_at dksX1_heightIfInserted_0 6 rfl rfl)
theorem dX1_heightIfInserted_7 : decode cX1_heightIfInserted 7 = .ok (.aload_n 0, 1) := dk_42 (dk_at dksX1_heightIfInserted_0 7 rfl rfl)
theorem dX1_heightIfInserted_8 : decode cX1_heightIfInserted 8 = .ok (.aload_n 3, 1) := dk_45 (dk_at dksX1_heightIfInserted_0 8 rfl rfl)
theorem dX1_heightIfInserted_9 : decode cX1_heightIfInserted 9 = .ok (.iload_n 2, 1) := dk_28 (dk_at dksX1_heightIfInserted_0 9 rfl rfl)
theorem dX1_heightIfInserted_10 : decode cX1_heightIfInserted 10 = .ok (.invokevirtual 309, 3) := dk_182 1 53 (dk_at dksX1_heightIfInserted_0 10 rfl rfl)
theorem dX1_heightIfInserted_13 : decode cX1_heightIfInserted 13 = .ok (.aload_n 3, 1) := dk_45 (dk_at dksX1_heightIfInserted_0 13 rfl rfl)
theorem dX1_heightIfInserted_14 : decode cX1_heightIfInserted 14 = .ok (.invokevirtual 313, 3) := dk_182 1 57 (dk_at dksX1_heightIfInserted_0 14 rfl rfl)
theorem dX1_heightIfInserted_17 : decode cX1_heightIfInserted 17 = .ok (.astore 4, 2) := dk_58 4 (dk_at dksX1_heightIfInserted_0 17 rfl rfl)
theorem dX1_heightIfInserted_19 : decode cX1_heightIfInserted 19 = .ok (.aload 4, 2) := dk_25 4 (dk_at dksX1_heightIfInserted_0 19 rfl rfl)
theorem dX1_heightIfInserted_21 : decode cX1_heightIfInserted 21 = .ok (.iload_n 2, 1) := dk_28 (dk_at dksX1_heightIfInserted_0 21 rfl rfl)
theorem dX1_heightIfInserted_22 : decode cX1_heightIfInserted 22 = .ok (.iconst 0, 1) := dk_3 (dk_at dksX1_heightIfInserted_0 22 rfl rfl)
theorem dX1_heightIfInserted_23 : decode cX1_heightIfInserted 23 = .ok (.invokevirtual 317, 3) := dk_182 1 61 (dk_at dksX1_heightIfInserted_1 0 rfl rfl)
theorem dX1_heightIfInserted_26 : decode cX1_heightIfInserted 26 = .ok (.istore 5, 2) := dk_54 5 (dk_at dksX1_heightIfInserted_1 3 rfl rfl)
theorem dX1_heightIfInserted_28 : decode cX1_heightIfInserted 28 = .ok (.aload 4, 2) := dk_25 4 (dk_at dksX1_heightIfInserted_1 5 rfl rfl)
theorem dX1_heightIfInserted_30 : decode cX1_heightIfInserted 30 = .ok (.aload_n 0, 1) := dk_42 (dk_at dksX1_heightIfInserted_1 7 rfl rfl)
theorem dX1_heightIfInserted_31 : decode cX1_heightIfInserted 31 = .ok (.getfield 96, 3) := dk_180 0 96 (dk_at dksX1_heightIfInserted_1 8 rfl rfl)
theorem dX1_heightIfInserted_34 : decode cX1_heightIfInserted 34 = .ok (.getfield 176, 3) := dk_180 0 176 (dk_at dksX1_heightIfInserted_1 11 rfl rfl)
theorem dX1_heightIfInserted_37 : decode cX1_heightIfInserted 37 = .ok (.new 76, 3) := dk_187 0 76 (dk_at dksX1_heightIfInserted_1 14 rfl rfl)
theorem dX1_heightIfInserted_40 : decode cX1_heightIfInserted 40 = .ok (.dup, 1) := dk_89 (dk_at dksX1_heightIfInserted_1 17 rfl rfl)
theorem dX1_heightIfInserted_41 : decode cX1_heightIfInserted 41 = .ok (.invokespecial 320, 3) := dk_183 1 64 (dk_at dksX1_heightIfInserted_1 18 rfl rfl)
theorem dX1_heightIfInserted_44 : decode cX1_heightIfInserted 44 = .ok (.invokestatic 321, 3) := dk_184 1 65 (dk_at dksX1_heightIfInserted_1 21 rfl rfl)
theorem dX1_heightIfInserted_47 : decode cX1_heightIfInserted 47 = .ok (.aload 4, 2) := dk_25 4 (dk_at dksX1_heightIfInserted_2 0 rfl rfl)
theorem dX1_heightIfInserted_49 : decode cX1_heightIfInserted 49 = .ok (.invokevirtual 192, 3) := dk_182 0 192 (dk_at dksX1_heightIfInserted_2 2 rfl rfl)
theorem dX1_heightIfInserted_52 : decode cX1_heightIfInserted 52 = .ok (.ireturn, 1) := dk_172 (dk_at dksX1_heightIfInserted_2 5 rfl rfl)
abbrev cX1_checkInsert : ByteArray := prog_1_method_46_code
def yX1_checkInsert : MethodName := ⟨RX1, "checkInsert", "(LCountedSkipLists$SkipList;I)V"⟩
def dkwX1_checkInsert_1 : List UInt8 := [3, 184, 0, 114, 177]
abbrev dktX1_checkInsert_1 : List UInt8 := dkwX1_checkInsert_1 ++ []
def dkwX1_checkInsert_0 : List UInt8 := [43, 180, 0, 191, 16, 60, 162, 0, 18, 43, 28, 182, 0, 213, 182, 0, 217, 154, 0, 7, 4, 167, 0, 4]
abbrev dktX1_checkInsert_0 : List UInt8 := dkwX1_checkInsert_0 ++ dktX1_checkInsert_1
theorem dksX1_checkInsert_0 : cX1_checkInsert.data.toList.drop 0 = dktX1_checkInsert_0 := by decide +kernel
theorem dksX1_checkInsert_1 : cX1_checkInsert.data.toList.drop 24 = dktX1_checkInsert_1 := dk_seg dksX1_checkInsert_0 24 rfl rfl
theorem dX1_checkInsert_0 : decode cX1_checkInsert 0 = .ok (.aload_n 1, 1) := dk_43 (dk_at dksX1_checkInsert_0 0 rfl rfl)
theorem dX1_checkInsert_1 : decode cX1_checkInsert 1 = .ok (.getfield 191, 3) := dk_180 0 191 (dk_at dksX1_checkInsert_0 1 rfl rfl)
theorem dX1_checkInsert_4 : decode cX1_checkInsert 4 = .ok (.bipush 60, 2) := dk_16 60 (dk_at dksX1_checkInsert_0 4 rfl rfl)
theorem dX1_checkInsert_6 : decode cX1_checkInsert 6 = .ok (.if_icmp .ge 18, 3) := dk_162 0 18 (dk_at dksX1_checkInsert_0 6 rfl rfl)
theorem dX1_checkInsert_9 : decode cX1_checkInsert 9 = .ok (.aload_n 1, 1) := dk_43 (dk_at dksX1_checkInsert_0 9 rfl rfl)
theorem dX1_checkInsert_10 : decode cX1_checkInsert 10 = .ok (.iload_n 2, 1) := dk_28 (dk_at dksX1_checkInsert_0 10 rfl rfl)
theorem dX1_checkInsert_11 : decode cX1_checkInsert 11 = .ok (.invokevirtual 213, 3) := dk_182 0 213 (dk_at dksX1_checkInsert_0 11 rfl rfl)
theorem dX1_checkInsert_14 : decode cX1_checkInsert 14 = .ok (.invokevirtual 217, 3) := dk_182 0 217 (dk_at dksX1_checkInsert_0 14 rfl rfl)
theorem dX1_checkInsert_17 : decode cX1_checkInsert 17 = .ok (.ifCond .ne 7, 3) := dk_154 0 7 (dk_at dksX1_checkInsert_0 17 rfl rfl)
theorem dX1_checkInsert_20 : decode cX1_checkInsert 20 = .ok (.iconst 1, 1) := dk_4 (dk_at dksX1_checkInsert_0 20 rfl rfl)
theorem dX1_checkInsert_21 : decode cX1_checkInsert 21 = .ok (.goto 4, 3) := dk_167 0 4 (dk_at dksX1_checkInsert_0 21 rfl rfl)
theorem dX1_checkInsert_24 : decode cX1_checkInsert 24 = .ok (.iconst 0, 1) := dk_3 (dk_at dksX1_checkInsert_1 0 rfl rfl)
theorem dX1_checkInsert_25 : decode cX1_checkInsert 25 = .ok (.invokestatic 114, 3) := dk_184 0 114 (dk_at dksX1_checkInsert_1 1 rfl rfl)
theorem dX1_checkInsert_28 : decode cX1_checkInsert 28 = .ok (.return_, 1) := dk_177 (dk_at dksX1_checkInsert_1 4 rfl rfl)
abbrev cX1_repairsIfRemoved : ByteArray := prog_1_method_48_code
def yX1_repairsIfRemoved : MethodName := ⟨RX1, "repairsIfRemoved", "(II)I"⟩
def dkwX1_repairsIfRemoved_2 : List UInt8 := [172]
abbrev dktX1_repairsIfRemoved_2 : List UInt8 := dkwX1_repairsIfRemoved_2 ++ []
def dkwX1_repairsIfRemoved_1 : List UInt8 := [184, 0, 232, 182, 1, 69, 45, 42, 180, 0, 96, 180, 0, 176, 25, 4, 184, 1, 65, 25, 4, 182, 1, 73]
abbrev dktX1_repairsIfRemoved_1 : List UInt8 := dkwX1_repairsIfRemoved_1 ++ dktX1_repairsIfRemoved_2
def dkwX1_repairsIfRemoved_0 : List UInt8 := [42, 27, 28, 182, 0, 229, 182, 1, 57, 78, 187, 0, 76, 89, 183, 1, 64, 58, 4, 45, 45, 28]
abbrev dktX1_repairsIfRemoved_0 : List UInt8 := dkwX1_repairsIfRemoved_0 ++ dktX1_repairsIfRemoved_1
theorem dksX1_repairsIfRemoved_0 : cX1_repairsIfRemoved.data.toList.drop 0 = dktX1_repairsIfRemoved_0 := by decide +kernel
theorem dksX1_repairsIfRemoved_1 : cX1_repairsIfRemoved.data.toList.drop 22 = dktX1_repairsIfRemoved_1 := dk_seg dksX1_repairsIfRemoved_0 22 rfl rfl
theorem dksX1_repairsIfRemoved_2 : cX1_repairsIfRemoved.data.toList.drop 46 = dktX1_repairsIfRemoved_2 := dk_seg dksX1_repairsIfRemoved_1 24 rfl rfl
theorem dX1_repairsIfRemoved_0 : decode cX1_repairsIfRemoved 0 = .ok (.aload_n 0, 1) := dk_42 (dk_at dksX1_repairsIfRemoved_0 0 rfl rfl)
theorem dX1_repairsIfRemoved_1 : decode cX1_repairsIfRemoved 1 = .ok (.iload_n 1, 1) := dk_27 (dk_at dksX1_repairsIfRemoved_0 1 rfl rfl)
theorem dX1_repairsIfRemoved_2 : decode cX1_repairsIfRemoved 2 = .ok (.iload_n 2, 1) := dk_28 (dk_at dksX1_repairsIfRemoved_0 2 rfl rfl)
theorem dX1_repairsIfRemoved_3 : decode cX1_repairsIfRemoved 3 = .ok (.invokevirtual 229, 3) := dk_182 0 229 (dk_at dksX1_repairsIfRemoved_0 3 rfl rfl)
theorem dX1_repairsIfRemoved_6 : decode cX1_repairsIfRemoved 6 = .ok (.invokevirtual 313, 3) := dk_182 1 57 (dk_at dksX1_repairsIfRemoved_0 6 rfl rfl)
theorem dX1_repairsIfRemoved_9 : decode cX1_repairsIfRemoved 9 = .ok (.astore_n 3, 1) := dk_78 (dk_at dksX1_repairsIfRemoved_0 9 rfl rfl)
theorem dX1_repairsIfRemoved_10 : decode cX1_repairsIfRemoved 10 = .ok (.new 76, 3) := dk_187 0 76 (dk_at dksX1_repairsIfRemoved_0 10 rfl rfl)
theorem dX1_repairsIfRemoved_13 : decode cX1_repairsIfRemoved 13 = .ok (.dup, 1) := dk_89 (dk_at dksX1_repairsIfRemoved_0 13 rfl rfl)
theorem dX1_repairsIfRemoved_14 : decode cX1_repairsIfRemoved 14 = .ok (.invokespecial 320, 3) := dk_183 1 64 (dk_at dksX1_repairsIfRemoved_0 14 rfl rfl)
theorem dX1_repairsIfRemoved_17 : decode cX1_repairsIfRemoved 17 = .ok (.astore 4, 2) := dk_58 4 (dk_at dksX1_repairsIfRemoved_0 17 rfl rfl)
theorem dX1_repairsIfRemoved_19 : decode cX1_repairsIfRemoved 19 = .ok (.aload_n 3, 1) := dk_45 (dk_at dksX1_repairsIfRemoved_0 19 rfl rfl)
theorem dX1_repairsIfRemoved_20 : decode cX1_repairsIfRemoved 20 = .ok (.aload_n 3, 1) := dk_45 (dk_at dksX1_repairsIfRemoved_0 20 rfl rfl)
theorem dX1_repairsIfRemoved_21 : decode cX1_repairsIfRemoved 21 = .ok (.iload_n 2, 1) := dk_28 (dk_at dksX1_repairsIfRemoved_0 21 rfl rfl)
theorem dX1_repairsIfRemoved_22 : decode cX1_repairsIfRemoved 22 = .ok (.invokestatic 232, 3) := dk_184 0 232 (dk_at dksX1_repairsIfRemoved_1 0 rfl rfl)
theorem dX1_repairsIfRemoved_25 : decode cX1_repairsIfRemoved 25 = .ok (.invokevirtual 325, 3) := dk_182 1 69 (dk_at dksX1_repairsIfRemoved_1 3 rfl rfl)
theorem dX1_repairsIfRemoved_28 : decode cX1_repairsIfRemoved 28 = .ok (.aload_n 3, 1) := dk_45 (dk_at dksX1_repairsIfRemoved_1 6 rfl rfl)
theorem dX1_repairsIfRemoved_29 : decode cX1_repairsIfRemoved 29 = .ok (.aload_n 0, 1) := dk_42 (dk_at dksX1_repairsIfRemoved_1 7 rfl rfl)
theorem dX1_repairsIfRemoved_30 : decode cX1_repairsIfRemoved 30 = .ok (.getfield 96, 3) := dk_180 0 96 (dk_at dksX1_repairsIfRemoved_1 8 rfl rfl)
theorem dX1_repairsIfRemoved_33 : decode cX1_repairsIfRemoved 33 = .ok (.getfield 176, 3) := dk_180 0 176 (dk_at dksX1_repairsIfRemoved_1 11 rfl rfl)
theorem dX1_repairsIfRemoved_36 : decode cX1_repairsIfRemoved 36 = .ok (.aload 4, 2) := dk_25 4 (dk_at dksX1_repairsIfRemoved_1 14 rfl rfl)
theorem dX1_repairsIfRemoved_38 : decode cX1_repairsIfRemoved 38 = .ok (.invokestatic 321, 3) := dk_184 1 65 (dk_at dksX1_repairsIfRemoved_1 16 rfl rfl)
theorem dX1_repairsIfRemoved_41 : decode cX1_repairsIfRemoved 41 = .ok (.aload 4, 2) := dk_25 4 (dk_at dksX1_repairsIfRemoved_1 19 rfl rfl)
theorem dX1_repairsIfRemoved_43 : decode cX1_repairsIfRemoved 43 = .ok (.invokevirtual 329, 3) := dk_182 1 73 (dk_at dksX1_repairsIfRemoved_1 21 rfl rfl)
theorem dX1_repairsIfRemoved_46 : decode cX1_repairsIfRemoved 46 = .ok (.ireturn, 1) := dk_172 (dk_at dksX1_repairsIfRemoved_2 0 rfl rfl)
abbrev cX1_repairsIfLimit : ByteArray := prog_1_method_49_code
def yX1_repairsIfLimit : MethodName := ⟨RX1, "repairsIfLimit", "(I)I"⟩
def dkwX1_repairsIfLimit_3 : List UInt8 := [182, 1, 73, 172]
abbrev dktX1_repairsIfLimit_3 : List UInt8 := dkwX1_repairsIfLimit_3 ++ []
def dkwX1_repairsIfLimit_2 : List UInt8 := [25, 6, 198, 0, 13, 25, 6, 182, 1, 57, 27, 44, 184, 1, 65, 132, 5, 1, 167, 255, 225, 44]
abbrev dktX1_repairsIfLimit_2 : List UInt8 := dkwX1_repairsIfLimit_2 ++ dktX1_repairsIfLimit_3
def dkwX1_repairsIfLimit_1 : List UInt8 := [180, 0, 163, 78, 45, 190, 54, 4, 3, 54, 5, 21, 5, 21, 4, 162, 0, 30, 45, 21, 5, 50, 58, 6]
abbrev dktX1_repairsIfLimit_1 : List UInt8 := dkwX1_repairsIfLimit_1 ++ dktX1_repairsIfLimit_2
def dkwX1_repairsIfLimit_0 : List UInt8 := [27, 5, 16, 7, 184, 0, 18, 184, 0, 22, 187, 0, 76, 89, 183, 1, 64, 77, 42, 180, 0, 96]
abbrev dktX1_repairsIfLimit_0 : List UInt8 := dkwX1_repairsIfLimit_0 ++ dktX1_repairsIfLimit_1
theorem dksX1_repairsIfLimit_0 : cX1_repairsIfLimit.data.toList.drop 0 = dktX1_repairsIfLimit_0 := by decide +kernel
theorem dksX1_repairsIfLimit_1 : cX1_repairsIfLimit.data.toList.drop 22 = dktX1_repairsIfLimit_1 := dk_seg dksX1_repairsIfLimit_0 22 rfl rfl
theorem dksX1_repairsIfLimit_2 : cX1_repairsIfLimit.data.toList.drop 46 = dktX1_repairsIfLimit_2 := dk_seg dksX1_repairsIfLimit_1 24 rfl rfl
theorem dksX1_repairsIfLimit_3 : cX1_repairsIfLimit.data.toList.drop 68 = dktX1_repairsIfLimit_3 := dk_seg dksX1_repairsIfLimit_2 22 rfl rfl
theorem dX1_repairsIfLimit_0 : decode cX1_repairsIfLimit 0 = .ok (.iload_n 1, 1) := dk_27 (dk_at dksX1_repairsIfLimit_0 0 rfl rfl)
theorem dX1_repairsIfLimit_1 : decode cX1_repairsIfLimit 1 = .ok (.iconst 2, 1) := dk_5 (dk_at dksX1_repairsIfLimit_0 1 rfl rfl)
theorem dX1_repairsIfLimit_2 : decode cX1_repairsIfLimit 2 = .ok (.bipush 7, 2) := dk_16 7 (dk_at dksX1_repairsIfLimit_0 2 rfl rfl)
theorem dX1_repairsIfLimit_4 : decode cX1_repairsIfLimit 4 = .ok (.invokestatic 18, 3) := dk_184 0 18 (dk_at dksX1_repairsIfLimit_0 4 rfl rfl)
theorem dX1_repairsIfLimit_7 : decode cX1_repairsIfLimit 7 = .ok (.invokestatic 22, 3) := dk_184 0 22 (dk_at dksX1_repairsIfLimit_0 7 rfl rfl)
theorem dX1_repairsIfLimit_10 : decode cX1_repairsIfLimit 10 = .ok (.new 76, 3) := dk_187 0 76 (dk_at dksX1_repairsIfLimit_0 10 rfl rfl)
theorem dX1_repairsIfLimit_13 : decode cX1_repairsIfLimit 13 = .ok (.dup, 1) := dk_89 (dk_at dksX1_repairsIfLimit_0 13 rfl rfl)
theorem dX1_repairsIfLimit_14 : decode cX1_repairsIfLimit 14 = .ok (.invokespecial 320, 3) := dk_183 1 64 (dk_at dksX1_repairsIfLimit_0 14 rfl rfl)
theorem dX1_repairsIfLimit_17 : decode cX1_repairsIfLimit 17 = .ok (.astore_n 2, 1) := dk_77 (dk_at dksX1_repairsIfLimit_0 17 rfl rfl)
theorem dX1_repairsIfLimit_18 : decode cX1_repairsIfLimit 18 = .ok (.aload_n 0, 1) := dk_42 (dk_at dksX1_repairsIfLimit_0 18 rfl rfl)
theorem dX1_repairsIfLimit_19 : decode cX1_repairsIfLimit 19 = .ok (.getfield 96, 3) := dk_180 0 96 (dk_at dksX1_repairsIfLimit_0 19 rfl rfl)
theorem dX1_repairsIfLimit_22 : decode cX1_repairsIfLimit 22 = .ok (.getfield 163, 3) := dk_180 0 163 (dk_at dksX1_repairsIfLimit_1 0 rfl rfl)
theorem dX1_repairsIfLimit_25 : decode cX1_repairsIfLimit 25 = .ok (.astore_n 3, 1) := dk_78 (dk_at dksX1_repairsIfLimit_1 3 rfl rfl)
theorem dX1_repairsIfLimit_26 : decode cX1_repairsIfLimit 26 = .ok (.aload_n 3, 1) := dk_45 (dk_at dksX1_repairsIfLimit_1 4 rfl rfl)
theorem dX1_repairsIfLimit_27 : decode cX1_repairsIfLimit 27 = .ok (.arraylength, 1) := dk_190 (dk_at dksX1_repairsIfLimit_1 5 rfl rfl)
theorem dX1_repairsIfLimit_28 : decode cX1_repairsIfLimit 28 = .ok (.istore 4, 2) := dk_54 4 (dk_at dksX1_repairsIfLimit_1 6 rfl rfl)
theorem dX1_repairsIfLimit_30 : decode cX1_repairsIfLimit 30 = .ok (.iconst 0, 1) := dk_3 (dk_at dksX1_repairsIfLimit_1 8 rfl rfl)
theorem dX1_repairsIfLimit_31 : decode cX1_repairsIfLimit 31 = .ok (.istore 5, 2) := dk_54 5 (dk_at dksX1_repairsIfLimit_1 9 rfl rfl)
theorem dX1_repairsIfLimit_33 : decode cX1_repairsIfLimit 33 = .ok (.iload 5, 2) := dk_21 5 (dk_at dksX1_repairsIfLimit_1 11 rfl rfl)
theorem dX1_repairsIfLimit_35 : decode cX1_repairsIfLimit 35 = .ok (.iload 4, 2) := dk_21 4 (dk_at dksX1_repairsIfLimit_1 13 rfl rfl)
theorem dX1_repairsIfLimit_37 : decode cX1_repairsIfLimit 37 = .ok (.if_icmp .ge 30, 3) := dk_162 0 30 (dk_at dksX1_repairsIfLimit_1 15 rfl rfl)
theorem dX1_repairsIfLimit_40 : decode cX1_repairsIfLimit 40 = .ok (.aload_n 3, 1) := dk_45 (dk_at dksX1_repairsIfLimit_1 18 rfl rfl)
theorem dX1_repairsIfLimit_41 : decode cX1_repairsIfLimit 41 = .ok (.iload 5, 2) := dk_21 5 (dk_at dksX1_repairsIfLimit_1 19 rfl rfl)
theorem dX1_repairsIfLimit_43 : decode cX1_repairsIfLimit 43 = .ok (.aaload, 1) := dk_50 (dk_at dksX1_repairsIfLimit_1 21 rfl rfl)
theorem dX1_repairsIfLimit_44 : decode cX1_repairsIfLimit 44 = .ok (.astore 6, 2) := dk_58 6 (dk_at dksX1_repairsIfLimit_1 22 rfl rfl)
theorem dX1_repairsIfLimit_46 : decode cX1_repairsIfLimit 46 = .ok (.aload 6, 2) := dk_25 6 (dk_at dksX1_repairsIfLimit_2 0 rfl rfl)
theorem dX1_repairsIfLimit_48 : decode cX1_repairsIfLimit 48 = .ok (.ifnull 13, 3) := dk_198 0 13 (dk_at dksX1_repairsIfLimit_2 2 rfl rfl)
theorem dX1_repairsIfLimit_51 : decode cX1_repairsIfLimit 51 = .ok (.aload 6, 2) := dk_25 6 (dk_at dksX1_repairsIfLimit_2 5 rfl rfl)
theorem dX1_repairsIfLimit_53 : decode cX1_repairsIfLimit 53 = .ok (.invokevirtual 313, 3) := dk_182 1 57 (dk_at dksX1_repairsIfLimit_2 7 rfl rfl)
theorem dX1_repairsIfLimit_56 : decode cX1_repairsIfLimit 56 = .ok (.iload_n 1, 1) := dk_27 (dk_at dksX1_repairsIfLimit_2 10 rfl rfl)
theorem dX1_repairsIfLimit_57 : decode cX1_repairsIfLimit 57 = .ok (.aload_n 2, 1) := dk_44 (dk_at dksX1_repairsIfLimit_2 11 rfl rfl)
theorem dX1_repairsIfLimit_58 : decode cX1_repairsIfLimit 58 = .ok (.invokestatic 321, 3) := dk_184 1 65 (dk_at dksX1_repairsIfLimit_2 12 rfl rfl)
theorem dX1_repairsIfLimit_61 : decode cX1_repairsIfLimit 61 = .ok (.iinc 5 1, 3) := dk_132 5 1 (dk_at dksX1_repairsIfLimit_2 15 rfl rfl)
theorem dX1_repairsIfLimit_64 : decode cX1_repairsIfLimit 64 = .ok (.goto (-31), 3) := dk_167 255 225 (dk_at dksX1_repairsIfLimit_2 18 rfl rfl)
theorem dX1_repairsIfLimit_67 : decode cX1_repairsIfLimit 67 = .ok (.aload_n 2, 1) := dk_44 (dk_at dksX1_repairsIfLimit_2 21 rfl rfl)
theorem dX1_repairsIfLimit_68 : decode cX1_repairsIfLimit 68 = .ok (.invokevirtual 329, 3) := dk_182 1 73 (dk_at dksX1_repairsIfLimit_3 0 rfl rfl)
theorem dX1_repairsIfLimit_71 : decode cX1_repairsIfLimit 71 = .ok (.ireturn, 1) := dk_172 (dk_at dksX1_repairsIfLimit_3 3 rfl rfl)
abbrev cX1_whyNotJoin : ByteArray := prog_1_method_51_code
def yX1_whyNotJoin : MethodName := ⟨RX1, "whyNotJoin", "(II)I"⟩
def dkwX1_whyNotJoin_3 : List UInt8 := [182, 1, 75, 161, 0, 7, 6, 167, 0, 4, 3, 172]
abbrev dktX1_whyNotJoin_3 : List UInt8 := dkwX1_whyNotJoin_3 ++ []
def dkwX1_whyNotJoin_2 : List UInt8 := [25, 4, 180, 0, 191, 158, 0, 28, 42, 45, 45, 180, 0, 191, 4, 100, 182, 1, 75, 42, 25, 4, 3]
abbrev dktX1_whyNotJoin_2 : List UInt8 := dkwX1_whyNotJoin_2 ++ dktX1_whyNotJoin_3
def dkwX1_whyNotJoin_1 : List UInt8 := [180, 0, 191, 25, 4, 180, 0, 191, 96, 16, 60, 164, 0, 5, 5, 172, 45, 180, 0, 191, 158, 0, 36]
abbrev dktX1_whyNotJoin_1 : List UInt8 := dkwX1_whyNotJoin_1 ++ dktX1_whyNotJoin_2
def dkwX1_whyNotJoin_0 : List UInt8 := [42, 27, 182, 0, 183, 78, 42, 28, 182, 0, 183, 58, 4, 45, 25, 4, 166, 0, 5, 4, 172, 45]
abbrev dktX1_whyNotJoin_0 : List UInt8 := dkwX1_whyNotJoin_0 ++ dktX1_whyNotJoin_1
theorem dksX1_whyNotJoin_0 : cX1_whyNotJoin.data.toList.drop 0 = dktX1_whyNotJoin_0 := by decide +kernel
theorem dksX1_whyNotJoin_1 : cX1_whyNotJoin.data.toList.drop 22 = dktX1_whyNotJoin_1 := dk_seg dksX1_whyNotJoin_0 22 rfl rfl
theorem dksX1_whyNotJoin_2 : cX1_whyNotJoin.data.toList.drop 45 = dktX1_whyNotJoin_2 := dk_seg dksX1_whyNotJoin_1 23 rfl rfl
theorem dksX1_whyNotJoin_3 : cX1_whyNotJoin.data.toList.drop 68 = dktX1_whyNotJoin_3 := dk_seg dksX1_whyNotJoin_2 23 rfl rfl
theorem dX1_whyNotJoin_0 : decode cX1_whyNotJoin 0 = .ok (.aload_n 0, 1) := dk_42 (dk_at dksX1_whyNotJoin_0 0 rfl rfl)
theorem dX1_whyNotJoin_1 : decode cX1_whyNotJoin 1 = .ok (.iload_n 1, 1) := dk_27 (dk_at dksX1_whyNotJoin_0 1 rfl rfl)
theorem dX1_whyNotJoin_2 : decode cX1_whyNotJoin 2 = .ok (.invokevirtual 183, 3) := dk_182 0 183 (dk_at dksX1_whyNotJoin_0 2 rfl rfl)
theorem dX1_whyNotJoin_5 : decode cX1_whyNotJoin 5 = .ok (.astore_n 3, 1) := dk_78 (dk_at dksX1_whyNotJoin_0 5 rfl rfl)
theorem dX1_whyNotJoin_6 : decode cX1_whyNotJoin 6 = .ok (.aload_n 0, 1) := dk_42 (dk_at dksX1_whyNotJoin_0 6 rfl rfl)
theorem dX1_whyNotJoin_7 : decode cX1_whyNotJoin 7 = .ok (.iload_n 2, 1) := dk_28 (dk_at dksX1_whyNotJoin_0 7 rfl rfl)
theorem dX1_whyNotJoin_8 : decode cX1_whyNotJoin 8 = .ok (.invokevirtual 183, 3) := dk_182 0 183 (dk_at dksX1_whyNotJoin_0 8 rfl rfl)
theorem dX1_whyNotJoin_11 : decode cX1_whyNotJoin 11 = .ok (.astore 4, 2) := dk_58 4 (dk_at dksX1_whyNotJoin_0 11 rfl rfl)
theorem dX1_whyNotJoin_13 : decode cX1_whyNotJoin 13 = .ok (.aload_n 3, 1) := dk_45 (dk_at dksX1_whyNotJoin_0 13 rfl rfl)
theorem dX1_whyNotJoin_14 : decode cX1_whyNotJoin 14 = .ok (.aload 4, 2) := dk_25 4 (dk_at dksX1_whyNotJoin_0 14 rfl rfl)
theorem dX1_whyNotJoin_16 : decode cX1_whyNotJoin 16 = .ok (.if_acmp .ne 5, 3) := dk_166 0 5 (dk_at dksX1_whyNotJoin_0 16 rfl rfl)
theorem dX1_whyNotJoin_19 : decode cX1_whyNotJoin 19 = .ok (.iconst 1, 1) := dk_4 (dk_at dksX1_whyNotJoin_0 19 rfl rfl)
theorem dX1_whyNotJoin_20 : decode cX1_whyNotJoin 20 = .ok (.ireturn, 1) := dk_172 (dk_at dksX1_whyNotJoin_0 20 rfl rfl)
theorem dX1_whyNotJoin_21 : decode cX1_whyNotJoin 21 = .ok (.aload_n 3, 1) := dk_45 (dk_at dksX1_whyNotJoin_0 21 rfl rfl)
theorem dX1_whyNotJoin_22 : decode cX1_whyNotJoin 22 = .ok (.getfield 191, 3) := dk_180 0 191 (dk_at dksX1_whyNotJoin_1 0 rfl rfl)
theorem dX1_whyNotJoin_25 : decode cX1_whyNotJoin 25 = .ok (.aload 4, 2) := dk_25 4 (dk_at dksX1_whyNotJoin_1 3 rfl rfl)
theorem dX1_whyNotJoin_27 : decode cX1_whyNotJoin 27 = .ok (.getfield 191, 3) := dk_180 0 191 (dk_at dksX1_whyNotJoin_1 5 rfl rfl)
theorem dX1_whyNotJoin_30 : decode cX1_whyNotJoin 30 = .ok (.iadd, 1) := dk_96 (dk_at dksX1_whyNotJoin_1 8 rfl rfl)
theorem dX1_whyNotJoin_31 : decode cX1_whyNotJoin 31 = .ok (.bipush 60, 2) := dk_16 60 (dk_at dksX1_whyNotJoin_1 9 rfl rfl)
theorem dX1_whyNotJoin_33 : decode cX1_whyNotJoin 33 = .ok (.if_icmp .le 5, 3) := dk_164 0 5 (dk_at dksX1_whyNotJoin_1 11 rfl rfl)
theorem dX1_whyNotJoin_36 : decode cX1_whyNotJoin 36 = .ok (.iconst 2, 1) := dk_5 (dk_at dksX1_whyNotJoin_1 14 rfl rfl)
theorem dX1_whyNotJoin_37 : decode cX1_whyNotJoin 37 = .ok (.ireturn, 1) := dk_172 (dk_at dksX1_whyNotJoin_1 15 rfl rfl)
theorem dX1_whyNotJoin_38 : decode cX1_whyNotJoin 38 = .ok (.aload_n 3, 1) := dk_45 (dk_at dksX1_whyNotJoin_1 16 rfl rfl)
theorem dX1_whyNotJoin_39 : decode cX1_whyNotJoin 39 = .ok (.getfield 191, 3) := dk_180 0 191 (dk_at dksX1_whyNotJoin_1 17 rfl rfl)
theorem dX1_whyNotJoin_42 : decode cX1_whyNotJoin 42 = .ok (.ifCond .le 36, 3) := dk_158 0 36 (dk_at dksX1_whyNotJoin_1 20 rfl rfl)
theorem dX1_whyNotJoin_45 : decode cX1_whyNotJoin 45 = .ok (.aload 4, 2) := dk_25 4 (dk_at dksX1_whyNotJoin_2 0 rfl rfl)
theorem dX1_whyNotJoin_47 : decode cX1_whyNotJoin 47 = .ok (.getfield 191, 3) := dk_180 0 191 (dk_at dksX1_whyNotJoin_2 2 rfl rfl)
theorem dX1_whyNotJoin_50 : decode cX1_whyNotJoin 50 = .ok (.ifCond .le 28, 3) := dk_158 0 28 (dk_at dksX1_whyNotJoin_2 5 rfl rfl)
theorem dX1_whyNotJoin_53 : decode cX1_whyNotJoin 53 = .ok (.aload_n 0, 1) := dk_42 (dk_at dksX1_whyNotJoin_2 8 rfl rfl)
theorem dX1_whyNotJoin_54 : decode cX1_whyNotJoin 54 = .ok (.aload_n 3, 1) := dk_45 (dk_at dksX1_whyNotJoin_2 9 rfl rfl)
theorem dX1_whyNotJoin_55 : decode cX1_whyNotJoin 55 = .ok (.aload_n 3, 1) := dk_45 (dk_at dksX1_whyNotJoin_2 10 rfl rfl)
theorem dX1_whyNotJoin_56 : decode cX1_whyNotJoin 56 = .ok (.getfield 191, 3) := dk_180 0 191 (dk_at dksX1_whyNotJoin_2 11 rfl rfl)
theorem dX1_whyNotJoin_59 : decode cX1_whyNotJoin 59 = .ok (.iconst 1, 1) := dk_4 (dk_at dksX1_whyNotJoin_2 14 rfl rfl)
theorem dX1_whyNotJoin_60 : decode cX1_whyNotJoin 60 = .ok (.isub, 1) := dk_100 (dk_at dksX1_whyNotJoin_2 15 rfl rfl)
theorem dX1_whyNotJoin_61 : decode cX1_whyNotJoin 61 = .ok (.invokevirtual 331, 3) := dk_182 1 75 (dk_at dksX1_whyNotJoin_2 16 rfl rfl)
theorem dX1_whyNotJoin_64 : decode cX1_whyNotJoin 64 = .ok (.aload_n 0, 1) := dk_42 (dk_at dksX1_whyNotJoin_2 19 rfl rfl)
theorem dX1_whyNotJoin_65 : decode cX1_whyNotJoin 65 = .ok (.aload 4, 2) := dk_25 4 (dk_at dksX1_whyNotJoin_2 20 rfl rfl)
theorem dX1_whyNotJoin_67 : decode cX1_whyNotJoin 67 = .ok (.iconst 0, 1) := dk_3 (dk_at dksX1_whyNotJoin_2 22 rfl rfl)
theorem dX1_whyNotJoin_68 : decode cX1_whyNotJoin 68 = .ok (.invokevirtual 331, 3) := dk_182 1 75 (dk_at dksX1_whyNotJoin_3 0 rfl rfl)
theorem dX1_whyNotJoin_71 : decode cX1_whyNotJoin 71 = .ok (.if_icmp .lt 7, 3) := dk_161 0 7 (dk_at dksX1_whyNotJoin_3 3 rfl rfl)
theorem dX1_whyNotJoin_74 : decode cX1_whyNotJoin 74 = .ok (.iconst 3, 1) := dk_6 (dk_at dksX1_whyNotJoin_3 6 rfl rfl)
theorem dX1_whyNotJoin_75 : decode cX1_whyNotJoin 75 = .ok (.goto 4, 3) := dk_167 0 4 (dk_at dksX1_whyNotJoin_3 7 rfl rfl)
theorem dX1_whyNotJoin_78 : decode cX1_whyNotJoin 78 = .ok (.iconst 0, 1) := dk_3 (dk_at dksX1_whyNotJoin_3 10 rfl rfl)
theorem dX1_whyNotJoin_79 : decode cX1_whyNotJoin 79 = .ok (.ireturn, 1) := dk_172 (dk_at dksX1_whyNotJoin_3 11 rfl rfl)
abbrev cX1_keyOf : ByteArray := prog_1_method_50_code
def yX1_keyOf : MethodName := ⟨RX1, "keyOf", "(LCountedSkipLists$SkipList;I)I"⟩
def dkwX1_keyOf_0 : List UInt8 := [43, 28, 4, 188, 10, 182, 0, 195, 180, 0, 203, 172]
abbrev dktX1_keyOf_0 : List UInt8 := dkwX1_keyOf_0 ++ []
theorem dksX1_keyOf_0 : cX1_keyOf.data.toList.drop 0 = dktX1_keyOf_0 := by decide +kernel
theorem dX1_keyOf_0 : decode cX1_keyOf 0 = .ok (.aload_n 1, 1) := dk_43 (dk_at dksX1_keyOf_0 0 rfl rfl)
theorem dX1_keyOf_1 : decode cX1_keyOf 1 = .ok (.iload_n 2, 1) := dk_28 (dk_at dksX1_keyOf_0 1 rfl rfl)
theorem dX1_keyOf_2 : decode cX1_keyOf 2 = .ok (.iconst 1, 1) := dk_4 (dk_at dksX1_keyOf_0 2 rfl rfl)
theorem dX1_keyOf_3 : decode cX1_keyOf 3 = .ok (.newarray .int, 2) := dk_188_10 (dk_at dksX1_keyOf_0 3 rfl rfl)
theorem dX1_keyOf_5 : decode cX1_keyOf 5 = .ok (.invokevirtual 195, 3) := dk_182 0 195 (dk_at dksX1_keyOf_0 5 rfl rfl)
theorem dX1_keyOf_8 : decode cX1_keyOf 8 = .ok (.getfield 203, 3) := dk_180 0 203 (dk_at dksX1_keyOf_0 8 rfl rfl)
theorem dX1_keyOf_11 : decode cX1_keyOf 11 = .ok (.ireturn, 1) := dk_172 (dk_at dksX1_keyOf_0 11 rfl rfl)
abbrev cX1_whyNotAbsorb : ByteArray := prog_1_method_52_code
def yX1_whyNotAbsorb : MethodName := ⟨RX1, "whyNotAbsorb", "(II)I"⟩
def dkwX1_whyNotAbsorb_3 : List UInt8 := [153, 0, 5, 6, 172, 25, 5, 4, 182, 0, 251, 58, 5, 167, 255, 226, 3, 172]
abbrev dktX1_whyNotAbsorb_3 : List UInt8 := dkwX1_whyNotAbsorb_3 ++ []
def dkwX1_whyNotAbsorb_2 : List UInt8 := [182, 0, 251, 58, 5, 25, 5, 198, 0, 31, 45, 25, 5, 180, 0, 203, 182, 0, 213, 182, 0, 217]
abbrev dktX1_whyNotAbsorb_2 : List UInt8 := dkwX1_whyNotAbsorb_2 ++ dktX1_whyNotAbsorb_3
def dkwX1_whyNotAbsorb_1 : List UInt8 := [180, 0, 191, 25, 4, 180, 0, 191, 96, 16, 60, 164, 0, 5, 5, 172, 25, 4, 180, 0, 247, 4]
abbrev dktX1_whyNotAbsorb_1 : List UInt8 := dkwX1_whyNotAbsorb_1 ++ dktX1_whyNotAbsorb_2
def dkwX1_whyNotAbsorb_0 : List UInt8 := [42, 27, 182, 0, 183, 78, 42, 28, 182, 0, 183, 58, 4, 45, 25, 4, 166, 0, 5, 4, 172, 45]
abbrev dktX1_whyNotAbsorb_0 : List UInt8 := dkwX1_whyNotAbsorb_0 ++ dktX1_whyNotAbsorb_1
theorem dksX1_whyNotAbsorb_0 : cX1_whyNotAbsorb.data.toList.drop 0 = dktX1_whyNotAbsorb_0 := by decide +kernel
theorem dksX1_whyNotAbsorb_1 : cX1_whyNotAbsorb.data.toList.drop 22 = dktX1_whyNotAbsorb_1 := dk_seg dksX1_whyNotAbsorb_0 22 rfl rfl
theorem dksX1_whyNotAbsorb_2 : cX1_whyNotAbsorb.data.toList.drop 44 = dktX1_whyNotAbsorb_2 := dk_seg dksX1_whyNotAbsorb_1 22 rfl rfl
theorem dksX1_whyNotAbsorb_3 : cX1_whyNotAbsorb.data.toList.drop 66 = dktX1_whyNotAbsorb_3 := dk_seg dksX1_whyNotAbsorb_2 22 rfl rfl
theorem dX1_whyNotAbsorb_0 : decode cX1_whyNotAbsorb 0 = .ok (.aload_n 0, 1) := dk_42 (dk_at dksX1_whyNotAbsorb_0 0 rfl rfl)
theorem dX1_whyNotAbsorb_1 : decode cX1_whyNotAbsorb 1 = .ok (.iload_n 1, 1) := dk_27 (dk_at dksX1_whyNotAbsorb_0 1 rfl rfl)
theorem dX1_whyNotAbsorb_2 : decode cX1_whyNotAbsorb 2 = .ok (.invokevirtual 183, 3) := dk_182 0 183 (dk_at dksX1_whyNotAbsorb_0 2 rfl rfl)
theorem dX1_whyNotAbsorb_5 : decode cX1_whyNotAbsorb 5 = .ok (.astore_n 3, 1) := dk_78 (dk_at dksX1_whyNotAbsorb_0 5 rfl rfl)
theorem dX1_whyNotAbsorb_6 : decode cX1_whyNotAbsorb 6 = .ok (.aload_n 0, 1) := dk_42 (dk_at dksX1_whyNotAbsorb_0 6 rfl rfl)
theorem dX1_whyNotAbsorb_7 : decode cX1_whyNotAbsorb 7 = .ok (.iload_n 2, 1) := dk_28 (dk_at dksX1_whyNotAbsorb_0 7 rfl rfl)
theorem dX1_whyNotAbsorb_8 : decode cX1_whyNotAbsorb 8 = .ok (.invokevirtual 183, 3) := dk_182 0 183 (dk_at dksX1_whyNotAbsorb_0 8 rfl rfl)
theorem dX1_whyNotAbsorb_11 : decode cX1_whyNotAbsorb 11 = .ok (.astore 4, 2) := dk_58 4 (dk_at dksX1_whyNotAbsorb_0 11 rfl rfl)
theorem dX1_whyNotAbsorb_13 : decode cX1_whyNotAbsorb 13 = .ok (.aload_n 3, 1) := dk_45 (dk_at dksX1_whyNotAbsorb_0 13 rfl rfl)
theorem dX1_whyNotAbsorb_14 : decode cX1_whyNotAbsorb 14 = .ok (.aload 4, 2) := dk_25 4 (dk_at dksX1_whyNotAbsorb_0 14 rfl rfl)
theorem dX1_whyNotAbsorb_16 : decode cX1_whyNotAbsorb 16 = .ok (.if_acmp .ne 5, 3) := dk_166 0 5 (dk_at dksX1_whyNotAbsorb_0 16 rfl rfl)
theorem dX1_whyNotAbsorb_19 : decode cX1_whyNotAbsorb 19 = .ok (.iconst 1, 1) := dk_4 (dk_at dksX1_whyNotAbsorb_0 19 rfl rfl)
theorem dX1_whyNotAbsorb_20 : decode cX1_whyNotAbsorb 20 = .ok (.ireturn, 1) := dk_172 (dk_at dksX1_whyNotAbsorb_0 20 rfl rfl)
theorem dX1_whyNotAbsorb_21 : decode cX1_whyNotAbsorb 21 = .ok (.aload_n 3, 1) := dk_45 (dk_at dksX1_whyNotAbsorb_0 21 rfl rfl)
theorem dX1_whyNotAbsorb_22 : decode cX1_whyNotAbsorb 22 = .ok (.getfield 191, 3) := dk_180 0 191 (dk_at dksX1_whyNotAbsorb_1 0 rfl rfl)
theorem dX1_whyNotAbsorb_25 : decode cX1_whyNotAbsorb 25 = .ok (.aload 4, 2) := dk_25 4 (dk_at dksX1_whyNotAbsorb_1 3 rfl rfl)
theorem dX1_whyNotAbsorb_27 : decode cX1_whyNotAbsorb 27 = .ok (.getfield 191, 3) := dk_180 0 191 (dk_at dksX1_whyNotAbsorb_1 5 rfl rfl)
theorem dX1_whyNotAbsorb_30 : decode cX1_whyNotAbsorb 30 = .ok (.iadd, 1) := dk_96 (dk_at dksX1_whyNotAbsorb_1 8 rfl rfl)
theorem dX1_whyNotAbsorb_31 : decode cX1_whyNotAbsorb 31 = .ok (.bipush 60, 2) := dk_16 60 (dk_at dksX1_whyNotAbsorb_1 9 rfl rfl)
theorem dX1_whyNotAbsorb_33 : decode cX1_whyNotAbsorb 33 = .ok (.if_icmp .le 5, 3) := dk_164 0 5 (dk_at dksX1_whyNotAbsorb_1 11 rfl rfl)
theorem dX1_whyNotAbsorb_36 : decode cX1_whyNotAbsorb 36 = .ok (.iconst 2, 1) := dk_5 (dk_at dksX1_whyNotAbsorb_1 14 rfl rfl)
theorem dX1_whyNotAbsorb_37 : decode cX1_whyNotAbsorb 37 = .ok (.ireturn, 1) := dk_172 (dk_at dksX1_whyNotAbsorb_1 15 rfl rfl)
theorem dX1_whyNotAbsorb_38 : decode cX1_whyNotAbsorb 38 = .ok (.aload 4, 2) := dk_25 4 (dk_at dksX1_whyNotAbsorb_1 16 rfl rfl)
theorem dX1_whyNotAbsorb_40 : decode cX1_whyNotAbsorb 40 = .ok (.getfield 247, 3) := dk_180 0 247 (dk_at dksX1_whyNotAbsorb_1 18 rfl rfl)
theorem dX1_whyNotAbsorb_43 : decode cX1_whyNotAbsorb 43 = .ok (.iconst 1, 1) := dk_4 (dk_at dksX1_whyNotAbsorb_1 21 rfl rfl)
theorem dX1_whyNotAbsorb_44 : decode cX1_whyNotAbsorb 44 = .ok (.invokevirtual 251, 3) := dk_182 0 251 (dk_at dksX1_whyNotAbsorb_2 0 rfl rfl)
theorem dX1_whyNotAbsorb_47 : decode cX1_whyNotAbsorb 47 = .ok (.astore 5, 2) := dk_58 5 (dk_at dksX1_whyNotAbsorb_2 3 rfl rfl)
theorem dX1_whyNotAbsorb_49 : decode cX1_whyNotAbsorb 49 = .ok (.aload 5, 2) := dk_25 5 (dk_at dksX1_whyNotAbsorb_2 5 rfl rfl)
theorem dX1_whyNotAbsorb_51 : decode cX1_whyNotAbsorb 51 = .ok (.ifnull 31, 3) := dk_198 0 31 (dk_at dksX1_whyNotAbsorb_2 7 rfl rfl)
theorem dX1_whyNotAbsorb_54 : decode cX1_whyNotAbsorb 54 = .ok (.aload_n 3, 1) := dk_45 (dk_at dksX1_whyNotAbsorb_2 10 rfl rfl)
theorem dX1_whyNotAbsorb_55 : decode cX1_whyNotAbsorb 55 = .ok (.aload 5, 2) := dk_25 5 (dk_at dksX1_whyNotAbsorb_2 11 rfl rfl)
theorem dX1_whyNotAbsorb_57 : decode cX1_whyNotAbsorb 57 = .ok (.getfield 203, 3) := dk_180 0 203 (dk_at dksX1_whyNotAbsorb_2 13 rfl rfl)
theorem dX1_whyNotAbsorb_60 : decode cX1_whyNotAbsorb 60 = .ok (.invokevirtual 213, 3) := dk_182 0 213 (dk_at dksX1_whyNotAbsorb_2 16 rfl rfl)
theorem dX1_whyNotAbsorb_63 : decode cX1_whyNotAbsorb 63 = .ok (.invokevirtual 217, 3) := dk_182 0 217 (dk_at dksX1_whyNotAbsorb_2 19 rfl rfl)
theorem dX1_whyNotAbsorb_66 : decode cX1_whyNotAbsorb 66 = .ok (.ifCond .eq 5, 3) := dk_153 0 5 (dk_at dksX1_whyNotAbsorb_3 0 rfl rfl)
theorem dX1_whyNotAbsorb_69 : decode cX1_whyNotAbsorb 69 = .ok (.iconst 3, 1) := dk_6 (dk_at dksX1_whyNotAbsorb_3 3 rfl rfl)
theorem dX1_whyNotAbsorb_70 : decode cX1_whyNotAbsorb 70 = .ok (.ireturn, 1) := dk_172 (dk_at dksX1_whyNotAbsorb_3 4 rfl rfl)
theorem dX1_whyNotAbsorb_71 : decode cX1_whyNotAbsorb 71 = .ok (.aload 5, 2) := dk_25 5 (dk_at dksX1_whyNotAbsorb_3 5 rfl rfl)
theorem dX1_whyNotAbsorb_73 : decode cX1_whyNotAbsorb 73 = .ok (.iconst 1, 1) := dk_4 (dk_at dksX1_whyNotAbsorb_3 7 rfl rfl)
theorem dX1_whyNotAbsorb_74 : decode cX1_whyNotAbsorb 74 = .ok (.invokevirtual 251, 3) := dk_182 0 251 (dk_at dksX1_whyNotAbsorb_3 8 rfl rfl)
theorem dX1_whyNotAbsorb_77 : decode cX1_whyNotAbsorb 77 = .ok (.astore 5, 2) := dk_58 5 (dk_at dksX1_whyNotAbsorb_3 11 rfl rfl)
theorem dX1_whyNotAbsorb_79 : decode cX1_whyNotAbsorb 79 = .ok (.goto (-30), 3) := dk_167 255 226 (dk_at dksX1_whyNotAbsorb_3 13 rfl rfl)
theorem dX1_whyNotAbsorb_82 : decode cX1_whyNotAbsorb 82 = .ok (.iconst 0, 1) := dk_3 (dk_at dksX1_whyNotAbsorb_3 16 rfl rfl)
theorem dX1_whyNotAbsorb_83 : decode cX1_whyNotAbsorb 83 = .ok (.ireturn, 1) := dk_172 (dk_at dksX1_whyNotAbsorb_3 17 rfl rfl)
abbrev cX1_logKind : ByteArray := prog_1_method_55_code
def yX1_logKind : MethodName := ⟨RX1, "logKind", "(I)I"⟩
def dkwX1_logKind_0 : List UInt8 := [42, 27, 182, 1, 86, 182, 1, 89, 182, 1, 95, 172]
abbrev dktX1_logKind_0 : List UInt8 := dkwX1_logKind_0 ++ []
theorem dksX1_logKind_0 : cX1_logKind.data.toList.drop 0 = dktX1_logKind_0 := by decide +kernel
theorem dX1_logKind_0 : decode cX1_logKind 0 = .ok (.aload_n 0, 1) := dk_42 (dk_at dksX1_logKind_0 0 rfl rfl)
theorem dX1_logKind_1 : decode cX1_logKind 1 = .ok (.iload_n 1, 1) := dk_27 (dk_at dksX1_logKind_0 1 rfl rfl)
theorem dX1_logKind_2 : decode cX1_logKind 2 = .ok (.invokevirtual 342, 3) := dk_182 1 86 (dk_at dksX1_logKind_0 2 rfl rfl)
theorem dX1_logKind_5 : decode cX1_logKind 5 = .ok (.invokevirtual 345, 3) := dk_182 1 89 (dk_at dksX1_logKind_0 5 rfl rfl)
theorem dX1_logKind_8 : decode cX1_logKind 8 = .ok (.invokevirtual 351, 3) := dk_182 1 95 (dk_at dksX1_logKind_0 8 rfl rfl)
theorem dX1_logKind_11 : decode cX1_logKind 11 = .ok (.ireturn, 1) := dk_172 (dk_at dksX1_logKind_0 11 rfl rfl)
abbrev cX1_entryAt : ByteArray := prog_1_method_54_code
def yX1_entryAt : MethodName := ⟨RX1, "entryAt", "(I)LCountedSkipLists$Entry;"⟩
def dkwX1_entryAt_1 : List UInt8 := [180, 1, 79, 27, 182, 1, 83, 176]
abbrev dktX1_entryAt_1 : List UInt8 := dkwX1_entryAt_1 ++ []
def dkwX1_entryAt_0 : List UInt8 := [27, 3, 42, 180, 0, 96, 180, 1, 79, 182, 1, 73, 4, 100, 184, 0, 18, 184, 0, 117, 42, 180, 0, 96]
abbrev dktX1_entryAt_0 : List UInt8 := dkwX1_entryAt_0 ++ dktX1_entryAt_1
theorem dksX1_entryAt_0 : cX1_entryAt.data.toList.drop 0 = dktX1_entryAt_0 := by decide +kernel
theorem dksX1_entryAt_1 : cX1_entryAt.data.toList.drop 24 = dktX1_entryAt_1 := dk_seg dksX1_entryAt_0 24 rfl rfl
theorem dX1_entryAt_0 : decode cX1_entryAt 0 = .ok (.iload_n 1, 1) := dk_27 (dk_at dksX1_entryAt_0 0 rfl rfl)
theorem dX1_entryAt_1 : decode cX1_entryAt 1 = .ok (.iconst 0, 1) := dk_3 (dk_at dksX1_entryAt_0 1 rfl rfl)
theorem dX1_entryAt_2 : decode cX1_entryAt 2 = .ok (.aload_n 0, 1) := dk_42 (dk_at dksX1_entryAt_0 2 rfl rfl)
theorem dX1_entryAt_3 : decode cX1_entryAt 3 = .ok (.getfield 96, 3) := dk_180 0 96 (dk_at dksX1_entryAt_0 3 rfl rfl)
theorem dX1_entryAt_6 : decode cX1_entryAt 6 = .ok (.getfield 335, 3) := dk_180 1 79 (dk_at dksX1_entryAt_0 6 rfl rfl)
theorem dX1_entryAt_9 : decode cX1_entryAt 9 = .ok (.invokevirtual 329, 3) := dk_182 1 73 (dk_at dksX1_entryAt_0 9 rfl rfl)
theorem dX1_entryAt_12 : decode cX1_entryAt 12 = .ok (.iconst 1, 1) := dk_4 (dk_at dksX1_entryAt_0 12 rfl rfl)
theorem dX1_entryAt_13 : decode cX1_entryAt 13 = .ok (.isub, 1) := dk_100 (dk_at dksX1_entryAt_0 13 rfl rfl)
theorem dX1_entryAt_14 : decode cX1_entryAt 14 = .ok (.invokestatic 18, 3) := dk_184 0 18 (dk_at dksX1_entryAt_0 14 rfl rfl)
theorem dX1_entryAt_17 : decode cX1_entryAt 17 = .ok (.invokestatic 117, 3) := dk_184 0 117 (dk_at dksX1_entryAt_0 17 rfl rfl)
theorem dX1_entryAt_20 : decode cX1_entryAt 20 = .ok (.aload_n 0, 1) := dk_42 (dk_at dksX1_entryAt_0 20 rfl rfl)
theorem dX1_entryAt_21 : decode cX1_entryAt 21 = .ok (.getfield 96, 3) := dk_180 0 96 (dk_at dksX1_entryAt_0 21 rfl rfl)
theorem dX1_entryAt_24 : decode cX1_entryAt 24 = .ok (.getfield 335, 3) := dk_180 1 79 (dk_at dksX1_entryAt_1 0 rfl rfl)
theorem dX1_entryAt_27 : decode cX1_entryAt 27 = .ok (.iload_n 1, 1) := dk_27 (dk_at dksX1_entryAt_1 3 rfl rfl)
theorem dX1_entryAt_28 : decode cX1_entryAt 28 = .ok (.invokevirtual 339, 3) := dk_182 1 83 (dk_at dksX1_entryAt_1 4 rfl rfl)
theorem dX1_entryAt_31 : decode cX1_entryAt 31 = .ok (.areturn, 1) := dk_176 (dk_at dksX1_entryAt_1 7 rfl rfl)
abbrev cX1_logLevel : ByteArray := prog_1_method_56_code
def yX1_logLevel : MethodName := ⟨RX1, "logLevel", "(I)I"⟩
def dkwX1_logLevel_0 : List UInt8 := [42, 27, 182, 1, 86, 182, 1, 98, 172]
abbrev dktX1_logLevel_0 : List UInt8 := dkwX1_logLevel_0 ++ []
theorem dksX1_logLevel_0 : cX1_logLevel.data.toList.drop 0 = dktX1_logLevel_0 := by decide +kernel
theorem dX1_logLevel_0 : decode cX1_logLevel 0 = .ok (.aload_n 0, 1) := dk_42 (dk_at dksX1_logLevel_0 0 rfl rfl)
theorem dX1_logLevel_1 : decode cX1_logLevel 1 = .ok (.iload_n 1, 1) := dk_27 (dk_at dksX1_logLevel_0 1 rfl rfl)
theorem dX1_logLevel_2 : decode cX1_logLevel 2 = .ok (.invokevirtual 342, 3) := dk_182 1 86 (dk_at dksX1_logLevel_0 2 rfl rfl)
theorem dX1_logLevel_5 : decode cX1_logLevel 5 = .ok (.invokevirtual 354, 3) := dk_182 1 98 (dk_at dksX1_logLevel_0 5 rfl rfl)
theorem dX1_logLevel_8 : decode cX1_logLevel 8 = .ok (.ireturn, 1) := dk_172 (dk_at dksX1_logLevel_0 8 rfl rfl)
abbrev cX1_logKey : ByteArray := prog_1_method_57_code
def yX1_logKey : MethodName := ⟨RX1, "logKey", "(I)I"⟩
def dkwX1_logKey_0 : List UInt8 := [42, 27, 182, 1, 86, 182, 1, 100, 172]
abbrev dktX1_logKey_0 : List UInt8 := dkwX1_logKey_0 ++ []
theorem dksX1_logKey_0 : cX1_logKey.data.toList.drop 0 = dktX1_logKey_0 := by decide +kernel
theorem dX1_logKey_0 : decode cX1_logKey 0 = .ok (.aload_n 0, 1) := dk_42 (dk_at dksX1_logKey_0 0 rfl rfl)
theorem dX1_logKey_1 : decode cX1_logKey 1 = .ok (.iload_n 1, 1) := dk_27 (dk_at dksX1_logKey_0 1 rfl rfl)
theorem dX1_logKey_2 : decode cX1_logKey 2 = .ok (.invokevirtual 342, 3) := dk_182 1 86 (dk_at dksX1_logKey_0 2 rfl rfl)
theorem dX1_logKey_5 : decode cX1_logKey 5 = .ok (.invokevirtual 356, 3) := dk_182 1 100 (dk_at dksX1_logKey_0 5 rfl rfl)
theorem dX1_logKey_8 : decode cX1_logKey 8 = .ok (.ireturn, 1) := dk_172 (dk_at dksX1_logKey_0 8 rfl rfl)
abbrev cX1_counter : ByteArray := prog_1_method_58_code
def yX1_counter : MethodName := ⟨RX1, "counter", "(I)I"⟩
def dkwX1_counter_0 : List UInt8 := [27, 3, 8, 184, 0, 18, 184, 0, 22, 42, 180, 0, 96, 180, 1, 102, 27, 46, 172]
abbrev dktX1_counter_0 : List UInt8 := dkwX1_counter_0 ++ []
theorem dksX1_counter_0 : cX1_counter.data.toList.drop 0 = dktX1_counter_0 := by decide +kernel
theorem dX1_counter_0 : decode cX1_counter 0 = .ok (.iload_n 1, 1) := dk_27 (dk_at dksX1_counter_0 0 rfl rfl)
theorem dX1_counter_1 : decode cX1_counter 1 = .ok (.iconst 0, 1) := dk_3 (dk_at dksX1_counter_0 1 rfl rfl)
theorem dX1_counter_2 : decode cX1_counter 2 = .ok (.iconst 5, 1) := dk_8 (dk_at dksX1_counter_0 2 rfl rfl)
theorem dX1_counter_3 : decode cX1_counter 3 = .ok (.invokestatic 18, 3) := dk_184 0 18 (dk_at dksX1_counter_0 3 rfl rfl)
theorem dX1_counter_6 : decode cX1_counter 6 = .ok (.invokestatic 22, 3) := dk_184 0 22 (dk_at dksX1_counter_0 6 rfl rfl)
theorem dX1_counter_9 : decode cX1_counter 9 = .ok (.aload_n 0, 1) := dk_42 (dk_at dksX1_counter_0 9 rfl rfl)
theorem dX1_counter_10 : decode cX1_counter 10 = .ok (.getfield 96, 3) := dk_180 0 96 (dk_at dksX1_counter_0 10 rfl rfl)
theorem dX1_counter_13 : decode cX1_counter 13 = .ok (.getfield 358, 3) := dk_180 1 102 (dk_at dksX1_counter_0 13 rfl rfl)
theorem dX1_counter_16 : decode cX1_counter 16 = .ok (.iload_n 1, 1) := dk_27 (dk_at dksX1_counter_0 16 rfl rfl)
theorem dX1_counter_17 : decode cX1_counter 17 = .ok (.iaload, 1) := dk_46 (dk_at dksX1_counter_0 17 rfl rfl)
theorem dX1_counter_18 : decode cX1_counter 18 = .ok (.ireturn, 1) := dk_172 (dk_at dksX1_counter_0 18 rfl rfl)
abbrev cX1_create : ByteArray := prog_1_method_62_code
def yX1_create : MethodName := ⟨RX1, "create", "()I"⟩
def dkwX1_create_1 : List UInt8 := [182, 1, 126, 180, 0, 163, 27, 187, 0, 167, 89, 183, 1, 129, 83, 42, 182, 1, 130, 27, 172]
abbrev dktX1_create_1 : List UInt8 := dkwX1_create_1 ++ []
def dkwX1_create_0 : List UInt8 := [42, 180, 0, 96, 182, 1, 123, 60, 27, 2, 159, 0, 7, 4, 167, 0, 4, 3, 184, 0, 114, 42]
abbrev dktX1_create_0 : List UInt8 := dkwX1_create_0 ++ dktX1_create_1
theorem dksX1_create_0 : cX1_create.data.toList.drop 0 = dktX1_create_0 := by decide +kernel
theorem dksX1_create_1 : cX1_create.data.toList.drop 22 = dktX1_create_1 := dk_seg dksX1_create_0 22 rfl rfl
theorem dX1_create_0 : decode cX1_create 0 = .ok (.aload_n 0, 1) := dk_42 (dk_at dksX1_create_0 0 rfl rfl)
theorem dX1_create_1 : decode cX1_create 1 = .ok (.getfield 96, 3) := dk_180 0 96 (dk_at dksX1_create_0 1 rfl rfl)
theorem dX1_create_4 : decode cX1_create 4 = .ok (.invokevirtual 379, 3) := dk_182 1 123 (dk_at dksX1_create_0 4 rfl rfl)
theorem dX1_create_7 : decode cX1_create 7 = .ok (.istore_n 1, 1) := dk_60 (dk_at dksX1_create_0 7 rfl rfl)
theorem dX1_create_8 : decode cX1_create 8 = .ok (.iload_n 1, 1) := dk_27 (dk_at dksX1_create_0 8 rfl rfl)
theorem dX1_create_9 : decode cX1_create 9 = .ok (.iconst (-1), 1) := dk_2 (dk_at dksX1_create_0 9 rfl rfl)
theorem dX1_create_10 : decode cX1_create 10 = .ok (.if_icmp .eq 7, 3) := dk_159 0 7 (dk_at dksX1_create_0 10 rfl rfl)
theorem dX1_create_13 : decode cX1_create 13 = .ok (.iconst 1, 1) := dk_4 (dk_at dksX1_create_0 13 rfl rfl)
theorem dX1_create_14 : decode cX1_create 14 = .ok (.goto 4, 3) := dk_167 0 4 (dk_at dksX1_create_0 14 rfl rfl)
theorem dX1_create_17 : decode cX1_create 17 = .ok (.iconst 0, 1) := dk_3 (dk_at dksX1_create_0 17 rfl rfl)
theorem dX1_create_18 : decode cX1_create 18 = .ok (.invokestatic 114, 3) := dk_184 0 114 (dk_at dksX1_create_0 18 rfl rfl)
theorem dX1_create_21 : decode cX1_create 21 = .ok (.aload_n 0, 1) := dk_42 (dk_at dksX1_create_0 21 rfl rfl)
theorem dX1_create_22 : decode cX1_create 22 = .ok (.invokevirtual 382, 3) := dk_182 1 126 (dk_at dksX1_create_1 0 rfl rfl)
theorem dX1_create_25 : decode cX1_create 25 = .ok (.getfield 163, 3) := dk_180 0 163 (dk_at dksX1_create_1 3 rfl rfl)
theorem dX1_create_28 : decode cX1_create 28 = .ok (.iload_n 1, 1) := dk_27 (dk_at dksX1_create_1 6 rfl rfl)
theorem dX1_create_29 : decode cX1_create 29 = .ok (.new 167, 3) := dk_187 0 167 (dk_at dksX1_create_1 7 rfl rfl)
theorem dX1_create_32 : decode cX1_create 32 = .ok (.dup, 1) := dk_89 (dk_at dksX1_create_1 10 rfl rfl)
theorem dX1_create_33 : decode cX1_create 33 = .ok (.invokespecial 385, 3) := dk_183 1 129 (dk_at dksX1_create_1 11 rfl rfl)
theorem dX1_create_36 : decode cX1_create 36 = .ok (.aastore, 1) := dk_83 (dk_at dksX1_create_1 14 rfl rfl)
theorem dX1_create_37 : decode cX1_create 37 = .ok (.aload_n 0, 1) := dk_42 (dk_at dksX1_create_1 15 rfl rfl)
theorem dX1_create_38 : decode cX1_create 38 = .ok (.invokevirtual 386, 3) := dk_182 1 130 (dk_at dksX1_create_1 16 rfl rfl)
theorem dX1_create_41 : decode cX1_create 41 = .ok (.iload_n 1, 1) := dk_27 (dk_at dksX1_create_1 19 rfl rfl)
theorem dX1_create_42 : decode cX1_create 42 = .ok (.ireturn, 1) := dk_172 (dk_at dksX1_create_1 20 rfl rfl)
abbrev cX1_begin : ByteArray := prog_1_method_59_code
def yX1_begin : MethodName := ⟨RX1, "begin", "()LCountedSkipLists$State;"⟩
def dkwX1_begin_2 : List UInt8 := [187, 0, 76, 89, 183, 1, 64, 181, 1, 79, 42, 180, 0, 96, 176]
abbrev dktX1_begin_2 : List UInt8 := dkwX1_begin_2 ++ []
def dkwX1_begin_1 : List UInt8 := [42, 180, 0, 96, 182, 1, 109, 42, 42, 180, 0, 96, 182, 1, 113, 181, 0, 96, 42, 180, 0, 96]
abbrev dktX1_begin_1 : List UInt8 := dkwX1_begin_1 ++ dktX1_begin_2
def dkwX1_begin_0 : List UInt8 := [42, 180, 0, 103, 182, 1, 105, 16, 10, 160, 0, 11, 42, 180, 0, 103, 182, 1, 106, 87, 42, 180, 0, 103]
abbrev dktX1_begin_0 : List UInt8 := dkwX1_begin_0 ++ dktX1_begin_1
theorem dksX1_begin_0 : cX1_begin.data.toList.drop 0 = dktX1_begin_0 := by decide +kernel
theorem dksX1_begin_1 : cX1_begin.data.toList.drop 24 = dktX1_begin_1 := dk_seg dksX1_begin_0 24 rfl rfl
theorem dksX1_begin_2 : cX1_begin.data.toList.drop 46 = dktX1_begin_2 := dk_seg dksX1_begin_1 22 rfl rfl
theorem dX1_begin_0 : decode cX1_begin 0 = .ok (.aload_n 0, 1) := dk_42 (dk_at dksX1_begin_0 0 rfl rfl)
theorem dX1_begin_1 : decode cX1_begin 1 = .ok (.getfield 103, 3) := dk_180 0 103 (dk_at dksX1_begin_0 1 rfl rfl)
theorem dX1_begin_4 : decode cX1_begin 4 = .ok (.invokevirtual 361, 3) := dk_182 1 105 (dk_at dksX1_begin_0 4 rfl rfl)
theorem dX1_begin_7 : decode cX1_begin 7 = .ok (.bipush 10, 2) := dk_16 10 (dk_at dksX1_begin_0 7 rfl rfl)
theorem dX1_begin_9 : decode cX1_begin 9 = .ok (.if_icmp .ne 11, 3) := dk_160 0 11 (dk_at dksX1_begin_0 9 rfl rfl)
theorem dX1_begin_12 : decode cX1_begin 12 = .ok (.aload_n 0, 1) := dk_42 (dk_at dksX1_begin_0 12 rfl rfl)
theorem dX1_begin_13 : decode cX1_begin 13 = .ok (.getfield 103, 3) := dk_180 0 103 (dk_at dksX1_begin_0 13 rfl rfl)
theorem dX1_begin_16 : decode cX1_begin 16 = .ok (.invokevirtual 362, 3) := dk_182 1 106 (dk_at dksX1_begin_0 16 rfl rfl)
theorem dX1_begin_19 : decode cX1_begin 19 = .ok (.pop, 1) := dk_87 (dk_at dksX1_begin_0 19 rfl rfl)
theorem dX1_begin_20 : decode cX1_begin 20 = .ok (.aload_n 0, 1) := dk_42 (dk_at dksX1_begin_0 20 rfl rfl)
theorem dX1_begin_21 : decode cX1_begin 21 = .ok (.getfield 103, 3) := dk_180 0 103 (dk_at dksX1_begin_0 21 rfl rfl)
theorem dX1_begin_24 : decode cX1_begin 24 = .ok (.aload_n 0, 1) := dk_42 (dk_at dksX1_begin_1 0 rfl rfl)
theorem dX1_begin_25 : decode cX1_begin 25 = .ok (.getfield 96, 3) := dk_180 0 96 (dk_at dksX1_begin_1 1 rfl rfl)
theorem dX1_begin_28 : decode cX1_begin 28 = .ok (.invokevirtual 365, 3) := dk_182 1 109 (dk_at dksX1_begin_1 4 rfl rfl)
theorem dX1_begin_31 : decode cX1_begin 31 = .ok (.aload_n 0, 1) := dk_42 (dk_at dksX1_begin_1 7 rfl rfl)
theorem dX1_begin_32 : decode cX1_begin 32 = .ok (.aload_n 0, 1) := dk_42 (dk_at dksX1_begin_1 8 rfl rfl)
theorem dX1_begin_33 : decode cX1_begin 33 = .ok (.getfield 96, 3) := dk_180 0 96 (dk_at dksX1_begin_1 9 rfl rfl)
theorem dX1_begin_36 : decode cX1_begin 36 = .ok (.invokevirtual 369, 3) := dk_182 1 113 (dk_at dksX1_begin_1 12 rfl rfl)
theorem dX1_begin_39 : decode cX1_begin 39 = .ok (.putfield 96, 3) := dk_181 0 96 (dk_at dksX1_begin_1 15 rfl rfl)
theorem dX1_begin_42 : decode cX1_begin 42 = .ok (.aload_n 0, 1) := dk_42 (dk_at dksX1_begin_1 18 rfl rfl)
theorem dX1_begin_43 : decode cX1_begin 43 = .ok (.getfield 96, 3) := dk_180 0 96 (dk_at dksX1_begin_1 19 rfl rfl)
theorem dX1_begin_46 : decode cX1_begin 46 = .ok (.new 76, 3) := dk_187 0 76 (dk_at dksX1_begin_2 0 rfl rfl)
theorem dX1_begin_49 : decode cX1_begin 49 = .ok (.dup, 1) := dk_89 (dk_at dksX1_begin_2 3 rfl rfl)
theorem dX1_begin_50 : decode cX1_begin 50 = .ok (.invokespecial 320, 3) := dk_183 1 64 (dk_at dksX1_begin_2 4 rfl rfl)
theorem dX1_begin_53 : decode cX1_begin 53 = .ok (.putfield 335, 3) := dk_181 1 79 (dk_at dksX1_begin_2 7 rfl rfl)
theorem dX1_begin_56 : decode cX1_begin 56 = .ok (.aload_n 0, 1) := dk_42 (dk_at dksX1_begin_2 10 rfl rfl)
theorem dX1_begin_57 : decode cX1_begin 57 = .ok (.getfield 96, 3) := dk_180 0 96 (dk_at dksX1_begin_2 11 rfl rfl)
theorem dX1_begin_60 : decode cX1_begin 60 = .ok (.areturn, 1) := dk_176 (dk_at dksX1_begin_2 14 rfl rfl)
abbrev cX1_ends : ByteArray := prog_1_method_60_code
def yX1_ends : MethodName := ⟨RX1, "ends", "()V"⟩
def dkwX1_ends_2 : List UInt8 := [96, 79, 132, 3, 1, 167, 255, 213, 42, 180, 0, 96, 180, 1, 102, 8, 92, 46, 4, 96, 79, 177]
abbrev dktX1_ends_2 : List UInt8 := dkwX1_ends_2 ++ []
def dkwX1_ends_1 : List UInt8 := [180, 1, 102, 5, 25, 4, 182, 1, 95, 96, 92, 46, 42, 180, 0, 96, 180, 1, 79, 25, 4, 182, 1, 119]
abbrev dktX1_ends_1 : List UInt8 := dkwX1_ends_1 ++ dktX1_ends_2
def dkwX1_ends_0 : List UInt8 := [184, 1, 115, 76, 43, 190, 61, 3, 62, 29, 28, 162, 0, 44, 43, 29, 50, 58, 4, 42, 180, 0, 96]
abbrev dktX1_ends_0 : List UInt8 := dkwX1_ends_0 ++ dktX1_ends_1
theorem dksX1_ends_0 : cX1_ends.data.toList.drop 0 = dktX1_ends_0 := by decide +kernel
theorem dksX1_ends_1 : cX1_ends.data.toList.drop 23 = dktX1_ends_1 := dk_seg dksX1_ends_0 23 rfl rfl
theorem dksX1_ends_2 : cX1_ends.data.toList.drop 47 = dktX1_ends_2 := dk_seg dksX1_ends_1 24 rfl rfl
theorem dX1_ends_0 : decode cX1_ends 0 = .ok (.invokestatic 371, 3) := dk_184 1 115 (dk_at dksX1_ends_0 0 rfl rfl)
theorem dX1_ends_3 : decode cX1_ends 3 = .ok (.astore_n 1, 1) := dk_76 (dk_at dksX1_ends_0 3 rfl rfl)
theorem dX1_ends_4 : decode cX1_ends 4 = .ok (.aload_n 1, 1) := dk_43 (dk_at dksX1_ends_0 4 rfl rfl)
theorem dX1_ends_5 : decode cX1_ends 5 = .ok (.arraylength, 1) := dk_190 (dk_at dksX1_ends_0 5 rfl rfl)
theorem dX1_ends_6 : decode cX1_ends 6 = .ok (.istore_n 2, 1) := dk_61 (dk_at dksX1_ends_0 6 rfl rfl)
theorem dX1_ends_7 : decode cX1_ends 7 = .ok (.iconst 0, 1) := dk_3 (dk_at dksX1_ends_0 7 rfl rfl)
theorem dX1_ends_8 : decode cX1_ends 8 = .ok (.istore_n 3, 1) := dk_62 (dk_at dksX1_ends_0 8 rfl rfl)
theorem dX1_ends_9 : decode cX1_ends 9 = .ok (.iload_n 3, 1) := dk_29 (dk_at dksX1_ends_0 9 rfl rfl)
theorem dX1_ends_10 : decode cX1_ends 10 = .ok (.iload_n 2, 1) := dk_28 (dk_at dksX1_ends_0 10 rfl rfl)
theorem dX1_ends_11 : decode cX1_ends 11 = .ok (.if_icmp .ge 44, 3) := dk_162 0 44 (dk_at dksX1_ends_0 11 rfl rfl)
theorem dX1_ends_14 : decode cX1_ends 14 = .ok (.aload_n 1, 1) := dk_43 (dk_at dksX1_ends_0 14 rfl rfl)
theorem dX1_ends_15 : decode cX1_ends 15 = .ok (.iload_n 3, 1) := dk_29 (dk_at dksX1_ends_0 15 rfl rfl)
theorem dX1_ends_16 : decode cX1_ends 16 = .ok (.aaload, 1) := dk_50 (dk_at dksX1_ends_0 16 rfl rfl)
theorem dX1_ends_17 : decode cX1_ends 17 = .ok (.astore 4, 2) := dk_58 4 (dk_at dksX1_ends_0 17 rfl rfl)
theorem dX1_ends_19 : decode cX1_ends 19 = .ok (.aload_n 0, 1) := dk_42 (dk_at dksX1_ends_0 19 rfl rfl)
theorem dX1_ends_20 : decode cX1_ends 20 = .ok (.getfield 96, 3) := dk_180 0 96 (dk_at dksX1_ends_0 20 rfl rfl)
theorem dX1_ends_23 : decode cX1_ends 23 = .ok (.getfield 358, 3) := dk_180 1 102 (dk_at dksX1_ends_1 0 rfl rfl)
theorem dX1_ends_26 : decode cX1_ends 26 = .ok (.iconst 2, 1) := dk_5 (dk_at dksX1_ends_1 3 rfl rfl)
theorem dX1_ends_27 : decode cX1_ends 27 = .ok (.aload 4, 2) := dk_25 4 (dk_at dksX1_ends_1 4 rfl rfl)
theorem dX1_ends_29 : decode cX1_ends 29 = .ok (.invokevirtual 351, 3) := dk_182 1 95 (dk_at dksX1_ends_1 6 rfl rfl)
theorem dX1_ends_32 : decode cX1_ends 32 = .ok (.iadd, 1) := dk_96 (dk_at dksX1_ends_1 9 rfl rfl)
theorem dX1_ends_33 : decode cX1_ends 33 = .ok (.dup2, 1) := dk_92 (dk_at dksX1_ends_1 10 rfl rfl)
theorem dX1_ends_34 : decode cX1_ends 34 = .ok (.iaload, 1) := dk_46 (dk_at dksX1_ends_1 11 rfl rfl)
theorem dX1_ends_35 : decode cX1_ends 35 = .ok (.aload_n 0, 1) := dk_42 (dk_at dksX1_ends_1 12 rfl rfl)
theorem dX1_ends_36 : decode cX1_ends 36 = .ok (.getfield 96, 3) := dk_180 0 96 (dk_at dksX1_ends_1 13 rfl rfl)
theorem dX1_ends_39 : decode cX1_ends 39 = .ok (.getfield 335, 3) := dk_180 1 79 (dk_at dksX1_ends_1 16 rfl rfl)
theorem dX1_ends_42 : decode cX1_ends 42 = .ok (.aload 4, 2) := dk_25 4 (dk_at dksX1_ends_1 19 rfl rfl)
theorem dX1_ends_44 : decode cX1_ends 44 = .ok (.invokevirtual 375, 3) := dk_182 1 119 (dk_at dksX1_ends_1 21 rfl rfl)
theorem dX1_ends_47 : decode cX1_ends 47 = .ok (.iadd, 1) := dk_96 (dk_at dksX1_ends_2 0 rfl rfl)
theorem dX1_ends_48 : decode cX1_ends 48 = .ok (.iastore, 1) := dk_79 (dk_at dksX1_ends_2 1 rfl rfl)
theorem dX1_ends_49 : decode cX1_ends 49 = .ok (.iinc 3 1, 3) := dk_132 3 1 (dk_at dksX1_ends_2 2 rfl rfl)
theorem dX1_ends_52 : decode cX1_ends 52 = .ok (.goto (-43), 3) := dk_167 255 213 (dk_at dksX1_ends_2 5 rfl rfl)
theorem dX1_ends_55 : decode cX1_ends 55 = .ok (.aload_n 0, 1) := dk_42 (dk_at dksX1_ends_2 8 rfl rfl)
theorem dX1_ends_56 : decode cX1_ends 56 = .ok (.getfield 96, 3) := dk_180 0 96 (dk_at dksX1_ends_2 9 rfl rfl)
theorem dX1_ends_59 : decode cX1_ends 59 = .ok (.getfield 358, 3) := dk_180 1 102 (dk_at dksX1_ends_2 12 rfl rfl)
theorem dX1_ends_62 : decode cX1_ends 62 = .ok (.iconst 5, 1) := dk_8 (dk_at dksX1_ends_2 15 rfl rfl)
theorem dX1_ends_63 : decode cX1_ends 63 = .ok (.dup2, 1) := dk_92 (dk_at dksX1_ends_2 16 rfl rfl)
theorem dX1_ends_64 : decode cX1_ends 64 = .ok (.iaload, 1) := dk_46 (dk_at dksX1_ends_2 17 rfl rfl)
theorem dX1_ends_65 : decode cX1_ends 65 = .ok (.iconst 1, 1) := dk_4 (dk_at dksX1_ends_2 18 rfl rfl)
theorem dX1_ends_66 : decode cX1_ends 66 = .ok (.iadd, 1) := dk_96 (dk_at dksX1_ends_2 19 rfl rfl)
theorem dX1_ends_67 : decode cX1_ends 67 = .ok (.iastore, 1) := dk_79 (dk_at dksX1_ends_2 20 rfl rfl)
theorem dX1_ends_68 : decode cX1_ends 68 = .ok (.return_, 1) := dk_177 (dk_at dksX1_ends_2 21 rfl rfl)
abbrev cX1_drop : ByteArray := prog_1_method_63_code
def yX1_drop : MethodName := ⟨RX1, "drop", "(I)I"⟩
def dkwX1_drop_1 : List UInt8 := [172]
abbrev dktX1_drop_1 : List UInt8 := dkwX1_drop_1 ++ []
def dkwX1_drop_0 : List UInt8 := [42, 27, 182, 0, 183, 180, 0, 191, 61, 42, 182, 1, 126, 180, 0, 163, 27, 1, 83, 42, 182, 1, 130, 28]
abbrev dktX1_drop_0 : List UInt8 := dkwX1_drop_0 ++ dktX1_drop_1
theorem dksX1_drop_0 : cX1_drop.data.toList.drop 0 = dktX1_drop_0 := by decide +kernel
theorem dksX1_drop_1 : cX1_drop.data.toList.drop 24 = dktX1_drop_1 := dk_seg dksX1_drop_0 24 rfl rfl
theorem dX1_drop_0 : decode cX1_drop 0 = .ok (.aload_n 0, 1) := dk_42 (dk_at dksX1_drop_0 0 rfl rfl)
theorem dX1_drop_1 : decode cX1_drop 1 = .ok (.iload_n 1, 1) := dk_27 (dk_at dksX1_drop_0 1 rfl rfl)
theorem dX1_drop_2 : decode cX1_drop 2 = .ok (.invokevirtual 183, 3) := dk_182 0 183 (dk_at dksX1_drop_0 2 rfl rfl)
theorem dX1_drop_5 : decode cX1_drop 5 = .ok (.getfield 191, 3) := dk_180 0 191 (dk_at dksX1_drop_0 5 rfl rfl)
theorem dX1_drop_8 : decode cX1_drop 8 = .ok (.istore_n 2, 1) := dk_61 (dk_at dksX1_drop_0 8 rfl rfl)
theorem dX1_drop_9 : decode cX1_drop 9 = .ok (.aload_n 0, 1) := dk_42 (dk_at dksX1_drop_0 9 rfl rfl)
theorem dX1_drop_10 : decode cX1_drop 10 = .ok (.invokevirtual 382, 3) := dk_182 1 126 (dk_at dksX1_drop_0 10 rfl rfl)
theorem dX1_drop_13 : decode cX1_drop 13 = .ok (.getfield 163, 3) := dk_180 0 163 (dk_at dksX1_drop_0 13 rfl rfl)
theorem dX1_drop_16 : decode cX1_drop 16 = .ok (.iload_n 1, 1) := dk_27 (dk_at dksX1_drop_0 16 rfl rfl)
theorem dX1_drop_17 : decode cX1_drop 17 = .ok (.aconst_null, 1) := dk_1 (dk_at dksX1_drop_0 17 rfl rfl)
theorem dX1_drop_18 : decode cX1_drop 18 = .ok (.aastore, 1) := dk_83 (dk_at dksX1_drop_0 18 rfl rfl)
theorem dX1_drop_19 : decode cX1_drop 19 = .ok (.aload_n 0, 1) := dk_42 (dk_at dksX1_drop_0 19 rfl rfl)
theorem dX1_drop_20 : decode cX1_drop 20 = .ok (.invokevirtual 386, 3) := dk_182 1 130 (dk_at dksX1_drop_0 20 rfl rfl)
theorem dX1_drop_23 : decode cX1_drop 23 = .ok (.iload_n 2, 1) := dk_28 (dk_at dksX1_drop_0 23 rfl rfl)
theorem dX1_drop_24 : decode cX1_drop 24 = .ok (.ireturn, 1) := dk_172 (dk_at dksX1_drop_1 0 rfl rfl)
abbrev cX1_insert : ByteArray := prog_1_method_64_code
def yX1_insert : MethodName := ⟨RX1, "insert", "(III)I"⟩
def dkwX1_insert_3 : List UInt8 := [172]
abbrev dktX1_insert_3 : List UInt8 := dkwX1_insert_3 ++ []
def dkwX1_insert_2 : List UInt8 := [25, 5, 182, 1, 136, 42, 180, 0, 96, 180, 1, 102, 3, 92, 46, 4, 96, 79, 42, 182, 1, 130, 21, 6]
abbrev dktX1_insert_2 : List UInt8 := dkwX1_insert_2 ++ dktX1_insert_3
def dkwX1_insert_1 : List UInt8 := [28, 182, 1, 53, 42, 182, 1, 126, 27, 182, 1, 133, 58, 5, 25, 5, 28, 29, 182, 1, 61, 54, 6, 42]
abbrev dktX1_insert_1 : List UInt8 := dkwX1_insert_1 ++ dktX1_insert_2
def dkwX1_insert_0 : List UInt8 := [42, 27, 182, 0, 183, 58, 4, 5, 188, 10, 89, 3, 28, 79, 89, 4, 29, 79, 184, 0, 187, 42, 25, 4]
abbrev dktX1_insert_0 : List UInt8 := dkwX1_insert_0 ++ dktX1_insert_1
theorem dksX1_insert_0 : cX1_insert.data.toList.drop 0 = dktX1_insert_0 := by decide +kernel
theorem dksX1_insert_1 : cX1_insert.data.toList.drop 24 = dktX1_insert_1 := dk_seg dksX1_insert_0 24 rfl rfl
theorem dksX1_insert_2 : cX1_insert.data.toList.drop 48 = dktX1_insert_2 := dk_seg dksX1_insert_1 24 rfl rfl
theorem dksX1_insert_3 : cX1_insert.data.toList.drop 72 = dktX1_insert_3 := dk_seg dksX1_insert_2 24 rfl rfl
theorem dX1_insert_0 : decode cX1_insert 0 = .ok (.aload_n 0, 1) := dk_42 (dk_at dksX1_insert_0 0 rfl rfl)
theorem dX1_insert_1 : decode cX1_insert 1 = .ok (.iload_n 1, 1) := dk_27 (dk_at dksX1_insert_0 1 rfl rfl)
theorem dX1_insert_2 : decode cX1_insert 2 = .ok (.invokevirtual 183, 3) := dk_182 0 183 (dk_at dksX1_insert_0 2 rfl rfl)
theorem dX1_insert_5 : decode cX1_insert 5 = .ok (.astore 4, 2) := dk_58 4 (dk_at dksX1_insert_0 5 rfl rfl)
theorem dX1_insert_7 : decode cX1_insert 7 = .ok (.iconst 2, 1) := dk_5 (dk_at dksX1_insert_0 7 rfl rfl)
theorem dX1_insert_8 : decode cX1_insert 8 = .ok (.newarray .int, 2) := dk_188_10 (dk_at dksX1_insert_0 8 rfl rfl)
theorem dX1_insert_10 : decode cX1_insert 10 = .ok (.dup, 1) := dk_89 (dk_at dksX1_insert_0 10 rfl rfl)
theorem dX1_insert_11 : decode cX1_insert 11 = .ok (.iconst 0, 1) := dk_3 (dk_at dksX1_insert_0 11 rfl rfl)
theorem dX1_insert_12 : decode cX1_insert 12 = .ok (.iload_n 2, 1) := dk_28 (dk_at dksX1_insert_0 12 rfl rfl)
theorem dX1_insert_13 : decode cX1_insert 13 = .ok (.iastore, 1) := dk_79 (dk_at dksX1_insert_0 13 rfl rfl)
theorem dX1_insert_14 : decode cX1_insert 14 = .ok (.dup, 1) := dk_89 (dk_at dksX1_insert_0 14 rfl rfl)
theorem dX1_insert_15 : decode cX1_insert 15 = .ok (.iconst 1, 1) := dk_4 (dk_at dksX1_insert_0 15 rfl rfl)
theorem dX1_insert_16 : decode cX1_insert 16 = .ok (.iload_n 3, 1) := dk_29 (dk_at dksX1_insert_0 16 rfl rfl)
theorem dX1_insert_17 : decode cX1_insert 17 = .ok (.iastore, 1) := dk_79 (dk_at dksX1_insert_0 17 rfl rfl)
theorem dX1_insert_18 : decode cX1_insert 18 = .ok (.invokestatic 187, 3) := dk_184 0 187 (dk_at dksX1_insert_0 18 rfl rfl)
theorem dX1_insert_21 : decode cX1_insert 21 = .ok (.aload_n 0, 1) := dk_42 (dk_at dksX1_insert_0 21 rfl rfl)
theorem dX1_insert_22 : decode cX1_insert 22 = .ok (.aload 4, 2) := dk_25 4 (dk_at dksX1_insert_0 22 rfl rfl)
theorem dX1_insert_24 : decode cX1_insert 24 = .ok (.iload_n 2, 1) := dk_28 (dk_at dksX1_insert_1 0 rfl rfl)
theorem dX1_insert_25 : decode cX1_insert 25 = .ok (.invokevirtual 309, 3) := dk_182 1 53 (dk_at dksX1_insert_1 1 rfl rfl)
theorem dX1_insert_28 : decode cX1_insert 28 = .ok (.aload_n 0, 1) := dk_42 (dk_at dksX1_insert_1 4 rfl rfl)
theorem dX1_insert_29 : decode cX1_insert 29 = .ok (.invokevirtual 382, 3) := dk_182 1 126 (dk_at dksX1_insert_1 5 rfl rfl)
theorem dX1_insert_32 : decode cX1_insert 32 = .ok (.iload_n 1, 1) := dk_27 (dk_at dksX1_insert_1 8 rfl rfl)
theorem dX1_insert_33 : decode cX1_insert 33 = .ok (.invokevirtual 389, 3) := dk_182 1 133 (dk_at dksX1_insert_1 9 rfl rfl)
theorem dX1_insert_36 : decode cX1_insert 36 = .ok (.astore 5, 2) := dk_58 5 (dk_at dksX1_insert_1 12 rfl rfl)
theorem dX1_insert_38 : decode cX1_insert 38 = .ok (.aload 5, 2) := dk_25 5 (dk_at dksX1_insert_1 14 rfl rfl)
theorem dX1_insert_40 : decode cX1_insert 40 = .ok (.iload_n 2, 1) := dk_28 (dk_at dksX1_insert_1 16 rfl rfl)
theorem dX1_insert_41 : decode cX1_insert 41 = .ok (.iload_n 3, 1) := dk_29 (dk_at dksX1_insert_1 17 rfl rfl)
theorem dX1_insert_42 : decode cX1_insert 42 = .ok (.invokevirtual 317, 3) := dk_182 1 61 (dk_at dksX1_insert_1 18 rfl rfl)
theorem dX1_insert_45 : decode cX1_insert 45 = .ok (.istore 6, 2) := dk_54 6 (dk_at dksX1_insert_1 21 rfl rfl)
theorem dX1_insert_47 : decode cX1_insert 47 = .ok (.aload_n 0, 1) := dk_42 (dk_at dksX1_insert_1 23 rfl rfl)
theorem dX1_insert_48 : decode cX1_insert 48 = .ok (.aload 5, 2) := dk_25 5 (dk_at dksX1_insert_2 0 rfl rfl)
theorem dX1_insert_50 : decode cX1_insert 50 = .ok (.invokevirtual 392, 3) := dk_182 1 136 (dk_at dksX1_insert_2 2 rfl rfl)
theorem dX1_insert_53 : decode cX1_insert 53 = .ok (.aload_n 0, 1) := dk_42 (dk_at dksX1_insert_2 5 rfl rfl)
theorem dX1_insert_54 : decode cX1_insert 54 = .ok (.getfield 96, 3) := dk_180 0 96 (dk_at dksX1_insert_2 6 rfl rfl)
theorem dX1_insert_57 : decode cX1_insert 57 = .ok (.getfield 358, 3) := dk_180 1 102 (dk_at dksX1_insert_2 9 rfl rfl)
theorem dX1_insert_60 : decode cX1_insert 60 = .ok (.iconst 0, 1) := dk_3 (dk_at dksX1_insert_2 12 rfl rfl)
theorem dX1_insert_61 : decode cX1_insert 61 = .ok (.dup2, 1) := dk_92 (dk_at dksX1_insert_2 13 rfl rfl)
theorem dX1_insert_62 : decode cX1_insert 62 = .ok (.iaload, 1) := dk_46 (dk_at dksX1_insert_2 14 rfl rfl)
theorem dX1_insert_63 : decode cX1_insert 63 = .ok (.iconst 1, 1) := dk_4 (dk_at dksX1_insert_2 15 rfl rfl)
theorem dX1_insert_64 : decode cX1_insert 64 = .ok (.iadd, 1) := dk_96 (dk_at dksX1_insert_2 16 rfl rfl)
theorem dX1_insert_65 : decode cX1_insert 65 = .ok (.iastore, 1) := dk_79 (dk_at dksX1_insert_2 17 rfl rfl)
theorem dX1_insert_66 : decode cX1_insert 66 = .ok (.aload_n 0, 1) := dk_42 (dk_at dksX1_insert_2 18 rfl rfl)
theorem dX1_insert_67 : decode cX1_insert 67 = .ok (.invokevirtual 386, 3) := dk_182 1 130 (dk_at dksX1_insert_2 19 rfl rfl)
theorem dX1_insert_70 : decode cX1_insert 70 = .ok (.iload 6, 2) := dk_21 6 (dk_at dksX1_insert_2 22 rfl rfl)
theorem dX1_insert_72 : decode cX1_insert 72 = .ok (.ireturn, 1) := dk_172 (dk_at dksX1_insert_3 0 rfl rfl)
abbrev cX1_mends : ByteArray := prog_1_method_61_code
def yX1_mends : MethodName := ⟨RX1, "mends", "(LCountedSkipLists$SkipList;)V"⟩
def dkwX1_mends_0 : List UInt8 := [43, 42, 180, 0, 96, 180, 0, 176, 42, 180, 0, 96, 180, 1, 79, 184, 1, 65, 177]
abbrev dktX1_mends_0 : List UInt8 := dkwX1_mends_0 ++ []
theorem dksX1_mends_0 : cX1_mends.data.toList.drop 0 = dktX1_mends_0 := by decide +kernel
theorem dX1_mends_0 : decode cX1_mends 0 = .ok (.aload_n 1, 1) := dk_43 (dk_at dksX1_mends_0 0 rfl rfl)
theorem dX1_mends_1 : decode cX1_mends 1 = .ok (.aload_n 0, 1) := dk_42 (dk_at dksX1_mends_0 1 rfl rfl)
theorem dX1_mends_2 : decode cX1_mends 2 = .ok (.getfield 96, 3) := dk_180 0 96 (dk_at dksX1_mends_0 2 rfl rfl)
theorem dX1_mends_5 : decode cX1_mends 5 = .ok (.getfield 176, 3) := dk_180 0 176 (dk_at dksX1_mends_0 5 rfl rfl)
theorem dX1_mends_8 : decode cX1_mends 8 = .ok (.aload_n 0, 1) := dk_42 (dk_at dksX1_mends_0 8 rfl rfl)
theorem dX1_mends_9 : decode cX1_mends 9 = .ok (.getfield 96, 3) := dk_180 0 96 (dk_at dksX1_mends_0 9 rfl rfl)
theorem dX1_mends_12 : decode cX1_mends 12 = .ok (.getfield 335, 3) := dk_180 1 79 (dk_at dksX1_mends_0 12 rfl rfl)
theorem dX1_mends_15 : decode cX1_mends 15 = .ok (.invokestatic 321, 3) := dk_184 1 65 (dk_at dksX1_mends_0 15 rfl rfl)
theorem dX1_mends_18 : decode cX1_mends 18 = .ok (.return_, 1) := dk_177 (dk_at dksX1_mends_0 18 rfl rfl)
abbrev cX1_remove : ByteArray := prog_1_method_65_code
def yX1_remove : MethodName := ⟨RX1, "remove", "(II)I"⟩
def dkwX1_remove_2 : List UInt8 := [4, 92, 46, 4, 96, 79, 42, 182, 1, 130, 29, 172]
abbrev dktX1_remove_2 : List UInt8 := dkwX1_remove_2 ++ []
def dkwX1_remove_1 : List UInt8 := [25, 4, 25, 4, 28, 184, 0, 232, 182, 1, 69, 42, 25, 4, 182, 1, 136, 42, 180, 0, 96, 180, 1, 102]
abbrev dktX1_remove_1 : List UInt8 := dkwX1_remove_1 ++ dktX1_remove_2
def dkwX1_remove_0 : List UInt8 := [42, 27, 28, 182, 0, 229, 28, 184, 0, 232, 180, 0, 208, 62, 42, 182, 1, 126, 27, 182, 1, 133, 58, 4]
abbrev dktX1_remove_0 : List UInt8 := dkwX1_remove_0 ++ dktX1_remove_1
theorem dksX1_remove_0 : cX1_remove.data.toList.drop 0 = dktX1_remove_0 := by decide +kernel
theorem dksX1_remove_1 : cX1_remove.data.toList.drop 24 = dktX1_remove_1 := dk_seg dksX1_remove_0 24 rfl rfl
theorem dksX1_remove_2 : cX1_remove.data.toList.drop 48 = dktX1_remove_2 := dk_seg dksX1_remove_1 24 rfl rfl
theorem dX1_remove_0 : decode cX1_remove 0 = .ok (.aload_n 0, 1) := dk_42 (dk_at dksX1_remove_0 0 rfl rfl)
theorem dX1_remove_1 : decode cX1_remove 1 = .ok (.iload_n 1, 1) := dk_27 (dk_at dksX1_remove_0 1 rfl rfl)
theorem dX1_remove_2 : decode cX1_remove 2 = .ok (.iload_n 2, 1) := dk_28 (dk_at dksX1_remove_0 2 rfl rfl)
theorem dX1_remove_3 : decode cX1_remove 3 = .ok (.invokevirtual 229, 3) := dk_182 0 229 (dk_at dksX1_remove_0 3 rfl rfl)
theorem dX1_remove_6 : decode cX1_remove 6 = .ok (.iload_n 2, 1) := dk_28 (dk_at dksX1_remove_0 6 rfl rfl)
theorem dX1_remove_7 : decode cX1_remove 7 = .ok (.invokestatic 232, 3) := dk_184 0 232 (dk_at dksX1_remove_0 7 rfl rfl)
theorem dX1_remove_10 : decode cX1_remove 10 = .ok (.getfield 208, 3) := dk_180 0 208 (dk_at dksX1_remove_0 10 rfl rfl)
theorem dX1_remove_13 : decode cX1_remove 13 = .ok (.istore_n 3, 1) := dk_62 (dk_at dksX1_remove_0 13 rfl rfl)
theorem dX1_remove_14 : decode cX1_remove 14 = .ok (.aload_n 0, 1) := dk_42 (dk_at dksX1_remove_0 14 rfl rfl)
theorem dX1_remove_15 : decode cX1_remove 15 = .ok (.invokevirtual 382, 3) := dk_182 1 126 (dk_at dksX1_remove_0 15 rfl rfl)
theorem dX1_remove_18 : decode cX1_remove 18 = .ok (.iload_n 1, 1) := dk_27 (dk_at dksX1_remove_0 18 rfl rfl)
theorem dX1_remove_19 : decode cX1_remove 19 = .ok (.invokevirtual 389, 3) := dk_182 1 133 (dk_at dksX1_remove_0 19 rfl rfl)
theorem dX1_remove_22 : decode cX1_remove 22 = .ok (.astore 4, 2) := dk_58 4 (dk_at dksX1_remove_0 22 rfl rfl)
theorem dX1_remove_24 : decode cX1_remove 24 = .ok (.aload 4, 2) := dk_25 4 (dk_at dksX1_remove_1 0 rfl rfl)
theorem dX1_remove_26 : decode cX1_remove 26 = .ok (.aload 4, 2) := dk_25 4 (dk_at dksX1_remove_1 2 rfl rfl)
theorem dX1_remove_28 : decode cX1_remove 28 = .ok (.iload_n 2, 1) := dk_28 (dk_at dksX1_remove_1 4 rfl rfl)
theorem dX1_remove_29 : decode cX1_remove 29 = .ok (.invokestatic 232, 3) := dk_184 0 232 (dk_at dksX1_remove_1 5 rfl rfl)
theorem dX1_remove_32 : decode cX1_remove 32 = .ok (.invokevirtual 325, 3) := dk_182 1 69 (dk_at dksX1_remove_1 8 rfl rfl)
theorem dX1_remove_35 : decode cX1_remove 35 = .ok (.aload_n 0, 1) := dk_42 (dk_at dksX1_remove_1 11 rfl rfl)
theorem dX1_remove_36 : decode cX1_remove 36 = .ok (.aload 4, 2) := dk_25 4 (dk_at dksX1_remove_1 12 rfl rfl)
theorem dX1_remove_38 : decode cX1_remove 38 = .ok (.invokevirtual 392, 3) := dk_182 1 136 (dk_at dksX1_remove_1 14 rfl rfl)
theorem dX1_remove_41 : decode cX1_remove 41 = .ok (.aload_n 0, 1) := dk_42 (dk_at dksX1_remove_1 17 rfl rfl)
theorem dX1_remove_42 : decode cX1_remove 42 = .ok (.getfield 96, 3) := dk_180 0 96 (dk_at dksX1_remove_1 18 rfl rfl)
theorem dX1_remove_45 : decode cX1_remove 45 = .ok (.getfield 358, 3) := dk_180 1 102 (dk_at dksX1_remove_1 21 rfl rfl)
theorem dX1_remove_48 : decode cX1_remove 48 = .ok (.iconst 1, 1) := dk_4 (dk_at dksX1_remove_2 0 rfl rfl)
theorem dX1_remove_49 : decode cX1_remove 49 = .ok (.dup2, 1) := dk_92 (dk_at dksX1_remove_2 1 rfl rfl)
theorem dX1_remove_50 : decode cX1_remove 50 = .ok (.iaload, 1) := dk_46 (dk_at dksX1_remove_2 2 rfl rfl)
theorem dX1_remove_51 : decode cX1_remove 51 = .ok (.iconst 1, 1) := dk_4 (dk_at dksX1_remove_2 3 rfl rfl)
theorem dX1_remove_52 : decode cX1_remove 52 = .ok (.iadd, 1) := dk_96 (dk_at dksX1_remove_2 4 rfl rfl)
theorem dX1_remove_53 : decode cX1_remove 53 = .ok (.iastore, 1) := dk_79 (dk_at dksX1_remove_2 5 rfl rfl)
theorem dX1_remove_54 : decode cX1_remove 54 = .ok (.aload_n 0, 1) := dk_42 (dk_at dksX1_remove_2 6 rfl rfl)
theorem dX1_remove_55 : decode cX1_remove 55 = .ok (.invokevirtual 386, 3) := dk_182 1 130 (dk_at dksX1_remove_2 7 rfl rfl)
theorem dX1_remove_58 : decode cX1_remove 58 = .ok (.iload_n 3, 1) := dk_29 (dk_at dksX1_remove_2 10 rfl rfl)
theorem dX1_remove_59 : decode cX1_remove 59 = .ok (.ireturn, 1) := dk_172 (dk_at dksX1_remove_2 11 rfl rfl)
abbrev cX1_setValue : ByteArray := prog_1_method_66_code
def yX1_setValue : MethodName := ⟨RX1, "setValue", "(III)I"⟩
def dkwX1_setValue_2 : List UInt8 := [184, 0, 232, 29, 182, 1, 140, 42, 182, 1, 130, 21, 5, 172]
abbrev dktX1_setValue_2 : List UInt8 := dkwX1_setValue_2 ++ []
def dkwX1_setValue_1 : List UInt8 := [184, 0, 232, 180, 0, 208, 54, 5, 42, 182, 1, 126, 27, 182, 1, 133, 58, 6, 25, 6, 25, 6, 28]
abbrev dktX1_setValue_1 : List UInt8 := dkwX1_setValue_1 ++ dktX1_setValue_2
def dkwX1_setValue_0 : List UInt8 := [42, 27, 182, 0, 183, 58, 4, 5, 188, 10, 89, 3, 28, 79, 89, 4, 29, 79, 184, 0, 187, 25, 4, 28]
abbrev dktX1_setValue_0 : List UInt8 := dkwX1_setValue_0 ++ dktX1_setValue_1
theorem dksX1_setValue_0 : cX1_setValue.data.toList.drop 0 = dktX1_setValue_0 := by decide +kernel
theorem dksX1_setValue_1 : cX1_setValue.data.toList.drop 24 = dktX1_setValue_1 := dk_seg dksX1_setValue_0 24 rfl rfl
theorem dksX1_setValue_2 : cX1_setValue.data.toList.drop 47 = dktX1_setValue_2 := dk_seg dksX1_setValue_1 23 rfl rfl
theorem dX1_setValue_0 : decode cX1_setValue 0 = .ok (.aload_n 0, 1) := dk_42 (dk_at dksX1_setValue_0 0 rfl rfl)
theorem dX1_setValue_1 : decode cX1_setValue 1 = .ok (.iload_n 1, 1) := dk_27 (dk_at dksX1_setValue_0 1 rfl rfl)
theorem dX1_setValue_2 : decode cX1_setValue 2 = .ok (.invokevirtual 183, 3) := dk_182 0 183 (dk_at dksX1_setValue_0 2 rfl rfl)
theorem dX1_setValue_5 : decode cX1_setValue 5 = .ok (.astore 4, 2) := dk_58 4 (dk_at dksX1_setValue_0 5 rfl rfl)
theorem dX1_setValue_7 : decode cX1_setValue 7 = .ok (.iconst 2, 1) := dk_5 (dk_at dksX1_setValue_0 7 rfl rfl)
theorem dX1_setValue_8 : decode cX1_setValue 8 = .ok (.newarray .int, 2) := dk_188_10 (dk_at dksX1_setValue_0 8 rfl rfl)
theorem dX1_setValue_10 : decode cX1_setValue 10 = .ok (.dup, 1) := dk_89 (dk_at dksX1_setValue_0 10 rfl rfl)
theorem dX1_setValue_11 : decode cX1_setValue 11 = .ok (.iconst 0, 1) := dk_3 (dk_at dksX1_setValue_0 11 rfl rfl)
theorem dX1_setValue_12 : decode cX1_setValue 12 = .ok (.iload_n 2, 1) := dk_28 (dk_at dksX1_setValue_0 12 rfl rfl)
theorem dX1_setValue_13 : decode cX1_setValue 13 = .ok (.iastore, 1) := dk_79 (dk_at dksX1_setValue_0 13 rfl rfl)
theorem dX1_setValue_14 : decode cX1_setValue 14 = .ok (.dup, 1) := dk_89 (dk_at dksX1_setValue_0 14 rfl rfl)
theorem dX1_setValue_15 : decode cX1_setValue 15 = .ok (.iconst 1, 1) := dk_4 (dk_at dksX1_setValue_0 15 rfl rfl)
theorem dX1_setValue_16 : decode cX1_setValue 16 = .ok (.iload_n 3, 1) := dk_29 (dk_at dksX1_setValue_0 16 rfl rfl)
theorem dX1_setValue_17 : decode cX1_setValue 17 = .ok (.iastore, 1) := dk_79 (dk_at dksX1_setValue_0 17 rfl rfl)
theorem dX1_setValue_18 : decode cX1_setValue 18 = .ok (.invokestatic 187, 3) := dk_184 0 187 (dk_at dksX1_setValue_0 18 rfl rfl)
theorem dX1_setValue_21 : decode cX1_setValue 21 = .ok (.aload 4, 2) := dk_25 4 (dk_at dksX1_setValue_0 21 rfl rfl)
theorem dX1_setValue_23 : decode cX1_setValue 23 = .ok (.iload_n 2, 1) := dk_28 (dk_at dksX1_setValue_0 23 rfl rfl)
theorem dX1_setValue_24 : decode cX1_setValue 24 = .ok (.invokestatic 232, 3) := dk_184 0 232 (dk_at dksX1_setValue_1 0 rfl rfl)
theorem dX1_setValue_27 : decode cX1_setValue 27 = .ok (.getfield 208, 3) := dk_180 0 208 (dk_at dksX1_setValue_1 3 rfl rfl)
theorem dX1_setValue_30 : decode cX1_setValue 30 = .ok (.istore 5, 2) := dk_54 5 (dk_at dksX1_setValue_1 6 rfl rfl)
theorem dX1_setValue_32 : decode cX1_setValue 32 = .ok (.aload_n 0, 1) := dk_42 (dk_at dksX1_setValue_1 8 rfl rfl)
theorem dX1_setValue_33 : decode cX1_setValue 33 = .ok (.invokevirtual 382, 3) := dk_182 1 126 (dk_at dksX1_setValue_1 9 rfl rfl)
theorem dX1_setValue_36 : decode cX1_setValue 36 = .ok (.iload_n 1, 1) := dk_27 (dk_at dksX1_setValue_1 12 rfl rfl)
theorem dX1_setValue_37 : decode cX1_setValue 37 = .ok (.invokevirtual 389, 3) := dk_182 1 133 (dk_at dksX1_setValue_1 13 rfl rfl)
theorem dX1_setValue_40 : decode cX1_setValue 40 = .ok (.astore 6, 2) := dk_58 6 (dk_at dksX1_setValue_1 16 rfl rfl)
theorem dX1_setValue_42 : decode cX1_setValue 42 = .ok (.aload 6, 2) := dk_25 6 (dk_at dksX1_setValue_1 18 rfl rfl)
theorem dX1_setValue_44 : decode cX1_setValue 44 = .ok (.aload 6, 2) := dk_25 6 (dk_at dksX1_setValue_1 20 rfl rfl)
theorem dX1_setValue_46 : decode cX1_setValue 46 = .ok (.iload_n 2, 1) := dk_28 (dk_at dksX1_setValue_1 22 rfl rfl)
theorem dX1_setValue_47 : decode cX1_setValue 47 = .ok (.invokestatic 232, 3) := dk_184 0 232 (dk_at dksX1_setValue_2 0 rfl rfl)
theorem dX1_setValue_50 : decode cX1_setValue 50 = .ok (.iload_n 3, 1) := dk_29 (dk_at dksX1_setValue_2 3 rfl rfl)
theorem dX1_setValue_51 : decode cX1_setValue 51 = .ok (.invokevirtual 396, 3) := dk_182 1 140 (dk_at dksX1_setValue_2 4 rfl rfl)
theorem dX1_setValue_54 : decode cX1_setValue 54 = .ok (.aload_n 0, 1) := dk_42 (dk_at dksX1_setValue_2 7 rfl rfl)
theorem dX1_setValue_55 : decode cX1_setValue 55 = .ok (.invokevirtual 386, 3) := dk_182 1 130 (dk_at dksX1_setValue_2 8 rfl rfl)
theorem dX1_setValue_58 : decode cX1_setValue 58 = .ok (.iload 5, 2) := dk_21 5 (dk_at dksX1_setValue_2 11 rfl rfl)
theorem dX1_setValue_60 : decode cX1_setValue 60 = .ok (.ireturn, 1) := dk_172 (dk_at dksX1_setValue_2 13 rfl rfl)
abbrev cX1_split : ByteArray := prog_1_method_69_code
def yX1_split : MethodName := ⟨RX1, "split", "(II)I"⟩
def dkwX1_split_3 : List UInt8 := [182, 1, 130, 21, 4, 172]
abbrev dktX1_split_3 : List UInt8 := dkwX1_split_3 ++ []
def dkwX1_split_2 : List UInt8 := [180, 0, 163, 27, 25, 6, 3, 50, 83, 25, 5, 180, 0, 163, 21, 4, 25, 6, 4, 50, 83, 42]
abbrev dktX1_split_2 : List UInt8 := dkwX1_split_2 ++ dktX1_split_3
def dkwX1_split_1 : List UInt8 := [167, 0, 4, 3, 184, 0, 114, 42, 182, 1, 126, 58, 5, 42, 45, 28, 182, 1, 151, 58, 6, 25, 5]
abbrev dktX1_split_1 : List UInt8 := dkwX1_split_1 ++ dktX1_split_2
def dkwX1_split_0 : List UInt8 := [42, 27, 28, 182, 0, 229, 78, 42, 180, 0, 96, 182, 1, 123, 54, 4, 21, 4, 2, 159, 0, 7, 4]
abbrev dktX1_split_0 : List UInt8 := dkwX1_split_0 ++ dktX1_split_1
theorem dksX1_split_0 : cX1_split.data.toList.drop 0 = dktX1_split_0 := by decide +kernel
theorem dksX1_split_1 : cX1_split.data.toList.drop 23 = dktX1_split_1 := dk_seg dksX1_split_0 23 rfl rfl
theorem dksX1_split_2 : cX1_split.data.toList.drop 46 = dktX1_split_2 := dk_seg dksX1_split_1 23 rfl rfl
theorem dksX1_split_3 : cX1_split.data.toList.drop 68 = dktX1_split_3 := dk_seg dksX1_split_2 22 rfl rfl
theorem dX1_split_0 : decode cX1_split 0 = .ok (.aload_n 0, 1) := dk_42 (dk_at dksX1_split_0 0 rfl rfl)
theorem dX1_split_1 : decode cX1_split 1 = .ok (.iload_n 1, 1) := dk_27 (dk_at dksX1_split_0 1 rfl rfl)
theorem dX1_split_2 : decode cX1_split 2 = .ok (.iload_n 2, 1) := dk_28 (dk_at dksX1_split_0 2 rfl rfl)
theorem dX1_split_3 : decode cX1_split 3 = .ok (.invokevirtual 229, 3) := dk_182 0 229 (dk_at dksX1_split_0 3 rfl rfl)
theorem dX1_split_6 : decode cX1_split 6 = .ok (.astore_n 3, 1) := dk_78 (dk_at dksX1_split_0 6 rfl rfl)
theorem dX1_split_7 : decode cX1_split 7 = .ok (.aload_n 0, 1) := dk_42 (dk_at dksX1_split_0 7 rfl rfl)
theorem dX1_split_8 : decode cX1_split 8 = .ok (.getfield 96, 3) := dk_180 0 96 (dk_at dksX1_split_0 8 rfl rfl)
theorem dX1_split_11 : decode cX1_split 11 = .ok (.invokevirtual 379, 3) := dk_182 1 123 (dk_at dksX1_split_0 11 rfl rfl)
theorem dX1_split_14 : decode cX1_split 14 = .ok (.istore 4, 2) := dk_54 4 (dk_at dksX1_split_0 14 rfl rfl)
theorem dX1_split_16 : decode cX1_split 16 = .ok (.iload 4, 2) := dk_21 4 (dk_at dksX1_split_0 16 rfl rfl)
theorem dX1_split_18 : decode cX1_split 18 = .ok (.iconst (-1), 1) := dk_2 (dk_at dksX1_split_0 18 rfl rfl)
theorem dX1_split_19 : decode cX1_split 19 = .ok (.if_icmp .eq 7, 3) := dk_159 0 7 (dk_at dksX1_split_0 19 rfl rfl)
theorem dX1_split_22 : decode cX1_split 22 = .ok (.iconst 1, 1) := dk_4 (dk_at dksX1_split_0 22 rfl rfl)
theorem dX1_split_23 : decode cX1_split 23 = .ok (.goto 4, 3) := dk_167 0 4 (dk_at dksX1_split_1 0 rfl rfl)
theorem dX1_split_26 : decode cX1_split 26 = .ok (.iconst 0, 1) := dk_3 (dk_at dksX1_split_1 3 rfl rfl)
theorem dX1_split_27 : decode cX1_split 27 = .ok (.invokestatic 114, 3) := dk_184 0 114 (dk_at dksX1_split_1 4 rfl rfl)
theorem dX1_split_30 : decode cX1_split 30 = .ok (.aload_n 0, 1) := dk_42 (dk_at dksX1_split_1 7 rfl rfl)
theorem dX1_split_31 : decode cX1_split 31 = .ok (.invokevirtual 382, 3) := dk_182 1 126 (dk_at dksX1_split_1 8 rfl rfl)
theorem dX1_split_34 : decode cX1_split 34 = .ok (.astore 5, 2) := dk_58 5 (dk_at dksX1_split_1 11 rfl rfl)
theorem dX1_split_36 : decode cX1_split 36 = .ok (.aload_n 0, 1) := dk_42 (dk_at dksX1_split_1 13 rfl rfl)
theorem dX1_split_37 : decode cX1_split 37 = .ok (.aload_n 3, 1) := dk_45 (dk_at dksX1_split_1 14 rfl rfl)
theorem dX1_split_38 : decode cX1_split 38 = .ok (.iload_n 2, 1) := dk_28 (dk_at dksX1_split_1 15 rfl rfl)
theorem dX1_split_39 : decode cX1_split 39 = .ok (.invokevirtual 407, 3) := dk_182 1 151 (dk_at dksX1_split_1 16 rfl rfl)
theorem dX1_split_42 : decode cX1_split 42 = .ok (.astore 6, 2) := dk_58 6 (dk_at dksX1_split_1 19 rfl rfl)
theorem dX1_split_44 : decode cX1_split 44 = .ok (.aload 5, 2) := dk_25 5 (dk_at dksX1_split_1 21 rfl rfl)
theorem dX1_split_46 : decode cX1_split 46 = .ok (.getfield 163, 3) := dk_180 0 163 (dk_at dksX1_split_2 0 rfl rfl)
theorem dX1_split_49 : decode cX1_split 49 = .ok (.iload_n 1, 1) := dk_27 (dk_at dksX1_split_2 3 rfl rfl)
theorem dX1_split_50 : decode cX1_split 50 = .ok (.aload 6, 2) := dk_25 6 (dk_at dksX1_split_2 4 rfl rfl)
theorem dX1_split_52 : decode cX1_split 52 = .ok (.iconst 0, 1) := dk_3 (dk_at dksX1_split_2 6 rfl rfl)
theorem dX1_split_53 : decode cX1_split 53 = .ok (.aaload, 1) := dk_50 (dk_at dksX1_split_2 7 rfl rfl)
theorem dX1_split_54 : decode cX1_split 54 = .ok (.aastore, 1) := dk_83 (dk_at dksX1_split_2 8 rfl rfl)
theorem dX1_split_55 : decode cX1_split 55 = .ok (.aload 5, 2) := dk_25 5 (dk_at dksX1_split_2 9 rfl rfl)
theorem dX1_split_57 : decode cX1_split 57 = .ok (.getfield 163, 3) := dk_180 0 163 (dk_at dksX1_split_2 11 rfl rfl)
theorem dX1_split_60 : decode cX1_split 60 = .ok (.iload 4, 2) := dk_21 4 (dk_at dksX1_split_2 14 rfl rfl)
theorem dX1_split_62 : decode cX1_split 62 = .ok (.aload 6, 2) := dk_25 6 (dk_at dksX1_split_2 16 rfl rfl)
theorem dX1_split_64 : decode cX1_split 64 = .ok (.iconst 1, 1) := dk_4 (dk_at dksX1_split_2 18 rfl rfl)
theorem dX1_split_65 : decode cX1_split 65 = .ok (.aaload, 1) := dk_50 (dk_at dksX1_split_2 19 rfl rfl)
theorem dX1_split_66 : decode cX1_split 66 = .ok (.aastore, 1) := dk_83 (dk_at dksX1_split_2 20 rfl rfl)
theorem dX1_split_67 : decode cX1_split 67 = .ok (.aload_n 0, 1) := dk_42 (dk_at dksX1_split_2 21 rfl rfl)
theorem dX1_split_68 : decode cX1_split 68 = .ok (.invokevirtual 386, 3) := dk_182 1 130 (dk_at dksX1_split_3 0 rfl rfl)
theorem dX1_split_71 : decode cX1_split 71 = .ok (.iload 4, 2) := dk_21 4 (dk_at dksX1_split_3 3 rfl rfl)
theorem dX1_split_73 : decode cX1_split 73 = .ok (.ireturn, 1) := dk_172 (dk_at dksX1_split_3 5 rfl rfl)
abbrev cX1_parts : ByteArray := prog_1_method_67_code
def yX1_parts : MethodName := ⟨RX1, "parts", "(LCountedSkipLists$SkipList;I)[LCountedSkipLists$SkipList;"⟩
def dkwX1_parts_4 : List UInt8 := [3, 50, 182, 1, 136, 42, 45, 4, 50, 182, 1, 136, 45, 176]
abbrev dktX1_parts_4 : List UInt8 := dkwX1_parts_4 ++ []
def dkwX1_parts_3 : List UInt8 := [180, 0, 247, 4, 182, 0, 251, 25, 4, 182, 1, 147, 45, 4, 50, 43, 25, 4, 1, 182, 1, 147, 42, 45]
abbrev dktX1_parts_3 : List UInt8 := dkwX1_parts_3 ++ dktX1_parts_4
def dkwX1_parts_2 : List UInt8 := [180, 0, 203, 28, 162, 0, 14, 25, 4, 4, 182, 0, 251, 58, 4, 167, 255, 234, 45, 3, 50, 43, 43]
abbrev dktX1_parts_2 : List UInt8 := dkwX1_parts_2 ++ dktX1_parts_3
def dkwX1_parts_1 : List UInt8 := [183, 1, 129, 83, 78, 43, 180, 0, 247, 4, 182, 0, 251, 58, 4, 25, 4, 198, 0, 23, 25, 4]
abbrev dktX1_parts_1 : List UInt8 := dkwX1_parts_1 ++ dktX1_parts_2
def dkwX1_parts_0 : List UInt8 := [5, 189, 0, 167, 89, 3, 187, 0, 167, 89, 43, 180, 0, 166, 183, 1, 144, 83, 89, 4, 187, 0, 167, 89]
abbrev dktX1_parts_0 : List UInt8 := dkwX1_parts_0 ++ dktX1_parts_1
theorem dksX1_parts_0 : cX1_parts.data.toList.drop 0 = dktX1_parts_0 := by decide +kernel
theorem dksX1_parts_1 : cX1_parts.data.toList.drop 24 = dktX1_parts_1 := dk_seg dksX1_parts_0 24 rfl rfl
theorem dksX1_parts_2 : cX1_parts.data.toList.drop 46 = dktX1_parts_2 := dk_seg dksX1_parts_1 22 rfl rfl
theorem dksX1_parts_3 : cX1_parts.data.toList.drop 69 = dktX1_parts_3 := dk_seg dksX1_parts_2 23 rfl rfl
theorem dksX1_parts_4 : cX1_parts.data.toList.drop 93 = dktX1_parts_4 := dk_seg dksX1_parts_3 24 rfl rfl
theorem dX1_parts_0 : decode cX1_parts 0 = .ok (.iconst 2, 1) := dk_5 (dk_at dksX1_parts_0 0 rfl rfl)
theorem dX1_parts_1 : decode cX1_parts 1 = .ok (.anewarray 167, 3) := dk_189 0 167 (dk_at dksX1_parts_0 1 rfl rfl)
theorem dX1_parts_4 : decode cX1_parts 4 = .ok (.dup, 1) := dk_89 (dk_at dksX1_parts_0 4 rfl rfl)
theorem dX1_parts_5 : decode cX1_parts 5 = .ok (.iconst 0, 1) := dk_3 (dk_at dksX1_parts_0 5 rfl rfl)
theorem dX1_parts_6 : decode cX1_parts 6 = .ok (.new 167, 3) := dk_187 0 167 (dk_at dksX1_parts_0 6 rfl rfl)
theorem dX1_parts_9 : decode cX1_parts 9 = .ok (.dup, 1) := dk_89 (dk_at dksX1_parts_0 9 rfl rfl)
theorem dX1_parts_10 : decode cX1_parts 10 = .ok (.aload_n 1, 1) := dk_43 (dk_at dksX1_parts_0 10 rfl rfl)
theorem dX1_parts_11 : decode cX1_parts 11 = .ok (.getfield 166, 3) := dk_180 0 166 (dk_at dksX1_parts_0 11 rfl rfl)
theorem dX1_parts_14 : decode cX1_parts 14 = .ok (.invokespecial 400, 3) := dk_183 1 144 (dk_at dksX1_parts_0 14 rfl rfl)
theorem dX1_parts_17 : decode cX1_parts 17 = .ok (.aastore, 1) := dk_83 (dk_at dksX1_parts_0 17 rfl rfl)
theorem dX1_parts_18 : decode cX1_parts 18 = .ok (.dup, 1) := dk_89 (dk_at dksX1_parts_0 18 rfl rfl)
theorem dX1_parts_19 : decode cX1_parts 19 = .ok (.iconst 1, 1) := dk_4 (dk_at dksX1_parts_0 19 rfl rfl)
theorem dX1_parts_20 : decode cX1_parts 20 = .ok (.new 167, 3) := dk_187 0 167 (dk_at dksX1_parts_0 20 rfl rfl)
theorem dX1_parts_23 : decode cX1_parts 23 = .ok (.dup, 1) := dk_89 (dk_at dksX1_parts_0 23 rfl rfl)
theorem dX1_parts_24 : decode cX1_parts 24 = .ok (.invokespecial 385, 3) := dk_183 1 129 (dk_at dksX1_parts_1 0 rfl rfl)
theorem dX1_parts_27 : decode cX1_parts 27 = .ok (.aastore, 1) := dk_83 (dk_at dksX1_parts_1 3 rfl rfl)
theorem dX1_parts_28 : decode cX1_parts 28 = .ok (.astore_n 3, 1) := dk_78 (dk_at dksX1_parts_1 4 rfl rfl)
theorem dX1_parts_29 : decode cX1_parts 29 = .ok (.aload_n 1, 1) := dk_43 (dk_at dksX1_parts_1 5 rfl rfl)
theorem dX1_parts_30 : decode cX1_parts 30 = .ok (.getfield 247, 3) := dk_180 0 247 (dk_at dksX1_parts_1 6 rfl rfl)
theorem dX1_parts_33 : decode cX1_parts 33 = .ok (.iconst 1, 1) := dk_4 (dk_at dksX1_parts_1 9 rfl rfl)
theorem dX1_parts_34 : decode cX1_parts 34 = .ok (.invokevirtual 251, 3) := dk_182 0 251 (dk_at dksX1_parts_1 10 rfl rfl)
theorem dX1_parts_37 : decode cX1_parts 37 = .ok (.astore 4, 2) := dk_58 4 (dk_at dksX1_parts_1 13 rfl rfl)
theorem dX1_parts_39 : decode cX1_parts 39 = .ok (.aload 4, 2) := dk_25 4 (dk_at dksX1_parts_1 15 rfl rfl)
theorem dX1_parts_41 : decode cX1_parts 41 = .ok (.ifnull 23, 3) := dk_198 0 23 (dk_at dksX1_parts_1 17 rfl rfl)
theorem dX1_parts_44 : decode cX1_parts 44 = .ok (.aload 4, 2) := dk_25 4 (dk_at dksX1_parts_1 20 rfl rfl)
theorem dX1_parts_46 : decode cX1_parts 46 = .ok (.getfield 203, 3) := dk_180 0 203 (dk_at dksX1_parts_2 0 rfl rfl)
theorem dX1_parts_49 : decode cX1_parts 49 = .ok (.iload_n 2, 1) := dk_28 (dk_at dksX1_parts_2 3 rfl rfl)
theorem dX1_parts_50 : decode cX1_parts 50 = .ok (.if_icmp .ge 14, 3) := dk_162 0 14 (dk_at dksX1_parts_2 4 rfl rfl)
theorem dX1_parts_53 : decode cX1_parts 53 = .ok (.aload 4, 2) := dk_25 4 (dk_at dksX1_parts_2 7 rfl rfl)
theorem dX1_parts_55 : decode cX1_parts 55 = .ok (.iconst 1, 1) := dk_4 (dk_at dksX1_parts_2 9 rfl rfl)
theorem dX1_parts_56 : decode cX1_parts 56 = .ok (.invokevirtual 251, 3) := dk_182 0 251 (dk_at dksX1_parts_2 10 rfl rfl)
theorem dX1_parts_59 : decode cX1_parts 59 = .ok (.astore 4, 2) := dk_58 4 (dk_at dksX1_parts_2 13 rfl rfl)
theorem dX1_parts_61 : decode cX1_parts 61 = .ok (.goto (-22), 3) := dk_167 255 234 (dk_at dksX1_parts_2 15 rfl rfl)
theorem dX1_parts_64 : decode cX1_parts 64 = .ok (.aload_n 3, 1) := dk_45 (dk_at dksX1_parts_2 18 rfl rfl)
theorem dX1_parts_65 : decode cX1_parts 65 = .ok (.iconst 0, 1) := dk_3 (dk_at dksX1_parts_2 19 rfl rfl)
theorem dX1_parts_66 : decode cX1_parts 66 = .ok (.aaload, 1) := dk_50 (dk_at dksX1_parts_2 20 rfl rfl)
theorem dX1_parts_67 : decode cX1_parts 67 = .ok (.aload_n 1, 1) := dk_43 (dk_at dksX1_parts_2 21 rfl rfl)
theorem dX1_parts_68 : decode cX1_parts 68 = .ok (.aload_n 1, 1) := dk_43 (dk_at dksX1_parts_2 22 rfl rfl)
theorem dX1_parts_69 : decode cX1_parts 69 = .ok (.getfield 247, 3) := dk_180 0 247 (dk_at dksX1_parts_3 0 rfl rfl)
theorem dX1_parts_72 : decode cX1_parts 72 = .ok (.iconst 1, 1) := dk_4 (dk_at dksX1_parts_3 3 rfl rfl)
theorem dX1_parts_73 : decode cX1_parts 73 = .ok (.invokevirtual 251, 3) := dk_182 0 251 (dk_at dksX1_parts_3 4 rfl rfl)
theorem dX1_parts_76 : decode cX1_parts 76 = .ok (.aload 4, 2) := dk_25 4 (dk_at dksX1_parts_3 7 rfl rfl)
theorem dX1_parts_78 : decode cX1_parts 78 = .ok (.invokevirtual 403, 3) := dk_182 1 147 (dk_at dksX1_parts_3 9 rfl rfl)
theorem dX1_parts_81 : decode cX1_parts 81 = .ok (.aload_n 3, 1) := dk_45 (dk_at dksX1_parts_3 12 rfl rfl)
theorem dX1_parts_82 : decode cX1_parts 82 = .ok (.iconst 1, 1) := dk_4 (dk_at dksX1_parts_3 13 rfl rfl)
theorem dX1_parts_83 : decode cX1_parts 83 = .ok (.aaload, 1) := dk_50 (dk_at dksX1_parts_3 14 rfl rfl)
theorem dX1_parts_84 : decode cX1_parts 84 = .ok (.aload_n 1, 1) := dk_43 (dk_at dksX1_parts_3 15 rfl rfl)
theorem dX1_parts_85 : decode cX1_parts 85 = .ok (.aload 4, 2) := dk_25 4 (dk_at dksX1_parts_3 16 rfl rfl)
theorem dX1_parts_87 : decode cX1_parts 87 = .ok (.aconst_null, 1) := dk_1 (dk_at dksX1_parts_3 18 rfl rfl)
theorem dX1_parts_88 : decode cX1_parts 88 = .ok (.invokevirtual 403, 3) := dk_182 1 147 (dk_at dksX1_parts_3 19 rfl rfl)
theorem dX1_parts_91 : decode cX1_parts 91 = .ok (.aload_n 0, 1) := dk_42 (dk_at dksX1_parts_3 22 rfl rfl)
theorem dX1_parts_92 : decode cX1_parts 92 = .ok (.aload_n 3, 1) := dk_45 (dk_at dksX1_parts_3 23 rfl rfl)
theorem dX1_parts_93 : decode cX1_parts 93 = .ok (.iconst 0, 1) := dk_3 (dk_at dksX1_parts_4 0 rfl rfl)
theorem dX1_parts_94 : decode cX1_parts 94 = .ok (.aaload, 1) := dk_50 (dk_at dksX1_parts_4 1 rfl rfl)
theorem dX1_parts_95 : decode cX1_parts 95 = .ok (.invokevirtual 392, 3) := dk_182 1 136 (dk_at dksX1_parts_4 2 rfl rfl)
theorem dX1_parts_98 : decode cX1_parts 98 = .ok (.aload_n 0, 1) := dk_42 (dk_at dksX1_parts_4 5 rfl rfl)
theorem dX1_parts_99 : decode cX1_parts 99 = .ok (.aload_n 3, 1) := dk_45 (dk_at dksX1_parts_4 6 rfl rfl)
theorem dX1_parts_100 : decode cX1_parts 100 = .ok (.iconst 1, 1) := dk_4 (dk_at dksX1_parts_4 7 rfl rfl)
theorem dX1_parts_101 : decode cX1_parts 101 = .ok (.aaload, 1) := dk_50 (dk_at dksX1_parts_4 8 rfl rfl)
theorem dX1_parts_102 : decode cX1_parts 102 = .ok (.invokevirtual 392, 3) := dk_182 1 136 (dk_at dksX1_parts_4 9 rfl rfl)
theorem dX1_parts_105 : decode cX1_parts 105 = .ok (.aload_n 3, 1) := dk_45 (dk_at dksX1_parts_4 12 rfl rfl)
theorem dX1_parts_106 : decode cX1_parts 106 = .ok (.areturn, 1) := dk_176 (dk_at dksX1_parts_4 13 rfl rfl)
abbrev cX1_cut : ByteArray := prog_1_method_70_code
def yX1_cut : MethodName := ⟨RX1, "cut", "(III)I"⟩
def dkwX1_cut_5 : List UInt8 := [50, 83, 42, 182, 1, 130, 21, 5, 172]
abbrev dktX1_cut_5 : List UInt8 := dkwX1_cut_5 ++ []
def dkwX1_cut_4 : List UInt8 := [182, 1, 155, 25, 6, 180, 0, 163, 27, 25, 7, 3, 50, 83, 25, 6, 180, 0, 163, 21, 5, 25, 8, 3]
abbrev dktX1_cut_4 : List UInt8 := dkwX1_cut_4 ++ dktX1_cut_5
def dkwX1_cut_3 : List UInt8 := [58, 7, 42, 25, 7, 4, 50, 29, 182, 1, 151, 58, 8, 42, 25, 7, 3, 50, 25, 8, 4, 50]
abbrev dktX1_cut_3 : List UInt8 := dkwX1_cut_3 ++ dktX1_cut_4
def dkwX1_cut_2 : List UInt8 := [159, 0, 7, 4, 167, 0, 4, 3, 184, 0, 114, 42, 182, 1, 126, 58, 6, 42, 25, 4, 28, 182, 1, 151]
abbrev dktX1_cut_2 : List UInt8 := dkwX1_cut_2 ++ dktX1_cut_3
def dkwX1_cut_1 : List UInt8 := [163, 0, 7, 4, 167, 0, 4, 3, 184, 0, 22, 42, 180, 0, 96, 182, 1, 123, 54, 5, 21, 5, 2]
abbrev dktX1_cut_1 : List UInt8 := dkwX1_cut_1 ++ dktX1_cut_2
def dkwX1_cut_0 : List UInt8 := [42, 27, 182, 0, 183, 58, 4, 5, 188, 10, 89, 3, 28, 79, 89, 4, 29, 79, 184, 0, 187, 28, 29]
abbrev dktX1_cut_0 : List UInt8 := dkwX1_cut_0 ++ dktX1_cut_1
theorem dksX1_cut_0 : cX1_cut.data.toList.drop 0 = dktX1_cut_0 := by decide +kernel
theorem dksX1_cut_1 : cX1_cut.data.toList.drop 23 = dktX1_cut_1 := dk_seg dksX1_cut_0 23 rfl rfl
theorem dksX1_cut_2 : cX1_cut.data.toList.drop 46 = dktX1_cut_2 := dk_seg dksX1_cut_1 23 rfl rfl
theorem dksX1_cut_3 : cX1_cut.data.toList.drop 70 = dktX1_cut_3 := dk_seg dksX1_cut_2 24 rfl rfl
theorem dksX1_cut_4 : cX1_cut.data.toList.drop 92 = dktX1_cut_4 := dk_seg dksX1_cut_3 22 rfl rfl
theorem dksX1_cut_5 : cX1_cut.data.toList.drop 116 = dktX1_cut_5 := dk_seg dksX1_cut_4 24 rfl rfl
theorem dX1_cut_0 : decode cX1_cut 0 = .ok (.aload_n 0, 1) := dk_42 (dk_at dksX1_cut_0 0 rfl rfl)
theorem dX1_cut_1 : decode cX1_cut 1 = .ok (.iload_n 1, 1) := dk_27 (dk_at dksX1_cut_0 1 rfl rfl)
theorem dX1_cut_2 : decode cX1_cut 2 = .ok (.invokevirtual 183, 3) := dk_182 0 183 (dk_at dksX1_cut_0 2 rfl rfl)
theorem dX1_cut_5 : decode cX1_cut 5 = .ok (.astore 4, 2) := dk_58 4 (dk_at dksX1_cut_0 5 rfl rfl)
theorem dX1_cut_7 : decode cX1_cut 7 = .ok (.iconst 2, 1) := dk_5 (dk_at dksX1_cut_0 7 rfl rfl)
theorem dX1_cut_8 : decode cX1_cut 8 = .ok (.newarray .int, 2) := dk_188_10 (dk_at dksX1_cut_0 8 rfl rfl)
theorem dX1_cut_10 : decode cX1_cut 10 = .ok (.dup, 1) := dk_89 (dk_at dksX1_cut_0 10 rfl rfl)
theorem dX1_cut_11 : decode cX1_cut 11 = .ok (.iconst 0, 1) := dk_3 (dk_at dksX1_cut_0 11 rfl rfl)
theorem dX1_cut_12 : decode cX1_cut 12 = .ok (.iload_n 2, 1) := dk_28 (dk_at dksX1_cut_0 12 rfl rfl)
theorem dX1_cut_13 : decode cX1_cut 13 = .ok (.iastore, 1) := dk_79 (dk_at dksX1_cut_0 13 rfl rfl)
theorem dX1_cut_14 : decode cX1_cut 14 = .ok (.dup, 1) := dk_89 (dk_at dksX1_cut_0 14 rfl rfl)
theorem dX1_cut_15 : decode cX1_cut 15 = .ok (.iconst 1, 1) := dk_4 (dk_at dksX1_cut_0 15 rfl rfl)
theorem dX1_cut_16 : decode cX1_cut 16 = .ok (.iload_n 3, 1) := dk_29 (dk_at dksX1_cut_0 16 rfl rfl)
theorem dX1_cut_17 : decode cX1_cut 17 = .ok (.iastore, 1) := dk_79 (dk_at dksX1_cut_0 17 rfl rfl)
theorem dX1_cut_18 : decode cX1_cut 18 = .ok (.invokestatic 187, 3) := dk_184 0 187 (dk_at dksX1_cut_0 18 rfl rfl)
theorem dX1_cut_21 : decode cX1_cut 21 = .ok (.iload_n 2, 1) := dk_28 (dk_at dksX1_cut_0 21 rfl rfl)
theorem dX1_cut_22 : decode cX1_cut 22 = .ok (.iload_n 3, 1) := dk_29 (dk_at dksX1_cut_0 22 rfl rfl)
theorem dX1_cut_23 : decode cX1_cut 23 = .ok (.if_icmp .gt 7, 3) := dk_163 0 7 (dk_at dksX1_cut_1 0 rfl rfl)
theorem dX1_cut_26 : decode cX1_cut 26 = .ok (.iconst 1, 1) := dk_4 (dk_at dksX1_cut_1 3 rfl rfl)
theorem dX1_cut_27 : decode cX1_cut 27 = .ok (.goto 4, 3) := dk_167 0 4 (dk_at dksX1_cut_1 4 rfl rfl)
theorem dX1_cut_30 : decode cX1_cut 30 = .ok (.iconst 0, 1) := dk_3 (dk_at dksX1_cut_1 7 rfl rfl)
theorem dX1_cut_31 : decode cX1_cut 31 = .ok (.invokestatic 22, 3) := dk_184 0 22 (dk_at dksX1_cut_1 8 rfl rfl)
theorem dX1_cut_34 : decode cX1_cut 34 = .ok (.aload_n 0, 1) := dk_42 (dk_at dksX1_cut_1 11 rfl rfl)
theorem dX1_cut_35 : decode cX1_cut 35 = .ok (.getfield 96, 3) := dk_180 0 96 (dk_at dksX1_cut_1 12 rfl rfl)
theorem dX1_cut_38 : decode cX1_cut 38 = .ok (.invokevirtual 379, 3) := dk_182 1 123 (dk_at dksX1_cut_1 15 rfl rfl)
theorem dX1_cut_41 : decode cX1_cut 41 = .ok (.istore 5, 2) := dk_54 5 (dk_at dksX1_cut_1 18 rfl rfl)
theorem dX1_cut_43 : decode cX1_cut 43 = .ok (.iload 5, 2) := dk_21 5 (dk_at dksX1_cut_1 20 rfl rfl)
theorem dX1_cut_45 : decode cX1_cut 45 = .ok (.iconst (-1), 1) := dk_2 (dk_at dksX1_cut_1 22 rfl rfl)
theorem dX1_cut_46 : decode cX1_cut 46 = .ok (.if_icmp .eq 7, 3) := dk_159 0 7 (dk_at dksX1_cut_2 0 rfl rfl)
theorem dX1_cut_49 : decode cX1_cut 49 = .ok (.iconst 1, 1) := dk_4 (dk_at dksX1_cut_2 3 rfl rfl)
theorem dX1_cut_50 : decode cX1_cut 50 = .ok (.goto 4, 3) := dk_167 0 4 (dk_at dksX1_cut_2 4 rfl rfl)
theorem dX1_cut_53 : decode cX1_cut 53 = .ok (.iconst 0, 1) := dk_3 (dk_at dksX1_cut_2 7 rfl rfl)
theorem dX1_cut_54 : decode cX1_cut 54 = .ok (.invokestatic 114, 3) := dk_184 0 114 (dk_at dksX1_cut_2 8 rfl rfl)
theorem dX1_cut_57 : decode cX1_cut 57 = .ok (.aload_n 0, 1) := dk_42 (dk_at dksX1_cut_2 11 rfl rfl)
theorem dX1_cut_58 : decode cX1_cut 58 = .ok (.invokevirtual 382, 3) := dk_182 1 126 (dk_at dksX1_cut_2 12 rfl rfl)
theorem dX1_cut_61 : decode cX1_cut 61 = .ok (.astore 6, 2) := dk_58 6 (dk_at dksX1_cut_2 15 rfl rfl)
theorem dX1_cut_63 : decode cX1_cut 63 = .ok (.aload_n 0, 1) := dk_42 (dk_at dksX1_cut_2 17 rfl rfl)
theorem dX1_cut_64 : decode cX1_cut 64 = .ok (.aload 4, 2) := dk_25 4 (dk_at dksX1_cut_2 18 rfl rfl)
theorem dX1_cut_66 : decode cX1_cut 66 = .ok (.iload_n 2, 1) := dk_28 (dk_at dksX1_cut_2 20 rfl rfl)
theorem dX1_cut_67 : decode cX1_cut 67 = .ok (.invokevirtual 407, 3) := dk_182 1 151 (dk_at dksX1_cut_2 21 rfl rfl)
theorem dX1_cut_70 : decode cX1_cut 70 = .ok (.astore 7, 2) := dk_58 7 (dk_at dksX1_cut_3 0 rfl rfl)
theorem dX1_cut_72 : decode cX1_cut 72 = .ok (.aload_n 0, 1) := dk_42 (dk_at dksX1_cut_3 2 rfl rfl)
theorem dX1_cut_73 : decode cX1_cut 73 = .ok (.aload 7, 2) := dk_25 7 (dk_at dksX1_cut_3 3 rfl rfl)
theorem dX1_cut_75 : decode cX1_cut 75 = .ok (.iconst 1, 1) := dk_4 (dk_at dksX1_cut_3 5 rfl rfl)
theorem dX1_cut_76 : decode cX1_cut 76 = .ok (.aaload, 1) := dk_50 (dk_at dksX1_cut_3 6 rfl rfl)
theorem dX1_cut_77 : decode cX1_cut 77 = .ok (.iload_n 3, 1) := dk_29 (dk_at dksX1_cut_3 7 rfl rfl)
theorem dX1_cut_78 : decode cX1_cut 78 = .ok (.invokevirtual 407, 3) := dk_182 1 151 (dk_at dksX1_cut_3 8 rfl rfl)
theorem dX1_cut_81 : decode cX1_cut 81 = .ok (.astore 8, 2) := dk_58 8 (dk_at dksX1_cut_3 11 rfl rfl)
theorem dX1_cut_83 : decode cX1_cut 83 = .ok (.aload_n 0, 1) := dk_42 (dk_at dksX1_cut_3 13 rfl rfl)
theorem dX1_cut_84 : decode cX1_cut 84 = .ok (.aload 7, 2) := dk_25 7 (dk_at dksX1_cut_3 14 rfl rfl)
theorem dX1_cut_86 : decode cX1_cut 86 = .ok (.iconst 0, 1) := dk_3 (dk_at dksX1_cut_3 16 rfl rfl)
theorem dX1_cut_87 : decode cX1_cut 87 = .ok (.aaload, 1) := dk_50 (dk_at dksX1_cut_3 17 rfl rfl)
theorem dX1_cut_88 : decode cX1_cut 88 = .ok (.aload 8, 2) := dk_25 8 (dk_at dksX1_cut_3 18 rfl rfl)
theorem dX1_cut_90 : decode cX1_cut 90 = .ok (.iconst 1, 1) := dk_4 (dk_at dksX1_cut_3 20 rfl rfl)
theorem dX1_cut_91 : decode cX1_cut 91 = .ok (.aaload, 1) := dk_50 (dk_at dksX1_cut_3 21 rfl rfl)
theorem dX1_cut_92 : decode cX1_cut 92 = .ok (.invokevirtual 411, 3) := dk_182 1 155 (dk_at dksX1_cut_4 0 rfl rfl)
theorem dX1_cut_95 : decode cX1_cut 95 = .ok (.aload 6, 2) := dk_25 6 (dk_at dksX1_cut_4 3 rfl rfl)
theorem dX1_cut_97 : decode cX1_cut 97 = .ok (.getfield 163, 3) := dk_180 0 163 (dk_at dksX1_cut_4 5 rfl rfl)
theorem dX1_cut_100 : decode cX1_cut 100 = .ok (.iload_n 1, 1) := dk_27 (dk_at dksX1_cut_4 8 rfl rfl)
theorem dX1_cut_101 : decode cX1_cut 101 = .ok (.aload 7, 2) := dk_25 7 (dk_at dksX1_cut_4 9 rfl rfl)
theorem dX1_cut_103 : decode cX1_cut 103 = .ok (.iconst 0, 1) := dk_3 (dk_at dksX1_cut_4 11 rfl rfl)
theorem dX1_cut_104 : decode cX1_cut 104 = .ok (.aaload, 1) := dk_50 (dk_at dksX1_cut_4 12 rfl rfl)
theorem dX1_cut_105 : decode cX1_cut 105 = .ok (.aastore, 1) := dk_83 (dk_at dksX1_cut_4 13 rfl rfl)
theorem dX1_cut_106 : decode cX1_cut 106 = .ok (.aload 6, 2) := dk_25 6 (dk_at dksX1_cut_4 14 rfl rfl)
theorem dX1_cut_108 : decode cX1_cut 108 = .ok (.getfield 163, 3) := dk_180 0 163 (dk_at dksX1_cut_4 16 rfl rfl)
theorem dX1_cut_111 : decode cX1_cut 111 = .ok (.iload 5, 2) := dk_21 5 (dk_at dksX1_cut_4 19 rfl rfl)
theorem dX1_cut_113 : decode cX1_cut 113 = .ok (.aload 8, 2) := dk_25 8 (dk_at dksX1_cut_4 21 rfl rfl)
theorem dX1_cut_115 : decode cX1_cut 115 = .ok (.iconst 0, 1) := dk_3 (dk_at dksX1_cut_4 23 rfl rfl)
theorem dX1_cut_116 : decode cX1_cut 116 = .ok (.aaload, 1) := dk_50 (dk_at dksX1_cut_5 0 rfl rfl)
theorem dX1_cut_117 : decode cX1_cut 117 = .ok (.aastore, 1) := dk_83 (dk_at dksX1_cut_5 1 rfl rfl)
theorem dX1_cut_118 : decode cX1_cut 118 = .ok (.aload_n 0, 1) := dk_42 (dk_at dksX1_cut_5 2 rfl rfl)
theorem dX1_cut_119 : decode cX1_cut 119 = .ok (.invokevirtual 386, 3) := dk_182 1 130 (dk_at dksX1_cut_5 3 rfl rfl)
theorem dX1_cut_122 : decode cX1_cut 122 = .ok (.iload 5, 2) := dk_21 5 (dk_at dksX1_cut_5 6 rfl rfl)
theorem dX1_cut_124 : decode cX1_cut 124 = .ok (.ireturn, 1) := dk_172 (dk_at dksX1_cut_5 8 rfl rfl)
abbrev cX1_joins : ByteArray := prog_1_method_68_code
def yX1_joins : MethodName := ⟨RX1, "joins", "(LCountedSkipLists$SkipList;LCountedSkipLists$SkipList;)V"⟩
def dkwX1_joins_0 : List UInt8 := [43, 44, 44, 180, 0, 247, 4, 182, 0, 251, 1, 182, 1, 147, 42, 43, 182, 1, 136, 177]
abbrev dktX1_joins_0 : List UInt8 := dkwX1_joins_0 ++ []
theorem dksX1_joins_0 : cX1_joins.data.toList.drop 0 = dktX1_joins_0 := by decide +kernel
theorem dX1_joins_0 : decode cX1_joins 0 = .ok (.aload_n 1, 1) := dk_43 (dk_at dksX1_joins_0 0 rfl rfl)
theorem dX1_joins_1 : decode cX1_joins 1 = .ok (.aload_n 2, 1) := dk_44 (dk_at dksX1_joins_0 1 rfl rfl)
theorem dX1_joins_2 : decode cX1_joins 2 = .ok (.aload_n 2, 1) := dk_44 (dk_at dksX1_joins_0 2 rfl rfl)
theorem dX1_joins_3 : decode cX1_joins 3 = .ok (.getfield 247, 3) := dk_180 0 247 (dk_at dksX1_joins_0 3 rfl rfl)
theorem dX1_joins_6 : decode cX1_joins 6 = .ok (.iconst 1, 1) := dk_4 (dk_at dksX1_joins_0 6 rfl rfl)
theorem dX1_joins_7 : decode cX1_joins 7 = .ok (.invokevirtual 251, 3) := dk_182 0 251 (dk_at dksX1_joins_0 7 rfl rfl)
theorem dX1_joins_10 : decode cX1_joins 10 = .ok (.aconst_null, 1) := dk_1 (dk_at dksX1_joins_0 10 rfl rfl)
theorem dX1_joins_11 : decode cX1_joins 11 = .ok (.invokevirtual 403, 3) := dk_182 1 147 (dk_at dksX1_joins_0 11 rfl rfl)
theorem dX1_joins_14 : decode cX1_joins 14 = .ok (.aload_n 0, 1) := dk_42 (dk_at dksX1_joins_0 14 rfl rfl)
theorem dX1_joins_15 : decode cX1_joins 15 = .ok (.aload_n 1, 1) := dk_43 (dk_at dksX1_joins_0 15 rfl rfl)
theorem dX1_joins_16 : decode cX1_joins 16 = .ok (.invokevirtual 392, 3) := dk_182 1 136 (dk_at dksX1_joins_0 16 rfl rfl)
theorem dX1_joins_19 : decode cX1_joins 19 = .ok (.return_, 1) := dk_177 (dk_at dksX1_joins_0 19 rfl rfl)
abbrev cX1_join : ByteArray := prog_1_method_71_code
def yX1_join : MethodName := ⟨RX1, "join", "(II)I"⟩
def dkwX1_join_2 : List UInt8 := [45, 180, 0, 163, 27, 50, 180, 0, 191, 172]
abbrev dktX1_join_2 : List UInt8 := dkwX1_join_2 ++ []
def dkwX1_join_1 : List UInt8 := [27, 182, 1, 133, 45, 180, 0, 163, 28, 50, 182, 1, 155, 45, 180, 0, 163, 28, 1, 83, 42, 182, 1, 130]
abbrev dktX1_join_1 : List UInt8 := dkwX1_join_1 ++ dktX1_join_2
def dkwX1_join_0 : List UInt8 := [42, 27, 28, 182, 1, 159, 154, 0, 7, 4, 167, 0, 4, 3, 184, 0, 114, 42, 182, 1, 126, 78, 42, 45]
abbrev dktX1_join_0 : List UInt8 := dkwX1_join_0 ++ dktX1_join_1
theorem dksX1_join_0 : cX1_join.data.toList.drop 0 = dktX1_join_0 := by decide +kernel
theorem dksX1_join_1 : cX1_join.data.toList.drop 24 = dktX1_join_1 := dk_seg dksX1_join_0 24 rfl rfl
theorem dksX1_join_2 : cX1_join.data.toList.drop 48 = dktX1_join_2 := dk_seg dksX1_join_1 24 rfl rfl
theorem dX1_join_0 : decode cX1_join 0 = .ok (.aload_n 0, 1) := dk_42 (dk_at dksX1_join_0 0 rfl rfl)
theorem dX1_join_1 : decode cX1_join 1 = .ok (.iload_n 1, 1) := dk_27 (dk_at dksX1_join_0 1 rfl rfl)
theorem dX1_join_2 : decode cX1_join 2 = .ok (.iload_n 2, 1) := dk_28 (dk_at dksX1_join_0 2 rfl rfl)
theorem dX1_join_3 : decode cX1_join 3 = .ok (.invokevirtual 415, 3) := dk_182 1 159 (dk_at dksX1_join_0 3 rfl rfl)
theorem dX1_join_6 : decode cX1_join 6 = .ok (.ifCond .ne 7, 3) := dk_154 0 7 (dk_at dksX1_join_0 6 rfl rfl)
theorem dX1_join_9 : decode cX1_join 9 = .ok (.iconst 1, 1) := dk_4 (dk_at dksX1_join_0 9 rfl rfl)
theorem dX1_join_10 : decode cX1_join 10 = .ok (.goto 4, 3) := dk_167 0 4 (dk_at dksX1_join_0 10 rfl rfl)
theorem dX1_join_13 : decode cX1_join 13 = .ok (.iconst 0, 1) := dk_3 (dk_at dksX1_join_0 13 rfl rfl)
theorem dX1_join_14 : decode cX1_join 14 = .ok (.invokestatic 114, 3) := dk_184 0 114 (dk_at dksX1_join_0 14 rfl rfl)
theorem dX1_join_17 : decode cX1_join 17 = .ok (.aload_n 0, 1) := dk_42 (dk_at dksX1_join_0 17 rfl rfl)
theorem dX1_join_18 : decode cX1_join 18 = .ok (.invokevirtual 382, 3) := dk_182 1 126 (dk_at dksX1_join_0 18 rfl rfl)
theorem dX1_join_21 : decode cX1_join 21 = .ok (.astore_n 3, 1) := dk_78 (dk_at dksX1_join_0 21 rfl rfl)
theorem dX1_join_22 : decode cX1_join 22 = .ok (.aload_n 0, 1) := dk_42 (dk_at dksX1_join_0 22 rfl rfl)
theorem dX1_join_23 : decode cX1_join 23 = .ok (.aload_n 3, 1) := dk_45 (dk_at dksX1_join_0 23 rfl rfl)
theorem dX1_join_24 : decode cX1_join 24 = .ok (.iload_n 1, 1) := dk_27 (dk_at dksX1_join_1 0 rfl rfl)
theorem dX1_join_25 : decode cX1_join 25 = .ok (.invokevirtual 389, 3) := dk_182 1 133 (dk_at dksX1_join_1 1 rfl rfl)
theorem dX1_join_28 : decode cX1_join 28 = .ok (.aload_n 3, 1) := dk_45 (dk_at dksX1_join_1 4 rfl rfl)
theorem dX1_join_29 : decode cX1_join 29 = .ok (.getfield 163, 3) := dk_180 0 163 (dk_at dksX1_join_1 5 rfl rfl)
theorem dX1_join_32 : decode cX1_join 32 = .ok (.iload_n 2, 1) := dk_28 (dk_at dksX1_join_1 8 rfl rfl)
theorem dX1_join_33 : decode cX1_join 33 = .ok (.aaload, 1) := dk_50 (dk_at dksX1_join_1 9 rfl rfl)
theorem dX1_join_34 : decode cX1_join 34 = .ok (.invokevirtual 411, 3) := dk_182 1 155 (dk_at dksX1_join_1 10 rfl rfl)
theorem dX1_join_37 : decode cX1_join 37 = .ok (.aload_n 3, 1) := dk_45 (dk_at dksX1_join_1 13 rfl rfl)
theorem dX1_join_38 : decode cX1_join 38 = .ok (.getfield 163, 3) := dk_180 0 163 (dk_at dksX1_join_1 14 rfl rfl)
theorem dX1_join_41 : decode cX1_join 41 = .ok (.iload_n 2, 1) := dk_28 (dk_at dksX1_join_1 17 rfl rfl)
theorem dX1_join_42 : decode cX1_join 42 = .ok (.aconst_null, 1) := dk_1 (dk_at dksX1_join_1 18 rfl rfl)
theorem dX1_join_43 : decode cX1_join 43 = .ok (.aastore, 1) := dk_83 (dk_at dksX1_join_1 19 rfl rfl)
theorem dX1_join_44 : decode cX1_join 44 = .ok (.aload_n 0, 1) := dk_42 (dk_at dksX1_join_1 20 rfl rfl)
theorem dX1_join_45 : decode cX1_join 45 = .ok (.invokevirtual 386, 3) := dk_182 1 130 (dk_at dksX1_join_1 21 rfl rfl)
theorem dX1_join_48 : decode cX1_join 48 = .ok (.aload_n 3, 1) := dk_45 (dk_at dksX1_join_2 0 rfl rfl)
theorem dX1_join_49 : decode cX1_join 49 = .ok (.getfield 163, 3) := dk_180 0 163 (dk_at dksX1_join_2 1 rfl rfl)
theorem dX1_join_52 : decode cX1_join 52 = .ok (.iload_n 1, 1) := dk_27 (dk_at dksX1_join_2 4 rfl rfl)
theorem dX1_join_53 : decode cX1_join 53 = .ok (.aaload, 1) := dk_50 (dk_at dksX1_join_2 5 rfl rfl)
theorem dX1_join_54 : decode cX1_join 54 = .ok (.getfield 191, 3) := dk_180 0 191 (dk_at dksX1_join_2 6 rfl rfl)
theorem dX1_join_57 : decode cX1_join 57 = .ok (.ireturn, 1) := dk_172 (dk_at dksX1_join_2 9 rfl rfl)
abbrev cX1_absorb : ByteArray := prog_1_method_72_code
def yX1_absorb : MethodName := ⟨RX1, "absorb", "(II)I"⟩
def dkwX1_absorb_4 : List UInt8 := [182, 1, 130, 25, 4, 180, 0, 191, 172]
abbrev dktX1_absorb_4 : List UInt8 := dkwX1_absorb_4 ++ []
def dkwX1_absorb_3 : List UInt8 := [182, 1, 136, 25, 5, 4, 182, 0, 251, 58, 5, 167, 255, 220, 45, 180, 0, 163, 28, 1, 83, 42]
abbrev dktX1_absorb_3 : List UInt8 := dkwX1_absorb_3 ++ dktX1_absorb_4
def dkwX1_absorb_2 : List UInt8 := [198, 0, 37, 25, 4, 25, 5, 180, 0, 203, 25, 5, 180, 0, 208, 182, 1, 61, 54, 6, 42, 25, 4]
abbrev dktX1_absorb_2 : List UInt8 := dkwX1_absorb_2 ++ dktX1_absorb_3
def dkwX1_absorb_1 : List UInt8 := [182, 1, 133, 58, 4, 45, 180, 0, 163, 28, 50, 180, 0, 247, 4, 182, 0, 251, 58, 5, 25, 5]
abbrev dktX1_absorb_1 : List UInt8 := dkwX1_absorb_1 ++ dktX1_absorb_2
def dkwX1_absorb_0 : List UInt8 := [42, 27, 28, 182, 1, 162, 154, 0, 7, 4, 167, 0, 4, 3, 184, 0, 114, 42, 182, 1, 126, 78, 45, 27]
abbrev dktX1_absorb_0 : List UInt8 := dkwX1_absorb_0 ++ dktX1_absorb_1
theorem dksX1_absorb_0 : cX1_absorb.data.toList.drop 0 = dktX1_absorb_0 := by decide +kernel
theorem dksX1_absorb_1 : cX1_absorb.data.toList.drop 24 = dktX1_absorb_1 := dk_seg dksX1_absorb_0 24 rfl rfl
theorem dksX1_absorb_2 : cX1_absorb.data.toList.drop 46 = dktX1_absorb_2 := dk_seg dksX1_absorb_1 22 rfl rfl
theorem dksX1_absorb_3 : cX1_absorb.data.toList.drop 69 = dktX1_absorb_3 := dk_seg dksX1_absorb_2 23 rfl rfl
theorem dksX1_absorb_4 : cX1_absorb.data.toList.drop 91 = dktX1_absorb_4 := dk_seg dksX1_absorb_3 22 rfl rfl
theorem dX1_absorb_0 : decode cX1_absorb 0 = .ok (.aload_n 0, 1) := dk_42 (dk_at dksX1_absorb_0 0 rfl rfl)
theorem dX1_absorb_1 : decode cX1_absorb 1 = .ok (.iload_n 1, 1) := dk_27 (dk_at dksX1_absorb_0 1 rfl rfl)
theorem dX1_absorb_2 : decode cX1_absorb 2 = .ok (.iload_n 2, 1) := dk_28 (dk_at dksX1_absorb_0 2 rfl rfl)
theorem dX1_absorb_3 : decode cX1_absorb 3 = .ok (.invokevirtual 418, 3) := dk_182 1 162 (dk_at dksX1_absorb_0 3 rfl rfl)
theorem dX1_absorb_6 : decode cX1_absorb 6 = .ok (.ifCond .ne 7, 3) := dk_154 0 7 (dk_at dksX1_absorb_0 6 rfl rfl)
theorem dX1_absorb_9 : decode cX1_absorb 9 = .ok (.iconst 1, 1) := dk_4 (dk_at dksX1_absorb_0 9 rfl rfl)
theorem dX1_absorb_10 : decode cX1_absorb 10 = .ok (.goto 4, 3) := dk_167 0 4 (dk_at dksX1_absorb_0 10 rfl rfl)
theorem dX1_absorb_13 : decode cX1_absorb 13 = .ok (.iconst 0, 1) := dk_3 (dk_at dksX1_absorb_0 13 rfl rfl)
theorem dX1_absorb_14 : decode cX1_absorb 14 = .ok (.invokestatic 114, 3) := dk_184 0 114 (dk_at dksX1_absorb_0 14 rfl rfl)
theorem dX1_absorb_17 : decode cX1_absorb 17 = .ok (.aload_n 0, 1) := dk_42 (dk_at dksX1_absorb_0 17 rfl rfl)
theorem dX1_absorb_18 : decode cX1_absorb 18 = .ok (.invokevirtual 382, 3) := dk_182 1 126 (dk_at dksX1_absorb_0 18 rfl rfl)
theorem dX1_absorb_21 : decode cX1_absorb 21 = .ok (.astore_n 3, 1) := dk_78 (dk_at dksX1_absorb_0 21 rfl rfl)
theorem dX1_absorb_22 : decode cX1_absorb 22 = .ok (.aload_n 3, 1) := dk_45 (dk_at dksX1_absorb_0 22 rfl rfl)
theorem dX1_absorb_23 : decode cX1_absorb 23 = .ok (.iload_n 1, 1) := dk_27 (dk_at dksX1_absorb_0 23 rfl rfl)
theorem dX1_absorb_24 : decode cX1_absorb 24 = .ok (.invokevirtual 389, 3) := dk_182 1 133 (dk_at dksX1_absorb_1 0 rfl rfl)
theorem dX1_absorb_27 : decode cX1_absorb 27 = .ok (.astore 4, 2) := dk_58 4 (dk_at dksX1_absorb_1 3 rfl rfl)
theorem dX1_absorb_29 : decode cX1_absorb 29 = .ok (.aload_n 3, 1) := dk_45 (dk_at dksX1_absorb_1 5 rfl rfl)
theorem dX1_absorb_30 : decode cX1_absorb 30 = .ok (.getfield 163, 3) := dk_180 0 163 (dk_at dksX1_absorb_1 6 rfl rfl)
theorem dX1_absorb_33 : decode cX1_absorb 33 = .ok (.iload_n 2, 1) := dk_28 (dk_at dksX1_absorb_1 9 rfl rfl)
theorem dX1_absorb_34 : decode cX1_absorb 34 = .ok (.aaload, 1) := dk_50 (dk_at dksX1_absorb_1 10 rfl rfl)
theorem dX1_absorb_35 : decode cX1_absorb 35 = .ok (.getfield 247, 3) := dk_180 0 247 (dk_at dksX1_absorb_1 11 rfl rfl)
theorem dX1_absorb_38 : decode cX1_absorb 38 = .ok (.iconst 1, 1) := dk_4 (dk_at dksX1_absorb_1 14 rfl rfl)
theorem dX1_absorb_39 : decode cX1_absorb 39 = .ok (.invokevirtual 251, 3) := dk_182 0 251 (dk_at dksX1_absorb_1 15 rfl rfl)
theorem dX1_absorb_42 : decode cX1_absorb 42 = .ok (.astore 5, 2) := dk_58 5 (dk_at dksX1_absorb_1 18 rfl rfl)
theorem dX1_absorb_44 : decode cX1_absorb 44 = .ok (.aload 5, 2) := dk_25 5 (dk_at dksX1_absorb_1 20 rfl rfl)
theorem dX1_absorb_46 : decode cX1_absorb 46 = .ok (.ifnull 37, 3) := dk_198 0 37 (dk_at dksX1_absorb_2 0 rfl rfl)
theorem dX1_absorb_49 : decode cX1_absorb 49 = .ok (.aload 4, 2) := dk_25 4 (dk_at dksX1_absorb_2 3 rfl rfl)
theorem dX1_absorb_51 : decode cX1_absorb 51 = .ok (.aload 5, 2) := dk_25 5 (dk_at dksX1_absorb_2 5 rfl rfl)
theorem dX1_absorb_53 : decode cX1_absorb 53 = .ok (.getfield 203, 3) := dk_180 0 203 (dk_at dksX1_absorb_2 7 rfl rfl)
theorem dX1_absorb_56 : decode cX1_absorb 56 = .ok (.aload 5, 2) := dk_25 5 (dk_at dksX1_absorb_2 10 rfl rfl)
theorem dX1_absorb_58 : decode cX1_absorb 58 = .ok (.getfield 208, 3) := dk_180 0 208 (dk_at dksX1_absorb_2 12 rfl rfl)
theorem dX1_absorb_61 : decode cX1_absorb 61 = .ok (.invokevirtual 317, 3) := dk_182 1 61 (dk_at dksX1_absorb_2 15 rfl rfl)
theorem dX1_absorb_64 : decode cX1_absorb 64 = .ok (.istore 6, 2) := dk_54 6 (dk_at dksX1_absorb_2 18 rfl rfl)
theorem dX1_absorb_66 : decode cX1_absorb 66 = .ok (.aload_n 0, 1) := dk_42 (dk_at dksX1_absorb_2 20 rfl rfl)
theorem dX1_absorb_67 : decode cX1_absorb 67 = .ok (.aload 4, 2) := dk_25 4 (dk_at dksX1_absorb_2 21 rfl rfl)
theorem dX1_absorb_69 : decode cX1_absorb 69 = .ok (.invokevirtual 392, 3) := dk_182 1 136 (dk_at dksX1_absorb_3 0 rfl rfl)
theorem dX1_absorb_72 : decode cX1_absorb 72 = .ok (.aload 5, 2) := dk_25 5 (dk_at dksX1_absorb_3 3 rfl rfl)
theorem dX1_absorb_74 : decode cX1_absorb 74 = .ok (.iconst 1, 1) := dk_4 (dk_at dksX1_absorb_3 5 rfl rfl)
theorem dX1_absorb_75 : decode cX1_absorb 75 = .ok (.invokevirtual 251, 3) := dk_182 0 251 (dk_at dksX1_absorb_3 6 rfl rfl)
theorem dX1_absorb_78 : decode cX1_absorb 78 = .ok (.astore 5, 2) := dk_58 5 (dk_at dksX1_absorb_3 9 rfl rfl)
theorem dX1_absorb_80 : decode cX1_absorb 80 = .ok (.goto (-36), 3) := dk_167 255 220 (dk_at dksX1_absorb_3 11 rfl rfl)
theorem dX1_absorb_83 : decode cX1_absorb 83 = .ok (.aload_n 3, 1) := dk_45 (dk_at dksX1_absorb_3 14 rfl rfl)
theorem dX1_absorb_84 : decode cX1_absorb 84 = .ok (.getfield 163, 3) := dk_180 0 163 (dk_at dksX1_absorb_3 15 rfl rfl)
theorem dX1_absorb_87 : decode cX1_absorb 87 = .ok (.iload_n 2, 1) := dk_28 (dk_at dksX1_absorb_3 18 rfl rfl)
theorem dX1_absorb_88 : decode cX1_absorb 88 = .ok (.aconst_null, 1) := dk_1 (dk_at dksX1_absorb_3 19 rfl rfl)
theorem dX1_absorb_89 : decode cX1_absorb 89 = .ok (.aastore, 1) := dk_83 (dk_at dksX1_absorb_3 20 rfl rfl)
theorem dX1_absorb_90 : decode cX1_absorb 90 = .ok (.aload_n 0, 1) := dk_42 (dk_at dksX1_absorb_3 21 rfl rfl)
theorem dX1_absorb_91 : decode cX1_absorb 91 = .ok (.invokevirtual 386, 3) := dk_182 1 130 (dk_at dksX1_absorb_4 0 rfl rfl)
theorem dX1_absorb_94 : decode cX1_absorb 94 = .ok (.aload 4, 2) := dk_25 4 (dk_at dksX1_absorb_4 3 rfl rfl)
theorem dX1_absorb_96 : decode cX1_absorb 96 = .ok (.getfield 191, 3) := dk_180 0 191 (dk_at dksX1_absorb_4 5 rfl rfl)
theorem dX1_absorb_99 : decode cX1_absorb 99 = .ok (.ireturn, 1) := dk_172 (dk_at dksX1_absorb_4 8 rfl rfl)
abbrev cX1_level : ByteArray := prog_1_method_73_code
def yX1_level : MethodName := ⟨RX1, "level", "(I)I"⟩
def dkwX1_level_1 : List UInt8 := [180, 0, 163, 27, 50, 182, 1, 136, 42, 182, 1, 130, 45, 180, 0, 163, 27, 50, 182, 0, 192, 172]
abbrev dktX1_level_1 : List UInt8 := dkwX1_level_1 ++ []
def dkwX1_level_0 : List UInt8 := [42, 27, 182, 0, 183, 77, 42, 182, 1, 126, 78, 45, 180, 0, 163, 27, 44, 182, 1, 165, 83, 42, 45]
abbrev dktX1_level_0 : List UInt8 := dkwX1_level_0 ++ dktX1_level_1
theorem dksX1_level_0 : cX1_level.data.toList.drop 0 = dktX1_level_0 := by decide +kernel
theorem dksX1_level_1 : cX1_level.data.toList.drop 23 = dktX1_level_1 := dk_seg dksX1_level_0 23 rfl rfl
theorem dX1_level_0 : decode cX1_level 0 = .ok (.aload_n 0, 1) := dk_42 (dk_at dksX1_level_0 0 rfl rfl)
theorem dX1_level_1 : decode cX1_level 1 = .ok (.iload_n 1, 1) := dk_27 (dk_at dksX1_level_0 1 rfl rfl)
theorem dX1_level_2 : decode cX1_level 2 = .ok (.invokevirtual 183, 3) := dk_182 0 183 (dk_at dksX1_level_0 2 rfl rfl)
theorem dX1_level_5 : decode cX1_level 5 = .ok (.astore_n 2, 1) := dk_77 (dk_at dksX1_level_0 5 rfl rfl)
theorem dX1_level_6 : decode cX1_level 6 = .ok (.aload_n 0, 1) := dk_42 (dk_at dksX1_level_0 6 rfl rfl)
theorem dX1_level_7 : decode cX1_level 7 = .ok (.invokevirtual 382, 3) := dk_182 1 126 (dk_at dksX1_level_0 7 rfl rfl)
theorem dX1_level_10 : decode cX1_level 10 = .ok (.astore_n 3, 1) := dk_78 (dk_at dksX1_level_0 10 rfl rfl)
theorem dX1_level_11 : decode cX1_level 11 = .ok (.aload_n 3, 1) := dk_45 (dk_at dksX1_level_0 11 rfl rfl)
theorem dX1_level_12 : decode cX1_level 12 = .ok (.getfield 163, 3) := dk_180 0 163 (dk_at dksX1_level_0 12 rfl rfl)
theorem dX1_level_15 : decode cX1_level 15 = .ok (.iload_n 1, 1) := dk_27 (dk_at dksX1_level_0 15 rfl rfl)
theorem dX1_level_16 : decode cX1_level 16 = .ok (.aload_n 2, 1) := dk_44 (dk_at dksX1_level_0 16 rfl rfl)
theorem dX1_level_17 : decode cX1_level 17 = .ok (.invokevirtual 421, 3) := dk_182 1 165 (dk_at dksX1_level_0 17 rfl rfl)
theorem dX1_level_20 : decode cX1_level 20 = .ok (.aastore, 1) := dk_83 (dk_at dksX1_level_0 20 rfl rfl)
theorem dX1_level_21 : decode cX1_level 21 = .ok (.aload_n 0, 1) := dk_42 (dk_at dksX1_level_0 21 rfl rfl)
theorem dX1_level_22 : decode cX1_level 22 = .ok (.aload_n 3, 1) := dk_45 (dk_at dksX1_level_0 22 rfl rfl)
theorem dX1_level_23 : decode cX1_level 23 = .ok (.getfield 163, 3) := dk_180 0 163 (dk_at dksX1_level_1 0 rfl rfl)
theorem dX1_level_26 : decode cX1_level 26 = .ok (.iload_n 1, 1) := dk_27 (dk_at dksX1_level_1 3 rfl rfl)
theorem dX1_level_27 : decode cX1_level 27 = .ok (.aaload, 1) := dk_50 (dk_at dksX1_level_1 4 rfl rfl)
theorem dX1_level_28 : decode cX1_level 28 = .ok (.invokevirtual 392, 3) := dk_182 1 136 (dk_at dksX1_level_1 5 rfl rfl)
theorem dX1_level_31 : decode cX1_level 31 = .ok (.aload_n 0, 1) := dk_42 (dk_at dksX1_level_1 8 rfl rfl)
theorem dX1_level_32 : decode cX1_level 32 = .ok (.invokevirtual 386, 3) := dk_182 1 130 (dk_at dksX1_level_1 9 rfl rfl)
theorem dX1_level_35 : decode cX1_level 35 = .ok (.aload_n 3, 1) := dk_45 (dk_at dksX1_level_1 12 rfl rfl)
theorem dX1_level_36 : decode cX1_level 36 = .ok (.getfield 163, 3) := dk_180 0 163 (dk_at dksX1_level_1 13 rfl rfl)
theorem dX1_level_39 : decode cX1_level 39 = .ok (.iload_n 1, 1) := dk_27 (dk_at dksX1_level_1 16 rfl rfl)
theorem dX1_level_40 : decode cX1_level 40 = .ok (.aaload, 1) := dk_50 (dk_at dksX1_level_1 17 rfl rfl)
theorem dX1_level_41 : decode cX1_level 41 = .ok (.invokevirtual 192, 3) := dk_182 0 192 (dk_at dksX1_level_1 18 rfl rfl)
theorem dX1_level_44 : decode cX1_level 44 = .ok (.ireturn, 1) := dk_172 (dk_at dksX1_level_1 21 rfl rfl)
abbrev cX1_setLimit : ByteArray := prog_1_method_74_code
def yX1_setLimit : MethodName := ⟨RX1, "setLimit", "(I)I"⟩
def dkwX1_setLimit_2 : List UInt8 := [42, 45, 21, 4, 182, 1, 133, 182, 1, 136, 132, 4, 1, 167, 255, 226, 42, 182, 1, 130, 28, 172]
abbrev dktX1_setLimit_2 : List UInt8 := dkwX1_setLimit_2 ++ []
def dkwX1_setLimit_1 : List UInt8 := [27, 181, 0, 176, 3, 54, 4, 21, 4, 16, 6, 162, 0, 29, 45, 180, 0, 163, 21, 4, 50, 198, 0, 13]
abbrev dktX1_setLimit_1 : List UInt8 := dkwX1_setLimit_1 ++ dktX1_setLimit_2
def dkwX1_setLimit_0 : List UInt8 := [27, 5, 16, 7, 184, 0, 18, 184, 0, 22, 42, 180, 0, 96, 180, 0, 176, 61, 42, 182, 1, 126, 78, 45]
abbrev dktX1_setLimit_0 : List UInt8 := dkwX1_setLimit_0 ++ dktX1_setLimit_1
theorem dksX1_setLimit_0 : cX1_setLimit.data.toList.drop 0 = dktX1_setLimit_0 := by decide +kernel
theorem dksX1_setLimit_1 : cX1_setLimit.data.toList.drop 24 = dktX1_setLimit_1 := dk_seg dksX1_setLimit_0 24 rfl rfl
theorem dksX1_setLimit_2 : cX1_setLimit.data.toList.drop 48 = dktX1_setLimit_2 := dk_seg dksX1_setLimit_1 24 rfl rfl
theorem dX1_setLimit_0 : decode cX1_setLimit 0 = .ok (.iload_n 1, 1) := dk_27 (dk_at dksX1_setLimit_0 0 rfl rfl)
theorem dX1_setLimit_1 : decode cX1_setLimit 1 = .ok (.iconst 2, 1) := dk_5 (dk_at dksX1_setLimit_0 1 rfl rfl)
theorem dX1_setLimit_2 : decode cX1_setLimit 2 = .ok (.bipush 7, 2) := dk_16 7 (dk_at dksX1_setLimit_0 2 rfl rfl)
theorem dX1_setLimit_4 : decode cX1_setLimit 4 = .ok (.invokestatic 18, 3) := dk_184 0 18 (dk_at dksX1_setLimit_0 4 rfl rfl)
theorem dX1_setLimit_7 : decode cX1_setLimit 7 = .ok (.invokestatic 22, 3) := dk_184 0 22 (dk_at dksX1_setLimit_0 7 rfl rfl)
theorem dX1_setLimit_10 : decode cX1_setLimit 10 = .ok (.aload_n 0, 1) := dk_42 (dk_at dksX1_setLimit_0 10 rfl rfl)
theorem dX1_setLimit_11 : decode cX1_setLimit 11 = .ok (.getfield 96, 3) := dk_180 0 96 (dk_at dksX1_setLimit_0 11 rfl rfl)
theorem dX1_setLimit_14 : decode cX1_setLimit 14 = .ok (.getfield 176, 3) := dk_180 0 176 (dk_at dksX1_setLimit_0 14 rfl rfl)
theorem dX1_setLimit_17 : decode cX1_setLimit 17 = .ok (.istore_n 2, 1) := dk_61 (dk_at dksX1_setLimit_0 17 rfl rfl)
theorem dX1_setLimit_18 : decode cX1_setLimit 18 = .ok (.aload_n 0, 1) := dk_42 (dk_at dksX1_setLimit_0 18 rfl rfl)
theorem dX1_setLimit_19 : decode cX1_setLimit 19 = .ok (.invokevirtual 382, 3) := dk_182 1 126 (dk_at dksX1_setLimit_0 19 rfl rfl)
theorem dX1_setLimit_22 : decode cX1_setLimit 22 = .ok (.astore_n 3, 1) := dk_78 (dk_at dksX1_setLimit_0 22 rfl rfl)
theorem dX1_setLimit_23 : decode cX1_setLimit 23 = .ok (.aload_n 3, 1) := dk_45 (dk_at dksX1_setLimit_0 23 rfl rfl)
theorem dX1_setLimit_24 : decode cX1_setLimit 24 = .ok (.iload_n 1, 1) := dk_27 (dk_at dksX1_setLimit_1 0 rfl rfl)
theorem dX1_setLimit_25 : decode cX1_setLimit 25 = .ok (.putfield 176, 3) := dk_181 0 176 (dk_at dksX1_setLimit_1 1 rfl rfl)
theorem dX1_setLimit_28 : decode cX1_setLimit 28 = .ok (.iconst 0, 1) := dk_3 (dk_at dksX1_setLimit_1 4 rfl rfl)
theorem dX1_setLimit_29 : decode cX1_setLimit 29 = .ok (.istore 4, 2) := dk_54 4 (dk_at dksX1_setLimit_1 5 rfl rfl)
theorem dX1_setLimit_31 : decode cX1_setLimit 31 = .ok (.iload 4, 2) := dk_21 4 (dk_at dksX1_setLimit_1 7 rfl rfl)
theorem dX1_setLimit_33 : decode cX1_setLimit 33 = .ok (.bipush 6, 2) := dk_16 6 (dk_at dksX1_setLimit_1 9 rfl rfl)
theorem dX1_setLimit_35 : decode cX1_setLimit 35 = .ok (.if_icmp .ge 29, 3) := dk_162 0 29 (dk_at dksX1_setLimit_1 11 rfl rfl)
theorem dX1_setLimit_38 : decode cX1_setLimit 38 = .ok (.aload_n 3, 1) := dk_45 (dk_at dksX1_setLimit_1 14 rfl rfl)
theorem dX1_setLimit_39 : decode cX1_setLimit 39 = .ok (.getfield 163, 3) := dk_180 0 163 (dk_at dksX1_setLimit_1 15 rfl rfl)
theorem dX1_setLimit_42 : decode cX1_setLimit 42 = .ok (.iload 4, 2) := dk_21 4 (dk_at dksX1_setLimit_1 18 rfl rfl)
theorem dX1_setLimit_44 : decode cX1_setLimit 44 = .ok (.aaload, 1) := dk_50 (dk_at dksX1_setLimit_1 20 rfl rfl)
theorem dX1_setLimit_45 : decode cX1_setLimit 45 = .ok (.ifnull 13, 3) := dk_198 0 13 (dk_at dksX1_setLimit_1 21 rfl rfl)
theorem dX1_setLimit_48 : decode cX1_setLimit 48 = .ok (.aload_n 0, 1) := dk_42 (dk_at dksX1_setLimit_2 0 rfl rfl)
theorem dX1_setLimit_49 : decode cX1_setLimit 49 = .ok (.aload_n 3, 1) := dk_45 (dk_at dksX1_setLimit_2 1 rfl rfl)
theorem dX1_setLimit_50 : decode cX1_setLimit 50 = .ok (.iload 4, 2) := dk_21 4 (dk_at dksX1_setLimit_2 2 rfl rfl)
theorem dX1_setLimit_52 : decode cX1_setLimit 52 = .ok (.invokevirtual 389, 3) := dk_182 1 133 (dk_at dksX1_setLimit_2 4 rfl rfl)
theorem dX1_setLimit_55 : decode cX1_setLimit 55 = .ok (.invokevirtual 392, 3) := dk_182 1 136 (dk_at dksX1_setLimit_2 7 rfl rfl)
theorem dX1_setLimit_58 : decode cX1_setLimit 58 = .ok (.iinc 4 1, 3) := dk_132 4 1 (dk_at dksX1_setLimit_2 10 rfl rfl)
theorem dX1_setLimit_61 : decode cX1_setLimit 61 = .ok (.goto (-30), 3) := dk_167 255 226 (dk_at dksX1_setLimit_2 13 rfl rfl)
theorem dX1_setLimit_64 : decode cX1_setLimit 64 = .ok (.aload_n 0, 1) := dk_42 (dk_at dksX1_setLimit_2 16 rfl rfl)
theorem dX1_setLimit_65 : decode cX1_setLimit 65 = .ok (.invokevirtual 386, 3) := dk_182 1 130 (dk_at dksX1_setLimit_2 17 rfl rfl)
theorem dX1_setLimit_68 : decode cX1_setLimit 68 = .ok (.iload_n 2, 1) := dk_28 (dk_at dksX1_setLimit_2 20 rfl rfl)
theorem dX1_setLimit_69 : decode cX1_setLimit 69 = .ok (.ireturn, 1) := dk_172 (dk_at dksX1_setLimit_2 21 rfl rfl)
abbrev cX1_undo : ByteArray := prog_1_method_75_code
def yX1_undo : MethodName := ⟨RX1, "undo", "()I"⟩
def dkwX1_undo_1 : List UInt8 := [182, 1, 169, 192, 0, 91, 181, 0, 96, 42, 180, 0, 103, 182, 1, 105, 172]
abbrev dktX1_undo_1 : List UInt8 := dkwX1_undo_1 ++ []
def dkwX1_undo_0 : List UInt8 := [42, 180, 0, 103, 182, 1, 168, 154, 0, 7, 4, 167, 0, 4, 3, 184, 0, 114, 42, 42, 180, 0, 103]
abbrev dktX1_undo_0 : List UInt8 := dkwX1_undo_0 ++ dktX1_undo_1
theorem dksX1_undo_0 : cX1_undo.data.toList.drop 0 = dktX1_undo_0 := by decide +kernel
theorem dksX1_undo_1 : cX1_undo.data.toList.drop 23 = dktX1_undo_1 := dk_seg dksX1_undo_0 23 rfl rfl
theorem dX1_undo_0 : decode cX1_undo 0 = .ok (.aload_n 0, 1) := dk_42 (dk_at dksX1_undo_0 0 rfl rfl)
theorem dX1_undo_1 : decode cX1_undo 1 = .ok (.getfield 103, 3) := dk_180 0 103 (dk_at dksX1_undo_0 1 rfl rfl)
theorem dX1_undo_4 : decode cX1_undo 4 = .ok (.invokevirtual 424, 3) := dk_182 1 168 (dk_at dksX1_undo_0 4 rfl rfl)
theorem dX1_undo_7 : decode cX1_undo 7 = .ok (.ifCond .ne 7, 3) := dk_154 0 7 (dk_at dksX1_undo_0 7 rfl rfl)
theorem dX1_undo_10 : decode cX1_undo 10 = .ok (.iconst 1, 1) := dk_4 (dk_at dksX1_undo_0 10 rfl rfl)
theorem dX1_undo_11 : decode cX1_undo 11 = .ok (.goto 4, 3) := dk_167 0 4 (dk_at dksX1_undo_0 11 rfl rfl)
theorem dX1_undo_14 : decode cX1_undo 14 = .ok (.iconst 0, 1) := dk_3 (dk_at dksX1_undo_0 14 rfl rfl)
theorem dX1_undo_15 : decode cX1_undo 15 = .ok (.invokestatic 114, 3) := dk_184 0 114 (dk_at dksX1_undo_0 15 rfl rfl)
theorem dX1_undo_18 : decode cX1_undo 18 = .ok (.aload_n 0, 1) := dk_42 (dk_at dksX1_undo_0 18 rfl rfl)
theorem dX1_undo_19 : decode cX1_undo 19 = .ok (.aload_n 0, 1) := dk_42 (dk_at dksX1_undo_0 19 rfl rfl)
theorem dX1_undo_20 : decode cX1_undo 20 = .ok (.getfield 103, 3) := dk_180 0 103 (dk_at dksX1_undo_0 20 rfl rfl)
theorem dX1_undo_23 : decode cX1_undo 23 = .ok (.invokevirtual 425, 3) := dk_182 1 169 (dk_at dksX1_undo_1 0 rfl rfl)
theorem dX1_undo_26 : decode cX1_undo 26 = .ok (.checkcast 91, 3) := dk_192 0 91 (dk_at dksX1_undo_1 3 rfl rfl)
theorem dX1_undo_29 : decode cX1_undo 29 = .ok (.putfield 96, 3) := dk_181 0 96 (dk_at dksX1_undo_1 6 rfl rfl)
theorem dX1_undo_32 : decode cX1_undo 32 = .ok (.aload_n 0, 1) := dk_42 (dk_at dksX1_undo_1 9 rfl rfl)
theorem dX1_undo_33 : decode cX1_undo 33 = .ok (.getfield 103, 3) := dk_180 0 103 (dk_at dksX1_undo_1 10 rfl rfl)
theorem dX1_undo_36 : decode cX1_undo 36 = .ok (.invokevirtual 361, 3) := dk_182 1 105 (dk_at dksX1_undo_1 13 rfl rfl)
theorem dX1_undo_39 : decode cX1_undo 39 = .ok (.ireturn, 1) := dk_172 (dk_at dksX1_undo_1 16 rfl rfl)
abbrev cX1_save : ByteArray := prog_1_method_77_code
def yX1_save : MethodName := ⟨RX1, "save", "(I)V"⟩
def dkwX1_save_0 : List UInt8 := [27, 184, 1, 172, 42, 180, 0, 107, 27, 42, 180, 0, 96, 83, 177]
abbrev dktX1_save_0 : List UInt8 := dkwX1_save_0 ++ []
theorem dksX1_save_0 : cX1_save.data.toList.drop 0 = dktX1_save_0 := by decide +kernel
theorem dX1_save_0 : decode cX1_save 0 = .ok (.iload_n 1, 1) := dk_27 (dk_at dksX1_save_0 0 rfl rfl)
theorem dX1_save_1 : decode cX1_save 1 = .ok (.invokestatic 428, 3) := dk_184 1 172 (dk_at dksX1_save_0 1 rfl rfl)
theorem dX1_save_4 : decode cX1_save 4 = .ok (.aload_n 0, 1) := dk_42 (dk_at dksX1_save_0 4 rfl rfl)
theorem dX1_save_5 : decode cX1_save 5 = .ok (.getfield 107, 3) := dk_180 0 107 (dk_at dksX1_save_0 5 rfl rfl)
theorem dX1_save_8 : decode cX1_save 8 = .ok (.iload_n 1, 1) := dk_27 (dk_at dksX1_save_0 8 rfl rfl)
theorem dX1_save_9 : decode cX1_save 9 = .ok (.aload_n 0, 1) := dk_42 (dk_at dksX1_save_0 9 rfl rfl)
theorem dX1_save_10 : decode cX1_save 10 = .ok (.getfield 96, 3) := dk_180 0 96 (dk_at dksX1_save_0 10 rfl rfl)
theorem dX1_save_13 : decode cX1_save 13 = .ok (.aastore, 1) := dk_83 (dk_at dksX1_save_0 13 rfl rfl)
theorem dX1_save_14 : decode cX1_save 14 = .ok (.return_, 1) := dk_177 (dk_at dksX1_save_0 14 rfl rfl)
abbrev cX1_checkSlot : ByteArray := prog_1_method_76_code
def yX1_checkSlot : MethodName := ⟨RX1, "checkSlot", "(I)V"⟩
def dkwX1_checkSlot_0 : List UInt8 := [26, 3, 4, 184, 0, 18, 184, 0, 117, 177]
abbrev dktX1_checkSlot_0 : List UInt8 := dkwX1_checkSlot_0 ++ []
theorem dksX1_checkSlot_0 : cX1_checkSlot.data.toList.drop 0 = dktX1_checkSlot_0 := by decide +kernel
theorem dX1_checkSlot_0 : decode cX1_checkSlot 0 = .ok (.iload_n 0, 1) := dk_26 (dk_at dksX1_checkSlot_0 0 rfl rfl)
theorem dX1_checkSlot_1 : decode cX1_checkSlot 1 = .ok (.iconst 0, 1) := dk_3 (dk_at dksX1_checkSlot_0 1 rfl rfl)
theorem dX1_checkSlot_2 : decode cX1_checkSlot 2 = .ok (.iconst 1, 1) := dk_4 (dk_at dksX1_checkSlot_0 2 rfl rfl)
theorem dX1_checkSlot_3 : decode cX1_checkSlot 3 = .ok (.invokestatic 18, 3) := dk_184 0 18 (dk_at dksX1_checkSlot_0 3 rfl rfl)
theorem dX1_checkSlot_6 : decode cX1_checkSlot 6 = .ok (.invokestatic 117, 3) := dk_184 0 117 (dk_at dksX1_checkSlot_0 6 rfl rfl)
theorem dX1_checkSlot_9 : decode cX1_checkSlot 9 = .ok (.return_, 1) := dk_177 (dk_at dksX1_checkSlot_0 9 rfl rfl)
abbrev cX1_restore : ByteArray := prog_1_method_78_code
def yX1_restore : MethodName := ⟨RX1, "restore", "(I)V"⟩
def dkwX1_restore_1 : List UInt8 := [180, 0, 107, 27, 50, 181, 0, 96, 42, 180, 0, 103, 182, 0, 140, 177]
abbrev dktX1_restore_1 : List UInt8 := dkwX1_restore_1 ++ []
def dkwX1_restore_0 : List UInt8 := [27, 184, 1, 172, 42, 180, 0, 107, 27, 50, 198, 0, 7, 4, 167, 0, 4, 3, 184, 0, 222, 42, 42]
abbrev dktX1_restore_0 : List UInt8 := dkwX1_restore_0 ++ dktX1_restore_1
theorem dksX1_restore_0 : cX1_restore.data.toList.drop 0 = dktX1_restore_0 := by decide +kernel
theorem dksX1_restore_1 : cX1_restore.data.toList.drop 23 = dktX1_restore_1 := dk_seg dksX1_restore_0 23 rfl rfl
theorem dX1_restore_0 : decode cX1_restore 0 = .ok (.iload_n 1, 1) := dk_27 (dk_at dksX1_restore_0 0 rfl rfl)
theorem dX1_restore_1 : decode cX1_restore 1 = .ok (.invokestatic 428, 3) := dk_184 1 172 (dk_at dksX1_restore_0 1 rfl rfl)
theorem dX1_restore_4 : decode cX1_restore 4 = .ok (.aload_n 0, 1) := dk_42 (dk_at dksX1_restore_0 4 rfl rfl)
theorem dX1_restore_5 : decode cX1_restore 5 = .ok (.getfield 107, 3) := dk_180 0 107 (dk_at dksX1_restore_0 5 rfl rfl)
theorem dX1_restore_8 : decode cX1_restore 8 = .ok (.iload_n 1, 1) := dk_27 (dk_at dksX1_restore_0 8 rfl rfl)
theorem dX1_restore_9 : decode cX1_restore 9 = .ok (.aaload, 1) := dk_50 (dk_at dksX1_restore_0 9 rfl rfl)
theorem dX1_restore_10 : decode cX1_restore 10 = .ok (.ifnull 7, 3) := dk_198 0 7 (dk_at dksX1_restore_0 10 rfl rfl)
theorem dX1_restore_13 : decode cX1_restore 13 = .ok (.iconst 1, 1) := dk_4 (dk_at dksX1_restore_0 13 rfl rfl)
theorem dX1_restore_14 : decode cX1_restore 14 = .ok (.goto 4, 3) := dk_167 0 4 (dk_at dksX1_restore_0 14 rfl rfl)
theorem dX1_restore_17 : decode cX1_restore 17 = .ok (.iconst 0, 1) := dk_3 (dk_at dksX1_restore_0 17 rfl rfl)
theorem dX1_restore_18 : decode cX1_restore 18 = .ok (.invokestatic 222, 3) := dk_184 0 222 (dk_at dksX1_restore_0 18 rfl rfl)
theorem dX1_restore_21 : decode cX1_restore 21 = .ok (.aload_n 0, 1) := dk_42 (dk_at dksX1_restore_0 21 rfl rfl)
theorem dX1_restore_22 : decode cX1_restore 22 = .ok (.aload_n 0, 1) := dk_42 (dk_at dksX1_restore_0 22 rfl rfl)
theorem dX1_restore_23 : decode cX1_restore 23 = .ok (.getfield 107, 3) := dk_180 0 107 (dk_at dksX1_restore_1 0 rfl rfl)
theorem dX1_restore_26 : decode cX1_restore 26 = .ok (.iload_n 1, 1) := dk_27 (dk_at dksX1_restore_1 3 rfl rfl)
theorem dX1_restore_27 : decode cX1_restore 27 = .ok (.aaload, 1) := dk_50 (dk_at dksX1_restore_1 4 rfl rfl)
theorem dX1_restore_28 : decode cX1_restore 28 = .ok (.putfield 96, 3) := dk_181 0 96 (dk_at dksX1_restore_1 5 rfl rfl)
theorem dX1_restore_31 : decode cX1_restore 31 = .ok (.aload_n 0, 1) := dk_42 (dk_at dksX1_restore_1 8 rfl rfl)
theorem dX1_restore_32 : decode cX1_restore 32 = .ok (.getfield 103, 3) := dk_180 0 103 (dk_at dksX1_restore_1 9 rfl rfl)
theorem dX1_restore_35 : decode cX1_restore 35 = .ok (.invokevirtual 140, 3) := dk_182 0 140 (dk_at dksX1_restore_1 12 rfl rfl)
theorem dX1_restore_38 : decode cX1_restore 38 = .ok (.return_, 1) := dk_177 (dk_at dksX1_restore_1 15 rfl rfl)
theorem q84 : (Jvm.Cond.initialized "CountedSkipLists") ∈ lw_all := lw_g (lw_at lw_m1 1 rfl) rfl
theorem q132 : (Jvm.Cond.instantiable "CountedSkipLists" (7 : Nat)) ∈ lw_all := lw_g (lw_at lw_m1 49 rfl) rfl
theorem q134 : (Jvm.Cond.instanceMethod ({ cls := "CountedSkipLists", name := "<init>", desc := "()V" } : Jvm.MethodName)) ∈ lw_all := lw_g (lw_at lw_m1 51 rfl) rfl
theorem q135 : (Jvm.Cond.code ({ cls := "CountedSkipLists", name := "<init>", desc := "()V" } : Jvm.MethodName) prog_1_method_10_code (1 : Nat) (Option.none : Option Jvm.ClassFile.FieldType)) ∈ lw_all := lw_g (lw_at lw_m1 52 rfl) rfl
theorem q136 : (Jvm.Cond.methodLink "CountedSkipLists" (81 : Nat) ({ cls := "java/lang/Object", name := "<init>", desc := "()V" } : Jvm.MethodName)) ∈ lw_all := lw_g (lw_at lw_m1 53 rfl) rfl
theorem q139 : (Jvm.Cond.classLink "CountedSkipLists" (91 : Nat) "CountedSkipLists$State") ∈ lw_all := lw_g (lw_at lw_m1 56 rfl) rfl
theorem q141 : (Jvm.Cond.methodLink "CountedSkipLists" (93 : Nat) ({ cls := "CountedSkipLists$State", name := "<init>", desc := "(I)V" } : Jvm.MethodName)) ∈ lw_all := lw_g (lw_at lw_m1 58 rfl) rfl
theorem q187 : (Jvm.Cond.fieldLinkNest "CountedSkipLists" (163 : Nat) "CountedSkipLists$State" "lists" "[LCountedSkipLists$SkipList;" "CountedSkipLists") ∈ lw_tbl := lw_at lw_m1 104 rfl
theorem q189 : (Jvm.Cond.fieldLinkNest "CountedSkipLists" (358 : Nat) "CountedSkipLists$State" "counters" "[I" "CountedSkipLists") ∈ lw_tbl := lw_at lw_m1 106 rfl
theorem q191 : (Jvm.Cond.fieldLinkNest "CountedSkipLists" (335 : Nat) "CountedSkipLists$State" "journal" "LCountedSkipLists$Journal;" "CountedSkipLists") ∈ lw_tbl := lw_at lw_m1 108 rfl
theorem q194 : (Jvm.Cond.fieldLinkNest "CountedSkipLists" (176 : Nat) "CountedSkipLists$State" "limit" "I" "CountedSkipLists") ∈ lw_tbl := lw_at lw_m1 111 rfl
theorem q204 : (Jvm.Cond.classLink "CountedSkipLists" (100 : Nat) "java/util/ArrayDeque") ∈ lw_all := lw_g (lw_at lw_m1 121 rfl) rfl
theorem q206 : (Jvm.Cond.methodLink "CountedSkipLists" (102 : Nat) ({ cls := "java/util/ArrayDeque", name := "<init>", desc := "(I)V" } : Jvm.MethodName)) ∈ lw_all := lw_g (lw_at lw_m1 123 rfl) rfl
theorem q225 : (Jvm.Cond.fieldLink "CountedSkipLists" (84 : Nat) "CountedSkipLists" "text" "[B") ∈ lw_all := lw_g (lw_at lw_m1 142 rfl) rfl
theorem q226 : (Jvm.Cond.fieldLink "CountedSkipLists" (111 : Nat) "CountedSkipLists" "length" "I") ∈ lw_all := lw_g (lw_at lw_m1 143 rfl) rfl
theorem q227 : (Jvm.Cond.fieldLink "CountedSkipLists" (120 : Nat) "CountedSkipLists" "errorCode" "I") ∈ lw_all := lw_g (lw_at lw_m1 144 rfl) rfl
theorem q228 : (Jvm.Cond.fieldLink "CountedSkipLists" (88 : Nat) "CountedSkipLists" "errorPosition" "I") ∈ lw_all := lw_g (lw_at lw_m1 145 rfl) rfl
theorem q229 : (Jvm.Cond.fieldLink "CountedSkipLists" (96 : Nat) "CountedSkipLists" "now" "LCountedSkipLists$State;") ∈ lw_all := lw_g (lw_at lw_m1 146 rfl) rfl
theorem q230 : (Jvm.Cond.fieldLink "CountedSkipLists" (103 : Nat) "CountedSkipLists" "past" "Ljava/util/ArrayDeque;") ∈ lw_all := lw_g (lw_at lw_m1 147 rfl) rfl
theorem q231 : (Jvm.Cond.fieldLink "CountedSkipLists" (107 : Nat) "CountedSkipLists" "saved" "[LCountedSkipLists$State;") ∈ lw_all := lw_g (lw_at lw_m1 148 rfl) rfl
theorem q232 : (Jvm.Cond.laysFinal "CountedSkipLists" "CountedSkipLists" "text" "[B") ∈ lw_all := lw_g (lw_at lw_m1 149 rfl) rfl
theorem q233 : (Jvm.Cond.soleField "CountedSkipLists" "text") ∈ lw_all := lw_g (lw_at lw_m1 150 rfl) rfl
theorem q234 : (Jvm.Cond.lays "CountedSkipLists" "CountedSkipLists" "length" "I") ∈ lw_all := lw_g (lw_at lw_m1 151 rfl) rfl
theorem q235 : (Jvm.Cond.soleField "CountedSkipLists" "length") ∈ lw_all := lw_g (lw_at lw_m1 152 rfl) rfl
theorem q236 : (Jvm.Cond.lays "CountedSkipLists" "CountedSkipLists" "errorCode" "I") ∈ lw_all := lw_g (lw_at lw_m1 153 rfl) rfl
theorem q237 : (Jvm.Cond.soleField "CountedSkipLists" "errorCode") ∈ lw_all := lw_g (lw_at lw_m1 154 rfl) rfl
theorem q238 : (Jvm.Cond.lays "CountedSkipLists" "CountedSkipLists" "errorPosition" "I") ∈ lw_all := lw_g (lw_at lw_m1 155 rfl) rfl
theorem q239 : (Jvm.Cond.soleField "CountedSkipLists" "errorPosition") ∈ lw_all := lw_g (lw_at lw_m1 156 rfl) rfl
theorem q240 : (Jvm.Cond.lays "CountedSkipLists" "CountedSkipLists" "now" "LCountedSkipLists$State;") ∈ lw_all := lw_g (lw_at lw_m1 157 rfl) rfl
theorem q241 : (Jvm.Cond.soleField "CountedSkipLists" "now") ∈ lw_all := lw_g (lw_at lw_m1 158 rfl) rfl
theorem q242 : (Jvm.Cond.laysFinal "CountedSkipLists" "CountedSkipLists" "past" "Ljava/util/ArrayDeque;") ∈ lw_all := lw_g (lw_at lw_m1 159 rfl) rfl
theorem q243 : (Jvm.Cond.soleField "CountedSkipLists" "past") ∈ lw_all := lw_g (lw_at lw_m1 160 rfl) rfl
theorem q244 : (Jvm.Cond.laysFinal "CountedSkipLists" "CountedSkipLists" "saved" "[LCountedSkipLists$State;") ∈ lw_all := lw_g (lw_at lw_m1 161 rfl) rfl
theorem q245 : (Jvm.Cond.soleField "CountedSkipLists" "saved") ∈ lw_all := lw_g (lw_at lw_m1 162 rfl) rfl
theorem q246 : (Jvm.Cond.superclass "CountedSkipLists" "java/lang/Object") ∈ lw_all := lw_g (lw_at lw_m1 163 rfl) rfl
theorem q248 : (Jvm.Cond.instanceMethod ({ cls := "CountedSkipLists", name := "errorCode", desc := "()I" } : Jvm.MethodName)) ∈ lw_all := lw_g (lw_at lw_m1 165 rfl) rfl
theorem q249 : (Jvm.Cond.selects "CountedSkipLists" ({ cls := "CountedSkipLists", name := "errorCode", desc := "()I" } : Jvm.MethodName) ({ cls := "CountedSkipLists", name := "errorCode", desc := "()I" } : Jvm.MethodName)) ∈ lw_all := lw_g (lw_at lw_m1 166 rfl) rfl
theorem q250 : (Jvm.Cond.code ({ cls := "CountedSkipLists", name := "errorCode", desc := "()I" } : Jvm.MethodName) prog_1_method_14_code (1 : Nat) (Option.some Jvm.ClassFile.FieldType.int)) ∈ lw_all := lw_g (lw_at lw_m1 167 rfl) rfl
theorem q252 : (Jvm.Cond.instanceMethod ({ cls := "CountedSkipLists", name := "errorPosition", desc := "()I" } : Jvm.MethodName)) ∈ lw_all := lw_g (lw_at lw_m1 169 rfl) rfl
theorem q253 : (Jvm.Cond.selects "CountedSkipLists" ({ cls := "CountedSkipLists", name := "errorPosition", desc := "()I" } : Jvm.MethodName) ({ cls := "CountedSkipLists", name := "errorPosition", desc := "()I" } : Jvm.MethodName)) ∈ lw_all := lw_g (lw_at lw_m1 170 rfl) rfl
theorem q254 : (Jvm.Cond.code ({ cls := "CountedSkipLists", name := "errorPosition", desc := "()I" } : Jvm.MethodName) prog_1_method_15_code (1 : Nat) (Option.some Jvm.ClassFile.FieldType.int)) ∈ lw_all := lw_g (lw_at lw_m1 171 rfl) rfl
theorem q256 : (Jvm.Cond.instanceMethod ({ cls := "CountedSkipLists", name := "exists", desc := "(I)Z" } : Jvm.MethodName)) ∈ lw_all := lw_g (lw_at lw_m1 173 rfl) rfl
theorem q257 : (Jvm.Cond.selects "CountedSkipLists" ({ cls := "CountedSkipLists", name := "exists", desc := "(I)Z" } : Jvm.MethodName) ({ cls := "CountedSkipLists", name := "exists", desc := "(I)Z" } : Jvm.MethodName)) ∈ lw_all := lw_g (lw_at lw_m1 174 rfl) rfl
theorem q258 : (Jvm.Cond.code ({ cls := "CountedSkipLists", name := "exists", desc := "(I)Z" } : Jvm.MethodName) prog_1_method_17_code (2 : Nat) (Option.some Jvm.ClassFile.FieldType.boolean)) ∈ lw_all := lw_g (lw_at lw_m1 175 rfl) rfl
theorem q259 : (Jvm.Cond.methodLink "CountedSkipLists" (18 : Nat) ({ cls := "CountedSkipLists", name := "isIn", desc := "(III)Z" } : Jvm.MethodName)) ∈ lw_all := lw_g (lw_at lw_m1 176 rfl) rfl
theorem q260 : (Jvm.Cond.static ({ cls := "CountedSkipLists", name := "isIn", desc := "(III)Z" } : Jvm.MethodName)) ∈ lw_all := lw_g (lw_at lw_m1 177 rfl) rfl
theorem q261 : (Jvm.Cond.code ({ cls := "CountedSkipLists", name := "isIn", desc := "(III)Z" } : Jvm.MethodName) prog_1_method_1_code (3 : Nat) (Option.some Jvm.ClassFile.FieldType.boolean)) ∈ lw_all := lw_g (lw_at lw_m1 178 rfl) rfl
theorem q263 : (Jvm.Cond.instanceMethod ({ cls := "CountedSkipLists", name := "limit", desc := "()I" } : Jvm.MethodName)) ∈ lw_all := lw_g (lw_at lw_m1 180 rfl) rfl
theorem q264 : (Jvm.Cond.selects "CountedSkipLists" ({ cls := "CountedSkipLists", name := "limit", desc := "()I" } : Jvm.MethodName) ({ cls := "CountedSkipLists", name := "limit", desc := "()I" } : Jvm.MethodName)) ∈ lw_all := lw_g (lw_at lw_m1 181 rfl) rfl
theorem q265 : (Jvm.Cond.code ({ cls := "CountedSkipLists", name := "limit", desc := "()I" } : Jvm.MethodName) prog_1_method_18_code (1 : Nat) (Option.some Jvm.ClassFile.FieldType.int)) ∈ lw_all := lw_g (lw_at lw_m1 182 rfl) rfl
theorem q267 : (Jvm.Cond.instanceMethod ({ cls := "CountedSkipLists", name := "logSize", desc := "()I" } : Jvm.MethodName)) ∈ lw_all := lw_g (lw_at lw_m1 184 rfl) rfl
theorem q268 : (Jvm.Cond.selects "CountedSkipLists" ({ cls := "CountedSkipLists", name := "logSize", desc := "()I" } : Jvm.MethodName) ({ cls := "CountedSkipLists", name := "logSize", desc := "()I" } : Jvm.MethodName)) ∈ lw_all := lw_g (lw_at lw_m1 185 rfl) rfl
theorem q269 : (Jvm.Cond.code ({ cls := "CountedSkipLists", name := "logSize", desc := "()I" } : Jvm.MethodName) prog_1_method_53_code (1 : Nat) (Option.some Jvm.ClassFile.FieldType.int)) ∈ lw_all := lw_g (lw_at lw_m1 186 rfl) rfl
theorem q270 : (Jvm.Cond.methodLink "CountedSkipLists" (329 : Nat) ({ cls := "CountedSkipLists$Journal", name := "size", desc := "()I" } : Jvm.MethodName)) ∈ lw_all := lw_g (lw_at lw_m1 187 rfl) rfl
theorem q283 : (Jvm.Cond.instanceMethod ({ cls := "CountedSkipLists", name := "append", desc := "(IIIII)I" } : Jvm.MethodName)) ∈ lw_all := lw_g (lw_at lw_m1 200 rfl) rfl
theorem q284 : (Jvm.Cond.selects "CountedSkipLists" ({ cls := "CountedSkipLists", name := "append", desc := "(IIIII)I" } : Jvm.MethodName) ({ cls := "CountedSkipLists", name := "append", desc := "(IIIII)I" } : Jvm.MethodName)) ∈ lw_all := lw_g (lw_at lw_m1 201 rfl) rfl
theorem q285 : (Jvm.Cond.code ({ cls := "CountedSkipLists", name := "append", desc := "(IIIII)I" } : Jvm.MethodName) prog_1_method_11_code (8 : Nat) (Option.some Jvm.ClassFile.FieldType.int)) ∈ lw_all := lw_g (lw_at lw_m1 202 rfl) rfl
theorem q286 : (Jvm.Cond.methodLink "CountedSkipLists" (114 : Nat) ({ cls := "CountedSkipLists", name := "checkState", desc := "(Z)V" } : Jvm.MethodName)) ∈ lw_all := lw_g (lw_at lw_m1 203 rfl) rfl
theorem q287 : (Jvm.Cond.static ({ cls := "CountedSkipLists", name := "checkState", desc := "(Z)V" } : Jvm.MethodName)) ∈ lw_all := lw_g (lw_at lw_m1 204 rfl) rfl
theorem q288 : (Jvm.Cond.code ({ cls := "CountedSkipLists", name := "checkState", desc := "(Z)V" } : Jvm.MethodName) prog_1_method_4_code (1 : Nat) (Option.none : Option Jvm.ClassFile.FieldType)) ∈ lw_all := lw_g (lw_at lw_m1 205 rfl) rfl
theorem q289 : (Jvm.Cond.classLink "CountedSkipLists" (10 : Nat) "java/lang/IllegalStateException") ∈ lw_all := lw_g (lw_at lw_m1 206 rfl) rfl
theorem q333 : (Jvm.Cond.methodLink "CountedSkipLists" (12 : Nat) ({ cls := "java/lang/IllegalStateException", name := "<init>", desc := "()V" } : Jvm.MethodName)) ∈ lw_all := lw_g (lw_at lw_m2 10 rfl) rfl
theorem q392 : (Jvm.Cond.instanceMethod ({ cls := "CountedSkipLists", name := "truncate", desc := "(I)I" } : Jvm.MethodName)) ∈ lw_all := lw_g (lw_at lw_m2 69 rfl) rfl
theorem q393 : (Jvm.Cond.selects "CountedSkipLists" ({ cls := "CountedSkipLists", name := "truncate", desc := "(I)I" } : Jvm.MethodName) ({ cls := "CountedSkipLists", name := "truncate", desc := "(I)I" } : Jvm.MethodName)) ∈ lw_all := lw_g (lw_at lw_m2 70 rfl) rfl
theorem q394 : (Jvm.Cond.code ({ cls := "CountedSkipLists", name := "truncate", desc := "(I)I" } : Jvm.MethodName) prog_1_method_12_code (2 : Nat) (Option.some Jvm.ClassFile.FieldType.int)) ∈ lw_all := lw_g (lw_at lw_m2 71 rfl) rfl
theorem q395 : (Jvm.Cond.methodLink "CountedSkipLists" (117 : Nat) ({ cls := "CountedSkipLists", name := "checkIndex", desc := "(Z)V" } : Jvm.MethodName)) ∈ lw_all := lw_g (lw_at lw_m2 72 rfl) rfl
theorem q396 : (Jvm.Cond.static ({ cls := "CountedSkipLists", name := "checkIndex", desc := "(Z)V" } : Jvm.MethodName)) ∈ lw_all := lw_g (lw_at lw_m2 73 rfl) rfl
theorem q397 : (Jvm.Cond.code ({ cls := "CountedSkipLists", name := "checkIndex", desc := "(Z)V" } : Jvm.MethodName) prog_1_method_2_code (1 : Nat) (Option.none : Option Jvm.ClassFile.FieldType)) ∈ lw_all := lw_g (lw_at lw_m2 74 rfl) rfl
theorem q398 : (Jvm.Cond.classLink "CountedSkipLists" (1 : Nat) "java/lang/IndexOutOfBoundsException") ∈ lw_all := lw_g (lw_at lw_m2 75 rfl) rfl
theorem q407 : (Jvm.Cond.methodLink "CountedSkipLists" (3 : Nat) ({ cls := "java/lang/IndexOutOfBoundsException", name := "<init>", desc := "()V" } : Jvm.MethodName)) ∈ lw_all := lw_g (lw_at lw_m2 84 rfl) rfl
theorem q418 : (Jvm.Cond.instanceMethod ({ cls := "CountedSkipLists", name := "load", desc := "()I" } : Jvm.MethodName)) ∈ lw_all := lw_g (lw_at lw_m2 95 rfl) rfl
theorem q419 : (Jvm.Cond.selects "CountedSkipLists" ({ cls := "CountedSkipLists", name := "load", desc := "()I" } : Jvm.MethodName) ({ cls := "CountedSkipLists", name := "load", desc := "()I" } : Jvm.MethodName)) ∈ lw_all := lw_g (lw_at lw_m2 96 rfl) rfl
theorem q420 : (Jvm.Cond.codeWith ({ cls := "CountedSkipLists", name := "load", desc := "()I" } : Jvm.MethodName) prog_1_method_13_code (3 : Nat) (Option.some Jvm.ClassFile.FieldType.int) [((20 : Nat), (36 : Nat), (39 : Nat), (132 : Nat))]) ∈ lw_all := lw_g (lw_at lw_m2 97 rfl) rfl
theorem q421 : (Jvm.Cond.classLink "CountedSkipLists" (132 : Nat) "CountedSkipLists$TextException") ∈ lw_all := lw_g (lw_at lw_m2 98 rfl) rfl
theorem q422 : (Jvm.Cond.classLink "CountedSkipLists" (123 : Nat) "CountedSkipLists$Parser") ∈ lw_all := lw_g (lw_at lw_m2 99 rfl) rfl
theorem q424 : (Jvm.Cond.methodLink "CountedSkipLists" (125 : Nat) ({ cls := "CountedSkipLists$Parser", name := "<init>", desc := "(LCountedSkipLists;I)V" } : Jvm.MethodName)) ∈ lw_all := lw_g (lw_at lw_m2 101 rfl) rfl
theorem q751 : (Jvm.Cond.methodLink "CountedSkipLists" (128 : Nat) ({ cls := "CountedSkipLists$Parser", name := "parse", desc := "()LCountedSkipLists$State;" } : Jvm.MethodName)) ∈ lw_all := lw_g (lw_at lw_m3 188 rfl) rfl
theorem q795 : (Jvm.Cond.fieldLinkNest "CountedSkipLists" (134 : Nat) "CountedSkipLists$TextException" "code" "I" "CountedSkipLists") ∈ lw_tbl := lw_at lw_m3 232 rfl
theorem q797 : (Jvm.Cond.fieldLinkNest "CountedSkipLists" (137 : Nat) "CountedSkipLists$TextException" "position" "I" "CountedSkipLists") ∈ lw_tbl := lw_at lw_m3 234 rfl
theorem q835 : (Jvm.Cond.fieldLinkNest "CountedSkipLists" (203 : Nat) "CountedSkipLists$Node" "key" "I" "CountedSkipLists") ∈ lw_tbl := lw_at lw_m4 32 rfl
theorem q840 : (Jvm.Cond.fieldLinkNest "CountedSkipLists" (259 : Nat) "CountedSkipLists$Node" "widths" "[I" "CountedSkipLists") ∈ lw_tbl := lw_at lw_m4 37 rfl
theorem q843 : (Jvm.Cond.fieldLinkNest "CountedSkipLists" (263 : Nat) "CountedSkipLists$Node" "sums" "[I" "CountedSkipLists") ∈ lw_tbl := lw_at lw_m4 40 rfl
theorem q846 : (Jvm.Cond.fieldLinkNest "CountedSkipLists" (208 : Nat) "CountedSkipLists$Node" "value" "I" "CountedSkipLists") ∈ lw_tbl := lw_at lw_m4 43 rfl
theorem q850 : (Jvm.Cond.fieldLinkNest "CountedSkipLists" (211 : Nat) "CountedSkipLists$Node" "height" "I" "CountedSkipLists") ∈ lw_tbl := lw_at lw_m4 47 rfl
theorem q870 : (Jvm.Cond.fieldLinkNest "CountedSkipLists" (166 : Nat) "CountedSkipLists$SkipList" "name" "Ljava/lang/String;" "CountedSkipLists") ∈ lw_tbl := lw_at lw_m4 67 rfl
theorem q873 : (Jvm.Cond.fieldLinkNest "CountedSkipLists" (247 : Nat) "CountedSkipLists$SkipList" "head" "LCountedSkipLists$Node;" "CountedSkipLists") ∈ lw_tbl := lw_at lw_m4 70 rfl
theorem q877 : (Jvm.Cond.fieldLinkNest "CountedSkipLists" (191 : Nat) "CountedSkipLists$SkipList" "size" "I" "CountedSkipLists") ∈ lw_tbl := lw_at lw_m4 74 rfl
theorem q915 : (Jvm.Cond.laysStatic "CountedSkipLists" "TWOS" "[I") ∈ lw_tbl := lw_at lw_m4 112 rfl
theorem q920 : (Jvm.Cond.static ({ cls := "CountedSkipLists", name := "repairs", desc := "(LCountedSkipLists$SkipList;ILCountedSkipLists$Journal;)V" } : Jvm.MethodName)) ∈ lw_all := lw_g (lw_at lw_m4 117 rfl) rfl
theorem q921 : (Jvm.Cond.code ({ cls := "CountedSkipLists", name := "repairs", desc := "(LCountedSkipLists$SkipList;ILCountedSkipLists$Journal;)V" } : Jvm.MethodName) prog_1_method_9_code (7 : Nat) (Option.none : Option Jvm.ClassFile.FieldType)) ∈ lw_all := lw_g (lw_at lw_m4 118 rfl) rfl
theorem q922 : (Jvm.Cond.static ({ cls := "CountedSkipLists", name := "lambda$repairs$0", desc := "(ILCountedSkipLists$SkipList;)LCountedSkipLists$Gap;" } : Jvm.MethodName)) ∈ lw_all := lw_g (lw_at lw_m4 119 rfl) rfl
theorem q923 : (Jvm.Cond.code ({ cls := "CountedSkipLists", name := "lambda$repairs$0", desc := "(ILCountedSkipLists$SkipList;)LCountedSkipLists$Gap;" } : Jvm.MethodName) prog_1_method_80_code (2 : Nat) (Option.some (Jvm.ClassFile.FieldType.object "CountedSkipLists$Gap"))) ∈ lw_all := lw_g (lw_at lw_m4 120 rfl) rfl
theorem q924 : (Jvm.Cond.methodLink "CountedSkipLists" (435 : Nat) ({ cls := "CountedSkipLists$SkipList", name := "tooFull", desc := "(I)LCountedSkipLists$Gap;" } : Jvm.MethodName)) ∈ lw_all := lw_g (lw_at lw_m4 121 rfl) rfl
theorem q943 : (Jvm.Cond.fieldLinkNest "CountedSkipLists" (68 : Nat) "CountedSkipLists$Gap" "level" "I" "CountedSkipLists") ∈ lw_tbl := lw_at lw_m4 140 rfl
theorem q946 : (Jvm.Cond.fieldLinkNest "CountedSkipLists" (26 : Nat) "CountedSkipLists$Gap" "size" "I" "CountedSkipLists") ∈ lw_tbl := lw_at lw_m4 143 rfl
theorem q961 : (Jvm.Cond.static ({ cls := "CountedSkipLists", name := "lambda$repairs$1", desc := "(LCountedSkipLists$SkipList;)LCountedSkipLists$Gap;" } : Jvm.MethodName)) ∈ lw_all := lw_g (lw_at lw_m4 158 rfl) rfl
theorem q962 : (Jvm.Cond.code ({ cls := "CountedSkipLists", name := "lambda$repairs$1", desc := "(LCountedSkipLists$SkipList;)LCountedSkipLists$Gap;" } : Jvm.MethodName) prog_1_method_79_code (1 : Nat) (Option.some (Jvm.ClassFile.FieldType.object "CountedSkipLists$Gap"))) ∈ lw_all := lw_g (lw_at lw_m4 159 rfl) rfl
theorem q963 : (Jvm.Cond.methodLink "CountedSkipLists" (431 : Nat) ({ cls := "CountedSkipLists$SkipList", name := "empty", desc := "()LCountedSkipLists$Gap;" } : Jvm.MethodName)) ∈ lw_all := lw_g (lw_at lw_m4 160 rfl) rfl
theorem q967 : (Jvm.Cond.classLink "CountedSkipLists" (49 : Nat) "CountedSkipLists$Rule") ∈ lw_all := lw_g (lw_at lw_m4 164 rfl) rfl
theorem q969 : (Jvm.Cond.methodLink "CountedSkipLists" (60 : Nat) ({ cls := "CountedSkipLists", name := "first", desc := "(LCountedSkipLists$SkipList;[LCountedSkipLists$Rule;)LCountedSkipLists$Gap;" } : Jvm.MethodName)) ∈ lw_all := lw_g (lw_at lw_m4 166 rfl) rfl
theorem q970 : (Jvm.Cond.static ({ cls := "CountedSkipLists", name := "first", desc := "(LCountedSkipLists$SkipList;[LCountedSkipLists$Rule;)LCountedSkipLists$Gap;" } : Jvm.MethodName)) ∈ lw_all := lw_g (lw_at lw_m4 167 rfl) rfl
theorem q971 : (Jvm.Cond.code ({ cls := "CountedSkipLists", name := "first", desc := "(LCountedSkipLists$SkipList;[LCountedSkipLists$Rule;)LCountedSkipLists$Gap;" } : Jvm.MethodName) prog_1_method_8_code (7 : Nat) (Option.some (Jvm.ClassFile.FieldType.object "CountedSkipLists$Gap"))) ∈ lw_all := lw_g (lw_at lw_m4 168 rfl) rfl
theorem q972 : (Jvm.Cond.interfaceEntry "CountedSkipLists" (48 : Nat)) ∈ lw_tbl := lw_at lw_m4 169 rfl
theorem q973 : (Jvm.Cond.methodLink "CountedSkipLists" (48 : Nat) ({ cls := "CountedSkipLists$Rule", name := "finds", desc := "(LCountedSkipLists$SkipList;)LCountedSkipLists$Gap;" } : Jvm.MethodName)) ∈ lw_all := lw_g (lw_at lw_m4 170 rfl) rfl
theorem q976 : (Jvm.Cond.methodLink "CountedSkipLists" (64 : Nat) ({ cls := "CountedSkipLists", name := "mendOf", desc := "(LCountedSkipLists$Gap;)LCountedSkipLists$Mend;" } : Jvm.MethodName)) ∈ lw_all := lw_g (lw_at lw_m4 173 rfl) rfl
theorem q977 : (Jvm.Cond.static ({ cls := "CountedSkipLists", name := "mendOf", desc := "(LCountedSkipLists$Gap;)LCountedSkipLists$Mend;" } : Jvm.MethodName)) ∈ lw_all := lw_g (lw_at lw_m4 174 rfl) rfl
theorem q978 : (Jvm.Cond.code ({ cls := "CountedSkipLists", name := "mendOf", desc := "(LCountedSkipLists$Gap;)LCountedSkipLists$Mend;" } : Jvm.MethodName) prog_1_method_7_code (1 : Nat) (Option.some (Jvm.ClassFile.FieldType.object "CountedSkipLists$Mend"))) ∈ lw_all := lw_g (lw_at lw_m4 175 rfl) rfl
theorem q979 : (Jvm.Cond.fieldLink "CountedSkipLists" (32 : Nat) "CountedSkipLists$Mend" "DIVIDED" "LCountedSkipLists$Mend;") ∈ lw_all := lw_g (lw_at lw_m4 176 rfl) rfl
theorem q981 : (Jvm.Cond.methodLink "CountedSkipLists" (38 : Nat) ({ cls := "CountedSkipLists$Gap", name := "isRich", desc := "()Z" } : Jvm.MethodName)) ∈ lw_all := lw_g (lw_at lw_m4 178 rfl) rfl
theorem q990 : (Jvm.Cond.fieldLink "CountedSkipLists" (42 : Nat) "CountedSkipLists$Mend" "SHIFTED" "LCountedSkipLists$Mend;") ∈ lw_all := lw_g (lw_at lw_m4 187 rfl) rfl
theorem q992 : (Jvm.Cond.fieldLink "CountedSkipLists" (45 : Nat) "CountedSkipLists$Mend" "MERGED" "LCountedSkipLists$Mend;") ∈ lw_all := lw_g (lw_at lw_m4 189 rfl) rfl
theorem q994 : (Jvm.Cond.methodLink "CountedSkipLists" (71 : Nat) ({ cls := "CountedSkipLists$Mend", name := "moves", desc := "(LCountedSkipLists$SkipList;LCountedSkipLists$Gap;)I" } : Jvm.MethodName)) ∈ lw_all := lw_g (lw_at lw_m4 191 rfl) rfl
theorem q1033 : (Jvm.Cond.methodLink "CountedSkipLists" (75 : Nat) ({ cls := "CountedSkipLists$Journal", name := "add", desc := "(LCountedSkipLists$Mend;II)V" } : Jvm.MethodName)) ∈ lw_all := lw_g (lw_at lw_m4 230 rfl) rfl
theorem q1079 : (Jvm.Cond.selects "CountedSkipLists" ({ cls := "java/lang/Object", name := "getClass", desc := "()Ljava/lang/Class;" } : Jvm.MethodName) ({ cls := "java/lang/Object", name := "getClass", desc := "()Ljava/lang/Class;" } : Jvm.MethodName)) ∈ lw_all := lw_g (lw_at lw_m5 36 rfl) rfl
theorem q1115 : (Jvm.Cond.classLink "CountedSkipLists" (7 : Nat) "java/lang/IllegalArgumentException") ∈ lw_all := lw_g (lw_at lw_m5 72 rfl) rfl
theorem q1116 : (Jvm.Cond.methodLink "CountedSkipLists" (9 : Nat) ({ cls := "java/lang/IllegalArgumentException", name := "<init>", desc := "()V" } : Jvm.MethodName)) ∈ lw_all := lw_g (lw_at lw_m5 73 rfl) rfl
theorem q1120 : (Jvm.Cond.methodLink "CountedSkipLists" (140 : Nat) ({ cls := "java/util/ArrayDeque", name := "clear", desc := "()V" } : Jvm.MethodName)) ∈ lw_all := lw_g (lw_at lw_m5 77 rfl) rfl
theorem q1127 : (Jvm.Cond.methodLink "CountedSkipLists" (143 : Nat) ({ cls := "CountedSkipLists$State", name := "lists", desc := "()I" } : Jvm.MethodName)) ∈ lw_all := lw_g (lw_at lw_m5 84 rfl) rfl
theorem q1136 : (Jvm.Cond.instanceMethod ({ cls := "CountedSkipLists", name := "find", desc := "()I" } : Jvm.MethodName)) ∈ lw_all := lw_g (lw_at lw_m5 93 rfl) rfl
theorem q1137 : (Jvm.Cond.selects "CountedSkipLists" ({ cls := "CountedSkipLists", name := "find", desc := "()I" } : Jvm.MethodName) ({ cls := "CountedSkipLists", name := "find", desc := "()I" } : Jvm.MethodName)) ∈ lw_all := lw_g (lw_at lw_m5 94 rfl) rfl
theorem q1138 : (Jvm.Cond.code ({ cls := "CountedSkipLists", name := "find", desc := "()I" } : Jvm.MethodName) prog_1_method_16_code (4 : Nat) (Option.some Jvm.ClassFile.FieldType.int)) ∈ lw_all := lw_g (lw_at lw_m5 95 rfl) rfl
theorem q1139 : (Jvm.Cond.classLink "CountedSkipLists" (147 : Nat) "java/lang/StringBuilder") ∈ lw_all := lw_g (lw_at lw_m5 96 rfl) rfl
theorem q1140 : (Jvm.Cond.methodLink "CountedSkipLists" (149 : Nat) ({ cls := "java/lang/StringBuilder", name := "<init>", desc := "(I)V" } : Jvm.MethodName)) ∈ lw_all := lw_g (lw_at lw_m5 97 rfl) rfl
theorem q1141 : (Jvm.Cond.methodLink "CountedSkipLists" (150 : Nat) ({ cls := "java/lang/StringBuilder", name := "append", desc := "(C)Ljava/lang/StringBuilder;" } : Jvm.MethodName)) ∈ lw_all := lw_g (lw_at lw_m5 98 rfl) rfl
theorem q1142 : (Jvm.Cond.methodLink "CountedSkipLists" (154 : Nat) ({ cls := "java/lang/StringBuilder", name := "toString", desc := "()Ljava/lang/String;" } : Jvm.MethodName)) ∈ lw_all := lw_g (lw_at lw_m5 99 rfl) rfl
theorem q1143 : (Jvm.Cond.methodLink "CountedSkipLists" (158 : Nat) ({ cls := "java/lang/String", name := "isEmpty", desc := "()Z" } : Jvm.MethodName)) ∈ lw_all := lw_g (lw_at lw_m5 100 rfl) rfl
theorem q1147 : (Jvm.Cond.methodLink "CountedSkipLists" (172 : Nat) ({ cls := "java/lang/String", name := "equals", desc := "(Ljava/lang/Object;)Z" } : Jvm.MethodName)) ∈ lw_all := lw_g (lw_at lw_m5 104 rfl) rfl
theorem q1148 : (Jvm.Cond.classLink "CountedSkipLists" (13 : Nat) "java/util/NoSuchElementException") ∈ lw_all := lw_g (lw_at lw_m5 105 rfl) rfl
theorem q1157 : (Jvm.Cond.methodLink "CountedSkipLists" (15 : Nat) ({ cls := "java/util/NoSuchElementException", name := "<init>", desc := "()V" } : Jvm.MethodName)) ∈ lw_all := lw_g (lw_at lw_m5 114 rfl) rfl
theorem q1167 : (Jvm.Cond.instanceMethod ({ cls := "CountedSkipLists", name := "size", desc := "(I)I" } : Jvm.MethodName)) ∈ lw_all := lw_g (lw_at lw_m5 124 rfl) rfl
theorem q1168 : (Jvm.Cond.selects "CountedSkipLists" ({ cls := "CountedSkipLists", name := "size", desc := "(I)I" } : Jvm.MethodName) ({ cls := "CountedSkipLists", name := "size", desc := "(I)I" } : Jvm.MethodName)) ∈ lw_all := lw_g (lw_at lw_m5 125 rfl) rfl
theorem q1169 : (Jvm.Cond.code ({ cls := "CountedSkipLists", name := "size", desc := "(I)I" } : Jvm.MethodName) prog_1_method_21_code (2 : Nat) (Option.some Jvm.ClassFile.FieldType.int)) ∈ lw_all := lw_g (lw_at lw_m5 126 rfl) rfl
theorem q1170 : (Jvm.Cond.methodLink "CountedSkipLists" (183 : Nat) ({ cls := "CountedSkipLists", name := "at", desc := "(I)LCountedSkipLists$SkipList;" } : Jvm.MethodName)) ∈ lw_all := lw_g (lw_at lw_m5 127 rfl) rfl
theorem q1171 : (Jvm.Cond.privateMethod ({ cls := "CountedSkipLists", name := "at", desc := "(I)LCountedSkipLists$SkipList;" } : Jvm.MethodName)) ∈ lw_tbl := lw_at lw_m5 128 rfl
theorem q1172 : (Jvm.Cond.instanceMethod ({ cls := "CountedSkipLists", name := "at", desc := "(I)LCountedSkipLists$SkipList;" } : Jvm.MethodName)) ∈ lw_all := lw_g (lw_at lw_m5 129 rfl) rfl
theorem q1173 : (Jvm.Cond.code ({ cls := "CountedSkipLists", name := "at", desc := "(I)LCountedSkipLists$SkipList;" } : Jvm.MethodName) prog_1_method_19_code (2 : Nat) (Option.some (Jvm.ClassFile.FieldType.object "CountedSkipLists$SkipList"))) ∈ lw_all := lw_g (lw_at lw_m5 130 rfl) rfl
theorem q1174 : (Jvm.Cond.methodLink "CountedSkipLists" (179 : Nat) ({ cls := "CountedSkipLists", name := "exists", desc := "(I)Z" } : Jvm.MethodName)) ∈ lw_all := lw_g (lw_at lw_m5 131 rfl) rfl
theorem q1179 : (Jvm.Cond.instanceMethod ({ cls := "CountedSkipLists", name := "height", desc := "(I)I" } : Jvm.MethodName)) ∈ lw_all := lw_g (lw_at lw_m5 136 rfl) rfl
theorem q1180 : (Jvm.Cond.selects "CountedSkipLists" ({ cls := "CountedSkipLists", name := "height", desc := "(I)I" } : Jvm.MethodName) ({ cls := "CountedSkipLists", name := "height", desc := "(I)I" } : Jvm.MethodName)) ∈ lw_all := lw_g (lw_at lw_m5 137 rfl) rfl
theorem q1181 : (Jvm.Cond.code ({ cls := "CountedSkipLists", name := "height", desc := "(I)I" } : Jvm.MethodName) prog_1_method_22_code (2 : Nat) (Option.some Jvm.ClassFile.FieldType.int)) ∈ lw_all := lw_g (lw_at lw_m5 138 rfl) rfl
theorem q1182 : (Jvm.Cond.methodLink "CountedSkipLists" (192 : Nat) ({ cls := "CountedSkipLists$SkipList", name := "height", desc := "()I" } : Jvm.MethodName)) ∈ lw_all := lw_g (lw_at lw_m5 139 rfl) rfl
theorem q1187 : (Jvm.Cond.instanceMethod ({ cls := "CountedSkipLists", name := "keyAt", desc := "(II)I" } : Jvm.MethodName)) ∈ lw_all := lw_g (lw_at lw_m5 144 rfl) rfl
theorem q1188 : (Jvm.Cond.selects "CountedSkipLists" ({ cls := "CountedSkipLists", name := "keyAt", desc := "(II)I" } : Jvm.MethodName) ({ cls := "CountedSkipLists", name := "keyAt", desc := "(II)I" } : Jvm.MethodName)) ∈ lw_all := lw_g (lw_at lw_m5 145 rfl) rfl
theorem q1189 : (Jvm.Cond.code ({ cls := "CountedSkipLists", name := "keyAt", desc := "(II)I" } : Jvm.MethodName) prog_1_method_24_code (3 : Nat) (Option.some Jvm.ClassFile.FieldType.int)) ∈ lw_all := lw_g (lw_at lw_m5 146 rfl) rfl
theorem q1190 : (Jvm.Cond.methodLink "CountedSkipLists" (199 : Nat) ({ cls := "CountedSkipLists", name := "nodeAt", desc := "(II)LCountedSkipLists$Node;" } : Jvm.MethodName)) ∈ lw_all := lw_g (lw_at lw_m5 147 rfl) rfl
theorem q1191 : (Jvm.Cond.privateMethod ({ cls := "CountedSkipLists", name := "nodeAt", desc := "(II)LCountedSkipLists$Node;" } : Jvm.MethodName)) ∈ lw_tbl := lw_at lw_m5 148 rfl
theorem q1192 : (Jvm.Cond.instanceMethod ({ cls := "CountedSkipLists", name := "nodeAt", desc := "(II)LCountedSkipLists$Node;" } : Jvm.MethodName)) ∈ lw_all := lw_g (lw_at lw_m5 149 rfl) rfl
theorem q1193 : (Jvm.Cond.code ({ cls := "CountedSkipLists", name := "nodeAt", desc := "(II)LCountedSkipLists$Node;" } : Jvm.MethodName) prog_1_method_23_code (4 : Nat) (Option.some (Jvm.ClassFile.FieldType.object "CountedSkipLists$Node"))) ∈ lw_all := lw_g (lw_at lw_m5 150 rfl) rfl
theorem q1194 : (Jvm.Cond.methodLink "CountedSkipLists" (195 : Nat) ({ cls := "CountedSkipLists$SkipList", name := "select", desc := "(I[I)LCountedSkipLists$Node;" } : Jvm.MethodName)) ∈ lw_all := lw_g (lw_at lw_m5 151 rfl) rfl
theorem q1202 : (Jvm.Cond.instanceMethod ({ cls := "CountedSkipLists", name := "valueAt", desc := "(II)I" } : Jvm.MethodName)) ∈ lw_all := lw_g (lw_at lw_m5 159 rfl) rfl
theorem q1203 : (Jvm.Cond.selects "CountedSkipLists" ({ cls := "CountedSkipLists", name := "valueAt", desc := "(II)I" } : Jvm.MethodName) ({ cls := "CountedSkipLists", name := "valueAt", desc := "(II)I" } : Jvm.MethodName)) ∈ lw_all := lw_g (lw_at lw_m5 160 rfl) rfl
theorem q1204 : (Jvm.Cond.code ({ cls := "CountedSkipLists", name := "valueAt", desc := "(II)I" } : Jvm.MethodName) prog_1_method_25_code (3 : Nat) (Option.some Jvm.ClassFile.FieldType.int)) ∈ lw_all := lw_g (lw_at lw_m5 161 rfl) rfl
theorem q1209 : (Jvm.Cond.instanceMethod ({ cls := "CountedSkipLists", name := "heightAt", desc := "(II)I" } : Jvm.MethodName)) ∈ lw_all := lw_g (lw_at lw_m5 166 rfl) rfl
theorem q1210 : (Jvm.Cond.selects "CountedSkipLists" ({ cls := "CountedSkipLists", name := "heightAt", desc := "(II)I" } : Jvm.MethodName) ({ cls := "CountedSkipLists", name := "heightAt", desc := "(II)I" } : Jvm.MethodName)) ∈ lw_all := lw_g (lw_at lw_m5 167 rfl) rfl
theorem q1211 : (Jvm.Cond.code ({ cls := "CountedSkipLists", name := "heightAt", desc := "(II)I" } : Jvm.MethodName) prog_1_method_26_code (3 : Nat) (Option.some Jvm.ClassFile.FieldType.int)) ∈ lw_all := lw_g (lw_at lw_m5 168 rfl) rfl
theorem q1216 : (Jvm.Cond.instanceMethod ({ cls := "CountedSkipLists", name := "value", desc := "(II)I" } : Jvm.MethodName)) ∈ lw_all := lw_g (lw_at lw_m5 173 rfl) rfl
theorem q1217 : (Jvm.Cond.selects "CountedSkipLists" ({ cls := "CountedSkipLists", name := "value", desc := "(II)I" } : Jvm.MethodName) ({ cls := "CountedSkipLists", name := "value", desc := "(II)I" } : Jvm.MethodName)) ∈ lw_all := lw_g (lw_at lw_m5 174 rfl) rfl
theorem q1218 : (Jvm.Cond.code ({ cls := "CountedSkipLists", name := "value", desc := "(II)I" } : Jvm.MethodName) prog_1_method_28_code (3 : Nat) (Option.some Jvm.ClassFile.FieldType.int)) ∈ lw_all := lw_g (lw_at lw_m5 175 rfl) rfl
theorem q1219 : (Jvm.Cond.methodLink "CountedSkipLists" (229 : Nat) ({ cls := "CountedSkipLists", name := "at", desc := "(II)LCountedSkipLists$SkipList;" } : Jvm.MethodName)) ∈ lw_all := lw_g (lw_at lw_m5 176 rfl) rfl
theorem q1220 : (Jvm.Cond.privateMethod ({ cls := "CountedSkipLists", name := "at", desc := "(II)LCountedSkipLists$SkipList;" } : Jvm.MethodName)) ∈ lw_tbl := lw_at lw_m5 177 rfl
theorem q1221 : (Jvm.Cond.instanceMethod ({ cls := "CountedSkipLists", name := "at", desc := "(II)LCountedSkipLists$SkipList;" } : Jvm.MethodName)) ∈ lw_all := lw_g (lw_at lw_m5 178 rfl) rfl
theorem q1222 : (Jvm.Cond.code ({ cls := "CountedSkipLists", name := "at", desc := "(II)LCountedSkipLists$SkipList;" } : Jvm.MethodName) prog_1_method_20_code (4 : Nat) (Option.some (Jvm.ClassFile.FieldType.object "CountedSkipLists$SkipList"))) ∈ lw_all := lw_g (lw_at lw_m5 179 rfl) rfl
theorem q1223 : (Jvm.Cond.methodLink "CountedSkipLists" (187 : Nat) ({ cls := "CountedSkipLists", name := "checkNumbers", desc := "([I)V" } : Jvm.MethodName)) ∈ lw_all := lw_g (lw_at lw_m5 180 rfl) rfl
theorem q1224 : (Jvm.Cond.static ({ cls := "CountedSkipLists", name := "checkNumbers", desc := "([I)V" } : Jvm.MethodName)) ∈ lw_all := lw_g (lw_at lw_m5 181 rfl) rfl
theorem q1225 : (Jvm.Cond.code ({ cls := "CountedSkipLists", name := "checkNumbers", desc := "([I)V" } : Jvm.MethodName) prog_1_method_6_code (5 : Nat) (Option.none : Option Jvm.ClassFile.FieldType)) ∈ lw_all := lw_g (lw_at lw_m5 182 rfl) rfl
theorem q1226 : (Jvm.Cond.methodLink "CountedSkipLists" (22 : Nat) ({ cls := "CountedSkipLists", name := "checkArgument", desc := "(Z)V" } : Jvm.MethodName)) ∈ lw_all := lw_g (lw_at lw_m5 183 rfl) rfl
theorem q1227 : (Jvm.Cond.static ({ cls := "CountedSkipLists", name := "checkArgument", desc := "(Z)V" } : Jvm.MethodName)) ∈ lw_all := lw_g (lw_at lw_m5 184 rfl) rfl
theorem q1228 : (Jvm.Cond.code ({ cls := "CountedSkipLists", name := "checkArgument", desc := "(Z)V" } : Jvm.MethodName) prog_1_method_3_code (1 : Nat) (Option.none : Option Jvm.ClassFile.FieldType)) ∈ lw_all := lw_g (lw_at lw_m5 185 rfl) rfl
theorem q1229 : (Jvm.Cond.methodLink "CountedSkipLists" (232 : Nat) ({ cls := "CountedSkipLists", name := "nodeOf", desc := "(LCountedSkipLists$SkipList;I)LCountedSkipLists$Node;" } : Jvm.MethodName)) ∈ lw_all := lw_g (lw_at lw_m5 186 rfl) rfl
theorem q1230 : (Jvm.Cond.static ({ cls := "CountedSkipLists", name := "nodeOf", desc := "(LCountedSkipLists$SkipList;I)LCountedSkipLists$Node;" } : Jvm.MethodName)) ∈ lw_all := lw_g (lw_at lw_m5 187 rfl) rfl
theorem q1231 : (Jvm.Cond.code ({ cls := "CountedSkipLists", name := "nodeOf", desc := "(LCountedSkipLists$SkipList;I)LCountedSkipLists$Node;" } : Jvm.MethodName) prog_1_method_27_code (3 : Nat) (Option.some (Jvm.ClassFile.FieldType.object "CountedSkipLists$Node"))) ∈ lw_all := lw_g (lw_at lw_m5 188 rfl) rfl
theorem q1232 : (Jvm.Cond.methodLink "CountedSkipLists" (213 : Nat) ({ cls := "CountedSkipLists$SkipList", name := "find", desc := "(I)Ljava/util/Optional;" } : Jvm.MethodName)) ∈ lw_all := lw_g (lw_at lw_m5 189 rfl) rfl
theorem q1257 : (Jvm.Cond.methodLink "CountedSkipLists" (217 : Nat) ({ cls := "java/util/Optional", name := "isPresent", desc := "()Z" } : Jvm.MethodName)) ∈ lw_all := lw_g (lw_at lw_m5 214 rfl) rfl
theorem q1261 : (Jvm.Cond.methodLink "CountedSkipLists" (222 : Nat) ({ cls := "CountedSkipLists", name := "checkElement", desc := "(Z)V" } : Jvm.MethodName)) ∈ lw_all := lw_g (lw_at lw_m5 218 rfl) rfl
theorem q1262 : (Jvm.Cond.static ({ cls := "CountedSkipLists", name := "checkElement", desc := "(Z)V" } : Jvm.MethodName)) ∈ lw_all := lw_g (lw_at lw_m5 219 rfl) rfl
theorem q1263 : (Jvm.Cond.code ({ cls := "CountedSkipLists", name := "checkElement", desc := "(Z)V" } : Jvm.MethodName) prog_1_method_5_code (1 : Nat) (Option.none : Option Jvm.ClassFile.FieldType)) ∈ lw_all := lw_g (lw_at lw_m5 220 rfl) rfl
theorem q1264 : (Jvm.Cond.methodLink "CountedSkipLists" (225 : Nat) ({ cls := "java/util/Optional", name := "get", desc := "()Ljava/lang/Object;" } : Jvm.MethodName)) ∈ lw_all := lw_g (lw_at lw_m5 221 rfl) rfl
theorem q1274 : (Jvm.Cond.classLink "CountedSkipLists" (204 : Nat) "CountedSkipLists$Node") ∈ lw_all := lw_g (lw_at lw_m5 231 rfl) rfl
theorem q1279 : (Jvm.Cond.instanceMethod ({ cls := "CountedSkipLists", name := "rank", desc := "(II)I" } : Jvm.MethodName)) ∈ lw_all := lw_g (lw_at lw_m5 236 rfl) rfl
theorem q1280 : (Jvm.Cond.selects "CountedSkipLists" ({ cls := "CountedSkipLists", name := "rank", desc := "(II)I" } : Jvm.MethodName) ({ cls := "CountedSkipLists", name := "rank", desc := "(II)I" } : Jvm.MethodName)) ∈ lw_all := lw_g (lw_at lw_m5 237 rfl) rfl
theorem q1281 : (Jvm.Cond.code ({ cls := "CountedSkipLists", name := "rank", desc := "(II)I" } : Jvm.MethodName) prog_1_method_29_code (3 : Nat) (Option.some Jvm.ClassFile.FieldType.int)) ∈ lw_all := lw_g (lw_at lw_m5 238 rfl) rfl
theorem q1282 : (Jvm.Cond.methodLink "CountedSkipLists" (236 : Nat) ({ cls := "CountedSkipLists$SkipList", name := "rank", desc := "(I)I" } : Jvm.MethodName)) ∈ lw_all := lw_g (lw_at lw_m5 239 rfl) rfl
theorem q1290 : (Jvm.Cond.instanceMethod ({ cls := "CountedSkipLists", name := "nearest", desc := "(II)I" } : Jvm.MethodName)) ∈ lw_all := lw_g (lw_at lw_m6 7 rfl) rfl
theorem q1291 : (Jvm.Cond.selects "CountedSkipLists" ({ cls := "CountedSkipLists", name := "nearest", desc := "(II)I" } : Jvm.MethodName) ({ cls := "CountedSkipLists", name := "nearest", desc := "(II)I" } : Jvm.MethodName)) ∈ lw_all := lw_g (lw_at lw_m6 8 rfl) rfl
theorem q1292 : (Jvm.Cond.code ({ cls := "CountedSkipLists", name := "nearest", desc := "(II)I" } : Jvm.MethodName) prog_1_method_30_code (7 : Nat) (Option.some Jvm.ClassFile.FieldType.int)) ∈ lw_all := lw_g (lw_at lw_m6 9 rfl) rfl
theorem q1293 : (Jvm.Cond.methodLink "CountedSkipLists" (240 : Nat) ({ cls := "CountedSkipLists", name := "keyAt", desc := "(II)I" } : Jvm.MethodName)) ∈ lw_all := lw_g (lw_at lw_m6 10 rfl) rfl
theorem q1298 : (Jvm.Cond.instanceMethod ({ cls := "CountedSkipLists", name := "rangeSum", desc := "(III)I" } : Jvm.MethodName)) ∈ lw_all := lw_g (lw_at lw_m6 15 rfl) rfl
theorem q1299 : (Jvm.Cond.selects "CountedSkipLists" ({ cls := "CountedSkipLists", name := "rangeSum", desc := "(III)I" } : Jvm.MethodName) ({ cls := "CountedSkipLists", name := "rangeSum", desc := "(III)I" } : Jvm.MethodName)) ∈ lw_all := lw_g (lw_at lw_m6 16 rfl) rfl
theorem q1300 : (Jvm.Cond.code ({ cls := "CountedSkipLists", name := "rangeSum", desc := "(III)I" } : Jvm.MethodName) prog_1_method_31_code (5 : Nat) (Option.some Jvm.ClassFile.FieldType.int)) ∈ lw_all := lw_g (lw_at lw_m6 17 rfl) rfl
theorem q1301 : (Jvm.Cond.methodLink "CountedSkipLists" (244 : Nat) ({ cls := "CountedSkipLists$SkipList", name := "sumBefore", desc := "(I)I" } : Jvm.MethodName)) ∈ lw_all := lw_g (lw_at lw_m6 18 rfl) rfl
theorem q1309 : (Jvm.Cond.instanceMethod ({ cls := "CountedSkipLists", name := "rowSize", desc := "(II)I" } : Jvm.MethodName)) ∈ lw_all := lw_g (lw_at lw_m6 26 rfl) rfl
theorem q1310 : (Jvm.Cond.selects "CountedSkipLists" ({ cls := "CountedSkipLists", name := "rowSize", desc := "(II)I" } : Jvm.MethodName) ({ cls := "CountedSkipLists", name := "rowSize", desc := "(II)I" } : Jvm.MethodName)) ∈ lw_all := lw_g (lw_at lw_m6 27 rfl) rfl
theorem q1311 : (Jvm.Cond.code ({ cls := "CountedSkipLists", name := "rowSize", desc := "(II)I" } : Jvm.MethodName) prog_1_method_32_code (6 : Nat) (Option.some Jvm.ClassFile.FieldType.int)) ∈ lw_all := lw_g (lw_at lw_m6 28 rfl) rfl
theorem q1312 : (Jvm.Cond.methodLink "CountedSkipLists" (251 : Nat) ({ cls := "CountedSkipLists$Node", name := "next", desc := "(I)LCountedSkipLists$Node;" } : Jvm.MethodName)) ∈ lw_all := lw_g (lw_at lw_m6 29 rfl) rfl
theorem q1317 : (Jvm.Cond.instanceMethod ({ cls := "CountedSkipLists", name := "linkWidth", desc := "(III)I" } : Jvm.MethodName)) ∈ lw_all := lw_g (lw_at lw_m6 34 rfl) rfl
theorem q1318 : (Jvm.Cond.selects "CountedSkipLists" ({ cls := "CountedSkipLists", name := "linkWidth", desc := "(III)I" } : Jvm.MethodName) ({ cls := "CountedSkipLists", name := "linkWidth", desc := "(III)I" } : Jvm.MethodName)) ∈ lw_all := lw_g (lw_at lw_m6 35 rfl) rfl
theorem q1319 : (Jvm.Cond.code ({ cls := "CountedSkipLists", name := "linkWidth", desc := "(III)I" } : Jvm.MethodName) prog_1_method_34_code (4 : Nat) (Option.some Jvm.ClassFile.FieldType.int)) ∈ lw_all := lw_g (lw_at lw_m6 36 rfl) rfl
theorem q1320 : (Jvm.Cond.methodLink "CountedSkipLists" (255 : Nat) ({ cls := "CountedSkipLists", name := "linkAt", desc := "(IIII)LCountedSkipLists$Node;" } : Jvm.MethodName)) ∈ lw_all := lw_g (lw_at lw_m6 37 rfl) rfl
theorem q1321 : (Jvm.Cond.privateMethod ({ cls := "CountedSkipLists", name := "linkAt", desc := "(IIII)LCountedSkipLists$Node;" } : Jvm.MethodName)) ∈ lw_tbl := lw_at lw_m6 38 rfl
theorem q1322 : (Jvm.Cond.instanceMethod ({ cls := "CountedSkipLists", name := "linkAt", desc := "(IIII)LCountedSkipLists$Node;" } : Jvm.MethodName)) ∈ lw_all := lw_g (lw_at lw_m6 39 rfl) rfl
theorem q1323 : (Jvm.Cond.code ({ cls := "CountedSkipLists", name := "linkAt", desc := "(IIII)LCountedSkipLists$Node;" } : Jvm.MethodName) prog_1_method_33_code (8 : Nat) (Option.some (Jvm.ClassFile.FieldType.object "CountedSkipLists$Node"))) ∈ lw_all := lw_g (lw_at lw_m6 40 rfl) rfl
theorem q1328 : (Jvm.Cond.instanceMethod ({ cls := "CountedSkipLists", name := "linkSum", desc := "(III)I" } : Jvm.MethodName)) ∈ lw_all := lw_g (lw_at lw_m6 45 rfl) rfl
theorem q1329 : (Jvm.Cond.selects "CountedSkipLists" ({ cls := "CountedSkipLists", name := "linkSum", desc := "(III)I" } : Jvm.MethodName) ({ cls := "CountedSkipLists", name := "linkSum", desc := "(III)I" } : Jvm.MethodName)) ∈ lw_all := lw_g (lw_at lw_m6 46 rfl) rfl
theorem q1330 : (Jvm.Cond.code ({ cls := "CountedSkipLists", name := "linkSum", desc := "(III)I" } : Jvm.MethodName) prog_1_method_35_code (5 : Nat) (Option.some Jvm.ClassFile.FieldType.int)) ∈ lw_all := lw_g (lw_at lw_m6 47 rfl) rfl
theorem q1335 : (Jvm.Cond.instanceMethod ({ cls := "CountedSkipLists", name := "gapSize", desc := "(III)I" } : Jvm.MethodName)) ∈ lw_all := lw_g (lw_at lw_m6 52 rfl) rfl
theorem q1336 : (Jvm.Cond.selects "CountedSkipLists" ({ cls := "CountedSkipLists", name := "gapSize", desc := "(III)I" } : Jvm.MethodName) ({ cls := "CountedSkipLists", name := "gapSize", desc := "(III)I" } : Jvm.MethodName)) ∈ lw_all := lw_g (lw_at lw_m6 53 rfl) rfl
theorem q1337 : (Jvm.Cond.code ({ cls := "CountedSkipLists", name := "gapSize", desc := "(III)I" } : Jvm.MethodName) prog_1_method_36_code (5 : Nat) (Option.some Jvm.ClassFile.FieldType.int)) ∈ lw_all := lw_g (lw_at lw_m6 54 rfl) rfl
theorem q1338 : (Jvm.Cond.methodLink "CountedSkipLists" (266 : Nat) ({ cls := "CountedSkipLists$SkipList", name := "inGap", desc := "(ILCountedSkipLists$Node;)I" } : Jvm.MethodName)) ∈ lw_all := lw_g (lw_at lw_m6 55 rfl) rfl
theorem q1343 : (Jvm.Cond.instanceMethod ({ cls := "CountedSkipLists", name := "links", desc := "(I)I" } : Jvm.MethodName)) ∈ lw_all := lw_g (lw_at lw_m6 60 rfl) rfl
theorem q1344 : (Jvm.Cond.selects "CountedSkipLists" ({ cls := "CountedSkipLists", name := "links", desc := "(I)I" } : Jvm.MethodName) ({ cls := "CountedSkipLists", name := "links", desc := "(I)I" } : Jvm.MethodName)) ∈ lw_all := lw_g (lw_at lw_m6 61 rfl) rfl
theorem q1345 : (Jvm.Cond.code ({ cls := "CountedSkipLists", name := "links", desc := "(I)I" } : Jvm.MethodName) prog_1_method_37_code (4 : Nat) (Option.some Jvm.ClassFile.FieldType.int)) ∈ lw_all := lw_g (lw_at lw_m6 62 rfl) rfl
theorem q1346 : (Jvm.Cond.methodLink "CountedSkipLists" (270 : Nat) ({ cls := "CountedSkipLists", name := "rowSize", desc := "(II)I" } : Jvm.MethodName)) ∈ lw_all := lw_g (lw_at lw_m6 63 rfl) rfl
theorem q1351 : (Jvm.Cond.instanceMethod ({ cls := "CountedSkipLists", name := "steps", desc := "(II)I" } : Jvm.MethodName)) ∈ lw_all := lw_g (lw_at lw_m6 68 rfl) rfl
theorem q1352 : (Jvm.Cond.selects "CountedSkipLists" ({ cls := "CountedSkipLists", name := "steps", desc := "(II)I" } : Jvm.MethodName) ({ cls := "CountedSkipLists", name := "steps", desc := "(II)I" } : Jvm.MethodName)) ∈ lw_all := lw_g (lw_at lw_m6 69 rfl) rfl
theorem q1353 : (Jvm.Cond.code ({ cls := "CountedSkipLists", name := "steps", desc := "(II)I" } : Jvm.MethodName) prog_1_method_38_code (3 : Nat) (Option.some Jvm.ClassFile.FieldType.int)) ∈ lw_all := lw_g (lw_at lw_m6 70 rfl) rfl
theorem q1354 : (Jvm.Cond.methodLink "CountedSkipLists" (273 : Nat) ({ cls := "CountedSkipLists$SkipList", name := "search", desc := "(I)LCountedSkipLists$SkipList$Search;" } : Jvm.MethodName)) ∈ lw_all := lw_g (lw_at lw_m6 71 rfl) rfl
theorem q1367 : (Jvm.Cond.fieldLinkNest "CountedSkipLists" (289 : Nat) "CountedSkipLists$SkipList$Search" "keys" "[I" "CountedSkipLists") ∈ lw_tbl := lw_at lw_m6 84 rfl
theorem q1369 : (Jvm.Cond.fieldLinkNest "CountedSkipLists" (292 : Nat) "CountedSkipLists$SkipList$Search" "levels" "[I" "CountedSkipLists") ∈ lw_tbl := lw_at lw_m6 86 rfl
theorem q1371 : (Jvm.Cond.fieldLinkNest "CountedSkipLists" (277 : Nat) "CountedSkipLists$SkipList$Search" "steps" "I" "CountedSkipLists") ∈ lw_tbl := lw_at lw_m6 88 rfl
theorem q1373 : (Jvm.Cond.fieldLinkNest "CountedSkipLists" (282 : Nat) "CountedSkipLists$SkipList$Search" "looks" "I" "CountedSkipLists") ∈ lw_tbl := lw_at lw_m6 90 rfl
theorem q1390 : (Jvm.Cond.instanceMethod ({ cls := "CountedSkipLists", name := "looks", desc := "(II)I" } : Jvm.MethodName)) ∈ lw_all := lw_g (lw_at lw_m6 107 rfl) rfl
theorem q1391 : (Jvm.Cond.selects "CountedSkipLists" ({ cls := "CountedSkipLists", name := "looks", desc := "(II)I" } : Jvm.MethodName) ({ cls := "CountedSkipLists", name := "looks", desc := "(II)I" } : Jvm.MethodName)) ∈ lw_all := lw_g (lw_at lw_m6 108 rfl) rfl
theorem q1392 : (Jvm.Cond.code ({ cls := "CountedSkipLists", name := "looks", desc := "(II)I" } : Jvm.MethodName) prog_1_method_39_code (3 : Nat) (Option.some Jvm.ClassFile.FieldType.int)) ∈ lw_all := lw_g (lw_at lw_m6 109 rfl) rfl
theorem q1397 : (Jvm.Cond.instanceMethod ({ cls := "CountedSkipLists", name := "stepKey", desc := "(III)I" } : Jvm.MethodName)) ∈ lw_all := lw_g (lw_at lw_m6 114 rfl) rfl
theorem q1398 : (Jvm.Cond.selects "CountedSkipLists" ({ cls := "CountedSkipLists", name := "stepKey", desc := "(III)I" } : Jvm.MethodName) ({ cls := "CountedSkipLists", name := "stepKey", desc := "(III)I" } : Jvm.MethodName)) ∈ lw_all := lw_g (lw_at lw_m6 115 rfl) rfl
theorem q1399 : (Jvm.Cond.code ({ cls := "CountedSkipLists", name := "stepKey", desc := "(III)I" } : Jvm.MethodName) prog_1_method_41_code (4 : Nat) (Option.some Jvm.ClassFile.FieldType.int)) ∈ lw_all := lw_g (lw_at lw_m6 116 rfl) rfl
theorem q1400 : (Jvm.Cond.methodLink "CountedSkipLists" (285 : Nat) ({ cls := "CountedSkipLists", name := "searchWith", desc := "(III)LCountedSkipLists$SkipList$Search;" } : Jvm.MethodName)) ∈ lw_all := lw_g (lw_at lw_m6 117 rfl) rfl
theorem q1401 : (Jvm.Cond.privateMethod ({ cls := "CountedSkipLists", name := "searchWith", desc := "(III)LCountedSkipLists$SkipList$Search;" } : Jvm.MethodName)) ∈ lw_tbl := lw_at lw_m6 118 rfl
theorem q1402 : (Jvm.Cond.instanceMethod ({ cls := "CountedSkipLists", name := "searchWith", desc := "(III)LCountedSkipLists$SkipList$Search;" } : Jvm.MethodName)) ∈ lw_all := lw_g (lw_at lw_m6 119 rfl) rfl
theorem q1403 : (Jvm.Cond.code ({ cls := "CountedSkipLists", name := "searchWith", desc := "(III)LCountedSkipLists$SkipList$Search;" } : Jvm.MethodName) prog_1_method_40_code (5 : Nat) (Option.some (Jvm.ClassFile.FieldType.object "CountedSkipLists$SkipList$Search"))) ∈ lw_all := lw_g (lw_at lw_m6 120 rfl) rfl
theorem q1408 : (Jvm.Cond.instanceMethod ({ cls := "CountedSkipLists", name := "stepLevel", desc := "(III)I" } : Jvm.MethodName)) ∈ lw_all := lw_g (lw_at lw_m6 125 rfl) rfl
theorem q1409 : (Jvm.Cond.selects "CountedSkipLists" ({ cls := "CountedSkipLists", name := "stepLevel", desc := "(III)I" } : Jvm.MethodName) ({ cls := "CountedSkipLists", name := "stepLevel", desc := "(III)I" } : Jvm.MethodName)) ∈ lw_all := lw_g (lw_at lw_m6 126 rfl) rfl
theorem q1410 : (Jvm.Cond.code ({ cls := "CountedSkipLists", name := "stepLevel", desc := "(III)I" } : Jvm.MethodName) prog_1_method_42_code (4 : Nat) (Option.some Jvm.ClassFile.FieldType.int)) ∈ lw_all := lw_g (lw_at lw_m6 127 rfl) rfl
theorem q1415 : (Jvm.Cond.instanceMethod ({ cls := "CountedSkipLists", name := "stepsTo", desc := "(II)I" } : Jvm.MethodName)) ∈ lw_all := lw_g (lw_at lw_m6 132 rfl) rfl
theorem q1416 : (Jvm.Cond.selects "CountedSkipLists" ({ cls := "CountedSkipLists", name := "stepsTo", desc := "(II)I" } : Jvm.MethodName) ({ cls := "CountedSkipLists", name := "stepsTo", desc := "(II)I" } : Jvm.MethodName)) ∈ lw_all := lw_g (lw_at lw_m6 133 rfl) rfl
theorem q1417 : (Jvm.Cond.code ({ cls := "CountedSkipLists", name := "stepsTo", desc := "(II)I" } : Jvm.MethodName) prog_1_method_43_code (6 : Nat) (Option.some Jvm.ClassFile.FieldType.int)) ∈ lw_all := lw_g (lw_at lw_m6 134 rfl) rfl
theorem q1422 : (Jvm.Cond.instanceMethod ({ cls := "CountedSkipLists", name := "farthest", desc := "(I)I" } : Jvm.MethodName)) ∈ lw_all := lw_g (lw_at lw_m6 139 rfl) rfl
theorem q1423 : (Jvm.Cond.selects "CountedSkipLists" ({ cls := "CountedSkipLists", name := "farthest", desc := "(I)I" } : Jvm.MethodName) ({ cls := "CountedSkipLists", name := "farthest", desc := "(I)I" } : Jvm.MethodName)) ∈ lw_all := lw_g (lw_at lw_m6 140 rfl) rfl
theorem q1424 : (Jvm.Cond.code ({ cls := "CountedSkipLists", name := "farthest", desc := "(I)I" } : Jvm.MethodName) prog_1_method_44_code (6 : Nat) (Option.some Jvm.ClassFile.FieldType.int)) ∈ lw_all := lw_g (lw_at lw_m6 141 rfl) rfl
theorem q1425 : (Jvm.Cond.classLink "CountedSkipLists" (295 : Nat) "java/util/PriorityQueue") ∈ lw_all := lw_g (lw_at lw_m6 142 rfl) rfl
theorem q1427 : (Jvm.Cond.methodLink "CountedSkipLists" (297 : Nat) ({ cls := "java/util/PriorityQueue", name := "<init>", desc := "()V" } : Jvm.MethodName)) ∈ lw_all := lw_g (lw_at lw_m6 144 rfl) rfl
theorem q1453 : (Jvm.Cond.classLink "CountedSkipLists" (298 : Nat) "CountedSkipLists$Way") ∈ lw_all := lw_g (lw_at lw_m6 170 rfl) rfl
theorem q1455 : (Jvm.Cond.methodLink "CountedSkipLists" (300 : Nat) ({ cls := "CountedSkipLists$Way", name := "<init>", desc := "(II)V" } : Jvm.MethodName)) ∈ lw_all := lw_g (lw_at lw_m6 172 rfl) rfl
theorem q1460 : (Jvm.Cond.fieldLinkNest "CountedSkipLists" (308 : Nat) "CountedSkipLists$Way" "key" "I" "CountedSkipLists") ∈ lw_tbl := lw_at lw_m6 177 rfl
theorem q1467 : (Jvm.Cond.methodLink "CountedSkipLists" (303 : Nat) ({ cls := "java/util/PriorityQueue", name := "add", desc := "(Ljava/lang/Object;)Z" } : Jvm.MethodName)) ∈ lw_all := lw_g (lw_at lw_m6 184 rfl) rfl
theorem q1725 : (Jvm.Cond.methodLink "CountedSkipLists" (305 : Nat) ({ cls := "java/util/PriorityQueue", name := "peek", desc := "()Ljava/lang/Object;" } : Jvm.MethodName)) ∈ lw_all := lw_g (lw_at lw_m7 202 rfl) rfl
theorem q1733 : (Jvm.Cond.instanceMethod ({ cls := "CountedSkipLists", name := "meanLooks", desc := "(I)D" } : Jvm.MethodName)) ∈ lw_all := lw_g (lw_at lw_m7 210 rfl) rfl
theorem q1734 : (Jvm.Cond.selects "CountedSkipLists" ({ cls := "CountedSkipLists", name := "meanLooks", desc := "(I)D" } : Jvm.MethodName) ({ cls := "CountedSkipLists", name := "meanLooks", desc := "(I)D" } : Jvm.MethodName)) ∈ lw_all := lw_g (lw_at lw_m7 211 rfl) rfl
theorem q1735 : (Jvm.Cond.code ({ cls := "CountedSkipLists", name := "meanLooks", desc := "(I)D" } : Jvm.MethodName) prog_1_method_45_code (5 : Nat) (Option.some Jvm.ClassFile.FieldType.double)) ∈ lw_all := lw_g (lw_at lw_m7 212 rfl) rfl
theorem q1740 : (Jvm.Cond.instanceMethod ({ cls := "CountedSkipLists", name := "heightIfInserted", desc := "(II)I" } : Jvm.MethodName)) ∈ lw_all := lw_g (lw_at lw_m7 217 rfl) rfl
theorem q1741 : (Jvm.Cond.selects "CountedSkipLists" ({ cls := "CountedSkipLists", name := "heightIfInserted", desc := "(II)I" } : Jvm.MethodName) ({ cls := "CountedSkipLists", name := "heightIfInserted", desc := "(II)I" } : Jvm.MethodName)) ∈ lw_all := lw_g (lw_at lw_m7 218 rfl) rfl
theorem q1742 : (Jvm.Cond.code ({ cls := "CountedSkipLists", name := "heightIfInserted", desc := "(II)I" } : Jvm.MethodName) prog_1_method_47_code (6 : Nat) (Option.some Jvm.ClassFile.FieldType.int)) ∈ lw_all := lw_g (lw_at lw_m7 219 rfl) rfl
theorem q1743 : (Jvm.Cond.methodLink "CountedSkipLists" (309 : Nat) ({ cls := "CountedSkipLists", name := "checkInsert", desc := "(LCountedSkipLists$SkipList;I)V" } : Jvm.MethodName)) ∈ lw_all := lw_g (lw_at lw_m7 220 rfl) rfl
theorem q1744 : (Jvm.Cond.privateMethod ({ cls := "CountedSkipLists", name := "checkInsert", desc := "(LCountedSkipLists$SkipList;I)V" } : Jvm.MethodName)) ∈ lw_tbl := lw_at lw_m7 221 rfl
theorem q1745 : (Jvm.Cond.instanceMethod ({ cls := "CountedSkipLists", name := "checkInsert", desc := "(LCountedSkipLists$SkipList;I)V" } : Jvm.MethodName)) ∈ lw_all := lw_g (lw_at lw_m7 222 rfl) rfl
theorem q1746 : (Jvm.Cond.code ({ cls := "CountedSkipLists", name := "checkInsert", desc := "(LCountedSkipLists$SkipList;I)V" } : Jvm.MethodName) prog_1_method_46_code (3 : Nat) (Option.none : Option Jvm.ClassFile.FieldType)) ∈ lw_all := lw_g (lw_at lw_m7 223 rfl) rfl
theorem q1747 : (Jvm.Cond.methodLink "CountedSkipLists" (313 : Nat) ({ cls := "CountedSkipLists$SkipList", name := "copy", desc := "()LCountedSkipLists$SkipList;" } : Jvm.MethodName)) ∈ lw_all := lw_g (lw_at lw_m7 224 rfl) rfl
theorem q1755 : (Jvm.Cond.methodLink "CountedSkipLists" (317 : Nat) ({ cls := "CountedSkipLists$SkipList", name := "insert", desc := "(II)I" } : Jvm.MethodName)) ∈ lw_all := lw_g (lw_at lw_m7 232 rfl) rfl
theorem q1763 : (Jvm.Cond.classLink "CountedSkipLists" (76 : Nat) "CountedSkipLists$Journal") ∈ lw_all := lw_g (lw_at lw_m8 0 rfl) rfl
theorem q1764 : (Jvm.Cond.methodLinkNest "CountedSkipLists" (320 : Nat) ({ cls := "CountedSkipLists$Journal", name := "<init>", desc := "()V" } : Jvm.MethodName) "CountedSkipLists") ∈ lw_tbl := lw_at lw_m8 1 rfl
theorem q1765 : (Jvm.Cond.methodLink "CountedSkipLists" (321 : Nat) ({ cls := "CountedSkipLists", name := "repairs", desc := "(LCountedSkipLists$SkipList;ILCountedSkipLists$Journal;)V" } : Jvm.MethodName)) ∈ lw_all := lw_g (lw_at lw_m8 2 rfl) rfl
theorem q1770 : (Jvm.Cond.instanceMethod ({ cls := "CountedSkipLists", name := "repairsIfRemoved", desc := "(II)I" } : Jvm.MethodName)) ∈ lw_all := lw_g (lw_at lw_m8 7 rfl) rfl
theorem q1771 : (Jvm.Cond.selects "CountedSkipLists" ({ cls := "CountedSkipLists", name := "repairsIfRemoved", desc := "(II)I" } : Jvm.MethodName) ({ cls := "CountedSkipLists", name := "repairsIfRemoved", desc := "(II)I" } : Jvm.MethodName)) ∈ lw_all := lw_g (lw_at lw_m8 8 rfl) rfl
theorem q1772 : (Jvm.Cond.code ({ cls := "CountedSkipLists", name := "repairsIfRemoved", desc := "(II)I" } : Jvm.MethodName) prog_1_method_48_code (5 : Nat) (Option.some Jvm.ClassFile.FieldType.int)) ∈ lw_all := lw_g (lw_at lw_m8 9 rfl) rfl
theorem q1773 : (Jvm.Cond.methodLink "CountedSkipLists" (325 : Nat) ({ cls := "CountedSkipLists$SkipList", name := "remove", desc := "(LCountedSkipLists$Node;)V" } : Jvm.MethodName)) ∈ lw_all := lw_g (lw_at lw_m8 10 rfl) rfl
theorem q1781 : (Jvm.Cond.instanceMethod ({ cls := "CountedSkipLists", name := "repairsIfLimit", desc := "(I)I" } : Jvm.MethodName)) ∈ lw_all := lw_g (lw_at lw_m8 18 rfl) rfl
theorem q1782 : (Jvm.Cond.selects "CountedSkipLists" ({ cls := "CountedSkipLists", name := "repairsIfLimit", desc := "(I)I" } : Jvm.MethodName) ({ cls := "CountedSkipLists", name := "repairsIfLimit", desc := "(I)I" } : Jvm.MethodName)) ∈ lw_all := lw_g (lw_at lw_m8 19 rfl) rfl
theorem q1783 : (Jvm.Cond.code ({ cls := "CountedSkipLists", name := "repairsIfLimit", desc := "(I)I" } : Jvm.MethodName) prog_1_method_49_code (7 : Nat) (Option.some Jvm.ClassFile.FieldType.int)) ∈ lw_all := lw_g (lw_at lw_m8 20 rfl) rfl
theorem q1788 : (Jvm.Cond.instanceMethod ({ cls := "CountedSkipLists", name := "whyNotJoin", desc := "(II)I" } : Jvm.MethodName)) ∈ lw_all := lw_g (lw_at lw_m8 25 rfl) rfl
theorem q1789 : (Jvm.Cond.selects "CountedSkipLists" ({ cls := "CountedSkipLists", name := "whyNotJoin", desc := "(II)I" } : Jvm.MethodName) ({ cls := "CountedSkipLists", name := "whyNotJoin", desc := "(II)I" } : Jvm.MethodName)) ∈ lw_all := lw_g (lw_at lw_m8 26 rfl) rfl
theorem q1790 : (Jvm.Cond.code ({ cls := "CountedSkipLists", name := "whyNotJoin", desc := "(II)I" } : Jvm.MethodName) prog_1_method_51_code (5 : Nat) (Option.some Jvm.ClassFile.FieldType.int)) ∈ lw_all := lw_g (lw_at lw_m8 27 rfl) rfl
theorem q1791 : (Jvm.Cond.methodLink "CountedSkipLists" (331 : Nat) ({ cls := "CountedSkipLists", name := "keyOf", desc := "(LCountedSkipLists$SkipList;I)I" } : Jvm.MethodName)) ∈ lw_all := lw_g (lw_at lw_m8 28 rfl) rfl
theorem q1792 : (Jvm.Cond.privateMethod ({ cls := "CountedSkipLists", name := "keyOf", desc := "(LCountedSkipLists$SkipList;I)I" } : Jvm.MethodName)) ∈ lw_tbl := lw_at lw_m8 29 rfl
theorem q1793 : (Jvm.Cond.instanceMethod ({ cls := "CountedSkipLists", name := "keyOf", desc := "(LCountedSkipLists$SkipList;I)I" } : Jvm.MethodName)) ∈ lw_all := lw_g (lw_at lw_m8 30 rfl) rfl
theorem q1794 : (Jvm.Cond.code ({ cls := "CountedSkipLists", name := "keyOf", desc := "(LCountedSkipLists$SkipList;I)I" } : Jvm.MethodName) prog_1_method_50_code (3 : Nat) (Option.some Jvm.ClassFile.FieldType.int)) ∈ lw_all := lw_g (lw_at lw_m8 31 rfl) rfl
theorem q1799 : (Jvm.Cond.instanceMethod ({ cls := "CountedSkipLists", name := "whyNotAbsorb", desc := "(II)I" } : Jvm.MethodName)) ∈ lw_all := lw_g (lw_at lw_m8 36 rfl) rfl
theorem q1800 : (Jvm.Cond.selects "CountedSkipLists" ({ cls := "CountedSkipLists", name := "whyNotAbsorb", desc := "(II)I" } : Jvm.MethodName) ({ cls := "CountedSkipLists", name := "whyNotAbsorb", desc := "(II)I" } : Jvm.MethodName)) ∈ lw_all := lw_g (lw_at lw_m8 37 rfl) rfl
theorem q1801 : (Jvm.Cond.code ({ cls := "CountedSkipLists", name := "whyNotAbsorb", desc := "(II)I" } : Jvm.MethodName) prog_1_method_52_code (6 : Nat) (Option.some Jvm.ClassFile.FieldType.int)) ∈ lw_all := lw_g (lw_at lw_m8 38 rfl) rfl
theorem q1806 : (Jvm.Cond.instanceMethod ({ cls := "CountedSkipLists", name := "logKind", desc := "(I)I" } : Jvm.MethodName)) ∈ lw_all := lw_g (lw_at lw_m8 43 rfl) rfl
theorem q1807 : (Jvm.Cond.selects "CountedSkipLists" ({ cls := "CountedSkipLists", name := "logKind", desc := "(I)I" } : Jvm.MethodName) ({ cls := "CountedSkipLists", name := "logKind", desc := "(I)I" } : Jvm.MethodName)) ∈ lw_all := lw_g (lw_at lw_m8 44 rfl) rfl
theorem q1808 : (Jvm.Cond.code ({ cls := "CountedSkipLists", name := "logKind", desc := "(I)I" } : Jvm.MethodName) prog_1_method_55_code (2 : Nat) (Option.some Jvm.ClassFile.FieldType.int)) ∈ lw_all := lw_g (lw_at lw_m8 45 rfl) rfl
theorem q1809 : (Jvm.Cond.methodLink "CountedSkipLists" (342 : Nat) ({ cls := "CountedSkipLists", name := "entryAt", desc := "(I)LCountedSkipLists$Entry;" } : Jvm.MethodName)) ∈ lw_all := lw_g (lw_at lw_m8 46 rfl) rfl
theorem q1810 : (Jvm.Cond.privateMethod ({ cls := "CountedSkipLists", name := "entryAt", desc := "(I)LCountedSkipLists$Entry;" } : Jvm.MethodName)) ∈ lw_tbl := lw_at lw_m8 47 rfl
theorem q1811 : (Jvm.Cond.instanceMethod ({ cls := "CountedSkipLists", name := "entryAt", desc := "(I)LCountedSkipLists$Entry;" } : Jvm.MethodName)) ∈ lw_all := lw_g (lw_at lw_m8 48 rfl) rfl
theorem q1812 : (Jvm.Cond.code ({ cls := "CountedSkipLists", name := "entryAt", desc := "(I)LCountedSkipLists$Entry;" } : Jvm.MethodName) prog_1_method_54_code (2 : Nat) (Option.some (Jvm.ClassFile.FieldType.object "CountedSkipLists$Entry"))) ∈ lw_all := lw_g (lw_at lw_m8 49 rfl) rfl
theorem q1813 : (Jvm.Cond.methodLink "CountedSkipLists" (339 : Nat) ({ cls := "CountedSkipLists$Journal", name := "at", desc := "(I)LCountedSkipLists$Entry;" } : Jvm.MethodName)) ∈ lw_all := lw_g (lw_at lw_m8 50 rfl) rfl
theorem q1829 : (Jvm.Cond.methodLink "CountedSkipLists" (345 : Nat) ({ cls := "CountedSkipLists$Entry", name := "mend", desc := "()LCountedSkipLists$Mend;" } : Jvm.MethodName)) ∈ lw_all := lw_g (lw_at lw_m8 66 rfl) rfl
theorem q1833 : (Jvm.Cond.methodLink "CountedSkipLists" (351 : Nat) ({ cls := "CountedSkipLists$Mend", name := "ordinal", desc := "()I" } : Jvm.MethodName)) ∈ lw_all := lw_g (lw_at lw_m8 70 rfl) rfl
theorem q1845 : (Jvm.Cond.instanceMethod ({ cls := "CountedSkipLists", name := "logLevel", desc := "(I)I" } : Jvm.MethodName)) ∈ lw_all := lw_g (lw_at lw_m8 82 rfl) rfl
theorem q1846 : (Jvm.Cond.selects "CountedSkipLists" ({ cls := "CountedSkipLists", name := "logLevel", desc := "(I)I" } : Jvm.MethodName) ({ cls := "CountedSkipLists", name := "logLevel", desc := "(I)I" } : Jvm.MethodName)) ∈ lw_all := lw_g (lw_at lw_m8 83 rfl) rfl
theorem q1847 : (Jvm.Cond.code ({ cls := "CountedSkipLists", name := "logLevel", desc := "(I)I" } : Jvm.MethodName) prog_1_method_56_code (2 : Nat) (Option.some Jvm.ClassFile.FieldType.int)) ∈ lw_all := lw_g (lw_at lw_m8 84 rfl) rfl
theorem q1848 : (Jvm.Cond.methodLink "CountedSkipLists" (354 : Nat) ({ cls := "CountedSkipLists$Entry", name := "level", desc := "()I" } : Jvm.MethodName)) ∈ lw_all := lw_g (lw_at lw_m8 85 rfl) rfl
theorem q1856 : (Jvm.Cond.instanceMethod ({ cls := "CountedSkipLists", name := "logKey", desc := "(I)I" } : Jvm.MethodName)) ∈ lw_all := lw_g (lw_at lw_m8 93 rfl) rfl
theorem q1857 : (Jvm.Cond.selects "CountedSkipLists" ({ cls := "CountedSkipLists", name := "logKey", desc := "(I)I" } : Jvm.MethodName) ({ cls := "CountedSkipLists", name := "logKey", desc := "(I)I" } : Jvm.MethodName)) ∈ lw_all := lw_g (lw_at lw_m8 94 rfl) rfl
theorem q1858 : (Jvm.Cond.code ({ cls := "CountedSkipLists", name := "logKey", desc := "(I)I" } : Jvm.MethodName) prog_1_method_57_code (2 : Nat) (Option.some Jvm.ClassFile.FieldType.int)) ∈ lw_all := lw_g (lw_at lw_m8 95 rfl) rfl
theorem q1859 : (Jvm.Cond.methodLink "CountedSkipLists" (356 : Nat) ({ cls := "CountedSkipLists$Entry", name := "key", desc := "()I" } : Jvm.MethodName)) ∈ lw_all := lw_g (lw_at lw_m8 96 rfl) rfl
theorem q1867 : (Jvm.Cond.instanceMethod ({ cls := "CountedSkipLists", name := "counter", desc := "(I)I" } : Jvm.MethodName)) ∈ lw_all := lw_g (lw_at lw_m8 104 rfl) rfl
theorem q1868 : (Jvm.Cond.selects "CountedSkipLists" ({ cls := "CountedSkipLists", name := "counter", desc := "(I)I" } : Jvm.MethodName) ({ cls := "CountedSkipLists", name := "counter", desc := "(I)I" } : Jvm.MethodName)) ∈ lw_all := lw_g (lw_at lw_m8 105 rfl) rfl
theorem q1869 : (Jvm.Cond.code ({ cls := "CountedSkipLists", name := "counter", desc := "(I)I" } : Jvm.MethodName) prog_1_method_58_code (2 : Nat) (Option.some Jvm.ClassFile.FieldType.int)) ∈ lw_all := lw_g (lw_at lw_m8 106 rfl) rfl
theorem q1874 : (Jvm.Cond.instanceMethod ({ cls := "CountedSkipLists", name := "create", desc := "()I" } : Jvm.MethodName)) ∈ lw_all := lw_g (lw_at lw_m8 111 rfl) rfl
theorem q1875 : (Jvm.Cond.selects "CountedSkipLists" ({ cls := "CountedSkipLists", name := "create", desc := "()I" } : Jvm.MethodName) ({ cls := "CountedSkipLists", name := "create", desc := "()I" } : Jvm.MethodName)) ∈ lw_all := lw_g (lw_at lw_m8 112 rfl) rfl
theorem q1876 : (Jvm.Cond.code ({ cls := "CountedSkipLists", name := "create", desc := "()I" } : Jvm.MethodName) prog_1_method_62_code (2 : Nat) (Option.some Jvm.ClassFile.FieldType.int)) ∈ lw_all := lw_g (lw_at lw_m8 113 rfl) rfl
theorem q1877 : (Jvm.Cond.methodLink "CountedSkipLists" (379 : Nat) ({ cls := "CountedSkipLists$State", name := "free", desc := "()I" } : Jvm.MethodName)) ∈ lw_all := lw_g (lw_at lw_m8 114 rfl) rfl
theorem q1881 : (Jvm.Cond.methodLink "CountedSkipLists" (382 : Nat) ({ cls := "CountedSkipLists", name := "begin", desc := "()LCountedSkipLists$State;" } : Jvm.MethodName)) ∈ lw_all := lw_g (lw_at lw_m8 118 rfl) rfl
theorem q1882 : (Jvm.Cond.privateMethod ({ cls := "CountedSkipLists", name := "begin", desc := "()LCountedSkipLists$State;" } : Jvm.MethodName)) ∈ lw_tbl := lw_at lw_m8 119 rfl
theorem q1883 : (Jvm.Cond.instanceMethod ({ cls := "CountedSkipLists", name := "begin", desc := "()LCountedSkipLists$State;" } : Jvm.MethodName)) ∈ lw_all := lw_g (lw_at lw_m8 120 rfl) rfl
theorem q1884 : (Jvm.Cond.code ({ cls := "CountedSkipLists", name := "begin", desc := "()LCountedSkipLists$State;" } : Jvm.MethodName) prog_1_method_59_code (1 : Nat) (Option.some (Jvm.ClassFile.FieldType.object "CountedSkipLists$State"))) ∈ lw_all := lw_g (lw_at lw_m8 121 rfl) rfl
theorem q1885 : (Jvm.Cond.methodLink "CountedSkipLists" (361 : Nat) ({ cls := "java/util/ArrayDeque", name := "size", desc := "()I" } : Jvm.MethodName)) ∈ lw_all := lw_g (lw_at lw_m8 122 rfl) rfl
theorem q1892 : (Jvm.Cond.methodLink "CountedSkipLists" (362 : Nat) ({ cls := "java/util/ArrayDeque", name := "removeFirst", desc := "()Ljava/lang/Object;" } : Jvm.MethodName)) ∈ lw_all := lw_g (lw_at lw_m8 129 rfl) rfl
theorem q1908 : (Jvm.Cond.methodLink "CountedSkipLists" (365 : Nat) ({ cls := "java/util/ArrayDeque", name := "addLast", desc := "(Ljava/lang/Object;)V" } : Jvm.MethodName)) ∈ lw_all := lw_g (lw_at lw_m8 145 rfl) rfl
theorem q1929 : (Jvm.Cond.methodLink "CountedSkipLists" (369 : Nat) ({ cls := "CountedSkipLists$State", name := "copy", desc := "()LCountedSkipLists$State;" } : Jvm.MethodName)) ∈ lw_all := lw_g (lw_at lw_m8 166 rfl) rfl
theorem q1936 : (Jvm.Cond.classLink "CountedSkipLists" (167 : Nat) "CountedSkipLists$SkipList") ∈ lw_all := lw_g (lw_at lw_m8 173 rfl) rfl
theorem q1937 : (Jvm.Cond.methodLink "CountedSkipLists" (385 : Nat) ({ cls := "CountedSkipLists$SkipList", name := "<init>", desc := "()V" } : Jvm.MethodName)) ∈ lw_all := lw_g (lw_at lw_m8 174 rfl) rfl
theorem q1941 : (Jvm.Cond.methodLink "CountedSkipLists" (386 : Nat) ({ cls := "CountedSkipLists", name := "ends", desc := "()V" } : Jvm.MethodName)) ∈ lw_all := lw_g (lw_at lw_m8 178 rfl) rfl
theorem q1942 : (Jvm.Cond.privateMethod ({ cls := "CountedSkipLists", name := "ends", desc := "()V" } : Jvm.MethodName)) ∈ lw_tbl := lw_at lw_m8 179 rfl
theorem q1943 : (Jvm.Cond.instanceMethod ({ cls := "CountedSkipLists", name := "ends", desc := "()V" } : Jvm.MethodName)) ∈ lw_all := lw_g (lw_at lw_m8 180 rfl) rfl
theorem q1944 : (Jvm.Cond.code ({ cls := "CountedSkipLists", name := "ends", desc := "()V" } : Jvm.MethodName) prog_1_method_60_code (5 : Nat) (Option.none : Option Jvm.ClassFile.FieldType)) ∈ lw_all := lw_g (lw_at lw_m8 181 rfl) rfl
theorem q1945 : (Jvm.Cond.methodLink "CountedSkipLists" (371 : Nat) ({ cls := "CountedSkipLists$Mend", name := "values", desc := "()[LCountedSkipLists$Mend;" } : Jvm.MethodName)) ∈ lw_all := lw_g (lw_at lw_m8 182 rfl) rfl
theorem q1956 : (Jvm.Cond.methodLink "CountedSkipLists" (375 : Nat) ({ cls := "CountedSkipLists$Journal", name := "of", desc := "(LCountedSkipLists$Mend;)I" } : Jvm.MethodName)) ∈ lw_all := lw_g (lw_at lw_m8 193 rfl) rfl
theorem q1965 : (Jvm.Cond.instanceMethod ({ cls := "CountedSkipLists", name := "drop", desc := "(I)I" } : Jvm.MethodName)) ∈ lw_all := lw_g (lw_at lw_m8 202 rfl) rfl
theorem q1966 : (Jvm.Cond.selects "CountedSkipLists" ({ cls := "CountedSkipLists", name := "drop", desc := "(I)I" } : Jvm.MethodName) ({ cls := "CountedSkipLists", name := "drop", desc := "(I)I" } : Jvm.MethodName)) ∈ lw_all := lw_g (lw_at lw_m8 203 rfl) rfl
theorem q1967 : (Jvm.Cond.code ({ cls := "CountedSkipLists", name := "drop", desc := "(I)I" } : Jvm.MethodName) prog_1_method_63_code (3 : Nat) (Option.some Jvm.ClassFile.FieldType.int)) ∈ lw_all := lw_g (lw_at lw_m8 204 rfl) rfl
theorem q1972 : (Jvm.Cond.instanceMethod ({ cls := "CountedSkipLists", name := "insert", desc := "(III)I" } : Jvm.MethodName)) ∈ lw_all := lw_g (lw_at lw_m8 209 rfl) rfl
theorem q1973 : (Jvm.Cond.selects "CountedSkipLists" ({ cls := "CountedSkipLists", name := "insert", desc := "(III)I" } : Jvm.MethodName) ({ cls := "CountedSkipLists", name := "insert", desc := "(III)I" } : Jvm.MethodName)) ∈ lw_all := lw_g (lw_at lw_m8 210 rfl) rfl
theorem q1974 : (Jvm.Cond.code ({ cls := "CountedSkipLists", name := "insert", desc := "(III)I" } : Jvm.MethodName) prog_1_method_64_code (7 : Nat) (Option.some Jvm.ClassFile.FieldType.int)) ∈ lw_all := lw_g (lw_at lw_m8 211 rfl) rfl
theorem q1975 : (Jvm.Cond.methodLink "CountedSkipLists" (389 : Nat) ({ cls := "CountedSkipLists$State", name := "own", desc := "(I)LCountedSkipLists$SkipList;" } : Jvm.MethodName)) ∈ lw_all := lw_g (lw_at lw_m8 212 rfl) rfl
theorem q1980 : (Jvm.Cond.methodLink "CountedSkipLists" (392 : Nat) ({ cls := "CountedSkipLists", name := "mends", desc := "(LCountedSkipLists$SkipList;)V" } : Jvm.MethodName)) ∈ lw_all := lw_g (lw_at lw_m8 217 rfl) rfl
theorem q1981 : (Jvm.Cond.privateMethod ({ cls := "CountedSkipLists", name := "mends", desc := "(LCountedSkipLists$SkipList;)V" } : Jvm.MethodName)) ∈ lw_tbl := lw_at lw_m8 218 rfl
theorem q1982 : (Jvm.Cond.instanceMethod ({ cls := "CountedSkipLists", name := "mends", desc := "(LCountedSkipLists$SkipList;)V" } : Jvm.MethodName)) ∈ lw_all := lw_g (lw_at lw_m8 219 rfl) rfl
theorem q1983 : (Jvm.Cond.code ({ cls := "CountedSkipLists", name := "mends", desc := "(LCountedSkipLists$SkipList;)V" } : Jvm.MethodName) prog_1_method_61_code (2 : Nat) (Option.none : Option Jvm.ClassFile.FieldType)) ∈ lw_all := lw_g (lw_at lw_m8 220 rfl) rfl
theorem q1988 : (Jvm.Cond.instanceMethod ({ cls := "CountedSkipLists", name := "remove", desc := "(II)I" } : Jvm.MethodName)) ∈ lw_all := lw_g (lw_at lw_m8 225 rfl) rfl
theorem q1989 : (Jvm.Cond.selects "CountedSkipLists" ({ cls := "CountedSkipLists", name := "remove", desc := "(II)I" } : Jvm.MethodName) ({ cls := "CountedSkipLists", name := "remove", desc := "(II)I" } : Jvm.MethodName)) ∈ lw_all := lw_g (lw_at lw_m8 226 rfl) rfl
theorem q1990 : (Jvm.Cond.code ({ cls := "CountedSkipLists", name := "remove", desc := "(II)I" } : Jvm.MethodName) prog_1_method_65_code (5 : Nat) (Option.some Jvm.ClassFile.FieldType.int)) ∈ lw_all := lw_g (lw_at lw_m8 227 rfl) rfl
theorem q1995 : (Jvm.Cond.instanceMethod ({ cls := "CountedSkipLists", name := "setValue", desc := "(III)I" } : Jvm.MethodName)) ∈ lw_all := lw_g (lw_at lw_m8 232 rfl) rfl
theorem q1996 : (Jvm.Cond.selects "CountedSkipLists" ({ cls := "CountedSkipLists", name := "setValue", desc := "(III)I" } : Jvm.MethodName) ({ cls := "CountedSkipLists", name := "setValue", desc := "(III)I" } : Jvm.MethodName)) ∈ lw_all := lw_g (lw_at lw_m8 233 rfl) rfl
theorem q1997 : (Jvm.Cond.code ({ cls := "CountedSkipLists", name := "setValue", desc := "(III)I" } : Jvm.MethodName) prog_1_method_66_code (7 : Nat) (Option.some Jvm.ClassFile.FieldType.int)) ∈ lw_all := lw_g (lw_at lw_m8 234 rfl) rfl
theorem q1998 : (Jvm.Cond.methodLink "CountedSkipLists" (396 : Nat) ({ cls := "CountedSkipLists$SkipList", name := "setValue", desc := "(LCountedSkipLists$Node;I)V" } : Jvm.MethodName)) ∈ lw_all := lw_g (lw_at lw_m8 235 rfl) rfl
theorem q2006 : (Jvm.Cond.instanceMethod ({ cls := "CountedSkipLists", name := "split", desc := "(II)I" } : Jvm.MethodName)) ∈ lw_all := lw_g (lw_at lw_m9 3 rfl) rfl
theorem q2007 : (Jvm.Cond.selects "CountedSkipLists" ({ cls := "CountedSkipLists", name := "split", desc := "(II)I" } : Jvm.MethodName) ({ cls := "CountedSkipLists", name := "split", desc := "(II)I" } : Jvm.MethodName)) ∈ lw_all := lw_g (lw_at lw_m9 4 rfl) rfl
theorem q2008 : (Jvm.Cond.code ({ cls := "CountedSkipLists", name := "split", desc := "(II)I" } : Jvm.MethodName) prog_1_method_69_code (7 : Nat) (Option.some Jvm.ClassFile.FieldType.int)) ∈ lw_all := lw_g (lw_at lw_m9 5 rfl) rfl
theorem q2009 : (Jvm.Cond.methodLink "CountedSkipLists" (407 : Nat) ({ cls := "CountedSkipLists", name := "parts", desc := "(LCountedSkipLists$SkipList;I)[LCountedSkipLists$SkipList;" } : Jvm.MethodName)) ∈ lw_all := lw_g (lw_at lw_m9 6 rfl) rfl
theorem q2010 : (Jvm.Cond.privateMethod ({ cls := "CountedSkipLists", name := "parts", desc := "(LCountedSkipLists$SkipList;I)[LCountedSkipLists$SkipList;" } : Jvm.MethodName)) ∈ lw_tbl := lw_at lw_m9 7 rfl
theorem q2011 : (Jvm.Cond.instanceMethod ({ cls := "CountedSkipLists", name := "parts", desc := "(LCountedSkipLists$SkipList;I)[LCountedSkipLists$SkipList;" } : Jvm.MethodName)) ∈ lw_all := lw_g (lw_at lw_m9 8 rfl) rfl
theorem q2012 : (Jvm.Cond.code ({ cls := "CountedSkipLists", name := "parts", desc := "(LCountedSkipLists$SkipList;I)[LCountedSkipLists$SkipList;" } : Jvm.MethodName) prog_1_method_67_code (5 : Nat) (Option.some (Jvm.ClassFile.FieldType.array (Jvm.ClassFile.FieldType.object "CountedSkipLists$SkipList")))) ∈ lw_all := lw_g (lw_at lw_m9 9 rfl) rfl
theorem q2013 : (Jvm.Cond.methodLink "CountedSkipLists" (400 : Nat) ({ cls := "CountedSkipLists$SkipList", name := "<init>", desc := "(Ljava/lang/String;)V" } : Jvm.MethodName)) ∈ lw_all := lw_g (lw_at lw_m9 10 rfl) rfl
theorem q2014 : (Jvm.Cond.methodLink "CountedSkipLists" (403 : Nat) ({ cls := "CountedSkipLists$SkipList", name := "fill", desc := "(LCountedSkipLists$SkipList;LCountedSkipLists$Node;LCountedSkipLists$Node;)V" } : Jvm.MethodName)) ∈ lw_all := lw_g (lw_at lw_m9 11 rfl) rfl
theorem q2019 : (Jvm.Cond.instanceMethod ({ cls := "CountedSkipLists", name := "cut", desc := "(III)I" } : Jvm.MethodName)) ∈ lw_all := lw_g (lw_at lw_m9 16 rfl) rfl
theorem q2020 : (Jvm.Cond.selects "CountedSkipLists" ({ cls := "CountedSkipLists", name := "cut", desc := "(III)I" } : Jvm.MethodName) ({ cls := "CountedSkipLists", name := "cut", desc := "(III)I" } : Jvm.MethodName)) ∈ lw_all := lw_g (lw_at lw_m9 17 rfl) rfl
theorem q2021 : (Jvm.Cond.code ({ cls := "CountedSkipLists", name := "cut", desc := "(III)I" } : Jvm.MethodName) prog_1_method_70_code (9 : Nat) (Option.some Jvm.ClassFile.FieldType.int)) ∈ lw_all := lw_g (lw_at lw_m9 18 rfl) rfl
theorem q2022 : (Jvm.Cond.methodLink "CountedSkipLists" (411 : Nat) ({ cls := "CountedSkipLists", name := "joins", desc := "(LCountedSkipLists$SkipList;LCountedSkipLists$SkipList;)V" } : Jvm.MethodName)) ∈ lw_all := lw_g (lw_at lw_m9 19 rfl) rfl
theorem q2023 : (Jvm.Cond.privateMethod ({ cls := "CountedSkipLists", name := "joins", desc := "(LCountedSkipLists$SkipList;LCountedSkipLists$SkipList;)V" } : Jvm.MethodName)) ∈ lw_tbl := lw_at lw_m9 20 rfl
theorem q2024 : (Jvm.Cond.instanceMethod ({ cls := "CountedSkipLists", name := "joins", desc := "(LCountedSkipLists$SkipList;LCountedSkipLists$SkipList;)V" } : Jvm.MethodName)) ∈ lw_all := lw_g (lw_at lw_m9 21 rfl) rfl
theorem q2025 : (Jvm.Cond.code ({ cls := "CountedSkipLists", name := "joins", desc := "(LCountedSkipLists$SkipList;LCountedSkipLists$SkipList;)V" } : Jvm.MethodName) prog_1_method_68_code (3 : Nat) (Option.none : Option Jvm.ClassFile.FieldType)) ∈ lw_all := lw_g (lw_at lw_m9 22 rfl) rfl
theorem q2030 : (Jvm.Cond.instanceMethod ({ cls := "CountedSkipLists", name := "join", desc := "(II)I" } : Jvm.MethodName)) ∈ lw_all := lw_g (lw_at lw_m9 27 rfl) rfl
theorem q2031 : (Jvm.Cond.selects "CountedSkipLists" ({ cls := "CountedSkipLists", name := "join", desc := "(II)I" } : Jvm.MethodName) ({ cls := "CountedSkipLists", name := "join", desc := "(II)I" } : Jvm.MethodName)) ∈ lw_all := lw_g (lw_at lw_m9 28 rfl) rfl
theorem q2032 : (Jvm.Cond.code ({ cls := "CountedSkipLists", name := "join", desc := "(II)I" } : Jvm.MethodName) prog_1_method_71_code (4 : Nat) (Option.some Jvm.ClassFile.FieldType.int)) ∈ lw_all := lw_g (lw_at lw_m9 29 rfl) rfl
theorem q2033 : (Jvm.Cond.methodLink "CountedSkipLists" (415 : Nat) ({ cls := "CountedSkipLists", name := "whyNotJoin", desc := "(II)I" } : Jvm.MethodName)) ∈ lw_all := lw_g (lw_at lw_m9 30 rfl) rfl
theorem q2038 : (Jvm.Cond.instanceMethod ({ cls := "CountedSkipLists", name := "absorb", desc := "(II)I" } : Jvm.MethodName)) ∈ lw_all := lw_g (lw_at lw_m9 35 rfl) rfl
theorem q2039 : (Jvm.Cond.selects "CountedSkipLists" ({ cls := "CountedSkipLists", name := "absorb", desc := "(II)I" } : Jvm.MethodName) ({ cls := "CountedSkipLists", name := "absorb", desc := "(II)I" } : Jvm.MethodName)) ∈ lw_all := lw_g (lw_at lw_m9 36 rfl) rfl
theorem q2040 : (Jvm.Cond.code ({ cls := "CountedSkipLists", name := "absorb", desc := "(II)I" } : Jvm.MethodName) prog_1_method_72_code (7 : Nat) (Option.some Jvm.ClassFile.FieldType.int)) ∈ lw_all := lw_g (lw_at lw_m9 37 rfl) rfl
theorem q2041 : (Jvm.Cond.methodLink "CountedSkipLists" (418 : Nat) ({ cls := "CountedSkipLists", name := "whyNotAbsorb", desc := "(II)I" } : Jvm.MethodName)) ∈ lw_all := lw_g (lw_at lw_m9 38 rfl) rfl
theorem q2046 : (Jvm.Cond.instanceMethod ({ cls := "CountedSkipLists", name := "level", desc := "(I)I" } : Jvm.MethodName)) ∈ lw_all := lw_g (lw_at lw_m9 43 rfl) rfl
theorem q2047 : (Jvm.Cond.selects "CountedSkipLists" ({ cls := "CountedSkipLists", name := "level", desc := "(I)I" } : Jvm.MethodName) ({ cls := "CountedSkipLists", name := "level", desc := "(I)I" } : Jvm.MethodName)) ∈ lw_all := lw_g (lw_at lw_m9 44 rfl) rfl
theorem q2048 : (Jvm.Cond.code ({ cls := "CountedSkipLists", name := "level", desc := "(I)I" } : Jvm.MethodName) prog_1_method_73_code (4 : Nat) (Option.some Jvm.ClassFile.FieldType.int)) ∈ lw_all := lw_g (lw_at lw_m9 45 rfl) rfl
theorem q2049 : (Jvm.Cond.methodLink "CountedSkipLists" (421 : Nat) ({ cls := "CountedSkipLists$SkipList", name := "counted", desc := "()LCountedSkipLists$SkipList;" } : Jvm.MethodName)) ∈ lw_all := lw_g (lw_at lw_m9 46 rfl) rfl
theorem q2054 : (Jvm.Cond.instanceMethod ({ cls := "CountedSkipLists", name := "setLimit", desc := "(I)I" } : Jvm.MethodName)) ∈ lw_all := lw_g (lw_at lw_m9 51 rfl) rfl
theorem q2055 : (Jvm.Cond.selects "CountedSkipLists" ({ cls := "CountedSkipLists", name := "setLimit", desc := "(I)I" } : Jvm.MethodName) ({ cls := "CountedSkipLists", name := "setLimit", desc := "(I)I" } : Jvm.MethodName)) ∈ lw_all := lw_g (lw_at lw_m9 52 rfl) rfl
theorem q2056 : (Jvm.Cond.code ({ cls := "CountedSkipLists", name := "setLimit", desc := "(I)I" } : Jvm.MethodName) prog_1_method_74_code (5 : Nat) (Option.some Jvm.ClassFile.FieldType.int)) ∈ lw_all := lw_g (lw_at lw_m9 53 rfl) rfl
theorem q2061 : (Jvm.Cond.instanceMethod ({ cls := "CountedSkipLists", name := "undo", desc := "()I" } : Jvm.MethodName)) ∈ lw_all := lw_g (lw_at lw_m9 58 rfl) rfl
theorem q2062 : (Jvm.Cond.selects "CountedSkipLists" ({ cls := "CountedSkipLists", name := "undo", desc := "()I" } : Jvm.MethodName) ({ cls := "CountedSkipLists", name := "undo", desc := "()I" } : Jvm.MethodName)) ∈ lw_all := lw_g (lw_at lw_m9 59 rfl) rfl
theorem q2063 : (Jvm.Cond.code ({ cls := "CountedSkipLists", name := "undo", desc := "()I" } : Jvm.MethodName) prog_1_method_75_code (1 : Nat) (Option.some Jvm.ClassFile.FieldType.int)) ∈ lw_all := lw_g (lw_at lw_m9 60 rfl) rfl
theorem q2064 : (Jvm.Cond.methodLink "CountedSkipLists" (424 : Nat) ({ cls := "java/util/ArrayDeque", name := "isEmpty", desc := "()Z" } : Jvm.MethodName)) ∈ lw_all := lw_g (lw_at lw_m9 61 rfl) rfl
theorem q2068 : (Jvm.Cond.methodLink "CountedSkipLists" (425 : Nat) ({ cls := "java/util/ArrayDeque", name := "pollLast", desc := "()Ljava/lang/Object;" } : Jvm.MethodName)) ∈ lw_all := lw_g (lw_at lw_m9 65 rfl) rfl
theorem q2079 : (Jvm.Cond.instanceMethod ({ cls := "CountedSkipLists", name := "save", desc := "(I)V" } : Jvm.MethodName)) ∈ lw_all := lw_g (lw_at lw_m9 76 rfl) rfl
theorem q2080 : (Jvm.Cond.selects "CountedSkipLists" ({ cls := "CountedSkipLists", name := "save", desc := "(I)V" } : Jvm.MethodName) ({ cls := "CountedSkipLists", name := "save", desc := "(I)V" } : Jvm.MethodName)) ∈ lw_all := lw_g (lw_at lw_m9 77 rfl) rfl
theorem q2081 : (Jvm.Cond.code ({ cls := "CountedSkipLists", name := "save", desc := "(I)V" } : Jvm.MethodName) prog_1_method_77_code (2 : Nat) (Option.none : Option Jvm.ClassFile.FieldType)) ∈ lw_all := lw_g (lw_at lw_m9 78 rfl) rfl
theorem q2082 : (Jvm.Cond.methodLink "CountedSkipLists" (428 : Nat) ({ cls := "CountedSkipLists", name := "checkSlot", desc := "(I)V" } : Jvm.MethodName)) ∈ lw_all := lw_g (lw_at lw_m9 79 rfl) rfl
theorem q2083 : (Jvm.Cond.static ({ cls := "CountedSkipLists", name := "checkSlot", desc := "(I)V" } : Jvm.MethodName)) ∈ lw_all := lw_g (lw_at lw_m9 80 rfl) rfl
theorem q2084 : (Jvm.Cond.code ({ cls := "CountedSkipLists", name := "checkSlot", desc := "(I)V" } : Jvm.MethodName) prog_1_method_76_code (1 : Nat) (Option.none : Option Jvm.ClassFile.FieldType)) ∈ lw_all := lw_g (lw_at lw_m9 81 rfl) rfl
theorem q2089 : (Jvm.Cond.instanceMethod ({ cls := "CountedSkipLists", name := "restore", desc := "(I)V" } : Jvm.MethodName)) ∈ lw_all := lw_g (lw_at lw_m9 86 rfl) rfl
theorem q2090 : (Jvm.Cond.selects "CountedSkipLists" ({ cls := "CountedSkipLists", name := "restore", desc := "(I)V" } : Jvm.MethodName) ({ cls := "CountedSkipLists", name := "restore", desc := "(I)V" } : Jvm.MethodName)) ∈ lw_all := lw_g (lw_at lw_m9 87 rfl) rfl
theorem q2091 : (Jvm.Cond.code ({ cls := "CountedSkipLists", name := "restore", desc := "(I)V" } : Jvm.MethodName) prog_1_method_78_code (2 : Nat) (Option.none : Option Jvm.ClassFile.FieldType)) ∈ lw_all := lw_g (lw_at lw_m9 88 rfl) rfl
theorem q2662 : (Jvm.Cond.castable "CountedSkipLists" "java/lang/Object") ∈ lw_tbl := lw_at lw_m11 179 rfl
theorem in_X1 : ∀ w ∈ wsX10, w ∈ lw_all := lw_in wsX10 [232, 234, 236, 238, 240, 242, 244] (by decide +kernel) (by decide +kernel)

