/-! CountedSkipLists$State -/
set_option maxRecDepth 100000
def RX2 : String := "CountedSkipLists$State"
def TX2 : u_T := fun k => match k with
  | 0 => ("CountedSkipLists$State", "lists", "[LCountedSkipLists$SkipList;", true)
  | 1 => ("CountedSkipLists$State", "counters", "[I", true)
  | 2 => ("CountedSkipLists$State", "journal", "LCountedSkipLists$Journal;", false)
  | _ => ("CountedSkipLists$State", "limit", "I", false)
def tyX2 : Nat → FieldType := fun k => match k with
  | 0 => .array (.object "CountedSkipLists$SkipList")
  | 1 => .array .int
  | 2 => .object "CountedSkipLists$Journal"
  | _ => .int
abbrev wsX20 : List Cond := u_ws RX2 TX2 4
theorem nmX2 : ∀ a, a < 4 → ∀ b, b < 4 → a ≠ b → (TX2 a).2.1 ≠ (TX2 b).2.1 := by decide +kernel
theorem tyX2_ok : ∀ k, k < 4 → parseFieldDescriptor (TX2 k).2.2.1 = some (tyX2 k) := by decide +kernel
abbrev cX2_init : ByteArray := prog_14_method_1_code
def yX2_init : MethodName := ⟨RX2, "<init>", "(I)V"⟩
def dkwX2_init_1 : List UInt8 := [187, 0, 21, 89, 183, 0, 23, 181, 0, 24, 42, 27, 181, 0, 28, 177]
abbrev dktX2_init_1 : List UInt8 := dkwX2_init_1 ++ []
def dkwX2_init_0 : List UInt8 := [42, 183, 0, 3, 42, 16, 6, 189, 0, 9, 181, 0, 11, 42, 16, 6, 188, 10, 181, 0, 17, 42]
abbrev dktX2_init_0 : List UInt8 := dkwX2_init_0 ++ dktX2_init_1
theorem dksX2_init_0 : cX2_init.data.toList.drop 0 = dktX2_init_0 := by decide +kernel
theorem dksX2_init_1 : cX2_init.data.toList.drop 22 = dktX2_init_1 := dk_seg dksX2_init_0 22 rfl rfl
theorem dX2_init_0 : decode cX2_init 0 = .ok (.aload_n 0, 1) := dk_42 (dk_at dksX2_init_0 0 rfl rfl)
theorem dX2_init_1 : decode cX2_init 1 = .ok (.invokespecial 3, 3) := dk_183 0 3 (dk_at dksX2_init_0 1 rfl rfl)
theorem dX2_init_4 : decode cX2_init 4 = .ok (.aload_n 0, 1) := dk_42 (dk_at dksX2_init_0 4 rfl rfl)
theorem dX2_init_5 : decode cX2_init 5 = .ok (.bipush 6, 2) := dk_16 6 (dk_at dksX2_init_0 5 rfl rfl)
theorem dX2_init_7 : decode cX2_init 7 = .ok (.anewarray 9, 3) := dk_189 0 9 (dk_at dksX2_init_0 7 rfl rfl)
theorem dX2_init_10 : decode cX2_init 10 = .ok (.putfield 11, 3) := dk_181 0 11 (dk_at dksX2_init_0 10 rfl rfl)
theorem dX2_init_13 : decode cX2_init 13 = .ok (.aload_n 0, 1) := dk_42 (dk_at dksX2_init_0 13 rfl rfl)
theorem dX2_init_14 : decode cX2_init 14 = .ok (.bipush 6, 2) := dk_16 6 (dk_at dksX2_init_0 14 rfl rfl)
theorem dX2_init_16 : decode cX2_init 16 = .ok (.newarray .int, 2) := dk_188_10 (dk_at dksX2_init_0 16 rfl rfl)
theorem dX2_init_18 : decode cX2_init 18 = .ok (.putfield 17, 3) := dk_181 0 17 (dk_at dksX2_init_0 18 rfl rfl)
theorem dX2_init_21 : decode cX2_init 21 = .ok (.aload_n 0, 1) := dk_42 (dk_at dksX2_init_0 21 rfl rfl)
theorem dX2_init_22 : decode cX2_init 22 = .ok (.new 21, 3) := dk_187 0 21 (dk_at dksX2_init_1 0 rfl rfl)
theorem dX2_init_25 : decode cX2_init 25 = .ok (.dup, 1) := dk_89 (dk_at dksX2_init_1 3 rfl rfl)
theorem dX2_init_26 : decode cX2_init 26 = .ok (.invokespecial 23, 3) := dk_183 0 23 (dk_at dksX2_init_1 4 rfl rfl)
theorem dX2_init_29 : decode cX2_init 29 = .ok (.putfield 24, 3) := dk_181 0 24 (dk_at dksX2_init_1 7 rfl rfl)
theorem dX2_init_32 : decode cX2_init 32 = .ok (.aload_n 0, 1) := dk_42 (dk_at dksX2_init_1 10 rfl rfl)
theorem dX2_init_33 : decode cX2_init 33 = .ok (.iload_n 1, 1) := dk_27 (dk_at dksX2_init_1 11 rfl rfl)
theorem dX2_init_34 : decode cX2_init 34 = .ok (.putfield 28, 3) := dk_181 0 28 (dk_at dksX2_init_1 12 rfl rfl)
theorem dX2_init_37 : decode cX2_init 37 = .ok (.return_, 1) := dk_177 (dk_at dksX2_init_1 15 rfl rfl)
abbrev cX2_lists : ByteArray := prog_14_method_3_code
def yX2_lists : MethodName := ⟨RX2, "lists", "()I"⟩
def dkwX2_lists_1 : List UInt8 := [58, 5, 27, 25, 5, 199, 0, 7, 3, 167, 0, 4, 4, 96, 60, 132, 4, 1, 167, 255, 228, 27, 172]
abbrev dktX2_lists_1 : List UInt8 := dkwX2_lists_1 ++ []
def dkwX2_lists_0 : List UInt8 := [3, 60, 42, 180, 0, 11, 77, 44, 190, 62, 3, 54, 4, 21, 4, 29, 162, 0, 28, 44, 21, 4, 50]
abbrev dktX2_lists_0 : List UInt8 := dkwX2_lists_0 ++ dktX2_lists_1
theorem dksX2_lists_0 : cX2_lists.data.toList.drop 0 = dktX2_lists_0 := by decide +kernel
theorem dksX2_lists_1 : cX2_lists.data.toList.drop 23 = dktX2_lists_1 := dk_seg dksX2_lists_0 23 rfl rfl
theorem dX2_lists_0 : decode cX2_lists 0 = .ok (.iconst 0, 1) := dk_3 (dk_at dksX2_lists_0 0 rfl rfl)
theorem dX2_lists_1 : decode cX2_lists 1 = .ok (.istore_n 1, 1) := dk_60 (dk_at dksX2_lists_0 1 rfl rfl)
theorem dX2_lists_2 : decode cX2_lists 2 = .ok (.aload_n 0, 1) := dk_42 (dk_at dksX2_lists_0 2 rfl rfl)
theorem dX2_lists_3 : decode cX2_lists 3 = .ok (.getfield 11, 3) := dk_180 0 11 (dk_at dksX2_lists_0 3 rfl rfl)
theorem dX2_lists_6 : decode cX2_lists 6 = .ok (.astore_n 2, 1) := dk_77 (dk_at dksX2_lists_0 6 rfl rfl)
theorem dX2_lists_7 : decode cX2_lists 7 = .ok (.aload_n 2, 1) := dk_44 (dk_at dksX2_lists_0 7 rfl rfl)
theorem dX2_lists_8 : decode cX2_lists 8 = .ok (.arraylength, 1) := dk_190 (dk_at dksX2_lists_0 8 rfl rfl)
theorem dX2_lists_9 : decode cX2_lists 9 = .ok (.istore_n 3, 1) := dk_62 (dk_at dksX2_lists_0 9 rfl rfl)
theorem dX2_lists_10 : decode cX2_lists 10 = .ok (.iconst 0, 1) := dk_3 (dk_at dksX2_lists_0 10 rfl rfl)
theorem dX2_lists_11 : decode cX2_lists 11 = .ok (.istore 4, 2) := dk_54 4 (dk_at dksX2_lists_0 11 rfl rfl)
theorem dX2_lists_13 : decode cX2_lists 13 = .ok (.iload 4, 2) := dk_21 4 (dk_at dksX2_lists_0 13 rfl rfl)
theorem dX2_lists_15 : decode cX2_lists 15 = .ok (.iload_n 3, 1) := dk_29 (dk_at dksX2_lists_0 15 rfl rfl)
theorem dX2_lists_16 : decode cX2_lists 16 = .ok (.if_icmp .ge 28, 3) := dk_162 0 28 (dk_at dksX2_lists_0 16 rfl rfl)
theorem dX2_lists_19 : decode cX2_lists 19 = .ok (.aload_n 2, 1) := dk_44 (dk_at dksX2_lists_0 19 rfl rfl)
theorem dX2_lists_20 : decode cX2_lists 20 = .ok (.iload 4, 2) := dk_21 4 (dk_at dksX2_lists_0 20 rfl rfl)
theorem dX2_lists_22 : decode cX2_lists 22 = .ok (.aaload, 1) := dk_50 (dk_at dksX2_lists_0 22 rfl rfl)
theorem dX2_lists_23 : decode cX2_lists 23 = .ok (.astore 5, 2) := dk_58 5 (dk_at dksX2_lists_1 0 rfl rfl)
theorem dX2_lists_25 : decode cX2_lists 25 = .ok (.iload_n 1, 1) := dk_27 (dk_at dksX2_lists_1 2 rfl rfl)
theorem dX2_lists_26 : decode cX2_lists 26 = .ok (.aload 5, 2) := dk_25 5 (dk_at dksX2_lists_1 3 rfl rfl)
theorem dX2_lists_28 : decode cX2_lists 28 = .ok (.ifnonnull 7, 3) := dk_199 0 7 (dk_at dksX2_lists_1 5 rfl rfl)
theorem dX2_lists_31 : decode cX2_lists 31 = .ok (.iconst 0, 1) := dk_3 (dk_at dksX2_lists_1 8 rfl rfl)
theorem dX2_lists_32 : decode cX2_lists 32 = .ok (.goto 4, 3) := dk_167 0 4 (dk_at dksX2_lists_1 9 rfl rfl)
theorem dX2_lists_35 : decode cX2_lists 35 = .ok (.iconst 1, 1) := dk_4 (dk_at dksX2_lists_1 12 rfl rfl)
theorem dX2_lists_36 : decode cX2_lists 36 = .ok (.iadd, 1) := dk_96 (dk_at dksX2_lists_1 13 rfl rfl)
theorem dX2_lists_37 : decode cX2_lists 37 = .ok (.istore_n 1, 1) := dk_60 (dk_at dksX2_lists_1 14 rfl rfl)
theorem dX2_lists_38 : decode cX2_lists 38 = .ok (.iinc 4 1, 3) := dk_132 4 1 (dk_at dksX2_lists_1 15 rfl rfl)
theorem dX2_lists_41 : decode cX2_lists 41 = .ok (.goto (-28), 3) := dk_167 255 228 (dk_at dksX2_lists_1 18 rfl rfl)
theorem dX2_lists_44 : decode cX2_lists 44 = .ok (.iload_n 1, 1) := dk_27 (dk_at dksX2_lists_1 21 rfl rfl)
theorem dX2_lists_45 : decode cX2_lists 45 = .ok (.ireturn, 1) := dk_172 (dk_at dksX2_lists_1 22 rfl rfl)
abbrev cX2_free : ByteArray := prog_14_method_4_code
def yX2_free : MethodName := ⟨RX2, "free", "()I"⟩
def dkwX2_free_1 : List UInt8 := [167, 255, 236, 2, 172]
abbrev dktX2_free_1 : List UInt8 := dkwX2_free_1 ++ []
def dkwX2_free_0 : List UInt8 := [3, 60, 27, 16, 6, 162, 0, 20, 42, 180, 0, 11, 27, 50, 199, 0, 5, 27, 172, 132, 1, 1]
abbrev dktX2_free_0 : List UInt8 := dkwX2_free_0 ++ dktX2_free_1
theorem dksX2_free_0 : cX2_free.data.toList.drop 0 = dktX2_free_0 := by decide +kernel
theorem dksX2_free_1 : cX2_free.data.toList.drop 22 = dktX2_free_1 := dk_seg dksX2_free_0 22 rfl rfl
theorem dX2_free_0 : decode cX2_free 0 = .ok (.iconst 0, 1) := dk_3 (dk_at dksX2_free_0 0 rfl rfl)
theorem dX2_free_1 : decode cX2_free 1 = .ok (.istore_n 1, 1) := dk_60 (dk_at dksX2_free_0 1 rfl rfl)
theorem dX2_free_2 : decode cX2_free 2 = .ok (.iload_n 1, 1) := dk_27 (dk_at dksX2_free_0 2 rfl rfl)
theorem dX2_free_3 : decode cX2_free 3 = .ok (.bipush 6, 2) := dk_16 6 (dk_at dksX2_free_0 3 rfl rfl)
theorem dX2_free_5 : decode cX2_free 5 = .ok (.if_icmp .ge 20, 3) := dk_162 0 20 (dk_at dksX2_free_0 5 rfl rfl)
theorem dX2_free_8 : decode cX2_free 8 = .ok (.aload_n 0, 1) := dk_42 (dk_at dksX2_free_0 8 rfl rfl)
theorem dX2_free_9 : decode cX2_free 9 = .ok (.getfield 11, 3) := dk_180 0 11 (dk_at dksX2_free_0 9 rfl rfl)
theorem dX2_free_12 : decode cX2_free 12 = .ok (.iload_n 1, 1) := dk_27 (dk_at dksX2_free_0 12 rfl rfl)
theorem dX2_free_13 : decode cX2_free 13 = .ok (.aaload, 1) := dk_50 (dk_at dksX2_free_0 13 rfl rfl)
theorem dX2_free_14 : decode cX2_free 14 = .ok (.ifnonnull 5, 3) := dk_199 0 5 (dk_at dksX2_free_0 14 rfl rfl)
theorem dX2_free_17 : decode cX2_free 17 = .ok (.iload_n 1, 1) := dk_27 (dk_at dksX2_free_0 17 rfl rfl)
theorem dX2_free_18 : decode cX2_free 18 = .ok (.ireturn, 1) := dk_172 (dk_at dksX2_free_0 18 rfl rfl)
theorem dX2_free_19 : decode cX2_free 19 = .ok (.iinc 1 1, 3) := dk_132 1 1 (dk_at dksX2_free_0 19 rfl rfl)
theorem dX2_free_22 : decode cX2_free 22 = .ok (.goto (-20), 3) := dk_167 255 236 (dk_at dksX2_free_1 0 rfl rfl)
theorem dX2_free_25 : decode cX2_free 25 = .ok (.iconst (-1), 1) := dk_2 (dk_at dksX2_free_1 3 rfl rfl)
theorem dX2_free_26 : decode cX2_free 26 = .ok (.ireturn, 1) := dk_172 (dk_at dksX2_free_1 4 rfl rfl)
abbrev cX2_copy : ByteArray := prog_14_method_2_code
def yX2_copy : MethodName := ⟨RX2, "copy", "()LCountedSkipLists$State;"⟩
def dkwX2_copy_2 : List UInt8 := [181, 0, 24, 43, 176]
abbrev dktX2_copy_2 : List UInt8 := dkwX2_copy_2 ++ []
def dkwX2_copy_1 : List UInt8 := [184, 0, 35, 42, 180, 0, 17, 3, 43, 180, 0, 17, 3, 16, 6, 184, 0, 35, 43, 42, 180, 0, 24]
abbrev dktX2_copy_1 : List UInt8 := dkwX2_copy_1 ++ dktX2_copy_2
def dkwX2_copy_0 : List UInt8 := [187, 0, 12, 89, 42, 180, 0, 28, 183, 0, 32, 76, 42, 180, 0, 11, 3, 43, 180, 0, 11, 3, 16, 6]
abbrev dktX2_copy_0 : List UInt8 := dkwX2_copy_0 ++ dktX2_copy_1
theorem dksX2_copy_0 : cX2_copy.data.toList.drop 0 = dktX2_copy_0 := by decide +kernel
theorem dksX2_copy_1 : cX2_copy.data.toList.drop 24 = dktX2_copy_1 := dk_seg dksX2_copy_0 24 rfl rfl
theorem dksX2_copy_2 : cX2_copy.data.toList.drop 47 = dktX2_copy_2 := dk_seg dksX2_copy_1 23 rfl rfl
theorem dX2_copy_0 : decode cX2_copy 0 = .ok (.new 12, 3) := dk_187 0 12 (dk_at dksX2_copy_0 0 rfl rfl)
theorem dX2_copy_3 : decode cX2_copy 3 = .ok (.dup, 1) := dk_89 (dk_at dksX2_copy_0 3 rfl rfl)
theorem dX2_copy_4 : decode cX2_copy 4 = .ok (.aload_n 0, 1) := dk_42 (dk_at dksX2_copy_0 4 rfl rfl)
theorem dX2_copy_5 : decode cX2_copy 5 = .ok (.getfield 28, 3) := dk_180 0 28 (dk_at dksX2_copy_0 5 rfl rfl)
theorem dX2_copy_8 : decode cX2_copy 8 = .ok (.invokespecial 32, 3) := dk_183 0 32 (dk_at dksX2_copy_0 8 rfl rfl)
theorem dX2_copy_11 : decode cX2_copy 11 = .ok (.astore_n 1, 1) := dk_76 (dk_at dksX2_copy_0 11 rfl rfl)
theorem dX2_copy_12 : decode cX2_copy 12 = .ok (.aload_n 0, 1) := dk_42 (dk_at dksX2_copy_0 12 rfl rfl)
theorem dX2_copy_13 : decode cX2_copy 13 = .ok (.getfield 11, 3) := dk_180 0 11 (dk_at dksX2_copy_0 13 rfl rfl)
theorem dX2_copy_16 : decode cX2_copy 16 = .ok (.iconst 0, 1) := dk_3 (dk_at dksX2_copy_0 16 rfl rfl)
theorem dX2_copy_17 : decode cX2_copy 17 = .ok (.aload_n 1, 1) := dk_43 (dk_at dksX2_copy_0 17 rfl rfl)
theorem dX2_copy_18 : decode cX2_copy 18 = .ok (.getfield 11, 3) := dk_180 0 11 (dk_at dksX2_copy_0 18 rfl rfl)
theorem dX2_copy_21 : decode cX2_copy 21 = .ok (.iconst 0, 1) := dk_3 (dk_at dksX2_copy_0 21 rfl rfl)
theorem dX2_copy_22 : decode cX2_copy 22 = .ok (.bipush 6, 2) := dk_16 6 (dk_at dksX2_copy_0 22 rfl rfl)
theorem dX2_copy_24 : decode cX2_copy 24 = .ok (.invokestatic 35, 3) := dk_184 0 35 (dk_at dksX2_copy_1 0 rfl rfl)
theorem dX2_copy_27 : decode cX2_copy 27 = .ok (.aload_n 0, 1) := dk_42 (dk_at dksX2_copy_1 3 rfl rfl)
theorem dX2_copy_28 : decode cX2_copy 28 = .ok (.getfield 17, 3) := dk_180 0 17 (dk_at dksX2_copy_1 4 rfl rfl)
theorem dX2_copy_31 : decode cX2_copy 31 = .ok (.iconst 0, 1) := dk_3 (dk_at dksX2_copy_1 7 rfl rfl)
theorem dX2_copy_32 : decode cX2_copy 32 = .ok (.aload_n 1, 1) := dk_43 (dk_at dksX2_copy_1 8 rfl rfl)
theorem dX2_copy_33 : decode cX2_copy 33 = .ok (.getfield 17, 3) := dk_180 0 17 (dk_at dksX2_copy_1 9 rfl rfl)
theorem dX2_copy_36 : decode cX2_copy 36 = .ok (.iconst 0, 1) := dk_3 (dk_at dksX2_copy_1 12 rfl rfl)
theorem dX2_copy_37 : decode cX2_copy 37 = .ok (.bipush 6, 2) := dk_16 6 (dk_at dksX2_copy_1 13 rfl rfl)
theorem dX2_copy_39 : decode cX2_copy 39 = .ok (.invokestatic 35, 3) := dk_184 0 35 (dk_at dksX2_copy_1 15 rfl rfl)
theorem dX2_copy_42 : decode cX2_copy 42 = .ok (.aload_n 1, 1) := dk_43 (dk_at dksX2_copy_1 18 rfl rfl)
theorem dX2_copy_43 : decode cX2_copy 43 = .ok (.aload_n 0, 1) := dk_42 (dk_at dksX2_copy_1 19 rfl rfl)
theorem dX2_copy_44 : decode cX2_copy 44 = .ok (.getfield 24, 3) := dk_180 0 24 (dk_at dksX2_copy_1 20 rfl rfl)
theorem dX2_copy_47 : decode cX2_copy 47 = .ok (.putfield 24, 3) := dk_181 0 24 (dk_at dksX2_copy_2 0 rfl rfl)
theorem dX2_copy_50 : decode cX2_copy 50 = .ok (.aload_n 1, 1) := dk_43 (dk_at dksX2_copy_2 3 rfl rfl)
theorem dX2_copy_51 : decode cX2_copy 51 = .ok (.areturn, 1) := dk_176 (dk_at dksX2_copy_2 4 rfl rfl)
abbrev cX2_own : ByteArray := prog_14_method_5_code
def yX2_own : MethodName := ⟨RX2, "own", "(I)LCountedSkipLists$SkipList;"⟩
def dkwX2_own_0 : List UInt8 := [42, 180, 0, 11, 27, 42, 180, 0, 11, 27, 50, 182, 0, 41, 83, 42, 180, 0, 11, 27, 50, 176]
abbrev dktX2_own_0 : List UInt8 := dkwX2_own_0 ++ []
theorem dksX2_own_0 : cX2_own.data.toList.drop 0 = dktX2_own_0 := by decide +kernel
theorem dX2_own_0 : decode cX2_own 0 = .ok (.aload_n 0, 1) := dk_42 (dk_at dksX2_own_0 0 rfl rfl)
theorem dX2_own_1 : decode cX2_own 1 = .ok (.getfield 11, 3) := dk_180 0 11 (dk_at dksX2_own_0 1 rfl rfl)
theorem dX2_own_4 : decode cX2_own 4 = .ok (.iload_n 1, 1) := dk_27 (dk_at dksX2_own_0 4 rfl rfl)
theorem dX2_own_5 : decode cX2_own 5 = .ok (.aload_n 0, 1) := dk_42 (dk_at dksX2_own_0 5 rfl rfl)
theorem dX2_own_6 : decode cX2_own 6 = .ok (.getfield 11, 3) := dk_180 0 11 (dk_at dksX2_own_0 6 rfl rfl)
theorem dX2_own_9 : decode cX2_own 9 = .ok (.iload_n 1, 1) := dk_27 (dk_at dksX2_own_0 9 rfl rfl)
theorem dX2_own_10 : decode cX2_own 10 = .ok (.aaload, 1) := dk_50 (dk_at dksX2_own_0 10 rfl rfl)
theorem dX2_own_11 : decode cX2_own 11 = .ok (.invokevirtual 41, 3) := dk_182 0 41 (dk_at dksX2_own_0 11 rfl rfl)
theorem dX2_own_14 : decode cX2_own 14 = .ok (.aastore, 1) := dk_83 (dk_at dksX2_own_0 14 rfl rfl)
theorem dX2_own_15 : decode cX2_own 15 = .ok (.aload_n 0, 1) := dk_42 (dk_at dksX2_own_0 15 rfl rfl)
theorem dX2_own_16 : decode cX2_own 16 = .ok (.getfield 11, 3) := dk_180 0 11 (dk_at dksX2_own_0 16 rfl rfl)
theorem dX2_own_19 : decode cX2_own 19 = .ok (.iload_n 1, 1) := dk_27 (dk_at dksX2_own_0 19 rfl rfl)
theorem dX2_own_20 : decode cX2_own 20 = .ok (.aaload, 1) := dk_50 (dk_at dksX2_own_0 20 rfl rfl)
theorem dX2_own_21 : decode cX2_own 21 = .ok (.areturn, 1) := dk_176 (dk_at dksX2_own_0 21 rfl rfl)
theorem q85 : (Jvm.Cond.initialized "CountedSkipLists$State") ∈ lw_all := lw_g (lw_at lw_m1 2 rfl) rfl
theorem q140 : (Jvm.Cond.instantiable "CountedSkipLists$State" (4 : Nat)) ∈ lw_all := lw_g (lw_at lw_m1 57 rfl) rfl
theorem q142 : (Jvm.Cond.instanceMethod ({ cls := "CountedSkipLists$State", name := "<init>", desc := "(I)V" } : Jvm.MethodName)) ∈ lw_all := lw_g (lw_at lw_m1 59 rfl) rfl
theorem q143 : (Jvm.Cond.code ({ cls := "CountedSkipLists$State", name := "<init>", desc := "(I)V" } : Jvm.MethodName) prog_14_method_1_code (2 : Nat) (Option.none : Option Jvm.ClassFile.FieldType)) ∈ lw_all := lw_g (lw_at lw_m1 60 rfl) rfl
theorem q144 : (Jvm.Cond.methodLink "CountedSkipLists$State" (3 : Nat) ({ cls := "java/lang/Object", name := "<init>", desc := "()V" } : Jvm.MethodName)) ∈ lw_all := lw_g (lw_at lw_m1 61 rfl) rfl
theorem q145 : (Jvm.Cond.classLink "CountedSkipLists$State" (9 : Nat) "CountedSkipLists$SkipList") ∈ lw_all := lw_g (lw_at lw_m1 62 rfl) rfl
theorem q147 : (Jvm.Cond.classLink "CountedSkipLists$State" (21 : Nat) "CountedSkipLists$Journal") ∈ lw_all := lw_g (lw_at lw_m1 64 rfl) rfl
theorem q149 : (Jvm.Cond.methodLinkNest "CountedSkipLists$State" (23 : Nat) ({ cls := "CountedSkipLists$Journal", name := "<init>", desc := "()V" } : Jvm.MethodName) "CountedSkipLists") ∈ lw_tbl := lw_at lw_m1 66 rfl
theorem q185 : (Jvm.Cond.fieldLink "CountedSkipLists$State" (11 : Nat) "CountedSkipLists$State" "lists" "[LCountedSkipLists$SkipList;") ∈ lw_all := lw_g (lw_at lw_m1 102 rfl) rfl
theorem q188 : (Jvm.Cond.fieldLink "CountedSkipLists$State" (17 : Nat) "CountedSkipLists$State" "counters" "[I") ∈ lw_all := lw_g (lw_at lw_m1 105 rfl) rfl
theorem q190 : (Jvm.Cond.fieldLink "CountedSkipLists$State" (24 : Nat) "CountedSkipLists$State" "journal" "LCountedSkipLists$Journal;") ∈ lw_all := lw_g (lw_at lw_m1 107 rfl) rfl
theorem q192 : (Jvm.Cond.fieldLink "CountedSkipLists$State" (28 : Nat) "CountedSkipLists$State" "limit" "I") ∈ lw_all := lw_g (lw_at lw_m1 109 rfl) rfl
theorem q195 : (Jvm.Cond.laysFinal "CountedSkipLists$State" "CountedSkipLists$State" "lists" "[LCountedSkipLists$SkipList;") ∈ lw_all := lw_g (lw_at lw_m1 112 rfl) rfl
theorem q196 : (Jvm.Cond.soleField "CountedSkipLists$State" "lists") ∈ lw_all := lw_g (lw_at lw_m1 113 rfl) rfl
theorem q197 : (Jvm.Cond.laysFinal "CountedSkipLists$State" "CountedSkipLists$State" "counters" "[I") ∈ lw_all := lw_g (lw_at lw_m1 114 rfl) rfl
theorem q198 : (Jvm.Cond.soleField "CountedSkipLists$State" "counters") ∈ lw_all := lw_g (lw_at lw_m1 115 rfl) rfl
theorem q199 : (Jvm.Cond.lays "CountedSkipLists$State" "CountedSkipLists$State" "journal" "LCountedSkipLists$Journal;") ∈ lw_all := lw_g (lw_at lw_m1 116 rfl) rfl
theorem q200 : (Jvm.Cond.soleField "CountedSkipLists$State" "journal") ∈ lw_all := lw_g (lw_at lw_m1 117 rfl) rfl
theorem q201 : (Jvm.Cond.lays "CountedSkipLists$State" "CountedSkipLists$State" "limit" "I") ∈ lw_all := lw_g (lw_at lw_m1 118 rfl) rfl
theorem q202 : (Jvm.Cond.soleField "CountedSkipLists$State" "limit") ∈ lw_all := lw_g (lw_at lw_m1 119 rfl) rfl
theorem q203 : (Jvm.Cond.superclass "CountedSkipLists$State" "java/lang/Object") ∈ lw_all := lw_g (lw_at lw_m1 120 rfl) rfl
theorem q1090 : (Jvm.Cond.selects "CountedSkipLists$State" ({ cls := "java/lang/Object", name := "getClass", desc := "()Ljava/lang/Class;" } : Jvm.MethodName) ({ cls := "java/lang/Object", name := "getClass", desc := "()Ljava/lang/Class;" } : Jvm.MethodName)) ∈ lw_all := lw_g (lw_at lw_m5 47 rfl) rfl
theorem q1128 : (Jvm.Cond.instanceMethod ({ cls := "CountedSkipLists$State", name := "lists", desc := "()I" } : Jvm.MethodName)) ∈ lw_all := lw_g (lw_at lw_m5 85 rfl) rfl
theorem q1129 : (Jvm.Cond.selects "CountedSkipLists$State" ({ cls := "CountedSkipLists$State", name := "lists", desc := "()I" } : Jvm.MethodName) ({ cls := "CountedSkipLists$State", name := "lists", desc := "()I" } : Jvm.MethodName)) ∈ lw_all := lw_g (lw_at lw_m5 86 rfl) rfl
theorem q1130 : (Jvm.Cond.code ({ cls := "CountedSkipLists$State", name := "lists", desc := "()I" } : Jvm.MethodName) prog_14_method_3_code (6 : Nat) (Option.some Jvm.ClassFile.FieldType.int)) ∈ lw_all := lw_g (lw_at lw_m5 87 rfl) rfl
theorem q1878 : (Jvm.Cond.instanceMethod ({ cls := "CountedSkipLists$State", name := "free", desc := "()I" } : Jvm.MethodName)) ∈ lw_all := lw_g (lw_at lw_m8 115 rfl) rfl
theorem q1879 : (Jvm.Cond.selects "CountedSkipLists$State" ({ cls := "CountedSkipLists$State", name := "free", desc := "()I" } : Jvm.MethodName) ({ cls := "CountedSkipLists$State", name := "free", desc := "()I" } : Jvm.MethodName)) ∈ lw_all := lw_g (lw_at lw_m8 116 rfl) rfl
theorem q1880 : (Jvm.Cond.code ({ cls := "CountedSkipLists$State", name := "free", desc := "()I" } : Jvm.MethodName) prog_14_method_4_code (2 : Nat) (Option.some Jvm.ClassFile.FieldType.int)) ∈ lw_all := lw_g (lw_at lw_m8 117 rfl) rfl
theorem q1930 : (Jvm.Cond.instanceMethod ({ cls := "CountedSkipLists$State", name := "copy", desc := "()LCountedSkipLists$State;" } : Jvm.MethodName)) ∈ lw_all := lw_g (lw_at lw_m8 167 rfl) rfl
theorem q1931 : (Jvm.Cond.selects "CountedSkipLists$State" ({ cls := "CountedSkipLists$State", name := "copy", desc := "()LCountedSkipLists$State;" } : Jvm.MethodName) ({ cls := "CountedSkipLists$State", name := "copy", desc := "()LCountedSkipLists$State;" } : Jvm.MethodName)) ∈ lw_all := lw_g (lw_at lw_m8 168 rfl) rfl
theorem q1932 : (Jvm.Cond.code ({ cls := "CountedSkipLists$State", name := "copy", desc := "()LCountedSkipLists$State;" } : Jvm.MethodName) prog_14_method_2_code (2 : Nat) (Option.some (Jvm.ClassFile.FieldType.object "CountedSkipLists$State"))) ∈ lw_all := lw_g (lw_at lw_m8 169 rfl) rfl
theorem q1933 : (Jvm.Cond.classLink "CountedSkipLists$State" (12 : Nat) "CountedSkipLists$State") ∈ lw_all := lw_g (lw_at lw_m8 170 rfl) rfl
theorem q1934 : (Jvm.Cond.methodLink "CountedSkipLists$State" (32 : Nat) ({ cls := "CountedSkipLists$State", name := "<init>", desc := "(I)V" } : Jvm.MethodName)) ∈ lw_all := lw_g (lw_at lw_m8 171 rfl) rfl
theorem q1935 : (Jvm.Cond.methodLink "CountedSkipLists$State" (35 : Nat) ({ cls := "java/lang/System", name := "arraycopy", desc := "(Ljava/lang/Object;ILjava/lang/Object;II)V" } : Jvm.MethodName)) ∈ lw_all := lw_g (lw_at lw_m8 172 rfl) rfl
theorem q1976 : (Jvm.Cond.instanceMethod ({ cls := "CountedSkipLists$State", name := "own", desc := "(I)LCountedSkipLists$SkipList;" } : Jvm.MethodName)) ∈ lw_all := lw_g (lw_at lw_m8 213 rfl) rfl
theorem q1977 : (Jvm.Cond.selects "CountedSkipLists$State" ({ cls := "CountedSkipLists$State", name := "own", desc := "(I)LCountedSkipLists$SkipList;" } : Jvm.MethodName) ({ cls := "CountedSkipLists$State", name := "own", desc := "(I)LCountedSkipLists$SkipList;" } : Jvm.MethodName)) ∈ lw_all := lw_g (lw_at lw_m8 214 rfl) rfl
theorem q1978 : (Jvm.Cond.code ({ cls := "CountedSkipLists$State", name := "own", desc := "(I)LCountedSkipLists$SkipList;" } : Jvm.MethodName) prog_14_method_5_code (2 : Nat) (Option.some (Jvm.ClassFile.FieldType.object "CountedSkipLists$SkipList"))) ∈ lw_all := lw_g (lw_at lw_m8 215 rfl) rfl
theorem q1979 : (Jvm.Cond.methodLink "CountedSkipLists$State" (41 : Nat) ({ cls := "CountedSkipLists$SkipList", name := "copy", desc := "()LCountedSkipLists$SkipList;" } : Jvm.MethodName)) ∈ lw_all := lw_g (lw_at lw_m8 216 rfl) rfl
theorem q2658 : (Jvm.Cond.castable "CountedSkipLists$State" "java/lang/Object") ∈ lw_tbl := lw_at lw_m11 175 rfl
theorem in_X2 : ∀ w ∈ wsX20, w ∈ lw_all := lw_in wsX20 [195, 197, 199, 201] (by decide +kernel) (by decide +kernel)

/-! CountedSkipLists$Journal -/
set_option maxRecDepth 100000
def RX3 : String := "CountedSkipLists$Journal"
def TX3 : u_T := fun k => match k with
  | _ => ("CountedSkipLists$Journal", "entries", "Ljava/util/ArrayList;", true)
def tyX3 : Nat → FieldType := fun k => match k with
  | _ => .object "java/util/ArrayList"
abbrev wsX30 : List Cond := u_ws RX3 TX3 1
theorem nmX3 : ∀ a, a < 1 → ∀ b, b < 1 → a ≠ b → (TX3 a).2.1 ≠ (TX3 b).2.1 := by decide +kernel
theorem tyX3_ok : ∀ k, k < 1 → parseFieldDescriptor (TX3 k).2.2.1 = some (tyX3 k) := by decide +kernel
abbrev cX3_init : ByteArray := prog_4_method_1_code
def yX3_init : MethodName := ⟨RX3, "<init>", "()V"⟩
def dkwX3_init_0 : List UInt8 := [42, 183, 0, 1, 42, 187, 0, 7, 89, 183, 0, 9, 181, 0, 10, 177]
abbrev dktX3_init_0 : List UInt8 := dkwX3_init_0 ++ []
theorem dksX3_init_0 : cX3_init.data.toList.drop 0 = dktX3_init_0 := by decide +kernel
theorem dX3_init_0 : decode cX3_init 0 = .ok (.aload_n 0, 1) := dk_42 (dk_at dksX3_init_0 0 rfl rfl)
theorem dX3_init_1 : decode cX3_init 1 = .ok (.invokespecial 1, 3) := dk_183 0 1 (dk_at dksX3_init_0 1 rfl rfl)
theorem dX3_init_4 : decode cX3_init 4 = .ok (.aload_n 0, 1) := dk_42 (dk_at dksX3_init_0 4 rfl rfl)
theorem dX3_init_5 : decode cX3_init 5 = .ok (.new 7, 3) := dk_187 0 7 (dk_at dksX3_init_0 5 rfl rfl)
theorem dX3_init_8 : decode cX3_init 8 = .ok (.dup, 1) := dk_89 (dk_at dksX3_init_0 8 rfl rfl)
theorem dX3_init_9 : decode cX3_init 9 = .ok (.invokespecial 9, 3) := dk_183 0 9 (dk_at dksX3_init_0 9 rfl rfl)
theorem dX3_init_12 : decode cX3_init 12 = .ok (.putfield 10, 3) := dk_181 0 10 (dk_at dksX3_init_0 12 rfl rfl)
theorem dX3_init_15 : decode cX3_init 15 = .ok (.return_, 1) := dk_177 (dk_at dksX3_init_0 15 rfl rfl)
abbrev cX3_size : ByteArray := prog_4_method_3_code
def yX3_size : MethodName := ⟨RX3, "size", "()I"⟩
def dkwX3_size_0 : List UInt8 := [42, 180, 0, 10, 182, 0, 25, 172]
abbrev dktX3_size_0 : List UInt8 := dkwX3_size_0 ++ []
theorem dksX3_size_0 : cX3_size.data.toList.drop 0 = dktX3_size_0 := by decide +kernel
theorem dX3_size_0 : decode cX3_size 0 = .ok (.aload_n 0, 1) := dk_42 (dk_at dksX3_size_0 0 rfl rfl)
theorem dX3_size_1 : decode cX3_size 1 = .ok (.getfield 10, 3) := dk_180 0 10 (dk_at dksX3_size_0 1 rfl rfl)
theorem dX3_size_4 : decode cX3_size 4 = .ok (.invokevirtual 25, 3) := dk_182 0 25 (dk_at dksX3_size_0 4 rfl rfl)
theorem dX3_size_7 : decode cX3_size 7 = .ok (.ireturn, 1) := dk_172 (dk_at dksX3_size_0 7 rfl rfl)
abbrev cX3_add : ByteArray := prog_4_method_2_code
def yX3_add : MethodName := ⟨RX3, "add", "(LCountedSkipLists$Mend;II)V"⟩
def dkwX3_add_0 : List UInt8 := [42, 180, 0, 10, 187, 0, 16, 89, 43, 28, 29, 183, 0, 18, 182, 0, 21, 87, 177]
abbrev dktX3_add_0 : List UInt8 := dkwX3_add_0 ++ []
theorem dksX3_add_0 : cX3_add.data.toList.drop 0 = dktX3_add_0 := by decide +kernel
theorem dX3_add_0 : decode cX3_add 0 = .ok (.aload_n 0, 1) := dk_42 (dk_at dksX3_add_0 0 rfl rfl)
theorem dX3_add_1 : decode cX3_add 1 = .ok (.getfield 10, 3) := dk_180 0 10 (dk_at dksX3_add_0 1 rfl rfl)
theorem dX3_add_4 : decode cX3_add 4 = .ok (.new 16, 3) := dk_187 0 16 (dk_at dksX3_add_0 4 rfl rfl)
theorem dX3_add_7 : decode cX3_add 7 = .ok (.dup, 1) := dk_89 (dk_at dksX3_add_0 7 rfl rfl)
theorem dX3_add_8 : decode cX3_add 8 = .ok (.aload_n 1, 1) := dk_43 (dk_at dksX3_add_0 8 rfl rfl)
theorem dX3_add_9 : decode cX3_add 9 = .ok (.iload_n 2, 1) := dk_28 (dk_at dksX3_add_0 9 rfl rfl)
theorem dX3_add_10 : decode cX3_add 10 = .ok (.iload_n 3, 1) := dk_29 (dk_at dksX3_add_0 10 rfl rfl)
theorem dX3_add_11 : decode cX3_add 11 = .ok (.invokespecial 18, 3) := dk_183 0 18 (dk_at dksX3_add_0 11 rfl rfl)
theorem dX3_add_14 : decode cX3_add 14 = .ok (.invokevirtual 21, 3) := dk_182 0 21 (dk_at dksX3_add_0 14 rfl rfl)
theorem dX3_add_17 : decode cX3_add 17 = .ok (.pop, 1) := dk_87 (dk_at dksX3_add_0 17 rfl rfl)
theorem dX3_add_18 : decode cX3_add 18 = .ok (.return_, 1) := dk_177 (dk_at dksX3_add_0 18 rfl rfl)
abbrev cX3_at : ByteArray := prog_4_method_4_code
def yX3_at : MethodName := ⟨RX3, "at", "(I)LCountedSkipLists$Entry;"⟩
def dkwX3_at_0 : List UInt8 := [42, 180, 0, 10, 27, 182, 0, 29, 192, 0, 16, 176]
abbrev dktX3_at_0 : List UInt8 := dkwX3_at_0 ++ []
theorem dksX3_at_0 : cX3_at.data.toList.drop 0 = dktX3_at_0 := by decide +kernel
theorem dX3_at_0 : decode cX3_at 0 = .ok (.aload_n 0, 1) := dk_42 (dk_at dksX3_at_0 0 rfl rfl)
theorem dX3_at_1 : decode cX3_at 1 = .ok (.getfield 10, 3) := dk_180 0 10 (dk_at dksX3_at_0 1 rfl rfl)
theorem dX3_at_4 : decode cX3_at 4 = .ok (.iload_n 1, 1) := dk_27 (dk_at dksX3_at_0 4 rfl rfl)
theorem dX3_at_5 : decode cX3_at 5 = .ok (.invokevirtual 29, 3) := dk_182 0 29 (dk_at dksX3_at_0 5 rfl rfl)
theorem dX3_at_8 : decode cX3_at 8 = .ok (.checkcast 16, 3) := dk_192 0 16 (dk_at dksX3_at_0 8 rfl rfl)
theorem dX3_at_11 : decode cX3_at 11 = .ok (.areturn, 1) := dk_176 (dk_at dksX3_at_0 11 rfl rfl)
abbrev cX3_of : ByteArray := prog_4_method_5_code
def yX3_of : MethodName := ⟨RX3, "of", "(LCountedSkipLists$Mend;)I"⟩
def dkwX3_of_2 : List UInt8 := [172]
abbrev dktX3_of_2 : List UInt8 := dkwX3_of_2 ++ []
def dkwX3_of_1 : List UInt8 := [192, 0, 16, 182, 0, 33, 43, 166, 0, 7, 4, 167, 0, 4, 3, 96, 61, 132, 3, 1, 167, 255, 216, 28]
abbrev dktX3_of_1 : List UInt8 := dkwX3_of_1 ++ dktX3_of_2
def dkwX3_of_0 : List UInt8 := [3, 61, 3, 62, 29, 42, 180, 0, 10, 182, 0, 25, 162, 0, 35, 28, 42, 180, 0, 10, 29, 182, 0, 29]
abbrev dktX3_of_0 : List UInt8 := dkwX3_of_0 ++ dktX3_of_1
theorem dksX3_of_0 : cX3_of.data.toList.drop 0 = dktX3_of_0 := by decide +kernel
theorem dksX3_of_1 : cX3_of.data.toList.drop 24 = dktX3_of_1 := dk_seg dksX3_of_0 24 rfl rfl
theorem dksX3_of_2 : cX3_of.data.toList.drop 48 = dktX3_of_2 := dk_seg dksX3_of_1 24 rfl rfl
theorem dX3_of_0 : decode cX3_of 0 = .ok (.iconst 0, 1) := dk_3 (dk_at dksX3_of_0 0 rfl rfl)
theorem dX3_of_1 : decode cX3_of 1 = .ok (.istore_n 2, 1) := dk_61 (dk_at dksX3_of_0 1 rfl rfl)
theorem dX3_of_2 : decode cX3_of 2 = .ok (.iconst 0, 1) := dk_3 (dk_at dksX3_of_0 2 rfl rfl)
theorem dX3_of_3 : decode cX3_of 3 = .ok (.istore_n 3, 1) := dk_62 (dk_at dksX3_of_0 3 rfl rfl)
theorem dX3_of_4 : decode cX3_of 4 = .ok (.iload_n 3, 1) := dk_29 (dk_at dksX3_of_0 4 rfl rfl)
theorem dX3_of_5 : decode cX3_of 5 = .ok (.aload_n 0, 1) := dk_42 (dk_at dksX3_of_0 5 rfl rfl)
theorem dX3_of_6 : decode cX3_of 6 = .ok (.getfield 10, 3) := dk_180 0 10 (dk_at dksX3_of_0 6 rfl rfl)
theorem dX3_of_9 : decode cX3_of 9 = .ok (.invokevirtual 25, 3) := dk_182 0 25 (dk_at dksX3_of_0 9 rfl rfl)
theorem dX3_of_12 : decode cX3_of 12 = .ok (.if_icmp .ge 35, 3) := dk_162 0 35 (dk_at dksX3_of_0 12 rfl rfl)
theorem dX3_of_15 : decode cX3_of 15 = .ok (.iload_n 2, 1) := dk_28 (dk_at dksX3_of_0 15 rfl rfl)
theorem dX3_of_16 : decode cX3_of 16 = .ok (.aload_n 0, 1) := dk_42 (dk_at dksX3_of_0 16 rfl rfl)
theorem dX3_of_17 : decode cX3_of 17 = .ok (.getfield 10, 3) := dk_180 0 10 (dk_at dksX3_of_0 17 rfl rfl)
theorem dX3_of_20 : decode cX3_of 20 = .ok (.iload_n 3, 1) := dk_29 (dk_at dksX3_of_0 20 rfl rfl)
theorem dX3_of_21 : decode cX3_of 21 = .ok (.invokevirtual 29, 3) := dk_182 0 29 (dk_at dksX3_of_0 21 rfl rfl)
theorem dX3_of_24 : decode cX3_of 24 = .ok (.checkcast 16, 3) := dk_192 0 16 (dk_at dksX3_of_1 0 rfl rfl)
theorem dX3_of_27 : decode cX3_of 27 = .ok (.invokevirtual 33, 3) := dk_182 0 33 (dk_at dksX3_of_1 3 rfl rfl)
theorem dX3_of_30 : decode cX3_of 30 = .ok (.aload_n 1, 1) := dk_43 (dk_at dksX3_of_1 6 rfl rfl)
theorem dX3_of_31 : decode cX3_of 31 = .ok (.if_acmp .ne 7, 3) := dk_166 0 7 (dk_at dksX3_of_1 7 rfl rfl)
theorem dX3_of_34 : decode cX3_of 34 = .ok (.iconst 1, 1) := dk_4 (dk_at dksX3_of_1 10 rfl rfl)
theorem dX3_of_35 : decode cX3_of 35 = .ok (.goto 4, 3) := dk_167 0 4 (dk_at dksX3_of_1 11 rfl rfl)
theorem dX3_of_38 : decode cX3_of 38 = .ok (.iconst 0, 1) := dk_3 (dk_at dksX3_of_1 14 rfl rfl)
theorem dX3_of_39 : decode cX3_of 39 = .ok (.iadd, 1) := dk_96 (dk_at dksX3_of_1 15 rfl rfl)
theorem dX3_of_40 : decode cX3_of 40 = .ok (.istore_n 2, 1) := dk_61 (dk_at dksX3_of_1 16 rfl rfl)
theorem dX3_of_41 : decode cX3_of 41 = .ok (.iinc 3 1, 3) := dk_132 3 1 (dk_at dksX3_of_1 17 rfl rfl)
theorem dX3_of_44 : decode cX3_of 44 = .ok (.goto (-40), 3) := dk_167 255 216 (dk_at dksX3_of_1 20 rfl rfl)
theorem dX3_of_47 : decode cX3_of 47 = .ok (.iload_n 2, 1) := dk_28 (dk_at dksX3_of_1 23 rfl rfl)
theorem dX3_of_48 : decode cX3_of 48 = .ok (.ireturn, 1) := dk_172 (dk_at dksX3_of_2 0 rfl rfl)
theorem q86 : (Jvm.Cond.initialized "CountedSkipLists$Journal") ∈ lw_all := lw_g (lw_at lw_m1 3 rfl) rfl
theorem q148 : (Jvm.Cond.instantiable "CountedSkipLists$Journal" (1 : Nat)) ∈ lw_all := lw_g (lw_at lw_m1 65 rfl) rfl
theorem q150 : (Jvm.Cond.instanceMethod ({ cls := "CountedSkipLists$Journal", name := "<init>", desc := "()V" } : Jvm.MethodName)) ∈ lw_all := lw_g (lw_at lw_m1 67 rfl) rfl
theorem q151 : (Jvm.Cond.code ({ cls := "CountedSkipLists$Journal", name := "<init>", desc := "()V" } : Jvm.MethodName) prog_4_method_1_code (1 : Nat) (Option.none : Option Jvm.ClassFile.FieldType)) ∈ lw_all := lw_g (lw_at lw_m1 68 rfl) rfl
theorem q152 : (Jvm.Cond.methodLink "CountedSkipLists$Journal" (1 : Nat) ({ cls := "java/lang/Object", name := "<init>", desc := "()V" } : Jvm.MethodName)) ∈ lw_all := lw_g (lw_at lw_m1 69 rfl) rfl
theorem q153 : (Jvm.Cond.classLink "CountedSkipLists$Journal" (7 : Nat) "java/util/ArrayList") ∈ lw_all := lw_g (lw_at lw_m1 70 rfl) rfl
theorem q155 : (Jvm.Cond.methodLink "CountedSkipLists$Journal" (9 : Nat) ({ cls := "java/util/ArrayList", name := "<init>", desc := "()V" } : Jvm.MethodName)) ∈ lw_all := lw_g (lw_at lw_m1 72 rfl) rfl
theorem q181 : (Jvm.Cond.fieldLink "CountedSkipLists$Journal" (10 : Nat) "CountedSkipLists$Journal" "entries" "Ljava/util/ArrayList;") ∈ lw_all := lw_g (lw_at lw_m1 98 rfl) rfl
theorem q182 : (Jvm.Cond.laysFinal "CountedSkipLists$Journal" "CountedSkipLists$Journal" "entries" "Ljava/util/ArrayList;") ∈ lw_all := lw_g (lw_at lw_m1 99 rfl) rfl
theorem q183 : (Jvm.Cond.soleField "CountedSkipLists$Journal" "entries") ∈ lw_all := lw_g (lw_at lw_m1 100 rfl) rfl
theorem q184 : (Jvm.Cond.superclass "CountedSkipLists$Journal" "java/lang/Object") ∈ lw_all := lw_g (lw_at lw_m1 101 rfl) rfl
theorem q271 : (Jvm.Cond.instanceMethod ({ cls := "CountedSkipLists$Journal", name := "size", desc := "()I" } : Jvm.MethodName)) ∈ lw_all := lw_g (lw_at lw_m1 188 rfl) rfl
theorem q272 : (Jvm.Cond.selects "CountedSkipLists$Journal" ({ cls := "CountedSkipLists$Journal", name := "size", desc := "()I" } : Jvm.MethodName) ({ cls := "CountedSkipLists$Journal", name := "size", desc := "()I" } : Jvm.MethodName)) ∈ lw_all := lw_g (lw_at lw_m1 189 rfl) rfl
theorem q273 : (Jvm.Cond.code ({ cls := "CountedSkipLists$Journal", name := "size", desc := "()I" } : Jvm.MethodName) prog_4_method_3_code (1 : Nat) (Option.some Jvm.ClassFile.FieldType.int)) ∈ lw_all := lw_g (lw_at lw_m1 190 rfl) rfl
theorem q274 : (Jvm.Cond.methodLink "CountedSkipLists$Journal" (25 : Nat) ({ cls := "java/util/ArrayList", name := "size", desc := "()I" } : Jvm.MethodName)) ∈ lw_all := lw_g (lw_at lw_m1 191 rfl) rfl
theorem q1034 : (Jvm.Cond.instanceMethod ({ cls := "CountedSkipLists$Journal", name := "add", desc := "(LCountedSkipLists$Mend;II)V" } : Jvm.MethodName)) ∈ lw_all := lw_g (lw_at lw_m4 231 rfl) rfl
theorem q1035 : (Jvm.Cond.selects "CountedSkipLists$Journal" ({ cls := "CountedSkipLists$Journal", name := "add", desc := "(LCountedSkipLists$Mend;II)V" } : Jvm.MethodName) ({ cls := "CountedSkipLists$Journal", name := "add", desc := "(LCountedSkipLists$Mend;II)V" } : Jvm.MethodName)) ∈ lw_all := lw_g (lw_at lw_m4 232 rfl) rfl
theorem q1036 : (Jvm.Cond.code ({ cls := "CountedSkipLists$Journal", name := "add", desc := "(LCountedSkipLists$Mend;II)V" } : Jvm.MethodName) prog_4_method_2_code (4 : Nat) (Option.none : Option Jvm.ClassFile.FieldType)) ∈ lw_all := lw_g (lw_at lw_m4 233 rfl) rfl
theorem q1037 : (Jvm.Cond.classLink "CountedSkipLists$Journal" (16 : Nat) "CountedSkipLists$Entry") ∈ lw_all := lw_g (lw_at lw_m4 234 rfl) rfl
theorem q1039 : (Jvm.Cond.methodLinkNest "CountedSkipLists$Journal" (18 : Nat) ({ cls := "CountedSkipLists$Entry", name := "<init>", desc := "(LCountedSkipLists$Mend;II)V" } : Jvm.MethodName) "CountedSkipLists") ∈ lw_tbl := lw_at lw_m4 236 rfl
theorem q1056 : (Jvm.Cond.methodLink "CountedSkipLists$Journal" (21 : Nat) ({ cls := "java/util/ArrayList", name := "add", desc := "(Ljava/lang/Object;)Z" } : Jvm.MethodName)) ∈ lw_all := lw_g (lw_at lw_m5 13 rfl) rfl
theorem q1082 : (Jvm.Cond.selects "CountedSkipLists$Journal" ({ cls := "java/lang/Object", name := "getClass", desc := "()Ljava/lang/Class;" } : Jvm.MethodName) ({ cls := "java/lang/Object", name := "getClass", desc := "()Ljava/lang/Class;" } : Jvm.MethodName)) ∈ lw_all := lw_g (lw_at lw_m5 39 rfl) rfl
theorem q1814 : (Jvm.Cond.instanceMethod ({ cls := "CountedSkipLists$Journal", name := "at", desc := "(I)LCountedSkipLists$Entry;" } : Jvm.MethodName)) ∈ lw_all := lw_g (lw_at lw_m8 51 rfl) rfl
theorem q1815 : (Jvm.Cond.selects "CountedSkipLists$Journal" ({ cls := "CountedSkipLists$Journal", name := "at", desc := "(I)LCountedSkipLists$Entry;" } : Jvm.MethodName) ({ cls := "CountedSkipLists$Journal", name := "at", desc := "(I)LCountedSkipLists$Entry;" } : Jvm.MethodName)) ∈ lw_all := lw_g (lw_at lw_m8 52 rfl) rfl
theorem q1816 : (Jvm.Cond.code ({ cls := "CountedSkipLists$Journal", name := "at", desc := "(I)LCountedSkipLists$Entry;" } : Jvm.MethodName) prog_4_method_4_code (2 : Nat) (Option.some (Jvm.ClassFile.FieldType.object "CountedSkipLists$Entry"))) ∈ lw_all := lw_g (lw_at lw_m8 53 rfl) rfl
theorem q1817 : (Jvm.Cond.methodLink "CountedSkipLists$Journal" (29 : Nat) ({ cls := "java/util/ArrayList", name := "get", desc := "(I)Ljava/lang/Object;" } : Jvm.MethodName)) ∈ lw_all := lw_g (lw_at lw_m8 54 rfl) rfl
theorem q1957 : (Jvm.Cond.instanceMethod ({ cls := "CountedSkipLists$Journal", name := "of", desc := "(LCountedSkipLists$Mend;)I" } : Jvm.MethodName)) ∈ lw_all := lw_g (lw_at lw_m8 194 rfl) rfl
theorem q1958 : (Jvm.Cond.selects "CountedSkipLists$Journal" ({ cls := "CountedSkipLists$Journal", name := "of", desc := "(LCountedSkipLists$Mend;)I" } : Jvm.MethodName) ({ cls := "CountedSkipLists$Journal", name := "of", desc := "(LCountedSkipLists$Mend;)I" } : Jvm.MethodName)) ∈ lw_all := lw_g (lw_at lw_m8 195 rfl) rfl
theorem q1959 : (Jvm.Cond.code ({ cls := "CountedSkipLists$Journal", name := "of", desc := "(LCountedSkipLists$Mend;)I" } : Jvm.MethodName) prog_4_method_5_code (4 : Nat) (Option.some Jvm.ClassFile.FieldType.int)) ∈ lw_all := lw_g (lw_at lw_m8 196 rfl) rfl
theorem q1960 : (Jvm.Cond.methodLink "CountedSkipLists$Journal" (33 : Nat) ({ cls := "CountedSkipLists$Entry", name := "mend", desc := "()LCountedSkipLists$Mend;" } : Jvm.MethodName)) ∈ lw_all := lw_g (lw_at lw_m8 197 rfl) rfl
theorem q2663 : (Jvm.Cond.castable "CountedSkipLists$Journal" "java/lang/Object") ∈ lw_tbl := lw_at lw_m11 180 rfl
theorem in_X3 : ∀ w ∈ wsX30, w ∈ lw_all := lw_in wsX30 [182] (by decide +kernel) (by decide +kernel)

/-! CountedSkipLists$Parser -/
set_option maxRecDepth 100000
def RX5 : String := "CountedSkipLists$Parser"
def TX5 : u_T := fun k => match k with
  | 0 => ("CountedSkipLists$Parser", "size", "I", true)
  | 1 => ("CountedSkipLists$Parser", "made", "LCountedSkipLists$State;", false)
  | 2 => ("CountedSkipLists$Parser", "next", "I", false)
  | 3 => ("CountedSkipLists$Parser", "begin", "I", false)
  | 4 => ("CountedSkipLists$Parser", "value", "I", false)
  | 5 => ("CountedSkipLists$Parser", "token", "LCountedSkipLists$Token;", false)
  | 6 => ("CountedSkipLists$Parser", "word", "Ljava/lang/String;", false)
  | _ => ("CountedSkipLists$Parser", "this$0", "LCountedSkipLists;", true)
def tyX5 : Nat → FieldType := fun k => match k with
  | 0 => .int
  | 1 => .object "CountedSkipLists$State"
  | 2 => .int
  | 3 => .int
  | 4 => .int
  | 5 => .object "CountedSkipLists$Token"
  | 6 => .object "java/lang/String"
  | _ => .object "CountedSkipLists"
abbrev wsX50 : List Cond := u_ws RX5 TX5 8
theorem nmX5 : ∀ a, a < 8 → ∀ b, b < 8 → a ≠ b → (TX5 a).2.1 ≠ (TX5 b).2.1 := by decide +kernel
theorem tyX5_ok : ∀ k, k < 8 → parseFieldDescriptor (TX5 k).2.2.1 = some (tyX5 k) := by decide +kernel
abbrev cX5_init : ByteArray := prog_10_method_1_code
def yX5_init : MethodName := ⟨RX5, "<init>", "(LCountedSkipLists;I)V"⟩
def dkwX5_init_1 : List UInt8 := [177]
abbrev dktX5_init_1 : List UInt8 := dkwX5_init_1 ++ []
def dkwX5_init_0 : List UInt8 := [42, 43, 181, 0, 3, 42, 183, 0, 9, 42, 18, 15, 181, 0, 17, 42, 28, 181, 0, 21, 42, 182, 0, 25]
abbrev dktX5_init_0 : List UInt8 := dkwX5_init_0 ++ dktX5_init_1
theorem dksX5_init_0 : cX5_init.data.toList.drop 0 = dktX5_init_0 := by decide +kernel
theorem dksX5_init_1 : cX5_init.data.toList.drop 24 = dktX5_init_1 := dk_seg dksX5_init_0 24 rfl rfl
theorem dX5_init_0 : decode cX5_init 0 = .ok (.aload_n 0, 1) := dk_42 (dk_at dksX5_init_0 0 rfl rfl)
theorem dX5_init_1 : decode cX5_init 1 = .ok (.aload_n 1, 1) := dk_43 (dk_at dksX5_init_0 1 rfl rfl)
theorem dX5_init_2 : decode cX5_init 2 = .ok (.putfield 3, 3) := dk_181 0 3 (dk_at dksX5_init_0 2 rfl rfl)
theorem dX5_init_5 : decode cX5_init 5 = .ok (.aload_n 0, 1) := dk_42 (dk_at dksX5_init_0 5 rfl rfl)
theorem dX5_init_6 : decode cX5_init 6 = .ok (.invokespecial 9, 3) := dk_183 0 9 (dk_at dksX5_init_0 6 rfl rfl)
theorem dX5_init_9 : decode cX5_init 9 = .ok (.aload_n 0, 1) := dk_42 (dk_at dksX5_init_0 9 rfl rfl)
theorem dX5_init_10 : decode cX5_init 10 = .ok (.ldc 15, 2) := dk_18 15 (dk_at dksX5_init_0 10 rfl rfl)
theorem dX5_init_12 : decode cX5_init 12 = .ok (.putfield 17, 3) := dk_181 0 17 (dk_at dksX5_init_0 12 rfl rfl)
theorem dX5_init_15 : decode cX5_init 15 = .ok (.aload_n 0, 1) := dk_42 (dk_at dksX5_init_0 15 rfl rfl)
theorem dX5_init_16 : decode cX5_init 16 = .ok (.iload_n 2, 1) := dk_28 (dk_at dksX5_init_0 16 rfl rfl)
theorem dX5_init_17 : decode cX5_init 17 = .ok (.putfield 21, 3) := dk_181 0 21 (dk_at dksX5_init_0 17 rfl rfl)
theorem dX5_init_20 : decode cX5_init 20 = .ok (.aload_n 0, 1) := dk_42 (dk_at dksX5_init_0 20 rfl rfl)
theorem dX5_init_21 : decode cX5_init 21 = .ok (.invokevirtual 25, 3) := dk_182 0 25 (dk_at dksX5_init_0 21 rfl rfl)
theorem dX5_init_24 : decode cX5_init 24 = .ok (.return_, 1) := dk_177 (dk_at dksX5_init_1 0 rfl rfl)
abbrev cX5_advance : ByteArray := prog_10_method_3_code
def yX5_advance : MethodName := ⟨RX5, "advance", "()V"⟩
def dkwX5_advance_14 : List UInt8 := [177]
abbrev dktX5_advance_14 : List UInt8 := dkwX5_advance_14 ++ []
def dkwX5_advance_13 : List UInt8 := [178, 0, 87, 167, 0, 18, 27, 16, 45, 160, 0, 9, 178, 0, 90, 167, 0, 6, 178, 0, 78, 181, 0, 48]
abbrev dktX5_advance_13 : List UInt8 := dkwX5_advance_13 ++ dktX5_advance_14
def dkwX5_advance_12 : List UInt8 := [96, 181, 0, 32, 42, 27, 16, 59, 160, 0, 9, 178, 0, 84, 167, 0, 30, 27, 16, 58, 160, 0, 9]
abbrev dktX5_advance_12 : List UInt8 := dkwX5_advance_12 ++ dktX5_advance_13
def dkwX5_advance_11 : List UInt8 := [164, 0, 9, 178, 0, 78, 167, 0, 6, 178, 0, 81, 181, 0, 48, 167, 0, 56, 42, 89, 180, 0, 32, 4]
abbrev dktX5_advance_11 : List UInt8 := dkwX5_advance_11 ++ dktX5_advance_12
def dkwX5_advance_10 : List UInt8 := [180, 0, 32, 4, 96, 181, 0, 32, 167, 255, 192, 42, 42, 180, 0, 32, 42, 180, 0, 39, 100, 7]
abbrev dktX5_advance_10 : List UInt8 := dkwX5_advance_10 ++ dktX5_advance_11
def dkwX5_advance_9 : List UInt8 := [16, 10, 42, 180, 0, 75, 104, 42, 42, 180, 0, 32, 182, 0, 35, 96, 16, 48, 100, 181, 0, 75, 42, 89]
abbrev dktX5_advance_9 : List UInt8 := dkwX5_advance_9 ++ dktX5_advance_10
def dkwX5_advance_8 : List UInt8 := [16, 48, 16, 57, 184, 0, 51, 153, 0, 52, 42, 180, 0, 32, 42, 180, 0, 39, 100, 7, 162, 0, 26, 42]
abbrev dktX5_advance_8 : List UInt8 := dkwX5_advance_8 ++ dktX5_advance_9
def dkwX5_advance_7 : List UInt8 := [27, 16, 48, 16, 57, 184, 0, 51, 153, 0, 104, 42, 3, 181, 0, 75, 42, 42, 180, 0, 32, 182, 0, 35]
abbrev dktX5_advance_7 : List UInt8 := dkwX5_advance_7 ++ dktX5_advance_8
def dkwX5_advance_6 : List UInt8 := [181, 0, 32, 167, 255, 205, 42, 44, 182, 0, 68, 181, 0, 17, 42, 178, 0, 72, 181, 0, 48, 167, 0, 168]
abbrev dktX5_advance_6 : List UInt8 := dkwX5_advance_6 ++ dktX5_advance_7
def dkwX5_advance_5 : List UInt8 := [163, 0, 17, 44, 42, 42, 180, 0, 32, 182, 0, 35, 146, 182, 0, 64, 87, 42, 89, 180, 0, 32, 4, 96]
abbrev dktX5_advance_5 : List UInt8 := dkwX5_advance_5 ++ dktX5_advance_6
def dkwX5_advance_4 : List UInt8 := [180, 0, 32, 182, 0, 35, 16, 97, 16, 122, 184, 0, 51, 153, 0, 39, 44, 182, 0, 60, 16, 8]
abbrev dktX5_advance_4 : List UInt8 := dkwX5_advance_4 ++ dktX5_advance_5
def dkwX5_advance_3 : List UInt8 := [27, 16, 97, 16, 122, 184, 0, 51, 153, 0, 85, 187, 0, 55, 89, 16, 10, 183, 0, 57, 77, 42, 42]
abbrev dktX5_advance_3 : List UInt8 := dkwX5_advance_3 ++ dktX5_advance_4
def dkwX5_advance_2 : List UInt8 := [42, 42, 180, 0, 32, 182, 0, 35, 60, 27, 2, 160, 0, 13, 42, 178, 0, 42, 181, 0, 48, 167, 1, 5]
abbrev dktX5_advance_2 : List UInt8 := dkwX5_advance_2 ++ dktX5_advance_3
def dkwX5_advance_1 : List UInt8 := [160, 0, 16, 42, 89, 180, 0, 32, 4, 96, 181, 0, 32, 167, 255, 220, 42, 42, 180, 0, 32, 181, 0, 39]
abbrev dktX5_advance_1 : List UInt8 := dkwX5_advance_1 ++ dktX5_advance_2
def dkwX5_advance_0 : List UInt8 := [42, 42, 180, 0, 32, 182, 0, 35, 16, 32, 159, 0, 16, 42, 42, 180, 0, 32, 182, 0, 35, 16, 10]
abbrev dktX5_advance_0 : List UInt8 := dkwX5_advance_0 ++ dktX5_advance_1
theorem dksX5_advance_0 : cX5_advance.data.toList.drop 0 = dktX5_advance_0 := by decide +kernel
theorem dksX5_advance_1 : cX5_advance.data.toList.drop 23 = dktX5_advance_1 := dk_seg dksX5_advance_0 23 rfl rfl
theorem dksX5_advance_2 : cX5_advance.data.toList.drop 47 = dktX5_advance_2 := dk_seg dksX5_advance_1 24 rfl rfl
theorem dksX5_advance_3 : cX5_advance.data.toList.drop 71 = dktX5_advance_3 := dk_seg dksX5_advance_2 24 rfl rfl
theorem dksX5_advance_4 : cX5_advance.data.toList.drop 94 = dktX5_advance_4 := dk_seg dksX5_advance_3 23 rfl rfl
theorem dksX5_advance_5 : cX5_advance.data.toList.drop 116 = dktX5_advance_5 := dk_seg dksX5_advance_4 22 rfl rfl
theorem dksX5_advance_6 : cX5_advance.data.toList.drop 140 = dktX5_advance_6 := dk_seg dksX5_advance_5 24 rfl rfl
theorem dksX5_advance_7 : cX5_advance.data.toList.drop 164 = dktX5_advance_7 := dk_seg dksX5_advance_6 24 rfl rfl
theorem dksX5_advance_8 : cX5_advance.data.toList.drop 188 = dktX5_advance_8 := dk_seg dksX5_advance_7 24 rfl rfl
theorem dksX5_advance_9 : cX5_advance.data.toList.drop 212 = dktX5_advance_9 := dk_seg dksX5_advance_8 24 rfl rfl
theorem dksX5_advance_10 : cX5_advance.data.toList.drop 236 = dktX5_advance_10 := dk_seg dksX5_advance_9 24 rfl rfl
theorem dksX5_advance_11 : cX5_advance.data.toList.drop 258 = dktX5_advance_11 := dk_seg dksX5_advance_10 22 rfl rfl
theorem dksX5_advance_12 : cX5_advance.data.toList.drop 282 = dktX5_advance_12 := dk_seg dksX5_advance_11 24 rfl rfl
theorem dksX5_advance_13 : cX5_advance.data.toList.drop 305 = dktX5_advance_13 := dk_seg dksX5_advance_12 23 rfl rfl
theorem dksX5_advance_14 : cX5_advance.data.toList.drop 329 = dktX5_advance_14 := dk_seg dksX5_advance_13 24 rfl rfl
theorem dX5_advance_0 : decode cX5_advance 0 = .ok (.aload_n 0, 1) := dk_42 (dk_at dksX5_advance_0 0 rfl rfl)
theorem dX5_advance_1 : decode cX5_advance 1 = .ok (.aload_n 0, 1) := dk_42 (dk_at dksX5_advance_0 1 rfl rfl)
theorem dX5_advance_2 : decode cX5_advance 2 = .ok (.getfield 32, 3) := dk_180 0 32 (dk_at dksX5_advance_0 2 rfl rfl)
theorem dX5_advance_5 : decode cX5_advance 5 = .ok (.invokevirtual 35, 3) := dk_182 0 35 (dk_at dksX5_advance_0 5 rfl rfl)
theorem dX5_advance_8 : decode cX5_advance 8 = .ok (.bipush 32, 2) := dk_16 32 (dk_at dksX5_advance_0 8 rfl rfl)
theorem dX5_advance_10 : decode cX5_advance 10 = .ok (.if_icmp .eq 16, 3) := dk_159 0 16 (dk_at dksX5_advance_0 10 rfl rfl)
theorem dX5_advance_13 : decode cX5_advance 13 = .ok (.aload_n 0, 1) := dk_42 (dk_at dksX5_advance_0 13 rfl rfl)
theorem dX5_advance_14 : decode cX5_advance 14 = .ok (.aload_n 0, 1) := dk_42 (dk_at dksX5_advance_0 14 rfl rfl)
theorem dX5_advance_15 : decode cX5_advance 15 = .ok (.getfield 32, 3) := dk_180 0 32 (dk_at dksX5_advance_0 15 rfl rfl)
theorem dX5_advance_18 : decode cX5_advance 18 = .ok (.invokevirtual 35, 3) := dk_182 0 35 (dk_at dksX5_advance_0 18 rfl rfl)
theorem dX5_advance_21 : decode cX5_advance 21 = .ok (.bipush 10, 2) := dk_16 10 (dk_at dksX5_advance_0 21 rfl rfl)
theorem dX5_advance_23 : decode cX5_advance 23 = .ok (.if_icmp .ne 16, 3) := dk_160 0 16 (dk_at dksX5_advance_1 0 rfl rfl)
theorem dX5_advance_26 : decode cX5_advance 26 = .ok (.aload_n 0, 1) := dk_42 (dk_at dksX5_advance_1 3 rfl rfl)
theorem dX5_advance_27 : decode cX5_advance 27 = .ok (.dup, 1) := dk_89 (dk_at dksX5_advance_1 4 rfl rfl)
theorem dX5_advance_28 : decode cX5_advance 28 = .ok (.getfield 32, 3) := dk_180 0 32 (dk_at dksX5_advance_1 5 rfl rfl)
theorem dX5_advance_31 : decode cX5_advance 31 = .ok (.iconst 1, 1) := dk_4 (dk_at dksX5_advance_1 8 rfl rfl)
theorem dX5_advance_32 : decode cX5_advance 32 = .ok (.iadd, 1) := dk_96 (dk_at dksX5_advance_1 9 rfl rfl)
theorem dX5_advance_33 : decode cX5_advance 33 = .ok (.putfield 32, 3) := dk_181 0 32 (dk_at dksX5_advance_1 10 rfl rfl)
theorem dX5_advance_36 : decode cX5_advance 36 = .ok (.goto (-36), 3) := dk_167 255 220 (dk_at dksX5_advance_1 13 rfl rfl)
theorem dX5_advance_39 : decode cX5_advance 39 = .ok (.aload_n 0, 1) := dk_42 (dk_at dksX5_advance_1 16 rfl rfl)
theorem dX5_advance_40 : decode cX5_advance 40 = .ok (.aload_n 0, 1) := dk_42 (dk_at dksX5_advance_1 17 rfl rfl)
theorem dX5_advance_41 : decode cX5_advance 41 = .ok (.getfield 32, 3) := dk_180 0 32 (dk_at dksX5_advance_1 18 rfl rfl)
theorem dX5_advance_44 : decode cX5_advance 44 = .ok (.putfield 39, 3) := dk_181 0 39 (dk_at dksX5_advance_1 21 rfl rfl)
theorem dX5_advance_47 : decode cX5_advance 47 = .ok (.aload_n 0, 1) := dk_42 (dk_at dksX5_advance_2 0 rfl rfl)
theorem dX5_advance_48 : decode cX5_advance 48 = .ok (.aload_n 0, 1) := dk_42 (dk_at dksX5_advance_2 1 rfl rfl)
theorem dX5_advance_49 : decode cX5_advance 49 = .ok (.getfield 32, 3) := dk_180 0 32 (dk_at dksX5_advance_2 2 rfl rfl)
theorem dX5_advance_52 : decode cX5_advance 52 = .ok (.invokevirtual 35, 3) := dk_182 0 35 (dk_at dksX5_advance_2 5 rfl rfl)
theorem dX5_advance_55 : decode cX5_advance 55 = .ok (.istore_n 1, 1) := dk_60 (dk_at dksX5_advance_2 8 rfl rfl)
theorem dX5_advance_56 : decode cX5_advance 56 = .ok (.iload_n 1, 1) := dk_27 (dk_at dksX5_advance_2 9 rfl rfl)
theorem dX5_advance_57 : decode cX5_advance 57 = .ok (.iconst (-1), 1) := dk_2 (dk_at dksX5_advance_2 10 rfl rfl)
theorem dX5_advance_58 : decode cX5_advance 58 = .ok (.if_icmp .ne 13, 3) := dk_160 0 13 (dk_at dksX5_advance_2 11 rfl rfl)
theorem dX5_advance_61 : decode cX5_advance 61 = .ok (.aload_n 0, 1) := dk_42 (dk_at dksX5_advance_2 14 rfl rfl)
theorem dX5_advance_62 : decode cX5_advance 62 = .ok (.getstatic 42, 3) := dk_178 0 42 (dk_at dksX5_advance_2 15 rfl rfl)
theorem dX5_advance_65 : decode cX5_advance 65 = .ok (.putfield 48, 3) := dk_181 0 48 (dk_at dksX5_advance_2 18 rfl rfl)
theorem dX5_advance_68 : decode cX5_advance 68 = .ok (.goto 261, 3) := dk_167 1 5 (dk_at dksX5_advance_2 21 rfl rfl)
theorem dX5_advance_71 : decode cX5_advance 71 = .ok (.iload_n 1, 1) := dk_27 (dk_at dksX5_advance_3 0 rfl rfl)
theorem dX5_advance_72 : decode cX5_advance 72 = .ok (.bipush 97, 2) := dk_16 97 (dk_at dksX5_advance_3 1 rfl rfl)
theorem dX5_advance_74 : decode cX5_advance 74 = .ok (.bipush 122, 2) := dk_16 122 (dk_at dksX5_advance_3 3 rfl rfl)
theorem dX5_advance_76 : decode cX5_advance 76 = .ok (.invokestatic 51, 3) := dk_184 0 51 (dk_at dksX5_advance_3 5 rfl rfl)
theorem dX5_advance_79 : decode cX5_advance 79 = .ok (.ifCond .eq 85, 3) := dk_153 0 85 (dk_at dksX5_advance_3 8 rfl rfl)
theorem dX5_advance_82 : decode cX5_advance 82 = .ok (.new 55, 3) := dk_187 0 55 (dk_at dksX5_advance_3 11 rfl rfl)
theorem dX5_advance_85 : decode cX5_advance 85 = .ok (.dup, 1) := dk_89 (dk_at dksX5_advance_3 14 rfl rfl)
theorem dX5_advance_86 : decode cX5_advance 86 = .ok (.bipush 10, 2) := dk_16 10 (dk_at dksX5_advance_3 15 rfl rfl)
theorem dX5_advance_88 : decode cX5_advance 88 = .ok (.invokespecial 57, 3) := dk_183 0 57 (dk_at dksX5_advance_3 17 rfl rfl)
theorem dX5_advance_91 : decode cX5_advance 91 = .ok (.astore_n 2, 1) := dk_77 (dk_at dksX5_advance_3 20 rfl rfl)
theorem dX5_advance_92 : decode cX5_advance 92 = .ok (.aload_n 0, 1) := dk_42 (dk_at dksX5_advance_3 21 rfl rfl)
theorem dX5_advance_93 : decode cX5_advance 93 = .ok (.aload_n 0, 1) := dk_42 (dk_at dksX5_advance_3 22 rfl rfl)
theorem dX5_advance_94 : decode cX5_advance 94 = .ok (.getfield 32, 3) := dk_180 0 32 (dk_at dksX5_advance_4 0 rfl rfl)
theorem dX5_advance_97 : decode cX5_advance 97 = .ok (.invokevirtual 35, 3) := dk_182 0 35 (dk_at dksX5_advance_4 3 rfl rfl)
theorem dX5_advance_100 : decode cX5_advance 100 = .ok (.bipush 97, 2) := dk_16 97 (dk_at dksX5_advance_4 6 rfl rfl)
theorem dX5_advance_102 : decode cX5_advance 102 = .ok (.bipush 122, 2) := dk_16 122 (dk_at dksX5_advance_4 8 rfl rfl)
theorem dX5_advance_104 : decode cX5_advance 104 = .ok (.invokestatic 51, 3) := dk_184 0 51 (dk_at dksX5_advance_4 10 rfl rfl)
theorem dX5_advance_107 : decode cX5_advance 107 = .ok (.ifCond .eq 39, 3) := dk_153 0 39 (dk_at dksX5_advance_4 13 rfl rfl)
theorem dX5_advance_110 : decode cX5_advance 110 = .ok (.aload_n 2, 1) := dk_44 (dk_at dksX5_advance_4 16 rfl rfl)
theorem dX5_advance_111 : decode cX5_advance 111 = .ok (.invokevirtual 60, 3) := dk_182 0 60 (dk_at dksX5_advance_4 17 rfl rfl)
theorem dX5_advance_114 : decode cX5_advance 114 = .ok (.bipush 8, 2) := dk_16 8 (dk_at dksX5_advance_4 20 rfl rfl)
theorem dX5_advance_116 : decode cX5_advance 116 = .ok (.if_icmp .gt 17, 3) := dk_163 0 17 (dk_at dksX5_advance_5 0 rfl rfl)
theorem dX5_advance_119 : decode cX5_advance 119 = .ok (.aload_n 2, 1) := dk_44 (dk_at dksX5_advance_5 3 rfl rfl)
theorem dX5_advance_120 : decode cX5_advance 120 = .ok (.aload_n 0, 1) := dk_42 (dk_at dksX5_advance_5 4 rfl rfl)
theorem dX5_advance_121 : decode cX5_advance 121 = .ok (.aload_n 0, 1) := dk_42 (dk_at dksX5_advance_5 5 rfl rfl)
theorem dX5_advance_122 : decode cX5_advance 122 = .ok (.getfield 32, 3) := dk_180 0 32 (dk_at dksX5_advance_5 6 rfl rfl)
theorem dX5_advance_125 : decode cX5_advance 125 = .ok (.invokevirtual 35, 3) := dk_182 0 35 (dk_at dksX5_advance_5 9 rfl rfl)
theorem dX5_advance_128 : decode cX5_advance 128 = .ok (.i2c, 1) := dk_146 (dk_at dksX5_advance_5 12 rfl rfl)
theorem dX5_advance_129 : decode cX5_advance 129 = .ok (.invokevirtual 64, 3) := dk_182 0 64 (dk_at dksX5_advance_5 13 rfl rfl)
theorem dX5_advance_132 : decode cX5_advance 132 = .ok (.pop, 1) := dk_87 (dk_at dksX5_advance_5 16 rfl rfl)
theorem dX5_advance_133 : decode cX5_advance 133 = .ok (.aload_n 0, 1) := dk_42 (dk_at dksX5_advance_5 17 rfl rfl)
theorem dX5_advance_134 : decode cX5_advance 134 = .ok (.dup, 1) := dk_89 (dk_at dksX5_advance_5 18 rfl rfl)
theorem dX5_advance_135 : decode cX5_advance 135 = .ok (.getfield 32, 3) := dk_180 0 32 (dk_at dksX5_advance_5 19 rfl rfl)
theorem dX5_advance_138 : decode cX5_advance 138 = .ok (.iconst 1, 1) := dk_4 (dk_at dksX5_advance_5 22 rfl rfl)
theorem dX5_advance_139 : decode cX5_advance 139 = .ok (.iadd, 1) := dk_96 (dk_at dksX5_advance_5 23 rfl rfl)
theorem dX5_advance_140 : decode cX5_advance 140 = .ok (.putfield 32, 3) := dk_181 0 32 (dk_at dksX5_advance_6 0 rfl rfl)
theorem dX5_advance_143 : decode cX5_advance 143 = .ok (.goto (-51), 3) := dk_167 255 205 (dk_at dksX5_advance_6 3 rfl rfl)
theorem dX5_advance_146 : decode cX5_advance 146 = .ok (.aload_n 0, 1) := dk_42 (dk_at dksX5_advance_6 6 rfl rfl)
theorem dX5_advance_147 : decode cX5_advance 147 = .ok (.aload_n 2, 1) := dk_44 (dk_at dksX5_advance_6 7 rfl rfl)
theorem dX5_advance_148 : decode cX5_advance 148 = .ok (.invokevirtual 68, 3) := dk_182 0 68 (dk_at dksX5_advance_6 8 rfl rfl)
theorem dX5_advance_151 : decode cX5_advance 151 = .ok (.putfield 17, 3) := dk_181 0 17 (dk_at dksX5_advance_6 11 rfl rfl)
theorem dX5_advance_154 : decode cX5_advance 154 = .ok (.aload_n 0, 1) := dk_42 (dk_at dksX5_advance_6 14 rfl rfl)
theorem dX5_advance_155 : decode cX5_advance 155 = .ok (.getstatic 72, 3) := dk_178 0 72 (dk_at dksX5_advance_6 15 rfl rfl)
theorem dX5_advance_158 : decode cX5_advance 158 = .ok (.putfield 48, 3) := dk_181 0 48 (dk_at dksX5_advance_6 18 rfl rfl)
theorem dX5_advance_161 : decode cX5_advance 161 = .ok (.goto 168, 3) := dk_167 0 168 (dk_at dksX5_advance_6 21 rfl rfl)
theorem dX5_advance_164 : decode cX5_advance 164 = .ok (.iload_n 1, 1) := dk_27 (dk_at dksX5_advance_7 0 rfl rfl)
theorem dX5_advance_165 : decode cX5_advance 165 = .ok (.bipush 48, 2) := dk_16 48 (dk_at dksX5_advance_7 1 rfl rfl)
theorem dX5_advance_167 : decode cX5_advance 167 = .ok (.bipush 57, 2) := dk_16 57 (dk_at dksX5_advance_7 3 rfl rfl)
theorem dX5_advance_169 : decode cX5_advance 169 = .ok (.invokestatic 51, 3) := dk_184 0 51 (dk_at dksX5_advance_7 5 rfl rfl)
theorem dX5_advance_172 : decode cX5_advance 172 = .ok (.ifCond .eq 104, 3) := dk_153 0 104 (dk_at dksX5_advance_7 8 rfl rfl)
theorem dX5_advance_175 : decode cX5_advance 175 = .ok (.aload_n 0, 1) := dk_42 (dk_at dksX5_advance_7 11 rfl rfl)
theorem dX5_advance_176 : decode cX5_advance 176 = .ok (.iconst 0, 1) := dk_3 (dk_at dksX5_advance_7 12 rfl rfl)
theorem dX5_advance_177 : decode cX5_advance 177 = .ok (.putfield 75, 3) := dk_181 0 75 (dk_at dksX5_advance_7 13 rfl rfl)
theorem dX5_advance_180 : decode cX5_advance 180 = .ok (.aload_n 0, 1) := dk_42 (dk_at dksX5_advance_7 16 rfl rfl)
theorem dX5_advance_181 : decode cX5_advance 181 = .ok (.aload_n 0, 1) := dk_42 (dk_at dksX5_advance_7 17 rfl rfl)
theorem dX5_advance_182 : decode cX5_advance 182 = .ok (.getfield 32, 3) := dk_180 0 32 (dk_at dksX5_advance_7 18 rfl rfl)
theorem dX5_advance_185 : decode cX5_advance 185 = .ok (.invokevirtual 35, 3) := dk_182 0 35 (dk_at dksX5_advance_7 21 rfl rfl)
theorem dX5_advance_188 : decode cX5_advance 188 = .ok (.bipush 48, 2) := dk_16 48 (dk_at dksX5_advance_8 0 rfl rfl)
theorem dX5_advance_190 : decode cX5_advance 190 = .ok (.bipush 57, 2) := dk_16 57 (dk_at dksX5_advance_8 2 rfl rfl)
theorem dX5_advance_192 : decode cX5_advance 192 = .ok (.invokestatic 51, 3) := dk_184 0 51 (dk_at dksX5_advance_8 4 rfl rfl)
theorem dX5_advance_195 : decode cX5_advance 195 = .ok (.ifCond .eq 52, 3) := dk_153 0 52 (dk_at dksX5_advance_8 7 rfl rfl)
theorem dX5_advance_198 : decode cX5_advance 198 = .ok (.aload_n 0, 1) := dk_42 (dk_at dksX5_advance_8 10 rfl rfl)
theorem dX5_advance_199 : decode cX5_advance 199 = .ok (.getfield 32, 3) := dk_180 0 32 (dk_at dksX5_advance_8 11 rfl rfl)
theorem dX5_advance_202 : decode cX5_advance 202 = .ok (.aload_n 0, 1) := dk_42 (dk_at dksX5_advance_8 14 rfl rfl)
theorem dX5_advance_203 : decode cX5_advance 203 = .ok (.getfield 39, 3) := dk_180 0 39 (dk_at dksX5_advance_8 15 rfl rfl)
theorem dX5_advance_206 : decode cX5_advance 206 = .ok (.isub, 1) := dk_100 (dk_at dksX5_advance_8 18 rfl rfl)
theorem dX5_advance_207 : decode cX5_advance 207 = .ok (.iconst 4, 1) := dk_7 (dk_at dksX5_advance_8 19 rfl rfl)
theorem dX5_advance_208 : decode cX5_advance 208 = .ok (.if_icmp .ge 26, 3) := dk_162 0 26 (dk_at dksX5_advance_8 20 rfl rfl)
theorem dX5_advance_211 : decode cX5_advance 211 = .ok (.aload_n 0, 1) := dk_42 (dk_at dksX5_advance_8 23 rfl rfl)
theorem dX5_advance_212 : decode cX5_advance 212 = .ok (.bipush 10, 2) := dk_16 10 (dk_at dksX5_advance_9 0 rfl rfl)
theorem dX5_advance_214 : decode cX5_advance 214 = .ok (.aload_n 0, 1) := dk_42 (dk_at dksX5_advance_9 2 rfl rfl)
theorem dX5_advance_215 : decode cX5_advance 215 = .ok (.getfield 75, 3) := dk_180 0 75 (dk_at dksX5_advance_9 3 rfl rfl)
theorem dX5_advance_218 : decode cX5_advance 218 = .ok (.imul, 1) := dk_104 (dk_at dksX5_advance_9 6 rfl rfl)
theorem dX5_advance_219 : decode cX5_advance 219 = .ok (.aload_n 0, 1) := dk_42 (dk_at dksX5_advance_9 7 rfl rfl)
theorem dX5_advance_220 : decode cX5_advance 220 = .ok (.aload_n 0, 1) := dk_42 (dk_at dksX5_advance_9 8 rfl rfl)
theorem dX5_advance_221 : decode cX5_advance 221 = .ok (.getfield 32, 3) := dk_180 0 32 (dk_at dksX5_advance_9 9 rfl rfl)
theorem dX5_advance_224 : decode cX5_advance 224 = .ok (.invokevirtual 35, 3) := dk_182 0 35 (dk_at dksX5_advance_9 12 rfl rfl)
theorem dX5_advance_227 : decode cX5_advance 227 = .ok (.iadd, 1) := dk_96 (dk_at dksX5_advance_9 15 rfl rfl)
theorem dX5_advance_228 : decode cX5_advance 228 = .ok (.bipush 48, 2) := dk_16 48 (dk_at dksX5_advance_9 16 rfl rfl)
theorem dX5_advance_230 : decode cX5_advance 230 = .ok (.isub, 1) := dk_100 (dk_at dksX5_advance_9 18 rfl rfl)
theorem dX5_advance_231 : decode cX5_advance 231 = .ok (.putfield 75, 3) := dk_181 0 75 (dk_at dksX5_advance_9 19 rfl rfl)
theorem dX5_advance_234 : decode cX5_advance 234 = .ok (.aload_n 0, 1) := dk_42 (dk_at dksX5_advance_9 22 rfl rfl)
theorem dX5_advance_235 : decode cX5_advance 235 = .ok (.dup, 1) := dk_89 (dk_at dksX5_advance_9 23 rfl rfl)
theorem dX5_advance_236 : decode cX5_advance 236 = .ok (.getfield 32, 3) := dk_180 0 32 (dk_at dksX5_advance_10 0 rfl rfl)
theorem dX5_advance_239 : decode cX5_advance 239 = .ok (.iconst 1, 1) := dk_4 (dk_at dksX5_advance_10 3 rfl rfl)
theorem dX5_advance_240 : decode cX5_advance 240 = .ok (.iadd, 1) := dk_96 (dk_at dksX5_advance_10 4 rfl rfl)
theorem dX5_advance_241 : decode cX5_advance 241 = .ok (.putfield 32, 3) := dk_181 0 32 (dk_at dksX5_advance_10 5 rfl rfl)
theorem dX5_advance_244 : decode cX5_advance 244 = .ok (.goto (-64), 3) := dk_167 255 192 (dk_at dksX5_advance_10 8 rfl rfl)
theorem dX5_advance_247 : decode cX5_advance 247 = .ok (.aload_n 0, 1) := dk_42 (dk_at dksX5_advance_10 11 rfl rfl)
theorem dX5_advance_248 : decode cX5_advance 248 = .ok (.aload_n 0, 1) := dk_42 (dk_at dksX5_advance_10 12 rfl rfl)
theorem dX5_advance_249 : decode cX5_advance 249 = .ok (.getfield 32, 3) := dk_180 0 32 (dk_at dksX5_advance_10 13 rfl rfl)
theorem dX5_advance_252 : decode cX5_advance 252 = .ok (.aload_n 0, 1) := dk_42 (dk_at dksX5_advance_10 16 rfl rfl)
theorem dX5_advance_253 : decode cX5_advance 253 = .ok (.getfield 39, 3) := dk_180 0 39 (dk_at dksX5_advance_10 17 rfl rfl)
theorem dX5_advance_256 : decode cX5_advance 256 = .ok (.isub, 1) := dk_100 (dk_at dksX5_advance_10 20 rfl rfl)
theorem dX5_advance_257 : decode cX5_advance 257 = .ok (.iconst 4, 1) := dk_7 (dk_at dksX5_advance_10 21 rfl rfl)
theorem dX5_advance_258 : decode cX5_advance 258 = .ok (.if_icmp .le 9, 3) := dk_164 0 9 (dk_at dksX5_advance_11 0 rfl rfl)
theorem dX5_advance_261 : decode cX5_advance 261 = .ok (.getstatic 78, 3) := dk_178 0 78 (dk_at dksX5_advance_11 3 rfl rfl)
theorem dX5_advance_264 : decode cX5_advance 264 = .ok (.goto 6, 3) := dk_167 0 6 (dk_at dksX5_advance_11 6 rfl rfl)
theorem dX5_advance_267 : decode cX5_advance 267 = .ok (.getstatic 81, 3) := dk_178 0 81 (dk_at dksX5_advance_11 9 rfl rfl)
theorem dX5_advance_270 : decode cX5_advance 270 = .ok (.putfield 48, 3) := dk_181 0 48 (dk_at dksX5_advance_11 12 rfl rfl)
theorem dX5_advance_273 : decode cX5_advance 273 = .ok (.goto 56, 3) := dk_167 0 56 (dk_at dksX5_advance_11 15 rfl rfl)
theorem dX5_advance_276 : decode cX5_advance 276 = .ok (.aload_n 0, 1) := dk_42 (dk_at dksX5_advance_11 18 rfl rfl)
theorem dX5_advance_277 : decode cX5_advance 277 = .ok (.dup, 1) := dk_89 (dk_at dksX5_advance_11 19 rfl rfl)
theorem dX5_advance_278 : decode cX5_advance 278 = .ok (.getfield 32, 3) := dk_180 0 32 (dk_at dksX5_advance_11 20 rfl rfl)
theorem dX5_advance_281 : decode cX5_advance 281 = .ok (.iconst 1, 1) := dk_4 (dk_at dksX5_advance_11 23 rfl rfl)
theorem dX5_advance_282 : decode cX5_advance 282 = .ok (.iadd, 1) := dk_96 (dk_at dksX5_advance_12 0 rfl rfl)
theorem dX5_advance_283 : decode cX5_advance 283 = .ok (.putfield 32, 3) := dk_181 0 32 (dk_at dksX5_advance_12 1 rfl rfl)
theorem dX5_advance_286 : decode cX5_advance 286 = .ok (.aload_n 0, 1) := dk_42 (dk_at dksX5_advance_12 4 rfl rfl)
theorem dX5_advance_287 : decode cX5_advance 287 = .ok (.iload_n 1, 1) := dk_27 (dk_at dksX5_advance_12 5 rfl rfl)
theorem dX5_advance_288 : decode cX5_advance 288 = .ok (.bipush 59, 2) := dk_16 59 (dk_at dksX5_advance_12 6 rfl rfl)
theorem dX5_advance_290 : decode cX5_advance 290 = .ok (.if_icmp .ne 9, 3) := dk_160 0 9 (dk_at dksX5_advance_12 8 rfl rfl)
theorem dX5_advance_293 : decode cX5_advance 293 = .ok (.getstatic 84, 3) := dk_178 0 84 (dk_at dksX5_advance_12 11 rfl rfl)
theorem dX5_advance_296 : decode cX5_advance 296 = .ok (.goto 30, 3) := dk_167 0 30 (dk_at dksX5_advance_12 14 rfl rfl)
theorem dX5_advance_299 : decode cX5_advance 299 = .ok (.iload_n 1, 1) := dk_27 (dk_at dksX5_advance_12 17 rfl rfl)
theorem dX5_advance_300 : decode cX5_advance 300 = .ok (.bipush 58, 2) := dk_16 58 (dk_at dksX5_advance_12 18 rfl rfl)
theorem dX5_advance_302 : decode cX5_advance 302 = .ok (.if_icmp .ne 9, 3) := dk_160 0 9 (dk_at dksX5_advance_12 20 rfl rfl)
theorem dX5_advance_305 : decode cX5_advance 305 = .ok (.getstatic 87, 3) := dk_178 0 87 (dk_at dksX5_advance_13 0 rfl rfl)
theorem dX5_advance_308 : decode cX5_advance 308 = .ok (.goto 18, 3) := dk_167 0 18 (dk_at dksX5_advance_13 3 rfl rfl)
theorem dX5_advance_311 : decode cX5_advance 311 = .ok (.iload_n 1, 1) := dk_27 (dk_at dksX5_advance_13 6 rfl rfl)
theorem dX5_advance_312 : decode cX5_advance 312 = .ok (.bipush 45, 2) := dk_16 45 (dk_at dksX5_advance_13 7 rfl rfl)
theorem dX5_advance_314 : decode cX5_advance 314 = .ok (.if_icmp .ne 9, 3) := dk_160 0 9 (dk_at dksX5_advance_13 9 rfl rfl)
theorem dX5_advance_317 : decode cX5_advance 317 = .ok (.getstatic 90, 3) := dk_178 0 90 (dk_at dksX5_advance_13 12 rfl rfl)
theorem dX5_advance_320 : decode cX5_advance 320 = .ok (.goto 6, 3) := dk_167 0 6 (dk_at dksX5_advance_13 15 rfl rfl)
theorem dX5_advance_323 : decode cX5_advance 323 = .ok (.getstatic 78, 3) := dk_178 0 78 (dk_at dksX5_advance_13 18 rfl rfl)
theorem dX5_advance_326 : decode cX5_advance 326 = .ok (.putfield 48, 3) := dk_181 0 48 (dk_at dksX5_advance_13 21 rfl rfl)
theorem dX5_advance_329 : decode cX5_advance 329 = .ok (.return_, 1) := dk_177 (dk_at dksX5_advance_14 0 rfl rfl)
abbrev cX5_at : ByteArray := prog_10_method_2_code
def yX5_at : MethodName := ⟨RX5, "at", "(I)I"⟩
def dkwX5_at_1 : List UInt8 := [2, 172]
abbrev dktX5_at_1 : List UInt8 := dkwX5_at_1 ++ []
def dkwX5_at_0 : List UInt8 := [27, 42, 180, 0, 21, 162, 0, 19, 42, 180, 0, 3, 180, 0, 28, 27, 51, 17, 0, 255, 126, 167, 0, 4]
abbrev dktX5_at_0 : List UInt8 := dkwX5_at_0 ++ dktX5_at_1
theorem dksX5_at_0 : cX5_at.data.toList.drop 0 = dktX5_at_0 := by decide +kernel
theorem dksX5_at_1 : cX5_at.data.toList.drop 24 = dktX5_at_1 := dk_seg dksX5_at_0 24 rfl rfl
theorem dX5_at_0 : decode cX5_at 0 = .ok (.iload_n 1, 1) := dk_27 (dk_at dksX5_at_0 0 rfl rfl)
theorem dX5_at_1 : decode cX5_at 1 = .ok (.aload_n 0, 1) := dk_42 (dk_at dksX5_at_0 1 rfl rfl)
theorem dX5_at_2 : decode cX5_at 2 = .ok (.getfield 21, 3) := dk_180 0 21 (dk_at dksX5_at_0 2 rfl rfl)
theorem dX5_at_5 : decode cX5_at 5 = .ok (.if_icmp .ge 19, 3) := dk_162 0 19 (dk_at dksX5_at_0 5 rfl rfl)
theorem dX5_at_8 : decode cX5_at 8 = .ok (.aload_n 0, 1) := dk_42 (dk_at dksX5_at_0 8 rfl rfl)
theorem dX5_at_9 : decode cX5_at 9 = .ok (.getfield 3, 3) := dk_180 0 3 (dk_at dksX5_at_0 9 rfl rfl)
theorem dX5_at_12 : decode cX5_at 12 = .ok (.getfield 28, 3) := dk_180 0 28 (dk_at dksX5_at_0 12 rfl rfl)
theorem dX5_at_15 : decode cX5_at 15 = .ok (.iload_n 1, 1) := dk_27 (dk_at dksX5_at_0 15 rfl rfl)
theorem dX5_at_16 : decode cX5_at 16 = .ok (.baload, 1) := dk_51 (dk_at dksX5_at_0 16 rfl rfl)
theorem dX5_at_17 : decode cX5_at 17 = .ok (.sipush 255, 3) := dk_17 0 255 (dk_at dksX5_at_0 17 rfl rfl)
theorem dX5_at_20 : decode cX5_at 20 = .ok (.iand, 1) := dk_126 (dk_at dksX5_at_0 20 rfl rfl)
theorem dX5_at_21 : decode cX5_at 21 = .ok (.goto 4, 3) := dk_167 0 4 (dk_at dksX5_at_0 21 rfl rfl)
theorem dX5_at_24 : decode cX5_at 24 = .ok (.iconst (-1), 1) := dk_2 (dk_at dksX5_at_1 0 rfl rfl)
theorem dX5_at_25 : decode cX5_at 25 = .ok (.ireturn, 1) := dk_172 (dk_at dksX5_at_1 1 rfl rfl)
abbrev cX5_parse : ByteArray := prog_10_method_11_code
def yX5_parse : MethodName := ⟨RX5, "parse", "()LCountedSkipLists$State;"⟩
def dkwX5_parse_7 : List UInt8 := [180, 0, 115, 176]
abbrev dktX5_parse_7 : List UInt8 := dkwX5_parse_7 ++ []
def dkwX5_parse_6 : List UInt8 := [183, 0, 164, 184, 0, 165, 42, 180, 0, 115, 180, 0, 119, 27, 44, 83, 132, 1, 1, 167, 255, 180, 42]
abbrev dktX5_parse_6 : List UInt8 := dkwX5_parse_6 ++ dktX5_parse_7
def dkwX5_parse_5 : List UInt8 := [182, 0, 135, 42, 182, 0, 153, 182, 0, 157, 77, 44, 42, 180, 0, 115, 180, 0, 160, 187, 0, 162, 89]
abbrev dktX5_parse_5 : List UInt8 := dkwX5_parse_5 ++ dktX5_parse_6
def dkwX5_parse_4 : List UInt8 := [42, 42, 18, 151, 182, 0, 146, 4, 182, 0, 98, 42, 27, 16, 6, 162, 0, 7, 4, 167, 0, 4, 3, 8]
abbrev dktX5_parse_4 : List UInt8 := dkwX5_parse_4 ++ dktX5_parse_5
def dkwX5_parse_3 : List UInt8 := [166, 0, 7, 4, 167, 0, 4, 3, 4, 182, 0, 135, 3, 60, 42, 180, 0, 48, 178, 0, 42, 165, 0, 72]
abbrev dktX5_parse_3 : List UInt8 := dkwX5_parse_3 ++ dktX5_parse_4
def dkwX5_parse_2 : List UInt8 := [42, 180, 0, 75, 5, 16, 7, 184, 0, 51, 5, 182, 0, 135, 42, 42, 180, 0, 48, 178, 0, 84]
abbrev dktX5_parse_2 : List UInt8 := dkwX5_parse_2 ++ dktX5_parse_3
def dkwX5_parse_1 : List UInt8 := [167, 0, 4, 3, 4, 182, 0, 98, 42, 187, 0, 120, 89, 42, 180, 0, 75, 183, 0, 150, 181, 0, 115, 42]
abbrev dktX5_parse_1 : List UInt8 := dkwX5_parse_1 ++ dktX5_parse_2
def dkwX5_parse_0 : List UInt8 := [42, 42, 18, 144, 182, 0, 146, 4, 182, 0, 135, 42, 42, 180, 0, 48, 178, 0, 81, 166, 0, 7, 4]
abbrev dktX5_parse_0 : List UInt8 := dkwX5_parse_0 ++ dktX5_parse_1
theorem dksX5_parse_0 : cX5_parse.data.toList.drop 0 = dktX5_parse_0 := by decide +kernel
theorem dksX5_parse_1 : cX5_parse.data.toList.drop 23 = dktX5_parse_1 := dk_seg dksX5_parse_0 23 rfl rfl
theorem dksX5_parse_2 : cX5_parse.data.toList.drop 47 = dktX5_parse_2 := dk_seg dksX5_parse_1 24 rfl rfl
theorem dksX5_parse_3 : cX5_parse.data.toList.drop 69 = dktX5_parse_3 := dk_seg dksX5_parse_2 22 rfl rfl
theorem dksX5_parse_4 : cX5_parse.data.toList.drop 93 = dktX5_parse_4 := dk_seg dksX5_parse_3 24 rfl rfl
theorem dksX5_parse_5 : cX5_parse.data.toList.drop 117 = dktX5_parse_5 := dk_seg dksX5_parse_4 24 rfl rfl
theorem dksX5_parse_6 : cX5_parse.data.toList.drop 140 = dktX5_parse_6 := dk_seg dksX5_parse_5 23 rfl rfl
theorem dksX5_parse_7 : cX5_parse.data.toList.drop 163 = dktX5_parse_7 := dk_seg dksX5_parse_6 23 rfl rfl
theorem dX5_parse_0 : decode cX5_parse 0 = .ok (.aload_n 0, 1) := dk_42 (dk_at dksX5_parse_0 0 rfl rfl)
theorem dX5_parse_1 : decode cX5_parse 1 = .ok (.aload_n 0, 1) := dk_42 (dk_at dksX5_parse_0 1 rfl rfl)
theorem dX5_parse_2 : decode cX5_parse 2 = .ok (.ldc 144, 2) := dk_18 144 (dk_at dksX5_parse_0 2 rfl rfl)
theorem dX5_parse_4 : decode cX5_parse 4 = .ok (.invokevirtual 146, 3) := dk_182 0 146 (dk_at dksX5_parse_0 4 rfl rfl)
theorem dX5_parse_7 : decode cX5_parse 7 = .ok (.iconst 1, 1) := dk_4 (dk_at dksX5_parse_0 7 rfl rfl)
theorem dX5_parse_8 : decode cX5_parse 8 = .ok (.invokevirtual 135, 3) := dk_182 0 135 (dk_at dksX5_parse_0 8 rfl rfl)
theorem dX5_parse_11 : decode cX5_parse 11 = .ok (.aload_n 0, 1) := dk_42 (dk_at dksX5_parse_0 11 rfl rfl)
theorem dX5_parse_12 : decode cX5_parse 12 = .ok (.aload_n 0, 1) := dk_42 (dk_at dksX5_parse_0 12 rfl rfl)
theorem dX5_parse_13 : decode cX5_parse 13 = .ok (.getfield 48, 3) := dk_180 0 48 (dk_at dksX5_parse_0 13 rfl rfl)
theorem dX5_parse_16 : decode cX5_parse 16 = .ok (.getstatic 81, 3) := dk_178 0 81 (dk_at dksX5_parse_0 16 rfl rfl)
theorem dX5_parse_19 : decode cX5_parse 19 = .ok (.if_acmp .ne 7, 3) := dk_166 0 7 (dk_at dksX5_parse_0 19 rfl rfl)
theorem dX5_parse_22 : decode cX5_parse 22 = .ok (.iconst 1, 1) := dk_4 (dk_at dksX5_parse_0 22 rfl rfl)
theorem dX5_parse_23 : decode cX5_parse 23 = .ok (.goto 4, 3) := dk_167 0 4 (dk_at dksX5_parse_1 0 rfl rfl)
theorem dX5_parse_26 : decode cX5_parse 26 = .ok (.iconst 0, 1) := dk_3 (dk_at dksX5_parse_1 3 rfl rfl)
theorem dX5_parse_27 : decode cX5_parse 27 = .ok (.iconst 1, 1) := dk_4 (dk_at dksX5_parse_1 4 rfl rfl)
theorem dX5_parse_28 : decode cX5_parse 28 = .ok (.invokevirtual 98, 3) := dk_182 0 98 (dk_at dksX5_parse_1 5 rfl rfl)
theorem dX5_parse_31 : decode cX5_parse 31 = .ok (.aload_n 0, 1) := dk_42 (dk_at dksX5_parse_1 8 rfl rfl)
theorem dX5_parse_32 : decode cX5_parse 32 = .ok (.new 120, 3) := dk_187 0 120 (dk_at dksX5_parse_1 9 rfl rfl)
theorem dX5_parse_35 : decode cX5_parse 35 = .ok (.dup, 1) := dk_89 (dk_at dksX5_parse_1 12 rfl rfl)
theorem dX5_parse_36 : decode cX5_parse 36 = .ok (.aload_n 0, 1) := dk_42 (dk_at dksX5_parse_1 13 rfl rfl)
theorem dX5_parse_37 : decode cX5_parse 37 = .ok (.getfield 75, 3) := dk_180 0 75 (dk_at dksX5_parse_1 14 rfl rfl)
theorem dX5_parse_40 : decode cX5_parse 40 = .ok (.invokespecial 150, 3) := dk_183 0 150 (dk_at dksX5_parse_1 17 rfl rfl)
theorem dX5_parse_43 : decode cX5_parse 43 = .ok (.putfield 115, 3) := dk_181 0 115 (dk_at dksX5_parse_1 20 rfl rfl)
theorem dX5_parse_46 : decode cX5_parse 46 = .ok (.aload_n 0, 1) := dk_42 (dk_at dksX5_parse_1 23 rfl rfl)
theorem dX5_parse_47 : decode cX5_parse 47 = .ok (.aload_n 0, 1) := dk_42 (dk_at dksX5_parse_2 0 rfl rfl)
theorem dX5_parse_48 : decode cX5_parse 48 = .ok (.getfield 75, 3) := dk_180 0 75 (dk_at dksX5_parse_2 1 rfl rfl)
theorem dX5_parse_51 : decode cX5_parse 51 = .ok (.iconst 2, 1) := dk_5 (dk_at dksX5_parse_2 4 rfl rfl)
theorem dX5_parse_52 : decode cX5_parse 52 = .ok (.bipush 7, 2) := dk_16 7 (dk_at dksX5_parse_2 5 rfl rfl)
theorem dX5_parse_54 : decode cX5_parse 54 = .ok (.invokestatic 51, 3) := dk_184 0 51 (dk_at dksX5_parse_2 7 rfl rfl)
theorem dX5_parse_57 : decode cX5_parse 57 = .ok (.iconst 2, 1) := dk_5 (dk_at dksX5_parse_2 10 rfl rfl)
theorem dX5_parse_58 : decode cX5_parse 58 = .ok (.invokevirtual 135, 3) := dk_182 0 135 (dk_at dksX5_parse_2 11 rfl rfl)
theorem dX5_parse_61 : decode cX5_parse 61 = .ok (.aload_n 0, 1) := dk_42 (dk_at dksX5_parse_2 14 rfl rfl)
theorem dX5_parse_62 : decode cX5_parse 62 = .ok (.aload_n 0, 1) := dk_42 (dk_at dksX5_parse_2 15 rfl rfl)
theorem dX5_parse_63 : decode cX5_parse 63 = .ok (.getfield 48, 3) := dk_180 0 48 (dk_at dksX5_parse_2 16 rfl rfl)
theorem dX5_parse_66 : decode cX5_parse 66 = .ok (.getstatic 84, 3) := dk_178 0 84 (dk_at dksX5_parse_2 19 rfl rfl)
theorem dX5_parse_69 : decode cX5_parse 69 = .ok (.if_acmp .ne 7, 3) := dk_166 0 7 (dk_at dksX5_parse_3 0 rfl rfl)
theorem dX5_parse_72 : decode cX5_parse 72 = .ok (.iconst 1, 1) := dk_4 (dk_at dksX5_parse_3 3 rfl rfl)
theorem dX5_parse_73 : decode cX5_parse 73 = .ok (.goto 4, 3) := dk_167 0 4 (dk_at dksX5_parse_3 4 rfl rfl)
theorem dX5_parse_76 : decode cX5_parse 76 = .ok (.iconst 0, 1) := dk_3 (dk_at dksX5_parse_3 7 rfl rfl)
theorem dX5_parse_77 : decode cX5_parse 77 = .ok (.iconst 1, 1) := dk_4 (dk_at dksX5_parse_3 8 rfl rfl)
theorem dX5_parse_78 : decode cX5_parse 78 = .ok (.invokevirtual 135, 3) := dk_182 0 135 (dk_at dksX5_parse_3 9 rfl rfl)
theorem dX5_parse_81 : decode cX5_parse 81 = .ok (.iconst 0, 1) := dk_3 (dk_at dksX5_parse_3 12 rfl rfl)
theorem dX5_parse_82 : decode cX5_parse 82 = .ok (.istore_n 1, 1) := dk_60 (dk_at dksX5_parse_3 13 rfl rfl)
theorem dX5_parse_83 : decode cX5_parse 83 = .ok (.aload_n 0, 1) := dk_42 (dk_at dksX5_parse_3 14 rfl rfl)
theorem dX5_parse_84 : decode cX5_parse 84 = .ok (.getfield 48, 3) := dk_180 0 48 (dk_at dksX5_parse_3 15 rfl rfl)
theorem dX5_parse_87 : decode cX5_parse 87 = .ok (.getstatic 42, 3) := dk_178 0 42 (dk_at dksX5_parse_3 18 rfl rfl)
theorem dX5_parse_90 : decode cX5_parse 90 = .ok (.if_acmp .eq 72, 3) := dk_165 0 72 (dk_at dksX5_parse_3 21 rfl rfl)
theorem dX5_parse_93 : decode cX5_parse 93 = .ok (.aload_n 0, 1) := dk_42 (dk_at dksX5_parse_4 0 rfl rfl)
theorem dX5_parse_94 : decode cX5_parse 94 = .ok (.aload_n 0, 1) := dk_42 (dk_at dksX5_parse_4 1 rfl rfl)
theorem dX5_parse_95 : decode cX5_parse 95 = .ok (.ldc 151, 2) := dk_18 151 (dk_at dksX5_parse_4 2 rfl rfl)
theorem dX5_parse_97 : decode cX5_parse 97 = .ok (.invokevirtual 146, 3) := dk_182 0 146 (dk_at dksX5_parse_4 4 rfl rfl)
theorem dX5_parse_100 : decode cX5_parse 100 = .ok (.iconst 1, 1) := dk_4 (dk_at dksX5_parse_4 7 rfl rfl)
theorem dX5_parse_101 : decode cX5_parse 101 = .ok (.invokevirtual 98, 3) := dk_182 0 98 (dk_at dksX5_parse_4 8 rfl rfl)
theorem dX5_parse_104 : decode cX5_parse 104 = .ok (.aload_n 0, 1) := dk_42 (dk_at dksX5_parse_4 11 rfl rfl)
theorem dX5_parse_105 : decode cX5_parse 105 = .ok (.iload_n 1, 1) := dk_27 (dk_at dksX5_parse_4 12 rfl rfl)
theorem dX5_parse_106 : decode cX5_parse 106 = .ok (.bipush 6, 2) := dk_16 6 (dk_at dksX5_parse_4 13 rfl rfl)
theorem dX5_parse_108 : decode cX5_parse 108 = .ok (.if_icmp .ge 7, 3) := dk_162 0 7 (dk_at dksX5_parse_4 15 rfl rfl)
theorem dX5_parse_111 : decode cX5_parse 111 = .ok (.iconst 1, 1) := dk_4 (dk_at dksX5_parse_4 18 rfl rfl)
theorem dX5_parse_112 : decode cX5_parse 112 = .ok (.goto 4, 3) := dk_167 0 4 (dk_at dksX5_parse_4 19 rfl rfl)
theorem dX5_parse_115 : decode cX5_parse 115 = .ok (.iconst 0, 1) := dk_3 (dk_at dksX5_parse_4 22 rfl rfl)
theorem dX5_parse_116 : decode cX5_parse 116 = .ok (.iconst 5, 1) := dk_8 (dk_at dksX5_parse_4 23 rfl rfl)
theorem dX5_parse_117 : decode cX5_parse 117 = .ok (.invokevirtual 135, 3) := dk_182 0 135 (dk_at dksX5_parse_5 0 rfl rfl)
theorem dX5_parse_120 : decode cX5_parse 120 = .ok (.aload_n 0, 1) := dk_42 (dk_at dksX5_parse_5 3 rfl rfl)
theorem dX5_parse_121 : decode cX5_parse 121 = .ok (.invokevirtual 153, 3) := dk_182 0 153 (dk_at dksX5_parse_5 4 rfl rfl)
theorem dX5_parse_124 : decode cX5_parse 124 = .ok (.invokevirtual 157, 3) := dk_182 0 157 (dk_at dksX5_parse_5 7 rfl rfl)
theorem dX5_parse_127 : decode cX5_parse 127 = .ok (.astore_n 2, 1) := dk_77 (dk_at dksX5_parse_5 10 rfl rfl)
theorem dX5_parse_128 : decode cX5_parse 128 = .ok (.aload_n 2, 1) := dk_44 (dk_at dksX5_parse_5 11 rfl rfl)
theorem dX5_parse_129 : decode cX5_parse 129 = .ok (.aload_n 0, 1) := dk_42 (dk_at dksX5_parse_5 12 rfl rfl)
theorem dX5_parse_130 : decode cX5_parse 130 = .ok (.getfield 115, 3) := dk_180 0 115 (dk_at dksX5_parse_5 13 rfl rfl)
theorem dX5_parse_133 : decode cX5_parse 133 = .ok (.getfield 160, 3) := dk_180 0 160 (dk_at dksX5_parse_5 16 rfl rfl)
theorem dX5_parse_136 : decode cX5_parse 136 = .ok (.new 162, 3) := dk_187 0 162 (dk_at dksX5_parse_5 19 rfl rfl)
theorem dX5_parse_139 : decode cX5_parse 139 = .ok (.dup, 1) := dk_89 (dk_at dksX5_parse_5 22 rfl rfl)
theorem dX5_parse_140 : decode cX5_parse 140 = .ok (.invokespecial 164, 3) := dk_183 0 164 (dk_at dksX5_parse_6 0 rfl rfl)
theorem dX5_parse_143 : decode cX5_parse 143 = .ok (.invokestatic 165, 3) := dk_184 0 165 (dk_at dksX5_parse_6 3 rfl rfl)
theorem dX5_parse_146 : decode cX5_parse 146 = .ok (.aload_n 0, 1) := dk_42 (dk_at dksX5_parse_6 6 rfl rfl)
theorem dX5_parse_147 : decode cX5_parse 147 = .ok (.getfield 115, 3) := dk_180 0 115 (dk_at dksX5_parse_6 7 rfl rfl)
theorem dX5_parse_150 : decode cX5_parse 150 = .ok (.getfield 119, 3) := dk_180 0 119 (dk_at dksX5_parse_6 10 rfl rfl)
theorem dX5_parse_153 : decode cX5_parse 153 = .ok (.iload_n 1, 1) := dk_27 (dk_at dksX5_parse_6 13 rfl rfl)
theorem dX5_parse_154 : decode cX5_parse 154 = .ok (.aload_n 2, 1) := dk_44 (dk_at dksX5_parse_6 14 rfl rfl)
theorem dX5_parse_155 : decode cX5_parse 155 = .ok (.aastore, 1) := dk_83 (dk_at dksX5_parse_6 15 rfl rfl)
theorem dX5_parse_156 : decode cX5_parse 156 = .ok (.iinc 1 1, 3) := dk_132 1 1 (dk_at dksX5_parse_6 16 rfl rfl)
theorem dX5_parse_159 : decode cX5_parse 159 = .ok (.goto (-76), 3) := dk_167 255 180 (dk_at dksX5_parse_6 19 rfl rfl)
theorem dX5_parse_162 : decode cX5_parse 162 = .ok (.aload_n 0, 1) := dk_42 (dk_at dksX5_parse_6 22 rfl rfl)
theorem dX5_parse_163 : decode cX5_parse 163 = .ok (.getfield 115, 3) := dk_180 0 115 (dk_at dksX5_parse_7 0 rfl rfl)
theorem dX5_parse_166 : decode cX5_parse 166 = .ok (.areturn, 1) := dk_176 (dk_at dksX5_parse_7 3 rfl rfl)
abbrev cX5_isWord : ByteArray := prog_10_method_6_code
def yX5_isWord : MethodName := ⟨RX5, "isWord", "(Ljava/lang/String;)Z"⟩
def dkwX5_isWord_1 : List UInt8 := [167, 0, 4, 3, 172]
abbrev dktX5_isWord_1 : List UInt8 := dkwX5_isWord_1 ++ []
def dkwX5_isWord_0 : List UInt8 := [42, 180, 0, 48, 178, 0, 72, 166, 0, 18, 42, 180, 0, 17, 43, 182, 0, 102, 153, 0, 7, 4]
abbrev dktX5_isWord_0 : List UInt8 := dkwX5_isWord_0 ++ dktX5_isWord_1
theorem dksX5_isWord_0 : cX5_isWord.data.toList.drop 0 = dktX5_isWord_0 := by decide +kernel
theorem dksX5_isWord_1 : cX5_isWord.data.toList.drop 22 = dktX5_isWord_1 := dk_seg dksX5_isWord_0 22 rfl rfl
theorem dX5_isWord_0 : decode cX5_isWord 0 = .ok (.aload_n 0, 1) := dk_42 (dk_at dksX5_isWord_0 0 rfl rfl)
theorem dX5_isWord_1 : decode cX5_isWord 1 = .ok (.getfield 48, 3) := dk_180 0 48 (dk_at dksX5_isWord_0 1 rfl rfl)
theorem dX5_isWord_4 : decode cX5_isWord 4 = .ok (.getstatic 72, 3) := dk_178 0 72 (dk_at dksX5_isWord_0 4 rfl rfl)
theorem dX5_isWord_7 : decode cX5_isWord 7 = .ok (.if_acmp .ne 18, 3) := dk_166 0 18 (dk_at dksX5_isWord_0 7 rfl rfl)
theorem dX5_isWord_10 : decode cX5_isWord 10 = .ok (.aload_n 0, 1) := dk_42 (dk_at dksX5_isWord_0 10 rfl rfl)
theorem dX5_isWord_11 : decode cX5_isWord 11 = .ok (.getfield 17, 3) := dk_180 0 17 (dk_at dksX5_isWord_0 11 rfl rfl)
theorem dX5_isWord_14 : decode cX5_isWord 14 = .ok (.aload_n 1, 1) := dk_43 (dk_at dksX5_isWord_0 14 rfl rfl)
theorem dX5_isWord_15 : decode cX5_isWord 15 = .ok (.invokevirtual 102, 3) := dk_182 0 102 (dk_at dksX5_isWord_0 15 rfl rfl)
theorem dX5_isWord_18 : decode cX5_isWord 18 = .ok (.ifCond .eq 7, 3) := dk_153 0 7 (dk_at dksX5_isWord_0 18 rfl rfl)
theorem dX5_isWord_21 : decode cX5_isWord 21 = .ok (.iconst 1, 1) := dk_4 (dk_at dksX5_isWord_0 21 rfl rfl)
theorem dX5_isWord_22 : decode cX5_isWord 22 = .ok (.goto 4, 3) := dk_167 0 4 (dk_at dksX5_isWord_1 0 rfl rfl)
theorem dX5_isWord_25 : decode cX5_isWord 25 = .ok (.iconst 0, 1) := dk_3 (dk_at dksX5_isWord_1 3 rfl rfl)
theorem dX5_isWord_26 : decode cX5_isWord 26 = .ok (.ireturn, 1) := dk_172 (dk_at dksX5_isWord_1 4 rfl rfl)
abbrev cX5_take : ByteArray := prog_10_method_5_code
def yX5_take : MethodName := ⟨RX5, "take", "(ZI)V"⟩
def dkwX5_take_0 : List UInt8 := [42, 27, 28, 182, 0, 98, 42, 182, 0, 25, 177]
abbrev dktX5_take_0 : List UInt8 := dkwX5_take_0 ++ []
theorem dksX5_take_0 : cX5_take.data.toList.drop 0 = dktX5_take_0 := by decide +kernel
theorem dX5_take_0 : decode cX5_take 0 = .ok (.aload_n 0, 1) := dk_42 (dk_at dksX5_take_0 0 rfl rfl)
theorem dX5_take_1 : decode cX5_take 1 = .ok (.iload_n 1, 1) := dk_27 (dk_at dksX5_take_0 1 rfl rfl)
theorem dX5_take_2 : decode cX5_take 2 = .ok (.iload_n 2, 1) := dk_28 (dk_at dksX5_take_0 2 rfl rfl)
theorem dX5_take_3 : decode cX5_take 3 = .ok (.invokevirtual 98, 3) := dk_182 0 98 (dk_at dksX5_take_0 3 rfl rfl)
theorem dX5_take_6 : decode cX5_take 6 = .ok (.aload_n 0, 1) := dk_42 (dk_at dksX5_take_0 6 rfl rfl)
theorem dX5_take_7 : decode cX5_take 7 = .ok (.invokevirtual 25, 3) := dk_182 0 25 (dk_at dksX5_take_0 7 rfl rfl)
theorem dX5_take_10 : decode cX5_take 10 = .ok (.return_, 1) := dk_177 (dk_at dksX5_take_0 10 rfl rfl)
abbrev cX5_require : ByteArray := prog_10_method_4_code
def yX5_require : MethodName := ⟨RX5, "require", "(ZI)V"⟩
def dkwX5_require_0 : List UInt8 := [27, 154, 0, 16, 187, 0, 93, 89, 28, 42, 180, 0, 39, 183, 0, 95, 191, 177]
abbrev dktX5_require_0 : List UInt8 := dkwX5_require_0 ++ []
theorem dksX5_require_0 : cX5_require.data.toList.drop 0 = dktX5_require_0 := by decide +kernel
theorem dX5_require_0 : decode cX5_require 0 = .ok (.iload_n 1, 1) := dk_27 (dk_at dksX5_require_0 0 rfl rfl)
theorem dX5_require_1 : decode cX5_require 1 = .ok (.ifCond .ne 16, 3) := dk_154 0 16 (dk_at dksX5_require_0 1 rfl rfl)
theorem dX5_require_4 : decode cX5_require 4 = .ok (.new 93, 3) := dk_187 0 93 (dk_at dksX5_require_0 4 rfl rfl)
theorem dX5_require_7 : decode cX5_require 7 = .ok (.dup, 1) := dk_89 (dk_at dksX5_require_0 7 rfl rfl)
theorem dX5_require_8 : decode cX5_require 8 = .ok (.iload_n 2, 1) := dk_28 (dk_at dksX5_require_0 8 rfl rfl)
theorem dX5_require_9 : decode cX5_require 9 = .ok (.aload_n 0, 1) := dk_42 (dk_at dksX5_require_0 9 rfl rfl)
theorem dX5_require_10 : decode cX5_require 10 = .ok (.getfield 39, 3) := dk_180 0 39 (dk_at dksX5_require_0 10 rfl rfl)
theorem dX5_require_13 : decode cX5_require 13 = .ok (.invokespecial 95, 3) := dk_183 0 95 (dk_at dksX5_require_0 13 rfl rfl)
theorem dX5_require_16 : decode cX5_require 16 = .ok (.athrow, 1) := dk_191 (dk_at dksX5_require_0 16 rfl rfl)
theorem dX5_require_17 : decode cX5_require 17 = .ok (.return_, 1) := dk_177 (dk_at dksX5_require_0 17 rfl rfl)
abbrev cX5_readList : ByteArray := prog_10_method_10_code
def yX5_readList : MethodName := ⟨RX5, "readList", "()LCountedSkipLists$SkipList;"⟩
def dkwX5_readList_11 : List UInt8 := [182, 0, 135, 43, 176]
abbrev dktX5_readList_11 : List UInt8 := dkwX5_readList_11 ++ []
def dkwX5_readList_10 : List UInt8 := [21, 4, 61, 167, 255, 128, 42, 42, 180, 0, 48, 178, 0, 84, 166, 0, 7, 4, 167, 0, 4, 3, 4]
abbrev dktX5_readList_10 : List UInt8 := dkwX5_readList_10 ++ dktX5_readList_11
def dkwX5_readList_9 : List UInt8 := [162, 0, 7, 4, 167, 0, 4, 3, 8, 182, 0, 135, 43, 21, 4, 42, 182, 0, 138, 4, 182, 0, 141]
abbrev dktX5_readList_9 : List UInt8 := dkwX5_readList_9 ++ dktX5_readList_10
def dkwX5_readList_8 : List UInt8 := [104, 54, 4, 42, 42, 43, 21, 4, 28, 182, 0, 131, 6, 182, 0, 98, 42, 43, 180, 0, 108, 16, 60]
abbrev dktX5_readList_8 : List UInt8 := dkwX5_readList_8 ++ dktX5_readList_9
def dkwX5_readList_7 : List UInt8 := [42, 180, 0, 48, 178, 0, 81, 166, 0, 7, 4, 167, 0, 4, 3, 4, 182, 0, 98, 29, 42, 180, 0, 75]
abbrev dktX5_readList_7 : List UInt8 := dkwX5_readList_7 ++ dktX5_readList_8
def dkwX5_readList_6 : List UInt8 := [43, 180, 0, 108, 16, 60, 162, 0, 7, 4, 167, 0, 4, 3, 8, 182, 0, 98, 42, 182, 0, 111, 62, 42]
abbrev dktX5_readList_6 : List UInt8 := dkwX5_readList_6 ++ dktX5_readList_7
def dkwX5_readList_5 : List UInt8 := [165, 0, 13, 42, 180, 0, 48, 178, 0, 81, 166, 0, 114, 42, 42, 180, 0, 48, 178, 0, 81, 165, 0, 12]
abbrev dktX5_readList_5 : List UInt8 := dkwX5_readList_5 ++ dktX5_readList_6
def dkwX5_readList_4 : List UInt8 := [89, 42, 180, 0, 17, 183, 0, 128, 76, 42, 182, 0, 25, 3, 61, 42, 180, 0, 48, 178, 0, 90]
abbrev dktX5_readList_4 : List UInt8 := dkwX5_readList_4 ++ dktX5_readList_5
def dkwX5_readList_3 : List UInt8 := [182, 0, 102, 154, 0, 7, 4, 167, 0, 4, 3, 7, 182, 0, 98, 132, 3, 1, 167, 255, 213, 187, 0, 109]
abbrev dktX5_readList_3 : List UInt8 := dkwX5_readList_3 ++ dktX5_readList_4
def dkwX5_readList_2 : List UInt8 := [162, 0, 44, 43, 29, 50, 58, 4, 42, 25, 4, 198, 0, 18, 25, 4, 180, 0, 125, 42, 180, 0, 17]
abbrev dktX5_readList_2 : List UInt8 := dkwX5_readList_2 ++ dktX5_readList_3
def dkwX5_readList_1 : List UInt8 := [167, 0, 4, 3, 4, 182, 0, 98, 42, 180, 0, 115, 180, 0, 119, 76, 43, 190, 61, 3, 62, 29, 28]
abbrev dktX5_readList_1 : List UInt8 := dkwX5_readList_1 ++ dktX5_readList_2
def dkwX5_readList_0 : List UInt8 := [42, 42, 180, 0, 48, 178, 0, 72, 166, 0, 19, 42, 180, 0, 17, 182, 0, 114, 16, 8, 163, 0, 7, 4]
abbrev dktX5_readList_0 : List UInt8 := dkwX5_readList_0 ++ dktX5_readList_1
theorem dksX5_readList_0 : cX5_readList.data.toList.drop 0 = dktX5_readList_0 := by decide +kernel
theorem dksX5_readList_1 : cX5_readList.data.toList.drop 24 = dktX5_readList_1 := dk_seg dksX5_readList_0 24 rfl rfl
theorem dksX5_readList_2 : cX5_readList.data.toList.drop 47 = dktX5_readList_2 := dk_seg dksX5_readList_1 23 rfl rfl
theorem dksX5_readList_3 : cX5_readList.data.toList.drop 70 = dktX5_readList_3 := dk_seg dksX5_readList_2 23 rfl rfl
theorem dksX5_readList_4 : cX5_readList.data.toList.drop 94 = dktX5_readList_4 := dk_seg dksX5_readList_3 24 rfl rfl
theorem dksX5_readList_5 : cX5_readList.data.toList.drop 116 = dktX5_readList_5 := dk_seg dksX5_readList_4 22 rfl rfl
theorem dksX5_readList_6 : cX5_readList.data.toList.drop 140 = dktX5_readList_6 := dk_seg dksX5_readList_5 24 rfl rfl
theorem dksX5_readList_7 : cX5_readList.data.toList.drop 164 = dktX5_readList_7 := dk_seg dksX5_readList_6 24 rfl rfl
theorem dksX5_readList_8 : cX5_readList.data.toList.drop 188 = dktX5_readList_8 := dk_seg dksX5_readList_7 24 rfl rfl
theorem dksX5_readList_9 : cX5_readList.data.toList.drop 211 = dktX5_readList_9 := dk_seg dksX5_readList_8 23 rfl rfl
theorem dksX5_readList_10 : cX5_readList.data.toList.drop 234 = dktX5_readList_10 := dk_seg dksX5_readList_9 23 rfl rfl
theorem dksX5_readList_11 : cX5_readList.data.toList.drop 257 = dktX5_readList_11 := dk_seg dksX5_readList_10 23 rfl rfl
theorem dX5_readList_0 : decode cX5_readList 0 = .ok (.aload_n 0, 1) := dk_42 (dk_at dksX5_readList_0 0 rfl rfl)
theorem dX5_readList_1 : decode cX5_readList 1 = .ok (.aload_n 0, 1) := dk_42 (dk_at dksX5_readList_0 1 rfl rfl)
theorem dX5_readList_2 : decode cX5_readList 2 = .ok (.getfield 48, 3) := dk_180 0 48 (dk_at dksX5_readList_0 2 rfl rfl)
theorem dX5_readList_5 : decode cX5_readList 5 = .ok (.getstatic 72, 3) := dk_178 0 72 (dk_at dksX5_readList_0 5 rfl rfl)
theorem dX5_readList_8 : decode cX5_readList 8 = .ok (.if_acmp .ne 19, 3) := dk_166 0 19 (dk_at dksX5_readList_0 8 rfl rfl)
theorem dX5_readList_11 : decode cX5_readList 11 = .ok (.aload_n 0, 1) := dk_42 (dk_at dksX5_readList_0 11 rfl rfl)
theorem dX5_readList_12 : decode cX5_readList 12 = .ok (.getfield 17, 3) := dk_180 0 17 (dk_at dksX5_readList_0 12 rfl rfl)
theorem dX5_readList_15 : decode cX5_readList 15 = .ok (.invokevirtual 114, 3) := dk_182 0 114 (dk_at dksX5_readList_0 15 rfl rfl)
theorem dX5_readList_18 : decode cX5_readList 18 = .ok (.bipush 8, 2) := dk_16 8 (dk_at dksX5_readList_0 18 rfl rfl)
theorem dX5_readList_20 : decode cX5_readList 20 = .ok (.if_icmp .gt 7, 3) := dk_163 0 7 (dk_at dksX5_readList_0 20 rfl rfl)
theorem dX5_readList_23 : decode cX5_readList 23 = .ok (.iconst 1, 1) := dk_4 (dk_at dksX5_readList_0 23 rfl rfl)
theorem dX5_readList_24 : decode cX5_readList 24 = .ok (.goto 4, 3) := dk_167 0 4 (dk_at dksX5_readList_1 0 rfl rfl)
theorem dX5_readList_27 : decode cX5_readList 27 = .ok (.iconst 0, 1) := dk_3 (dk_at dksX5_readList_1 3 rfl rfl)
theorem dX5_readList_28 : decode cX5_readList 28 = .ok (.iconst 1, 1) := dk_4 (dk_at dksX5_readList_1 4 rfl rfl)
theorem dX5_readList_29 : decode cX5_readList 29 = .ok (.invokevirtual 98, 3) := dk_182 0 98 (dk_at dksX5_readList_1 5 rfl rfl)
theorem dX5_readList_32 : decode cX5_readList 32 = .ok (.aload_n 0, 1) := dk_42 (dk_at dksX5_readList_1 8 rfl rfl)
theorem dX5_readList_33 : decode cX5_readList 33 = .ok (.getfield 115, 3) := dk_180 0 115 (dk_at dksX5_readList_1 9 rfl rfl)
theorem dX5_readList_36 : decode cX5_readList 36 = .ok (.getfield 119, 3) := dk_180 0 119 (dk_at dksX5_readList_1 12 rfl rfl)
theorem dX5_readList_39 : decode cX5_readList 39 = .ok (.astore_n 1, 1) := dk_76 (dk_at dksX5_readList_1 15 rfl rfl)
theorem dX5_readList_40 : decode cX5_readList 40 = .ok (.aload_n 1, 1) := dk_43 (dk_at dksX5_readList_1 16 rfl rfl)
theorem dX5_readList_41 : decode cX5_readList 41 = .ok (.arraylength, 1) := dk_190 (dk_at dksX5_readList_1 17 rfl rfl)
theorem dX5_readList_42 : decode cX5_readList 42 = .ok (.istore_n 2, 1) := dk_61 (dk_at dksX5_readList_1 18 rfl rfl)
theorem dX5_readList_43 : decode cX5_readList 43 = .ok (.iconst 0, 1) := dk_3 (dk_at dksX5_readList_1 19 rfl rfl)
theorem dX5_readList_44 : decode cX5_readList 44 = .ok (.istore_n 3, 1) := dk_62 (dk_at dksX5_readList_1 20 rfl rfl)
theorem dX5_readList_45 : decode cX5_readList 45 = .ok (.iload_n 3, 1) := dk_29 (dk_at dksX5_readList_1 21 rfl rfl)
theorem dX5_readList_46 : decode cX5_readList 46 = .ok (.iload_n 2, 1) := dk_28 (dk_at dksX5_readList_1 22 rfl rfl)
theorem dX5_readList_47 : decode cX5_readList 47 = .ok (.if_icmp .ge 44, 3) := dk_162 0 44 (dk_at dksX5_readList_2 0 rfl rfl)
theorem dX5_readList_50 : decode cX5_readList 50 = .ok (.aload_n 1, 1) := dk_43 (dk_at dksX5_readList_2 3 rfl rfl)
theorem dX5_readList_51 : decode cX5_readList 51 = .ok (.iload_n 3, 1) := dk_29 (dk_at dksX5_readList_2 4 rfl rfl)
theorem dX5_readList_52 : decode cX5_readList 52 = .ok (.aaload, 1) := dk_50 (dk_at dksX5_readList_2 5 rfl rfl)
theorem dX5_readList_53 : decode cX5_readList 53 = .ok (.astore 4, 2) := dk_58 4 (dk_at dksX5_readList_2 6 rfl rfl)
theorem dX5_readList_55 : decode cX5_readList 55 = .ok (.aload_n 0, 1) := dk_42 (dk_at dksX5_readList_2 8 rfl rfl)
theorem dX5_readList_56 : decode cX5_readList 56 = .ok (.aload 4, 2) := dk_25 4 (dk_at dksX5_readList_2 9 rfl rfl)
theorem dX5_readList_58 : decode cX5_readList 58 = .ok (.ifnull 18, 3) := dk_198 0 18 (dk_at dksX5_readList_2 11 rfl rfl)
theorem dX5_readList_61 : decode cX5_readList 61 = .ok (.aload 4, 2) := dk_25 4 (dk_at dksX5_readList_2 14 rfl rfl)
theorem dX5_readList_63 : decode cX5_readList 63 = .ok (.getfield 125, 3) := dk_180 0 125 (dk_at dksX5_readList_2 16 rfl rfl)
theorem dX5_readList_66 : decode cX5_readList 66 = .ok (.aload_n 0, 1) := dk_42 (dk_at dksX5_readList_2 19 rfl rfl)
theorem dX5_readList_67 : decode cX5_readList 67 = .ok (.getfield 17, 3) := dk_180 0 17 (dk_at dksX5_readList_2 20 rfl rfl)
theorem dX5_readList_70 : decode cX5_readList 70 = .ok (.invokevirtual 102, 3) := dk_182 0 102 (dk_at dksX5_readList_3 0 rfl rfl)
theorem dX5_readList_73 : decode cX5_readList 73 = .ok (.ifCond .ne 7, 3) := dk_154 0 7 (dk_at dksX5_readList_3 3 rfl rfl)
theorem dX5_readList_76 : decode cX5_readList 76 = .ok (.iconst 1, 1) := dk_4 (dk_at dksX5_readList_3 6 rfl rfl)
theorem dX5_readList_77 : decode cX5_readList 77 = .ok (.goto 4, 3) := dk_167 0 4 (dk_at dksX5_readList_3 7 rfl rfl)
theorem dX5_readList_80 : decode cX5_readList 80 = .ok (.iconst 0, 1) := dk_3 (dk_at dksX5_readList_3 10 rfl rfl)
theorem dX5_readList_81 : decode cX5_readList 81 = .ok (.iconst 4, 1) := dk_7 (dk_at dksX5_readList_3 11 rfl rfl)
theorem dX5_readList_82 : decode cX5_readList 82 = .ok (.invokevirtual 98, 3) := dk_182 0 98 (dk_at dksX5_readList_3 12 rfl rfl)
theorem dX5_readList_85 : decode cX5_readList 85 = .ok (.iinc 3 1, 3) := dk_132 3 1 (dk_at dksX5_readList_3 15 rfl rfl)
theorem dX5_readList_88 : decode cX5_readList 88 = .ok (.goto (-43), 3) := dk_167 255 213 (dk_at dksX5_readList_3 18 rfl rfl)
theorem dX5_readList_91 : decode cX5_readList 91 = .ok (.new 109, 3) := dk_187 0 109 (dk_at dksX5_readList_3 21 rfl rfl)
theorem dX5_readList_94 : decode cX5_readList 94 = .ok (.dup, 1) := dk_89 (dk_at dksX5_readList_4 0 rfl rfl)
theorem dX5_readList_95 : decode cX5_readList 95 = .ok (.aload_n 0, 1) := dk_42 (dk_at dksX5_readList_4 1 rfl rfl)
theorem dX5_readList_96 : decode cX5_readList 96 = .ok (.getfield 17, 3) := dk_180 0 17 (dk_at dksX5_readList_4 2 rfl rfl)
theorem dX5_readList_99 : decode cX5_readList 99 = .ok (.invokespecial 128, 3) := dk_183 0 128 (dk_at dksX5_readList_4 5 rfl rfl)
theorem dX5_readList_102 : decode cX5_readList 102 = .ok (.astore_n 1, 1) := dk_76 (dk_at dksX5_readList_4 8 rfl rfl)
theorem dX5_readList_103 : decode cX5_readList 103 = .ok (.aload_n 0, 1) := dk_42 (dk_at dksX5_readList_4 9 rfl rfl)
theorem dX5_readList_104 : decode cX5_readList 104 = .ok (.invokevirtual 25, 3) := dk_182 0 25 (dk_at dksX5_readList_4 10 rfl rfl)
theorem dX5_readList_107 : decode cX5_readList 107 = .ok (.iconst 0, 1) := dk_3 (dk_at dksX5_readList_4 13 rfl rfl)
theorem dX5_readList_108 : decode cX5_readList 108 = .ok (.istore_n 2, 1) := dk_61 (dk_at dksX5_readList_4 14 rfl rfl)
theorem dX5_readList_109 : decode cX5_readList 109 = .ok (.aload_n 0, 1) := dk_42 (dk_at dksX5_readList_4 15 rfl rfl)
theorem dX5_readList_110 : decode cX5_readList 110 = .ok (.getfield 48, 3) := dk_180 0 48 (dk_at dksX5_readList_4 16 rfl rfl)
theorem dX5_readList_113 : decode cX5_readList 113 = .ok (.getstatic 90, 3) := dk_178 0 90 (dk_at dksX5_readList_4 19 rfl rfl)
theorem dX5_readList_116 : decode cX5_readList 116 = .ok (.if_acmp .eq 13, 3) := dk_165 0 13 (dk_at dksX5_readList_5 0 rfl rfl)
theorem dX5_readList_119 : decode cX5_readList 119 = .ok (.aload_n 0, 1) := dk_42 (dk_at dksX5_readList_5 3 rfl rfl)
theorem dX5_readList_120 : decode cX5_readList 120 = .ok (.getfield 48, 3) := dk_180 0 48 (dk_at dksX5_readList_5 4 rfl rfl)
theorem dX5_readList_123 : decode cX5_readList 123 = .ok (.getstatic 81, 3) := dk_178 0 81 (dk_at dksX5_readList_5 7 rfl rfl)
theorem dX5_readList_126 : decode cX5_readList 126 = .ok (.if_acmp .ne 114, 3) := dk_166 0 114 (dk_at dksX5_readList_5 10 rfl rfl)
theorem dX5_readList_129 : decode cX5_readList 129 = .ok (.aload_n 0, 1) := dk_42 (dk_at dksX5_readList_5 13 rfl rfl)
theorem dX5_readList_130 : decode cX5_readList 130 = .ok (.aload_n 0, 1) := dk_42 (dk_at dksX5_readList_5 14 rfl rfl)
theorem dX5_readList_131 : decode cX5_readList 131 = .ok (.getfield 48, 3) := dk_180 0 48 (dk_at dksX5_readList_5 15 rfl rfl)
theorem dX5_readList_134 : decode cX5_readList 134 = .ok (.getstatic 81, 3) := dk_178 0 81 (dk_at dksX5_readList_5 18 rfl rfl)
theorem dX5_readList_137 : decode cX5_readList 137 = .ok (.if_acmp .eq 12, 3) := dk_165 0 12 (dk_at dksX5_readList_5 21 rfl rfl)
theorem dX5_readList_140 : decode cX5_readList 140 = .ok (.aload_n 1, 1) := dk_43 (dk_at dksX5_readList_6 0 rfl rfl)
theorem dX5_readList_141 : decode cX5_readList 141 = .ok (.getfield 108, 3) := dk_180 0 108 (dk_at dksX5_readList_6 1 rfl rfl)
theorem dX5_readList_144 : decode cX5_readList 144 = .ok (.bipush 60, 2) := dk_16 60 (dk_at dksX5_readList_6 4 rfl rfl)
theorem dX5_readList_146 : decode cX5_readList 146 = .ok (.if_icmp .ge 7, 3) := dk_162 0 7 (dk_at dksX5_readList_6 6 rfl rfl)
theorem dX5_readList_149 : decode cX5_readList 149 = .ok (.iconst 1, 1) := dk_4 (dk_at dksX5_readList_6 9 rfl rfl)
theorem dX5_readList_150 : decode cX5_readList 150 = .ok (.goto 4, 3) := dk_167 0 4 (dk_at dksX5_readList_6 10 rfl rfl)
theorem dX5_readList_153 : decode cX5_readList 153 = .ok (.iconst 0, 1) := dk_3 (dk_at dksX5_readList_6 13 rfl rfl)
theorem dX5_readList_154 : decode cX5_readList 154 = .ok (.iconst 5, 1) := dk_8 (dk_at dksX5_readList_6 14 rfl rfl)
theorem dX5_readList_155 : decode cX5_readList 155 = .ok (.invokevirtual 98, 3) := dk_182 0 98 (dk_at dksX5_readList_6 15 rfl rfl)
theorem dX5_readList_158 : decode cX5_readList 158 = .ok (.aload_n 0, 1) := dk_42 (dk_at dksX5_readList_6 18 rfl rfl)
theorem dX5_readList_159 : decode cX5_readList 159 = .ok (.invokevirtual 111, 3) := dk_182 0 111 (dk_at dksX5_readList_6 19 rfl rfl)
theorem dX5_readList_162 : decode cX5_readList 162 = .ok (.istore_n 3, 1) := dk_62 (dk_at dksX5_readList_6 22 rfl rfl)
theorem dX5_readList_163 : decode cX5_readList 163 = .ok (.aload_n 0, 1) := dk_42 (dk_at dksX5_readList_6 23 rfl rfl)
theorem dX5_readList_164 : decode cX5_readList 164 = .ok (.aload_n 0, 1) := dk_42 (dk_at dksX5_readList_7 0 rfl rfl)
theorem dX5_readList_165 : decode cX5_readList 165 = .ok (.getfield 48, 3) := dk_180 0 48 (dk_at dksX5_readList_7 1 rfl rfl)
theorem dX5_readList_168 : decode cX5_readList 168 = .ok (.getstatic 81, 3) := dk_178 0 81 (dk_at dksX5_readList_7 4 rfl rfl)
theorem dX5_readList_171 : decode cX5_readList 171 = .ok (.if_acmp .ne 7, 3) := dk_166 0 7 (dk_at dksX5_readList_7 7 rfl rfl)
theorem dX5_readList_174 : decode cX5_readList 174 = .ok (.iconst 1, 1) := dk_4 (dk_at dksX5_readList_7 10 rfl rfl)
theorem dX5_readList_175 : decode cX5_readList 175 = .ok (.goto 4, 3) := dk_167 0 4 (dk_at dksX5_readList_7 11 rfl rfl)
theorem dX5_readList_178 : decode cX5_readList 178 = .ok (.iconst 0, 1) := dk_3 (dk_at dksX5_readList_7 14 rfl rfl)
theorem dX5_readList_179 : decode cX5_readList 179 = .ok (.iconst 1, 1) := dk_4 (dk_at dksX5_readList_7 15 rfl rfl)
theorem dX5_readList_180 : decode cX5_readList 180 = .ok (.invokevirtual 98, 3) := dk_182 0 98 (dk_at dksX5_readList_7 16 rfl rfl)
theorem dX5_readList_183 : decode cX5_readList 183 = .ok (.iload_n 3, 1) := dk_29 (dk_at dksX5_readList_7 19 rfl rfl)
theorem dX5_readList_184 : decode cX5_readList 184 = .ok (.aload_n 0, 1) := dk_42 (dk_at dksX5_readList_7 20 rfl rfl)
theorem dX5_readList_185 : decode cX5_readList 185 = .ok (.getfield 75, 3) := dk_180 0 75 (dk_at dksX5_readList_7 21 rfl rfl)
theorem dX5_readList_188 : decode cX5_readList 188 = .ok (.imul, 1) := dk_104 (dk_at dksX5_readList_8 0 rfl rfl)
theorem dX5_readList_189 : decode cX5_readList 189 = .ok (.istore 4, 2) := dk_54 4 (dk_at dksX5_readList_8 1 rfl rfl)
theorem dX5_readList_191 : decode cX5_readList 191 = .ok (.aload_n 0, 1) := dk_42 (dk_at dksX5_readList_8 3 rfl rfl)
theorem dX5_readList_192 : decode cX5_readList 192 = .ok (.aload_n 0, 1) := dk_42 (dk_at dksX5_readList_8 4 rfl rfl)
theorem dX5_readList_193 : decode cX5_readList 193 = .ok (.aload_n 1, 1) := dk_43 (dk_at dksX5_readList_8 5 rfl rfl)
theorem dX5_readList_194 : decode cX5_readList 194 = .ok (.iload 4, 2) := dk_21 4 (dk_at dksX5_readList_8 6 rfl rfl)
theorem dX5_readList_196 : decode cX5_readList 196 = .ok (.iload_n 2, 1) := dk_28 (dk_at dksX5_readList_8 8 rfl rfl)
theorem dX5_readList_197 : decode cX5_readList 197 = .ok (.invokevirtual 131, 3) := dk_182 0 131 (dk_at dksX5_readList_8 9 rfl rfl)
theorem dX5_readList_200 : decode cX5_readList 200 = .ok (.iconst 3, 1) := dk_6 (dk_at dksX5_readList_8 12 rfl rfl)
theorem dX5_readList_201 : decode cX5_readList 201 = .ok (.invokevirtual 98, 3) := dk_182 0 98 (dk_at dksX5_readList_8 13 rfl rfl)
theorem dX5_readList_204 : decode cX5_readList 204 = .ok (.aload_n 0, 1) := dk_42 (dk_at dksX5_readList_8 16 rfl rfl)
theorem dX5_readList_205 : decode cX5_readList 205 = .ok (.aload_n 1, 1) := dk_43 (dk_at dksX5_readList_8 17 rfl rfl)
theorem dX5_readList_206 : decode cX5_readList 206 = .ok (.getfield 108, 3) := dk_180 0 108 (dk_at dksX5_readList_8 18 rfl rfl)
theorem dX5_readList_209 : decode cX5_readList 209 = .ok (.bipush 60, 2) := dk_16 60 (dk_at dksX5_readList_8 21 rfl rfl)
theorem dX5_readList_211 : decode cX5_readList 211 = .ok (.if_icmp .ge 7, 3) := dk_162 0 7 (dk_at dksX5_readList_9 0 rfl rfl)
theorem dX5_readList_214 : decode cX5_readList 214 = .ok (.iconst 1, 1) := dk_4 (dk_at dksX5_readList_9 3 rfl rfl)
theorem dX5_readList_215 : decode cX5_readList 215 = .ok (.goto 4, 3) := dk_167 0 4 (dk_at dksX5_readList_9 4 rfl rfl)
theorem dX5_readList_218 : decode cX5_readList 218 = .ok (.iconst 0, 1) := dk_3 (dk_at dksX5_readList_9 7 rfl rfl)
theorem dX5_readList_219 : decode cX5_readList 219 = .ok (.iconst 5, 1) := dk_8 (dk_at dksX5_readList_9 8 rfl rfl)
theorem dX5_readList_220 : decode cX5_readList 220 = .ok (.invokevirtual 135, 3) := dk_182 0 135 (dk_at dksX5_readList_9 9 rfl rfl)
theorem dX5_readList_223 : decode cX5_readList 223 = .ok (.aload_n 1, 1) := dk_43 (dk_at dksX5_readList_9 12 rfl rfl)
theorem dX5_readList_224 : decode cX5_readList 224 = .ok (.iload 4, 2) := dk_21 4 (dk_at dksX5_readList_9 13 rfl rfl)
theorem dX5_readList_226 : decode cX5_readList 226 = .ok (.aload_n 0, 1) := dk_42 (dk_at dksX5_readList_9 15 rfl rfl)
theorem dX5_readList_227 : decode cX5_readList 227 = .ok (.invokevirtual 138, 3) := dk_182 0 138 (dk_at dksX5_readList_9 16 rfl rfl)
theorem dX5_readList_230 : decode cX5_readList 230 = .ok (.iconst 1, 1) := dk_4 (dk_at dksX5_readList_9 19 rfl rfl)
theorem dX5_readList_231 : decode cX5_readList 231 = .ok (.invokevirtual 141, 3) := dk_182 0 141 (dk_at dksX5_readList_9 20 rfl rfl)
theorem dX5_readList_234 : decode cX5_readList 234 = .ok (.iload 4, 2) := dk_21 4 (dk_at dksX5_readList_10 0 rfl rfl)
theorem dX5_readList_236 : decode cX5_readList 236 = .ok (.istore_n 2, 1) := dk_61 (dk_at dksX5_readList_10 2 rfl rfl)
theorem dX5_readList_237 : decode cX5_readList 237 = .ok (.goto (-128), 3) := dk_167 255 128 (dk_at dksX5_readList_10 3 rfl rfl)
theorem dX5_readList_240 : decode cX5_readList 240 = .ok (.aload_n 0, 1) := dk_42 (dk_at dksX5_readList_10 6 rfl rfl)
theorem dX5_readList_241 : decode cX5_readList 241 = .ok (.aload_n 0, 1) := dk_42 (dk_at dksX5_readList_10 7 rfl rfl)
theorem dX5_readList_242 : decode cX5_readList 242 = .ok (.getfield 48, 3) := dk_180 0 48 (dk_at dksX5_readList_10 8 rfl rfl)
theorem dX5_readList_245 : decode cX5_readList 245 = .ok (.getstatic 84, 3) := dk_178 0 84 (dk_at dksX5_readList_10 11 rfl rfl)
theorem dX5_readList_248 : decode cX5_readList 248 = .ok (.if_acmp .ne 7, 3) := dk_166 0 7 (dk_at dksX5_readList_10 14 rfl rfl)
theorem dX5_readList_251 : decode cX5_readList 251 = .ok (.iconst 1, 1) := dk_4 (dk_at dksX5_readList_10 17 rfl rfl)
theorem dX5_readList_252 : decode cX5_readList 252 = .ok (.goto 4, 3) := dk_167 0 4 (dk_at dksX5_readList_10 18 rfl rfl)
theorem dX5_readList_255 : decode cX5_readList 255 = .ok (.iconst 0, 1) := dk_3 (dk_at dksX5_readList_10 21 rfl rfl)
theorem dX5_readList_256 : decode cX5_readList 256 = .ok (.iconst 1, 1) := dk_4 (dk_at dksX5_readList_10 22 rfl rfl)
theorem dX5_readList_257 : decode cX5_readList 257 = .ok (.invokevirtual 135, 3) := dk_182 0 135 (dk_at dksX5_readList_11 0 rfl rfl)
theorem dX5_readList_260 : decode cX5_readList 260 = .ok (.aload_n 1, 1) := dk_43 (dk_at dksX5_readList_11 3 rfl rfl)
theorem dX5_readList_261 : decode cX5_readList 261 = .ok (.areturn, 1) := dk_176 (dk_at dksX5_readList_11 4 rfl rfl)
abbrev cX5_sign : ByteArray := prog_10_method_7_code
def yX5_sign : MethodName := ⟨RX5, "sign", "()I"⟩
def dkwX5_sign_0 : List UInt8 := [42, 180, 0, 48, 178, 0, 90, 165, 0, 5, 4, 172, 42, 182, 0, 25, 2, 172]
abbrev dktX5_sign_0 : List UInt8 := dkwX5_sign_0 ++ []
theorem dksX5_sign_0 : cX5_sign.data.toList.drop 0 = dktX5_sign_0 := by decide +kernel
theorem dX5_sign_0 : decode cX5_sign 0 = .ok (.aload_n 0, 1) := dk_42 (dk_at dksX5_sign_0 0 rfl rfl)
theorem dX5_sign_1 : decode cX5_sign 1 = .ok (.getfield 48, 3) := dk_180 0 48 (dk_at dksX5_sign_0 1 rfl rfl)
theorem dX5_sign_4 : decode cX5_sign 4 = .ok (.getstatic 90, 3) := dk_178 0 90 (dk_at dksX5_sign_0 4 rfl rfl)
theorem dX5_sign_7 : decode cX5_sign 7 = .ok (.if_acmp .eq 5, 3) := dk_165 0 5 (dk_at dksX5_sign_0 7 rfl rfl)
theorem dX5_sign_10 : decode cX5_sign 10 = .ok (.iconst 1, 1) := dk_4 (dk_at dksX5_sign_0 10 rfl rfl)
theorem dX5_sign_11 : decode cX5_sign 11 = .ok (.ireturn, 1) := dk_172 (dk_at dksX5_sign_0 11 rfl rfl)
theorem dX5_sign_12 : decode cX5_sign 12 = .ok (.aload_n 0, 1) := dk_42 (dk_at dksX5_sign_0 12 rfl rfl)
theorem dX5_sign_13 : decode cX5_sign 13 = .ok (.invokevirtual 25, 3) := dk_182 0 25 (dk_at dksX5_sign_0 13 rfl rfl)
theorem dX5_sign_16 : decode cX5_sign 16 = .ok (.iconst (-1), 1) := dk_2 (dk_at dksX5_sign_0 16 rfl rfl)
theorem dX5_sign_17 : decode cX5_sign 17 = .ok (.ireturn, 1) := dk_172 (dk_at dksX5_sign_0 17 rfl rfl)
abbrev cX5_isGreater : ByteArray := prog_10_method_8_code
def yX5_isGreater : MethodName := ⟨RX5, "isGreater", "(LCountedSkipLists$SkipList;II)Z"⟩
def dkwX5_isGreater_0 : List UInt8 := [43, 180, 0, 108, 153, 0, 8, 28, 29, 164, 0, 7, 4, 167, 0, 4, 3, 172]
abbrev dktX5_isGreater_0 : List UInt8 := dkwX5_isGreater_0 ++ []
theorem dksX5_isGreater_0 : cX5_isGreater.data.toList.drop 0 = dktX5_isGreater_0 := by decide +kernel
theorem dX5_isGreater_0 : decode cX5_isGreater 0 = .ok (.aload_n 1, 1) := dk_43 (dk_at dksX5_isGreater_0 0 rfl rfl)
theorem dX5_isGreater_1 : decode cX5_isGreater 1 = .ok (.getfield 108, 3) := dk_180 0 108 (dk_at dksX5_isGreater_0 1 rfl rfl)
theorem dX5_isGreater_4 : decode cX5_isGreater 4 = .ok (.ifCond .eq 8, 3) := dk_153 0 8 (dk_at dksX5_isGreater_0 4 rfl rfl)
theorem dX5_isGreater_7 : decode cX5_isGreater 7 = .ok (.iload_n 2, 1) := dk_28 (dk_at dksX5_isGreater_0 7 rfl rfl)
theorem dX5_isGreater_8 : decode cX5_isGreater 8 = .ok (.iload_n 3, 1) := dk_29 (dk_at dksX5_isGreater_0 8 rfl rfl)
theorem dX5_isGreater_9 : decode cX5_isGreater 9 = .ok (.if_icmp .le 7, 3) := dk_164 0 7 (dk_at dksX5_isGreater_0 9 rfl rfl)
theorem dX5_isGreater_12 : decode cX5_isGreater 12 = .ok (.iconst 1, 1) := dk_4 (dk_at dksX5_isGreater_0 12 rfl rfl)
theorem dX5_isGreater_13 : decode cX5_isGreater 13 = .ok (.goto 4, 3) := dk_167 0 4 (dk_at dksX5_isGreater_0 13 rfl rfl)
theorem dX5_isGreater_16 : decode cX5_isGreater 16 = .ok (.iconst 0, 1) := dk_3 (dk_at dksX5_isGreater_0 16 rfl rfl)
theorem dX5_isGreater_17 : decode cX5_isGreater 17 = .ok (.ireturn, 1) := dk_172 (dk_at dksX5_isGreater_0 17 rfl rfl)
abbrev cX5_readValue : ByteArray := prog_10_method_9_code
def yX5_readValue : MethodName := ⟨RX5, "readValue", "()I"⟩
def dkwX5_readValue_2 : List UInt8 := [61, 42, 182, 0, 25, 28, 172]
abbrev dktX5_readValue_2 : List UInt8 := dkwX5_readValue_2 ++ []
def dkwX5_readValue_1 : List UInt8 := [180, 0, 48, 178, 0, 81, 166, 0, 7, 4, 167, 0, 4, 3, 4, 182, 0, 98, 27, 42, 180, 0, 75, 104]
abbrev dktX5_readValue_1 : List UInt8 := dkwX5_readValue_1 ++ dktX5_readValue_2
def dkwX5_readValue_0 : List UInt8 := [42, 180, 0, 48, 178, 0, 87, 165, 0, 5, 3, 172, 42, 182, 0, 25, 42, 182, 0, 111, 60, 42, 42]
abbrev dktX5_readValue_0 : List UInt8 := dkwX5_readValue_0 ++ dktX5_readValue_1
theorem dksX5_readValue_0 : cX5_readValue.data.toList.drop 0 = dktX5_readValue_0 := by decide +kernel
theorem dksX5_readValue_1 : cX5_readValue.data.toList.drop 23 = dktX5_readValue_1 := dk_seg dksX5_readValue_0 23 rfl rfl
theorem dksX5_readValue_2 : cX5_readValue.data.toList.drop 47 = dktX5_readValue_2 := dk_seg dksX5_readValue_1 24 rfl rfl
theorem dX5_readValue_0 : decode cX5_readValue 0 = .ok (.aload_n 0, 1) := dk_42 (dk_at dksX5_readValue_0 0 rfl rfl)
theorem dX5_readValue_1 : decode cX5_readValue 1 = .ok (.getfield 48, 3) := dk_180 0 48 (dk_at dksX5_readValue_0 1 rfl rfl)
theorem dX5_readValue_4 : decode cX5_readValue 4 = .ok (.getstatic 87, 3) := dk_178 0 87 (dk_at dksX5_readValue_0 4 rfl rfl)
theorem dX5_readValue_7 : decode cX5_readValue 7 = .ok (.if_acmp .eq 5, 3) := dk_165 0 5 (dk_at dksX5_readValue_0 7 rfl rfl)
theorem dX5_readValue_10 : decode cX5_readValue 10 = .ok (.iconst 0, 1) := dk_3 (dk_at dksX5_readValue_0 10 rfl rfl)
theorem dX5_readValue_11 : decode cX5_readValue 11 = .ok (.ireturn, 1) := dk_172 (dk_at dksX5_readValue_0 11 rfl rfl)
theorem dX5_readValue_12 : decode cX5_readValue 12 = .ok (.aload_n 0, 1) := dk_42 (dk_at dksX5_readValue_0 12 rfl rfl)
theorem dX5_readValue_13 : decode cX5_readValue 13 = .ok (.invokevirtual 25, 3) := dk_182 0 25 (dk_at dksX5_readValue_0 13 rfl rfl)
theorem dX5_readValue_16 : decode cX5_readValue 16 = .ok (.aload_n 0, 1) := dk_42 (dk_at dksX5_readValue_0 16 rfl rfl)
theorem dX5_readValue_17 : decode cX5_readValue 17 = .ok (.invokevirtual 111, 3) := dk_182 0 111 (dk_at dksX5_readValue_0 17 rfl rfl)
theorem dX5_readValue_20 : decode cX5_readValue 20 = .ok (.istore_n 1, 1) := dk_60 (dk_at dksX5_readValue_0 20 rfl rfl)
theorem dX5_readValue_21 : decode cX5_readValue 21 = .ok (.aload_n 0, 1) := dk_42 (dk_at dksX5_readValue_0 21 rfl rfl)
theorem dX5_readValue_22 : decode cX5_readValue 22 = .ok (.aload_n 0, 1) := dk_42 (dk_at dksX5_readValue_0 22 rfl rfl)
theorem dX5_readValue_23 : decode cX5_readValue 23 = .ok (.getfield 48, 3) := dk_180 0 48 (dk_at dksX5_readValue_1 0 rfl rfl)
theorem dX5_readValue_26 : decode cX5_readValue 26 = .ok (.getstatic 81, 3) := dk_178 0 81 (dk_at dksX5_readValue_1 3 rfl rfl)
theorem dX5_readValue_29 : decode cX5_readValue 29 = .ok (.if_acmp .ne 7, 3) := dk_166 0 7 (dk_at dksX5_readValue_1 6 rfl rfl)
theorem dX5_readValue_32 : decode cX5_readValue 32 = .ok (.iconst 1, 1) := dk_4 (dk_at dksX5_readValue_1 9 rfl rfl)
theorem dX5_readValue_33 : decode cX5_readValue 33 = .ok (.goto 4, 3) := dk_167 0 4 (dk_at dksX5_readValue_1 10 rfl rfl)
theorem dX5_readValue_36 : decode cX5_readValue 36 = .ok (.iconst 0, 1) := dk_3 (dk_at dksX5_readValue_1 13 rfl rfl)
theorem dX5_readValue_37 : decode cX5_readValue 37 = .ok (.iconst 1, 1) := dk_4 (dk_at dksX5_readValue_1 14 rfl rfl)
theorem dX5_readValue_38 : decode cX5_readValue 38 = .ok (.invokevirtual 98, 3) := dk_182 0 98 (dk_at dksX5_readValue_1 15 rfl rfl)
theorem dX5_readValue_41 : decode cX5_readValue 41 = .ok (.iload_n 1, 1) := dk_27 (dk_at dksX5_readValue_1 18 rfl rfl)
theorem dX5_readValue_42 : decode cX5_readValue 42 = .ok (.aload_n 0, 1) := dk_42 (dk_at dksX5_readValue_1 19 rfl rfl)
theorem dX5_readValue_43 : decode cX5_readValue 43 = .ok (.getfield 75, 3) := dk_180 0 75 (dk_at dksX5_readValue_1 20 rfl rfl)
theorem dX5_readValue_46 : decode cX5_readValue 46 = .ok (.imul, 1) := dk_104 (dk_at dksX5_readValue_1 23 rfl rfl)
theorem dX5_readValue_47 : decode cX5_readValue 47 = .ok (.istore_n 2, 1) := dk_61 (dk_at dksX5_readValue_2 0 rfl rfl)
theorem dX5_readValue_48 : decode cX5_readValue 48 = .ok (.aload_n 0, 1) := dk_42 (dk_at dksX5_readValue_2 1 rfl rfl)
theorem dX5_readValue_49 : decode cX5_readValue 49 = .ok (.invokevirtual 25, 3) := dk_182 0 25 (dk_at dksX5_readValue_2 2 rfl rfl)
theorem dX5_readValue_52 : decode cX5_readValue 52 = .ok (.iload_n 2, 1) := dk_28 (dk_at dksX5_readValue_2 5 rfl rfl)
theorem dX5_readValue_53 : decode cX5_readValue 53 = .ok (.ireturn, 1) := dk_172 (dk_at dksX5_readValue_2 6 rfl rfl)
theorem q99 : (Jvm.Cond.initialized "CountedSkipLists$Parser") ∈ lw_all := lw_g (lw_at lw_m1 16 rfl) rfl
theorem q186 : (Jvm.Cond.fieldLinkNest "CountedSkipLists$Parser" (119 : Nat) "CountedSkipLists$State" "lists" "[LCountedSkipLists$SkipList;" "CountedSkipLists") ∈ lw_tbl := lw_at lw_m1 103 rfl
theorem q193 : (Jvm.Cond.fieldLinkNest "CountedSkipLists$Parser" (160 : Nat) "CountedSkipLists$State" "limit" "I" "CountedSkipLists") ∈ lw_tbl := lw_at lw_m1 110 rfl
theorem q224 : (Jvm.Cond.fieldLinkNest "CountedSkipLists$Parser" (28 : Nat) "CountedSkipLists" "text" "[B" "CountedSkipLists") ∈ lw_tbl := lw_at lw_m1 141 rfl
theorem q423 : (Jvm.Cond.instantiable "CountedSkipLists$Parser" (8 : Nat)) ∈ lw_all := lw_g (lw_at lw_m2 100 rfl) rfl
theorem q425 : (Jvm.Cond.instanceMethod ({ cls := "CountedSkipLists$Parser", name := "<init>", desc := "(LCountedSkipLists;I)V" } : Jvm.MethodName)) ∈ lw_all := lw_g (lw_at lw_m2 102 rfl) rfl
theorem q426 : (Jvm.Cond.code ({ cls := "CountedSkipLists$Parser", name := "<init>", desc := "(LCountedSkipLists;I)V" } : Jvm.MethodName) prog_10_method_1_code (3 : Nat) (Option.none : Option Jvm.ClassFile.FieldType)) ∈ lw_all := lw_g (lw_at lw_m2 103 rfl) rfl
theorem q427 : (Jvm.Cond.methodLink "CountedSkipLists$Parser" (9 : Nat) ({ cls := "java/lang/Object", name := "<init>", desc := "()V" } : Jvm.MethodName)) ∈ lw_all := lw_g (lw_at lw_m2 104 rfl) rfl
theorem q428 : (Jvm.Cond.stringRef "CountedSkipLists$Parser" (15 : Nat) "") ∈ lw_tbl := lw_at lw_m2 105 rfl
theorem q429 : (Jvm.Cond.methodLink "CountedSkipLists$Parser" (25 : Nat) ({ cls := "CountedSkipLists$Parser", name := "advance", desc := "()V" } : Jvm.MethodName)) ∈ lw_all := lw_g (lw_at lw_m2 106 rfl) rfl
theorem q430 : (Jvm.Cond.privateMethod ({ cls := "CountedSkipLists$Parser", name := "advance", desc := "()V" } : Jvm.MethodName)) ∈ lw_tbl := lw_at lw_m2 107 rfl
theorem q431 : (Jvm.Cond.instanceMethod ({ cls := "CountedSkipLists$Parser", name := "advance", desc := "()V" } : Jvm.MethodName)) ∈ lw_all := lw_g (lw_at lw_m2 108 rfl) rfl
theorem q432 : (Jvm.Cond.code ({ cls := "CountedSkipLists$Parser", name := "advance", desc := "()V" } : Jvm.MethodName) prog_10_method_3_code (3 : Nat) (Option.none : Option Jvm.ClassFile.FieldType)) ∈ lw_all := lw_g (lw_at lw_m2 109 rfl) rfl
theorem q433 : (Jvm.Cond.methodLink "CountedSkipLists$Parser" (35 : Nat) ({ cls := "CountedSkipLists$Parser", name := "at", desc := "(I)I" } : Jvm.MethodName)) ∈ lw_all := lw_g (lw_at lw_m2 110 rfl) rfl
theorem q434 : (Jvm.Cond.privateMethod ({ cls := "CountedSkipLists$Parser", name := "at", desc := "(I)I" } : Jvm.MethodName)) ∈ lw_tbl := lw_at lw_m2 111 rfl
theorem q435 : (Jvm.Cond.instanceMethod ({ cls := "CountedSkipLists$Parser", name := "at", desc := "(I)I" } : Jvm.MethodName)) ∈ lw_all := lw_g (lw_at lw_m2 112 rfl) rfl
theorem q436 : (Jvm.Cond.code ({ cls := "CountedSkipLists$Parser", name := "at", desc := "(I)I" } : Jvm.MethodName) prog_10_method_2_code (2 : Nat) (Option.some Jvm.ClassFile.FieldType.int)) ∈ lw_all := lw_g (lw_at lw_m2 113 rfl) rfl
theorem q437 : (Jvm.Cond.fieldLink "CountedSkipLists$Parser" (42 : Nat) "CountedSkipLists$Token" "END" "LCountedSkipLists$Token;") ∈ lw_all := lw_g (lw_at lw_m2 114 rfl) rfl
theorem q439 : (Jvm.Cond.methodLinkNest "CountedSkipLists$Parser" (51 : Nat) ({ cls := "CountedSkipLists", name := "isIn", desc := "(III)Z" } : Jvm.MethodName) "CountedSkipLists") ∈ lw_tbl := lw_at lw_m2 116 rfl
theorem q440 : (Jvm.Cond.classLink "CountedSkipLists$Parser" (55 : Nat) "java/lang/StringBuilder") ∈ lw_all := lw_g (lw_at lw_m2 117 rfl) rfl
theorem q442 : (Jvm.Cond.methodLink "CountedSkipLists$Parser" (57 : Nat) ({ cls := "java/lang/StringBuilder", name := "<init>", desc := "(I)V" } : Jvm.MethodName)) ∈ lw_all := lw_g (lw_at lw_m2 119 rfl) rfl
theorem q471 : (Jvm.Cond.methodLink "CountedSkipLists$Parser" (60 : Nat) ({ cls := "java/lang/StringBuilder", name := "length", desc := "()I" } : Jvm.MethodName)) ∈ lw_all := lw_g (lw_at lw_m2 148 rfl) rfl
theorem q478 : (Jvm.Cond.methodLink "CountedSkipLists$Parser" (64 : Nat) ({ cls := "java/lang/StringBuilder", name := "append", desc := "(C)Ljava/lang/StringBuilder;" } : Jvm.MethodName)) ∈ lw_all := lw_g (lw_at lw_m2 155 rfl) rfl
theorem q573 : (Jvm.Cond.methodLink "CountedSkipLists$Parser" (68 : Nat) ({ cls := "java/lang/StringBuilder", name := "toString", desc := "()Ljava/lang/String;" } : Jvm.MethodName)) ∈ lw_all := lw_g (lw_at lw_m3 10 rfl) rfl
theorem q714 : (Jvm.Cond.fieldLink "CountedSkipLists$Parser" (72 : Nat) "CountedSkipLists$Token" "WORD" "LCountedSkipLists$Token;") ∈ lw_all := lw_g (lw_at lw_m3 151 rfl) rfl
theorem q716 : (Jvm.Cond.fieldLink "CountedSkipLists$Parser" (78 : Nat) "CountedSkipLists$Token" "BAD" "LCountedSkipLists$Token;") ∈ lw_all := lw_g (lw_at lw_m3 153 rfl) rfl
theorem q718 : (Jvm.Cond.fieldLink "CountedSkipLists$Parser" (81 : Nat) "CountedSkipLists$Token" "NUMBER" "LCountedSkipLists$Token;") ∈ lw_all := lw_g (lw_at lw_m3 155 rfl) rfl
theorem q720 : (Jvm.Cond.fieldLink "CountedSkipLists$Parser" (84 : Nat) "CountedSkipLists$Token" "SEMICOLON" "LCountedSkipLists$Token;") ∈ lw_all := lw_g (lw_at lw_m3 157 rfl) rfl
theorem q722 : (Jvm.Cond.fieldLink "CountedSkipLists$Parser" (87 : Nat) "CountedSkipLists$Token" "COLON" "LCountedSkipLists$Token;") ∈ lw_all := lw_g (lw_at lw_m3 159 rfl) rfl
theorem q724 : (Jvm.Cond.fieldLink "CountedSkipLists$Parser" (90 : Nat) "CountedSkipLists$Token" "MINUS" "LCountedSkipLists$Token;") ∈ lw_all := lw_g (lw_at lw_m3 161 rfl) rfl
theorem q726 : (Jvm.Cond.fieldLink "CountedSkipLists$Parser" (21 : Nat) "CountedSkipLists$Parser" "size" "I") ∈ lw_all := lw_g (lw_at lw_m3 163 rfl) rfl
theorem q727 : (Jvm.Cond.fieldLink "CountedSkipLists$Parser" (115 : Nat) "CountedSkipLists$Parser" "made" "LCountedSkipLists$State;") ∈ lw_all := lw_g (lw_at lw_m3 164 rfl) rfl
theorem q728 : (Jvm.Cond.fieldLink "CountedSkipLists$Parser" (32 : Nat) "CountedSkipLists$Parser" "next" "I") ∈ lw_all := lw_g (lw_at lw_m3 165 rfl) rfl
theorem q729 : (Jvm.Cond.fieldLink "CountedSkipLists$Parser" (39 : Nat) "CountedSkipLists$Parser" "begin" "I") ∈ lw_all := lw_g (lw_at lw_m3 166 rfl) rfl
theorem q730 : (Jvm.Cond.fieldLink "CountedSkipLists$Parser" (75 : Nat) "CountedSkipLists$Parser" "value" "I") ∈ lw_all := lw_g (lw_at lw_m3 167 rfl) rfl
theorem q731 : (Jvm.Cond.fieldLink "CountedSkipLists$Parser" (48 : Nat) "CountedSkipLists$Parser" "token" "LCountedSkipLists$Token;") ∈ lw_all := lw_g (lw_at lw_m3 168 rfl) rfl
theorem q732 : (Jvm.Cond.fieldLink "CountedSkipLists$Parser" (17 : Nat) "CountedSkipLists$Parser" "word" "Ljava/lang/String;") ∈ lw_all := lw_g (lw_at lw_m3 169 rfl) rfl
theorem q733 : (Jvm.Cond.fieldLink "CountedSkipLists$Parser" (3 : Nat) "CountedSkipLists$Parser" "this$0" "LCountedSkipLists;") ∈ lw_all := lw_g (lw_at lw_m3 170 rfl) rfl
theorem q734 : (Jvm.Cond.laysFinal "CountedSkipLists$Parser" "CountedSkipLists$Parser" "size" "I") ∈ lw_all := lw_g (lw_at lw_m3 171 rfl) rfl
theorem q735 : (Jvm.Cond.soleField "CountedSkipLists$Parser" "size") ∈ lw_all := lw_g (lw_at lw_m3 172 rfl) rfl
theorem q736 : (Jvm.Cond.lays "CountedSkipLists$Parser" "CountedSkipLists$Parser" "made" "LCountedSkipLists$State;") ∈ lw_all := lw_g (lw_at lw_m3 173 rfl) rfl
theorem q737 : (Jvm.Cond.soleField "CountedSkipLists$Parser" "made") ∈ lw_all := lw_g (lw_at lw_m3 174 rfl) rfl
theorem q738 : (Jvm.Cond.lays "CountedSkipLists$Parser" "CountedSkipLists$Parser" "next" "I") ∈ lw_all := lw_g (lw_at lw_m3 175 rfl) rfl
theorem q739 : (Jvm.Cond.soleField "CountedSkipLists$Parser" "next") ∈ lw_all := lw_g (lw_at lw_m3 176 rfl) rfl
theorem q740 : (Jvm.Cond.lays "CountedSkipLists$Parser" "CountedSkipLists$Parser" "begin" "I") ∈ lw_all := lw_g (lw_at lw_m3 177 rfl) rfl
theorem q741 : (Jvm.Cond.soleField "CountedSkipLists$Parser" "begin") ∈ lw_all := lw_g (lw_at lw_m3 178 rfl) rfl
theorem q742 : (Jvm.Cond.lays "CountedSkipLists$Parser" "CountedSkipLists$Parser" "value" "I") ∈ lw_all := lw_g (lw_at lw_m3 179 rfl) rfl
theorem q743 : (Jvm.Cond.soleField "CountedSkipLists$Parser" "value") ∈ lw_all := lw_g (lw_at lw_m3 180 rfl) rfl
theorem q744 : (Jvm.Cond.lays "CountedSkipLists$Parser" "CountedSkipLists$Parser" "token" "LCountedSkipLists$Token;") ∈ lw_all := lw_g (lw_at lw_m3 181 rfl) rfl
theorem q745 : (Jvm.Cond.soleField "CountedSkipLists$Parser" "token") ∈ lw_all := lw_g (lw_at lw_m3 182 rfl) rfl
theorem q746 : (Jvm.Cond.lays "CountedSkipLists$Parser" "CountedSkipLists$Parser" "word" "Ljava/lang/String;") ∈ lw_all := lw_g (lw_at lw_m3 183 rfl) rfl
theorem q747 : (Jvm.Cond.soleField "CountedSkipLists$Parser" "word") ∈ lw_all := lw_g (lw_at lw_m3 184 rfl) rfl
theorem q748 : (Jvm.Cond.laysFinal "CountedSkipLists$Parser" "CountedSkipLists$Parser" "this$0" "LCountedSkipLists;") ∈ lw_all := lw_g (lw_at lw_m3 185 rfl) rfl
theorem q749 : (Jvm.Cond.soleField "CountedSkipLists$Parser" "this$0") ∈ lw_all := lw_g (lw_at lw_m3 186 rfl) rfl
theorem q750 : (Jvm.Cond.superclass "CountedSkipLists$Parser" "java/lang/Object") ∈ lw_all := lw_g (lw_at lw_m3 187 rfl) rfl
theorem q752 : (Jvm.Cond.instanceMethod ({ cls := "CountedSkipLists$Parser", name := "parse", desc := "()LCountedSkipLists$State;" } : Jvm.MethodName)) ∈ lw_all := lw_g (lw_at lw_m3 189 rfl) rfl
theorem q753 : (Jvm.Cond.selects "CountedSkipLists$Parser" ({ cls := "CountedSkipLists$Parser", name := "parse", desc := "()LCountedSkipLists$State;" } : Jvm.MethodName) ({ cls := "CountedSkipLists$Parser", name := "parse", desc := "()LCountedSkipLists$State;" } : Jvm.MethodName)) ∈ lw_all := lw_g (lw_at lw_m3 190 rfl) rfl
theorem q754 : (Jvm.Cond.code ({ cls := "CountedSkipLists$Parser", name := "parse", desc := "()LCountedSkipLists$State;" } : Jvm.MethodName) prog_10_method_11_code (3 : Nat) (Option.some (Jvm.ClassFile.FieldType.object "CountedSkipLists$State"))) ∈ lw_all := lw_g (lw_at lw_m3 191 rfl) rfl
theorem q755 : (Jvm.Cond.stringRef "CountedSkipLists$Parser" (144 : Nat) "limit") ∈ lw_tbl := lw_at lw_m3 192 rfl
theorem q756 : (Jvm.Cond.methodLink "CountedSkipLists$Parser" (146 : Nat) ({ cls := "CountedSkipLists$Parser", name := "isWord", desc := "(Ljava/lang/String;)Z" } : Jvm.MethodName)) ∈ lw_all := lw_g (lw_at lw_m3 193 rfl) rfl
theorem q757 : (Jvm.Cond.privateMethod ({ cls := "CountedSkipLists$Parser", name := "isWord", desc := "(Ljava/lang/String;)Z" } : Jvm.MethodName)) ∈ lw_tbl := lw_at lw_m3 194 rfl
theorem q758 : (Jvm.Cond.instanceMethod ({ cls := "CountedSkipLists$Parser", name := "isWord", desc := "(Ljava/lang/String;)Z" } : Jvm.MethodName)) ∈ lw_all := lw_g (lw_at lw_m3 195 rfl) rfl
theorem q759 : (Jvm.Cond.code ({ cls := "CountedSkipLists$Parser", name := "isWord", desc := "(Ljava/lang/String;)Z" } : Jvm.MethodName) prog_10_method_6_code (2 : Nat) (Option.some Jvm.ClassFile.FieldType.boolean)) ∈ lw_all := lw_g (lw_at lw_m3 196 rfl) rfl
theorem q760 : (Jvm.Cond.methodLink "CountedSkipLists$Parser" (102 : Nat) ({ cls := "java/lang/String", name := "equals", desc := "(Ljava/lang/Object;)Z" } : Jvm.MethodName)) ∈ lw_all := lw_g (lw_at lw_m3 197 rfl) rfl
theorem q768 : (Jvm.Cond.methodLink "CountedSkipLists$Parser" (135 : Nat) ({ cls := "CountedSkipLists$Parser", name := "take", desc := "(ZI)V" } : Jvm.MethodName)) ∈ lw_all := lw_g (lw_at lw_m3 205 rfl) rfl
theorem q769 : (Jvm.Cond.privateMethod ({ cls := "CountedSkipLists$Parser", name := "take", desc := "(ZI)V" } : Jvm.MethodName)) ∈ lw_tbl := lw_at lw_m3 206 rfl
theorem q770 : (Jvm.Cond.instanceMethod ({ cls := "CountedSkipLists$Parser", name := "take", desc := "(ZI)V" } : Jvm.MethodName)) ∈ lw_all := lw_g (lw_at lw_m3 207 rfl) rfl
theorem q771 : (Jvm.Cond.code ({ cls := "CountedSkipLists$Parser", name := "take", desc := "(ZI)V" } : Jvm.MethodName) prog_10_method_5_code (3 : Nat) (Option.none : Option Jvm.ClassFile.FieldType)) ∈ lw_all := lw_g (lw_at lw_m3 208 rfl) rfl
theorem q772 : (Jvm.Cond.methodLink "CountedSkipLists$Parser" (98 : Nat) ({ cls := "CountedSkipLists$Parser", name := "require", desc := "(ZI)V" } : Jvm.MethodName)) ∈ lw_all := lw_g (lw_at lw_m3 209 rfl) rfl
theorem q773 : (Jvm.Cond.privateMethod ({ cls := "CountedSkipLists$Parser", name := "require", desc := "(ZI)V" } : Jvm.MethodName)) ∈ lw_tbl := lw_at lw_m3 210 rfl
theorem q774 : (Jvm.Cond.instanceMethod ({ cls := "CountedSkipLists$Parser", name := "require", desc := "(ZI)V" } : Jvm.MethodName)) ∈ lw_all := lw_g (lw_at lw_m3 211 rfl) rfl
theorem q775 : (Jvm.Cond.code ({ cls := "CountedSkipLists$Parser", name := "require", desc := "(ZI)V" } : Jvm.MethodName) prog_10_method_4_code (3 : Nat) (Option.none : Option Jvm.ClassFile.FieldType)) ∈ lw_all := lw_g (lw_at lw_m3 212 rfl) rfl
theorem q776 : (Jvm.Cond.classLink "CountedSkipLists$Parser" (93 : Nat) "CountedSkipLists$TextException") ∈ lw_all := lw_g (lw_at lw_m3 213 rfl) rfl
theorem q785 : (Jvm.Cond.methodLink "CountedSkipLists$Parser" (95 : Nat) ({ cls := "CountedSkipLists$TextException", name := "<init>", desc := "(II)V" } : Jvm.MethodName)) ∈ lw_all := lw_g (lw_at lw_m3 222 rfl) rfl
theorem q804 : (Jvm.Cond.classLink "CountedSkipLists$Parser" (120 : Nat) "CountedSkipLists$State") ∈ lw_all := lw_g (lw_at lw_m4 1 rfl) rfl
theorem q805 : (Jvm.Cond.methodLink "CountedSkipLists$Parser" (150 : Nat) ({ cls := "CountedSkipLists$State", name := "<init>", desc := "(I)V" } : Jvm.MethodName)) ∈ lw_all := lw_g (lw_at lw_m4 2 rfl) rfl
theorem q806 : (Jvm.Cond.stringRef "CountedSkipLists$Parser" (151 : Nat) "list") ∈ lw_tbl := lw_at lw_m4 3 rfl
theorem q807 : (Jvm.Cond.methodLink "CountedSkipLists$Parser" (153 : Nat) ({ cls := "CountedSkipLists$Parser", name := "readList", desc := "()LCountedSkipLists$SkipList;" } : Jvm.MethodName)) ∈ lw_all := lw_g (lw_at lw_m4 4 rfl) rfl
theorem q808 : (Jvm.Cond.privateMethod ({ cls := "CountedSkipLists$Parser", name := "readList", desc := "()LCountedSkipLists$SkipList;" } : Jvm.MethodName)) ∈ lw_tbl := lw_at lw_m4 5 rfl
theorem q809 : (Jvm.Cond.instanceMethod ({ cls := "CountedSkipLists$Parser", name := "readList", desc := "()LCountedSkipLists$SkipList;" } : Jvm.MethodName)) ∈ lw_all := lw_g (lw_at lw_m4 6 rfl) rfl
theorem q810 : (Jvm.Cond.code ({ cls := "CountedSkipLists$Parser", name := "readList", desc := "()LCountedSkipLists$SkipList;" } : Jvm.MethodName) prog_10_method_10_code (5 : Nat) (Option.some (Jvm.ClassFile.FieldType.object "CountedSkipLists$SkipList"))) ∈ lw_all := lw_g (lw_at lw_m4 7 rfl) rfl
theorem q811 : (Jvm.Cond.methodLink "CountedSkipLists$Parser" (114 : Nat) ({ cls := "java/lang/String", name := "length", desc := "()I" } : Jvm.MethodName)) ∈ lw_all := lw_g (lw_at lw_m4 8 rfl) rfl
theorem q812 : (Jvm.Cond.classLink "CountedSkipLists$Parser" (109 : Nat) "CountedSkipLists$SkipList") ∈ lw_all := lw_g (lw_at lw_m4 9 rfl) rfl
theorem q814 : (Jvm.Cond.methodLink "CountedSkipLists$Parser" (128 : Nat) ({ cls := "CountedSkipLists$SkipList", name := "<init>", desc := "(Ljava/lang/String;)V" } : Jvm.MethodName)) ∈ lw_all := lw_g (lw_at lw_m4 11 rfl) rfl
theorem q869 : (Jvm.Cond.fieldLinkNest "CountedSkipLists$Parser" (125 : Nat) "CountedSkipLists$SkipList" "name" "Ljava/lang/String;" "CountedSkipLists") ∈ lw_tbl := lw_at lw_m4 66 rfl
theorem q876 : (Jvm.Cond.fieldLinkNest "CountedSkipLists$Parser" (108 : Nat) "CountedSkipLists$SkipList" "size" "I" "CountedSkipLists") ∈ lw_tbl := lw_at lw_m4 73 rfl
theorem q887 : (Jvm.Cond.methodLink "CountedSkipLists$Parser" (111 : Nat) ({ cls := "CountedSkipLists$Parser", name := "sign", desc := "()I" } : Jvm.MethodName)) ∈ lw_all := lw_g (lw_at lw_m4 84 rfl) rfl
theorem q888 : (Jvm.Cond.privateMethod ({ cls := "CountedSkipLists$Parser", name := "sign", desc := "()I" } : Jvm.MethodName)) ∈ lw_tbl := lw_at lw_m4 85 rfl
theorem q889 : (Jvm.Cond.instanceMethod ({ cls := "CountedSkipLists$Parser", name := "sign", desc := "()I" } : Jvm.MethodName)) ∈ lw_all := lw_g (lw_at lw_m4 86 rfl) rfl
theorem q890 : (Jvm.Cond.code ({ cls := "CountedSkipLists$Parser", name := "sign", desc := "()I" } : Jvm.MethodName) prog_10_method_7_code (1 : Nat) (Option.some Jvm.ClassFile.FieldType.int)) ∈ lw_all := lw_g (lw_at lw_m4 87 rfl) rfl
theorem q891 : (Jvm.Cond.methodLink "CountedSkipLists$Parser" (131 : Nat) ({ cls := "CountedSkipLists$Parser", name := "isGreater", desc := "(LCountedSkipLists$SkipList;II)Z" } : Jvm.MethodName)) ∈ lw_all := lw_g (lw_at lw_m4 88 rfl) rfl
theorem q892 : (Jvm.Cond.privateMethod ({ cls := "CountedSkipLists$Parser", name := "isGreater", desc := "(LCountedSkipLists$SkipList;II)Z" } : Jvm.MethodName)) ∈ lw_tbl := lw_at lw_m4 89 rfl
theorem q893 : (Jvm.Cond.instanceMethod ({ cls := "CountedSkipLists$Parser", name := "isGreater", desc := "(LCountedSkipLists$SkipList;II)Z" } : Jvm.MethodName)) ∈ lw_all := lw_g (lw_at lw_m4 90 rfl) rfl
theorem q894 : (Jvm.Cond.code ({ cls := "CountedSkipLists$Parser", name := "isGreater", desc := "(LCountedSkipLists$SkipList;II)Z" } : Jvm.MethodName) prog_10_method_8_code (4 : Nat) (Option.some Jvm.ClassFile.FieldType.boolean)) ∈ lw_all := lw_g (lw_at lw_m4 91 rfl) rfl
theorem q895 : (Jvm.Cond.methodLink "CountedSkipLists$Parser" (138 : Nat) ({ cls := "CountedSkipLists$Parser", name := "readValue", desc := "()I" } : Jvm.MethodName)) ∈ lw_all := lw_g (lw_at lw_m4 92 rfl) rfl
theorem q896 : (Jvm.Cond.privateMethod ({ cls := "CountedSkipLists$Parser", name := "readValue", desc := "()I" } : Jvm.MethodName)) ∈ lw_tbl := lw_at lw_m4 93 rfl
theorem q897 : (Jvm.Cond.instanceMethod ({ cls := "CountedSkipLists$Parser", name := "readValue", desc := "()I" } : Jvm.MethodName)) ∈ lw_all := lw_g (lw_at lw_m4 94 rfl) rfl
theorem q898 : (Jvm.Cond.code ({ cls := "CountedSkipLists$Parser", name := "readValue", desc := "()I" } : Jvm.MethodName) prog_10_method_9_code (3 : Nat) (Option.some Jvm.ClassFile.FieldType.int)) ∈ lw_all := lw_g (lw_at lw_m4 95 rfl) rfl
theorem q899 : (Jvm.Cond.methodLink "CountedSkipLists$Parser" (141 : Nat) ({ cls := "CountedSkipLists$SkipList", name := "append", desc := "(III)V" } : Jvm.MethodName)) ∈ lw_all := lw_g (lw_at lw_m4 96 rfl) rfl
theorem q908 : (Jvm.Cond.methodLink "CountedSkipLists$Parser" (157 : Nat) ({ cls := "CountedSkipLists$SkipList", name := "counted", desc := "()LCountedSkipLists$SkipList;" } : Jvm.MethodName)) ∈ lw_all := lw_g (lw_at lw_m4 105 rfl) rfl
theorem q917 : (Jvm.Cond.classLink "CountedSkipLists$Parser" (162 : Nat) "CountedSkipLists$Journal") ∈ lw_all := lw_g (lw_at lw_m4 114 rfl) rfl
theorem q918 : (Jvm.Cond.methodLinkNest "CountedSkipLists$Parser" (164 : Nat) ({ cls := "CountedSkipLists$Journal", name := "<init>", desc := "()V" } : Jvm.MethodName) "CountedSkipLists") ∈ lw_tbl := lw_at lw_m4 115 rfl
theorem q919 : (Jvm.Cond.methodLinkNest "CountedSkipLists$Parser" (165 : Nat) ({ cls := "CountedSkipLists", name := "repairs", desc := "(LCountedSkipLists$SkipList;ILCountedSkipLists$Journal;)V" } : Jvm.MethodName) "CountedSkipLists") ∈ lw_tbl := lw_at lw_m4 116 rfl
theorem q1087 : (Jvm.Cond.selects "CountedSkipLists$Parser" ({ cls := "java/lang/Object", name := "getClass", desc := "()Ljava/lang/Class;" } : Jvm.MethodName) ({ cls := "java/lang/Object", name := "getClass", desc := "()Ljava/lang/Class;" } : Jvm.MethodName)) ∈ lw_all := lw_g (lw_at lw_m5 44 rfl) rfl
theorem q2670 : (Jvm.Cond.castable "CountedSkipLists$Parser" "java/lang/Object") ∈ lw_tbl := lw_at lw_m11 187 rfl
theorem in_X5 : ∀ w ∈ wsX50, w ∈ lw_all := lw_in wsX50 [734, 736, 738, 740, 742, 744, 746, 748] (by decide +kernel) (by decide +kernel)

/-! CountedSkipLists$TextException -/
set_option maxRecDepth 100000
def RX6 : String := "CountedSkipLists$TextException"
def TX6 : u_T := fun k => match k with
  | 0 => ("java/lang/Throwable", "cause", "Ljava/lang/Throwable;", false)
  | 1 => ("java/lang/Throwable", "stackTrace", "[Ljava/lang/StackTraceElement;", false)
  | 2 => ("java/lang/Throwable", "suppressedExceptions", "Ljava/util/List;", false)
  | 3 => ("java/lang/Throwable", "detailMessage", "Ljava/lang/String;", false)
  | 4 => ("java/lang/Throwable", "backtrace", "Ljava/lang/Object;", false)
  | 5 => ("java/lang/Throwable", "depth", "I", false)
  | 6 => ("CountedSkipLists$TextException", "code", "I", true)
  | _ => ("CountedSkipLists$TextException", "position", "I", true)
def tyX6 : Nat → FieldType := fun k => match k with
  | 0 => .object "java/lang/Throwable"
  | 1 => .array (.object "java/lang/StackTraceElement")
  | 2 => .object "java/util/List"
  | 3 => .object "java/lang/String"
  | 4 => .object "java/lang/Object"
  | 5 => .int
  | 6 => .int
  | _ => .int
abbrev wsX60 : List Cond := u_ws RX6 TX6 8
theorem nmX6 : ∀ a, a < 8 → ∀ b, b < 8 → a ≠ b → (TX6 a).2.1 ≠ (TX6 b).2.1 := by decide +kernel
theorem tyX6_ok : ∀ k, k < 8 → parseFieldDescriptor (TX6 k).2.2.1 = some (tyX6 k) := by decide +kernel
abbrev cX6_init : ByteArray := prog_15_method_1_code
def yX6_init : MethodName := ⟨RX6, "<init>", "(II)V"⟩
def dkwX6_init_0 : List UInt8 := [42, 1, 1, 3, 3, 183, 0, 1, 42, 27, 181, 0, 7, 42, 28, 181, 0, 13, 177]
abbrev dktX6_init_0 : List UInt8 := dkwX6_init_0 ++ []
theorem dksX6_init_0 : cX6_init.data.toList.drop 0 = dktX6_init_0 := by decide +kernel
theorem dX6_init_0 : decode cX6_init 0 = .ok (.aload_n 0, 1) := dk_42 (dk_at dksX6_init_0 0 rfl rfl)
theorem dX6_init_1 : decode cX6_init 1 = .ok (.aconst_null, 1) := dk_1 (dk_at dksX6_init_0 1 rfl rfl)
theorem dX6_init_2 : decode cX6_init 2 = .ok (.aconst_null, 1) := dk_1 (dk_at dksX6_init_0 2 rfl rfl)
theorem dX6_init_3 : decode cX6_init 3 = .ok (.iconst 0, 1) := dk_3 (dk_at dksX6_init_0 3 rfl rfl)
theorem dX6_init_4 : decode cX6_init 4 = .ok (.iconst 0, 1) := dk_3 (dk_at dksX6_init_0 4 rfl rfl)
theorem dX6_init_5 : decode cX6_init 5 = .ok (.invokespecial 1, 3) := dk_183 0 1 (dk_at dksX6_init_0 5 rfl rfl)
theorem dX6_init_8 : decode cX6_init 8 = .ok (.aload_n 0, 1) := dk_42 (dk_at dksX6_init_0 8 rfl rfl)
theorem dX6_init_9 : decode cX6_init 9 = .ok (.iload_n 1, 1) := dk_27 (dk_at dksX6_init_0 9 rfl rfl)
theorem dX6_init_10 : decode cX6_init 10 = .ok (.putfield 7, 3) := dk_181 0 7 (dk_at dksX6_init_0 10 rfl rfl)
theorem dX6_init_13 : decode cX6_init 13 = .ok (.aload_n 0, 1) := dk_42 (dk_at dksX6_init_0 13 rfl rfl)
theorem dX6_init_14 : decode cX6_init 14 = .ok (.iload_n 2, 1) := dk_28 (dk_at dksX6_init_0 14 rfl rfl)
theorem dX6_init_15 : decode cX6_init 15 = .ok (.putfield 13, 3) := dk_181 0 13 (dk_at dksX6_init_0 15 rfl rfl)
theorem dX6_init_18 : decode cX6_init 18 = .ok (.return_, 1) := dk_177 (dk_at dksX6_init_0 18 rfl rfl)
theorem q114 : (Jvm.Cond.initialized "CountedSkipLists$TextException") ∈ lw_all := lw_g (lw_at lw_m1 31 rfl) rfl
theorem q322 : (Jvm.Cond.selects "CountedSkipLists$TextException" ({ cls := "java/lang/Throwable", name := "fillInStackTrace", desc := "()Ljava/lang/Throwable;" } : Jvm.MethodName) ({ cls := "java/lang/Throwable", name := "fillInStackTrace", desc := "()Ljava/lang/Throwable;" } : Jvm.MethodName)) ∈ lw_all := lw_g (lw_at lw_m1 239 rfl) rfl
theorem q777 : (Jvm.Cond.instantiable "CountedSkipLists$TextException" (8 : Nat)) ∈ lw_all := lw_g (lw_at lw_m3 214 rfl) rfl
theorem q778 : (Jvm.Cond.castable "CountedSkipLists$TextException" "CountedSkipLists$TextException") ∈ lw_tbl := lw_at lw_m3 215 rfl
theorem q779 : (Jvm.Cond.selects "CountedSkipLists$TextException" ({ cls := "java/lang/Throwable", name := "fillInStackTrace", desc := "(I)Ljava/lang/Throwable;" } : Jvm.MethodName) ({ cls := "java/lang/Throwable", name := "fillInStackTrace", desc := "(I)Ljava/lang/Throwable;" } : Jvm.MethodName)) ∈ lw_all := lw_g (lw_at lw_m3 216 rfl) rfl
theorem q780 : (Jvm.Cond.lays "CountedSkipLists$TextException" "java/lang/Throwable" "cause" "Ljava/lang/Throwable;") ∈ lw_all := lw_g (lw_at lw_m3 217 rfl) rfl
theorem q781 : (Jvm.Cond.lays "CountedSkipLists$TextException" "java/lang/Throwable" "stackTrace" "[Ljava/lang/StackTraceElement;") ∈ lw_all := lw_g (lw_at lw_m3 218 rfl) rfl
theorem q782 : (Jvm.Cond.lays "CountedSkipLists$TextException" "java/lang/Throwable" "suppressedExceptions" "Ljava/util/List;") ∈ lw_all := lw_g (lw_at lw_m3 219 rfl) rfl
theorem q783 : (Jvm.Cond.lays "CountedSkipLists$TextException" "java/lang/Throwable" "detailMessage" "Ljava/lang/String;") ∈ lw_all := lw_g (lw_at lw_m3 220 rfl) rfl
theorem q784 : (Jvm.Cond.lays "CountedSkipLists$TextException" "java/lang/Throwable" "backtrace" "Ljava/lang/Object;") ∈ lw_all := lw_g (lw_at lw_m3 221 rfl) rfl
theorem q786 : (Jvm.Cond.instanceMethod ({ cls := "CountedSkipLists$TextException", name := "<init>", desc := "(II)V" } : Jvm.MethodName)) ∈ lw_all := lw_g (lw_at lw_m3 223 rfl) rfl
theorem q787 : (Jvm.Cond.code ({ cls := "CountedSkipLists$TextException", name := "<init>", desc := "(II)V" } : Jvm.MethodName) prog_15_method_1_code (3 : Nat) (Option.none : Option Jvm.ClassFile.FieldType)) ∈ lw_all := lw_g (lw_at lw_m3 224 rfl) rfl
theorem q788 : (Jvm.Cond.methodLink "CountedSkipLists$TextException" (1 : Nat) ({ cls := "java/lang/Exception", name := "<init>", desc := "(Ljava/lang/String;Ljava/lang/Throwable;ZZ)V" } : Jvm.MethodName)) ∈ lw_all := lw_g (lw_at lw_m3 225 rfl) rfl
theorem q794 : (Jvm.Cond.fieldLink "CountedSkipLists$TextException" (7 : Nat) "CountedSkipLists$TextException" "code" "I") ∈ lw_all := lw_g (lw_at lw_m3 231 rfl) rfl
theorem q796 : (Jvm.Cond.fieldLink "CountedSkipLists$TextException" (13 : Nat) "CountedSkipLists$TextException" "position" "I") ∈ lw_all := lw_g (lw_at lw_m3 233 rfl) rfl
theorem q798 : (Jvm.Cond.laysFinal "CountedSkipLists$TextException" "CountedSkipLists$TextException" "code" "I") ∈ lw_all := lw_g (lw_at lw_m3 235 rfl) rfl
theorem q799 : (Jvm.Cond.soleField "CountedSkipLists$TextException" "code") ∈ lw_all := lw_g (lw_at lw_m3 236 rfl) rfl
theorem q800 : (Jvm.Cond.laysFinal "CountedSkipLists$TextException" "CountedSkipLists$TextException" "position" "I") ∈ lw_all := lw_g (lw_at lw_m3 237 rfl) rfl
theorem q801 : (Jvm.Cond.soleField "CountedSkipLists$TextException" "position") ∈ lw_all := lw_g (lw_at lw_m3 238 rfl) rfl
theorem q802 : (Jvm.Cond.lays "CountedSkipLists$TextException" "java/lang/Throwable" "depth" "I") ∈ lw_all := lw_g (lw_at lw_m3 239 rfl) rfl
theorem q803 : (Jvm.Cond.superclass "CountedSkipLists$TextException" "java/lang/Exception") ∈ lw_all := lw_g (lw_at lw_m4 0 rfl) rfl
theorem q1091 : (Jvm.Cond.selects "CountedSkipLists$TextException" ({ cls := "java/lang/Object", name := "getClass", desc := "()Ljava/lang/Class;" } : Jvm.MethodName) ({ cls := "java/lang/Object", name := "getClass", desc := "()Ljava/lang/Class;" } : Jvm.MethodName)) ∈ lw_all := lw_g (lw_at lw_m5 48 rfl) rfl
theorem q2675 : (Jvm.Cond.castable "CountedSkipLists$TextException" "java/lang/Object") ∈ lw_tbl := lw_at lw_m11 192 rfl
theorem in_X6 : ∀ w ∈ wsX60, w ∈ lw_all := lw_in wsX60 [780, 781, 782, 783, 784, 802, 798, 800] (by decide +kernel) (by decide +kernel)

/-! CountedSkipLists$SkipList -/
set_option maxRecDepth 100000
def RX7 : String := "CountedSkipLists$SkipList"
def TX7 : u_T := fun k => match k with
  | 0 => ("CountedSkipLists$SkipList", "name", "Ljava/lang/String;", true)
  | 1 => ("CountedSkipLists$SkipList", "head", "LCountedSkipLists$Node;", true)
  | 2 => ("CountedSkipLists$SkipList", "paths", "[LCountedSkipLists$Node;", true)
  | _ => ("CountedSkipLists$SkipList", "size", "I", false)
def tyX7 : Nat → FieldType := fun k => match k with
  | 0 => .object "java/lang/String"
  | 1 => .object "CountedSkipLists$Node"
  | 2 => .array (.object "CountedSkipLists$Node")
  | _ => .int
abbrev wsX70 : List Cond := u_ws RX7 TX7 4
theorem nmX7 : ∀ a, a < 4 → ∀ b, b < 4 → a ≠ b → (TX7 a).2.1 ≠ (TX7 b).2.1 := by decide +kernel
theorem tyX7_ok : ∀ k, k < 4 → parseFieldDescriptor (TX7 k).2.2.1 = some (tyX7 k) := by decide +kernel
abbrev cX7_init : ByteArray := prog_12_method_1_code
def yX7_init : MethodName := ⟨RX7, "<init>", "(Ljava/lang/String;)V"⟩
def dkwX7_init_2 : List UInt8 := [167, 255, 236, 42, 43, 181, 0, 26, 177]
abbrev dktX7_init_2 : List UInt8 := dkwX7_init_2 ++ []
def dkwX7_init_1 : List UInt8 := [4, 61, 28, 16, 8, 163, 0, 20, 42, 180, 0, 12, 28, 1, 4, 3, 182, 0, 22, 132, 2, 1]
abbrev dktX7_init_1 : List UInt8 := dkwX7_init_1 ++ dktX7_init_2
def dkwX7_init_0 : List UInt8 := [42, 183, 0, 3, 42, 187, 0, 9, 89, 183, 0, 11, 181, 0, 12, 42, 16, 9, 189, 0, 9, 181, 0, 18]
abbrev dktX7_init_0 : List UInt8 := dkwX7_init_0 ++ dktX7_init_1
theorem dksX7_init_0 : cX7_init.data.toList.drop 0 = dktX7_init_0 := by decide +kernel
theorem dksX7_init_1 : cX7_init.data.toList.drop 24 = dktX7_init_1 := dk_seg dksX7_init_0 24 rfl rfl
theorem dksX7_init_2 : cX7_init.data.toList.drop 46 = dktX7_init_2 := dk_seg dksX7_init_1 22 rfl rfl
theorem dX7_init_0 : decode cX7_init 0 = .ok (.aload_n 0, 1) := dk_42 (dk_at dksX7_init_0 0 rfl rfl)
theorem dX7_init_1 : decode cX7_init 1 = .ok (.invokespecial 3, 3) := dk_183 0 3 (dk_at dksX7_init_0 1 rfl rfl)
theorem dX7_init_4 : decode cX7_init 4 = .ok (.aload_n 0, 1) := dk_42 (dk_at dksX7_init_0 4 rfl rfl)
theorem dX7_init_5 : decode cX7_init 5 = .ok (.new 9, 3) := dk_187 0 9 (dk_at dksX7_init_0 5 rfl rfl)
theorem dX7_init_8 : decode cX7_init 8 = .ok (.dup, 1) := dk_89 (dk_at dksX7_init_0 8 rfl rfl)
theorem dX7_init_9 : decode cX7_init 9 = .ok (.invokespecial 11, 3) := dk_183 0 11 (dk_at dksX7_init_0 9 rfl rfl)
theorem dX7_init_12 : decode cX7_init 12 = .ok (.putfield 12, 3) := dk_181 0 12 (dk_at dksX7_init_0 12 rfl rfl)
theorem dX7_init_15 : decode cX7_init 15 = .ok (.aload_n 0, 1) := dk_42 (dk_at dksX7_init_0 15 rfl rfl)
theorem dX7_init_16 : decode cX7_init 16 = .ok (.bipush 9, 2) := dk_16 9 (dk_at dksX7_init_0 16 rfl rfl)
theorem dX7_init_18 : decode cX7_init 18 = .ok (.anewarray 9, 3) := dk_189 0 9 (dk_at dksX7_init_0 18 rfl rfl)
theorem dX7_init_21 : decode cX7_init 21 = .ok (.putfield 18, 3) := dk_181 0 18 (dk_at dksX7_init_0 21 rfl rfl)
theorem dX7_init_24 : decode cX7_init 24 = .ok (.iconst 1, 1) := dk_4 (dk_at dksX7_init_1 0 rfl rfl)
theorem dX7_init_25 : decode cX7_init 25 = .ok (.istore_n 2, 1) := dk_61 (dk_at dksX7_init_1 1 rfl rfl)
theorem dX7_init_26 : decode cX7_init 26 = .ok (.iload_n 2, 1) := dk_28 (dk_at dksX7_init_1 2 rfl rfl)
theorem dX7_init_27 : decode cX7_init 27 = .ok (.bipush 8, 2) := dk_16 8 (dk_at dksX7_init_1 3 rfl rfl)
theorem dX7_init_29 : decode cX7_init 29 = .ok (.if_icmp .gt 20, 3) := dk_163 0 20 (dk_at dksX7_init_1 5 rfl rfl)
theorem dX7_init_32 : decode cX7_init 32 = .ok (.aload_n 0, 1) := dk_42 (dk_at dksX7_init_1 8 rfl rfl)
theorem dX7_init_33 : decode cX7_init 33 = .ok (.getfield 12, 3) := dk_180 0 12 (dk_at dksX7_init_1 9 rfl rfl)
theorem dX7_init_36 : decode cX7_init 36 = .ok (.iload_n 2, 1) := dk_28 (dk_at dksX7_init_1 12 rfl rfl)
theorem dX7_init_37 : decode cX7_init 37 = .ok (.aconst_null, 1) := dk_1 (dk_at dksX7_init_1 13 rfl rfl)
theorem dX7_init_38 : decode cX7_init 38 = .ok (.iconst 1, 1) := dk_4 (dk_at dksX7_init_1 14 rfl rfl)
theorem dX7_init_39 : decode cX7_init 39 = .ok (.iconst 0, 1) := dk_3 (dk_at dksX7_init_1 15 rfl rfl)
theorem dX7_init_40 : decode cX7_init 40 = .ok (.invokevirtual 22, 3) := dk_182 0 22 (dk_at dksX7_init_1 16 rfl rfl)
theorem dX7_init_43 : decode cX7_init 43 = .ok (.iinc 2 1, 3) := dk_132 2 1 (dk_at dksX7_init_1 19 rfl rfl)
theorem dX7_init_46 : decode cX7_init 46 = .ok (.goto (-20), 3) := dk_167 255 236 (dk_at dksX7_init_2 0 rfl rfl)
theorem dX7_init_49 : decode cX7_init 49 = .ok (.aload_n 0, 1) := dk_42 (dk_at dksX7_init_2 3 rfl rfl)
theorem dX7_init_50 : decode cX7_init 50 = .ok (.aload_n 1, 1) := dk_43 (dk_at dksX7_init_2 4 rfl rfl)
theorem dX7_init_51 : decode cX7_init 51 = .ok (.putfield 26, 3) := dk_181 0 26 (dk_at dksX7_init_2 5 rfl rfl)
theorem dX7_init_54 : decode cX7_init 54 = .ok (.return_, 1) := dk_177 (dk_at dksX7_init_2 8 rfl rfl)
abbrev cX7_append : ByteArray := prog_12_method_6_code
def yX7_append : MethodName := ⟨RX7, "append", "(III)V"⟩
def dkwX7_append_5 : List UInt8 := [28, 96, 79, 132, 5, 1, 167, 255, 148, 42, 89, 180, 0, 66, 4, 96, 181, 0, 66, 177]
abbrev dktX7_append_5 : List UInt8 := dkwX7_append_5 ++ []
def dkwX7_append_4 : List UInt8 := [167, 0, 27, 25, 6, 180, 0, 59, 21, 5, 92, 46, 4, 96, 79, 25, 6, 180, 0, 63, 21, 5, 92, 46]
abbrev dktX7_append_4 : List UInt8 := dkwX7_append_4 ++ dktX7_append_5
def dkwX7_append_3 : List UInt8 := [25, 4, 25, 6, 180, 0, 59, 21, 5, 46, 25, 6, 180, 0, 63, 21, 5, 46, 28, 96, 182, 0, 22]
abbrev dktX7_append_3 : List UInt8 := dkwX7_append_3 ++ dktX7_append_4
def dkwX7_append_2 : List UInt8 := [167, 255, 237, 21, 5, 29, 163, 0, 43, 25, 4, 21, 5, 1, 4, 3, 182, 0, 22, 25, 6, 21, 5]
abbrev dktX7_append_2 : List UInt8 := dkwX7_append_2 ++ dktX7_append_3
def dkwX7_append_1 : List UInt8 := [180, 0, 12, 58, 6, 25, 6, 21, 5, 182, 0, 35, 198, 0, 15, 25, 6, 21, 5, 182, 0, 35, 58, 6]
abbrev dktX7_append_1 : List UInt8 := dkwX7_append_1 ++ dktX7_append_2
def dkwX7_append_0 : List UInt8 := [187, 0, 9, 89, 27, 28, 29, 183, 0, 57, 58, 4, 4, 54, 5, 21, 5, 16, 8, 163, 0, 107, 42]
abbrev dktX7_append_0 : List UInt8 := dkwX7_append_0 ++ dktX7_append_1
theorem dksX7_append_0 : cX7_append.data.toList.drop 0 = dktX7_append_0 := by decide +kernel
theorem dksX7_append_1 : cX7_append.data.toList.drop 23 = dktX7_append_1 := dk_seg dksX7_append_0 23 rfl rfl
theorem dksX7_append_2 : cX7_append.data.toList.drop 47 = dktX7_append_2 := dk_seg dksX7_append_1 24 rfl rfl
theorem dksX7_append_3 : cX7_append.data.toList.drop 70 = dktX7_append_3 := dk_seg dksX7_append_2 23 rfl rfl
theorem dksX7_append_4 : cX7_append.data.toList.drop 93 = dktX7_append_4 := dk_seg dksX7_append_3 23 rfl rfl
theorem dksX7_append_5 : cX7_append.data.toList.drop 117 = dktX7_append_5 := dk_seg dksX7_append_4 24 rfl rfl
theorem dX7_append_0 : decode cX7_append 0 = .ok (.new 9, 3) := dk_187 0 9 (dk_at dksX7_append_0 0 rfl rfl)
theorem dX7_append_3 : decode cX7_append 3 = .ok (.dup, 1) := dk_89 (dk_at dksX7_append_0 3 rfl rfl)
theorem dX7_append_4 : decode cX7_append 4 = .ok (.iload_n 1, 1) := dk_27 (dk_at dksX7_append_0 4 rfl rfl)
theorem dX7_append_5 : decode cX7_append 5 = .ok (.iload_n 2, 1) := dk_28 (dk_at dksX7_append_0 5 rfl rfl)
theorem dX7_append_6 : decode cX7_append 6 = .ok (.iload_n 3, 1) := dk_29 (dk_at dksX7_append_0 6 rfl rfl)
theorem dX7_append_7 : decode cX7_append 7 = .ok (.invokespecial 57, 3) := dk_183 0 57 (dk_at dksX7_append_0 7 rfl rfl)
theorem dX7_append_10 : decode cX7_append 10 = .ok (.astore 4, 2) := dk_58 4 (dk_at dksX7_append_0 10 rfl rfl)
theorem dX7_append_12 : decode cX7_append 12 = .ok (.iconst 1, 1) := dk_4 (dk_at dksX7_append_0 12 rfl rfl)
theorem dX7_append_13 : decode cX7_append 13 = .ok (.istore 5, 2) := dk_54 5 (dk_at dksX7_append_0 13 rfl rfl)
theorem dX7_append_15 : decode cX7_append 15 = .ok (.iload 5, 2) := dk_21 5 (dk_at dksX7_append_0 15 rfl rfl)
theorem dX7_append_17 : decode cX7_append 17 = .ok (.bipush 8, 2) := dk_16 8 (dk_at dksX7_append_0 17 rfl rfl)
theorem dX7_append_19 : decode cX7_append 19 = .ok (.if_icmp .gt 107, 3) := dk_163 0 107 (dk_at dksX7_append_0 19 rfl rfl)
theorem dX7_append_22 : decode cX7_append 22 = .ok (.aload_n 0, 1) := dk_42 (dk_at dksX7_append_0 22 rfl rfl)
theorem dX7_append_23 : decode cX7_append 23 = .ok (.getfield 12, 3) := dk_180 0 12 (dk_at dksX7_append_1 0 rfl rfl)
theorem dX7_append_26 : decode cX7_append 26 = .ok (.astore 6, 2) := dk_58 6 (dk_at dksX7_append_1 3 rfl rfl)
theorem dX7_append_28 : decode cX7_append 28 = .ok (.aload 6, 2) := dk_25 6 (dk_at dksX7_append_1 5 rfl rfl)
theorem dX7_append_30 : decode cX7_append 30 = .ok (.iload 5, 2) := dk_21 5 (dk_at dksX7_append_1 7 rfl rfl)
theorem dX7_append_32 : decode cX7_append 32 = .ok (.invokevirtual 35, 3) := dk_182 0 35 (dk_at dksX7_append_1 9 rfl rfl)
theorem dX7_append_35 : decode cX7_append 35 = .ok (.ifnull 15, 3) := dk_198 0 15 (dk_at dksX7_append_1 12 rfl rfl)
theorem dX7_append_38 : decode cX7_append 38 = .ok (.aload 6, 2) := dk_25 6 (dk_at dksX7_append_1 15 rfl rfl)
theorem dX7_append_40 : decode cX7_append 40 = .ok (.iload 5, 2) := dk_21 5 (dk_at dksX7_append_1 17 rfl rfl)
theorem dX7_append_42 : decode cX7_append 42 = .ok (.invokevirtual 35, 3) := dk_182 0 35 (dk_at dksX7_append_1 19 rfl rfl)
theorem dX7_append_45 : decode cX7_append 45 = .ok (.astore 6, 2) := dk_58 6 (dk_at dksX7_append_1 22 rfl rfl)
theorem dX7_append_47 : decode cX7_append 47 = .ok (.goto (-19), 3) := dk_167 255 237 (dk_at dksX7_append_2 0 rfl rfl)
theorem dX7_append_50 : decode cX7_append 50 = .ok (.iload 5, 2) := dk_21 5 (dk_at dksX7_append_2 3 rfl rfl)
theorem dX7_append_52 : decode cX7_append 52 = .ok (.iload_n 3, 1) := dk_29 (dk_at dksX7_append_2 5 rfl rfl)
theorem dX7_append_53 : decode cX7_append 53 = .ok (.if_icmp .gt 43, 3) := dk_163 0 43 (dk_at dksX7_append_2 6 rfl rfl)
theorem dX7_append_56 : decode cX7_append 56 = .ok (.aload 4, 2) := dk_25 4 (dk_at dksX7_append_2 9 rfl rfl)
theorem dX7_append_58 : decode cX7_append 58 = .ok (.iload 5, 2) := dk_21 5 (dk_at dksX7_append_2 11 rfl rfl)
theorem dX7_append_60 : decode cX7_append 60 = .ok (.aconst_null, 1) := dk_1 (dk_at dksX7_append_2 13 rfl rfl)
theorem dX7_append_61 : decode cX7_append 61 = .ok (.iconst 1, 1) := dk_4 (dk_at dksX7_append_2 14 rfl rfl)
theorem dX7_append_62 : decode cX7_append 62 = .ok (.iconst 0, 1) := dk_3 (dk_at dksX7_append_2 15 rfl rfl)
theorem dX7_append_63 : decode cX7_append 63 = .ok (.invokevirtual 22, 3) := dk_182 0 22 (dk_at dksX7_append_2 16 rfl rfl)
theorem dX7_append_66 : decode cX7_append 66 = .ok (.aload 6, 2) := dk_25 6 (dk_at dksX7_append_2 19 rfl rfl)
theorem dX7_append_68 : decode cX7_append 68 = .ok (.iload 5, 2) := dk_21 5 (dk_at dksX7_append_2 21 rfl rfl)
theorem dX7_append_70 : decode cX7_append 70 = .ok (.aload 4, 2) := dk_25 4 (dk_at dksX7_append_3 0 rfl rfl)
theorem dX7_append_72 : decode cX7_append 72 = .ok (.aload 6, 2) := dk_25 6 (dk_at dksX7_append_3 2 rfl rfl)
theorem dX7_append_74 : decode cX7_append 74 = .ok (.getfield 59, 3) := dk_180 0 59 (dk_at dksX7_append_3 4 rfl rfl)
theorem dX7_append_77 : decode cX7_append 77 = .ok (.iload 5, 2) := dk_21 5 (dk_at dksX7_append_3 7 rfl rfl)
theorem dX7_append_79 : decode cX7_append 79 = .ok (.iaload, 1) := dk_46 (dk_at dksX7_append_3 9 rfl rfl)
theorem dX7_append_80 : decode cX7_append 80 = .ok (.aload 6, 2) := dk_25 6 (dk_at dksX7_append_3 10 rfl rfl)
theorem dX7_append_82 : decode cX7_append 82 = .ok (.getfield 63, 3) := dk_180 0 63 (dk_at dksX7_append_3 12 rfl rfl)
theorem dX7_append_85 : decode cX7_append 85 = .ok (.iload 5, 2) := dk_21 5 (dk_at dksX7_append_3 15 rfl rfl)
theorem dX7_append_87 : decode cX7_append 87 = .ok (.iaload, 1) := dk_46 (dk_at dksX7_append_3 17 rfl rfl)
theorem dX7_append_88 : decode cX7_append 88 = .ok (.iload_n 2, 1) := dk_28 (dk_at dksX7_append_3 18 rfl rfl)
theorem dX7_append_89 : decode cX7_append 89 = .ok (.iadd, 1) := dk_96 (dk_at dksX7_append_3 19 rfl rfl)
theorem dX7_append_90 : decode cX7_append 90 = .ok (.invokevirtual 22, 3) := dk_182 0 22 (dk_at dksX7_append_3 20 rfl rfl)
theorem dX7_append_93 : decode cX7_append 93 = .ok (.goto 27, 3) := dk_167 0 27 (dk_at dksX7_append_4 0 rfl rfl)
theorem dX7_append_96 : decode cX7_append 96 = .ok (.aload 6, 2) := dk_25 6 (dk_at dksX7_append_4 3 rfl rfl)
theorem dX7_append_98 : decode cX7_append 98 = .ok (.getfield 59, 3) := dk_180 0 59 (dk_at dksX7_append_4 5 rfl rfl)
theorem dX7_append_101 : decode cX7_append 101 = .ok (.iload 5, 2) := dk_21 5 (dk_at dksX7_append_4 8 rfl rfl)
theorem dX7_append_103 : decode cX7_append 103 = .ok (.dup2, 1) := dk_92 (dk_at dksX7_append_4 10 rfl rfl)
theorem dX7_append_104 : decode cX7_append 104 = .ok (.iaload, 1) := dk_46 (dk_at dksX7_append_4 11 rfl rfl)
theorem dX7_append_105 : decode cX7_append 105 = .ok (.iconst 1, 1) := dk_4 (dk_at dksX7_append_4 12 rfl rfl)
theorem dX7_append_106 : decode cX7_append 106 = .ok (.iadd, 1) := dk_96 (dk_at dksX7_append_4 13 rfl rfl)
theorem dX7_append_107 : decode cX7_append 107 = .ok (.iastore, 1) := dk_79 (dk_at dksX7_append_4 14 rfl rfl)
theorem dX7_append_108 : decode cX7_append 108 = .ok (.aload 6, 2) := dk_25 6 (dk_at dksX7_append_4 15 rfl rfl)
theorem dX7_append_110 : decode cX7_append 110 = .ok (.getfield 63, 3) := dk_180 0 63 (dk_at dksX7_append_4 17 rfl rfl)
theorem dX7_append_113 : decode cX7_append 113 = .ok (.iload 5, 2) := dk_21 5 (dk_at dksX7_append_4 20 rfl rfl)
theorem dX7_append_115 : decode cX7_append 115 = .ok (.dup2, 1) := dk_92 (dk_at dksX7_append_4 22 rfl rfl)
theorem dX7_append_116 : decode cX7_append 116 = .ok (.iaload, 1) := dk_46 (dk_at dksX7_append_4 23 rfl rfl)
theorem dX7_append_117 : decode cX7_append 117 = .ok (.iload_n 2, 1) := dk_28 (dk_at dksX7_append_5 0 rfl rfl)
theorem dX7_append_118 : decode cX7_append 118 = .ok (.iadd, 1) := dk_96 (dk_at dksX7_append_5 1 rfl rfl)
theorem dX7_append_119 : decode cX7_append 119 = .ok (.iastore, 1) := dk_79 (dk_at dksX7_append_5 2 rfl rfl)
theorem dX7_append_120 : decode cX7_append 120 = .ok (.iinc 5 1, 3) := dk_132 5 1 (dk_at dksX7_append_5 3 rfl rfl)
theorem dX7_append_123 : decode cX7_append 123 = .ok (.goto (-108), 3) := dk_167 255 148 (dk_at dksX7_append_5 6 rfl rfl)
theorem dX7_append_126 : decode cX7_append 126 = .ok (.aload_n 0, 1) := dk_42 (dk_at dksX7_append_5 9 rfl rfl)
theorem dX7_append_127 : decode cX7_append 127 = .ok (.dup, 1) := dk_89 (dk_at dksX7_append_5 10 rfl rfl)
theorem dX7_append_128 : decode cX7_append 128 = .ok (.getfield 66, 3) := dk_180 0 66 (dk_at dksX7_append_5 11 rfl rfl)
theorem dX7_append_131 : decode cX7_append 131 = .ok (.iconst 1, 1) := dk_4 (dk_at dksX7_append_5 14 rfl rfl)
theorem dX7_append_132 : decode cX7_append 132 = .ok (.iadd, 1) := dk_96 (dk_at dksX7_append_5 15 rfl rfl)
theorem dX7_append_133 : decode cX7_append 133 = .ok (.putfield 66, 3) := dk_181 0 66 (dk_at dksX7_append_5 16 rfl rfl)
theorem dX7_append_136 : decode cX7_append 136 = .ok (.return_, 1) := dk_177 (dk_at dksX7_append_5 19 rfl rfl)
abbrev cX7_counted : ByteArray := prog_12_method_20_code
def yX7_counted : MethodName := ⟨RX7, "counted", "()LCountedSkipLists$SkipList;"⟩
def dkwX7_counted_2 : List UInt8 := [182, 0, 53, 45, 4, 182, 0, 35, 78, 167, 255, 224, 43, 176]
abbrev dktX7_counted_2 : List UInt8 := dkwX7_counted_2 ++ []
def dkwX7_counted_1 : List UInt8 := [198, 0, 34, 132, 2, 1, 43, 45, 180, 0, 43, 45, 180, 0, 47, 4, 178, 0, 105, 28, 46, 96]
abbrev dktX7_counted_1 : List UInt8 := dkwX7_counted_1 ++ dktX7_counted_2
def dkwX7_counted_0 : List UInt8 := [187, 0, 13, 89, 42, 180, 0, 26, 183, 0, 32, 76, 3, 61, 42, 180, 0, 12, 4, 182, 0, 35, 78, 45]
abbrev dktX7_counted_0 : List UInt8 := dkwX7_counted_0 ++ dktX7_counted_1
theorem dksX7_counted_0 : cX7_counted.data.toList.drop 0 = dktX7_counted_0 := by decide +kernel
theorem dksX7_counted_1 : cX7_counted.data.toList.drop 24 = dktX7_counted_1 := dk_seg dksX7_counted_0 24 rfl rfl
theorem dksX7_counted_2 : cX7_counted.data.toList.drop 46 = dktX7_counted_2 := dk_seg dksX7_counted_1 22 rfl rfl
theorem dX7_counted_0 : decode cX7_counted 0 = .ok (.new 13, 3) := dk_187 0 13 (dk_at dksX7_counted_0 0 rfl rfl)
theorem dX7_counted_3 : decode cX7_counted 3 = .ok (.dup, 1) := dk_89 (dk_at dksX7_counted_0 3 rfl rfl)
theorem dX7_counted_4 : decode cX7_counted 4 = .ok (.aload_n 0, 1) := dk_42 (dk_at dksX7_counted_0 4 rfl rfl)
theorem dX7_counted_5 : decode cX7_counted 5 = .ok (.getfield 26, 3) := dk_180 0 26 (dk_at dksX7_counted_0 5 rfl rfl)
theorem dX7_counted_8 : decode cX7_counted 8 = .ok (.invokespecial 32, 3) := dk_183 0 32 (dk_at dksX7_counted_0 8 rfl rfl)
theorem dX7_counted_11 : decode cX7_counted 11 = .ok (.astore_n 1, 1) := dk_76 (dk_at dksX7_counted_0 11 rfl rfl)
theorem dX7_counted_12 : decode cX7_counted 12 = .ok (.iconst 0, 1) := dk_3 (dk_at dksX7_counted_0 12 rfl rfl)
theorem dX7_counted_13 : decode cX7_counted 13 = .ok (.istore_n 2, 1) := dk_61 (dk_at dksX7_counted_0 13 rfl rfl)
theorem dX7_counted_14 : decode cX7_counted 14 = .ok (.aload_n 0, 1) := dk_42 (dk_at dksX7_counted_0 14 rfl rfl)
theorem dX7_counted_15 : decode cX7_counted 15 = .ok (.getfield 12, 3) := dk_180 0 12 (dk_at dksX7_counted_0 15 rfl rfl)
theorem dX7_counted_18 : decode cX7_counted 18 = .ok (.iconst 1, 1) := dk_4 (dk_at dksX7_counted_0 18 rfl rfl)
theorem dX7_counted_19 : decode cX7_counted 19 = .ok (.invokevirtual 35, 3) := dk_182 0 35 (dk_at dksX7_counted_0 19 rfl rfl)
theorem dX7_counted_22 : decode cX7_counted 22 = .ok (.astore_n 3, 1) := dk_78 (dk_at dksX7_counted_0 22 rfl rfl)
theorem dX7_counted_23 : decode cX7_counted 23 = .ok (.aload_n 3, 1) := dk_45 (dk_at dksX7_counted_0 23 rfl rfl)
theorem dX7_counted_24 : decode cX7_counted 24 = .ok (.ifnull 34, 3) := dk_198 0 34 (dk_at dksX7_counted_1 0 rfl rfl)
theorem dX7_counted_27 : decode cX7_counted 27 = .ok (.iinc 2 1, 3) := dk_132 2 1 (dk_at dksX7_counted_1 3 rfl rfl)
theorem dX7_counted_30 : decode cX7_counted 30 = .ok (.aload_n 1, 1) := dk_43 (dk_at dksX7_counted_1 6 rfl rfl)
theorem dX7_counted_31 : decode cX7_counted 31 = .ok (.aload_n 3, 1) := dk_45 (dk_at dksX7_counted_1 7 rfl rfl)
theorem dX7_counted_32 : decode cX7_counted 32 = .ok (.getfield 43, 3) := dk_180 0 43 (dk_at dksX7_counted_1 8 rfl rfl)
theorem dX7_counted_35 : decode cX7_counted 35 = .ok (.aload_n 3, 1) := dk_45 (dk_at dksX7_counted_1 11 rfl rfl)
theorem dX7_counted_36 : decode cX7_counted 36 = .ok (.getfield 47, 3) := dk_180 0 47 (dk_at dksX7_counted_1 12 rfl rfl)
theorem dX7_counted_39 : decode cX7_counted 39 = .ok (.iconst 1, 1) := dk_4 (dk_at dksX7_counted_1 15 rfl rfl)
theorem dX7_counted_40 : decode cX7_counted 40 = .ok (.getstatic 105, 3) := dk_178 0 105 (dk_at dksX7_counted_1 16 rfl rfl)
theorem dX7_counted_43 : decode cX7_counted 43 = .ok (.iload_n 2, 1) := dk_28 (dk_at dksX7_counted_1 19 rfl rfl)
theorem dX7_counted_44 : decode cX7_counted 44 = .ok (.iaload, 1) := dk_46 (dk_at dksX7_counted_1 20 rfl rfl)
theorem dX7_counted_45 : decode cX7_counted 45 = .ok (.iadd, 1) := dk_96 (dk_at dksX7_counted_1 21 rfl rfl)
theorem dX7_counted_46 : decode cX7_counted 46 = .ok (.invokevirtual 53, 3) := dk_182 0 53 (dk_at dksX7_counted_2 0 rfl rfl)
theorem dX7_counted_49 : decode cX7_counted 49 = .ok (.aload_n 3, 1) := dk_45 (dk_at dksX7_counted_2 3 rfl rfl)
theorem dX7_counted_50 : decode cX7_counted 50 = .ok (.iconst 1, 1) := dk_4 (dk_at dksX7_counted_2 4 rfl rfl)
theorem dX7_counted_51 : decode cX7_counted 51 = .ok (.invokevirtual 35, 3) := dk_182 0 35 (dk_at dksX7_counted_2 5 rfl rfl)
theorem dX7_counted_54 : decode cX7_counted 54 = .ok (.astore_n 3, 1) := dk_78 (dk_at dksX7_counted_2 8 rfl rfl)
theorem dX7_counted_55 : decode cX7_counted 55 = .ok (.goto (-32), 3) := dk_167 255 224 (dk_at dksX7_counted_2 9 rfl rfl)
theorem dX7_counted_58 : decode cX7_counted 58 = .ok (.aload_n 1, 1) := dk_43 (dk_at dksX7_counted_2 12 rfl rfl)
theorem dX7_counted_59 : decode cX7_counted 59 = .ok (.areturn, 1) := dk_176 (dk_at dksX7_counted_2 13 rfl rfl)
abbrev cX7_tooFull : ByteArray := prog_12_method_18_code
def yX7_tooFull : MethodName := ⟨RX7, "tooFull", "(I)LCountedSkipLists$Gap;"⟩
def dkwX7_tooFull_3 : List UInt8 := [58, 4, 167, 255, 201, 132, 2, 1, 167, 255, 179, 1, 176]
abbrev dktX7_tooFull_3 : List UInt8 := dkwX7_tooFull_3 ++ []
def dkwX7_tooFull_2 : List UInt8 := [25, 4, 28, 4, 96, 182, 0, 35, 45, 183, 0, 102, 176, 25, 4, 78, 25, 4, 28, 4, 96, 182, 0, 35]
abbrev dktX7_tooFull_2 : List UInt8 := dkwX7_tooFull_2 ++ dktX7_tooFull_3
def dkwX7_tooFull_1 : List UInt8 := [28, 25, 4, 182, 0, 96, 54, 5, 21, 5, 27, 164, 0, 25, 187, 0, 100, 89, 28, 21, 5, 25, 4]
abbrev dktX7_tooFull_1 : List UInt8 := dkwX7_tooFull_1 ++ dktX7_tooFull_2
def dkwX7_tooFull_0 : List UInt8 := [4, 61, 28, 42, 182, 0, 83, 163, 0, 75, 1, 78, 42, 180, 0, 12, 58, 4, 25, 4, 198, 0, 56, 42]
abbrev dktX7_tooFull_0 : List UInt8 := dkwX7_tooFull_0 ++ dktX7_tooFull_1
theorem dksX7_tooFull_0 : cX7_tooFull.data.toList.drop 0 = dktX7_tooFull_0 := by decide +kernel
theorem dksX7_tooFull_1 : cX7_tooFull.data.toList.drop 24 = dktX7_tooFull_1 := dk_seg dksX7_tooFull_0 24 rfl rfl
theorem dksX7_tooFull_2 : cX7_tooFull.data.toList.drop 47 = dktX7_tooFull_2 := dk_seg dksX7_tooFull_1 23 rfl rfl
theorem dksX7_tooFull_3 : cX7_tooFull.data.toList.drop 71 = dktX7_tooFull_3 := dk_seg dksX7_tooFull_2 24 rfl rfl
theorem dX7_tooFull_0 : decode cX7_tooFull 0 = .ok (.iconst 1, 1) := dk_4 (dk_at dksX7_tooFull_0 0 rfl rfl)
theorem dX7_tooFull_1 : decode cX7_tooFull 1 = .ok (.istore_n 2, 1) := dk_61 (dk_at dksX7_tooFull_0 1 rfl rfl)
theorem dX7_tooFull_2 : decode cX7_tooFull 2 = .ok (.iload_n 2, 1) := dk_28 (dk_at dksX7_tooFull_0 2 rfl rfl)
theorem dX7_tooFull_3 : decode cX7_tooFull 3 = .ok (.aload_n 0, 1) := dk_42 (dk_at dksX7_tooFull_0 3 rfl rfl)
theorem dX7_tooFull_4 : decode cX7_tooFull 4 = .ok (.invokevirtual 83, 3) := dk_182 0 83 (dk_at dksX7_tooFull_0 4 rfl rfl)
theorem dX7_tooFull_7 : decode cX7_tooFull 7 = .ok (.if_icmp .gt 75, 3) := dk_163 0 75 (dk_at dksX7_tooFull_0 7 rfl rfl)
theorem dX7_tooFull_10 : decode cX7_tooFull 10 = .ok (.aconst_null, 1) := dk_1 (dk_at dksX7_tooFull_0 10 rfl rfl)
theorem dX7_tooFull_11 : decode cX7_tooFull 11 = .ok (.astore_n 3, 1) := dk_78 (dk_at dksX7_tooFull_0 11 rfl rfl)
theorem dX7_tooFull_12 : decode cX7_tooFull 12 = .ok (.aload_n 0, 1) := dk_42 (dk_at dksX7_tooFull_0 12 rfl rfl)
theorem dX7_tooFull_13 : decode cX7_tooFull 13 = .ok (.getfield 12, 3) := dk_180 0 12 (dk_at dksX7_tooFull_0 13 rfl rfl)
theorem dX7_tooFull_16 : decode cX7_tooFull 16 = .ok (.astore 4, 2) := dk_58 4 (dk_at dksX7_tooFull_0 16 rfl rfl)
theorem dX7_tooFull_18 : decode cX7_tooFull 18 = .ok (.aload 4, 2) := dk_25 4 (dk_at dksX7_tooFull_0 18 rfl rfl)
theorem dX7_tooFull_20 : decode cX7_tooFull 20 = .ok (.ifnull 56, 3) := dk_198 0 56 (dk_at dksX7_tooFull_0 20 rfl rfl)
theorem dX7_tooFull_23 : decode cX7_tooFull 23 = .ok (.aload_n 0, 1) := dk_42 (dk_at dksX7_tooFull_0 23 rfl rfl)
theorem dX7_tooFull_24 : decode cX7_tooFull 24 = .ok (.iload_n 2, 1) := dk_28 (dk_at dksX7_tooFull_1 0 rfl rfl)
theorem dX7_tooFull_25 : decode cX7_tooFull 25 = .ok (.aload 4, 2) := dk_25 4 (dk_at dksX7_tooFull_1 1 rfl rfl)
theorem dX7_tooFull_27 : decode cX7_tooFull 27 = .ok (.invokevirtual 96, 3) := dk_182 0 96 (dk_at dksX7_tooFull_1 3 rfl rfl)
theorem dX7_tooFull_30 : decode cX7_tooFull 30 = .ok (.istore 5, 2) := dk_54 5 (dk_at dksX7_tooFull_1 6 rfl rfl)
theorem dX7_tooFull_32 : decode cX7_tooFull 32 = .ok (.iload 5, 2) := dk_21 5 (dk_at dksX7_tooFull_1 8 rfl rfl)
theorem dX7_tooFull_34 : decode cX7_tooFull 34 = .ok (.iload_n 1, 1) := dk_27 (dk_at dksX7_tooFull_1 10 rfl rfl)
theorem dX7_tooFull_35 : decode cX7_tooFull 35 = .ok (.if_icmp .le 25, 3) := dk_164 0 25 (dk_at dksX7_tooFull_1 11 rfl rfl)
theorem dX7_tooFull_38 : decode cX7_tooFull 38 = .ok (.new 100, 3) := dk_187 0 100 (dk_at dksX7_tooFull_1 14 rfl rfl)
theorem dX7_tooFull_41 : decode cX7_tooFull 41 = .ok (.dup, 1) := dk_89 (dk_at dksX7_tooFull_1 17 rfl rfl)
theorem dX7_tooFull_42 : decode cX7_tooFull 42 = .ok (.iload_n 2, 1) := dk_28 (dk_at dksX7_tooFull_1 18 rfl rfl)
theorem dX7_tooFull_43 : decode cX7_tooFull 43 = .ok (.iload 5, 2) := dk_21 5 (dk_at dksX7_tooFull_1 19 rfl rfl)
theorem dX7_tooFull_45 : decode cX7_tooFull 45 = .ok (.aload 4, 2) := dk_25 4 (dk_at dksX7_tooFull_1 21 rfl rfl)
theorem dX7_tooFull_47 : decode cX7_tooFull 47 = .ok (.aload 4, 2) := dk_25 4 (dk_at dksX7_tooFull_2 0 rfl rfl)
theorem dX7_tooFull_49 : decode cX7_tooFull 49 = .ok (.iload_n 2, 1) := dk_28 (dk_at dksX7_tooFull_2 2 rfl rfl)
theorem dX7_tooFull_50 : decode cX7_tooFull 50 = .ok (.iconst 1, 1) := dk_4 (dk_at dksX7_tooFull_2 3 rfl rfl)
theorem dX7_tooFull_51 : decode cX7_tooFull 51 = .ok (.iadd, 1) := dk_96 (dk_at dksX7_tooFull_2 4 rfl rfl)
theorem dX7_tooFull_52 : decode cX7_tooFull 52 = .ok (.invokevirtual 35, 3) := dk_182 0 35 (dk_at dksX7_tooFull_2 5 rfl rfl)
theorem dX7_tooFull_55 : decode cX7_tooFull 55 = .ok (.aload_n 3, 1) := dk_45 (dk_at dksX7_tooFull_2 8 rfl rfl)
theorem dX7_tooFull_56 : decode cX7_tooFull 56 = .ok (.invokespecial 102, 3) := dk_183 0 102 (dk_at dksX7_tooFull_2 9 rfl rfl)
theorem dX7_tooFull_59 : decode cX7_tooFull 59 = .ok (.areturn, 1) := dk_176 (dk_at dksX7_tooFull_2 12 rfl rfl)
theorem dX7_tooFull_60 : decode cX7_tooFull 60 = .ok (.aload 4, 2) := dk_25 4 (dk_at dksX7_tooFull_2 13 rfl rfl)
theorem dX7_tooFull_62 : decode cX7_tooFull 62 = .ok (.astore_n 3, 1) := dk_78 (dk_at dksX7_tooFull_2 15 rfl rfl)
theorem dX7_tooFull_63 : decode cX7_tooFull 63 = .ok (.aload 4, 2) := dk_25 4 (dk_at dksX7_tooFull_2 16 rfl rfl)
theorem dX7_tooFull_65 : decode cX7_tooFull 65 = .ok (.iload_n 2, 1) := dk_28 (dk_at dksX7_tooFull_2 18 rfl rfl)
theorem dX7_tooFull_66 : decode cX7_tooFull 66 = .ok (.iconst 1, 1) := dk_4 (dk_at dksX7_tooFull_2 19 rfl rfl)
theorem dX7_tooFull_67 : decode cX7_tooFull 67 = .ok (.iadd, 1) := dk_96 (dk_at dksX7_tooFull_2 20 rfl rfl)
theorem dX7_tooFull_68 : decode cX7_tooFull 68 = .ok (.invokevirtual 35, 3) := dk_182 0 35 (dk_at dksX7_tooFull_2 21 rfl rfl)
theorem dX7_tooFull_71 : decode cX7_tooFull 71 = .ok (.astore 4, 2) := dk_58 4 (dk_at dksX7_tooFull_3 0 rfl rfl)
theorem dX7_tooFull_73 : decode cX7_tooFull 73 = .ok (.goto (-55), 3) := dk_167 255 201 (dk_at dksX7_tooFull_3 2 rfl rfl)
theorem dX7_tooFull_76 : decode cX7_tooFull 76 = .ok (.iinc 2 1, 3) := dk_132 2 1 (dk_at dksX7_tooFull_3 5 rfl rfl)
theorem dX7_tooFull_79 : decode cX7_tooFull 79 = .ok (.goto (-77), 3) := dk_167 255 179 (dk_at dksX7_tooFull_3 8 rfl rfl)
theorem dX7_tooFull_82 : decode cX7_tooFull 82 = .ok (.aconst_null, 1) := dk_1 (dk_at dksX7_tooFull_3 11 rfl rfl)
theorem dX7_tooFull_83 : decode cX7_tooFull 83 = .ok (.areturn, 1) := dk_176 (dk_at dksX7_tooFull_3 12 rfl rfl)
abbrev cX7_height : ByteArray := prog_12_method_5_code
def yX7_height : MethodName := ⟨RX7, "height", "()I"⟩
def dkwX7_height_0 : List UInt8 := [3, 60, 42, 180, 0, 12, 27, 4, 96, 182, 0, 35, 198, 0, 9, 132, 1, 1, 167, 255, 240, 27, 172]
abbrev dktX7_height_0 : List UInt8 := dkwX7_height_0 ++ []
theorem dksX7_height_0 : cX7_height.data.toList.drop 0 = dktX7_height_0 := by decide +kernel
theorem dX7_height_0 : decode cX7_height 0 = .ok (.iconst 0, 1) := dk_3 (dk_at dksX7_height_0 0 rfl rfl)
theorem dX7_height_1 : decode cX7_height 1 = .ok (.istore_n 1, 1) := dk_60 (dk_at dksX7_height_0 1 rfl rfl)
theorem dX7_height_2 : decode cX7_height 2 = .ok (.aload_n 0, 1) := dk_42 (dk_at dksX7_height_0 2 rfl rfl)
theorem dX7_height_3 : decode cX7_height 3 = .ok (.getfield 12, 3) := dk_180 0 12 (dk_at dksX7_height_0 3 rfl rfl)
theorem dX7_height_6 : decode cX7_height 6 = .ok (.iload_n 1, 1) := dk_27 (dk_at dksX7_height_0 6 rfl rfl)
theorem dX7_height_7 : decode cX7_height 7 = .ok (.iconst 1, 1) := dk_4 (dk_at dksX7_height_0 7 rfl rfl)
theorem dX7_height_8 : decode cX7_height 8 = .ok (.iadd, 1) := dk_96 (dk_at dksX7_height_0 8 rfl rfl)
theorem dX7_height_9 : decode cX7_height 9 = .ok (.invokevirtual 35, 3) := dk_182 0 35 (dk_at dksX7_height_0 9 rfl rfl)
theorem dX7_height_12 : decode cX7_height 12 = .ok (.ifnull 9, 3) := dk_198 0 9 (dk_at dksX7_height_0 12 rfl rfl)
theorem dX7_height_15 : decode cX7_height 15 = .ok (.iinc 1 1, 3) := dk_132 1 1 (dk_at dksX7_height_0 15 rfl rfl)
theorem dX7_height_18 : decode cX7_height 18 = .ok (.goto (-16), 3) := dk_167 255 240 (dk_at dksX7_height_0 18 rfl rfl)
theorem dX7_height_21 : decode cX7_height 21 = .ok (.iload_n 1, 1) := dk_27 (dk_at dksX7_height_0 21 rfl rfl)
theorem dX7_height_22 : decode cX7_height 22 = .ok (.ireturn, 1) := dk_172 (dk_at dksX7_height_0 22 rfl rfl)
abbrev cX7_inGap : ByteArray := prog_12_method_17_code
def yX7_inGap : MethodName := ⟨RX7, "inGap", "(ILCountedSkipLists$Node;)I"⟩
def dkwX7_inGap_1 : List UInt8 := [165, 0, 17, 132, 3, 1, 25, 5, 27, 182, 0, 35, 58, 5, 167, 255, 238, 29, 172]
abbrev dktX7_inGap_1 : List UInt8 := dkwX7_inGap_1 ++ []
def dkwX7_inGap_0 : List UInt8 := [3, 62, 44, 27, 4, 96, 182, 0, 35, 58, 4, 44, 27, 182, 0, 35, 58, 5, 25, 5, 25, 4]
abbrev dktX7_inGap_0 : List UInt8 := dkwX7_inGap_0 ++ dktX7_inGap_1
theorem dksX7_inGap_0 : cX7_inGap.data.toList.drop 0 = dktX7_inGap_0 := by decide +kernel
theorem dksX7_inGap_1 : cX7_inGap.data.toList.drop 22 = dktX7_inGap_1 := dk_seg dksX7_inGap_0 22 rfl rfl
theorem dX7_inGap_0 : decode cX7_inGap 0 = .ok (.iconst 0, 1) := dk_3 (dk_at dksX7_inGap_0 0 rfl rfl)
theorem dX7_inGap_1 : decode cX7_inGap 1 = .ok (.istore_n 3, 1) := dk_62 (dk_at dksX7_inGap_0 1 rfl rfl)
theorem dX7_inGap_2 : decode cX7_inGap 2 = .ok (.aload_n 2, 1) := dk_44 (dk_at dksX7_inGap_0 2 rfl rfl)
theorem dX7_inGap_3 : decode cX7_inGap 3 = .ok (.iload_n 1, 1) := dk_27 (dk_at dksX7_inGap_0 3 rfl rfl)
theorem dX7_inGap_4 : decode cX7_inGap 4 = .ok (.iconst 1, 1) := dk_4 (dk_at dksX7_inGap_0 4 rfl rfl)
theorem dX7_inGap_5 : decode cX7_inGap 5 = .ok (.iadd, 1) := dk_96 (dk_at dksX7_inGap_0 5 rfl rfl)
theorem dX7_inGap_6 : decode cX7_inGap 6 = .ok (.invokevirtual 35, 3) := dk_182 0 35 (dk_at dksX7_inGap_0 6 rfl rfl)
theorem dX7_inGap_9 : decode cX7_inGap 9 = .ok (.astore 4, 2) := dk_58 4 (dk_at dksX7_inGap_0 9 rfl rfl)
theorem dX7_inGap_11 : decode cX7_inGap 11 = .ok (.aload_n 2, 1) := dk_44 (dk_at dksX7_inGap_0 11 rfl rfl)
theorem dX7_inGap_12 : decode cX7_inGap 12 = .ok (.iload_n 1, 1) := dk_27 (dk_at dksX7_inGap_0 12 rfl rfl)
theorem dX7_inGap_13 : decode cX7_inGap 13 = .ok (.invokevirtual 35, 3) := dk_182 0 35 (dk_at dksX7_inGap_0 13 rfl rfl)
theorem dX7_inGap_16 : decode cX7_inGap 16 = .ok (.astore 5, 2) := dk_58 5 (dk_at dksX7_inGap_0 16 rfl rfl)
theorem dX7_inGap_18 : decode cX7_inGap 18 = .ok (.aload 5, 2) := dk_25 5 (dk_at dksX7_inGap_0 18 rfl rfl)
theorem dX7_inGap_20 : decode cX7_inGap 20 = .ok (.aload 4, 2) := dk_25 4 (dk_at dksX7_inGap_0 20 rfl rfl)
theorem dX7_inGap_22 : decode cX7_inGap 22 = .ok (.if_acmp .eq 17, 3) := dk_165 0 17 (dk_at dksX7_inGap_1 0 rfl rfl)
theorem dX7_inGap_25 : decode cX7_inGap 25 = .ok (.iinc 3 1, 3) := dk_132 3 1 (dk_at dksX7_inGap_1 3 rfl rfl)
theorem dX7_inGap_28 : decode cX7_inGap 28 = .ok (.aload 5, 2) := dk_25 5 (dk_at dksX7_inGap_1 6 rfl rfl)
theorem dX7_inGap_30 : decode cX7_inGap 30 = .ok (.iload_n 1, 1) := dk_27 (dk_at dksX7_inGap_1 8 rfl rfl)
theorem dX7_inGap_31 : decode cX7_inGap 31 = .ok (.invokevirtual 35, 3) := dk_182 0 35 (dk_at dksX7_inGap_1 9 rfl rfl)
theorem dX7_inGap_34 : decode cX7_inGap 34 = .ok (.astore 5, 2) := dk_58 5 (dk_at dksX7_inGap_1 12 rfl rfl)
theorem dX7_inGap_36 : decode cX7_inGap 36 = .ok (.goto (-18), 3) := dk_167 255 238 (dk_at dksX7_inGap_1 14 rfl rfl)
theorem dX7_inGap_39 : decode cX7_inGap 39 = .ok (.iload_n 3, 1) := dk_29 (dk_at dksX7_inGap_1 17 rfl rfl)
theorem dX7_inGap_40 : decode cX7_inGap 40 = .ok (.ireturn, 1) := dk_172 (dk_at dksX7_inGap_1 18 rfl rfl)
abbrev cX7_empty : ByteArray := prog_12_method_19_code
def yX7_empty : MethodName := ⟨RX7, "empty", "()LCountedSkipLists$Gap;"⟩
def dkwX7_empty_3 : List UInt8 := [167, 255, 191, 1, 176]
abbrev dktX7_empty_3 : List UInt8 := dkwX7_empty_3 ++ []
def dkwX7_empty_2 : List UInt8 := [182, 0, 35, 44, 183, 0, 102, 176, 45, 77, 45, 27, 4, 96, 182, 0, 35, 78, 167, 255, 208, 132, 1, 255]
abbrev dktX7_empty_2 : List UInt8 := dkwX7_empty_2 ++ dktX7_empty_3
def dkwX7_empty_1 : List UInt8 := [182, 0, 35, 45, 27, 4, 96, 182, 0, 35, 166, 0, 22, 187, 0, 100, 89, 27, 3, 45, 45, 27, 4, 96]
abbrev dktX7_empty_1 : List UInt8 := dkwX7_empty_1 ++ dktX7_empty_2
def dkwX7_empty_0 : List UInt8 := [42, 182, 0, 83, 4, 100, 60, 27, 158, 0, 67, 1, 77, 42, 180, 0, 12, 78, 45, 198, 0, 50, 45, 27]
abbrev dktX7_empty_0 : List UInt8 := dkwX7_empty_0 ++ dktX7_empty_1
theorem dksX7_empty_0 : cX7_empty.data.toList.drop 0 = dktX7_empty_0 := by decide +kernel
theorem dksX7_empty_1 : cX7_empty.data.toList.drop 24 = dktX7_empty_1 := dk_seg dksX7_empty_0 24 rfl rfl
theorem dksX7_empty_2 : cX7_empty.data.toList.drop 48 = dktX7_empty_2 := dk_seg dksX7_empty_1 24 rfl rfl
theorem dksX7_empty_3 : cX7_empty.data.toList.drop 72 = dktX7_empty_3 := dk_seg dksX7_empty_2 24 rfl rfl
theorem dX7_empty_0 : decode cX7_empty 0 = .ok (.aload_n 0, 1) := dk_42 (dk_at dksX7_empty_0 0 rfl rfl)
theorem dX7_empty_1 : decode cX7_empty 1 = .ok (.invokevirtual 83, 3) := dk_182 0 83 (dk_at dksX7_empty_0 1 rfl rfl)
theorem dX7_empty_4 : decode cX7_empty 4 = .ok (.iconst 1, 1) := dk_4 (dk_at dksX7_empty_0 4 rfl rfl)
theorem dX7_empty_5 : decode cX7_empty 5 = .ok (.isub, 1) := dk_100 (dk_at dksX7_empty_0 5 rfl rfl)
theorem dX7_empty_6 : decode cX7_empty 6 = .ok (.istore_n 1, 1) := dk_60 (dk_at dksX7_empty_0 6 rfl rfl)
theorem dX7_empty_7 : decode cX7_empty 7 = .ok (.iload_n 1, 1) := dk_27 (dk_at dksX7_empty_0 7 rfl rfl)
theorem dX7_empty_8 : decode cX7_empty 8 = .ok (.ifCond .le 67, 3) := dk_158 0 67 (dk_at dksX7_empty_0 8 rfl rfl)
theorem dX7_empty_11 : decode cX7_empty 11 = .ok (.aconst_null, 1) := dk_1 (dk_at dksX7_empty_0 11 rfl rfl)
theorem dX7_empty_12 : decode cX7_empty 12 = .ok (.astore_n 2, 1) := dk_77 (dk_at dksX7_empty_0 12 rfl rfl)
theorem dX7_empty_13 : decode cX7_empty 13 = .ok (.aload_n 0, 1) := dk_42 (dk_at dksX7_empty_0 13 rfl rfl)
theorem dX7_empty_14 : decode cX7_empty 14 = .ok (.getfield 12, 3) := dk_180 0 12 (dk_at dksX7_empty_0 14 rfl rfl)
theorem dX7_empty_17 : decode cX7_empty 17 = .ok (.astore_n 3, 1) := dk_78 (dk_at dksX7_empty_0 17 rfl rfl)
theorem dX7_empty_18 : decode cX7_empty 18 = .ok (.aload_n 3, 1) := dk_45 (dk_at dksX7_empty_0 18 rfl rfl)
theorem dX7_empty_19 : decode cX7_empty 19 = .ok (.ifnull 50, 3) := dk_198 0 50 (dk_at dksX7_empty_0 19 rfl rfl)
theorem dX7_empty_22 : decode cX7_empty 22 = .ok (.aload_n 3, 1) := dk_45 (dk_at dksX7_empty_0 22 rfl rfl)
theorem dX7_empty_23 : decode cX7_empty 23 = .ok (.iload_n 1, 1) := dk_27 (dk_at dksX7_empty_0 23 rfl rfl)
theorem dX7_empty_24 : decode cX7_empty 24 = .ok (.invokevirtual 35, 3) := dk_182 0 35 (dk_at dksX7_empty_1 0 rfl rfl)
theorem dX7_empty_27 : decode cX7_empty 27 = .ok (.aload_n 3, 1) := dk_45 (dk_at dksX7_empty_1 3 rfl rfl)
theorem dX7_empty_28 : decode cX7_empty 28 = .ok (.iload_n 1, 1) := dk_27 (dk_at dksX7_empty_1 4 rfl rfl)
theorem dX7_empty_29 : decode cX7_empty 29 = .ok (.iconst 1, 1) := dk_4 (dk_at dksX7_empty_1 5 rfl rfl)
theorem dX7_empty_30 : decode cX7_empty 30 = .ok (.iadd, 1) := dk_96 (dk_at dksX7_empty_1 6 rfl rfl)
theorem dX7_empty_31 : decode cX7_empty 31 = .ok (.invokevirtual 35, 3) := dk_182 0 35 (dk_at dksX7_empty_1 7 rfl rfl)
theorem dX7_empty_34 : decode cX7_empty 34 = .ok (.if_acmp .ne 22, 3) := dk_166 0 22 (dk_at dksX7_empty_1 10 rfl rfl)
theorem dX7_empty_37 : decode cX7_empty 37 = .ok (.new 100, 3) := dk_187 0 100 (dk_at dksX7_empty_1 13 rfl rfl)
theorem dX7_empty_40 : decode cX7_empty 40 = .ok (.dup, 1) := dk_89 (dk_at dksX7_empty_1 16 rfl rfl)
theorem dX7_empty_41 : decode cX7_empty 41 = .ok (.iload_n 1, 1) := dk_27 (dk_at dksX7_empty_1 17 rfl rfl)
theorem dX7_empty_42 : decode cX7_empty 42 = .ok (.iconst 0, 1) := dk_3 (dk_at dksX7_empty_1 18 rfl rfl)
theorem dX7_empty_43 : decode cX7_empty 43 = .ok (.aload_n 3, 1) := dk_45 (dk_at dksX7_empty_1 19 rfl rfl)
theorem dX7_empty_44 : decode cX7_empty 44 = .ok (.aload_n 3, 1) := dk_45 (dk_at dksX7_empty_1 20 rfl rfl)
theorem dX7_empty_45 : decode cX7_empty 45 = .ok (.iload_n 1, 1) := dk_27 (dk_at dksX7_empty_1 21 rfl rfl)
theorem dX7_empty_46 : decode cX7_empty 46 = .ok (.iconst 1, 1) := dk_4 (dk_at dksX7_empty_1 22 rfl rfl)
theorem dX7_empty_47 : decode cX7_empty 47 = .ok (.iadd, 1) := dk_96 (dk_at dksX7_empty_1 23 rfl rfl)
theorem dX7_empty_48 : decode cX7_empty 48 = .ok (.invokevirtual 35, 3) := dk_182 0 35 (dk_at dksX7_empty_2 0 rfl rfl)
theorem dX7_empty_51 : decode cX7_empty 51 = .ok (.aload_n 2, 1) := dk_44 (dk_at dksX7_empty_2 3 rfl rfl)
theorem dX7_empty_52 : decode cX7_empty 52 = .ok (.invokespecial 102, 3) := dk_183 0 102 (dk_at dksX7_empty_2 4 rfl rfl)
theorem dX7_empty_55 : decode cX7_empty 55 = .ok (.areturn, 1) := dk_176 (dk_at dksX7_empty_2 7 rfl rfl)
theorem dX7_empty_56 : decode cX7_empty 56 = .ok (.aload_n 3, 1) := dk_45 (dk_at dksX7_empty_2 8 rfl rfl)
theorem dX7_empty_57 : decode cX7_empty 57 = .ok (.astore_n 2, 1) := dk_77 (dk_at dksX7_empty_2 9 rfl rfl)
theorem dX7_empty_58 : decode cX7_empty 58 = .ok (.aload_n 3, 1) := dk_45 (dk_at dksX7_empty_2 10 rfl rfl)
theorem dX7_empty_59 : decode cX7_empty 59 = .ok (.iload_n 1, 1) := dk_27 (dk_at dksX7_empty_2 11 rfl rfl)
theorem dX7_empty_60 : decode cX7_empty 60 = .ok (.iconst 1, 1) := dk_4 (dk_at dksX7_empty_2 12 rfl rfl)
theorem dX7_empty_61 : decode cX7_empty 61 = .ok (.iadd, 1) := dk_96 (dk_at dksX7_empty_2 13 rfl rfl)
theorem dX7_empty_62 : decode cX7_empty 62 = .ok (.invokevirtual 35, 3) := dk_182 0 35 (dk_at dksX7_empty_2 14 rfl rfl)
theorem dX7_empty_65 : decode cX7_empty 65 = .ok (.astore_n 3, 1) := dk_78 (dk_at dksX7_empty_2 17 rfl rfl)
theorem dX7_empty_66 : decode cX7_empty 66 = .ok (.goto (-48), 3) := dk_167 255 208 (dk_at dksX7_empty_2 18 rfl rfl)
theorem dX7_empty_69 : decode cX7_empty 69 = .ok (.iinc 1 (-1), 3) := dk_132 1 255 (dk_at dksX7_empty_2 21 rfl rfl)
theorem dX7_empty_72 : decode cX7_empty 72 = .ok (.goto (-65), 3) := dk_167 255 191 (dk_at dksX7_empty_3 0 rfl rfl)
theorem dX7_empty_75 : decode cX7_empty 75 = .ok (.aconst_null, 1) := dk_1 (dk_at dksX7_empty_3 3 rfl rfl)
theorem dX7_empty_76 : decode cX7_empty 76 = .ok (.areturn, 1) := dk_176 (dk_at dksX7_empty_3 4 rfl rfl)
abbrev cX7_raise : ByteArray := prog_12_method_15_code
def yX7_raise : MethodName := ⟨RX7, "raise", "(LCountedSkipLists$Node;)V"⟩
def dkwX7_raise_5 : List UInt8 := [181, 0, 50, 177]
abbrev dktX7_raise_5 : List UInt8 := dkwX7_raise_5 ++ []
def dkwX7_raise_4 : List UInt8 := [45, 180, 0, 63, 28, 46, 21, 5, 100, 182, 0, 22, 45, 28, 43, 21, 4, 21, 5, 182, 0, 22, 43, 28]
abbrev dktX7_raise_4 : List UInt8 := dkwX7_raise_4 ++ dktX7_raise_5
def dkwX7_raise_3 : List UInt8 := [182, 0, 35, 58, 6, 167, 255, 212, 43, 28, 45, 28, 182, 0, 35, 45, 180, 0, 59, 28, 46, 21, 4, 100]
abbrev dktX7_raise_3 : List UInt8 := dkwX7_raise_3 ++ dktX7_raise_4
def dkwX7_raise_2 : List UInt8 := [46, 96, 54, 4, 21, 5, 25, 6, 180, 0, 63, 28, 4, 100, 46, 96, 54, 5, 25, 6, 28, 4, 100]
abbrev dktX7_raise_2 : List UInt8 := dkwX7_raise_2 ++ dktX7_raise_3
def dkwX7_raise_1 : List UInt8 := [54, 4, 3, 54, 5, 45, 58, 6, 25, 6, 43, 165, 0, 44, 21, 4, 25, 6, 180, 0, 59, 28, 4, 100]
abbrev dktX7_raise_1 : List UInt8 := dkwX7_raise_1 ++ dktX7_raise_2
def dkwX7_raise_0 : List UInt8 := [43, 180, 0, 50, 4, 96, 61, 42, 43, 180, 0, 43, 182, 0, 69, 42, 180, 0, 18, 28, 50, 78, 3]
abbrev dktX7_raise_0 : List UInt8 := dkwX7_raise_0 ++ dktX7_raise_1
theorem dksX7_raise_0 : cX7_raise.data.toList.drop 0 = dktX7_raise_0 := by decide +kernel
theorem dksX7_raise_1 : cX7_raise.data.toList.drop 23 = dktX7_raise_1 := dk_seg dksX7_raise_0 23 rfl rfl
theorem dksX7_raise_2 : cX7_raise.data.toList.drop 47 = dktX7_raise_2 := dk_seg dksX7_raise_1 24 rfl rfl
theorem dksX7_raise_3 : cX7_raise.data.toList.drop 70 = dktX7_raise_3 := dk_seg dksX7_raise_2 23 rfl rfl
theorem dksX7_raise_4 : cX7_raise.data.toList.drop 94 = dktX7_raise_4 := dk_seg dksX7_raise_3 24 rfl rfl
theorem dksX7_raise_5 : cX7_raise.data.toList.drop 118 = dktX7_raise_5 := dk_seg dksX7_raise_4 24 rfl rfl
theorem dX7_raise_0 : decode cX7_raise 0 = .ok (.aload_n 1, 1) := dk_43 (dk_at dksX7_raise_0 0 rfl rfl)
theorem dX7_raise_1 : decode cX7_raise 1 = .ok (.getfield 50, 3) := dk_180 0 50 (dk_at dksX7_raise_0 1 rfl rfl)
theorem dX7_raise_4 : decode cX7_raise 4 = .ok (.iconst 1, 1) := dk_4 (dk_at dksX7_raise_0 4 rfl rfl)
theorem dX7_raise_5 : decode cX7_raise 5 = .ok (.iadd, 1) := dk_96 (dk_at dksX7_raise_0 5 rfl rfl)
theorem dX7_raise_6 : decode cX7_raise 6 = .ok (.istore_n 2, 1) := dk_61 (dk_at dksX7_raise_0 6 rfl rfl)
theorem dX7_raise_7 : decode cX7_raise 7 = .ok (.aload_n 0, 1) := dk_42 (dk_at dksX7_raise_0 7 rfl rfl)
theorem dX7_raise_8 : decode cX7_raise 8 = .ok (.aload_n 1, 1) := dk_43 (dk_at dksX7_raise_0 8 rfl rfl)
theorem dX7_raise_9 : decode cX7_raise 9 = .ok (.getfield 43, 3) := dk_180 0 43 (dk_at dksX7_raise_0 9 rfl rfl)
theorem dX7_raise_12 : decode cX7_raise 12 = .ok (.invokevirtual 69, 3) := dk_182 0 69 (dk_at dksX7_raise_0 12 rfl rfl)
theorem dX7_raise_15 : decode cX7_raise 15 = .ok (.aload_n 0, 1) := dk_42 (dk_at dksX7_raise_0 15 rfl rfl)
theorem dX7_raise_16 : decode cX7_raise 16 = .ok (.getfield 18, 3) := dk_180 0 18 (dk_at dksX7_raise_0 16 rfl rfl)
theorem dX7_raise_19 : decode cX7_raise 19 = .ok (.iload_n 2, 1) := dk_28 (dk_at dksX7_raise_0 19 rfl rfl)
theorem dX7_raise_20 : decode cX7_raise 20 = .ok (.aaload, 1) := dk_50 (dk_at dksX7_raise_0 20 rfl rfl)
theorem dX7_raise_21 : decode cX7_raise 21 = .ok (.astore_n 3, 1) := dk_78 (dk_at dksX7_raise_0 21 rfl rfl)
theorem dX7_raise_22 : decode cX7_raise 22 = .ok (.iconst 0, 1) := dk_3 (dk_at dksX7_raise_0 22 rfl rfl)
theorem dX7_raise_23 : decode cX7_raise 23 = .ok (.istore 4, 2) := dk_54 4 (dk_at dksX7_raise_1 0 rfl rfl)
theorem dX7_raise_25 : decode cX7_raise 25 = .ok (.iconst 0, 1) := dk_3 (dk_at dksX7_raise_1 2 rfl rfl)
theorem dX7_raise_26 : decode cX7_raise 26 = .ok (.istore 5, 2) := dk_54 5 (dk_at dksX7_raise_1 3 rfl rfl)
theorem dX7_raise_28 : decode cX7_raise 28 = .ok (.aload_n 3, 1) := dk_45 (dk_at dksX7_raise_1 5 rfl rfl)
theorem dX7_raise_29 : decode cX7_raise 29 = .ok (.astore 6, 2) := dk_58 6 (dk_at dksX7_raise_1 6 rfl rfl)
theorem dX7_raise_31 : decode cX7_raise 31 = .ok (.aload 6, 2) := dk_25 6 (dk_at dksX7_raise_1 8 rfl rfl)
theorem dX7_raise_33 : decode cX7_raise 33 = .ok (.aload_n 1, 1) := dk_43 (dk_at dksX7_raise_1 10 rfl rfl)
theorem dX7_raise_34 : decode cX7_raise 34 = .ok (.if_acmp .eq 44, 3) := dk_165 0 44 (dk_at dksX7_raise_1 11 rfl rfl)
theorem dX7_raise_37 : decode cX7_raise 37 = .ok (.iload 4, 2) := dk_21 4 (dk_at dksX7_raise_1 14 rfl rfl)
theorem dX7_raise_39 : decode cX7_raise 39 = .ok (.aload 6, 2) := dk_25 6 (dk_at dksX7_raise_1 16 rfl rfl)
theorem dX7_raise_41 : decode cX7_raise 41 = .ok (.getfield 59, 3) := dk_180 0 59 (dk_at dksX7_raise_1 18 rfl rfl)
theorem dX7_raise_44 : decode cX7_raise 44 = .ok (.iload_n 2, 1) := dk_28 (dk_at dksX7_raise_1 21 rfl rfl)
theorem dX7_raise_45 : decode cX7_raise 45 = .ok (.iconst 1, 1) := dk_4 (dk_at dksX7_raise_1 22 rfl rfl)
theorem dX7_raise_46 : decode cX7_raise 46 = .ok (.isub, 1) := dk_100 (dk_at dksX7_raise_1 23 rfl rfl)
theorem dX7_raise_47 : decode cX7_raise 47 = .ok (.iaload, 1) := dk_46 (dk_at dksX7_raise_2 0 rfl rfl)
theorem dX7_raise_48 : decode cX7_raise 48 = .ok (.iadd, 1) := dk_96 (dk_at dksX7_raise_2 1 rfl rfl)
theorem dX7_raise_49 : decode cX7_raise 49 = .ok (.istore 4, 2) := dk_54 4 (dk_at dksX7_raise_2 2 rfl rfl)
theorem dX7_raise_51 : decode cX7_raise 51 = .ok (.iload 5, 2) := dk_21 5 (dk_at dksX7_raise_2 4 rfl rfl)
theorem dX7_raise_53 : decode cX7_raise 53 = .ok (.aload 6, 2) := dk_25 6 (dk_at dksX7_raise_2 6 rfl rfl)
theorem dX7_raise_55 : decode cX7_raise 55 = .ok (.getfield 63, 3) := dk_180 0 63 (dk_at dksX7_raise_2 8 rfl rfl)
theorem dX7_raise_58 : decode cX7_raise 58 = .ok (.iload_n 2, 1) := dk_28 (dk_at dksX7_raise_2 11 rfl rfl)
theorem dX7_raise_59 : decode cX7_raise 59 = .ok (.iconst 1, 1) := dk_4 (dk_at dksX7_raise_2 12 rfl rfl)
theorem dX7_raise_60 : decode cX7_raise 60 = .ok (.isub, 1) := dk_100 (dk_at dksX7_raise_2 13 rfl rfl)
theorem dX7_raise_61 : decode cX7_raise 61 = .ok (.iaload, 1) := dk_46 (dk_at dksX7_raise_2 14 rfl rfl)
theorem dX7_raise_62 : decode cX7_raise 62 = .ok (.iadd, 1) := dk_96 (dk_at dksX7_raise_2 15 rfl rfl)
theorem dX7_raise_63 : decode cX7_raise 63 = .ok (.istore 5, 2) := dk_54 5 (dk_at dksX7_raise_2 16 rfl rfl)
theorem dX7_raise_65 : decode cX7_raise 65 = .ok (.aload 6, 2) := dk_25 6 (dk_at dksX7_raise_2 18 rfl rfl)
theorem dX7_raise_67 : decode cX7_raise 67 = .ok (.iload_n 2, 1) := dk_28 (dk_at dksX7_raise_2 20 rfl rfl)
theorem dX7_raise_68 : decode cX7_raise 68 = .ok (.iconst 1, 1) := dk_4 (dk_at dksX7_raise_2 21 rfl rfl)
theorem dX7_raise_69 : decode cX7_raise 69 = .ok (.isub, 1) := dk_100 (dk_at dksX7_raise_2 22 rfl rfl)
theorem dX7_raise_70 : decode cX7_raise 70 = .ok (.invokevirtual 35, 3) := dk_182 0 35 (dk_at dksX7_raise_3 0 rfl rfl)
theorem dX7_raise_73 : decode cX7_raise 73 = .ok (.astore 6, 2) := dk_58 6 (dk_at dksX7_raise_3 3 rfl rfl)
theorem dX7_raise_75 : decode cX7_raise 75 = .ok (.goto (-44), 3) := dk_167 255 212 (dk_at dksX7_raise_3 5 rfl rfl)
theorem dX7_raise_78 : decode cX7_raise 78 = .ok (.aload_n 1, 1) := dk_43 (dk_at dksX7_raise_3 8 rfl rfl)
theorem dX7_raise_79 : decode cX7_raise 79 = .ok (.iload_n 2, 1) := dk_28 (dk_at dksX7_raise_3 9 rfl rfl)
theorem dX7_raise_80 : decode cX7_raise 80 = .ok (.aload_n 3, 1) := dk_45 (dk_at dksX7_raise_3 10 rfl rfl)
theorem dX7_raise_81 : decode cX7_raise 81 = .ok (.iload_n 2, 1) := dk_28 (dk_at dksX7_raise_3 11 rfl rfl)
theorem dX7_raise_82 : decode cX7_raise 82 = .ok (.invokevirtual 35, 3) := dk_182 0 35 (dk_at dksX7_raise_3 12 rfl rfl)
theorem dX7_raise_85 : decode cX7_raise 85 = .ok (.aload_n 3, 1) := dk_45 (dk_at dksX7_raise_3 15 rfl rfl)
theorem dX7_raise_86 : decode cX7_raise 86 = .ok (.getfield 59, 3) := dk_180 0 59 (dk_at dksX7_raise_3 16 rfl rfl)
theorem dX7_raise_89 : decode cX7_raise 89 = .ok (.iload_n 2, 1) := dk_28 (dk_at dksX7_raise_3 19 rfl rfl)
theorem dX7_raise_90 : decode cX7_raise 90 = .ok (.iaload, 1) := dk_46 (dk_at dksX7_raise_3 20 rfl rfl)
theorem dX7_raise_91 : decode cX7_raise 91 = .ok (.iload 4, 2) := dk_21 4 (dk_at dksX7_raise_3 21 rfl rfl)
theorem dX7_raise_93 : decode cX7_raise 93 = .ok (.isub, 1) := dk_100 (dk_at dksX7_raise_3 23 rfl rfl)
theorem dX7_raise_94 : decode cX7_raise 94 = .ok (.aload_n 3, 1) := dk_45 (dk_at dksX7_raise_4 0 rfl rfl)
theorem dX7_raise_95 : decode cX7_raise 95 = .ok (.getfield 63, 3) := dk_180 0 63 (dk_at dksX7_raise_4 1 rfl rfl)
theorem dX7_raise_98 : decode cX7_raise 98 = .ok (.iload_n 2, 1) := dk_28 (dk_at dksX7_raise_4 4 rfl rfl)
theorem dX7_raise_99 : decode cX7_raise 99 = .ok (.iaload, 1) := dk_46 (dk_at dksX7_raise_4 5 rfl rfl)
theorem dX7_raise_100 : decode cX7_raise 100 = .ok (.iload 5, 2) := dk_21 5 (dk_at dksX7_raise_4 6 rfl rfl)
theorem dX7_raise_102 : decode cX7_raise 102 = .ok (.isub, 1) := dk_100 (dk_at dksX7_raise_4 8 rfl rfl)
theorem dX7_raise_103 : decode cX7_raise 103 = .ok (.invokevirtual 22, 3) := dk_182 0 22 (dk_at dksX7_raise_4 9 rfl rfl)
theorem dX7_raise_106 : decode cX7_raise 106 = .ok (.aload_n 3, 1) := dk_45 (dk_at dksX7_raise_4 12 rfl rfl)
theorem dX7_raise_107 : decode cX7_raise 107 = .ok (.iload_n 2, 1) := dk_28 (dk_at dksX7_raise_4 13 rfl rfl)
theorem dX7_raise_108 : decode cX7_raise 108 = .ok (.aload_n 1, 1) := dk_43 (dk_at dksX7_raise_4 14 rfl rfl)
theorem dX7_raise_109 : decode cX7_raise 109 = .ok (.iload 4, 2) := dk_21 4 (dk_at dksX7_raise_4 15 rfl rfl)
theorem dX7_raise_111 : decode cX7_raise 111 = .ok (.iload 5, 2) := dk_21 5 (dk_at dksX7_raise_4 17 rfl rfl)
theorem dX7_raise_113 : decode cX7_raise 113 = .ok (.invokevirtual 22, 3) := dk_182 0 22 (dk_at dksX7_raise_4 19 rfl rfl)
theorem dX7_raise_116 : decode cX7_raise 116 = .ok (.aload_n 1, 1) := dk_43 (dk_at dksX7_raise_4 22 rfl rfl)
theorem dX7_raise_117 : decode cX7_raise 117 = .ok (.iload_n 2, 1) := dk_28 (dk_at dksX7_raise_4 23 rfl rfl)
theorem dX7_raise_118 : decode cX7_raise 118 = .ok (.putfield 50, 3) := dk_181 0 50 (dk_at dksX7_raise_5 0 rfl rfl)
theorem dX7_raise_121 : decode cX7_raise 121 = .ok (.return_, 1) := dk_177 (dk_at dksX7_raise_5 3 rfl rfl)
abbrev cX7_findsPaths : ByteArray := prog_12_method_7_code
def yX7_findsPaths : MethodName := ⟨RX7, "findsPaths", "(I)V"⟩
def dkwX7_findsPaths_2 : List UInt8 := [44, 83, 132, 3, 255, 167, 255, 213, 177]
abbrev dktX7_findsPaths_2 : List UInt8 := dkwX7_findsPaths_2 ++ []
def dkwX7_findsPaths_1 : List UInt8 := [182, 0, 35, 180, 0, 43, 27, 162, 0, 12, 44, 29, 182, 0, 35, 77, 167, 255, 230, 42, 180, 0, 18, 29]
abbrev dktX7_findsPaths_1 : List UInt8 := dkwX7_findsPaths_1 ++ dktX7_findsPaths_2
def dkwX7_findsPaths_0 : List UInt8 := [42, 180, 0, 12, 77, 16, 8, 62, 29, 158, 0, 45, 44, 29, 182, 0, 35, 198, 0, 24, 44, 29]
abbrev dktX7_findsPaths_0 : List UInt8 := dkwX7_findsPaths_0 ++ dktX7_findsPaths_1
theorem dksX7_findsPaths_0 : cX7_findsPaths.data.toList.drop 0 = dktX7_findsPaths_0 := by decide +kernel
theorem dksX7_findsPaths_1 : cX7_findsPaths.data.toList.drop 22 = dktX7_findsPaths_1 := dk_seg dksX7_findsPaths_0 22 rfl rfl
theorem dksX7_findsPaths_2 : cX7_findsPaths.data.toList.drop 46 = dktX7_findsPaths_2 := dk_seg dksX7_findsPaths_1 24 rfl rfl
theorem dX7_findsPaths_0 : decode cX7_findsPaths 0 = .ok (.aload_n 0, 1) := dk_42 (dk_at dksX7_findsPaths_0 0 rfl rfl)
theorem dX7_findsPaths_1 : decode cX7_findsPaths 1 = .ok (.getfield 12, 3) := dk_180 0 12 (dk_at dksX7_findsPaths_0 1 rfl rfl)
theorem dX7_findsPaths_4 : decode cX7_findsPaths 4 = .ok (.astore_n 2, 1) := dk_77 (dk_at dksX7_findsPaths_0 4 rfl rfl)
theorem dX7_findsPaths_5 : decode cX7_findsPaths 5 = .ok (.bipush 8, 2) := dk_16 8 (dk_at dksX7_findsPaths_0 5 rfl rfl)
theorem dX7_findsPaths_7 : decode cX7_findsPaths 7 = .ok (.istore_n 3, 1) := dk_62 (dk_at dksX7_findsPaths_0 7 rfl rfl)
theorem dX7_findsPaths_8 : decode cX7_findsPaths 8 = .ok (.iload_n 3, 1) := dk_29 (dk_at dksX7_findsPaths_0 8 rfl rfl)
theorem dX7_findsPaths_9 : decode cX7_findsPaths 9 = .ok (.ifCond .le 45, 3) := dk_158 0 45 (dk_at dksX7_findsPaths_0 9 rfl rfl)
theorem dX7_findsPaths_12 : decode cX7_findsPaths 12 = .ok (.aload_n 2, 1) := dk_44 (dk_at dksX7_findsPaths_0 12 rfl rfl)
theorem dX7_findsPaths_13 : decode cX7_findsPaths 13 = .ok (.iload_n 3, 1) := dk_29 (dk_at dksX7_findsPaths_0 13 rfl rfl)
theorem dX7_findsPaths_14 : decode cX7_findsPaths 14 = .ok (.invokevirtual 35, 3) := dk_182 0 35 (dk_at dksX7_findsPaths_0 14 rfl rfl)
theorem dX7_findsPaths_17 : decode cX7_findsPaths 17 = .ok (.ifnull 24, 3) := dk_198 0 24 (dk_at dksX7_findsPaths_0 17 rfl rfl)
theorem dX7_findsPaths_20 : decode cX7_findsPaths 20 = .ok (.aload_n 2, 1) := dk_44 (dk_at dksX7_findsPaths_0 20 rfl rfl)
theorem dX7_findsPaths_21 : decode cX7_findsPaths 21 = .ok (.iload_n 3, 1) := dk_29 (dk_at dksX7_findsPaths_0 21 rfl rfl)
theorem dX7_findsPaths_22 : decode cX7_findsPaths 22 = .ok (.invokevirtual 35, 3) := dk_182 0 35 (dk_at dksX7_findsPaths_1 0 rfl rfl)
theorem dX7_findsPaths_25 : decode cX7_findsPaths 25 = .ok (.getfield 43, 3) := dk_180 0 43 (dk_at dksX7_findsPaths_1 3 rfl rfl)
theorem dX7_findsPaths_28 : decode cX7_findsPaths 28 = .ok (.iload_n 1, 1) := dk_27 (dk_at dksX7_findsPaths_1 6 rfl rfl)
theorem dX7_findsPaths_29 : decode cX7_findsPaths 29 = .ok (.if_icmp .ge 12, 3) := dk_162 0 12 (dk_at dksX7_findsPaths_1 7 rfl rfl)
theorem dX7_findsPaths_32 : decode cX7_findsPaths 32 = .ok (.aload_n 2, 1) := dk_44 (dk_at dksX7_findsPaths_1 10 rfl rfl)
theorem dX7_findsPaths_33 : decode cX7_findsPaths 33 = .ok (.iload_n 3, 1) := dk_29 (dk_at dksX7_findsPaths_1 11 rfl rfl)
theorem dX7_findsPaths_34 : decode cX7_findsPaths 34 = .ok (.invokevirtual 35, 3) := dk_182 0 35 (dk_at dksX7_findsPaths_1 12 rfl rfl)
theorem dX7_findsPaths_37 : decode cX7_findsPaths 37 = .ok (.astore_n 2, 1) := dk_77 (dk_at dksX7_findsPaths_1 15 rfl rfl)
theorem dX7_findsPaths_38 : decode cX7_findsPaths 38 = .ok (.goto (-26), 3) := dk_167 255 230 (dk_at dksX7_findsPaths_1 16 rfl rfl)
theorem dX7_findsPaths_41 : decode cX7_findsPaths 41 = .ok (.aload_n 0, 1) := dk_42 (dk_at dksX7_findsPaths_1 19 rfl rfl)
theorem dX7_findsPaths_42 : decode cX7_findsPaths 42 = .ok (.getfield 18, 3) := dk_180 0 18 (dk_at dksX7_findsPaths_1 20 rfl rfl)
theorem dX7_findsPaths_45 : decode cX7_findsPaths 45 = .ok (.iload_n 3, 1) := dk_29 (dk_at dksX7_findsPaths_1 23 rfl rfl)
theorem dX7_findsPaths_46 : decode cX7_findsPaths 46 = .ok (.aload_n 2, 1) := dk_44 (dk_at dksX7_findsPaths_2 0 rfl rfl)
theorem dX7_findsPaths_47 : decode cX7_findsPaths 47 = .ok (.aastore, 1) := dk_83 (dk_at dksX7_findsPaths_2 1 rfl rfl)
theorem dX7_findsPaths_48 : decode cX7_findsPaths 48 = .ok (.iinc 3 (-1), 3) := dk_132 3 255 (dk_at dksX7_findsPaths_2 2 rfl rfl)
theorem dX7_findsPaths_51 : decode cX7_findsPaths 51 = .ok (.goto (-43), 3) := dk_167 255 213 (dk_at dksX7_findsPaths_2 5 rfl rfl)
theorem dX7_findsPaths_54 : decode cX7_findsPaths 54 = .ok (.return_, 1) := dk_177 (dk_at dksX7_findsPaths_2 8 rfl rfl)
abbrev cX7_lower : ByteArray := prog_12_method_16_code
def yX7_lower : MethodName := ⟨RX7, "lower", "(LCountedSkipLists$Node;)V"⟩
def dkwX7_lower_2 : List UInt8 := [180, 0, 63, 28, 46, 96, 182, 0, 22, 43, 28, 4, 100, 181, 0, 50, 177]
abbrev dktX7_lower_2 : List UInt8 := dkwX7_lower_2 ++ []
def dkwX7_lower_1 : List UInt8 := [182, 0, 35, 45, 180, 0, 59, 28, 46, 43, 180, 0, 59, 28, 46, 96, 45, 180, 0, 63, 28, 46, 43]
abbrev dktX7_lower_1 : List UInt8 := dkwX7_lower_1 ++ dktX7_lower_2
def dkwX7_lower_0 : List UInt8 := [43, 180, 0, 50, 61, 42, 43, 180, 0, 43, 182, 0, 69, 42, 180, 0, 18, 28, 50, 78, 45, 28, 43, 28]
abbrev dktX7_lower_0 : List UInt8 := dkwX7_lower_0 ++ dktX7_lower_1
theorem dksX7_lower_0 : cX7_lower.data.toList.drop 0 = dktX7_lower_0 := by decide +kernel
theorem dksX7_lower_1 : cX7_lower.data.toList.drop 24 = dktX7_lower_1 := dk_seg dksX7_lower_0 24 rfl rfl
theorem dksX7_lower_2 : cX7_lower.data.toList.drop 47 = dktX7_lower_2 := dk_seg dksX7_lower_1 23 rfl rfl
theorem dX7_lower_0 : decode cX7_lower 0 = .ok (.aload_n 1, 1) := dk_43 (dk_at dksX7_lower_0 0 rfl rfl)
theorem dX7_lower_1 : decode cX7_lower 1 = .ok (.getfield 50, 3) := dk_180 0 50 (dk_at dksX7_lower_0 1 rfl rfl)
theorem dX7_lower_4 : decode cX7_lower 4 = .ok (.istore_n 2, 1) := dk_61 (dk_at dksX7_lower_0 4 rfl rfl)
theorem dX7_lower_5 : decode cX7_lower 5 = .ok (.aload_n 0, 1) := dk_42 (dk_at dksX7_lower_0 5 rfl rfl)
theorem dX7_lower_6 : decode cX7_lower 6 = .ok (.aload_n 1, 1) := dk_43 (dk_at dksX7_lower_0 6 rfl rfl)
theorem dX7_lower_7 : decode cX7_lower 7 = .ok (.getfield 43, 3) := dk_180 0 43 (dk_at dksX7_lower_0 7 rfl rfl)
theorem dX7_lower_10 : decode cX7_lower 10 = .ok (.invokevirtual 69, 3) := dk_182 0 69 (dk_at dksX7_lower_0 10 rfl rfl)
theorem dX7_lower_13 : decode cX7_lower 13 = .ok (.aload_n 0, 1) := dk_42 (dk_at dksX7_lower_0 13 rfl rfl)
theorem dX7_lower_14 : decode cX7_lower 14 = .ok (.getfield 18, 3) := dk_180 0 18 (dk_at dksX7_lower_0 14 rfl rfl)
theorem dX7_lower_17 : decode cX7_lower 17 = .ok (.iload_n 2, 1) := dk_28 (dk_at dksX7_lower_0 17 rfl rfl)
theorem dX7_lower_18 : decode cX7_lower 18 = .ok (.aaload, 1) := dk_50 (dk_at dksX7_lower_0 18 rfl rfl)
theorem dX7_lower_19 : decode cX7_lower 19 = .ok (.astore_n 3, 1) := dk_78 (dk_at dksX7_lower_0 19 rfl rfl)
theorem dX7_lower_20 : decode cX7_lower 20 = .ok (.aload_n 3, 1) := dk_45 (dk_at dksX7_lower_0 20 rfl rfl)
theorem dX7_lower_21 : decode cX7_lower 21 = .ok (.iload_n 2, 1) := dk_28 (dk_at dksX7_lower_0 21 rfl rfl)
theorem dX7_lower_22 : decode cX7_lower 22 = .ok (.aload_n 1, 1) := dk_43 (dk_at dksX7_lower_0 22 rfl rfl)
theorem dX7_lower_23 : decode cX7_lower 23 = .ok (.iload_n 2, 1) := dk_28 (dk_at dksX7_lower_0 23 rfl rfl)
theorem dX7_lower_24 : decode cX7_lower 24 = .ok (.invokevirtual 35, 3) := dk_182 0 35 (dk_at dksX7_lower_1 0 rfl rfl)
theorem dX7_lower_27 : decode cX7_lower 27 = .ok (.aload_n 3, 1) := dk_45 (dk_at dksX7_lower_1 3 rfl rfl)
theorem dX7_lower_28 : decode cX7_lower 28 = .ok (.getfield 59, 3) := dk_180 0 59 (dk_at dksX7_lower_1 4 rfl rfl)
theorem dX7_lower_31 : decode cX7_lower 31 = .ok (.iload_n 2, 1) := dk_28 (dk_at dksX7_lower_1 7 rfl rfl)
theorem dX7_lower_32 : decode cX7_lower 32 = .ok (.iaload, 1) := dk_46 (dk_at dksX7_lower_1 8 rfl rfl)
theorem dX7_lower_33 : decode cX7_lower 33 = .ok (.aload_n 1, 1) := dk_43 (dk_at dksX7_lower_1 9 rfl rfl)
theorem dX7_lower_34 : decode cX7_lower 34 = .ok (.getfield 59, 3) := dk_180 0 59 (dk_at dksX7_lower_1 10 rfl rfl)
theorem dX7_lower_37 : decode cX7_lower 37 = .ok (.iload_n 2, 1) := dk_28 (dk_at dksX7_lower_1 13 rfl rfl)
theorem dX7_lower_38 : decode cX7_lower 38 = .ok (.iaload, 1) := dk_46 (dk_at dksX7_lower_1 14 rfl rfl)
theorem dX7_lower_39 : decode cX7_lower 39 = .ok (.iadd, 1) := dk_96 (dk_at dksX7_lower_1 15 rfl rfl)
theorem dX7_lower_40 : decode cX7_lower 40 = .ok (.aload_n 3, 1) := dk_45 (dk_at dksX7_lower_1 16 rfl rfl)
theorem dX7_lower_41 : decode cX7_lower 41 = .ok (.getfield 63, 3) := dk_180 0 63 (dk_at dksX7_lower_1 17 rfl rfl)
theorem dX7_lower_44 : decode cX7_lower 44 = .ok (.iload_n 2, 1) := dk_28 (dk_at dksX7_lower_1 20 rfl rfl)
theorem dX7_lower_45 : decode cX7_lower 45 = .ok (.iaload, 1) := dk_46 (dk_at dksX7_lower_1 21 rfl rfl)
theorem dX7_lower_46 : decode cX7_lower 46 = .ok (.aload_n 1, 1) := dk_43 (dk_at dksX7_lower_1 22 rfl rfl)
theorem dX7_lower_47 : decode cX7_lower 47 = .ok (.getfield 63, 3) := dk_180 0 63 (dk_at dksX7_lower_2 0 rfl rfl)
theorem dX7_lower_50 : decode cX7_lower 50 = .ok (.iload_n 2, 1) := dk_28 (dk_at dksX7_lower_2 3 rfl rfl)
theorem dX7_lower_51 : decode cX7_lower 51 = .ok (.iaload, 1) := dk_46 (dk_at dksX7_lower_2 4 rfl rfl)
theorem dX7_lower_52 : decode cX7_lower 52 = .ok (.iadd, 1) := dk_96 (dk_at dksX7_lower_2 5 rfl rfl)
theorem dX7_lower_53 : decode cX7_lower 53 = .ok (.invokevirtual 22, 3) := dk_182 0 22 (dk_at dksX7_lower_2 6 rfl rfl)
theorem dX7_lower_56 : decode cX7_lower 56 = .ok (.aload_n 1, 1) := dk_43 (dk_at dksX7_lower_2 9 rfl rfl)
theorem dX7_lower_57 : decode cX7_lower 57 = .ok (.iload_n 2, 1) := dk_28 (dk_at dksX7_lower_2 10 rfl rfl)
theorem dX7_lower_58 : decode cX7_lower 58 = .ok (.iconst 1, 1) := dk_4 (dk_at dksX7_lower_2 11 rfl rfl)
theorem dX7_lower_59 : decode cX7_lower 59 = .ok (.isub, 1) := dk_100 (dk_at dksX7_lower_2 12 rfl rfl)
theorem dX7_lower_60 : decode cX7_lower 60 = .ok (.putfield 50, 3) := dk_181 0 50 (dk_at dksX7_lower_2 13 rfl rfl)
theorem dX7_lower_63 : decode cX7_lower 63 = .ok (.return_, 1) := dk_177 (dk_at dksX7_lower_2 16 rfl rfl)
abbrev cX7_select : ByteArray := prog_12_method_11_code
def yX7_select : MethodName := ⟨RX7, "select", "(I[I)LCountedSkipLists$Node;"⟩
def dkwX7_select_3 : List UInt8 := [167, 255, 207, 132, 5, 255, 167, 255, 196, 45, 176]
abbrev dktX7_select_3 : List UInt8 := dkwX7_select_3 ++ []
def dkwX7_select_2 : List UInt8 := [180, 0, 59, 21, 5, 46, 96, 54, 4, 45, 21, 5, 182, 0, 35, 78, 44, 3, 92, 46, 4, 96, 79]
abbrev dktX7_select_2 : List UInt8 := dkwX7_select_2 ++ dktX7_select_3
def dkwX7_select_1 : List UInt8 := [182, 0, 35, 198, 0, 46, 21, 4, 45, 180, 0, 59, 21, 5, 46, 96, 27, 163, 0, 32, 21, 4, 45]
abbrev dktX7_select_1 : List UInt8 := dkwX7_select_1 ++ dktX7_select_2
def dkwX7_select_0 : List UInt8 := [42, 180, 0, 12, 78, 2, 54, 4, 42, 182, 0, 83, 54, 5, 21, 5, 158, 0, 61, 45, 21, 5]
abbrev dktX7_select_0 : List UInt8 := dkwX7_select_0 ++ dktX7_select_1
theorem dksX7_select_0 : cX7_select.data.toList.drop 0 = dktX7_select_0 := by decide +kernel
theorem dksX7_select_1 : cX7_select.data.toList.drop 22 = dktX7_select_1 := dk_seg dksX7_select_0 22 rfl rfl
theorem dksX7_select_2 : cX7_select.data.toList.drop 45 = dktX7_select_2 := dk_seg dksX7_select_1 23 rfl rfl
theorem dksX7_select_3 : cX7_select.data.toList.drop 68 = dktX7_select_3 := dk_seg dksX7_select_2 23 rfl rfl
theorem dX7_select_0 : decode cX7_select 0 = .ok (.aload_n 0, 1) := dk_42 (dk_at dksX7_select_0 0 rfl rfl)
theorem dX7_select_1 : decode cX7_select 1 = .ok (.getfield 12, 3) := dk_180 0 12 (dk_at dksX7_select_0 1 rfl rfl)
theorem dX7_select_4 : decode cX7_select 4 = .ok (.astore_n 3, 1) := dk_78 (dk_at dksX7_select_0 4 rfl rfl)
theorem dX7_select_5 : decode cX7_select 5 = .ok (.iconst (-1), 1) := dk_2 (dk_at dksX7_select_0 5 rfl rfl)
theorem dX7_select_6 : decode cX7_select 6 = .ok (.istore 4, 2) := dk_54 4 (dk_at dksX7_select_0 6 rfl rfl)
theorem dX7_select_8 : decode cX7_select 8 = .ok (.aload_n 0, 1) := dk_42 (dk_at dksX7_select_0 8 rfl rfl)
theorem dX7_select_9 : decode cX7_select 9 = .ok (.invokevirtual 83, 3) := dk_182 0 83 (dk_at dksX7_select_0 9 rfl rfl)
theorem dX7_select_12 : decode cX7_select 12 = .ok (.istore 5, 2) := dk_54 5 (dk_at dksX7_select_0 12 rfl rfl)
theorem dX7_select_14 : decode cX7_select 14 = .ok (.iload 5, 2) := dk_21 5 (dk_at dksX7_select_0 14 rfl rfl)
theorem dX7_select_16 : decode cX7_select 16 = .ok (.ifCond .le 61, 3) := dk_158 0 61 (dk_at dksX7_select_0 16 rfl rfl)
theorem dX7_select_19 : decode cX7_select 19 = .ok (.aload_n 3, 1) := dk_45 (dk_at dksX7_select_0 19 rfl rfl)
theorem dX7_select_20 : decode cX7_select 20 = .ok (.iload 5, 2) := dk_21 5 (dk_at dksX7_select_0 20 rfl rfl)
theorem dX7_select_22 : decode cX7_select 22 = .ok (.invokevirtual 35, 3) := dk_182 0 35 (dk_at dksX7_select_1 0 rfl rfl)
theorem dX7_select_25 : decode cX7_select 25 = .ok (.ifnull 46, 3) := dk_198 0 46 (dk_at dksX7_select_1 3 rfl rfl)
theorem dX7_select_28 : decode cX7_select 28 = .ok (.iload 4, 2) := dk_21 4 (dk_at dksX7_select_1 6 rfl rfl)
theorem dX7_select_30 : decode cX7_select 30 = .ok (.aload_n 3, 1) := dk_45 (dk_at dksX7_select_1 8 rfl rfl)
theorem dX7_select_31 : decode cX7_select 31 = .ok (.getfield 59, 3) := dk_180 0 59 (dk_at dksX7_select_1 9 rfl rfl)
theorem dX7_select_34 : decode cX7_select 34 = .ok (.iload 5, 2) := dk_21 5 (dk_at dksX7_select_1 12 rfl rfl)
theorem dX7_select_36 : decode cX7_select 36 = .ok (.iaload, 1) := dk_46 (dk_at dksX7_select_1 14 rfl rfl)
theorem dX7_select_37 : decode cX7_select 37 = .ok (.iadd, 1) := dk_96 (dk_at dksX7_select_1 15 rfl rfl)
theorem dX7_select_38 : decode cX7_select 38 = .ok (.iload_n 1, 1) := dk_27 (dk_at dksX7_select_1 16 rfl rfl)
theorem dX7_select_39 : decode cX7_select 39 = .ok (.if_icmp .gt 32, 3) := dk_163 0 32 (dk_at dksX7_select_1 17 rfl rfl)
theorem dX7_select_42 : decode cX7_select 42 = .ok (.iload 4, 2) := dk_21 4 (dk_at dksX7_select_1 20 rfl rfl)
theorem dX7_select_44 : decode cX7_select 44 = .ok (.aload_n 3, 1) := dk_45 (dk_at dksX7_select_1 22 rfl rfl)
theorem dX7_select_45 : decode cX7_select 45 = .ok (.getfield 59, 3) := dk_180 0 59 (dk_at dksX7_select_2 0 rfl rfl)
theorem dX7_select_48 : decode cX7_select 48 = .ok (.iload 5, 2) := dk_21 5 (dk_at dksX7_select_2 3 rfl rfl)
theorem dX7_select_50 : decode cX7_select 50 = .ok (.iaload, 1) := dk_46 (dk_at dksX7_select_2 5 rfl rfl)
theorem dX7_select_51 : decode cX7_select 51 = .ok (.iadd, 1) := dk_96 (dk_at dksX7_select_2 6 rfl rfl)
theorem dX7_select_52 : decode cX7_select 52 = .ok (.istore 4, 2) := dk_54 4 (dk_at dksX7_select_2 7 rfl rfl)
theorem dX7_select_54 : decode cX7_select 54 = .ok (.aload_n 3, 1) := dk_45 (dk_at dksX7_select_2 9 rfl rfl)
theorem dX7_select_55 : decode cX7_select 55 = .ok (.iload 5, 2) := dk_21 5 (dk_at dksX7_select_2 10 rfl rfl)
theorem dX7_select_57 : decode cX7_select 57 = .ok (.invokevirtual 35, 3) := dk_182 0 35 (dk_at dksX7_select_2 12 rfl rfl)
theorem dX7_select_60 : decode cX7_select 60 = .ok (.astore_n 3, 1) := dk_78 (dk_at dksX7_select_2 15 rfl rfl)
theorem dX7_select_61 : decode cX7_select 61 = .ok (.aload_n 2, 1) := dk_44 (dk_at dksX7_select_2 16 rfl rfl)
theorem dX7_select_62 : decode cX7_select 62 = .ok (.iconst 0, 1) := dk_3 (dk_at dksX7_select_2 17 rfl rfl)
theorem dX7_select_63 : decode cX7_select 63 = .ok (.dup2, 1) := dk_92 (dk_at dksX7_select_2 18 rfl rfl)
theorem dX7_select_64 : decode cX7_select 64 = .ok (.iaload, 1) := dk_46 (dk_at dksX7_select_2 19 rfl rfl)
theorem dX7_select_65 : decode cX7_select 65 = .ok (.iconst 1, 1) := dk_4 (dk_at dksX7_select_2 20 rfl rfl)
theorem dX7_select_66 : decode cX7_select 66 = .ok (.iadd, 1) := dk_96 (dk_at dksX7_select_2 21 rfl rfl)
theorem dX7_select_67 : decode cX7_select 67 = .ok (.iastore, 1) := dk_79 (dk_at dksX7_select_2 22 rfl rfl)
theorem dX7_select_68 : decode cX7_select 68 = .ok (.goto (-49), 3) := dk_167 255 207 (dk_at dksX7_select_3 0 rfl rfl)
theorem dX7_select_71 : decode cX7_select 71 = .ok (.iinc 5 (-1), 3) := dk_132 5 255 (dk_at dksX7_select_3 3 rfl rfl)
theorem dX7_select_74 : decode cX7_select 74 = .ok (.goto (-60), 3) := dk_167 255 196 (dk_at dksX7_select_3 6 rfl rfl)
theorem dX7_select_77 : decode cX7_select 77 = .ok (.aload_n 3, 1) := dk_45 (dk_at dksX7_select_3 9 rfl rfl)
theorem dX7_select_78 : decode cX7_select 78 = .ok (.areturn, 1) := dk_176 (dk_at dksX7_select_3 10 rfl rfl)
abbrev cX7_find : ByteArray := prog_12_method_8_code
def yX7_find : MethodName := ⟨RX7, "find", "(I)Ljava/util/Optional;"⟩
def dkwX7_find_1 : List UInt8 := [27, 160, 0, 10, 44, 184, 0, 73, 167, 0, 6, 184, 0, 79, 176]
abbrev dktX7_find_1 : List UInt8 := dkwX7_find_1 ++ []
def dkwX7_find_0 : List UInt8 := [42, 27, 182, 0, 69, 42, 180, 0, 18, 4, 50, 4, 182, 0, 35, 77, 44, 198, 0, 18, 44, 180, 0, 43]
abbrev dktX7_find_0 : List UInt8 := dkwX7_find_0 ++ dktX7_find_1
theorem dksX7_find_0 : cX7_find.data.toList.drop 0 = dktX7_find_0 := by decide +kernel
theorem dksX7_find_1 : cX7_find.data.toList.drop 24 = dktX7_find_1 := dk_seg dksX7_find_0 24 rfl rfl
theorem dX7_find_0 : decode cX7_find 0 = .ok (.aload_n 0, 1) := dk_42 (dk_at dksX7_find_0 0 rfl rfl)
theorem dX7_find_1 : decode cX7_find 1 = .ok (.iload_n 1, 1) := dk_27 (dk_at dksX7_find_0 1 rfl rfl)
theorem dX7_find_2 : decode cX7_find 2 = .ok (.invokevirtual 69, 3) := dk_182 0 69 (dk_at dksX7_find_0 2 rfl rfl)
theorem dX7_find_5 : decode cX7_find 5 = .ok (.aload_n 0, 1) := dk_42 (dk_at dksX7_find_0 5 rfl rfl)
theorem dX7_find_6 : decode cX7_find 6 = .ok (.getfield 18, 3) := dk_180 0 18 (dk_at dksX7_find_0 6 rfl rfl)
theorem dX7_find_9 : decode cX7_find 9 = .ok (.iconst 1, 1) := dk_4 (dk_at dksX7_find_0 9 rfl rfl)
theorem dX7_find_10 : decode cX7_find 10 = .ok (.aaload, 1) := dk_50 (dk_at dksX7_find_0 10 rfl rfl)
theorem dX7_find_11 : decode cX7_find 11 = .ok (.iconst 1, 1) := dk_4 (dk_at dksX7_find_0 11 rfl rfl)
theorem dX7_find_12 : decode cX7_find 12 = .ok (.invokevirtual 35, 3) := dk_182 0 35 (dk_at dksX7_find_0 12 rfl rfl)
theorem dX7_find_15 : decode cX7_find 15 = .ok (.astore_n 2, 1) := dk_77 (dk_at dksX7_find_0 15 rfl rfl)
theorem dX7_find_16 : decode cX7_find 16 = .ok (.aload_n 2, 1) := dk_44 (dk_at dksX7_find_0 16 rfl rfl)
theorem dX7_find_17 : decode cX7_find 17 = .ok (.ifnull 18, 3) := dk_198 0 18 (dk_at dksX7_find_0 17 rfl rfl)
theorem dX7_find_20 : decode cX7_find 20 = .ok (.aload_n 2, 1) := dk_44 (dk_at dksX7_find_0 20 rfl rfl)
theorem dX7_find_21 : decode cX7_find 21 = .ok (.getfield 43, 3) := dk_180 0 43 (dk_at dksX7_find_0 21 rfl rfl)
theorem dX7_find_24 : decode cX7_find 24 = .ok (.iload_n 1, 1) := dk_27 (dk_at dksX7_find_1 0 rfl rfl)
theorem dX7_find_25 : decode cX7_find 25 = .ok (.if_icmp .ne 10, 3) := dk_160 0 10 (dk_at dksX7_find_1 1 rfl rfl)
theorem dX7_find_28 : decode cX7_find 28 = .ok (.aload_n 2, 1) := dk_44 (dk_at dksX7_find_1 4 rfl rfl)
theorem dX7_find_29 : decode cX7_find 29 = .ok (.invokestatic 73, 3) := dk_184 0 73 (dk_at dksX7_find_1 5 rfl rfl)
theorem dX7_find_32 : decode cX7_find 32 = .ok (.goto 6, 3) := dk_167 0 6 (dk_at dksX7_find_1 8 rfl rfl)
theorem dX7_find_35 : decode cX7_find 35 = .ok (.invokestatic 79, 3) := dk_184 0 79 (dk_at dksX7_find_1 11 rfl rfl)
theorem dX7_find_38 : decode cX7_find 38 = .ok (.areturn, 1) := dk_176 (dk_at dksX7_find_1 14 rfl rfl)
abbrev cX7_rank : ByteArray := prog_12_method_9_code
def yX7_rank : MethodName := ⟨RX7, "rank", "(I)I"⟩
def dkwX7_rank_2 : List UInt8 := [96, 61, 45, 21, 4, 182, 0, 35, 78, 167, 255, 217, 132, 4, 255, 167, 255, 206, 28, 172]
abbrev dktX7_rank_2 : List UInt8 := dkwX7_rank_2 ++ []
def dkwX7_rank_1 : List UInt8 := [198, 0, 36, 45, 21, 4, 182, 0, 35, 180, 0, 43, 27, 162, 0, 23, 28, 45, 180, 0, 59, 21, 4, 46]
abbrev dktX7_rank_1 : List UInt8 := dkwX7_rank_1 ++ dktX7_rank_2
def dkwX7_rank_0 : List UInt8 := [3, 61, 42, 180, 0, 12, 78, 16, 8, 54, 4, 21, 4, 158, 0, 51, 45, 21, 4, 182, 0, 35]
abbrev dktX7_rank_0 : List UInt8 := dkwX7_rank_0 ++ dktX7_rank_1
theorem dksX7_rank_0 : cX7_rank.data.toList.drop 0 = dktX7_rank_0 := by decide +kernel
theorem dksX7_rank_1 : cX7_rank.data.toList.drop 22 = dktX7_rank_1 := dk_seg dksX7_rank_0 22 rfl rfl
theorem dksX7_rank_2 : cX7_rank.data.toList.drop 46 = dktX7_rank_2 := dk_seg dksX7_rank_1 24 rfl rfl
theorem dX7_rank_0 : decode cX7_rank 0 = .ok (.iconst 0, 1) := dk_3 (dk_at dksX7_rank_0 0 rfl rfl)
theorem dX7_rank_1 : decode cX7_rank 1 = .ok (.istore_n 2, 1) := dk_61 (dk_at dksX7_rank_0 1 rfl rfl)
theorem dX7_rank_2 : decode cX7_rank 2 = .ok (.aload_n 0, 1) := dk_42 (dk_at dksX7_rank_0 2 rfl rfl)
theorem dX7_rank_3 : decode cX7_rank 3 = .ok (.getfield 12, 3) := dk_180 0 12 (dk_at dksX7_rank_0 3 rfl rfl)
theorem dX7_rank_6 : decode cX7_rank 6 = .ok (.astore_n 3, 1) := dk_78 (dk_at dksX7_rank_0 6 rfl rfl)
theorem dX7_rank_7 : decode cX7_rank 7 = .ok (.bipush 8, 2) := dk_16 8 (dk_at dksX7_rank_0 7 rfl rfl)
theorem dX7_rank_9 : decode cX7_rank 9 = .ok (.istore 4, 2) := dk_54 4 (dk_at dksX7_rank_0 9 rfl rfl)
theorem dX7_rank_11 : decode cX7_rank 11 = .ok (.iload 4, 2) := dk_21 4 (dk_at dksX7_rank_0 11 rfl rfl)
theorem dX7_rank_13 : decode cX7_rank 13 = .ok (.ifCond .le 51, 3) := dk_158 0 51 (dk_at dksX7_rank_0 13 rfl rfl)
theorem dX7_rank_16 : decode cX7_rank 16 = .ok (.aload_n 3, 1) := dk_45 (dk_at dksX7_rank_0 16 rfl rfl)
theorem dX7_rank_17 : decode cX7_rank 17 = .ok (.iload 4, 2) := dk_21 4 (dk_at dksX7_rank_0 17 rfl rfl)
theorem dX7_rank_19 : decode cX7_rank 19 = .ok (.invokevirtual 35, 3) := dk_182 0 35 (dk_at dksX7_rank_0 19 rfl rfl)
theorem dX7_rank_22 : decode cX7_rank 22 = .ok (.ifnull 36, 3) := dk_198 0 36 (dk_at dksX7_rank_1 0 rfl rfl)
theorem dX7_rank_25 : decode cX7_rank 25 = .ok (.aload_n 3, 1) := dk_45 (dk_at dksX7_rank_1 3 rfl rfl)
theorem dX7_rank_26 : decode cX7_rank 26 = .ok (.iload 4, 2) := dk_21 4 (dk_at dksX7_rank_1 4 rfl rfl)
theorem dX7_rank_28 : decode cX7_rank 28 = .ok (.invokevirtual 35, 3) := dk_182 0 35 (dk_at dksX7_rank_1 6 rfl rfl)
theorem dX7_rank_31 : decode cX7_rank 31 = .ok (.getfield 43, 3) := dk_180 0 43 (dk_at dksX7_rank_1 9 rfl rfl)
theorem dX7_rank_34 : decode cX7_rank 34 = .ok (.iload_n 1, 1) := dk_27 (dk_at dksX7_rank_1 12 rfl rfl)
theorem dX7_rank_35 : decode cX7_rank 35 = .ok (.if_icmp .ge 23, 3) := dk_162 0 23 (dk_at dksX7_rank_1 13 rfl rfl)
theorem dX7_rank_38 : decode cX7_rank 38 = .ok (.iload_n 2, 1) := dk_28 (dk_at dksX7_rank_1 16 rfl rfl)
theorem dX7_rank_39 : decode cX7_rank 39 = .ok (.aload_n 3, 1) := dk_45 (dk_at dksX7_rank_1 17 rfl rfl)
theorem dX7_rank_40 : decode cX7_rank 40 = .ok (.getfield 59, 3) := dk_180 0 59 (dk_at dksX7_rank_1 18 rfl rfl)
theorem dX7_rank_43 : decode cX7_rank 43 = .ok (.iload 4, 2) := dk_21 4 (dk_at dksX7_rank_1 21 rfl rfl)
theorem dX7_rank_45 : decode cX7_rank 45 = .ok (.iaload, 1) := dk_46 (dk_at dksX7_rank_1 23 rfl rfl)
theorem dX7_rank_46 : decode cX7_rank 46 = .ok (.iadd, 1) := dk_96 (dk_at dksX7_rank_2 0 rfl rfl)
theorem dX7_rank_47 : decode cX7_rank 47 = .ok (.istore_n 2, 1) := dk_61 (dk_at dksX7_rank_2 1 rfl rfl)
theorem dX7_rank_48 : decode cX7_rank 48 = .ok (.aload_n 3, 1) := dk_45 (dk_at dksX7_rank_2 2 rfl rfl)
theorem dX7_rank_49 : decode cX7_rank 49 = .ok (.iload 4, 2) := dk_21 4 (dk_at dksX7_rank_2 3 rfl rfl)
theorem dX7_rank_51 : decode cX7_rank 51 = .ok (.invokevirtual 35, 3) := dk_182 0 35 (dk_at dksX7_rank_2 5 rfl rfl)
theorem dX7_rank_54 : decode cX7_rank 54 = .ok (.astore_n 3, 1) := dk_78 (dk_at dksX7_rank_2 8 rfl rfl)
theorem dX7_rank_55 : decode cX7_rank 55 = .ok (.goto (-39), 3) := dk_167 255 217 (dk_at dksX7_rank_2 9 rfl rfl)
theorem dX7_rank_58 : decode cX7_rank 58 = .ok (.iinc 4 (-1), 3) := dk_132 4 255 (dk_at dksX7_rank_2 12 rfl rfl)
theorem dX7_rank_61 : decode cX7_rank 61 = .ok (.goto (-50), 3) := dk_167 255 206 (dk_at dksX7_rank_2 15 rfl rfl)
theorem dX7_rank_64 : decode cX7_rank 64 = .ok (.iload_n 2, 1) := dk_28 (dk_at dksX7_rank_2 18 rfl rfl)
theorem dX7_rank_65 : decode cX7_rank 65 = .ok (.ireturn, 1) := dk_172 (dk_at dksX7_rank_2 19 rfl rfl)
abbrev cX7_sumBefore : ByteArray := prog_12_method_10_code
def yX7_sumBefore : MethodName := ⟨RX7, "sumBefore", "(I)I"⟩
def dkwX7_sumBefore_2 : List UInt8 := [96, 61, 45, 21, 4, 182, 0, 35, 78, 167, 255, 217, 132, 4, 255, 167, 255, 206, 28, 172]
abbrev dktX7_sumBefore_2 : List UInt8 := dkwX7_sumBefore_2 ++ []
def dkwX7_sumBefore_1 : List UInt8 := [198, 0, 36, 45, 21, 4, 182, 0, 35, 180, 0, 43, 27, 162, 0, 23, 28, 45, 180, 0, 63, 21, 4, 46]
abbrev dktX7_sumBefore_1 : List UInt8 := dkwX7_sumBefore_1 ++ dktX7_sumBefore_2
def dkwX7_sumBefore_0 : List UInt8 := [3, 61, 42, 180, 0, 12, 78, 16, 8, 54, 4, 21, 4, 158, 0, 51, 45, 21, 4, 182, 0, 35]
abbrev dktX7_sumBefore_0 : List UInt8 := dkwX7_sumBefore_0 ++ dktX7_sumBefore_1
theorem dksX7_sumBefore_0 : cX7_sumBefore.data.toList.drop 0 = dktX7_sumBefore_0 := by decide +kernel
theorem dksX7_sumBefore_1 : cX7_sumBefore.data.toList.drop 22 = dktX7_sumBefore_1 := dk_seg dksX7_sumBefore_0 22 rfl rfl
theorem dksX7_sumBefore_2 : cX7_sumBefore.data.toList.drop 46 = dktX7_sumBefore_2 := dk_seg dksX7_sumBefore_1 24 rfl rfl
theorem dX7_sumBefore_0 : decode cX7_sumBefore 0 = .ok (.iconst 0, 1) := dk_3 (dk_at dksX7_sumBefore_0 0 rfl rfl)
theorem dX7_sumBefore_1 : decode cX7_sumBefore 1 = .ok (.istore_n 2, 1) := dk_61 (dk_at dksX7_sumBefore_0 1 rfl rfl)
theorem dX7_sumBefore_2 : decode cX7_sumBefore 2 = .ok (.aload_n 0, 1) := dk_42 (dk_at dksX7_sumBefore_0 2 rfl rfl)
theorem dX7_sumBefore_3 : decode cX7_sumBefore 3 = .ok (.getfield 12, 3) := dk_180 0 12 (dk_at dksX7_sumBefore_0 3 rfl rfl)
theorem dX7_sumBefore_6 : decode cX7_sumBefore 6 = .ok (.astore_n 3, 1) := dk_78 (dk_at dksX7_sumBefore_0 6 rfl rfl)
theorem dX7_sumBefore_7 : decode cX7_sumBefore 7 = .ok (.bipush 8, 2) := dk_16 8 (dk_at dksX7_sumBefore_0 7 rfl rfl)
theorem dX7_sumBefore_9 : decode cX7_sumBefore 9 = .ok (.istore 4, 2) := dk_54 4 (dk_at dksX7_sumBefore_0 9 rfl rfl)
theorem dX7_sumBefore_11 : decode cX7_sumBefore 11 = .ok (.iload 4, 2) := dk_21 4 (dk_at dksX7_sumBefore_0 11 rfl rfl)
theorem dX7_sumBefore_13 : decode cX7_sumBefore 13 = .ok (.ifCond .le 51, 3) := dk_158 0 51 (dk_at dksX7_sumBefore_0 13 rfl rfl)
theorem dX7_sumBefore_16 : decode cX7_sumBefore 16 = .ok (.aload_n 3, 1) := dk_45 (dk_at dksX7_sumBefore_0 16 rfl rfl)
theorem dX7_sumBefore_17 : decode cX7_sumBefore 17 = .ok (.iload 4, 2) := dk_21 4 (dk_at dksX7_sumBefore_0 17 rfl rfl)
theorem dX7_sumBefore_19 : decode cX7_sumBefore 19 = .ok (.invokevirtual 35, 3) := dk_182 0 35 (dk_at dksX7_sumBefore_0 19 rfl rfl)
theorem dX7_sumBefore_22 : decode cX7_sumBefore 22 = .ok (.ifnull 36, 3) := dk_198 0 36 (dk_at dksX7_sumBefore_1 0 rfl rfl)
theorem dX7_sumBefore_25 : decode cX7_sumBefore 25 = .ok (.aload_n 3, 1) := dk_45 (dk_at dksX7_sumBefore_1 3 rfl rfl)
theorem dX7_sumBefore_26 : decode cX7_sumBefore 26 = .ok (.iload 4, 2) := dk_21 4 (dk_at dksX7_sumBefore_1 4 rfl rfl)
theorem dX7_sumBefore_28 : decode cX7_sumBefore 28 = .ok (.invokevirtual 35, 3) := dk_182 0 35 (dk_at dksX7_sumBefore_1 6 rfl rfl)
theorem dX7_sumBefore_31 : decode cX7_sumBefore 31 = .ok (.getfield 43, 3) := dk_180 0 43 (dk_at dksX7_sumBefore_1 9 rfl rfl)
theorem dX7_sumBefore_34 : decode cX7_sumBefore 34 = .ok (.iload_n 1, 1) := dk_27 (dk_at dksX7_sumBefore_1 12 rfl rfl)
theorem dX7_sumBefore_35 : decode cX7_sumBefore 35 = .ok (.if_icmp .ge 23, 3) := dk_162 0 23 (dk_at dksX7_sumBefore_1 13 rfl rfl)
theorem dX7_sumBefore_38 : decode cX7_sumBefore 38 = .ok (.iload_n 2, 1) := dk_28 (dk_at dksX7_sumBefore_1 16 rfl rfl)
theorem dX7_sumBefore_39 : decode cX7_sumBefore 39 = .ok (.aload_n 3, 1) := dk_45 (dk_at dksX7_sumBefore_1 17 rfl rfl)
theorem dX7_sumBefore_40 : decode cX7_sumBefore 40 = .ok (.getfield 63, 3) := dk_180 0 63 (dk_at dksX7_sumBefore_1 18 rfl rfl)
theorem dX7_sumBefore_43 : decode cX7_sumBefore 43 = .ok (.iload 4, 2) := dk_21 4 (dk_at dksX7_sumBefore_1 21 rfl rfl)
theorem dX7_sumBefore_45 : decode cX7_sumBefore 45 = .ok (.iaload, 1) := dk_46 (dk_at dksX7_sumBefore_1 23 rfl rfl)
theorem dX7_sumBefore_46 : decode cX7_sumBefore 46 = .ok (.iadd, 1) := dk_96 (dk_at dksX7_sumBefore_2 0 rfl rfl)
theorem dX7_sumBefore_47 : decode cX7_sumBefore 47 = .ok (.istore_n 2, 1) := dk_61 (dk_at dksX7_sumBefore_2 1 rfl rfl)
theorem dX7_sumBefore_48 : decode cX7_sumBefore 48 = .ok (.aload_n 3, 1) := dk_45 (dk_at dksX7_sumBefore_2 2 rfl rfl)
theorem dX7_sumBefore_49 : decode cX7_sumBefore 49 = .ok (.iload 4, 2) := dk_21 4 (dk_at dksX7_sumBefore_2 3 rfl rfl)
theorem dX7_sumBefore_51 : decode cX7_sumBefore 51 = .ok (.invokevirtual 35, 3) := dk_182 0 35 (dk_at dksX7_sumBefore_2 5 rfl rfl)
theorem dX7_sumBefore_54 : decode cX7_sumBefore 54 = .ok (.astore_n 3, 1) := dk_78 (dk_at dksX7_sumBefore_2 8 rfl rfl)
theorem dX7_sumBefore_55 : decode cX7_sumBefore 55 = .ok (.goto (-39), 3) := dk_167 255 217 (dk_at dksX7_sumBefore_2 9 rfl rfl)
theorem dX7_sumBefore_58 : decode cX7_sumBefore 58 = .ok (.iinc 4 (-1), 3) := dk_132 4 255 (dk_at dksX7_sumBefore_2 12 rfl rfl)
theorem dX7_sumBefore_61 : decode cX7_sumBefore 61 = .ok (.goto (-50), 3) := dk_167 255 206 (dk_at dksX7_sumBefore_2 15 rfl rfl)
theorem dX7_sumBefore_64 : decode cX7_sumBefore 64 = .ok (.iload_n 2, 1) := dk_28 (dk_at dksX7_sumBefore_2 18 rfl rfl)
theorem dX7_sumBefore_65 : decode cX7_sumBefore 65 = .ok (.ireturn, 1) := dk_172 (dk_at dksX7_sumBefore_2 19 rfl rfl)
abbrev cX7_search : ByteArray := prog_12_method_21_code
def yX7_search : MethodName := ⟨RX7, "search", "(I)LCountedSkipLists$SkipList$Search;"⟩
def dkwX7_search_0 : List UInt8 := [187, 0, 108, 89, 42, 27, 183, 0, 110, 176]
abbrev dktX7_search_0 : List UInt8 := dkwX7_search_0 ++ []
theorem dksX7_search_0 : cX7_search.data.toList.drop 0 = dktX7_search_0 := by decide +kernel
theorem dX7_search_0 : decode cX7_search 0 = .ok (.new 108, 3) := dk_187 0 108 (dk_at dksX7_search_0 0 rfl rfl)
theorem dX7_search_3 : decode cX7_search 3 = .ok (.dup, 1) := dk_89 (dk_at dksX7_search_0 3 rfl rfl)
theorem dX7_search_4 : decode cX7_search 4 = .ok (.aload_n 0, 1) := dk_42 (dk_at dksX7_search_0 4 rfl rfl)
theorem dX7_search_5 : decode cX7_search 5 = .ok (.iload_n 1, 1) := dk_27 (dk_at dksX7_search_0 5 rfl rfl)
theorem dX7_search_6 : decode cX7_search 6 = .ok (.invokespecial 110, 3) := dk_183 0 110 (dk_at dksX7_search_0 6 rfl rfl)
theorem dX7_search_9 : decode cX7_search 9 = .ok (.areturn, 1) := dk_176 (dk_at dksX7_search_0 9 rfl rfl)
abbrev cX7_copy : ByteArray := prog_12_method_3_code
def yX7_copy : MethodName := ⟨RX7, "copy", "()LCountedSkipLists$SkipList;"⟩
def dkwX7_copy_1 : List UInt8 := [182, 0, 39, 43, 176]
abbrev dktX7_copy_1 : List UInt8 := dkwX7_copy_1 ++ []
def dkwX7_copy_0 : List UInt8 := [187, 0, 13, 89, 42, 180, 0, 26, 183, 0, 32, 76, 43, 42, 42, 180, 0, 12, 4, 182, 0, 35, 1]
abbrev dktX7_copy_0 : List UInt8 := dkwX7_copy_0 ++ dktX7_copy_1
theorem dksX7_copy_0 : cX7_copy.data.toList.drop 0 = dktX7_copy_0 := by decide +kernel
theorem dksX7_copy_1 : cX7_copy.data.toList.drop 23 = dktX7_copy_1 := dk_seg dksX7_copy_0 23 rfl rfl
theorem dX7_copy_0 : decode cX7_copy 0 = .ok (.new 13, 3) := dk_187 0 13 (dk_at dksX7_copy_0 0 rfl rfl)
theorem dX7_copy_3 : decode cX7_copy 3 = .ok (.dup, 1) := dk_89 (dk_at dksX7_copy_0 3 rfl rfl)
theorem dX7_copy_4 : decode cX7_copy 4 = .ok (.aload_n 0, 1) := dk_42 (dk_at dksX7_copy_0 4 rfl rfl)
theorem dX7_copy_5 : decode cX7_copy 5 = .ok (.getfield 26, 3) := dk_180 0 26 (dk_at dksX7_copy_0 5 rfl rfl)
theorem dX7_copy_8 : decode cX7_copy 8 = .ok (.invokespecial 32, 3) := dk_183 0 32 (dk_at dksX7_copy_0 8 rfl rfl)
theorem dX7_copy_11 : decode cX7_copy 11 = .ok (.astore_n 1, 1) := dk_76 (dk_at dksX7_copy_0 11 rfl rfl)
theorem dX7_copy_12 : decode cX7_copy 12 = .ok (.aload_n 1, 1) := dk_43 (dk_at dksX7_copy_0 12 rfl rfl)
theorem dX7_copy_13 : decode cX7_copy 13 = .ok (.aload_n 0, 1) := dk_42 (dk_at dksX7_copy_0 13 rfl rfl)
theorem dX7_copy_14 : decode cX7_copy 14 = .ok (.aload_n 0, 1) := dk_42 (dk_at dksX7_copy_0 14 rfl rfl)
theorem dX7_copy_15 : decode cX7_copy 15 = .ok (.getfield 12, 3) := dk_180 0 12 (dk_at dksX7_copy_0 15 rfl rfl)
theorem dX7_copy_18 : decode cX7_copy 18 = .ok (.iconst 1, 1) := dk_4 (dk_at dksX7_copy_0 18 rfl rfl)
theorem dX7_copy_19 : decode cX7_copy 19 = .ok (.invokevirtual 35, 3) := dk_182 0 35 (dk_at dksX7_copy_0 19 rfl rfl)
theorem dX7_copy_22 : decode cX7_copy 22 = .ok (.aconst_null, 1) := dk_1 (dk_at dksX7_copy_0 22 rfl rfl)
theorem dX7_copy_23 : decode cX7_copy 23 = .ok (.invokevirtual 39, 3) := dk_182 0 39 (dk_at dksX7_copy_1 0 rfl rfl)
theorem dX7_copy_26 : decode cX7_copy 26 = .ok (.aload_n 1, 1) := dk_43 (dk_at dksX7_copy_1 3 rfl rfl)
theorem dX7_copy_27 : decode cX7_copy 27 = .ok (.areturn, 1) := dk_176 (dk_at dksX7_copy_1 4 rfl rfl)
abbrev cX7_fill : ByteArray := prog_12_method_4_code
def yX7_fill : MethodName := ⟨RX7, "fill", "(LCountedSkipLists$SkipList;LCountedSkipLists$Node;LCountedSkipLists$Node;)V"⟩
def dkwX7_fill_1 : List UInt8 := [180, 0, 50, 182, 0, 53, 25, 4, 4, 182, 0, 35, 58, 4, 167, 255, 223, 177]
abbrev dktX7_fill_1 : List UInt8 := dkwX7_fill_1 ++ []
def dkwX7_fill_0 : List UInt8 := [44, 58, 4, 25, 4, 45, 165, 0, 33, 42, 25, 4, 180, 0, 43, 25, 4, 180, 0, 47, 25, 4]
abbrev dktX7_fill_0 : List UInt8 := dkwX7_fill_0 ++ dktX7_fill_1
theorem dksX7_fill_0 : cX7_fill.data.toList.drop 0 = dktX7_fill_0 := by decide +kernel
theorem dksX7_fill_1 : cX7_fill.data.toList.drop 22 = dktX7_fill_1 := dk_seg dksX7_fill_0 22 rfl rfl
theorem dX7_fill_0 : decode cX7_fill 0 = .ok (.aload_n 2, 1) := dk_44 (dk_at dksX7_fill_0 0 rfl rfl)
theorem dX7_fill_1 : decode cX7_fill 1 = .ok (.astore 4, 2) := dk_58 4 (dk_at dksX7_fill_0 1 rfl rfl)
theorem dX7_fill_3 : decode cX7_fill 3 = .ok (.aload 4, 2) := dk_25 4 (dk_at dksX7_fill_0 3 rfl rfl)
theorem dX7_fill_5 : decode cX7_fill 5 = .ok (.aload_n 3, 1) := dk_45 (dk_at dksX7_fill_0 5 rfl rfl)
theorem dX7_fill_6 : decode cX7_fill 6 = .ok (.if_acmp .eq 33, 3) := dk_165 0 33 (dk_at dksX7_fill_0 6 rfl rfl)
theorem dX7_fill_9 : decode cX7_fill 9 = .ok (.aload_n 0, 1) := dk_42 (dk_at dksX7_fill_0 9 rfl rfl)
theorem dX7_fill_10 : decode cX7_fill 10 = .ok (.aload 4, 2) := dk_25 4 (dk_at dksX7_fill_0 10 rfl rfl)
theorem dX7_fill_12 : decode cX7_fill 12 = .ok (.getfield 43, 3) := dk_180 0 43 (dk_at dksX7_fill_0 12 rfl rfl)
theorem dX7_fill_15 : decode cX7_fill 15 = .ok (.aload 4, 2) := dk_25 4 (dk_at dksX7_fill_0 15 rfl rfl)
theorem dX7_fill_17 : decode cX7_fill 17 = .ok (.getfield 47, 3) := dk_180 0 47 (dk_at dksX7_fill_0 17 rfl rfl)
theorem dX7_fill_20 : decode cX7_fill 20 = .ok (.aload 4, 2) := dk_25 4 (dk_at dksX7_fill_0 20 rfl rfl)
theorem dX7_fill_22 : decode cX7_fill 22 = .ok (.getfield 50, 3) := dk_180 0 50 (dk_at dksX7_fill_1 0 rfl rfl)
theorem dX7_fill_25 : decode cX7_fill 25 = .ok (.invokevirtual 53, 3) := dk_182 0 53 (dk_at dksX7_fill_1 3 rfl rfl)
theorem dX7_fill_28 : decode cX7_fill 28 = .ok (.aload 4, 2) := dk_25 4 (dk_at dksX7_fill_1 6 rfl rfl)
theorem dX7_fill_30 : decode cX7_fill 30 = .ok (.iconst 1, 1) := dk_4 (dk_at dksX7_fill_1 8 rfl rfl)
theorem dX7_fill_31 : decode cX7_fill 31 = .ok (.invokevirtual 35, 3) := dk_182 0 35 (dk_at dksX7_fill_1 9 rfl rfl)
theorem dX7_fill_34 : decode cX7_fill 34 = .ok (.astore 4, 2) := dk_58 4 (dk_at dksX7_fill_1 12 rfl rfl)
theorem dX7_fill_36 : decode cX7_fill 36 = .ok (.goto (-33), 3) := dk_167 255 223 (dk_at dksX7_fill_1 14 rfl rfl)
theorem dX7_fill_39 : decode cX7_fill 39 = .ok (.return_, 1) := dk_177 (dk_at dksX7_fill_1 17 rfl rfl)
abbrev cX7_insert : ByteArray := prog_12_method_12_code
def yX7_insert : MethodName := ⟨RX7, "insert", "(II)I"⟩
def dkwX7_insert_6 : List UInt8 := [132, 6, 1, 167, 255, 212, 42, 89, 180, 0, 66, 4, 96, 181, 0, 66, 29, 172]
abbrev dktX7_insert_6 : List UInt8 := dkwX7_insert_6 ++ []
def dkwX7_insert_5 : List UInt8 := [21, 6, 92, 46, 4, 96, 79, 42, 180, 0, 18, 21, 6, 50, 180, 0, 63, 21, 6, 92, 46, 28, 96, 79]
abbrev dktX7_insert_5 : List UInt8 := dkwX7_insert_5 ++ dktX7_insert_6
def dkwX7_insert_4 : List UInt8 := [4, 3, 79, 5, 54, 6, 21, 6, 16, 8, 163, 0, 43, 42, 180, 0, 18, 21, 6, 50, 180, 0, 59]
abbrev dktX7_insert_4 : List UInt8 := dkwX7_insert_4 ++ dktX7_insert_5
def dkwX7_insert_3 : List UInt8 := [25, 5, 4, 25, 4, 4, 28, 182, 0, 22, 25, 4, 4, 182, 0, 35, 199, 0, 11, 25, 4, 180, 0, 63]
abbrev dktX7_insert_3 : List UInt8 := dkwX7_insert_3 ++ dktX7_insert_4
def dkwX7_insert_2 : List UInt8 := [25, 5, 4, 182, 0, 35, 199, 0, 7, 3, 167, 0, 10, 25, 5, 180, 0, 63, 4, 46, 182, 0, 22]
abbrev dktX7_insert_2 : List UInt8 := dkwX7_insert_2 ++ dktX7_insert_3
def dkwX7_insert_1 : List UInt8 := [180, 0, 18, 4, 50, 58, 5, 25, 4, 4, 25, 5, 4, 182, 0, 35, 25, 5, 180, 0, 59, 4, 46]
abbrev dktX7_insert_1 : List UInt8 := dkwX7_insert_1 ++ dktX7_insert_2
def dkwX7_insert_0 : List UInt8 := [42, 27, 182, 0, 86, 62, 42, 27, 182, 0, 69, 187, 0, 9, 89, 27, 28, 183, 0, 90, 58, 4, 42]
abbrev dktX7_insert_0 : List UInt8 := dkwX7_insert_0 ++ dktX7_insert_1
theorem dksX7_insert_0 : cX7_insert.data.toList.drop 0 = dktX7_insert_0 := by decide +kernel
theorem dksX7_insert_1 : cX7_insert.data.toList.drop 23 = dktX7_insert_1 := dk_seg dksX7_insert_0 23 rfl rfl
theorem dksX7_insert_2 : cX7_insert.data.toList.drop 46 = dktX7_insert_2 := dk_seg dksX7_insert_1 23 rfl rfl
theorem dksX7_insert_3 : cX7_insert.data.toList.drop 69 = dktX7_insert_3 := dk_seg dksX7_insert_2 23 rfl rfl
theorem dksX7_insert_4 : cX7_insert.data.toList.drop 93 = dktX7_insert_4 := dk_seg dksX7_insert_3 24 rfl rfl
theorem dksX7_insert_5 : cX7_insert.data.toList.drop 116 = dktX7_insert_5 := dk_seg dksX7_insert_4 23 rfl rfl
theorem dksX7_insert_6 : cX7_insert.data.toList.drop 140 = dktX7_insert_6 := dk_seg dksX7_insert_5 24 rfl rfl
theorem dX7_insert_0 : decode cX7_insert 0 = .ok (.aload_n 0, 1) := dk_42 (dk_at dksX7_insert_0 0 rfl rfl)
theorem dX7_insert_1 : decode cX7_insert 1 = .ok (.iload_n 1, 1) := dk_27 (dk_at dksX7_insert_0 1 rfl rfl)
theorem dX7_insert_2 : decode cX7_insert 2 = .ok (.invokevirtual 86, 3) := dk_182 0 86 (dk_at dksX7_insert_0 2 rfl rfl)
theorem dX7_insert_5 : decode cX7_insert 5 = .ok (.istore_n 3, 1) := dk_62 (dk_at dksX7_insert_0 5 rfl rfl)
theorem dX7_insert_6 : decode cX7_insert 6 = .ok (.aload_n 0, 1) := dk_42 (dk_at dksX7_insert_0 6 rfl rfl)
theorem dX7_insert_7 : decode cX7_insert 7 = .ok (.iload_n 1, 1) := dk_27 (dk_at dksX7_insert_0 7 rfl rfl)
theorem dX7_insert_8 : decode cX7_insert 8 = .ok (.invokevirtual 69, 3) := dk_182 0 69 (dk_at dksX7_insert_0 8 rfl rfl)
theorem dX7_insert_11 : decode cX7_insert 11 = .ok (.new 9, 3) := dk_187 0 9 (dk_at dksX7_insert_0 11 rfl rfl)
theorem dX7_insert_14 : decode cX7_insert 14 = .ok (.dup, 1) := dk_89 (dk_at dksX7_insert_0 14 rfl rfl)
theorem dX7_insert_15 : decode cX7_insert 15 = .ok (.iload_n 1, 1) := dk_27 (dk_at dksX7_insert_0 15 rfl rfl)
theorem dX7_insert_16 : decode cX7_insert 16 = .ok (.iload_n 2, 1) := dk_28 (dk_at dksX7_insert_0 16 rfl rfl)
theorem dX7_insert_17 : decode cX7_insert 17 = .ok (.invokespecial 90, 3) := dk_183 0 90 (dk_at dksX7_insert_0 17 rfl rfl)
theorem dX7_insert_20 : decode cX7_insert 20 = .ok (.astore 4, 2) := dk_58 4 (dk_at dksX7_insert_0 20 rfl rfl)
theorem dX7_insert_22 : decode cX7_insert 22 = .ok (.aload_n 0, 1) := dk_42 (dk_at dksX7_insert_0 22 rfl rfl)
theorem dX7_insert_23 : decode cX7_insert 23 = .ok (.getfield 18, 3) := dk_180 0 18 (dk_at dksX7_insert_1 0 rfl rfl)
theorem dX7_insert_26 : decode cX7_insert 26 = .ok (.iconst 1, 1) := dk_4 (dk_at dksX7_insert_1 3 rfl rfl)
theorem dX7_insert_27 : decode cX7_insert 27 = .ok (.aaload, 1) := dk_50 (dk_at dksX7_insert_1 4 rfl rfl)
theorem dX7_insert_28 : decode cX7_insert 28 = .ok (.astore 5, 2) := dk_58 5 (dk_at dksX7_insert_1 5 rfl rfl)
theorem dX7_insert_30 : decode cX7_insert 30 = .ok (.aload 4, 2) := dk_25 4 (dk_at dksX7_insert_1 7 rfl rfl)
theorem dX7_insert_32 : decode cX7_insert 32 = .ok (.iconst 1, 1) := dk_4 (dk_at dksX7_insert_1 9 rfl rfl)
theorem dX7_insert_33 : decode cX7_insert 33 = .ok (.aload 5, 2) := dk_25 5 (dk_at dksX7_insert_1 10 rfl rfl)
theorem dX7_insert_35 : decode cX7_insert 35 = .ok (.iconst 1, 1) := dk_4 (dk_at dksX7_insert_1 12 rfl rfl)
theorem dX7_insert_36 : decode cX7_insert 36 = .ok (.invokevirtual 35, 3) := dk_182 0 35 (dk_at dksX7_insert_1 13 rfl rfl)
theorem dX7_insert_39 : decode cX7_insert 39 = .ok (.aload 5, 2) := dk_25 5 (dk_at dksX7_insert_1 16 rfl rfl)
theorem dX7_insert_41 : decode cX7_insert 41 = .ok (.getfield 59, 3) := dk_180 0 59 (dk_at dksX7_insert_1 18 rfl rfl)
theorem dX7_insert_44 : decode cX7_insert 44 = .ok (.iconst 1, 1) := dk_4 (dk_at dksX7_insert_1 21 rfl rfl)
theorem dX7_insert_45 : decode cX7_insert 45 = .ok (.iaload, 1) := dk_46 (dk_at dksX7_insert_1 22 rfl rfl)
theorem dX7_insert_46 : decode cX7_insert 46 = .ok (.aload 5, 2) := dk_25 5 (dk_at dksX7_insert_2 0 rfl rfl)
theorem dX7_insert_48 : decode cX7_insert 48 = .ok (.iconst 1, 1) := dk_4 (dk_at dksX7_insert_2 2 rfl rfl)
theorem dX7_insert_49 : decode cX7_insert 49 = .ok (.invokevirtual 35, 3) := dk_182 0 35 (dk_at dksX7_insert_2 3 rfl rfl)
theorem dX7_insert_52 : decode cX7_insert 52 = .ok (.ifnonnull 7, 3) := dk_199 0 7 (dk_at dksX7_insert_2 6 rfl rfl)
theorem dX7_insert_55 : decode cX7_insert 55 = .ok (.iconst 0, 1) := dk_3 (dk_at dksX7_insert_2 9 rfl rfl)
theorem dX7_insert_56 : decode cX7_insert 56 = .ok (.goto 10, 3) := dk_167 0 10 (dk_at dksX7_insert_2 10 rfl rfl)
theorem dX7_insert_59 : decode cX7_insert 59 = .ok (.aload 5, 2) := dk_25 5 (dk_at dksX7_insert_2 13 rfl rfl)
theorem dX7_insert_61 : decode cX7_insert 61 = .ok (.getfield 63, 3) := dk_180 0 63 (dk_at dksX7_insert_2 15 rfl rfl)
theorem dX7_insert_64 : decode cX7_insert 64 = .ok (.iconst 1, 1) := dk_4 (dk_at dksX7_insert_2 18 rfl rfl)
theorem dX7_insert_65 : decode cX7_insert 65 = .ok (.iaload, 1) := dk_46 (dk_at dksX7_insert_2 19 rfl rfl)
theorem dX7_insert_66 : decode cX7_insert 66 = .ok (.invokevirtual 22, 3) := dk_182 0 22 (dk_at dksX7_insert_2 20 rfl rfl)
theorem dX7_insert_69 : decode cX7_insert 69 = .ok (.aload 5, 2) := dk_25 5 (dk_at dksX7_insert_3 0 rfl rfl)
theorem dX7_insert_71 : decode cX7_insert 71 = .ok (.iconst 1, 1) := dk_4 (dk_at dksX7_insert_3 2 rfl rfl)
theorem dX7_insert_72 : decode cX7_insert 72 = .ok (.aload 4, 2) := dk_25 4 (dk_at dksX7_insert_3 3 rfl rfl)
theorem dX7_insert_74 : decode cX7_insert 74 = .ok (.iconst 1, 1) := dk_4 (dk_at dksX7_insert_3 5 rfl rfl)
theorem dX7_insert_75 : decode cX7_insert 75 = .ok (.iload_n 2, 1) := dk_28 (dk_at dksX7_insert_3 6 rfl rfl)
theorem dX7_insert_76 : decode cX7_insert 76 = .ok (.invokevirtual 22, 3) := dk_182 0 22 (dk_at dksX7_insert_3 7 rfl rfl)
theorem dX7_insert_79 : decode cX7_insert 79 = .ok (.aload 4, 2) := dk_25 4 (dk_at dksX7_insert_3 10 rfl rfl)
theorem dX7_insert_81 : decode cX7_insert 81 = .ok (.iconst 1, 1) := dk_4 (dk_at dksX7_insert_3 12 rfl rfl)
theorem dX7_insert_82 : decode cX7_insert 82 = .ok (.invokevirtual 35, 3) := dk_182 0 35 (dk_at dksX7_insert_3 13 rfl rfl)
theorem dX7_insert_85 : decode cX7_insert 85 = .ok (.ifnonnull 11, 3) := dk_199 0 11 (dk_at dksX7_insert_3 16 rfl rfl)
theorem dX7_insert_88 : decode cX7_insert 88 = .ok (.aload 4, 2) := dk_25 4 (dk_at dksX7_insert_3 19 rfl rfl)
theorem dX7_insert_90 : decode cX7_insert 90 = .ok (.getfield 63, 3) := dk_180 0 63 (dk_at dksX7_insert_3 21 rfl rfl)
theorem dX7_insert_93 : decode cX7_insert 93 = .ok (.iconst 1, 1) := dk_4 (dk_at dksX7_insert_4 0 rfl rfl)
theorem dX7_insert_94 : decode cX7_insert 94 = .ok (.iconst 0, 1) := dk_3 (dk_at dksX7_insert_4 1 rfl rfl)
theorem dX7_insert_95 : decode cX7_insert 95 = .ok (.iastore, 1) := dk_79 (dk_at dksX7_insert_4 2 rfl rfl)
theorem dX7_insert_96 : decode cX7_insert 96 = .ok (.iconst 2, 1) := dk_5 (dk_at dksX7_insert_4 3 rfl rfl)
theorem dX7_insert_97 : decode cX7_insert 97 = .ok (.istore 6, 2) := dk_54 6 (dk_at dksX7_insert_4 4 rfl rfl)
theorem dX7_insert_99 : decode cX7_insert 99 = .ok (.iload 6, 2) := dk_21 6 (dk_at dksX7_insert_4 6 rfl rfl)
theorem dX7_insert_101 : decode cX7_insert 101 = .ok (.bipush 8, 2) := dk_16 8 (dk_at dksX7_insert_4 8 rfl rfl)
theorem dX7_insert_103 : decode cX7_insert 103 = .ok (.if_icmp .gt 43, 3) := dk_163 0 43 (dk_at dksX7_insert_4 10 rfl rfl)
theorem dX7_insert_106 : decode cX7_insert 106 = .ok (.aload_n 0, 1) := dk_42 (dk_at dksX7_insert_4 13 rfl rfl)
theorem dX7_insert_107 : decode cX7_insert 107 = .ok (.getfield 18, 3) := dk_180 0 18 (dk_at dksX7_insert_4 14 rfl rfl)
theorem dX7_insert_110 : decode cX7_insert 110 = .ok (.iload 6, 2) := dk_21 6 (dk_at dksX7_insert_4 17 rfl rfl)
theorem dX7_insert_112 : decode cX7_insert 112 = .ok (.aaload, 1) := dk_50 (dk_at dksX7_insert_4 19 rfl rfl)
theorem dX7_insert_113 : decode cX7_insert 113 = .ok (.getfield 59, 3) := dk_180 0 59 (dk_at dksX7_insert_4 20 rfl rfl)
theorem dX7_insert_116 : decode cX7_insert 116 = .ok (.iload 6, 2) := dk_21 6 (dk_at dksX7_insert_5 0 rfl rfl)
theorem dX7_insert_118 : decode cX7_insert 118 = .ok (.dup2, 1) := dk_92 (dk_at dksX7_insert_5 2 rfl rfl)
theorem dX7_insert_119 : decode cX7_insert 119 = .ok (.iaload, 1) := dk_46 (dk_at dksX7_insert_5 3 rfl rfl)
theorem dX7_insert_120 : decode cX7_insert 120 = .ok (.iconst 1, 1) := dk_4 (dk_at dksX7_insert_5 4 rfl rfl)
theorem dX7_insert_121 : decode cX7_insert 121 = .ok (.iadd, 1) := dk_96 (dk_at dksX7_insert_5 5 rfl rfl)
theorem dX7_insert_122 : decode cX7_insert 122 = .ok (.iastore, 1) := dk_79 (dk_at dksX7_insert_5 6 rfl rfl)
theorem dX7_insert_123 : decode cX7_insert 123 = .ok (.aload_n 0, 1) := dk_42 (dk_at dksX7_insert_5 7 rfl rfl)
theorem dX7_insert_124 : decode cX7_insert 124 = .ok (.getfield 18, 3) := dk_180 0 18 (dk_at dksX7_insert_5 8 rfl rfl)
theorem dX7_insert_127 : decode cX7_insert 127 = .ok (.iload 6, 2) := dk_21 6 (dk_at dksX7_insert_5 11 rfl rfl)
theorem dX7_insert_129 : decode cX7_insert 129 = .ok (.aaload, 1) := dk_50 (dk_at dksX7_insert_5 13 rfl rfl)
theorem dX7_insert_130 : decode cX7_insert 130 = .ok (.getfield 63, 3) := dk_180 0 63 (dk_at dksX7_insert_5 14 rfl rfl)
theorem dX7_insert_133 : decode cX7_insert 133 = .ok (.iload 6, 2) := dk_21 6 (dk_at dksX7_insert_5 17 rfl rfl)
theorem dX7_insert_135 : decode cX7_insert 135 = .ok (.dup2, 1) := dk_92 (dk_at dksX7_insert_5 19 rfl rfl)
theorem dX7_insert_136 : decode cX7_insert 136 = .ok (.iaload, 1) := dk_46 (dk_at dksX7_insert_5 20 rfl rfl)
theorem dX7_insert_137 : decode cX7_insert 137 = .ok (.iload_n 2, 1) := dk_28 (dk_at dksX7_insert_5 21 rfl rfl)
theorem dX7_insert_138 : decode cX7_insert 138 = .ok (.iadd, 1) := dk_96 (dk_at dksX7_insert_5 22 rfl rfl)
theorem dX7_insert_139 : decode cX7_insert 139 = .ok (.iastore, 1) := dk_79 (dk_at dksX7_insert_5 23 rfl rfl)
theorem dX7_insert_140 : decode cX7_insert 140 = .ok (.iinc 6 1, 3) := dk_132 6 1 (dk_at dksX7_insert_6 0 rfl rfl)
theorem dX7_insert_143 : decode cX7_insert 143 = .ok (.goto (-44), 3) := dk_167 255 212 (dk_at dksX7_insert_6 3 rfl rfl)
theorem dX7_insert_146 : decode cX7_insert 146 = .ok (.aload_n 0, 1) := dk_42 (dk_at dksX7_insert_6 6 rfl rfl)
theorem dX7_insert_147 : decode cX7_insert 147 = .ok (.dup, 1) := dk_89 (dk_at dksX7_insert_6 7 rfl rfl)
theorem dX7_insert_148 : decode cX7_insert 148 = .ok (.getfield 66, 3) := dk_180 0 66 (dk_at dksX7_insert_6 8 rfl rfl)
theorem dX7_insert_151 : decode cX7_insert 151 = .ok (.iconst 1, 1) := dk_4 (dk_at dksX7_insert_6 11 rfl rfl)
theorem dX7_insert_152 : decode cX7_insert 152 = .ok (.iadd, 1) := dk_96 (dk_at dksX7_insert_6 12 rfl rfl)
theorem dX7_insert_153 : decode cX7_insert 153 = .ok (.putfield 66, 3) := dk_181 0 66 (dk_at dksX7_insert_6 13 rfl rfl)
theorem dX7_insert_156 : decode cX7_insert 156 = .ok (.iload_n 3, 1) := dk_29 (dk_at dksX7_insert_6 16 rfl rfl)
theorem dX7_insert_157 : decode cX7_insert 157 = .ok (.ireturn, 1) := dk_172 (dk_at dksX7_insert_6 17 rfl rfl)
abbrev cX7_remove : ByteArray := prog_12_method_13_code
def yX7_remove : MethodName := ⟨RX7, "remove", "(LCountedSkipLists$Node;)V"⟩
def dkwX7_remove_8 : List UInt8 := [164, 0, 8, 44, 29, 181, 0, 50, 42, 89, 180, 0, 66, 4, 100, 181, 0, 66, 177]
abbrev dktX7_remove_8 : List UInt8 := dkwX7_remove_8 ++ []
def dkwX7_remove_7 : List UInt8 := [43, 4, 182, 0, 35, 43, 180, 0, 59, 4, 46, 43, 180, 0, 63, 4, 46, 182, 0, 22, 29, 4]
abbrev dktX7_remove_7 : List UInt8 := dkwX7_remove_7 ++ dktX7_remove_8
def dkwX7_remove_6 : List UInt8 := [21, 4, 50, 180, 0, 63, 21, 4, 92, 46, 43, 180, 0, 47, 100, 79, 132, 4, 1, 167, 255, 209, 44, 4]
abbrev dktX7_remove_6 : List UInt8 := dkwX7_remove_6 ++ dktX7_remove_7
def dkwX7_remove_5 : List UInt8 := [163, 0, 46, 42, 180, 0, 18, 21, 4, 50, 180, 0, 59, 21, 4, 92, 46, 4, 100, 79, 42, 180, 0, 18]
abbrev dktX7_remove_5 : List UInt8 := dkwX7_remove_5 ++ dktX7_remove_6
def dkwX7_remove_4 : List UInt8 := [180, 0, 93, 21, 4, 44, 83, 132, 4, 255, 167, 255, 176, 29, 4, 96, 54, 4, 21, 4, 16, 8]
abbrev dktX7_remove_4 : List UInt8 := dkwX7_remove_4 ++ dktX7_remove_5
def dkwX7_remove_3 : List UInt8 := [182, 0, 35, 43, 180, 0, 59, 21, 4, 46, 43, 180, 0, 63, 21, 4, 46, 182, 0, 22, 25, 5]
abbrev dktX7_remove_3 : List UInt8 := dkwX7_remove_3 ++ dktX7_remove_4
def dkwX7_remove_2 : List UInt8 := [4, 100, 79, 25, 5, 180, 0, 63, 21, 4, 92, 46, 43, 180, 0, 47, 100, 79, 44, 21, 4, 43, 21, 4]
abbrev dktX7_remove_2 : List UInt8 := dkwX7_remove_2 ++ dktX7_remove_3
def dkwX7_remove_1 : List UInt8 := [21, 4, 4, 164, 0, 80, 42, 180, 0, 18, 21, 4, 50, 58, 5, 25, 5, 180, 0, 59, 21, 4, 92, 46]
abbrev dktX7_remove_1 : List UInt8 := dkwX7_remove_1 ++ dktX7_remove_2
def dkwX7_remove_0 : List UInt8 := [42, 43, 180, 0, 43, 182, 0, 69, 42, 180, 0, 18, 4, 50, 77, 43, 180, 0, 50, 62, 29, 54, 4]
abbrev dktX7_remove_0 : List UInt8 := dkwX7_remove_0 ++ dktX7_remove_1
theorem dksX7_remove_0 : cX7_remove.data.toList.drop 0 = dktX7_remove_0 := by decide +kernel
theorem dksX7_remove_1 : cX7_remove.data.toList.drop 23 = dktX7_remove_1 := dk_seg dksX7_remove_0 23 rfl rfl
theorem dksX7_remove_2 : cX7_remove.data.toList.drop 47 = dktX7_remove_2 := dk_seg dksX7_remove_1 24 rfl rfl
theorem dksX7_remove_3 : cX7_remove.data.toList.drop 71 = dktX7_remove_3 := dk_seg dksX7_remove_2 24 rfl rfl
theorem dksX7_remove_4 : cX7_remove.data.toList.drop 93 = dktX7_remove_4 := dk_seg dksX7_remove_3 22 rfl rfl
theorem dksX7_remove_5 : cX7_remove.data.toList.drop 115 = dktX7_remove_5 := dk_seg dksX7_remove_4 22 rfl rfl
theorem dksX7_remove_6 : cX7_remove.data.toList.drop 139 = dktX7_remove_6 := dk_seg dksX7_remove_5 24 rfl rfl
theorem dksX7_remove_7 : cX7_remove.data.toList.drop 163 = dktX7_remove_7 := dk_seg dksX7_remove_6 24 rfl rfl
theorem dksX7_remove_8 : cX7_remove.data.toList.drop 185 = dktX7_remove_8 := dk_seg dksX7_remove_7 22 rfl rfl
theorem dX7_remove_0 : decode cX7_remove 0 = .ok (.aload_n 0, 1) := dk_42 (dk_at dksX7_remove_0 0 rfl rfl)
theorem dX7_remove_1 : decode cX7_remove 1 = .ok (.aload_n 1, 1) := dk_43 (dk_at dksX7_remove_0 1 rfl rfl)
theorem dX7_remove_2 : decode cX7_remove 2 = .ok (.getfield 43, 3) := dk_180 0 43 (dk_at dksX7_remove_0 2 rfl rfl)
theorem dX7_remove_5 : decode cX7_remove 5 = .ok (.invokevirtual 69, 3) := dk_182 0 69 (dk_at dksX7_remove_0 5 rfl rfl)
theorem dX7_remove_8 : decode cX7_remove 8 = .ok (.aload_n 0, 1) := dk_42 (dk_at dksX7_remove_0 8 rfl rfl)
theorem dX7_remove_9 : decode cX7_remove 9 = .ok (.getfield 18, 3) := dk_180 0 18 (dk_at dksX7_remove_0 9 rfl rfl)
theorem dX7_remove_12 : decode cX7_remove 12 = .ok (.iconst 1, 1) := dk_4 (dk_at dksX7_remove_0 12 rfl rfl)
theorem dX7_remove_13 : decode cX7_remove 13 = .ok (.aaload, 1) := dk_50 (dk_at dksX7_remove_0 13 rfl rfl)
theorem dX7_remove_14 : decode cX7_remove 14 = .ok (.astore_n 2, 1) := dk_77 (dk_at dksX7_remove_0 14 rfl rfl)
theorem dX7_remove_15 : decode cX7_remove 15 = .ok (.aload_n 1, 1) := dk_43 (dk_at dksX7_remove_0 15 rfl rfl)
theorem dX7_remove_16 : decode cX7_remove 16 = .ok (.getfield 50, 3) := dk_180 0 50 (dk_at dksX7_remove_0 16 rfl rfl)
theorem dX7_remove_19 : decode cX7_remove 19 = .ok (.istore_n 3, 1) := dk_62 (dk_at dksX7_remove_0 19 rfl rfl)
theorem dX7_remove_20 : decode cX7_remove 20 = .ok (.iload_n 3, 1) := dk_29 (dk_at dksX7_remove_0 20 rfl rfl)
theorem dX7_remove_21 : decode cX7_remove 21 = .ok (.istore 4, 2) := dk_54 4 (dk_at dksX7_remove_0 21 rfl rfl)
theorem dX7_remove_23 : decode cX7_remove 23 = .ok (.iload 4, 2) := dk_21 4 (dk_at dksX7_remove_1 0 rfl rfl)
theorem dX7_remove_25 : decode cX7_remove 25 = .ok (.iconst 1, 1) := dk_4 (dk_at dksX7_remove_1 2 rfl rfl)
theorem dX7_remove_26 : decode cX7_remove 26 = .ok (.if_icmp .le 80, 3) := dk_164 0 80 (dk_at dksX7_remove_1 3 rfl rfl)
theorem dX7_remove_29 : decode cX7_remove 29 = .ok (.aload_n 0, 1) := dk_42 (dk_at dksX7_remove_1 6 rfl rfl)
theorem dX7_remove_30 : decode cX7_remove 30 = .ok (.getfield 18, 3) := dk_180 0 18 (dk_at dksX7_remove_1 7 rfl rfl)
theorem dX7_remove_33 : decode cX7_remove 33 = .ok (.iload 4, 2) := dk_21 4 (dk_at dksX7_remove_1 10 rfl rfl)
theorem dX7_remove_35 : decode cX7_remove 35 = .ok (.aaload, 1) := dk_50 (dk_at dksX7_remove_1 12 rfl rfl)
theorem dX7_remove_36 : decode cX7_remove 36 = .ok (.astore 5, 2) := dk_58 5 (dk_at dksX7_remove_1 13 rfl rfl)
theorem dX7_remove_38 : decode cX7_remove 38 = .ok (.aload 5, 2) := dk_25 5 (dk_at dksX7_remove_1 15 rfl rfl)
theorem dX7_remove_40 : decode cX7_remove 40 = .ok (.getfield 59, 3) := dk_180 0 59 (dk_at dksX7_remove_1 17 rfl rfl)
theorem dX7_remove_43 : decode cX7_remove 43 = .ok (.iload 4, 2) := dk_21 4 (dk_at dksX7_remove_1 20 rfl rfl)
theorem dX7_remove_45 : decode cX7_remove 45 = .ok (.dup2, 1) := dk_92 (dk_at dksX7_remove_1 22 rfl rfl)
theorem dX7_remove_46 : decode cX7_remove 46 = .ok (.iaload, 1) := dk_46 (dk_at dksX7_remove_1 23 rfl rfl)
theorem dX7_remove_47 : decode cX7_remove 47 = .ok (.iconst 1, 1) := dk_4 (dk_at dksX7_remove_2 0 rfl rfl)
theorem dX7_remove_48 : decode cX7_remove 48 = .ok (.isub, 1) := dk_100 (dk_at dksX7_remove_2 1 rfl rfl)
theorem dX7_remove_49 : decode cX7_remove 49 = .ok (.iastore, 1) := dk_79 (dk_at dksX7_remove_2 2 rfl rfl)
theorem dX7_remove_50 : decode cX7_remove 50 = .ok (.aload 5, 2) := dk_25 5 (dk_at dksX7_remove_2 3 rfl rfl)
theorem dX7_remove_52 : decode cX7_remove 52 = .ok (.getfield 63, 3) := dk_180 0 63 (dk_at dksX7_remove_2 5 rfl rfl)
theorem dX7_remove_55 : decode cX7_remove 55 = .ok (.iload 4, 2) := dk_21 4 (dk_at dksX7_remove_2 8 rfl rfl)
theorem dX7_remove_57 : decode cX7_remove 57 = .ok (.dup2, 1) := dk_92 (dk_at dksX7_remove_2 10 rfl rfl)
theorem dX7_remove_58 : decode cX7_remove 58 = .ok (.iaload, 1) := dk_46 (dk_at dksX7_remove_2 11 rfl rfl)
theorem dX7_remove_59 : decode cX7_remove 59 = .ok (.aload_n 1, 1) := dk_43 (dk_at dksX7_remove_2 12 rfl rfl)
theorem dX7_remove_60 : decode cX7_remove 60 = .ok (.getfield 47, 3) := dk_180 0 47 (dk_at dksX7_remove_2 13 rfl rfl)
theorem dX7_remove_63 : decode cX7_remove 63 = .ok (.isub, 1) := dk_100 (dk_at dksX7_remove_2 16 rfl rfl)
theorem dX7_remove_64 : decode cX7_remove 64 = .ok (.iastore, 1) := dk_79 (dk_at dksX7_remove_2 17 rfl rfl)
theorem dX7_remove_65 : decode cX7_remove 65 = .ok (.aload_n 2, 1) := dk_44 (dk_at dksX7_remove_2 18 rfl rfl)
theorem dX7_remove_66 : decode cX7_remove 66 = .ok (.iload 4, 2) := dk_21 4 (dk_at dksX7_remove_2 19 rfl rfl)
theorem dX7_remove_68 : decode cX7_remove 68 = .ok (.aload_n 1, 1) := dk_43 (dk_at dksX7_remove_2 21 rfl rfl)
theorem dX7_remove_69 : decode cX7_remove 69 = .ok (.iload 4, 2) := dk_21 4 (dk_at dksX7_remove_2 22 rfl rfl)
theorem dX7_remove_71 : decode cX7_remove 71 = .ok (.invokevirtual 35, 3) := dk_182 0 35 (dk_at dksX7_remove_3 0 rfl rfl)
theorem dX7_remove_74 : decode cX7_remove 74 = .ok (.aload_n 1, 1) := dk_43 (dk_at dksX7_remove_3 3 rfl rfl)
theorem dX7_remove_75 : decode cX7_remove 75 = .ok (.getfield 59, 3) := dk_180 0 59 (dk_at dksX7_remove_3 4 rfl rfl)
theorem dX7_remove_78 : decode cX7_remove 78 = .ok (.iload 4, 2) := dk_21 4 (dk_at dksX7_remove_3 7 rfl rfl)
theorem dX7_remove_80 : decode cX7_remove 80 = .ok (.iaload, 1) := dk_46 (dk_at dksX7_remove_3 9 rfl rfl)
theorem dX7_remove_81 : decode cX7_remove 81 = .ok (.aload_n 1, 1) := dk_43 (dk_at dksX7_remove_3 10 rfl rfl)
theorem dX7_remove_82 : decode cX7_remove 82 = .ok (.getfield 63, 3) := dk_180 0 63 (dk_at dksX7_remove_3 11 rfl rfl)
theorem dX7_remove_85 : decode cX7_remove 85 = .ok (.iload 4, 2) := dk_21 4 (dk_at dksX7_remove_3 14 rfl rfl)
theorem dX7_remove_87 : decode cX7_remove 87 = .ok (.iaload, 1) := dk_46 (dk_at dksX7_remove_3 16 rfl rfl)
theorem dX7_remove_88 : decode cX7_remove 88 = .ok (.invokevirtual 22, 3) := dk_182 0 22 (dk_at dksX7_remove_3 17 rfl rfl)
theorem dX7_remove_91 : decode cX7_remove 91 = .ok (.aload 5, 2) := dk_25 5 (dk_at dksX7_remove_3 20 rfl rfl)
theorem dX7_remove_93 : decode cX7_remove 93 = .ok (.getfield 93, 3) := dk_180 0 93 (dk_at dksX7_remove_4 0 rfl rfl)
theorem dX7_remove_96 : decode cX7_remove 96 = .ok (.iload 4, 2) := dk_21 4 (dk_at dksX7_remove_4 3 rfl rfl)
theorem dX7_remove_98 : decode cX7_remove 98 = .ok (.aload_n 2, 1) := dk_44 (dk_at dksX7_remove_4 5 rfl rfl)
theorem dX7_remove_99 : decode cX7_remove 99 = .ok (.aastore, 1) := dk_83 (dk_at dksX7_remove_4 6 rfl rfl)
theorem dX7_remove_100 : decode cX7_remove 100 = .ok (.iinc 4 (-1), 3) := dk_132 4 255 (dk_at dksX7_remove_4 7 rfl rfl)
theorem dX7_remove_103 : decode cX7_remove 103 = .ok (.goto (-80), 3) := dk_167 255 176 (dk_at dksX7_remove_4 10 rfl rfl)
theorem dX7_remove_106 : decode cX7_remove 106 = .ok (.iload_n 3, 1) := dk_29 (dk_at dksX7_remove_4 13 rfl rfl)
theorem dX7_remove_107 : decode cX7_remove 107 = .ok (.iconst 1, 1) := dk_4 (dk_at dksX7_remove_4 14 rfl rfl)
theorem dX7_remove_108 : decode cX7_remove 108 = .ok (.iadd, 1) := dk_96 (dk_at dksX7_remove_4 15 rfl rfl)
theorem dX7_remove_109 : decode cX7_remove 109 = .ok (.istore 4, 2) := dk_54 4 (dk_at dksX7_remove_4 16 rfl rfl)
theorem dX7_remove_111 : decode cX7_remove 111 = .ok (.iload 4, 2) := dk_21 4 (dk_at dksX7_remove_4 18 rfl rfl)
theorem dX7_remove_113 : decode cX7_remove 113 = .ok (.bipush 8, 2) := dk_16 8 (dk_at dksX7_remove_4 20 rfl rfl)
theorem dX7_remove_115 : decode cX7_remove 115 = .ok (.if_icmp .gt 46, 3) := dk_163 0 46 (dk_at dksX7_remove_5 0 rfl rfl)
theorem dX7_remove_118 : decode cX7_remove 118 = .ok (.aload_n 0, 1) := dk_42 (dk_at dksX7_remove_5 3 rfl rfl)
theorem dX7_remove_119 : decode cX7_remove 119 = .ok (.getfield 18, 3) := dk_180 0 18 (dk_at dksX7_remove_5 4 rfl rfl)
theorem dX7_remove_122 : decode cX7_remove 122 = .ok (.iload 4, 2) := dk_21 4 (dk_at dksX7_remove_5 7 rfl rfl)
theorem dX7_remove_124 : decode cX7_remove 124 = .ok (.aaload, 1) := dk_50 (dk_at dksX7_remove_5 9 rfl rfl)
theorem dX7_remove_125 : decode cX7_remove 125 = .ok (.getfield 59, 3) := dk_180 0 59 (dk_at dksX7_remove_5 10 rfl rfl)
theorem dX7_remove_128 : decode cX7_remove 128 = .ok (.iload 4, 2) := dk_21 4 (dk_at dksX7_remove_5 13 rfl rfl)
theorem dX7_remove_130 : decode cX7_remove 130 = .ok (.dup2, 1) := dk_92 (dk_at dksX7_remove_5 15 rfl rfl)
theorem dX7_remove_131 : decode cX7_remove 131 = .ok (.iaload, 1) := dk_46 (dk_at dksX7_remove_5 16 rfl rfl)
theorem dX7_remove_132 : decode cX7_remove 132 = .ok (.iconst 1, 1) := dk_4 (dk_at dksX7_remove_5 17 rfl rfl)
theorem dX7_remove_133 : decode cX7_remove 133 = .ok (.isub, 1) := dk_100 (dk_at dksX7_remove_5 18 rfl rfl)
theorem dX7_remove_134 : decode cX7_remove 134 = .ok (.iastore, 1) := dk_79 (dk_at dksX7_remove_5 19 rfl rfl)
theorem dX7_remove_135 : decode cX7_remove 135 = .ok (.aload_n 0, 1) := dk_42 (dk_at dksX7_remove_5 20 rfl rfl)
theorem dX7_remove_136 : decode cX7_remove 136 = .ok (.getfield 18, 3) := dk_180 0 18 (dk_at dksX7_remove_5 21 rfl rfl)
theorem dX7_remove_139 : decode cX7_remove 139 = .ok (.iload 4, 2) := dk_21 4 (dk_at dksX7_remove_6 0 rfl rfl)
theorem dX7_remove_141 : decode cX7_remove 141 = .ok (.aaload, 1) := dk_50 (dk_at dksX7_remove_6 2 rfl rfl)
theorem dX7_remove_142 : decode cX7_remove 142 = .ok (.getfield 63, 3) := dk_180 0 63 (dk_at dksX7_remove_6 3 rfl rfl)
theorem dX7_remove_145 : decode cX7_remove 145 = .ok (.iload 4, 2) := dk_21 4 (dk_at dksX7_remove_6 6 rfl rfl)
theorem dX7_remove_147 : decode cX7_remove 147 = .ok (.dup2, 1) := dk_92 (dk_at dksX7_remove_6 8 rfl rfl)
theorem dX7_remove_148 : decode cX7_remove 148 = .ok (.iaload, 1) := dk_46 (dk_at dksX7_remove_6 9 rfl rfl)
theorem dX7_remove_149 : decode cX7_remove 149 = .ok (.aload_n 1, 1) := dk_43 (dk_at dksX7_remove_6 10 rfl rfl)
theorem dX7_remove_150 : decode cX7_remove 150 = .ok (.getfield 47, 3) := dk_180 0 47 (dk_at dksX7_remove_6 11 rfl rfl)
theorem dX7_remove_153 : decode cX7_remove 153 = .ok (.isub, 1) := dk_100 (dk_at dksX7_remove_6 14 rfl rfl)
theorem dX7_remove_154 : decode cX7_remove 154 = .ok (.iastore, 1) := dk_79 (dk_at dksX7_remove_6 15 rfl rfl)
theorem dX7_remove_155 : decode cX7_remove 155 = .ok (.iinc 4 1, 3) := dk_132 4 1 (dk_at dksX7_remove_6 16 rfl rfl)
theorem dX7_remove_158 : decode cX7_remove 158 = .ok (.goto (-47), 3) := dk_167 255 209 (dk_at dksX7_remove_6 19 rfl rfl)
theorem dX7_remove_161 : decode cX7_remove 161 = .ok (.aload_n 2, 1) := dk_44 (dk_at dksX7_remove_6 22 rfl rfl)
theorem dX7_remove_162 : decode cX7_remove 162 = .ok (.iconst 1, 1) := dk_4 (dk_at dksX7_remove_6 23 rfl rfl)
theorem dX7_remove_163 : decode cX7_remove 163 = .ok (.aload_n 1, 1) := dk_43 (dk_at dksX7_remove_7 0 rfl rfl)
theorem dX7_remove_164 : decode cX7_remove 164 = .ok (.iconst 1, 1) := dk_4 (dk_at dksX7_remove_7 1 rfl rfl)
theorem dX7_remove_165 : decode cX7_remove 165 = .ok (.invokevirtual 35, 3) := dk_182 0 35 (dk_at dksX7_remove_7 2 rfl rfl)
theorem dX7_remove_168 : decode cX7_remove 168 = .ok (.aload_n 1, 1) := dk_43 (dk_at dksX7_remove_7 5 rfl rfl)
theorem dX7_remove_169 : decode cX7_remove 169 = .ok (.getfield 59, 3) := dk_180 0 59 (dk_at dksX7_remove_7 6 rfl rfl)
theorem dX7_remove_172 : decode cX7_remove 172 = .ok (.iconst 1, 1) := dk_4 (dk_at dksX7_remove_7 9 rfl rfl)
theorem dX7_remove_173 : decode cX7_remove 173 = .ok (.iaload, 1) := dk_46 (dk_at dksX7_remove_7 10 rfl rfl)
theorem dX7_remove_174 : decode cX7_remove 174 = .ok (.aload_n 1, 1) := dk_43 (dk_at dksX7_remove_7 11 rfl rfl)
theorem dX7_remove_175 : decode cX7_remove 175 = .ok (.getfield 63, 3) := dk_180 0 63 (dk_at dksX7_remove_7 12 rfl rfl)
theorem dX7_remove_178 : decode cX7_remove 178 = .ok (.iconst 1, 1) := dk_4 (dk_at dksX7_remove_7 15 rfl rfl)
theorem dX7_remove_179 : decode cX7_remove 179 = .ok (.iaload, 1) := dk_46 (dk_at dksX7_remove_7 16 rfl rfl)
theorem dX7_remove_180 : decode cX7_remove 180 = .ok (.invokevirtual 22, 3) := dk_182 0 22 (dk_at dksX7_remove_7 17 rfl rfl)
theorem dX7_remove_183 : decode cX7_remove 183 = .ok (.iload_n 3, 1) := dk_29 (dk_at dksX7_remove_7 20 rfl rfl)
theorem dX7_remove_184 : decode cX7_remove 184 = .ok (.iconst 1, 1) := dk_4 (dk_at dksX7_remove_7 21 rfl rfl)
theorem dX7_remove_185 : decode cX7_remove 185 = .ok (.if_icmp .le 8, 3) := dk_164 0 8 (dk_at dksX7_remove_8 0 rfl rfl)
theorem dX7_remove_188 : decode cX7_remove 188 = .ok (.aload_n 2, 1) := dk_44 (dk_at dksX7_remove_8 3 rfl rfl)
theorem dX7_remove_189 : decode cX7_remove 189 = .ok (.iload_n 3, 1) := dk_29 (dk_at dksX7_remove_8 4 rfl rfl)
theorem dX7_remove_190 : decode cX7_remove 190 = .ok (.putfield 50, 3) := dk_181 0 50 (dk_at dksX7_remove_8 5 rfl rfl)
theorem dX7_remove_193 : decode cX7_remove 193 = .ok (.aload_n 0, 1) := dk_42 (dk_at dksX7_remove_8 8 rfl rfl)
theorem dX7_remove_194 : decode cX7_remove 194 = .ok (.dup, 1) := dk_89 (dk_at dksX7_remove_8 9 rfl rfl)
theorem dX7_remove_195 : decode cX7_remove 195 = .ok (.getfield 66, 3) := dk_180 0 66 (dk_at dksX7_remove_8 10 rfl rfl)
theorem dX7_remove_198 : decode cX7_remove 198 = .ok (.iconst 1, 1) := dk_4 (dk_at dksX7_remove_8 13 rfl rfl)
theorem dX7_remove_199 : decode cX7_remove 199 = .ok (.isub, 1) := dk_100 (dk_at dksX7_remove_8 14 rfl rfl)
theorem dX7_remove_200 : decode cX7_remove 200 = .ok (.putfield 66, 3) := dk_181 0 66 (dk_at dksX7_remove_8 15 rfl rfl)
theorem dX7_remove_203 : decode cX7_remove 203 = .ok (.return_, 1) := dk_177 (dk_at dksX7_remove_8 18 rfl rfl)
abbrev cX7_init_2 : ByteArray := prog_12_method_2_code
def yX7_init_2 : MethodName := ⟨RX7, "<init>", "()V"⟩
def dkwX7_init_2_0 : List UInt8 := [42, 18, 30, 183, 0, 32, 177]
abbrev dktX7_init_2_0 : List UInt8 := dkwX7_init_2_0 ++ []
theorem dksX7_init_2_0 : cX7_init_2.data.toList.drop 0 = dktX7_init_2_0 := by decide +kernel
theorem dX7_init_2_0 : decode cX7_init_2 0 = .ok (.aload_n 0, 1) := dk_42 (dk_at dksX7_init_2_0 0 rfl rfl)
theorem dX7_init_2_1 : decode cX7_init_2 1 = .ok (.ldc 30, 2) := dk_18 30 (dk_at dksX7_init_2_0 1 rfl rfl)
theorem dX7_init_2_3 : decode cX7_init_2 3 = .ok (.invokespecial 32, 3) := dk_183 0 32 (dk_at dksX7_init_2_0 3 rfl rfl)
theorem dX7_init_2_6 : decode cX7_init_2 6 = .ok (.return_, 1) := dk_177 (dk_at dksX7_init_2_0 6 rfl rfl)
abbrev cX7_setValue : ByteArray := prog_12_method_14_code
def yX7_setValue : MethodName := ⟨RX7, "setValue", "(LCountedSkipLists$Node;I)V"⟩
def dkwX7_setValue_2 : List UInt8 := [181, 0, 47, 177]
abbrev dktX7_setValue_2 : List UInt8 := dkwX7_setValue_2 ++ []
def dkwX7_setValue_1 : List UInt8 := [180, 0, 63, 29, 92, 46, 28, 43, 180, 0, 47, 100, 96, 79, 132, 3, 1, 167, 255, 227, 43, 28]
abbrev dktX7_setValue_1 : List UInt8 := dkwX7_setValue_1 ++ dktX7_setValue_2
def dkwX7_setValue_0 : List UInt8 := [42, 43, 180, 0, 43, 182, 0, 69, 4, 62, 29, 16, 8, 163, 0, 29, 42, 180, 0, 18, 29, 50]
abbrev dktX7_setValue_0 : List UInt8 := dkwX7_setValue_0 ++ dktX7_setValue_1
theorem dksX7_setValue_0 : cX7_setValue.data.toList.drop 0 = dktX7_setValue_0 := by decide +kernel
theorem dksX7_setValue_1 : cX7_setValue.data.toList.drop 22 = dktX7_setValue_1 := dk_seg dksX7_setValue_0 22 rfl rfl
theorem dksX7_setValue_2 : cX7_setValue.data.toList.drop 44 = dktX7_setValue_2 := dk_seg dksX7_setValue_1 22 rfl rfl
theorem dX7_setValue_0 : decode cX7_setValue 0 = .ok (.aload_n 0, 1) := dk_42 (dk_at dksX7_setValue_0 0 rfl rfl)
theorem dX7_setValue_1 : decode cX7_setValue 1 = .ok (.aload_n 1, 1) := dk_43 (dk_at dksX7_setValue_0 1 rfl rfl)
theorem dX7_setValue_2 : decode cX7_setValue 2 = .ok (.getfield 43, 3) := dk_180 0 43 (dk_at dksX7_setValue_0 2 rfl rfl)
theorem dX7_setValue_5 : decode cX7_setValue 5 = .ok (.invokevirtual 69, 3) := dk_182 0 69 (dk_at dksX7_setValue_0 5 rfl rfl)
theorem dX7_setValue_8 : decode cX7_setValue 8 = .ok (.iconst 1, 1) := dk_4 (dk_at dksX7_setValue_0 8 rfl rfl)
theorem dX7_setValue_9 : decode cX7_setValue 9 = .ok (.istore_n 3, 1) := dk_62 (dk_at dksX7_setValue_0 9 rfl rfl)
theorem dX7_setValue_10 : decode cX7_setValue 10 = .ok (.iload_n 3, 1) := dk_29 (dk_at dksX7_setValue_0 10 rfl rfl)
theorem dX7_setValue_11 : decode cX7_setValue 11 = .ok (.bipush 8, 2) := dk_16 8 (dk_at dksX7_setValue_0 11 rfl rfl)
theorem dX7_setValue_13 : decode cX7_setValue 13 = .ok (.if_icmp .gt 29, 3) := dk_163 0 29 (dk_at dksX7_setValue_0 13 rfl rfl)
theorem dX7_setValue_16 : decode cX7_setValue 16 = .ok (.aload_n 0, 1) := dk_42 (dk_at dksX7_setValue_0 16 rfl rfl)
theorem dX7_setValue_17 : decode cX7_setValue 17 = .ok (.getfield 18, 3) := dk_180 0 18 (dk_at dksX7_setValue_0 17 rfl rfl)
theorem dX7_setValue_20 : decode cX7_setValue 20 = .ok (.iload_n 3, 1) := dk_29 (dk_at dksX7_setValue_0 20 rfl rfl)
theorem dX7_setValue_21 : decode cX7_setValue 21 = .ok (.aaload, 1) := dk_50 (dk_at dksX7_setValue_0 21 rfl rfl)
theorem dX7_setValue_22 : decode cX7_setValue 22 = .ok (.getfield 63, 3) := dk_180 0 63 (dk_at dksX7_setValue_1 0 rfl rfl)
theorem dX7_setValue_25 : decode cX7_setValue 25 = .ok (.iload_n 3, 1) := dk_29 (dk_at dksX7_setValue_1 3 rfl rfl)
theorem dX7_setValue_26 : decode cX7_setValue 26 = .ok (.dup2, 1) := dk_92 (dk_at dksX7_setValue_1 4 rfl rfl)
theorem dX7_setValue_27 : decode cX7_setValue 27 = .ok (.iaload, 1) := dk_46 (dk_at dksX7_setValue_1 5 rfl rfl)
theorem dX7_setValue_28 : decode cX7_setValue 28 = .ok (.iload_n 2, 1) := dk_28 (dk_at dksX7_setValue_1 6 rfl rfl)
theorem dX7_setValue_29 : decode cX7_setValue 29 = .ok (.aload_n 1, 1) := dk_43 (dk_at dksX7_setValue_1 7 rfl rfl)
theorem dX7_setValue_30 : decode cX7_setValue 30 = .ok (.getfield 47, 3) := dk_180 0 47 (dk_at dksX7_setValue_1 8 rfl rfl)
theorem dX7_setValue_33 : decode cX7_setValue 33 = .ok (.isub, 1) := dk_100 (dk_at dksX7_setValue_1 11 rfl rfl)
theorem dX7_setValue_34 : decode cX7_setValue 34 = .ok (.iadd, 1) := dk_96 (dk_at dksX7_setValue_1 12 rfl rfl)
theorem dX7_setValue_35 : decode cX7_setValue 35 = .ok (.iastore, 1) := dk_79 (dk_at dksX7_setValue_1 13 rfl rfl)
theorem dX7_setValue_36 : decode cX7_setValue 36 = .ok (.iinc 3 1, 3) := dk_132 3 1 (dk_at dksX7_setValue_1 14 rfl rfl)
theorem dX7_setValue_39 : decode cX7_setValue 39 = .ok (.goto (-29), 3) := dk_167 255 227 (dk_at dksX7_setValue_1 17 rfl rfl)
theorem dX7_setValue_42 : decode cX7_setValue 42 = .ok (.aload_n 1, 1) := dk_43 (dk_at dksX7_setValue_1 20 rfl rfl)
theorem dX7_setValue_43 : decode cX7_setValue 43 = .ok (.iload_n 2, 1) := dk_28 (dk_at dksX7_setValue_1 21 rfl rfl)
theorem dX7_setValue_44 : decode cX7_setValue 44 = .ok (.putfield 47, 3) := dk_181 0 47 (dk_at dksX7_setValue_2 0 rfl rfl)
theorem dX7_setValue_47 : decode cX7_setValue 47 = .ok (.return_, 1) := dk_177 (dk_at dksX7_setValue_2 3 rfl rfl)
theorem q115 : (Jvm.Cond.initialized "CountedSkipLists$SkipList") ∈ lw_all := lw_g (lw_at lw_m1 32 rfl) rfl
theorem q813 : (Jvm.Cond.instantiable "CountedSkipLists$SkipList" (4 : Nat)) ∈ lw_all := lw_g (lw_at lw_m4 10 rfl) rfl
theorem q815 : (Jvm.Cond.instanceMethod ({ cls := "CountedSkipLists$SkipList", name := "<init>", desc := "(Ljava/lang/String;)V" } : Jvm.MethodName)) ∈ lw_all := lw_g (lw_at lw_m4 12 rfl) rfl
theorem q816 : (Jvm.Cond.code ({ cls := "CountedSkipLists$SkipList", name := "<init>", desc := "(Ljava/lang/String;)V" } : Jvm.MethodName) prog_12_method_1_code (3 : Nat) (Option.none : Option Jvm.ClassFile.FieldType)) ∈ lw_all := lw_g (lw_at lw_m4 13 rfl) rfl
theorem q817 : (Jvm.Cond.methodLink "CountedSkipLists$SkipList" (3 : Nat) ({ cls := "java/lang/Object", name := "<init>", desc := "()V" } : Jvm.MethodName)) ∈ lw_all := lw_g (lw_at lw_m4 14 rfl) rfl
theorem q818 : (Jvm.Cond.classLink "CountedSkipLists$SkipList" (9 : Nat) "CountedSkipLists$Node") ∈ lw_all := lw_g (lw_at lw_m4 15 rfl) rfl
theorem q820 : (Jvm.Cond.methodLink "CountedSkipLists$SkipList" (11 : Nat) ({ cls := "CountedSkipLists$Node", name := "<init>", desc := "()V" } : Jvm.MethodName)) ∈ lw_all := lw_g (lw_at lw_m4 17 rfl) rfl
theorem q834 : (Jvm.Cond.fieldLinkNest "CountedSkipLists$SkipList" (43 : Nat) "CountedSkipLists$Node" "key" "I" "CountedSkipLists") ∈ lw_tbl := lw_at lw_m4 31 rfl
theorem q837 : (Jvm.Cond.fieldLinkNest "CountedSkipLists$SkipList" (93 : Nat) "CountedSkipLists$Node" "nexts" "[LCountedSkipLists$Node;" "CountedSkipLists") ∈ lw_tbl := lw_at lw_m4 34 rfl
theorem q839 : (Jvm.Cond.fieldLinkNest "CountedSkipLists$SkipList" (59 : Nat) "CountedSkipLists$Node" "widths" "[I" "CountedSkipLists") ∈ lw_tbl := lw_at lw_m4 36 rfl
theorem q842 : (Jvm.Cond.fieldLinkNest "CountedSkipLists$SkipList" (63 : Nat) "CountedSkipLists$Node" "sums" "[I" "CountedSkipLists") ∈ lw_tbl := lw_at lw_m4 39 rfl
theorem q845 : (Jvm.Cond.fieldLinkNest "CountedSkipLists$SkipList" (47 : Nat) "CountedSkipLists$Node" "value" "I" "CountedSkipLists") ∈ lw_tbl := lw_at lw_m4 42 rfl
theorem q849 : (Jvm.Cond.fieldLinkNest "CountedSkipLists$SkipList" (50 : Nat) "CountedSkipLists$Node" "height" "I" "CountedSkipLists") ∈ lw_tbl := lw_at lw_m4 46 rfl
theorem q864 : (Jvm.Cond.methodLink "CountedSkipLists$SkipList" (22 : Nat) ({ cls := "CountedSkipLists$Node", name := "link", desc := "(ILCountedSkipLists$Node;II)V" } : Jvm.MethodName)) ∈ lw_all := lw_g (lw_at lw_m4 61 rfl) rfl
theorem q868 : (Jvm.Cond.fieldLink "CountedSkipLists$SkipList" (26 : Nat) "CountedSkipLists$SkipList" "name" "Ljava/lang/String;") ∈ lw_all := lw_g (lw_at lw_m4 65 rfl) rfl
theorem q871 : (Jvm.Cond.fieldLink "CountedSkipLists$SkipList" (12 : Nat) "CountedSkipLists$SkipList" "head" "LCountedSkipLists$Node;") ∈ lw_all := lw_g (lw_at lw_m4 68 rfl) rfl
theorem q874 : (Jvm.Cond.fieldLink "CountedSkipLists$SkipList" (18 : Nat) "CountedSkipLists$SkipList" "paths" "[LCountedSkipLists$Node;") ∈ lw_all := lw_g (lw_at lw_m4 71 rfl) rfl
theorem q875 : (Jvm.Cond.fieldLink "CountedSkipLists$SkipList" (66 : Nat) "CountedSkipLists$SkipList" "size" "I") ∈ lw_all := lw_g (lw_at lw_m4 72 rfl) rfl
theorem q878 : (Jvm.Cond.laysFinal "CountedSkipLists$SkipList" "CountedSkipLists$SkipList" "name" "Ljava/lang/String;") ∈ lw_all := lw_g (lw_at lw_m4 75 rfl) rfl
theorem q879 : (Jvm.Cond.soleField "CountedSkipLists$SkipList" "name") ∈ lw_all := lw_g (lw_at lw_m4 76 rfl) rfl
theorem q880 : (Jvm.Cond.laysFinal "CountedSkipLists$SkipList" "CountedSkipLists$SkipList" "head" "LCountedSkipLists$Node;") ∈ lw_all := lw_g (lw_at lw_m4 77 rfl) rfl
theorem q881 : (Jvm.Cond.soleField "CountedSkipLists$SkipList" "head") ∈ lw_all := lw_g (lw_at lw_m4 78 rfl) rfl
theorem q882 : (Jvm.Cond.laysFinal "CountedSkipLists$SkipList" "CountedSkipLists$SkipList" "paths" "[LCountedSkipLists$Node;") ∈ lw_all := lw_g (lw_at lw_m4 79 rfl) rfl
theorem q883 : (Jvm.Cond.soleField "CountedSkipLists$SkipList" "paths") ∈ lw_all := lw_g (lw_at lw_m4 80 rfl) rfl
theorem q884 : (Jvm.Cond.lays "CountedSkipLists$SkipList" "CountedSkipLists$SkipList" "size" "I") ∈ lw_all := lw_g (lw_at lw_m4 81 rfl) rfl
theorem q885 : (Jvm.Cond.soleField "CountedSkipLists$SkipList" "size") ∈ lw_all := lw_g (lw_at lw_m4 82 rfl) rfl
theorem q886 : (Jvm.Cond.superclass "CountedSkipLists$SkipList" "java/lang/Object") ∈ lw_all := lw_g (lw_at lw_m4 83 rfl) rfl
theorem q900 : (Jvm.Cond.instanceMethod ({ cls := "CountedSkipLists$SkipList", name := "append", desc := "(III)V" } : Jvm.MethodName)) ∈ lw_all := lw_g (lw_at lw_m4 97 rfl) rfl
theorem q901 : (Jvm.Cond.selects "CountedSkipLists$SkipList" ({ cls := "CountedSkipLists$SkipList", name := "append", desc := "(III)V" } : Jvm.MethodName) ({ cls := "CountedSkipLists$SkipList", name := "append", desc := "(III)V" } : Jvm.MethodName)) ∈ lw_all := lw_g (lw_at lw_m4 98 rfl) rfl
theorem q902 : (Jvm.Cond.code ({ cls := "CountedSkipLists$SkipList", name := "append", desc := "(III)V" } : Jvm.MethodName) prog_12_method_6_code (7 : Nat) (Option.none : Option Jvm.ClassFile.FieldType)) ∈ lw_all := lw_g (lw_at lw_m4 99 rfl) rfl
theorem q903 : (Jvm.Cond.methodLink "CountedSkipLists$SkipList" (57 : Nat) ({ cls := "CountedSkipLists$Node", name := "<init>", desc := "(III)V" } : Jvm.MethodName)) ∈ lw_all := lw_g (lw_at lw_m4 100 rfl) rfl
theorem q904 : (Jvm.Cond.methodLink "CountedSkipLists$SkipList" (35 : Nat) ({ cls := "CountedSkipLists$Node", name := "next", desc := "(I)LCountedSkipLists$Node;" } : Jvm.MethodName)) ∈ lw_all := lw_g (lw_at lw_m4 101 rfl) rfl
theorem q909 : (Jvm.Cond.instanceMethod ({ cls := "CountedSkipLists$SkipList", name := "counted", desc := "()LCountedSkipLists$SkipList;" } : Jvm.MethodName)) ∈ lw_all := lw_g (lw_at lw_m4 106 rfl) rfl
theorem q910 : (Jvm.Cond.selects "CountedSkipLists$SkipList" ({ cls := "CountedSkipLists$SkipList", name := "counted", desc := "()LCountedSkipLists$SkipList;" } : Jvm.MethodName) ({ cls := "CountedSkipLists$SkipList", name := "counted", desc := "()LCountedSkipLists$SkipList;" } : Jvm.MethodName)) ∈ lw_all := lw_g (lw_at lw_m4 107 rfl) rfl
theorem q911 : (Jvm.Cond.code ({ cls := "CountedSkipLists$SkipList", name := "counted", desc := "()LCountedSkipLists$SkipList;" } : Jvm.MethodName) prog_12_method_20_code (4 : Nat) (Option.some (Jvm.ClassFile.FieldType.object "CountedSkipLists$SkipList"))) ∈ lw_all := lw_g (lw_at lw_m4 108 rfl) rfl
theorem q912 : (Jvm.Cond.classLink "CountedSkipLists$SkipList" (13 : Nat) "CountedSkipLists$SkipList") ∈ lw_all := lw_g (lw_at lw_m4 109 rfl) rfl
theorem q913 : (Jvm.Cond.methodLink "CountedSkipLists$SkipList" (32 : Nat) ({ cls := "CountedSkipLists$SkipList", name := "<init>", desc := "(Ljava/lang/String;)V" } : Jvm.MethodName)) ∈ lw_all := lw_g (lw_at lw_m4 110 rfl) rfl
theorem q914 : (Jvm.Cond.fieldLinkNest "CountedSkipLists$SkipList" (105 : Nat) "CountedSkipLists" "TWOS" "[I" "CountedSkipLists") ∈ lw_tbl := lw_at lw_m4 111 rfl
theorem q916 : (Jvm.Cond.methodLink "CountedSkipLists$SkipList" (53 : Nat) ({ cls := "CountedSkipLists$SkipList", name := "append", desc := "(III)V" } : Jvm.MethodName)) ∈ lw_all := lw_g (lw_at lw_m4 113 rfl) rfl
theorem q925 : (Jvm.Cond.instanceMethod ({ cls := "CountedSkipLists$SkipList", name := "tooFull", desc := "(I)LCountedSkipLists$Gap;" } : Jvm.MethodName)) ∈ lw_all := lw_g (lw_at lw_m4 122 rfl) rfl
theorem q926 : (Jvm.Cond.selects "CountedSkipLists$SkipList" ({ cls := "CountedSkipLists$SkipList", name := "tooFull", desc := "(I)LCountedSkipLists$Gap;" } : Jvm.MethodName) ({ cls := "CountedSkipLists$SkipList", name := "tooFull", desc := "(I)LCountedSkipLists$Gap;" } : Jvm.MethodName)) ∈ lw_all := lw_g (lw_at lw_m4 123 rfl) rfl
theorem q927 : (Jvm.Cond.code ({ cls := "CountedSkipLists$SkipList", name := "tooFull", desc := "(I)LCountedSkipLists$Gap;" } : Jvm.MethodName) prog_12_method_18_code (6 : Nat) (Option.some (Jvm.ClassFile.FieldType.object "CountedSkipLists$Gap"))) ∈ lw_all := lw_g (lw_at lw_m4 124 rfl) rfl
theorem q928 : (Jvm.Cond.methodLink "CountedSkipLists$SkipList" (83 : Nat) ({ cls := "CountedSkipLists$SkipList", name := "height", desc := "()I" } : Jvm.MethodName)) ∈ lw_all := lw_g (lw_at lw_m4 125 rfl) rfl
theorem q929 : (Jvm.Cond.instanceMethod ({ cls := "CountedSkipLists$SkipList", name := "height", desc := "()I" } : Jvm.MethodName)) ∈ lw_all := lw_g (lw_at lw_m4 126 rfl) rfl
theorem q930 : (Jvm.Cond.selects "CountedSkipLists$SkipList" ({ cls := "CountedSkipLists$SkipList", name := "height", desc := "()I" } : Jvm.MethodName) ({ cls := "CountedSkipLists$SkipList", name := "height", desc := "()I" } : Jvm.MethodName)) ∈ lw_all := lw_g (lw_at lw_m4 127 rfl) rfl
theorem q931 : (Jvm.Cond.code ({ cls := "CountedSkipLists$SkipList", name := "height", desc := "()I" } : Jvm.MethodName) prog_12_method_5_code (2 : Nat) (Option.some Jvm.ClassFile.FieldType.int)) ∈ lw_all := lw_g (lw_at lw_m4 128 rfl) rfl
theorem q932 : (Jvm.Cond.methodLink "CountedSkipLists$SkipList" (96 : Nat) ({ cls := "CountedSkipLists$SkipList", name := "inGap", desc := "(ILCountedSkipLists$Node;)I" } : Jvm.MethodName)) ∈ lw_all := lw_g (lw_at lw_m4 129 rfl) rfl
theorem q933 : (Jvm.Cond.instanceMethod ({ cls := "CountedSkipLists$SkipList", name := "inGap", desc := "(ILCountedSkipLists$Node;)I" } : Jvm.MethodName)) ∈ lw_all := lw_g (lw_at lw_m4 130 rfl) rfl
theorem q934 : (Jvm.Cond.selects "CountedSkipLists$SkipList" ({ cls := "CountedSkipLists$SkipList", name := "inGap", desc := "(ILCountedSkipLists$Node;)I" } : Jvm.MethodName) ({ cls := "CountedSkipLists$SkipList", name := "inGap", desc := "(ILCountedSkipLists$Node;)I" } : Jvm.MethodName)) ∈ lw_all := lw_g (lw_at lw_m4 131 rfl) rfl
theorem q935 : (Jvm.Cond.code ({ cls := "CountedSkipLists$SkipList", name := "inGap", desc := "(ILCountedSkipLists$Node;)I" } : Jvm.MethodName) prog_12_method_17_code (6 : Nat) (Option.some Jvm.ClassFile.FieldType.int)) ∈ lw_all := lw_g (lw_at lw_m4 132 rfl) rfl
theorem q936 : (Jvm.Cond.classLink "CountedSkipLists$SkipList" (100 : Nat) "CountedSkipLists$Gap") ∈ lw_all := lw_g (lw_at lw_m4 133 rfl) rfl
theorem q938 : (Jvm.Cond.methodLink "CountedSkipLists$SkipList" (102 : Nat) ({ cls := "CountedSkipLists$Gap", name := "<init>", desc := "(IILCountedSkipLists$Node;LCountedSkipLists$Node;LCountedSkipLists$Node;)V" } : Jvm.MethodName)) ∈ lw_all := lw_g (lw_at lw_m4 135 rfl) rfl
theorem q964 : (Jvm.Cond.instanceMethod ({ cls := "CountedSkipLists$SkipList", name := "empty", desc := "()LCountedSkipLists$Gap;" } : Jvm.MethodName)) ∈ lw_all := lw_g (lw_at lw_m4 161 rfl) rfl
theorem q965 : (Jvm.Cond.selects "CountedSkipLists$SkipList" ({ cls := "CountedSkipLists$SkipList", name := "empty", desc := "()LCountedSkipLists$Gap;" } : Jvm.MethodName) ({ cls := "CountedSkipLists$SkipList", name := "empty", desc := "()LCountedSkipLists$Gap;" } : Jvm.MethodName)) ∈ lw_all := lw_g (lw_at lw_m4 162 rfl) rfl
theorem q966 : (Jvm.Cond.code ({ cls := "CountedSkipLists$SkipList", name := "empty", desc := "()LCountedSkipLists$Gap;" } : Jvm.MethodName) prog_12_method_19_code (4 : Nat) (Option.some (Jvm.ClassFile.FieldType.object "CountedSkipLists$Gap"))) ∈ lw_all := lw_g (lw_at lw_m4 163 rfl) rfl
theorem q1005 : (Jvm.Cond.instanceMethod ({ cls := "CountedSkipLists$SkipList", name := "raise", desc := "(LCountedSkipLists$Node;)V" } : Jvm.MethodName)) ∈ lw_all := lw_g (lw_at lw_m4 202 rfl) rfl
theorem q1006 : (Jvm.Cond.selects "CountedSkipLists$SkipList" ({ cls := "CountedSkipLists$SkipList", name := "raise", desc := "(LCountedSkipLists$Node;)V" } : Jvm.MethodName) ({ cls := "CountedSkipLists$SkipList", name := "raise", desc := "(LCountedSkipLists$Node;)V" } : Jvm.MethodName)) ∈ lw_all := lw_g (lw_at lw_m4 203 rfl) rfl
theorem q1007 : (Jvm.Cond.code ({ cls := "CountedSkipLists$SkipList", name := "raise", desc := "(LCountedSkipLists$Node;)V" } : Jvm.MethodName) prog_12_method_15_code (7 : Nat) (Option.none : Option Jvm.ClassFile.FieldType)) ∈ lw_all := lw_g (lw_at lw_m4 204 rfl) rfl
theorem q1008 : (Jvm.Cond.methodLink "CountedSkipLists$SkipList" (69 : Nat) ({ cls := "CountedSkipLists$SkipList", name := "findsPaths", desc := "(I)V" } : Jvm.MethodName)) ∈ lw_all := lw_g (lw_at lw_m4 205 rfl) rfl
theorem q1009 : (Jvm.Cond.privateMethod ({ cls := "CountedSkipLists$SkipList", name := "findsPaths", desc := "(I)V" } : Jvm.MethodName)) ∈ lw_tbl := lw_at lw_m4 206 rfl
theorem q1010 : (Jvm.Cond.instanceMethod ({ cls := "CountedSkipLists$SkipList", name := "findsPaths", desc := "(I)V" } : Jvm.MethodName)) ∈ lw_all := lw_g (lw_at lw_m4 207 rfl) rfl
theorem q1011 : (Jvm.Cond.code ({ cls := "CountedSkipLists$SkipList", name := "findsPaths", desc := "(I)V" } : Jvm.MethodName) prog_12_method_7_code (4 : Nat) (Option.none : Option Jvm.ClassFile.FieldType)) ∈ lw_all := lw_g (lw_at lw_m4 208 rfl) rfl
theorem q1024 : (Jvm.Cond.instanceMethod ({ cls := "CountedSkipLists$SkipList", name := "lower", desc := "(LCountedSkipLists$Node;)V" } : Jvm.MethodName)) ∈ lw_all := lw_g (lw_at lw_m4 221 rfl) rfl
theorem q1025 : (Jvm.Cond.selects "CountedSkipLists$SkipList" ({ cls := "CountedSkipLists$SkipList", name := "lower", desc := "(LCountedSkipLists$Node;)V" } : Jvm.MethodName) ({ cls := "CountedSkipLists$SkipList", name := "lower", desc := "(LCountedSkipLists$Node;)V" } : Jvm.MethodName)) ∈ lw_all := lw_g (lw_at lw_m4 222 rfl) rfl
theorem q1026 : (Jvm.Cond.code ({ cls := "CountedSkipLists$SkipList", name := "lower", desc := "(LCountedSkipLists$Node;)V" } : Jvm.MethodName) prog_12_method_16_code (4 : Nat) (Option.none : Option Jvm.ClassFile.FieldType)) ∈ lw_all := lw_g (lw_at lw_m4 223 rfl) rfl
theorem q1088 : (Jvm.Cond.selects "CountedSkipLists$SkipList" ({ cls := "java/lang/Object", name := "getClass", desc := "()Ljava/lang/Class;" } : Jvm.MethodName) ({ cls := "java/lang/Object", name := "getClass", desc := "()Ljava/lang/Class;" } : Jvm.MethodName)) ∈ lw_all := lw_g (lw_at lw_m5 45 rfl) rfl
theorem q1195 : (Jvm.Cond.instanceMethod ({ cls := "CountedSkipLists$SkipList", name := "select", desc := "(I[I)LCountedSkipLists$Node;" } : Jvm.MethodName)) ∈ lw_all := lw_g (lw_at lw_m5 152 rfl) rfl
theorem q1196 : (Jvm.Cond.selects "CountedSkipLists$SkipList" ({ cls := "CountedSkipLists$SkipList", name := "select", desc := "(I[I)LCountedSkipLists$Node;" } : Jvm.MethodName) ({ cls := "CountedSkipLists$SkipList", name := "select", desc := "(I[I)LCountedSkipLists$Node;" } : Jvm.MethodName)) ∈ lw_all := lw_g (lw_at lw_m5 153 rfl) rfl
theorem q1197 : (Jvm.Cond.code ({ cls := "CountedSkipLists$SkipList", name := "select", desc := "(I[I)LCountedSkipLists$Node;" } : Jvm.MethodName) prog_12_method_11_code (6 : Nat) (Option.some (Jvm.ClassFile.FieldType.object "CountedSkipLists$Node"))) ∈ lw_all := lw_g (lw_at lw_m5 154 rfl) rfl
theorem q1233 : (Jvm.Cond.instanceMethod ({ cls := "CountedSkipLists$SkipList", name := "find", desc := "(I)Ljava/util/Optional;" } : Jvm.MethodName)) ∈ lw_all := lw_g (lw_at lw_m5 190 rfl) rfl
theorem q1234 : (Jvm.Cond.selects "CountedSkipLists$SkipList" ({ cls := "CountedSkipLists$SkipList", name := "find", desc := "(I)Ljava/util/Optional;" } : Jvm.MethodName) ({ cls := "CountedSkipLists$SkipList", name := "find", desc := "(I)Ljava/util/Optional;" } : Jvm.MethodName)) ∈ lw_all := lw_g (lw_at lw_m5 191 rfl) rfl
theorem q1235 : (Jvm.Cond.code ({ cls := "CountedSkipLists$SkipList", name := "find", desc := "(I)Ljava/util/Optional;" } : Jvm.MethodName) prog_12_method_8_code (3 : Nat) (Option.some (Jvm.ClassFile.FieldType.object "java/util/Optional"))) ∈ lw_all := lw_g (lw_at lw_m5 192 rfl) rfl
theorem q1236 : (Jvm.Cond.methodLink "CountedSkipLists$SkipList" (73 : Nat) ({ cls := "java/util/Optional", name := "of", desc := "(Ljava/lang/Object;)Ljava/util/Optional;" } : Jvm.MethodName)) ∈ lw_all := lw_g (lw_at lw_m5 193 rfl) rfl
theorem q1252 : (Jvm.Cond.methodLink "CountedSkipLists$SkipList" (79 : Nat) ({ cls := "java/util/Optional", name := "empty", desc := "()Ljava/util/Optional;" } : Jvm.MethodName)) ∈ lw_all := lw_g (lw_at lw_m5 209 rfl) rfl
theorem q1283 : (Jvm.Cond.instanceMethod ({ cls := "CountedSkipLists$SkipList", name := "rank", desc := "(I)I" } : Jvm.MethodName)) ∈ lw_all := lw_g (lw_at lw_m6 0 rfl) rfl
theorem q1284 : (Jvm.Cond.selects "CountedSkipLists$SkipList" ({ cls := "CountedSkipLists$SkipList", name := "rank", desc := "(I)I" } : Jvm.MethodName) ({ cls := "CountedSkipLists$SkipList", name := "rank", desc := "(I)I" } : Jvm.MethodName)) ∈ lw_all := lw_g (lw_at lw_m6 1 rfl) rfl
theorem q1285 : (Jvm.Cond.code ({ cls := "CountedSkipLists$SkipList", name := "rank", desc := "(I)I" } : Jvm.MethodName) prog_12_method_9_code (5 : Nat) (Option.some Jvm.ClassFile.FieldType.int)) ∈ lw_all := lw_g (lw_at lw_m6 2 rfl) rfl
theorem q1302 : (Jvm.Cond.instanceMethod ({ cls := "CountedSkipLists$SkipList", name := "sumBefore", desc := "(I)I" } : Jvm.MethodName)) ∈ lw_all := lw_g (lw_at lw_m6 19 rfl) rfl
theorem q1303 : (Jvm.Cond.selects "CountedSkipLists$SkipList" ({ cls := "CountedSkipLists$SkipList", name := "sumBefore", desc := "(I)I" } : Jvm.MethodName) ({ cls := "CountedSkipLists$SkipList", name := "sumBefore", desc := "(I)I" } : Jvm.MethodName)) ∈ lw_all := lw_g (lw_at lw_m6 20 rfl) rfl
theorem q1304 : (Jvm.Cond.code ({ cls := "CountedSkipLists$SkipList", name := "sumBefore", desc := "(I)I" } : Jvm.MethodName) prog_12_method_10_code (5 : Nat) (Option.some Jvm.ClassFile.FieldType.int)) ∈ lw_all := lw_g (lw_at lw_m6 21 rfl) rfl
theorem q1355 : (Jvm.Cond.instanceMethod ({ cls := "CountedSkipLists$SkipList", name := "search", desc := "(I)LCountedSkipLists$SkipList$Search;" } : Jvm.MethodName)) ∈ lw_all := lw_g (lw_at lw_m6 72 rfl) rfl
theorem q1356 : (Jvm.Cond.selects "CountedSkipLists$SkipList" ({ cls := "CountedSkipLists$SkipList", name := "search", desc := "(I)LCountedSkipLists$SkipList$Search;" } : Jvm.MethodName) ({ cls := "CountedSkipLists$SkipList", name := "search", desc := "(I)LCountedSkipLists$SkipList$Search;" } : Jvm.MethodName)) ∈ lw_all := lw_g (lw_at lw_m6 73 rfl) rfl
theorem q1357 : (Jvm.Cond.code ({ cls := "CountedSkipLists$SkipList", name := "search", desc := "(I)LCountedSkipLists$SkipList$Search;" } : Jvm.MethodName) prog_12_method_21_code (2 : Nat) (Option.some (Jvm.ClassFile.FieldType.object "CountedSkipLists$SkipList$Search"))) ∈ lw_all := lw_g (lw_at lw_m6 74 rfl) rfl
theorem q1358 : (Jvm.Cond.classLink "CountedSkipLists$SkipList" (108 : Nat) "CountedSkipLists$SkipList$Search") ∈ lw_all := lw_g (lw_at lw_m6 75 rfl) rfl
theorem q1360 : (Jvm.Cond.methodLink "CountedSkipLists$SkipList" (110 : Nat) ({ cls := "CountedSkipLists$SkipList$Search", name := "<init>", desc := "(LCountedSkipLists$SkipList;I)V" } : Jvm.MethodName)) ∈ lw_all := lw_g (lw_at lw_m6 77 rfl) rfl
theorem q1748 : (Jvm.Cond.instanceMethod ({ cls := "CountedSkipLists$SkipList", name := "copy", desc := "()LCountedSkipLists$SkipList;" } : Jvm.MethodName)) ∈ lw_all := lw_g (lw_at lw_m7 225 rfl) rfl
theorem q1749 : (Jvm.Cond.selects "CountedSkipLists$SkipList" ({ cls := "CountedSkipLists$SkipList", name := "copy", desc := "()LCountedSkipLists$SkipList;" } : Jvm.MethodName) ({ cls := "CountedSkipLists$SkipList", name := "copy", desc := "()LCountedSkipLists$SkipList;" } : Jvm.MethodName)) ∈ lw_all := lw_g (lw_at lw_m7 226 rfl) rfl
theorem q1750 : (Jvm.Cond.code ({ cls := "CountedSkipLists$SkipList", name := "copy", desc := "()LCountedSkipLists$SkipList;" } : Jvm.MethodName) prog_12_method_3_code (2 : Nat) (Option.some (Jvm.ClassFile.FieldType.object "CountedSkipLists$SkipList"))) ∈ lw_all := lw_g (lw_at lw_m7 227 rfl) rfl
theorem q1751 : (Jvm.Cond.methodLink "CountedSkipLists$SkipList" (39 : Nat) ({ cls := "CountedSkipLists$SkipList", name := "fill", desc := "(LCountedSkipLists$SkipList;LCountedSkipLists$Node;LCountedSkipLists$Node;)V" } : Jvm.MethodName)) ∈ lw_all := lw_g (lw_at lw_m7 228 rfl) rfl
theorem q1752 : (Jvm.Cond.instanceMethod ({ cls := "CountedSkipLists$SkipList", name := "fill", desc := "(LCountedSkipLists$SkipList;LCountedSkipLists$Node;LCountedSkipLists$Node;)V" } : Jvm.MethodName)) ∈ lw_all := lw_g (lw_at lw_m7 229 rfl) rfl
theorem q1753 : (Jvm.Cond.selects "CountedSkipLists$SkipList" ({ cls := "CountedSkipLists$SkipList", name := "fill", desc := "(LCountedSkipLists$SkipList;LCountedSkipLists$Node;LCountedSkipLists$Node;)V" } : Jvm.MethodName) ({ cls := "CountedSkipLists$SkipList", name := "fill", desc := "(LCountedSkipLists$SkipList;LCountedSkipLists$Node;LCountedSkipLists$Node;)V" } : Jvm.MethodName)) ∈ lw_all := lw_g (lw_at lw_m7 230 rfl) rfl
theorem q1754 : (Jvm.Cond.code ({ cls := "CountedSkipLists$SkipList", name := "fill", desc := "(LCountedSkipLists$SkipList;LCountedSkipLists$Node;LCountedSkipLists$Node;)V" } : Jvm.MethodName) prog_12_method_4_code (5 : Nat) (Option.none : Option Jvm.ClassFile.FieldType)) ∈ lw_all := lw_g (lw_at lw_m7 231 rfl) rfl
theorem q1756 : (Jvm.Cond.instanceMethod ({ cls := "CountedSkipLists$SkipList", name := "insert", desc := "(II)I" } : Jvm.MethodName)) ∈ lw_all := lw_g (lw_at lw_m7 233 rfl) rfl
theorem q1757 : (Jvm.Cond.selects "CountedSkipLists$SkipList" ({ cls := "CountedSkipLists$SkipList", name := "insert", desc := "(II)I" } : Jvm.MethodName) ({ cls := "CountedSkipLists$SkipList", name := "insert", desc := "(II)I" } : Jvm.MethodName)) ∈ lw_all := lw_g (lw_at lw_m7 234 rfl) rfl
theorem q1758 : (Jvm.Cond.code ({ cls := "CountedSkipLists$SkipList", name := "insert", desc := "(II)I" } : Jvm.MethodName) prog_12_method_12_code (7 : Nat) (Option.some Jvm.ClassFile.FieldType.int)) ∈ lw_all := lw_g (lw_at lw_m7 235 rfl) rfl
theorem q1759 : (Jvm.Cond.methodLink "CountedSkipLists$SkipList" (86 : Nat) ({ cls := "CountedSkipLists$SkipList", name := "rank", desc := "(I)I" } : Jvm.MethodName)) ∈ lw_all := lw_g (lw_at lw_m7 236 rfl) rfl
theorem q1760 : (Jvm.Cond.methodLink "CountedSkipLists$SkipList" (90 : Nat) ({ cls := "CountedSkipLists$Node", name := "<init>", desc := "(II)V" } : Jvm.MethodName)) ∈ lw_all := lw_g (lw_at lw_m7 237 rfl) rfl
theorem q1774 : (Jvm.Cond.instanceMethod ({ cls := "CountedSkipLists$SkipList", name := "remove", desc := "(LCountedSkipLists$Node;)V" } : Jvm.MethodName)) ∈ lw_all := lw_g (lw_at lw_m8 11 rfl) rfl
theorem q1775 : (Jvm.Cond.selects "CountedSkipLists$SkipList" ({ cls := "CountedSkipLists$SkipList", name := "remove", desc := "(LCountedSkipLists$Node;)V" } : Jvm.MethodName) ({ cls := "CountedSkipLists$SkipList", name := "remove", desc := "(LCountedSkipLists$Node;)V" } : Jvm.MethodName)) ∈ lw_all := lw_g (lw_at lw_m8 12 rfl) rfl
theorem q1776 : (Jvm.Cond.code ({ cls := "CountedSkipLists$SkipList", name := "remove", desc := "(LCountedSkipLists$Node;)V" } : Jvm.MethodName) prog_12_method_13_code (6 : Nat) (Option.none : Option Jvm.ClassFile.FieldType)) ∈ lw_all := lw_g (lw_at lw_m8 13 rfl) rfl
theorem q1938 : (Jvm.Cond.instanceMethod ({ cls := "CountedSkipLists$SkipList", name := "<init>", desc := "()V" } : Jvm.MethodName)) ∈ lw_all := lw_g (lw_at lw_m8 175 rfl) rfl
theorem q1939 : (Jvm.Cond.code ({ cls := "CountedSkipLists$SkipList", name := "<init>", desc := "()V" } : Jvm.MethodName) prog_12_method_2_code (1 : Nat) (Option.none : Option Jvm.ClassFile.FieldType)) ∈ lw_all := lw_g (lw_at lw_m8 176 rfl) rfl
theorem q1940 : (Jvm.Cond.stringRef "CountedSkipLists$SkipList" (30 : Nat) "") ∈ lw_tbl := lw_at lw_m8 177 rfl
theorem q1999 : (Jvm.Cond.instanceMethod ({ cls := "CountedSkipLists$SkipList", name := "setValue", desc := "(LCountedSkipLists$Node;I)V" } : Jvm.MethodName)) ∈ lw_all := lw_g (lw_at lw_m8 236 rfl) rfl
theorem q2000 : (Jvm.Cond.selects "CountedSkipLists$SkipList" ({ cls := "CountedSkipLists$SkipList", name := "setValue", desc := "(LCountedSkipLists$Node;I)V" } : Jvm.MethodName) ({ cls := "CountedSkipLists$SkipList", name := "setValue", desc := "(LCountedSkipLists$Node;I)V" } : Jvm.MethodName)) ∈ lw_all := lw_g (lw_at lw_m8 237 rfl) rfl
theorem q2001 : (Jvm.Cond.code ({ cls := "CountedSkipLists$SkipList", name := "setValue", desc := "(LCountedSkipLists$Node;I)V" } : Jvm.MethodName) prog_12_method_14_code (4 : Nat) (Option.none : Option Jvm.ClassFile.FieldType)) ∈ lw_all := lw_g (lw_at lw_m8 238 rfl) rfl
theorem q2657 : (Jvm.Cond.castable "CountedSkipLists$SkipList" "java/lang/Object") ∈ lw_tbl := lw_at lw_m11 174 rfl
theorem in_X7 : ∀ w ∈ wsX70, w ∈ lw_all := lw_in wsX70 [878, 880, 882, 884] (by decide +kernel) (by decide +kernel)

/-! CountedSkipLists$Node -/
set_option maxRecDepth 100000
def RX8 : String := "CountedSkipLists$Node"
def TX8 : u_T := fun k => match k with
  | 0 => ("CountedSkipLists$Node", "key", "I", true)
  | 1 => ("CountedSkipLists$Node", "nexts", "[LCountedSkipLists$Node;", true)
  | 2 => ("CountedSkipLists$Node", "widths", "[I", true)
  | 3 => ("CountedSkipLists$Node", "sums", "[I", true)
  | 4 => ("CountedSkipLists$Node", "value", "I", false)
  | _ => ("CountedSkipLists$Node", "height", "I", false)
def tyX8 : Nat → FieldType := fun k => match k with
  | 0 => .int
  | 1 => .array (.object "CountedSkipLists$Node")
  | 2 => .array .int
  | 3 => .array .int
  | 4 => .int
  | _ => .int
abbrev wsX80 : List Cond := u_ws RX8 TX8 6
theorem nmX8 : ∀ a, a < 6 → ∀ b, b < 6 → a ≠ b → (TX8 a).2.1 ≠ (TX8 b).2.1 := by decide +kernel
theorem tyX8_ok : ∀ k, k < 6 → parseFieldDescriptor (TX8 k).2.2.1 = some (tyX8 k) := by decide +kernel
abbrev cX8_init : ByteArray := prog_9_method_3_code
def yX8_init : MethodName := ⟨RX8, "<init>", "()V"⟩
def dkwX8_init_0 : List UInt8 := [42, 17, 216, 240, 3, 16, 9, 183, 0, 32, 177]
abbrev dktX8_init_0 : List UInt8 := dkwX8_init_0 ++ []
theorem dksX8_init_0 : cX8_init.data.toList.drop 0 = dktX8_init_0 := by decide +kernel
theorem dX8_init_0 : decode cX8_init 0 = .ok (.aload_n 0, 1) := dk_42 (dk_at dksX8_init_0 0 rfl rfl)
theorem dX8_init_1 : decode cX8_init 1 = .ok (.sipush (-10000), 3) := dk_17 216 240 (dk_at dksX8_init_0 1 rfl rfl)
theorem dX8_init_4 : decode cX8_init 4 = .ok (.iconst 0, 1) := dk_3 (dk_at dksX8_init_0 4 rfl rfl)
theorem dX8_init_5 : decode cX8_init 5 = .ok (.bipush 9, 2) := dk_16 9 (dk_at dksX8_init_0 5 rfl rfl)
theorem dX8_init_7 : decode cX8_init 7 = .ok (.invokespecial 32, 3) := dk_183 0 32 (dk_at dksX8_init_0 7 rfl rfl)
theorem dX8_init_10 : decode cX8_init 10 = .ok (.return_, 1) := dk_177 (dk_at dksX8_init_0 10 rfl rfl)
abbrev cX8_init_2 : ByteArray := prog_9_method_1_code
def yX8_init_2 : MethodName := ⟨RX8, "<init>", "(III)V"⟩
def dkwX8_init_2_1 : List UInt8 := [188, 10, 181, 0, 19, 42, 27, 181, 0, 22, 42, 28, 181, 0, 26, 42, 29, 181, 0, 29, 177]
abbrev dktX8_init_2_1 : List UInt8 := dkwX8_init_2_1 ++ []
def dkwX8_init_2_0 : List UInt8 := [42, 183, 0, 3, 42, 16, 9, 189, 0, 9, 181, 0, 11, 42, 16, 9, 188, 10, 181, 0, 15, 42, 16, 9]
abbrev dktX8_init_2_0 : List UInt8 := dkwX8_init_2_0 ++ dktX8_init_2_1
theorem dksX8_init_2_0 : cX8_init_2.data.toList.drop 0 = dktX8_init_2_0 := by decide +kernel
theorem dksX8_init_2_1 : cX8_init_2.data.toList.drop 24 = dktX8_init_2_1 := dk_seg dksX8_init_2_0 24 rfl rfl
theorem dX8_init_2_0 : decode cX8_init_2 0 = .ok (.aload_n 0, 1) := dk_42 (dk_at dksX8_init_2_0 0 rfl rfl)
theorem dX8_init_2_1 : decode cX8_init_2 1 = .ok (.invokespecial 3, 3) := dk_183 0 3 (dk_at dksX8_init_2_0 1 rfl rfl)
theorem dX8_init_2_4 : decode cX8_init_2 4 = .ok (.aload_n 0, 1) := dk_42 (dk_at dksX8_init_2_0 4 rfl rfl)
theorem dX8_init_2_5 : decode cX8_init_2 5 = .ok (.bipush 9, 2) := dk_16 9 (dk_at dksX8_init_2_0 5 rfl rfl)
theorem dX8_init_2_7 : decode cX8_init_2 7 = .ok (.anewarray 9, 3) := dk_189 0 9 (dk_at dksX8_init_2_0 7 rfl rfl)
theorem dX8_init_2_10 : decode cX8_init_2 10 = .ok (.putfield 11, 3) := dk_181 0 11 (dk_at dksX8_init_2_0 10 rfl rfl)
theorem dX8_init_2_13 : decode cX8_init_2 13 = .ok (.aload_n 0, 1) := dk_42 (dk_at dksX8_init_2_0 13 rfl rfl)
theorem dX8_init_2_14 : decode cX8_init_2 14 = .ok (.bipush 9, 2) := dk_16 9 (dk_at dksX8_init_2_0 14 rfl rfl)
theorem dX8_init_2_16 : decode cX8_init_2 16 = .ok (.newarray .int, 2) := dk_188_10 (dk_at dksX8_init_2_0 16 rfl rfl)
theorem dX8_init_2_18 : decode cX8_init_2 18 = .ok (.putfield 15, 3) := dk_181 0 15 (dk_at dksX8_init_2_0 18 rfl rfl)
theorem dX8_init_2_21 : decode cX8_init_2 21 = .ok (.aload_n 0, 1) := dk_42 (dk_at dksX8_init_2_0 21 rfl rfl)
theorem dX8_init_2_22 : decode cX8_init_2 22 = .ok (.bipush 9, 2) := dk_16 9 (dk_at dksX8_init_2_0 22 rfl rfl)
theorem dX8_init_2_24 : decode cX8_init_2 24 = .ok (.newarray .int, 2) := dk_188_10 (dk_at dksX8_init_2_1 0 rfl rfl)
theorem dX8_init_2_26 : decode cX8_init_2 26 = .ok (.putfield 19, 3) := dk_181 0 19 (dk_at dksX8_init_2_1 2 rfl rfl)
theorem dX8_init_2_29 : decode cX8_init_2 29 = .ok (.aload_n 0, 1) := dk_42 (dk_at dksX8_init_2_1 5 rfl rfl)
theorem dX8_init_2_30 : decode cX8_init_2 30 = .ok (.iload_n 1, 1) := dk_27 (dk_at dksX8_init_2_1 6 rfl rfl)
theorem dX8_init_2_31 : decode cX8_init_2 31 = .ok (.putfield 22, 3) := dk_181 0 22 (dk_at dksX8_init_2_1 7 rfl rfl)
theorem dX8_init_2_34 : decode cX8_init_2 34 = .ok (.aload_n 0, 1) := dk_42 (dk_at dksX8_init_2_1 10 rfl rfl)
theorem dX8_init_2_35 : decode cX8_init_2 35 = .ok (.iload_n 2, 1) := dk_28 (dk_at dksX8_init_2_1 11 rfl rfl)
theorem dX8_init_2_36 : decode cX8_init_2 36 = .ok (.putfield 26, 3) := dk_181 0 26 (dk_at dksX8_init_2_1 12 rfl rfl)
theorem dX8_init_2_39 : decode cX8_init_2 39 = .ok (.aload_n 0, 1) := dk_42 (dk_at dksX8_init_2_1 15 rfl rfl)
theorem dX8_init_2_40 : decode cX8_init_2 40 = .ok (.iload_n 3, 1) := dk_29 (dk_at dksX8_init_2_1 16 rfl rfl)
theorem dX8_init_2_41 : decode cX8_init_2 41 = .ok (.putfield 29, 3) := dk_181 0 29 (dk_at dksX8_init_2_1 17 rfl rfl)
theorem dX8_init_2_44 : decode cX8_init_2 44 = .ok (.return_, 1) := dk_177 (dk_at dksX8_init_2_1 20 rfl rfl)
abbrev cX8_link : ByteArray := prog_9_method_5_code
def yX8_link : MethodName := ⟨RX8, "link", "(ILCountedSkipLists$Node;II)V"⟩
def dkwX8_link_0 : List UInt8 := [42, 180, 0, 11, 27, 44, 83, 42, 180, 0, 15, 27, 29, 79, 42, 180, 0, 19, 27, 21, 4, 79, 177]
abbrev dktX8_link_0 : List UInt8 := dkwX8_link_0 ++ []
theorem dksX8_link_0 : cX8_link.data.toList.drop 0 = dktX8_link_0 := by decide +kernel
theorem dX8_link_0 : decode cX8_link 0 = .ok (.aload_n 0, 1) := dk_42 (dk_at dksX8_link_0 0 rfl rfl)
theorem dX8_link_1 : decode cX8_link 1 = .ok (.getfield 11, 3) := dk_180 0 11 (dk_at dksX8_link_0 1 rfl rfl)
theorem dX8_link_4 : decode cX8_link 4 = .ok (.iload_n 1, 1) := dk_27 (dk_at dksX8_link_0 4 rfl rfl)
theorem dX8_link_5 : decode cX8_link 5 = .ok (.aload_n 2, 1) := dk_44 (dk_at dksX8_link_0 5 rfl rfl)
theorem dX8_link_6 : decode cX8_link 6 = .ok (.aastore, 1) := dk_83 (dk_at dksX8_link_0 6 rfl rfl)
theorem dX8_link_7 : decode cX8_link 7 = .ok (.aload_n 0, 1) := dk_42 (dk_at dksX8_link_0 7 rfl rfl)
theorem dX8_link_8 : decode cX8_link 8 = .ok (.getfield 15, 3) := dk_180 0 15 (dk_at dksX8_link_0 8 rfl rfl)
theorem dX8_link_11 : decode cX8_link 11 = .ok (.iload_n 1, 1) := dk_27 (dk_at dksX8_link_0 11 rfl rfl)
theorem dX8_link_12 : decode cX8_link 12 = .ok (.iload_n 3, 1) := dk_29 (dk_at dksX8_link_0 12 rfl rfl)
theorem dX8_link_13 : decode cX8_link 13 = .ok (.iastore, 1) := dk_79 (dk_at dksX8_link_0 13 rfl rfl)
theorem dX8_link_14 : decode cX8_link 14 = .ok (.aload_n 0, 1) := dk_42 (dk_at dksX8_link_0 14 rfl rfl)
theorem dX8_link_15 : decode cX8_link 15 = .ok (.getfield 19, 3) := dk_180 0 19 (dk_at dksX8_link_0 15 rfl rfl)
theorem dX8_link_18 : decode cX8_link 18 = .ok (.iload_n 1, 1) := dk_27 (dk_at dksX8_link_0 18 rfl rfl)
theorem dX8_link_19 : decode cX8_link 19 = .ok (.iload 4, 2) := dk_21 4 (dk_at dksX8_link_0 19 rfl rfl)
theorem dX8_link_21 : decode cX8_link 21 = .ok (.iastore, 1) := dk_79 (dk_at dksX8_link_0 21 rfl rfl)
theorem dX8_link_22 : decode cX8_link 22 = .ok (.return_, 1) := dk_177 (dk_at dksX8_link_0 22 rfl rfl)
abbrev cX8_next : ByteArray := prog_9_method_4_code
def yX8_next : MethodName := ⟨RX8, "next", "(I)LCountedSkipLists$Node;"⟩
def dkwX8_next_0 : List UInt8 := [42, 180, 0, 11, 27, 50, 176]
abbrev dktX8_next_0 : List UInt8 := dkwX8_next_0 ++ []
theorem dksX8_next_0 : cX8_next.data.toList.drop 0 = dktX8_next_0 := by decide +kernel
theorem dX8_next_0 : decode cX8_next 0 = .ok (.aload_n 0, 1) := dk_42 (dk_at dksX8_next_0 0 rfl rfl)
theorem dX8_next_1 : decode cX8_next 1 = .ok (.getfield 11, 3) := dk_180 0 11 (dk_at dksX8_next_0 1 rfl rfl)
theorem dX8_next_4 : decode cX8_next 4 = .ok (.iload_n 1, 1) := dk_27 (dk_at dksX8_next_0 4 rfl rfl)
theorem dX8_next_5 : decode cX8_next 5 = .ok (.aaload, 1) := dk_50 (dk_at dksX8_next_0 5 rfl rfl)
theorem dX8_next_6 : decode cX8_next 6 = .ok (.areturn, 1) := dk_176 (dk_at dksX8_next_0 6 rfl rfl)
abbrev cX8_init_3 : ByteArray := prog_9_method_2_code
def yX8_init_3 : MethodName := ⟨RX8, "<init>", "(II)V"⟩
def dkwX8_init_3_0 : List UInt8 := [42, 27, 28, 4, 183, 0, 32, 177]
abbrev dktX8_init_3_0 : List UInt8 := dkwX8_init_3_0 ++ []
theorem dksX8_init_3_0 : cX8_init_3.data.toList.drop 0 = dktX8_init_3_0 := by decide +kernel
theorem dX8_init_3_0 : decode cX8_init_3 0 = .ok (.aload_n 0, 1) := dk_42 (dk_at dksX8_init_3_0 0 rfl rfl)
theorem dX8_init_3_1 : decode cX8_init_3 1 = .ok (.iload_n 1, 1) := dk_27 (dk_at dksX8_init_3_0 1 rfl rfl)
theorem dX8_init_3_2 : decode cX8_init_3 2 = .ok (.iload_n 2, 1) := dk_28 (dk_at dksX8_init_3_0 2 rfl rfl)
theorem dX8_init_3_3 : decode cX8_init_3 3 = .ok (.iconst 1, 1) := dk_4 (dk_at dksX8_init_3_0 3 rfl rfl)
theorem dX8_init_3_4 : decode cX8_init_3 4 = .ok (.invokespecial 32, 3) := dk_183 0 32 (dk_at dksX8_init_3_0 4 rfl rfl)
theorem dX8_init_3_7 : decode cX8_init_3 7 = .ok (.return_, 1) := dk_177 (dk_at dksX8_init_3_0 7 rfl rfl)
theorem q116 : (Jvm.Cond.initialized "CountedSkipLists$Node") ∈ lw_all := lw_g (lw_at lw_m1 33 rfl) rfl
theorem q819 : (Jvm.Cond.instantiable "CountedSkipLists$Node" (6 : Nat)) ∈ lw_all := lw_g (lw_at lw_m4 16 rfl) rfl
theorem q821 : (Jvm.Cond.instanceMethod ({ cls := "CountedSkipLists$Node", name := "<init>", desc := "()V" } : Jvm.MethodName)) ∈ lw_all := lw_g (lw_at lw_m4 18 rfl) rfl
theorem q822 : (Jvm.Cond.code ({ cls := "CountedSkipLists$Node", name := "<init>", desc := "()V" } : Jvm.MethodName) prog_9_method_3_code (1 : Nat) (Option.none : Option Jvm.ClassFile.FieldType)) ∈ lw_all := lw_g (lw_at lw_m4 19 rfl) rfl
theorem q823 : (Jvm.Cond.methodLink "CountedSkipLists$Node" (32 : Nat) ({ cls := "CountedSkipLists$Node", name := "<init>", desc := "(III)V" } : Jvm.MethodName)) ∈ lw_all := lw_g (lw_at lw_m4 20 rfl) rfl
theorem q824 : (Jvm.Cond.instanceMethod ({ cls := "CountedSkipLists$Node", name := "<init>", desc := "(III)V" } : Jvm.MethodName)) ∈ lw_all := lw_g (lw_at lw_m4 21 rfl) rfl
theorem q825 : (Jvm.Cond.code ({ cls := "CountedSkipLists$Node", name := "<init>", desc := "(III)V" } : Jvm.MethodName) prog_9_method_1_code (4 : Nat) (Option.none : Option Jvm.ClassFile.FieldType)) ∈ lw_all := lw_g (lw_at lw_m4 22 rfl) rfl
theorem q826 : (Jvm.Cond.methodLink "CountedSkipLists$Node" (3 : Nat) ({ cls := "java/lang/Object", name := "<init>", desc := "()V" } : Jvm.MethodName)) ∈ lw_all := lw_g (lw_at lw_m4 23 rfl) rfl
theorem q827 : (Jvm.Cond.classLink "CountedSkipLists$Node" (9 : Nat) "CountedSkipLists$Node") ∈ lw_all := lw_g (lw_at lw_m4 24 rfl) rfl
theorem q829 : (Jvm.Cond.fieldLink "CountedSkipLists$Node" (22 : Nat) "CountedSkipLists$Node" "key" "I") ∈ lw_all := lw_g (lw_at lw_m4 26 rfl) rfl
theorem q836 : (Jvm.Cond.fieldLink "CountedSkipLists$Node" (11 : Nat) "CountedSkipLists$Node" "nexts" "[LCountedSkipLists$Node;") ∈ lw_all := lw_g (lw_at lw_m4 33 rfl) rfl
theorem q838 : (Jvm.Cond.fieldLink "CountedSkipLists$Node" (15 : Nat) "CountedSkipLists$Node" "widths" "[I") ∈ lw_all := lw_g (lw_at lw_m4 35 rfl) rfl
theorem q841 : (Jvm.Cond.fieldLink "CountedSkipLists$Node" (19 : Nat) "CountedSkipLists$Node" "sums" "[I") ∈ lw_all := lw_g (lw_at lw_m4 38 rfl) rfl
theorem q844 : (Jvm.Cond.fieldLink "CountedSkipLists$Node" (26 : Nat) "CountedSkipLists$Node" "value" "I") ∈ lw_all := lw_g (lw_at lw_m4 41 rfl) rfl
theorem q847 : (Jvm.Cond.fieldLink "CountedSkipLists$Node" (29 : Nat) "CountedSkipLists$Node" "height" "I") ∈ lw_all := lw_g (lw_at lw_m4 44 rfl) rfl
theorem q851 : (Jvm.Cond.laysFinal "CountedSkipLists$Node" "CountedSkipLists$Node" "key" "I") ∈ lw_all := lw_g (lw_at lw_m4 48 rfl) rfl
theorem q852 : (Jvm.Cond.soleField "CountedSkipLists$Node" "key") ∈ lw_all := lw_g (lw_at lw_m4 49 rfl) rfl
theorem q853 : (Jvm.Cond.laysFinal "CountedSkipLists$Node" "CountedSkipLists$Node" "nexts" "[LCountedSkipLists$Node;") ∈ lw_all := lw_g (lw_at lw_m4 50 rfl) rfl
theorem q854 : (Jvm.Cond.soleField "CountedSkipLists$Node" "nexts") ∈ lw_all := lw_g (lw_at lw_m4 51 rfl) rfl
theorem q855 : (Jvm.Cond.laysFinal "CountedSkipLists$Node" "CountedSkipLists$Node" "widths" "[I") ∈ lw_all := lw_g (lw_at lw_m4 52 rfl) rfl
theorem q856 : (Jvm.Cond.soleField "CountedSkipLists$Node" "widths") ∈ lw_all := lw_g (lw_at lw_m4 53 rfl) rfl
theorem q857 : (Jvm.Cond.laysFinal "CountedSkipLists$Node" "CountedSkipLists$Node" "sums" "[I") ∈ lw_all := lw_g (lw_at lw_m4 54 rfl) rfl
theorem q858 : (Jvm.Cond.soleField "CountedSkipLists$Node" "sums") ∈ lw_all := lw_g (lw_at lw_m4 55 rfl) rfl
theorem q859 : (Jvm.Cond.lays "CountedSkipLists$Node" "CountedSkipLists$Node" "value" "I") ∈ lw_all := lw_g (lw_at lw_m4 56 rfl) rfl
theorem q860 : (Jvm.Cond.soleField "CountedSkipLists$Node" "value") ∈ lw_all := lw_g (lw_at lw_m4 57 rfl) rfl
theorem q861 : (Jvm.Cond.lays "CountedSkipLists$Node" "CountedSkipLists$Node" "height" "I") ∈ lw_all := lw_g (lw_at lw_m4 58 rfl) rfl
theorem q862 : (Jvm.Cond.soleField "CountedSkipLists$Node" "height") ∈ lw_all := lw_g (lw_at lw_m4 59 rfl) rfl
theorem q863 : (Jvm.Cond.superclass "CountedSkipLists$Node" "java/lang/Object") ∈ lw_all := lw_g (lw_at lw_m4 60 rfl) rfl
theorem q865 : (Jvm.Cond.instanceMethod ({ cls := "CountedSkipLists$Node", name := "link", desc := "(ILCountedSkipLists$Node;II)V" } : Jvm.MethodName)) ∈ lw_all := lw_g (lw_at lw_m4 62 rfl) rfl
theorem q866 : (Jvm.Cond.selects "CountedSkipLists$Node" ({ cls := "CountedSkipLists$Node", name := "link", desc := "(ILCountedSkipLists$Node;II)V" } : Jvm.MethodName) ({ cls := "CountedSkipLists$Node", name := "link", desc := "(ILCountedSkipLists$Node;II)V" } : Jvm.MethodName)) ∈ lw_all := lw_g (lw_at lw_m4 63 rfl) rfl
theorem q867 : (Jvm.Cond.code ({ cls := "CountedSkipLists$Node", name := "link", desc := "(ILCountedSkipLists$Node;II)V" } : Jvm.MethodName) prog_9_method_5_code (5 : Nat) (Option.none : Option Jvm.ClassFile.FieldType)) ∈ lw_all := lw_g (lw_at lw_m4 64 rfl) rfl
theorem q905 : (Jvm.Cond.instanceMethod ({ cls := "CountedSkipLists$Node", name := "next", desc := "(I)LCountedSkipLists$Node;" } : Jvm.MethodName)) ∈ lw_all := lw_g (lw_at lw_m4 102 rfl) rfl
theorem q906 : (Jvm.Cond.selects "CountedSkipLists$Node" ({ cls := "CountedSkipLists$Node", name := "next", desc := "(I)LCountedSkipLists$Node;" } : Jvm.MethodName) ({ cls := "CountedSkipLists$Node", name := "next", desc := "(I)LCountedSkipLists$Node;" } : Jvm.MethodName)) ∈ lw_all := lw_g (lw_at lw_m4 103 rfl) rfl
theorem q907 : (Jvm.Cond.code ({ cls := "CountedSkipLists$Node", name := "next", desc := "(I)LCountedSkipLists$Node;" } : Jvm.MethodName) prog_9_method_4_code (2 : Nat) (Option.some (Jvm.ClassFile.FieldType.object "CountedSkipLists$Node"))) ∈ lw_all := lw_g (lw_at lw_m4 104 rfl) rfl
theorem q1086 : (Jvm.Cond.selects "CountedSkipLists$Node" ({ cls := "java/lang/Object", name := "getClass", desc := "()Ljava/lang/Class;" } : Jvm.MethodName) ({ cls := "java/lang/Object", name := "getClass", desc := "()Ljava/lang/Class;" } : Jvm.MethodName)) ∈ lw_all := lw_g (lw_at lw_m5 43 rfl) rfl
theorem q1761 : (Jvm.Cond.instanceMethod ({ cls := "CountedSkipLists$Node", name := "<init>", desc := "(II)V" } : Jvm.MethodName)) ∈ lw_all := lw_g (lw_at lw_m7 238 rfl) rfl
theorem q1762 : (Jvm.Cond.code ({ cls := "CountedSkipLists$Node", name := "<init>", desc := "(II)V" } : Jvm.MethodName) prog_9_method_2_code (3 : Nat) (Option.none : Option Jvm.ClassFile.FieldType)) ∈ lw_all := lw_g (lw_at lw_m7 239 rfl) rfl
theorem q2659 : (Jvm.Cond.castable "CountedSkipLists$Node" "java/lang/Object") ∈ lw_tbl := lw_at lw_m11 176 rfl
theorem in_X8 : ∀ w ∈ wsX80, w ∈ lw_all := lw_in wsX80 [851, 853, 855, 857, 859, 861] (by decide +kernel) (by decide +kernel)

/-! CountedSkipLists$Gap -/
set_option maxRecDepth 100000
def RX9 : String := "CountedSkipLists$Gap"
def TX9 : u_T := fun k => match k with
  | 0 => ("CountedSkipLists$Gap", "level", "I", true)
  | 1 => ("CountedSkipLists$Gap", "size", "I", true)
  | 2 => ("CountedSkipLists$Gap", "before", "LCountedSkipLists$Node;", true)
  | 3 => ("CountedSkipLists$Gap", "beyond", "LCountedSkipLists$Node;", true)
  | _ => ("CountedSkipLists$Gap", "earlier", "LCountedSkipLists$Node;", true)
def tyX9 : Nat → FieldType := fun k => match k with
  | 0 => .int
  | 1 => .int
  | 2 => .object "CountedSkipLists$Node"
  | 3 => .object "CountedSkipLists$Node"
  | _ => .object "CountedSkipLists$Node"
abbrev wsX90 : List Cond := u_ws RX9 TX9 5
theorem nmX9 : ∀ a, a < 5 → ∀ b, b < 5 → a ≠ b → (TX9 a).2.1 ≠ (TX9 b).2.1 := by decide +kernel
theorem tyX9_ok : ∀ k, k < 5 → parseFieldDescriptor (TX9 k).2.2.1 = some (tyX9 k) := by decide +kernel
abbrev cX9_init : ByteArray := prog_3_method_1_code
def yX9_init : MethodName := ⟨RX9, "<init>", "(IILCountedSkipLists$Node;LCountedSkipLists$Node;LCountedSkipLists$Node;)V"⟩
def dkwX9_init_1 : List UInt8 := [181, 0, 20, 42, 25, 5, 181, 0, 23, 177]
abbrev dktX9_init_1 : List UInt8 := dkwX9_init_1 ++ []
def dkwX9_init_0 : List UInt8 := [42, 183, 0, 1, 42, 27, 181, 0, 7, 42, 28, 181, 0, 13, 42, 45, 181, 0, 16, 42, 25, 4]
abbrev dktX9_init_0 : List UInt8 := dkwX9_init_0 ++ dktX9_init_1
theorem dksX9_init_0 : cX9_init.data.toList.drop 0 = dktX9_init_0 := by decide +kernel
theorem dksX9_init_1 : cX9_init.data.toList.drop 22 = dktX9_init_1 := dk_seg dksX9_init_0 22 rfl rfl
theorem dX9_init_0 : decode cX9_init 0 = .ok (.aload_n 0, 1) := dk_42 (dk_at dksX9_init_0 0 rfl rfl)
theorem dX9_init_1 : decode cX9_init 1 = .ok (.invokespecial 1, 3) := dk_183 0 1 (dk_at dksX9_init_0 1 rfl rfl)
theorem dX9_init_4 : decode cX9_init 4 = .ok (.aload_n 0, 1) := dk_42 (dk_at dksX9_init_0 4 rfl rfl)
theorem dX9_init_5 : decode cX9_init 5 = .ok (.iload_n 1, 1) := dk_27 (dk_at dksX9_init_0 5 rfl rfl)
theorem dX9_init_6 : decode cX9_init 6 = .ok (.putfield 7, 3) := dk_181 0 7 (dk_at dksX9_init_0 6 rfl rfl)
theorem dX9_init_9 : decode cX9_init 9 = .ok (.aload_n 0, 1) := dk_42 (dk_at dksX9_init_0 9 rfl rfl)
theorem dX9_init_10 : decode cX9_init 10 = .ok (.iload_n 2, 1) := dk_28 (dk_at dksX9_init_0 10 rfl rfl)
theorem dX9_init_11 : decode cX9_init 11 = .ok (.putfield 13, 3) := dk_181 0 13 (dk_at dksX9_init_0 11 rfl rfl)
theorem dX9_init_14 : decode cX9_init 14 = .ok (.aload_n 0, 1) := dk_42 (dk_at dksX9_init_0 14 rfl rfl)
theorem dX9_init_15 : decode cX9_init 15 = .ok (.aload_n 3, 1) := dk_45 (dk_at dksX9_init_0 15 rfl rfl)
theorem dX9_init_16 : decode cX9_init 16 = .ok (.putfield 16, 3) := dk_181 0 16 (dk_at dksX9_init_0 16 rfl rfl)
theorem dX9_init_19 : decode cX9_init 19 = .ok (.aload_n 0, 1) := dk_42 (dk_at dksX9_init_0 19 rfl rfl)
theorem dX9_init_20 : decode cX9_init 20 = .ok (.aload 4, 2) := dk_25 4 (dk_at dksX9_init_0 20 rfl rfl)
theorem dX9_init_22 : decode cX9_init 22 = .ok (.putfield 20, 3) := dk_181 0 20 (dk_at dksX9_init_1 0 rfl rfl)
theorem dX9_init_25 : decode cX9_init 25 = .ok (.aload_n 0, 1) := dk_42 (dk_at dksX9_init_1 3 rfl rfl)
theorem dX9_init_26 : decode cX9_init 26 = .ok (.aload 5, 2) := dk_25 5 (dk_at dksX9_init_1 4 rfl rfl)
theorem dX9_init_28 : decode cX9_init 28 = .ok (.putfield 23, 3) := dk_181 0 23 (dk_at dksX9_init_1 6 rfl rfl)
theorem dX9_init_31 : decode cX9_init 31 = .ok (.return_, 1) := dk_177 (dk_at dksX9_init_1 9 rfl rfl)
abbrev cX9_isRich : ByteArray := prog_3_method_6_code
def yX9_isRich : MethodName := ⟨RX9, "isRich", "()Z"⟩
def dkwX9_isRich_3 : List UInt8 := [172]
abbrev dktX9_isRich_3 : List UInt8 := dkwX9_isRich_3 ++ []
def dkwX9_isRich_2 : List UInt8 := [43, 42, 180, 0, 7, 182, 0, 26, 42, 180, 0, 7, 182, 0, 26, 44, 165, 0, 7, 4, 167, 0, 4, 3]
abbrev dktX9_isRich_2 : List UInt8 := dkwX9_isRich_2 ++ dktX9_isRich_3
def dkwX9_isRich_1 : List UInt8 := [153, 0, 10, 42, 180, 0, 16, 167, 0, 16, 42, 180, 0, 20, 42, 180, 0, 7, 4, 96, 182, 0, 26, 77]
abbrev dktX9_isRich_1 : List UInt8 := dkwX9_isRich_1 ++ dktX9_isRich_2
def dkwX9_isRich_0 : List UInt8 := [42, 182, 0, 35, 153, 0, 10, 42, 180, 0, 23, 167, 0, 7, 42, 180, 0, 20, 76, 42, 182, 0, 35]
abbrev dktX9_isRich_0 : List UInt8 := dkwX9_isRich_0 ++ dktX9_isRich_1
theorem dksX9_isRich_0 : cX9_isRich.data.toList.drop 0 = dktX9_isRich_0 := by decide +kernel
theorem dksX9_isRich_1 : cX9_isRich.data.toList.drop 23 = dktX9_isRich_1 := dk_seg dksX9_isRich_0 23 rfl rfl
theorem dksX9_isRich_2 : cX9_isRich.data.toList.drop 47 = dktX9_isRich_2 := dk_seg dksX9_isRich_1 24 rfl rfl
theorem dksX9_isRich_3 : cX9_isRich.data.toList.drop 71 = dktX9_isRich_3 := dk_seg dksX9_isRich_2 24 rfl rfl
theorem dX9_isRich_0 : decode cX9_isRich 0 = .ok (.aload_n 0, 1) := dk_42 (dk_at dksX9_isRich_0 0 rfl rfl)
theorem dX9_isRich_1 : decode cX9_isRich 1 = .ok (.invokevirtual 35, 3) := dk_182 0 35 (dk_at dksX9_isRich_0 1 rfl rfl)
theorem dX9_isRich_4 : decode cX9_isRich 4 = .ok (.ifCond .eq 10, 3) := dk_153 0 10 (dk_at dksX9_isRich_0 4 rfl rfl)
theorem dX9_isRich_7 : decode cX9_isRich 7 = .ok (.aload_n 0, 1) := dk_42 (dk_at dksX9_isRich_0 7 rfl rfl)
theorem dX9_isRich_8 : decode cX9_isRich 8 = .ok (.getfield 23, 3) := dk_180 0 23 (dk_at dksX9_isRich_0 8 rfl rfl)
theorem dX9_isRich_11 : decode cX9_isRich 11 = .ok (.goto 7, 3) := dk_167 0 7 (dk_at dksX9_isRich_0 11 rfl rfl)
theorem dX9_isRich_14 : decode cX9_isRich 14 = .ok (.aload_n 0, 1) := dk_42 (dk_at dksX9_isRich_0 14 rfl rfl)
theorem dX9_isRich_15 : decode cX9_isRich 15 = .ok (.getfield 20, 3) := dk_180 0 20 (dk_at dksX9_isRich_0 15 rfl rfl)
theorem dX9_isRich_18 : decode cX9_isRich 18 = .ok (.astore_n 1, 1) := dk_76 (dk_at dksX9_isRich_0 18 rfl rfl)
theorem dX9_isRich_19 : decode cX9_isRich 19 = .ok (.aload_n 0, 1) := dk_42 (dk_at dksX9_isRich_0 19 rfl rfl)
theorem dX9_isRich_20 : decode cX9_isRich 20 = .ok (.invokevirtual 35, 3) := dk_182 0 35 (dk_at dksX9_isRich_0 20 rfl rfl)
theorem dX9_isRich_23 : decode cX9_isRich 23 = .ok (.ifCond .eq 10, 3) := dk_153 0 10 (dk_at dksX9_isRich_1 0 rfl rfl)
theorem dX9_isRich_26 : decode cX9_isRich 26 = .ok (.aload_n 0, 1) := dk_42 (dk_at dksX9_isRich_1 3 rfl rfl)
theorem dX9_isRich_27 : decode cX9_isRich 27 = .ok (.getfield 16, 3) := dk_180 0 16 (dk_at dksX9_isRich_1 4 rfl rfl)
theorem dX9_isRich_30 : decode cX9_isRich 30 = .ok (.goto 16, 3) := dk_167 0 16 (dk_at dksX9_isRich_1 7 rfl rfl)
theorem dX9_isRich_33 : decode cX9_isRich 33 = .ok (.aload_n 0, 1) := dk_42 (dk_at dksX9_isRich_1 10 rfl rfl)
theorem dX9_isRich_34 : decode cX9_isRich 34 = .ok (.getfield 20, 3) := dk_180 0 20 (dk_at dksX9_isRich_1 11 rfl rfl)
theorem dX9_isRich_37 : decode cX9_isRich 37 = .ok (.aload_n 0, 1) := dk_42 (dk_at dksX9_isRich_1 14 rfl rfl)
theorem dX9_isRich_38 : decode cX9_isRich 38 = .ok (.getfield 7, 3) := dk_180 0 7 (dk_at dksX9_isRich_1 15 rfl rfl)
theorem dX9_isRich_41 : decode cX9_isRich 41 = .ok (.iconst 1, 1) := dk_4 (dk_at dksX9_isRich_1 18 rfl rfl)
theorem dX9_isRich_42 : decode cX9_isRich 42 = .ok (.iadd, 1) := dk_96 (dk_at dksX9_isRich_1 19 rfl rfl)
theorem dX9_isRich_43 : decode cX9_isRich 43 = .ok (.invokevirtual 26, 3) := dk_182 0 26 (dk_at dksX9_isRich_1 20 rfl rfl)
theorem dX9_isRich_46 : decode cX9_isRich 46 = .ok (.astore_n 2, 1) := dk_77 (dk_at dksX9_isRich_1 23 rfl rfl)
theorem dX9_isRich_47 : decode cX9_isRich 47 = .ok (.aload_n 1, 1) := dk_43 (dk_at dksX9_isRich_2 0 rfl rfl)
theorem dX9_isRich_48 : decode cX9_isRich 48 = .ok (.aload_n 0, 1) := dk_42 (dk_at dksX9_isRich_2 1 rfl rfl)
theorem dX9_isRich_49 : decode cX9_isRich 49 = .ok (.getfield 7, 3) := dk_180 0 7 (dk_at dksX9_isRich_2 2 rfl rfl)
theorem dX9_isRich_52 : decode cX9_isRich 52 = .ok (.invokevirtual 26, 3) := dk_182 0 26 (dk_at dksX9_isRich_2 5 rfl rfl)
theorem dX9_isRich_55 : decode cX9_isRich 55 = .ok (.aload_n 0, 1) := dk_42 (dk_at dksX9_isRich_2 8 rfl rfl)
theorem dX9_isRich_56 : decode cX9_isRich 56 = .ok (.getfield 7, 3) := dk_180 0 7 (dk_at dksX9_isRich_2 9 rfl rfl)
theorem dX9_isRich_59 : decode cX9_isRich 59 = .ok (.invokevirtual 26, 3) := dk_182 0 26 (dk_at dksX9_isRich_2 12 rfl rfl)
theorem dX9_isRich_62 : decode cX9_isRich 62 = .ok (.aload_n 2, 1) := dk_44 (dk_at dksX9_isRich_2 15 rfl rfl)
theorem dX9_isRich_63 : decode cX9_isRich 63 = .ok (.if_acmp .eq 7, 3) := dk_165 0 7 (dk_at dksX9_isRich_2 16 rfl rfl)
theorem dX9_isRich_66 : decode cX9_isRich 66 = .ok (.iconst 1, 1) := dk_4 (dk_at dksX9_isRich_2 19 rfl rfl)
theorem dX9_isRich_67 : decode cX9_isRich 67 = .ok (.goto 4, 3) := dk_167 0 4 (dk_at dksX9_isRich_2 20 rfl rfl)
theorem dX9_isRich_70 : decode cX9_isRich 70 = .ok (.iconst 0, 1) := dk_3 (dk_at dksX9_isRich_2 23 rfl rfl)
theorem dX9_isRich_71 : decode cX9_isRich 71 = .ok (.ireturn, 1) := dk_172 (dk_at dksX9_isRich_3 0 rfl rfl)
abbrev cX9_isLeft : ByteArray := prog_3_method_3_code
def yX9_isLeft : MethodName := ⟨RX9, "isLeft", "()Z"⟩
def dkwX9_isLeft_0 : List UInt8 := [42, 180, 0, 16, 180, 0, 32, 42, 180, 0, 7, 4, 96, 160, 0, 7, 4, 167, 0, 4, 3, 172]
abbrev dktX9_isLeft_0 : List UInt8 := dkwX9_isLeft_0 ++ []
theorem dksX9_isLeft_0 : cX9_isLeft.data.toList.drop 0 = dktX9_isLeft_0 := by decide +kernel
theorem dX9_isLeft_0 : decode cX9_isLeft 0 = .ok (.aload_n 0, 1) := dk_42 (dk_at dksX9_isLeft_0 0 rfl rfl)
theorem dX9_isLeft_1 : decode cX9_isLeft 1 = .ok (.getfield 16, 3) := dk_180 0 16 (dk_at dksX9_isLeft_0 1 rfl rfl)
theorem dX9_isLeft_4 : decode cX9_isLeft 4 = .ok (.getfield 32, 3) := dk_180 0 32 (dk_at dksX9_isLeft_0 4 rfl rfl)
theorem dX9_isLeft_7 : decode cX9_isLeft 7 = .ok (.aload_n 0, 1) := dk_42 (dk_at dksX9_isLeft_0 7 rfl rfl)
theorem dX9_isLeft_8 : decode cX9_isLeft 8 = .ok (.getfield 7, 3) := dk_180 0 7 (dk_at dksX9_isLeft_0 8 rfl rfl)
theorem dX9_isLeft_11 : decode cX9_isLeft 11 = .ok (.iconst 1, 1) := dk_4 (dk_at dksX9_isLeft_0 11 rfl rfl)
theorem dX9_isLeft_12 : decode cX9_isLeft 12 = .ok (.iadd, 1) := dk_96 (dk_at dksX9_isLeft_0 12 rfl rfl)
theorem dX9_isLeft_13 : decode cX9_isLeft 13 = .ok (.if_icmp .ne 7, 3) := dk_160 0 7 (dk_at dksX9_isLeft_0 13 rfl rfl)
theorem dX9_isLeft_16 : decode cX9_isLeft 16 = .ok (.iconst 1, 1) := dk_4 (dk_at dksX9_isLeft_0 16 rfl rfl)
theorem dX9_isLeft_17 : decode cX9_isLeft 17 = .ok (.goto 4, 3) := dk_167 0 4 (dk_at dksX9_isLeft_0 17 rfl rfl)
theorem dX9_isLeft_20 : decode cX9_isLeft 20 = .ok (.iconst 0, 1) := dk_3 (dk_at dksX9_isLeft_0 20 rfl rfl)
theorem dX9_isLeft_21 : decode cX9_isLeft 21 = .ok (.ireturn, 1) := dk_172 (dk_at dksX9_isLeft_0 21 rfl rfl)
abbrev cX9_at : ByteArray := prog_3_method_2_code
def yX9_at : MethodName := ⟨RX9, "at", "(I)LCountedSkipLists$Node;"⟩
def dkwX9_at_1 : List UInt8 := [182, 0, 26, 77, 132, 3, 1, 167, 255, 239, 44, 176]
abbrev dktX9_at_1 : List UInt8 := dkwX9_at_1 ++ []
def dkwX9_at_0 : List UInt8 := [42, 180, 0, 16, 42, 180, 0, 7, 182, 0, 26, 77, 3, 62, 29, 27, 162, 0, 18, 44, 42, 180, 0, 7]
abbrev dktX9_at_0 : List UInt8 := dkwX9_at_0 ++ dktX9_at_1
theorem dksX9_at_0 : cX9_at.data.toList.drop 0 = dktX9_at_0 := by decide +kernel
theorem dksX9_at_1 : cX9_at.data.toList.drop 24 = dktX9_at_1 := dk_seg dksX9_at_0 24 rfl rfl
theorem dX9_at_0 : decode cX9_at 0 = .ok (.aload_n 0, 1) := dk_42 (dk_at dksX9_at_0 0 rfl rfl)
theorem dX9_at_1 : decode cX9_at 1 = .ok (.getfield 16, 3) := dk_180 0 16 (dk_at dksX9_at_0 1 rfl rfl)
theorem dX9_at_4 : decode cX9_at 4 = .ok (.aload_n 0, 1) := dk_42 (dk_at dksX9_at_0 4 rfl rfl)
theorem dX9_at_5 : decode cX9_at 5 = .ok (.getfield 7, 3) := dk_180 0 7 (dk_at dksX9_at_0 5 rfl rfl)
theorem dX9_at_8 : decode cX9_at 8 = .ok (.invokevirtual 26, 3) := dk_182 0 26 (dk_at dksX9_at_0 8 rfl rfl)
theorem dX9_at_11 : decode cX9_at 11 = .ok (.astore_n 2, 1) := dk_77 (dk_at dksX9_at_0 11 rfl rfl)
theorem dX9_at_12 : decode cX9_at 12 = .ok (.iconst 0, 1) := dk_3 (dk_at dksX9_at_0 12 rfl rfl)
theorem dX9_at_13 : decode cX9_at 13 = .ok (.istore_n 3, 1) := dk_62 (dk_at dksX9_at_0 13 rfl rfl)
theorem dX9_at_14 : decode cX9_at 14 = .ok (.iload_n 3, 1) := dk_29 (dk_at dksX9_at_0 14 rfl rfl)
theorem dX9_at_15 : decode cX9_at 15 = .ok (.iload_n 1, 1) := dk_27 (dk_at dksX9_at_0 15 rfl rfl)
theorem dX9_at_16 : decode cX9_at 16 = .ok (.if_icmp .ge 18, 3) := dk_162 0 18 (dk_at dksX9_at_0 16 rfl rfl)
theorem dX9_at_19 : decode cX9_at 19 = .ok (.aload_n 2, 1) := dk_44 (dk_at dksX9_at_0 19 rfl rfl)
theorem dX9_at_20 : decode cX9_at 20 = .ok (.aload_n 0, 1) := dk_42 (dk_at dksX9_at_0 20 rfl rfl)
theorem dX9_at_21 : decode cX9_at 21 = .ok (.getfield 7, 3) := dk_180 0 7 (dk_at dksX9_at_0 21 rfl rfl)
theorem dX9_at_24 : decode cX9_at 24 = .ok (.invokevirtual 26, 3) := dk_182 0 26 (dk_at dksX9_at_1 0 rfl rfl)
theorem dX9_at_27 : decode cX9_at 27 = .ok (.astore_n 2, 1) := dk_77 (dk_at dksX9_at_1 3 rfl rfl)
theorem dX9_at_28 : decode cX9_at 28 = .ok (.iinc 3 1, 3) := dk_132 3 1 (dk_at dksX9_at_1 4 rfl rfl)
theorem dX9_at_31 : decode cX9_at 31 = .ok (.goto (-17), 3) := dk_167 255 239 (dk_at dksX9_at_1 7 rfl rfl)
theorem dX9_at_34 : decode cX9_at 34 = .ok (.aload_n 2, 1) := dk_44 (dk_at dksX9_at_1 10 rfl rfl)
theorem dX9_at_35 : decode cX9_at 35 = .ok (.areturn, 1) := dk_176 (dk_at dksX9_at_1 11 rfl rfl)
abbrev cX9_separator : ByteArray := prog_3_method_4_code
def yX9_separator : MethodName := ⟨RX9, "separator", "()LCountedSkipLists$Node;"⟩
def dkwX9_separator_0 : List UInt8 := [42, 182, 0, 35, 153, 0, 10, 42, 180, 0, 16, 167, 0, 7, 42, 180, 0, 20, 176]
abbrev dktX9_separator_0 : List UInt8 := dkwX9_separator_0 ++ []
theorem dksX9_separator_0 : cX9_separator.data.toList.drop 0 = dktX9_separator_0 := by decide +kernel
theorem dX9_separator_0 : decode cX9_separator 0 = .ok (.aload_n 0, 1) := dk_42 (dk_at dksX9_separator_0 0 rfl rfl)
theorem dX9_separator_1 : decode cX9_separator 1 = .ok (.invokevirtual 35, 3) := dk_182 0 35 (dk_at dksX9_separator_0 1 rfl rfl)
theorem dX9_separator_4 : decode cX9_separator 4 = .ok (.ifCond .eq 10, 3) := dk_153 0 10 (dk_at dksX9_separator_0 4 rfl rfl)
theorem dX9_separator_7 : decode cX9_separator 7 = .ok (.aload_n 0, 1) := dk_42 (dk_at dksX9_separator_0 7 rfl rfl)
theorem dX9_separator_8 : decode cX9_separator 8 = .ok (.getfield 16, 3) := dk_180 0 16 (dk_at dksX9_separator_0 8 rfl rfl)
theorem dX9_separator_11 : decode cX9_separator 11 = .ok (.goto 7, 3) := dk_167 0 7 (dk_at dksX9_separator_0 11 rfl rfl)
theorem dX9_separator_14 : decode cX9_separator 14 = .ok (.aload_n 0, 1) := dk_42 (dk_at dksX9_separator_0 14 rfl rfl)
theorem dX9_separator_15 : decode cX9_separator 15 = .ok (.getfield 20, 3) := dk_180 0 20 (dk_at dksX9_separator_0 15 rfl rfl)
theorem dX9_separator_18 : decode cX9_separator 18 = .ok (.areturn, 1) := dk_176 (dk_at dksX9_separator_0 18 rfl rfl)
abbrev cX9_nearest : ByteArray := prog_3_method_5_code
def yX9_nearest : MethodName := ⟨RX9, "nearest", "()LCountedSkipLists$Node;"⟩
def dkwX9_nearest_2 : List UInt8 := [180, 0, 7, 182, 0, 26, 76, 167, 255, 232, 43, 176]
abbrev dktX9_nearest_2 : List UInt8 := dkwX9_nearest_2 ++ []
def dkwX9_nearest_1 : List UInt8 := [180, 0, 7, 182, 0, 26, 76, 43, 42, 180, 0, 7, 182, 0, 26, 42, 180, 0, 16, 165, 0, 15, 43, 42]
abbrev dktX9_nearest_1 : List UInt8 := dkwX9_nearest_1 ++ dktX9_nearest_2
def dkwX9_nearest_0 : List UInt8 := [42, 182, 0, 35, 154, 0, 15, 42, 180, 0, 20, 42, 180, 0, 7, 182, 0, 26, 176, 42, 180, 0, 23, 42]
abbrev dktX9_nearest_0 : List UInt8 := dkwX9_nearest_0 ++ dktX9_nearest_1
theorem dksX9_nearest_0 : cX9_nearest.data.toList.drop 0 = dktX9_nearest_0 := by decide +kernel
theorem dksX9_nearest_1 : cX9_nearest.data.toList.drop 24 = dktX9_nearest_1 := dk_seg dksX9_nearest_0 24 rfl rfl
theorem dksX9_nearest_2 : cX9_nearest.data.toList.drop 48 = dktX9_nearest_2 := dk_seg dksX9_nearest_1 24 rfl rfl
theorem dX9_nearest_0 : decode cX9_nearest 0 = .ok (.aload_n 0, 1) := dk_42 (dk_at dksX9_nearest_0 0 rfl rfl)
theorem dX9_nearest_1 : decode cX9_nearest 1 = .ok (.invokevirtual 35, 3) := dk_182 0 35 (dk_at dksX9_nearest_0 1 rfl rfl)
theorem dX9_nearest_4 : decode cX9_nearest 4 = .ok (.ifCond .ne 15, 3) := dk_154 0 15 (dk_at dksX9_nearest_0 4 rfl rfl)
theorem dX9_nearest_7 : decode cX9_nearest 7 = .ok (.aload_n 0, 1) := dk_42 (dk_at dksX9_nearest_0 7 rfl rfl)
theorem dX9_nearest_8 : decode cX9_nearest 8 = .ok (.getfield 20, 3) := dk_180 0 20 (dk_at dksX9_nearest_0 8 rfl rfl)
theorem dX9_nearest_11 : decode cX9_nearest 11 = .ok (.aload_n 0, 1) := dk_42 (dk_at dksX9_nearest_0 11 rfl rfl)
theorem dX9_nearest_12 : decode cX9_nearest 12 = .ok (.getfield 7, 3) := dk_180 0 7 (dk_at dksX9_nearest_0 12 rfl rfl)
theorem dX9_nearest_15 : decode cX9_nearest 15 = .ok (.invokevirtual 26, 3) := dk_182 0 26 (dk_at dksX9_nearest_0 15 rfl rfl)
theorem dX9_nearest_18 : decode cX9_nearest 18 = .ok (.areturn, 1) := dk_176 (dk_at dksX9_nearest_0 18 rfl rfl)
theorem dX9_nearest_19 : decode cX9_nearest 19 = .ok (.aload_n 0, 1) := dk_42 (dk_at dksX9_nearest_0 19 rfl rfl)
theorem dX9_nearest_20 : decode cX9_nearest 20 = .ok (.getfield 23, 3) := dk_180 0 23 (dk_at dksX9_nearest_0 20 rfl rfl)
theorem dX9_nearest_23 : decode cX9_nearest 23 = .ok (.aload_n 0, 1) := dk_42 (dk_at dksX9_nearest_0 23 rfl rfl)
theorem dX9_nearest_24 : decode cX9_nearest 24 = .ok (.getfield 7, 3) := dk_180 0 7 (dk_at dksX9_nearest_1 0 rfl rfl)
theorem dX9_nearest_27 : decode cX9_nearest 27 = .ok (.invokevirtual 26, 3) := dk_182 0 26 (dk_at dksX9_nearest_1 3 rfl rfl)
theorem dX9_nearest_30 : decode cX9_nearest 30 = .ok (.astore_n 1, 1) := dk_76 (dk_at dksX9_nearest_1 6 rfl rfl)
theorem dX9_nearest_31 : decode cX9_nearest 31 = .ok (.aload_n 1, 1) := dk_43 (dk_at dksX9_nearest_1 7 rfl rfl)
theorem dX9_nearest_32 : decode cX9_nearest 32 = .ok (.aload_n 0, 1) := dk_42 (dk_at dksX9_nearest_1 8 rfl rfl)
theorem dX9_nearest_33 : decode cX9_nearest 33 = .ok (.getfield 7, 3) := dk_180 0 7 (dk_at dksX9_nearest_1 9 rfl rfl)
theorem dX9_nearest_36 : decode cX9_nearest 36 = .ok (.invokevirtual 26, 3) := dk_182 0 26 (dk_at dksX9_nearest_1 12 rfl rfl)
theorem dX9_nearest_39 : decode cX9_nearest 39 = .ok (.aload_n 0, 1) := dk_42 (dk_at dksX9_nearest_1 15 rfl rfl)
theorem dX9_nearest_40 : decode cX9_nearest 40 = .ok (.getfield 16, 3) := dk_180 0 16 (dk_at dksX9_nearest_1 16 rfl rfl)
theorem dX9_nearest_43 : decode cX9_nearest 43 = .ok (.if_acmp .eq 15, 3) := dk_165 0 15 (dk_at dksX9_nearest_1 19 rfl rfl)
theorem dX9_nearest_46 : decode cX9_nearest 46 = .ok (.aload_n 1, 1) := dk_43 (dk_at dksX9_nearest_1 22 rfl rfl)
theorem dX9_nearest_47 : decode cX9_nearest 47 = .ok (.aload_n 0, 1) := dk_42 (dk_at dksX9_nearest_1 23 rfl rfl)
theorem dX9_nearest_48 : decode cX9_nearest 48 = .ok (.getfield 7, 3) := dk_180 0 7 (dk_at dksX9_nearest_2 0 rfl rfl)
theorem dX9_nearest_51 : decode cX9_nearest 51 = .ok (.invokevirtual 26, 3) := dk_182 0 26 (dk_at dksX9_nearest_2 3 rfl rfl)
theorem dX9_nearest_54 : decode cX9_nearest 54 = .ok (.astore_n 1, 1) := dk_76 (dk_at dksX9_nearest_2 6 rfl rfl)
theorem dX9_nearest_55 : decode cX9_nearest 55 = .ok (.goto (-24), 3) := dk_167 255 232 (dk_at dksX9_nearest_2 7 rfl rfl)
theorem dX9_nearest_58 : decode cX9_nearest 58 = .ok (.aload_n 1, 1) := dk_43 (dk_at dksX9_nearest_2 10 rfl rfl)
theorem dX9_nearest_59 : decode cX9_nearest 59 = .ok (.areturn, 1) := dk_176 (dk_at dksX9_nearest_2 11 rfl rfl)
theorem q117 : (Jvm.Cond.initialized "CountedSkipLists$Gap") ∈ lw_all := lw_g (lw_at lw_m1 34 rfl) rfl
theorem q848 : (Jvm.Cond.fieldLinkNest "CountedSkipLists$Gap" (32 : Nat) "CountedSkipLists$Node" "height" "I" "CountedSkipLists") ∈ lw_tbl := lw_at lw_m4 45 rfl
theorem q937 : (Jvm.Cond.instantiable "CountedSkipLists$Gap" (5 : Nat)) ∈ lw_all := lw_g (lw_at lw_m4 134 rfl) rfl
theorem q939 : (Jvm.Cond.instanceMethod ({ cls := "CountedSkipLists$Gap", name := "<init>", desc := "(IILCountedSkipLists$Node;LCountedSkipLists$Node;LCountedSkipLists$Node;)V" } : Jvm.MethodName)) ∈ lw_all := lw_g (lw_at lw_m4 136 rfl) rfl
theorem q940 : (Jvm.Cond.code ({ cls := "CountedSkipLists$Gap", name := "<init>", desc := "(IILCountedSkipLists$Node;LCountedSkipLists$Node;LCountedSkipLists$Node;)V" } : Jvm.MethodName) prog_3_method_1_code (6 : Nat) (Option.none : Option Jvm.ClassFile.FieldType)) ∈ lw_all := lw_g (lw_at lw_m4 137 rfl) rfl
theorem q941 : (Jvm.Cond.methodLink "CountedSkipLists$Gap" (1 : Nat) ({ cls := "java/lang/Object", name := "<init>", desc := "()V" } : Jvm.MethodName)) ∈ lw_all := lw_g (lw_at lw_m4 138 rfl) rfl
theorem q942 : (Jvm.Cond.fieldLink "CountedSkipLists$Gap" (7 : Nat) "CountedSkipLists$Gap" "level" "I") ∈ lw_all := lw_g (lw_at lw_m4 139 rfl) rfl
theorem q944 : (Jvm.Cond.fieldLink "CountedSkipLists$Gap" (13 : Nat) "CountedSkipLists$Gap" "size" "I") ∈ lw_all := lw_g (lw_at lw_m4 141 rfl) rfl
theorem q947 : (Jvm.Cond.fieldLink "CountedSkipLists$Gap" (16 : Nat) "CountedSkipLists$Gap" "before" "LCountedSkipLists$Node;") ∈ lw_all := lw_g (lw_at lw_m4 144 rfl) rfl
theorem q948 : (Jvm.Cond.fieldLink "CountedSkipLists$Gap" (20 : Nat) "CountedSkipLists$Gap" "beyond" "LCountedSkipLists$Node;") ∈ lw_all := lw_g (lw_at lw_m4 145 rfl) rfl
theorem q949 : (Jvm.Cond.fieldLink "CountedSkipLists$Gap" (23 : Nat) "CountedSkipLists$Gap" "earlier" "LCountedSkipLists$Node;") ∈ lw_all := lw_g (lw_at lw_m4 146 rfl) rfl
theorem q950 : (Jvm.Cond.laysFinal "CountedSkipLists$Gap" "CountedSkipLists$Gap" "level" "I") ∈ lw_all := lw_g (lw_at lw_m4 147 rfl) rfl
theorem q951 : (Jvm.Cond.soleField "CountedSkipLists$Gap" "level") ∈ lw_all := lw_g (lw_at lw_m4 148 rfl) rfl
theorem q952 : (Jvm.Cond.laysFinal "CountedSkipLists$Gap" "CountedSkipLists$Gap" "size" "I") ∈ lw_all := lw_g (lw_at lw_m4 149 rfl) rfl
theorem q953 : (Jvm.Cond.soleField "CountedSkipLists$Gap" "size") ∈ lw_all := lw_g (lw_at lw_m4 150 rfl) rfl
theorem q954 : (Jvm.Cond.laysFinal "CountedSkipLists$Gap" "CountedSkipLists$Gap" "before" "LCountedSkipLists$Node;") ∈ lw_all := lw_g (lw_at lw_m4 151 rfl) rfl
theorem q955 : (Jvm.Cond.soleField "CountedSkipLists$Gap" "before") ∈ lw_all := lw_g (lw_at lw_m4 152 rfl) rfl
theorem q956 : (Jvm.Cond.laysFinal "CountedSkipLists$Gap" "CountedSkipLists$Gap" "beyond" "LCountedSkipLists$Node;") ∈ lw_all := lw_g (lw_at lw_m4 153 rfl) rfl
theorem q957 : (Jvm.Cond.soleField "CountedSkipLists$Gap" "beyond") ∈ lw_all := lw_g (lw_at lw_m4 154 rfl) rfl
theorem q958 : (Jvm.Cond.laysFinal "CountedSkipLists$Gap" "CountedSkipLists$Gap" "earlier" "LCountedSkipLists$Node;") ∈ lw_all := lw_g (lw_at lw_m4 155 rfl) rfl
theorem q959 : (Jvm.Cond.soleField "CountedSkipLists$Gap" "earlier") ∈ lw_all := lw_g (lw_at lw_m4 156 rfl) rfl
theorem q960 : (Jvm.Cond.superclass "CountedSkipLists$Gap" "java/lang/Object") ∈ lw_all := lw_g (lw_at lw_m4 157 rfl) rfl
theorem q982 : (Jvm.Cond.instanceMethod ({ cls := "CountedSkipLists$Gap", name := "isRich", desc := "()Z" } : Jvm.MethodName)) ∈ lw_all := lw_g (lw_at lw_m4 179 rfl) rfl
theorem q983 : (Jvm.Cond.selects "CountedSkipLists$Gap" ({ cls := "CountedSkipLists$Gap", name := "isRich", desc := "()Z" } : Jvm.MethodName) ({ cls := "CountedSkipLists$Gap", name := "isRich", desc := "()Z" } : Jvm.MethodName)) ∈ lw_all := lw_g (lw_at lw_m4 180 rfl) rfl
theorem q984 : (Jvm.Cond.code ({ cls := "CountedSkipLists$Gap", name := "isRich", desc := "()Z" } : Jvm.MethodName) prog_3_method_6_code (3 : Nat) (Option.some Jvm.ClassFile.FieldType.boolean)) ∈ lw_all := lw_g (lw_at lw_m4 181 rfl) rfl
theorem q985 : (Jvm.Cond.methodLink "CountedSkipLists$Gap" (35 : Nat) ({ cls := "CountedSkipLists$Gap", name := "isLeft", desc := "()Z" } : Jvm.MethodName)) ∈ lw_all := lw_g (lw_at lw_m4 182 rfl) rfl
theorem q986 : (Jvm.Cond.privateMethod ({ cls := "CountedSkipLists$Gap", name := "isLeft", desc := "()Z" } : Jvm.MethodName)) ∈ lw_tbl := lw_at lw_m4 183 rfl
theorem q987 : (Jvm.Cond.instanceMethod ({ cls := "CountedSkipLists$Gap", name := "isLeft", desc := "()Z" } : Jvm.MethodName)) ∈ lw_all := lw_g (lw_at lw_m4 184 rfl) rfl
theorem q988 : (Jvm.Cond.code ({ cls := "CountedSkipLists$Gap", name := "isLeft", desc := "()Z" } : Jvm.MethodName) prog_3_method_3_code (1 : Nat) (Option.some Jvm.ClassFile.FieldType.boolean)) ∈ lw_all := lw_g (lw_at lw_m4 185 rfl) rfl
theorem q989 : (Jvm.Cond.methodLink "CountedSkipLists$Gap" (26 : Nat) ({ cls := "CountedSkipLists$Node", name := "next", desc := "(I)LCountedSkipLists$Node;" } : Jvm.MethodName)) ∈ lw_all := lw_g (lw_at lw_m4 186 rfl) rfl
theorem q1001 : (Jvm.Cond.instanceMethod ({ cls := "CountedSkipLists$Gap", name := "at", desc := "(I)LCountedSkipLists$Node;" } : Jvm.MethodName)) ∈ lw_all := lw_g (lw_at lw_m4 198 rfl) rfl
theorem q1002 : (Jvm.Cond.selects "CountedSkipLists$Gap" ({ cls := "CountedSkipLists$Gap", name := "at", desc := "(I)LCountedSkipLists$Node;" } : Jvm.MethodName) ({ cls := "CountedSkipLists$Gap", name := "at", desc := "(I)LCountedSkipLists$Node;" } : Jvm.MethodName)) ∈ lw_all := lw_g (lw_at lw_m4 199 rfl) rfl
theorem q1003 : (Jvm.Cond.code ({ cls := "CountedSkipLists$Gap", name := "at", desc := "(I)LCountedSkipLists$Node;" } : Jvm.MethodName) prog_3_method_2_code (4 : Nat) (Option.some (Jvm.ClassFile.FieldType.object "CountedSkipLists$Node"))) ∈ lw_all := lw_g (lw_at lw_m4 200 rfl) rfl
theorem q1016 : (Jvm.Cond.instanceMethod ({ cls := "CountedSkipLists$Gap", name := "separator", desc := "()LCountedSkipLists$Node;" } : Jvm.MethodName)) ∈ lw_all := lw_g (lw_at lw_m4 213 rfl) rfl
theorem q1017 : (Jvm.Cond.selects "CountedSkipLists$Gap" ({ cls := "CountedSkipLists$Gap", name := "separator", desc := "()LCountedSkipLists$Node;" } : Jvm.MethodName) ({ cls := "CountedSkipLists$Gap", name := "separator", desc := "()LCountedSkipLists$Node;" } : Jvm.MethodName)) ∈ lw_all := lw_g (lw_at lw_m4 214 rfl) rfl
theorem q1018 : (Jvm.Cond.code ({ cls := "CountedSkipLists$Gap", name := "separator", desc := "()LCountedSkipLists$Node;" } : Jvm.MethodName) prog_3_method_4_code (1 : Nat) (Option.some (Jvm.ClassFile.FieldType.object "CountedSkipLists$Node"))) ∈ lw_all := lw_g (lw_at lw_m4 215 rfl) rfl
theorem q1020 : (Jvm.Cond.instanceMethod ({ cls := "CountedSkipLists$Gap", name := "nearest", desc := "()LCountedSkipLists$Node;" } : Jvm.MethodName)) ∈ lw_all := lw_g (lw_at lw_m4 217 rfl) rfl
theorem q1021 : (Jvm.Cond.selects "CountedSkipLists$Gap" ({ cls := "CountedSkipLists$Gap", name := "nearest", desc := "()LCountedSkipLists$Node;" } : Jvm.MethodName) ({ cls := "CountedSkipLists$Gap", name := "nearest", desc := "()LCountedSkipLists$Node;" } : Jvm.MethodName)) ∈ lw_all := lw_g (lw_at lw_m4 218 rfl) rfl
theorem q1022 : (Jvm.Cond.code ({ cls := "CountedSkipLists$Gap", name := "nearest", desc := "()LCountedSkipLists$Node;" } : Jvm.MethodName) prog_3_method_5_code (2 : Nat) (Option.some (Jvm.ClassFile.FieldType.object "CountedSkipLists$Node"))) ∈ lw_all := lw_g (lw_at lw_m4 219 rfl) rfl
theorem q1081 : (Jvm.Cond.selects "CountedSkipLists$Gap" ({ cls := "java/lang/Object", name := "getClass", desc := "()Ljava/lang/Class;" } : Jvm.MethodName) ({ cls := "java/lang/Object", name := "getClass", desc := "()Ljava/lang/Class;" } : Jvm.MethodName)) ∈ lw_all := lw_g (lw_at lw_m5 38 rfl) rfl
theorem q2676 : (Jvm.Cond.castable "CountedSkipLists$Gap" "java/lang/Object") ∈ lw_tbl := lw_at lw_m11 193 rfl
theorem in_X9 : ∀ w ∈ wsX90, w ∈ lw_all := lw_in wsX90 [950, 952, 954, 956, 958] (by decide +kernel) (by decide +kernel)

/-! CountedSkipLists$Mend -/
set_option maxRecDepth 100000
def RX10 : String := "CountedSkipLists$Mend"
abbrev cX10_values : ByteArray := prog_5_method_1_code
def yX10_values : MethodName := ⟨RX10, "values", "()[LCountedSkipLists$Mend;"⟩
def dkwX10_values_0 : List UInt8 := [178, 0, 13, 182, 0, 17, 192, 0, 18, 176]
abbrev dktX10_values_0 : List UInt8 := dkwX10_values_0 ++ []
theorem dksX10_values_0 : cX10_values.data.toList.drop 0 = dktX10_values_0 := by decide +kernel
theorem dX10_values_0 : decode cX10_values 0 = .ok (.getstatic 13, 3) := dk_178 0 13 (dk_at dksX10_values_0 0 rfl rfl)
theorem dX10_values_3 : decode cX10_values 3 = .ok (.invokevirtual 17, 3) := dk_182 0 17 (dk_at dksX10_values_0 3 rfl rfl)
theorem dX10_values_6 : decode cX10_values 6 = .ok (.checkcast 18, 3) := dk_192 0 18 (dk_at dksX10_values_0 6 rfl rfl)
theorem dX10_values_9 : decode cX10_values 9 = .ok (.areturn, 1) := dk_176 (dk_at dksX10_values_0 9 rfl rfl)
theorem q118 : (Jvm.Cond.initialized "CountedSkipLists$Mend") ∈ lw_all := lw_g (lw_at lw_m1 35 rfl) rfl
theorem q980 : (Jvm.Cond.laysStatic "CountedSkipLists$Mend" "DIVIDED" "LCountedSkipLists$Mend;") ∈ lw_tbl := lw_at lw_m4 177 rfl
theorem q991 : (Jvm.Cond.laysStatic "CountedSkipLists$Mend" "SHIFTED" "LCountedSkipLists$Mend;") ∈ lw_tbl := lw_at lw_m4 188 rfl
theorem q993 : (Jvm.Cond.laysStatic "CountedSkipLists$Mend" "MERGED" "LCountedSkipLists$Mend;") ∈ lw_tbl := lw_at lw_m4 190 rfl
theorem q995 : (Jvm.Cond.declares ({ cls := "CountedSkipLists$Mend", name := "moves", desc := "(LCountedSkipLists$SkipList;LCountedSkipLists$Gap;)I" } : Jvm.MethodName)) ∈ lw_tbl := lw_at lw_m4 192 rfl
theorem q996 : (Jvm.Cond.sameMethod "CountedSkipLists$Mend" "CountedSkipLists$Mend" "moves" "(LCountedSkipLists$SkipList;LCountedSkipLists$Gap;)I") ∈ lw_all := lw_g (lw_at lw_m4 193 rfl) rfl
theorem q1834 : (Jvm.Cond.sameMethod "CountedSkipLists$Mend" "java/lang/Enum" "ordinal" "()I") ∈ lw_all := lw_g (lw_at lw_m8 71 rfl) rfl
theorem q1946 : (Jvm.Cond.static ({ cls := "CountedSkipLists$Mend", name := "values", desc := "()[LCountedSkipLists$Mend;" } : Jvm.MethodName)) ∈ lw_all := lw_g (lw_at lw_m8 183 rfl) rfl
theorem q1947 : (Jvm.Cond.code ({ cls := "CountedSkipLists$Mend", name := "values", desc := "()[LCountedSkipLists$Mend;" } : Jvm.MethodName) prog_5_method_1_code (0 : Nat) (Option.some (Jvm.ClassFile.FieldType.array (Jvm.ClassFile.FieldType.object "CountedSkipLists$Mend")))) ∈ lw_all := lw_g (lw_at lw_m8 184 rfl) rfl
theorem q1948 : (Jvm.Cond.fieldLink "CountedSkipLists$Mend" (13 : Nat) "CountedSkipLists$Mend" "$VALUES" "[LCountedSkipLists$Mend;") ∈ lw_all := lw_g (lw_at lw_m8 185 rfl) rfl
theorem q1949 : (Jvm.Cond.laysStatic "CountedSkipLists$Mend" "$VALUES" "[LCountedSkipLists$Mend;") ∈ lw_tbl := lw_at lw_m8 186 rfl
theorem q1950 : (Jvm.Cond.methodLink "CountedSkipLists$Mend" (17 : Nat) ({ cls := "[LCountedSkipLists$Mend;", name := "clone", desc := "()Ljava/lang/Object;" } : Jvm.MethodName)) ∈ lw_all := lw_g (lw_at lw_m8 187 rfl) rfl
theorem q1955 : (Jvm.Cond.classLink "CountedSkipLists$Mend" (18 : Nat) "[LCountedSkipLists$Mend;") ∈ lw_all := lw_g (lw_at lw_m8 192 rfl) rfl
theorem q2661 : (Jvm.Cond.castable "CountedSkipLists$Mend" "java/lang/Object") ∈ lw_tbl := lw_at lw_m11 178 rfl

/-! CountedSkipLists$Entry -/
set_option maxRecDepth 100000
def RX11 : String := "CountedSkipLists$Entry"
def TX11 : u_T := fun k => match k with
  | 0 => ("CountedSkipLists$Entry", "mend", "LCountedSkipLists$Mend;", true)
  | 1 => ("CountedSkipLists$Entry", "level", "I", true)
  | _ => ("CountedSkipLists$Entry", "key", "I", true)
def tyX11 : Nat → FieldType := fun k => match k with
  | 0 => .object "CountedSkipLists$Mend"
  | 1 => .int
  | _ => .int
abbrev wsX110 : List Cond := u_ws RX11 TX11 3
theorem nmX11 : ∀ a, a < 3 → ∀ b, b < 3 → a ≠ b → (TX11 a).2.1 ≠ (TX11 b).2.1 := by decide +kernel
theorem tyX11_ok : ∀ k, k < 3 → parseFieldDescriptor (TX11 k).2.2.1 = some (tyX11 k) := by decide +kernel
abbrev cX11_init : ByteArray := prog_2_method_1_code
def yX11_init : MethodName := ⟨RX11, "<init>", "(LCountedSkipLists$Mend;II)V"⟩
def dkwX11_init_0 : List UInt8 := [42, 183, 0, 1, 42, 43, 181, 0, 7, 42, 28, 181, 0, 13, 42, 29, 181, 0, 17, 177]
abbrev dktX11_init_0 : List UInt8 := dkwX11_init_0 ++ []
theorem dksX11_init_0 : cX11_init.data.toList.drop 0 = dktX11_init_0 := by decide +kernel
theorem dX11_init_0 : decode cX11_init 0 = .ok (.aload_n 0, 1) := dk_42 (dk_at dksX11_init_0 0 rfl rfl)
theorem dX11_init_1 : decode cX11_init 1 = .ok (.invokespecial 1, 3) := dk_183 0 1 (dk_at dksX11_init_0 1 rfl rfl)
theorem dX11_init_4 : decode cX11_init 4 = .ok (.aload_n 0, 1) := dk_42 (dk_at dksX11_init_0 4 rfl rfl)
theorem dX11_init_5 : decode cX11_init 5 = .ok (.aload_n 1, 1) := dk_43 (dk_at dksX11_init_0 5 rfl rfl)
theorem dX11_init_6 : decode cX11_init 6 = .ok (.putfield 7, 3) := dk_181 0 7 (dk_at dksX11_init_0 6 rfl rfl)
theorem dX11_init_9 : decode cX11_init 9 = .ok (.aload_n 0, 1) := dk_42 (dk_at dksX11_init_0 9 rfl rfl)
theorem dX11_init_10 : decode cX11_init 10 = .ok (.iload_n 2, 1) := dk_28 (dk_at dksX11_init_0 10 rfl rfl)
theorem dX11_init_11 : decode cX11_init 11 = .ok (.putfield 13, 3) := dk_181 0 13 (dk_at dksX11_init_0 11 rfl rfl)
theorem dX11_init_14 : decode cX11_init 14 = .ok (.aload_n 0, 1) := dk_42 (dk_at dksX11_init_0 14 rfl rfl)
theorem dX11_init_15 : decode cX11_init 15 = .ok (.iload_n 3, 1) := dk_29 (dk_at dksX11_init_0 15 rfl rfl)
theorem dX11_init_16 : decode cX11_init 16 = .ok (.putfield 17, 3) := dk_181 0 17 (dk_at dksX11_init_0 16 rfl rfl)
theorem dX11_init_19 : decode cX11_init 19 = .ok (.return_, 1) := dk_177 (dk_at dksX11_init_0 19 rfl rfl)
abbrev cX11_mend : ByteArray := prog_2_method_5_code
def yX11_mend : MethodName := ⟨RX11, "mend", "()LCountedSkipLists$Mend;"⟩
theorem dX11_mend_0 : decode cX11_mend 0 = .ok (.aload_n 0, 1) := by decide +kernel
theorem dX11_mend_1 : decode cX11_mend 1 = .ok (.getfield 7, 3) := by decide +kernel
theorem dX11_mend_4 : decode cX11_mend 4 = .ok (.areturn, 1) := by decide +kernel
abbrev cX11_level : ByteArray := prog_2_method_6_code
def yX11_level : MethodName := ⟨RX11, "level", "()I"⟩
theorem dX11_level_0 : decode cX11_level 0 = .ok (.aload_n 0, 1) := by decide +kernel
theorem dX11_level_1 : decode cX11_level 1 = .ok (.getfield 13, 3) := by decide +kernel
theorem dX11_level_4 : decode cX11_level 4 = .ok (.ireturn, 1) := by decide +kernel
abbrev cX11_key : ByteArray := prog_2_method_7_code
def yX11_key : MethodName := ⟨RX11, "key", "()I"⟩
theorem dX11_key_0 : decode cX11_key 0 = .ok (.aload_n 0, 1) := by decide +kernel
theorem dX11_key_1 : decode cX11_key 1 = .ok (.getfield 17, 3) := by decide +kernel
theorem dX11_key_4 : decode cX11_key 4 = .ok (.ireturn, 1) := by decide +kernel
theorem q120 : (Jvm.Cond.initialized "CountedSkipLists$Entry") ∈ lw_all := lw_g (lw_at lw_m1 37 rfl) rfl
theorem q1038 : (Jvm.Cond.instantiable "CountedSkipLists$Entry" (3 : Nat)) ∈ lw_all := lw_g (lw_at lw_m4 235 rfl) rfl
theorem q1040 : (Jvm.Cond.instanceMethod ({ cls := "CountedSkipLists$Entry", name := "<init>", desc := "(LCountedSkipLists$Mend;II)V" } : Jvm.MethodName)) ∈ lw_all := lw_g (lw_at lw_m4 237 rfl) rfl
theorem q1041 : (Jvm.Cond.code ({ cls := "CountedSkipLists$Entry", name := "<init>", desc := "(LCountedSkipLists$Mend;II)V" } : Jvm.MethodName) prog_2_method_1_code (4 : Nat) (Option.none : Option Jvm.ClassFile.FieldType)) ∈ lw_all := lw_g (lw_at lw_m4 238 rfl) rfl
theorem q1042 : (Jvm.Cond.methodLink "CountedSkipLists$Entry" (1 : Nat) ({ cls := "java/lang/Record", name := "<init>", desc := "()V" } : Jvm.MethodName)) ∈ lw_all := lw_g (lw_at lw_m4 239 rfl) rfl
theorem q1046 : (Jvm.Cond.fieldLink "CountedSkipLists$Entry" (7 : Nat) "CountedSkipLists$Entry" "mend" "LCountedSkipLists$Mend;") ∈ lw_all := lw_g (lw_at lw_m5 3 rfl) rfl
theorem q1047 : (Jvm.Cond.fieldLink "CountedSkipLists$Entry" (13 : Nat) "CountedSkipLists$Entry" "level" "I") ∈ lw_all := lw_g (lw_at lw_m5 4 rfl) rfl
theorem q1048 : (Jvm.Cond.fieldLink "CountedSkipLists$Entry" (17 : Nat) "CountedSkipLists$Entry" "key" "I") ∈ lw_all := lw_g (lw_at lw_m5 5 rfl) rfl
theorem q1049 : (Jvm.Cond.laysFinal "CountedSkipLists$Entry" "CountedSkipLists$Entry" "mend" "LCountedSkipLists$Mend;") ∈ lw_all := lw_g (lw_at lw_m5 6 rfl) rfl
theorem q1050 : (Jvm.Cond.soleField "CountedSkipLists$Entry" "mend") ∈ lw_all := lw_g (lw_at lw_m5 7 rfl) rfl
theorem q1051 : (Jvm.Cond.laysFinal "CountedSkipLists$Entry" "CountedSkipLists$Entry" "level" "I") ∈ lw_all := lw_g (lw_at lw_m5 8 rfl) rfl
theorem q1052 : (Jvm.Cond.soleField "CountedSkipLists$Entry" "level") ∈ lw_all := lw_g (lw_at lw_m5 9 rfl) rfl
theorem q1053 : (Jvm.Cond.laysFinal "CountedSkipLists$Entry" "CountedSkipLists$Entry" "key" "I") ∈ lw_all := lw_g (lw_at lw_m5 10 rfl) rfl
theorem q1054 : (Jvm.Cond.soleField "CountedSkipLists$Entry" "key") ∈ lw_all := lw_g (lw_at lw_m5 11 rfl) rfl
theorem q1055 : (Jvm.Cond.superclass "CountedSkipLists$Entry" "java/lang/Record") ∈ lw_all := lw_g (lw_at lw_m5 12 rfl) rfl
theorem q1080 : (Jvm.Cond.selects "CountedSkipLists$Entry" ({ cls := "java/lang/Object", name := "getClass", desc := "()Ljava/lang/Class;" } : Jvm.MethodName) ({ cls := "java/lang/Object", name := "getClass", desc := "()Ljava/lang/Class;" } : Jvm.MethodName)) ∈ lw_all := lw_g (lw_at lw_m5 37 rfl) rfl
theorem q1830 : (Jvm.Cond.instanceMethod ({ cls := "CountedSkipLists$Entry", name := "mend", desc := "()LCountedSkipLists$Mend;" } : Jvm.MethodName)) ∈ lw_all := lw_g (lw_at lw_m8 67 rfl) rfl
theorem q1831 : (Jvm.Cond.selects "CountedSkipLists$Entry" ({ cls := "CountedSkipLists$Entry", name := "mend", desc := "()LCountedSkipLists$Mend;" } : Jvm.MethodName) ({ cls := "CountedSkipLists$Entry", name := "mend", desc := "()LCountedSkipLists$Mend;" } : Jvm.MethodName)) ∈ lw_all := lw_g (lw_at lw_m8 68 rfl) rfl
theorem q1832 : (Jvm.Cond.code ({ cls := "CountedSkipLists$Entry", name := "mend", desc := "()LCountedSkipLists$Mend;" } : Jvm.MethodName) prog_2_method_5_code (1 : Nat) (Option.some (Jvm.ClassFile.FieldType.object "CountedSkipLists$Mend"))) ∈ lw_all := lw_g (lw_at lw_m8 69 rfl) rfl
theorem q1849 : (Jvm.Cond.instanceMethod ({ cls := "CountedSkipLists$Entry", name := "level", desc := "()I" } : Jvm.MethodName)) ∈ lw_all := lw_g (lw_at lw_m8 86 rfl) rfl
theorem q1850 : (Jvm.Cond.selects "CountedSkipLists$Entry" ({ cls := "CountedSkipLists$Entry", name := "level", desc := "()I" } : Jvm.MethodName) ({ cls := "CountedSkipLists$Entry", name := "level", desc := "()I" } : Jvm.MethodName)) ∈ lw_all := lw_g (lw_at lw_m8 87 rfl) rfl
theorem q1851 : (Jvm.Cond.code ({ cls := "CountedSkipLists$Entry", name := "level", desc := "()I" } : Jvm.MethodName) prog_2_method_6_code (1 : Nat) (Option.some Jvm.ClassFile.FieldType.int)) ∈ lw_all := lw_g (lw_at lw_m8 88 rfl) rfl
theorem q1860 : (Jvm.Cond.instanceMethod ({ cls := "CountedSkipLists$Entry", name := "key", desc := "()I" } : Jvm.MethodName)) ∈ lw_all := lw_g (lw_at lw_m8 97 rfl) rfl
theorem q1861 : (Jvm.Cond.selects "CountedSkipLists$Entry" ({ cls := "CountedSkipLists$Entry", name := "key", desc := "()I" } : Jvm.MethodName) ({ cls := "CountedSkipLists$Entry", name := "key", desc := "()I" } : Jvm.MethodName)) ∈ lw_all := lw_g (lw_at lw_m8 98 rfl) rfl
theorem q1862 : (Jvm.Cond.code ({ cls := "CountedSkipLists$Entry", name := "key", desc := "()I" } : Jvm.MethodName) prog_2_method_7_code (1 : Nat) (Option.some Jvm.ClassFile.FieldType.int)) ∈ lw_all := lw_g (lw_at lw_m8 99 rfl) rfl
theorem q2680 : (Jvm.Cond.castable "CountedSkipLists$Entry" "java/lang/Object") ∈ lw_tbl := lw_at lw_m11 197 rfl
theorem in_X11 : ∀ w ∈ wsX110, w ∈ lw_all := lw_in wsX110 [1049, 1051, 1053] (by decide +kernel) (by decide +kernel)

/-! CountedSkipLists$SkipList$Search -/
set_option maxRecDepth 100000
def RX12 : String := "CountedSkipLists$SkipList$Search"
def TX12 : u_T := fun k => match k with
  | 0 => ("CountedSkipLists$SkipList$Search", "keys", "[I", true)
  | 1 => ("CountedSkipLists$SkipList$Search", "levels", "[I", true)
  | 2 => ("CountedSkipLists$SkipList$Search", "steps", "I", false)
  | 3 => ("CountedSkipLists$SkipList$Search", "looks", "I", false)
  | _ => ("CountedSkipLists$SkipList$Search", "this$0", "LCountedSkipLists$SkipList;", true)
def tyX12 : Nat → FieldType := fun k => match k with
  | 0 => .array .int
  | 1 => .array .int
  | 2 => .int
  | 3 => .int
  | _ => .object "CountedSkipLists$SkipList"
abbrev wsX120 : List Cond := u_ws RX12 TX12 5
theorem nmX12 : ∀ a, a < 5 → ∀ b, b < 5 → a ≠ b → (TX12 a).2.1 ≠ (TX12 b).2.1 := by decide +kernel
theorem tyX12_ok : ∀ k, k < 5 → parseFieldDescriptor (TX12 k).2.2.1 = some (tyX12 k) := by decide +kernel
abbrev cX12_init : ByteArray := prog_13_method_1_code
def yX12_init : MethodName := ⟨RX12, "<init>", "(LCountedSkipLists$SkipList;I)V"⟩
def dkwX12_init_5 : List UInt8 := [4, 96, 181, 0, 45, 167, 255, 180, 132, 4, 255, 167, 255, 169, 177]
abbrev dktX12_init_5 : List UInt8 := dkwX12_init_5 ++ []
def dkwX12_init_4 : List UInt8 := [180, 0, 45, 45, 180, 0, 42, 79, 42, 180, 0, 19, 42, 180, 0, 45, 21, 4, 79, 42, 89, 180, 0, 45]
abbrev dktX12_init_4 : List UInt8 := dkwX12_init_4 ++ dktX12_init_5
def dkwX12_init_3 : List UInt8 := [180, 0, 42, 28, 161, 0, 6, 167, 0, 47, 45, 21, 4, 182, 0, 32, 78, 42, 180, 0, 15, 42]
abbrev dktX12_init_3 : List UInt8 := dkwX12_init_3 ++ dktX12_init_4
def dkwX12_init_2 : List UInt8 := [182, 0, 32, 198, 0, 73, 42, 89, 180, 0, 38, 4, 96, 181, 0, 38, 45, 21, 4, 182, 0, 32]
abbrev dktX12_init_2 : List UInt8 := dkwX12_init_2 ++ dktX12_init_3
def dkwX12_init_1 : List UInt8 := [181, 0, 19, 43, 180, 0, 22, 78, 43, 182, 0, 28, 54, 4, 21, 4, 158, 0, 88, 45, 21, 4]
abbrev dktX12_init_1 : List UInt8 := dkwX12_init_1 ++ dktX12_init_2
def dkwX12_init_0 : List UInt8 := [42, 43, 181, 0, 3, 42, 183, 0, 9, 42, 16, 60, 188, 10, 181, 0, 15, 42, 16, 60, 188, 10]
abbrev dktX12_init_0 : List UInt8 := dkwX12_init_0 ++ dktX12_init_1
theorem dksX12_init_0 : cX12_init.data.toList.drop 0 = dktX12_init_0 := by decide +kernel
theorem dksX12_init_1 : cX12_init.data.toList.drop 22 = dktX12_init_1 := dk_seg dksX12_init_0 22 rfl rfl
theorem dksX12_init_2 : cX12_init.data.toList.drop 44 = dktX12_init_2 := dk_seg dksX12_init_1 22 rfl rfl
theorem dksX12_init_3 : cX12_init.data.toList.drop 66 = dktX12_init_3 := dk_seg dksX12_init_2 22 rfl rfl
theorem dksX12_init_4 : cX12_init.data.toList.drop 88 = dktX12_init_4 := dk_seg dksX12_init_3 22 rfl rfl
theorem dksX12_init_5 : cX12_init.data.toList.drop 112 = dktX12_init_5 := dk_seg dksX12_init_4 24 rfl rfl
theorem dX12_init_0 : decode cX12_init 0 = .ok (.aload_n 0, 1) := dk_42 (dk_at dksX12_init_0 0 rfl rfl)
theorem dX12_init_1 : decode cX12_init 1 = .ok (.aload_n 1, 1) := dk_43 (dk_at dksX12_init_0 1 rfl rfl)
theorem dX12_init_2 : decode cX12_init 2 = .ok (.putfield 3, 3) := dk_181 0 3 (dk_at dksX12_init_0 2 rfl rfl)
theorem dX12_init_5 : decode cX12_init 5 = .ok (.aload_n 0, 1) := dk_42 (dk_at dksX12_init_0 5 rfl rfl)
theorem dX12_init_6 : decode cX12_init 6 = .ok (.invokespecial 9, 3) := dk_183 0 9 (dk_at dksX12_init_0 6 rfl rfl)
theorem dX12_init_9 : decode cX12_init 9 = .ok (.aload_n 0, 1) := dk_42 (dk_at dksX12_init_0 9 rfl rfl)
theorem dX12_init_10 : decode cX12_init 10 = .ok (.bipush 60, 2) := dk_16 60 (dk_at dksX12_init_0 10 rfl rfl)
theorem dX12_init_12 : decode cX12_init 12 = .ok (.newarray .int, 2) := dk_188_10 (dk_at dksX12_init_0 12 rfl rfl)
theorem dX12_init_14 : decode cX12_init 14 = .ok (.putfield 15, 3) := dk_181 0 15 (dk_at dksX12_init_0 14 rfl rfl)
theorem dX12_init_17 : decode cX12_init 17 = .ok (.aload_n 0, 1) := dk_42 (dk_at dksX12_init_0 17 rfl rfl)
theorem dX12_init_18 : decode cX12_init 18 = .ok (.bipush 60, 2) := dk_16 60 (dk_at dksX12_init_0 18 rfl rfl)
theorem dX12_init_20 : decode cX12_init 20 = .ok (.newarray .int, 2) := dk_188_10 (dk_at dksX12_init_0 20 rfl rfl)
theorem dX12_init_22 : decode cX12_init 22 = .ok (.putfield 19, 3) := dk_181 0 19 (dk_at dksX12_init_1 0 rfl rfl)
theorem dX12_init_25 : decode cX12_init 25 = .ok (.aload_n 1, 1) := dk_43 (dk_at dksX12_init_1 3 rfl rfl)
theorem dX12_init_26 : decode cX12_init 26 = .ok (.getfield 22, 3) := dk_180 0 22 (dk_at dksX12_init_1 4 rfl rfl)
theorem dX12_init_29 : decode cX12_init 29 = .ok (.astore_n 3, 1) := dk_78 (dk_at dksX12_init_1 7 rfl rfl)
theorem dX12_init_30 : decode cX12_init 30 = .ok (.aload_n 1, 1) := dk_43 (dk_at dksX12_init_1 8 rfl rfl)
theorem dX12_init_31 : decode cX12_init 31 = .ok (.invokevirtual 28, 3) := dk_182 0 28 (dk_at dksX12_init_1 9 rfl rfl)
theorem dX12_init_34 : decode cX12_init 34 = .ok (.istore 4, 2) := dk_54 4 (dk_at dksX12_init_1 12 rfl rfl)
theorem dX12_init_36 : decode cX12_init 36 = .ok (.iload 4, 2) := dk_21 4 (dk_at dksX12_init_1 14 rfl rfl)
theorem dX12_init_38 : decode cX12_init 38 = .ok (.ifCond .le 88, 3) := dk_158 0 88 (dk_at dksX12_init_1 16 rfl rfl)
theorem dX12_init_41 : decode cX12_init 41 = .ok (.aload_n 3, 1) := dk_45 (dk_at dksX12_init_1 19 rfl rfl)
theorem dX12_init_42 : decode cX12_init 42 = .ok (.iload 4, 2) := dk_21 4 (dk_at dksX12_init_1 20 rfl rfl)
theorem dX12_init_44 : decode cX12_init 44 = .ok (.invokevirtual 32, 3) := dk_182 0 32 (dk_at dksX12_init_2 0 rfl rfl)
theorem dX12_init_47 : decode cX12_init 47 = .ok (.ifnull 73, 3) := dk_198 0 73 (dk_at dksX12_init_2 3 rfl rfl)
theorem dX12_init_50 : decode cX12_init 50 = .ok (.aload_n 0, 1) := dk_42 (dk_at dksX12_init_2 6 rfl rfl)
theorem dX12_init_51 : decode cX12_init 51 = .ok (.dup, 1) := dk_89 (dk_at dksX12_init_2 7 rfl rfl)
theorem dX12_init_52 : decode cX12_init 52 = .ok (.getfield 38, 3) := dk_180 0 38 (dk_at dksX12_init_2 8 rfl rfl)
theorem dX12_init_55 : decode cX12_init 55 = .ok (.iconst 1, 1) := dk_4 (dk_at dksX12_init_2 11 rfl rfl)
theorem dX12_init_56 : decode cX12_init 56 = .ok (.iadd, 1) := dk_96 (dk_at dksX12_init_2 12 rfl rfl)
theorem dX12_init_57 : decode cX12_init 57 = .ok (.putfield 38, 3) := dk_181 0 38 (dk_at dksX12_init_2 13 rfl rfl)
theorem dX12_init_60 : decode cX12_init 60 = .ok (.aload_n 3, 1) := dk_45 (dk_at dksX12_init_2 16 rfl rfl)
theorem dX12_init_61 : decode cX12_init 61 = .ok (.iload 4, 2) := dk_21 4 (dk_at dksX12_init_2 17 rfl rfl)
theorem dX12_init_63 : decode cX12_init 63 = .ok (.invokevirtual 32, 3) := dk_182 0 32 (dk_at dksX12_init_2 19 rfl rfl)
theorem dX12_init_66 : decode cX12_init 66 = .ok (.getfield 42, 3) := dk_180 0 42 (dk_at dksX12_init_3 0 rfl rfl)
theorem dX12_init_69 : decode cX12_init 69 = .ok (.iload_n 2, 1) := dk_28 (dk_at dksX12_init_3 3 rfl rfl)
theorem dX12_init_70 : decode cX12_init 70 = .ok (.if_icmp .lt 6, 3) := dk_161 0 6 (dk_at dksX12_init_3 4 rfl rfl)
theorem dX12_init_73 : decode cX12_init 73 = .ok (.goto 47, 3) := dk_167 0 47 (dk_at dksX12_init_3 7 rfl rfl)
theorem dX12_init_76 : decode cX12_init 76 = .ok (.aload_n 3, 1) := dk_45 (dk_at dksX12_init_3 10 rfl rfl)
theorem dX12_init_77 : decode cX12_init 77 = .ok (.iload 4, 2) := dk_21 4 (dk_at dksX12_init_3 11 rfl rfl)
theorem dX12_init_79 : decode cX12_init 79 = .ok (.invokevirtual 32, 3) := dk_182 0 32 (dk_at dksX12_init_3 13 rfl rfl)
theorem dX12_init_82 : decode cX12_init 82 = .ok (.astore_n 3, 1) := dk_78 (dk_at dksX12_init_3 16 rfl rfl)
theorem dX12_init_83 : decode cX12_init 83 = .ok (.aload_n 0, 1) := dk_42 (dk_at dksX12_init_3 17 rfl rfl)
theorem dX12_init_84 : decode cX12_init 84 = .ok (.getfield 15, 3) := dk_180 0 15 (dk_at dksX12_init_3 18 rfl rfl)
theorem dX12_init_87 : decode cX12_init 87 = .ok (.aload_n 0, 1) := dk_42 (dk_at dksX12_init_3 21 rfl rfl)
theorem dX12_init_88 : decode cX12_init 88 = .ok (.getfield 45, 3) := dk_180 0 45 (dk_at dksX12_init_4 0 rfl rfl)
theorem dX12_init_91 : decode cX12_init 91 = .ok (.aload_n 3, 1) := dk_45 (dk_at dksX12_init_4 3 rfl rfl)
theorem dX12_init_92 : decode cX12_init 92 = .ok (.getfield 42, 3) := dk_180 0 42 (dk_at dksX12_init_4 4 rfl rfl)
theorem dX12_init_95 : decode cX12_init 95 = .ok (.iastore, 1) := dk_79 (dk_at dksX12_init_4 7 rfl rfl)
theorem dX12_init_96 : decode cX12_init 96 = .ok (.aload_n 0, 1) := dk_42 (dk_at dksX12_init_4 8 rfl rfl)
theorem dX12_init_97 : decode cX12_init 97 = .ok (.getfield 19, 3) := dk_180 0 19 (dk_at dksX12_init_4 9 rfl rfl)
theorem dX12_init_100 : decode cX12_init 100 = .ok (.aload_n 0, 1) := dk_42 (dk_at dksX12_init_4 12 rfl rfl)
theorem dX12_init_101 : decode cX12_init 101 = .ok (.getfield 45, 3) := dk_180 0 45 (dk_at dksX12_init_4 13 rfl rfl)
theorem dX12_init_104 : decode cX12_init 104 = .ok (.iload 4, 2) := dk_21 4 (dk_at dksX12_init_4 16 rfl rfl)
theorem dX12_init_106 : decode cX12_init 106 = .ok (.iastore, 1) := dk_79 (dk_at dksX12_init_4 18 rfl rfl)
theorem dX12_init_107 : decode cX12_init 107 = .ok (.aload_n 0, 1) := dk_42 (dk_at dksX12_init_4 19 rfl rfl)
theorem dX12_init_108 : decode cX12_init 108 = .ok (.dup, 1) := dk_89 (dk_at dksX12_init_4 20 rfl rfl)
theorem dX12_init_109 : decode cX12_init 109 = .ok (.getfield 45, 3) := dk_180 0 45 (dk_at dksX12_init_4 21 rfl rfl)
theorem dX12_init_112 : decode cX12_init 112 = .ok (.iconst 1, 1) := dk_4 (dk_at dksX12_init_5 0 rfl rfl)
theorem dX12_init_113 : decode cX12_init 113 = .ok (.iadd, 1) := dk_96 (dk_at dksX12_init_5 1 rfl rfl)
theorem dX12_init_114 : decode cX12_init 114 = .ok (.putfield 45, 3) := dk_181 0 45 (dk_at dksX12_init_5 2 rfl rfl)
theorem dX12_init_117 : decode cX12_init 117 = .ok (.goto (-76), 3) := dk_167 255 180 (dk_at dksX12_init_5 5 rfl rfl)
theorem dX12_init_120 : decode cX12_init 120 = .ok (.iinc 4 (-1), 3) := dk_132 4 255 (dk_at dksX12_init_5 8 rfl rfl)
theorem dX12_init_123 : decode cX12_init 123 = .ok (.goto (-87), 3) := dk_167 255 169 (dk_at dksX12_init_5 11 rfl rfl)
theorem dX12_init_126 : decode cX12_init 126 = .ok (.return_, 1) := dk_177 (dk_at dksX12_init_5 14 rfl rfl)
theorem q124 : (Jvm.Cond.initialized "CountedSkipLists$SkipList$Search") ∈ lw_all := lw_g (lw_at lw_m1 41 rfl) rfl
theorem q830 : (Jvm.Cond.fieldLinkNest "CountedSkipLists$SkipList$Search" (42 : Nat) "CountedSkipLists$Node" "key" "I" "CountedSkipLists") ∈ lw_tbl := lw_at lw_m4 27 rfl
theorem q872 : (Jvm.Cond.fieldLinkNest "CountedSkipLists$SkipList$Search" (22 : Nat) "CountedSkipLists$SkipList" "head" "LCountedSkipLists$Node;" "CountedSkipLists") ∈ lw_tbl := lw_at lw_m4 69 rfl
theorem q1089 : (Jvm.Cond.selects "CountedSkipLists$SkipList$Search" ({ cls := "java/lang/Object", name := "getClass", desc := "()Ljava/lang/Class;" } : Jvm.MethodName) ({ cls := "java/lang/Object", name := "getClass", desc := "()Ljava/lang/Class;" } : Jvm.MethodName)) ∈ lw_all := lw_g (lw_at lw_m5 46 rfl) rfl
theorem q1359 : (Jvm.Cond.instantiable "CountedSkipLists$SkipList$Search" (5 : Nat)) ∈ lw_all := lw_g (lw_at lw_m6 76 rfl) rfl
theorem q1361 : (Jvm.Cond.instanceMethod ({ cls := "CountedSkipLists$SkipList$Search", name := "<init>", desc := "(LCountedSkipLists$SkipList;I)V" } : Jvm.MethodName)) ∈ lw_all := lw_g (lw_at lw_m6 78 rfl) rfl
theorem q1362 : (Jvm.Cond.code ({ cls := "CountedSkipLists$SkipList$Search", name := "<init>", desc := "(LCountedSkipLists$SkipList;I)V" } : Jvm.MethodName) prog_13_method_1_code (5 : Nat) (Option.none : Option Jvm.ClassFile.FieldType)) ∈ lw_all := lw_g (lw_at lw_m6 79 rfl) rfl
theorem q1363 : (Jvm.Cond.methodLink "CountedSkipLists$SkipList$Search" (9 : Nat) ({ cls := "java/lang/Object", name := "<init>", desc := "()V" } : Jvm.MethodName)) ∈ lw_all := lw_g (lw_at lw_m6 80 rfl) rfl
theorem q1364 : (Jvm.Cond.methodLink "CountedSkipLists$SkipList$Search" (28 : Nat) ({ cls := "CountedSkipLists$SkipList", name := "height", desc := "()I" } : Jvm.MethodName)) ∈ lw_all := lw_g (lw_at lw_m6 81 rfl) rfl
theorem q1365 : (Jvm.Cond.methodLink "CountedSkipLists$SkipList$Search" (32 : Nat) ({ cls := "CountedSkipLists$Node", name := "next", desc := "(I)LCountedSkipLists$Node;" } : Jvm.MethodName)) ∈ lw_all := lw_g (lw_at lw_m6 82 rfl) rfl
theorem q1366 : (Jvm.Cond.fieldLink "CountedSkipLists$SkipList$Search" (15 : Nat) "CountedSkipLists$SkipList$Search" "keys" "[I") ∈ lw_all := lw_g (lw_at lw_m6 83 rfl) rfl
theorem q1368 : (Jvm.Cond.fieldLink "CountedSkipLists$SkipList$Search" (19 : Nat) "CountedSkipLists$SkipList$Search" "levels" "[I") ∈ lw_all := lw_g (lw_at lw_m6 85 rfl) rfl
theorem q1370 : (Jvm.Cond.fieldLink "CountedSkipLists$SkipList$Search" (45 : Nat) "CountedSkipLists$SkipList$Search" "steps" "I") ∈ lw_all := lw_g (lw_at lw_m6 87 rfl) rfl
theorem q1372 : (Jvm.Cond.fieldLink "CountedSkipLists$SkipList$Search" (38 : Nat) "CountedSkipLists$SkipList$Search" "looks" "I") ∈ lw_all := lw_g (lw_at lw_m6 89 rfl) rfl
theorem q1374 : (Jvm.Cond.fieldLink "CountedSkipLists$SkipList$Search" (3 : Nat) "CountedSkipLists$SkipList$Search" "this$0" "LCountedSkipLists$SkipList;") ∈ lw_all := lw_g (lw_at lw_m6 91 rfl) rfl
theorem q1375 : (Jvm.Cond.laysFinal "CountedSkipLists$SkipList$Search" "CountedSkipLists$SkipList$Search" "keys" "[I") ∈ lw_all := lw_g (lw_at lw_m6 92 rfl) rfl
theorem q1376 : (Jvm.Cond.soleField "CountedSkipLists$SkipList$Search" "keys") ∈ lw_all := lw_g (lw_at lw_m6 93 rfl) rfl
theorem q1377 : (Jvm.Cond.laysFinal "CountedSkipLists$SkipList$Search" "CountedSkipLists$SkipList$Search" "levels" "[I") ∈ lw_all := lw_g (lw_at lw_m6 94 rfl) rfl
theorem q1378 : (Jvm.Cond.soleField "CountedSkipLists$SkipList$Search" "levels") ∈ lw_all := lw_g (lw_at lw_m6 95 rfl) rfl
theorem q1379 : (Jvm.Cond.lays "CountedSkipLists$SkipList$Search" "CountedSkipLists$SkipList$Search" "steps" "I") ∈ lw_all := lw_g (lw_at lw_m6 96 rfl) rfl
theorem q1380 : (Jvm.Cond.soleField "CountedSkipLists$SkipList$Search" "steps") ∈ lw_all := lw_g (lw_at lw_m6 97 rfl) rfl
theorem q1381 : (Jvm.Cond.lays "CountedSkipLists$SkipList$Search" "CountedSkipLists$SkipList$Search" "looks" "I") ∈ lw_all := lw_g (lw_at lw_m6 98 rfl) rfl
theorem q1382 : (Jvm.Cond.soleField "CountedSkipLists$SkipList$Search" "looks") ∈ lw_all := lw_g (lw_at lw_m6 99 rfl) rfl
theorem q1383 : (Jvm.Cond.laysFinal "CountedSkipLists$SkipList$Search" "CountedSkipLists$SkipList$Search" "this$0" "LCountedSkipLists$SkipList;") ∈ lw_all := lw_g (lw_at lw_m6 100 rfl) rfl
theorem q1384 : (Jvm.Cond.soleField "CountedSkipLists$SkipList$Search" "this$0") ∈ lw_all := lw_g (lw_at lw_m6 101 rfl) rfl
theorem q1385 : (Jvm.Cond.superclass "CountedSkipLists$SkipList$Search" "java/lang/Object") ∈ lw_all := lw_g (lw_at lw_m6 102 rfl) rfl
theorem q2683 : (Jvm.Cond.castable "CountedSkipLists$SkipList$Search" "java/lang/Object") ∈ lw_tbl := lw_at lw_m11 200 rfl
theorem in_X12 : ∀ w ∈ wsX120, w ∈ lw_all := lw_in wsX120 [1375, 1377, 1379, 1381, 1383] (by decide +kernel) (by decide +kernel)

/-! CountedSkipLists$Way -/
set_option maxRecDepth 100000
def RX13 : String := "CountedSkipLists$Way"
def TX13 : u_T := fun k => match k with
  | 0 => ("CountedSkipLists$Way", "key", "I", true)
  | _ => ("CountedSkipLists$Way", "steps", "I", true)
def tyX13 : Nat → FieldType := fun k => match k with
  | 0 => .int
  | _ => .int
abbrev wsX130 : List Cond := u_ws RX13 TX13 2
theorem nmX13 : ∀ a, a < 2 → ∀ b, b < 2 → a ≠ b → (TX13 a).2.1 ≠ (TX13 b).2.1 := by decide +kernel
theorem tyX13_ok : ∀ k, k < 2 → parseFieldDescriptor (TX13 k).2.2.1 = some (tyX13 k) := by decide +kernel
abbrev cX13_init : ByteArray := prog_17_method_1_code
def yX13_init : MethodName := ⟨RX13, "<init>", "(II)V"⟩
def dkwX13_init_0 : List UInt8 := [42, 183, 0, 1, 42, 27, 181, 0, 7, 42, 28, 181, 0, 13, 177]
abbrev dktX13_init_0 : List UInt8 := dkwX13_init_0 ++ []
theorem dksX13_init_0 : cX13_init.data.toList.drop 0 = dktX13_init_0 := by decide +kernel
theorem dX13_init_0 : decode cX13_init 0 = .ok (.aload_n 0, 1) := dk_42 (dk_at dksX13_init_0 0 rfl rfl)
theorem dX13_init_1 : decode cX13_init 1 = .ok (.invokespecial 1, 3) := dk_183 0 1 (dk_at dksX13_init_0 1 rfl rfl)
theorem dX13_init_4 : decode cX13_init 4 = .ok (.aload_n 0, 1) := dk_42 (dk_at dksX13_init_0 4 rfl rfl)
theorem dX13_init_5 : decode cX13_init 5 = .ok (.iload_n 1, 1) := dk_27 (dk_at dksX13_init_0 5 rfl rfl)
theorem dX13_init_6 : decode cX13_init 6 = .ok (.putfield 7, 3) := dk_181 0 7 (dk_at dksX13_init_0 6 rfl rfl)
theorem dX13_init_9 : decode cX13_init 9 = .ok (.aload_n 0, 1) := dk_42 (dk_at dksX13_init_0 9 rfl rfl)
theorem dX13_init_10 : decode cX13_init 10 = .ok (.iload_n 2, 1) := dk_28 (dk_at dksX13_init_0 10 rfl rfl)
theorem dX13_init_11 : decode cX13_init 11 = .ok (.putfield 13, 3) := dk_181 0 13 (dk_at dksX13_init_0 11 rfl rfl)
theorem dX13_init_14 : decode cX13_init 14 = .ok (.return_, 1) := dk_177 (dk_at dksX13_init_0 14 rfl rfl)
abbrev cX13_compareTo : ByteArray := prog_17_method_3_code
def yX13_compareTo : MethodName := ⟨RX13, "compareTo", "(Ljava/lang/Object;)I"⟩
def dkwX13_compareTo_0 : List UInt8 := [42, 43, 192, 0, 8, 182, 0, 22, 172]
abbrev dktX13_compareTo_0 : List UInt8 := dkwX13_compareTo_0 ++ []
theorem dksX13_compareTo_0 : cX13_compareTo.data.toList.drop 0 = dktX13_compareTo_0 := by decide +kernel
theorem dX13_compareTo_0 : decode cX13_compareTo 0 = .ok (.aload_n 0, 1) := dk_42 (dk_at dksX13_compareTo_0 0 rfl rfl)
theorem dX13_compareTo_1 : decode cX13_compareTo 1 = .ok (.aload_n 1, 1) := dk_43 (dk_at dksX13_compareTo_0 1 rfl rfl)
theorem dX13_compareTo_2 : decode cX13_compareTo 2 = .ok (.checkcast 8, 3) := dk_192 0 8 (dk_at dksX13_compareTo_0 2 rfl rfl)
theorem dX13_compareTo_5 : decode cX13_compareTo 5 = .ok (.invokevirtual 22, 3) := dk_182 0 22 (dk_at dksX13_compareTo_0 5 rfl rfl)
theorem dX13_compareTo_8 : decode cX13_compareTo 8 = .ok (.ireturn, 1) := dk_172 (dk_at dksX13_compareTo_0 8 rfl rfl)
abbrev cX13_compareTo_2 : ByteArray := prog_17_method_2_code
def yX13_compareTo_2 : MethodName := ⟨RX13, "compareTo", "(LCountedSkipLists$Way;)I"⟩
def dkwX13_compareTo_2_1 : List UInt8 := [167, 0, 14, 42, 180, 0, 7, 43, 180, 0, 7, 184, 0, 16, 172]
abbrev dktX13_compareTo_2_1 : List UInt8 := dkwX13_compareTo_2_1 ++ []
def dkwX13_compareTo_2_0 : List UInt8 := [42, 180, 0, 13, 43, 180, 0, 13, 159, 0, 17, 43, 180, 0, 13, 42, 180, 0, 13, 184, 0, 16]
abbrev dktX13_compareTo_2_0 : List UInt8 := dkwX13_compareTo_2_0 ++ dktX13_compareTo_2_1
theorem dksX13_compareTo_2_0 : cX13_compareTo_2.data.toList.drop 0 = dktX13_compareTo_2_0 := by decide +kernel
theorem dksX13_compareTo_2_1 : cX13_compareTo_2.data.toList.drop 22 = dktX13_compareTo_2_1 := dk_seg dksX13_compareTo_2_0 22 rfl rfl
theorem dX13_compareTo_2_0 : decode cX13_compareTo_2 0 = .ok (.aload_n 0, 1) := dk_42 (dk_at dksX13_compareTo_2_0 0 rfl rfl)
theorem dX13_compareTo_2_1 : decode cX13_compareTo_2 1 = .ok (.getfield 13, 3) := dk_180 0 13 (dk_at dksX13_compareTo_2_0 1 rfl rfl)
theorem dX13_compareTo_2_4 : decode cX13_compareTo_2 4 = .ok (.aload_n 1, 1) := dk_43 (dk_at dksX13_compareTo_2_0 4 rfl rfl)
theorem dX13_compareTo_2_5 : decode cX13_compareTo_2 5 = .ok (.getfield 13, 3) := dk_180 0 13 (dk_at dksX13_compareTo_2_0 5 rfl rfl)
theorem dX13_compareTo_2_8 : decode cX13_compareTo_2 8 = .ok (.if_icmp .eq 17, 3) := dk_159 0 17 (dk_at dksX13_compareTo_2_0 8 rfl rfl)
theorem dX13_compareTo_2_11 : decode cX13_compareTo_2 11 = .ok (.aload_n 1, 1) := dk_43 (dk_at dksX13_compareTo_2_0 11 rfl rfl)
theorem dX13_compareTo_2_12 : decode cX13_compareTo_2 12 = .ok (.getfield 13, 3) := dk_180 0 13 (dk_at dksX13_compareTo_2_0 12 rfl rfl)
theorem dX13_compareTo_2_15 : decode cX13_compareTo_2 15 = .ok (.aload_n 0, 1) := dk_42 (dk_at dksX13_compareTo_2_0 15 rfl rfl)
theorem dX13_compareTo_2_16 : decode cX13_compareTo_2 16 = .ok (.getfield 13, 3) := dk_180 0 13 (dk_at dksX13_compareTo_2_0 16 rfl rfl)
theorem dX13_compareTo_2_19 : decode cX13_compareTo_2 19 = .ok (.invokestatic 16, 3) := dk_184 0 16 (dk_at dksX13_compareTo_2_0 19 rfl rfl)
theorem dX13_compareTo_2_22 : decode cX13_compareTo_2 22 = .ok (.goto 14, 3) := dk_167 0 14 (dk_at dksX13_compareTo_2_1 0 rfl rfl)
theorem dX13_compareTo_2_25 : decode cX13_compareTo_2 25 = .ok (.aload_n 0, 1) := dk_42 (dk_at dksX13_compareTo_2_1 3 rfl rfl)
theorem dX13_compareTo_2_26 : decode cX13_compareTo_2 26 = .ok (.getfield 7, 3) := dk_180 0 7 (dk_at dksX13_compareTo_2_1 4 rfl rfl)
theorem dX13_compareTo_2_29 : decode cX13_compareTo_2 29 = .ok (.aload_n 1, 1) := dk_43 (dk_at dksX13_compareTo_2_1 7 rfl rfl)
theorem dX13_compareTo_2_30 : decode cX13_compareTo_2 30 = .ok (.getfield 7, 3) := dk_180 0 7 (dk_at dksX13_compareTo_2_1 8 rfl rfl)
theorem dX13_compareTo_2_33 : decode cX13_compareTo_2 33 = .ok (.invokestatic 16, 3) := dk_184 0 16 (dk_at dksX13_compareTo_2_1 11 rfl rfl)
theorem dX13_compareTo_2_36 : decode cX13_compareTo_2 36 = .ok (.ireturn, 1) := dk_172 (dk_at dksX13_compareTo_2_1 14 rfl rfl)
theorem q127 : (Jvm.Cond.initialized "CountedSkipLists$Way") ∈ lw_all := lw_g (lw_at lw_m1 44 rfl) rfl
theorem q1093 : (Jvm.Cond.selects "CountedSkipLists$Way" ({ cls := "java/lang/Object", name := "getClass", desc := "()Ljava/lang/Class;" } : Jvm.MethodName) ({ cls := "java/lang/Object", name := "getClass", desc := "()Ljava/lang/Class;" } : Jvm.MethodName)) ∈ lw_all := lw_g (lw_at lw_m5 50 rfl) rfl
theorem q1454 : (Jvm.Cond.instantiable "CountedSkipLists$Way" (2 : Nat)) ∈ lw_all := lw_g (lw_at lw_m6 171 rfl) rfl
theorem q1456 : (Jvm.Cond.instanceMethod ({ cls := "CountedSkipLists$Way", name := "<init>", desc := "(II)V" } : Jvm.MethodName)) ∈ lw_all := lw_g (lw_at lw_m6 173 rfl) rfl
theorem q1457 : (Jvm.Cond.code ({ cls := "CountedSkipLists$Way", name := "<init>", desc := "(II)V" } : Jvm.MethodName) prog_17_method_1_code (3 : Nat) (Option.none : Option Jvm.ClassFile.FieldType)) ∈ lw_all := lw_g (lw_at lw_m6 174 rfl) rfl
theorem q1458 : (Jvm.Cond.methodLink "CountedSkipLists$Way" (1 : Nat) ({ cls := "java/lang/Object", name := "<init>", desc := "()V" } : Jvm.MethodName)) ∈ lw_all := lw_g (lw_at lw_m6 175 rfl) rfl
theorem q1459 : (Jvm.Cond.fieldLink "CountedSkipLists$Way" (7 : Nat) "CountedSkipLists$Way" "key" "I") ∈ lw_all := lw_g (lw_at lw_m6 176 rfl) rfl
theorem q1461 : (Jvm.Cond.fieldLink "CountedSkipLists$Way" (13 : Nat) "CountedSkipLists$Way" "steps" "I") ∈ lw_all := lw_g (lw_at lw_m6 178 rfl) rfl
theorem q1462 : (Jvm.Cond.laysFinal "CountedSkipLists$Way" "CountedSkipLists$Way" "key" "I") ∈ lw_all := lw_g (lw_at lw_m6 179 rfl) rfl
theorem q1463 : (Jvm.Cond.soleField "CountedSkipLists$Way" "key") ∈ lw_all := lw_g (lw_at lw_m6 180 rfl) rfl
theorem q1464 : (Jvm.Cond.laysFinal "CountedSkipLists$Way" "CountedSkipLists$Way" "steps" "I") ∈ lw_all := lw_g (lw_at lw_m6 181 rfl) rfl
theorem q1465 : (Jvm.Cond.soleField "CountedSkipLists$Way" "steps") ∈ lw_all := lw_g (lw_at lw_m6 182 rfl) rfl
theorem q1466 : (Jvm.Cond.superclass "CountedSkipLists$Way" "java/lang/Object") ∈ lw_all := lw_g (lw_at lw_m6 183 rfl) rfl
theorem q1533 : (Jvm.Cond.castable "CountedSkipLists$Way" "java/lang/Comparable") ∈ lw_tbl := lw_at lw_m7 10 rfl
theorem q1534 : (Jvm.Cond.selects "CountedSkipLists$Way" ({ cls := "java/lang/Comparable", name := "compareTo", desc := "(Ljava/lang/Object;)I" } : Jvm.MethodName) ({ cls := "CountedSkipLists$Way", name := "compareTo", desc := "(Ljava/lang/Object;)I" } : Jvm.MethodName)) ∈ lw_all := lw_g (lw_at lw_m7 11 rfl) rfl
theorem q1535 : (Jvm.Cond.unhidden "CountedSkipLists$Way" "compareTo" "(Ljava/lang/Object;)I") ∈ lw_tbl := lw_at lw_m7 12 rfl
theorem q1536 : (Jvm.Cond.instanceMethod ({ cls := "CountedSkipLists$Way", name := "compareTo", desc := "(Ljava/lang/Object;)I" } : Jvm.MethodName)) ∈ lw_all := lw_g (lw_at lw_m7 13 rfl) rfl
theorem q1537 : (Jvm.Cond.publicMethod ({ cls := "CountedSkipLists$Way", name := "compareTo", desc := "(Ljava/lang/Object;)I" } : Jvm.MethodName)) ∈ lw_tbl := lw_at lw_m7 14 rfl
theorem q1538 : (Jvm.Cond.code ({ cls := "CountedSkipLists$Way", name := "compareTo", desc := "(Ljava/lang/Object;)I" } : Jvm.MethodName) prog_17_method_3_code (2 : Nat) (Option.some Jvm.ClassFile.FieldType.int)) ∈ lw_all := lw_g (lw_at lw_m7 15 rfl) rfl
theorem q1539 : (Jvm.Cond.classLink "CountedSkipLists$Way" (8 : Nat) "CountedSkipLists$Way") ∈ lw_all := lw_g (lw_at lw_m7 16 rfl) rfl
theorem q1540 : (Jvm.Cond.methodLink "CountedSkipLists$Way" (22 : Nat) ({ cls := "CountedSkipLists$Way", name := "compareTo", desc := "(LCountedSkipLists$Way;)I" } : Jvm.MethodName)) ∈ lw_all := lw_g (lw_at lw_m7 17 rfl) rfl
theorem q1541 : (Jvm.Cond.instanceMethod ({ cls := "CountedSkipLists$Way", name := "compareTo", desc := "(LCountedSkipLists$Way;)I" } : Jvm.MethodName)) ∈ lw_all := lw_g (lw_at lw_m7 18 rfl) rfl
theorem q1542 : (Jvm.Cond.selects "CountedSkipLists$Way" ({ cls := "CountedSkipLists$Way", name := "compareTo", desc := "(LCountedSkipLists$Way;)I" } : Jvm.MethodName) ({ cls := "CountedSkipLists$Way", name := "compareTo", desc := "(LCountedSkipLists$Way;)I" } : Jvm.MethodName)) ∈ lw_all := lw_g (lw_at lw_m7 19 rfl) rfl
theorem q1543 : (Jvm.Cond.code ({ cls := "CountedSkipLists$Way", name := "compareTo", desc := "(LCountedSkipLists$Way;)I" } : Jvm.MethodName) prog_17_method_2_code (2 : Nat) (Option.some Jvm.ClassFile.FieldType.int)) ∈ lw_all := lw_g (lw_at lw_m7 20 rfl) rfl
theorem q1544 : (Jvm.Cond.methodLink "CountedSkipLists$Way" (16 : Nat) ({ cls := "java/lang/Integer", name := "compare", desc := "(II)I" } : Jvm.MethodName)) ∈ lw_all := lw_g (lw_at lw_m7 21 rfl) rfl
theorem q2685 : (Jvm.Cond.castable "CountedSkipLists$Way" "java/lang/Object") ∈ lw_tbl := lw_at lw_m11 202 rfl
theorem in_X13 : ∀ w ∈ wsX130, w ∈ lw_all := lw_in wsX130 [1462, 1464] (by decide +kernel) (by decide +kernel)

/-! CountedSkipLists$Mend$3 -/
set_option maxRecDepth 100000
def RX14 : String := "CountedSkipLists$Mend$3"
abbrev cX14_moves : ByteArray := prog_8_method_2_code
def yX14_moves : MethodName := ⟨RX14, "moves", "(LCountedSkipLists$SkipList;LCountedSkipLists$Gap;)I"⟩
def dkwX14_moves_0 : List UInt8 := [44, 182, 0, 7, 78, 43, 45, 182, 0, 13, 45, 180, 0, 19, 172]
abbrev dktX14_moves_0 : List UInt8 := dkwX14_moves_0 ++ []
theorem dksX14_moves_0 : cX14_moves.data.toList.drop 0 = dktX14_moves_0 := by decide +kernel
theorem dX14_moves_0 : decode cX14_moves 0 = .ok (.aload_n 2, 1) := dk_44 (dk_at dksX14_moves_0 0 rfl rfl)
theorem dX14_moves_1 : decode cX14_moves 1 = .ok (.invokevirtual 7, 3) := dk_182 0 7 (dk_at dksX14_moves_0 1 rfl rfl)
theorem dX14_moves_4 : decode cX14_moves 4 = .ok (.astore_n 3, 1) := dk_78 (dk_at dksX14_moves_0 4 rfl rfl)
theorem dX14_moves_5 : decode cX14_moves 5 = .ok (.aload_n 1, 1) := dk_43 (dk_at dksX14_moves_0 5 rfl rfl)
theorem dX14_moves_6 : decode cX14_moves 6 = .ok (.aload_n 3, 1) := dk_45 (dk_at dksX14_moves_0 6 rfl rfl)
theorem dX14_moves_7 : decode cX14_moves 7 = .ok (.invokevirtual 13, 3) := dk_182 0 13 (dk_at dksX14_moves_0 7 rfl rfl)
theorem dX14_moves_10 : decode cX14_moves 10 = .ok (.aload_n 3, 1) := dk_45 (dk_at dksX14_moves_0 10 rfl rfl)
theorem dX14_moves_11 : decode cX14_moves 11 = .ok (.getfield 19, 3) := dk_180 0 19 (dk_at dksX14_moves_0 11 rfl rfl)
theorem dX14_moves_14 : decode cX14_moves 14 = .ok (.ireturn, 1) := dk_172 (dk_at dksX14_moves_0 14 rfl rfl)
theorem q831 : (Jvm.Cond.fieldLinkNest "CountedSkipLists$Mend$3" (19 : Nat) "CountedSkipLists$Node" "key" "I" "CountedSkipLists") ∈ lw_tbl := lw_at lw_m4 28 rfl
theorem q1028 : (Jvm.Cond.selects "CountedSkipLists$Mend$3" ({ cls := "CountedSkipLists$Mend", name := "moves", desc := "(LCountedSkipLists$SkipList;LCountedSkipLists$Gap;)I" } : Jvm.MethodName) ({ cls := "CountedSkipLists$Mend$3", name := "moves", desc := "(LCountedSkipLists$SkipList;LCountedSkipLists$Gap;)I" } : Jvm.MethodName)) ∈ lw_all := lw_g (lw_at lw_m4 225 rfl) rfl
theorem q1029 : (Jvm.Cond.instanceMethod ({ cls := "CountedSkipLists$Mend$3", name := "moves", desc := "(LCountedSkipLists$SkipList;LCountedSkipLists$Gap;)I" } : Jvm.MethodName)) ∈ lw_all := lw_g (lw_at lw_m4 226 rfl) rfl
theorem q1030 : (Jvm.Cond.code ({ cls := "CountedSkipLists$Mend$3", name := "moves", desc := "(LCountedSkipLists$SkipList;LCountedSkipLists$Gap;)I" } : Jvm.MethodName) prog_8_method_2_code (4 : Nat) (Option.some Jvm.ClassFile.FieldType.int)) ∈ lw_all := lw_g (lw_at lw_m4 227 rfl) rfl
theorem q1031 : (Jvm.Cond.methodLink "CountedSkipLists$Mend$3" (7 : Nat) ({ cls := "CountedSkipLists$Gap", name := "separator", desc := "()LCountedSkipLists$Node;" } : Jvm.MethodName)) ∈ lw_all := lw_g (lw_at lw_m4 228 rfl) rfl
theorem q1032 : (Jvm.Cond.methodLink "CountedSkipLists$Mend$3" (13 : Nat) ({ cls := "CountedSkipLists$SkipList", name := "lower", desc := "(LCountedSkipLists$Node;)V" } : Jvm.MethodName)) ∈ lw_all := lw_g (lw_at lw_m4 229 rfl) rfl
theorem q1085 : (Jvm.Cond.selects "CountedSkipLists$Mend$3" ({ cls := "java/lang/Object", name := "getClass", desc := "()Ljava/lang/Class;" } : Jvm.MethodName) ({ cls := "java/lang/Object", name := "getClass", desc := "()Ljava/lang/Class;" } : Jvm.MethodName)) ∈ lw_all := lw_g (lw_at lw_m5 42 rfl) rfl
theorem q1512 : (Jvm.Cond.selects "CountedSkipLists$Mend$3" ({ cls := "java/lang/Enum", name := "compareTo", desc := "(Ljava/lang/Enum;)I" } : Jvm.MethodName) ({ cls := "java/lang/Enum", name := "compareTo", desc := "(Ljava/lang/Enum;)I" } : Jvm.MethodName)) ∈ lw_all := lw_g (lw_at lw_m6 229 rfl) rfl
theorem q1521 : (Jvm.Cond.selects "CountedSkipLists$Mend$3" ({ cls := "java/lang/Enum", name := "getDeclaringClass", desc := "()Ljava/lang/Class;" } : Jvm.MethodName) ({ cls := "java/lang/Enum", name := "getDeclaringClass", desc := "()Ljava/lang/Class;" } : Jvm.MethodName)) ∈ lw_all := lw_g (lw_at lw_m6 238 rfl) rfl
theorem q1527 : (Jvm.Cond.castable "CountedSkipLists$Mend$3" "java/lang/Comparable") ∈ lw_tbl := lw_at lw_m7 4 rfl
theorem q1528 : (Jvm.Cond.selects "CountedSkipLists$Mend$3" ({ cls := "java/lang/Comparable", name := "compareTo", desc := "(Ljava/lang/Object;)I" } : Jvm.MethodName) ({ cls := "java/lang/Enum", name := "compareTo", desc := "(Ljava/lang/Object;)I" } : Jvm.MethodName)) ∈ lw_all := lw_g (lw_at lw_m7 5 rfl) rfl
theorem q1529 : (Jvm.Cond.unhidden "CountedSkipLists$Mend$3" "compareTo" "(Ljava/lang/Object;)I") ∈ lw_tbl := lw_at lw_m7 6 rfl
theorem q1838 : (Jvm.Cond.selects "CountedSkipLists$Mend$3" ({ cls := "CountedSkipLists$Mend", name := "ordinal", desc := "()I" } : Jvm.MethodName) ({ cls := "java/lang/Enum", name := "ordinal", desc := "()I" } : Jvm.MethodName)) ∈ lw_all := lw_g (lw_at lw_m8 75 rfl) rfl
theorem q2655 : (Jvm.Cond.castable "CountedSkipLists$Mend$3" "java/lang/Enum") ∈ lw_tbl := lw_at lw_m11 172 rfl
theorem q2679 : (Jvm.Cond.castable "CountedSkipLists$Mend$3" "java/lang/Object") ∈ lw_tbl := lw_at lw_m11 196 rfl
theorem q2690 : (Jvm.Cond.castable "CountedSkipLists$Mend$3" "CountedSkipLists$Mend") ∈ lw_tbl := lw_at lw_m11 207 rfl

/-! CountedSkipLists$Mend$1 -/
set_option maxRecDepth 100000
def RX15 : String := "CountedSkipLists$Mend$1"
abbrev cX15_moves : ByteArray := prog_6_method_2_code
def yX15_moves : MethodName := ⟨RX15, "moves", "(LCountedSkipLists$SkipList;LCountedSkipLists$Gap;)I"⟩
def dkwX15_moves_0 : List UInt8 := [44, 44, 180, 0, 7, 5, 108, 182, 0, 13, 78, 43, 45, 182, 0, 17, 45, 180, 0, 23, 172]
abbrev dktX15_moves_0 : List UInt8 := dkwX15_moves_0 ++ []
theorem dksX15_moves_0 : cX15_moves.data.toList.drop 0 = dktX15_moves_0 := by decide +kernel
theorem dX15_moves_0 : decode cX15_moves 0 = .ok (.aload_n 2, 1) := dk_44 (dk_at dksX15_moves_0 0 rfl rfl)
theorem dX15_moves_1 : decode cX15_moves 1 = .ok (.aload_n 2, 1) := dk_44 (dk_at dksX15_moves_0 1 rfl rfl)
theorem dX15_moves_2 : decode cX15_moves 2 = .ok (.getfield 7, 3) := dk_180 0 7 (dk_at dksX15_moves_0 2 rfl rfl)
theorem dX15_moves_5 : decode cX15_moves 5 = .ok (.iconst 2, 1) := dk_5 (dk_at dksX15_moves_0 5 rfl rfl)
theorem dX15_moves_6 : decode cX15_moves 6 = .ok (.idiv, 1) := dk_108 (dk_at dksX15_moves_0 6 rfl rfl)
theorem dX15_moves_7 : decode cX15_moves 7 = .ok (.invokevirtual 13, 3) := dk_182 0 13 (dk_at dksX15_moves_0 7 rfl rfl)
theorem dX15_moves_10 : decode cX15_moves 10 = .ok (.astore_n 3, 1) := dk_78 (dk_at dksX15_moves_0 10 rfl rfl)
theorem dX15_moves_11 : decode cX15_moves 11 = .ok (.aload_n 1, 1) := dk_43 (dk_at dksX15_moves_0 11 rfl rfl)
theorem dX15_moves_12 : decode cX15_moves 12 = .ok (.aload_n 3, 1) := dk_45 (dk_at dksX15_moves_0 12 rfl rfl)
theorem dX15_moves_13 : decode cX15_moves 13 = .ok (.invokevirtual 17, 3) := dk_182 0 17 (dk_at dksX15_moves_0 13 rfl rfl)
theorem dX15_moves_16 : decode cX15_moves 16 = .ok (.aload_n 3, 1) := dk_45 (dk_at dksX15_moves_0 16 rfl rfl)
theorem dX15_moves_17 : decode cX15_moves 17 = .ok (.getfield 23, 3) := dk_180 0 23 (dk_at dksX15_moves_0 17 rfl rfl)
theorem dX15_moves_20 : decode cX15_moves 20 = .ok (.ireturn, 1) := dk_172 (dk_at dksX15_moves_0 20 rfl rfl)
theorem q832 : (Jvm.Cond.fieldLinkNest "CountedSkipLists$Mend$1" (23 : Nat) "CountedSkipLists$Node" "key" "I" "CountedSkipLists") ∈ lw_tbl := lw_at lw_m4 29 rfl
theorem q945 : (Jvm.Cond.fieldLinkNest "CountedSkipLists$Mend$1" (7 : Nat) "CountedSkipLists$Gap" "size" "I" "CountedSkipLists") ∈ lw_tbl := lw_at lw_m4 142 rfl
theorem q997 : (Jvm.Cond.selects "CountedSkipLists$Mend$1" ({ cls := "CountedSkipLists$Mend", name := "moves", desc := "(LCountedSkipLists$SkipList;LCountedSkipLists$Gap;)I" } : Jvm.MethodName) ({ cls := "CountedSkipLists$Mend$1", name := "moves", desc := "(LCountedSkipLists$SkipList;LCountedSkipLists$Gap;)I" } : Jvm.MethodName)) ∈ lw_all := lw_g (lw_at lw_m4 194 rfl) rfl
theorem q998 : (Jvm.Cond.instanceMethod ({ cls := "CountedSkipLists$Mend$1", name := "moves", desc := "(LCountedSkipLists$SkipList;LCountedSkipLists$Gap;)I" } : Jvm.MethodName)) ∈ lw_all := lw_g (lw_at lw_m4 195 rfl) rfl
theorem q999 : (Jvm.Cond.code ({ cls := "CountedSkipLists$Mend$1", name := "moves", desc := "(LCountedSkipLists$SkipList;LCountedSkipLists$Gap;)I" } : Jvm.MethodName) prog_6_method_2_code (4 : Nat) (Option.some Jvm.ClassFile.FieldType.int)) ∈ lw_all := lw_g (lw_at lw_m4 196 rfl) rfl
theorem q1000 : (Jvm.Cond.methodLink "CountedSkipLists$Mend$1" (13 : Nat) ({ cls := "CountedSkipLists$Gap", name := "at", desc := "(I)LCountedSkipLists$Node;" } : Jvm.MethodName)) ∈ lw_all := lw_g (lw_at lw_m4 197 rfl) rfl
theorem q1004 : (Jvm.Cond.methodLink "CountedSkipLists$Mend$1" (17 : Nat) ({ cls := "CountedSkipLists$SkipList", name := "raise", desc := "(LCountedSkipLists$Node;)V" } : Jvm.MethodName)) ∈ lw_all := lw_g (lw_at lw_m4 201 rfl) rfl
theorem q1083 : (Jvm.Cond.selects "CountedSkipLists$Mend$1" ({ cls := "java/lang/Object", name := "getClass", desc := "()Ljava/lang/Class;" } : Jvm.MethodName) ({ cls := "java/lang/Object", name := "getClass", desc := "()Ljava/lang/Class;" } : Jvm.MethodName)) ∈ lw_all := lw_g (lw_at lw_m5 40 rfl) rfl
theorem q1500 : (Jvm.Cond.castable "CountedSkipLists$Mend$1" "java/lang/Comparable") ∈ lw_tbl := lw_at lw_m6 217 rfl
theorem q1501 : (Jvm.Cond.selects "CountedSkipLists$Mend$1" ({ cls := "java/lang/Comparable", name := "compareTo", desc := "(Ljava/lang/Object;)I" } : Jvm.MethodName) ({ cls := "java/lang/Enum", name := "compareTo", desc := "(Ljava/lang/Object;)I" } : Jvm.MethodName)) ∈ lw_all := lw_g (lw_at lw_m6 218 rfl) rfl
theorem q1502 : (Jvm.Cond.unhidden "CountedSkipLists$Mend$1" "compareTo" "(Ljava/lang/Object;)I") ∈ lw_tbl := lw_at lw_m6 219 rfl
theorem q1510 : (Jvm.Cond.selects "CountedSkipLists$Mend$1" ({ cls := "java/lang/Enum", name := "compareTo", desc := "(Ljava/lang/Enum;)I" } : Jvm.MethodName) ({ cls := "java/lang/Enum", name := "compareTo", desc := "(Ljava/lang/Enum;)I" } : Jvm.MethodName)) ∈ lw_all := lw_g (lw_at lw_m6 227 rfl) rfl
theorem q1519 : (Jvm.Cond.selects "CountedSkipLists$Mend$1" ({ cls := "java/lang/Enum", name := "getDeclaringClass", desc := "()Ljava/lang/Class;" } : Jvm.MethodName) ({ cls := "java/lang/Enum", name := "getDeclaringClass", desc := "()Ljava/lang/Class;" } : Jvm.MethodName)) ∈ lw_all := lw_g (lw_at lw_m6 236 rfl) rfl
theorem q1836 : (Jvm.Cond.selects "CountedSkipLists$Mend$1" ({ cls := "CountedSkipLists$Mend", name := "ordinal", desc := "()I" } : Jvm.MethodName) ({ cls := "java/lang/Enum", name := "ordinal", desc := "()I" } : Jvm.MethodName)) ∈ lw_all := lw_g (lw_at lw_m8 73 rfl) rfl
theorem q2653 : (Jvm.Cond.castable "CountedSkipLists$Mend$1" "java/lang/Enum") ∈ lw_tbl := lw_at lw_m11 170 rfl
theorem q2677 : (Jvm.Cond.castable "CountedSkipLists$Mend$1" "java/lang/Object") ∈ lw_tbl := lw_at lw_m11 194 rfl
theorem q2688 : (Jvm.Cond.castable "CountedSkipLists$Mend$1" "CountedSkipLists$Mend") ∈ lw_tbl := lw_at lw_m11 205 rfl

/-! CountedSkipLists$Mend$2 -/
set_option maxRecDepth 100000
def RX16 : String := "CountedSkipLists$Mend$2"
abbrev cX16_moves : ByteArray := prog_7_method_2_code
def yX16_moves : MethodName := ⟨RX16, "moves", "(LCountedSkipLists$SkipList;LCountedSkipLists$Gap;)I"⟩
def dkwX16_moves_1 : List UInt8 := [180, 0, 25, 172]
abbrev dktX16_moves_1 : List UInt8 := dkwX16_moves_1 ++ []
def dkwX16_moves_0 : List UInt8 := [44, 182, 0, 7, 78, 44, 182, 0, 13, 58, 4, 43, 45, 182, 0, 16, 43, 25, 4, 182, 0, 22, 45]
abbrev dktX16_moves_0 : List UInt8 := dkwX16_moves_0 ++ dktX16_moves_1
theorem dksX16_moves_0 : cX16_moves.data.toList.drop 0 = dktX16_moves_0 := by decide +kernel
theorem dksX16_moves_1 : cX16_moves.data.toList.drop 23 = dktX16_moves_1 := dk_seg dksX16_moves_0 23 rfl rfl
theorem dX16_moves_0 : decode cX16_moves 0 = .ok (.aload_n 2, 1) := dk_44 (dk_at dksX16_moves_0 0 rfl rfl)
theorem dX16_moves_1 : decode cX16_moves 1 = .ok (.invokevirtual 7, 3) := dk_182 0 7 (dk_at dksX16_moves_0 1 rfl rfl)
theorem dX16_moves_4 : decode cX16_moves 4 = .ok (.astore_n 3, 1) := dk_78 (dk_at dksX16_moves_0 4 rfl rfl)
theorem dX16_moves_5 : decode cX16_moves 5 = .ok (.aload_n 2, 1) := dk_44 (dk_at dksX16_moves_0 5 rfl rfl)
theorem dX16_moves_6 : decode cX16_moves 6 = .ok (.invokevirtual 13, 3) := dk_182 0 13 (dk_at dksX16_moves_0 6 rfl rfl)
theorem dX16_moves_9 : decode cX16_moves 9 = .ok (.astore 4, 2) := dk_58 4 (dk_at dksX16_moves_0 9 rfl rfl)
theorem dX16_moves_11 : decode cX16_moves 11 = .ok (.aload_n 1, 1) := dk_43 (dk_at dksX16_moves_0 11 rfl rfl)
theorem dX16_moves_12 : decode cX16_moves 12 = .ok (.aload_n 3, 1) := dk_45 (dk_at dksX16_moves_0 12 rfl rfl)
theorem dX16_moves_13 : decode cX16_moves 13 = .ok (.invokevirtual 16, 3) := dk_182 0 16 (dk_at dksX16_moves_0 13 rfl rfl)
theorem dX16_moves_16 : decode cX16_moves 16 = .ok (.aload_n 1, 1) := dk_43 (dk_at dksX16_moves_0 16 rfl rfl)
theorem dX16_moves_17 : decode cX16_moves 17 = .ok (.aload 4, 2) := dk_25 4 (dk_at dksX16_moves_0 17 rfl rfl)
theorem dX16_moves_19 : decode cX16_moves 19 = .ok (.invokevirtual 22, 3) := dk_182 0 22 (dk_at dksX16_moves_0 19 rfl rfl)
theorem dX16_moves_22 : decode cX16_moves 22 = .ok (.aload_n 3, 1) := dk_45 (dk_at dksX16_moves_0 22 rfl rfl)
theorem dX16_moves_23 : decode cX16_moves 23 = .ok (.getfield 25, 3) := dk_180 0 25 (dk_at dksX16_moves_1 0 rfl rfl)
theorem dX16_moves_26 : decode cX16_moves 26 = .ok (.ireturn, 1) := dk_172 (dk_at dksX16_moves_1 3 rfl rfl)
theorem q833 : (Jvm.Cond.fieldLinkNest "CountedSkipLists$Mend$2" (25 : Nat) "CountedSkipLists$Node" "key" "I" "CountedSkipLists") ∈ lw_tbl := lw_at lw_m4 30 rfl
theorem q1012 : (Jvm.Cond.selects "CountedSkipLists$Mend$2" ({ cls := "CountedSkipLists$Mend", name := "moves", desc := "(LCountedSkipLists$SkipList;LCountedSkipLists$Gap;)I" } : Jvm.MethodName) ({ cls := "CountedSkipLists$Mend$2", name := "moves", desc := "(LCountedSkipLists$SkipList;LCountedSkipLists$Gap;)I" } : Jvm.MethodName)) ∈ lw_all := lw_g (lw_at lw_m4 209 rfl) rfl
theorem q1013 : (Jvm.Cond.instanceMethod ({ cls := "CountedSkipLists$Mend$2", name := "moves", desc := "(LCountedSkipLists$SkipList;LCountedSkipLists$Gap;)I" } : Jvm.MethodName)) ∈ lw_all := lw_g (lw_at lw_m4 210 rfl) rfl
theorem q1014 : (Jvm.Cond.code ({ cls := "CountedSkipLists$Mend$2", name := "moves", desc := "(LCountedSkipLists$SkipList;LCountedSkipLists$Gap;)I" } : Jvm.MethodName) prog_7_method_2_code (5 : Nat) (Option.some Jvm.ClassFile.FieldType.int)) ∈ lw_all := lw_g (lw_at lw_m4 211 rfl) rfl
theorem q1015 : (Jvm.Cond.methodLink "CountedSkipLists$Mend$2" (7 : Nat) ({ cls := "CountedSkipLists$Gap", name := "separator", desc := "()LCountedSkipLists$Node;" } : Jvm.MethodName)) ∈ lw_all := lw_g (lw_at lw_m4 212 rfl) rfl
theorem q1019 : (Jvm.Cond.methodLink "CountedSkipLists$Mend$2" (13 : Nat) ({ cls := "CountedSkipLists$Gap", name := "nearest", desc := "()LCountedSkipLists$Node;" } : Jvm.MethodName)) ∈ lw_all := lw_g (lw_at lw_m4 216 rfl) rfl
theorem q1023 : (Jvm.Cond.methodLink "CountedSkipLists$Mend$2" (16 : Nat) ({ cls := "CountedSkipLists$SkipList", name := "lower", desc := "(LCountedSkipLists$Node;)V" } : Jvm.MethodName)) ∈ lw_all := lw_g (lw_at lw_m4 220 rfl) rfl
theorem q1027 : (Jvm.Cond.methodLink "CountedSkipLists$Mend$2" (22 : Nat) ({ cls := "CountedSkipLists$SkipList", name := "raise", desc := "(LCountedSkipLists$Node;)V" } : Jvm.MethodName)) ∈ lw_all := lw_g (lw_at lw_m4 224 rfl) rfl
theorem q1084 : (Jvm.Cond.selects "CountedSkipLists$Mend$2" ({ cls := "java/lang/Object", name := "getClass", desc := "()Ljava/lang/Class;" } : Jvm.MethodName) ({ cls := "java/lang/Object", name := "getClass", desc := "()Ljava/lang/Class;" } : Jvm.MethodName)) ∈ lw_all := lw_g (lw_at lw_m5 41 rfl) rfl
theorem q1511 : (Jvm.Cond.selects "CountedSkipLists$Mend$2" ({ cls := "java/lang/Enum", name := "compareTo", desc := "(Ljava/lang/Enum;)I" } : Jvm.MethodName) ({ cls := "java/lang/Enum", name := "compareTo", desc := "(Ljava/lang/Enum;)I" } : Jvm.MethodName)) ∈ lw_all := lw_g (lw_at lw_m6 228 rfl) rfl
theorem q1520 : (Jvm.Cond.selects "CountedSkipLists$Mend$2" ({ cls := "java/lang/Enum", name := "getDeclaringClass", desc := "()Ljava/lang/Class;" } : Jvm.MethodName) ({ cls := "java/lang/Enum", name := "getDeclaringClass", desc := "()Ljava/lang/Class;" } : Jvm.MethodName)) ∈ lw_all := lw_g (lw_at lw_m6 237 rfl) rfl
theorem q1524 : (Jvm.Cond.castable "CountedSkipLists$Mend$2" "java/lang/Comparable") ∈ lw_tbl := lw_at lw_m7 1 rfl
theorem q1525 : (Jvm.Cond.selects "CountedSkipLists$Mend$2" ({ cls := "java/lang/Comparable", name := "compareTo", desc := "(Ljava/lang/Object;)I" } : Jvm.MethodName) ({ cls := "java/lang/Enum", name := "compareTo", desc := "(Ljava/lang/Object;)I" } : Jvm.MethodName)) ∈ lw_all := lw_g (lw_at lw_m7 2 rfl) rfl
theorem q1526 : (Jvm.Cond.unhidden "CountedSkipLists$Mend$2" "compareTo" "(Ljava/lang/Object;)I") ∈ lw_tbl := lw_at lw_m7 3 rfl
theorem q1837 : (Jvm.Cond.selects "CountedSkipLists$Mend$2" ({ cls := "CountedSkipLists$Mend", name := "ordinal", desc := "()I" } : Jvm.MethodName) ({ cls := "java/lang/Enum", name := "ordinal", desc := "()I" } : Jvm.MethodName)) ∈ lw_all := lw_g (lw_at lw_m8 74 rfl) rfl
theorem q2654 : (Jvm.Cond.castable "CountedSkipLists$Mend$2" "java/lang/Enum") ∈ lw_tbl := lw_at lw_m11 171 rfl
theorem q2678 : (Jvm.Cond.castable "CountedSkipLists$Mend$2" "java/lang/Object") ∈ lw_tbl := lw_at lw_m11 195 rfl
theorem q2689 : (Jvm.Cond.castable "CountedSkipLists$Mend$2" "CountedSkipLists$Mend") ∈ lw_tbl := lw_at lw_m11 206 rfl

