/-! java/util/AbstractCollection -/
set_option maxRecDepth 100000
def RJ0 : String := "java/util/AbstractCollection"
abbrev cJ0_init : ByteArray := prog_47_method_1_code
def yJ0_init : MethodName := ⟨RJ0, "<init>", "()V"⟩
theorem dJ0_init_0 : decode cJ0_init 0 = .ok (.aload_n 0, 1) := by decide +kernel
theorem dJ0_init_1 : decode cJ0_init 1 = .ok (.invokespecial 1, 3) := by decide +kernel
theorem dJ0_init_4 : decode cJ0_init 4 = .ok (.return_, 1) := by decide +kernel
theorem q87 : (Jvm.Cond.initialized "java/util/AbstractCollection") ∈ lw_all := lw_g (lw_at lw_m1 4 rfl) rfl
theorem q162 : (Jvm.Cond.instanceMethod ({ cls := "java/util/AbstractCollection", name := "<init>", desc := "()V" } : Jvm.MethodName)) ∈ lw_all := lw_g (lw_at lw_m1 79 rfl) rfl
theorem q163 : (Jvm.Cond.code ({ cls := "java/util/AbstractCollection", name := "<init>", desc := "()V" } : Jvm.MethodName) prog_47_method_1_code (1 : Nat) (Option.none : Option Jvm.ClassFile.FieldType)) ∈ lw_all := lw_g (lw_at lw_m1 80 rfl) rfl
theorem q164 : (Jvm.Cond.methodLink "java/util/AbstractCollection" (1 : Nat) ({ cls := "java/lang/Object", name := "<init>", desc := "()V" } : Jvm.MethodName)) ∈ lw_all := lw_g (lw_at lw_m1 81 rfl) rfl

/-! java/util/AbstractList -/
set_option maxRecDepth 100000
def RJ1 : String := "java/util/AbstractList"
abbrev cJ1_init : ByteArray := prog_48_method_1_code
def yJ1_init : MethodName := ⟨RJ1, "<init>", "()V"⟩
def dkwJ1_init_0 : List UInt8 := [42, 183, 0, 1, 42, 3, 181, 0, 7, 177]
abbrev dktJ1_init_0 : List UInt8 := dkwJ1_init_0 ++ []
theorem dksJ1_init_0 : cJ1_init.data.toList.drop 0 = dktJ1_init_0 := by decide +kernel
theorem dJ1_init_0 : decode cJ1_init 0 = .ok (.aload_n 0, 1) := dk_42 (dk_at dksJ1_init_0 0 rfl rfl)
theorem dJ1_init_1 : decode cJ1_init 1 = .ok (.invokespecial 1, 3) := dk_183 0 1 (dk_at dksJ1_init_0 1 rfl rfl)
theorem dJ1_init_4 : decode cJ1_init 4 = .ok (.aload_n 0, 1) := dk_42 (dk_at dksJ1_init_0 4 rfl rfl)
theorem dJ1_init_5 : decode cJ1_init 5 = .ok (.iconst 0, 1) := dk_3 (dk_at dksJ1_init_0 5 rfl rfl)
theorem dJ1_init_6 : decode cJ1_init 6 = .ok (.putfield 7, 3) := dk_181 0 7 (dk_at dksJ1_init_0 6 rfl rfl)
theorem dJ1_init_9 : decode cJ1_init 9 = .ok (.return_, 1) := dk_177 (dk_at dksJ1_init_0 9 rfl rfl)
theorem q88 : (Jvm.Cond.initialized "java/util/AbstractList") ∈ lw_all := lw_g (lw_at lw_m1 5 rfl) rfl
theorem q159 : (Jvm.Cond.instanceMethod ({ cls := "java/util/AbstractList", name := "<init>", desc := "()V" } : Jvm.MethodName)) ∈ lw_all := lw_g (lw_at lw_m1 76 rfl) rfl
theorem q160 : (Jvm.Cond.code ({ cls := "java/util/AbstractList", name := "<init>", desc := "()V" } : Jvm.MethodName) prog_48_method_1_code (1 : Nat) (Option.none : Option Jvm.ClassFile.FieldType)) ∈ lw_all := lw_g (lw_at lw_m1 77 rfl) rfl
theorem q161 : (Jvm.Cond.methodLink "java/util/AbstractList" (1 : Nat) ({ cls := "java/util/AbstractCollection", name := "<init>", desc := "()V" } : Jvm.MethodName)) ∈ lw_all := lw_g (lw_at lw_m1 78 rfl) rfl
theorem q169 : (Jvm.Cond.fieldLink "java/util/AbstractList" (7 : Nat) "java/util/AbstractList" "modCount" "I") ∈ lw_all := lw_g (lw_at lw_m1 86 rfl) rfl
theorem q177 : (Jvm.Cond.soleField "java/util/AbstractList" "modCount") ∈ lw_all := lw_g (lw_at lw_m1 94 rfl) rfl

/-! java/util/ArrayList -/
set_option maxRecDepth 100000
def RJ2 : String := "java/util/ArrayList"
def TJ2 : u_T := fun k => match k with
  | 0 => ("java/util/AbstractList", "modCount", "I", false)
  | 1 => ("java/util/ArrayList", "elementData", "[Ljava/lang/Object;", false)
  | _ => ("java/util/ArrayList", "size", "I", false)
def tyJ2 : Nat → FieldType := fun k => match k with
  | 0 => .int
  | 1 => .array (.object "java/lang/Object")
  | _ => .int
abbrev wsJ20 : List Cond := u_ws RJ2 TJ2 3
theorem nmJ2 : ∀ a, a < 3 → ∀ b, b < 3 → a ≠ b → (TJ2 a).2.1 ≠ (TJ2 b).2.1 := by decide +kernel
theorem tyJ2_ok : ∀ k, k < 3 → parseFieldDescriptor (TJ2 k).2.2.1 = some (tyJ2 k) := by decide +kernel
abbrev cJ2_init : ByteArray := prog_51_method_2_code
def yJ2_init : MethodName := ⟨RJ2, "<init>", "()V"⟩
def dkwJ2_init_0 : List UInt8 := [42, 183, 0, 1, 42, 178, 0, 39, 181, 0, 9, 177]
abbrev dktJ2_init_0 : List UInt8 := dkwJ2_init_0 ++ []
theorem dksJ2_init_0 : cJ2_init.data.toList.drop 0 = dktJ2_init_0 := by decide +kernel
theorem dJ2_init_0 : decode cJ2_init 0 = .ok (.aload_n 0, 1) := dk_42 (dk_at dksJ2_init_0 0 rfl rfl)
theorem dJ2_init_1 : decode cJ2_init 1 = .ok (.invokespecial 1, 3) := dk_183 0 1 (dk_at dksJ2_init_0 1 rfl rfl)
theorem dJ2_init_4 : decode cJ2_init 4 = .ok (.aload_n 0, 1) := dk_42 (dk_at dksJ2_init_0 4 rfl rfl)
theorem dJ2_init_5 : decode cJ2_init 5 = .ok (.getstatic 39, 3) := dk_178 0 39 (dk_at dksJ2_init_0 5 rfl rfl)
theorem dJ2_init_8 : decode cJ2_init 8 = .ok (.putfield 9, 3) := dk_181 0 9 (dk_at dksJ2_init_0 8 rfl rfl)
theorem dJ2_init_11 : decode cJ2_init 11 = .ok (.return_, 1) := dk_177 (dk_at dksJ2_init_0 11 rfl rfl)
abbrev cJ2_size : ByteArray := prog_51_method_8_code
def yJ2_size : MethodName := ⟨RJ2, "size", "()I"⟩
theorem dJ2_size_0 : decode cJ2_size 0 = .ok (.aload_n 0, 1) := by decide +kernel
theorem dJ2_size_1 : decode cJ2_size 1 = .ok (.getfield 48, 3) := by decide +kernel
theorem dJ2_size_4 : decode cJ2_size 4 = .ok (.ireturn, 1) := by decide +kernel
abbrev cJ2_add : ByteArray := prog_51_method_25_code
def yJ2_add : MethodName := ⟨RJ2, "add", "(Ljava/lang/Object;)Z"⟩
def dkwJ2_add_1 : List UInt8 := [172]
abbrev dktJ2_add_1 : List UInt8 := dkwJ2_add_1 ++ []
def dkwJ2_add_0 : List UInt8 := [42, 89, 180, 0, 63, 4, 96, 181, 0, 63, 42, 43, 42, 180, 0, 9, 42, 180, 0, 48, 182, 0, 131, 4]
abbrev dktJ2_add_0 : List UInt8 := dkwJ2_add_0 ++ dktJ2_add_1
theorem dksJ2_add_0 : cJ2_add.data.toList.drop 0 = dktJ2_add_0 := by decide +kernel
theorem dksJ2_add_1 : cJ2_add.data.toList.drop 24 = dktJ2_add_1 := dk_seg dksJ2_add_0 24 rfl rfl
theorem dJ2_add_0 : decode cJ2_add 0 = .ok (.aload_n 0, 1) := dk_42 (dk_at dksJ2_add_0 0 rfl rfl)
theorem dJ2_add_1 : decode cJ2_add 1 = .ok (.dup, 1) := dk_89 (dk_at dksJ2_add_0 1 rfl rfl)
theorem dJ2_add_2 : decode cJ2_add 2 = .ok (.getfield 63, 3) := dk_180 0 63 (dk_at dksJ2_add_0 2 rfl rfl)
theorem dJ2_add_5 : decode cJ2_add 5 = .ok (.iconst 1, 1) := dk_4 (dk_at dksJ2_add_0 5 rfl rfl)
theorem dJ2_add_6 : decode cJ2_add 6 = .ok (.iadd, 1) := dk_96 (dk_at dksJ2_add_0 6 rfl rfl)
theorem dJ2_add_7 : decode cJ2_add 7 = .ok (.putfield 63, 3) := dk_181 0 63 (dk_at dksJ2_add_0 7 rfl rfl)
theorem dJ2_add_10 : decode cJ2_add 10 = .ok (.aload_n 0, 1) := dk_42 (dk_at dksJ2_add_0 10 rfl rfl)
theorem dJ2_add_11 : decode cJ2_add 11 = .ok (.aload_n 1, 1) := dk_43 (dk_at dksJ2_add_0 11 rfl rfl)
theorem dJ2_add_12 : decode cJ2_add 12 = .ok (.aload_n 0, 1) := dk_42 (dk_at dksJ2_add_0 12 rfl rfl)
theorem dJ2_add_13 : decode cJ2_add 13 = .ok (.getfield 9, 3) := dk_180 0 9 (dk_at dksJ2_add_0 13 rfl rfl)
theorem dJ2_add_16 : decode cJ2_add 16 = .ok (.aload_n 0, 1) := dk_42 (dk_at dksJ2_add_0 16 rfl rfl)
theorem dJ2_add_17 : decode cJ2_add 17 = .ok (.getfield 48, 3) := dk_180 0 48 (dk_at dksJ2_add_0 17 rfl rfl)
theorem dJ2_add_20 : decode cJ2_add 20 = .ok (.invokevirtual 131, 3) := dk_182 0 131 (dk_at dksJ2_add_0 20 rfl rfl)
theorem dJ2_add_23 : decode cJ2_add 23 = .ok (.iconst 1, 1) := dk_4 (dk_at dksJ2_add_0 23 rfl rfl)
theorem dJ2_add_24 : decode cJ2_add 24 = .ok (.ireturn, 1) := dk_172 (dk_at dksJ2_add_1 0 rfl rfl)
abbrev cJ2_add_2 : ByteArray := prog_51_method_24_code
def yJ2_add_2 : MethodName := ⟨RJ2, "add", "(Ljava/lang/Object;[Ljava/lang/Object;I)V"⟩
def dkwJ2_add_2_0 : List UInt8 := [29, 44, 190, 160, 0, 8, 42, 182, 0, 129, 77, 44, 29, 43, 83, 42, 29, 4, 96, 181, 0, 48, 177]
abbrev dktJ2_add_2_0 : List UInt8 := dkwJ2_add_2_0 ++ []
theorem dksJ2_add_2_0 : cJ2_add_2.data.toList.drop 0 = dktJ2_add_2_0 := by decide +kernel
theorem dJ2_add_2_0 : decode cJ2_add_2 0 = .ok (.iload_n 3, 1) := dk_29 (dk_at dksJ2_add_2_0 0 rfl rfl)
theorem dJ2_add_2_1 : decode cJ2_add_2 1 = .ok (.aload_n 2, 1) := dk_44 (dk_at dksJ2_add_2_0 1 rfl rfl)
theorem dJ2_add_2_2 : decode cJ2_add_2 2 = .ok (.arraylength, 1) := dk_190 (dk_at dksJ2_add_2_0 2 rfl rfl)
theorem dJ2_add_2_3 : decode cJ2_add_2 3 = .ok (.if_icmp .ne 8, 3) := dk_160 0 8 (dk_at dksJ2_add_2_0 3 rfl rfl)
theorem dJ2_add_2_6 : decode cJ2_add_2 6 = .ok (.aload_n 0, 1) := dk_42 (dk_at dksJ2_add_2_0 6 rfl rfl)
theorem dJ2_add_2_7 : decode cJ2_add_2 7 = .ok (.invokevirtual 129, 3) := dk_182 0 129 (dk_at dksJ2_add_2_0 7 rfl rfl)
theorem dJ2_add_2_10 : decode cJ2_add_2 10 = .ok (.astore_n 2, 1) := dk_77 (dk_at dksJ2_add_2_0 10 rfl rfl)
theorem dJ2_add_2_11 : decode cJ2_add_2 11 = .ok (.aload_n 2, 1) := dk_44 (dk_at dksJ2_add_2_0 11 rfl rfl)
theorem dJ2_add_2_12 : decode cJ2_add_2 12 = .ok (.iload_n 3, 1) := dk_29 (dk_at dksJ2_add_2_0 12 rfl rfl)
theorem dJ2_add_2_13 : decode cJ2_add_2 13 = .ok (.aload_n 1, 1) := dk_43 (dk_at dksJ2_add_2_0 13 rfl rfl)
theorem dJ2_add_2_14 : decode cJ2_add_2 14 = .ok (.aastore, 1) := dk_83 (dk_at dksJ2_add_2_0 14 rfl rfl)
theorem dJ2_add_2_15 : decode cJ2_add_2 15 = .ok (.aload_n 0, 1) := dk_42 (dk_at dksJ2_add_2_0 15 rfl rfl)
theorem dJ2_add_2_16 : decode cJ2_add_2 16 = .ok (.iload_n 3, 1) := dk_29 (dk_at dksJ2_add_2_0 16 rfl rfl)
theorem dJ2_add_2_17 : decode cJ2_add_2 17 = .ok (.iconst 1, 1) := dk_4 (dk_at dksJ2_add_2_0 17 rfl rfl)
theorem dJ2_add_2_18 : decode cJ2_add_2 18 = .ok (.iadd, 1) := dk_96 (dk_at dksJ2_add_2_0 18 rfl rfl)
theorem dJ2_add_2_19 : decode cJ2_add_2 19 = .ok (.putfield 48, 3) := dk_181 0 48 (dk_at dksJ2_add_2_0 19 rfl rfl)
theorem dJ2_add_2_22 : decode cJ2_add_2 22 = .ok (.return_, 1) := dk_177 (dk_at dksJ2_add_2_0 22 rfl rfl)
abbrev cJ2_grow : ByteArray := prog_51_method_7_code
def yJ2_grow : MethodName := ⟨RJ2, "grow", "()[Ljava/lang/Object;"⟩
def dkwJ2_grow_0 : List UInt8 := [42, 42, 180, 0, 48, 4, 96, 182, 0, 69, 176]
abbrev dktJ2_grow_0 : List UInt8 := dkwJ2_grow_0 ++ []
theorem dksJ2_grow_0 : cJ2_grow.data.toList.drop 0 = dktJ2_grow_0 := by decide +kernel
theorem dJ2_grow_0 : decode cJ2_grow 0 = .ok (.aload_n 0, 1) := dk_42 (dk_at dksJ2_grow_0 0 rfl rfl)
theorem dJ2_grow_1 : decode cJ2_grow 1 = .ok (.aload_n 0, 1) := dk_42 (dk_at dksJ2_grow_0 1 rfl rfl)
theorem dJ2_grow_2 : decode cJ2_grow 2 = .ok (.getfield 48, 3) := dk_180 0 48 (dk_at dksJ2_grow_0 2 rfl rfl)
theorem dJ2_grow_5 : decode cJ2_grow 5 = .ok (.iconst 1, 1) := dk_4 (dk_at dksJ2_grow_0 5 rfl rfl)
theorem dJ2_grow_6 : decode cJ2_grow 6 = .ok (.iadd, 1) := dk_96 (dk_at dksJ2_grow_0 6 rfl rfl)
theorem dJ2_grow_7 : decode cJ2_grow 7 = .ok (.invokevirtual 69, 3) := dk_182 0 69 (dk_at dksJ2_grow_0 7 rfl rfl)
theorem dJ2_grow_10 : decode cJ2_grow 10 = .ok (.areturn, 1) := dk_176 (dk_at dksJ2_grow_0 10 rfl rfl)
abbrev cJ2_grow_2 : ByteArray := prog_51_method_6_code
def yJ2_grow_2 : MethodName := ⟨RJ2, "grow", "(I)[Ljava/lang/Object;"⟩
def dkwJ2_grow_2_2 : List UInt8 := [27, 184, 0, 79, 189, 0, 7, 90, 181, 0, 9, 176]
abbrev dktJ2_grow_2_2 : List UInt8 := dkwJ2_grow_2_2 ++ []
def dkwJ2_grow_2_1 : List UInt8 := [28, 4, 122, 184, 0, 73, 62, 42, 42, 180, 0, 9, 29, 184, 0, 66, 90, 181, 0, 9, 176, 42, 16, 10]
abbrev dktJ2_grow_2_1 : List UInt8 := dkwJ2_grow_2_1 ++ dktJ2_grow_2_2
def dkwJ2_grow_2_0 : List UInt8 := [42, 180, 0, 9, 190, 61, 28, 157, 0, 13, 42, 180, 0, 9, 178, 0, 39, 165, 0, 28, 28, 27, 28, 100]
abbrev dktJ2_grow_2_0 : List UInt8 := dkwJ2_grow_2_0 ++ dktJ2_grow_2_1
theorem dksJ2_grow_2_0 : cJ2_grow_2.data.toList.drop 0 = dktJ2_grow_2_0 := by decide +kernel
theorem dksJ2_grow_2_1 : cJ2_grow_2.data.toList.drop 24 = dktJ2_grow_2_1 := dk_seg dksJ2_grow_2_0 24 rfl rfl
theorem dksJ2_grow_2_2 : cJ2_grow_2.data.toList.drop 48 = dktJ2_grow_2_2 := dk_seg dksJ2_grow_2_1 24 rfl rfl
theorem dJ2_grow_2_0 : decode cJ2_grow_2 0 = .ok (.aload_n 0, 1) := dk_42 (dk_at dksJ2_grow_2_0 0 rfl rfl)
theorem dJ2_grow_2_1 : decode cJ2_grow_2 1 = .ok (.getfield 9, 3) := dk_180 0 9 (dk_at dksJ2_grow_2_0 1 rfl rfl)
theorem dJ2_grow_2_4 : decode cJ2_grow_2 4 = .ok (.arraylength, 1) := dk_190 (dk_at dksJ2_grow_2_0 4 rfl rfl)
theorem dJ2_grow_2_5 : decode cJ2_grow_2 5 = .ok (.istore_n 2, 1) := dk_61 (dk_at dksJ2_grow_2_0 5 rfl rfl)
theorem dJ2_grow_2_6 : decode cJ2_grow_2 6 = .ok (.iload_n 2, 1) := dk_28 (dk_at dksJ2_grow_2_0 6 rfl rfl)
theorem dJ2_grow_2_7 : decode cJ2_grow_2 7 = .ok (.ifCond .gt 13, 3) := dk_157 0 13 (dk_at dksJ2_grow_2_0 7 rfl rfl)
theorem dJ2_grow_2_10 : decode cJ2_grow_2 10 = .ok (.aload_n 0, 1) := dk_42 (dk_at dksJ2_grow_2_0 10 rfl rfl)
theorem dJ2_grow_2_11 : decode cJ2_grow_2 11 = .ok (.getfield 9, 3) := dk_180 0 9 (dk_at dksJ2_grow_2_0 11 rfl rfl)
theorem dJ2_grow_2_14 : decode cJ2_grow_2 14 = .ok (.getstatic 39, 3) := dk_178 0 39 (dk_at dksJ2_grow_2_0 14 rfl rfl)
theorem dJ2_grow_2_17 : decode cJ2_grow_2 17 = .ok (.if_acmp .eq 28, 3) := dk_165 0 28 (dk_at dksJ2_grow_2_0 17 rfl rfl)
theorem dJ2_grow_2_20 : decode cJ2_grow_2 20 = .ok (.iload_n 2, 1) := dk_28 (dk_at dksJ2_grow_2_0 20 rfl rfl)
theorem dJ2_grow_2_21 : decode cJ2_grow_2 21 = .ok (.iload_n 1, 1) := dk_27 (dk_at dksJ2_grow_2_0 21 rfl rfl)
theorem dJ2_grow_2_22 : decode cJ2_grow_2 22 = .ok (.iload_n 2, 1) := dk_28 (dk_at dksJ2_grow_2_0 22 rfl rfl)
theorem dJ2_grow_2_23 : decode cJ2_grow_2 23 = .ok (.isub, 1) := dk_100 (dk_at dksJ2_grow_2_0 23 rfl rfl)
theorem dJ2_grow_2_24 : decode cJ2_grow_2 24 = .ok (.iload_n 2, 1) := dk_28 (dk_at dksJ2_grow_2_1 0 rfl rfl)
theorem dJ2_grow_2_25 : decode cJ2_grow_2 25 = .ok (.iconst 1, 1) := dk_4 (dk_at dksJ2_grow_2_1 1 rfl rfl)
theorem dJ2_grow_2_26 : decode cJ2_grow_2 26 = .ok (.ishr, 1) := dk_122 (dk_at dksJ2_grow_2_1 2 rfl rfl)
theorem dJ2_grow_2_27 : decode cJ2_grow_2 27 = .ok (.invokestatic 73, 3) := dk_184 0 73 (dk_at dksJ2_grow_2_1 3 rfl rfl)
theorem dJ2_grow_2_30 : decode cJ2_grow_2 30 = .ok (.istore_n 3, 1) := dk_62 (dk_at dksJ2_grow_2_1 6 rfl rfl)
theorem dJ2_grow_2_31 : decode cJ2_grow_2 31 = .ok (.aload_n 0, 1) := dk_42 (dk_at dksJ2_grow_2_1 7 rfl rfl)
theorem dJ2_grow_2_32 : decode cJ2_grow_2 32 = .ok (.aload_n 0, 1) := dk_42 (dk_at dksJ2_grow_2_1 8 rfl rfl)
theorem dJ2_grow_2_33 : decode cJ2_grow_2 33 = .ok (.getfield 9, 3) := dk_180 0 9 (dk_at dksJ2_grow_2_1 9 rfl rfl)
theorem dJ2_grow_2_36 : decode cJ2_grow_2 36 = .ok (.iload_n 3, 1) := dk_29 (dk_at dksJ2_grow_2_1 12 rfl rfl)
theorem dJ2_grow_2_37 : decode cJ2_grow_2 37 = .ok (.invokestatic 66, 3) := dk_184 0 66 (dk_at dksJ2_grow_2_1 13 rfl rfl)
theorem dJ2_grow_2_40 : decode cJ2_grow_2 40 = .ok (.dup_x1, 1) := dk_90 (dk_at dksJ2_grow_2_1 16 rfl rfl)
theorem dJ2_grow_2_41 : decode cJ2_grow_2 41 = .ok (.putfield 9, 3) := dk_181 0 9 (dk_at dksJ2_grow_2_1 17 rfl rfl)
theorem dJ2_grow_2_44 : decode cJ2_grow_2 44 = .ok (.areturn, 1) := dk_176 (dk_at dksJ2_grow_2_1 20 rfl rfl)
theorem dJ2_grow_2_45 : decode cJ2_grow_2 45 = .ok (.aload_n 0, 1) := dk_42 (dk_at dksJ2_grow_2_1 21 rfl rfl)
theorem dJ2_grow_2_46 : decode cJ2_grow_2 46 = .ok (.bipush 10, 2) := dk_16 10 (dk_at dksJ2_grow_2_1 22 rfl rfl)
theorem dJ2_grow_2_48 : decode cJ2_grow_2 48 = .ok (.iload_n 1, 1) := dk_27 (dk_at dksJ2_grow_2_2 0 rfl rfl)
theorem dJ2_grow_2_49 : decode cJ2_grow_2 49 = .ok (.invokestatic 79, 3) := dk_184 0 79 (dk_at dksJ2_grow_2_2 1 rfl rfl)
theorem dJ2_grow_2_52 : decode cJ2_grow_2 52 = .ok (.anewarray 7, 3) := dk_189 0 7 (dk_at dksJ2_grow_2_2 4 rfl rfl)
theorem dJ2_grow_2_55 : decode cJ2_grow_2 55 = .ok (.dup_x1, 1) := dk_90 (dk_at dksJ2_grow_2_2 7 rfl rfl)
theorem dJ2_grow_2_56 : decode cJ2_grow_2 56 = .ok (.putfield 9, 3) := dk_181 0 9 (dk_at dksJ2_grow_2_2 8 rfl rfl)
theorem dJ2_grow_2_59 : decode cJ2_grow_2 59 = .ok (.areturn, 1) := dk_176 (dk_at dksJ2_grow_2_2 11 rfl rfl)
abbrev cJ2_get : ByteArray := prog_51_method_20_code
def yJ2_get : MethodName := ⟨RJ2, "get", "(I)Ljava/lang/Object;"⟩
def dkwJ2_get_0 : List UInt8 := [27, 42, 180, 0, 48, 184, 0, 118, 87, 42, 27, 182, 0, 123, 176]
abbrev dktJ2_get_0 : List UInt8 := dkwJ2_get_0 ++ []
theorem dksJ2_get_0 : cJ2_get.data.toList.drop 0 = dktJ2_get_0 := by decide +kernel
theorem dJ2_get_0 : decode cJ2_get 0 = .ok (.iload_n 1, 1) := dk_27 (dk_at dksJ2_get_0 0 rfl rfl)
theorem dJ2_get_1 : decode cJ2_get 1 = .ok (.aload_n 0, 1) := dk_42 (dk_at dksJ2_get_0 1 rfl rfl)
theorem dJ2_get_2 : decode cJ2_get 2 = .ok (.getfield 48, 3) := dk_180 0 48 (dk_at dksJ2_get_0 2 rfl rfl)
theorem dJ2_get_5 : decode cJ2_get 5 = .ok (.invokestatic 118, 3) := dk_184 0 118 (dk_at dksJ2_get_0 5 rfl rfl)
theorem dJ2_get_8 : decode cJ2_get 8 = .ok (.pop, 1) := dk_87 (dk_at dksJ2_get_0 8 rfl rfl)
theorem dJ2_get_9 : decode cJ2_get 9 = .ok (.aload_n 0, 1) := dk_42 (dk_at dksJ2_get_0 9 rfl rfl)
theorem dJ2_get_10 : decode cJ2_get 10 = .ok (.iload_n 1, 1) := dk_27 (dk_at dksJ2_get_0 10 rfl rfl)
theorem dJ2_get_11 : decode cJ2_get 11 = .ok (.invokevirtual 123, 3) := dk_182 0 123 (dk_at dksJ2_get_0 11 rfl rfl)
theorem dJ2_get_14 : decode cJ2_get 14 = .ok (.areturn, 1) := dk_176 (dk_at dksJ2_get_0 14 rfl rfl)
abbrev cJ2_elementData : ByteArray := prog_51_method_18_code
def yJ2_elementData : MethodName := ⟨RJ2, "elementData", "(I)Ljava/lang/Object;"⟩
def dkwJ2_elementData_0 : List UInt8 := [42, 180, 0, 9, 27, 50, 176]
abbrev dktJ2_elementData_0 : List UInt8 := dkwJ2_elementData_0 ++ []
theorem dksJ2_elementData_0 : cJ2_elementData.data.toList.drop 0 = dktJ2_elementData_0 := by decide +kernel
theorem dJ2_elementData_0 : decode cJ2_elementData 0 = .ok (.aload_n 0, 1) := dk_42 (dk_at dksJ2_elementData_0 0 rfl rfl)
theorem dJ2_elementData_1 : decode cJ2_elementData 1 = .ok (.getfield 9, 3) := dk_180 0 9 (dk_at dksJ2_elementData_0 1 rfl rfl)
theorem dJ2_elementData_4 : decode cJ2_elementData 4 = .ok (.iload_n 1, 1) := dk_27 (dk_at dksJ2_elementData_0 4 rfl rfl)
theorem dJ2_elementData_5 : decode cJ2_elementData 5 = .ok (.aaload, 1) := dk_50 (dk_at dksJ2_elementData_0 5 rfl rfl)
theorem dJ2_elementData_6 : decode cJ2_elementData 6 = .ok (.areturn, 1) := dk_176 (dk_at dksJ2_elementData_0 6 rfl rfl)
theorem q89 : (Jvm.Cond.initialized "java/util/ArrayList") ∈ lw_all := lw_g (lw_at lw_m1 6 rfl) rfl
theorem q154 : (Jvm.Cond.instantiable "java/util/ArrayList" (3 : Nat)) ∈ lw_all := lw_g (lw_at lw_m1 71 rfl) rfl
theorem q156 : (Jvm.Cond.instanceMethod ({ cls := "java/util/ArrayList", name := "<init>", desc := "()V" } : Jvm.MethodName)) ∈ lw_all := lw_g (lw_at lw_m1 73 rfl) rfl
theorem q157 : (Jvm.Cond.code ({ cls := "java/util/ArrayList", name := "<init>", desc := "()V" } : Jvm.MethodName) prog_51_method_2_code (1 : Nat) (Option.none : Option Jvm.ClassFile.FieldType)) ∈ lw_all := lw_g (lw_at lw_m1 74 rfl) rfl
theorem q158 : (Jvm.Cond.methodLink "java/util/ArrayList" (1 : Nat) ({ cls := "java/util/AbstractList", name := "<init>", desc := "()V" } : Jvm.MethodName)) ∈ lw_all := lw_g (lw_at lw_m1 75 rfl) rfl
theorem q165 : (Jvm.Cond.fieldLink "java/util/ArrayList" (39 : Nat) "java/util/ArrayList" "DEFAULTCAPACITY_EMPTY_ELEMENTDATA" "[Ljava/lang/Object;") ∈ lw_all := lw_g (lw_at lw_m1 82 rfl) rfl
theorem q166 : (Jvm.Cond.laysStatic "java/util/ArrayList" "DEFAULTCAPACITY_EMPTY_ELEMENTDATA" "[Ljava/lang/Object;") ∈ lw_tbl := lw_at lw_m1 83 rfl
theorem q167 : (Jvm.Cond.fieldLink "java/util/ArrayList" (9 : Nat) "java/util/ArrayList" "elementData" "[Ljava/lang/Object;") ∈ lw_all := lw_g (lw_at lw_m1 84 rfl) rfl
theorem q168 : (Jvm.Cond.fieldLink "java/util/ArrayList" (48 : Nat) "java/util/ArrayList" "size" "I") ∈ lw_all := lw_g (lw_at lw_m1 85 rfl) rfl
theorem q170 : (Jvm.Cond.fieldLink "java/util/ArrayList" (63 : Nat) "java/util/ArrayList" "modCount" "I") ∈ lw_all := lw_g (lw_at lw_m1 87 rfl) rfl
theorem q171 : (Jvm.Cond.sameField "java/util/ArrayList" "java/util/AbstractList" "modCount" "I") ∈ lw_all := lw_g (lw_at lw_m1 88 rfl) rfl
theorem q172 : (Jvm.Cond.lays "java/util/ArrayList" "java/util/ArrayList" "elementData" "[Ljava/lang/Object;") ∈ lw_all := lw_g (lw_at lw_m1 89 rfl) rfl
theorem q173 : (Jvm.Cond.soleField "java/util/ArrayList" "elementData") ∈ lw_all := lw_g (lw_at lw_m1 90 rfl) rfl
theorem q174 : (Jvm.Cond.lays "java/util/ArrayList" "java/util/ArrayList" "size" "I") ∈ lw_all := lw_g (lw_at lw_m1 91 rfl) rfl
theorem q175 : (Jvm.Cond.soleField "java/util/ArrayList" "size") ∈ lw_all := lw_g (lw_at lw_m1 92 rfl) rfl
theorem q176 : (Jvm.Cond.lays "java/util/ArrayList" "java/util/AbstractList" "modCount" "I") ∈ lw_all := lw_g (lw_at lw_m1 93 rfl) rfl
theorem q178 : (Jvm.Cond.superclass "java/util/ArrayList" "java/util/AbstractList") ∈ lw_all := lw_g (lw_at lw_m1 95 rfl) rfl
theorem q275 : (Jvm.Cond.instanceMethod ({ cls := "java/util/ArrayList", name := "size", desc := "()I" } : Jvm.MethodName)) ∈ lw_all := lw_g (lw_at lw_m1 192 rfl) rfl
theorem q276 : (Jvm.Cond.selects "java/util/ArrayList" ({ cls := "java/util/ArrayList", name := "size", desc := "()I" } : Jvm.MethodName) ({ cls := "java/util/ArrayList", name := "size", desc := "()I" } : Jvm.MethodName)) ∈ lw_all := lw_g (lw_at lw_m1 193 rfl) rfl
theorem q277 : (Jvm.Cond.code ({ cls := "java/util/ArrayList", name := "size", desc := "()I" } : Jvm.MethodName) prog_51_method_8_code (1 : Nat) (Option.some Jvm.ClassFile.FieldType.int)) ∈ lw_all := lw_g (lw_at lw_m1 194 rfl) rfl
theorem q1057 : (Jvm.Cond.instanceMethod ({ cls := "java/util/ArrayList", name := "add", desc := "(Ljava/lang/Object;)Z" } : Jvm.MethodName)) ∈ lw_all := lw_g (lw_at lw_m5 14 rfl) rfl
theorem q1058 : (Jvm.Cond.selects "java/util/ArrayList" ({ cls := "java/util/ArrayList", name := "add", desc := "(Ljava/lang/Object;)Z" } : Jvm.MethodName) ({ cls := "java/util/ArrayList", name := "add", desc := "(Ljava/lang/Object;)Z" } : Jvm.MethodName)) ∈ lw_all := lw_g (lw_at lw_m5 15 rfl) rfl
theorem q1059 : (Jvm.Cond.code ({ cls := "java/util/ArrayList", name := "add", desc := "(Ljava/lang/Object;)Z" } : Jvm.MethodName) prog_51_method_25_code (2 : Nat) (Option.some Jvm.ClassFile.FieldType.boolean)) ∈ lw_all := lw_g (lw_at lw_m5 16 rfl) rfl
theorem q1060 : (Jvm.Cond.methodLink "java/util/ArrayList" (131 : Nat) ({ cls := "java/util/ArrayList", name := "add", desc := "(Ljava/lang/Object;[Ljava/lang/Object;I)V" } : Jvm.MethodName)) ∈ lw_all := lw_g (lw_at lw_m5 17 rfl) rfl
theorem q1061 : (Jvm.Cond.privateMethod ({ cls := "java/util/ArrayList", name := "add", desc := "(Ljava/lang/Object;[Ljava/lang/Object;I)V" } : Jvm.MethodName)) ∈ lw_tbl := lw_at lw_m5 18 rfl
theorem q1062 : (Jvm.Cond.instanceMethod ({ cls := "java/util/ArrayList", name := "add", desc := "(Ljava/lang/Object;[Ljava/lang/Object;I)V" } : Jvm.MethodName)) ∈ lw_all := lw_g (lw_at lw_m5 19 rfl) rfl
theorem q1063 : (Jvm.Cond.code ({ cls := "java/util/ArrayList", name := "add", desc := "(Ljava/lang/Object;[Ljava/lang/Object;I)V" } : Jvm.MethodName) prog_51_method_24_code (4 : Nat) (Option.none : Option Jvm.ClassFile.FieldType)) ∈ lw_all := lw_g (lw_at lw_m5 20 rfl) rfl
theorem q1064 : (Jvm.Cond.methodLink "java/util/ArrayList" (129 : Nat) ({ cls := "java/util/ArrayList", name := "grow", desc := "()[Ljava/lang/Object;" } : Jvm.MethodName)) ∈ lw_all := lw_g (lw_at lw_m5 21 rfl) rfl
theorem q1065 : (Jvm.Cond.privateMethod ({ cls := "java/util/ArrayList", name := "grow", desc := "()[Ljava/lang/Object;" } : Jvm.MethodName)) ∈ lw_tbl := lw_at lw_m5 22 rfl
theorem q1066 : (Jvm.Cond.instanceMethod ({ cls := "java/util/ArrayList", name := "grow", desc := "()[Ljava/lang/Object;" } : Jvm.MethodName)) ∈ lw_all := lw_g (lw_at lw_m5 23 rfl) rfl
theorem q1067 : (Jvm.Cond.code ({ cls := "java/util/ArrayList", name := "grow", desc := "()[Ljava/lang/Object;" } : Jvm.MethodName) prog_51_method_7_code (1 : Nat) (Option.some (Jvm.ClassFile.FieldType.array (Jvm.ClassFile.FieldType.object "java/lang/Object")))) ∈ lw_all := lw_g (lw_at lw_m5 24 rfl) rfl
theorem q1068 : (Jvm.Cond.methodLink "java/util/ArrayList" (69 : Nat) ({ cls := "java/util/ArrayList", name := "grow", desc := "(I)[Ljava/lang/Object;" } : Jvm.MethodName)) ∈ lw_all := lw_g (lw_at lw_m5 25 rfl) rfl
theorem q1069 : (Jvm.Cond.privateMethod ({ cls := "java/util/ArrayList", name := "grow", desc := "(I)[Ljava/lang/Object;" } : Jvm.MethodName)) ∈ lw_tbl := lw_at lw_m5 26 rfl
theorem q1070 : (Jvm.Cond.instanceMethod ({ cls := "java/util/ArrayList", name := "grow", desc := "(I)[Ljava/lang/Object;" } : Jvm.MethodName)) ∈ lw_all := lw_g (lw_at lw_m5 27 rfl) rfl
theorem q1071 : (Jvm.Cond.code ({ cls := "java/util/ArrayList", name := "grow", desc := "(I)[Ljava/lang/Object;" } : Jvm.MethodName) prog_51_method_6_code (4 : Nat) (Option.some (Jvm.ClassFile.FieldType.array (Jvm.ClassFile.FieldType.object "java/lang/Object")))) ∈ lw_all := lw_g (lw_at lw_m5 28 rfl) rfl
theorem q1072 : (Jvm.Cond.methodLink "java/util/ArrayList" (73 : Nat) ({ cls := "jdk/internal/util/ArraysSupport", name := "newLength", desc := "(III)I" } : Jvm.MethodName)) ∈ lw_all := lw_g (lw_at lw_m5 29 rfl) rfl
theorem q1073 : (Jvm.Cond.methodLink "java/util/ArrayList" (66 : Nat) ({ cls := "java/util/Arrays", name := "copyOf", desc := "([Ljava/lang/Object;I)[Ljava/lang/Object;" } : Jvm.MethodName)) ∈ lw_all := lw_g (lw_at lw_m5 30 rfl) rfl
theorem q1102 : (Jvm.Cond.selects "java/util/ArrayList" ({ cls := "java/lang/Object", name := "getClass", desc := "()Ljava/lang/Class;" } : Jvm.MethodName) ({ cls := "java/lang/Object", name := "getClass", desc := "()Ljava/lang/Class;" } : Jvm.MethodName)) ∈ lw_all := lw_g (lw_at lw_m5 59 rfl) rfl
theorem q1113 : (Jvm.Cond.methodLink "java/util/ArrayList" (79 : Nat) ({ cls := "java/lang/Math", name := "max", desc := "(II)I" } : Jvm.MethodName)) ∈ lw_all := lw_g (lw_at lw_m5 70 rfl) rfl
theorem q1114 : (Jvm.Cond.classLink "java/util/ArrayList" (7 : Nat) "java/lang/Object") ∈ lw_all := lw_g (lw_at lw_m5 71 rfl) rfl
theorem q1818 : (Jvm.Cond.instanceMethod ({ cls := "java/util/ArrayList", name := "get", desc := "(I)Ljava/lang/Object;" } : Jvm.MethodName)) ∈ lw_all := lw_g (lw_at lw_m8 55 rfl) rfl
theorem q1819 : (Jvm.Cond.selects "java/util/ArrayList" ({ cls := "java/util/ArrayList", name := "get", desc := "(I)Ljava/lang/Object;" } : Jvm.MethodName) ({ cls := "java/util/ArrayList", name := "get", desc := "(I)Ljava/lang/Object;" } : Jvm.MethodName)) ∈ lw_all := lw_g (lw_at lw_m8 56 rfl) rfl
theorem q1820 : (Jvm.Cond.code ({ cls := "java/util/ArrayList", name := "get", desc := "(I)Ljava/lang/Object;" } : Jvm.MethodName) prog_51_method_20_code (2 : Nat) (Option.some (Jvm.ClassFile.FieldType.object "java/lang/Object"))) ∈ lw_all := lw_g (lw_at lw_m8 57 rfl) rfl
theorem q1821 : (Jvm.Cond.methodLink "java/util/ArrayList" (118 : Nat) ({ cls := "java/util/Objects", name := "checkIndex", desc := "(II)I" } : Jvm.MethodName)) ∈ lw_all := lw_g (lw_at lw_m8 58 rfl) rfl
theorem q1825 : (Jvm.Cond.methodLink "java/util/ArrayList" (123 : Nat) ({ cls := "java/util/ArrayList", name := "elementData", desc := "(I)Ljava/lang/Object;" } : Jvm.MethodName)) ∈ lw_all := lw_g (lw_at lw_m8 62 rfl) rfl
theorem q1826 : (Jvm.Cond.instanceMethod ({ cls := "java/util/ArrayList", name := "elementData", desc := "(I)Ljava/lang/Object;" } : Jvm.MethodName)) ∈ lw_all := lw_g (lw_at lw_m8 63 rfl) rfl
theorem q1827 : (Jvm.Cond.selects "java/util/ArrayList" ({ cls := "java/util/ArrayList", name := "elementData", desc := "(I)Ljava/lang/Object;" } : Jvm.MethodName) ({ cls := "java/util/ArrayList", name := "elementData", desc := "(I)Ljava/lang/Object;" } : Jvm.MethodName)) ∈ lw_all := lw_g (lw_at lw_m8 64 rfl) rfl
theorem q1828 : (Jvm.Cond.code ({ cls := "java/util/ArrayList", name := "elementData", desc := "(I)Ljava/lang/Object;" } : Jvm.MethodName) prog_51_method_18_code (2 : Nat) (Option.some (Jvm.ClassFile.FieldType.object "java/lang/Object"))) ∈ lw_all := lw_g (lw_at lw_m8 65 rfl) rfl
theorem q2664 : (Jvm.Cond.castable "java/util/ArrayList" "java/lang/Object") ∈ lw_tbl := lw_at lw_m11 181 rfl
theorem in_J2 : ∀ w ∈ wsJ20, w ∈ lw_all := lw_in wsJ20 [176, 172, 174] (by decide +kernel) (by decide +kernel)

/-! java/util/ArrayDeque -/
set_option maxRecDepth 100000
def RJ3 : String := "java/util/ArrayDeque"
def TJ3 : u_T := fun k => match k with
  | 0 => ("java/util/ArrayDeque", "elements", "[Ljava/lang/Object;", false)
  | 1 => ("java/util/ArrayDeque", "head", "I", false)
  | _ => ("java/util/ArrayDeque", "tail", "I", false)
def tyJ3 : Nat → FieldType := fun k => match k with
  | 0 => .array (.object "java/lang/Object")
  | 1 => .int
  | _ => .int
abbrev wsJ30 : List Cond := u_ws RJ3 TJ3 3
theorem nmJ3 : ∀ a, a < 3 → ∀ b, b < 3 → a ≠ b → (TJ3 a).2.1 ≠ (TJ3 b).2.1 := by decide +kernel
theorem tyJ3_ok : ∀ k, k < 3 → parseFieldDescriptor (TJ3 k).2.2.1 = some (tyJ3 k) := by decide +kernel
abbrev cJ3_init : ByteArray := prog_50_method_4_code
def yJ3_init : MethodName := ⟨RJ3, "<init>", "(I)V"⟩
def dkwJ3_init_1 : List UInt8 := [167, 0, 6, 27, 4, 96, 189, 0, 47, 181, 0, 3, 177]
abbrev dktJ3_init_1 : List UInt8 := dkwJ3_init_1 ++ []
def dkwJ3_init_0 : List UInt8 := [42, 183, 0, 42, 42, 27, 4, 162, 0, 7, 4, 167, 0, 17, 27, 18, 41, 160, 0, 8, 18, 41]
abbrev dktJ3_init_0 : List UInt8 := dkwJ3_init_0 ++ dktJ3_init_1
theorem dksJ3_init_0 : cJ3_init.data.toList.drop 0 = dktJ3_init_0 := by decide +kernel
theorem dksJ3_init_1 : cJ3_init.data.toList.drop 22 = dktJ3_init_1 := dk_seg dksJ3_init_0 22 rfl rfl
theorem dJ3_init_0 : decode cJ3_init 0 = .ok (.aload_n 0, 1) := dk_42 (dk_at dksJ3_init_0 0 rfl rfl)
theorem dJ3_init_1 : decode cJ3_init 1 = .ok (.invokespecial 42, 3) := dk_183 0 42 (dk_at dksJ3_init_0 1 rfl rfl)
theorem dJ3_init_4 : decode cJ3_init 4 = .ok (.aload_n 0, 1) := dk_42 (dk_at dksJ3_init_0 4 rfl rfl)
theorem dJ3_init_5 : decode cJ3_init 5 = .ok (.iload_n 1, 1) := dk_27 (dk_at dksJ3_init_0 5 rfl rfl)
theorem dJ3_init_6 : decode cJ3_init 6 = .ok (.iconst 1, 1) := dk_4 (dk_at dksJ3_init_0 6 rfl rfl)
theorem dJ3_init_7 : decode cJ3_init 7 = .ok (.if_icmp .ge 7, 3) := dk_162 0 7 (dk_at dksJ3_init_0 7 rfl rfl)
theorem dJ3_init_10 : decode cJ3_init 10 = .ok (.iconst 1, 1) := dk_4 (dk_at dksJ3_init_0 10 rfl rfl)
theorem dJ3_init_11 : decode cJ3_init 11 = .ok (.goto 17, 3) := dk_167 0 17 (dk_at dksJ3_init_0 11 rfl rfl)
theorem dJ3_init_14 : decode cJ3_init 14 = .ok (.iload_n 1, 1) := dk_27 (dk_at dksJ3_init_0 14 rfl rfl)
theorem dJ3_init_15 : decode cJ3_init 15 = .ok (.ldc 41, 2) := dk_18 41 (dk_at dksJ3_init_0 15 rfl rfl)
theorem dJ3_init_17 : decode cJ3_init 17 = .ok (.if_icmp .ne 8, 3) := dk_160 0 8 (dk_at dksJ3_init_0 17 rfl rfl)
theorem dJ3_init_20 : decode cJ3_init 20 = .ok (.ldc 41, 2) := dk_18 41 (dk_at dksJ3_init_0 20 rfl rfl)
theorem dJ3_init_22 : decode cJ3_init 22 = .ok (.goto 6, 3) := dk_167 0 6 (dk_at dksJ3_init_1 0 rfl rfl)
theorem dJ3_init_25 : decode cJ3_init 25 = .ok (.iload_n 1, 1) := dk_27 (dk_at dksJ3_init_1 3 rfl rfl)
theorem dJ3_init_26 : decode cJ3_init 26 = .ok (.iconst 1, 1) := dk_4 (dk_at dksJ3_init_1 4 rfl rfl)
theorem dJ3_init_27 : decode cJ3_init 27 = .ok (.iadd, 1) := dk_96 (dk_at dksJ3_init_1 5 rfl rfl)
theorem dJ3_init_28 : decode cJ3_init 28 = .ok (.anewarray 47, 3) := dk_189 0 47 (dk_at dksJ3_init_1 6 rfl rfl)
theorem dJ3_init_31 : decode cJ3_init 31 = .ok (.putfield 3, 3) := dk_181 0 3 (dk_at dksJ3_init_1 9 rfl rfl)
theorem dJ3_init_34 : decode cJ3_init 34 = .ok (.return_, 1) := dk_177 (dk_at dksJ3_init_1 12 rfl rfl)
abbrev cJ3_clear : ByteArray := prog_50_method_53_code
def yJ3_clear : MethodName := ⟨RJ3, "clear", "()V"⟩
def dkwJ3_clear_1 : List UInt8 := [181, 0, 24, 177]
abbrev dktJ3_clear_1 : List UInt8 := dkwJ3_clear_1 ++ []
def dkwJ3_clear_0 : List UInt8 := [42, 180, 0, 3, 42, 180, 0, 24, 42, 180, 0, 20, 184, 0, 181, 42, 42, 3, 90, 181, 0, 20]
abbrev dktJ3_clear_0 : List UInt8 := dkwJ3_clear_0 ++ dktJ3_clear_1
theorem dksJ3_clear_0 : cJ3_clear.data.toList.drop 0 = dktJ3_clear_0 := by decide +kernel
theorem dksJ3_clear_1 : cJ3_clear.data.toList.drop 22 = dktJ3_clear_1 := dk_seg dksJ3_clear_0 22 rfl rfl
theorem dJ3_clear_0 : decode cJ3_clear 0 = .ok (.aload_n 0, 1) := dk_42 (dk_at dksJ3_clear_0 0 rfl rfl)
theorem dJ3_clear_1 : decode cJ3_clear 1 = .ok (.getfield 3, 3) := dk_180 0 3 (dk_at dksJ3_clear_0 1 rfl rfl)
theorem dJ3_clear_4 : decode cJ3_clear 4 = .ok (.aload_n 0, 1) := dk_42 (dk_at dksJ3_clear_0 4 rfl rfl)
theorem dJ3_clear_5 : decode cJ3_clear 5 = .ok (.getfield 24, 3) := dk_180 0 24 (dk_at dksJ3_clear_0 5 rfl rfl)
theorem dJ3_clear_8 : decode cJ3_clear 8 = .ok (.aload_n 0, 1) := dk_42 (dk_at dksJ3_clear_0 8 rfl rfl)
theorem dJ3_clear_9 : decode cJ3_clear 9 = .ok (.getfield 20, 3) := dk_180 0 20 (dk_at dksJ3_clear_0 9 rfl rfl)
theorem dJ3_clear_12 : decode cJ3_clear 12 = .ok (.invokestatic 181, 3) := dk_184 0 181 (dk_at dksJ3_clear_0 12 rfl rfl)
theorem dJ3_clear_15 : decode cJ3_clear 15 = .ok (.aload_n 0, 1) := dk_42 (dk_at dksJ3_clear_0 15 rfl rfl)
theorem dJ3_clear_16 : decode cJ3_clear 16 = .ok (.aload_n 0, 1) := dk_42 (dk_at dksJ3_clear_0 16 rfl rfl)
theorem dJ3_clear_17 : decode cJ3_clear 17 = .ok (.iconst 0, 1) := dk_3 (dk_at dksJ3_clear_0 17 rfl rfl)
theorem dJ3_clear_18 : decode cJ3_clear 18 = .ok (.dup_x1, 1) := dk_90 (dk_at dksJ3_clear_0 18 rfl rfl)
theorem dJ3_clear_19 : decode cJ3_clear 19 = .ok (.putfield 20, 3) := dk_181 0 20 (dk_at dksJ3_clear_0 19 rfl rfl)
theorem dJ3_clear_22 : decode cJ3_clear 22 = .ok (.putfield 24, 3) := dk_181 0 24 (dk_at dksJ3_clear_1 0 rfl rfl)
theorem dJ3_clear_25 : decode cJ3_clear 25 = .ok (.return_, 1) := dk_177 (dk_at dksJ3_clear_1 3 rfl rfl)
abbrev cJ3_circularClear : ByteArray := prog_50_method_54_code
def yJ3_circularClear : MethodName := ⟨RJ3, "circularClear", "([Ljava/lang/Object;II)V"⟩
def dkwJ3_circularClear_1 : List UInt8 := [167, 255, 244, 29, 28, 160, 0, 6, 167, 0, 10, 3, 60, 28, 62, 167, 255, 229, 177]
abbrev dktJ3_circularClear_1 : List UInt8 := dkwJ3_circularClear_1 ++ []
def dkwJ3_circularClear_0 : List UInt8 := [27, 28, 163, 0, 7, 28, 167, 0, 5, 42, 190, 62, 27, 29, 162, 0, 13, 42, 27, 1, 83, 132, 1, 1]
abbrev dktJ3_circularClear_0 : List UInt8 := dkwJ3_circularClear_0 ++ dktJ3_circularClear_1
theorem dksJ3_circularClear_0 : cJ3_circularClear.data.toList.drop 0 = dktJ3_circularClear_0 := by decide +kernel
theorem dksJ3_circularClear_1 : cJ3_circularClear.data.toList.drop 24 = dktJ3_circularClear_1 := dk_seg dksJ3_circularClear_0 24 rfl rfl
theorem dJ3_circularClear_0 : decode cJ3_circularClear 0 = .ok (.iload_n 1, 1) := dk_27 (dk_at dksJ3_circularClear_0 0 rfl rfl)
theorem dJ3_circularClear_1 : decode cJ3_circularClear 1 = .ok (.iload_n 2, 1) := dk_28 (dk_at dksJ3_circularClear_0 1 rfl rfl)
theorem dJ3_circularClear_2 : decode cJ3_circularClear 2 = .ok (.if_icmp .gt 7, 3) := dk_163 0 7 (dk_at dksJ3_circularClear_0 2 rfl rfl)
theorem dJ3_circularClear_5 : decode cJ3_circularClear 5 = .ok (.iload_n 2, 1) := dk_28 (dk_at dksJ3_circularClear_0 5 rfl rfl)
theorem dJ3_circularClear_6 : decode cJ3_circularClear 6 = .ok (.goto 5, 3) := dk_167 0 5 (dk_at dksJ3_circularClear_0 6 rfl rfl)
theorem dJ3_circularClear_9 : decode cJ3_circularClear 9 = .ok (.aload_n 0, 1) := dk_42 (dk_at dksJ3_circularClear_0 9 rfl rfl)
theorem dJ3_circularClear_10 : decode cJ3_circularClear 10 = .ok (.arraylength, 1) := dk_190 (dk_at dksJ3_circularClear_0 10 rfl rfl)
theorem dJ3_circularClear_11 : decode cJ3_circularClear 11 = .ok (.istore_n 3, 1) := dk_62 (dk_at dksJ3_circularClear_0 11 rfl rfl)
theorem dJ3_circularClear_12 : decode cJ3_circularClear 12 = .ok (.iload_n 1, 1) := dk_27 (dk_at dksJ3_circularClear_0 12 rfl rfl)
theorem dJ3_circularClear_13 : decode cJ3_circularClear 13 = .ok (.iload_n 3, 1) := dk_29 (dk_at dksJ3_circularClear_0 13 rfl rfl)
theorem dJ3_circularClear_14 : decode cJ3_circularClear 14 = .ok (.if_icmp .ge 13, 3) := dk_162 0 13 (dk_at dksJ3_circularClear_0 14 rfl rfl)
theorem dJ3_circularClear_17 : decode cJ3_circularClear 17 = .ok (.aload_n 0, 1) := dk_42 (dk_at dksJ3_circularClear_0 17 rfl rfl)
theorem dJ3_circularClear_18 : decode cJ3_circularClear 18 = .ok (.iload_n 1, 1) := dk_27 (dk_at dksJ3_circularClear_0 18 rfl rfl)
theorem dJ3_circularClear_19 : decode cJ3_circularClear 19 = .ok (.aconst_null, 1) := dk_1 (dk_at dksJ3_circularClear_0 19 rfl rfl)
theorem dJ3_circularClear_20 : decode cJ3_circularClear 20 = .ok (.aastore, 1) := dk_83 (dk_at dksJ3_circularClear_0 20 rfl rfl)
theorem dJ3_circularClear_21 : decode cJ3_circularClear 21 = .ok (.iinc 1 1, 3) := dk_132 1 1 (dk_at dksJ3_circularClear_0 21 rfl rfl)
theorem dJ3_circularClear_24 : decode cJ3_circularClear 24 = .ok (.goto (-12), 3) := dk_167 255 244 (dk_at dksJ3_circularClear_1 0 rfl rfl)
theorem dJ3_circularClear_27 : decode cJ3_circularClear 27 = .ok (.iload_n 3, 1) := dk_29 (dk_at dksJ3_circularClear_1 3 rfl rfl)
theorem dJ3_circularClear_28 : decode cJ3_circularClear 28 = .ok (.iload_n 2, 1) := dk_28 (dk_at dksJ3_circularClear_1 4 rfl rfl)
theorem dJ3_circularClear_29 : decode cJ3_circularClear 29 = .ok (.if_icmp .ne 6, 3) := dk_160 0 6 (dk_at dksJ3_circularClear_1 5 rfl rfl)
theorem dJ3_circularClear_32 : decode cJ3_circularClear 32 = .ok (.goto 10, 3) := dk_167 0 10 (dk_at dksJ3_circularClear_1 8 rfl rfl)
theorem dJ3_circularClear_35 : decode cJ3_circularClear 35 = .ok (.iconst 0, 1) := dk_3 (dk_at dksJ3_circularClear_1 11 rfl rfl)
theorem dJ3_circularClear_36 : decode cJ3_circularClear 36 = .ok (.istore_n 1, 1) := dk_60 (dk_at dksJ3_circularClear_1 12 rfl rfl)
theorem dJ3_circularClear_37 : decode cJ3_circularClear 37 = .ok (.iload_n 2, 1) := dk_28 (dk_at dksJ3_circularClear_1 13 rfl rfl)
theorem dJ3_circularClear_38 : decode cJ3_circularClear 38 = .ok (.istore_n 3, 1) := dk_62 (dk_at dksJ3_circularClear_1 14 rfl rfl)
theorem dJ3_circularClear_39 : decode cJ3_circularClear 39 = .ok (.goto (-27), 3) := dk_167 255 229 (dk_at dksJ3_circularClear_1 15 rfl rfl)
theorem dJ3_circularClear_42 : decode cJ3_circularClear 42 = .ok (.return_, 1) := dk_177 (dk_at dksJ3_circularClear_1 18 rfl rfl)
abbrev cJ3_size : ByteArray := prog_50_method_37_code
def yJ3_size : MethodName := ⟨RJ3, "size", "()I"⟩
def dkwJ3_size_0 : List UInt8 := [42, 180, 0, 20, 42, 180, 0, 24, 42, 180, 0, 3, 190, 184, 0, 127, 172]
abbrev dktJ3_size_0 : List UInt8 := dkwJ3_size_0 ++ []
theorem dksJ3_size_0 : cJ3_size.data.toList.drop 0 = dktJ3_size_0 := by decide +kernel
theorem dJ3_size_0 : decode cJ3_size 0 = .ok (.aload_n 0, 1) := dk_42 (dk_at dksJ3_size_0 0 rfl rfl)
theorem dJ3_size_1 : decode cJ3_size 1 = .ok (.getfield 20, 3) := dk_180 0 20 (dk_at dksJ3_size_0 1 rfl rfl)
theorem dJ3_size_4 : decode cJ3_size 4 = .ok (.aload_n 0, 1) := dk_42 (dk_at dksJ3_size_0 4 rfl rfl)
theorem dJ3_size_5 : decode cJ3_size 5 = .ok (.getfield 24, 3) := dk_180 0 24 (dk_at dksJ3_size_0 5 rfl rfl)
theorem dJ3_size_8 : decode cJ3_size 8 = .ok (.aload_n 0, 1) := dk_42 (dk_at dksJ3_size_0 8 rfl rfl)
theorem dJ3_size_9 : decode cJ3_size 9 = .ok (.getfield 3, 3) := dk_180 0 3 (dk_at dksJ3_size_0 9 rfl rfl)
theorem dJ3_size_12 : decode cJ3_size 12 = .ok (.arraylength, 1) := dk_190 (dk_at dksJ3_size_0 12 rfl rfl)
theorem dJ3_size_13 : decode cJ3_size 13 = .ok (.invokestatic 127, 3) := dk_184 0 127 (dk_at dksJ3_size_0 13 rfl rfl)
theorem dJ3_size_16 : decode cJ3_size 16 = .ok (.ireturn, 1) := dk_172 (dk_at dksJ3_size_0 16 rfl rfl)
abbrev cJ3_sub : ByteArray := prog_50_method_9_code
def yJ3_sub : MethodName := ⟨RJ3, "sub", "(III)I"⟩
def dkwJ3_sub_0 : List UInt8 := [26, 27, 100, 89, 59, 156, 0, 7, 26, 28, 96, 59, 26, 172]
abbrev dktJ3_sub_0 : List UInt8 := dkwJ3_sub_0 ++ []
theorem dksJ3_sub_0 : cJ3_sub.data.toList.drop 0 = dktJ3_sub_0 := by decide +kernel
theorem dJ3_sub_0 : decode cJ3_sub 0 = .ok (.iload_n 0, 1) := dk_26 (dk_at dksJ3_sub_0 0 rfl rfl)
theorem dJ3_sub_1 : decode cJ3_sub 1 = .ok (.iload_n 1, 1) := dk_27 (dk_at dksJ3_sub_0 1 rfl rfl)
theorem dJ3_sub_2 : decode cJ3_sub 2 = .ok (.isub, 1) := dk_100 (dk_at dksJ3_sub_0 2 rfl rfl)
theorem dJ3_sub_3 : decode cJ3_sub 3 = .ok (.dup, 1) := dk_89 (dk_at dksJ3_sub_0 3 rfl rfl)
theorem dJ3_sub_4 : decode cJ3_sub 4 = .ok (.istore_n 0, 1) := dk_59 (dk_at dksJ3_sub_0 4 rfl rfl)
theorem dJ3_sub_5 : decode cJ3_sub 5 = .ok (.ifCond .ge 7, 3) := dk_156 0 7 (dk_at dksJ3_sub_0 5 rfl rfl)
theorem dJ3_sub_8 : decode cJ3_sub 8 = .ok (.iload_n 0, 1) := dk_26 (dk_at dksJ3_sub_0 8 rfl rfl)
theorem dJ3_sub_9 : decode cJ3_sub 9 = .ok (.iload_n 2, 1) := dk_28 (dk_at dksJ3_sub_0 9 rfl rfl)
theorem dJ3_sub_10 : decode cJ3_sub 10 = .ok (.iadd, 1) := dk_96 (dk_at dksJ3_sub_0 10 rfl rfl)
theorem dJ3_sub_11 : decode cJ3_sub 11 = .ok (.istore_n 0, 1) := dk_59 (dk_at dksJ3_sub_0 11 rfl rfl)
theorem dJ3_sub_12 : decode cJ3_sub 12 = .ok (.iload_n 0, 1) := dk_26 (dk_at dksJ3_sub_0 12 rfl rfl)
theorem dJ3_sub_13 : decode cJ3_sub 13 = .ok (.ireturn, 1) := dk_172 (dk_at dksJ3_sub_0 13 rfl rfl)
abbrev cJ3_removeFirst : ByteArray := prog_50_method_18_code
def yJ3_removeFirst : MethodName := ⟨RJ3, "removeFirst", "()Ljava/lang/Object;"⟩
def dkwJ3_removeFirst_0 : List UInt8 := [42, 182, 0, 93, 76, 43, 199, 0, 11, 187, 0, 97, 89, 183, 0, 99, 191, 43, 176]
abbrev dktJ3_removeFirst_0 : List UInt8 := dkwJ3_removeFirst_0 ++ []
theorem dksJ3_removeFirst_0 : cJ3_removeFirst.data.toList.drop 0 = dktJ3_removeFirst_0 := by decide +kernel
theorem dJ3_removeFirst_0 : decode cJ3_removeFirst 0 = .ok (.aload_n 0, 1) := dk_42 (dk_at dksJ3_removeFirst_0 0 rfl rfl)
theorem dJ3_removeFirst_1 : decode cJ3_removeFirst 1 = .ok (.invokevirtual 93, 3) := dk_182 0 93 (dk_at dksJ3_removeFirst_0 1 rfl rfl)
theorem dJ3_removeFirst_4 : decode cJ3_removeFirst 4 = .ok (.astore_n 1, 1) := dk_76 (dk_at dksJ3_removeFirst_0 4 rfl rfl)
theorem dJ3_removeFirst_5 : decode cJ3_removeFirst 5 = .ok (.aload_n 1, 1) := dk_43 (dk_at dksJ3_removeFirst_0 5 rfl rfl)
theorem dJ3_removeFirst_6 : decode cJ3_removeFirst 6 = .ok (.ifnonnull 11, 3) := dk_199 0 11 (dk_at dksJ3_removeFirst_0 6 rfl rfl)
theorem dJ3_removeFirst_9 : decode cJ3_removeFirst 9 = .ok (.new 97, 3) := dk_187 0 97 (dk_at dksJ3_removeFirst_0 9 rfl rfl)
theorem dJ3_removeFirst_12 : decode cJ3_removeFirst 12 = .ok (.dup, 1) := dk_89 (dk_at dksJ3_removeFirst_0 12 rfl rfl)
theorem dJ3_removeFirst_13 : decode cJ3_removeFirst 13 = .ok (.invokespecial 99, 3) := dk_183 0 99 (dk_at dksJ3_removeFirst_0 13 rfl rfl)
theorem dJ3_removeFirst_16 : decode cJ3_removeFirst 16 = .ok (.athrow, 1) := dk_191 (dk_at dksJ3_removeFirst_0 16 rfl rfl)
theorem dJ3_removeFirst_17 : decode cJ3_removeFirst 17 = .ok (.aload_n 1, 1) := dk_43 (dk_at dksJ3_removeFirst_0 17 rfl rfl)
theorem dJ3_removeFirst_18 : decode cJ3_removeFirst 18 = .ok (.areturn, 1) := dk_176 (dk_at dksJ3_removeFirst_0 18 rfl rfl)
abbrev cJ3_pollFirst : ByteArray := prog_50_method_20_code
def yJ3_pollFirst : MethodName := ⟨RJ3, "pollFirst", "()Ljava/lang/Object;"⟩
def dkwJ3_pollFirst_1 : List UInt8 := [42, 28, 43, 190, 184, 0, 74, 181, 0, 24, 45, 176]
abbrev dktJ3_pollFirst_1 : List UInt8 := dkwJ3_pollFirst_1 ++ []
def dkwJ3_pollFirst_0 : List UInt8 := [42, 180, 0, 3, 89, 76, 42, 180, 0, 24, 89, 61, 184, 0, 103, 78, 45, 198, 0, 17, 43, 28, 1, 83]
abbrev dktJ3_pollFirst_0 : List UInt8 := dkwJ3_pollFirst_0 ++ dktJ3_pollFirst_1
theorem dksJ3_pollFirst_0 : cJ3_pollFirst.data.toList.drop 0 = dktJ3_pollFirst_0 := by decide +kernel
theorem dksJ3_pollFirst_1 : cJ3_pollFirst.data.toList.drop 24 = dktJ3_pollFirst_1 := dk_seg dksJ3_pollFirst_0 24 rfl rfl
theorem dJ3_pollFirst_0 : decode cJ3_pollFirst 0 = .ok (.aload_n 0, 1) := dk_42 (dk_at dksJ3_pollFirst_0 0 rfl rfl)
theorem dJ3_pollFirst_1 : decode cJ3_pollFirst 1 = .ok (.getfield 3, 3) := dk_180 0 3 (dk_at dksJ3_pollFirst_0 1 rfl rfl)
theorem dJ3_pollFirst_4 : decode cJ3_pollFirst 4 = .ok (.dup, 1) := dk_89 (dk_at dksJ3_pollFirst_0 4 rfl rfl)
theorem dJ3_pollFirst_5 : decode cJ3_pollFirst 5 = .ok (.astore_n 1, 1) := dk_76 (dk_at dksJ3_pollFirst_0 5 rfl rfl)
theorem dJ3_pollFirst_6 : decode cJ3_pollFirst 6 = .ok (.aload_n 0, 1) := dk_42 (dk_at dksJ3_pollFirst_0 6 rfl rfl)
theorem dJ3_pollFirst_7 : decode cJ3_pollFirst 7 = .ok (.getfield 24, 3) := dk_180 0 24 (dk_at dksJ3_pollFirst_0 7 rfl rfl)
theorem dJ3_pollFirst_10 : decode cJ3_pollFirst 10 = .ok (.dup, 1) := dk_89 (dk_at dksJ3_pollFirst_0 10 rfl rfl)
theorem dJ3_pollFirst_11 : decode cJ3_pollFirst 11 = .ok (.istore_n 2, 1) := dk_61 (dk_at dksJ3_pollFirst_0 11 rfl rfl)
theorem dJ3_pollFirst_12 : decode cJ3_pollFirst 12 = .ok (.invokestatic 103, 3) := dk_184 0 103 (dk_at dksJ3_pollFirst_0 12 rfl rfl)
theorem dJ3_pollFirst_15 : decode cJ3_pollFirst 15 = .ok (.astore_n 3, 1) := dk_78 (dk_at dksJ3_pollFirst_0 15 rfl rfl)
theorem dJ3_pollFirst_16 : decode cJ3_pollFirst 16 = .ok (.aload_n 3, 1) := dk_45 (dk_at dksJ3_pollFirst_0 16 rfl rfl)
theorem dJ3_pollFirst_17 : decode cJ3_pollFirst 17 = .ok (.ifnull 17, 3) := dk_198 0 17 (dk_at dksJ3_pollFirst_0 17 rfl rfl)
theorem dJ3_pollFirst_20 : decode cJ3_pollFirst 20 = .ok (.aload_n 1, 1) := dk_43 (dk_at dksJ3_pollFirst_0 20 rfl rfl)
theorem dJ3_pollFirst_21 : decode cJ3_pollFirst 21 = .ok (.iload_n 2, 1) := dk_28 (dk_at dksJ3_pollFirst_0 21 rfl rfl)
theorem dJ3_pollFirst_22 : decode cJ3_pollFirst 22 = .ok (.aconst_null, 1) := dk_1 (dk_at dksJ3_pollFirst_0 22 rfl rfl)
theorem dJ3_pollFirst_23 : decode cJ3_pollFirst 23 = .ok (.aastore, 1) := dk_83 (dk_at dksJ3_pollFirst_0 23 rfl rfl)
theorem dJ3_pollFirst_24 : decode cJ3_pollFirst 24 = .ok (.aload_n 0, 1) := dk_42 (dk_at dksJ3_pollFirst_1 0 rfl rfl)
theorem dJ3_pollFirst_25 : decode cJ3_pollFirst 25 = .ok (.iload_n 2, 1) := dk_28 (dk_at dksJ3_pollFirst_1 1 rfl rfl)
theorem dJ3_pollFirst_26 : decode cJ3_pollFirst 26 = .ok (.aload_n 1, 1) := dk_43 (dk_at dksJ3_pollFirst_1 2 rfl rfl)
theorem dJ3_pollFirst_27 : decode cJ3_pollFirst 27 = .ok (.arraylength, 1) := dk_190 (dk_at dksJ3_pollFirst_1 3 rfl rfl)
theorem dJ3_pollFirst_28 : decode cJ3_pollFirst 28 = .ok (.invokestatic 74, 3) := dk_184 0 74 (dk_at dksJ3_pollFirst_1 4 rfl rfl)
theorem dJ3_pollFirst_31 : decode cJ3_pollFirst 31 = .ok (.putfield 24, 3) := dk_181 0 24 (dk_at dksJ3_pollFirst_1 7 rfl rfl)
theorem dJ3_pollFirst_34 : decode cJ3_pollFirst 34 = .ok (.aload_n 3, 1) := dk_45 (dk_at dksJ3_pollFirst_1 10 rfl rfl)
theorem dJ3_pollFirst_35 : decode cJ3_pollFirst 35 = .ok (.areturn, 1) := dk_176 (dk_at dksJ3_pollFirst_1 11 rfl rfl)
abbrev cJ3_elementAt : ByteArray := prog_50_method_10_code
def yJ3_elementAt : MethodName := ⟨RJ3, "elementAt", "([Ljava/lang/Object;I)Ljava/lang/Object;"⟩
def dkwJ3_elementAt_0 : List UInt8 := [42, 27, 50, 176]
abbrev dktJ3_elementAt_0 : List UInt8 := dkwJ3_elementAt_0 ++ []
theorem dksJ3_elementAt_0 : cJ3_elementAt.data.toList.drop 0 = dktJ3_elementAt_0 := by decide +kernel
theorem dJ3_elementAt_0 : decode cJ3_elementAt 0 = .ok (.aload_n 0, 1) := dk_42 (dk_at dksJ3_elementAt_0 0 rfl rfl)
theorem dJ3_elementAt_1 : decode cJ3_elementAt 1 = .ok (.iload_n 1, 1) := dk_27 (dk_at dksJ3_elementAt_0 1 rfl rfl)
theorem dJ3_elementAt_2 : decode cJ3_elementAt 2 = .ok (.aaload, 1) := dk_50 (dk_at dksJ3_elementAt_0 2 rfl rfl)
theorem dJ3_elementAt_3 : decode cJ3_elementAt 3 = .ok (.areturn, 1) := dk_176 (dk_at dksJ3_elementAt_0 3 rfl rfl)
abbrev cJ3_inc : ByteArray := prog_50_method_6_code
def yJ3_inc : MethodName := ⟨RJ3, "inc", "(II)I"⟩
def dkwJ3_inc_0 : List UInt8 := [132, 0, 1, 26, 27, 161, 0, 5, 3, 59, 26, 172]
abbrev dktJ3_inc_0 : List UInt8 := dkwJ3_inc_0 ++ []
theorem dksJ3_inc_0 : cJ3_inc.data.toList.drop 0 = dktJ3_inc_0 := by decide +kernel
theorem dJ3_inc_0 : decode cJ3_inc 0 = .ok (.iinc 0 1, 3) := dk_132 0 1 (dk_at dksJ3_inc_0 0 rfl rfl)
theorem dJ3_inc_3 : decode cJ3_inc 3 = .ok (.iload_n 0, 1) := dk_26 (dk_at dksJ3_inc_0 3 rfl rfl)
theorem dJ3_inc_4 : decode cJ3_inc 4 = .ok (.iload_n 1, 1) := dk_27 (dk_at dksJ3_inc_0 4 rfl rfl)
theorem dJ3_inc_5 : decode cJ3_inc 5 = .ok (.if_icmp .lt 5, 3) := dk_161 0 5 (dk_at dksJ3_inc_0 5 rfl rfl)
theorem dJ3_inc_8 : decode cJ3_inc 8 = .ok (.iconst 0, 1) := dk_3 (dk_at dksJ3_inc_0 8 rfl rfl)
theorem dJ3_inc_9 : decode cJ3_inc 9 = .ok (.istore_n 0, 1) := dk_59 (dk_at dksJ3_inc_0 9 rfl rfl)
theorem dJ3_inc_10 : decode cJ3_inc 10 = .ok (.iload_n 0, 1) := dk_26 (dk_at dksJ3_inc_0 10 rfl rfl)
theorem dJ3_inc_11 : decode cJ3_inc 11 = .ok (.ireturn, 1) := dk_172 (dk_at dksJ3_inc_0 11 rfl rfl)
abbrev cJ3_addLast : ByteArray := prog_50_method_13_code
def yJ3_addLast : MethodName := ⟨RJ3, "addLast", "(Ljava/lang/Object;)V"⟩
def dkwJ3_addLast_2 : List UInt8 := [182, 0, 71, 177]
abbrev dktJ3_addLast_2 : List UInt8 := dkwJ3_addLast_2 ++ []
def dkwJ3_addLast_1 : List UInt8 := [42, 180, 0, 24, 42, 42, 180, 0, 20, 44, 190, 184, 0, 74, 90, 181, 0, 20, 160, 0, 8, 42, 4]
abbrev dktJ3_addLast_1 : List UInt8 := dkwJ3_addLast_1 ++ dktJ3_addLast_2
def dkwJ3_addLast_0 : List UInt8 := [43, 199, 0, 11, 187, 0, 65, 89, 183, 0, 67, 191, 42, 180, 0, 3, 77, 44, 42, 180, 0, 20, 43, 83]
abbrev dktJ3_addLast_0 : List UInt8 := dkwJ3_addLast_0 ++ dktJ3_addLast_1
theorem dksJ3_addLast_0 : cJ3_addLast.data.toList.drop 0 = dktJ3_addLast_0 := by decide +kernel
theorem dksJ3_addLast_1 : cJ3_addLast.data.toList.drop 24 = dktJ3_addLast_1 := dk_seg dksJ3_addLast_0 24 rfl rfl
theorem dksJ3_addLast_2 : cJ3_addLast.data.toList.drop 47 = dktJ3_addLast_2 := dk_seg dksJ3_addLast_1 23 rfl rfl
theorem dJ3_addLast_0 : decode cJ3_addLast 0 = .ok (.aload_n 1, 1) := dk_43 (dk_at dksJ3_addLast_0 0 rfl rfl)
theorem dJ3_addLast_1 : decode cJ3_addLast 1 = .ok (.ifnonnull 11, 3) := dk_199 0 11 (dk_at dksJ3_addLast_0 1 rfl rfl)
theorem dJ3_addLast_4 : decode cJ3_addLast 4 = .ok (.new 65, 3) := dk_187 0 65 (dk_at dksJ3_addLast_0 4 rfl rfl)
theorem dJ3_addLast_7 : decode cJ3_addLast 7 = .ok (.dup, 1) := dk_89 (dk_at dksJ3_addLast_0 7 rfl rfl)
theorem dJ3_addLast_8 : decode cJ3_addLast 8 = .ok (.invokespecial 67, 3) := dk_183 0 67 (dk_at dksJ3_addLast_0 8 rfl rfl)
theorem dJ3_addLast_11 : decode cJ3_addLast 11 = .ok (.athrow, 1) := dk_191 (dk_at dksJ3_addLast_0 11 rfl rfl)
theorem dJ3_addLast_12 : decode cJ3_addLast 12 = .ok (.aload_n 0, 1) := dk_42 (dk_at dksJ3_addLast_0 12 rfl rfl)
theorem dJ3_addLast_13 : decode cJ3_addLast 13 = .ok (.getfield 3, 3) := dk_180 0 3 (dk_at dksJ3_addLast_0 13 rfl rfl)
theorem dJ3_addLast_16 : decode cJ3_addLast 16 = .ok (.astore_n 2, 1) := dk_77 (dk_at dksJ3_addLast_0 16 rfl rfl)
theorem dJ3_addLast_17 : decode cJ3_addLast 17 = .ok (.aload_n 2, 1) := dk_44 (dk_at dksJ3_addLast_0 17 rfl rfl)
theorem dJ3_addLast_18 : decode cJ3_addLast 18 = .ok (.aload_n 0, 1) := dk_42 (dk_at dksJ3_addLast_0 18 rfl rfl)
theorem dJ3_addLast_19 : decode cJ3_addLast 19 = .ok (.getfield 20, 3) := dk_180 0 20 (dk_at dksJ3_addLast_0 19 rfl rfl)
theorem dJ3_addLast_22 : decode cJ3_addLast 22 = .ok (.aload_n 1, 1) := dk_43 (dk_at dksJ3_addLast_0 22 rfl rfl)
theorem dJ3_addLast_23 : decode cJ3_addLast 23 = .ok (.aastore, 1) := dk_83 (dk_at dksJ3_addLast_0 23 rfl rfl)
theorem dJ3_addLast_24 : decode cJ3_addLast 24 = .ok (.aload_n 0, 1) := dk_42 (dk_at dksJ3_addLast_1 0 rfl rfl)
theorem dJ3_addLast_25 : decode cJ3_addLast 25 = .ok (.getfield 24, 3) := dk_180 0 24 (dk_at dksJ3_addLast_1 1 rfl rfl)
theorem dJ3_addLast_28 : decode cJ3_addLast 28 = .ok (.aload_n 0, 1) := dk_42 (dk_at dksJ3_addLast_1 4 rfl rfl)
theorem dJ3_addLast_29 : decode cJ3_addLast 29 = .ok (.aload_n 0, 1) := dk_42 (dk_at dksJ3_addLast_1 5 rfl rfl)
theorem dJ3_addLast_30 : decode cJ3_addLast 30 = .ok (.getfield 20, 3) := dk_180 0 20 (dk_at dksJ3_addLast_1 6 rfl rfl)
theorem dJ3_addLast_33 : decode cJ3_addLast 33 = .ok (.aload_n 2, 1) := dk_44 (dk_at dksJ3_addLast_1 9 rfl rfl)
theorem dJ3_addLast_34 : decode cJ3_addLast 34 = .ok (.arraylength, 1) := dk_190 (dk_at dksJ3_addLast_1 10 rfl rfl)
theorem dJ3_addLast_35 : decode cJ3_addLast 35 = .ok (.invokestatic 74, 3) := dk_184 0 74 (dk_at dksJ3_addLast_1 11 rfl rfl)
theorem dJ3_addLast_38 : decode cJ3_addLast 38 = .ok (.dup_x1, 1) := dk_90 (dk_at dksJ3_addLast_1 14 rfl rfl)
theorem dJ3_addLast_39 : decode cJ3_addLast 39 = .ok (.putfield 20, 3) := dk_181 0 20 (dk_at dksJ3_addLast_1 15 rfl rfl)
theorem dJ3_addLast_42 : decode cJ3_addLast 42 = .ok (.if_icmp .ne 8, 3) := dk_160 0 8 (dk_at dksJ3_addLast_1 18 rfl rfl)
theorem dJ3_addLast_45 : decode cJ3_addLast 45 = .ok (.aload_n 0, 1) := dk_42 (dk_at dksJ3_addLast_1 21 rfl rfl)
theorem dJ3_addLast_46 : decode cJ3_addLast 46 = .ok (.iconst 1, 1) := dk_4 (dk_at dksJ3_addLast_1 22 rfl rfl)
theorem dJ3_addLast_47 : decode cJ3_addLast 47 = .ok (.invokevirtual 71, 3) := dk_182 0 71 (dk_at dksJ3_addLast_2 0 rfl rfl)
theorem dJ3_addLast_50 : decode cJ3_addLast 50 = .ok (.return_, 1) := dk_177 (dk_at dksJ3_addLast_2 3 rfl rfl)
abbrev cJ3_grow : ByteArray := prog_50_method_1_code
def yJ3_grow : MethodName := ⟨RJ3, "grow", "(I)V"⟩
def dkwJ3_grow_7 : List UInt8 := [177]
abbrev dktJ3_grow_7 : List UInt8 := dkwJ3_grow_7 ++ []
def dkwJ3_grow_6 : List UInt8 := [181, 0, 24, 54, 8, 21, 7, 21, 8, 162, 0, 15, 25, 5, 21, 7, 1, 83, 132, 7, 1, 167, 255, 240]
abbrev dktJ3_grow_6 : List UInt8 := dkwJ3_grow_6 ++ dktJ3_grow_7
def dkwJ3_grow_5 : List UInt8 := [42, 180, 0, 24, 100, 184, 0, 27, 42, 180, 0, 24, 54, 7, 42, 89, 180, 0, 24, 21, 6, 96, 90]
abbrev dktJ3_grow_5 : List UInt8 := dkwJ3_grow_5 ++ dktJ3_grow_6
def dkwJ3_grow_4 : List UInt8 := [198, 0, 71, 29, 28, 100, 54, 6, 25, 5, 42, 180, 0, 24, 25, 5, 42, 180, 0, 24, 21, 6, 96, 28]
abbrev dktJ3_grow_4 : List UInt8 := dkwJ3_grow_4 ++ dktJ3_grow_5
def dkwJ3_grow_3 : List UInt8 := [180, 0, 24, 161, 0, 24, 42, 180, 0, 20, 42, 180, 0, 24, 160, 0, 81, 25, 5, 42, 180, 0, 24, 50]
abbrev dktJ3_grow_3 : List UInt8 := dkwJ3_grow_3 ++ dktJ3_grow_4
def dkwJ3_grow_2 : List UInt8 := [182, 0, 10, 62, 42, 42, 180, 0, 3, 29, 184, 0, 14, 90, 181, 0, 3, 58, 5, 42, 180, 0, 20, 42]
abbrev dktJ3_grow_2 : List UInt8 := dkwJ3_grow_2 ++ dktJ3_grow_3
def dkwJ3_grow_1 : List UInt8 := [21, 4, 27, 161, 0, 15, 28, 21, 4, 96, 89, 62, 18, 9, 100, 158, 0, 11, 42, 27, 21, 4]
abbrev dktJ3_grow_1 : List UInt8 := dkwJ3_grow_1 ++ dktJ3_grow_2
def dkwJ3_grow_0 : List UInt8 := [42, 180, 0, 3, 190, 61, 28, 16, 64, 162, 0, 9, 28, 5, 96, 167, 0, 6, 28, 4, 122, 54, 4]
abbrev dktJ3_grow_0 : List UInt8 := dkwJ3_grow_0 ++ dktJ3_grow_1
theorem dksJ3_grow_0 : cJ3_grow.data.toList.drop 0 = dktJ3_grow_0 := by decide +kernel
theorem dksJ3_grow_1 : cJ3_grow.data.toList.drop 23 = dktJ3_grow_1 := dk_seg dksJ3_grow_0 23 rfl rfl
theorem dksJ3_grow_2 : cJ3_grow.data.toList.drop 45 = dktJ3_grow_2 := dk_seg dksJ3_grow_1 22 rfl rfl
theorem dksJ3_grow_3 : cJ3_grow.data.toList.drop 69 = dktJ3_grow_3 := dk_seg dksJ3_grow_2 24 rfl rfl
theorem dksJ3_grow_4 : cJ3_grow.data.toList.drop 93 = dktJ3_grow_4 := dk_seg dksJ3_grow_3 24 rfl rfl
theorem dksJ3_grow_5 : cJ3_grow.data.toList.drop 117 = dktJ3_grow_5 := dk_seg dksJ3_grow_4 24 rfl rfl
theorem dksJ3_grow_6 : cJ3_grow.data.toList.drop 140 = dktJ3_grow_6 := dk_seg dksJ3_grow_5 23 rfl rfl
theorem dksJ3_grow_7 : cJ3_grow.data.toList.drop 164 = dktJ3_grow_7 := dk_seg dksJ3_grow_6 24 rfl rfl
theorem dJ3_grow_0 : decode cJ3_grow 0 = .ok (.aload_n 0, 1) := dk_42 (dk_at dksJ3_grow_0 0 rfl rfl)
theorem dJ3_grow_1 : decode cJ3_grow 1 = .ok (.getfield 3, 3) := dk_180 0 3 (dk_at dksJ3_grow_0 1 rfl rfl)
theorem dJ3_grow_4 : decode cJ3_grow 4 = .ok (.arraylength, 1) := dk_190 (dk_at dksJ3_grow_0 4 rfl rfl)
theorem dJ3_grow_5 : decode cJ3_grow 5 = .ok (.istore_n 2, 1) := dk_61 (dk_at dksJ3_grow_0 5 rfl rfl)
theorem dJ3_grow_6 : decode cJ3_grow 6 = .ok (.iload_n 2, 1) := dk_28 (dk_at dksJ3_grow_0 6 rfl rfl)
theorem dJ3_grow_7 : decode cJ3_grow 7 = .ok (.bipush 64, 2) := dk_16 64 (dk_at dksJ3_grow_0 7 rfl rfl)
theorem dJ3_grow_9 : decode cJ3_grow 9 = .ok (.if_icmp .ge 9, 3) := dk_162 0 9 (dk_at dksJ3_grow_0 9 rfl rfl)
theorem dJ3_grow_12 : decode cJ3_grow 12 = .ok (.iload_n 2, 1) := dk_28 (dk_at dksJ3_grow_0 12 rfl rfl)
theorem dJ3_grow_13 : decode cJ3_grow 13 = .ok (.iconst 2, 1) := dk_5 (dk_at dksJ3_grow_0 13 rfl rfl)
theorem dJ3_grow_14 : decode cJ3_grow 14 = .ok (.iadd, 1) := dk_96 (dk_at dksJ3_grow_0 14 rfl rfl)
theorem dJ3_grow_15 : decode cJ3_grow 15 = .ok (.goto 6, 3) := dk_167 0 6 (dk_at dksJ3_grow_0 15 rfl rfl)
theorem dJ3_grow_18 : decode cJ3_grow 18 = .ok (.iload_n 2, 1) := dk_28 (dk_at dksJ3_grow_0 18 rfl rfl)
theorem dJ3_grow_19 : decode cJ3_grow 19 = .ok (.iconst 1, 1) := dk_4 (dk_at dksJ3_grow_0 19 rfl rfl)
theorem dJ3_grow_20 : decode cJ3_grow 20 = .ok (.ishr, 1) := dk_122 (dk_at dksJ3_grow_0 20 rfl rfl)
theorem dJ3_grow_21 : decode cJ3_grow 21 = .ok (.istore 4, 2) := dk_54 4 (dk_at dksJ3_grow_0 21 rfl rfl)
theorem dJ3_grow_23 : decode cJ3_grow 23 = .ok (.iload 4, 2) := dk_21 4 (dk_at dksJ3_grow_1 0 rfl rfl)
theorem dJ3_grow_25 : decode cJ3_grow 25 = .ok (.iload_n 1, 1) := dk_27 (dk_at dksJ3_grow_1 2 rfl rfl)
theorem dJ3_grow_26 : decode cJ3_grow 26 = .ok (.if_icmp .lt 15, 3) := dk_161 0 15 (dk_at dksJ3_grow_1 3 rfl rfl)
theorem dJ3_grow_29 : decode cJ3_grow 29 = .ok (.iload_n 2, 1) := dk_28 (dk_at dksJ3_grow_1 6 rfl rfl)
theorem dJ3_grow_30 : decode cJ3_grow 30 = .ok (.iload 4, 2) := dk_21 4 (dk_at dksJ3_grow_1 7 rfl rfl)
theorem dJ3_grow_32 : decode cJ3_grow 32 = .ok (.iadd, 1) := dk_96 (dk_at dksJ3_grow_1 9 rfl rfl)
theorem dJ3_grow_33 : decode cJ3_grow 33 = .ok (.dup, 1) := dk_89 (dk_at dksJ3_grow_1 10 rfl rfl)
theorem dJ3_grow_34 : decode cJ3_grow 34 = .ok (.istore_n 3, 1) := dk_62 (dk_at dksJ3_grow_1 11 rfl rfl)
theorem dJ3_grow_35 : decode cJ3_grow 35 = .ok (.ldc 9, 2) := dk_18 9 (dk_at dksJ3_grow_1 12 rfl rfl)
theorem dJ3_grow_37 : decode cJ3_grow 37 = .ok (.isub, 1) := dk_100 (dk_at dksJ3_grow_1 14 rfl rfl)
theorem dJ3_grow_38 : decode cJ3_grow 38 = .ok (.ifCond .le 11, 3) := dk_158 0 11 (dk_at dksJ3_grow_1 15 rfl rfl)
theorem dJ3_grow_41 : decode cJ3_grow 41 = .ok (.aload_n 0, 1) := dk_42 (dk_at dksJ3_grow_1 18 rfl rfl)
theorem dJ3_grow_42 : decode cJ3_grow 42 = .ok (.iload_n 1, 1) := dk_27 (dk_at dksJ3_grow_1 19 rfl rfl)
theorem dJ3_grow_43 : decode cJ3_grow 43 = .ok (.iload 4, 2) := dk_21 4 (dk_at dksJ3_grow_1 20 rfl rfl)
theorem dJ3_grow_45 : decode cJ3_grow 45 = .ok (.invokevirtual 10, 3) := dk_182 0 10 (dk_at dksJ3_grow_2 0 rfl rfl)
theorem dJ3_grow_48 : decode cJ3_grow 48 = .ok (.istore_n 3, 1) := dk_62 (dk_at dksJ3_grow_2 3 rfl rfl)
theorem dJ3_grow_49 : decode cJ3_grow 49 = .ok (.aload_n 0, 1) := dk_42 (dk_at dksJ3_grow_2 4 rfl rfl)
theorem dJ3_grow_50 : decode cJ3_grow 50 = .ok (.aload_n 0, 1) := dk_42 (dk_at dksJ3_grow_2 5 rfl rfl)
theorem dJ3_grow_51 : decode cJ3_grow 51 = .ok (.getfield 3, 3) := dk_180 0 3 (dk_at dksJ3_grow_2 6 rfl rfl)
theorem dJ3_grow_54 : decode cJ3_grow 54 = .ok (.iload_n 3, 1) := dk_29 (dk_at dksJ3_grow_2 9 rfl rfl)
theorem dJ3_grow_55 : decode cJ3_grow 55 = .ok (.invokestatic 14, 3) := dk_184 0 14 (dk_at dksJ3_grow_2 10 rfl rfl)
theorem dJ3_grow_58 : decode cJ3_grow 58 = .ok (.dup_x1, 1) := dk_90 (dk_at dksJ3_grow_2 13 rfl rfl)
theorem dJ3_grow_59 : decode cJ3_grow 59 = .ok (.putfield 3, 3) := dk_181 0 3 (dk_at dksJ3_grow_2 14 rfl rfl)
theorem dJ3_grow_62 : decode cJ3_grow 62 = .ok (.astore 5, 2) := dk_58 5 (dk_at dksJ3_grow_2 17 rfl rfl)
theorem dJ3_grow_64 : decode cJ3_grow 64 = .ok (.aload_n 0, 1) := dk_42 (dk_at dksJ3_grow_2 19 rfl rfl)
theorem dJ3_grow_65 : decode cJ3_grow 65 = .ok (.getfield 20, 3) := dk_180 0 20 (dk_at dksJ3_grow_2 20 rfl rfl)
theorem dJ3_grow_68 : decode cJ3_grow 68 = .ok (.aload_n 0, 1) := dk_42 (dk_at dksJ3_grow_2 23 rfl rfl)
theorem dJ3_grow_69 : decode cJ3_grow 69 = .ok (.getfield 24, 3) := dk_180 0 24 (dk_at dksJ3_grow_3 0 rfl rfl)
theorem dJ3_grow_72 : decode cJ3_grow 72 = .ok (.if_icmp .lt 24, 3) := dk_161 0 24 (dk_at dksJ3_grow_3 3 rfl rfl)
theorem dJ3_grow_75 : decode cJ3_grow 75 = .ok (.aload_n 0, 1) := dk_42 (dk_at dksJ3_grow_3 6 rfl rfl)
theorem dJ3_grow_76 : decode cJ3_grow 76 = .ok (.getfield 20, 3) := dk_180 0 20 (dk_at dksJ3_grow_3 7 rfl rfl)
theorem dJ3_grow_79 : decode cJ3_grow 79 = .ok (.aload_n 0, 1) := dk_42 (dk_at dksJ3_grow_3 10 rfl rfl)
theorem dJ3_grow_80 : decode cJ3_grow 80 = .ok (.getfield 24, 3) := dk_180 0 24 (dk_at dksJ3_grow_3 11 rfl rfl)
theorem dJ3_grow_83 : decode cJ3_grow 83 = .ok (.if_icmp .ne 81, 3) := dk_160 0 81 (dk_at dksJ3_grow_3 14 rfl rfl)
theorem dJ3_grow_86 : decode cJ3_grow 86 = .ok (.aload 5, 2) := dk_25 5 (dk_at dksJ3_grow_3 17 rfl rfl)
theorem dJ3_grow_88 : decode cJ3_grow 88 = .ok (.aload_n 0, 1) := dk_42 (dk_at dksJ3_grow_3 19 rfl rfl)
theorem dJ3_grow_89 : decode cJ3_grow 89 = .ok (.getfield 24, 3) := dk_180 0 24 (dk_at dksJ3_grow_3 20 rfl rfl)
theorem dJ3_grow_92 : decode cJ3_grow 92 = .ok (.aaload, 1) := dk_50 (dk_at dksJ3_grow_3 23 rfl rfl)
theorem dJ3_grow_93 : decode cJ3_grow 93 = .ok (.ifnull 71, 3) := dk_198 0 71 (dk_at dksJ3_grow_4 0 rfl rfl)
theorem dJ3_grow_96 : decode cJ3_grow 96 = .ok (.iload_n 3, 1) := dk_29 (dk_at dksJ3_grow_4 3 rfl rfl)
theorem dJ3_grow_97 : decode cJ3_grow 97 = .ok (.iload_n 2, 1) := dk_28 (dk_at dksJ3_grow_4 4 rfl rfl)
theorem dJ3_grow_98 : decode cJ3_grow 98 = .ok (.isub, 1) := dk_100 (dk_at dksJ3_grow_4 5 rfl rfl)
theorem dJ3_grow_99 : decode cJ3_grow 99 = .ok (.istore 6, 2) := dk_54 6 (dk_at dksJ3_grow_4 6 rfl rfl)
theorem dJ3_grow_101 : decode cJ3_grow 101 = .ok (.aload 5, 2) := dk_25 5 (dk_at dksJ3_grow_4 8 rfl rfl)
theorem dJ3_grow_103 : decode cJ3_grow 103 = .ok (.aload_n 0, 1) := dk_42 (dk_at dksJ3_grow_4 10 rfl rfl)
theorem dJ3_grow_104 : decode cJ3_grow 104 = .ok (.getfield 24, 3) := dk_180 0 24 (dk_at dksJ3_grow_4 11 rfl rfl)
theorem dJ3_grow_107 : decode cJ3_grow 107 = .ok (.aload 5, 2) := dk_25 5 (dk_at dksJ3_grow_4 14 rfl rfl)
theorem dJ3_grow_109 : decode cJ3_grow 109 = .ok (.aload_n 0, 1) := dk_42 (dk_at dksJ3_grow_4 16 rfl rfl)
theorem dJ3_grow_110 : decode cJ3_grow 110 = .ok (.getfield 24, 3) := dk_180 0 24 (dk_at dksJ3_grow_4 17 rfl rfl)
theorem dJ3_grow_113 : decode cJ3_grow 113 = .ok (.iload 6, 2) := dk_21 6 (dk_at dksJ3_grow_4 20 rfl rfl)
theorem dJ3_grow_115 : decode cJ3_grow 115 = .ok (.iadd, 1) := dk_96 (dk_at dksJ3_grow_4 22 rfl rfl)
theorem dJ3_grow_116 : decode cJ3_grow 116 = .ok (.iload_n 2, 1) := dk_28 (dk_at dksJ3_grow_4 23 rfl rfl)
theorem dJ3_grow_117 : decode cJ3_grow 117 = .ok (.aload_n 0, 1) := dk_42 (dk_at dksJ3_grow_5 0 rfl rfl)
theorem dJ3_grow_118 : decode cJ3_grow 118 = .ok (.getfield 24, 3) := dk_180 0 24 (dk_at dksJ3_grow_5 1 rfl rfl)
theorem dJ3_grow_121 : decode cJ3_grow 121 = .ok (.isub, 1) := dk_100 (dk_at dksJ3_grow_5 4 rfl rfl)
theorem dJ3_grow_122 : decode cJ3_grow 122 = .ok (.invokestatic 27, 3) := dk_184 0 27 (dk_at dksJ3_grow_5 5 rfl rfl)
theorem dJ3_grow_125 : decode cJ3_grow 125 = .ok (.aload_n 0, 1) := dk_42 (dk_at dksJ3_grow_5 8 rfl rfl)
theorem dJ3_grow_126 : decode cJ3_grow 126 = .ok (.getfield 24, 3) := dk_180 0 24 (dk_at dksJ3_grow_5 9 rfl rfl)
theorem dJ3_grow_129 : decode cJ3_grow 129 = .ok (.istore 7, 2) := dk_54 7 (dk_at dksJ3_grow_5 12 rfl rfl)
theorem dJ3_grow_131 : decode cJ3_grow 131 = .ok (.aload_n 0, 1) := dk_42 (dk_at dksJ3_grow_5 14 rfl rfl)
theorem dJ3_grow_132 : decode cJ3_grow 132 = .ok (.dup, 1) := dk_89 (dk_at dksJ3_grow_5 15 rfl rfl)
theorem dJ3_grow_133 : decode cJ3_grow 133 = .ok (.getfield 24, 3) := dk_180 0 24 (dk_at dksJ3_grow_5 16 rfl rfl)
theorem dJ3_grow_136 : decode cJ3_grow 136 = .ok (.iload 6, 2) := dk_21 6 (dk_at dksJ3_grow_5 19 rfl rfl)
theorem dJ3_grow_138 : decode cJ3_grow 138 = .ok (.iadd, 1) := dk_96 (dk_at dksJ3_grow_5 21 rfl rfl)
theorem dJ3_grow_139 : decode cJ3_grow 139 = .ok (.dup_x1, 1) := dk_90 (dk_at dksJ3_grow_5 22 rfl rfl)
theorem dJ3_grow_140 : decode cJ3_grow 140 = .ok (.putfield 24, 3) := dk_181 0 24 (dk_at dksJ3_grow_6 0 rfl rfl)
theorem dJ3_grow_143 : decode cJ3_grow 143 = .ok (.istore 8, 2) := dk_54 8 (dk_at dksJ3_grow_6 3 rfl rfl)
theorem dJ3_grow_145 : decode cJ3_grow 145 = .ok (.iload 7, 2) := dk_21 7 (dk_at dksJ3_grow_6 5 rfl rfl)
theorem dJ3_grow_147 : decode cJ3_grow 147 = .ok (.iload 8, 2) := dk_21 8 (dk_at dksJ3_grow_6 7 rfl rfl)
theorem dJ3_grow_149 : decode cJ3_grow 149 = .ok (.if_icmp .ge 15, 3) := dk_162 0 15 (dk_at dksJ3_grow_6 9 rfl rfl)
theorem dJ3_grow_152 : decode cJ3_grow 152 = .ok (.aload 5, 2) := dk_25 5 (dk_at dksJ3_grow_6 12 rfl rfl)
theorem dJ3_grow_154 : decode cJ3_grow 154 = .ok (.iload 7, 2) := dk_21 7 (dk_at dksJ3_grow_6 14 rfl rfl)
theorem dJ3_grow_156 : decode cJ3_grow 156 = .ok (.aconst_null, 1) := dk_1 (dk_at dksJ3_grow_6 16 rfl rfl)
theorem dJ3_grow_157 : decode cJ3_grow 157 = .ok (.aastore, 1) := dk_83 (dk_at dksJ3_grow_6 17 rfl rfl)
theorem dJ3_grow_158 : decode cJ3_grow 158 = .ok (.iinc 7 1, 3) := dk_132 7 1 (dk_at dksJ3_grow_6 18 rfl rfl)
theorem dJ3_grow_161 : decode cJ3_grow 161 = .ok (.goto (-16), 3) := dk_167 255 240 (dk_at dksJ3_grow_6 21 rfl rfl)
theorem dJ3_grow_164 : decode cJ3_grow 164 = .ok (.return_, 1) := dk_177 (dk_at dksJ3_grow_7 0 rfl rfl)
abbrev cJ3_newCapacity : ByteArray := prog_50_method_2_code
def yJ3_newCapacity : MethodName := ⟨RJ3, "newCapacity", "(II)I"⟩
def dkwJ3_newCapacity_2 : List UInt8 := [18, 9, 100, 156, 0, 9, 29, 28, 96, 167, 0, 5, 18, 9, 172]
abbrev dktJ3_newCapacity_2 : List UInt8 := dkwJ3_newCapacity_2 ++ []
def dkwJ3_newCapacity_1 : List UInt8 := [187, 0, 33, 89, 18, 35, 183, 0, 37, 191, 18, 41, 172, 27, 28, 164, 0, 6, 21, 4, 172, 29, 28, 96]
abbrev dktJ3_newCapacity_1 : List UInt8 := dkwJ3_newCapacity_1 ++ dktJ3_newCapacity_2
def dkwJ3_newCapacity_0 : List UInt8 := [42, 180, 0, 3, 190, 62, 29, 27, 96, 89, 54, 4, 18, 9, 100, 158, 0, 21, 21, 4, 156, 0, 13]
abbrev dktJ3_newCapacity_0 : List UInt8 := dkwJ3_newCapacity_0 ++ dktJ3_newCapacity_1
theorem dksJ3_newCapacity_0 : cJ3_newCapacity.data.toList.drop 0 = dktJ3_newCapacity_0 := by decide +kernel
theorem dksJ3_newCapacity_1 : cJ3_newCapacity.data.toList.drop 23 = dktJ3_newCapacity_1 := dk_seg dksJ3_newCapacity_0 23 rfl rfl
theorem dksJ3_newCapacity_2 : cJ3_newCapacity.data.toList.drop 47 = dktJ3_newCapacity_2 := dk_seg dksJ3_newCapacity_1 24 rfl rfl
theorem dJ3_newCapacity_0 : decode cJ3_newCapacity 0 = .ok (.aload_n 0, 1) := dk_42 (dk_at dksJ3_newCapacity_0 0 rfl rfl)
theorem dJ3_newCapacity_1 : decode cJ3_newCapacity 1 = .ok (.getfield 3, 3) := dk_180 0 3 (dk_at dksJ3_newCapacity_0 1 rfl rfl)
theorem dJ3_newCapacity_4 : decode cJ3_newCapacity 4 = .ok (.arraylength, 1) := dk_190 (dk_at dksJ3_newCapacity_0 4 rfl rfl)
theorem dJ3_newCapacity_5 : decode cJ3_newCapacity 5 = .ok (.istore_n 3, 1) := dk_62 (dk_at dksJ3_newCapacity_0 5 rfl rfl)
theorem dJ3_newCapacity_6 : decode cJ3_newCapacity 6 = .ok (.iload_n 3, 1) := dk_29 (dk_at dksJ3_newCapacity_0 6 rfl rfl)
theorem dJ3_newCapacity_7 : decode cJ3_newCapacity 7 = .ok (.iload_n 1, 1) := dk_27 (dk_at dksJ3_newCapacity_0 7 rfl rfl)
theorem dJ3_newCapacity_8 : decode cJ3_newCapacity 8 = .ok (.iadd, 1) := dk_96 (dk_at dksJ3_newCapacity_0 8 rfl rfl)
theorem dJ3_newCapacity_9 : decode cJ3_newCapacity 9 = .ok (.dup, 1) := dk_89 (dk_at dksJ3_newCapacity_0 9 rfl rfl)
theorem dJ3_newCapacity_10 : decode cJ3_newCapacity 10 = .ok (.istore 4, 2) := dk_54 4 (dk_at dksJ3_newCapacity_0 10 rfl rfl)
theorem dJ3_newCapacity_12 : decode cJ3_newCapacity 12 = .ok (.ldc 9, 2) := dk_18 9 (dk_at dksJ3_newCapacity_0 12 rfl rfl)
theorem dJ3_newCapacity_14 : decode cJ3_newCapacity 14 = .ok (.isub, 1) := dk_100 (dk_at dksJ3_newCapacity_0 14 rfl rfl)
theorem dJ3_newCapacity_15 : decode cJ3_newCapacity 15 = .ok (.ifCond .le 21, 3) := dk_158 0 21 (dk_at dksJ3_newCapacity_0 15 rfl rfl)
theorem dJ3_newCapacity_18 : decode cJ3_newCapacity 18 = .ok (.iload 4, 2) := dk_21 4 (dk_at dksJ3_newCapacity_0 18 rfl rfl)
theorem dJ3_newCapacity_20 : decode cJ3_newCapacity 20 = .ok (.ifCond .ge 13, 3) := dk_156 0 13 (dk_at dksJ3_newCapacity_0 20 rfl rfl)
theorem dJ3_newCapacity_23 : decode cJ3_newCapacity 23 = .ok (.new 33, 3) := dk_187 0 33 (dk_at dksJ3_newCapacity_1 0 rfl rfl)
theorem dJ3_newCapacity_26 : decode cJ3_newCapacity 26 = .ok (.dup, 1) := dk_89 (dk_at dksJ3_newCapacity_1 3 rfl rfl)
theorem dJ3_newCapacity_27 : decode cJ3_newCapacity 27 = .ok (.ldc 35, 2) := dk_18 35 (dk_at dksJ3_newCapacity_1 4 rfl rfl)
theorem dJ3_newCapacity_29 : decode cJ3_newCapacity 29 = .ok (.invokespecial 37, 3) := dk_183 0 37 (dk_at dksJ3_newCapacity_1 6 rfl rfl)
theorem dJ3_newCapacity_32 : decode cJ3_newCapacity 32 = .ok (.athrow, 1) := dk_191 (dk_at dksJ3_newCapacity_1 9 rfl rfl)
theorem dJ3_newCapacity_33 : decode cJ3_newCapacity 33 = .ok (.ldc 41, 2) := dk_18 41 (dk_at dksJ3_newCapacity_1 10 rfl rfl)
theorem dJ3_newCapacity_35 : decode cJ3_newCapacity 35 = .ok (.ireturn, 1) := dk_172 (dk_at dksJ3_newCapacity_1 12 rfl rfl)
theorem dJ3_newCapacity_36 : decode cJ3_newCapacity 36 = .ok (.iload_n 1, 1) := dk_27 (dk_at dksJ3_newCapacity_1 13 rfl rfl)
theorem dJ3_newCapacity_37 : decode cJ3_newCapacity 37 = .ok (.iload_n 2, 1) := dk_28 (dk_at dksJ3_newCapacity_1 14 rfl rfl)
theorem dJ3_newCapacity_38 : decode cJ3_newCapacity 38 = .ok (.if_icmp .le 6, 3) := dk_164 0 6 (dk_at dksJ3_newCapacity_1 15 rfl rfl)
theorem dJ3_newCapacity_41 : decode cJ3_newCapacity 41 = .ok (.iload 4, 2) := dk_21 4 (dk_at dksJ3_newCapacity_1 18 rfl rfl)
theorem dJ3_newCapacity_43 : decode cJ3_newCapacity 43 = .ok (.ireturn, 1) := dk_172 (dk_at dksJ3_newCapacity_1 20 rfl rfl)
theorem dJ3_newCapacity_44 : decode cJ3_newCapacity 44 = .ok (.iload_n 3, 1) := dk_29 (dk_at dksJ3_newCapacity_1 21 rfl rfl)
theorem dJ3_newCapacity_45 : decode cJ3_newCapacity 45 = .ok (.iload_n 2, 1) := dk_28 (dk_at dksJ3_newCapacity_1 22 rfl rfl)
theorem dJ3_newCapacity_46 : decode cJ3_newCapacity 46 = .ok (.iadd, 1) := dk_96 (dk_at dksJ3_newCapacity_1 23 rfl rfl)
theorem dJ3_newCapacity_47 : decode cJ3_newCapacity 47 = .ok (.ldc 9, 2) := dk_18 9 (dk_at dksJ3_newCapacity_2 0 rfl rfl)
theorem dJ3_newCapacity_49 : decode cJ3_newCapacity 49 = .ok (.isub, 1) := dk_100 (dk_at dksJ3_newCapacity_2 2 rfl rfl)
theorem dJ3_newCapacity_50 : decode cJ3_newCapacity 50 = .ok (.ifCond .ge 9, 3) := dk_156 0 9 (dk_at dksJ3_newCapacity_2 3 rfl rfl)
theorem dJ3_newCapacity_53 : decode cJ3_newCapacity 53 = .ok (.iload_n 3, 1) := dk_29 (dk_at dksJ3_newCapacity_2 6 rfl rfl)
theorem dJ3_newCapacity_54 : decode cJ3_newCapacity 54 = .ok (.iload_n 2, 1) := dk_28 (dk_at dksJ3_newCapacity_2 7 rfl rfl)
theorem dJ3_newCapacity_55 : decode cJ3_newCapacity 55 = .ok (.iadd, 1) := dk_96 (dk_at dksJ3_newCapacity_2 8 rfl rfl)
theorem dJ3_newCapacity_56 : decode cJ3_newCapacity 56 = .ok (.goto 5, 3) := dk_167 0 5 (dk_at dksJ3_newCapacity_2 9 rfl rfl)
theorem dJ3_newCapacity_59 : decode cJ3_newCapacity 59 = .ok (.ldc 9, 2) := dk_18 9 (dk_at dksJ3_newCapacity_2 12 rfl rfl)
theorem dJ3_newCapacity_61 : decode cJ3_newCapacity 61 = .ok (.ireturn, 1) := dk_172 (dk_at dksJ3_newCapacity_2 14 rfl rfl)
abbrev cJ3_isEmpty : ByteArray := prog_50_method_38_code
def yJ3_isEmpty : MethodName := ⟨RJ3, "isEmpty", "()Z"⟩
def dkwJ3_isEmpty_0 : List UInt8 := [42, 180, 0, 24, 42, 180, 0, 20, 160, 0, 7, 4, 167, 0, 4, 3, 172]
abbrev dktJ3_isEmpty_0 : List UInt8 := dkwJ3_isEmpty_0 ++ []
theorem dksJ3_isEmpty_0 : cJ3_isEmpty.data.toList.drop 0 = dktJ3_isEmpty_0 := by decide +kernel
theorem dJ3_isEmpty_0 : decode cJ3_isEmpty 0 = .ok (.aload_n 0, 1) := dk_42 (dk_at dksJ3_isEmpty_0 0 rfl rfl)
theorem dJ3_isEmpty_1 : decode cJ3_isEmpty 1 = .ok (.getfield 24, 3) := dk_180 0 24 (dk_at dksJ3_isEmpty_0 1 rfl rfl)
theorem dJ3_isEmpty_4 : decode cJ3_isEmpty 4 = .ok (.aload_n 0, 1) := dk_42 (dk_at dksJ3_isEmpty_0 4 rfl rfl)
theorem dJ3_isEmpty_5 : decode cJ3_isEmpty 5 = .ok (.getfield 20, 3) := dk_180 0 20 (dk_at dksJ3_isEmpty_0 5 rfl rfl)
theorem dJ3_isEmpty_8 : decode cJ3_isEmpty 8 = .ok (.if_icmp .ne 7, 3) := dk_160 0 7 (dk_at dksJ3_isEmpty_0 8 rfl rfl)
theorem dJ3_isEmpty_11 : decode cJ3_isEmpty 11 = .ok (.iconst 1, 1) := dk_4 (dk_at dksJ3_isEmpty_0 11 rfl rfl)
theorem dJ3_isEmpty_12 : decode cJ3_isEmpty 12 = .ok (.goto 4, 3) := dk_167 0 4 (dk_at dksJ3_isEmpty_0 12 rfl rfl)
theorem dJ3_isEmpty_15 : decode cJ3_isEmpty 15 = .ok (.iconst 0, 1) := dk_3 (dk_at dksJ3_isEmpty_0 15 rfl rfl)
theorem dJ3_isEmpty_16 : decode cJ3_isEmpty 16 = .ok (.ireturn, 1) := dk_172 (dk_at dksJ3_isEmpty_0 16 rfl rfl)
abbrev cJ3_pollLast : ByteArray := prog_50_method_21_code
def yJ3_pollLast : MethodName := ⟨RJ3, "pollLast", "()Ljava/lang/Object;"⟩
def dkwJ3_pollLast_1 : List UInt8 := [198, 0, 12, 43, 42, 28, 90, 181, 0, 20, 1, 83, 45, 176]
abbrev dktJ3_pollLast_1 : List UInt8 := dkwJ3_pollLast_1 ++ []
def dkwJ3_pollLast_0 : List UInt8 := [42, 180, 0, 3, 89, 76, 42, 180, 0, 20, 43, 190, 184, 0, 68, 89, 61, 184, 0, 103, 78, 45]
abbrev dktJ3_pollLast_0 : List UInt8 := dkwJ3_pollLast_0 ++ dktJ3_pollLast_1
theorem dksJ3_pollLast_0 : cJ3_pollLast.data.toList.drop 0 = dktJ3_pollLast_0 := by decide +kernel
theorem dksJ3_pollLast_1 : cJ3_pollLast.data.toList.drop 22 = dktJ3_pollLast_1 := dk_seg dksJ3_pollLast_0 22 rfl rfl
theorem dJ3_pollLast_0 : decode cJ3_pollLast 0 = .ok (.aload_n 0, 1) := dk_42 (dk_at dksJ3_pollLast_0 0 rfl rfl)
theorem dJ3_pollLast_1 : decode cJ3_pollLast 1 = .ok (.getfield 3, 3) := dk_180 0 3 (dk_at dksJ3_pollLast_0 1 rfl rfl)
theorem dJ3_pollLast_4 : decode cJ3_pollLast 4 = .ok (.dup, 1) := dk_89 (dk_at dksJ3_pollLast_0 4 rfl rfl)
theorem dJ3_pollLast_5 : decode cJ3_pollLast 5 = .ok (.astore_n 1, 1) := dk_76 (dk_at dksJ3_pollLast_0 5 rfl rfl)
theorem dJ3_pollLast_6 : decode cJ3_pollLast 6 = .ok (.aload_n 0, 1) := dk_42 (dk_at dksJ3_pollLast_0 6 rfl rfl)
theorem dJ3_pollLast_7 : decode cJ3_pollLast 7 = .ok (.getfield 20, 3) := dk_180 0 20 (dk_at dksJ3_pollLast_0 7 rfl rfl)
theorem dJ3_pollLast_10 : decode cJ3_pollLast 10 = .ok (.aload_n 1, 1) := dk_43 (dk_at dksJ3_pollLast_0 10 rfl rfl)
theorem dJ3_pollLast_11 : decode cJ3_pollLast 11 = .ok (.arraylength, 1) := dk_190 (dk_at dksJ3_pollLast_0 11 rfl rfl)
theorem dJ3_pollLast_12 : decode cJ3_pollLast 12 = .ok (.invokestatic 68, 3) := dk_184 0 68 (dk_at dksJ3_pollLast_0 12 rfl rfl)
theorem dJ3_pollLast_15 : decode cJ3_pollLast 15 = .ok (.dup, 1) := dk_89 (dk_at dksJ3_pollLast_0 15 rfl rfl)
theorem dJ3_pollLast_16 : decode cJ3_pollLast 16 = .ok (.istore_n 2, 1) := dk_61 (dk_at dksJ3_pollLast_0 16 rfl rfl)
theorem dJ3_pollLast_17 : decode cJ3_pollLast 17 = .ok (.invokestatic 103, 3) := dk_184 0 103 (dk_at dksJ3_pollLast_0 17 rfl rfl)
theorem dJ3_pollLast_20 : decode cJ3_pollLast 20 = .ok (.astore_n 3, 1) := dk_78 (dk_at dksJ3_pollLast_0 20 rfl rfl)
theorem dJ3_pollLast_21 : decode cJ3_pollLast 21 = .ok (.aload_n 3, 1) := dk_45 (dk_at dksJ3_pollLast_0 21 rfl rfl)
theorem dJ3_pollLast_22 : decode cJ3_pollLast 22 = .ok (.ifnull 12, 3) := dk_198 0 12 (dk_at dksJ3_pollLast_1 0 rfl rfl)
theorem dJ3_pollLast_25 : decode cJ3_pollLast 25 = .ok (.aload_n 1, 1) := dk_43 (dk_at dksJ3_pollLast_1 3 rfl rfl)
theorem dJ3_pollLast_26 : decode cJ3_pollLast 26 = .ok (.aload_n 0, 1) := dk_42 (dk_at dksJ3_pollLast_1 4 rfl rfl)
theorem dJ3_pollLast_27 : decode cJ3_pollLast 27 = .ok (.iload_n 2, 1) := dk_28 (dk_at dksJ3_pollLast_1 5 rfl rfl)
theorem dJ3_pollLast_28 : decode cJ3_pollLast 28 = .ok (.dup_x1, 1) := dk_90 (dk_at dksJ3_pollLast_1 6 rfl rfl)
theorem dJ3_pollLast_29 : decode cJ3_pollLast 29 = .ok (.putfield 20, 3) := dk_181 0 20 (dk_at dksJ3_pollLast_1 7 rfl rfl)
theorem dJ3_pollLast_32 : decode cJ3_pollLast 32 = .ok (.aconst_null, 1) := dk_1 (dk_at dksJ3_pollLast_1 10 rfl rfl)
theorem dJ3_pollLast_33 : decode cJ3_pollLast 33 = .ok (.aastore, 1) := dk_83 (dk_at dksJ3_pollLast_1 11 rfl rfl)
theorem dJ3_pollLast_34 : decode cJ3_pollLast 34 = .ok (.aload_n 3, 1) := dk_45 (dk_at dksJ3_pollLast_1 12 rfl rfl)
theorem dJ3_pollLast_35 : decode cJ3_pollLast 35 = .ok (.areturn, 1) := dk_176 (dk_at dksJ3_pollLast_1 13 rfl rfl)
abbrev cJ3_dec : ByteArray := prog_50_method_7_code
def yJ3_dec : MethodName := ⟨RJ3, "dec", "(II)I"⟩
def dkwJ3_dec_0 : List UInt8 := [132, 0, 255, 26, 156, 0, 7, 27, 4, 100, 59, 26, 172]
abbrev dktJ3_dec_0 : List UInt8 := dkwJ3_dec_0 ++ []
theorem dksJ3_dec_0 : cJ3_dec.data.toList.drop 0 = dktJ3_dec_0 := by decide +kernel
theorem dJ3_dec_0 : decode cJ3_dec 0 = .ok (.iinc 0 (-1), 3) := dk_132 0 255 (dk_at dksJ3_dec_0 0 rfl rfl)
theorem dJ3_dec_3 : decode cJ3_dec 3 = .ok (.iload_n 0, 1) := dk_26 (dk_at dksJ3_dec_0 3 rfl rfl)
theorem dJ3_dec_4 : decode cJ3_dec 4 = .ok (.ifCond .ge 7, 3) := dk_156 0 7 (dk_at dksJ3_dec_0 4 rfl rfl)
theorem dJ3_dec_7 : decode cJ3_dec 7 = .ok (.iload_n 1, 1) := dk_27 (dk_at dksJ3_dec_0 7 rfl rfl)
theorem dJ3_dec_8 : decode cJ3_dec 8 = .ok (.iconst 1, 1) := dk_4 (dk_at dksJ3_dec_0 8 rfl rfl)
theorem dJ3_dec_9 : decode cJ3_dec 9 = .ok (.isub, 1) := dk_100 (dk_at dksJ3_dec_0 9 rfl rfl)
theorem dJ3_dec_10 : decode cJ3_dec 10 = .ok (.istore_n 0, 1) := dk_59 (dk_at dksJ3_dec_0 10 rfl rfl)
theorem dJ3_dec_11 : decode cJ3_dec 11 = .ok (.iload_n 0, 1) := dk_26 (dk_at dksJ3_dec_0 11 rfl rfl)
theorem dJ3_dec_12 : decode cJ3_dec 12 = .ok (.ireturn, 1) := dk_172 (dk_at dksJ3_dec_0 12 rfl rfl)
theorem q90 : (Jvm.Cond.initialized "java/util/ArrayDeque") ∈ lw_all := lw_g (lw_at lw_m1 7 rfl) rfl
theorem q205 : (Jvm.Cond.instantiable "java/util/ArrayDeque" (3 : Nat)) ∈ lw_all := lw_g (lw_at lw_m1 122 rfl) rfl
theorem q207 : (Jvm.Cond.instanceMethod ({ cls := "java/util/ArrayDeque", name := "<init>", desc := "(I)V" } : Jvm.MethodName)) ∈ lw_all := lw_g (lw_at lw_m1 124 rfl) rfl
theorem q208 : (Jvm.Cond.code ({ cls := "java/util/ArrayDeque", name := "<init>", desc := "(I)V" } : Jvm.MethodName) prog_50_method_4_code (2 : Nat) (Option.none : Option Jvm.ClassFile.FieldType)) ∈ lw_all := lw_g (lw_at lw_m1 125 rfl) rfl
theorem q209 : (Jvm.Cond.methodLink "java/util/ArrayDeque" (42 : Nat) ({ cls := "java/util/AbstractCollection", name := "<init>", desc := "()V" } : Jvm.MethodName)) ∈ lw_all := lw_g (lw_at lw_m1 126 rfl) rfl
theorem q210 : (Jvm.Cond.constant "java/util/ArrayDeque" (41 : Nat) (2147483647 : Int32)) ∈ lw_all := lw_g (lw_at lw_m1 127 rfl) rfl
theorem q211 : (Jvm.Cond.classLink "java/util/ArrayDeque" (47 : Nat) "java/lang/Object") ∈ lw_all := lw_g (lw_at lw_m1 128 rfl) rfl
theorem q213 : (Jvm.Cond.fieldLink "java/util/ArrayDeque" (3 : Nat) "java/util/ArrayDeque" "elements" "[Ljava/lang/Object;") ∈ lw_all := lw_g (lw_at lw_m1 130 rfl) rfl
theorem q214 : (Jvm.Cond.fieldLink "java/util/ArrayDeque" (24 : Nat) "java/util/ArrayDeque" "head" "I") ∈ lw_all := lw_g (lw_at lw_m1 131 rfl) rfl
theorem q215 : (Jvm.Cond.fieldLink "java/util/ArrayDeque" (20 : Nat) "java/util/ArrayDeque" "tail" "I") ∈ lw_all := lw_g (lw_at lw_m1 132 rfl) rfl
theorem q216 : (Jvm.Cond.lays "java/util/ArrayDeque" "java/util/ArrayDeque" "elements" "[Ljava/lang/Object;") ∈ lw_all := lw_g (lw_at lw_m1 133 rfl) rfl
theorem q217 : (Jvm.Cond.soleField "java/util/ArrayDeque" "elements") ∈ lw_all := lw_g (lw_at lw_m1 134 rfl) rfl
theorem q218 : (Jvm.Cond.lays "java/util/ArrayDeque" "java/util/ArrayDeque" "head" "I") ∈ lw_all := lw_g (lw_at lw_m1 135 rfl) rfl
theorem q219 : (Jvm.Cond.soleField "java/util/ArrayDeque" "head") ∈ lw_all := lw_g (lw_at lw_m1 136 rfl) rfl
theorem q220 : (Jvm.Cond.lays "java/util/ArrayDeque" "java/util/ArrayDeque" "tail" "I") ∈ lw_all := lw_g (lw_at lw_m1 137 rfl) rfl
theorem q221 : (Jvm.Cond.soleField "java/util/ArrayDeque" "tail") ∈ lw_all := lw_g (lw_at lw_m1 138 rfl) rfl
theorem q222 : (Jvm.Cond.superclass "java/util/ArrayDeque" "java/util/AbstractCollection") ∈ lw_all := lw_g (lw_at lw_m1 139 rfl) rfl
theorem q1101 : (Jvm.Cond.selects "java/util/ArrayDeque" ({ cls := "java/lang/Object", name := "getClass", desc := "()Ljava/lang/Class;" } : Jvm.MethodName) ({ cls := "java/lang/Object", name := "getClass", desc := "()Ljava/lang/Class;" } : Jvm.MethodName)) ∈ lw_all := lw_g (lw_at lw_m5 58 rfl) rfl
theorem q1121 : (Jvm.Cond.instanceMethod ({ cls := "java/util/ArrayDeque", name := "clear", desc := "()V" } : Jvm.MethodName)) ∈ lw_all := lw_g (lw_at lw_m5 78 rfl) rfl
theorem q1122 : (Jvm.Cond.selects "java/util/ArrayDeque" ({ cls := "java/util/ArrayDeque", name := "clear", desc := "()V" } : Jvm.MethodName) ({ cls := "java/util/ArrayDeque", name := "clear", desc := "()V" } : Jvm.MethodName)) ∈ lw_all := lw_g (lw_at lw_m5 79 rfl) rfl
theorem q1123 : (Jvm.Cond.code ({ cls := "java/util/ArrayDeque", name := "clear", desc := "()V" } : Jvm.MethodName) prog_50_method_53_code (1 : Nat) (Option.none : Option Jvm.ClassFile.FieldType)) ∈ lw_all := lw_g (lw_at lw_m5 80 rfl) rfl
theorem q1124 : (Jvm.Cond.methodLink "java/util/ArrayDeque" (181 : Nat) ({ cls := "java/util/ArrayDeque", name := "circularClear", desc := "([Ljava/lang/Object;II)V" } : Jvm.MethodName)) ∈ lw_all := lw_g (lw_at lw_m5 81 rfl) rfl
theorem q1125 : (Jvm.Cond.static ({ cls := "java/util/ArrayDeque", name := "circularClear", desc := "([Ljava/lang/Object;II)V" } : Jvm.MethodName)) ∈ lw_all := lw_g (lw_at lw_m5 82 rfl) rfl
theorem q1126 : (Jvm.Cond.code ({ cls := "java/util/ArrayDeque", name := "circularClear", desc := "([Ljava/lang/Object;II)V" } : Jvm.MethodName) prog_50_method_54_code (4 : Nat) (Option.none : Option Jvm.ClassFile.FieldType)) ∈ lw_all := lw_g (lw_at lw_m5 83 rfl) rfl
theorem q1886 : (Jvm.Cond.instanceMethod ({ cls := "java/util/ArrayDeque", name := "size", desc := "()I" } : Jvm.MethodName)) ∈ lw_all := lw_g (lw_at lw_m8 123 rfl) rfl
theorem q1887 : (Jvm.Cond.selects "java/util/ArrayDeque" ({ cls := "java/util/ArrayDeque", name := "size", desc := "()I" } : Jvm.MethodName) ({ cls := "java/util/ArrayDeque", name := "size", desc := "()I" } : Jvm.MethodName)) ∈ lw_all := lw_g (lw_at lw_m8 124 rfl) rfl
theorem q1888 : (Jvm.Cond.code ({ cls := "java/util/ArrayDeque", name := "size", desc := "()I" } : Jvm.MethodName) prog_50_method_37_code (1 : Nat) (Option.some Jvm.ClassFile.FieldType.int)) ∈ lw_all := lw_g (lw_at lw_m8 125 rfl) rfl
theorem q1889 : (Jvm.Cond.methodLink "java/util/ArrayDeque" (127 : Nat) ({ cls := "java/util/ArrayDeque", name := "sub", desc := "(III)I" } : Jvm.MethodName)) ∈ lw_all := lw_g (lw_at lw_m8 126 rfl) rfl
theorem q1890 : (Jvm.Cond.static ({ cls := "java/util/ArrayDeque", name := "sub", desc := "(III)I" } : Jvm.MethodName)) ∈ lw_all := lw_g (lw_at lw_m8 127 rfl) rfl
theorem q1891 : (Jvm.Cond.code ({ cls := "java/util/ArrayDeque", name := "sub", desc := "(III)I" } : Jvm.MethodName) prog_50_method_9_code (3 : Nat) (Option.some Jvm.ClassFile.FieldType.int)) ∈ lw_all := lw_g (lw_at lw_m8 128 rfl) rfl
theorem q1893 : (Jvm.Cond.instanceMethod ({ cls := "java/util/ArrayDeque", name := "removeFirst", desc := "()Ljava/lang/Object;" } : Jvm.MethodName)) ∈ lw_all := lw_g (lw_at lw_m8 130 rfl) rfl
theorem q1894 : (Jvm.Cond.selects "java/util/ArrayDeque" ({ cls := "java/util/ArrayDeque", name := "removeFirst", desc := "()Ljava/lang/Object;" } : Jvm.MethodName) ({ cls := "java/util/ArrayDeque", name := "removeFirst", desc := "()Ljava/lang/Object;" } : Jvm.MethodName)) ∈ lw_all := lw_g (lw_at lw_m8 131 rfl) rfl
theorem q1895 : (Jvm.Cond.code ({ cls := "java/util/ArrayDeque", name := "removeFirst", desc := "()Ljava/lang/Object;" } : Jvm.MethodName) prog_50_method_18_code (2 : Nat) (Option.some (Jvm.ClassFile.FieldType.object "java/lang/Object"))) ∈ lw_all := lw_g (lw_at lw_m8 132 rfl) rfl
theorem q1896 : (Jvm.Cond.methodLink "java/util/ArrayDeque" (93 : Nat) ({ cls := "java/util/ArrayDeque", name := "pollFirst", desc := "()Ljava/lang/Object;" } : Jvm.MethodName)) ∈ lw_all := lw_g (lw_at lw_m8 133 rfl) rfl
theorem q1897 : (Jvm.Cond.instanceMethod ({ cls := "java/util/ArrayDeque", name := "pollFirst", desc := "()Ljava/lang/Object;" } : Jvm.MethodName)) ∈ lw_all := lw_g (lw_at lw_m8 134 rfl) rfl
theorem q1898 : (Jvm.Cond.selects "java/util/ArrayDeque" ({ cls := "java/util/ArrayDeque", name := "pollFirst", desc := "()Ljava/lang/Object;" } : Jvm.MethodName) ({ cls := "java/util/ArrayDeque", name := "pollFirst", desc := "()Ljava/lang/Object;" } : Jvm.MethodName)) ∈ lw_all := lw_g (lw_at lw_m8 135 rfl) rfl
theorem q1899 : (Jvm.Cond.code ({ cls := "java/util/ArrayDeque", name := "pollFirst", desc := "()Ljava/lang/Object;" } : Jvm.MethodName) prog_50_method_20_code (4 : Nat) (Option.some (Jvm.ClassFile.FieldType.object "java/lang/Object"))) ∈ lw_all := lw_g (lw_at lw_m8 136 rfl) rfl
theorem q1900 : (Jvm.Cond.methodLink "java/util/ArrayDeque" (103 : Nat) ({ cls := "java/util/ArrayDeque", name := "elementAt", desc := "([Ljava/lang/Object;I)Ljava/lang/Object;" } : Jvm.MethodName)) ∈ lw_all := lw_g (lw_at lw_m8 137 rfl) rfl
theorem q1901 : (Jvm.Cond.static ({ cls := "java/util/ArrayDeque", name := "elementAt", desc := "([Ljava/lang/Object;I)Ljava/lang/Object;" } : Jvm.MethodName)) ∈ lw_all := lw_g (lw_at lw_m8 138 rfl) rfl
theorem q1902 : (Jvm.Cond.code ({ cls := "java/util/ArrayDeque", name := "elementAt", desc := "([Ljava/lang/Object;I)Ljava/lang/Object;" } : Jvm.MethodName) prog_50_method_10_code (2 : Nat) (Option.some (Jvm.ClassFile.FieldType.object "java/lang/Object"))) ∈ lw_all := lw_g (lw_at lw_m8 139 rfl) rfl
theorem q1903 : (Jvm.Cond.methodLink "java/util/ArrayDeque" (74 : Nat) ({ cls := "java/util/ArrayDeque", name := "inc", desc := "(II)I" } : Jvm.MethodName)) ∈ lw_all := lw_g (lw_at lw_m8 140 rfl) rfl
theorem q1904 : (Jvm.Cond.static ({ cls := "java/util/ArrayDeque", name := "inc", desc := "(II)I" } : Jvm.MethodName)) ∈ lw_all := lw_g (lw_at lw_m8 141 rfl) rfl
theorem q1905 : (Jvm.Cond.code ({ cls := "java/util/ArrayDeque", name := "inc", desc := "(II)I" } : Jvm.MethodName) prog_50_method_6_code (2 : Nat) (Option.some Jvm.ClassFile.FieldType.int)) ∈ lw_all := lw_g (lw_at lw_m8 142 rfl) rfl
theorem q1906 : (Jvm.Cond.classLink "java/util/ArrayDeque" (97 : Nat) "java/util/NoSuchElementException") ∈ lw_all := lw_g (lw_at lw_m8 143 rfl) rfl
theorem q1907 : (Jvm.Cond.methodLink "java/util/ArrayDeque" (99 : Nat) ({ cls := "java/util/NoSuchElementException", name := "<init>", desc := "()V" } : Jvm.MethodName)) ∈ lw_all := lw_g (lw_at lw_m8 144 rfl) rfl
theorem q1909 : (Jvm.Cond.instanceMethod ({ cls := "java/util/ArrayDeque", name := "addLast", desc := "(Ljava/lang/Object;)V" } : Jvm.MethodName)) ∈ lw_all := lw_g (lw_at lw_m8 146 rfl) rfl
theorem q1910 : (Jvm.Cond.selects "java/util/ArrayDeque" ({ cls := "java/util/ArrayDeque", name := "addLast", desc := "(Ljava/lang/Object;)V" } : Jvm.MethodName) ({ cls := "java/util/ArrayDeque", name := "addLast", desc := "(Ljava/lang/Object;)V" } : Jvm.MethodName)) ∈ lw_all := lw_g (lw_at lw_m8 147 rfl) rfl
theorem q1911 : (Jvm.Cond.code ({ cls := "java/util/ArrayDeque", name := "addLast", desc := "(Ljava/lang/Object;)V" } : Jvm.MethodName) prog_50_method_13_code (3 : Nat) (Option.none : Option Jvm.ClassFile.FieldType)) ∈ lw_all := lw_g (lw_at lw_m8 148 rfl) rfl
theorem q1912 : (Jvm.Cond.methodLink "java/util/ArrayDeque" (71 : Nat) ({ cls := "java/util/ArrayDeque", name := "grow", desc := "(I)V" } : Jvm.MethodName)) ∈ lw_all := lw_g (lw_at lw_m8 149 rfl) rfl
theorem q1913 : (Jvm.Cond.privateMethod ({ cls := "java/util/ArrayDeque", name := "grow", desc := "(I)V" } : Jvm.MethodName)) ∈ lw_tbl := lw_at lw_m8 150 rfl
theorem q1914 : (Jvm.Cond.instanceMethod ({ cls := "java/util/ArrayDeque", name := "grow", desc := "(I)V" } : Jvm.MethodName)) ∈ lw_all := lw_g (lw_at lw_m8 151 rfl) rfl
theorem q1915 : (Jvm.Cond.code ({ cls := "java/util/ArrayDeque", name := "grow", desc := "(I)V" } : Jvm.MethodName) prog_50_method_1_code (9 : Nat) (Option.none : Option Jvm.ClassFile.FieldType)) ∈ lw_all := lw_g (lw_at lw_m8 152 rfl) rfl
theorem q1916 : (Jvm.Cond.constant "java/util/ArrayDeque" (9 : Nat) (2147483639 : Int32)) ∈ lw_all := lw_g (lw_at lw_m8 153 rfl) rfl
theorem q1917 : (Jvm.Cond.methodLink "java/util/ArrayDeque" (10 : Nat) ({ cls := "java/util/ArrayDeque", name := "newCapacity", desc := "(II)I" } : Jvm.MethodName)) ∈ lw_all := lw_g (lw_at lw_m8 154 rfl) rfl
theorem q1918 : (Jvm.Cond.privateMethod ({ cls := "java/util/ArrayDeque", name := "newCapacity", desc := "(II)I" } : Jvm.MethodName)) ∈ lw_tbl := lw_at lw_m8 155 rfl
theorem q1919 : (Jvm.Cond.instanceMethod ({ cls := "java/util/ArrayDeque", name := "newCapacity", desc := "(II)I" } : Jvm.MethodName)) ∈ lw_all := lw_g (lw_at lw_m8 156 rfl) rfl
theorem q1920 : (Jvm.Cond.code ({ cls := "java/util/ArrayDeque", name := "newCapacity", desc := "(II)I" } : Jvm.MethodName) prog_50_method_2_code (5 : Nat) (Option.some Jvm.ClassFile.FieldType.int)) ∈ lw_all := lw_g (lw_at lw_m8 157 rfl) rfl
theorem q1921 : (Jvm.Cond.classLink "java/util/ArrayDeque" (33 : Nat) "java/lang/IllegalStateException") ∈ lw_all := lw_g (lw_at lw_m8 158 rfl) rfl
theorem q1922 : (Jvm.Cond.stringRef "java/util/ArrayDeque" (35 : Nat) "Sorry, deque too big") ∈ lw_tbl := lw_at lw_m8 159 rfl
theorem q1923 : (Jvm.Cond.methodLink "java/util/ArrayDeque" (37 : Nat) ({ cls := "java/lang/IllegalStateException", name := "<init>", desc := "(Ljava/lang/String;)V" } : Jvm.MethodName)) ∈ lw_all := lw_g (lw_at lw_m8 160 rfl) rfl
theorem q1927 : (Jvm.Cond.methodLink "java/util/ArrayDeque" (14 : Nat) ({ cls := "java/util/Arrays", name := "copyOf", desc := "([Ljava/lang/Object;I)[Ljava/lang/Object;" } : Jvm.MethodName)) ∈ lw_all := lw_g (lw_at lw_m8 164 rfl) rfl
theorem q1928 : (Jvm.Cond.methodLink "java/util/ArrayDeque" (27 : Nat) ({ cls := "java/lang/System", name := "arraycopy", desc := "(Ljava/lang/Object;ILjava/lang/Object;II)V" } : Jvm.MethodName)) ∈ lw_all := lw_g (lw_at lw_m8 165 rfl) rfl
theorem q2065 : (Jvm.Cond.instanceMethod ({ cls := "java/util/ArrayDeque", name := "isEmpty", desc := "()Z" } : Jvm.MethodName)) ∈ lw_all := lw_g (lw_at lw_m9 62 rfl) rfl
theorem q2066 : (Jvm.Cond.selects "java/util/ArrayDeque" ({ cls := "java/util/ArrayDeque", name := "isEmpty", desc := "()Z" } : Jvm.MethodName) ({ cls := "java/util/ArrayDeque", name := "isEmpty", desc := "()Z" } : Jvm.MethodName)) ∈ lw_all := lw_g (lw_at lw_m9 63 rfl) rfl
theorem q2067 : (Jvm.Cond.code ({ cls := "java/util/ArrayDeque", name := "isEmpty", desc := "()Z" } : Jvm.MethodName) prog_50_method_38_code (1 : Nat) (Option.some Jvm.ClassFile.FieldType.boolean)) ∈ lw_all := lw_g (lw_at lw_m9 64 rfl) rfl
theorem q2069 : (Jvm.Cond.instanceMethod ({ cls := "java/util/ArrayDeque", name := "pollLast", desc := "()Ljava/lang/Object;" } : Jvm.MethodName)) ∈ lw_all := lw_g (lw_at lw_m9 66 rfl) rfl
theorem q2070 : (Jvm.Cond.selects "java/util/ArrayDeque" ({ cls := "java/util/ArrayDeque", name := "pollLast", desc := "()Ljava/lang/Object;" } : Jvm.MethodName) ({ cls := "java/util/ArrayDeque", name := "pollLast", desc := "()Ljava/lang/Object;" } : Jvm.MethodName)) ∈ lw_all := lw_g (lw_at lw_m9 67 rfl) rfl
theorem q2071 : (Jvm.Cond.code ({ cls := "java/util/ArrayDeque", name := "pollLast", desc := "()Ljava/lang/Object;" } : Jvm.MethodName) prog_50_method_21_code (4 : Nat) (Option.some (Jvm.ClassFile.FieldType.object "java/lang/Object"))) ∈ lw_all := lw_g (lw_at lw_m9 68 rfl) rfl
theorem q2072 : (Jvm.Cond.methodLink "java/util/ArrayDeque" (68 : Nat) ({ cls := "java/util/ArrayDeque", name := "dec", desc := "(II)I" } : Jvm.MethodName)) ∈ lw_all := lw_g (lw_at lw_m9 69 rfl) rfl
theorem q2073 : (Jvm.Cond.static ({ cls := "java/util/ArrayDeque", name := "dec", desc := "(II)I" } : Jvm.MethodName)) ∈ lw_all := lw_g (lw_at lw_m9 70 rfl) rfl
theorem q2074 : (Jvm.Cond.code ({ cls := "java/util/ArrayDeque", name := "dec", desc := "(II)I" } : Jvm.MethodName) prog_50_method_7_code (2 : Nat) (Option.some Jvm.ClassFile.FieldType.int)) ∈ lw_all := lw_g (lw_at lw_m9 71 rfl) rfl
theorem q2665 : (Jvm.Cond.castable "java/util/ArrayDeque" "java/lang/Object") ∈ lw_tbl := lw_at lw_m11 182 rfl
theorem in_J3 : ∀ w ∈ wsJ30, w ∈ lw_all := lw_in wsJ30 [216, 218, 220] (by decide +kernel) (by decide +kernel)

/-! java/lang/Throwable -/
set_option maxRecDepth 100000
def RJ4 : String := "java/lang/Throwable"
def TJ4 : u_T := fun k => match k with
  | 0 => ("java/lang/Throwable", "cause", "Ljava/lang/Throwable;", false)
  | 1 => ("java/lang/Throwable", "stackTrace", "[Ljava/lang/StackTraceElement;", false)
  | 2 => ("java/lang/Throwable", "suppressedExceptions", "Ljava/util/List;", false)
  | 3 => ("java/lang/Throwable", "detailMessage", "Ljava/lang/String;", false)
  | _ => ("java/lang/Throwable", "backtrace", "Ljava/lang/Object;", false)
def tyJ4 : Nat → FieldType := fun k => match k with
  | 0 => .object "java/lang/Throwable"
  | 1 => .array (.object "java/lang/StackTraceElement")
  | 2 => .object "java/util/List"
  | 3 => .object "java/lang/String"
  | _ => .object "java/lang/Object"
abbrev wsJ40 : List Cond := u_ws RJ4 TJ4 5
theorem nmJ4 : ∀ a, a < 5 → ∀ b, b < 5 → a ≠ b → (TJ4 a).2.1 ≠ (TJ4 b).2.1 := by decide +kernel
theorem tyJ4_ok : ∀ k, k < 5 → parseFieldDescriptor (TJ4 k).2.2.1 = some (tyJ4 k) := by decide +kernel
abbrev cJ4_init : ByteArray := prog_44_method_1_code
def yJ4_init : MethodName := ⟨RJ4, "<init>", "()V"⟩
def dkwJ4_init_1 : List UInt8 := [182, 0, 27, 87, 177]
abbrev dktJ4_init_1 : List UInt8 := dkwJ4_init_1 ++ []
def dkwJ4_init_0 : List UInt8 := [42, 183, 0, 1, 42, 42, 181, 0, 7, 42, 178, 0, 13, 181, 0, 17, 42, 178, 0, 20, 181, 0, 24, 42]
abbrev dktJ4_init_0 : List UInt8 := dkwJ4_init_0 ++ dktJ4_init_1
theorem dksJ4_init_0 : cJ4_init.data.toList.drop 0 = dktJ4_init_0 := by decide +kernel
theorem dksJ4_init_1 : cJ4_init.data.toList.drop 24 = dktJ4_init_1 := dk_seg dksJ4_init_0 24 rfl rfl
theorem dJ4_init_0 : decode cJ4_init 0 = .ok (.aload_n 0, 1) := dk_42 (dk_at dksJ4_init_0 0 rfl rfl)
theorem dJ4_init_1 : decode cJ4_init 1 = .ok (.invokespecial 1, 3) := dk_183 0 1 (dk_at dksJ4_init_0 1 rfl rfl)
theorem dJ4_init_4 : decode cJ4_init 4 = .ok (.aload_n 0, 1) := dk_42 (dk_at dksJ4_init_0 4 rfl rfl)
theorem dJ4_init_5 : decode cJ4_init 5 = .ok (.aload_n 0, 1) := dk_42 (dk_at dksJ4_init_0 5 rfl rfl)
theorem dJ4_init_6 : decode cJ4_init 6 = .ok (.putfield 7, 3) := dk_181 0 7 (dk_at dksJ4_init_0 6 rfl rfl)
theorem dJ4_init_9 : decode cJ4_init 9 = .ok (.aload_n 0, 1) := dk_42 (dk_at dksJ4_init_0 9 rfl rfl)
theorem dJ4_init_10 : decode cJ4_init 10 = .ok (.getstatic 13, 3) := dk_178 0 13 (dk_at dksJ4_init_0 10 rfl rfl)
theorem dJ4_init_13 : decode cJ4_init 13 = .ok (.putfield 17, 3) := dk_181 0 17 (dk_at dksJ4_init_0 13 rfl rfl)
theorem dJ4_init_16 : decode cJ4_init 16 = .ok (.aload_n 0, 1) := dk_42 (dk_at dksJ4_init_0 16 rfl rfl)
theorem dJ4_init_17 : decode cJ4_init 17 = .ok (.getstatic 20, 3) := dk_178 0 20 (dk_at dksJ4_init_0 17 rfl rfl)
theorem dJ4_init_20 : decode cJ4_init 20 = .ok (.putfield 24, 3) := dk_181 0 24 (dk_at dksJ4_init_0 20 rfl rfl)
theorem dJ4_init_23 : decode cJ4_init 23 = .ok (.aload_n 0, 1) := dk_42 (dk_at dksJ4_init_0 23 rfl rfl)
theorem dJ4_init_24 : decode cJ4_init 24 = .ok (.invokevirtual 27, 3) := dk_182 0 27 (dk_at dksJ4_init_1 0 rfl rfl)
theorem dJ4_init_27 : decode cJ4_init 27 = .ok (.pop, 1) := dk_87 (dk_at dksJ4_init_1 3 rfl rfl)
theorem dJ4_init_28 : decode cJ4_init 28 = .ok (.return_, 1) := dk_177 (dk_at dksJ4_init_1 4 rfl rfl)
abbrev cJ4_init_2 : ByteArray := prog_44_method_2_code
def yJ4_init_2 : MethodName := ⟨RJ4, "<init>", "(Ljava/lang/String;)V"⟩
def dkwJ4_init_2_1 : List UInt8 := [182, 0, 27, 87, 42, 43, 181, 0, 31, 177]
abbrev dktJ4_init_2_1 : List UInt8 := dkwJ4_init_2_1 ++ []
def dkwJ4_init_2_0 : List UInt8 := [42, 183, 0, 1, 42, 42, 181, 0, 7, 42, 178, 0, 13, 181, 0, 17, 42, 178, 0, 20, 181, 0, 24, 42]
abbrev dktJ4_init_2_0 : List UInt8 := dkwJ4_init_2_0 ++ dktJ4_init_2_1
theorem dksJ4_init_2_0 : cJ4_init_2.data.toList.drop 0 = dktJ4_init_2_0 := by decide +kernel
theorem dksJ4_init_2_1 : cJ4_init_2.data.toList.drop 24 = dktJ4_init_2_1 := dk_seg dksJ4_init_2_0 24 rfl rfl
theorem dJ4_init_2_0 : decode cJ4_init_2 0 = .ok (.aload_n 0, 1) := dk_42 (dk_at dksJ4_init_2_0 0 rfl rfl)
theorem dJ4_init_2_1 : decode cJ4_init_2 1 = .ok (.invokespecial 1, 3) := dk_183 0 1 (dk_at dksJ4_init_2_0 1 rfl rfl)
theorem dJ4_init_2_4 : decode cJ4_init_2 4 = .ok (.aload_n 0, 1) := dk_42 (dk_at dksJ4_init_2_0 4 rfl rfl)
theorem dJ4_init_2_5 : decode cJ4_init_2 5 = .ok (.aload_n 0, 1) := dk_42 (dk_at dksJ4_init_2_0 5 rfl rfl)
theorem dJ4_init_2_6 : decode cJ4_init_2 6 = .ok (.putfield 7, 3) := dk_181 0 7 (dk_at dksJ4_init_2_0 6 rfl rfl)
theorem dJ4_init_2_9 : decode cJ4_init_2 9 = .ok (.aload_n 0, 1) := dk_42 (dk_at dksJ4_init_2_0 9 rfl rfl)
theorem dJ4_init_2_10 : decode cJ4_init_2 10 = .ok (.getstatic 13, 3) := dk_178 0 13 (dk_at dksJ4_init_2_0 10 rfl rfl)
theorem dJ4_init_2_13 : decode cJ4_init_2 13 = .ok (.putfield 17, 3) := dk_181 0 17 (dk_at dksJ4_init_2_0 13 rfl rfl)
theorem dJ4_init_2_16 : decode cJ4_init_2 16 = .ok (.aload_n 0, 1) := dk_42 (dk_at dksJ4_init_2_0 16 rfl rfl)
theorem dJ4_init_2_17 : decode cJ4_init_2 17 = .ok (.getstatic 20, 3) := dk_178 0 20 (dk_at dksJ4_init_2_0 17 rfl rfl)
theorem dJ4_init_2_20 : decode cJ4_init_2 20 = .ok (.putfield 24, 3) := dk_181 0 24 (dk_at dksJ4_init_2_0 20 rfl rfl)
theorem dJ4_init_2_23 : decode cJ4_init_2 23 = .ok (.aload_n 0, 1) := dk_42 (dk_at dksJ4_init_2_0 23 rfl rfl)
theorem dJ4_init_2_24 : decode cJ4_init_2 24 = .ok (.invokevirtual 27, 3) := dk_182 0 27 (dk_at dksJ4_init_2_1 0 rfl rfl)
theorem dJ4_init_2_27 : decode cJ4_init_2 27 = .ok (.pop, 1) := dk_87 (dk_at dksJ4_init_2_1 3 rfl rfl)
theorem dJ4_init_2_28 : decode cJ4_init_2 28 = .ok (.aload_n 0, 1) := dk_42 (dk_at dksJ4_init_2_1 4 rfl rfl)
theorem dJ4_init_2_29 : decode cJ4_init_2 29 = .ok (.aload_n 1, 1) := dk_43 (dk_at dksJ4_init_2_1 5 rfl rfl)
theorem dJ4_init_2_30 : decode cJ4_init_2 30 = .ok (.putfield 31, 3) := dk_181 0 31 (dk_at dksJ4_init_2_1 6 rfl rfl)
theorem dJ4_init_2_33 : decode cJ4_init_2 33 = .ok (.return_, 1) := dk_177 (dk_at dksJ4_init_2_1 9 rfl rfl)
abbrev cJ4_init_3 : ByteArray := prog_44_method_5_code
def yJ4_init_3 : MethodName := ⟨RJ4, "<init>", "(Ljava/lang/String;Ljava/lang/Throwable;ZZ)V"⟩
def dkwJ4_init_3_2 : List UInt8 := [44, 181, 0, 7, 29, 154, 0, 8, 42, 1, 181, 0, 24, 177]
abbrev dktJ4_init_3_2 : List UInt8 := dkwJ4_init_3_2 ++ []
def dkwJ4_init_3_1 : List UInt8 := [21, 4, 153, 0, 11, 42, 182, 0, 27, 87, 167, 0, 8, 42, 1, 181, 0, 17, 42, 43, 181, 0, 31, 42]
abbrev dktJ4_init_3_1 : List UInt8 := dkwJ4_init_3_1 ++ dktJ4_init_3_2
def dkwJ4_init_3_0 : List UInt8 := [42, 183, 0, 1, 42, 42, 181, 0, 7, 42, 178, 0, 13, 181, 0, 17, 42, 178, 0, 20, 181, 0, 24]
abbrev dktJ4_init_3_0 : List UInt8 := dkwJ4_init_3_0 ++ dktJ4_init_3_1
theorem dksJ4_init_3_0 : cJ4_init_3.data.toList.drop 0 = dktJ4_init_3_0 := by decide +kernel
theorem dksJ4_init_3_1 : cJ4_init_3.data.toList.drop 23 = dktJ4_init_3_1 := dk_seg dksJ4_init_3_0 23 rfl rfl
theorem dksJ4_init_3_2 : cJ4_init_3.data.toList.drop 47 = dktJ4_init_3_2 := dk_seg dksJ4_init_3_1 24 rfl rfl
theorem dJ4_init_3_0 : decode cJ4_init_3 0 = .ok (.aload_n 0, 1) := dk_42 (dk_at dksJ4_init_3_0 0 rfl rfl)
theorem dJ4_init_3_1 : decode cJ4_init_3 1 = .ok (.invokespecial 1, 3) := dk_183 0 1 (dk_at dksJ4_init_3_0 1 rfl rfl)
theorem dJ4_init_3_4 : decode cJ4_init_3 4 = .ok (.aload_n 0, 1) := dk_42 (dk_at dksJ4_init_3_0 4 rfl rfl)
theorem dJ4_init_3_5 : decode cJ4_init_3 5 = .ok (.aload_n 0, 1) := dk_42 (dk_at dksJ4_init_3_0 5 rfl rfl)
theorem dJ4_init_3_6 : decode cJ4_init_3 6 = .ok (.putfield 7, 3) := dk_181 0 7 (dk_at dksJ4_init_3_0 6 rfl rfl)
theorem dJ4_init_3_9 : decode cJ4_init_3 9 = .ok (.aload_n 0, 1) := dk_42 (dk_at dksJ4_init_3_0 9 rfl rfl)
theorem dJ4_init_3_10 : decode cJ4_init_3 10 = .ok (.getstatic 13, 3) := dk_178 0 13 (dk_at dksJ4_init_3_0 10 rfl rfl)
theorem dJ4_init_3_13 : decode cJ4_init_3 13 = .ok (.putfield 17, 3) := dk_181 0 17 (dk_at dksJ4_init_3_0 13 rfl rfl)
theorem dJ4_init_3_16 : decode cJ4_init_3 16 = .ok (.aload_n 0, 1) := dk_42 (dk_at dksJ4_init_3_0 16 rfl rfl)
theorem dJ4_init_3_17 : decode cJ4_init_3 17 = .ok (.getstatic 20, 3) := dk_178 0 20 (dk_at dksJ4_init_3_0 17 rfl rfl)
theorem dJ4_init_3_20 : decode cJ4_init_3 20 = .ok (.putfield 24, 3) := dk_181 0 24 (dk_at dksJ4_init_3_0 20 rfl rfl)
theorem dJ4_init_3_23 : decode cJ4_init_3 23 = .ok (.iload 4, 2) := dk_21 4 (dk_at dksJ4_init_3_1 0 rfl rfl)
theorem dJ4_init_3_25 : decode cJ4_init_3 25 = .ok (.ifCond .eq 11, 3) := dk_153 0 11 (dk_at dksJ4_init_3_1 2 rfl rfl)
theorem dJ4_init_3_28 : decode cJ4_init_3 28 = .ok (.aload_n 0, 1) := dk_42 (dk_at dksJ4_init_3_1 5 rfl rfl)
theorem dJ4_init_3_29 : decode cJ4_init_3 29 = .ok (.invokevirtual 27, 3) := dk_182 0 27 (dk_at dksJ4_init_3_1 6 rfl rfl)
theorem dJ4_init_3_32 : decode cJ4_init_3 32 = .ok (.pop, 1) := dk_87 (dk_at dksJ4_init_3_1 9 rfl rfl)
theorem dJ4_init_3_33 : decode cJ4_init_3 33 = .ok (.goto 8, 3) := dk_167 0 8 (dk_at dksJ4_init_3_1 10 rfl rfl)
theorem dJ4_init_3_36 : decode cJ4_init_3 36 = .ok (.aload_n 0, 1) := dk_42 (dk_at dksJ4_init_3_1 13 rfl rfl)
theorem dJ4_init_3_37 : decode cJ4_init_3 37 = .ok (.aconst_null, 1) := dk_1 (dk_at dksJ4_init_3_1 14 rfl rfl)
theorem dJ4_init_3_38 : decode cJ4_init_3 38 = .ok (.putfield 17, 3) := dk_181 0 17 (dk_at dksJ4_init_3_1 15 rfl rfl)
theorem dJ4_init_3_41 : decode cJ4_init_3 41 = .ok (.aload_n 0, 1) := dk_42 (dk_at dksJ4_init_3_1 18 rfl rfl)
theorem dJ4_init_3_42 : decode cJ4_init_3 42 = .ok (.aload_n 1, 1) := dk_43 (dk_at dksJ4_init_3_1 19 rfl rfl)
theorem dJ4_init_3_43 : decode cJ4_init_3 43 = .ok (.putfield 31, 3) := dk_181 0 31 (dk_at dksJ4_init_3_1 20 rfl rfl)
theorem dJ4_init_3_46 : decode cJ4_init_3 46 = .ok (.aload_n 0, 1) := dk_42 (dk_at dksJ4_init_3_1 23 rfl rfl)
theorem dJ4_init_3_47 : decode cJ4_init_3 47 = .ok (.aload_n 2, 1) := dk_44 (dk_at dksJ4_init_3_2 0 rfl rfl)
theorem dJ4_init_3_48 : decode cJ4_init_3 48 = .ok (.putfield 7, 3) := dk_181 0 7 (dk_at dksJ4_init_3_2 1 rfl rfl)
theorem dJ4_init_3_51 : decode cJ4_init_3 51 = .ok (.iload_n 3, 1) := dk_29 (dk_at dksJ4_init_3_2 4 rfl rfl)
theorem dJ4_init_3_52 : decode cJ4_init_3 52 = .ok (.ifCond .ne 8, 3) := dk_154 0 8 (dk_at dksJ4_init_3_2 5 rfl rfl)
theorem dJ4_init_3_55 : decode cJ4_init_3 55 = .ok (.aload_n 0, 1) := dk_42 (dk_at dksJ4_init_3_2 8 rfl rfl)
theorem dJ4_init_3_56 : decode cJ4_init_3 56 = .ok (.aconst_null, 1) := dk_1 (dk_at dksJ4_init_3_2 9 rfl rfl)
theorem dJ4_init_3_57 : decode cJ4_init_3 57 = .ok (.putfield 24, 3) := dk_181 0 24 (dk_at dksJ4_init_3_2 10 rfl rfl)
theorem dJ4_init_3_60 : decode cJ4_init_3 60 = .ok (.return_, 1) := dk_177 (dk_at dksJ4_init_3_2 13 rfl rfl)
theorem q92 : (Jvm.Cond.initialized "java/lang/Throwable") ∈ lw_all := lw_g (lw_at lw_m1 9 rfl) rfl
theorem q296 : (Jvm.Cond.declares ({ cls := "java/lang/Throwable", name := "<init>", desc := "()V" } : Jvm.MethodName)) ∈ lw_tbl := lw_at lw_m1 213 rfl
theorem q297 : (Jvm.Cond.declares ({ cls := "java/lang/Throwable", name := "<init>", desc := "(Ljava/lang/String;)V" } : Jvm.MethodName)) ∈ lw_tbl := lw_at lw_m1 214 rfl
theorem q301 : (Jvm.Cond.lays "java/lang/Throwable" "java/lang/Throwable" "cause" "Ljava/lang/Throwable;") ∈ lw_all := lw_g (lw_at lw_m1 218 rfl) rfl
theorem q303 : (Jvm.Cond.lays "java/lang/Throwable" "java/lang/Throwable" "stackTrace" "[Ljava/lang/StackTraceElement;") ∈ lw_all := lw_g (lw_at lw_m1 220 rfl) rfl
theorem q305 : (Jvm.Cond.lays "java/lang/Throwable" "java/lang/Throwable" "suppressedExceptions" "Ljava/util/List;") ∈ lw_all := lw_g (lw_at lw_m1 222 rfl) rfl
theorem q307 : (Jvm.Cond.lays "java/lang/Throwable" "java/lang/Throwable" "detailMessage" "Ljava/lang/String;") ∈ lw_all := lw_g (lw_at lw_m1 224 rfl) rfl
theorem q309 : (Jvm.Cond.lays "java/lang/Throwable" "java/lang/Throwable" "backtrace" "Ljava/lang/Object;") ∈ lw_all := lw_g (lw_at lw_m1 226 rfl) rfl
theorem q310 : (Jvm.Cond.fieldLink "java/lang/Throwable" (198 : Nat) "java/lang/Throwable" "backtrace" "Ljava/lang/Object;") ∈ lw_all := lw_g (lw_at lw_m1 227 rfl) rfl
theorem q311 : (Jvm.Cond.superclass "java/lang/Throwable" "java/lang/Object") ∈ lw_all := lw_g (lw_at lw_m1 228 rfl) rfl
theorem q312 : (Jvm.Cond.instanceMethod ({ cls := "java/lang/Throwable", name := "<init>", desc := "()V" } : Jvm.MethodName)) ∈ lw_all := lw_g (lw_at lw_m1 229 rfl) rfl
theorem q313 : (Jvm.Cond.code ({ cls := "java/lang/Throwable", name := "<init>", desc := "()V" } : Jvm.MethodName) prog_44_method_1_code (1 : Nat) (Option.none : Option Jvm.ClassFile.FieldType)) ∈ lw_all := lw_g (lw_at lw_m1 230 rfl) rfl
theorem q314 : (Jvm.Cond.methodLink "java/lang/Throwable" (1 : Nat) ({ cls := "java/lang/Object", name := "<init>", desc := "()V" } : Jvm.MethodName)) ∈ lw_all := lw_g (lw_at lw_m1 231 rfl) rfl
theorem q315 : (Jvm.Cond.fieldLink "java/lang/Throwable" (13 : Nat) "java/lang/Throwable" "UNASSIGNED_STACK" "[Ljava/lang/StackTraceElement;") ∈ lw_all := lw_g (lw_at lw_m1 232 rfl) rfl
theorem q316 : (Jvm.Cond.laysStatic "java/lang/Throwable" "UNASSIGNED_STACK" "[Ljava/lang/StackTraceElement;") ∈ lw_tbl := lw_at lw_m1 233 rfl
theorem q317 : (Jvm.Cond.fieldLink "java/lang/Throwable" (20 : Nat) "java/lang/Throwable" "SUPPRESSED_SENTINEL" "Ljava/util/List;") ∈ lw_all := lw_g (lw_at lw_m1 234 rfl) rfl
theorem q318 : (Jvm.Cond.laysStatic "java/lang/Throwable" "SUPPRESSED_SENTINEL" "Ljava/util/List;") ∈ lw_tbl := lw_at lw_m1 235 rfl
theorem q319 : (Jvm.Cond.methodLink "java/lang/Throwable" (27 : Nat) ({ cls := "java/lang/Throwable", name := "fillInStackTrace", desc := "()Ljava/lang/Throwable;" } : Jvm.MethodName)) ∈ lw_all := lw_g (lw_at lw_m1 236 rfl) rfl
theorem q320 : (Jvm.Cond.instanceMethod ({ cls := "java/lang/Throwable", name := "fillInStackTrace", desc := "()Ljava/lang/Throwable;" } : Jvm.MethodName)) ∈ lw_all := lw_g (lw_at lw_m1 237 rfl) rfl
theorem q321 : (Jvm.Cond.sameMethod "java/lang/Throwable" "java/lang/Throwable" "fillInStackTrace" "()Ljava/lang/Throwable;") ∈ lw_all := lw_g (lw_at lw_m1 238 rfl) rfl
theorem q327 : (Jvm.Cond.codeSync ({ cls := "java/lang/Throwable", name := "fillInStackTrace", desc := "()Ljava/lang/Throwable;" } : Jvm.MethodName) prog_44_method_18_code (1 : Nat) (Option.some (Jvm.ClassFile.FieldType.object "java/lang/Throwable"))) ∈ lw_all := lw_g (lw_at lw_m2 4 rfl) rfl
theorem q328 : (Jvm.Cond.methodLink "java/lang/Throwable" (202 : Nat) ({ cls := "java/lang/Throwable", name := "fillInStackTrace", desc := "(I)Ljava/lang/Throwable;" } : Jvm.MethodName)) ∈ lw_all := lw_g (lw_at lw_m2 5 rfl) rfl
theorem q329 : (Jvm.Cond.privateMethod ({ cls := "java/lang/Throwable", name := "fillInStackTrace", desc := "(I)Ljava/lang/Throwable;" } : Jvm.MethodName)) ∈ lw_tbl := lw_at lw_m2 6 rfl
theorem q330 : (Jvm.Cond.instanceMethod ({ cls := "java/lang/Throwable", name := "fillInStackTrace", desc := "(I)Ljava/lang/Throwable;" } : Jvm.MethodName)) ∈ lw_all := lw_g (lw_at lw_m2 7 rfl) rfl
theorem q331 : (Jvm.Cond.instantiable "java/lang/Throwable" (6 : Nat)) ∈ lw_all := lw_g (lw_at lw_m2 8 rfl) rfl
theorem q332 : (Jvm.Cond.native ({ cls := "java/lang/Throwable", name := "fillInStackTrace", desc := "(I)Ljava/lang/Throwable;" } : Jvm.MethodName)) ∈ lw_all := lw_g (lw_at lw_m2 9 rfl) rfl
theorem q343 : (Jvm.Cond.fieldLink "java/lang/Throwable" (198 : Nat) "java/lang/Throwable" "backtrace" "Ljava/lang/Object;") ∈ lw_all := lw_g (lw_at lw_m2 20 rfl) rfl
theorem q344 : (Jvm.Cond.fieldLink "java/lang/Throwable" (31 : Nat) "java/lang/Throwable" "detailMessage" "Ljava/lang/String;") ∈ lw_all := lw_g (lw_at lw_m2 21 rfl) rfl
theorem q345 : (Jvm.Cond.fieldLink "java/lang/Throwable" (7 : Nat) "java/lang/Throwable" "cause" "Ljava/lang/Throwable;") ∈ lw_all := lw_g (lw_at lw_m2 22 rfl) rfl
theorem q346 : (Jvm.Cond.fieldLink "java/lang/Throwable" (17 : Nat) "java/lang/Throwable" "stackTrace" "[Ljava/lang/StackTraceElement;") ∈ lw_all := lw_g (lw_at lw_m2 23 rfl) rfl
theorem q347 : (Jvm.Cond.fieldLink "java/lang/Throwable" (24 : Nat) "java/lang/Throwable" "suppressedExceptions" "Ljava/util/List;") ∈ lw_all := lw_g (lw_at lw_m2 24 rfl) rfl
theorem q348 : (Jvm.Cond.soleField "java/lang/Throwable" "backtrace") ∈ lw_all := lw_g (lw_at lw_m2 25 rfl) rfl
theorem q349 : (Jvm.Cond.soleField "java/lang/Throwable" "detailMessage") ∈ lw_all := lw_g (lw_at lw_m2 26 rfl) rfl
theorem q350 : (Jvm.Cond.soleField "java/lang/Throwable" "cause") ∈ lw_all := lw_g (lw_at lw_m2 27 rfl) rfl
theorem q351 : (Jvm.Cond.soleField "java/lang/Throwable" "stackTrace") ∈ lw_all := lw_g (lw_at lw_m2 28 rfl) rfl
theorem q353 : (Jvm.Cond.soleField "java/lang/Throwable" "depth") ∈ lw_all := lw_g (lw_at lw_m2 30 rfl) rfl
theorem q354 : (Jvm.Cond.soleField "java/lang/Throwable" "suppressedExceptions") ∈ lw_all := lw_g (lw_at lw_m2 31 rfl) rfl
theorem q373 : (Jvm.Cond.instanceMethod ({ cls := "java/lang/Throwable", name := "<init>", desc := "(Ljava/lang/String;)V" } : Jvm.MethodName)) ∈ lw_all := lw_g (lw_at lw_m2 50 rfl) rfl
theorem q374 : (Jvm.Cond.code ({ cls := "java/lang/Throwable", name := "<init>", desc := "(Ljava/lang/String;)V" } : Jvm.MethodName) prog_44_method_2_code (2 : Nat) (Option.none : Option Jvm.ClassFile.FieldType)) ∈ lw_all := lw_g (lw_at lw_m2 51 rfl) rfl
theorem q792 : (Jvm.Cond.instanceMethod ({ cls := "java/lang/Throwable", name := "<init>", desc := "(Ljava/lang/String;Ljava/lang/Throwable;ZZ)V" } : Jvm.MethodName)) ∈ lw_all := lw_g (lw_at lw_m3 229 rfl) rfl
theorem q793 : (Jvm.Cond.code ({ cls := "java/lang/Throwable", name := "<init>", desc := "(Ljava/lang/String;Ljava/lang/Throwable;ZZ)V" } : Jvm.MethodName) prog_44_method_5_code (5 : Nat) (Option.none : Option Jvm.ClassFile.FieldType)) ∈ lw_all := lw_g (lw_at lw_m3 230 rfl) rfl
theorem q2638 : (Jvm.Cond.sameMethod "java/lang/Throwable" "java/lang/Throwable" "fillInStackTrace" "(I)Ljava/lang/Throwable;") ∈ lw_all := lw_g (lw_at lw_m11 155 rfl) rfl
theorem q2687 : (Jvm.Cond.castable "java/lang/Throwable" "java/lang/Object") ∈ lw_tbl := lw_at lw_m11 204 rfl
theorem in_J4 : ∀ w ∈ wsJ40, w ∈ lw_all := lw_in wsJ40 [301, 303, 305, 307, 309] (by decide +kernel) (by decide +kernel)

/-! java/lang/Exception -/
set_option maxRecDepth 100000
def RJ5 : String := "java/lang/Exception"
abbrev cJ5_init : ByteArray := prog_28_method_1_code
def yJ5_init : MethodName := ⟨RJ5, "<init>", "()V"⟩
theorem dJ5_init_0 : decode cJ5_init 0 = .ok (.aload_n 0, 1) := by decide +kernel
theorem dJ5_init_1 : decode cJ5_init 1 = .ok (.invokespecial 1, 3) := by decide +kernel
theorem dJ5_init_4 : decode cJ5_init 4 = .ok (.return_, 1) := by decide +kernel
abbrev cJ5_init_2 : ByteArray := prog_28_method_2_code
def yJ5_init_2 : MethodName := ⟨RJ5, "<init>", "(Ljava/lang/String;)V"⟩
def dkwJ5_init_2_0 : List UInt8 := [42, 43, 183, 0, 7, 177]
abbrev dktJ5_init_2_0 : List UInt8 := dkwJ5_init_2_0 ++ []
theorem dksJ5_init_2_0 : cJ5_init_2.data.toList.drop 0 = dktJ5_init_2_0 := by decide +kernel
theorem dJ5_init_2_0 : decode cJ5_init_2 0 = .ok (.aload_n 0, 1) := dk_42 (dk_at dksJ5_init_2_0 0 rfl rfl)
theorem dJ5_init_2_1 : decode cJ5_init_2 1 = .ok (.aload_n 1, 1) := dk_43 (dk_at dksJ5_init_2_0 1 rfl rfl)
theorem dJ5_init_2_2 : decode cJ5_init_2 2 = .ok (.invokespecial 7, 3) := dk_183 0 7 (dk_at dksJ5_init_2_0 2 rfl rfl)
theorem dJ5_init_2_5 : decode cJ5_init_2 5 = .ok (.return_, 1) := dk_177 (dk_at dksJ5_init_2_0 5 rfl rfl)
abbrev cJ5_init_3 : ByteArray := prog_28_method_5_code
def yJ5_init_3 : MethodName := ⟨RJ5, "<init>", "(Ljava/lang/String;Ljava/lang/Throwable;ZZ)V"⟩
def dkwJ5_init_3_0 : List UInt8 := [42, 43, 44, 29, 21, 4, 183, 0, 16, 177]
abbrev dktJ5_init_3_0 : List UInt8 := dkwJ5_init_3_0 ++ []
theorem dksJ5_init_3_0 : cJ5_init_3.data.toList.drop 0 = dktJ5_init_3_0 := by decide +kernel
theorem dJ5_init_3_0 : decode cJ5_init_3 0 = .ok (.aload_n 0, 1) := dk_42 (dk_at dksJ5_init_3_0 0 rfl rfl)
theorem dJ5_init_3_1 : decode cJ5_init_3 1 = .ok (.aload_n 1, 1) := dk_43 (dk_at dksJ5_init_3_0 1 rfl rfl)
theorem dJ5_init_3_2 : decode cJ5_init_3 2 = .ok (.aload_n 2, 1) := dk_44 (dk_at dksJ5_init_3_0 2 rfl rfl)
theorem dJ5_init_3_3 : decode cJ5_init_3 3 = .ok (.iload_n 3, 1) := dk_29 (dk_at dksJ5_init_3_0 3 rfl rfl)
theorem dJ5_init_3_4 : decode cJ5_init_3 4 = .ok (.iload 4, 2) := dk_21 4 (dk_at dksJ5_init_3_0 4 rfl rfl)
theorem dJ5_init_3_6 : decode cJ5_init_3 6 = .ok (.invokespecial 16, 3) := dk_183 0 16 (dk_at dksJ5_init_3_0 6 rfl rfl)
theorem dJ5_init_3_9 : decode cJ5_init_3 9 = .ok (.return_, 1) := dk_177 (dk_at dksJ5_init_3_0 9 rfl rfl)
theorem q93 : (Jvm.Cond.initialized "java/lang/Exception") ∈ lw_all := lw_g (lw_at lw_m1 10 rfl) rfl
theorem q294 : (Jvm.Cond.declares ({ cls := "java/lang/Exception", name := "<init>", desc := "()V" } : Jvm.MethodName)) ∈ lw_tbl := lw_at lw_m1 211 rfl
theorem q295 : (Jvm.Cond.declares ({ cls := "java/lang/Exception", name := "<init>", desc := "(Ljava/lang/String;)V" } : Jvm.MethodName)) ∈ lw_tbl := lw_at lw_m1 212 rfl
theorem q340 : (Jvm.Cond.instanceMethod ({ cls := "java/lang/Exception", name := "<init>", desc := "()V" } : Jvm.MethodName)) ∈ lw_all := lw_g (lw_at lw_m2 17 rfl) rfl
theorem q341 : (Jvm.Cond.code ({ cls := "java/lang/Exception", name := "<init>", desc := "()V" } : Jvm.MethodName) prog_28_method_1_code (1 : Nat) (Option.none : Option Jvm.ClassFile.FieldType)) ∈ lw_all := lw_g (lw_at lw_m2 18 rfl) rfl
theorem q342 : (Jvm.Cond.methodLink "java/lang/Exception" (1 : Nat) ({ cls := "java/lang/Throwable", name := "<init>", desc := "()V" } : Jvm.MethodName)) ∈ lw_all := lw_g (lw_at lw_m2 19 rfl) rfl
theorem q370 : (Jvm.Cond.instanceMethod ({ cls := "java/lang/Exception", name := "<init>", desc := "(Ljava/lang/String;)V" } : Jvm.MethodName)) ∈ lw_all := lw_g (lw_at lw_m2 47 rfl) rfl
theorem q371 : (Jvm.Cond.code ({ cls := "java/lang/Exception", name := "<init>", desc := "(Ljava/lang/String;)V" } : Jvm.MethodName) prog_28_method_2_code (2 : Nat) (Option.none : Option Jvm.ClassFile.FieldType)) ∈ lw_all := lw_g (lw_at lw_m2 48 rfl) rfl
theorem q372 : (Jvm.Cond.methodLink "java/lang/Exception" (7 : Nat) ({ cls := "java/lang/Throwable", name := "<init>", desc := "(Ljava/lang/String;)V" } : Jvm.MethodName)) ∈ lw_all := lw_g (lw_at lw_m2 49 rfl) rfl
theorem q789 : (Jvm.Cond.instanceMethod ({ cls := "java/lang/Exception", name := "<init>", desc := "(Ljava/lang/String;Ljava/lang/Throwable;ZZ)V" } : Jvm.MethodName)) ∈ lw_all := lw_g (lw_at lw_m3 226 rfl) rfl
theorem q790 : (Jvm.Cond.code ({ cls := "java/lang/Exception", name := "<init>", desc := "(Ljava/lang/String;Ljava/lang/Throwable;ZZ)V" } : Jvm.MethodName) prog_28_method_5_code (5 : Nat) (Option.none : Option Jvm.ClassFile.FieldType)) ∈ lw_all := lw_g (lw_at lw_m3 227 rfl) rfl
theorem q791 : (Jvm.Cond.methodLink "java/lang/Exception" (16 : Nat) ({ cls := "java/lang/Throwable", name := "<init>", desc := "(Ljava/lang/String;Ljava/lang/Throwable;ZZ)V" } : Jvm.MethodName)) ∈ lw_all := lw_g (lw_at lw_m3 228 rfl) rfl

/-! java/lang/RuntimeException -/
set_option maxRecDepth 100000
def RJ6 : String := "java/lang/RuntimeException"
abbrev cJ6_init : ByteArray := prog_38_method_1_code
def yJ6_init : MethodName := ⟨RJ6, "<init>", "()V"⟩
theorem dJ6_init_0 : decode cJ6_init 0 = .ok (.aload_n 0, 1) := by decide +kernel
theorem dJ6_init_1 : decode cJ6_init 1 = .ok (.invokespecial 1, 3) := by decide +kernel
theorem dJ6_init_4 : decode cJ6_init 4 = .ok (.return_, 1) := by decide +kernel
abbrev cJ6_init_2 : ByteArray := prog_38_method_2_code
def yJ6_init_2 : MethodName := ⟨RJ6, "<init>", "(Ljava/lang/String;)V"⟩
def dkwJ6_init_2_0 : List UInt8 := [42, 43, 183, 0, 7, 177]
abbrev dktJ6_init_2_0 : List UInt8 := dkwJ6_init_2_0 ++ []
theorem dksJ6_init_2_0 : cJ6_init_2.data.toList.drop 0 = dktJ6_init_2_0 := by decide +kernel
theorem dJ6_init_2_0 : decode cJ6_init_2 0 = .ok (.aload_n 0, 1) := dk_42 (dk_at dksJ6_init_2_0 0 rfl rfl)
theorem dJ6_init_2_1 : decode cJ6_init_2 1 = .ok (.aload_n 1, 1) := dk_43 (dk_at dksJ6_init_2_0 1 rfl rfl)
theorem dJ6_init_2_2 : decode cJ6_init_2 2 = .ok (.invokespecial 7, 3) := dk_183 0 7 (dk_at dksJ6_init_2_0 2 rfl rfl)
theorem dJ6_init_2_5 : decode cJ6_init_2 5 = .ok (.return_, 1) := dk_177 (dk_at dksJ6_init_2_0 5 rfl rfl)
theorem q94 : (Jvm.Cond.initialized "java/lang/RuntimeException") ∈ lw_all := lw_g (lw_at lw_m1 11 rfl) rfl
theorem q292 : (Jvm.Cond.declares ({ cls := "java/lang/RuntimeException", name := "<init>", desc := "()V" } : Jvm.MethodName)) ∈ lw_tbl := lw_at lw_m1 209 rfl
theorem q293 : (Jvm.Cond.declares ({ cls := "java/lang/RuntimeException", name := "<init>", desc := "(Ljava/lang/String;)V" } : Jvm.MethodName)) ∈ lw_tbl := lw_at lw_m1 210 rfl
theorem q337 : (Jvm.Cond.instanceMethod ({ cls := "java/lang/RuntimeException", name := "<init>", desc := "()V" } : Jvm.MethodName)) ∈ lw_all := lw_g (lw_at lw_m2 14 rfl) rfl
theorem q338 : (Jvm.Cond.code ({ cls := "java/lang/RuntimeException", name := "<init>", desc := "()V" } : Jvm.MethodName) prog_38_method_1_code (1 : Nat) (Option.none : Option Jvm.ClassFile.FieldType)) ∈ lw_all := lw_g (lw_at lw_m2 15 rfl) rfl
theorem q339 : (Jvm.Cond.methodLink "java/lang/RuntimeException" (1 : Nat) ({ cls := "java/lang/Exception", name := "<init>", desc := "()V" } : Jvm.MethodName)) ∈ lw_all := lw_g (lw_at lw_m2 16 rfl) rfl
theorem q367 : (Jvm.Cond.instanceMethod ({ cls := "java/lang/RuntimeException", name := "<init>", desc := "(Ljava/lang/String;)V" } : Jvm.MethodName)) ∈ lw_all := lw_g (lw_at lw_m2 44 rfl) rfl
theorem q368 : (Jvm.Cond.code ({ cls := "java/lang/RuntimeException", name := "<init>", desc := "(Ljava/lang/String;)V" } : Jvm.MethodName) prog_38_method_2_code (2 : Nat) (Option.none : Option Jvm.ClassFile.FieldType)) ∈ lw_all := lw_g (lw_at lw_m2 45 rfl) rfl
theorem q369 : (Jvm.Cond.methodLink "java/lang/RuntimeException" (7 : Nat) ({ cls := "java/lang/Exception", name := "<init>", desc := "(Ljava/lang/String;)V" } : Jvm.MethodName)) ∈ lw_all := lw_g (lw_at lw_m2 46 rfl) rfl

/-! java/lang/IllegalStateException -/
set_option maxRecDepth 100000
def RJ7 : String := "java/lang/IllegalStateException"
def TJ7 : u_T := fun k => match k with
  | 0 => ("java/lang/Throwable", "cause", "Ljava/lang/Throwable;", false)
  | 1 => ("java/lang/Throwable", "stackTrace", "[Ljava/lang/StackTraceElement;", false)
  | 2 => ("java/lang/Throwable", "suppressedExceptions", "Ljava/util/List;", false)
  | 3 => ("java/lang/Throwable", "detailMessage", "Ljava/lang/String;", false)
  | 4 => ("java/lang/Throwable", "backtrace", "Ljava/lang/Object;", false)
  | _ => ("java/lang/Throwable", "depth", "I", false)
def tyJ7 : Nat → FieldType := fun k => match k with
  | 0 => .object "java/lang/Throwable"
  | 1 => .array (.object "java/lang/StackTraceElement")
  | 2 => .object "java/util/List"
  | 3 => .object "java/lang/String"
  | 4 => .object "java/lang/Object"
  | _ => .int
abbrev wsJ70 : List Cond := u_ws RJ7 TJ7 6
theorem nmJ7 : ∀ a, a < 6 → ∀ b, b < 6 → a ≠ b → (TJ7 a).2.1 ≠ (TJ7 b).2.1 := by decide +kernel
theorem tyJ7_ok : ∀ k, k < 6 → parseFieldDescriptor (TJ7 k).2.2.1 = some (tyJ7 k) := by decide +kernel
abbrev cJ7_init : ByteArray := prog_30_method_1_code
def yJ7_init : MethodName := ⟨RJ7, "<init>", "()V"⟩
theorem dJ7_init_0 : decode cJ7_init 0 = .ok (.aload_n 0, 1) := by decide +kernel
theorem dJ7_init_1 : decode cJ7_init 1 = .ok (.invokespecial 1, 3) := by decide +kernel
theorem dJ7_init_4 : decode cJ7_init 4 = .ok (.return_, 1) := by decide +kernel
abbrev cJ7_init_2 : ByteArray := prog_30_method_2_code
def yJ7_init_2 : MethodName := ⟨RJ7, "<init>", "(Ljava/lang/String;)V"⟩
def dkwJ7_init_2_0 : List UInt8 := [42, 43, 183, 0, 7, 177]
abbrev dktJ7_init_2_0 : List UInt8 := dkwJ7_init_2_0 ++ []
theorem dksJ7_init_2_0 : cJ7_init_2.data.toList.drop 0 = dktJ7_init_2_0 := by decide +kernel
theorem dJ7_init_2_0 : decode cJ7_init_2 0 = .ok (.aload_n 0, 1) := dk_42 (dk_at dksJ7_init_2_0 0 rfl rfl)
theorem dJ7_init_2_1 : decode cJ7_init_2 1 = .ok (.aload_n 1, 1) := dk_43 (dk_at dksJ7_init_2_0 1 rfl rfl)
theorem dJ7_init_2_2 : decode cJ7_init_2 2 = .ok (.invokespecial 7, 3) := dk_183 0 7 (dk_at dksJ7_init_2_0 2 rfl rfl)
theorem dJ7_init_2_5 : decode cJ7_init_2 5 = .ok (.return_, 1) := dk_177 (dk_at dksJ7_init_2_0 5 rfl rfl)
theorem q95 : (Jvm.Cond.initialized "java/lang/IllegalStateException") ∈ lw_all := lw_g (lw_at lw_m1 12 rfl) rfl
theorem q290 : (Jvm.Cond.instantiable "java/lang/IllegalStateException" (6 : Nat)) ∈ lw_all := lw_g (lw_at lw_m1 207 rfl) rfl
theorem q291 : (Jvm.Cond.castable "java/lang/IllegalStateException" "java/lang/IllegalStateException") ∈ lw_tbl := lw_at lw_m1 208 rfl
theorem q298 : (Jvm.Cond.selects "java/lang/IllegalStateException" ({ cls := "java/lang/Throwable", name := "fillInStackTrace", desc := "(I)Ljava/lang/Throwable;" } : Jvm.MethodName) ({ cls := "java/lang/Throwable", name := "fillInStackTrace", desc := "(I)Ljava/lang/Throwable;" } : Jvm.MethodName)) ∈ lw_all := lw_g (lw_at lw_m1 215 rfl) rfl
theorem q299 : (Jvm.Cond.selects "java/lang/IllegalStateException" ({ cls := "java/lang/Throwable", name := "fillInStackTrace", desc := "()Ljava/lang/Throwable;" } : Jvm.MethodName) ({ cls := "java/lang/Throwable", name := "fillInStackTrace", desc := "()Ljava/lang/Throwable;" } : Jvm.MethodName)) ∈ lw_all := lw_g (lw_at lw_m1 216 rfl) rfl
theorem q300 : (Jvm.Cond.lays "java/lang/IllegalStateException" "java/lang/Throwable" "cause" "Ljava/lang/Throwable;") ∈ lw_all := lw_g (lw_at lw_m1 217 rfl) rfl
theorem q302 : (Jvm.Cond.lays "java/lang/IllegalStateException" "java/lang/Throwable" "stackTrace" "[Ljava/lang/StackTraceElement;") ∈ lw_all := lw_g (lw_at lw_m1 219 rfl) rfl
theorem q304 : (Jvm.Cond.lays "java/lang/IllegalStateException" "java/lang/Throwable" "suppressedExceptions" "Ljava/util/List;") ∈ lw_all := lw_g (lw_at lw_m1 221 rfl) rfl
theorem q306 : (Jvm.Cond.lays "java/lang/IllegalStateException" "java/lang/Throwable" "detailMessage" "Ljava/lang/String;") ∈ lw_all := lw_g (lw_at lw_m1 223 rfl) rfl
theorem q308 : (Jvm.Cond.lays "java/lang/IllegalStateException" "java/lang/Throwable" "backtrace" "Ljava/lang/Object;") ∈ lw_all := lw_g (lw_at lw_m1 225 rfl) rfl
theorem q334 : (Jvm.Cond.instanceMethod ({ cls := "java/lang/IllegalStateException", name := "<init>", desc := "()V" } : Jvm.MethodName)) ∈ lw_all := lw_g (lw_at lw_m2 11 rfl) rfl
theorem q335 : (Jvm.Cond.code ({ cls := "java/lang/IllegalStateException", name := "<init>", desc := "()V" } : Jvm.MethodName) prog_30_method_1_code (1 : Nat) (Option.none : Option Jvm.ClassFile.FieldType)) ∈ lw_all := lw_g (lw_at lw_m2 12 rfl) rfl
theorem q336 : (Jvm.Cond.methodLink "java/lang/IllegalStateException" (1 : Nat) ({ cls := "java/lang/RuntimeException", name := "<init>", desc := "()V" } : Jvm.MethodName)) ∈ lw_all := lw_g (lw_at lw_m2 13 rfl) rfl
theorem q352 : (Jvm.Cond.lays "java/lang/IllegalStateException" "java/lang/Throwable" "depth" "I") ∈ lw_all := lw_g (lw_at lw_m2 29 rfl) rfl
theorem q355 : (Jvm.Cond.superclass "java/lang/IllegalStateException" "java/lang/RuntimeException") ∈ lw_all := lw_g (lw_at lw_m2 32 rfl) rfl
theorem q1097 : (Jvm.Cond.selects "java/lang/IllegalStateException" ({ cls := "java/lang/Object", name := "getClass", desc := "()Ljava/lang/Class;" } : Jvm.MethodName) ({ cls := "java/lang/Object", name := "getClass", desc := "()Ljava/lang/Class;" } : Jvm.MethodName)) ∈ lw_all := lw_g (lw_at lw_m5 54 rfl) rfl
theorem q1924 : (Jvm.Cond.instanceMethod ({ cls := "java/lang/IllegalStateException", name := "<init>", desc := "(Ljava/lang/String;)V" } : Jvm.MethodName)) ∈ lw_all := lw_g (lw_at lw_m8 161 rfl) rfl
theorem q1925 : (Jvm.Cond.code ({ cls := "java/lang/IllegalStateException", name := "<init>", desc := "(Ljava/lang/String;)V" } : Jvm.MethodName) prog_30_method_2_code (2 : Nat) (Option.none : Option Jvm.ClassFile.FieldType)) ∈ lw_all := lw_g (lw_at lw_m8 162 rfl) rfl
theorem q1926 : (Jvm.Cond.methodLink "java/lang/IllegalStateException" (7 : Nat) ({ cls := "java/lang/RuntimeException", name := "<init>", desc := "(Ljava/lang/String;)V" } : Jvm.MethodName)) ∈ lw_all := lw_g (lw_at lw_m8 163 rfl) rfl
theorem q2667 : (Jvm.Cond.castable "java/lang/IllegalStateException" "java/lang/Object") ∈ lw_tbl := lw_at lw_m11 184 rfl
theorem in_J7 : ∀ w ∈ wsJ70, w ∈ lw_all := lw_in wsJ70 [300, 302, 304, 306, 308, 352] (by decide +kernel) (by decide +kernel)

/-! java/lang/IndexOutOfBoundsException -/
set_option maxRecDepth 100000
def RJ8 : String := "java/lang/IndexOutOfBoundsException"
def TJ8 : u_T := fun k => match k with
  | 0 => ("java/lang/Throwable", "cause", "Ljava/lang/Throwable;", false)
  | 1 => ("java/lang/Throwable", "stackTrace", "[Ljava/lang/StackTraceElement;", false)
  | 2 => ("java/lang/Throwable", "suppressedExceptions", "Ljava/util/List;", false)
  | 3 => ("java/lang/Throwable", "detailMessage", "Ljava/lang/String;", false)
  | 4 => ("java/lang/Throwable", "backtrace", "Ljava/lang/Object;", false)
  | _ => ("java/lang/Throwable", "depth", "I", false)
def tyJ8 : Nat → FieldType := fun k => match k with
  | 0 => .object "java/lang/Throwable"
  | 1 => .array (.object "java/lang/StackTraceElement")
  | 2 => .object "java/util/List"
  | 3 => .object "java/lang/String"
  | 4 => .object "java/lang/Object"
  | _ => .int
abbrev wsJ80 : List Cond := u_ws RJ8 TJ8 6
theorem nmJ8 : ∀ a, a < 6 → ∀ b, b < 6 → a ≠ b → (TJ8 a).2.1 ≠ (TJ8 b).2.1 := by decide +kernel
theorem tyJ8_ok : ∀ k, k < 6 → parseFieldDescriptor (TJ8 k).2.2.1 = some (tyJ8 k) := by decide +kernel
abbrev cJ8_init : ByteArray := prog_31_method_2_code
def yJ8_init : MethodName := ⟨RJ8, "<init>", "(Ljava/lang/String;)V"⟩
def dkwJ8_init_0 : List UInt8 := [42, 43, 183, 0, 7, 177]
abbrev dktJ8_init_0 : List UInt8 := dkwJ8_init_0 ++ []
theorem dksJ8_init_0 : cJ8_init.data.toList.drop 0 = dktJ8_init_0 := by decide +kernel
theorem dJ8_init_0 : decode cJ8_init 0 = .ok (.aload_n 0, 1) := dk_42 (dk_at dksJ8_init_0 0 rfl rfl)
theorem dJ8_init_1 : decode cJ8_init 1 = .ok (.aload_n 1, 1) := dk_43 (dk_at dksJ8_init_0 1 rfl rfl)
theorem dJ8_init_2 : decode cJ8_init 2 = .ok (.invokespecial 7, 3) := dk_183 0 7 (dk_at dksJ8_init_0 2 rfl rfl)
theorem dJ8_init_5 : decode cJ8_init 5 = .ok (.return_, 1) := dk_177 (dk_at dksJ8_init_0 5 rfl rfl)
abbrev cJ8_init_2 : ByteArray := prog_31_method_1_code
def yJ8_init_2 : MethodName := ⟨RJ8, "<init>", "()V"⟩
theorem dJ8_init_2_0 : decode cJ8_init_2 0 = .ok (.aload_n 0, 1) := by decide +kernel
theorem dJ8_init_2_1 : decode cJ8_init_2 1 = .ok (.invokespecial 1, 3) := by decide +kernel
theorem dJ8_init_2_4 : decode cJ8_init_2 4 = .ok (.return_, 1) := by decide +kernel
theorem q96 : (Jvm.Cond.initialized "java/lang/IndexOutOfBoundsException") ∈ lw_all := lw_g (lw_at lw_m1 13 rfl) rfl
theorem q325 : (Jvm.Cond.selects "java/lang/IndexOutOfBoundsException" ({ cls := "java/lang/Throwable", name := "fillInStackTrace", desc := "()Ljava/lang/Throwable;" } : Jvm.MethodName) ({ cls := "java/lang/Throwable", name := "fillInStackTrace", desc := "()Ljava/lang/Throwable;" } : Jvm.MethodName)) ∈ lw_all := lw_g (lw_at lw_m2 2 rfl) rfl
theorem q364 : (Jvm.Cond.instanceMethod ({ cls := "java/lang/IndexOutOfBoundsException", name := "<init>", desc := "(Ljava/lang/String;)V" } : Jvm.MethodName)) ∈ lw_all := lw_g (lw_at lw_m2 41 rfl) rfl
theorem q365 : (Jvm.Cond.code ({ cls := "java/lang/IndexOutOfBoundsException", name := "<init>", desc := "(Ljava/lang/String;)V" } : Jvm.MethodName) prog_31_method_2_code (2 : Nat) (Option.none : Option Jvm.ClassFile.FieldType)) ∈ lw_all := lw_g (lw_at lw_m2 42 rfl) rfl
theorem q366 : (Jvm.Cond.methodLink "java/lang/IndexOutOfBoundsException" (7 : Nat) ({ cls := "java/lang/RuntimeException", name := "<init>", desc := "(Ljava/lang/String;)V" } : Jvm.MethodName)) ∈ lw_all := lw_g (lw_at lw_m2 43 rfl) rfl
theorem q383 : (Jvm.Cond.declares ({ cls := "java/lang/IndexOutOfBoundsException", name := "<init>", desc := "()V" } : Jvm.MethodName)) ∈ lw_tbl := lw_at lw_m2 60 rfl
theorem q384 : (Jvm.Cond.declares ({ cls := "java/lang/IndexOutOfBoundsException", name := "<init>", desc := "(Ljava/lang/String;)V" } : Jvm.MethodName)) ∈ lw_tbl := lw_at lw_m2 61 rfl
theorem q399 : (Jvm.Cond.instantiable "java/lang/IndexOutOfBoundsException" (6 : Nat)) ∈ lw_all := lw_g (lw_at lw_m2 76 rfl) rfl
theorem q400 : (Jvm.Cond.castable "java/lang/IndexOutOfBoundsException" "java/lang/IndexOutOfBoundsException") ∈ lw_tbl := lw_at lw_m2 77 rfl
theorem q401 : (Jvm.Cond.selects "java/lang/IndexOutOfBoundsException" ({ cls := "java/lang/Throwable", name := "fillInStackTrace", desc := "(I)Ljava/lang/Throwable;" } : Jvm.MethodName) ({ cls := "java/lang/Throwable", name := "fillInStackTrace", desc := "(I)Ljava/lang/Throwable;" } : Jvm.MethodName)) ∈ lw_all := lw_g (lw_at lw_m2 78 rfl) rfl
theorem q402 : (Jvm.Cond.lays "java/lang/IndexOutOfBoundsException" "java/lang/Throwable" "cause" "Ljava/lang/Throwable;") ∈ lw_all := lw_g (lw_at lw_m2 79 rfl) rfl
theorem q403 : (Jvm.Cond.lays "java/lang/IndexOutOfBoundsException" "java/lang/Throwable" "stackTrace" "[Ljava/lang/StackTraceElement;") ∈ lw_all := lw_g (lw_at lw_m2 80 rfl) rfl
theorem q404 : (Jvm.Cond.lays "java/lang/IndexOutOfBoundsException" "java/lang/Throwable" "suppressedExceptions" "Ljava/util/List;") ∈ lw_all := lw_g (lw_at lw_m2 81 rfl) rfl
theorem q405 : (Jvm.Cond.lays "java/lang/IndexOutOfBoundsException" "java/lang/Throwable" "detailMessage" "Ljava/lang/String;") ∈ lw_all := lw_g (lw_at lw_m2 82 rfl) rfl
theorem q406 : (Jvm.Cond.lays "java/lang/IndexOutOfBoundsException" "java/lang/Throwable" "backtrace" "Ljava/lang/Object;") ∈ lw_all := lw_g (lw_at lw_m2 83 rfl) rfl
theorem q408 : (Jvm.Cond.instanceMethod ({ cls := "java/lang/IndexOutOfBoundsException", name := "<init>", desc := "()V" } : Jvm.MethodName)) ∈ lw_all := lw_g (lw_at lw_m2 85 rfl) rfl
theorem q409 : (Jvm.Cond.code ({ cls := "java/lang/IndexOutOfBoundsException", name := "<init>", desc := "()V" } : Jvm.MethodName) prog_31_method_1_code (1 : Nat) (Option.none : Option Jvm.ClassFile.FieldType)) ∈ lw_all := lw_g (lw_at lw_m2 86 rfl) rfl
theorem q410 : (Jvm.Cond.methodLink "java/lang/IndexOutOfBoundsException" (1 : Nat) ({ cls := "java/lang/RuntimeException", name := "<init>", desc := "()V" } : Jvm.MethodName)) ∈ lw_all := lw_g (lw_at lw_m2 87 rfl) rfl
theorem q411 : (Jvm.Cond.lays "java/lang/IndexOutOfBoundsException" "java/lang/Throwable" "depth" "I") ∈ lw_all := lw_g (lw_at lw_m2 88 rfl) rfl
theorem q412 : (Jvm.Cond.superclass "java/lang/IndexOutOfBoundsException" "java/lang/RuntimeException") ∈ lw_all := lw_g (lw_at lw_m2 89 rfl) rfl
theorem q1098 : (Jvm.Cond.selects "java/lang/IndexOutOfBoundsException" ({ cls := "java/lang/Object", name := "getClass", desc := "()Ljava/lang/Class;" } : Jvm.MethodName) ({ cls := "java/lang/Object", name := "getClass", desc := "()Ljava/lang/Class;" } : Jvm.MethodName)) ∈ lw_all := lw_g (lw_at lw_m5 55 rfl) rfl
theorem q2669 : (Jvm.Cond.castable "java/lang/IndexOutOfBoundsException" "java/lang/Object") ∈ lw_tbl := lw_at lw_m11 186 rfl
theorem in_J8 : ∀ w ∈ wsJ80, w ∈ lw_all := lw_in wsJ80 [402, 403, 404, 405, 406, 411] (by decide +kernel) (by decide +kernel)

/-! java/lang/ArrayIndexOutOfBoundsException -/
set_option maxRecDepth 100000
def RJ9 : String := "java/lang/ArrayIndexOutOfBoundsException"
def TJ9 : u_T := fun k => match k with
  | 0 => ("java/lang/Throwable", "backtrace", "Ljava/lang/Object;", false)
  | 1 => ("java/lang/Throwable", "detailMessage", "Ljava/lang/String;", false)
  | 2 => ("java/lang/Throwable", "cause", "Ljava/lang/Throwable;", false)
  | 3 => ("java/lang/Throwable", "stackTrace", "[Ljava/lang/StackTraceElement;", false)
  | 4 => ("java/lang/Throwable", "depth", "I", false)
  | _ => ("java/lang/Throwable", "suppressedExceptions", "Ljava/util/List;", false)
def tyJ9 : Nat → FieldType := fun k => match k with
  | 0 => .object "java/lang/Object"
  | 1 => .object "java/lang/String"
  | 2 => .object "java/lang/Throwable"
  | 3 => .array (.object "java/lang/StackTraceElement")
  | 4 => .int
  | _ => .object "java/util/List"
abbrev wsJ90 : List Cond := u_ws RJ9 TJ9 6
theorem nmJ9 : ∀ a, a < 6 → ∀ b, b < 6 → a ≠ b → (TJ9 a).2.1 ≠ (TJ9 b).2.1 := by decide +kernel
theorem tyJ9_ok : ∀ k, k < 6 → parseFieldDescriptor (TJ9 k).2.2.1 = some (tyJ9 k) := by decide +kernel
abbrev cJ9_init : ByteArray := prog_23_method_2_code
def yJ9_init : MethodName := ⟨RJ9, "<init>", "(Ljava/lang/String;)V"⟩
def dkwJ9_init_0 : List UInt8 := [42, 43, 183, 0, 7, 177]
abbrev dktJ9_init_0 : List UInt8 := dkwJ9_init_0 ++ []
theorem dksJ9_init_0 : cJ9_init.data.toList.drop 0 = dktJ9_init_0 := by decide +kernel
theorem dJ9_init_0 : decode cJ9_init 0 = .ok (.aload_n 0, 1) := dk_42 (dk_at dksJ9_init_0 0 rfl rfl)
theorem dJ9_init_1 : decode cJ9_init 1 = .ok (.aload_n 1, 1) := dk_43 (dk_at dksJ9_init_0 1 rfl rfl)
theorem dJ9_init_2 : decode cJ9_init 2 = .ok (.invokespecial 7, 3) := dk_183 0 7 (dk_at dksJ9_init_0 2 rfl rfl)
theorem dJ9_init_5 : decode cJ9_init 5 = .ok (.return_, 1) := dk_177 (dk_at dksJ9_init_0 5 rfl rfl)
theorem q97 : (Jvm.Cond.initialized "java/lang/ArrayIndexOutOfBoundsException") ∈ lw_all := lw_g (lw_at lw_m1 14 rfl) rfl
theorem q323 : (Jvm.Cond.selects "java/lang/ArrayIndexOutOfBoundsException" ({ cls := "java/lang/Throwable", name := "fillInStackTrace", desc := "()Ljava/lang/Throwable;" } : Jvm.MethodName) ({ cls := "java/lang/Throwable", name := "fillInStackTrace", desc := "()Ljava/lang/Throwable;" } : Jvm.MethodName)) ∈ lw_all := lw_g (lw_at lw_m2 0 rfl) rfl
theorem q360 : (Jvm.Cond.instantiable "java/lang/ArrayIndexOutOfBoundsException" (6 : Nat)) ∈ lw_all := lw_g (lw_at lw_m2 37 rfl) rfl
theorem q361 : (Jvm.Cond.instanceMethod ({ cls := "java/lang/ArrayIndexOutOfBoundsException", name := "<init>", desc := "(Ljava/lang/String;)V" } : Jvm.MethodName)) ∈ lw_all := lw_g (lw_at lw_m2 38 rfl) rfl
theorem q362 : (Jvm.Cond.code ({ cls := "java/lang/ArrayIndexOutOfBoundsException", name := "<init>", desc := "(Ljava/lang/String;)V" } : Jvm.MethodName) prog_23_method_2_code (2 : Nat) (Option.none : Option Jvm.ClassFile.FieldType)) ∈ lw_all := lw_g (lw_at lw_m2 39 rfl) rfl
theorem q363 : (Jvm.Cond.methodLink "java/lang/ArrayIndexOutOfBoundsException" (7 : Nat) ({ cls := "java/lang/IndexOutOfBoundsException", name := "<init>", desc := "(Ljava/lang/String;)V" } : Jvm.MethodName)) ∈ lw_all := lw_g (lw_at lw_m2 40 rfl) rfl
theorem q375 : (Jvm.Cond.lays "java/lang/ArrayIndexOutOfBoundsException" "java/lang/Throwable" "backtrace" "Ljava/lang/Object;") ∈ lw_all := lw_g (lw_at lw_m2 52 rfl) rfl
theorem q376 : (Jvm.Cond.lays "java/lang/ArrayIndexOutOfBoundsException" "java/lang/Throwable" "detailMessage" "Ljava/lang/String;") ∈ lw_all := lw_g (lw_at lw_m2 53 rfl) rfl
theorem q377 : (Jvm.Cond.lays "java/lang/ArrayIndexOutOfBoundsException" "java/lang/Throwable" "cause" "Ljava/lang/Throwable;") ∈ lw_all := lw_g (lw_at lw_m2 54 rfl) rfl
theorem q378 : (Jvm.Cond.lays "java/lang/ArrayIndexOutOfBoundsException" "java/lang/Throwable" "stackTrace" "[Ljava/lang/StackTraceElement;") ∈ lw_all := lw_g (lw_at lw_m2 55 rfl) rfl
theorem q379 : (Jvm.Cond.lays "java/lang/ArrayIndexOutOfBoundsException" "java/lang/Throwable" "depth" "I") ∈ lw_all := lw_g (lw_at lw_m2 56 rfl) rfl
theorem q380 : (Jvm.Cond.lays "java/lang/ArrayIndexOutOfBoundsException" "java/lang/Throwable" "suppressedExceptions" "Ljava/util/List;") ∈ lw_all := lw_g (lw_at lw_m2 57 rfl) rfl
theorem q381 : (Jvm.Cond.superclass "java/lang/ArrayIndexOutOfBoundsException" "java/lang/IndexOutOfBoundsException") ∈ lw_all := lw_g (lw_at lw_m2 58 rfl) rfl
theorem q382 : (Jvm.Cond.castable "java/lang/ArrayIndexOutOfBoundsException" "java/lang/ArrayIndexOutOfBoundsException") ∈ lw_tbl := lw_at lw_m2 59 rfl
theorem q385 : (Jvm.Cond.selects "java/lang/ArrayIndexOutOfBoundsException" ({ cls := "java/lang/Throwable", name := "fillInStackTrace", desc := "(I)Ljava/lang/Throwable;" } : Jvm.MethodName) ({ cls := "java/lang/Throwable", name := "fillInStackTrace", desc := "(I)Ljava/lang/Throwable;" } : Jvm.MethodName)) ∈ lw_all := lw_g (lw_at lw_m2 62 rfl) rfl
theorem q1095 : (Jvm.Cond.selects "java/lang/ArrayIndexOutOfBoundsException" ({ cls := "java/lang/Object", name := "getClass", desc := "()Ljava/lang/Class;" } : Jvm.MethodName) ({ cls := "java/lang/Object", name := "getClass", desc := "()Ljava/lang/Class;" } : Jvm.MethodName)) ∈ lw_all := lw_g (lw_at lw_m5 52 rfl) rfl
theorem q2652 : (Jvm.Cond.castable "java/lang/ArrayIndexOutOfBoundsException" "java/lang/IndexOutOfBoundsException") ∈ lw_tbl := lw_at lw_m11 169 rfl
theorem q2668 : (Jvm.Cond.castable "java/lang/ArrayIndexOutOfBoundsException" "java/lang/Object") ∈ lw_tbl := lw_at lw_m11 185 rfl
theorem in_J9 : ∀ w ∈ wsJ90, w ∈ lw_all := lw_in wsJ90 [375, 376, 377, 378, 379, 380] (by decide +kernel) (by decide +kernel)

/-! java/lang/String -/
set_option maxRecDepth 100000
def RJ10 : String := "java/lang/String"
def TJ10 : u_T := fun k => match k with
  | 0 => ("java/lang/String", "value", "[B", true)
  | 1 => ("java/lang/String", "coder", "B", true)
  | 2 => ("java/lang/String", "hash", "I", false)
  | _ => ("java/lang/String", "hashIsZero", "Z", false)
def tyJ10 : Nat → FieldType := fun k => match k with
  | 0 => .array .byte
  | 1 => .byte
  | 2 => .int
  | _ => .boolean
abbrev wsJ100 : List Cond := u_ws RJ10 TJ10 4
theorem nmJ10 : ∀ a, a < 4 → ∀ b, b < 4 → a ≠ b → (TJ10 a).2.1 ≠ (TJ10 b).2.1 := by decide +kernel
theorem tyJ10_ok : ∀ k, k < 4 → parseFieldDescriptor (TJ10 k).2.2.1 = some (tyJ10 k) := by decide +kernel
abbrev cJ10_checkBoundsOffCount : ByteArray := prog_39_method_157_code
def yJ10_checkBoundsOffCount : MethodName := ⟨RJ10, "checkBoundsOffCount", "(III)I"⟩
def dkwJ10_checkBoundsOffCount_0 : List UInt8 := [26, 27, 28, 178, 4, 29, 184, 4, 41, 172]
abbrev dktJ10_checkBoundsOffCount_0 : List UInt8 := dkwJ10_checkBoundsOffCount_0 ++ []
theorem dksJ10_checkBoundsOffCount_0 : cJ10_checkBoundsOffCount.data.toList.drop 0 = dktJ10_checkBoundsOffCount_0 := by decide +kernel
theorem dJ10_checkBoundsOffCount_0 : decode cJ10_checkBoundsOffCount 0 = .ok (.iload_n 0, 1) := dk_26 (dk_at dksJ10_checkBoundsOffCount_0 0 rfl rfl)
theorem dJ10_checkBoundsOffCount_1 : decode cJ10_checkBoundsOffCount 1 = .ok (.iload_n 1, 1) := dk_27 (dk_at dksJ10_checkBoundsOffCount_0 1 rfl rfl)
theorem dJ10_checkBoundsOffCount_2 : decode cJ10_checkBoundsOffCount 2 = .ok (.iload_n 2, 1) := dk_28 (dk_at dksJ10_checkBoundsOffCount_0 2 rfl rfl)
theorem dJ10_checkBoundsOffCount_3 : decode cJ10_checkBoundsOffCount 3 = .ok (.getstatic 1053, 3) := dk_178 4 29 (dk_at dksJ10_checkBoundsOffCount_0 3 rfl rfl)
theorem dJ10_checkBoundsOffCount_6 : decode cJ10_checkBoundsOffCount 6 = .ok (.invokestatic 1065, 3) := dk_184 4 41 (dk_at dksJ10_checkBoundsOffCount_0 6 rfl rfl)
theorem dJ10_checkBoundsOffCount_9 : decode cJ10_checkBoundsOffCount 9 = .ok (.ireturn, 1) := dk_172 (dk_at dksJ10_checkBoundsOffCount_0 9 rfl rfl)
abbrev cJ10_checkIndex : ByteArray := prog_39_method_155_code
def yJ10_checkIndex : MethodName := ⟨RJ10, "checkIndex", "(II)V"⟩
def dkwJ10_checkIndex_0 : List UInt8 := [26, 27, 178, 4, 29, 184, 4, 35, 87, 177]
abbrev dktJ10_checkIndex_0 : List UInt8 := dkwJ10_checkIndex_0 ++ []
theorem dksJ10_checkIndex_0 : cJ10_checkIndex.data.toList.drop 0 = dktJ10_checkIndex_0 := by decide +kernel
theorem dJ10_checkIndex_0 : decode cJ10_checkIndex 0 = .ok (.iload_n 0, 1) := dk_26 (dk_at dksJ10_checkIndex_0 0 rfl rfl)
theorem dJ10_checkIndex_1 : decode cJ10_checkIndex 1 = .ok (.iload_n 1, 1) := dk_27 (dk_at dksJ10_checkIndex_0 1 rfl rfl)
theorem dJ10_checkIndex_2 : decode cJ10_checkIndex 2 = .ok (.getstatic 1053, 3) := dk_178 4 29 (dk_at dksJ10_checkIndex_0 2 rfl rfl)
theorem dJ10_checkIndex_5 : decode cJ10_checkIndex 5 = .ok (.invokestatic 1059, 3) := dk_184 4 35 (dk_at dksJ10_checkIndex_0 5 rfl rfl)
theorem dJ10_checkIndex_8 : decode cJ10_checkIndex 8 = .ok (.pop, 1) := dk_87 (dk_at dksJ10_checkIndex_0 8 rfl rfl)
theorem dJ10_checkIndex_9 : decode cJ10_checkIndex 9 = .ok (.return_, 1) := dk_177 (dk_at dksJ10_checkIndex_0 9 rfl rfl)
abbrev cJ10_init : ByteArray := prog_39_method_53_code
def yJ10_init : MethodName := ⟨RJ10, "<init>", "(Ljava/lang/StringBuilder;)V"⟩
def dkwJ10_init_0 : List UInt8 := [42, 43, 1, 183, 1, 233, 177]
abbrev dktJ10_init_0 : List UInt8 := dkwJ10_init_0 ++ []
theorem dksJ10_init_0 : cJ10_init.data.toList.drop 0 = dktJ10_init_0 := by decide +kernel
theorem dJ10_init_0 : decode cJ10_init 0 = .ok (.aload_n 0, 1) := dk_42 (dk_at dksJ10_init_0 0 rfl rfl)
theorem dJ10_init_1 : decode cJ10_init 1 = .ok (.aload_n 1, 1) := dk_43 (dk_at dksJ10_init_0 1 rfl rfl)
theorem dJ10_init_2 : decode cJ10_init 2 = .ok (.aconst_null, 1) := dk_1 (dk_at dksJ10_init_0 2 rfl rfl)
theorem dJ10_init_3 : decode cJ10_init 3 = .ok (.invokespecial 489, 3) := dk_183 1 233 (dk_at dksJ10_init_0 3 rfl rfl)
theorem dJ10_init_6 : decode cJ10_init 6 = .ok (.return_, 1) := dk_177 (dk_at dksJ10_init_0 6 rfl rfl)
abbrev cJ10_init_2 : ByteArray := prog_39_method_150_code
def yJ10_init_2 : MethodName := ⟨RJ10, "<init>", "(Ljava/lang/AbstractStringBuilder;Ljava/lang/Void;)V"⟩
def dkwJ10_init_2_4 : List UInt8 := [181, 0, 9, 177]
abbrev dktJ10_init_2_4 : List UInt8 := dkwJ10_init_2_4 ++ []
def dkwJ10_init_2_3 : List UInt8 := [184, 0, 47, 181, 0, 15, 177, 42, 4, 181, 0, 15, 42, 45, 3, 21, 4, 4, 120, 184, 0, 54]
abbrev dktJ10_init_2_3 : List UInt8 := dkwJ10_init_2_3 ++ dktJ10_init_2_4
def dkwJ10_init_2_2 : List UInt8 := [180, 4, 24, 153, 0, 28, 42, 45, 3, 21, 4, 184, 4, 27, 181, 0, 9, 42, 42, 180, 0, 9, 21, 4]
abbrev dktJ10_init_2_2 : List UInt8 := dkwJ10_init_2_2 ++ dktJ10_init_2_3
def dkwJ10_init_2_1 : List UInt8 := [181, 0, 15, 42, 45, 3, 21, 4, 184, 0, 54, 181, 0, 9, 167, 0, 59, 178, 0, 38, 153, 0, 35, 43]
abbrev dktJ10_init_2_1 : List UInt8 := dkwJ10_init_2_1 ++ dktJ10_init_2_2
def dkwJ10_init_2_0 : List UInt8 := [42, 183, 0, 1, 43, 182, 2, 40, 78, 43, 182, 2, 37, 54, 4, 43, 182, 4, 23, 153, 0, 22, 42, 3]
abbrev dktJ10_init_2_0 : List UInt8 := dkwJ10_init_2_0 ++ dktJ10_init_2_1
theorem dksJ10_init_2_0 : cJ10_init_2.data.toList.drop 0 = dktJ10_init_2_0 := by decide +kernel
theorem dksJ10_init_2_1 : cJ10_init_2.data.toList.drop 24 = dktJ10_init_2_1 := dk_seg dksJ10_init_2_0 24 rfl rfl
theorem dksJ10_init_2_2 : cJ10_init_2.data.toList.drop 48 = dktJ10_init_2_2 := dk_seg dksJ10_init_2_1 24 rfl rfl
theorem dksJ10_init_2_3 : cJ10_init_2.data.toList.drop 72 = dktJ10_init_2_3 := dk_seg dksJ10_init_2_2 24 rfl rfl
theorem dksJ10_init_2_4 : cJ10_init_2.data.toList.drop 94 = dktJ10_init_2_4 := dk_seg dksJ10_init_2_3 22 rfl rfl
theorem dJ10_init_2_0 : decode cJ10_init_2 0 = .ok (.aload_n 0, 1) := dk_42 (dk_at dksJ10_init_2_0 0 rfl rfl)
theorem dJ10_init_2_1 : decode cJ10_init_2 1 = .ok (.invokespecial 1, 3) := dk_183 0 1 (dk_at dksJ10_init_2_0 1 rfl rfl)
theorem dJ10_init_2_4 : decode cJ10_init_2 4 = .ok (.aload_n 1, 1) := dk_43 (dk_at dksJ10_init_2_0 4 rfl rfl)
theorem dJ10_init_2_5 : decode cJ10_init_2 5 = .ok (.invokevirtual 552, 3) := dk_182 2 40 (dk_at dksJ10_init_2_0 5 rfl rfl)
theorem dJ10_init_2_8 : decode cJ10_init_2 8 = .ok (.astore_n 3, 1) := dk_78 (dk_at dksJ10_init_2_0 8 rfl rfl)
theorem dJ10_init_2_9 : decode cJ10_init_2 9 = .ok (.aload_n 1, 1) := dk_43 (dk_at dksJ10_init_2_0 9 rfl rfl)
theorem dJ10_init_2_10 : decode cJ10_init_2 10 = .ok (.invokevirtual 549, 3) := dk_182 2 37 (dk_at dksJ10_init_2_0 10 rfl rfl)
theorem dJ10_init_2_13 : decode cJ10_init_2 13 = .ok (.istore 4, 2) := dk_54 4 (dk_at dksJ10_init_2_0 13 rfl rfl)
theorem dJ10_init_2_15 : decode cJ10_init_2 15 = .ok (.aload_n 1, 1) := dk_43 (dk_at dksJ10_init_2_0 15 rfl rfl)
theorem dJ10_init_2_16 : decode cJ10_init_2 16 = .ok (.invokevirtual 1047, 3) := dk_182 4 23 (dk_at dksJ10_init_2_0 16 rfl rfl)
theorem dJ10_init_2_19 : decode cJ10_init_2 19 = .ok (.ifCond .eq 22, 3) := dk_153 0 22 (dk_at dksJ10_init_2_0 19 rfl rfl)
theorem dJ10_init_2_22 : decode cJ10_init_2 22 = .ok (.aload_n 0, 1) := dk_42 (dk_at dksJ10_init_2_0 22 rfl rfl)
theorem dJ10_init_2_23 : decode cJ10_init_2 23 = .ok (.iconst 0, 1) := dk_3 (dk_at dksJ10_init_2_0 23 rfl rfl)
theorem dJ10_init_2_24 : decode cJ10_init_2 24 = .ok (.putfield 15, 3) := dk_181 0 15 (dk_at dksJ10_init_2_1 0 rfl rfl)
theorem dJ10_init_2_27 : decode cJ10_init_2 27 = .ok (.aload_n 0, 1) := dk_42 (dk_at dksJ10_init_2_1 3 rfl rfl)
theorem dJ10_init_2_28 : decode cJ10_init_2 28 = .ok (.aload_n 3, 1) := dk_45 (dk_at dksJ10_init_2_1 4 rfl rfl)
theorem dJ10_init_2_29 : decode cJ10_init_2 29 = .ok (.iconst 0, 1) := dk_3 (dk_at dksJ10_init_2_1 5 rfl rfl)
theorem dJ10_init_2_30 : decode cJ10_init_2 30 = .ok (.iload 4, 2) := dk_21 4 (dk_at dksJ10_init_2_1 6 rfl rfl)
theorem dJ10_init_2_32 : decode cJ10_init_2 32 = .ok (.invokestatic 54, 3) := dk_184 0 54 (dk_at dksJ10_init_2_1 8 rfl rfl)
theorem dJ10_init_2_35 : decode cJ10_init_2 35 = .ok (.putfield 9, 3) := dk_181 0 9 (dk_at dksJ10_init_2_1 11 rfl rfl)
theorem dJ10_init_2_38 : decode cJ10_init_2 38 = .ok (.goto 59, 3) := dk_167 0 59 (dk_at dksJ10_init_2_1 14 rfl rfl)
theorem dJ10_init_2_41 : decode cJ10_init_2 41 = .ok (.getstatic 38, 3) := dk_178 0 38 (dk_at dksJ10_init_2_1 17 rfl rfl)
theorem dJ10_init_2_44 : decode cJ10_init_2 44 = .ok (.ifCond .eq 35, 3) := dk_153 0 35 (dk_at dksJ10_init_2_1 20 rfl rfl)
theorem dJ10_init_2_47 : decode cJ10_init_2 47 = .ok (.aload_n 1, 1) := dk_43 (dk_at dksJ10_init_2_1 23 rfl rfl)
theorem dJ10_init_2_48 : decode cJ10_init_2 48 = .ok (.getfield 1048, 3) := dk_180 4 24 (dk_at dksJ10_init_2_2 0 rfl rfl)
theorem dJ10_init_2_51 : decode cJ10_init_2 51 = .ok (.ifCond .eq 28, 3) := dk_153 0 28 (dk_at dksJ10_init_2_2 3 rfl rfl)
theorem dJ10_init_2_54 : decode cJ10_init_2 54 = .ok (.aload_n 0, 1) := dk_42 (dk_at dksJ10_init_2_2 6 rfl rfl)
theorem dJ10_init_2_55 : decode cJ10_init_2 55 = .ok (.aload_n 3, 1) := dk_45 (dk_at dksJ10_init_2_2 7 rfl rfl)
theorem dJ10_init_2_56 : decode cJ10_init_2 56 = .ok (.iconst 0, 1) := dk_3 (dk_at dksJ10_init_2_2 8 rfl rfl)
theorem dJ10_init_2_57 : decode cJ10_init_2 57 = .ok (.iload 4, 2) := dk_21 4 (dk_at dksJ10_init_2_2 9 rfl rfl)
theorem dJ10_init_2_59 : decode cJ10_init_2 59 = .ok (.invokestatic 1051, 3) := dk_184 4 27 (dk_at dksJ10_init_2_2 11 rfl rfl)
theorem dJ10_init_2_62 : decode cJ10_init_2 62 = .ok (.putfield 9, 3) := dk_181 0 9 (dk_at dksJ10_init_2_2 14 rfl rfl)
theorem dJ10_init_2_65 : decode cJ10_init_2 65 = .ok (.aload_n 0, 1) := dk_42 (dk_at dksJ10_init_2_2 17 rfl rfl)
theorem dJ10_init_2_66 : decode cJ10_init_2 66 = .ok (.aload_n 0, 1) := dk_42 (dk_at dksJ10_init_2_2 18 rfl rfl)
theorem dJ10_init_2_67 : decode cJ10_init_2 67 = .ok (.getfield 9, 3) := dk_180 0 9 (dk_at dksJ10_init_2_2 19 rfl rfl)
theorem dJ10_init_2_70 : decode cJ10_init_2 70 = .ok (.iload 4, 2) := dk_21 4 (dk_at dksJ10_init_2_2 22 rfl rfl)
theorem dJ10_init_2_72 : decode cJ10_init_2 72 = .ok (.invokestatic 47, 3) := dk_184 0 47 (dk_at dksJ10_init_2_3 0 rfl rfl)
theorem dJ10_init_2_75 : decode cJ10_init_2 75 = .ok (.putfield 15, 3) := dk_181 0 15 (dk_at dksJ10_init_2_3 3 rfl rfl)
theorem dJ10_init_2_78 : decode cJ10_init_2 78 = .ok (.return_, 1) := dk_177 (dk_at dksJ10_init_2_3 6 rfl rfl)
theorem dJ10_init_2_79 : decode cJ10_init_2 79 = .ok (.aload_n 0, 1) := dk_42 (dk_at dksJ10_init_2_3 7 rfl rfl)
theorem dJ10_init_2_80 : decode cJ10_init_2 80 = .ok (.iconst 1, 1) := dk_4 (dk_at dksJ10_init_2_3 8 rfl rfl)
theorem dJ10_init_2_81 : decode cJ10_init_2 81 = .ok (.putfield 15, 3) := dk_181 0 15 (dk_at dksJ10_init_2_3 9 rfl rfl)
theorem dJ10_init_2_84 : decode cJ10_init_2 84 = .ok (.aload_n 0, 1) := dk_42 (dk_at dksJ10_init_2_3 12 rfl rfl)
theorem dJ10_init_2_85 : decode cJ10_init_2 85 = .ok (.aload_n 3, 1) := dk_45 (dk_at dksJ10_init_2_3 13 rfl rfl)
theorem dJ10_init_2_86 : decode cJ10_init_2 86 = .ok (.iconst 0, 1) := dk_3 (dk_at dksJ10_init_2_3 14 rfl rfl)
theorem dJ10_init_2_87 : decode cJ10_init_2 87 = .ok (.iload 4, 2) := dk_21 4 (dk_at dksJ10_init_2_3 15 rfl rfl)
theorem dJ10_init_2_89 : decode cJ10_init_2 89 = .ok (.iconst 1, 1) := dk_4 (dk_at dksJ10_init_2_3 17 rfl rfl)
theorem dJ10_init_2_90 : decode cJ10_init_2 90 = .ok (.ishl, 1) := dk_120 (dk_at dksJ10_init_2_3 18 rfl rfl)
theorem dJ10_init_2_91 : decode cJ10_init_2 91 = .ok (.invokestatic 54, 3) := dk_184 0 54 (dk_at dksJ10_init_2_3 19 rfl rfl)
theorem dJ10_init_2_94 : decode cJ10_init_2 94 = .ok (.putfield 9, 3) := dk_181 0 9 (dk_at dksJ10_init_2_4 0 rfl rfl)
theorem dJ10_init_2_97 : decode cJ10_init_2 97 = .ok (.return_, 1) := dk_177 (dk_at dksJ10_init_2_4 3 rfl rfl)
abbrev cJ10_checkBoundsBeginEnd : ByteArray := prog_39_method_158_code
def yJ10_checkBoundsBeginEnd : MethodName := ⟨RJ10, "checkBoundsBeginEnd", "(III)V"⟩
def dkwJ10_checkBoundsBeginEnd_0 : List UInt8 := [26, 27, 28, 178, 4, 29, 184, 4, 38, 87, 177]
abbrev dktJ10_checkBoundsBeginEnd_0 : List UInt8 := dkwJ10_checkBoundsBeginEnd_0 ++ []
theorem dksJ10_checkBoundsBeginEnd_0 : cJ10_checkBoundsBeginEnd.data.toList.drop 0 = dktJ10_checkBoundsBeginEnd_0 := by decide +kernel
theorem dJ10_checkBoundsBeginEnd_0 : decode cJ10_checkBoundsBeginEnd 0 = .ok (.iload_n 0, 1) := dk_26 (dk_at dksJ10_checkBoundsBeginEnd_0 0 rfl rfl)
theorem dJ10_checkBoundsBeginEnd_1 : decode cJ10_checkBoundsBeginEnd 1 = .ok (.iload_n 1, 1) := dk_27 (dk_at dksJ10_checkBoundsBeginEnd_0 1 rfl rfl)
theorem dJ10_checkBoundsBeginEnd_2 : decode cJ10_checkBoundsBeginEnd 2 = .ok (.iload_n 2, 1) := dk_28 (dk_at dksJ10_checkBoundsBeginEnd_0 2 rfl rfl)
theorem dJ10_checkBoundsBeginEnd_3 : decode cJ10_checkBoundsBeginEnd 3 = .ok (.getstatic 1053, 3) := dk_178 4 29 (dk_at dksJ10_checkBoundsBeginEnd_0 3 rfl rfl)
theorem dJ10_checkBoundsBeginEnd_6 : decode cJ10_checkBoundsBeginEnd 6 = .ok (.invokestatic 1062, 3) := dk_184 4 38 (dk_at dksJ10_checkBoundsBeginEnd_0 6 rfl rfl)
theorem dJ10_checkBoundsBeginEnd_9 : decode cJ10_checkBoundsBeginEnd 9 = .ok (.pop, 1) := dk_87 (dk_at dksJ10_checkBoundsBeginEnd_0 9 rfl rfl)
theorem dJ10_checkBoundsBeginEnd_10 : decode cJ10_checkBoundsBeginEnd 10 = .ok (.return_, 1) := dk_177 (dk_at dksJ10_checkBoundsBeginEnd_0 10 rfl rfl)
abbrev cJ10_length : ByteArray := prog_39_method_54_code
def yJ10_length : MethodName := ⟨RJ10, "length", "()I"⟩
def dkwJ10_length_0 : List UInt8 := [42, 180, 0, 9, 190, 42, 182, 1, 79, 122, 172]
abbrev dktJ10_length_0 : List UInt8 := dkwJ10_length_0 ++ []
theorem dksJ10_length_0 : cJ10_length.data.toList.drop 0 = dktJ10_length_0 := by decide +kernel
theorem dJ10_length_0 : decode cJ10_length 0 = .ok (.aload_n 0, 1) := dk_42 (dk_at dksJ10_length_0 0 rfl rfl)
theorem dJ10_length_1 : decode cJ10_length 1 = .ok (.getfield 9, 3) := dk_180 0 9 (dk_at dksJ10_length_0 1 rfl rfl)
theorem dJ10_length_4 : decode cJ10_length 4 = .ok (.arraylength, 1) := dk_190 (dk_at dksJ10_length_0 4 rfl rfl)
theorem dJ10_length_5 : decode cJ10_length 5 = .ok (.aload_n 0, 1) := dk_42 (dk_at dksJ10_length_0 5 rfl rfl)
theorem dJ10_length_6 : decode cJ10_length 6 = .ok (.invokevirtual 335, 3) := dk_182 1 79 (dk_at dksJ10_length_0 6 rfl rfl)
theorem dJ10_length_9 : decode cJ10_length 9 = .ok (.ishr, 1) := dk_122 (dk_at dksJ10_length_0 9 rfl rfl)
theorem dJ10_length_10 : decode cJ10_length 10 = .ok (.ireturn, 1) := dk_172 (dk_at dksJ10_length_0 10 rfl rfl)
abbrev cJ10_coder : ByteArray := prog_39_method_152_code
def yJ10_coder : MethodName := ⟨RJ10, "coder", "()B"⟩
def dkwJ10_coder_0 : List UInt8 := [178, 0, 38, 153, 0, 10, 42, 180, 0, 15, 167, 0, 4, 4, 172]
abbrev dktJ10_coder_0 : List UInt8 := dkwJ10_coder_0 ++ []
theorem dksJ10_coder_0 : cJ10_coder.data.toList.drop 0 = dktJ10_coder_0 := by decide +kernel
theorem dJ10_coder_0 : decode cJ10_coder 0 = .ok (.getstatic 38, 3) := dk_178 0 38 (dk_at dksJ10_coder_0 0 rfl rfl)
theorem dJ10_coder_3 : decode cJ10_coder 3 = .ok (.ifCond .eq 10, 3) := dk_153 0 10 (dk_at dksJ10_coder_0 3 rfl rfl)
theorem dJ10_coder_6 : decode cJ10_coder 6 = .ok (.aload_n 0, 1) := dk_42 (dk_at dksJ10_coder_0 6 rfl rfl)
theorem dJ10_coder_7 : decode cJ10_coder 7 = .ok (.getfield 15, 3) := dk_180 0 15 (dk_at dksJ10_coder_0 7 rfl rfl)
theorem dJ10_coder_10 : decode cJ10_coder 10 = .ok (.goto 4, 3) := dk_167 0 4 (dk_at dksJ10_coder_0 10 rfl rfl)
theorem dJ10_coder_13 : decode cJ10_coder 13 = .ok (.iconst 1, 1) := dk_4 (dk_at dksJ10_coder_0 13 rfl rfl)
theorem dJ10_coder_14 : decode cJ10_coder 14 = .ok (.ireturn, 1) := dk_172 (dk_at dksJ10_coder_0 14 rfl rfl)
abbrev cJ10_getBytes : ByteArray := prog_39_method_147_code
def yJ10_getBytes : MethodName := ⟨RJ10, "getBytes", "([BIB)V"⟩
def dkwJ10_getBytes_1 : List UInt8 := [184, 0, 212, 167, 0, 18, 42, 180, 0, 9, 3, 43, 28, 42, 180, 0, 9, 190, 184, 0, 106, 177]
abbrev dktJ10_getBytes_1 : List UInt8 := dkwJ10_getBytes_1 ++ []
def dkwJ10_getBytes_0 : List UInt8 := [42, 182, 1, 79, 29, 160, 0, 23, 42, 180, 0, 9, 3, 43, 28, 29, 120, 42, 180, 0, 9, 190]
abbrev dktJ10_getBytes_0 : List UInt8 := dkwJ10_getBytes_0 ++ dktJ10_getBytes_1
theorem dksJ10_getBytes_0 : cJ10_getBytes.data.toList.drop 0 = dktJ10_getBytes_0 := by decide +kernel
theorem dksJ10_getBytes_1 : cJ10_getBytes.data.toList.drop 22 = dktJ10_getBytes_1 := dk_seg dksJ10_getBytes_0 22 rfl rfl
theorem dJ10_getBytes_0 : decode cJ10_getBytes 0 = .ok (.aload_n 0, 1) := dk_42 (dk_at dksJ10_getBytes_0 0 rfl rfl)
theorem dJ10_getBytes_1 : decode cJ10_getBytes 1 = .ok (.invokevirtual 335, 3) := dk_182 1 79 (dk_at dksJ10_getBytes_0 1 rfl rfl)
theorem dJ10_getBytes_4 : decode cJ10_getBytes 4 = .ok (.iload_n 3, 1) := dk_29 (dk_at dksJ10_getBytes_0 4 rfl rfl)
theorem dJ10_getBytes_5 : decode cJ10_getBytes 5 = .ok (.if_icmp .ne 23, 3) := dk_160 0 23 (dk_at dksJ10_getBytes_0 5 rfl rfl)
theorem dJ10_getBytes_8 : decode cJ10_getBytes 8 = .ok (.aload_n 0, 1) := dk_42 (dk_at dksJ10_getBytes_0 8 rfl rfl)
theorem dJ10_getBytes_9 : decode cJ10_getBytes 9 = .ok (.getfield 9, 3) := dk_180 0 9 (dk_at dksJ10_getBytes_0 9 rfl rfl)
theorem dJ10_getBytes_12 : decode cJ10_getBytes 12 = .ok (.iconst 0, 1) := dk_3 (dk_at dksJ10_getBytes_0 12 rfl rfl)
theorem dJ10_getBytes_13 : decode cJ10_getBytes 13 = .ok (.aload_n 1, 1) := dk_43 (dk_at dksJ10_getBytes_0 13 rfl rfl)
theorem dJ10_getBytes_14 : decode cJ10_getBytes 14 = .ok (.iload_n 2, 1) := dk_28 (dk_at dksJ10_getBytes_0 14 rfl rfl)
theorem dJ10_getBytes_15 : decode cJ10_getBytes 15 = .ok (.iload_n 3, 1) := dk_29 (dk_at dksJ10_getBytes_0 15 rfl rfl)
theorem dJ10_getBytes_16 : decode cJ10_getBytes 16 = .ok (.ishl, 1) := dk_120 (dk_at dksJ10_getBytes_0 16 rfl rfl)
theorem dJ10_getBytes_17 : decode cJ10_getBytes 17 = .ok (.aload_n 0, 1) := dk_42 (dk_at dksJ10_getBytes_0 17 rfl rfl)
theorem dJ10_getBytes_18 : decode cJ10_getBytes 18 = .ok (.getfield 9, 3) := dk_180 0 9 (dk_at dksJ10_getBytes_0 18 rfl rfl)
theorem dJ10_getBytes_21 : decode cJ10_getBytes 21 = .ok (.arraylength, 1) := dk_190 (dk_at dksJ10_getBytes_0 21 rfl rfl)
theorem dJ10_getBytes_22 : decode cJ10_getBytes 22 = .ok (.invokestatic 212, 3) := dk_184 0 212 (dk_at dksJ10_getBytes_1 0 rfl rfl)
theorem dJ10_getBytes_25 : decode cJ10_getBytes 25 = .ok (.goto 18, 3) := dk_167 0 18 (dk_at dksJ10_getBytes_1 3 rfl rfl)
theorem dJ10_getBytes_28 : decode cJ10_getBytes 28 = .ok (.aload_n 0, 1) := dk_42 (dk_at dksJ10_getBytes_1 6 rfl rfl)
theorem dJ10_getBytes_29 : decode cJ10_getBytes 29 = .ok (.getfield 9, 3) := dk_180 0 9 (dk_at dksJ10_getBytes_1 7 rfl rfl)
theorem dJ10_getBytes_32 : decode cJ10_getBytes 32 = .ok (.iconst 0, 1) := dk_3 (dk_at dksJ10_getBytes_1 10 rfl rfl)
theorem dJ10_getBytes_33 : decode cJ10_getBytes 33 = .ok (.aload_n 1, 1) := dk_43 (dk_at dksJ10_getBytes_1 11 rfl rfl)
theorem dJ10_getBytes_34 : decode cJ10_getBytes 34 = .ok (.iload_n 2, 1) := dk_28 (dk_at dksJ10_getBytes_1 12 rfl rfl)
theorem dJ10_getBytes_35 : decode cJ10_getBytes 35 = .ok (.aload_n 0, 1) := dk_42 (dk_at dksJ10_getBytes_1 13 rfl rfl)
theorem dJ10_getBytes_36 : decode cJ10_getBytes 36 = .ok (.getfield 9, 3) := dk_180 0 9 (dk_at dksJ10_getBytes_1 14 rfl rfl)
theorem dJ10_getBytes_39 : decode cJ10_getBytes 39 = .ok (.arraylength, 1) := dk_190 (dk_at dksJ10_getBytes_1 17 rfl rfl)
theorem dJ10_getBytes_40 : decode cJ10_getBytes 40 = .ok (.invokestatic 106, 3) := dk_184 0 106 (dk_at dksJ10_getBytes_1 18 rfl rfl)
theorem dJ10_getBytes_43 : decode cJ10_getBytes 43 = .ok (.return_, 1) := dk_177 (dk_at dksJ10_getBytes_1 21 rfl rfl)
abbrev cJ10_equals : ByteArray := prog_39_method_66_code
def yJ10_equals : MethodName := ⟨RJ10, "equals", "(Ljava/lang/Object;)Z"⟩
def dkwJ10_equals_2 : List UInt8 := [184, 2, 29, 153, 0, 7, 4, 167, 0, 4, 3, 172]
abbrev dktJ10_equals_2 : List UInt8 := dkwJ10_equals_2 ++ []
def dkwJ10_equals_1 : List UInt8 := [153, 0, 14, 42, 180, 0, 15, 44, 180, 0, 15, 160, 0, 21, 42, 180, 0, 9, 44, 180, 0, 9]
abbrev dktJ10_equals_1 : List UInt8 := dkwJ10_equals_1 ++ dktJ10_equals_2
def dkwJ10_equals_0 : List UInt8 := [42, 43, 166, 0, 5, 4, 172, 43, 193, 0, 10, 153, 0, 43, 43, 192, 0, 10, 77, 178, 0, 38]
abbrev dktJ10_equals_0 : List UInt8 := dkwJ10_equals_0 ++ dktJ10_equals_1
theorem dksJ10_equals_0 : cJ10_equals.data.toList.drop 0 = dktJ10_equals_0 := by decide +kernel
theorem dksJ10_equals_1 : cJ10_equals.data.toList.drop 22 = dktJ10_equals_1 := dk_seg dksJ10_equals_0 22 rfl rfl
theorem dksJ10_equals_2 : cJ10_equals.data.toList.drop 44 = dktJ10_equals_2 := dk_seg dksJ10_equals_1 22 rfl rfl
theorem dJ10_equals_0 : decode cJ10_equals 0 = .ok (.aload_n 0, 1) := dk_42 (dk_at dksJ10_equals_0 0 rfl rfl)
theorem dJ10_equals_1 : decode cJ10_equals 1 = .ok (.aload_n 1, 1) := dk_43 (dk_at dksJ10_equals_0 1 rfl rfl)
theorem dJ10_equals_2 : decode cJ10_equals 2 = .ok (.if_acmp .ne 5, 3) := dk_166 0 5 (dk_at dksJ10_equals_0 2 rfl rfl)
theorem dJ10_equals_5 : decode cJ10_equals 5 = .ok (.iconst 1, 1) := dk_4 (dk_at dksJ10_equals_0 5 rfl rfl)
theorem dJ10_equals_6 : decode cJ10_equals 6 = .ok (.ireturn, 1) := dk_172 (dk_at dksJ10_equals_0 6 rfl rfl)
theorem dJ10_equals_7 : decode cJ10_equals 7 = .ok (.aload_n 1, 1) := dk_43 (dk_at dksJ10_equals_0 7 rfl rfl)
theorem dJ10_equals_8 : decode cJ10_equals 8 = .ok (.instanceof 10, 3) := dk_193 0 10 (dk_at dksJ10_equals_0 8 rfl rfl)
theorem dJ10_equals_11 : decode cJ10_equals 11 = .ok (.ifCond .eq 43, 3) := dk_153 0 43 (dk_at dksJ10_equals_0 11 rfl rfl)
theorem dJ10_equals_14 : decode cJ10_equals 14 = .ok (.aload_n 1, 1) := dk_43 (dk_at dksJ10_equals_0 14 rfl rfl)
theorem dJ10_equals_15 : decode cJ10_equals 15 = .ok (.checkcast 10, 3) := dk_192 0 10 (dk_at dksJ10_equals_0 15 rfl rfl)
theorem dJ10_equals_18 : decode cJ10_equals 18 = .ok (.astore_n 2, 1) := dk_77 (dk_at dksJ10_equals_0 18 rfl rfl)
theorem dJ10_equals_19 : decode cJ10_equals 19 = .ok (.getstatic 38, 3) := dk_178 0 38 (dk_at dksJ10_equals_0 19 rfl rfl)
theorem dJ10_equals_22 : decode cJ10_equals 22 = .ok (.ifCond .eq 14, 3) := dk_153 0 14 (dk_at dksJ10_equals_1 0 rfl rfl)
theorem dJ10_equals_25 : decode cJ10_equals 25 = .ok (.aload_n 0, 1) := dk_42 (dk_at dksJ10_equals_1 3 rfl rfl)
theorem dJ10_equals_26 : decode cJ10_equals 26 = .ok (.getfield 15, 3) := dk_180 0 15 (dk_at dksJ10_equals_1 4 rfl rfl)
theorem dJ10_equals_29 : decode cJ10_equals 29 = .ok (.aload_n 2, 1) := dk_44 (dk_at dksJ10_equals_1 7 rfl rfl)
theorem dJ10_equals_30 : decode cJ10_equals 30 = .ok (.getfield 15, 3) := dk_180 0 15 (dk_at dksJ10_equals_1 8 rfl rfl)
theorem dJ10_equals_33 : decode cJ10_equals 33 = .ok (.if_icmp .ne 21, 3) := dk_160 0 21 (dk_at dksJ10_equals_1 11 rfl rfl)
theorem dJ10_equals_36 : decode cJ10_equals 36 = .ok (.aload_n 0, 1) := dk_42 (dk_at dksJ10_equals_1 14 rfl rfl)
theorem dJ10_equals_37 : decode cJ10_equals 37 = .ok (.getfield 9, 3) := dk_180 0 9 (dk_at dksJ10_equals_1 15 rfl rfl)
theorem dJ10_equals_40 : decode cJ10_equals 40 = .ok (.aload_n 2, 1) := dk_44 (dk_at dksJ10_equals_1 18 rfl rfl)
theorem dJ10_equals_41 : decode cJ10_equals 41 = .ok (.getfield 9, 3) := dk_180 0 9 (dk_at dksJ10_equals_1 19 rfl rfl)
theorem dJ10_equals_44 : decode cJ10_equals 44 = .ok (.invokestatic 541, 3) := dk_184 2 29 (dk_at dksJ10_equals_2 0 rfl rfl)
theorem dJ10_equals_47 : decode cJ10_equals 47 = .ok (.ifCond .eq 7, 3) := dk_153 0 7 (dk_at dksJ10_equals_2 3 rfl rfl)
theorem dJ10_equals_50 : decode cJ10_equals 50 = .ok (.iconst 1, 1) := dk_4 (dk_at dksJ10_equals_2 6 rfl rfl)
theorem dJ10_equals_51 : decode cJ10_equals 51 = .ok (.goto 4, 3) := dk_167 0 4 (dk_at dksJ10_equals_2 7 rfl rfl)
theorem dJ10_equals_54 : decode cJ10_equals 54 = .ok (.iconst 0, 1) := dk_3 (dk_at dksJ10_equals_2 10 rfl rfl)
theorem dJ10_equals_55 : decode cJ10_equals 55 = .ok (.ireturn, 1) := dk_172 (dk_at dksJ10_equals_2 11 rfl rfl)
abbrev cJ10_isEmpty : ByteArray := prog_39_method_55_code
def yJ10_isEmpty : MethodName := ⟨RJ10, "isEmpty", "()Z"⟩
def dkwJ10_isEmpty_0 : List UInt8 := [42, 180, 0, 9, 190, 154, 0, 7, 4, 167, 0, 4, 3, 172]
abbrev dktJ10_isEmpty_0 : List UInt8 := dkwJ10_isEmpty_0 ++ []
theorem dksJ10_isEmpty_0 : cJ10_isEmpty.data.toList.drop 0 = dktJ10_isEmpty_0 := by decide +kernel
theorem dJ10_isEmpty_0 : decode cJ10_isEmpty 0 = .ok (.aload_n 0, 1) := dk_42 (dk_at dksJ10_isEmpty_0 0 rfl rfl)
theorem dJ10_isEmpty_1 : decode cJ10_isEmpty 1 = .ok (.getfield 9, 3) := dk_180 0 9 (dk_at dksJ10_isEmpty_0 1 rfl rfl)
theorem dJ10_isEmpty_4 : decode cJ10_isEmpty 4 = .ok (.arraylength, 1) := dk_190 (dk_at dksJ10_isEmpty_0 4 rfl rfl)
theorem dJ10_isEmpty_5 : decode cJ10_isEmpty 5 = .ok (.ifCond .ne 7, 3) := dk_154 0 7 (dk_at dksJ10_isEmpty_0 5 rfl rfl)
theorem dJ10_isEmpty_8 : decode cJ10_isEmpty 8 = .ok (.iconst 1, 1) := dk_4 (dk_at dksJ10_isEmpty_0 8 rfl rfl)
theorem dJ10_isEmpty_9 : decode cJ10_isEmpty 9 = .ok (.goto 4, 3) := dk_167 0 4 (dk_at dksJ10_isEmpty_0 9 rfl rfl)
theorem dJ10_isEmpty_12 : decode cJ10_isEmpty 12 = .ok (.iconst 0, 1) := dk_3 (dk_at dksJ10_isEmpty_0 12 rfl rfl)
theorem dJ10_isEmpty_13 : decode cJ10_isEmpty 13 = .ok (.ireturn, 1) := dk_172 (dk_at dksJ10_isEmpty_0 13 rfl rfl)
abbrev cJ10_compareTo : ByteArray := prog_39_method_162_code
def yJ10_compareTo : MethodName := ⟨RJ10, "compareTo", "(Ljava/lang/Object;)I"⟩
def dkwJ10_compareTo_0 : List UInt8 := [42, 43, 192, 0, 10, 182, 4, 60, 172]
abbrev dktJ10_compareTo_0 : List UInt8 := dkwJ10_compareTo_0 ++ []
theorem dksJ10_compareTo_0 : cJ10_compareTo.data.toList.drop 0 = dktJ10_compareTo_0 := by decide +kernel
theorem dJ10_compareTo_0 : decode cJ10_compareTo 0 = .ok (.aload_n 0, 1) := dk_42 (dk_at dksJ10_compareTo_0 0 rfl rfl)
theorem dJ10_compareTo_1 : decode cJ10_compareTo 1 = .ok (.aload_n 1, 1) := dk_43 (dk_at dksJ10_compareTo_0 1 rfl rfl)
theorem dJ10_compareTo_2 : decode cJ10_compareTo 2 = .ok (.checkcast 10, 3) := dk_192 0 10 (dk_at dksJ10_compareTo_0 2 rfl rfl)
theorem dJ10_compareTo_5 : decode cJ10_compareTo 5 = .ok (.invokevirtual 1084, 3) := dk_182 4 60 (dk_at dksJ10_compareTo_0 5 rfl rfl)
theorem dJ10_compareTo_8 : decode cJ10_compareTo 8 = .ok (.ireturn, 1) := dk_172 (dk_at dksJ10_compareTo_0 8 rfl rfl)
abbrev cJ10_compareTo_2 : ByteArray := prog_39_method_71_code
def yJ10_compareTo_2 : MethodName := ⟨RJ10, "compareTo", "(Ljava/lang/String;)I"⟩
def dkwJ10_compareTo_2_2 : List UInt8 := [154, 0, 11, 44, 45, 184, 2, 79, 167, 0, 8, 44, 45, 184, 2, 82, 172]
abbrev dktJ10_compareTo_2_2 : List UInt8 := dkwJ10_compareTo_2_2 ++ []
def dkwJ10_compareTo_2_1 : List UInt8 := [160, 0, 22, 21, 4, 154, 0, 11, 44, 45, 184, 2, 74, 167, 0, 8, 44, 45, 184, 2, 78, 172, 21, 4]
abbrev dktJ10_compareTo_2_1 : List UInt8 := dkwJ10_compareTo_2_1 ++ dktJ10_compareTo_2_2
def dkwJ10_compareTo_2_0 : List UInt8 := [42, 180, 0, 9, 77, 43, 180, 0, 9, 78, 42, 182, 1, 79, 54, 4, 21, 4, 43, 182, 1, 79]
abbrev dktJ10_compareTo_2_0 : List UInt8 := dkwJ10_compareTo_2_0 ++ dktJ10_compareTo_2_1
theorem dksJ10_compareTo_2_0 : cJ10_compareTo_2.data.toList.drop 0 = dktJ10_compareTo_2_0 := by decide +kernel
theorem dksJ10_compareTo_2_1 : cJ10_compareTo_2.data.toList.drop 22 = dktJ10_compareTo_2_1 := dk_seg dksJ10_compareTo_2_0 22 rfl rfl
theorem dksJ10_compareTo_2_2 : cJ10_compareTo_2.data.toList.drop 46 = dktJ10_compareTo_2_2 := dk_seg dksJ10_compareTo_2_1 24 rfl rfl
theorem dJ10_compareTo_2_0 : decode cJ10_compareTo_2 0 = .ok (.aload_n 0, 1) := dk_42 (dk_at dksJ10_compareTo_2_0 0 rfl rfl)
theorem dJ10_compareTo_2_1 : decode cJ10_compareTo_2 1 = .ok (.getfield 9, 3) := dk_180 0 9 (dk_at dksJ10_compareTo_2_0 1 rfl rfl)
theorem dJ10_compareTo_2_4 : decode cJ10_compareTo_2 4 = .ok (.astore_n 2, 1) := dk_77 (dk_at dksJ10_compareTo_2_0 4 rfl rfl)
theorem dJ10_compareTo_2_5 : decode cJ10_compareTo_2 5 = .ok (.aload_n 1, 1) := dk_43 (dk_at dksJ10_compareTo_2_0 5 rfl rfl)
theorem dJ10_compareTo_2_6 : decode cJ10_compareTo_2 6 = .ok (.getfield 9, 3) := dk_180 0 9 (dk_at dksJ10_compareTo_2_0 6 rfl rfl)
theorem dJ10_compareTo_2_9 : decode cJ10_compareTo_2 9 = .ok (.astore_n 3, 1) := dk_78 (dk_at dksJ10_compareTo_2_0 9 rfl rfl)
theorem dJ10_compareTo_2_10 : decode cJ10_compareTo_2 10 = .ok (.aload_n 0, 1) := dk_42 (dk_at dksJ10_compareTo_2_0 10 rfl rfl)
theorem dJ10_compareTo_2_11 : decode cJ10_compareTo_2 11 = .ok (.invokevirtual 335, 3) := dk_182 1 79 (dk_at dksJ10_compareTo_2_0 11 rfl rfl)
theorem dJ10_compareTo_2_14 : decode cJ10_compareTo_2 14 = .ok (.istore 4, 2) := dk_54 4 (dk_at dksJ10_compareTo_2_0 14 rfl rfl)
theorem dJ10_compareTo_2_16 : decode cJ10_compareTo_2 16 = .ok (.iload 4, 2) := dk_21 4 (dk_at dksJ10_compareTo_2_0 16 rfl rfl)
theorem dJ10_compareTo_2_18 : decode cJ10_compareTo_2 18 = .ok (.aload_n 1, 1) := dk_43 (dk_at dksJ10_compareTo_2_0 18 rfl rfl)
theorem dJ10_compareTo_2_19 : decode cJ10_compareTo_2 19 = .ok (.invokevirtual 335, 3) := dk_182 1 79 (dk_at dksJ10_compareTo_2_0 19 rfl rfl)
theorem dJ10_compareTo_2_22 : decode cJ10_compareTo_2 22 = .ok (.if_icmp .ne 22, 3) := dk_160 0 22 (dk_at dksJ10_compareTo_2_1 0 rfl rfl)
theorem dJ10_compareTo_2_25 : decode cJ10_compareTo_2 25 = .ok (.iload 4, 2) := dk_21 4 (dk_at dksJ10_compareTo_2_1 3 rfl rfl)
theorem dJ10_compareTo_2_27 : decode cJ10_compareTo_2 27 = .ok (.ifCond .ne 11, 3) := dk_154 0 11 (dk_at dksJ10_compareTo_2_1 5 rfl rfl)
theorem dJ10_compareTo_2_30 : decode cJ10_compareTo_2 30 = .ok (.aload_n 2, 1) := dk_44 (dk_at dksJ10_compareTo_2_1 8 rfl rfl)
theorem dJ10_compareTo_2_31 : decode cJ10_compareTo_2 31 = .ok (.aload_n 3, 1) := dk_45 (dk_at dksJ10_compareTo_2_1 9 rfl rfl)
theorem dJ10_compareTo_2_32 : decode cJ10_compareTo_2 32 = .ok (.invokestatic 586, 3) := dk_184 2 74 (dk_at dksJ10_compareTo_2_1 10 rfl rfl)
theorem dJ10_compareTo_2_35 : decode cJ10_compareTo_2 35 = .ok (.goto 8, 3) := dk_167 0 8 (dk_at dksJ10_compareTo_2_1 13 rfl rfl)
theorem dJ10_compareTo_2_38 : decode cJ10_compareTo_2 38 = .ok (.aload_n 2, 1) := dk_44 (dk_at dksJ10_compareTo_2_1 16 rfl rfl)
theorem dJ10_compareTo_2_39 : decode cJ10_compareTo_2 39 = .ok (.aload_n 3, 1) := dk_45 (dk_at dksJ10_compareTo_2_1 17 rfl rfl)
theorem dJ10_compareTo_2_40 : decode cJ10_compareTo_2 40 = .ok (.invokestatic 590, 3) := dk_184 2 78 (dk_at dksJ10_compareTo_2_1 18 rfl rfl)
theorem dJ10_compareTo_2_43 : decode cJ10_compareTo_2 43 = .ok (.ireturn, 1) := dk_172 (dk_at dksJ10_compareTo_2_1 21 rfl rfl)
theorem dJ10_compareTo_2_44 : decode cJ10_compareTo_2 44 = .ok (.iload 4, 2) := dk_21 4 (dk_at dksJ10_compareTo_2_1 22 rfl rfl)
theorem dJ10_compareTo_2_46 : decode cJ10_compareTo_2 46 = .ok (.ifCond .ne 11, 3) := dk_154 0 11 (dk_at dksJ10_compareTo_2_2 0 rfl rfl)
theorem dJ10_compareTo_2_49 : decode cJ10_compareTo_2 49 = .ok (.aload_n 2, 1) := dk_44 (dk_at dksJ10_compareTo_2_2 3 rfl rfl)
theorem dJ10_compareTo_2_50 : decode cJ10_compareTo_2 50 = .ok (.aload_n 3, 1) := dk_45 (dk_at dksJ10_compareTo_2_2 4 rfl rfl)
theorem dJ10_compareTo_2_51 : decode cJ10_compareTo_2 51 = .ok (.invokestatic 591, 3) := dk_184 2 79 (dk_at dksJ10_compareTo_2_2 5 rfl rfl)
theorem dJ10_compareTo_2_54 : decode cJ10_compareTo_2 54 = .ok (.goto 8, 3) := dk_167 0 8 (dk_at dksJ10_compareTo_2_2 8 rfl rfl)
theorem dJ10_compareTo_2_57 : decode cJ10_compareTo_2 57 = .ok (.aload_n 2, 1) := dk_44 (dk_at dksJ10_compareTo_2_2 11 rfl rfl)
theorem dJ10_compareTo_2_58 : decode cJ10_compareTo_2 58 = .ok (.aload_n 3, 1) := dk_45 (dk_at dksJ10_compareTo_2_2 12 rfl rfl)
theorem dJ10_compareTo_2_59 : decode cJ10_compareTo_2 59 = .ok (.invokestatic 594, 3) := dk_184 2 82 (dk_at dksJ10_compareTo_2_2 13 rfl rfl)
theorem dJ10_compareTo_2_62 : decode cJ10_compareTo_2 62 = .ok (.ireturn, 1) := dk_172 (dk_at dksJ10_compareTo_2_2 16 rfl rfl)
abbrev cJ10_checkOffset : ByteArray := prog_39_method_156_code
def yJ10_checkOffset : MethodName := ⟨RJ10, "checkOffset", "(II)V"⟩
def dkwJ10_checkOffset_0 : List UInt8 := [26, 27, 27, 178, 4, 29, 184, 4, 38, 87, 177]
abbrev dktJ10_checkOffset_0 : List UInt8 := dkwJ10_checkOffset_0 ++ []
theorem dksJ10_checkOffset_0 : cJ10_checkOffset.data.toList.drop 0 = dktJ10_checkOffset_0 := by decide +kernel
theorem dJ10_checkOffset_0 : decode cJ10_checkOffset 0 = .ok (.iload_n 0, 1) := dk_26 (dk_at dksJ10_checkOffset_0 0 rfl rfl)
theorem dJ10_checkOffset_1 : decode cJ10_checkOffset 1 = .ok (.iload_n 1, 1) := dk_27 (dk_at dksJ10_checkOffset_0 1 rfl rfl)
theorem dJ10_checkOffset_2 : decode cJ10_checkOffset 2 = .ok (.iload_n 1, 1) := dk_27 (dk_at dksJ10_checkOffset_0 2 rfl rfl)
theorem dJ10_checkOffset_3 : decode cJ10_checkOffset 3 = .ok (.getstatic 1053, 3) := dk_178 4 29 (dk_at dksJ10_checkOffset_0 3 rfl rfl)
theorem dJ10_checkOffset_6 : decode cJ10_checkOffset 6 = .ok (.invokestatic 1062, 3) := dk_184 4 38 (dk_at dksJ10_checkOffset_0 6 rfl rfl)
theorem dJ10_checkOffset_9 : decode cJ10_checkOffset 9 = .ok (.pop, 1) := dk_87 (dk_at dksJ10_checkOffset_0 9 rfl rfl)
theorem dJ10_checkOffset_10 : decode cJ10_checkOffset 10 = .ok (.return_, 1) := dk_177 (dk_at dksJ10_checkOffset_0 10 rfl rfl)
theorem q98 : (Jvm.Cond.initialized "java/lang/String") ∈ lw_all := lw_g (lw_at lw_m1 15 rfl) rfl
theorem q386 : (Jvm.Cond.instantiable "java/lang/String" (4 : Nat)) ∈ lw_all := lw_g (lw_at lw_m2 63 rfl) rfl
theorem q387 : (Jvm.Cond.laysFinal "java/lang/String" "java/lang/String" "value" "[B") ∈ lw_all := lw_g (lw_at lw_m2 64 rfl) rfl
theorem q388 : (Jvm.Cond.soleField "java/lang/String" "value") ∈ lw_all := lw_g (lw_at lw_m2 65 rfl) rfl
theorem q389 : (Jvm.Cond.laysFinal "java/lang/String" "java/lang/String" "coder" "B") ∈ lw_all := lw_g (lw_at lw_m2 66 rfl) rfl
theorem q390 : (Jvm.Cond.soleField "java/lang/String" "coder") ∈ lw_all := lw_g (lw_at lw_m2 67 rfl) rfl
theorem q450 : (Jvm.Cond.laysStatic "java/lang/String" "COMPACT_STRINGS" "Z") ∈ lw_tbl := lw_at lw_m2 127 rfl
theorem q460 : (Jvm.Cond.fieldLink "java/lang/String" (1048 : Nat) "java/lang/AbstractStringBuilder" "maybeLatin1" "Z") ∈ lw_all := lw_g (lw_at lw_m2 137 rfl) rfl
theorem q545 : (Jvm.Cond.static ({ cls := "java/lang/String", name := "checkBoundsOffCount", desc := "(III)I" } : Jvm.MethodName)) ∈ lw_all := lw_g (lw_at lw_m2 222 rfl) rfl
theorem q546 : (Jvm.Cond.code ({ cls := "java/lang/String", name := "checkBoundsOffCount", desc := "(III)I" } : Jvm.MethodName) prog_39_method_157_code (3 : Nat) (Option.some Jvm.ClassFile.FieldType.int)) ∈ lw_all := lw_g (lw_at lw_m2 223 rfl) rfl
theorem q547 : (Jvm.Cond.fieldLink "java/lang/String" (1053 : Nat) "jdk/internal/util/Preconditions" "SIOOBE_FORMATTER" "Ljava/util/function/BiFunction;") ∈ lw_all := lw_g (lw_at lw_m2 224 rfl) rfl
theorem q549 : (Jvm.Cond.methodLink "java/lang/String" (1065 : Nat) ({ cls := "jdk/internal/util/Preconditions", name := "checkFromIndexSize", desc := "(IIILjava/util/function/BiFunction;)I" } : Jvm.MethodName)) ∈ lw_all := lw_g (lw_at lw_m2 226 rfl) rfl
theorem q568 : (Jvm.Cond.static ({ cls := "java/lang/String", name := "checkIndex", desc := "(II)V" } : Jvm.MethodName)) ∈ lw_all := lw_g (lw_at lw_m3 5 rfl) rfl
theorem q569 : (Jvm.Cond.code ({ cls := "java/lang/String", name := "checkIndex", desc := "(II)V" } : Jvm.MethodName) prog_39_method_155_code (2 : Nat) (Option.none : Option Jvm.ClassFile.FieldType)) ∈ lw_all := lw_g (lw_at lw_m3 6 rfl) rfl
theorem q570 : (Jvm.Cond.methodLink "java/lang/String" (1059 : Nat) ({ cls := "jdk/internal/util/Preconditions", name := "checkIndex", desc := "(IILjava/util/function/BiFunction;)I" } : Jvm.MethodName)) ∈ lw_all := lw_g (lw_at lw_m3 7 rfl) rfl
theorem q579 : (Jvm.Cond.instanceMethod ({ cls := "java/lang/String", name := "<init>", desc := "(Ljava/lang/StringBuilder;)V" } : Jvm.MethodName)) ∈ lw_all := lw_g (lw_at lw_m3 16 rfl) rfl
theorem q580 : (Jvm.Cond.code ({ cls := "java/lang/String", name := "<init>", desc := "(Ljava/lang/StringBuilder;)V" } : Jvm.MethodName) prog_39_method_53_code (2 : Nat) (Option.none : Option Jvm.ClassFile.FieldType)) ∈ lw_all := lw_g (lw_at lw_m3 17 rfl) rfl
theorem q581 : (Jvm.Cond.methodLink "java/lang/String" (489 : Nat) ({ cls := "java/lang/String", name := "<init>", desc := "(Ljava/lang/AbstractStringBuilder;Ljava/lang/Void;)V" } : Jvm.MethodName)) ∈ lw_all := lw_g (lw_at lw_m3 18 rfl) rfl
theorem q582 : (Jvm.Cond.instanceMethod ({ cls := "java/lang/String", name := "<init>", desc := "(Ljava/lang/AbstractStringBuilder;Ljava/lang/Void;)V" } : Jvm.MethodName)) ∈ lw_all := lw_g (lw_at lw_m3 19 rfl) rfl
theorem q583 : (Jvm.Cond.code ({ cls := "java/lang/String", name := "<init>", desc := "(Ljava/lang/AbstractStringBuilder;Ljava/lang/Void;)V" } : Jvm.MethodName) prog_39_method_150_code (5 : Nat) (Option.none : Option Jvm.ClassFile.FieldType)) ∈ lw_all := lw_g (lw_at lw_m3 20 rfl) rfl
theorem q584 : (Jvm.Cond.methodLink "java/lang/String" (1 : Nat) ({ cls := "java/lang/Object", name := "<init>", desc := "()V" } : Jvm.MethodName)) ∈ lw_all := lw_g (lw_at lw_m3 21 rfl) rfl
theorem q585 : (Jvm.Cond.methodLink "java/lang/String" (552 : Nat) ({ cls := "java/lang/AbstractStringBuilder", name := "getValue", desc := "()[B" } : Jvm.MethodName)) ∈ lw_all := lw_g (lw_at lw_m3 22 rfl) rfl
theorem q590 : (Jvm.Cond.methodLink "java/lang/String" (549 : Nat) ({ cls := "java/lang/AbstractStringBuilder", name := "length", desc := "()I" } : Jvm.MethodName)) ∈ lw_all := lw_g (lw_at lw_m3 27 rfl) rfl
theorem q591 : (Jvm.Cond.methodLink "java/lang/String" (1047 : Nat) ({ cls := "java/lang/AbstractStringBuilder", name := "isLatin1", desc := "()Z" } : Jvm.MethodName)) ∈ lw_all := lw_g (lw_at lw_m3 28 rfl) rfl
theorem q592 : (Jvm.Cond.methodLink "java/lang/String" (54 : Nat) ({ cls := "java/util/Arrays", name := "copyOfRange", desc := "([BII)[B" } : Jvm.MethodName)) ∈ lw_all := lw_g (lw_at lw_m3 29 rfl) rfl
theorem q638 : (Jvm.Cond.static ({ cls := "java/lang/String", name := "checkBoundsBeginEnd", desc := "(III)V" } : Jvm.MethodName)) ∈ lw_all := lw_g (lw_at lw_m3 75 rfl) rfl
theorem q639 : (Jvm.Cond.code ({ cls := "java/lang/String", name := "checkBoundsBeginEnd", desc := "(III)V" } : Jvm.MethodName) prog_39_method_158_code (3 : Nat) (Option.none : Option Jvm.ClassFile.FieldType)) ∈ lw_all := lw_g (lw_at lw_m3 76 rfl) rfl
theorem q640 : (Jvm.Cond.methodLink "java/lang/String" (1062 : Nat) ({ cls := "jdk/internal/util/Preconditions", name := "checkFromToIndex", desc := "(IIILjava/util/function/BiFunction;)I" } : Jvm.MethodName)) ∈ lw_all := lw_g (lw_at lw_m3 77 rfl) rfl
theorem q664 : (Jvm.Cond.instanceMethod ({ cls := "java/lang/String", name := "length", desc := "()I" } : Jvm.MethodName)) ∈ lw_all := lw_g (lw_at lw_m3 101 rfl) rfl
theorem q665 : (Jvm.Cond.selects "java/lang/String" ({ cls := "java/lang/String", name := "length", desc := "()I" } : Jvm.MethodName) ({ cls := "java/lang/String", name := "length", desc := "()I" } : Jvm.MethodName)) ∈ lw_all := lw_g (lw_at lw_m3 102 rfl) rfl
theorem q666 : (Jvm.Cond.code ({ cls := "java/lang/String", name := "length", desc := "()I" } : Jvm.MethodName) prog_39_method_54_code (1 : Nat) (Option.some Jvm.ClassFile.FieldType.int)) ∈ lw_all := lw_g (lw_at lw_m3 103 rfl) rfl
theorem q667 : (Jvm.Cond.methodLink "java/lang/String" (335 : Nat) ({ cls := "java/lang/String", name := "coder", desc := "()B" } : Jvm.MethodName)) ∈ lw_all := lw_g (lw_at lw_m3 104 rfl) rfl
theorem q668 : (Jvm.Cond.instanceMethod ({ cls := "java/lang/String", name := "coder", desc := "()B" } : Jvm.MethodName)) ∈ lw_all := lw_g (lw_at lw_m3 105 rfl) rfl
theorem q669 : (Jvm.Cond.selects "java/lang/String" ({ cls := "java/lang/String", name := "coder", desc := "()B" } : Jvm.MethodName) ({ cls := "java/lang/String", name := "coder", desc := "()B" } : Jvm.MethodName)) ∈ lw_all := lw_g (lw_at lw_m3 106 rfl) rfl
theorem q670 : (Jvm.Cond.code ({ cls := "java/lang/String", name := "coder", desc := "()B" } : Jvm.MethodName) prog_39_method_152_code (1 : Nat) (Option.some Jvm.ClassFile.FieldType.byte)) ∈ lw_all := lw_g (lw_at lw_m3 107 rfl) rfl
theorem q671 : (Jvm.Cond.fieldLink "java/lang/String" (38 : Nat) "java/lang/String" "COMPACT_STRINGS" "Z") ∈ lw_all := lw_g (lw_at lw_m3 108 rfl) rfl
theorem q682 : (Jvm.Cond.instanceMethod ({ cls := "java/lang/String", name := "getBytes", desc := "([BIB)V" } : Jvm.MethodName)) ∈ lw_all := lw_g (lw_at lw_m3 119 rfl) rfl
theorem q683 : (Jvm.Cond.selects "java/lang/String" ({ cls := "java/lang/String", name := "getBytes", desc := "([BIB)V" } : Jvm.MethodName) ({ cls := "java/lang/String", name := "getBytes", desc := "([BIB)V" } : Jvm.MethodName)) ∈ lw_all := lw_g (lw_at lw_m3 120 rfl) rfl
theorem q684 : (Jvm.Cond.code ({ cls := "java/lang/String", name := "getBytes", desc := "([BIB)V" } : Jvm.MethodName) prog_39_method_147_code (4 : Nat) (Option.none : Option Jvm.ClassFile.FieldType)) ∈ lw_all := lw_g (lw_at lw_m3 121 rfl) rfl
theorem q685 : (Jvm.Cond.methodLink "java/lang/String" (212 : Nat) ({ cls := "java/lang/System", name := "arraycopy", desc := "(Ljava/lang/Object;ILjava/lang/Object;II)V" } : Jvm.MethodName)) ∈ lw_all := lw_g (lw_at lw_m3 122 rfl) rfl
theorem q686 : (Jvm.Cond.methodLink "java/lang/String" (106 : Nat) ({ cls := "java/lang/StringLatin1", name := "inflate", desc := "([BI[BII)V" } : Jvm.MethodName)) ∈ lw_all := lw_g (lw_at lw_m3 123 rfl) rfl
theorem q694 : (Jvm.Cond.methodLink "java/lang/String" (1051 : Nat) ({ cls := "java/lang/StringUTF16", name := "compress", desc := "([BII)[B" } : Jvm.MethodName)) ∈ lw_all := lw_g (lw_at lw_m3 131 rfl) rfl
theorem q704 : (Jvm.Cond.methodLink "java/lang/String" (47 : Nat) ({ cls := "java/lang/StringUTF16", name := "coderFromArrayLen", desc := "([BI)B" } : Jvm.MethodName)) ∈ lw_all := lw_g (lw_at lw_m3 141 rfl) rfl
theorem q707 : (Jvm.Cond.fieldLink "java/lang/String" (9 : Nat) "java/lang/String" "value" "[B") ∈ lw_all := lw_g (lw_at lw_m3 144 rfl) rfl
theorem q708 : (Jvm.Cond.fieldLink "java/lang/String" (15 : Nat) "java/lang/String" "coder" "B") ∈ lw_all := lw_g (lw_at lw_m3 145 rfl) rfl
theorem q709 : (Jvm.Cond.lays "java/lang/String" "java/lang/String" "hash" "I") ∈ lw_all := lw_g (lw_at lw_m3 146 rfl) rfl
theorem q710 : (Jvm.Cond.soleField "java/lang/String" "hash") ∈ lw_all := lw_g (lw_at lw_m3 147 rfl) rfl
theorem q711 : (Jvm.Cond.lays "java/lang/String" "java/lang/String" "hashIsZero" "Z") ∈ lw_all := lw_g (lw_at lw_m3 148 rfl) rfl
theorem q712 : (Jvm.Cond.soleField "java/lang/String" "hashIsZero") ∈ lw_all := lw_g (lw_at lw_m3 149 rfl) rfl
theorem q713 : (Jvm.Cond.superclass "java/lang/String" "java/lang/Object") ∈ lw_all := lw_g (lw_at lw_m3 150 rfl) rfl
theorem q761 : (Jvm.Cond.instanceMethod ({ cls := "java/lang/String", name := "equals", desc := "(Ljava/lang/Object;)Z" } : Jvm.MethodName)) ∈ lw_all := lw_g (lw_at lw_m3 198 rfl) rfl
theorem q762 : (Jvm.Cond.selects "java/lang/String" ({ cls := "java/lang/String", name := "equals", desc := "(Ljava/lang/Object;)Z" } : Jvm.MethodName) ({ cls := "java/lang/String", name := "equals", desc := "(Ljava/lang/Object;)Z" } : Jvm.MethodName)) ∈ lw_all := lw_g (lw_at lw_m3 199 rfl) rfl
theorem q763 : (Jvm.Cond.code ({ cls := "java/lang/String", name := "equals", desc := "(Ljava/lang/Object;)Z" } : Jvm.MethodName) prog_39_method_66_code (3 : Nat) (Option.some Jvm.ClassFile.FieldType.boolean)) ∈ lw_all := lw_g (lw_at lw_m3 200 rfl) rfl
theorem q764 : (Jvm.Cond.classLink "java/lang/String" (10 : Nat) "java/lang/String") ∈ lw_all := lw_g (lw_at lw_m3 201 rfl) rfl
theorem q765 : (Jvm.Cond.methodLink "java/lang/String" (541 : Nat) ({ cls := "java/lang/StringLatin1", name := "equals", desc := "([B[B)Z" } : Jvm.MethodName)) ∈ lw_all := lw_g (lw_at lw_m3 202 rfl) rfl
theorem q1099 : (Jvm.Cond.selects "java/lang/String" ({ cls := "java/lang/Object", name := "getClass", desc := "()Ljava/lang/Class;" } : Jvm.MethodName) ({ cls := "java/lang/Object", name := "getClass", desc := "()Ljava/lang/Class;" } : Jvm.MethodName)) ∈ lw_all := lw_g (lw_at lw_m5 56 rfl) rfl
theorem q1144 : (Jvm.Cond.instanceMethod ({ cls := "java/lang/String", name := "isEmpty", desc := "()Z" } : Jvm.MethodName)) ∈ lw_all := lw_g (lw_at lw_m5 101 rfl) rfl
theorem q1145 : (Jvm.Cond.selects "java/lang/String" ({ cls := "java/lang/String", name := "isEmpty", desc := "()Z" } : Jvm.MethodName) ({ cls := "java/lang/String", name := "isEmpty", desc := "()Z" } : Jvm.MethodName)) ∈ lw_all := lw_g (lw_at lw_m5 102 rfl) rfl
theorem q1146 : (Jvm.Cond.code ({ cls := "java/lang/String", name := "isEmpty", desc := "()Z" } : Jvm.MethodName) prog_39_method_55_code (1 : Nat) (Option.some Jvm.ClassFile.FieldType.boolean)) ∈ lw_all := lw_g (lw_at lw_m5 103 rfl) rfl
theorem q1547 : (Jvm.Cond.castable "java/lang/String" "java/lang/Comparable") ∈ lw_tbl := lw_at lw_m7 24 rfl
theorem q1548 : (Jvm.Cond.selects "java/lang/String" ({ cls := "java/lang/Comparable", name := "compareTo", desc := "(Ljava/lang/Object;)I" } : Jvm.MethodName) ({ cls := "java/lang/String", name := "compareTo", desc := "(Ljava/lang/Object;)I" } : Jvm.MethodName)) ∈ lw_all := lw_g (lw_at lw_m7 25 rfl) rfl
theorem q1549 : (Jvm.Cond.unhidden "java/lang/String" "compareTo" "(Ljava/lang/Object;)I") ∈ lw_tbl := lw_at lw_m7 26 rfl
theorem q1550 : (Jvm.Cond.instanceMethod ({ cls := "java/lang/String", name := "compareTo", desc := "(Ljava/lang/Object;)I" } : Jvm.MethodName)) ∈ lw_all := lw_g (lw_at lw_m7 27 rfl) rfl
theorem q1551 : (Jvm.Cond.publicMethod ({ cls := "java/lang/String", name := "compareTo", desc := "(Ljava/lang/Object;)I" } : Jvm.MethodName)) ∈ lw_tbl := lw_at lw_m7 28 rfl
theorem q1552 : (Jvm.Cond.code ({ cls := "java/lang/String", name := "compareTo", desc := "(Ljava/lang/Object;)I" } : Jvm.MethodName) prog_39_method_162_code (2 : Nat) (Option.some Jvm.ClassFile.FieldType.int)) ∈ lw_all := lw_g (lw_at lw_m7 29 rfl) rfl
theorem q1553 : (Jvm.Cond.methodLink "java/lang/String" (1084 : Nat) ({ cls := "java/lang/String", name := "compareTo", desc := "(Ljava/lang/String;)I" } : Jvm.MethodName)) ∈ lw_all := lw_g (lw_at lw_m7 30 rfl) rfl
theorem q1554 : (Jvm.Cond.instanceMethod ({ cls := "java/lang/String", name := "compareTo", desc := "(Ljava/lang/String;)I" } : Jvm.MethodName)) ∈ lw_all := lw_g (lw_at lw_m7 31 rfl) rfl
theorem q1555 : (Jvm.Cond.selects "java/lang/String" ({ cls := "java/lang/String", name := "compareTo", desc := "(Ljava/lang/String;)I" } : Jvm.MethodName) ({ cls := "java/lang/String", name := "compareTo", desc := "(Ljava/lang/String;)I" } : Jvm.MethodName)) ∈ lw_all := lw_g (lw_at lw_m7 32 rfl) rfl
theorem q1556 : (Jvm.Cond.code ({ cls := "java/lang/String", name := "compareTo", desc := "(Ljava/lang/String;)I" } : Jvm.MethodName) prog_39_method_71_code (5 : Nat) (Option.some Jvm.ClassFile.FieldType.int)) ∈ lw_all := lw_g (lw_at lw_m7 33 rfl) rfl
theorem q1557 : (Jvm.Cond.methodLink "java/lang/String" (586 : Nat) ({ cls := "java/lang/StringLatin1", name := "compareTo", desc := "([B[B)I" } : Jvm.MethodName)) ∈ lw_all := lw_g (lw_at lw_m7 34 rfl) rfl
theorem q1671 : (Jvm.Cond.methodLink "java/lang/String" (590 : Nat) ({ cls := "java/lang/StringUTF16", name := "compareTo", desc := "([B[B)I" } : Jvm.MethodName)) ∈ lw_all := lw_g (lw_at lw_m7 148 rfl) rfl
theorem q1678 : (Jvm.Cond.methodLink "java/lang/String" (591 : Nat) ({ cls := "java/lang/StringLatin1", name := "compareToUTF16", desc := "([B[B)I" } : Jvm.MethodName)) ∈ lw_all := lw_g (lw_at lw_m7 155 rfl) rfl
theorem q1689 : (Jvm.Cond.methodLink "java/lang/String" (594 : Nat) ({ cls := "java/lang/StringUTF16", name := "compareToLatin1", desc := "([B[B)I" } : Jvm.MethodName)) ∈ lw_all := lw_g (lw_at lw_m7 166 rfl) rfl
theorem q1715 : (Jvm.Cond.static ({ cls := "java/lang/String", name := "checkOffset", desc := "(II)V" } : Jvm.MethodName)) ∈ lw_all := lw_g (lw_at lw_m7 192 rfl) rfl
theorem q1716 : (Jvm.Cond.code ({ cls := "java/lang/String", name := "checkOffset", desc := "(II)V" } : Jvm.MethodName) prog_39_method_156_code (2 : Nat) (Option.none : Option Jvm.ClassFile.FieldType)) ∈ lw_all := lw_g (lw_at lw_m7 193 rfl) rfl
theorem q2673 : (Jvm.Cond.castable "java/lang/String" "java/lang/Object") ∈ lw_tbl := lw_at lw_m11 190 rfl
theorem in_J10 : ∀ w ∈ wsJ100, w ∈ lw_all := lw_in wsJ100 [387, 389, 709, 711] (by decide +kernel) (by decide +kernel)

/-! java/lang/Enum -/
set_option maxRecDepth 100000
def RJ11 : String := "java/lang/Enum"
abbrev cJ11_compareTo : ByteArray := prog_27_method_15_code
def yJ11_compareTo : MethodName := ⟨RJ11, "compareTo", "(Ljava/lang/Object;)I"⟩
def dkwJ11_compareTo_0 : List UInt8 := [42, 43, 192, 0, 2, 182, 0, 101, 172]
abbrev dktJ11_compareTo_0 : List UInt8 := dkwJ11_compareTo_0 ++ []
theorem dksJ11_compareTo_0 : cJ11_compareTo.data.toList.drop 0 = dktJ11_compareTo_0 := by decide +kernel
theorem dJ11_compareTo_0 : decode cJ11_compareTo 0 = .ok (.aload_n 0, 1) := dk_42 (dk_at dksJ11_compareTo_0 0 rfl rfl)
theorem dJ11_compareTo_1 : decode cJ11_compareTo 1 = .ok (.aload_n 1, 1) := dk_43 (dk_at dksJ11_compareTo_0 1 rfl rfl)
theorem dJ11_compareTo_2 : decode cJ11_compareTo 2 = .ok (.checkcast 2, 3) := dk_192 0 2 (dk_at dksJ11_compareTo_0 2 rfl rfl)
theorem dJ11_compareTo_5 : decode cJ11_compareTo 5 = .ok (.invokevirtual 101, 3) := dk_182 0 101 (dk_at dksJ11_compareTo_0 5 rfl rfl)
theorem dJ11_compareTo_8 : decode cJ11_compareTo 8 = .ok (.ireturn, 1) := dk_172 (dk_at dksJ11_compareTo_0 8 rfl rfl)
abbrev cJ11_compareTo_2 : ByteArray := prog_27_method_8_code
def yJ11_compareTo_2 : MethodName := ⟨RJ11, "compareTo", "(Ljava/lang/Enum;)I"⟩
def dkwJ11_compareTo_2_1 : List UInt8 := [165, 0, 11, 187, 0, 36, 89, 183, 0, 38, 191, 45, 180, 0, 7, 44, 180, 0, 7, 100, 172]
abbrev dktJ11_compareTo_2_1 : List UInt8 := dkwJ11_compareTo_2_1 ++ []
def dkwJ11_compareTo_2_0 : List UInt8 := [43, 77, 42, 78, 45, 182, 0, 29, 44, 182, 0, 29, 165, 0, 22, 45, 182, 0, 33, 44, 182, 0, 33]
abbrev dktJ11_compareTo_2_0 : List UInt8 := dkwJ11_compareTo_2_0 ++ dktJ11_compareTo_2_1
theorem dksJ11_compareTo_2_0 : cJ11_compareTo_2.data.toList.drop 0 = dktJ11_compareTo_2_0 := by decide +kernel
theorem dksJ11_compareTo_2_1 : cJ11_compareTo_2.data.toList.drop 23 = dktJ11_compareTo_2_1 := dk_seg dksJ11_compareTo_2_0 23 rfl rfl
theorem dJ11_compareTo_2_0 : decode cJ11_compareTo_2 0 = .ok (.aload_n 1, 1) := dk_43 (dk_at dksJ11_compareTo_2_0 0 rfl rfl)
theorem dJ11_compareTo_2_1 : decode cJ11_compareTo_2 1 = .ok (.astore_n 2, 1) := dk_77 (dk_at dksJ11_compareTo_2_0 1 rfl rfl)
theorem dJ11_compareTo_2_2 : decode cJ11_compareTo_2 2 = .ok (.aload_n 0, 1) := dk_42 (dk_at dksJ11_compareTo_2_0 2 rfl rfl)
theorem dJ11_compareTo_2_3 : decode cJ11_compareTo_2 3 = .ok (.astore_n 3, 1) := dk_78 (dk_at dksJ11_compareTo_2_0 3 rfl rfl)
theorem dJ11_compareTo_2_4 : decode cJ11_compareTo_2 4 = .ok (.aload_n 3, 1) := dk_45 (dk_at dksJ11_compareTo_2_0 4 rfl rfl)
theorem dJ11_compareTo_2_5 : decode cJ11_compareTo_2 5 = .ok (.invokevirtual 29, 3) := dk_182 0 29 (dk_at dksJ11_compareTo_2_0 5 rfl rfl)
theorem dJ11_compareTo_2_8 : decode cJ11_compareTo_2 8 = .ok (.aload_n 2, 1) := dk_44 (dk_at dksJ11_compareTo_2_0 8 rfl rfl)
theorem dJ11_compareTo_2_9 : decode cJ11_compareTo_2 9 = .ok (.invokevirtual 29, 3) := dk_182 0 29 (dk_at dksJ11_compareTo_2_0 9 rfl rfl)
theorem dJ11_compareTo_2_12 : decode cJ11_compareTo_2 12 = .ok (.if_acmp .eq 22, 3) := dk_165 0 22 (dk_at dksJ11_compareTo_2_0 12 rfl rfl)
theorem dJ11_compareTo_2_15 : decode cJ11_compareTo_2 15 = .ok (.aload_n 3, 1) := dk_45 (dk_at dksJ11_compareTo_2_0 15 rfl rfl)
theorem dJ11_compareTo_2_16 : decode cJ11_compareTo_2 16 = .ok (.invokevirtual 33, 3) := dk_182 0 33 (dk_at dksJ11_compareTo_2_0 16 rfl rfl)
theorem dJ11_compareTo_2_19 : decode cJ11_compareTo_2 19 = .ok (.aload_n 2, 1) := dk_44 (dk_at dksJ11_compareTo_2_0 19 rfl rfl)
theorem dJ11_compareTo_2_20 : decode cJ11_compareTo_2 20 = .ok (.invokevirtual 33, 3) := dk_182 0 33 (dk_at dksJ11_compareTo_2_0 20 rfl rfl)
theorem dJ11_compareTo_2_23 : decode cJ11_compareTo_2 23 = .ok (.if_acmp .eq 11, 3) := dk_165 0 11 (dk_at dksJ11_compareTo_2_1 0 rfl rfl)
theorem dJ11_compareTo_2_26 : decode cJ11_compareTo_2 26 = .ok (.new 36, 3) := dk_187 0 36 (dk_at dksJ11_compareTo_2_1 3 rfl rfl)
theorem dJ11_compareTo_2_29 : decode cJ11_compareTo_2 29 = .ok (.dup, 1) := dk_89 (dk_at dksJ11_compareTo_2_1 6 rfl rfl)
theorem dJ11_compareTo_2_30 : decode cJ11_compareTo_2 30 = .ok (.invokespecial 38, 3) := dk_183 0 38 (dk_at dksJ11_compareTo_2_1 7 rfl rfl)
theorem dJ11_compareTo_2_33 : decode cJ11_compareTo_2 33 = .ok (.athrow, 1) := dk_191 (dk_at dksJ11_compareTo_2_1 10 rfl rfl)
theorem dJ11_compareTo_2_34 : decode cJ11_compareTo_2 34 = .ok (.aload_n 3, 1) := dk_45 (dk_at dksJ11_compareTo_2_1 11 rfl rfl)
theorem dJ11_compareTo_2_35 : decode cJ11_compareTo_2 35 = .ok (.getfield 7, 3) := dk_180 0 7 (dk_at dksJ11_compareTo_2_1 12 rfl rfl)
theorem dJ11_compareTo_2_38 : decode cJ11_compareTo_2 38 = .ok (.aload_n 2, 1) := dk_44 (dk_at dksJ11_compareTo_2_1 15 rfl rfl)
theorem dJ11_compareTo_2_39 : decode cJ11_compareTo_2 39 = .ok (.getfield 7, 3) := dk_180 0 7 (dk_at dksJ11_compareTo_2_1 16 rfl rfl)
theorem dJ11_compareTo_2_42 : decode cJ11_compareTo_2 42 = .ok (.isub, 1) := dk_100 (dk_at dksJ11_compareTo_2_1 19 rfl rfl)
theorem dJ11_compareTo_2_43 : decode cJ11_compareTo_2 43 = .ok (.ireturn, 1) := dk_172 (dk_at dksJ11_compareTo_2_1 20 rfl rfl)
abbrev cJ11_getDeclaringClass : ByteArray := prog_27_method_9_code
def yJ11_getDeclaringClass : MethodName := ⟨RJ11, "getDeclaringClass", "()Ljava/lang/Class;"⟩
def dkwJ11_getDeclaringClass_0 : List UInt8 := [42, 182, 0, 29, 76, 43, 182, 0, 39, 77, 44, 18, 2, 166, 0, 7, 43, 167, 0, 4, 44, 176]
abbrev dktJ11_getDeclaringClass_0 : List UInt8 := dkwJ11_getDeclaringClass_0 ++ []
theorem dksJ11_getDeclaringClass_0 : cJ11_getDeclaringClass.data.toList.drop 0 = dktJ11_getDeclaringClass_0 := by decide +kernel
theorem dJ11_getDeclaringClass_0 : decode cJ11_getDeclaringClass 0 = .ok (.aload_n 0, 1) := dk_42 (dk_at dksJ11_getDeclaringClass_0 0 rfl rfl)
theorem dJ11_getDeclaringClass_1 : decode cJ11_getDeclaringClass 1 = .ok (.invokevirtual 29, 3) := dk_182 0 29 (dk_at dksJ11_getDeclaringClass_0 1 rfl rfl)
theorem dJ11_getDeclaringClass_4 : decode cJ11_getDeclaringClass 4 = .ok (.astore_n 1, 1) := dk_76 (dk_at dksJ11_getDeclaringClass_0 4 rfl rfl)
theorem dJ11_getDeclaringClass_5 : decode cJ11_getDeclaringClass 5 = .ok (.aload_n 1, 1) := dk_43 (dk_at dksJ11_getDeclaringClass_0 5 rfl rfl)
theorem dJ11_getDeclaringClass_6 : decode cJ11_getDeclaringClass 6 = .ok (.invokevirtual 39, 3) := dk_182 0 39 (dk_at dksJ11_getDeclaringClass_0 6 rfl rfl)
theorem dJ11_getDeclaringClass_9 : decode cJ11_getDeclaringClass 9 = .ok (.astore_n 2, 1) := dk_77 (dk_at dksJ11_getDeclaringClass_0 9 rfl rfl)
theorem dJ11_getDeclaringClass_10 : decode cJ11_getDeclaringClass 10 = .ok (.aload_n 2, 1) := dk_44 (dk_at dksJ11_getDeclaringClass_0 10 rfl rfl)
theorem dJ11_getDeclaringClass_11 : decode cJ11_getDeclaringClass 11 = .ok (.ldc 2, 2) := dk_18 2 (dk_at dksJ11_getDeclaringClass_0 11 rfl rfl)
theorem dJ11_getDeclaringClass_13 : decode cJ11_getDeclaringClass 13 = .ok (.if_acmp .ne 7, 3) := dk_166 0 7 (dk_at dksJ11_getDeclaringClass_0 13 rfl rfl)
theorem dJ11_getDeclaringClass_16 : decode cJ11_getDeclaringClass 16 = .ok (.aload_n 1, 1) := dk_43 (dk_at dksJ11_getDeclaringClass_0 16 rfl rfl)
theorem dJ11_getDeclaringClass_17 : decode cJ11_getDeclaringClass 17 = .ok (.goto 4, 3) := dk_167 0 4 (dk_at dksJ11_getDeclaringClass_0 17 rfl rfl)
theorem dJ11_getDeclaringClass_20 : decode cJ11_getDeclaringClass 20 = .ok (.aload_n 2, 1) := dk_44 (dk_at dksJ11_getDeclaringClass_0 20 rfl rfl)
theorem dJ11_getDeclaringClass_21 : decode cJ11_getDeclaringClass 21 = .ok (.areturn, 1) := dk_176 (dk_at dksJ11_getDeclaringClass_0 21 rfl rfl)
abbrev cJ11_ordinal : ByteArray := prog_27_method_2_code
def yJ11_ordinal : MethodName := ⟨RJ11, "ordinal", "()I"⟩
theorem dJ11_ordinal_0 : decode cJ11_ordinal 0 = .ok (.aload_n 0, 1) := by decide +kernel
theorem dJ11_ordinal_1 : decode cJ11_ordinal 1 = .ok (.getfield 7, 3) := by decide +kernel
theorem dJ11_ordinal_4 : decode cJ11_ordinal 4 = .ok (.ireturn, 1) := by decide +kernel
theorem q100 : (Jvm.Cond.initialized "java/lang/Enum") ∈ lw_all := lw_g (lw_at lw_m1 17 rfl) rfl
theorem q1503 : (Jvm.Cond.instanceMethod ({ cls := "java/lang/Enum", name := "compareTo", desc := "(Ljava/lang/Object;)I" } : Jvm.MethodName)) ∈ lw_all := lw_g (lw_at lw_m6 220 rfl) rfl
theorem q1504 : (Jvm.Cond.publicMethod ({ cls := "java/lang/Enum", name := "compareTo", desc := "(Ljava/lang/Object;)I" } : Jvm.MethodName)) ∈ lw_tbl := lw_at lw_m6 221 rfl
theorem q1505 : (Jvm.Cond.code ({ cls := "java/lang/Enum", name := "compareTo", desc := "(Ljava/lang/Object;)I" } : Jvm.MethodName) prog_27_method_15_code (2 : Nat) (Option.some Jvm.ClassFile.FieldType.int)) ∈ lw_all := lw_g (lw_at lw_m6 222 rfl) rfl
theorem q1506 : (Jvm.Cond.classLink "java/lang/Enum" (2 : Nat) "java/lang/Enum") ∈ lw_all := lw_g (lw_at lw_m6 223 rfl) rfl
theorem q1507 : (Jvm.Cond.methodLink "java/lang/Enum" (101 : Nat) ({ cls := "java/lang/Enum", name := "compareTo", desc := "(Ljava/lang/Enum;)I" } : Jvm.MethodName)) ∈ lw_all := lw_g (lw_at lw_m6 224 rfl) rfl
theorem q1508 : (Jvm.Cond.instanceMethod ({ cls := "java/lang/Enum", name := "compareTo", desc := "(Ljava/lang/Enum;)I" } : Jvm.MethodName)) ∈ lw_all := lw_g (lw_at lw_m6 225 rfl) rfl
theorem q1509 : (Jvm.Cond.sameMethod "java/lang/Enum" "java/lang/Enum" "compareTo" "(Ljava/lang/Enum;)I") ∈ lw_all := lw_g (lw_at lw_m6 226 rfl) rfl
theorem q1514 : (Jvm.Cond.code ({ cls := "java/lang/Enum", name := "compareTo", desc := "(Ljava/lang/Enum;)I" } : Jvm.MethodName) prog_27_method_8_code (4 : Nat) (Option.some Jvm.ClassFile.FieldType.int)) ∈ lw_all := lw_g (lw_at lw_m6 231 rfl) rfl
theorem q1515 : (Jvm.Cond.methodLink "java/lang/Enum" (29 : Nat) ({ cls := "java/lang/Object", name := "getClass", desc := "()Ljava/lang/Class;" } : Jvm.MethodName)) ∈ lw_all := lw_g (lw_at lw_m6 232 rfl) rfl
theorem q1516 : (Jvm.Cond.methodLink "java/lang/Enum" (33 : Nat) ({ cls := "java/lang/Enum", name := "getDeclaringClass", desc := "()Ljava/lang/Class;" } : Jvm.MethodName)) ∈ lw_all := lw_g (lw_at lw_m6 233 rfl) rfl
theorem q1517 : (Jvm.Cond.instanceMethod ({ cls := "java/lang/Enum", name := "getDeclaringClass", desc := "()Ljava/lang/Class;" } : Jvm.MethodName)) ∈ lw_all := lw_g (lw_at lw_m6 234 rfl) rfl
theorem q1518 : (Jvm.Cond.sameMethod "java/lang/Enum" "java/lang/Enum" "getDeclaringClass" "()Ljava/lang/Class;") ∈ lw_all := lw_g (lw_at lw_m6 235 rfl) rfl
theorem q1523 : (Jvm.Cond.code ({ cls := "java/lang/Enum", name := "getDeclaringClass", desc := "()Ljava/lang/Class;" } : Jvm.MethodName) prog_27_method_9_code (3 : Nat) (Option.some (Jvm.ClassFile.FieldType.object "java/lang/Class"))) ∈ lw_all := lw_g (lw_at lw_m7 0 rfl) rfl
theorem q1835 : (Jvm.Cond.declares ({ cls := "java/lang/Enum", name := "ordinal", desc := "()I" } : Jvm.MethodName)) ∈ lw_tbl := lw_at lw_m8 72 rfl
theorem q1839 : (Jvm.Cond.instanceMethod ({ cls := "java/lang/Enum", name := "ordinal", desc := "()I" } : Jvm.MethodName)) ∈ lw_all := lw_g (lw_at lw_m8 76 rfl) rfl
theorem q1840 : (Jvm.Cond.code ({ cls := "java/lang/Enum", name := "ordinal", desc := "()I" } : Jvm.MethodName) prog_27_method_2_code (1 : Nat) (Option.some Jvm.ClassFile.FieldType.int)) ∈ lw_all := lw_g (lw_at lw_m8 77 rfl) rfl
theorem q2705 : (Jvm.Cond.fieldLink "java/lang/Enum" (7 : Nat) "java/lang/Enum" "ordinal" "I") ∈ lw_all := lw_g (lw_at lw_m11 222 rfl) rfl

/-! java/lang/AbstractStringBuilder -/
set_option maxRecDepth 100000
def RJ12 : String := "java/lang/AbstractStringBuilder"
abbrev cJ12_init : ByteArray := prog_21_method_2_code
def yJ12_init : MethodName := ⟨RJ12, "<init>", "(I)V"⟩
def dkwJ12_init_1 : List UInt8 := [167, 0, 16, 42, 27, 184, 0, 26, 181, 0, 15, 42, 4, 181, 0, 22, 177]
abbrev dktJ12_init_1 : List UInt8 := dkwJ12_init_1 ++ []
def dkwJ12_init_0 : List UInt8 := [42, 183, 0, 3, 178, 0, 18, 153, 0, 18, 42, 27, 188, 8, 181, 0, 15, 42, 3, 181, 0, 22]
abbrev dktJ12_init_0 : List UInt8 := dkwJ12_init_0 ++ dktJ12_init_1
theorem dksJ12_init_0 : cJ12_init.data.toList.drop 0 = dktJ12_init_0 := by decide +kernel
theorem dksJ12_init_1 : cJ12_init.data.toList.drop 22 = dktJ12_init_1 := dk_seg dksJ12_init_0 22 rfl rfl
theorem dJ12_init_0 : decode cJ12_init 0 = .ok (.aload_n 0, 1) := dk_42 (dk_at dksJ12_init_0 0 rfl rfl)
theorem dJ12_init_1 : decode cJ12_init 1 = .ok (.invokespecial 3, 3) := dk_183 0 3 (dk_at dksJ12_init_0 1 rfl rfl)
theorem dJ12_init_4 : decode cJ12_init 4 = .ok (.getstatic 18, 3) := dk_178 0 18 (dk_at dksJ12_init_0 4 rfl rfl)
theorem dJ12_init_7 : decode cJ12_init 7 = .ok (.ifCond .eq 18, 3) := dk_153 0 18 (dk_at dksJ12_init_0 7 rfl rfl)
theorem dJ12_init_10 : decode cJ12_init 10 = .ok (.aload_n 0, 1) := dk_42 (dk_at dksJ12_init_0 10 rfl rfl)
theorem dJ12_init_11 : decode cJ12_init 11 = .ok (.iload_n 1, 1) := dk_27 (dk_at dksJ12_init_0 11 rfl rfl)
theorem dJ12_init_12 : decode cJ12_init 12 = .ok (.newarray .byte, 2) := dk_188_8 (dk_at dksJ12_init_0 12 rfl rfl)
theorem dJ12_init_14 : decode cJ12_init 14 = .ok (.putfield 15, 3) := dk_181 0 15 (dk_at dksJ12_init_0 14 rfl rfl)
theorem dJ12_init_17 : decode cJ12_init 17 = .ok (.aload_n 0, 1) := dk_42 (dk_at dksJ12_init_0 17 rfl rfl)
theorem dJ12_init_18 : decode cJ12_init 18 = .ok (.iconst 0, 1) := dk_3 (dk_at dksJ12_init_0 18 rfl rfl)
theorem dJ12_init_19 : decode cJ12_init 19 = .ok (.putfield 22, 3) := dk_181 0 22 (dk_at dksJ12_init_0 19 rfl rfl)
theorem dJ12_init_22 : decode cJ12_init 22 = .ok (.goto 16, 3) := dk_167 0 16 (dk_at dksJ12_init_1 0 rfl rfl)
theorem dJ12_init_25 : decode cJ12_init 25 = .ok (.aload_n 0, 1) := dk_42 (dk_at dksJ12_init_1 3 rfl rfl)
theorem dJ12_init_26 : decode cJ12_init 26 = .ok (.iload_n 1, 1) := dk_27 (dk_at dksJ12_init_1 4 rfl rfl)
theorem dJ12_init_27 : decode cJ12_init 27 = .ok (.invokestatic 26, 3) := dk_184 0 26 (dk_at dksJ12_init_1 5 rfl rfl)
theorem dJ12_init_30 : decode cJ12_init 30 = .ok (.putfield 15, 3) := dk_181 0 15 (dk_at dksJ12_init_1 8 rfl rfl)
theorem dJ12_init_33 : decode cJ12_init 33 = .ok (.aload_n 0, 1) := dk_42 (dk_at dksJ12_init_1 11 rfl rfl)
theorem dJ12_init_34 : decode cJ12_init 34 = .ok (.iconst 1, 1) := dk_4 (dk_at dksJ12_init_1 12 rfl rfl)
theorem dJ12_init_35 : decode cJ12_init 35 = .ok (.putfield 22, 3) := dk_181 0 22 (dk_at dksJ12_init_1 13 rfl rfl)
theorem dJ12_init_38 : decode cJ12_init 38 = .ok (.return_, 1) := dk_177 (dk_at dksJ12_init_1 16 rfl rfl)
abbrev cJ12_length : ByteArray := prog_21_method_6_code
def yJ12_length : MethodName := ⟨RJ12, "length", "()I"⟩
theorem dJ12_length_0 : decode cJ12_length 0 = .ok (.aload_n 0, 1) := by decide +kernel
theorem dJ12_length_1 : decode cJ12_length 1 = .ok (.getfield 79, 3) := by decide +kernel
theorem dJ12_length_4 : decode cJ12_length 4 = .ok (.ireturn, 1) := by decide +kernel
abbrev cJ12_append : ByteArray := prog_21_method_31_code
def yJ12_append : MethodName := ⟨RJ12, "append", "(C)Ljava/lang/AbstractStringBuilder;"⟩
def dkwJ12_append_3 : List UInt8 := [181, 0, 79, 27, 184, 0, 197, 42, 176]
abbrev dktJ12_append_3 : List UInt8 := dkwJ12_append_3 ++ []
def dkwJ12_append_2 : List UInt8 := [182, 0, 83, 153, 0, 7, 42, 182, 0, 195, 42, 180, 0, 15, 42, 89, 180, 0, 79, 90, 4, 96]
abbrev dktJ12_append_2 : List UInt8 := dkwJ12_append_2 ++ dktJ12_append_3
def dkwJ12_append_1 : List UInt8 := [42, 180, 0, 15, 42, 89, 180, 0, 79, 90, 4, 96, 181, 0, 79, 27, 145, 84, 167, 0, 33, 42]
abbrev dktJ12_append_1 : List UInt8 := dkwJ12_append_1 ++ dktJ12_append_2
def dkwJ12_append_0 : List UInt8 := [42, 42, 180, 0, 79, 4, 96, 182, 0, 100, 42, 182, 0, 83, 153, 0, 31, 27, 184, 0, 191, 153, 0, 24]
abbrev dktJ12_append_0 : List UInt8 := dkwJ12_append_0 ++ dktJ12_append_1
theorem dksJ12_append_0 : cJ12_append.data.toList.drop 0 = dktJ12_append_0 := by decide +kernel
theorem dksJ12_append_1 : cJ12_append.data.toList.drop 24 = dktJ12_append_1 := dk_seg dksJ12_append_0 24 rfl rfl
theorem dksJ12_append_2 : cJ12_append.data.toList.drop 46 = dktJ12_append_2 := dk_seg dksJ12_append_1 22 rfl rfl
theorem dksJ12_append_3 : cJ12_append.data.toList.drop 68 = dktJ12_append_3 := dk_seg dksJ12_append_2 22 rfl rfl
theorem dJ12_append_0 : decode cJ12_append 0 = .ok (.aload_n 0, 1) := dk_42 (dk_at dksJ12_append_0 0 rfl rfl)
theorem dJ12_append_1 : decode cJ12_append 1 = .ok (.aload_n 0, 1) := dk_42 (dk_at dksJ12_append_0 1 rfl rfl)
theorem dJ12_append_2 : decode cJ12_append 2 = .ok (.getfield 79, 3) := dk_180 0 79 (dk_at dksJ12_append_0 2 rfl rfl)
theorem dJ12_append_5 : decode cJ12_append 5 = .ok (.iconst 1, 1) := dk_4 (dk_at dksJ12_append_0 5 rfl rfl)
theorem dJ12_append_6 : decode cJ12_append 6 = .ok (.iadd, 1) := dk_96 (dk_at dksJ12_append_0 6 rfl rfl)
theorem dJ12_append_7 : decode cJ12_append 7 = .ok (.invokevirtual 100, 3) := dk_182 0 100 (dk_at dksJ12_append_0 7 rfl rfl)
theorem dJ12_append_10 : decode cJ12_append 10 = .ok (.aload_n 0, 1) := dk_42 (dk_at dksJ12_append_0 10 rfl rfl)
theorem dJ12_append_11 : decode cJ12_append 11 = .ok (.invokevirtual 83, 3) := dk_182 0 83 (dk_at dksJ12_append_0 11 rfl rfl)
theorem dJ12_append_14 : decode cJ12_append 14 = .ok (.ifCond .eq 31, 3) := dk_153 0 31 (dk_at dksJ12_append_0 14 rfl rfl)
theorem dJ12_append_17 : decode cJ12_append 17 = .ok (.iload_n 1, 1) := dk_27 (dk_at dksJ12_append_0 17 rfl rfl)
theorem dJ12_append_18 : decode cJ12_append 18 = .ok (.invokestatic 191, 3) := dk_184 0 191 (dk_at dksJ12_append_0 18 rfl rfl)
theorem dJ12_append_21 : decode cJ12_append 21 = .ok (.ifCond .eq 24, 3) := dk_153 0 24 (dk_at dksJ12_append_0 21 rfl rfl)
theorem dJ12_append_24 : decode cJ12_append 24 = .ok (.aload_n 0, 1) := dk_42 (dk_at dksJ12_append_1 0 rfl rfl)
theorem dJ12_append_25 : decode cJ12_append 25 = .ok (.getfield 15, 3) := dk_180 0 15 (dk_at dksJ12_append_1 1 rfl rfl)
theorem dJ12_append_28 : decode cJ12_append 28 = .ok (.aload_n 0, 1) := dk_42 (dk_at dksJ12_append_1 4 rfl rfl)
theorem dJ12_append_29 : decode cJ12_append 29 = .ok (.dup, 1) := dk_89 (dk_at dksJ12_append_1 5 rfl rfl)
theorem dJ12_append_30 : decode cJ12_append 30 = .ok (.getfield 79, 3) := dk_180 0 79 (dk_at dksJ12_append_1 6 rfl rfl)
theorem dJ12_append_33 : decode cJ12_append 33 = .ok (.dup_x1, 1) := dk_90 (dk_at dksJ12_append_1 9 rfl rfl)
theorem dJ12_append_34 : decode cJ12_append 34 = .ok (.iconst 1, 1) := dk_4 (dk_at dksJ12_append_1 10 rfl rfl)
theorem dJ12_append_35 : decode cJ12_append 35 = .ok (.iadd, 1) := dk_96 (dk_at dksJ12_append_1 11 rfl rfl)
theorem dJ12_append_36 : decode cJ12_append 36 = .ok (.putfield 79, 3) := dk_181 0 79 (dk_at dksJ12_append_1 12 rfl rfl)
theorem dJ12_append_39 : decode cJ12_append 39 = .ok (.iload_n 1, 1) := dk_27 (dk_at dksJ12_append_1 15 rfl rfl)
theorem dJ12_append_40 : decode cJ12_append 40 = .ok (.i2b, 1) := dk_145 (dk_at dksJ12_append_1 16 rfl rfl)
theorem dJ12_append_41 : decode cJ12_append 41 = .ok (.bastore, 1) := dk_84 (dk_at dksJ12_append_1 17 rfl rfl)
theorem dJ12_append_42 : decode cJ12_append 42 = .ok (.goto 33, 3) := dk_167 0 33 (dk_at dksJ12_append_1 18 rfl rfl)
theorem dJ12_append_45 : decode cJ12_append 45 = .ok (.aload_n 0, 1) := dk_42 (dk_at dksJ12_append_1 21 rfl rfl)
theorem dJ12_append_46 : decode cJ12_append 46 = .ok (.invokevirtual 83, 3) := dk_182 0 83 (dk_at dksJ12_append_2 0 rfl rfl)
theorem dJ12_append_49 : decode cJ12_append 49 = .ok (.ifCond .eq 7, 3) := dk_153 0 7 (dk_at dksJ12_append_2 3 rfl rfl)
theorem dJ12_append_52 : decode cJ12_append 52 = .ok (.aload_n 0, 1) := dk_42 (dk_at dksJ12_append_2 6 rfl rfl)
theorem dJ12_append_53 : decode cJ12_append 53 = .ok (.invokevirtual 195, 3) := dk_182 0 195 (dk_at dksJ12_append_2 7 rfl rfl)
theorem dJ12_append_56 : decode cJ12_append 56 = .ok (.aload_n 0, 1) := dk_42 (dk_at dksJ12_append_2 10 rfl rfl)
theorem dJ12_append_57 : decode cJ12_append 57 = .ok (.getfield 15, 3) := dk_180 0 15 (dk_at dksJ12_append_2 11 rfl rfl)
theorem dJ12_append_60 : decode cJ12_append 60 = .ok (.aload_n 0, 1) := dk_42 (dk_at dksJ12_append_2 14 rfl rfl)
theorem dJ12_append_61 : decode cJ12_append 61 = .ok (.dup, 1) := dk_89 (dk_at dksJ12_append_2 15 rfl rfl)
theorem dJ12_append_62 : decode cJ12_append 62 = .ok (.getfield 79, 3) := dk_180 0 79 (dk_at dksJ12_append_2 16 rfl rfl)
theorem dJ12_append_65 : decode cJ12_append 65 = .ok (.dup_x1, 1) := dk_90 (dk_at dksJ12_append_2 19 rfl rfl)
theorem dJ12_append_66 : decode cJ12_append 66 = .ok (.iconst 1, 1) := dk_4 (dk_at dksJ12_append_2 20 rfl rfl)
theorem dJ12_append_67 : decode cJ12_append 67 = .ok (.iadd, 1) := dk_96 (dk_at dksJ12_append_2 21 rfl rfl)
theorem dJ12_append_68 : decode cJ12_append 68 = .ok (.putfield 79, 3) := dk_181 0 79 (dk_at dksJ12_append_3 0 rfl rfl)
theorem dJ12_append_71 : decode cJ12_append 71 = .ok (.iload_n 1, 1) := dk_27 (dk_at dksJ12_append_3 3 rfl rfl)
theorem dJ12_append_72 : decode cJ12_append 72 = .ok (.invokestatic 197, 3) := dk_184 0 197 (dk_at dksJ12_append_3 4 rfl rfl)
theorem dJ12_append_75 : decode cJ12_append 75 = .ok (.aload_n 0, 1) := dk_42 (dk_at dksJ12_append_3 7 rfl rfl)
theorem dJ12_append_76 : decode cJ12_append 76 = .ok (.areturn, 1) := dk_176 (dk_at dksJ12_append_3 8 rfl rfl)
abbrev cJ12_ensureCapacityInternal : ByteArray := prog_21_method_9_code
def yJ12_ensureCapacityInternal : MethodName := ⟨RJ12, "ensureCapacityInternal", "(I)V"⟩
def dkwJ12_ensureCapacityInternal_1 : List UInt8 := [182, 0, 104, 42, 180, 0, 22, 120, 184, 0, 108, 181, 0, 15, 177]
abbrev dktJ12_ensureCapacityInternal_1 : List UInt8 := dkwJ12_ensureCapacityInternal_1 ++ []
def dkwJ12_ensureCapacityInternal_0 : List UInt8 := [42, 180, 0, 15, 190, 42, 180, 0, 22, 122, 61, 27, 28, 100, 158, 0, 24, 42, 42, 180, 0, 15, 42, 27]
abbrev dktJ12_ensureCapacityInternal_0 : List UInt8 := dkwJ12_ensureCapacityInternal_0 ++ dktJ12_ensureCapacityInternal_1
theorem dksJ12_ensureCapacityInternal_0 : cJ12_ensureCapacityInternal.data.toList.drop 0 = dktJ12_ensureCapacityInternal_0 := by decide +kernel
theorem dksJ12_ensureCapacityInternal_1 : cJ12_ensureCapacityInternal.data.toList.drop 24 = dktJ12_ensureCapacityInternal_1 := dk_seg dksJ12_ensureCapacityInternal_0 24 rfl rfl
theorem dJ12_ensureCapacityInternal_0 : decode cJ12_ensureCapacityInternal 0 = .ok (.aload_n 0, 1) := dk_42 (dk_at dksJ12_ensureCapacityInternal_0 0 rfl rfl)
theorem dJ12_ensureCapacityInternal_1 : decode cJ12_ensureCapacityInternal 1 = .ok (.getfield 15, 3) := dk_180 0 15 (dk_at dksJ12_ensureCapacityInternal_0 1 rfl rfl)
theorem dJ12_ensureCapacityInternal_4 : decode cJ12_ensureCapacityInternal 4 = .ok (.arraylength, 1) := dk_190 (dk_at dksJ12_ensureCapacityInternal_0 4 rfl rfl)
theorem dJ12_ensureCapacityInternal_5 : decode cJ12_ensureCapacityInternal 5 = .ok (.aload_n 0, 1) := dk_42 (dk_at dksJ12_ensureCapacityInternal_0 5 rfl rfl)
theorem dJ12_ensureCapacityInternal_6 : decode cJ12_ensureCapacityInternal 6 = .ok (.getfield 22, 3) := dk_180 0 22 (dk_at dksJ12_ensureCapacityInternal_0 6 rfl rfl)
theorem dJ12_ensureCapacityInternal_9 : decode cJ12_ensureCapacityInternal 9 = .ok (.ishr, 1) := dk_122 (dk_at dksJ12_ensureCapacityInternal_0 9 rfl rfl)
theorem dJ12_ensureCapacityInternal_10 : decode cJ12_ensureCapacityInternal 10 = .ok (.istore_n 2, 1) := dk_61 (dk_at dksJ12_ensureCapacityInternal_0 10 rfl rfl)
theorem dJ12_ensureCapacityInternal_11 : decode cJ12_ensureCapacityInternal 11 = .ok (.iload_n 1, 1) := dk_27 (dk_at dksJ12_ensureCapacityInternal_0 11 rfl rfl)
theorem dJ12_ensureCapacityInternal_12 : decode cJ12_ensureCapacityInternal 12 = .ok (.iload_n 2, 1) := dk_28 (dk_at dksJ12_ensureCapacityInternal_0 12 rfl rfl)
theorem dJ12_ensureCapacityInternal_13 : decode cJ12_ensureCapacityInternal 13 = .ok (.isub, 1) := dk_100 (dk_at dksJ12_ensureCapacityInternal_0 13 rfl rfl)
theorem dJ12_ensureCapacityInternal_14 : decode cJ12_ensureCapacityInternal 14 = .ok (.ifCond .le 24, 3) := dk_158 0 24 (dk_at dksJ12_ensureCapacityInternal_0 14 rfl rfl)
theorem dJ12_ensureCapacityInternal_17 : decode cJ12_ensureCapacityInternal 17 = .ok (.aload_n 0, 1) := dk_42 (dk_at dksJ12_ensureCapacityInternal_0 17 rfl rfl)
theorem dJ12_ensureCapacityInternal_18 : decode cJ12_ensureCapacityInternal 18 = .ok (.aload_n 0, 1) := dk_42 (dk_at dksJ12_ensureCapacityInternal_0 18 rfl rfl)
theorem dJ12_ensureCapacityInternal_19 : decode cJ12_ensureCapacityInternal 19 = .ok (.getfield 15, 3) := dk_180 0 15 (dk_at dksJ12_ensureCapacityInternal_0 19 rfl rfl)
theorem dJ12_ensureCapacityInternal_22 : decode cJ12_ensureCapacityInternal 22 = .ok (.aload_n 0, 1) := dk_42 (dk_at dksJ12_ensureCapacityInternal_0 22 rfl rfl)
theorem dJ12_ensureCapacityInternal_23 : decode cJ12_ensureCapacityInternal 23 = .ok (.iload_n 1, 1) := dk_27 (dk_at dksJ12_ensureCapacityInternal_0 23 rfl rfl)
theorem dJ12_ensureCapacityInternal_24 : decode cJ12_ensureCapacityInternal 24 = .ok (.invokevirtual 104, 3) := dk_182 0 104 (dk_at dksJ12_ensureCapacityInternal_1 0 rfl rfl)
theorem dJ12_ensureCapacityInternal_27 : decode cJ12_ensureCapacityInternal 27 = .ok (.aload_n 0, 1) := dk_42 (dk_at dksJ12_ensureCapacityInternal_1 3 rfl rfl)
theorem dJ12_ensureCapacityInternal_28 : decode cJ12_ensureCapacityInternal 28 = .ok (.getfield 22, 3) := dk_180 0 22 (dk_at dksJ12_ensureCapacityInternal_1 4 rfl rfl)
theorem dJ12_ensureCapacityInternal_31 : decode cJ12_ensureCapacityInternal 31 = .ok (.ishl, 1) := dk_120 (dk_at dksJ12_ensureCapacityInternal_1 7 rfl rfl)
theorem dJ12_ensureCapacityInternal_32 : decode cJ12_ensureCapacityInternal 32 = .ok (.invokestatic 108, 3) := dk_184 0 108 (dk_at dksJ12_ensureCapacityInternal_1 8 rfl rfl)
theorem dJ12_ensureCapacityInternal_35 : decode cJ12_ensureCapacityInternal 35 = .ok (.putfield 15, 3) := dk_181 0 15 (dk_at dksJ12_ensureCapacityInternal_1 11 rfl rfl)
theorem dJ12_ensureCapacityInternal_38 : decode cJ12_ensureCapacityInternal 38 = .ok (.return_, 1) := dk_177 (dk_at dksJ12_ensureCapacityInternal_1 14 rfl rfl)
abbrev cJ12_newCapacity : ByteArray := prog_21_method_10_code
def yJ12_newCapacity : MethodName := ⟨RJ12, "newCapacity", "(I)I"⟩
def dkwJ12_newCapacity_2 : List UInt8 := [183, 0, 124, 191, 21, 5, 42, 180, 0, 22, 122, 172]
abbrev dktJ12_newCapacity_2 : List UInt8 := dkwJ12_newCapacity_2 ++ []
def dkwJ12_newCapacity_1 : List UInt8 := [180, 0, 22, 120, 96, 184, 0, 114, 54, 5, 21, 5, 18, 39, 160, 0, 13, 187, 0, 120, 89, 18, 122]
abbrev dktJ12_newCapacity_1 : List UInt8 := dkwJ12_newCapacity_1 ++ dktJ12_newCapacity_2
def dkwJ12_newCapacity_0 : List UInt8 := [42, 180, 0, 15, 190, 61, 27, 42, 180, 0, 22, 120, 62, 29, 28, 100, 54, 4, 28, 21, 4, 28, 5, 42]
abbrev dktJ12_newCapacity_0 : List UInt8 := dkwJ12_newCapacity_0 ++ dktJ12_newCapacity_1
theorem dksJ12_newCapacity_0 : cJ12_newCapacity.data.toList.drop 0 = dktJ12_newCapacity_0 := by decide +kernel
theorem dksJ12_newCapacity_1 : cJ12_newCapacity.data.toList.drop 24 = dktJ12_newCapacity_1 := dk_seg dksJ12_newCapacity_0 24 rfl rfl
theorem dksJ12_newCapacity_2 : cJ12_newCapacity.data.toList.drop 47 = dktJ12_newCapacity_2 := dk_seg dksJ12_newCapacity_1 23 rfl rfl
theorem dJ12_newCapacity_0 : decode cJ12_newCapacity 0 = .ok (.aload_n 0, 1) := dk_42 (dk_at dksJ12_newCapacity_0 0 rfl rfl)
theorem dJ12_newCapacity_1 : decode cJ12_newCapacity 1 = .ok (.getfield 15, 3) := dk_180 0 15 (dk_at dksJ12_newCapacity_0 1 rfl rfl)
theorem dJ12_newCapacity_4 : decode cJ12_newCapacity 4 = .ok (.arraylength, 1) := dk_190 (dk_at dksJ12_newCapacity_0 4 rfl rfl)
theorem dJ12_newCapacity_5 : decode cJ12_newCapacity 5 = .ok (.istore_n 2, 1) := dk_61 (dk_at dksJ12_newCapacity_0 5 rfl rfl)
theorem dJ12_newCapacity_6 : decode cJ12_newCapacity 6 = .ok (.iload_n 1, 1) := dk_27 (dk_at dksJ12_newCapacity_0 6 rfl rfl)
theorem dJ12_newCapacity_7 : decode cJ12_newCapacity 7 = .ok (.aload_n 0, 1) := dk_42 (dk_at dksJ12_newCapacity_0 7 rfl rfl)
theorem dJ12_newCapacity_8 : decode cJ12_newCapacity 8 = .ok (.getfield 22, 3) := dk_180 0 22 (dk_at dksJ12_newCapacity_0 8 rfl rfl)
theorem dJ12_newCapacity_11 : decode cJ12_newCapacity 11 = .ok (.ishl, 1) := dk_120 (dk_at dksJ12_newCapacity_0 11 rfl rfl)
theorem dJ12_newCapacity_12 : decode cJ12_newCapacity 12 = .ok (.istore_n 3, 1) := dk_62 (dk_at dksJ12_newCapacity_0 12 rfl rfl)
theorem dJ12_newCapacity_13 : decode cJ12_newCapacity 13 = .ok (.iload_n 3, 1) := dk_29 (dk_at dksJ12_newCapacity_0 13 rfl rfl)
theorem dJ12_newCapacity_14 : decode cJ12_newCapacity 14 = .ok (.iload_n 2, 1) := dk_28 (dk_at dksJ12_newCapacity_0 14 rfl rfl)
theorem dJ12_newCapacity_15 : decode cJ12_newCapacity 15 = .ok (.isub, 1) := dk_100 (dk_at dksJ12_newCapacity_0 15 rfl rfl)
theorem dJ12_newCapacity_16 : decode cJ12_newCapacity 16 = .ok (.istore 4, 2) := dk_54 4 (dk_at dksJ12_newCapacity_0 16 rfl rfl)
theorem dJ12_newCapacity_18 : decode cJ12_newCapacity 18 = .ok (.iload_n 2, 1) := dk_28 (dk_at dksJ12_newCapacity_0 18 rfl rfl)
theorem dJ12_newCapacity_19 : decode cJ12_newCapacity 19 = .ok (.iload 4, 2) := dk_21 4 (dk_at dksJ12_newCapacity_0 19 rfl rfl)
theorem dJ12_newCapacity_21 : decode cJ12_newCapacity 21 = .ok (.iload_n 2, 1) := dk_28 (dk_at dksJ12_newCapacity_0 21 rfl rfl)
theorem dJ12_newCapacity_22 : decode cJ12_newCapacity 22 = .ok (.iconst 2, 1) := dk_5 (dk_at dksJ12_newCapacity_0 22 rfl rfl)
theorem dJ12_newCapacity_23 : decode cJ12_newCapacity 23 = .ok (.aload_n 0, 1) := dk_42 (dk_at dksJ12_newCapacity_0 23 rfl rfl)
theorem dJ12_newCapacity_24 : decode cJ12_newCapacity 24 = .ok (.getfield 22, 3) := dk_180 0 22 (dk_at dksJ12_newCapacity_1 0 rfl rfl)
theorem dJ12_newCapacity_27 : decode cJ12_newCapacity 27 = .ok (.ishl, 1) := dk_120 (dk_at dksJ12_newCapacity_1 3 rfl rfl)
theorem dJ12_newCapacity_28 : decode cJ12_newCapacity 28 = .ok (.iadd, 1) := dk_96 (dk_at dksJ12_newCapacity_1 4 rfl rfl)
theorem dJ12_newCapacity_29 : decode cJ12_newCapacity 29 = .ok (.invokestatic 114, 3) := dk_184 0 114 (dk_at dksJ12_newCapacity_1 5 rfl rfl)
theorem dJ12_newCapacity_32 : decode cJ12_newCapacity 32 = .ok (.istore 5, 2) := dk_54 5 (dk_at dksJ12_newCapacity_1 8 rfl rfl)
theorem dJ12_newCapacity_34 : decode cJ12_newCapacity 34 = .ok (.iload 5, 2) := dk_21 5 (dk_at dksJ12_newCapacity_1 10 rfl rfl)
theorem dJ12_newCapacity_36 : decode cJ12_newCapacity 36 = .ok (.ldc 39, 2) := dk_18 39 (dk_at dksJ12_newCapacity_1 12 rfl rfl)
theorem dJ12_newCapacity_38 : decode cJ12_newCapacity 38 = .ok (.if_icmp .ne 13, 3) := dk_160 0 13 (dk_at dksJ12_newCapacity_1 14 rfl rfl)
theorem dJ12_newCapacity_41 : decode cJ12_newCapacity 41 = .ok (.new 120, 3) := dk_187 0 120 (dk_at dksJ12_newCapacity_1 17 rfl rfl)
theorem dJ12_newCapacity_44 : decode cJ12_newCapacity 44 = .ok (.dup, 1) := dk_89 (dk_at dksJ12_newCapacity_1 20 rfl rfl)
theorem dJ12_newCapacity_45 : decode cJ12_newCapacity 45 = .ok (.ldc 122, 2) := dk_18 122 (dk_at dksJ12_newCapacity_1 21 rfl rfl)
theorem dJ12_newCapacity_47 : decode cJ12_newCapacity 47 = .ok (.invokespecial 124, 3) := dk_183 0 124 (dk_at dksJ12_newCapacity_2 0 rfl rfl)
theorem dJ12_newCapacity_50 : decode cJ12_newCapacity 50 = .ok (.athrow, 1) := dk_191 (dk_at dksJ12_newCapacity_2 3 rfl rfl)
theorem dJ12_newCapacity_51 : decode cJ12_newCapacity 51 = .ok (.iload 5, 2) := dk_21 5 (dk_at dksJ12_newCapacity_2 4 rfl rfl)
theorem dJ12_newCapacity_53 : decode cJ12_newCapacity 53 = .ok (.aload_n 0, 1) := dk_42 (dk_at dksJ12_newCapacity_2 6 rfl rfl)
theorem dJ12_newCapacity_54 : decode cJ12_newCapacity 54 = .ok (.getfield 22, 3) := dk_180 0 22 (dk_at dksJ12_newCapacity_2 7 rfl rfl)
theorem dJ12_newCapacity_57 : decode cJ12_newCapacity 57 = .ok (.ishr, 1) := dk_122 (dk_at dksJ12_newCapacity_2 10 rfl rfl)
theorem dJ12_newCapacity_58 : decode cJ12_newCapacity 58 = .ok (.ireturn, 1) := dk_172 (dk_at dksJ12_newCapacity_2 11 rfl rfl)
abbrev cJ12_isLatin1 : ByteArray := prog_21_method_68_code
def yJ12_isLatin1 : MethodName := ⟨RJ12, "isLatin1", "()Z"⟩
def dkwJ12_isLatin1_0 : List UInt8 := [178, 0, 18, 153, 0, 14, 42, 180, 0, 22, 154, 0, 7, 4, 167, 0, 4, 3, 172]
abbrev dktJ12_isLatin1_0 : List UInt8 := dkwJ12_isLatin1_0 ++ []
theorem dksJ12_isLatin1_0 : cJ12_isLatin1.data.toList.drop 0 = dktJ12_isLatin1_0 := by decide +kernel
theorem dJ12_isLatin1_0 : decode cJ12_isLatin1 0 = .ok (.getstatic 18, 3) := dk_178 0 18 (dk_at dksJ12_isLatin1_0 0 rfl rfl)
theorem dJ12_isLatin1_3 : decode cJ12_isLatin1 3 = .ok (.ifCond .eq 14, 3) := dk_153 0 14 (dk_at dksJ12_isLatin1_0 3 rfl rfl)
theorem dJ12_isLatin1_6 : decode cJ12_isLatin1 6 = .ok (.aload_n 0, 1) := dk_42 (dk_at dksJ12_isLatin1_0 6 rfl rfl)
theorem dJ12_isLatin1_7 : decode cJ12_isLatin1 7 = .ok (.getfield 22, 3) := dk_180 0 22 (dk_at dksJ12_isLatin1_0 7 rfl rfl)
theorem dJ12_isLatin1_10 : decode cJ12_isLatin1 10 = .ok (.ifCond .ne 7, 3) := dk_154 0 7 (dk_at dksJ12_isLatin1_0 10 rfl rfl)
theorem dJ12_isLatin1_13 : decode cJ12_isLatin1 13 = .ok (.iconst 1, 1) := dk_4 (dk_at dksJ12_isLatin1_0 13 rfl rfl)
theorem dJ12_isLatin1_14 : decode cJ12_isLatin1 14 = .ok (.goto 4, 3) := dk_167 0 4 (dk_at dksJ12_isLatin1_0 14 rfl rfl)
theorem dJ12_isLatin1_17 : decode cJ12_isLatin1 17 = .ok (.iconst 0, 1) := dk_3 (dk_at dksJ12_isLatin1_0 17 rfl rfl)
theorem dJ12_isLatin1_18 : decode cJ12_isLatin1 18 = .ok (.ireturn, 1) := dk_172 (dk_at dksJ12_isLatin1_0 18 rfl rfl)
abbrev cJ12_inflate : ByteArray := prog_21_method_11_code
def yJ12_inflate : MethodName := ⟨RJ12, "inflate", "()V"⟩
def dkwJ12_inflate_1 : List UInt8 := [42, 180, 0, 79, 184, 0, 125, 42, 43, 181, 0, 15, 42, 4, 181, 0, 22, 177]
abbrev dktJ12_inflate_1 : List UInt8 := dkwJ12_inflate_1 ++ []
def dkwJ12_inflate_0 : List UInt8 := [42, 182, 0, 83, 154, 0, 4, 177, 42, 180, 0, 15, 190, 184, 0, 26, 76, 42, 180, 0, 15, 3, 43, 3]
abbrev dktJ12_inflate_0 : List UInt8 := dkwJ12_inflate_0 ++ dktJ12_inflate_1
theorem dksJ12_inflate_0 : cJ12_inflate.data.toList.drop 0 = dktJ12_inflate_0 := by decide +kernel
theorem dksJ12_inflate_1 : cJ12_inflate.data.toList.drop 24 = dktJ12_inflate_1 := dk_seg dksJ12_inflate_0 24 rfl rfl
theorem dJ12_inflate_0 : decode cJ12_inflate 0 = .ok (.aload_n 0, 1) := dk_42 (dk_at dksJ12_inflate_0 0 rfl rfl)
theorem dJ12_inflate_1 : decode cJ12_inflate 1 = .ok (.invokevirtual 83, 3) := dk_182 0 83 (dk_at dksJ12_inflate_0 1 rfl rfl)
theorem dJ12_inflate_4 : decode cJ12_inflate 4 = .ok (.ifCond .ne 4, 3) := dk_154 0 4 (dk_at dksJ12_inflate_0 4 rfl rfl)
theorem dJ12_inflate_7 : decode cJ12_inflate 7 = .ok (.return_, 1) := dk_177 (dk_at dksJ12_inflate_0 7 rfl rfl)
theorem dJ12_inflate_8 : decode cJ12_inflate 8 = .ok (.aload_n 0, 1) := dk_42 (dk_at dksJ12_inflate_0 8 rfl rfl)
theorem dJ12_inflate_9 : decode cJ12_inflate 9 = .ok (.getfield 15, 3) := dk_180 0 15 (dk_at dksJ12_inflate_0 9 rfl rfl)
theorem dJ12_inflate_12 : decode cJ12_inflate 12 = .ok (.arraylength, 1) := dk_190 (dk_at dksJ12_inflate_0 12 rfl rfl)
theorem dJ12_inflate_13 : decode cJ12_inflate 13 = .ok (.invokestatic 26, 3) := dk_184 0 26 (dk_at dksJ12_inflate_0 13 rfl rfl)
theorem dJ12_inflate_16 : decode cJ12_inflate 16 = .ok (.astore_n 1, 1) := dk_76 (dk_at dksJ12_inflate_0 16 rfl rfl)
theorem dJ12_inflate_17 : decode cJ12_inflate 17 = .ok (.aload_n 0, 1) := dk_42 (dk_at dksJ12_inflate_0 17 rfl rfl)
theorem dJ12_inflate_18 : decode cJ12_inflate 18 = .ok (.getfield 15, 3) := dk_180 0 15 (dk_at dksJ12_inflate_0 18 rfl rfl)
theorem dJ12_inflate_21 : decode cJ12_inflate 21 = .ok (.iconst 0, 1) := dk_3 (dk_at dksJ12_inflate_0 21 rfl rfl)
theorem dJ12_inflate_22 : decode cJ12_inflate 22 = .ok (.aload_n 1, 1) := dk_43 (dk_at dksJ12_inflate_0 22 rfl rfl)
theorem dJ12_inflate_23 : decode cJ12_inflate 23 = .ok (.iconst 0, 1) := dk_3 (dk_at dksJ12_inflate_0 23 rfl rfl)
theorem dJ12_inflate_24 : decode cJ12_inflate 24 = .ok (.aload_n 0, 1) := dk_42 (dk_at dksJ12_inflate_1 0 rfl rfl)
theorem dJ12_inflate_25 : decode cJ12_inflate 25 = .ok (.getfield 79, 3) := dk_180 0 79 (dk_at dksJ12_inflate_1 1 rfl rfl)
theorem dJ12_inflate_28 : decode cJ12_inflate 28 = .ok (.invokestatic 125, 3) := dk_184 0 125 (dk_at dksJ12_inflate_1 4 rfl rfl)
theorem dJ12_inflate_31 : decode cJ12_inflate 31 = .ok (.aload_n 0, 1) := dk_42 (dk_at dksJ12_inflate_1 7 rfl rfl)
theorem dJ12_inflate_32 : decode cJ12_inflate 32 = .ok (.aload_n 1, 1) := dk_43 (dk_at dksJ12_inflate_1 8 rfl rfl)
theorem dJ12_inflate_33 : decode cJ12_inflate 33 = .ok (.putfield 15, 3) := dk_181 0 15 (dk_at dksJ12_inflate_1 9 rfl rfl)
theorem dJ12_inflate_36 : decode cJ12_inflate 36 = .ok (.aload_n 0, 1) := dk_42 (dk_at dksJ12_inflate_1 12 rfl rfl)
theorem dJ12_inflate_37 : decode cJ12_inflate 37 = .ok (.iconst 1, 1) := dk_4 (dk_at dksJ12_inflate_1 13 rfl rfl)
theorem dJ12_inflate_38 : decode cJ12_inflate 38 = .ok (.putfield 22, 3) := dk_181 0 22 (dk_at dksJ12_inflate_1 14 rfl rfl)
theorem dJ12_inflate_41 : decode cJ12_inflate 41 = .ok (.return_, 1) := dk_177 (dk_at dksJ12_inflate_1 17 rfl rfl)
abbrev cJ12_getValue : ByteArray := prog_21_method_64_code
def yJ12_getValue : MethodName := ⟨RJ12, "getValue", "()[B"⟩
theorem dJ12_getValue_0 : decode cJ12_getValue 0 = .ok (.aload_n 0, 1) := by decide +kernel
theorem dJ12_getValue_1 : decode cJ12_getValue 1 = .ok (.getfield 15, 3) := by decide +kernel
theorem dJ12_getValue_4 : decode cJ12_getValue 4 = .ok (.areturn, 1) := by decide +kernel
abbrev cJ12_append_2 : ByteArray := prog_21_method_32_code
def yJ12_append_2 : MethodName := ⟨RJ12, "append", "(I)Ljava/lang/AbstractStringBuilder;"⟩
def dkwJ12_append_2_2 : List UInt8 := [42, 29, 181, 0, 79, 42, 176]
abbrev dktJ12_append_2_2 : List UInt8 := dkwJ12_append_2_2 ++ []
def dkwJ12_append_2_1 : List UInt8 := [27, 29, 42, 180, 0, 15, 184, 0, 248, 87, 167, 0, 14, 27, 28, 29, 42, 180, 0, 15, 184, 0, 251, 87]
abbrev dktJ12_append_2_1 : List UInt8 := dkwJ12_append_2_1 ++ dktJ12_append_2_2
def dkwJ12_append_2_0 : List UInt8 := [42, 180, 0, 79, 61, 28, 27, 184, 0, 245, 96, 62, 42, 29, 182, 0, 100, 42, 182, 0, 83, 153, 0, 16]
abbrev dktJ12_append_2_0 : List UInt8 := dkwJ12_append_2_0 ++ dktJ12_append_2_1
theorem dksJ12_append_2_0 : cJ12_append_2.data.toList.drop 0 = dktJ12_append_2_0 := by decide +kernel
theorem dksJ12_append_2_1 : cJ12_append_2.data.toList.drop 24 = dktJ12_append_2_1 := dk_seg dksJ12_append_2_0 24 rfl rfl
theorem dksJ12_append_2_2 : cJ12_append_2.data.toList.drop 48 = dktJ12_append_2_2 := dk_seg dksJ12_append_2_1 24 rfl rfl
theorem dJ12_append_2_0 : decode cJ12_append_2 0 = .ok (.aload_n 0, 1) := dk_42 (dk_at dksJ12_append_2_0 0 rfl rfl)
theorem dJ12_append_2_1 : decode cJ12_append_2 1 = .ok (.getfield 79, 3) := dk_180 0 79 (dk_at dksJ12_append_2_0 1 rfl rfl)
theorem dJ12_append_2_4 : decode cJ12_append_2 4 = .ok (.istore_n 2, 1) := dk_61 (dk_at dksJ12_append_2_0 4 rfl rfl)
theorem dJ12_append_2_5 : decode cJ12_append_2 5 = .ok (.iload_n 2, 1) := dk_28 (dk_at dksJ12_append_2_0 5 rfl rfl)
theorem dJ12_append_2_6 : decode cJ12_append_2 6 = .ok (.iload_n 1, 1) := dk_27 (dk_at dksJ12_append_2_0 6 rfl rfl)
theorem dJ12_append_2_7 : decode cJ12_append_2 7 = .ok (.invokestatic 245, 3) := dk_184 0 245 (dk_at dksJ12_append_2_0 7 rfl rfl)
theorem dJ12_append_2_10 : decode cJ12_append_2 10 = .ok (.iadd, 1) := dk_96 (dk_at dksJ12_append_2_0 10 rfl rfl)
theorem dJ12_append_2_11 : decode cJ12_append_2 11 = .ok (.istore_n 3, 1) := dk_62 (dk_at dksJ12_append_2_0 11 rfl rfl)
theorem dJ12_append_2_12 : decode cJ12_append_2 12 = .ok (.aload_n 0, 1) := dk_42 (dk_at dksJ12_append_2_0 12 rfl rfl)
theorem dJ12_append_2_13 : decode cJ12_append_2 13 = .ok (.iload_n 3, 1) := dk_29 (dk_at dksJ12_append_2_0 13 rfl rfl)
theorem dJ12_append_2_14 : decode cJ12_append_2 14 = .ok (.invokevirtual 100, 3) := dk_182 0 100 (dk_at dksJ12_append_2_0 14 rfl rfl)
theorem dJ12_append_2_17 : decode cJ12_append_2 17 = .ok (.aload_n 0, 1) := dk_42 (dk_at dksJ12_append_2_0 17 rfl rfl)
theorem dJ12_append_2_18 : decode cJ12_append_2 18 = .ok (.invokevirtual 83, 3) := dk_182 0 83 (dk_at dksJ12_append_2_0 18 rfl rfl)
theorem dJ12_append_2_21 : decode cJ12_append_2 21 = .ok (.ifCond .eq 16, 3) := dk_153 0 16 (dk_at dksJ12_append_2_0 21 rfl rfl)
theorem dJ12_append_2_24 : decode cJ12_append_2 24 = .ok (.iload_n 1, 1) := dk_27 (dk_at dksJ12_append_2_1 0 rfl rfl)
theorem dJ12_append_2_25 : decode cJ12_append_2 25 = .ok (.iload_n 3, 1) := dk_29 (dk_at dksJ12_append_2_1 1 rfl rfl)
theorem dJ12_append_2_26 : decode cJ12_append_2 26 = .ok (.aload_n 0, 1) := dk_42 (dk_at dksJ12_append_2_1 2 rfl rfl)
theorem dJ12_append_2_27 : decode cJ12_append_2 27 = .ok (.getfield 15, 3) := dk_180 0 15 (dk_at dksJ12_append_2_1 3 rfl rfl)
theorem dJ12_append_2_30 : decode cJ12_append_2 30 = .ok (.invokestatic 248, 3) := dk_184 0 248 (dk_at dksJ12_append_2_1 6 rfl rfl)
theorem dJ12_append_2_33 : decode cJ12_append_2 33 = .ok (.pop, 1) := dk_87 (dk_at dksJ12_append_2_1 9 rfl rfl)
theorem dJ12_append_2_34 : decode cJ12_append_2 34 = .ok (.goto 14, 3) := dk_167 0 14 (dk_at dksJ12_append_2_1 10 rfl rfl)
theorem dJ12_append_2_37 : decode cJ12_append_2 37 = .ok (.iload_n 1, 1) := dk_27 (dk_at dksJ12_append_2_1 13 rfl rfl)
theorem dJ12_append_2_38 : decode cJ12_append_2 38 = .ok (.iload_n 2, 1) := dk_28 (dk_at dksJ12_append_2_1 14 rfl rfl)
theorem dJ12_append_2_39 : decode cJ12_append_2 39 = .ok (.iload_n 3, 1) := dk_29 (dk_at dksJ12_append_2_1 15 rfl rfl)
theorem dJ12_append_2_40 : decode cJ12_append_2 40 = .ok (.aload_n 0, 1) := dk_42 (dk_at dksJ12_append_2_1 16 rfl rfl)
theorem dJ12_append_2_41 : decode cJ12_append_2 41 = .ok (.getfield 15, 3) := dk_180 0 15 (dk_at dksJ12_append_2_1 17 rfl rfl)
theorem dJ12_append_2_44 : decode cJ12_append_2 44 = .ok (.invokestatic 251, 3) := dk_184 0 251 (dk_at dksJ12_append_2_1 20 rfl rfl)
theorem dJ12_append_2_47 : decode cJ12_append_2 47 = .ok (.pop, 1) := dk_87 (dk_at dksJ12_append_2_1 23 rfl rfl)
theorem dJ12_append_2_48 : decode cJ12_append_2 48 = .ok (.aload_n 0, 1) := dk_42 (dk_at dksJ12_append_2_2 0 rfl rfl)
theorem dJ12_append_2_49 : decode cJ12_append_2 49 = .ok (.iload_n 3, 1) := dk_29 (dk_at dksJ12_append_2_2 1 rfl rfl)
theorem dJ12_append_2_50 : decode cJ12_append_2 50 = .ok (.putfield 79, 3) := dk_181 0 79 (dk_at dksJ12_append_2_2 2 rfl rfl)
theorem dJ12_append_2_53 : decode cJ12_append_2 53 = .ok (.aload_n 0, 1) := dk_42 (dk_at dksJ12_append_2_2 5 rfl rfl)
theorem dJ12_append_2_54 : decode cJ12_append_2 54 = .ok (.areturn, 1) := dk_176 (dk_at dksJ12_append_2_2 6 rfl rfl)
abbrev cJ12_append_3 : ByteArray := prog_21_method_22_code
def yJ12_append_3 : MethodName := ⟨RJ12, "append", "(Ljava/lang/String;)Ljava/lang/AbstractStringBuilder;"⟩
def dkwJ12_append_3_1 : List UInt8 := [42, 42, 180, 0, 79, 43, 182, 0, 208, 42, 89, 180, 0, 79, 28, 96, 181, 0, 79, 42, 176]
abbrev dktJ12_append_3_1 : List UInt8 := dkwJ12_append_3_1 ++ []
def dkwJ12_append_3_0 : List UInt8 := [43, 199, 0, 8, 42, 182, 0, 204, 176, 43, 182, 0, 32, 61, 42, 42, 180, 0, 79, 28, 96, 182, 0, 100]
abbrev dktJ12_append_3_0 : List UInt8 := dkwJ12_append_3_0 ++ dktJ12_append_3_1
theorem dksJ12_append_3_0 : cJ12_append_3.data.toList.drop 0 = dktJ12_append_3_0 := by decide +kernel
theorem dksJ12_append_3_1 : cJ12_append_3.data.toList.drop 24 = dktJ12_append_3_1 := dk_seg dksJ12_append_3_0 24 rfl rfl
theorem dJ12_append_3_0 : decode cJ12_append_3 0 = .ok (.aload_n 1, 1) := dk_43 (dk_at dksJ12_append_3_0 0 rfl rfl)
theorem dJ12_append_3_1 : decode cJ12_append_3 1 = .ok (.ifnonnull 8, 3) := dk_199 0 8 (dk_at dksJ12_append_3_0 1 rfl rfl)
theorem dJ12_append_3_4 : decode cJ12_append_3 4 = .ok (.aload_n 0, 1) := dk_42 (dk_at dksJ12_append_3_0 4 rfl rfl)
theorem dJ12_append_3_5 : decode cJ12_append_3 5 = .ok (.invokevirtual 204, 3) := dk_182 0 204 (dk_at dksJ12_append_3_0 5 rfl rfl)
theorem dJ12_append_3_8 : decode cJ12_append_3 8 = .ok (.areturn, 1) := dk_176 (dk_at dksJ12_append_3_0 8 rfl rfl)
theorem dJ12_append_3_9 : decode cJ12_append_3 9 = .ok (.aload_n 1, 1) := dk_43 (dk_at dksJ12_append_3_0 9 rfl rfl)
theorem dJ12_append_3_10 : decode cJ12_append_3 10 = .ok (.invokevirtual 32, 3) := dk_182 0 32 (dk_at dksJ12_append_3_0 10 rfl rfl)
theorem dJ12_append_3_13 : decode cJ12_append_3 13 = .ok (.istore_n 2, 1) := dk_61 (dk_at dksJ12_append_3_0 13 rfl rfl)
theorem dJ12_append_3_14 : decode cJ12_append_3 14 = .ok (.aload_n 0, 1) := dk_42 (dk_at dksJ12_append_3_0 14 rfl rfl)
theorem dJ12_append_3_15 : decode cJ12_append_3 15 = .ok (.aload_n 0, 1) := dk_42 (dk_at dksJ12_append_3_0 15 rfl rfl)
theorem dJ12_append_3_16 : decode cJ12_append_3 16 = .ok (.getfield 79, 3) := dk_180 0 79 (dk_at dksJ12_append_3_0 16 rfl rfl)
theorem dJ12_append_3_19 : decode cJ12_append_3 19 = .ok (.iload_n 2, 1) := dk_28 (dk_at dksJ12_append_3_0 19 rfl rfl)
theorem dJ12_append_3_20 : decode cJ12_append_3 20 = .ok (.iadd, 1) := dk_96 (dk_at dksJ12_append_3_0 20 rfl rfl)
theorem dJ12_append_3_21 : decode cJ12_append_3 21 = .ok (.invokevirtual 100, 3) := dk_182 0 100 (dk_at dksJ12_append_3_0 21 rfl rfl)
theorem dJ12_append_3_24 : decode cJ12_append_3 24 = .ok (.aload_n 0, 1) := dk_42 (dk_at dksJ12_append_3_1 0 rfl rfl)
theorem dJ12_append_3_25 : decode cJ12_append_3 25 = .ok (.aload_n 0, 1) := dk_42 (dk_at dksJ12_append_3_1 1 rfl rfl)
theorem dJ12_append_3_26 : decode cJ12_append_3 26 = .ok (.getfield 79, 3) := dk_180 0 79 (dk_at dksJ12_append_3_1 2 rfl rfl)
theorem dJ12_append_3_29 : decode cJ12_append_3 29 = .ok (.aload_n 1, 1) := dk_43 (dk_at dksJ12_append_3_1 5 rfl rfl)
theorem dJ12_append_3_30 : decode cJ12_append_3 30 = .ok (.invokevirtual 208, 3) := dk_182 0 208 (dk_at dksJ12_append_3_1 6 rfl rfl)
theorem dJ12_append_3_33 : decode cJ12_append_3 33 = .ok (.aload_n 0, 1) := dk_42 (dk_at dksJ12_append_3_1 9 rfl rfl)
theorem dJ12_append_3_34 : decode cJ12_append_3 34 = .ok (.dup, 1) := dk_89 (dk_at dksJ12_append_3_1 10 rfl rfl)
theorem dJ12_append_3_35 : decode cJ12_append_3 35 = .ok (.getfield 79, 3) := dk_180 0 79 (dk_at dksJ12_append_3_1 11 rfl rfl)
theorem dJ12_append_3_38 : decode cJ12_append_3 38 = .ok (.iload_n 2, 1) := dk_28 (dk_at dksJ12_append_3_1 14 rfl rfl)
theorem dJ12_append_3_39 : decode cJ12_append_3 39 = .ok (.iadd, 1) := dk_96 (dk_at dksJ12_append_3_1 15 rfl rfl)
theorem dJ12_append_3_40 : decode cJ12_append_3 40 = .ok (.putfield 79, 3) := dk_181 0 79 (dk_at dksJ12_append_3_1 16 rfl rfl)
theorem dJ12_append_3_43 : decode cJ12_append_3 43 = .ok (.aload_n 0, 1) := dk_42 (dk_at dksJ12_append_3_1 19 rfl rfl)
theorem dJ12_append_3_44 : decode cJ12_append_3 44 = .ok (.areturn, 1) := dk_176 (dk_at dksJ12_append_3_1 20 rfl rfl)
abbrev cJ12_appendNull : ByteArray := prog_21_method_26_code
def yJ12_appendNull : MethodName := ⟨RJ12, "appendNull", "()Ljava/lang/AbstractStringBuilder;"⟩
def dkwJ12_appendNull_3 : List UInt8 := [184, 0, 226, 60, 42, 27, 181, 0, 79, 42, 176]
abbrev dktJ12_appendNull_3 : List UInt8 := dkwJ12_appendNull_3 ++ []
def dkwJ12_appendNull_2 : List UInt8 := [16, 108, 84, 44, 27, 132, 1, 1, 16, 108, 84, 167, 0, 17, 44, 27, 16, 110, 16, 117, 16, 108, 16, 108]
abbrev dktJ12_appendNull_2 : List UInt8 := dkwJ12_appendNull_2 ++ dktJ12_appendNull_3
def dkwJ12_appendNull_1 : List UInt8 := [153, 0, 38, 44, 27, 132, 1, 1, 16, 110, 84, 44, 27, 132, 1, 1, 16, 117, 84, 44, 27, 132, 1, 1]
abbrev dktJ12_appendNull_1 : List UInt8 := dkwJ12_appendNull_1 ++ dktJ12_appendNull_2
def dkwJ12_appendNull_0 : List UInt8 := [42, 42, 180, 0, 79, 7, 96, 182, 0, 100, 42, 180, 0, 79, 60, 42, 180, 0, 15, 77, 42, 182, 0, 83]
abbrev dktJ12_appendNull_0 : List UInt8 := dkwJ12_appendNull_0 ++ dktJ12_appendNull_1
theorem dksJ12_appendNull_0 : cJ12_appendNull.data.toList.drop 0 = dktJ12_appendNull_0 := by decide +kernel
theorem dksJ12_appendNull_1 : cJ12_appendNull.data.toList.drop 24 = dktJ12_appendNull_1 := dk_seg dksJ12_appendNull_0 24 rfl rfl
theorem dksJ12_appendNull_2 : cJ12_appendNull.data.toList.drop 48 = dktJ12_appendNull_2 := dk_seg dksJ12_appendNull_1 24 rfl rfl
theorem dksJ12_appendNull_3 : cJ12_appendNull.data.toList.drop 72 = dktJ12_appendNull_3 := dk_seg dksJ12_appendNull_2 24 rfl rfl
theorem dJ12_appendNull_0 : decode cJ12_appendNull 0 = .ok (.aload_n 0, 1) := dk_42 (dk_at dksJ12_appendNull_0 0 rfl rfl)
theorem dJ12_appendNull_1 : decode cJ12_appendNull 1 = .ok (.aload_n 0, 1) := dk_42 (dk_at dksJ12_appendNull_0 1 rfl rfl)
theorem dJ12_appendNull_2 : decode cJ12_appendNull 2 = .ok (.getfield 79, 3) := dk_180 0 79 (dk_at dksJ12_appendNull_0 2 rfl rfl)
theorem dJ12_appendNull_5 : decode cJ12_appendNull 5 = .ok (.iconst 4, 1) := dk_7 (dk_at dksJ12_appendNull_0 5 rfl rfl)
theorem dJ12_appendNull_6 : decode cJ12_appendNull 6 = .ok (.iadd, 1) := dk_96 (dk_at dksJ12_appendNull_0 6 rfl rfl)
theorem dJ12_appendNull_7 : decode cJ12_appendNull 7 = .ok (.invokevirtual 100, 3) := dk_182 0 100 (dk_at dksJ12_appendNull_0 7 rfl rfl)
theorem dJ12_appendNull_10 : decode cJ12_appendNull 10 = .ok (.aload_n 0, 1) := dk_42 (dk_at dksJ12_appendNull_0 10 rfl rfl)
theorem dJ12_appendNull_11 : decode cJ12_appendNull 11 = .ok (.getfield 79, 3) := dk_180 0 79 (dk_at dksJ12_appendNull_0 11 rfl rfl)
theorem dJ12_appendNull_14 : decode cJ12_appendNull 14 = .ok (.istore_n 1, 1) := dk_60 (dk_at dksJ12_appendNull_0 14 rfl rfl)
theorem dJ12_appendNull_15 : decode cJ12_appendNull 15 = .ok (.aload_n 0, 1) := dk_42 (dk_at dksJ12_appendNull_0 15 rfl rfl)
theorem dJ12_appendNull_16 : decode cJ12_appendNull 16 = .ok (.getfield 15, 3) := dk_180 0 15 (dk_at dksJ12_appendNull_0 16 rfl rfl)
theorem dJ12_appendNull_19 : decode cJ12_appendNull 19 = .ok (.astore_n 2, 1) := dk_77 (dk_at dksJ12_appendNull_0 19 rfl rfl)
theorem dJ12_appendNull_20 : decode cJ12_appendNull 20 = .ok (.aload_n 0, 1) := dk_42 (dk_at dksJ12_appendNull_0 20 rfl rfl)
theorem dJ12_appendNull_21 : decode cJ12_appendNull 21 = .ok (.invokevirtual 83, 3) := dk_182 0 83 (dk_at dksJ12_appendNull_0 21 rfl rfl)
theorem dJ12_appendNull_24 : decode cJ12_appendNull 24 = .ok (.ifCond .eq 38, 3) := dk_153 0 38 (dk_at dksJ12_appendNull_1 0 rfl rfl)
theorem dJ12_appendNull_27 : decode cJ12_appendNull 27 = .ok (.aload_n 2, 1) := dk_44 (dk_at dksJ12_appendNull_1 3 rfl rfl)
theorem dJ12_appendNull_28 : decode cJ12_appendNull 28 = .ok (.iload_n 1, 1) := dk_27 (dk_at dksJ12_appendNull_1 4 rfl rfl)
theorem dJ12_appendNull_29 : decode cJ12_appendNull 29 = .ok (.iinc 1 1, 3) := dk_132 1 1 (dk_at dksJ12_appendNull_1 5 rfl rfl)
theorem dJ12_appendNull_32 : decode cJ12_appendNull 32 = .ok (.bipush 110, 2) := dk_16 110 (dk_at dksJ12_appendNull_1 8 rfl rfl)
theorem dJ12_appendNull_34 : decode cJ12_appendNull 34 = .ok (.bastore, 1) := dk_84 (dk_at dksJ12_appendNull_1 10 rfl rfl)
theorem dJ12_appendNull_35 : decode cJ12_appendNull 35 = .ok (.aload_n 2, 1) := dk_44 (dk_at dksJ12_appendNull_1 11 rfl rfl)
theorem dJ12_appendNull_36 : decode cJ12_appendNull 36 = .ok (.iload_n 1, 1) := dk_27 (dk_at dksJ12_appendNull_1 12 rfl rfl)
theorem dJ12_appendNull_37 : decode cJ12_appendNull 37 = .ok (.iinc 1 1, 3) := dk_132 1 1 (dk_at dksJ12_appendNull_1 13 rfl rfl)
theorem dJ12_appendNull_40 : decode cJ12_appendNull 40 = .ok (.bipush 117, 2) := dk_16 117 (dk_at dksJ12_appendNull_1 16 rfl rfl)
theorem dJ12_appendNull_42 : decode cJ12_appendNull 42 = .ok (.bastore, 1) := dk_84 (dk_at dksJ12_appendNull_1 18 rfl rfl)
theorem dJ12_appendNull_43 : decode cJ12_appendNull 43 = .ok (.aload_n 2, 1) := dk_44 (dk_at dksJ12_appendNull_1 19 rfl rfl)
theorem dJ12_appendNull_44 : decode cJ12_appendNull 44 = .ok (.iload_n 1, 1) := dk_27 (dk_at dksJ12_appendNull_1 20 rfl rfl)
theorem dJ12_appendNull_45 : decode cJ12_appendNull 45 = .ok (.iinc 1 1, 3) := dk_132 1 1 (dk_at dksJ12_appendNull_1 21 rfl rfl)
theorem dJ12_appendNull_48 : decode cJ12_appendNull 48 = .ok (.bipush 108, 2) := dk_16 108 (dk_at dksJ12_appendNull_2 0 rfl rfl)
theorem dJ12_appendNull_50 : decode cJ12_appendNull 50 = .ok (.bastore, 1) := dk_84 (dk_at dksJ12_appendNull_2 2 rfl rfl)
theorem dJ12_appendNull_51 : decode cJ12_appendNull 51 = .ok (.aload_n 2, 1) := dk_44 (dk_at dksJ12_appendNull_2 3 rfl rfl)
theorem dJ12_appendNull_52 : decode cJ12_appendNull 52 = .ok (.iload_n 1, 1) := dk_27 (dk_at dksJ12_appendNull_2 4 rfl rfl)
theorem dJ12_appendNull_53 : decode cJ12_appendNull 53 = .ok (.iinc 1 1, 3) := dk_132 1 1 (dk_at dksJ12_appendNull_2 5 rfl rfl)
theorem dJ12_appendNull_56 : decode cJ12_appendNull 56 = .ok (.bipush 108, 2) := dk_16 108 (dk_at dksJ12_appendNull_2 8 rfl rfl)
theorem dJ12_appendNull_58 : decode cJ12_appendNull 58 = .ok (.bastore, 1) := dk_84 (dk_at dksJ12_appendNull_2 10 rfl rfl)
theorem dJ12_appendNull_59 : decode cJ12_appendNull 59 = .ok (.goto 17, 3) := dk_167 0 17 (dk_at dksJ12_appendNull_2 11 rfl rfl)
theorem dJ12_appendNull_62 : decode cJ12_appendNull 62 = .ok (.aload_n 2, 1) := dk_44 (dk_at dksJ12_appendNull_2 14 rfl rfl)
theorem dJ12_appendNull_63 : decode cJ12_appendNull 63 = .ok (.iload_n 1, 1) := dk_27 (dk_at dksJ12_appendNull_2 15 rfl rfl)
theorem dJ12_appendNull_64 : decode cJ12_appendNull 64 = .ok (.bipush 110, 2) := dk_16 110 (dk_at dksJ12_appendNull_2 16 rfl rfl)
theorem dJ12_appendNull_66 : decode cJ12_appendNull 66 = .ok (.bipush 117, 2) := dk_16 117 (dk_at dksJ12_appendNull_2 18 rfl rfl)
theorem dJ12_appendNull_68 : decode cJ12_appendNull 68 = .ok (.bipush 108, 2) := dk_16 108 (dk_at dksJ12_appendNull_2 20 rfl rfl)
theorem dJ12_appendNull_70 : decode cJ12_appendNull 70 = .ok (.bipush 108, 2) := dk_16 108 (dk_at dksJ12_appendNull_2 22 rfl rfl)
theorem dJ12_appendNull_72 : decode cJ12_appendNull 72 = .ok (.invokestatic 226, 3) := dk_184 0 226 (dk_at dksJ12_appendNull_3 0 rfl rfl)
theorem dJ12_appendNull_75 : decode cJ12_appendNull 75 = .ok (.istore_n 1, 1) := dk_60 (dk_at dksJ12_appendNull_3 3 rfl rfl)
theorem dJ12_appendNull_76 : decode cJ12_appendNull 76 = .ok (.aload_n 0, 1) := dk_42 (dk_at dksJ12_appendNull_3 4 rfl rfl)
theorem dJ12_appendNull_77 : decode cJ12_appendNull 77 = .ok (.iload_n 1, 1) := dk_27 (dk_at dksJ12_appendNull_3 5 rfl rfl)
theorem dJ12_appendNull_78 : decode cJ12_appendNull 78 = .ok (.putfield 79, 3) := dk_181 0 79 (dk_at dksJ12_appendNull_3 6 rfl rfl)
theorem dJ12_appendNull_81 : decode cJ12_appendNull 81 = .ok (.aload_n 0, 1) := dk_42 (dk_at dksJ12_appendNull_3 9 rfl rfl)
theorem dJ12_appendNull_82 : decode cJ12_appendNull 82 = .ok (.areturn, 1) := dk_176 (dk_at dksJ12_appendNull_3 10 rfl rfl)
abbrev cJ12_putStringAt : ByteArray := prog_21_method_73_code
def yJ12_putStringAt : MethodName := ⟨RJ12, "putStringAt", "(ILjava/lang/String;)V"⟩
def dkwJ12_putStringAt_0 : List UInt8 := [42, 44, 182, 1, 141, 44, 42, 180, 0, 15, 27, 42, 180, 0, 22, 182, 1, 143, 177]
abbrev dktJ12_putStringAt_0 : List UInt8 := dkwJ12_putStringAt_0 ++ []
theorem dksJ12_putStringAt_0 : cJ12_putStringAt.data.toList.drop 0 = dktJ12_putStringAt_0 := by decide +kernel
theorem dJ12_putStringAt_0 : decode cJ12_putStringAt 0 = .ok (.aload_n 0, 1) := dk_42 (dk_at dksJ12_putStringAt_0 0 rfl rfl)
theorem dJ12_putStringAt_1 : decode cJ12_putStringAt 1 = .ok (.aload_n 2, 1) := dk_44 (dk_at dksJ12_putStringAt_0 1 rfl rfl)
theorem dJ12_putStringAt_2 : decode cJ12_putStringAt 2 = .ok (.invokevirtual 397, 3) := dk_182 1 141 (dk_at dksJ12_putStringAt_0 2 rfl rfl)
theorem dJ12_putStringAt_5 : decode cJ12_putStringAt 5 = .ok (.aload_n 2, 1) := dk_44 (dk_at dksJ12_putStringAt_0 5 rfl rfl)
theorem dJ12_putStringAt_6 : decode cJ12_putStringAt 6 = .ok (.aload_n 0, 1) := dk_42 (dk_at dksJ12_putStringAt_0 6 rfl rfl)
theorem dJ12_putStringAt_7 : decode cJ12_putStringAt 7 = .ok (.getfield 15, 3) := dk_180 0 15 (dk_at dksJ12_putStringAt_0 7 rfl rfl)
theorem dJ12_putStringAt_10 : decode cJ12_putStringAt 10 = .ok (.iload_n 1, 1) := dk_27 (dk_at dksJ12_putStringAt_0 10 rfl rfl)
theorem dJ12_putStringAt_11 : decode cJ12_putStringAt 11 = .ok (.aload_n 0, 1) := dk_42 (dk_at dksJ12_putStringAt_0 11 rfl rfl)
theorem dJ12_putStringAt_12 : decode cJ12_putStringAt 12 = .ok (.getfield 22, 3) := dk_180 0 22 (dk_at dksJ12_putStringAt_0 12 rfl rfl)
theorem dJ12_putStringAt_15 : decode cJ12_putStringAt 15 = .ok (.invokevirtual 399, 3) := dk_182 1 143 (dk_at dksJ12_putStringAt_0 15 rfl rfl)
theorem dJ12_putStringAt_18 : decode cJ12_putStringAt 18 = .ok (.return_, 1) := dk_177 (dk_at dksJ12_putStringAt_0 18 rfl rfl)
abbrev cJ12_inflateIfNeededFor : ByteArray := prog_21_method_71_code
def yJ12_inflateIfNeededFor : MethodName := ⟨RJ12, "inflateIfNeededFor", "(Ljava/lang/String;)V"⟩
def dkwJ12_inflateIfNeededFor_0 : List UInt8 := [178, 0, 18, 153, 0, 18, 42, 180, 0, 22, 43, 182, 0, 40, 159, 0, 7, 42, 182, 0, 195, 177]
abbrev dktJ12_inflateIfNeededFor_0 : List UInt8 := dkwJ12_inflateIfNeededFor_0 ++ []
theorem dksJ12_inflateIfNeededFor_0 : cJ12_inflateIfNeededFor.data.toList.drop 0 = dktJ12_inflateIfNeededFor_0 := by decide +kernel
theorem dJ12_inflateIfNeededFor_0 : decode cJ12_inflateIfNeededFor 0 = .ok (.getstatic 18, 3) := dk_178 0 18 (dk_at dksJ12_inflateIfNeededFor_0 0 rfl rfl)
theorem dJ12_inflateIfNeededFor_3 : decode cJ12_inflateIfNeededFor 3 = .ok (.ifCond .eq 18, 3) := dk_153 0 18 (dk_at dksJ12_inflateIfNeededFor_0 3 rfl rfl)
theorem dJ12_inflateIfNeededFor_6 : decode cJ12_inflateIfNeededFor 6 = .ok (.aload_n 0, 1) := dk_42 (dk_at dksJ12_inflateIfNeededFor_0 6 rfl rfl)
theorem dJ12_inflateIfNeededFor_7 : decode cJ12_inflateIfNeededFor 7 = .ok (.getfield 22, 3) := dk_180 0 22 (dk_at dksJ12_inflateIfNeededFor_0 7 rfl rfl)
theorem dJ12_inflateIfNeededFor_10 : decode cJ12_inflateIfNeededFor 10 = .ok (.aload_n 1, 1) := dk_43 (dk_at dksJ12_inflateIfNeededFor_0 10 rfl rfl)
theorem dJ12_inflateIfNeededFor_11 : decode cJ12_inflateIfNeededFor 11 = .ok (.invokevirtual 40, 3) := dk_182 0 40 (dk_at dksJ12_inflateIfNeededFor_0 11 rfl rfl)
theorem dJ12_inflateIfNeededFor_14 : decode cJ12_inflateIfNeededFor 14 = .ok (.if_icmp .eq 7, 3) := dk_159 0 7 (dk_at dksJ12_inflateIfNeededFor_0 14 rfl rfl)
theorem dJ12_inflateIfNeededFor_17 : decode cJ12_inflateIfNeededFor 17 = .ok (.aload_n 0, 1) := dk_42 (dk_at dksJ12_inflateIfNeededFor_0 17 rfl rfl)
theorem dJ12_inflateIfNeededFor_18 : decode cJ12_inflateIfNeededFor 18 = .ok (.invokevirtual 195, 3) := dk_182 0 195 (dk_at dksJ12_inflateIfNeededFor_0 18 rfl rfl)
theorem dJ12_inflateIfNeededFor_21 : decode cJ12_inflateIfNeededFor 21 = .ok (.return_, 1) := dk_177 (dk_at dksJ12_inflateIfNeededFor_0 21 rfl rfl)
abbrev cJ12_compareTo : ByteArray := prog_21_method_5_code
def yJ12_compareTo : MethodName := ⟨RJ12, "compareTo", "(Ljava/lang/AbstractStringBuilder;)I"⟩
def dkwJ12_compareTo_4 : List UInt8 := [184, 0, 97, 172]
abbrev dktJ12_compareTo_4 : List UInt8 := dkwJ12_compareTo_4 ++ []
def dkwJ12_compareTo_3 : List UInt8 := [182, 0, 83, 153, 0, 15, 44, 45, 21, 4, 21, 5, 184, 0, 94, 167, 0, 12, 44, 45, 21, 4, 21, 5]
abbrev dktJ12_compareTo_3 : List UInt8 := dkwJ12_compareTo_3 ++ dktJ12_compareTo_4
def dkwJ12_compareTo_2 : List UInt8 := [45, 21, 4, 21, 5, 184, 0, 87, 167, 0, 12, 44, 45, 21, 4, 21, 5, 184, 0, 93, 172, 42]
abbrev dktJ12_compareTo_2 : List UInt8 := dkwJ12_compareTo_2 ++ dktJ12_compareTo_3
def dkwJ12_compareTo_1 : List UInt8 := [180, 0, 79, 54, 5, 42, 180, 0, 22, 43, 180, 0, 22, 160, 0, 32, 42, 182, 0, 83, 153, 0, 15, 44]
abbrev dktJ12_compareTo_1 : List UInt8 := dkwJ12_compareTo_1 ++ dktJ12_compareTo_2
def dkwJ12_compareTo_0 : List UInt8 := [42, 43, 166, 0, 5, 3, 172, 42, 180, 0, 15, 77, 43, 180, 0, 15, 78, 42, 180, 0, 79, 54, 4, 43]
abbrev dktJ12_compareTo_0 : List UInt8 := dkwJ12_compareTo_0 ++ dktJ12_compareTo_1
theorem dksJ12_compareTo_0 : cJ12_compareTo.data.toList.drop 0 = dktJ12_compareTo_0 := by decide +kernel
theorem dksJ12_compareTo_1 : cJ12_compareTo.data.toList.drop 24 = dktJ12_compareTo_1 := dk_seg dksJ12_compareTo_0 24 rfl rfl
theorem dksJ12_compareTo_2 : cJ12_compareTo.data.toList.drop 48 = dktJ12_compareTo_2 := dk_seg dksJ12_compareTo_1 24 rfl rfl
theorem dksJ12_compareTo_3 : cJ12_compareTo.data.toList.drop 70 = dktJ12_compareTo_3 := dk_seg dksJ12_compareTo_2 22 rfl rfl
theorem dksJ12_compareTo_4 : cJ12_compareTo.data.toList.drop 94 = dktJ12_compareTo_4 := dk_seg dksJ12_compareTo_3 24 rfl rfl
theorem dJ12_compareTo_0 : decode cJ12_compareTo 0 = .ok (.aload_n 0, 1) := dk_42 (dk_at dksJ12_compareTo_0 0 rfl rfl)
theorem dJ12_compareTo_1 : decode cJ12_compareTo 1 = .ok (.aload_n 1, 1) := dk_43 (dk_at dksJ12_compareTo_0 1 rfl rfl)
theorem dJ12_compareTo_2 : decode cJ12_compareTo 2 = .ok (.if_acmp .ne 5, 3) := dk_166 0 5 (dk_at dksJ12_compareTo_0 2 rfl rfl)
theorem dJ12_compareTo_5 : decode cJ12_compareTo 5 = .ok (.iconst 0, 1) := dk_3 (dk_at dksJ12_compareTo_0 5 rfl rfl)
theorem dJ12_compareTo_6 : decode cJ12_compareTo 6 = .ok (.ireturn, 1) := dk_172 (dk_at dksJ12_compareTo_0 6 rfl rfl)
theorem dJ12_compareTo_7 : decode cJ12_compareTo 7 = .ok (.aload_n 0, 1) := dk_42 (dk_at dksJ12_compareTo_0 7 rfl rfl)
theorem dJ12_compareTo_8 : decode cJ12_compareTo 8 = .ok (.getfield 15, 3) := dk_180 0 15 (dk_at dksJ12_compareTo_0 8 rfl rfl)
theorem dJ12_compareTo_11 : decode cJ12_compareTo 11 = .ok (.astore_n 2, 1) := dk_77 (dk_at dksJ12_compareTo_0 11 rfl rfl)
theorem dJ12_compareTo_12 : decode cJ12_compareTo 12 = .ok (.aload_n 1, 1) := dk_43 (dk_at dksJ12_compareTo_0 12 rfl rfl)
theorem dJ12_compareTo_13 : decode cJ12_compareTo 13 = .ok (.getfield 15, 3) := dk_180 0 15 (dk_at dksJ12_compareTo_0 13 rfl rfl)
theorem dJ12_compareTo_16 : decode cJ12_compareTo 16 = .ok (.astore_n 3, 1) := dk_78 (dk_at dksJ12_compareTo_0 16 rfl rfl)
theorem dJ12_compareTo_17 : decode cJ12_compareTo 17 = .ok (.aload_n 0, 1) := dk_42 (dk_at dksJ12_compareTo_0 17 rfl rfl)
theorem dJ12_compareTo_18 : decode cJ12_compareTo 18 = .ok (.getfield 79, 3) := dk_180 0 79 (dk_at dksJ12_compareTo_0 18 rfl rfl)
theorem dJ12_compareTo_21 : decode cJ12_compareTo 21 = .ok (.istore 4, 2) := dk_54 4 (dk_at dksJ12_compareTo_0 21 rfl rfl)
theorem dJ12_compareTo_23 : decode cJ12_compareTo 23 = .ok (.aload_n 1, 1) := dk_43 (dk_at dksJ12_compareTo_0 23 rfl rfl)
theorem dJ12_compareTo_24 : decode cJ12_compareTo 24 = .ok (.getfield 79, 3) := dk_180 0 79 (dk_at dksJ12_compareTo_1 0 rfl rfl)
theorem dJ12_compareTo_27 : decode cJ12_compareTo 27 = .ok (.istore 5, 2) := dk_54 5 (dk_at dksJ12_compareTo_1 3 rfl rfl)
theorem dJ12_compareTo_29 : decode cJ12_compareTo 29 = .ok (.aload_n 0, 1) := dk_42 (dk_at dksJ12_compareTo_1 5 rfl rfl)
theorem dJ12_compareTo_30 : decode cJ12_compareTo 30 = .ok (.getfield 22, 3) := dk_180 0 22 (dk_at dksJ12_compareTo_1 6 rfl rfl)
theorem dJ12_compareTo_33 : decode cJ12_compareTo 33 = .ok (.aload_n 1, 1) := dk_43 (dk_at dksJ12_compareTo_1 9 rfl rfl)
theorem dJ12_compareTo_34 : decode cJ12_compareTo 34 = .ok (.getfield 22, 3) := dk_180 0 22 (dk_at dksJ12_compareTo_1 10 rfl rfl)
theorem dJ12_compareTo_37 : decode cJ12_compareTo 37 = .ok (.if_icmp .ne 32, 3) := dk_160 0 32 (dk_at dksJ12_compareTo_1 13 rfl rfl)
theorem dJ12_compareTo_40 : decode cJ12_compareTo 40 = .ok (.aload_n 0, 1) := dk_42 (dk_at dksJ12_compareTo_1 16 rfl rfl)
theorem dJ12_compareTo_41 : decode cJ12_compareTo 41 = .ok (.invokevirtual 83, 3) := dk_182 0 83 (dk_at dksJ12_compareTo_1 17 rfl rfl)
theorem dJ12_compareTo_44 : decode cJ12_compareTo 44 = .ok (.ifCond .eq 15, 3) := dk_153 0 15 (dk_at dksJ12_compareTo_1 20 rfl rfl)
theorem dJ12_compareTo_47 : decode cJ12_compareTo 47 = .ok (.aload_n 2, 1) := dk_44 (dk_at dksJ12_compareTo_1 23 rfl rfl)
theorem dJ12_compareTo_48 : decode cJ12_compareTo 48 = .ok (.aload_n 3, 1) := dk_45 (dk_at dksJ12_compareTo_2 0 rfl rfl)
theorem dJ12_compareTo_49 : decode cJ12_compareTo 49 = .ok (.iload 4, 2) := dk_21 4 (dk_at dksJ12_compareTo_2 1 rfl rfl)
theorem dJ12_compareTo_51 : decode cJ12_compareTo 51 = .ok (.iload 5, 2) := dk_21 5 (dk_at dksJ12_compareTo_2 3 rfl rfl)
theorem dJ12_compareTo_53 : decode cJ12_compareTo 53 = .ok (.invokestatic 87, 3) := dk_184 0 87 (dk_at dksJ12_compareTo_2 5 rfl rfl)
theorem dJ12_compareTo_56 : decode cJ12_compareTo 56 = .ok (.goto 12, 3) := dk_167 0 12 (dk_at dksJ12_compareTo_2 8 rfl rfl)
theorem dJ12_compareTo_59 : decode cJ12_compareTo 59 = .ok (.aload_n 2, 1) := dk_44 (dk_at dksJ12_compareTo_2 11 rfl rfl)
theorem dJ12_compareTo_60 : decode cJ12_compareTo 60 = .ok (.aload_n 3, 1) := dk_45 (dk_at dksJ12_compareTo_2 12 rfl rfl)
theorem dJ12_compareTo_61 : decode cJ12_compareTo 61 = .ok (.iload 4, 2) := dk_21 4 (dk_at dksJ12_compareTo_2 13 rfl rfl)
theorem dJ12_compareTo_63 : decode cJ12_compareTo 63 = .ok (.iload 5, 2) := dk_21 5 (dk_at dksJ12_compareTo_2 15 rfl rfl)
theorem dJ12_compareTo_65 : decode cJ12_compareTo 65 = .ok (.invokestatic 93, 3) := dk_184 0 93 (dk_at dksJ12_compareTo_2 17 rfl rfl)
theorem dJ12_compareTo_68 : decode cJ12_compareTo 68 = .ok (.ireturn, 1) := dk_172 (dk_at dksJ12_compareTo_2 20 rfl rfl)
theorem dJ12_compareTo_69 : decode cJ12_compareTo 69 = .ok (.aload_n 0, 1) := dk_42 (dk_at dksJ12_compareTo_2 21 rfl rfl)
theorem dJ12_compareTo_70 : decode cJ12_compareTo 70 = .ok (.invokevirtual 83, 3) := dk_182 0 83 (dk_at dksJ12_compareTo_3 0 rfl rfl)
theorem dJ12_compareTo_73 : decode cJ12_compareTo 73 = .ok (.ifCond .eq 15, 3) := dk_153 0 15 (dk_at dksJ12_compareTo_3 3 rfl rfl)
theorem dJ12_compareTo_76 : decode cJ12_compareTo 76 = .ok (.aload_n 2, 1) := dk_44 (dk_at dksJ12_compareTo_3 6 rfl rfl)
theorem dJ12_compareTo_77 : decode cJ12_compareTo 77 = .ok (.aload_n 3, 1) := dk_45 (dk_at dksJ12_compareTo_3 7 rfl rfl)
theorem dJ12_compareTo_78 : decode cJ12_compareTo 78 = .ok (.iload 4, 2) := dk_21 4 (dk_at dksJ12_compareTo_3 8 rfl rfl)
theorem dJ12_compareTo_80 : decode cJ12_compareTo 80 = .ok (.iload 5, 2) := dk_21 5 (dk_at dksJ12_compareTo_3 10 rfl rfl)
theorem dJ12_compareTo_82 : decode cJ12_compareTo 82 = .ok (.invokestatic 94, 3) := dk_184 0 94 (dk_at dksJ12_compareTo_3 12 rfl rfl)
theorem dJ12_compareTo_85 : decode cJ12_compareTo 85 = .ok (.goto 12, 3) := dk_167 0 12 (dk_at dksJ12_compareTo_3 15 rfl rfl)
theorem dJ12_compareTo_88 : decode cJ12_compareTo 88 = .ok (.aload_n 2, 1) := dk_44 (dk_at dksJ12_compareTo_3 18 rfl rfl)
theorem dJ12_compareTo_89 : decode cJ12_compareTo 89 = .ok (.aload_n 3, 1) := dk_45 (dk_at dksJ12_compareTo_3 19 rfl rfl)
theorem dJ12_compareTo_90 : decode cJ12_compareTo 90 = .ok (.iload 4, 2) := dk_21 4 (dk_at dksJ12_compareTo_3 20 rfl rfl)
theorem dJ12_compareTo_92 : decode cJ12_compareTo 92 = .ok (.iload 5, 2) := dk_21 5 (dk_at dksJ12_compareTo_3 22 rfl rfl)
theorem dJ12_compareTo_94 : decode cJ12_compareTo 94 = .ok (.invokestatic 97, 3) := dk_184 0 97 (dk_at dksJ12_compareTo_4 0 rfl rfl)
theorem dJ12_compareTo_97 : decode cJ12_compareTo 97 = .ok (.ireturn, 1) := dk_172 (dk_at dksJ12_compareTo_4 3 rfl rfl)
theorem q102 : (Jvm.Cond.initialized "java/lang/AbstractStringBuilder") ∈ lw_all := lw_g (lw_at lw_m1 19 rfl) rfl
theorem q446 : (Jvm.Cond.instanceMethod ({ cls := "java/lang/AbstractStringBuilder", name := "<init>", desc := "(I)V" } : Jvm.MethodName)) ∈ lw_all := lw_g (lw_at lw_m2 123 rfl) rfl
theorem q447 : (Jvm.Cond.code ({ cls := "java/lang/AbstractStringBuilder", name := "<init>", desc := "(I)V" } : Jvm.MethodName) prog_21_method_2_code (2 : Nat) (Option.none : Option Jvm.ClassFile.FieldType)) ∈ lw_all := lw_g (lw_at lw_m2 124 rfl) rfl
theorem q448 : (Jvm.Cond.methodLink "java/lang/AbstractStringBuilder" (3 : Nat) ({ cls := "java/lang/Object", name := "<init>", desc := "()V" } : Jvm.MethodName)) ∈ lw_all := lw_g (lw_at lw_m2 125 rfl) rfl
theorem q449 : (Jvm.Cond.fieldLink "java/lang/AbstractStringBuilder" (18 : Nat) "java/lang/String" "COMPACT_STRINGS" "Z") ∈ lw_all := lw_g (lw_at lw_m2 126 rfl) rfl
theorem q451 : (Jvm.Cond.methodLink "java/lang/AbstractStringBuilder" (26 : Nat) ({ cls := "java/lang/StringUTF16", name := "newBytesFor", desc := "(I)[B" } : Jvm.MethodName)) ∈ lw_all := lw_g (lw_at lw_m2 128 rfl) rfl
theorem q458 : (Jvm.Cond.fieldLink "java/lang/AbstractStringBuilder" (15 : Nat) "java/lang/AbstractStringBuilder" "value" "[B") ∈ lw_all := lw_g (lw_at lw_m2 135 rfl) rfl
theorem q459 : (Jvm.Cond.fieldLink "java/lang/AbstractStringBuilder" (22 : Nat) "java/lang/AbstractStringBuilder" "coder" "B") ∈ lw_all := lw_g (lw_at lw_m2 136 rfl) rfl
theorem q461 : (Jvm.Cond.fieldLink "java/lang/AbstractStringBuilder" (79 : Nat) "java/lang/AbstractStringBuilder" "count" "I") ∈ lw_all := lw_g (lw_at lw_m2 138 rfl) rfl
theorem q463 : (Jvm.Cond.soleField "java/lang/AbstractStringBuilder" "value") ∈ lw_all := lw_g (lw_at lw_m2 140 rfl) rfl
theorem q465 : (Jvm.Cond.soleField "java/lang/AbstractStringBuilder" "coder") ∈ lw_all := lw_g (lw_at lw_m2 142 rfl) rfl
theorem q467 : (Jvm.Cond.soleField "java/lang/AbstractStringBuilder" "maybeLatin1") ∈ lw_all := lw_g (lw_at lw_m2 144 rfl) rfl
theorem q469 : (Jvm.Cond.soleField "java/lang/AbstractStringBuilder" "count") ∈ lw_all := lw_g (lw_at lw_m2 146 rfl) rfl
theorem q476 : (Jvm.Cond.instanceMethod ({ cls := "java/lang/AbstractStringBuilder", name := "length", desc := "()I" } : Jvm.MethodName)) ∈ lw_all := lw_g (lw_at lw_m2 153 rfl) rfl
theorem q477 : (Jvm.Cond.code ({ cls := "java/lang/AbstractStringBuilder", name := "length", desc := "()I" } : Jvm.MethodName) prog_21_method_6_code (1 : Nat) (Option.some Jvm.ClassFile.FieldType.int)) ∈ lw_all := lw_g (lw_at lw_m2 154 rfl) rfl
theorem q483 : (Jvm.Cond.instanceMethod ({ cls := "java/lang/AbstractStringBuilder", name := "append", desc := "(C)Ljava/lang/AbstractStringBuilder;" } : Jvm.MethodName)) ∈ lw_all := lw_g (lw_at lw_m2 160 rfl) rfl
theorem q484 : (Jvm.Cond.code ({ cls := "java/lang/AbstractStringBuilder", name := "append", desc := "(C)Ljava/lang/AbstractStringBuilder;" } : Jvm.MethodName) prog_21_method_31_code (2 : Nat) (Option.some (Jvm.ClassFile.FieldType.object "java/lang/AbstractStringBuilder"))) ∈ lw_all := lw_g (lw_at lw_m2 161 rfl) rfl
theorem q485 : (Jvm.Cond.methodLink "java/lang/AbstractStringBuilder" (100 : Nat) ({ cls := "java/lang/AbstractStringBuilder", name := "ensureCapacityInternal", desc := "(I)V" } : Jvm.MethodName)) ∈ lw_all := lw_g (lw_at lw_m2 162 rfl) rfl
theorem q486 : (Jvm.Cond.privateMethod ({ cls := "java/lang/AbstractStringBuilder", name := "ensureCapacityInternal", desc := "(I)V" } : Jvm.MethodName)) ∈ lw_tbl := lw_at lw_m2 163 rfl
theorem q487 : (Jvm.Cond.instanceMethod ({ cls := "java/lang/AbstractStringBuilder", name := "ensureCapacityInternal", desc := "(I)V" } : Jvm.MethodName)) ∈ lw_all := lw_g (lw_at lw_m2 164 rfl) rfl
theorem q488 : (Jvm.Cond.code ({ cls := "java/lang/AbstractStringBuilder", name := "ensureCapacityInternal", desc := "(I)V" } : Jvm.MethodName) prog_21_method_9_code (3 : Nat) (Option.none : Option Jvm.ClassFile.FieldType)) ∈ lw_all := lw_g (lw_at lw_m2 165 rfl) rfl
theorem q489 : (Jvm.Cond.methodLink "java/lang/AbstractStringBuilder" (104 : Nat) ({ cls := "java/lang/AbstractStringBuilder", name := "newCapacity", desc := "(I)I" } : Jvm.MethodName)) ∈ lw_all := lw_g (lw_at lw_m2 166 rfl) rfl
theorem q490 : (Jvm.Cond.privateMethod ({ cls := "java/lang/AbstractStringBuilder", name := "newCapacity", desc := "(I)I" } : Jvm.MethodName)) ∈ lw_tbl := lw_at lw_m2 167 rfl
theorem q491 : (Jvm.Cond.instanceMethod ({ cls := "java/lang/AbstractStringBuilder", name := "newCapacity", desc := "(I)I" } : Jvm.MethodName)) ∈ lw_all := lw_g (lw_at lw_m2 168 rfl) rfl
theorem q492 : (Jvm.Cond.code ({ cls := "java/lang/AbstractStringBuilder", name := "newCapacity", desc := "(I)I" } : Jvm.MethodName) prog_21_method_10_code (6 : Nat) (Option.some Jvm.ClassFile.FieldType.int)) ∈ lw_all := lw_g (lw_at lw_m2 169 rfl) rfl
theorem q493 : (Jvm.Cond.methodLink "java/lang/AbstractStringBuilder" (114 : Nat) ({ cls := "jdk/internal/util/ArraysSupport", name := "newLength", desc := "(III)I" } : Jvm.MethodName)) ∈ lw_all := lw_g (lw_at lw_m2 170 rfl) rfl
theorem q503 : (Jvm.Cond.constant "java/lang/AbstractStringBuilder" (39 : Nat) (2147483647 : Int32)) ∈ lw_all := lw_g (lw_at lw_m2 180 rfl) rfl
theorem q504 : (Jvm.Cond.methodLink "java/lang/AbstractStringBuilder" (108 : Nat) ({ cls := "java/util/Arrays", name := "copyOf", desc := "([BI)[B" } : Jvm.MethodName)) ∈ lw_all := lw_g (lw_at lw_m2 181 rfl) rfl
theorem q520 : (Jvm.Cond.methodLink "java/lang/AbstractStringBuilder" (83 : Nat) ({ cls := "java/lang/AbstractStringBuilder", name := "isLatin1", desc := "()Z" } : Jvm.MethodName)) ∈ lw_all := lw_g (lw_at lw_m2 197 rfl) rfl
theorem q521 : (Jvm.Cond.instanceMethod ({ cls := "java/lang/AbstractStringBuilder", name := "isLatin1", desc := "()Z" } : Jvm.MethodName)) ∈ lw_all := lw_g (lw_at lw_m2 198 rfl) rfl
theorem q522 : (Jvm.Cond.sameMethod "java/lang/AbstractStringBuilder" "java/lang/AbstractStringBuilder" "isLatin1" "()Z") ∈ lw_all := lw_g (lw_at lw_m2 199 rfl) rfl
theorem q524 : (Jvm.Cond.code ({ cls := "java/lang/AbstractStringBuilder", name := "isLatin1", desc := "()Z" } : Jvm.MethodName) prog_21_method_68_code (1 : Nat) (Option.some Jvm.ClassFile.FieldType.boolean)) ∈ lw_all := lw_g (lw_at lw_m2 201 rfl) rfl
theorem q525 : (Jvm.Cond.methodLink "java/lang/AbstractStringBuilder" (191 : Nat) ({ cls := "java/lang/StringLatin1", name := "canEncode", desc := "(C)Z" } : Jvm.MethodName)) ∈ lw_all := lw_g (lw_at lw_m2 202 rfl) rfl
theorem q528 : (Jvm.Cond.methodLink "java/lang/AbstractStringBuilder" (195 : Nat) ({ cls := "java/lang/AbstractStringBuilder", name := "inflate", desc := "()V" } : Jvm.MethodName)) ∈ lw_all := lw_g (lw_at lw_m2 205 rfl) rfl
theorem q529 : (Jvm.Cond.privateMethod ({ cls := "java/lang/AbstractStringBuilder", name := "inflate", desc := "()V" } : Jvm.MethodName)) ∈ lw_tbl := lw_at lw_m2 206 rfl
theorem q530 : (Jvm.Cond.instanceMethod ({ cls := "java/lang/AbstractStringBuilder", name := "inflate", desc := "()V" } : Jvm.MethodName)) ∈ lw_all := lw_g (lw_at lw_m2 207 rfl) rfl
theorem q531 : (Jvm.Cond.code ({ cls := "java/lang/AbstractStringBuilder", name := "inflate", desc := "()V" } : Jvm.MethodName) prog_21_method_11_code (2 : Nat) (Option.none : Option Jvm.ClassFile.FieldType)) ∈ lw_all := lw_g (lw_at lw_m2 208 rfl) rfl
theorem q532 : (Jvm.Cond.methodLink "java/lang/AbstractStringBuilder" (125 : Nat) ({ cls := "java/lang/StringLatin1", name := "inflate", desc := "([BI[BII)V" } : Jvm.MethodName)) ∈ lw_all := lw_g (lw_at lw_m2 209 rfl) rfl
theorem q561 : (Jvm.Cond.methodLink "java/lang/AbstractStringBuilder" (197 : Nat) ({ cls := "java/lang/StringUTF16", name := "putCharSB", desc := "([BII)V" } : Jvm.MethodName)) ∈ lw_all := lw_g (lw_at lw_m2 238 rfl) rfl
theorem q586 : (Jvm.Cond.instanceMethod ({ cls := "java/lang/AbstractStringBuilder", name := "getValue", desc := "()[B" } : Jvm.MethodName)) ∈ lw_all := lw_g (lw_at lw_m3 23 rfl) rfl
theorem q587 : (Jvm.Cond.sameMethod "java/lang/AbstractStringBuilder" "java/lang/AbstractStringBuilder" "getValue" "()[B") ∈ lw_all := lw_g (lw_at lw_m3 24 rfl) rfl
theorem q589 : (Jvm.Cond.code ({ cls := "java/lang/AbstractStringBuilder", name := "getValue", desc := "()[B" } : Jvm.MethodName) prog_21_method_64_code (1 : Nat) (Option.some (Jvm.ClassFile.FieldType.array Jvm.ClassFile.FieldType.byte))) ∈ lw_all := lw_g (lw_at lw_m3 26 rfl) rfl
theorem q619 : (Jvm.Cond.instanceMethod ({ cls := "java/lang/AbstractStringBuilder", name := "append", desc := "(I)Ljava/lang/AbstractStringBuilder;" } : Jvm.MethodName)) ∈ lw_all := lw_g (lw_at lw_m3 56 rfl) rfl
theorem q620 : (Jvm.Cond.code ({ cls := "java/lang/AbstractStringBuilder", name := "append", desc := "(I)Ljava/lang/AbstractStringBuilder;" } : Jvm.MethodName) prog_21_method_32_code (4 : Nat) (Option.some (Jvm.ClassFile.FieldType.object "java/lang/AbstractStringBuilder"))) ∈ lw_all := lw_g (lw_at lw_m3 57 rfl) rfl
theorem q621 : (Jvm.Cond.methodLink "java/lang/AbstractStringBuilder" (245 : Nat) ({ cls := "java/lang/Integer", name := "stringSize", desc := "(I)I" } : Jvm.MethodName)) ∈ lw_all := lw_g (lw_at lw_m3 58 rfl) rfl
theorem q624 : (Jvm.Cond.methodLink "java/lang/AbstractStringBuilder" (248 : Nat) ({ cls := "java/lang/Integer", name := "getChars", desc := "(II[B)I" } : Jvm.MethodName)) ∈ lw_all := lw_g (lw_at lw_m3 61 rfl) rfl
theorem q631 : (Jvm.Cond.methodLink "java/lang/AbstractStringBuilder" (251 : Nat) ({ cls := "java/lang/StringUTF16", name := "getChars", desc := "(III[B)I" } : Jvm.MethodName)) ∈ lw_all := lw_g (lw_at lw_m3 68 rfl) rfl
theorem q654 : (Jvm.Cond.instanceMethod ({ cls := "java/lang/AbstractStringBuilder", name := "append", desc := "(Ljava/lang/String;)Ljava/lang/AbstractStringBuilder;" } : Jvm.MethodName)) ∈ lw_all := lw_g (lw_at lw_m3 91 rfl) rfl
theorem q655 : (Jvm.Cond.code ({ cls := "java/lang/AbstractStringBuilder", name := "append", desc := "(Ljava/lang/String;)Ljava/lang/AbstractStringBuilder;" } : Jvm.MethodName) prog_21_method_22_code (3 : Nat) (Option.some (Jvm.ClassFile.FieldType.object "java/lang/AbstractStringBuilder"))) ∈ lw_all := lw_g (lw_at lw_m3 92 rfl) rfl
theorem q656 : (Jvm.Cond.methodLink "java/lang/AbstractStringBuilder" (204 : Nat) ({ cls := "java/lang/AbstractStringBuilder", name := "appendNull", desc := "()Ljava/lang/AbstractStringBuilder;" } : Jvm.MethodName)) ∈ lw_all := lw_g (lw_at lw_m3 93 rfl) rfl
theorem q657 : (Jvm.Cond.privateMethod ({ cls := "java/lang/AbstractStringBuilder", name := "appendNull", desc := "()Ljava/lang/AbstractStringBuilder;" } : Jvm.MethodName)) ∈ lw_tbl := lw_at lw_m3 94 rfl
theorem q658 : (Jvm.Cond.instanceMethod ({ cls := "java/lang/AbstractStringBuilder", name := "appendNull", desc := "()Ljava/lang/AbstractStringBuilder;" } : Jvm.MethodName)) ∈ lw_all := lw_g (lw_at lw_m3 95 rfl) rfl
theorem q659 : (Jvm.Cond.code ({ cls := "java/lang/AbstractStringBuilder", name := "appendNull", desc := "()Ljava/lang/AbstractStringBuilder;" } : Jvm.MethodName) prog_21_method_26_code (3 : Nat) (Option.some (Jvm.ClassFile.FieldType.object "java/lang/AbstractStringBuilder"))) ∈ lw_all := lw_g (lw_at lw_m3 96 rfl) rfl
theorem q660 : (Jvm.Cond.methodLink "java/lang/AbstractStringBuilder" (226 : Nat) ({ cls := "java/lang/StringUTF16", name := "putCharsAt", desc := "([BICCCC)I" } : Jvm.MethodName)) ∈ lw_all := lw_g (lw_at lw_m3 97 rfl) rfl
theorem q663 : (Jvm.Cond.methodLink "java/lang/AbstractStringBuilder" (32 : Nat) ({ cls := "java/lang/String", name := "length", desc := "()I" } : Jvm.MethodName)) ∈ lw_all := lw_g (lw_at lw_m3 100 rfl) rfl
theorem q672 : (Jvm.Cond.methodLink "java/lang/AbstractStringBuilder" (208 : Nat) ({ cls := "java/lang/AbstractStringBuilder", name := "putStringAt", desc := "(ILjava/lang/String;)V" } : Jvm.MethodName)) ∈ lw_all := lw_g (lw_at lw_m3 109 rfl) rfl
theorem q673 : (Jvm.Cond.privateMethod ({ cls := "java/lang/AbstractStringBuilder", name := "putStringAt", desc := "(ILjava/lang/String;)V" } : Jvm.MethodName)) ∈ lw_tbl := lw_at lw_m3 110 rfl
theorem q674 : (Jvm.Cond.instanceMethod ({ cls := "java/lang/AbstractStringBuilder", name := "putStringAt", desc := "(ILjava/lang/String;)V" } : Jvm.MethodName)) ∈ lw_all := lw_g (lw_at lw_m3 111 rfl) rfl
theorem q675 : (Jvm.Cond.code ({ cls := "java/lang/AbstractStringBuilder", name := "putStringAt", desc := "(ILjava/lang/String;)V" } : Jvm.MethodName) prog_21_method_73_code (3 : Nat) (Option.none : Option Jvm.ClassFile.FieldType)) ∈ lw_all := lw_g (lw_at lw_m3 112 rfl) rfl
theorem q676 : (Jvm.Cond.methodLink "java/lang/AbstractStringBuilder" (397 : Nat) ({ cls := "java/lang/AbstractStringBuilder", name := "inflateIfNeededFor", desc := "(Ljava/lang/String;)V" } : Jvm.MethodName)) ∈ lw_all := lw_g (lw_at lw_m3 113 rfl) rfl
theorem q677 : (Jvm.Cond.privateMethod ({ cls := "java/lang/AbstractStringBuilder", name := "inflateIfNeededFor", desc := "(Ljava/lang/String;)V" } : Jvm.MethodName)) ∈ lw_tbl := lw_at lw_m3 114 rfl
theorem q678 : (Jvm.Cond.instanceMethod ({ cls := "java/lang/AbstractStringBuilder", name := "inflateIfNeededFor", desc := "(Ljava/lang/String;)V" } : Jvm.MethodName)) ∈ lw_all := lw_g (lw_at lw_m3 115 rfl) rfl
theorem q679 : (Jvm.Cond.code ({ cls := "java/lang/AbstractStringBuilder", name := "inflateIfNeededFor", desc := "(Ljava/lang/String;)V" } : Jvm.MethodName) prog_21_method_71_code (2 : Nat) (Option.none : Option Jvm.ClassFile.FieldType)) ∈ lw_all := lw_g (lw_at lw_m3 116 rfl) rfl
theorem q680 : (Jvm.Cond.methodLink "java/lang/AbstractStringBuilder" (40 : Nat) ({ cls := "java/lang/String", name := "coder", desc := "()B" } : Jvm.MethodName)) ∈ lw_all := lw_g (lw_at lw_m3 117 rfl) rfl
theorem q681 : (Jvm.Cond.methodLink "java/lang/AbstractStringBuilder" (399 : Nat) ({ cls := "java/lang/String", name := "getBytes", desc := "([BIB)V" } : Jvm.MethodName)) ∈ lw_all := lw_g (lw_at lw_m3 118 rfl) rfl
theorem q1705 : (Jvm.Cond.instanceMethod ({ cls := "java/lang/AbstractStringBuilder", name := "compareTo", desc := "(Ljava/lang/AbstractStringBuilder;)I" } : Jvm.MethodName)) ∈ lw_all := lw_g (lw_at lw_m7 182 rfl) rfl
theorem q1706 : (Jvm.Cond.code ({ cls := "java/lang/AbstractStringBuilder", name := "compareTo", desc := "(Ljava/lang/AbstractStringBuilder;)I" } : Jvm.MethodName) prog_21_method_5_code (6 : Nat) (Option.some Jvm.ClassFile.FieldType.int)) ∈ lw_all := lw_g (lw_at lw_m7 183 rfl) rfl
theorem q1707 : (Jvm.Cond.methodLink "java/lang/AbstractStringBuilder" (87 : Nat) ({ cls := "java/lang/StringLatin1", name := "compareTo", desc := "([B[BII)I" } : Jvm.MethodName)) ∈ lw_all := lw_g (lw_at lw_m7 184 rfl) rfl
theorem q1708 : (Jvm.Cond.methodLink "java/lang/AbstractStringBuilder" (93 : Nat) ({ cls := "java/lang/StringUTF16", name := "compareTo", desc := "([B[BII)I" } : Jvm.MethodName)) ∈ lw_all := lw_g (lw_at lw_m7 185 rfl) rfl
theorem q1717 : (Jvm.Cond.methodLink "java/lang/AbstractStringBuilder" (94 : Nat) ({ cls := "java/lang/StringLatin1", name := "compareToUTF16", desc := "([B[BII)I" } : Jvm.MethodName)) ∈ lw_all := lw_g (lw_at lw_m7 194 rfl) rfl
theorem q1721 : (Jvm.Cond.methodLink "java/lang/AbstractStringBuilder" (97 : Nat) ({ cls := "java/lang/StringUTF16", name := "compareToLatin1", desc := "([B[BII)I" } : Jvm.MethodName)) ∈ lw_all := lw_g (lw_at lw_m7 198 rfl) rfl
theorem q2639 : (Jvm.Cond.sameMethod "java/lang/AbstractStringBuilder" "java/lang/AbstractStringBuilder" "length" "()I") ∈ lw_all := lw_g (lw_at lw_m11 156 rfl) rfl
theorem q2640 : (Jvm.Cond.sameMethod "java/lang/AbstractStringBuilder" "java/lang/AbstractStringBuilder" "append" "(C)Ljava/lang/AbstractStringBuilder;") ∈ lw_all := lw_g (lw_at lw_m11 157 rfl) rfl
theorem q2641 : (Jvm.Cond.sameMethod "java/lang/AbstractStringBuilder" "java/lang/AbstractStringBuilder" "ensureCapacityInternal" "(I)V") ∈ lw_all := lw_g (lw_at lw_m11 158 rfl) rfl
theorem q2642 : (Jvm.Cond.sameMethod "java/lang/AbstractStringBuilder" "java/lang/AbstractStringBuilder" "newCapacity" "(I)I") ∈ lw_all := lw_g (lw_at lw_m11 159 rfl) rfl
theorem q2643 : (Jvm.Cond.sameMethod "java/lang/AbstractStringBuilder" "java/lang/AbstractStringBuilder" "inflate" "()V") ∈ lw_all := lw_g (lw_at lw_m11 160 rfl) rfl
theorem q2645 : (Jvm.Cond.sameMethod "java/lang/AbstractStringBuilder" "java/lang/AbstractStringBuilder" "append" "(I)Ljava/lang/AbstractStringBuilder;") ∈ lw_all := lw_g (lw_at lw_m11 162 rfl) rfl
theorem q2646 : (Jvm.Cond.sameMethod "java/lang/AbstractStringBuilder" "java/lang/AbstractStringBuilder" "append" "(Ljava/lang/String;)Ljava/lang/AbstractStringBuilder;") ∈ lw_all := lw_g (lw_at lw_m11 163 rfl) rfl
theorem q2647 : (Jvm.Cond.sameMethod "java/lang/AbstractStringBuilder" "java/lang/AbstractStringBuilder" "appendNull" "()Ljava/lang/AbstractStringBuilder;") ∈ lw_all := lw_g (lw_at lw_m11 164 rfl) rfl
theorem q2648 : (Jvm.Cond.sameMethod "java/lang/AbstractStringBuilder" "java/lang/AbstractStringBuilder" "putStringAt" "(ILjava/lang/String;)V") ∈ lw_all := lw_g (lw_at lw_m11 165 rfl) rfl
theorem q2649 : (Jvm.Cond.sameMethod "java/lang/AbstractStringBuilder" "java/lang/AbstractStringBuilder" "inflateIfNeededFor" "(Ljava/lang/String;)V") ∈ lw_all := lw_g (lw_at lw_m11 166 rfl) rfl
theorem q2650 : (Jvm.Cond.sameMethod "java/lang/AbstractStringBuilder" "java/lang/AbstractStringBuilder" "compareTo" "(Ljava/lang/AbstractStringBuilder;)I") ∈ lw_all := lw_g (lw_at lw_m11 167 rfl) rfl

/-! java/lang/StringBuilder -/
set_option maxRecDepth 100000
def RJ13 : String := "java/lang/StringBuilder"
def TJ13 : u_T := fun k => match k with
  | 0 => ("java/lang/AbstractStringBuilder", "value", "[B", false)
  | 1 => ("java/lang/AbstractStringBuilder", "coder", "B", false)
  | 2 => ("java/lang/AbstractStringBuilder", "maybeLatin1", "Z", false)
  | _ => ("java/lang/AbstractStringBuilder", "count", "I", false)
def tyJ13 : Nat → FieldType := fun k => match k with
  | 0 => .array .byte
  | 1 => .byte
  | 2 => .boolean
  | _ => .int
abbrev wsJ130 : List Cond := u_ws RJ13 TJ13 4
theorem nmJ13 : ∀ a, a < 4 → ∀ b, b < 4 → a ≠ b → (TJ13 a).2.1 ≠ (TJ13 b).2.1 := by decide +kernel
theorem tyJ13_ok : ∀ k, k < 4 → parseFieldDescriptor (TJ13 k).2.2.1 = some (tyJ13 k) := by decide +kernel
abbrev cJ13_init : ByteArray := prog_40_method_2_code
def yJ13_init : MethodName := ⟨RJ13, "<init>", "(I)V"⟩
def dkwJ13_init_0 : List UInt8 := [42, 27, 183, 0, 1, 177]
abbrev dktJ13_init_0 : List UInt8 := dkwJ13_init_0 ++ []
theorem dksJ13_init_0 : cJ13_init.data.toList.drop 0 = dktJ13_init_0 := by decide +kernel
theorem dJ13_init_0 : decode cJ13_init 0 = .ok (.aload_n 0, 1) := dk_42 (dk_at dksJ13_init_0 0 rfl rfl)
theorem dJ13_init_1 : decode cJ13_init 1 = .ok (.iload_n 1, 1) := dk_27 (dk_at dksJ13_init_0 1 rfl rfl)
theorem dJ13_init_2 : decode cJ13_init 2 = .ok (.invokespecial 1, 3) := dk_183 0 1 (dk_at dksJ13_init_0 2 rfl rfl)
theorem dJ13_init_5 : decode cJ13_init 5 = .ok (.return_, 1) := dk_177 (dk_at dksJ13_init_0 5 rfl rfl)
abbrev cJ13_length : ByteArray := prog_40_method_93_code
def yJ13_length : MethodName := ⟨RJ13, "length", "()I"⟩
theorem dJ13_length_0 : decode cJ13_length 0 = .ok (.aload_n 0, 1) := by decide +kernel
theorem dJ13_length_1 : decode cJ13_length 1 = .ok (.invokespecial 343, 3) := by decide +kernel
theorem dJ13_length_4 : decode cJ13_length 4 = .ok (.ireturn, 1) := by decide +kernel
abbrev cJ13_append : ByteArray := prog_40_method_14_code
def yJ13_append : MethodName := ⟨RJ13, "append", "(C)Ljava/lang/StringBuilder;"⟩
def dkwJ13_append_0 : List UInt8 := [42, 27, 183, 0, 50, 87, 42, 176]
abbrev dktJ13_append_0 : List UInt8 := dkwJ13_append_0 ++ []
theorem dksJ13_append_0 : cJ13_append.data.toList.drop 0 = dktJ13_append_0 := by decide +kernel
theorem dJ13_append_0 : decode cJ13_append 0 = .ok (.aload_n 0, 1) := dk_42 (dk_at dksJ13_append_0 0 rfl rfl)
theorem dJ13_append_1 : decode cJ13_append 1 = .ok (.iload_n 1, 1) := dk_27 (dk_at dksJ13_append_0 1 rfl rfl)
theorem dJ13_append_2 : decode cJ13_append 2 = .ok (.invokespecial 50, 3) := dk_183 0 50 (dk_at dksJ13_append_0 2 rfl rfl)
theorem dJ13_append_5 : decode cJ13_append 5 = .ok (.pop, 1) := dk_87 (dk_at dksJ13_append_0 5 rfl rfl)
theorem dJ13_append_6 : decode cJ13_append 6 = .ok (.aload_n 0, 1) := dk_42 (dk_at dksJ13_append_0 6 rfl rfl)
theorem dJ13_append_7 : decode cJ13_append 7 = .ok (.areturn, 1) := dk_176 (dk_at dksJ13_append_0 7 rfl rfl)
abbrev cJ13_toString : ByteArray := prog_40_method_42_code
def yJ13_toString : MethodName := ⟨RJ13, "toString", "()Ljava/lang/String;"⟩
def dkwJ13_toString_0 : List UInt8 := [187, 0, 18, 89, 42, 183, 0, 137, 176]
abbrev dktJ13_toString_0 : List UInt8 := dkwJ13_toString_0 ++ []
theorem dksJ13_toString_0 : cJ13_toString.data.toList.drop 0 = dktJ13_toString_0 := by decide +kernel
theorem dJ13_toString_0 : decode cJ13_toString 0 = .ok (.new 18, 3) := dk_187 0 18 (dk_at dksJ13_toString_0 0 rfl rfl)
theorem dJ13_toString_3 : decode cJ13_toString 3 = .ok (.dup, 1) := dk_89 (dk_at dksJ13_toString_0 3 rfl rfl)
theorem dJ13_toString_4 : decode cJ13_toString 4 = .ok (.aload_n 0, 1) := dk_42 (dk_at dksJ13_toString_0 4 rfl rfl)
theorem dJ13_toString_5 : decode cJ13_toString 5 = .ok (.invokespecial 137, 3) := dk_183 0 137 (dk_at dksJ13_toString_0 5 rfl rfl)
theorem dJ13_toString_8 : decode cJ13_toString 8 = .ok (.areturn, 1) := dk_176 (dk_at dksJ13_toString_0 8 rfl rfl)
abbrev cJ13_init_2 : ByteArray := prog_40_method_1_code
def yJ13_init_2 : MethodName := ⟨RJ13, "<init>", "()V"⟩
def dkwJ13_init_2_0 : List UInt8 := [42, 16, 16, 183, 0, 1, 177]
abbrev dktJ13_init_2_0 : List UInt8 := dkwJ13_init_2_0 ++ []
theorem dksJ13_init_2_0 : cJ13_init_2.data.toList.drop 0 = dktJ13_init_2_0 := by decide +kernel
theorem dJ13_init_2_0 : decode cJ13_init_2 0 = .ok (.aload_n 0, 1) := dk_42 (dk_at dksJ13_init_2_0 0 rfl rfl)
theorem dJ13_init_2_1 : decode cJ13_init_2 1 = .ok (.bipush 16, 2) := dk_16 16 (dk_at dksJ13_init_2_0 1 rfl rfl)
theorem dJ13_init_2_3 : decode cJ13_init_2 3 = .ok (.invokespecial 1, 3) := dk_183 0 1 (dk_at dksJ13_init_2_0 3 rfl rfl)
theorem dJ13_init_2_6 : decode cJ13_init_2 6 = .ok (.return_, 1) := dk_177 (dk_at dksJ13_init_2_0 6 rfl rfl)
abbrev cJ13_append_2 : ByteArray := prog_40_method_15_code
def yJ13_append_2 : MethodName := ⟨RJ13, "append", "(I)Ljava/lang/StringBuilder;"⟩
def dkwJ13_append_2_0 : List UInt8 := [42, 27, 183, 0, 53, 87, 42, 176]
abbrev dktJ13_append_2_0 : List UInt8 := dkwJ13_append_2_0 ++ []
theorem dksJ13_append_2_0 : cJ13_append_2.data.toList.drop 0 = dktJ13_append_2_0 := by decide +kernel
theorem dJ13_append_2_0 : decode cJ13_append_2 0 = .ok (.aload_n 0, 1) := dk_42 (dk_at dksJ13_append_2_0 0 rfl rfl)
theorem dJ13_append_2_1 : decode cJ13_append_2 1 = .ok (.iload_n 1, 1) := dk_27 (dk_at dksJ13_append_2_0 1 rfl rfl)
theorem dJ13_append_2_2 : decode cJ13_append_2 2 = .ok (.invokespecial 53, 3) := dk_183 0 53 (dk_at dksJ13_append_2_0 2 rfl rfl)
theorem dJ13_append_2_5 : decode cJ13_append_2 5 = .ok (.pop, 1) := dk_87 (dk_at dksJ13_append_2_0 5 rfl rfl)
theorem dJ13_append_2_6 : decode cJ13_append_2 6 = .ok (.aload_n 0, 1) := dk_42 (dk_at dksJ13_append_2_0 6 rfl rfl)
theorem dJ13_append_2_7 : decode cJ13_append_2 7 = .ok (.areturn, 1) := dk_176 (dk_at dksJ13_append_2_0 7 rfl rfl)
abbrev cJ13_append_3 : ByteArray := prog_40_method_7_code
def yJ13_append_3 : MethodName := ⟨RJ13, "append", "(Ljava/lang/String;)Ljava/lang/StringBuilder;"⟩
def dkwJ13_append_3_0 : List UInt8 := [42, 43, 183, 0, 29, 87, 42, 176]
abbrev dktJ13_append_3_0 : List UInt8 := dkwJ13_append_3_0 ++ []
theorem dksJ13_append_3_0 : cJ13_append_3.data.toList.drop 0 = dktJ13_append_3_0 := by decide +kernel
theorem dJ13_append_3_0 : decode cJ13_append_3 0 = .ok (.aload_n 0, 1) := dk_42 (dk_at dksJ13_append_3_0 0 rfl rfl)
theorem dJ13_append_3_1 : decode cJ13_append_3 1 = .ok (.aload_n 1, 1) := dk_43 (dk_at dksJ13_append_3_0 1 rfl rfl)
theorem dJ13_append_3_2 : decode cJ13_append_3 2 = .ok (.invokespecial 29, 3) := dk_183 0 29 (dk_at dksJ13_append_3_0 2 rfl rfl)
theorem dJ13_append_3_5 : decode cJ13_append_3 5 = .ok (.pop, 1) := dk_87 (dk_at dksJ13_append_3_0 5 rfl rfl)
theorem dJ13_append_3_6 : decode cJ13_append_3 6 = .ok (.aload_n 0, 1) := dk_42 (dk_at dksJ13_append_3_0 6 rfl rfl)
theorem dJ13_append_3_7 : decode cJ13_append_3 7 = .ok (.areturn, 1) := dk_176 (dk_at dksJ13_append_3_0 7 rfl rfl)
abbrev cJ13_compareTo : ByteArray := prog_40_method_97_code
def yJ13_compareTo : MethodName := ⟨RJ13, "compareTo", "(Ljava/lang/Object;)I"⟩
def dkwJ13_compareTo_0 : List UInt8 := [42, 43, 192, 0, 24, 182, 1, 90, 172]
abbrev dktJ13_compareTo_0 : List UInt8 := dkwJ13_compareTo_0 ++ []
theorem dksJ13_compareTo_0 : cJ13_compareTo.data.toList.drop 0 = dktJ13_compareTo_0 := by decide +kernel
theorem dJ13_compareTo_0 : decode cJ13_compareTo 0 = .ok (.aload_n 0, 1) := dk_42 (dk_at dksJ13_compareTo_0 0 rfl rfl)
theorem dJ13_compareTo_1 : decode cJ13_compareTo 1 = .ok (.aload_n 1, 1) := dk_43 (dk_at dksJ13_compareTo_0 1 rfl rfl)
theorem dJ13_compareTo_2 : decode cJ13_compareTo 2 = .ok (.checkcast 24, 3) := dk_192 0 24 (dk_at dksJ13_compareTo_0 2 rfl rfl)
theorem dJ13_compareTo_5 : decode cJ13_compareTo 5 = .ok (.invokevirtual 346, 3) := dk_182 1 90 (dk_at dksJ13_compareTo_0 5 rfl rfl)
theorem dJ13_compareTo_8 : decode cJ13_compareTo 8 = .ok (.ireturn, 1) := dk_172 (dk_at dksJ13_compareTo_0 8 rfl rfl)
abbrev cJ13_compareTo_2 : ByteArray := prog_40_method_5_code
def yJ13_compareTo_2 : MethodName := ⟨RJ13, "compareTo", "(Ljava/lang/StringBuilder;)I"⟩
def dkwJ13_compareTo_2_0 : List UInt8 := [42, 43, 183, 0, 13, 172]
abbrev dktJ13_compareTo_2_0 : List UInt8 := dkwJ13_compareTo_2_0 ++ []
theorem dksJ13_compareTo_2_0 : cJ13_compareTo_2.data.toList.drop 0 = dktJ13_compareTo_2_0 := by decide +kernel
theorem dJ13_compareTo_2_0 : decode cJ13_compareTo_2 0 = .ok (.aload_n 0, 1) := dk_42 (dk_at dksJ13_compareTo_2_0 0 rfl rfl)
theorem dJ13_compareTo_2_1 : decode cJ13_compareTo_2 1 = .ok (.aload_n 1, 1) := dk_43 (dk_at dksJ13_compareTo_2_0 1 rfl rfl)
theorem dJ13_compareTo_2_2 : decode cJ13_compareTo_2 2 = .ok (.invokespecial 13, 3) := dk_183 0 13 (dk_at dksJ13_compareTo_2_0 2 rfl rfl)
theorem dJ13_compareTo_2_5 : decode cJ13_compareTo_2 5 = .ok (.ireturn, 1) := dk_172 (dk_at dksJ13_compareTo_2_0 5 rfl rfl)
theorem q103 : (Jvm.Cond.initialized "java/lang/StringBuilder") ∈ lw_all := lw_g (lw_at lw_m1 20 rfl) rfl
theorem q441 : (Jvm.Cond.instantiable "java/lang/StringBuilder" (4 : Nat)) ∈ lw_all := lw_g (lw_at lw_m2 118 rfl) rfl
theorem q443 : (Jvm.Cond.instanceMethod ({ cls := "java/lang/StringBuilder", name := "<init>", desc := "(I)V" } : Jvm.MethodName)) ∈ lw_all := lw_g (lw_at lw_m2 120 rfl) rfl
theorem q444 : (Jvm.Cond.code ({ cls := "java/lang/StringBuilder", name := "<init>", desc := "(I)V" } : Jvm.MethodName) prog_40_method_2_code (2 : Nat) (Option.none : Option Jvm.ClassFile.FieldType)) ∈ lw_all := lw_g (lw_at lw_m2 121 rfl) rfl
theorem q445 : (Jvm.Cond.methodLink "java/lang/StringBuilder" (1 : Nat) ({ cls := "java/lang/AbstractStringBuilder", name := "<init>", desc := "(I)V" } : Jvm.MethodName)) ∈ lw_all := lw_g (lw_at lw_m2 122 rfl) rfl
theorem q462 : (Jvm.Cond.lays "java/lang/StringBuilder" "java/lang/AbstractStringBuilder" "value" "[B") ∈ lw_all := lw_g (lw_at lw_m2 139 rfl) rfl
theorem q464 : (Jvm.Cond.lays "java/lang/StringBuilder" "java/lang/AbstractStringBuilder" "coder" "B") ∈ lw_all := lw_g (lw_at lw_m2 141 rfl) rfl
theorem q466 : (Jvm.Cond.lays "java/lang/StringBuilder" "java/lang/AbstractStringBuilder" "maybeLatin1" "Z") ∈ lw_all := lw_g (lw_at lw_m2 143 rfl) rfl
theorem q468 : (Jvm.Cond.lays "java/lang/StringBuilder" "java/lang/AbstractStringBuilder" "count" "I") ∈ lw_all := lw_g (lw_at lw_m2 145 rfl) rfl
theorem q470 : (Jvm.Cond.superclass "java/lang/StringBuilder" "java/lang/AbstractStringBuilder") ∈ lw_all := lw_g (lw_at lw_m2 147 rfl) rfl
theorem q472 : (Jvm.Cond.instanceMethod ({ cls := "java/lang/StringBuilder", name := "length", desc := "()I" } : Jvm.MethodName)) ∈ lw_all := lw_g (lw_at lw_m2 149 rfl) rfl
theorem q473 : (Jvm.Cond.selects "java/lang/StringBuilder" ({ cls := "java/lang/StringBuilder", name := "length", desc := "()I" } : Jvm.MethodName) ({ cls := "java/lang/StringBuilder", name := "length", desc := "()I" } : Jvm.MethodName)) ∈ lw_all := lw_g (lw_at lw_m2 150 rfl) rfl
theorem q474 : (Jvm.Cond.code ({ cls := "java/lang/StringBuilder", name := "length", desc := "()I" } : Jvm.MethodName) prog_40_method_93_code (1 : Nat) (Option.some Jvm.ClassFile.FieldType.int)) ∈ lw_all := lw_g (lw_at lw_m2 151 rfl) rfl
theorem q475 : (Jvm.Cond.methodLink "java/lang/StringBuilder" (343 : Nat) ({ cls := "java/lang/AbstractStringBuilder", name := "length", desc := "()I" } : Jvm.MethodName)) ∈ lw_all := lw_g (lw_at lw_m2 152 rfl) rfl
theorem q479 : (Jvm.Cond.instanceMethod ({ cls := "java/lang/StringBuilder", name := "append", desc := "(C)Ljava/lang/StringBuilder;" } : Jvm.MethodName)) ∈ lw_all := lw_g (lw_at lw_m2 156 rfl) rfl
theorem q480 : (Jvm.Cond.selects "java/lang/StringBuilder" ({ cls := "java/lang/StringBuilder", name := "append", desc := "(C)Ljava/lang/StringBuilder;" } : Jvm.MethodName) ({ cls := "java/lang/StringBuilder", name := "append", desc := "(C)Ljava/lang/StringBuilder;" } : Jvm.MethodName)) ∈ lw_all := lw_g (lw_at lw_m2 157 rfl) rfl
theorem q481 : (Jvm.Cond.code ({ cls := "java/lang/StringBuilder", name := "append", desc := "(C)Ljava/lang/StringBuilder;" } : Jvm.MethodName) prog_40_method_14_code (2 : Nat) (Option.some (Jvm.ClassFile.FieldType.object "java/lang/StringBuilder"))) ∈ lw_all := lw_g (lw_at lw_m2 158 rfl) rfl
theorem q482 : (Jvm.Cond.methodLink "java/lang/StringBuilder" (50 : Nat) ({ cls := "java/lang/AbstractStringBuilder", name := "append", desc := "(C)Ljava/lang/AbstractStringBuilder;" } : Jvm.MethodName)) ∈ lw_all := lw_g (lw_at lw_m2 159 rfl) rfl
theorem q523 : (Jvm.Cond.selects "java/lang/StringBuilder" ({ cls := "java/lang/AbstractStringBuilder", name := "isLatin1", desc := "()Z" } : Jvm.MethodName) ({ cls := "java/lang/AbstractStringBuilder", name := "isLatin1", desc := "()Z" } : Jvm.MethodName)) ∈ lw_all := lw_g (lw_at lw_m2 200 rfl) rfl
theorem q574 : (Jvm.Cond.instanceMethod ({ cls := "java/lang/StringBuilder", name := "toString", desc := "()Ljava/lang/String;" } : Jvm.MethodName)) ∈ lw_all := lw_g (lw_at lw_m3 11 rfl) rfl
theorem q575 : (Jvm.Cond.selects "java/lang/StringBuilder" ({ cls := "java/lang/StringBuilder", name := "toString", desc := "()Ljava/lang/String;" } : Jvm.MethodName) ({ cls := "java/lang/StringBuilder", name := "toString", desc := "()Ljava/lang/String;" } : Jvm.MethodName)) ∈ lw_all := lw_g (lw_at lw_m3 12 rfl) rfl
theorem q576 : (Jvm.Cond.code ({ cls := "java/lang/StringBuilder", name := "toString", desc := "()Ljava/lang/String;" } : Jvm.MethodName) prog_40_method_42_code (1 : Nat) (Option.some (Jvm.ClassFile.FieldType.object "java/lang/String"))) ∈ lw_all := lw_g (lw_at lw_m3 13 rfl) rfl
theorem q577 : (Jvm.Cond.classLink "java/lang/StringBuilder" (18 : Nat) "java/lang/String") ∈ lw_all := lw_g (lw_at lw_m3 14 rfl) rfl
theorem q578 : (Jvm.Cond.methodLink "java/lang/StringBuilder" (137 : Nat) ({ cls := "java/lang/String", name := "<init>", desc := "(Ljava/lang/StringBuilder;)V" } : Jvm.MethodName)) ∈ lw_all := lw_g (lw_at lw_m3 15 rfl) rfl
theorem q588 : (Jvm.Cond.selects "java/lang/StringBuilder" ({ cls := "java/lang/AbstractStringBuilder", name := "getValue", desc := "()[B" } : Jvm.MethodName) ({ cls := "java/lang/AbstractStringBuilder", name := "getValue", desc := "()[B" } : Jvm.MethodName)) ∈ lw_all := lw_g (lw_at lw_m3 25 rfl) rfl
theorem q612 : (Jvm.Cond.instanceMethod ({ cls := "java/lang/StringBuilder", name := "<init>", desc := "()V" } : Jvm.MethodName)) ∈ lw_all := lw_g (lw_at lw_m3 49 rfl) rfl
theorem q613 : (Jvm.Cond.code ({ cls := "java/lang/StringBuilder", name := "<init>", desc := "()V" } : Jvm.MethodName) prog_40_method_1_code (1 : Nat) (Option.none : Option Jvm.ClassFile.FieldType)) ∈ lw_all := lw_g (lw_at lw_m3 50 rfl) rfl
theorem q615 : (Jvm.Cond.instanceMethod ({ cls := "java/lang/StringBuilder", name := "append", desc := "(I)Ljava/lang/StringBuilder;" } : Jvm.MethodName)) ∈ lw_all := lw_g (lw_at lw_m3 52 rfl) rfl
theorem q616 : (Jvm.Cond.selects "java/lang/StringBuilder" ({ cls := "java/lang/StringBuilder", name := "append", desc := "(I)Ljava/lang/StringBuilder;" } : Jvm.MethodName) ({ cls := "java/lang/StringBuilder", name := "append", desc := "(I)Ljava/lang/StringBuilder;" } : Jvm.MethodName)) ∈ lw_all := lw_g (lw_at lw_m3 53 rfl) rfl
theorem q617 : (Jvm.Cond.code ({ cls := "java/lang/StringBuilder", name := "append", desc := "(I)Ljava/lang/StringBuilder;" } : Jvm.MethodName) prog_40_method_15_code (2 : Nat) (Option.some (Jvm.ClassFile.FieldType.object "java/lang/StringBuilder"))) ∈ lw_all := lw_g (lw_at lw_m3 54 rfl) rfl
theorem q618 : (Jvm.Cond.methodLink "java/lang/StringBuilder" (53 : Nat) ({ cls := "java/lang/AbstractStringBuilder", name := "append", desc := "(I)Ljava/lang/AbstractStringBuilder;" } : Jvm.MethodName)) ∈ lw_all := lw_g (lw_at lw_m3 55 rfl) rfl
theorem q650 : (Jvm.Cond.instanceMethod ({ cls := "java/lang/StringBuilder", name := "append", desc := "(Ljava/lang/String;)Ljava/lang/StringBuilder;" } : Jvm.MethodName)) ∈ lw_all := lw_g (lw_at lw_m3 87 rfl) rfl
theorem q651 : (Jvm.Cond.selects "java/lang/StringBuilder" ({ cls := "java/lang/StringBuilder", name := "append", desc := "(Ljava/lang/String;)Ljava/lang/StringBuilder;" } : Jvm.MethodName) ({ cls := "java/lang/StringBuilder", name := "append", desc := "(Ljava/lang/String;)Ljava/lang/StringBuilder;" } : Jvm.MethodName)) ∈ lw_all := lw_g (lw_at lw_m3 88 rfl) rfl
theorem q652 : (Jvm.Cond.code ({ cls := "java/lang/StringBuilder", name := "append", desc := "(Ljava/lang/String;)Ljava/lang/StringBuilder;" } : Jvm.MethodName) prog_40_method_7_code (2 : Nat) (Option.some (Jvm.ClassFile.FieldType.object "java/lang/StringBuilder"))) ∈ lw_all := lw_g (lw_at lw_m3 89 rfl) rfl
theorem q653 : (Jvm.Cond.methodLink "java/lang/StringBuilder" (29 : Nat) ({ cls := "java/lang/AbstractStringBuilder", name := "append", desc := "(Ljava/lang/String;)Ljava/lang/AbstractStringBuilder;" } : Jvm.MethodName)) ∈ lw_all := lw_g (lw_at lw_m3 90 rfl) rfl
theorem q1100 : (Jvm.Cond.selects "java/lang/StringBuilder" ({ cls := "java/lang/Object", name := "getClass", desc := "()Ljava/lang/Class;" } : Jvm.MethodName) ({ cls := "java/lang/Object", name := "getClass", desc := "()Ljava/lang/Class;" } : Jvm.MethodName)) ∈ lw_all := lw_g (lw_at lw_m5 57 rfl) rfl
theorem q1693 : (Jvm.Cond.castable "java/lang/StringBuilder" "java/lang/Comparable") ∈ lw_tbl := lw_at lw_m7 170 rfl
theorem q1694 : (Jvm.Cond.selects "java/lang/StringBuilder" ({ cls := "java/lang/Comparable", name := "compareTo", desc := "(Ljava/lang/Object;)I" } : Jvm.MethodName) ({ cls := "java/lang/StringBuilder", name := "compareTo", desc := "(Ljava/lang/Object;)I" } : Jvm.MethodName)) ∈ lw_all := lw_g (lw_at lw_m7 171 rfl) rfl
theorem q1695 : (Jvm.Cond.unhidden "java/lang/StringBuilder" "compareTo" "(Ljava/lang/Object;)I") ∈ lw_tbl := lw_at lw_m7 172 rfl
theorem q1696 : (Jvm.Cond.instanceMethod ({ cls := "java/lang/StringBuilder", name := "compareTo", desc := "(Ljava/lang/Object;)I" } : Jvm.MethodName)) ∈ lw_all := lw_g (lw_at lw_m7 173 rfl) rfl
theorem q1697 : (Jvm.Cond.publicMethod ({ cls := "java/lang/StringBuilder", name := "compareTo", desc := "(Ljava/lang/Object;)I" } : Jvm.MethodName)) ∈ lw_tbl := lw_at lw_m7 174 rfl
theorem q1698 : (Jvm.Cond.code ({ cls := "java/lang/StringBuilder", name := "compareTo", desc := "(Ljava/lang/Object;)I" } : Jvm.MethodName) prog_40_method_97_code (2 : Nat) (Option.some Jvm.ClassFile.FieldType.int)) ∈ lw_all := lw_g (lw_at lw_m7 175 rfl) rfl
theorem q1699 : (Jvm.Cond.classLink "java/lang/StringBuilder" (24 : Nat) "java/lang/StringBuilder") ∈ lw_all := lw_g (lw_at lw_m7 176 rfl) rfl
theorem q1700 : (Jvm.Cond.methodLink "java/lang/StringBuilder" (346 : Nat) ({ cls := "java/lang/StringBuilder", name := "compareTo", desc := "(Ljava/lang/StringBuilder;)I" } : Jvm.MethodName)) ∈ lw_all := lw_g (lw_at lw_m7 177 rfl) rfl
theorem q1701 : (Jvm.Cond.instanceMethod ({ cls := "java/lang/StringBuilder", name := "compareTo", desc := "(Ljava/lang/StringBuilder;)I" } : Jvm.MethodName)) ∈ lw_all := lw_g (lw_at lw_m7 178 rfl) rfl
theorem q1702 : (Jvm.Cond.selects "java/lang/StringBuilder" ({ cls := "java/lang/StringBuilder", name := "compareTo", desc := "(Ljava/lang/StringBuilder;)I" } : Jvm.MethodName) ({ cls := "java/lang/StringBuilder", name := "compareTo", desc := "(Ljava/lang/StringBuilder;)I" } : Jvm.MethodName)) ∈ lw_all := lw_g (lw_at lw_m7 179 rfl) rfl
theorem q1703 : (Jvm.Cond.code ({ cls := "java/lang/StringBuilder", name := "compareTo", desc := "(Ljava/lang/StringBuilder;)I" } : Jvm.MethodName) prog_40_method_5_code (2 : Nat) (Option.some Jvm.ClassFile.FieldType.int)) ∈ lw_all := lw_g (lw_at lw_m7 180 rfl) rfl
theorem q1704 : (Jvm.Cond.methodLink "java/lang/StringBuilder" (13 : Nat) ({ cls := "java/lang/AbstractStringBuilder", name := "compareTo", desc := "(Ljava/lang/AbstractStringBuilder;)I" } : Jvm.MethodName)) ∈ lw_all := lw_g (lw_at lw_m7 181 rfl) rfl
theorem q2644 : (Jvm.Cond.selects "java/lang/StringBuilder" ({ cls := "java/lang/AbstractStringBuilder", name := "length", desc := "()I" } : Jvm.MethodName) ({ cls := "java/lang/StringBuilder", name := "length", desc := "()I" } : Jvm.MethodName)) ∈ lw_all := lw_g (lw_at lw_m11 161 rfl) rfl
theorem q2672 : (Jvm.Cond.castable "java/lang/StringBuilder" "java/lang/Object") ∈ lw_tbl := lw_at lw_m11 189 rfl
theorem in_J13 : ∀ w ∈ wsJ130, w ∈ lw_all := lw_in wsJ130 [462, 464, 466, 468] (by decide +kernel) (by decide +kernel)

/-! java/lang/StringUTF16 -/
set_option maxRecDepth 100000
def RJ14 : String := "java/lang/StringUTF16"
abbrev cJ14_newBytesFor : ByteArray := prog_42_method_2_code
def yJ14_newBytesFor : MethodName := ⟨RJ14, "newBytesFor", "(I)[B"⟩
def dkwJ14_newBytesFor_0 : List UInt8 := [26, 184, 0, 11, 188, 8, 176]
abbrev dktJ14_newBytesFor_0 : List UInt8 := dkwJ14_newBytesFor_0 ++ []
theorem dksJ14_newBytesFor_0 : cJ14_newBytesFor.data.toList.drop 0 = dktJ14_newBytesFor_0 := by decide +kernel
theorem dJ14_newBytesFor_0 : decode cJ14_newBytesFor 0 = .ok (.iload_n 0, 1) := dk_26 (dk_at dksJ14_newBytesFor_0 0 rfl rfl)
theorem dJ14_newBytesFor_1 : decode cJ14_newBytesFor 1 = .ok (.invokestatic 11, 3) := dk_184 0 11 (dk_at dksJ14_newBytesFor_0 1 rfl rfl)
theorem dJ14_newBytesFor_4 : decode cJ14_newBytesFor 4 = .ok (.newarray .byte, 2) := dk_188_8 (dk_at dksJ14_newBytesFor_0 4 rfl rfl)
theorem dJ14_newBytesFor_6 : decode cJ14_newBytesFor 6 = .ok (.areturn, 1) := dk_176 (dk_at dksJ14_newBytesFor_0 6 rfl rfl)
abbrev cJ14_newBytesLength : ByteArray := prog_42_method_3_code
def yJ14_newBytesLength : MethodName := ⟨RJ14, "newBytesLength", "(I)I"⟩
def dkwJ14_newBytesLength_2 : List UInt8 := [182, 0, 32, 182, 0, 37, 183, 0, 41, 191, 26, 4, 120, 172]
abbrev dktJ14_newBytesLength_2 : List UInt8 := dkwJ14_newBytesLength_2 ++ []
def dkwJ14_newBytesLength_1 : List UInt8 := [187, 0, 23, 89, 183, 0, 25, 18, 26, 182, 0, 28, 26, 182, 0, 32, 18, 35, 182, 0, 28, 18, 20]
abbrev dktJ14_newBytesLength_1 : List UInt8 := dkwJ14_newBytesLength_1 ++ dktJ14_newBytesLength_2
def dkwJ14_newBytesLength_0 : List UInt8 := [26, 156, 0, 11, 187, 0, 17, 89, 183, 0, 19, 191, 26, 18, 20, 161, 0, 40, 187, 0, 21, 89]
abbrev dktJ14_newBytesLength_0 : List UInt8 := dkwJ14_newBytesLength_0 ++ dktJ14_newBytesLength_1
theorem dksJ14_newBytesLength_0 : cJ14_newBytesLength.data.toList.drop 0 = dktJ14_newBytesLength_0 := by decide +kernel
theorem dksJ14_newBytesLength_1 : cJ14_newBytesLength.data.toList.drop 22 = dktJ14_newBytesLength_1 := dk_seg dksJ14_newBytesLength_0 22 rfl rfl
theorem dksJ14_newBytesLength_2 : cJ14_newBytesLength.data.toList.drop 45 = dktJ14_newBytesLength_2 := dk_seg dksJ14_newBytesLength_1 23 rfl rfl
theorem dJ14_newBytesLength_0 : decode cJ14_newBytesLength 0 = .ok (.iload_n 0, 1) := dk_26 (dk_at dksJ14_newBytesLength_0 0 rfl rfl)
theorem dJ14_newBytesLength_1 : decode cJ14_newBytesLength 1 = .ok (.ifCond .ge 11, 3) := dk_156 0 11 (dk_at dksJ14_newBytesLength_0 1 rfl rfl)
theorem dJ14_newBytesLength_4 : decode cJ14_newBytesLength 4 = .ok (.new 17, 3) := dk_187 0 17 (dk_at dksJ14_newBytesLength_0 4 rfl rfl)
theorem dJ14_newBytesLength_7 : decode cJ14_newBytesLength 7 = .ok (.dup, 1) := dk_89 (dk_at dksJ14_newBytesLength_0 7 rfl rfl)
theorem dJ14_newBytesLength_8 : decode cJ14_newBytesLength 8 = .ok (.invokespecial 19, 3) := dk_183 0 19 (dk_at dksJ14_newBytesLength_0 8 rfl rfl)
theorem dJ14_newBytesLength_11 : decode cJ14_newBytesLength 11 = .ok (.athrow, 1) := dk_191 (dk_at dksJ14_newBytesLength_0 11 rfl rfl)
theorem dJ14_newBytesLength_12 : decode cJ14_newBytesLength 12 = .ok (.iload_n 0, 1) := dk_26 (dk_at dksJ14_newBytesLength_0 12 rfl rfl)
theorem dJ14_newBytesLength_13 : decode cJ14_newBytesLength 13 = .ok (.ldc 20, 2) := dk_18 20 (dk_at dksJ14_newBytesLength_0 13 rfl rfl)
theorem dJ14_newBytesLength_15 : decode cJ14_newBytesLength 15 = .ok (.if_icmp .lt 40, 3) := dk_161 0 40 (dk_at dksJ14_newBytesLength_0 15 rfl rfl)
theorem dJ14_newBytesLength_18 : decode cJ14_newBytesLength 18 = .ok (.new 21, 3) := dk_187 0 21 (dk_at dksJ14_newBytesLength_0 18 rfl rfl)
theorem dJ14_newBytesLength_21 : decode cJ14_newBytesLength 21 = .ok (.dup, 1) := dk_89 (dk_at dksJ14_newBytesLength_0 21 rfl rfl)
theorem dJ14_newBytesLength_22 : decode cJ14_newBytesLength 22 = .ok (.new 23, 3) := dk_187 0 23 (dk_at dksJ14_newBytesLength_1 0 rfl rfl)
theorem dJ14_newBytesLength_25 : decode cJ14_newBytesLength 25 = .ok (.dup, 1) := dk_89 (dk_at dksJ14_newBytesLength_1 3 rfl rfl)
theorem dJ14_newBytesLength_26 : decode cJ14_newBytesLength 26 = .ok (.invokespecial 25, 3) := dk_183 0 25 (dk_at dksJ14_newBytesLength_1 4 rfl rfl)
theorem dJ14_newBytesLength_29 : decode cJ14_newBytesLength 29 = .ok (.ldc 26, 2) := dk_18 26 (dk_at dksJ14_newBytesLength_1 7 rfl rfl)
theorem dJ14_newBytesLength_31 : decode cJ14_newBytesLength 31 = .ok (.invokevirtual 28, 3) := dk_182 0 28 (dk_at dksJ14_newBytesLength_1 9 rfl rfl)
theorem dJ14_newBytesLength_34 : decode cJ14_newBytesLength 34 = .ok (.iload_n 0, 1) := dk_26 (dk_at dksJ14_newBytesLength_1 12 rfl rfl)
theorem dJ14_newBytesLength_35 : decode cJ14_newBytesLength 35 = .ok (.invokevirtual 32, 3) := dk_182 0 32 (dk_at dksJ14_newBytesLength_1 13 rfl rfl)
theorem dJ14_newBytesLength_38 : decode cJ14_newBytesLength 38 = .ok (.ldc 35, 2) := dk_18 35 (dk_at dksJ14_newBytesLength_1 16 rfl rfl)
theorem dJ14_newBytesLength_40 : decode cJ14_newBytesLength 40 = .ok (.invokevirtual 28, 3) := dk_182 0 28 (dk_at dksJ14_newBytesLength_1 18 rfl rfl)
theorem dJ14_newBytesLength_43 : decode cJ14_newBytesLength 43 = .ok (.ldc 20, 2) := dk_18 20 (dk_at dksJ14_newBytesLength_1 21 rfl rfl)
theorem dJ14_newBytesLength_45 : decode cJ14_newBytesLength 45 = .ok (.invokevirtual 32, 3) := dk_182 0 32 (dk_at dksJ14_newBytesLength_2 0 rfl rfl)
theorem dJ14_newBytesLength_48 : decode cJ14_newBytesLength 48 = .ok (.invokevirtual 37, 3) := dk_182 0 37 (dk_at dksJ14_newBytesLength_2 3 rfl rfl)
theorem dJ14_newBytesLength_51 : decode cJ14_newBytesLength 51 = .ok (.invokespecial 41, 3) := dk_183 0 41 (dk_at dksJ14_newBytesLength_2 6 rfl rfl)
theorem dJ14_newBytesLength_54 : decode cJ14_newBytesLength 54 = .ok (.athrow, 1) := dk_191 (dk_at dksJ14_newBytesLength_2 9 rfl rfl)
theorem dJ14_newBytesLength_55 : decode cJ14_newBytesLength 55 = .ok (.iload_n 0, 1) := dk_26 (dk_at dksJ14_newBytesLength_2 10 rfl rfl)
theorem dJ14_newBytesLength_56 : decode cJ14_newBytesLength 56 = .ok (.iconst 1, 1) := dk_4 (dk_at dksJ14_newBytesLength_2 11 rfl rfl)
theorem dJ14_newBytesLength_57 : decode cJ14_newBytesLength 57 = .ok (.ishl, 1) := dk_120 (dk_at dksJ14_newBytesLength_2 12 rfl rfl)
theorem dJ14_newBytesLength_58 : decode cJ14_newBytesLength 58 = .ok (.ireturn, 1) := dk_172 (dk_at dksJ14_newBytesLength_2 13 rfl rfl)
abbrev cJ14_inflate : ByteArray := prog_42_method_86_code
def yJ14_inflate : MethodName := ⟨RJ14, "inflate", "([BI[BII)V"⟩
def dkwJ14_inflate_1 : List UInt8 := [132, 1, 1, 51, 17, 0, 255, 126, 184, 0, 111, 132, 5, 1, 167, 255, 228, 177]
abbrev dktJ14_inflate_1 : List UInt8 := dkwJ14_inflate_1 ++ []
def dkwJ14_inflate_0 : List UInt8 := [29, 21, 4, 44, 184, 0, 173, 3, 54, 5, 21, 5, 21, 4, 162, 0, 27, 44, 29, 132, 3, 1, 42, 27]
abbrev dktJ14_inflate_0 : List UInt8 := dkwJ14_inflate_0 ++ dktJ14_inflate_1
theorem dksJ14_inflate_0 : cJ14_inflate.data.toList.drop 0 = dktJ14_inflate_0 := by decide +kernel
theorem dksJ14_inflate_1 : cJ14_inflate.data.toList.drop 24 = dktJ14_inflate_1 := dk_seg dksJ14_inflate_0 24 rfl rfl
theorem dJ14_inflate_0 : decode cJ14_inflate 0 = .ok (.iload_n 3, 1) := dk_29 (dk_at dksJ14_inflate_0 0 rfl rfl)
theorem dJ14_inflate_1 : decode cJ14_inflate 1 = .ok (.iload 4, 2) := dk_21 4 (dk_at dksJ14_inflate_0 1 rfl rfl)
theorem dJ14_inflate_3 : decode cJ14_inflate 3 = .ok (.aload_n 2, 1) := dk_44 (dk_at dksJ14_inflate_0 3 rfl rfl)
theorem dJ14_inflate_4 : decode cJ14_inflate 4 = .ok (.invokestatic 173, 3) := dk_184 0 173 (dk_at dksJ14_inflate_0 4 rfl rfl)
theorem dJ14_inflate_7 : decode cJ14_inflate 7 = .ok (.iconst 0, 1) := dk_3 (dk_at dksJ14_inflate_0 7 rfl rfl)
theorem dJ14_inflate_8 : decode cJ14_inflate 8 = .ok (.istore 5, 2) := dk_54 5 (dk_at dksJ14_inflate_0 8 rfl rfl)
theorem dJ14_inflate_10 : decode cJ14_inflate 10 = .ok (.iload 5, 2) := dk_21 5 (dk_at dksJ14_inflate_0 10 rfl rfl)
theorem dJ14_inflate_12 : decode cJ14_inflate 12 = .ok (.iload 4, 2) := dk_21 4 (dk_at dksJ14_inflate_0 12 rfl rfl)
theorem dJ14_inflate_14 : decode cJ14_inflate 14 = .ok (.if_icmp .ge 27, 3) := dk_162 0 27 (dk_at dksJ14_inflate_0 14 rfl rfl)
theorem dJ14_inflate_17 : decode cJ14_inflate 17 = .ok (.aload_n 2, 1) := dk_44 (dk_at dksJ14_inflate_0 17 rfl rfl)
theorem dJ14_inflate_18 : decode cJ14_inflate 18 = .ok (.iload_n 3, 1) := dk_29 (dk_at dksJ14_inflate_0 18 rfl rfl)
theorem dJ14_inflate_19 : decode cJ14_inflate 19 = .ok (.iinc 3 1, 3) := dk_132 3 1 (dk_at dksJ14_inflate_0 19 rfl rfl)
theorem dJ14_inflate_22 : decode cJ14_inflate 22 = .ok (.aload_n 0, 1) := dk_42 (dk_at dksJ14_inflate_0 22 rfl rfl)
theorem dJ14_inflate_23 : decode cJ14_inflate 23 = .ok (.iload_n 1, 1) := dk_27 (dk_at dksJ14_inflate_0 23 rfl rfl)
theorem dJ14_inflate_24 : decode cJ14_inflate 24 = .ok (.iinc 1 1, 3) := dk_132 1 1 (dk_at dksJ14_inflate_1 0 rfl rfl)
theorem dJ14_inflate_27 : decode cJ14_inflate 27 = .ok (.baload, 1) := dk_51 (dk_at dksJ14_inflate_1 3 rfl rfl)
theorem dJ14_inflate_28 : decode cJ14_inflate 28 = .ok (.sipush 255, 3) := dk_17 0 255 (dk_at dksJ14_inflate_1 4 rfl rfl)
theorem dJ14_inflate_31 : decode cJ14_inflate 31 = .ok (.iand, 1) := dk_126 (dk_at dksJ14_inflate_1 7 rfl rfl)
theorem dJ14_inflate_32 : decode cJ14_inflate 32 = .ok (.invokestatic 111, 3) := dk_184 0 111 (dk_at dksJ14_inflate_1 8 rfl rfl)
theorem dJ14_inflate_35 : decode cJ14_inflate 35 = .ok (.iinc 5 1, 3) := dk_132 5 1 (dk_at dksJ14_inflate_1 11 rfl rfl)
theorem dJ14_inflate_38 : decode cJ14_inflate 38 = .ok (.goto (-28), 3) := dk_167 255 228 (dk_at dksJ14_inflate_1 14 rfl rfl)
theorem dJ14_inflate_41 : decode cJ14_inflate 41 = .ok (.return_, 1) := dk_177 (dk_at dksJ14_inflate_1 17 rfl rfl)
abbrev cJ14_checkBoundsOffCount : ByteArray := prog_42_method_94_code
def yJ14_checkBoundsOffCount : MethodName := ⟨RJ14, "checkBoundsOffCount", "(II[B)V"⟩
def dkwJ14_checkBoundsOffCount_0 : List UInt8 := [26, 27, 44, 184, 0, 48, 184, 1, 163, 87, 177]
abbrev dktJ14_checkBoundsOffCount_0 : List UInt8 := dkwJ14_checkBoundsOffCount_0 ++ []
theorem dksJ14_checkBoundsOffCount_0 : cJ14_checkBoundsOffCount.data.toList.drop 0 = dktJ14_checkBoundsOffCount_0 := by decide +kernel
theorem dJ14_checkBoundsOffCount_0 : decode cJ14_checkBoundsOffCount 0 = .ok (.iload_n 0, 1) := dk_26 (dk_at dksJ14_checkBoundsOffCount_0 0 rfl rfl)
theorem dJ14_checkBoundsOffCount_1 : decode cJ14_checkBoundsOffCount 1 = .ok (.iload_n 1, 1) := dk_27 (dk_at dksJ14_checkBoundsOffCount_0 1 rfl rfl)
theorem dJ14_checkBoundsOffCount_2 : decode cJ14_checkBoundsOffCount 2 = .ok (.aload_n 2, 1) := dk_44 (dk_at dksJ14_checkBoundsOffCount_0 2 rfl rfl)
theorem dJ14_checkBoundsOffCount_3 : decode cJ14_checkBoundsOffCount 3 = .ok (.invokestatic 48, 3) := dk_184 0 48 (dk_at dksJ14_checkBoundsOffCount_0 3 rfl rfl)
theorem dJ14_checkBoundsOffCount_6 : decode cJ14_checkBoundsOffCount 6 = .ok (.invokestatic 419, 3) := dk_184 1 163 (dk_at dksJ14_checkBoundsOffCount_0 6 rfl rfl)
theorem dJ14_checkBoundsOffCount_9 : decode cJ14_checkBoundsOffCount 9 = .ok (.pop, 1) := dk_87 (dk_at dksJ14_checkBoundsOffCount_0 9 rfl rfl)
theorem dJ14_checkBoundsOffCount_10 : decode cJ14_checkBoundsOffCount 10 = .ok (.return_, 1) := dk_177 (dk_at dksJ14_checkBoundsOffCount_0 10 rfl rfl)
abbrev cJ14_length : ByteArray := prog_42_method_6_code
def yJ14_length : MethodName := ⟨RJ14, "length", "([B)I"⟩
def dkwJ14_length_0 : List UInt8 := [42, 190, 4, 122, 172]
abbrev dktJ14_length_0 : List UInt8 := dkwJ14_length_0 ++ []
theorem dksJ14_length_0 : cJ14_length.data.toList.drop 0 = dktJ14_length_0 := by decide +kernel
theorem dJ14_length_0 : decode cJ14_length 0 = .ok (.aload_n 0, 1) := dk_42 (dk_at dksJ14_length_0 0 rfl rfl)
theorem dJ14_length_1 : decode cJ14_length 1 = .ok (.arraylength, 1) := dk_190 (dk_at dksJ14_length_0 1 rfl rfl)
theorem dJ14_length_2 : decode cJ14_length 2 = .ok (.iconst 1, 1) := dk_4 (dk_at dksJ14_length_0 2 rfl rfl)
theorem dJ14_length_3 : decode cJ14_length 3 = .ok (.ishr, 1) := dk_122 (dk_at dksJ14_length_0 3 rfl rfl)
theorem dJ14_length_4 : decode cJ14_length 4 = .ok (.ireturn, 1) := dk_172 (dk_at dksJ14_length_0 4 rfl rfl)
abbrev cJ14_putChar : ByteArray := prog_42_method_4_code
def yJ14_putChar : MethodName := ⟨RJ14, "putChar", "([BII)V"⟩
def dkwJ14_putChar_2 : List UInt8 := [178, 0, 63, 122, 145, 84, 177]
abbrev dktJ14_putChar_2 : List UInt8 := dkwJ14_putChar_2 ++ []
def dkwJ14_putChar_1 : List UInt8 := [183, 0, 56, 191, 27, 4, 120, 60, 42, 27, 132, 1, 1, 28, 178, 0, 59, 122, 145, 84, 42, 27, 28]
abbrev dktJ14_putChar_1 : List UInt8 := dkwJ14_putChar_1 ++ dktJ14_putChar_2
def dkwJ14_putChar_0 : List UInt8 := [178, 0, 44, 154, 0, 25, 27, 155, 0, 11, 27, 42, 184, 0, 48, 161, 0, 13, 187, 0, 52, 89, 18, 54]
abbrev dktJ14_putChar_0 : List UInt8 := dkwJ14_putChar_0 ++ dktJ14_putChar_1
theorem dksJ14_putChar_0 : cJ14_putChar.data.toList.drop 0 = dktJ14_putChar_0 := by decide +kernel
theorem dksJ14_putChar_1 : cJ14_putChar.data.toList.drop 24 = dktJ14_putChar_1 := dk_seg dksJ14_putChar_0 24 rfl rfl
theorem dksJ14_putChar_2 : cJ14_putChar.data.toList.drop 47 = dktJ14_putChar_2 := dk_seg dksJ14_putChar_1 23 rfl rfl
theorem dJ14_putChar_0 : decode cJ14_putChar 0 = .ok (.getstatic 44, 3) := dk_178 0 44 (dk_at dksJ14_putChar_0 0 rfl rfl)
theorem dJ14_putChar_3 : decode cJ14_putChar 3 = .ok (.ifCond .ne 25, 3) := dk_154 0 25 (dk_at dksJ14_putChar_0 3 rfl rfl)
theorem dJ14_putChar_6 : decode cJ14_putChar 6 = .ok (.iload_n 1, 1) := dk_27 (dk_at dksJ14_putChar_0 6 rfl rfl)
theorem dJ14_putChar_7 : decode cJ14_putChar 7 = .ok (.ifCond .lt 11, 3) := dk_155 0 11 (dk_at dksJ14_putChar_0 7 rfl rfl)
theorem dJ14_putChar_10 : decode cJ14_putChar 10 = .ok (.iload_n 1, 1) := dk_27 (dk_at dksJ14_putChar_0 10 rfl rfl)
theorem dJ14_putChar_11 : decode cJ14_putChar 11 = .ok (.aload_n 0, 1) := dk_42 (dk_at dksJ14_putChar_0 11 rfl rfl)
theorem dJ14_putChar_12 : decode cJ14_putChar 12 = .ok (.invokestatic 48, 3) := dk_184 0 48 (dk_at dksJ14_putChar_0 12 rfl rfl)
theorem dJ14_putChar_15 : decode cJ14_putChar 15 = .ok (.if_icmp .lt 13, 3) := dk_161 0 13 (dk_at dksJ14_putChar_0 15 rfl rfl)
theorem dJ14_putChar_18 : decode cJ14_putChar 18 = .ok (.new 52, 3) := dk_187 0 52 (dk_at dksJ14_putChar_0 18 rfl rfl)
theorem dJ14_putChar_21 : decode cJ14_putChar 21 = .ok (.dup, 1) := dk_89 (dk_at dksJ14_putChar_0 21 rfl rfl)
theorem dJ14_putChar_22 : decode cJ14_putChar 22 = .ok (.ldc 54, 2) := dk_18 54 (dk_at dksJ14_putChar_0 22 rfl rfl)
theorem dJ14_putChar_24 : decode cJ14_putChar 24 = .ok (.invokespecial 56, 3) := dk_183 0 56 (dk_at dksJ14_putChar_1 0 rfl rfl)
theorem dJ14_putChar_27 : decode cJ14_putChar 27 = .ok (.athrow, 1) := dk_191 (dk_at dksJ14_putChar_1 3 rfl rfl)
theorem dJ14_putChar_28 : decode cJ14_putChar 28 = .ok (.iload_n 1, 1) := dk_27 (dk_at dksJ14_putChar_1 4 rfl rfl)
theorem dJ14_putChar_29 : decode cJ14_putChar 29 = .ok (.iconst 1, 1) := dk_4 (dk_at dksJ14_putChar_1 5 rfl rfl)
theorem dJ14_putChar_30 : decode cJ14_putChar 30 = .ok (.ishl, 1) := dk_120 (dk_at dksJ14_putChar_1 6 rfl rfl)
theorem dJ14_putChar_31 : decode cJ14_putChar 31 = .ok (.istore_n 1, 1) := dk_60 (dk_at dksJ14_putChar_1 7 rfl rfl)
theorem dJ14_putChar_32 : decode cJ14_putChar 32 = .ok (.aload_n 0, 1) := dk_42 (dk_at dksJ14_putChar_1 8 rfl rfl)
theorem dJ14_putChar_33 : decode cJ14_putChar 33 = .ok (.iload_n 1, 1) := dk_27 (dk_at dksJ14_putChar_1 9 rfl rfl)
theorem dJ14_putChar_34 : decode cJ14_putChar 34 = .ok (.iinc 1 1, 3) := dk_132 1 1 (dk_at dksJ14_putChar_1 10 rfl rfl)
theorem dJ14_putChar_37 : decode cJ14_putChar 37 = .ok (.iload_n 2, 1) := dk_28 (dk_at dksJ14_putChar_1 13 rfl rfl)
theorem dJ14_putChar_38 : decode cJ14_putChar 38 = .ok (.getstatic 59, 3) := dk_178 0 59 (dk_at dksJ14_putChar_1 14 rfl rfl)
theorem dJ14_putChar_41 : decode cJ14_putChar 41 = .ok (.ishr, 1) := dk_122 (dk_at dksJ14_putChar_1 17 rfl rfl)
theorem dJ14_putChar_42 : decode cJ14_putChar 42 = .ok (.i2b, 1) := dk_145 (dk_at dksJ14_putChar_1 18 rfl rfl)
theorem dJ14_putChar_43 : decode cJ14_putChar 43 = .ok (.bastore, 1) := dk_84 (dk_at dksJ14_putChar_1 19 rfl rfl)
theorem dJ14_putChar_44 : decode cJ14_putChar 44 = .ok (.aload_n 0, 1) := dk_42 (dk_at dksJ14_putChar_1 20 rfl rfl)
theorem dJ14_putChar_45 : decode cJ14_putChar 45 = .ok (.iload_n 1, 1) := dk_27 (dk_at dksJ14_putChar_1 21 rfl rfl)
theorem dJ14_putChar_46 : decode cJ14_putChar 46 = .ok (.iload_n 2, 1) := dk_28 (dk_at dksJ14_putChar_1 22 rfl rfl)
theorem dJ14_putChar_47 : decode cJ14_putChar 47 = .ok (.getstatic 63, 3) := dk_178 0 63 (dk_at dksJ14_putChar_2 0 rfl rfl)
theorem dJ14_putChar_50 : decode cJ14_putChar 50 = .ok (.ishr, 1) := dk_122 (dk_at dksJ14_putChar_2 3 rfl rfl)
theorem dJ14_putChar_51 : decode cJ14_putChar 51 = .ok (.i2b, 1) := dk_145 (dk_at dksJ14_putChar_2 4 rfl rfl)
theorem dJ14_putChar_52 : decode cJ14_putChar 52 = .ok (.bastore, 1) := dk_84 (dk_at dksJ14_putChar_2 5 rfl rfl)
theorem dJ14_putChar_53 : decode cJ14_putChar 53 = .ok (.return_, 1) := dk_177 (dk_at dksJ14_putChar_2 6 rfl rfl)
abbrev cJ14_putCharSB : ByteArray := prog_42_method_71_code
def yJ14_putCharSB : MethodName := ⟨RJ14, "putCharSB", "([BII)V"⟩
def dkwJ14_putCharSB_0 : List UInt8 := [27, 42, 184, 0, 67, 42, 27, 28, 184, 0, 111, 177]
abbrev dktJ14_putCharSB_0 : List UInt8 := dkwJ14_putCharSB_0 ++ []
theorem dksJ14_putCharSB_0 : cJ14_putCharSB.data.toList.drop 0 = dktJ14_putCharSB_0 := by decide +kernel
theorem dJ14_putCharSB_0 : decode cJ14_putCharSB 0 = .ok (.iload_n 1, 1) := dk_27 (dk_at dksJ14_putCharSB_0 0 rfl rfl)
theorem dJ14_putCharSB_1 : decode cJ14_putCharSB 1 = .ok (.aload_n 0, 1) := dk_42 (dk_at dksJ14_putCharSB_0 1 rfl rfl)
theorem dJ14_putCharSB_2 : decode cJ14_putCharSB 2 = .ok (.invokestatic 67, 3) := dk_184 0 67 (dk_at dksJ14_putCharSB_0 2 rfl rfl)
theorem dJ14_putCharSB_5 : decode cJ14_putCharSB 5 = .ok (.aload_n 0, 1) := dk_42 (dk_at dksJ14_putCharSB_0 5 rfl rfl)
theorem dJ14_putCharSB_6 : decode cJ14_putCharSB 6 = .ok (.iload_n 1, 1) := dk_27 (dk_at dksJ14_putCharSB_0 6 rfl rfl)
theorem dJ14_putCharSB_7 : decode cJ14_putCharSB 7 = .ok (.iload_n 2, 1) := dk_28 (dk_at dksJ14_putCharSB_0 7 rfl rfl)
theorem dJ14_putCharSB_8 : decode cJ14_putCharSB 8 = .ok (.invokestatic 111, 3) := dk_184 0 111 (dk_at dksJ14_putCharSB_0 8 rfl rfl)
theorem dJ14_putCharSB_11 : decode cJ14_putCharSB 11 = .ok (.return_, 1) := dk_177 (dk_at dksJ14_putCharSB_0 11 rfl rfl)
abbrev cJ14_checkIndex : ByteArray := prog_42_method_91_code
def yJ14_checkIndex : MethodName := ⟨RJ14, "checkIndex", "(I[B)V"⟩
def dkwJ14_checkIndex_0 : List UInt8 := [26, 43, 184, 0, 48, 184, 1, 158, 177]
abbrev dktJ14_checkIndex_0 : List UInt8 := dkwJ14_checkIndex_0 ++ []
theorem dksJ14_checkIndex_0 : cJ14_checkIndex.data.toList.drop 0 = dktJ14_checkIndex_0 := by decide +kernel
theorem dJ14_checkIndex_0 : decode cJ14_checkIndex 0 = .ok (.iload_n 0, 1) := dk_26 (dk_at dksJ14_checkIndex_0 0 rfl rfl)
theorem dJ14_checkIndex_1 : decode cJ14_checkIndex 1 = .ok (.aload_n 1, 1) := dk_43 (dk_at dksJ14_checkIndex_0 1 rfl rfl)
theorem dJ14_checkIndex_2 : decode cJ14_checkIndex 2 = .ok (.invokestatic 48, 3) := dk_184 0 48 (dk_at dksJ14_checkIndex_0 2 rfl rfl)
theorem dJ14_checkIndex_5 : decode cJ14_checkIndex 5 = .ok (.invokestatic 414, 3) := dk_184 1 158 (dk_at dksJ14_checkIndex_0 5 rfl rfl)
theorem dJ14_checkIndex_8 : decode cJ14_checkIndex 8 = .ok (.return_, 1) := dk_177 (dk_at dksJ14_checkIndex_0 8 rfl rfl)
abbrev cJ14_getChars : ByteArray := prog_42_method_77_code
def yJ14_getChars : MethodName := ⟨RJ14, "getChars", "(III[B)I"⟩
def dkwJ14_getChars_1 : List UInt8 := [159, 0, 11, 187, 0, 52, 89, 183, 0, 66, 191, 21, 4, 172]
abbrev dktJ14_getChars_1 : List UInt8 := dkwJ14_getChars_1 ++ []
def dkwJ14_getChars_0 : List UInt8 := [27, 28, 45, 184, 0, 96, 26, 28, 45, 184, 1, 137, 54, 4, 178, 0, 44, 154, 0, 17, 27, 21, 4]
abbrev dktJ14_getChars_0 : List UInt8 := dkwJ14_getChars_0 ++ dktJ14_getChars_1
theorem dksJ14_getChars_0 : cJ14_getChars.data.toList.drop 0 = dktJ14_getChars_0 := by decide +kernel
theorem dksJ14_getChars_1 : cJ14_getChars.data.toList.drop 23 = dktJ14_getChars_1 := dk_seg dksJ14_getChars_0 23 rfl rfl
theorem dJ14_getChars_0 : decode cJ14_getChars 0 = .ok (.iload_n 1, 1) := dk_27 (dk_at dksJ14_getChars_0 0 rfl rfl)
theorem dJ14_getChars_1 : decode cJ14_getChars 1 = .ok (.iload_n 2, 1) := dk_28 (dk_at dksJ14_getChars_0 1 rfl rfl)
theorem dJ14_getChars_2 : decode cJ14_getChars 2 = .ok (.aload_n 3, 1) := dk_45 (dk_at dksJ14_getChars_0 2 rfl rfl)
theorem dJ14_getChars_3 : decode cJ14_getChars 3 = .ok (.invokestatic 96, 3) := dk_184 0 96 (dk_at dksJ14_getChars_0 3 rfl rfl)
theorem dJ14_getChars_6 : decode cJ14_getChars 6 = .ok (.iload_n 0, 1) := dk_26 (dk_at dksJ14_getChars_0 6 rfl rfl)
theorem dJ14_getChars_7 : decode cJ14_getChars 7 = .ok (.iload_n 2, 1) := dk_28 (dk_at dksJ14_getChars_0 7 rfl rfl)
theorem dJ14_getChars_8 : decode cJ14_getChars 8 = .ok (.aload_n 3, 1) := dk_45 (dk_at dksJ14_getChars_0 8 rfl rfl)
theorem dJ14_getChars_9 : decode cJ14_getChars 9 = .ok (.invokestatic 393, 3) := dk_184 1 137 (dk_at dksJ14_getChars_0 9 rfl rfl)
theorem dJ14_getChars_12 : decode cJ14_getChars 12 = .ok (.istore 4, 2) := dk_54 4 (dk_at dksJ14_getChars_0 12 rfl rfl)
theorem dJ14_getChars_14 : decode cJ14_getChars 14 = .ok (.getstatic 44, 3) := dk_178 0 44 (dk_at dksJ14_getChars_0 14 rfl rfl)
theorem dJ14_getChars_17 : decode cJ14_getChars 17 = .ok (.ifCond .ne 17, 3) := dk_154 0 17 (dk_at dksJ14_getChars_0 17 rfl rfl)
theorem dJ14_getChars_20 : decode cJ14_getChars 20 = .ok (.iload_n 1, 1) := dk_27 (dk_at dksJ14_getChars_0 20 rfl rfl)
theorem dJ14_getChars_21 : decode cJ14_getChars 21 = .ok (.iload 4, 2) := dk_21 4 (dk_at dksJ14_getChars_0 21 rfl rfl)
theorem dJ14_getChars_23 : decode cJ14_getChars 23 = .ok (.if_icmp .eq 11, 3) := dk_159 0 11 (dk_at dksJ14_getChars_1 0 rfl rfl)
theorem dJ14_getChars_26 : decode cJ14_getChars 26 = .ok (.new 52, 3) := dk_187 0 52 (dk_at dksJ14_getChars_1 3 rfl rfl)
theorem dJ14_getChars_29 : decode cJ14_getChars 29 = .ok (.dup, 1) := dk_89 (dk_at dksJ14_getChars_1 6 rfl rfl)
theorem dJ14_getChars_30 : decode cJ14_getChars 30 = .ok (.invokespecial 66, 3) := dk_183 0 66 (dk_at dksJ14_getChars_1 7 rfl rfl)
theorem dJ14_getChars_33 : decode cJ14_getChars 33 = .ok (.athrow, 1) := dk_191 (dk_at dksJ14_getChars_1 10 rfl rfl)
theorem dJ14_getChars_34 : decode cJ14_getChars 34 = .ok (.iload 4, 2) := dk_21 4 (dk_at dksJ14_getChars_1 11 rfl rfl)
theorem dJ14_getChars_36 : decode cJ14_getChars 36 = .ok (.ireturn, 1) := dk_172 (dk_at dksJ14_getChars_1 13 rfl rfl)
abbrev cJ14_checkBoundsBeginEnd : ByteArray := prog_42_method_93_code
def yJ14_checkBoundsBeginEnd : MethodName := ⟨RJ14, "checkBoundsBeginEnd", "(II[B)V"⟩
def dkwJ14_checkBoundsBeginEnd_0 : List UInt8 := [26, 27, 44, 184, 0, 48, 184, 0, 241, 177]
abbrev dktJ14_checkBoundsBeginEnd_0 : List UInt8 := dkwJ14_checkBoundsBeginEnd_0 ++ []
theorem dksJ14_checkBoundsBeginEnd_0 : cJ14_checkBoundsBeginEnd.data.toList.drop 0 = dktJ14_checkBoundsBeginEnd_0 := by decide +kernel
theorem dJ14_checkBoundsBeginEnd_0 : decode cJ14_checkBoundsBeginEnd 0 = .ok (.iload_n 0, 1) := dk_26 (dk_at dksJ14_checkBoundsBeginEnd_0 0 rfl rfl)
theorem dJ14_checkBoundsBeginEnd_1 : decode cJ14_checkBoundsBeginEnd 1 = .ok (.iload_n 1, 1) := dk_27 (dk_at dksJ14_checkBoundsBeginEnd_0 1 rfl rfl)
theorem dJ14_checkBoundsBeginEnd_2 : decode cJ14_checkBoundsBeginEnd 2 = .ok (.aload_n 2, 1) := dk_44 (dk_at dksJ14_checkBoundsBeginEnd_0 2 rfl rfl)
theorem dJ14_checkBoundsBeginEnd_3 : decode cJ14_checkBoundsBeginEnd 3 = .ok (.invokestatic 48, 3) := dk_184 0 48 (dk_at dksJ14_checkBoundsBeginEnd_0 3 rfl rfl)
theorem dJ14_checkBoundsBeginEnd_6 : decode cJ14_checkBoundsBeginEnd 6 = .ok (.invokestatic 241, 3) := dk_184 0 241 (dk_at dksJ14_checkBoundsBeginEnd_0 6 rfl rfl)
theorem dJ14_checkBoundsBeginEnd_9 : decode cJ14_checkBoundsBeginEnd 9 = .ok (.return_, 1) := dk_177 (dk_at dksJ14_checkBoundsBeginEnd_0 9 rfl rfl)
abbrev cJ14_getChars_2 : ByteArray := prog_42_method_89_code
def yJ14_getChars_2 : MethodName := ⟨RJ14, "getChars", "(II[B)I"⟩
def dkwJ14_getChars_2_5 : List UInt8 := [132, 5, 255, 21, 5, 16, 45, 184, 0, 111, 21, 5, 172]
abbrev dktJ14_getChars_2_5 : List UInt8 := dkwJ14_getChars_2_5 ++ []
def dkwJ14_getChars_2_4 : List UInt8 := [162, 0, 18, 44, 132, 5, 255, 21, 5, 178, 1, 151, 26, 116, 51, 184, 0, 111, 21, 6, 153, 0, 14, 44]
abbrev dktJ14_getChars_2_4 : List UInt8 := dkwJ14_getChars_2_4 ++ dktJ14_getChars_2_5
def dkwJ14_getChars_2_3 : List UInt8 := [184, 0, 111, 167, 255, 205, 44, 132, 5, 255, 21, 5, 178, 1, 147, 26, 116, 51, 184, 0, 111, 26, 16, 247]
abbrev dktJ14_getChars_2_3 : List UInt8 := dkwJ14_getChars_2_3 ++ dktJ14_getChars_2_4
def dkwJ14_getChars_2_2 : List UInt8 := [21, 5, 178, 1, 147, 21, 4, 51, 184, 0, 111, 44, 132, 5, 255, 21, 5, 178, 1, 151, 21, 4, 51]
abbrev dktJ14_getChars_2_2 : List UInt8 := dkwJ14_getChars_2_2 ++ dktJ14_getChars_2_3
def dkwJ14_getChars_2_1 : List UInt8 := [16, 156, 163, 0, 51, 26, 16, 100, 108, 62, 29, 16, 100, 104, 26, 100, 54, 4, 29, 59, 44, 132, 5, 255]
abbrev dktJ14_getChars_2_1 : List UInt8 := dkwJ14_getChars_2_1 ++ dktJ14_getChars_2_2
def dkwJ14_getChars_2_0 : List UInt8 := [27, 54, 5, 26, 156, 0, 7, 4, 167, 0, 4, 3, 54, 6, 21, 6, 154, 0, 6, 26, 116, 59, 26]
abbrev dktJ14_getChars_2_0 : List UInt8 := dkwJ14_getChars_2_0 ++ dktJ14_getChars_2_1
theorem dksJ14_getChars_2_0 : cJ14_getChars_2.data.toList.drop 0 = dktJ14_getChars_2_0 := by decide +kernel
theorem dksJ14_getChars_2_1 : cJ14_getChars_2.data.toList.drop 23 = dktJ14_getChars_2_1 := dk_seg dksJ14_getChars_2_0 23 rfl rfl
theorem dksJ14_getChars_2_2 : cJ14_getChars_2.data.toList.drop 47 = dktJ14_getChars_2_2 := dk_seg dksJ14_getChars_2_1 24 rfl rfl
theorem dksJ14_getChars_2_3 : cJ14_getChars_2.data.toList.drop 70 = dktJ14_getChars_2_3 := dk_seg dksJ14_getChars_2_2 23 rfl rfl
theorem dksJ14_getChars_2_4 : cJ14_getChars_2.data.toList.drop 94 = dktJ14_getChars_2_4 := dk_seg dksJ14_getChars_2_3 24 rfl rfl
theorem dksJ14_getChars_2_5 : cJ14_getChars_2.data.toList.drop 118 = dktJ14_getChars_2_5 := dk_seg dksJ14_getChars_2_4 24 rfl rfl
theorem dJ14_getChars_2_0 : decode cJ14_getChars_2 0 = .ok (.iload_n 1, 1) := dk_27 (dk_at dksJ14_getChars_2_0 0 rfl rfl)
theorem dJ14_getChars_2_1 : decode cJ14_getChars_2 1 = .ok (.istore 5, 2) := dk_54 5 (dk_at dksJ14_getChars_2_0 1 rfl rfl)
theorem dJ14_getChars_2_3 : decode cJ14_getChars_2 3 = .ok (.iload_n 0, 1) := dk_26 (dk_at dksJ14_getChars_2_0 3 rfl rfl)
theorem dJ14_getChars_2_4 : decode cJ14_getChars_2 4 = .ok (.ifCond .ge 7, 3) := dk_156 0 7 (dk_at dksJ14_getChars_2_0 4 rfl rfl)
theorem dJ14_getChars_2_7 : decode cJ14_getChars_2 7 = .ok (.iconst 1, 1) := dk_4 (dk_at dksJ14_getChars_2_0 7 rfl rfl)
theorem dJ14_getChars_2_8 : decode cJ14_getChars_2 8 = .ok (.goto 4, 3) := dk_167 0 4 (dk_at dksJ14_getChars_2_0 8 rfl rfl)
theorem dJ14_getChars_2_11 : decode cJ14_getChars_2 11 = .ok (.iconst 0, 1) := dk_3 (dk_at dksJ14_getChars_2_0 11 rfl rfl)
theorem dJ14_getChars_2_12 : decode cJ14_getChars_2 12 = .ok (.istore 6, 2) := dk_54 6 (dk_at dksJ14_getChars_2_0 12 rfl rfl)
theorem dJ14_getChars_2_14 : decode cJ14_getChars_2 14 = .ok (.iload 6, 2) := dk_21 6 (dk_at dksJ14_getChars_2_0 14 rfl rfl)
theorem dJ14_getChars_2_16 : decode cJ14_getChars_2 16 = .ok (.ifCond .ne 6, 3) := dk_154 0 6 (dk_at dksJ14_getChars_2_0 16 rfl rfl)
theorem dJ14_getChars_2_19 : decode cJ14_getChars_2 19 = .ok (.iload_n 0, 1) := dk_26 (dk_at dksJ14_getChars_2_0 19 rfl rfl)
theorem dJ14_getChars_2_20 : decode cJ14_getChars_2 20 = .ok (.ineg, 1) := dk_116 (dk_at dksJ14_getChars_2_0 20 rfl rfl)
theorem dJ14_getChars_2_21 : decode cJ14_getChars_2 21 = .ok (.istore_n 0, 1) := dk_59 (dk_at dksJ14_getChars_2_0 21 rfl rfl)
theorem dJ14_getChars_2_22 : decode cJ14_getChars_2 22 = .ok (.iload_n 0, 1) := dk_26 (dk_at dksJ14_getChars_2_0 22 rfl rfl)
theorem dJ14_getChars_2_23 : decode cJ14_getChars_2 23 = .ok (.bipush (-100), 2) := dk_16 156 (dk_at dksJ14_getChars_2_1 0 rfl rfl)
theorem dJ14_getChars_2_25 : decode cJ14_getChars_2 25 = .ok (.if_icmp .gt 51, 3) := dk_163 0 51 (dk_at dksJ14_getChars_2_1 2 rfl rfl)
theorem dJ14_getChars_2_28 : decode cJ14_getChars_2 28 = .ok (.iload_n 0, 1) := dk_26 (dk_at dksJ14_getChars_2_1 5 rfl rfl)
theorem dJ14_getChars_2_29 : decode cJ14_getChars_2 29 = .ok (.bipush 100, 2) := dk_16 100 (dk_at dksJ14_getChars_2_1 6 rfl rfl)
theorem dJ14_getChars_2_31 : decode cJ14_getChars_2 31 = .ok (.idiv, 1) := dk_108 (dk_at dksJ14_getChars_2_1 8 rfl rfl)
theorem dJ14_getChars_2_32 : decode cJ14_getChars_2 32 = .ok (.istore_n 3, 1) := dk_62 (dk_at dksJ14_getChars_2_1 9 rfl rfl)
theorem dJ14_getChars_2_33 : decode cJ14_getChars_2 33 = .ok (.iload_n 3, 1) := dk_29 (dk_at dksJ14_getChars_2_1 10 rfl rfl)
theorem dJ14_getChars_2_34 : decode cJ14_getChars_2 34 = .ok (.bipush 100, 2) := dk_16 100 (dk_at dksJ14_getChars_2_1 11 rfl rfl)
theorem dJ14_getChars_2_36 : decode cJ14_getChars_2 36 = .ok (.imul, 1) := dk_104 (dk_at dksJ14_getChars_2_1 13 rfl rfl)
theorem dJ14_getChars_2_37 : decode cJ14_getChars_2 37 = .ok (.iload_n 0, 1) := dk_26 (dk_at dksJ14_getChars_2_1 14 rfl rfl)
theorem dJ14_getChars_2_38 : decode cJ14_getChars_2 38 = .ok (.isub, 1) := dk_100 (dk_at dksJ14_getChars_2_1 15 rfl rfl)
theorem dJ14_getChars_2_39 : decode cJ14_getChars_2 39 = .ok (.istore 4, 2) := dk_54 4 (dk_at dksJ14_getChars_2_1 16 rfl rfl)
theorem dJ14_getChars_2_41 : decode cJ14_getChars_2 41 = .ok (.iload_n 3, 1) := dk_29 (dk_at dksJ14_getChars_2_1 18 rfl rfl)
theorem dJ14_getChars_2_42 : decode cJ14_getChars_2 42 = .ok (.istore_n 0, 1) := dk_59 (dk_at dksJ14_getChars_2_1 19 rfl rfl)
theorem dJ14_getChars_2_43 : decode cJ14_getChars_2 43 = .ok (.aload_n 2, 1) := dk_44 (dk_at dksJ14_getChars_2_1 20 rfl rfl)
theorem dJ14_getChars_2_44 : decode cJ14_getChars_2 44 = .ok (.iinc 5 (-1), 3) := dk_132 5 255 (dk_at dksJ14_getChars_2_1 21 rfl rfl)
theorem dJ14_getChars_2_47 : decode cJ14_getChars_2 47 = .ok (.iload 5, 2) := dk_21 5 (dk_at dksJ14_getChars_2_2 0 rfl rfl)
theorem dJ14_getChars_2_49 : decode cJ14_getChars_2 49 = .ok (.getstatic 403, 3) := dk_178 1 147 (dk_at dksJ14_getChars_2_2 2 rfl rfl)
theorem dJ14_getChars_2_52 : decode cJ14_getChars_2 52 = .ok (.iload 4, 2) := dk_21 4 (dk_at dksJ14_getChars_2_2 5 rfl rfl)
theorem dJ14_getChars_2_54 : decode cJ14_getChars_2 54 = .ok (.baload, 1) := dk_51 (dk_at dksJ14_getChars_2_2 7 rfl rfl)
theorem dJ14_getChars_2_55 : decode cJ14_getChars_2 55 = .ok (.invokestatic 111, 3) := dk_184 0 111 (dk_at dksJ14_getChars_2_2 8 rfl rfl)
theorem dJ14_getChars_2_58 : decode cJ14_getChars_2 58 = .ok (.aload_n 2, 1) := dk_44 (dk_at dksJ14_getChars_2_2 11 rfl rfl)
theorem dJ14_getChars_2_59 : decode cJ14_getChars_2 59 = .ok (.iinc 5 (-1), 3) := dk_132 5 255 (dk_at dksJ14_getChars_2_2 12 rfl rfl)
theorem dJ14_getChars_2_62 : decode cJ14_getChars_2 62 = .ok (.iload 5, 2) := dk_21 5 (dk_at dksJ14_getChars_2_2 15 rfl rfl)
theorem dJ14_getChars_2_64 : decode cJ14_getChars_2 64 = .ok (.getstatic 407, 3) := dk_178 1 151 (dk_at dksJ14_getChars_2_2 17 rfl rfl)
theorem dJ14_getChars_2_67 : decode cJ14_getChars_2 67 = .ok (.iload 4, 2) := dk_21 4 (dk_at dksJ14_getChars_2_2 20 rfl rfl)
theorem dJ14_getChars_2_69 : decode cJ14_getChars_2 69 = .ok (.baload, 1) := dk_51 (dk_at dksJ14_getChars_2_2 22 rfl rfl)
theorem dJ14_getChars_2_70 : decode cJ14_getChars_2 70 = .ok (.invokestatic 111, 3) := dk_184 0 111 (dk_at dksJ14_getChars_2_3 0 rfl rfl)
theorem dJ14_getChars_2_73 : decode cJ14_getChars_2 73 = .ok (.goto (-51), 3) := dk_167 255 205 (dk_at dksJ14_getChars_2_3 3 rfl rfl)
theorem dJ14_getChars_2_76 : decode cJ14_getChars_2 76 = .ok (.aload_n 2, 1) := dk_44 (dk_at dksJ14_getChars_2_3 6 rfl rfl)
theorem dJ14_getChars_2_77 : decode cJ14_getChars_2 77 = .ok (.iinc 5 (-1), 3) := dk_132 5 255 (dk_at dksJ14_getChars_2_3 7 rfl rfl)
theorem dJ14_getChars_2_80 : decode cJ14_getChars_2 80 = .ok (.iload 5, 2) := dk_21 5 (dk_at dksJ14_getChars_2_3 10 rfl rfl)
theorem dJ14_getChars_2_82 : decode cJ14_getChars_2 82 = .ok (.getstatic 403, 3) := dk_178 1 147 (dk_at dksJ14_getChars_2_3 12 rfl rfl)
theorem dJ14_getChars_2_85 : decode cJ14_getChars_2 85 = .ok (.iload_n 0, 1) := dk_26 (dk_at dksJ14_getChars_2_3 15 rfl rfl)
theorem dJ14_getChars_2_86 : decode cJ14_getChars_2 86 = .ok (.ineg, 1) := dk_116 (dk_at dksJ14_getChars_2_3 16 rfl rfl)
theorem dJ14_getChars_2_87 : decode cJ14_getChars_2 87 = .ok (.baload, 1) := dk_51 (dk_at dksJ14_getChars_2_3 17 rfl rfl)
theorem dJ14_getChars_2_88 : decode cJ14_getChars_2 88 = .ok (.invokestatic 111, 3) := dk_184 0 111 (dk_at dksJ14_getChars_2_3 18 rfl rfl)
theorem dJ14_getChars_2_91 : decode cJ14_getChars_2 91 = .ok (.iload_n 0, 1) := dk_26 (dk_at dksJ14_getChars_2_3 21 rfl rfl)
theorem dJ14_getChars_2_92 : decode cJ14_getChars_2 92 = .ok (.bipush (-9), 2) := dk_16 247 (dk_at dksJ14_getChars_2_3 22 rfl rfl)
theorem dJ14_getChars_2_94 : decode cJ14_getChars_2 94 = .ok (.if_icmp .ge 18, 3) := dk_162 0 18 (dk_at dksJ14_getChars_2_4 0 rfl rfl)
theorem dJ14_getChars_2_97 : decode cJ14_getChars_2 97 = .ok (.aload_n 2, 1) := dk_44 (dk_at dksJ14_getChars_2_4 3 rfl rfl)
theorem dJ14_getChars_2_98 : decode cJ14_getChars_2 98 = .ok (.iinc 5 (-1), 3) := dk_132 5 255 (dk_at dksJ14_getChars_2_4 4 rfl rfl)
theorem dJ14_getChars_2_101 : decode cJ14_getChars_2 101 = .ok (.iload 5, 2) := dk_21 5 (dk_at dksJ14_getChars_2_4 7 rfl rfl)
theorem dJ14_getChars_2_103 : decode cJ14_getChars_2 103 = .ok (.getstatic 407, 3) := dk_178 1 151 (dk_at dksJ14_getChars_2_4 9 rfl rfl)
theorem dJ14_getChars_2_106 : decode cJ14_getChars_2 106 = .ok (.iload_n 0, 1) := dk_26 (dk_at dksJ14_getChars_2_4 12 rfl rfl)
theorem dJ14_getChars_2_107 : decode cJ14_getChars_2 107 = .ok (.ineg, 1) := dk_116 (dk_at dksJ14_getChars_2_4 13 rfl rfl)
theorem dJ14_getChars_2_108 : decode cJ14_getChars_2 108 = .ok (.baload, 1) := dk_51 (dk_at dksJ14_getChars_2_4 14 rfl rfl)
theorem dJ14_getChars_2_109 : decode cJ14_getChars_2 109 = .ok (.invokestatic 111, 3) := dk_184 0 111 (dk_at dksJ14_getChars_2_4 15 rfl rfl)
theorem dJ14_getChars_2_112 : decode cJ14_getChars_2 112 = .ok (.iload 6, 2) := dk_21 6 (dk_at dksJ14_getChars_2_4 18 rfl rfl)
theorem dJ14_getChars_2_114 : decode cJ14_getChars_2 114 = .ok (.ifCond .eq 14, 3) := dk_153 0 14 (dk_at dksJ14_getChars_2_4 20 rfl rfl)
theorem dJ14_getChars_2_117 : decode cJ14_getChars_2 117 = .ok (.aload_n 2, 1) := dk_44 (dk_at dksJ14_getChars_2_4 23 rfl rfl)
theorem dJ14_getChars_2_118 : decode cJ14_getChars_2 118 = .ok (.iinc 5 (-1), 3) := dk_132 5 255 (dk_at dksJ14_getChars_2_5 0 rfl rfl)
theorem dJ14_getChars_2_121 : decode cJ14_getChars_2 121 = .ok (.iload 5, 2) := dk_21 5 (dk_at dksJ14_getChars_2_5 3 rfl rfl)
theorem dJ14_getChars_2_123 : decode cJ14_getChars_2 123 = .ok (.bipush 45, 2) := dk_16 45 (dk_at dksJ14_getChars_2_5 5 rfl rfl)
theorem dJ14_getChars_2_125 : decode cJ14_getChars_2 125 = .ok (.invokestatic 111, 3) := dk_184 0 111 (dk_at dksJ14_getChars_2_5 7 rfl rfl)
theorem dJ14_getChars_2_128 : decode cJ14_getChars_2 128 = .ok (.iload 5, 2) := dk_21 5 (dk_at dksJ14_getChars_2_5 10 rfl rfl)
theorem dJ14_getChars_2_130 : decode cJ14_getChars_2 130 = .ok (.ireturn, 1) := dk_172 (dk_at dksJ14_getChars_2_5 12 rfl rfl)
abbrev cJ14_putCharsAt : ByteArray := prog_42_method_81_code
def yJ14_putCharsAt : MethodName := ⟨RJ14, "putCharsAt", "([BICCCC)I"⟩
def dkwJ14_putCharsAt_3 : List UInt8 := [21, 6, 172]
abbrev dktJ14_putCharsAt_3 : List UInt8 := dkwJ14_putCharsAt_3 ++ []
def dkwJ14_putCharsAt_2 : List UInt8 := [184, 0, 111, 178, 0, 44, 154, 0, 17, 27, 21, 6, 159, 0, 11, 187, 0, 52, 89, 183, 0, 66, 191]
abbrev dktJ14_putCharsAt_2 : List UInt8 := dkwJ14_putCharsAt_2 ++ dktJ14_putCharsAt_3
def dkwJ14_putCharsAt_1 : List UInt8 := [132, 1, 1, 29, 184, 0, 111, 42, 27, 132, 1, 1, 21, 4, 184, 0, 111, 42, 27, 132, 1, 1, 21, 5]
abbrev dktJ14_putCharsAt_1 : List UInt8 := dkwJ14_putCharsAt_1 ++ dktJ14_putCharsAt_2
def dkwJ14_putCharsAt_0 : List UInt8 := [27, 7, 96, 54, 6, 27, 21, 6, 42, 184, 0, 96, 42, 27, 132, 1, 1, 28, 184, 0, 111, 42, 27]
abbrev dktJ14_putCharsAt_0 : List UInt8 := dkwJ14_putCharsAt_0 ++ dktJ14_putCharsAt_1
theorem dksJ14_putCharsAt_0 : cJ14_putCharsAt.data.toList.drop 0 = dktJ14_putCharsAt_0 := by decide +kernel
theorem dksJ14_putCharsAt_1 : cJ14_putCharsAt.data.toList.drop 23 = dktJ14_putCharsAt_1 := dk_seg dksJ14_putCharsAt_0 23 rfl rfl
theorem dksJ14_putCharsAt_2 : cJ14_putCharsAt.data.toList.drop 47 = dktJ14_putCharsAt_2 := dk_seg dksJ14_putCharsAt_1 24 rfl rfl
theorem dksJ14_putCharsAt_3 : cJ14_putCharsAt.data.toList.drop 70 = dktJ14_putCharsAt_3 := dk_seg dksJ14_putCharsAt_2 23 rfl rfl
theorem dJ14_putCharsAt_0 : decode cJ14_putCharsAt 0 = .ok (.iload_n 1, 1) := dk_27 (dk_at dksJ14_putCharsAt_0 0 rfl rfl)
theorem dJ14_putCharsAt_1 : decode cJ14_putCharsAt 1 = .ok (.iconst 4, 1) := dk_7 (dk_at dksJ14_putCharsAt_0 1 rfl rfl)
theorem dJ14_putCharsAt_2 : decode cJ14_putCharsAt 2 = .ok (.iadd, 1) := dk_96 (dk_at dksJ14_putCharsAt_0 2 rfl rfl)
theorem dJ14_putCharsAt_3 : decode cJ14_putCharsAt 3 = .ok (.istore 6, 2) := dk_54 6 (dk_at dksJ14_putCharsAt_0 3 rfl rfl)
theorem dJ14_putCharsAt_5 : decode cJ14_putCharsAt 5 = .ok (.iload_n 1, 1) := dk_27 (dk_at dksJ14_putCharsAt_0 5 rfl rfl)
theorem dJ14_putCharsAt_6 : decode cJ14_putCharsAt 6 = .ok (.iload 6, 2) := dk_21 6 (dk_at dksJ14_putCharsAt_0 6 rfl rfl)
theorem dJ14_putCharsAt_8 : decode cJ14_putCharsAt 8 = .ok (.aload_n 0, 1) := dk_42 (dk_at dksJ14_putCharsAt_0 8 rfl rfl)
theorem dJ14_putCharsAt_9 : decode cJ14_putCharsAt 9 = .ok (.invokestatic 96, 3) := dk_184 0 96 (dk_at dksJ14_putCharsAt_0 9 rfl rfl)
theorem dJ14_putCharsAt_12 : decode cJ14_putCharsAt 12 = .ok (.aload_n 0, 1) := dk_42 (dk_at dksJ14_putCharsAt_0 12 rfl rfl)
theorem dJ14_putCharsAt_13 : decode cJ14_putCharsAt 13 = .ok (.iload_n 1, 1) := dk_27 (dk_at dksJ14_putCharsAt_0 13 rfl rfl)
theorem dJ14_putCharsAt_14 : decode cJ14_putCharsAt 14 = .ok (.iinc 1 1, 3) := dk_132 1 1 (dk_at dksJ14_putCharsAt_0 14 rfl rfl)
theorem dJ14_putCharsAt_17 : decode cJ14_putCharsAt 17 = .ok (.iload_n 2, 1) := dk_28 (dk_at dksJ14_putCharsAt_0 17 rfl rfl)
theorem dJ14_putCharsAt_18 : decode cJ14_putCharsAt 18 = .ok (.invokestatic 111, 3) := dk_184 0 111 (dk_at dksJ14_putCharsAt_0 18 rfl rfl)
theorem dJ14_putCharsAt_21 : decode cJ14_putCharsAt 21 = .ok (.aload_n 0, 1) := dk_42 (dk_at dksJ14_putCharsAt_0 21 rfl rfl)
theorem dJ14_putCharsAt_22 : decode cJ14_putCharsAt 22 = .ok (.iload_n 1, 1) := dk_27 (dk_at dksJ14_putCharsAt_0 22 rfl rfl)
theorem dJ14_putCharsAt_23 : decode cJ14_putCharsAt 23 = .ok (.iinc 1 1, 3) := dk_132 1 1 (dk_at dksJ14_putCharsAt_1 0 rfl rfl)
theorem dJ14_putCharsAt_26 : decode cJ14_putCharsAt 26 = .ok (.iload_n 3, 1) := dk_29 (dk_at dksJ14_putCharsAt_1 3 rfl rfl)
theorem dJ14_putCharsAt_27 : decode cJ14_putCharsAt 27 = .ok (.invokestatic 111, 3) := dk_184 0 111 (dk_at dksJ14_putCharsAt_1 4 rfl rfl)
theorem dJ14_putCharsAt_30 : decode cJ14_putCharsAt 30 = .ok (.aload_n 0, 1) := dk_42 (dk_at dksJ14_putCharsAt_1 7 rfl rfl)
theorem dJ14_putCharsAt_31 : decode cJ14_putCharsAt 31 = .ok (.iload_n 1, 1) := dk_27 (dk_at dksJ14_putCharsAt_1 8 rfl rfl)
theorem dJ14_putCharsAt_32 : decode cJ14_putCharsAt 32 = .ok (.iinc 1 1, 3) := dk_132 1 1 (dk_at dksJ14_putCharsAt_1 9 rfl rfl)
theorem dJ14_putCharsAt_35 : decode cJ14_putCharsAt 35 = .ok (.iload 4, 2) := dk_21 4 (dk_at dksJ14_putCharsAt_1 12 rfl rfl)
theorem dJ14_putCharsAt_37 : decode cJ14_putCharsAt 37 = .ok (.invokestatic 111, 3) := dk_184 0 111 (dk_at dksJ14_putCharsAt_1 14 rfl rfl)
theorem dJ14_putCharsAt_40 : decode cJ14_putCharsAt 40 = .ok (.aload_n 0, 1) := dk_42 (dk_at dksJ14_putCharsAt_1 17 rfl rfl)
theorem dJ14_putCharsAt_41 : decode cJ14_putCharsAt 41 = .ok (.iload_n 1, 1) := dk_27 (dk_at dksJ14_putCharsAt_1 18 rfl rfl)
theorem dJ14_putCharsAt_42 : decode cJ14_putCharsAt 42 = .ok (.iinc 1 1, 3) := dk_132 1 1 (dk_at dksJ14_putCharsAt_1 19 rfl rfl)
theorem dJ14_putCharsAt_45 : decode cJ14_putCharsAt 45 = .ok (.iload 5, 2) := dk_21 5 (dk_at dksJ14_putCharsAt_1 22 rfl rfl)
theorem dJ14_putCharsAt_47 : decode cJ14_putCharsAt 47 = .ok (.invokestatic 111, 3) := dk_184 0 111 (dk_at dksJ14_putCharsAt_2 0 rfl rfl)
theorem dJ14_putCharsAt_50 : decode cJ14_putCharsAt 50 = .ok (.getstatic 44, 3) := dk_178 0 44 (dk_at dksJ14_putCharsAt_2 3 rfl rfl)
theorem dJ14_putCharsAt_53 : decode cJ14_putCharsAt 53 = .ok (.ifCond .ne 17, 3) := dk_154 0 17 (dk_at dksJ14_putCharsAt_2 6 rfl rfl)
theorem dJ14_putCharsAt_56 : decode cJ14_putCharsAt 56 = .ok (.iload_n 1, 1) := dk_27 (dk_at dksJ14_putCharsAt_2 9 rfl rfl)
theorem dJ14_putCharsAt_57 : decode cJ14_putCharsAt 57 = .ok (.iload 6, 2) := dk_21 6 (dk_at dksJ14_putCharsAt_2 10 rfl rfl)
theorem dJ14_putCharsAt_59 : decode cJ14_putCharsAt 59 = .ok (.if_icmp .eq 11, 3) := dk_159 0 11 (dk_at dksJ14_putCharsAt_2 12 rfl rfl)
theorem dJ14_putCharsAt_62 : decode cJ14_putCharsAt 62 = .ok (.new 52, 3) := dk_187 0 52 (dk_at dksJ14_putCharsAt_2 15 rfl rfl)
theorem dJ14_putCharsAt_65 : decode cJ14_putCharsAt 65 = .ok (.dup, 1) := dk_89 (dk_at dksJ14_putCharsAt_2 18 rfl rfl)
theorem dJ14_putCharsAt_66 : decode cJ14_putCharsAt 66 = .ok (.invokespecial 66, 3) := dk_183 0 66 (dk_at dksJ14_putCharsAt_2 19 rfl rfl)
theorem dJ14_putCharsAt_69 : decode cJ14_putCharsAt 69 = .ok (.athrow, 1) := dk_191 (dk_at dksJ14_putCharsAt_2 22 rfl rfl)
theorem dJ14_putCharsAt_70 : decode cJ14_putCharsAt 70 = .ok (.iload 6, 2) := dk_21 6 (dk_at dksJ14_putCharsAt_3 0 rfl rfl)
theorem dJ14_putCharsAt_72 : decode cJ14_putCharsAt 72 = .ok (.ireturn, 1) := dk_172 (dk_at dksJ14_putCharsAt_3 2 rfl rfl)
abbrev cJ14_compress : ByteArray := prog_42_method_17_code
def yJ14_compress : MethodName := ⟨RJ14, "compress", "([BII)[B"⟩
def dkwJ14_compress_2 : List UInt8 := [25, 5, 3, 45, 3, 28, 184, 0, 123, 28, 159, 0, 6, 25, 5, 176, 45, 176]
abbrev dktJ14_compress_2 : List UInt8 := dkwJ14_compress_2 ++ []
def dkwJ14_compress_1 : List UInt8 := [27, 28, 96, 184, 0, 11, 184, 0, 126, 58, 5, 25, 5, 21, 4, 184, 0, 71, 17, 0, 255, 163, 0, 16]
abbrev dktJ14_compress_1 : List UInt8 := dkwJ14_compress_1 ++ dktJ14_compress_2
def dkwJ14_compress_0 : List UInt8 := [28, 188, 8, 78, 42, 27, 45, 3, 28, 184, 0, 123, 54, 4, 21, 4, 28, 159, 0, 47, 42, 27, 4, 120]
abbrev dktJ14_compress_0 : List UInt8 := dkwJ14_compress_0 ++ dktJ14_compress_1
theorem dksJ14_compress_0 : cJ14_compress.data.toList.drop 0 = dktJ14_compress_0 := by decide +kernel
theorem dksJ14_compress_1 : cJ14_compress.data.toList.drop 24 = dktJ14_compress_1 := dk_seg dksJ14_compress_0 24 rfl rfl
theorem dksJ14_compress_2 : cJ14_compress.data.toList.drop 48 = dktJ14_compress_2 := dk_seg dksJ14_compress_1 24 rfl rfl
theorem dJ14_compress_0 : decode cJ14_compress 0 = .ok (.iload_n 2, 1) := dk_28 (dk_at dksJ14_compress_0 0 rfl rfl)
theorem dJ14_compress_1 : decode cJ14_compress 1 = .ok (.newarray .byte, 2) := dk_188_8 (dk_at dksJ14_compress_0 1 rfl rfl)
theorem dJ14_compress_3 : decode cJ14_compress 3 = .ok (.astore_n 3, 1) := dk_78 (dk_at dksJ14_compress_0 3 rfl rfl)
theorem dJ14_compress_4 : decode cJ14_compress 4 = .ok (.aload_n 0, 1) := dk_42 (dk_at dksJ14_compress_0 4 rfl rfl)
theorem dJ14_compress_5 : decode cJ14_compress 5 = .ok (.iload_n 1, 1) := dk_27 (dk_at dksJ14_compress_0 5 rfl rfl)
theorem dJ14_compress_6 : decode cJ14_compress 6 = .ok (.aload_n 3, 1) := dk_45 (dk_at dksJ14_compress_0 6 rfl rfl)
theorem dJ14_compress_7 : decode cJ14_compress 7 = .ok (.iconst 0, 1) := dk_3 (dk_at dksJ14_compress_0 7 rfl rfl)
theorem dJ14_compress_8 : decode cJ14_compress 8 = .ok (.iload_n 2, 1) := dk_28 (dk_at dksJ14_compress_0 8 rfl rfl)
theorem dJ14_compress_9 : decode cJ14_compress 9 = .ok (.invokestatic 123, 3) := dk_184 0 123 (dk_at dksJ14_compress_0 9 rfl rfl)
theorem dJ14_compress_12 : decode cJ14_compress 12 = .ok (.istore 4, 2) := dk_54 4 (dk_at dksJ14_compress_0 12 rfl rfl)
theorem dJ14_compress_14 : decode cJ14_compress 14 = .ok (.iload 4, 2) := dk_21 4 (dk_at dksJ14_compress_0 14 rfl rfl)
theorem dJ14_compress_16 : decode cJ14_compress 16 = .ok (.iload_n 2, 1) := dk_28 (dk_at dksJ14_compress_0 16 rfl rfl)
theorem dJ14_compress_17 : decode cJ14_compress 17 = .ok (.if_icmp .eq 47, 3) := dk_159 0 47 (dk_at dksJ14_compress_0 17 rfl rfl)
theorem dJ14_compress_20 : decode cJ14_compress 20 = .ok (.aload_n 0, 1) := dk_42 (dk_at dksJ14_compress_0 20 rfl rfl)
theorem dJ14_compress_21 : decode cJ14_compress 21 = .ok (.iload_n 1, 1) := dk_27 (dk_at dksJ14_compress_0 21 rfl rfl)
theorem dJ14_compress_22 : decode cJ14_compress 22 = .ok (.iconst 1, 1) := dk_4 (dk_at dksJ14_compress_0 22 rfl rfl)
theorem dJ14_compress_23 : decode cJ14_compress 23 = .ok (.ishl, 1) := dk_120 (dk_at dksJ14_compress_0 23 rfl rfl)
theorem dJ14_compress_24 : decode cJ14_compress 24 = .ok (.iload_n 1, 1) := dk_27 (dk_at dksJ14_compress_1 0 rfl rfl)
theorem dJ14_compress_25 : decode cJ14_compress 25 = .ok (.iload_n 2, 1) := dk_28 (dk_at dksJ14_compress_1 1 rfl rfl)
theorem dJ14_compress_26 : decode cJ14_compress 26 = .ok (.iadd, 1) := dk_96 (dk_at dksJ14_compress_1 2 rfl rfl)
theorem dJ14_compress_27 : decode cJ14_compress 27 = .ok (.invokestatic 11, 3) := dk_184 0 11 (dk_at dksJ14_compress_1 3 rfl rfl)
theorem dJ14_compress_30 : decode cJ14_compress 30 = .ok (.invokestatic 126, 3) := dk_184 0 126 (dk_at dksJ14_compress_1 6 rfl rfl)
theorem dJ14_compress_33 : decode cJ14_compress 33 = .ok (.astore 5, 2) := dk_58 5 (dk_at dksJ14_compress_1 9 rfl rfl)
theorem dJ14_compress_35 : decode cJ14_compress 35 = .ok (.aload 5, 2) := dk_25 5 (dk_at dksJ14_compress_1 11 rfl rfl)
theorem dJ14_compress_37 : decode cJ14_compress 37 = .ok (.iload 4, 2) := dk_21 4 (dk_at dksJ14_compress_1 13 rfl rfl)
theorem dJ14_compress_39 : decode cJ14_compress 39 = .ok (.invokestatic 71, 3) := dk_184 0 71 (dk_at dksJ14_compress_1 15 rfl rfl)
theorem dJ14_compress_42 : decode cJ14_compress 42 = .ok (.sipush 255, 3) := dk_17 0 255 (dk_at dksJ14_compress_1 18 rfl rfl)
theorem dJ14_compress_45 : decode cJ14_compress 45 = .ok (.if_icmp .gt 16, 3) := dk_163 0 16 (dk_at dksJ14_compress_1 21 rfl rfl)
theorem dJ14_compress_48 : decode cJ14_compress 48 = .ok (.aload 5, 2) := dk_25 5 (dk_at dksJ14_compress_2 0 rfl rfl)
theorem dJ14_compress_50 : decode cJ14_compress 50 = .ok (.iconst 0, 1) := dk_3 (dk_at dksJ14_compress_2 2 rfl rfl)
theorem dJ14_compress_51 : decode cJ14_compress 51 = .ok (.aload_n 3, 1) := dk_45 (dk_at dksJ14_compress_2 3 rfl rfl)
theorem dJ14_compress_52 : decode cJ14_compress 52 = .ok (.iconst 0, 1) := dk_3 (dk_at dksJ14_compress_2 4 rfl rfl)
theorem dJ14_compress_53 : decode cJ14_compress 53 = .ok (.iload_n 2, 1) := dk_28 (dk_at dksJ14_compress_2 5 rfl rfl)
theorem dJ14_compress_54 : decode cJ14_compress 54 = .ok (.invokestatic 123, 3) := dk_184 0 123 (dk_at dksJ14_compress_2 6 rfl rfl)
theorem dJ14_compress_57 : decode cJ14_compress 57 = .ok (.iload_n 2, 1) := dk_28 (dk_at dksJ14_compress_2 9 rfl rfl)
theorem dJ14_compress_58 : decode cJ14_compress 58 = .ok (.if_icmp .eq 6, 3) := dk_159 0 6 (dk_at dksJ14_compress_2 10 rfl rfl)
theorem dJ14_compress_61 : decode cJ14_compress 61 = .ok (.aload 5, 2) := dk_25 5 (dk_at dksJ14_compress_2 13 rfl rfl)
theorem dJ14_compress_63 : decode cJ14_compress 63 = .ok (.areturn, 1) := dk_176 (dk_at dksJ14_compress_2 15 rfl rfl)
theorem dJ14_compress_64 : decode cJ14_compress 64 = .ok (.aload_n 3, 1) := dk_45 (dk_at dksJ14_compress_2 16 rfl rfl)
theorem dJ14_compress_65 : decode cJ14_compress 65 = .ok (.areturn, 1) := dk_176 (dk_at dksJ14_compress_2 17 rfl rfl)
abbrev cJ14_compress_2 : ByteArray := prog_42_method_22_code
def yJ14_compress_2 : MethodName := ⟨RJ14, "compress", "([BI[BII)I"⟩
def dkwJ14_compress_2_2 : List UInt8 := [132, 5, 1, 167, 255, 216, 21, 4, 172]
abbrev dktJ14_compress_2_2 : List UInt8 := dkwJ14_compress_2_2 ++ []
def dkwJ14_compress_2_1 : List UInt8 := [21, 6, 17, 0, 255, 164, 0, 6, 21, 5, 172, 44, 29, 21, 6, 145, 84, 132, 1, 1, 132, 3, 1]
abbrev dktJ14_compress_2_1 : List UInt8 := dkwJ14_compress_2_1 ++ dktJ14_compress_2_2
def dkwJ14_compress_2_0 : List UInt8 := [27, 21, 4, 42, 184, 0, 173, 3, 54, 5, 21, 5, 21, 4, 162, 0, 39, 42, 27, 184, 0, 71, 54, 6]
abbrev dktJ14_compress_2_0 : List UInt8 := dkwJ14_compress_2_0 ++ dktJ14_compress_2_1
theorem dksJ14_compress_2_0 : cJ14_compress_2.data.toList.drop 0 = dktJ14_compress_2_0 := by decide +kernel
theorem dksJ14_compress_2_1 : cJ14_compress_2.data.toList.drop 24 = dktJ14_compress_2_1 := dk_seg dksJ14_compress_2_0 24 rfl rfl
theorem dksJ14_compress_2_2 : cJ14_compress_2.data.toList.drop 47 = dktJ14_compress_2_2 := dk_seg dksJ14_compress_2_1 23 rfl rfl
theorem dJ14_compress_2_0 : decode cJ14_compress_2 0 = .ok (.iload_n 1, 1) := dk_27 (dk_at dksJ14_compress_2_0 0 rfl rfl)
theorem dJ14_compress_2_1 : decode cJ14_compress_2 1 = .ok (.iload 4, 2) := dk_21 4 (dk_at dksJ14_compress_2_0 1 rfl rfl)
theorem dJ14_compress_2_3 : decode cJ14_compress_2 3 = .ok (.aload_n 0, 1) := dk_42 (dk_at dksJ14_compress_2_0 3 rfl rfl)
theorem dJ14_compress_2_4 : decode cJ14_compress_2 4 = .ok (.invokestatic 173, 3) := dk_184 0 173 (dk_at dksJ14_compress_2_0 4 rfl rfl)
theorem dJ14_compress_2_7 : decode cJ14_compress_2 7 = .ok (.iconst 0, 1) := dk_3 (dk_at dksJ14_compress_2_0 7 rfl rfl)
theorem dJ14_compress_2_8 : decode cJ14_compress_2 8 = .ok (.istore 5, 2) := dk_54 5 (dk_at dksJ14_compress_2_0 8 rfl rfl)
theorem dJ14_compress_2_10 : decode cJ14_compress_2 10 = .ok (.iload 5, 2) := dk_21 5 (dk_at dksJ14_compress_2_0 10 rfl rfl)
theorem dJ14_compress_2_12 : decode cJ14_compress_2 12 = .ok (.iload 4, 2) := dk_21 4 (dk_at dksJ14_compress_2_0 12 rfl rfl)
theorem dJ14_compress_2_14 : decode cJ14_compress_2 14 = .ok (.if_icmp .ge 39, 3) := dk_162 0 39 (dk_at dksJ14_compress_2_0 14 rfl rfl)
theorem dJ14_compress_2_17 : decode cJ14_compress_2 17 = .ok (.aload_n 0, 1) := dk_42 (dk_at dksJ14_compress_2_0 17 rfl rfl)
theorem dJ14_compress_2_18 : decode cJ14_compress_2 18 = .ok (.iload_n 1, 1) := dk_27 (dk_at dksJ14_compress_2_0 18 rfl rfl)
theorem dJ14_compress_2_19 : decode cJ14_compress_2 19 = .ok (.invokestatic 71, 3) := dk_184 0 71 (dk_at dksJ14_compress_2_0 19 rfl rfl)
theorem dJ14_compress_2_22 : decode cJ14_compress_2 22 = .ok (.istore 6, 2) := dk_54 6 (dk_at dksJ14_compress_2_0 22 rfl rfl)
theorem dJ14_compress_2_24 : decode cJ14_compress_2 24 = .ok (.iload 6, 2) := dk_21 6 (dk_at dksJ14_compress_2_1 0 rfl rfl)
theorem dJ14_compress_2_26 : decode cJ14_compress_2 26 = .ok (.sipush 255, 3) := dk_17 0 255 (dk_at dksJ14_compress_2_1 2 rfl rfl)
theorem dJ14_compress_2_29 : decode cJ14_compress_2 29 = .ok (.if_icmp .le 6, 3) := dk_164 0 6 (dk_at dksJ14_compress_2_1 5 rfl rfl)
theorem dJ14_compress_2_32 : decode cJ14_compress_2 32 = .ok (.iload 5, 2) := dk_21 5 (dk_at dksJ14_compress_2_1 8 rfl rfl)
theorem dJ14_compress_2_34 : decode cJ14_compress_2 34 = .ok (.ireturn, 1) := dk_172 (dk_at dksJ14_compress_2_1 10 rfl rfl)
theorem dJ14_compress_2_35 : decode cJ14_compress_2 35 = .ok (.aload_n 2, 1) := dk_44 (dk_at dksJ14_compress_2_1 11 rfl rfl)
theorem dJ14_compress_2_36 : decode cJ14_compress_2 36 = .ok (.iload_n 3, 1) := dk_29 (dk_at dksJ14_compress_2_1 12 rfl rfl)
theorem dJ14_compress_2_37 : decode cJ14_compress_2 37 = .ok (.iload 6, 2) := dk_21 6 (dk_at dksJ14_compress_2_1 13 rfl rfl)
theorem dJ14_compress_2_39 : decode cJ14_compress_2 39 = .ok (.i2b, 1) := dk_145 (dk_at dksJ14_compress_2_1 15 rfl rfl)
theorem dJ14_compress_2_40 : decode cJ14_compress_2 40 = .ok (.bastore, 1) := dk_84 (dk_at dksJ14_compress_2_1 16 rfl rfl)
theorem dJ14_compress_2_41 : decode cJ14_compress_2 41 = .ok (.iinc 1 1, 3) := dk_132 1 1 (dk_at dksJ14_compress_2_1 17 rfl rfl)
theorem dJ14_compress_2_44 : decode cJ14_compress_2 44 = .ok (.iinc 3 1, 3) := dk_132 3 1 (dk_at dksJ14_compress_2_1 20 rfl rfl)
theorem dJ14_compress_2_47 : decode cJ14_compress_2 47 = .ok (.iinc 5 1, 3) := dk_132 5 1 (dk_at dksJ14_compress_2_2 0 rfl rfl)
theorem dJ14_compress_2_50 : decode cJ14_compress_2 50 = .ok (.goto (-40), 3) := dk_167 255 216 (dk_at dksJ14_compress_2_2 3 rfl rfl)
theorem dJ14_compress_2_53 : decode cJ14_compress_2 53 = .ok (.iload 4, 2) := dk_21 4 (dk_at dksJ14_compress_2_2 6 rfl rfl)
theorem dJ14_compress_2_55 : decode cJ14_compress_2 55 = .ok (.ireturn, 1) := dk_172 (dk_at dksJ14_compress_2_2 8 rfl rfl)
abbrev cJ14_getChar : ByteArray := prog_42_method_5_code
def yJ14_getChar : MethodName := ⟨RJ14, "getChar", "([BI)C"⟩
def dkwJ14_getChar_2 : List UInt8 := [51, 17, 0, 255, 126, 178, 0, 63, 120, 128, 146, 172]
abbrev dktJ14_getChar_2 : List UInt8 := dkwJ14_getChar_2 ++ []
def dkwJ14_getChar_1 : List UInt8 := [183, 0, 56, 191, 27, 4, 120, 60, 42, 27, 132, 1, 1, 51, 17, 0, 255, 126, 178, 0, 59, 120, 42, 27]
abbrev dktJ14_getChar_1 : List UInt8 := dkwJ14_getChar_1 ++ dktJ14_getChar_2
def dkwJ14_getChar_0 : List UInt8 := [178, 0, 44, 154, 0, 25, 27, 155, 0, 11, 27, 42, 184, 0, 48, 161, 0, 13, 187, 0, 52, 89, 18, 54]
abbrev dktJ14_getChar_0 : List UInt8 := dkwJ14_getChar_0 ++ dktJ14_getChar_1
theorem dksJ14_getChar_0 : cJ14_getChar.data.toList.drop 0 = dktJ14_getChar_0 := by decide +kernel
theorem dksJ14_getChar_1 : cJ14_getChar.data.toList.drop 24 = dktJ14_getChar_1 := dk_seg dksJ14_getChar_0 24 rfl rfl
theorem dksJ14_getChar_2 : cJ14_getChar.data.toList.drop 48 = dktJ14_getChar_2 := dk_seg dksJ14_getChar_1 24 rfl rfl
theorem dJ14_getChar_0 : decode cJ14_getChar 0 = .ok (.getstatic 44, 3) := dk_178 0 44 (dk_at dksJ14_getChar_0 0 rfl rfl)
theorem dJ14_getChar_3 : decode cJ14_getChar 3 = .ok (.ifCond .ne 25, 3) := dk_154 0 25 (dk_at dksJ14_getChar_0 3 rfl rfl)
theorem dJ14_getChar_6 : decode cJ14_getChar 6 = .ok (.iload_n 1, 1) := dk_27 (dk_at dksJ14_getChar_0 6 rfl rfl)
theorem dJ14_getChar_7 : decode cJ14_getChar 7 = .ok (.ifCond .lt 11, 3) := dk_155 0 11 (dk_at dksJ14_getChar_0 7 rfl rfl)
theorem dJ14_getChar_10 : decode cJ14_getChar 10 = .ok (.iload_n 1, 1) := dk_27 (dk_at dksJ14_getChar_0 10 rfl rfl)
theorem dJ14_getChar_11 : decode cJ14_getChar 11 = .ok (.aload_n 0, 1) := dk_42 (dk_at dksJ14_getChar_0 11 rfl rfl)
theorem dJ14_getChar_12 : decode cJ14_getChar 12 = .ok (.invokestatic 48, 3) := dk_184 0 48 (dk_at dksJ14_getChar_0 12 rfl rfl)
theorem dJ14_getChar_15 : decode cJ14_getChar 15 = .ok (.if_icmp .lt 13, 3) := dk_161 0 13 (dk_at dksJ14_getChar_0 15 rfl rfl)
theorem dJ14_getChar_18 : decode cJ14_getChar 18 = .ok (.new 52, 3) := dk_187 0 52 (dk_at dksJ14_getChar_0 18 rfl rfl)
theorem dJ14_getChar_21 : decode cJ14_getChar 21 = .ok (.dup, 1) := dk_89 (dk_at dksJ14_getChar_0 21 rfl rfl)
theorem dJ14_getChar_22 : decode cJ14_getChar 22 = .ok (.ldc 54, 2) := dk_18 54 (dk_at dksJ14_getChar_0 22 rfl rfl)
theorem dJ14_getChar_24 : decode cJ14_getChar 24 = .ok (.invokespecial 56, 3) := dk_183 0 56 (dk_at dksJ14_getChar_1 0 rfl rfl)
theorem dJ14_getChar_27 : decode cJ14_getChar 27 = .ok (.athrow, 1) := dk_191 (dk_at dksJ14_getChar_1 3 rfl rfl)
theorem dJ14_getChar_28 : decode cJ14_getChar 28 = .ok (.iload_n 1, 1) := dk_27 (dk_at dksJ14_getChar_1 4 rfl rfl)
theorem dJ14_getChar_29 : decode cJ14_getChar 29 = .ok (.iconst 1, 1) := dk_4 (dk_at dksJ14_getChar_1 5 rfl rfl)
theorem dJ14_getChar_30 : decode cJ14_getChar 30 = .ok (.ishl, 1) := dk_120 (dk_at dksJ14_getChar_1 6 rfl rfl)
theorem dJ14_getChar_31 : decode cJ14_getChar 31 = .ok (.istore_n 1, 1) := dk_60 (dk_at dksJ14_getChar_1 7 rfl rfl)
theorem dJ14_getChar_32 : decode cJ14_getChar 32 = .ok (.aload_n 0, 1) := dk_42 (dk_at dksJ14_getChar_1 8 rfl rfl)
theorem dJ14_getChar_33 : decode cJ14_getChar 33 = .ok (.iload_n 1, 1) := dk_27 (dk_at dksJ14_getChar_1 9 rfl rfl)
theorem dJ14_getChar_34 : decode cJ14_getChar 34 = .ok (.iinc 1 1, 3) := dk_132 1 1 (dk_at dksJ14_getChar_1 10 rfl rfl)
theorem dJ14_getChar_37 : decode cJ14_getChar 37 = .ok (.baload, 1) := dk_51 (dk_at dksJ14_getChar_1 13 rfl rfl)
theorem dJ14_getChar_38 : decode cJ14_getChar 38 = .ok (.sipush 255, 3) := dk_17 0 255 (dk_at dksJ14_getChar_1 14 rfl rfl)
theorem dJ14_getChar_41 : decode cJ14_getChar 41 = .ok (.iand, 1) := dk_126 (dk_at dksJ14_getChar_1 17 rfl rfl)
theorem dJ14_getChar_42 : decode cJ14_getChar 42 = .ok (.getstatic 59, 3) := dk_178 0 59 (dk_at dksJ14_getChar_1 18 rfl rfl)
theorem dJ14_getChar_45 : decode cJ14_getChar 45 = .ok (.ishl, 1) := dk_120 (dk_at dksJ14_getChar_1 21 rfl rfl)
theorem dJ14_getChar_46 : decode cJ14_getChar 46 = .ok (.aload_n 0, 1) := dk_42 (dk_at dksJ14_getChar_1 22 rfl rfl)
theorem dJ14_getChar_47 : decode cJ14_getChar 47 = .ok (.iload_n 1, 1) := dk_27 (dk_at dksJ14_getChar_1 23 rfl rfl)
theorem dJ14_getChar_48 : decode cJ14_getChar 48 = .ok (.baload, 1) := dk_51 (dk_at dksJ14_getChar_2 0 rfl rfl)
theorem dJ14_getChar_49 : decode cJ14_getChar 49 = .ok (.sipush 255, 3) := dk_17 0 255 (dk_at dksJ14_getChar_2 1 rfl rfl)
theorem dJ14_getChar_52 : decode cJ14_getChar 52 = .ok (.iand, 1) := dk_126 (dk_at dksJ14_getChar_2 4 rfl rfl)
theorem dJ14_getChar_53 : decode cJ14_getChar 53 = .ok (.getstatic 63, 3) := dk_178 0 63 (dk_at dksJ14_getChar_2 5 rfl rfl)
theorem dJ14_getChar_56 : decode cJ14_getChar 56 = .ok (.ishl, 1) := dk_120 (dk_at dksJ14_getChar_2 8 rfl rfl)
theorem dJ14_getChar_57 : decode cJ14_getChar 57 = .ok (.ior, 1) := dk_128 (dk_at dksJ14_getChar_2 9 rfl rfl)
theorem dJ14_getChar_58 : decode cJ14_getChar 58 = .ok (.i2c, 1) := dk_146 (dk_at dksJ14_getChar_2 10 rfl rfl)
theorem dJ14_getChar_59 : decode cJ14_getChar 59 = .ok (.ireturn, 1) := dk_172 (dk_at dksJ14_getChar_2 11 rfl rfl)
abbrev cJ14_coderFromArrayLen : ByteArray := prog_42_method_15_code
def yJ14_coderFromArrayLen : MethodName := ⟨RJ14, "coderFromArrayLen", "([BI)B"⟩
def dkwJ14_coderFromArrayLen_0 : List UInt8 := [27, 42, 190, 100, 16, 31, 124, 145, 172]
abbrev dktJ14_coderFromArrayLen_0 : List UInt8 := dkwJ14_coderFromArrayLen_0 ++ []
theorem dksJ14_coderFromArrayLen_0 : cJ14_coderFromArrayLen.data.toList.drop 0 = dktJ14_coderFromArrayLen_0 := by decide +kernel
theorem dJ14_coderFromArrayLen_0 : decode cJ14_coderFromArrayLen 0 = .ok (.iload_n 1, 1) := dk_27 (dk_at dksJ14_coderFromArrayLen_0 0 rfl rfl)
theorem dJ14_coderFromArrayLen_1 : decode cJ14_coderFromArrayLen 1 = .ok (.aload_n 0, 1) := dk_42 (dk_at dksJ14_coderFromArrayLen_0 1 rfl rfl)
theorem dJ14_coderFromArrayLen_2 : decode cJ14_coderFromArrayLen 2 = .ok (.arraylength, 1) := dk_190 (dk_at dksJ14_coderFromArrayLen_0 2 rfl rfl)
theorem dJ14_coderFromArrayLen_3 : decode cJ14_coderFromArrayLen 3 = .ok (.isub, 1) := dk_100 (dk_at dksJ14_coderFromArrayLen_0 3 rfl rfl)
theorem dJ14_coderFromArrayLen_4 : decode cJ14_coderFromArrayLen 4 = .ok (.bipush 31, 2) := dk_16 31 (dk_at dksJ14_coderFromArrayLen_0 4 rfl rfl)
theorem dJ14_coderFromArrayLen_6 : decode cJ14_coderFromArrayLen 6 = .ok (.iushr, 1) := dk_124 (dk_at dksJ14_coderFromArrayLen_0 6 rfl rfl)
theorem dJ14_coderFromArrayLen_7 : decode cJ14_coderFromArrayLen 7 = .ok (.i2b, 1) := dk_145 (dk_at dksJ14_coderFromArrayLen_0 7 rfl rfl)
theorem dJ14_coderFromArrayLen_8 : decode cJ14_coderFromArrayLen 8 = .ok (.ireturn, 1) := dk_172 (dk_at dksJ14_coderFromArrayLen_0 8 rfl rfl)
abbrev cJ14_compareTo : ByteArray := prog_42_method_29_code
def yJ14_compareTo : MethodName := ⟨RJ14, "compareTo", "([B[B)I"⟩
def dkwJ14_compareTo_0 : List UInt8 := [42, 184, 0, 48, 61, 43, 184, 0, 48, 62, 42, 43, 28, 29, 184, 0, 176, 172]
abbrev dktJ14_compareTo_0 : List UInt8 := dkwJ14_compareTo_0 ++ []
theorem dksJ14_compareTo_0 : cJ14_compareTo.data.toList.drop 0 = dktJ14_compareTo_0 := by decide +kernel
theorem dJ14_compareTo_0 : decode cJ14_compareTo 0 = .ok (.aload_n 0, 1) := dk_42 (dk_at dksJ14_compareTo_0 0 rfl rfl)
theorem dJ14_compareTo_1 : decode cJ14_compareTo 1 = .ok (.invokestatic 48, 3) := dk_184 0 48 (dk_at dksJ14_compareTo_0 1 rfl rfl)
theorem dJ14_compareTo_4 : decode cJ14_compareTo 4 = .ok (.istore_n 2, 1) := dk_61 (dk_at dksJ14_compareTo_0 4 rfl rfl)
theorem dJ14_compareTo_5 : decode cJ14_compareTo 5 = .ok (.aload_n 1, 1) := dk_43 (dk_at dksJ14_compareTo_0 5 rfl rfl)
theorem dJ14_compareTo_6 : decode cJ14_compareTo 6 = .ok (.invokestatic 48, 3) := dk_184 0 48 (dk_at dksJ14_compareTo_0 6 rfl rfl)
theorem dJ14_compareTo_9 : decode cJ14_compareTo 9 = .ok (.istore_n 3, 1) := dk_62 (dk_at dksJ14_compareTo_0 9 rfl rfl)
theorem dJ14_compareTo_10 : decode cJ14_compareTo 10 = .ok (.aload_n 0, 1) := dk_42 (dk_at dksJ14_compareTo_0 10 rfl rfl)
theorem dJ14_compareTo_11 : decode cJ14_compareTo 11 = .ok (.aload_n 1, 1) := dk_43 (dk_at dksJ14_compareTo_0 11 rfl rfl)
theorem dJ14_compareTo_12 : decode cJ14_compareTo 12 = .ok (.iload_n 2, 1) := dk_28 (dk_at dksJ14_compareTo_0 12 rfl rfl)
theorem dJ14_compareTo_13 : decode cJ14_compareTo 13 = .ok (.iload_n 3, 1) := dk_29 (dk_at dksJ14_compareTo_0 13 rfl rfl)
theorem dJ14_compareTo_14 : decode cJ14_compareTo 14 = .ok (.invokestatic 176, 3) := dk_184 0 176 (dk_at dksJ14_compareTo_0 14 rfl rfl)
theorem dJ14_compareTo_17 : decode cJ14_compareTo 17 = .ok (.ireturn, 1) := dk_172 (dk_at dksJ14_compareTo_0 17 rfl rfl)
abbrev cJ14_compareValues : ByteArray := prog_42_method_31_code
def yJ14_compareValues : MethodName := ⟨RJ14, "compareValues", "([B[BII)I"⟩
def dkwJ14_compareValues_2 : List UInt8 := [132, 5, 1, 167, 255, 217, 28, 29, 100, 172]
abbrev dktJ14_compareValues_2 : List UInt8 := dkwJ14_compareValues_2 ++ []
def dkwJ14_compareValues_1 : List UInt8 := [54, 6, 43, 21, 5, 184, 0, 71, 54, 7, 21, 6, 21, 7, 159, 0, 9, 21, 6, 21, 7, 100, 172]
abbrev dktJ14_compareValues_1 : List UInt8 := dkwJ14_compareValues_1 ++ dktJ14_compareValues_2
def dkwJ14_compareValues_0 : List UInt8 := [28, 29, 184, 0, 183, 54, 4, 3, 54, 5, 21, 5, 21, 4, 162, 0, 38, 42, 21, 5, 184, 0, 71]
abbrev dktJ14_compareValues_0 : List UInt8 := dkwJ14_compareValues_0 ++ dktJ14_compareValues_1
theorem dksJ14_compareValues_0 : cJ14_compareValues.data.toList.drop 0 = dktJ14_compareValues_0 := by decide +kernel
theorem dksJ14_compareValues_1 : cJ14_compareValues.data.toList.drop 23 = dktJ14_compareValues_1 := dk_seg dksJ14_compareValues_0 23 rfl rfl
theorem dksJ14_compareValues_2 : cJ14_compareValues.data.toList.drop 46 = dktJ14_compareValues_2 := dk_seg dksJ14_compareValues_1 23 rfl rfl
theorem dJ14_compareValues_0 : decode cJ14_compareValues 0 = .ok (.iload_n 2, 1) := dk_28 (dk_at dksJ14_compareValues_0 0 rfl rfl)
theorem dJ14_compareValues_1 : decode cJ14_compareValues 1 = .ok (.iload_n 3, 1) := dk_29 (dk_at dksJ14_compareValues_0 1 rfl rfl)
theorem dJ14_compareValues_2 : decode cJ14_compareValues 2 = .ok (.invokestatic 183, 3) := dk_184 0 183 (dk_at dksJ14_compareValues_0 2 rfl rfl)
theorem dJ14_compareValues_5 : decode cJ14_compareValues 5 = .ok (.istore 4, 2) := dk_54 4 (dk_at dksJ14_compareValues_0 5 rfl rfl)
theorem dJ14_compareValues_7 : decode cJ14_compareValues 7 = .ok (.iconst 0, 1) := dk_3 (dk_at dksJ14_compareValues_0 7 rfl rfl)
theorem dJ14_compareValues_8 : decode cJ14_compareValues 8 = .ok (.istore 5, 2) := dk_54 5 (dk_at dksJ14_compareValues_0 8 rfl rfl)
theorem dJ14_compareValues_10 : decode cJ14_compareValues 10 = .ok (.iload 5, 2) := dk_21 5 (dk_at dksJ14_compareValues_0 10 rfl rfl)
theorem dJ14_compareValues_12 : decode cJ14_compareValues 12 = .ok (.iload 4, 2) := dk_21 4 (dk_at dksJ14_compareValues_0 12 rfl rfl)
theorem dJ14_compareValues_14 : decode cJ14_compareValues 14 = .ok (.if_icmp .ge 38, 3) := dk_162 0 38 (dk_at dksJ14_compareValues_0 14 rfl rfl)
theorem dJ14_compareValues_17 : decode cJ14_compareValues 17 = .ok (.aload_n 0, 1) := dk_42 (dk_at dksJ14_compareValues_0 17 rfl rfl)
theorem dJ14_compareValues_18 : decode cJ14_compareValues 18 = .ok (.iload 5, 2) := dk_21 5 (dk_at dksJ14_compareValues_0 18 rfl rfl)
theorem dJ14_compareValues_20 : decode cJ14_compareValues 20 = .ok (.invokestatic 71, 3) := dk_184 0 71 (dk_at dksJ14_compareValues_0 20 rfl rfl)
theorem dJ14_compareValues_23 : decode cJ14_compareValues 23 = .ok (.istore 6, 2) := dk_54 6 (dk_at dksJ14_compareValues_1 0 rfl rfl)
theorem dJ14_compareValues_25 : decode cJ14_compareValues 25 = .ok (.aload_n 1, 1) := dk_43 (dk_at dksJ14_compareValues_1 2 rfl rfl)
theorem dJ14_compareValues_26 : decode cJ14_compareValues 26 = .ok (.iload 5, 2) := dk_21 5 (dk_at dksJ14_compareValues_1 3 rfl rfl)
theorem dJ14_compareValues_28 : decode cJ14_compareValues 28 = .ok (.invokestatic 71, 3) := dk_184 0 71 (dk_at dksJ14_compareValues_1 5 rfl rfl)
theorem dJ14_compareValues_31 : decode cJ14_compareValues 31 = .ok (.istore 7, 2) := dk_54 7 (dk_at dksJ14_compareValues_1 8 rfl rfl)
theorem dJ14_compareValues_33 : decode cJ14_compareValues 33 = .ok (.iload 6, 2) := dk_21 6 (dk_at dksJ14_compareValues_1 10 rfl rfl)
theorem dJ14_compareValues_35 : decode cJ14_compareValues 35 = .ok (.iload 7, 2) := dk_21 7 (dk_at dksJ14_compareValues_1 12 rfl rfl)
theorem dJ14_compareValues_37 : decode cJ14_compareValues 37 = .ok (.if_icmp .eq 9, 3) := dk_159 0 9 (dk_at dksJ14_compareValues_1 14 rfl rfl)
theorem dJ14_compareValues_40 : decode cJ14_compareValues 40 = .ok (.iload 6, 2) := dk_21 6 (dk_at dksJ14_compareValues_1 17 rfl rfl)
theorem dJ14_compareValues_42 : decode cJ14_compareValues 42 = .ok (.iload 7, 2) := dk_21 7 (dk_at dksJ14_compareValues_1 19 rfl rfl)
theorem dJ14_compareValues_44 : decode cJ14_compareValues 44 = .ok (.isub, 1) := dk_100 (dk_at dksJ14_compareValues_1 21 rfl rfl)
theorem dJ14_compareValues_45 : decode cJ14_compareValues 45 = .ok (.ireturn, 1) := dk_172 (dk_at dksJ14_compareValues_1 22 rfl rfl)
theorem dJ14_compareValues_46 : decode cJ14_compareValues 46 = .ok (.iinc 5 1, 3) := dk_132 5 1 (dk_at dksJ14_compareValues_2 0 rfl rfl)
theorem dJ14_compareValues_49 : decode cJ14_compareValues 49 = .ok (.goto (-39), 3) := dk_167 255 217 (dk_at dksJ14_compareValues_2 3 rfl rfl)
theorem dJ14_compareValues_52 : decode cJ14_compareValues 52 = .ok (.iload_n 2, 1) := dk_28 (dk_at dksJ14_compareValues_2 6 rfl rfl)
theorem dJ14_compareValues_53 : decode cJ14_compareValues 53 = .ok (.iload_n 3, 1) := dk_29 (dk_at dksJ14_compareValues_2 7 rfl rfl)
theorem dJ14_compareValues_54 : decode cJ14_compareValues 54 = .ok (.isub, 1) := dk_100 (dk_at dksJ14_compareValues_2 8 rfl rfl)
theorem dJ14_compareValues_55 : decode cJ14_compareValues 55 = .ok (.ireturn, 1) := dk_172 (dk_at dksJ14_compareValues_2 9 rfl rfl)
abbrev cJ14_compareToLatin1 : ByteArray := prog_42_method_32_code
def yJ14_compareToLatin1 : MethodName := ⟨RJ14, "compareToLatin1", "([B[B)I"⟩
def dkwJ14_compareToLatin1_0 : List UInt8 := [43, 42, 184, 0, 189, 116, 172]
abbrev dktJ14_compareToLatin1_0 : List UInt8 := dkwJ14_compareToLatin1_0 ++ []
theorem dksJ14_compareToLatin1_0 : cJ14_compareToLatin1.data.toList.drop 0 = dktJ14_compareToLatin1_0 := by decide +kernel
theorem dJ14_compareToLatin1_0 : decode cJ14_compareToLatin1 0 = .ok (.aload_n 1, 1) := dk_43 (dk_at dksJ14_compareToLatin1_0 0 rfl rfl)
theorem dJ14_compareToLatin1_1 : decode cJ14_compareToLatin1 1 = .ok (.aload_n 0, 1) := dk_42 (dk_at dksJ14_compareToLatin1_0 1 rfl rfl)
theorem dJ14_compareToLatin1_2 : decode cJ14_compareToLatin1 2 = .ok (.invokestatic 189, 3) := dk_184 0 189 (dk_at dksJ14_compareToLatin1_0 2 rfl rfl)
theorem dJ14_compareToLatin1_5 : decode cJ14_compareToLatin1 5 = .ok (.ineg, 1) := dk_116 (dk_at dksJ14_compareToLatin1_0 5 rfl rfl)
theorem dJ14_compareToLatin1_6 : decode cJ14_compareToLatin1 6 = .ok (.ireturn, 1) := dk_172 (dk_at dksJ14_compareToLatin1_0 6 rfl rfl)
abbrev cJ14_compareTo_2 : ByteArray := prog_42_method_30_code
def yJ14_compareTo_2 : MethodName := ⟨RJ14, "compareTo", "([B[BII)I"⟩
def dkwJ14_compareTo_2_0 : List UInt8 := [28, 42, 184, 0, 180, 29, 43, 184, 0, 180, 42, 43, 28, 29, 184, 0, 176, 172]
abbrev dktJ14_compareTo_2_0 : List UInt8 := dkwJ14_compareTo_2_0 ++ []
theorem dksJ14_compareTo_2_0 : cJ14_compareTo_2.data.toList.drop 0 = dktJ14_compareTo_2_0 := by decide +kernel
theorem dJ14_compareTo_2_0 : decode cJ14_compareTo_2 0 = .ok (.iload_n 2, 1) := dk_28 (dk_at dksJ14_compareTo_2_0 0 rfl rfl)
theorem dJ14_compareTo_2_1 : decode cJ14_compareTo_2 1 = .ok (.aload_n 0, 1) := dk_42 (dk_at dksJ14_compareTo_2_0 1 rfl rfl)
theorem dJ14_compareTo_2_2 : decode cJ14_compareTo_2 2 = .ok (.invokestatic 180, 3) := dk_184 0 180 (dk_at dksJ14_compareTo_2_0 2 rfl rfl)
theorem dJ14_compareTo_2_5 : decode cJ14_compareTo_2 5 = .ok (.iload_n 3, 1) := dk_29 (dk_at dksJ14_compareTo_2_0 5 rfl rfl)
theorem dJ14_compareTo_2_6 : decode cJ14_compareTo_2 6 = .ok (.aload_n 1, 1) := dk_43 (dk_at dksJ14_compareTo_2_0 6 rfl rfl)
theorem dJ14_compareTo_2_7 : decode cJ14_compareTo_2 7 = .ok (.invokestatic 180, 3) := dk_184 0 180 (dk_at dksJ14_compareTo_2_0 7 rfl rfl)
theorem dJ14_compareTo_2_10 : decode cJ14_compareTo_2 10 = .ok (.aload_n 0, 1) := dk_42 (dk_at dksJ14_compareTo_2_0 10 rfl rfl)
theorem dJ14_compareTo_2_11 : decode cJ14_compareTo_2 11 = .ok (.aload_n 1, 1) := dk_43 (dk_at dksJ14_compareTo_2_0 11 rfl rfl)
theorem dJ14_compareTo_2_12 : decode cJ14_compareTo_2 12 = .ok (.iload_n 2, 1) := dk_28 (dk_at dksJ14_compareTo_2_0 12 rfl rfl)
theorem dJ14_compareTo_2_13 : decode cJ14_compareTo_2 13 = .ok (.iload_n 3, 1) := dk_29 (dk_at dksJ14_compareTo_2_0 13 rfl rfl)
theorem dJ14_compareTo_2_14 : decode cJ14_compareTo_2 14 = .ok (.invokestatic 176, 3) := dk_184 0 176 (dk_at dksJ14_compareTo_2_0 14 rfl rfl)
theorem dJ14_compareTo_2_17 : decode cJ14_compareTo_2 17 = .ok (.ireturn, 1) := dk_172 (dk_at dksJ14_compareTo_2_0 17 rfl rfl)
abbrev cJ14_checkOffset : ByteArray := prog_42_method_92_code
def yJ14_checkOffset : MethodName := ⟨RJ14, "checkOffset", "(I[B)V"⟩
def dkwJ14_checkOffset_0 : List UInt8 := [26, 43, 184, 0, 48, 184, 1, 161, 177]
abbrev dktJ14_checkOffset_0 : List UInt8 := dkwJ14_checkOffset_0 ++ []
theorem dksJ14_checkOffset_0 : cJ14_checkOffset.data.toList.drop 0 = dktJ14_checkOffset_0 := by decide +kernel
theorem dJ14_checkOffset_0 : decode cJ14_checkOffset 0 = .ok (.iload_n 0, 1) := dk_26 (dk_at dksJ14_checkOffset_0 0 rfl rfl)
theorem dJ14_checkOffset_1 : decode cJ14_checkOffset 1 = .ok (.aload_n 1, 1) := dk_43 (dk_at dksJ14_checkOffset_0 1 rfl rfl)
theorem dJ14_checkOffset_2 : decode cJ14_checkOffset 2 = .ok (.invokestatic 48, 3) := dk_184 0 48 (dk_at dksJ14_checkOffset_0 2 rfl rfl)
theorem dJ14_checkOffset_5 : decode cJ14_checkOffset 5 = .ok (.invokestatic 417, 3) := dk_184 1 161 (dk_at dksJ14_checkOffset_0 5 rfl rfl)
theorem dJ14_checkOffset_8 : decode cJ14_checkOffset 8 = .ok (.return_, 1) := dk_177 (dk_at dksJ14_checkOffset_0 8 rfl rfl)
abbrev cJ14_compareToLatin1_2 : ByteArray := prog_42_method_33_code
def yJ14_compareToLatin1_2 : MethodName := ⟨RJ14, "compareToLatin1", "([B[BII)I"⟩
def dkwJ14_compareToLatin1_2_0 : List UInt8 := [43, 42, 29, 28, 184, 0, 193, 116, 172]
abbrev dktJ14_compareToLatin1_2_0 : List UInt8 := dkwJ14_compareToLatin1_2_0 ++ []
theorem dksJ14_compareToLatin1_2_0 : cJ14_compareToLatin1_2.data.toList.drop 0 = dktJ14_compareToLatin1_2_0 := by decide +kernel
theorem dJ14_compareToLatin1_2_0 : decode cJ14_compareToLatin1_2 0 = .ok (.aload_n 1, 1) := dk_43 (dk_at dksJ14_compareToLatin1_2_0 0 rfl rfl)
theorem dJ14_compareToLatin1_2_1 : decode cJ14_compareToLatin1_2 1 = .ok (.aload_n 0, 1) := dk_42 (dk_at dksJ14_compareToLatin1_2_0 1 rfl rfl)
theorem dJ14_compareToLatin1_2_2 : decode cJ14_compareToLatin1_2 2 = .ok (.iload_n 3, 1) := dk_29 (dk_at dksJ14_compareToLatin1_2_0 2 rfl rfl)
theorem dJ14_compareToLatin1_2_3 : decode cJ14_compareToLatin1_2 3 = .ok (.iload_n 2, 1) := dk_28 (dk_at dksJ14_compareToLatin1_2_0 3 rfl rfl)
theorem dJ14_compareToLatin1_2_4 : decode cJ14_compareToLatin1_2 4 = .ok (.invokestatic 193, 3) := dk_184 0 193 (dk_at dksJ14_compareToLatin1_2_0 4 rfl rfl)
theorem dJ14_compareToLatin1_2_7 : decode cJ14_compareToLatin1_2 7 = .ok (.ineg, 1) := dk_116 (dk_at dksJ14_compareToLatin1_2_0 7 rfl rfl)
theorem dJ14_compareToLatin1_2_8 : decode cJ14_compareToLatin1_2 8 = .ok (.ireturn, 1) := dk_172 (dk_at dksJ14_compareToLatin1_2_0 8 rfl rfl)
theorem q104 : (Jvm.Cond.initialized "java/lang/StringUTF16") ∈ lw_all := lw_g (lw_at lw_m1 21 rfl) rfl
theorem q452 : (Jvm.Cond.static ({ cls := "java/lang/StringUTF16", name := "newBytesFor", desc := "(I)[B" } : Jvm.MethodName)) ∈ lw_all := lw_g (lw_at lw_m2 129 rfl) rfl
theorem q453 : (Jvm.Cond.code ({ cls := "java/lang/StringUTF16", name := "newBytesFor", desc := "(I)[B" } : Jvm.MethodName) prog_42_method_2_code (1 : Nat) (Option.some (Jvm.ClassFile.FieldType.array Jvm.ClassFile.FieldType.byte))) ∈ lw_all := lw_g (lw_at lw_m2 130 rfl) rfl
theorem q454 : (Jvm.Cond.methodLink "java/lang/StringUTF16" (11 : Nat) ({ cls := "java/lang/StringUTF16", name := "newBytesLength", desc := "(I)I" } : Jvm.MethodName)) ∈ lw_all := lw_g (lw_at lw_m2 131 rfl) rfl
theorem q455 : (Jvm.Cond.static ({ cls := "java/lang/StringUTF16", name := "newBytesLength", desc := "(I)I" } : Jvm.MethodName)) ∈ lw_all := lw_g (lw_at lw_m2 132 rfl) rfl
theorem q456 : (Jvm.Cond.code ({ cls := "java/lang/StringUTF16", name := "newBytesLength", desc := "(I)I" } : Jvm.MethodName) prog_42_method_3_code (1 : Nat) (Option.some Jvm.ClassFile.FieldType.int)) ∈ lw_all := lw_g (lw_at lw_m2 133 rfl) rfl
theorem q457 : (Jvm.Cond.constant "java/lang/StringUTF16" (20 : Nat) (1073741823 : Int32)) ∈ lw_all := lw_g (lw_at lw_m2 134 rfl) rfl
theorem q536 : (Jvm.Cond.static ({ cls := "java/lang/StringUTF16", name := "inflate", desc := "([BI[BII)V" } : Jvm.MethodName)) ∈ lw_all := lw_g (lw_at lw_m2 213 rfl) rfl
theorem q537 : (Jvm.Cond.code ({ cls := "java/lang/StringUTF16", name := "inflate", desc := "([BI[BII)V" } : Jvm.MethodName) prog_42_method_86_code (6 : Nat) (Option.none : Option Jvm.ClassFile.FieldType)) ∈ lw_all := lw_g (lw_at lw_m2 214 rfl) rfl
theorem q538 : (Jvm.Cond.methodLink "java/lang/StringUTF16" (173 : Nat) ({ cls := "java/lang/StringUTF16", name := "checkBoundsOffCount", desc := "(II[B)V" } : Jvm.MethodName)) ∈ lw_all := lw_g (lw_at lw_m2 215 rfl) rfl
theorem q539 : (Jvm.Cond.static ({ cls := "java/lang/StringUTF16", name := "checkBoundsOffCount", desc := "(II[B)V" } : Jvm.MethodName)) ∈ lw_all := lw_g (lw_at lw_m2 216 rfl) rfl
theorem q540 : (Jvm.Cond.code ({ cls := "java/lang/StringUTF16", name := "checkBoundsOffCount", desc := "(II[B)V" } : Jvm.MethodName) prog_42_method_94_code (3 : Nat) (Option.none : Option Jvm.ClassFile.FieldType)) ∈ lw_all := lw_g (lw_at lw_m2 217 rfl) rfl
theorem q541 : (Jvm.Cond.methodLink "java/lang/StringUTF16" (48 : Nat) ({ cls := "java/lang/StringUTF16", name := "length", desc := "([B)I" } : Jvm.MethodName)) ∈ lw_all := lw_g (lw_at lw_m2 218 rfl) rfl
theorem q542 : (Jvm.Cond.static ({ cls := "java/lang/StringUTF16", name := "length", desc := "([B)I" } : Jvm.MethodName)) ∈ lw_all := lw_g (lw_at lw_m2 219 rfl) rfl
theorem q543 : (Jvm.Cond.code ({ cls := "java/lang/StringUTF16", name := "length", desc := "([B)I" } : Jvm.MethodName) prog_42_method_6_code (1 : Nat) (Option.some Jvm.ClassFile.FieldType.int)) ∈ lw_all := lw_g (lw_at lw_m2 220 rfl) rfl
theorem q544 : (Jvm.Cond.methodLink "java/lang/StringUTF16" (419 : Nat) ({ cls := "java/lang/String", name := "checkBoundsOffCount", desc := "(III)I" } : Jvm.MethodName)) ∈ lw_all := lw_g (lw_at lw_m2 221 rfl) rfl
theorem q552 : (Jvm.Cond.methodLink "java/lang/StringUTF16" (111 : Nat) ({ cls := "java/lang/StringUTF16", name := "putChar", desc := "([BII)V" } : Jvm.MethodName)) ∈ lw_all := lw_g (lw_at lw_m2 229 rfl) rfl
theorem q553 : (Jvm.Cond.static ({ cls := "java/lang/StringUTF16", name := "putChar", desc := "([BII)V" } : Jvm.MethodName)) ∈ lw_all := lw_g (lw_at lw_m2 230 rfl) rfl
theorem q554 : (Jvm.Cond.code ({ cls := "java/lang/StringUTF16", name := "putChar", desc := "([BII)V" } : Jvm.MethodName) prog_42_method_4_code (3 : Nat) (Option.none : Option Jvm.ClassFile.FieldType)) ∈ lw_all := lw_g (lw_at lw_m2 231 rfl) rfl
theorem q555 : (Jvm.Cond.fieldLink "java/lang/StringUTF16" (44 : Nat) "java/lang/StringUTF16" "$assertionsDisabled" "Z") ∈ lw_all := lw_g (lw_at lw_m2 232 rfl) rfl
theorem q556 : (Jvm.Cond.laysStatic "java/lang/StringUTF16" "$assertionsDisabled" "Z") ∈ lw_tbl := lw_at lw_m2 233 rfl
theorem q557 : (Jvm.Cond.fieldLink "java/lang/StringUTF16" (59 : Nat) "java/lang/StringUTF16" "HI_BYTE_SHIFT" "I") ∈ lw_all := lw_g (lw_at lw_m2 234 rfl) rfl
theorem q558 : (Jvm.Cond.laysStatic "java/lang/StringUTF16" "HI_BYTE_SHIFT" "I") ∈ lw_tbl := lw_at lw_m2 235 rfl
theorem q559 : (Jvm.Cond.fieldLink "java/lang/StringUTF16" (63 : Nat) "java/lang/StringUTF16" "LO_BYTE_SHIFT" "I") ∈ lw_all := lw_g (lw_at lw_m2 236 rfl) rfl
theorem q560 : (Jvm.Cond.laysStatic "java/lang/StringUTF16" "LO_BYTE_SHIFT" "I") ∈ lw_tbl := lw_at lw_m2 237 rfl
theorem q562 : (Jvm.Cond.static ({ cls := "java/lang/StringUTF16", name := "putCharSB", desc := "([BII)V" } : Jvm.MethodName)) ∈ lw_all := lw_g (lw_at lw_m2 239 rfl) rfl
theorem q563 : (Jvm.Cond.code ({ cls := "java/lang/StringUTF16", name := "putCharSB", desc := "([BII)V" } : Jvm.MethodName) prog_42_method_71_code (3 : Nat) (Option.none : Option Jvm.ClassFile.FieldType)) ∈ lw_all := lw_g (lw_at lw_m3 0 rfl) rfl
theorem q564 : (Jvm.Cond.methodLink "java/lang/StringUTF16" (67 : Nat) ({ cls := "java/lang/StringUTF16", name := "checkIndex", desc := "(I[B)V" } : Jvm.MethodName)) ∈ lw_all := lw_g (lw_at lw_m3 1 rfl) rfl
theorem q565 : (Jvm.Cond.static ({ cls := "java/lang/StringUTF16", name := "checkIndex", desc := "(I[B)V" } : Jvm.MethodName)) ∈ lw_all := lw_g (lw_at lw_m3 2 rfl) rfl
theorem q566 : (Jvm.Cond.code ({ cls := "java/lang/StringUTF16", name := "checkIndex", desc := "(I[B)V" } : Jvm.MethodName) prog_42_method_91_code (2 : Nat) (Option.none : Option Jvm.ClassFile.FieldType)) ∈ lw_all := lw_g (lw_at lw_m3 3 rfl) rfl
theorem q567 : (Jvm.Cond.methodLink "java/lang/StringUTF16" (414 : Nat) ({ cls := "java/lang/String", name := "checkIndex", desc := "(II)V" } : Jvm.MethodName)) ∈ lw_all := lw_g (lw_at lw_m3 4 rfl) rfl
theorem q632 : (Jvm.Cond.static ({ cls := "java/lang/StringUTF16", name := "getChars", desc := "(III[B)I" } : Jvm.MethodName)) ∈ lw_all := lw_g (lw_at lw_m3 69 rfl) rfl
theorem q633 : (Jvm.Cond.code ({ cls := "java/lang/StringUTF16", name := "getChars", desc := "(III[B)I" } : Jvm.MethodName) prog_42_method_77_code (5 : Nat) (Option.some Jvm.ClassFile.FieldType.int)) ∈ lw_all := lw_g (lw_at lw_m3 70 rfl) rfl
theorem q634 : (Jvm.Cond.methodLink "java/lang/StringUTF16" (96 : Nat) ({ cls := "java/lang/StringUTF16", name := "checkBoundsBeginEnd", desc := "(II[B)V" } : Jvm.MethodName)) ∈ lw_all := lw_g (lw_at lw_m3 71 rfl) rfl
theorem q635 : (Jvm.Cond.static ({ cls := "java/lang/StringUTF16", name := "checkBoundsBeginEnd", desc := "(II[B)V" } : Jvm.MethodName)) ∈ lw_all := lw_g (lw_at lw_m3 72 rfl) rfl
theorem q636 : (Jvm.Cond.code ({ cls := "java/lang/StringUTF16", name := "checkBoundsBeginEnd", desc := "(II[B)V" } : Jvm.MethodName) prog_42_method_93_code (3 : Nat) (Option.none : Option Jvm.ClassFile.FieldType)) ∈ lw_all := lw_g (lw_at lw_m3 73 rfl) rfl
theorem q637 : (Jvm.Cond.methodLink "java/lang/StringUTF16" (241 : Nat) ({ cls := "java/lang/String", name := "checkBoundsBeginEnd", desc := "(III)V" } : Jvm.MethodName)) ∈ lw_all := lw_g (lw_at lw_m3 74 rfl) rfl
theorem q643 : (Jvm.Cond.methodLink "java/lang/StringUTF16" (393 : Nat) ({ cls := "java/lang/StringUTF16", name := "getChars", desc := "(II[B)I" } : Jvm.MethodName)) ∈ lw_all := lw_g (lw_at lw_m3 80 rfl) rfl
theorem q644 : (Jvm.Cond.static ({ cls := "java/lang/StringUTF16", name := "getChars", desc := "(II[B)I" } : Jvm.MethodName)) ∈ lw_all := lw_g (lw_at lw_m3 81 rfl) rfl
theorem q645 : (Jvm.Cond.code ({ cls := "java/lang/StringUTF16", name := "getChars", desc := "(II[B)I" } : Jvm.MethodName) prog_42_method_89_code (7 : Nat) (Option.some Jvm.ClassFile.FieldType.int)) ∈ lw_all := lw_g (lw_at lw_m3 82 rfl) rfl
theorem q646 : (Jvm.Cond.fieldLink "java/lang/StringUTF16" (403 : Nat) "java/lang/Integer" "DigitOnes" "[B") ∈ lw_all := lw_g (lw_at lw_m3 83 rfl) rfl
theorem q647 : (Jvm.Cond.fieldLink "java/lang/StringUTF16" (407 : Nat) "java/lang/Integer" "DigitTens" "[B") ∈ lw_all := lw_g (lw_at lw_m3 84 rfl) rfl
theorem q661 : (Jvm.Cond.static ({ cls := "java/lang/StringUTF16", name := "putCharsAt", desc := "([BICCCC)I" } : Jvm.MethodName)) ∈ lw_all := lw_g (lw_at lw_m3 98 rfl) rfl
theorem q662 : (Jvm.Cond.code ({ cls := "java/lang/StringUTF16", name := "putCharsAt", desc := "([BICCCC)I" } : Jvm.MethodName) prog_42_method_81_code (7 : Nat) (Option.some Jvm.ClassFile.FieldType.int)) ∈ lw_all := lw_g (lw_at lw_m3 99 rfl) rfl
theorem q695 : (Jvm.Cond.static ({ cls := "java/lang/StringUTF16", name := "compress", desc := "([BII)[B" } : Jvm.MethodName)) ∈ lw_all := lw_g (lw_at lw_m3 132 rfl) rfl
theorem q696 : (Jvm.Cond.code ({ cls := "java/lang/StringUTF16", name := "compress", desc := "([BII)[B" } : Jvm.MethodName) prog_42_method_17_code (6 : Nat) (Option.some (Jvm.ClassFile.FieldType.array Jvm.ClassFile.FieldType.byte))) ∈ lw_all := lw_g (lw_at lw_m3 133 rfl) rfl
theorem q697 : (Jvm.Cond.methodLink "java/lang/StringUTF16" (123 : Nat) ({ cls := "java/lang/StringUTF16", name := "compress", desc := "([BI[BII)I" } : Jvm.MethodName)) ∈ lw_all := lw_g (lw_at lw_m3 134 rfl) rfl
theorem q698 : (Jvm.Cond.static ({ cls := "java/lang/StringUTF16", name := "compress", desc := "([BI[BII)I" } : Jvm.MethodName)) ∈ lw_all := lw_g (lw_at lw_m3 135 rfl) rfl
theorem q699 : (Jvm.Cond.code ({ cls := "java/lang/StringUTF16", name := "compress", desc := "([BI[BII)I" } : Jvm.MethodName) prog_42_method_22_code (7 : Nat) (Option.some Jvm.ClassFile.FieldType.int)) ∈ lw_all := lw_g (lw_at lw_m3 136 rfl) rfl
theorem q700 : (Jvm.Cond.methodLink "java/lang/StringUTF16" (71 : Nat) ({ cls := "java/lang/StringUTF16", name := "getChar", desc := "([BI)C" } : Jvm.MethodName)) ∈ lw_all := lw_g (lw_at lw_m3 137 rfl) rfl
theorem q701 : (Jvm.Cond.static ({ cls := "java/lang/StringUTF16", name := "getChar", desc := "([BI)C" } : Jvm.MethodName)) ∈ lw_all := lw_g (lw_at lw_m3 138 rfl) rfl
theorem q702 : (Jvm.Cond.code ({ cls := "java/lang/StringUTF16", name := "getChar", desc := "([BI)C" } : Jvm.MethodName) prog_42_method_5_code (2 : Nat) (Option.some Jvm.ClassFile.FieldType.char)) ∈ lw_all := lw_g (lw_at lw_m3 139 rfl) rfl
theorem q703 : (Jvm.Cond.methodLink "java/lang/StringUTF16" (126 : Nat) ({ cls := "java/util/Arrays", name := "copyOfRange", desc := "([BII)[B" } : Jvm.MethodName)) ∈ lw_all := lw_g (lw_at lw_m3 140 rfl) rfl
theorem q705 : (Jvm.Cond.static ({ cls := "java/lang/StringUTF16", name := "coderFromArrayLen", desc := "([BI)B" } : Jvm.MethodName)) ∈ lw_all := lw_g (lw_at lw_m3 142 rfl) rfl
theorem q706 : (Jvm.Cond.code ({ cls := "java/lang/StringUTF16", name := "coderFromArrayLen", desc := "([BI)B" } : Jvm.MethodName) prog_42_method_15_code (2 : Nat) (Option.some Jvm.ClassFile.FieldType.byte)) ∈ lw_all := lw_g (lw_at lw_m3 143 rfl) rfl
theorem q1672 : (Jvm.Cond.static ({ cls := "java/lang/StringUTF16", name := "compareTo", desc := "([B[B)I" } : Jvm.MethodName)) ∈ lw_all := lw_g (lw_at lw_m7 149 rfl) rfl
theorem q1673 : (Jvm.Cond.code ({ cls := "java/lang/StringUTF16", name := "compareTo", desc := "([B[B)I" } : Jvm.MethodName) prog_42_method_29_code (4 : Nat) (Option.some Jvm.ClassFile.FieldType.int)) ∈ lw_all := lw_g (lw_at lw_m7 150 rfl) rfl
theorem q1674 : (Jvm.Cond.methodLink "java/lang/StringUTF16" (176 : Nat) ({ cls := "java/lang/StringUTF16", name := "compareValues", desc := "([B[BII)I" } : Jvm.MethodName)) ∈ lw_all := lw_g (lw_at lw_m7 151 rfl) rfl
theorem q1675 : (Jvm.Cond.static ({ cls := "java/lang/StringUTF16", name := "compareValues", desc := "([B[BII)I" } : Jvm.MethodName)) ∈ lw_all := lw_g (lw_at lw_m7 152 rfl) rfl
theorem q1676 : (Jvm.Cond.code ({ cls := "java/lang/StringUTF16", name := "compareValues", desc := "([B[BII)I" } : Jvm.MethodName) prog_42_method_31_code (8 : Nat) (Option.some Jvm.ClassFile.FieldType.int)) ∈ lw_all := lw_g (lw_at lw_m7 153 rfl) rfl
theorem q1677 : (Jvm.Cond.methodLink "java/lang/StringUTF16" (183 : Nat) ({ cls := "java/lang/Math", name := "min", desc := "(II)I" } : Jvm.MethodName)) ∈ lw_all := lw_g (lw_at lw_m7 154 rfl) rfl
theorem q1690 : (Jvm.Cond.static ({ cls := "java/lang/StringUTF16", name := "compareToLatin1", desc := "([B[B)I" } : Jvm.MethodName)) ∈ lw_all := lw_g (lw_at lw_m7 167 rfl) rfl
theorem q1691 : (Jvm.Cond.code ({ cls := "java/lang/StringUTF16", name := "compareToLatin1", desc := "([B[B)I" } : Jvm.MethodName) prog_42_method_32_code (2 : Nat) (Option.some Jvm.ClassFile.FieldType.int)) ∈ lw_all := lw_g (lw_at lw_m7 168 rfl) rfl
theorem q1692 : (Jvm.Cond.methodLink "java/lang/StringUTF16" (189 : Nat) ({ cls := "java/lang/StringLatin1", name := "compareToUTF16", desc := "([B[B)I" } : Jvm.MethodName)) ∈ lw_all := lw_g (lw_at lw_m7 169 rfl) rfl
theorem q1709 : (Jvm.Cond.static ({ cls := "java/lang/StringUTF16", name := "compareTo", desc := "([B[BII)I" } : Jvm.MethodName)) ∈ lw_all := lw_g (lw_at lw_m7 186 rfl) rfl
theorem q1710 : (Jvm.Cond.code ({ cls := "java/lang/StringUTF16", name := "compareTo", desc := "([B[BII)I" } : Jvm.MethodName) prog_42_method_30_code (4 : Nat) (Option.some Jvm.ClassFile.FieldType.int)) ∈ lw_all := lw_g (lw_at lw_m7 187 rfl) rfl
theorem q1711 : (Jvm.Cond.methodLink "java/lang/StringUTF16" (180 : Nat) ({ cls := "java/lang/StringUTF16", name := "checkOffset", desc := "(I[B)V" } : Jvm.MethodName)) ∈ lw_all := lw_g (lw_at lw_m7 188 rfl) rfl
theorem q1712 : (Jvm.Cond.static ({ cls := "java/lang/StringUTF16", name := "checkOffset", desc := "(I[B)V" } : Jvm.MethodName)) ∈ lw_all := lw_g (lw_at lw_m7 189 rfl) rfl
theorem q1713 : (Jvm.Cond.code ({ cls := "java/lang/StringUTF16", name := "checkOffset", desc := "(I[B)V" } : Jvm.MethodName) prog_42_method_92_code (2 : Nat) (Option.none : Option Jvm.ClassFile.FieldType)) ∈ lw_all := lw_g (lw_at lw_m7 190 rfl) rfl
theorem q1714 : (Jvm.Cond.methodLink "java/lang/StringUTF16" (417 : Nat) ({ cls := "java/lang/String", name := "checkOffset", desc := "(II)V" } : Jvm.MethodName)) ∈ lw_all := lw_g (lw_at lw_m7 191 rfl) rfl
theorem q1722 : (Jvm.Cond.static ({ cls := "java/lang/StringUTF16", name := "compareToLatin1", desc := "([B[BII)I" } : Jvm.MethodName)) ∈ lw_all := lw_g (lw_at lw_m7 199 rfl) rfl
theorem q1723 : (Jvm.Cond.code ({ cls := "java/lang/StringUTF16", name := "compareToLatin1", desc := "([B[BII)I" } : Jvm.MethodName) prog_42_method_33_code (4 : Nat) (Option.some Jvm.ClassFile.FieldType.int)) ∈ lw_all := lw_g (lw_at lw_m7 200 rfl) rfl
theorem q1724 : (Jvm.Cond.methodLink "java/lang/StringUTF16" (193 : Nat) ({ cls := "java/lang/StringLatin1", name := "compareToUTF16", desc := "([B[BII)I" } : Jvm.MethodName)) ∈ lw_all := lw_g (lw_at lw_m7 201 rfl) rfl

/-! jdk/internal/util/ArraysSupport -/
set_option maxRecDepth 100000
def RJ15 : String := "jdk/internal/util/ArraysSupport"
abbrev cJ15_newLength : ByteArray := prog_66_method_27_code
def yJ15_newLength : MethodName := ⟨RJ15, "newLength", "(III)I"⟩
def dkwJ15_newLength_1 : List UInt8 := [184, 0, 201, 172]
abbrev dktJ15_newLength_1 : List UInt8 := dkwJ15_newLength_1 ++ []
def dkwJ15_newLength_0 : List UInt8 := [26, 27, 28, 184, 0, 194, 96, 62, 3, 29, 162, 0, 11, 29, 18, 200, 163, 0, 5, 29, 172, 26, 27]
abbrev dktJ15_newLength_0 : List UInt8 := dkwJ15_newLength_0 ++ dktJ15_newLength_1
theorem dksJ15_newLength_0 : cJ15_newLength.data.toList.drop 0 = dktJ15_newLength_0 := by decide +kernel
theorem dksJ15_newLength_1 : cJ15_newLength.data.toList.drop 23 = dktJ15_newLength_1 := dk_seg dksJ15_newLength_0 23 rfl rfl
theorem dJ15_newLength_0 : decode cJ15_newLength 0 = .ok (.iload_n 0, 1) := dk_26 (dk_at dksJ15_newLength_0 0 rfl rfl)
theorem dJ15_newLength_1 : decode cJ15_newLength 1 = .ok (.iload_n 1, 1) := dk_27 (dk_at dksJ15_newLength_0 1 rfl rfl)
theorem dJ15_newLength_2 : decode cJ15_newLength 2 = .ok (.iload_n 2, 1) := dk_28 (dk_at dksJ15_newLength_0 2 rfl rfl)
theorem dJ15_newLength_3 : decode cJ15_newLength 3 = .ok (.invokestatic 194, 3) := dk_184 0 194 (dk_at dksJ15_newLength_0 3 rfl rfl)
theorem dJ15_newLength_6 : decode cJ15_newLength 6 = .ok (.iadd, 1) := dk_96 (dk_at dksJ15_newLength_0 6 rfl rfl)
theorem dJ15_newLength_7 : decode cJ15_newLength 7 = .ok (.istore_n 3, 1) := dk_62 (dk_at dksJ15_newLength_0 7 rfl rfl)
theorem dJ15_newLength_8 : decode cJ15_newLength 8 = .ok (.iconst 0, 1) := dk_3 (dk_at dksJ15_newLength_0 8 rfl rfl)
theorem dJ15_newLength_9 : decode cJ15_newLength 9 = .ok (.iload_n 3, 1) := dk_29 (dk_at dksJ15_newLength_0 9 rfl rfl)
theorem dJ15_newLength_10 : decode cJ15_newLength 10 = .ok (.if_icmp .ge 11, 3) := dk_162 0 11 (dk_at dksJ15_newLength_0 10 rfl rfl)
theorem dJ15_newLength_13 : decode cJ15_newLength 13 = .ok (.iload_n 3, 1) := dk_29 (dk_at dksJ15_newLength_0 13 rfl rfl)
theorem dJ15_newLength_14 : decode cJ15_newLength 14 = .ok (.ldc 200, 2) := dk_18 200 (dk_at dksJ15_newLength_0 14 rfl rfl)
theorem dJ15_newLength_16 : decode cJ15_newLength 16 = .ok (.if_icmp .gt 5, 3) := dk_163 0 5 (dk_at dksJ15_newLength_0 16 rfl rfl)
theorem dJ15_newLength_19 : decode cJ15_newLength 19 = .ok (.iload_n 3, 1) := dk_29 (dk_at dksJ15_newLength_0 19 rfl rfl)
theorem dJ15_newLength_20 : decode cJ15_newLength 20 = .ok (.ireturn, 1) := dk_172 (dk_at dksJ15_newLength_0 20 rfl rfl)
theorem dJ15_newLength_21 : decode cJ15_newLength 21 = .ok (.iload_n 0, 1) := dk_26 (dk_at dksJ15_newLength_0 21 rfl rfl)
theorem dJ15_newLength_22 : decode cJ15_newLength 22 = .ok (.iload_n 1, 1) := dk_27 (dk_at dksJ15_newLength_0 22 rfl rfl)
theorem dJ15_newLength_23 : decode cJ15_newLength 23 = .ok (.invokestatic 201, 3) := dk_184 0 201 (dk_at dksJ15_newLength_1 0 rfl rfl)
theorem dJ15_newLength_26 : decode cJ15_newLength 26 = .ok (.ireturn, 1) := dk_172 (dk_at dksJ15_newLength_1 3 rfl rfl)
abbrev cJ15_hugeLength : ByteArray := prog_66_method_28_code
def yJ15_hugeLength : MethodName := ⟨RJ15, "hugeLength", "(II)I"⟩
def dkwJ15_hugeLength_2 : List UInt8 := [191, 28, 18, 200, 163, 0, 6, 18, 200, 172, 28, 172]
abbrev dktJ15_hugeLength_2 : List UInt8 := dkwJ15_hugeLength_2 ++ []
def dkwJ15_hugeLength_1 : List UInt8 := [26, 182, 0, 98, 18, 208, 182, 0, 94, 27, 182, 0, 98, 18, 210, 182, 0, 94, 182, 0, 101, 183, 0, 212]
abbrev dktJ15_hugeLength_1 : List UInt8 := dkwJ15_hugeLength_1 ++ dktJ15_hugeLength_2
def dkwJ15_hugeLength_0 : List UInt8 := [26, 27, 96, 61, 28, 156, 0, 44, 187, 0, 204, 89, 187, 0, 89, 89, 183, 0, 91, 18, 206, 182, 0, 94]
abbrev dktJ15_hugeLength_0 : List UInt8 := dkwJ15_hugeLength_0 ++ dktJ15_hugeLength_1
theorem dksJ15_hugeLength_0 : cJ15_hugeLength.data.toList.drop 0 = dktJ15_hugeLength_0 := by decide +kernel
theorem dksJ15_hugeLength_1 : cJ15_hugeLength.data.toList.drop 24 = dktJ15_hugeLength_1 := dk_seg dksJ15_hugeLength_0 24 rfl rfl
theorem dksJ15_hugeLength_2 : cJ15_hugeLength.data.toList.drop 48 = dktJ15_hugeLength_2 := dk_seg dksJ15_hugeLength_1 24 rfl rfl
theorem dJ15_hugeLength_0 : decode cJ15_hugeLength 0 = .ok (.iload_n 0, 1) := dk_26 (dk_at dksJ15_hugeLength_0 0 rfl rfl)
theorem dJ15_hugeLength_1 : decode cJ15_hugeLength 1 = .ok (.iload_n 1, 1) := dk_27 (dk_at dksJ15_hugeLength_0 1 rfl rfl)
theorem dJ15_hugeLength_2 : decode cJ15_hugeLength 2 = .ok (.iadd, 1) := dk_96 (dk_at dksJ15_hugeLength_0 2 rfl rfl)
theorem dJ15_hugeLength_3 : decode cJ15_hugeLength 3 = .ok (.istore_n 2, 1) := dk_61 (dk_at dksJ15_hugeLength_0 3 rfl rfl)
theorem dJ15_hugeLength_4 : decode cJ15_hugeLength 4 = .ok (.iload_n 2, 1) := dk_28 (dk_at dksJ15_hugeLength_0 4 rfl rfl)
theorem dJ15_hugeLength_5 : decode cJ15_hugeLength 5 = .ok (.ifCond .ge 44, 3) := dk_156 0 44 (dk_at dksJ15_hugeLength_0 5 rfl rfl)
theorem dJ15_hugeLength_8 : decode cJ15_hugeLength 8 = .ok (.new 204, 3) := dk_187 0 204 (dk_at dksJ15_hugeLength_0 8 rfl rfl)
theorem dJ15_hugeLength_11 : decode cJ15_hugeLength 11 = .ok (.dup, 1) := dk_89 (dk_at dksJ15_hugeLength_0 11 rfl rfl)
theorem dJ15_hugeLength_12 : decode cJ15_hugeLength 12 = .ok (.new 89, 3) := dk_187 0 89 (dk_at dksJ15_hugeLength_0 12 rfl rfl)
theorem dJ15_hugeLength_15 : decode cJ15_hugeLength 15 = .ok (.dup, 1) := dk_89 (dk_at dksJ15_hugeLength_0 15 rfl rfl)
theorem dJ15_hugeLength_16 : decode cJ15_hugeLength 16 = .ok (.invokespecial 91, 3) := dk_183 0 91 (dk_at dksJ15_hugeLength_0 16 rfl rfl)
theorem dJ15_hugeLength_19 : decode cJ15_hugeLength 19 = .ok (.ldc 206, 2) := dk_18 206 (dk_at dksJ15_hugeLength_0 19 rfl rfl)
theorem dJ15_hugeLength_21 : decode cJ15_hugeLength 21 = .ok (.invokevirtual 94, 3) := dk_182 0 94 (dk_at dksJ15_hugeLength_0 21 rfl rfl)
theorem dJ15_hugeLength_24 : decode cJ15_hugeLength 24 = .ok (.iload_n 0, 1) := dk_26 (dk_at dksJ15_hugeLength_1 0 rfl rfl)
theorem dJ15_hugeLength_25 : decode cJ15_hugeLength 25 = .ok (.invokevirtual 98, 3) := dk_182 0 98 (dk_at dksJ15_hugeLength_1 1 rfl rfl)
theorem dJ15_hugeLength_28 : decode cJ15_hugeLength 28 = .ok (.ldc 208, 2) := dk_18 208 (dk_at dksJ15_hugeLength_1 4 rfl rfl)
theorem dJ15_hugeLength_30 : decode cJ15_hugeLength 30 = .ok (.invokevirtual 94, 3) := dk_182 0 94 (dk_at dksJ15_hugeLength_1 6 rfl rfl)
theorem dJ15_hugeLength_33 : decode cJ15_hugeLength 33 = .ok (.iload_n 1, 1) := dk_27 (dk_at dksJ15_hugeLength_1 9 rfl rfl)
theorem dJ15_hugeLength_34 : decode cJ15_hugeLength 34 = .ok (.invokevirtual 98, 3) := dk_182 0 98 (dk_at dksJ15_hugeLength_1 10 rfl rfl)
theorem dJ15_hugeLength_37 : decode cJ15_hugeLength 37 = .ok (.ldc 210, 2) := dk_18 210 (dk_at dksJ15_hugeLength_1 13 rfl rfl)
theorem dJ15_hugeLength_39 : decode cJ15_hugeLength 39 = .ok (.invokevirtual 94, 3) := dk_182 0 94 (dk_at dksJ15_hugeLength_1 15 rfl rfl)
theorem dJ15_hugeLength_42 : decode cJ15_hugeLength 42 = .ok (.invokevirtual 101, 3) := dk_182 0 101 (dk_at dksJ15_hugeLength_1 18 rfl rfl)
theorem dJ15_hugeLength_45 : decode cJ15_hugeLength 45 = .ok (.invokespecial 212, 3) := dk_183 0 212 (dk_at dksJ15_hugeLength_1 21 rfl rfl)
theorem dJ15_hugeLength_48 : decode cJ15_hugeLength 48 = .ok (.athrow, 1) := dk_191 (dk_at dksJ15_hugeLength_2 0 rfl rfl)
theorem dJ15_hugeLength_49 : decode cJ15_hugeLength 49 = .ok (.iload_n 2, 1) := dk_28 (dk_at dksJ15_hugeLength_2 1 rfl rfl)
theorem dJ15_hugeLength_50 : decode cJ15_hugeLength 50 = .ok (.ldc 200, 2) := dk_18 200 (dk_at dksJ15_hugeLength_2 2 rfl rfl)
theorem dJ15_hugeLength_52 : decode cJ15_hugeLength 52 = .ok (.if_icmp .gt 6, 3) := dk_163 0 6 (dk_at dksJ15_hugeLength_2 4 rfl rfl)
theorem dJ15_hugeLength_55 : decode cJ15_hugeLength 55 = .ok (.ldc 200, 2) := dk_18 200 (dk_at dksJ15_hugeLength_2 7 rfl rfl)
theorem dJ15_hugeLength_57 : decode cJ15_hugeLength 57 = .ok (.ireturn, 1) := dk_172 (dk_at dksJ15_hugeLength_2 9 rfl rfl)
theorem dJ15_hugeLength_58 : decode cJ15_hugeLength 58 = .ok (.iload_n 2, 1) := dk_28 (dk_at dksJ15_hugeLength_2 10 rfl rfl)
theorem dJ15_hugeLength_59 : decode cJ15_hugeLength 59 = .ok (.ireturn, 1) := dk_172 (dk_at dksJ15_hugeLength_2 11 rfl rfl)
abbrev cJ15_mismatch : ByteArray := prog_66_method_13_code
def yJ15_mismatch : MethodName := ⟨RJ15, "mismatch", "([B[BI)I"⟩
def dkwJ15_mismatch_3 : List UInt8 := [172]
abbrev dktJ15_mismatch_3 : List UInt8 := dkwJ15_mismatch_3 ++ []
def dkwJ15_mismatch_2 : List UInt8 := [62, 29, 28, 162, 0, 20, 42, 29, 51, 43, 29, 51, 159, 0, 5, 29, 172, 132, 3, 1, 167, 255, 237, 2]
abbrev dktJ15_mismatch_2 : List UInt8 := dkwJ15_mismatch_2 ++ dktJ15_mismatch_3
def dkwJ15_mismatch_1 : List UInt8 := [43, 178, 0, 126, 133, 28, 178, 0, 129, 184, 0, 122, 62, 29, 155, 0, 5, 29, 172, 28, 29, 2, 130, 100]
abbrev dktJ15_mismatch_1 : List UInt8 := dkwJ15_mismatch_1 ++ dktJ15_mismatch_2
def dkwJ15_mismatch_0 : List UInt8 := [3, 62, 28, 16, 7, 164, 0, 44, 42, 3, 51, 43, 3, 51, 159, 0, 5, 3, 172, 42, 178, 0, 126, 133]
abbrev dktJ15_mismatch_0 : List UInt8 := dkwJ15_mismatch_0 ++ dktJ15_mismatch_1
theorem dksJ15_mismatch_0 : cJ15_mismatch.data.toList.drop 0 = dktJ15_mismatch_0 := by decide +kernel
theorem dksJ15_mismatch_1 : cJ15_mismatch.data.toList.drop 24 = dktJ15_mismatch_1 := dk_seg dksJ15_mismatch_0 24 rfl rfl
theorem dksJ15_mismatch_2 : cJ15_mismatch.data.toList.drop 48 = dktJ15_mismatch_2 := dk_seg dksJ15_mismatch_1 24 rfl rfl
theorem dksJ15_mismatch_3 : cJ15_mismatch.data.toList.drop 72 = dktJ15_mismatch_3 := dk_seg dksJ15_mismatch_2 24 rfl rfl
theorem dJ15_mismatch_0 : decode cJ15_mismatch 0 = .ok (.iconst 0, 1) := dk_3 (dk_at dksJ15_mismatch_0 0 rfl rfl)
theorem dJ15_mismatch_1 : decode cJ15_mismatch 1 = .ok (.istore_n 3, 1) := dk_62 (dk_at dksJ15_mismatch_0 1 rfl rfl)
theorem dJ15_mismatch_2 : decode cJ15_mismatch 2 = .ok (.iload_n 2, 1) := dk_28 (dk_at dksJ15_mismatch_0 2 rfl rfl)
theorem dJ15_mismatch_3 : decode cJ15_mismatch 3 = .ok (.bipush 7, 2) := dk_16 7 (dk_at dksJ15_mismatch_0 3 rfl rfl)
theorem dJ15_mismatch_5 : decode cJ15_mismatch 5 = .ok (.if_icmp .le 44, 3) := dk_164 0 44 (dk_at dksJ15_mismatch_0 5 rfl rfl)
theorem dJ15_mismatch_8 : decode cJ15_mismatch 8 = .ok (.aload_n 0, 1) := dk_42 (dk_at dksJ15_mismatch_0 8 rfl rfl)
theorem dJ15_mismatch_9 : decode cJ15_mismatch 9 = .ok (.iconst 0, 1) := dk_3 (dk_at dksJ15_mismatch_0 9 rfl rfl)
theorem dJ15_mismatch_10 : decode cJ15_mismatch 10 = .ok (.baload, 1) := dk_51 (dk_at dksJ15_mismatch_0 10 rfl rfl)
theorem dJ15_mismatch_11 : decode cJ15_mismatch 11 = .ok (.aload_n 1, 1) := dk_43 (dk_at dksJ15_mismatch_0 11 rfl rfl)
theorem dJ15_mismatch_12 : decode cJ15_mismatch 12 = .ok (.iconst 0, 1) := dk_3 (dk_at dksJ15_mismatch_0 12 rfl rfl)
theorem dJ15_mismatch_13 : decode cJ15_mismatch 13 = .ok (.baload, 1) := dk_51 (dk_at dksJ15_mismatch_0 13 rfl rfl)
theorem dJ15_mismatch_14 : decode cJ15_mismatch 14 = .ok (.if_icmp .eq 5, 3) := dk_159 0 5 (dk_at dksJ15_mismatch_0 14 rfl rfl)
theorem dJ15_mismatch_17 : decode cJ15_mismatch 17 = .ok (.iconst 0, 1) := dk_3 (dk_at dksJ15_mismatch_0 17 rfl rfl)
theorem dJ15_mismatch_18 : decode cJ15_mismatch 18 = .ok (.ireturn, 1) := dk_172 (dk_at dksJ15_mismatch_0 18 rfl rfl)
theorem dJ15_mismatch_19 : decode cJ15_mismatch 19 = .ok (.aload_n 0, 1) := dk_42 (dk_at dksJ15_mismatch_0 19 rfl rfl)
theorem dJ15_mismatch_20 : decode cJ15_mismatch 20 = .ok (.getstatic 126, 3) := dk_178 0 126 (dk_at dksJ15_mismatch_0 20 rfl rfl)
theorem dJ15_mismatch_23 : decode cJ15_mismatch 23 = .ok (.i2l, 1) := dk_133 (dk_at dksJ15_mismatch_0 23 rfl rfl)
theorem dJ15_mismatch_24 : decode cJ15_mismatch 24 = .ok (.aload_n 1, 1) := dk_43 (dk_at dksJ15_mismatch_1 0 rfl rfl)
theorem dJ15_mismatch_25 : decode cJ15_mismatch 25 = .ok (.getstatic 126, 3) := dk_178 0 126 (dk_at dksJ15_mismatch_1 1 rfl rfl)
theorem dJ15_mismatch_28 : decode cJ15_mismatch 28 = .ok (.i2l, 1) := dk_133 (dk_at dksJ15_mismatch_1 4 rfl rfl)
theorem dJ15_mismatch_29 : decode cJ15_mismatch 29 = .ok (.iload_n 2, 1) := dk_28 (dk_at dksJ15_mismatch_1 5 rfl rfl)
theorem dJ15_mismatch_30 : decode cJ15_mismatch 30 = .ok (.getstatic 129, 3) := dk_178 0 129 (dk_at dksJ15_mismatch_1 6 rfl rfl)
theorem dJ15_mismatch_33 : decode cJ15_mismatch 33 = .ok (.invokestatic 122, 3) := dk_184 0 122 (dk_at dksJ15_mismatch_1 9 rfl rfl)
theorem dJ15_mismatch_36 : decode cJ15_mismatch 36 = .ok (.istore_n 3, 1) := dk_62 (dk_at dksJ15_mismatch_1 12 rfl rfl)
theorem dJ15_mismatch_37 : decode cJ15_mismatch 37 = .ok (.iload_n 3, 1) := dk_29 (dk_at dksJ15_mismatch_1 13 rfl rfl)
theorem dJ15_mismatch_38 : decode cJ15_mismatch 38 = .ok (.ifCond .lt 5, 3) := dk_155 0 5 (dk_at dksJ15_mismatch_1 14 rfl rfl)
theorem dJ15_mismatch_41 : decode cJ15_mismatch 41 = .ok (.iload_n 3, 1) := dk_29 (dk_at dksJ15_mismatch_1 17 rfl rfl)
theorem dJ15_mismatch_42 : decode cJ15_mismatch 42 = .ok (.ireturn, 1) := dk_172 (dk_at dksJ15_mismatch_1 18 rfl rfl)
theorem dJ15_mismatch_43 : decode cJ15_mismatch 43 = .ok (.iload_n 2, 1) := dk_28 (dk_at dksJ15_mismatch_1 19 rfl rfl)
theorem dJ15_mismatch_44 : decode cJ15_mismatch 44 = .ok (.iload_n 3, 1) := dk_29 (dk_at dksJ15_mismatch_1 20 rfl rfl)
theorem dJ15_mismatch_45 : decode cJ15_mismatch 45 = .ok (.iconst (-1), 1) := dk_2 (dk_at dksJ15_mismatch_1 21 rfl rfl)
theorem dJ15_mismatch_46 : decode cJ15_mismatch 46 = .ok (.ixor, 1) := dk_130 (dk_at dksJ15_mismatch_1 22 rfl rfl)
theorem dJ15_mismatch_47 : decode cJ15_mismatch 47 = .ok (.isub, 1) := dk_100 (dk_at dksJ15_mismatch_1 23 rfl rfl)
theorem dJ15_mismatch_48 : decode cJ15_mismatch 48 = .ok (.istore_n 3, 1) := dk_62 (dk_at dksJ15_mismatch_2 0 rfl rfl)
theorem dJ15_mismatch_49 : decode cJ15_mismatch 49 = .ok (.iload_n 3, 1) := dk_29 (dk_at dksJ15_mismatch_2 1 rfl rfl)
theorem dJ15_mismatch_50 : decode cJ15_mismatch 50 = .ok (.iload_n 2, 1) := dk_28 (dk_at dksJ15_mismatch_2 2 rfl rfl)
theorem dJ15_mismatch_51 : decode cJ15_mismatch 51 = .ok (.if_icmp .ge 20, 3) := dk_162 0 20 (dk_at dksJ15_mismatch_2 3 rfl rfl)
theorem dJ15_mismatch_54 : decode cJ15_mismatch 54 = .ok (.aload_n 0, 1) := dk_42 (dk_at dksJ15_mismatch_2 6 rfl rfl)
theorem dJ15_mismatch_55 : decode cJ15_mismatch 55 = .ok (.iload_n 3, 1) := dk_29 (dk_at dksJ15_mismatch_2 7 rfl rfl)
theorem dJ15_mismatch_56 : decode cJ15_mismatch 56 = .ok (.baload, 1) := dk_51 (dk_at dksJ15_mismatch_2 8 rfl rfl)
theorem dJ15_mismatch_57 : decode cJ15_mismatch 57 = .ok (.aload_n 1, 1) := dk_43 (dk_at dksJ15_mismatch_2 9 rfl rfl)
theorem dJ15_mismatch_58 : decode cJ15_mismatch 58 = .ok (.iload_n 3, 1) := dk_29 (dk_at dksJ15_mismatch_2 10 rfl rfl)
theorem dJ15_mismatch_59 : decode cJ15_mismatch 59 = .ok (.baload, 1) := dk_51 (dk_at dksJ15_mismatch_2 11 rfl rfl)
theorem dJ15_mismatch_60 : decode cJ15_mismatch 60 = .ok (.if_icmp .eq 5, 3) := dk_159 0 5 (dk_at dksJ15_mismatch_2 12 rfl rfl)
theorem dJ15_mismatch_63 : decode cJ15_mismatch 63 = .ok (.iload_n 3, 1) := dk_29 (dk_at dksJ15_mismatch_2 15 rfl rfl)
theorem dJ15_mismatch_64 : decode cJ15_mismatch 64 = .ok (.ireturn, 1) := dk_172 (dk_at dksJ15_mismatch_2 16 rfl rfl)
theorem dJ15_mismatch_65 : decode cJ15_mismatch 65 = .ok (.iinc 3 1, 3) := dk_132 3 1 (dk_at dksJ15_mismatch_2 17 rfl rfl)
theorem dJ15_mismatch_68 : decode cJ15_mismatch 68 = .ok (.goto (-19), 3) := dk_167 255 237 (dk_at dksJ15_mismatch_2 20 rfl rfl)
theorem dJ15_mismatch_71 : decode cJ15_mismatch 71 = .ok (.iconst (-1), 1) := dk_2 (dk_at dksJ15_mismatch_2 23 rfl rfl)
theorem dJ15_mismatch_72 : decode cJ15_mismatch 72 = .ok (.ireturn, 1) := dk_172 (dk_at dksJ15_mismatch_3 0 rfl rfl)
abbrev cJ15_vectorizedMismatch : ByteArray := prog_66_method_3_code
def yJ15_vectorizedMismatch : MethodName := ⟨RJ15, "vectorizedMismatch", "(Ljava/lang/Object;JLjava/lang/Object;JII)I"⟩
def dkwJ15_vectorizedMismatch_11 : List UInt8 := [54, 10, 21, 10, 2, 130, 172, 21, 10, 2, 130, 172]
abbrev dktJ15_vectorizedMismatch_11 : List UInt8 := dkwJ15_vectorizedMismatch_11 ++ []
def dkwJ15_vectorizedMismatch_10 : List UInt8 := [178, 0, 46, 21, 7, 96, 122, 54, 17, 21, 9, 21, 8, 120, 21, 17, 96, 172, 21, 10, 21, 11, 100]
abbrev dktJ15_vectorizedMismatch_10 : List UInt8 := dkwJ15_vectorizedMismatch_10 ++ dktJ15_vectorizedMismatch_11
def dkwJ15_vectorizedMismatch_9 : List UInt8 := [153, 0, 18, 21, 16, 184, 0, 58, 178, 0, 46, 21, 7, 96, 122, 167, 0, 15, 21, 16, 184, 0, 11]
abbrev dktJ15_vectorizedMismatch_9 : List UInt8 := dkwJ15_vectorizedMismatch_9 ++ dktJ15_vectorizedMismatch_10
def dkwJ15_vectorizedMismatch_8 : List UInt8 := [182, 0, 54, 54, 15, 21, 14, 21, 15, 159, 0, 54, 21, 14, 21, 15, 130, 54, 16, 178, 0, 36]
abbrev dktJ15_vectorizedMismatch_8 : List UInt8 := dkwJ15_vectorizedMismatch_8 ++ dktJ15_vectorizedMismatch_9
def dkwJ15_vectorizedMismatch_7 : List UInt8 := [55, 12, 178, 0, 26, 42, 31, 22, 12, 97, 182, 0, 54, 54, 14, 178, 0, 26, 45, 22, 4, 22, 12, 97]
abbrev dktJ15_vectorizedMismatch_7 : List UInt8 := dkwJ15_vectorizedMismatch_7 ++ dktJ15_vectorizedMismatch_8
def dkwJ15_vectorizedMismatch_6 : List UInt8 := [4, 178, 0, 51, 21, 7, 100, 120, 54, 11, 21, 10, 21, 11, 161, 0, 104, 21, 9, 133, 178, 0, 20, 121]
abbrev dktJ15_vectorizedMismatch_6 : List UInt8 := dkwJ15_vectorizedMismatch_6 ++ dktJ15_vectorizedMismatch_7
def dkwJ15_vectorizedMismatch_5 : List UInt8 := [132, 9, 1, 167, 255, 148, 21, 6, 21, 9, 21, 8, 120, 100, 54, 10, 21, 7, 178, 0, 51, 162, 0, 126]
abbrev dktJ15_vectorizedMismatch_5 : List UInt8 := dkwJ15_vectorizedMismatch_5 ++ dktJ15_vectorizedMismatch_6
def dkwJ15_vectorizedMismatch_4 : List UInt8 := [22, 16, 184, 0, 49, 178, 0, 46, 21, 7, 96, 122, 54, 18, 21, 9, 21, 8, 120, 21, 18, 96, 172]
abbrev dktJ15_vectorizedMismatch_4 : List UInt8 := dkwJ15_vectorizedMismatch_4 ++ dktJ15_vectorizedMismatch_5
def dkwJ15_vectorizedMismatch_3 : List UInt8 := [55, 16, 178, 0, 36, 153, 0, 18, 22, 16, 184, 0, 40, 178, 0, 46, 21, 7, 96, 122, 167, 0, 15]
abbrev dktJ15_vectorizedMismatch_3 : List UInt8 := dkwJ15_vectorizedMismatch_3 ++ dktJ15_vectorizedMismatch_4
def dkwJ15_vectorizedMismatch_2 : List UInt8 := [22, 4, 22, 10, 97, 182, 0, 30, 55, 14, 22, 12, 22, 14, 148, 153, 0, 54, 22, 12, 22, 14, 131]
abbrev dktJ15_vectorizedMismatch_2 : List UInt8 := dkwJ15_vectorizedMismatch_2 ++ dktJ15_vectorizedMismatch_3
def dkwJ15_vectorizedMismatch_1 : List UInt8 := [178, 0, 20, 121, 55, 10, 178, 0, 26, 42, 31, 22, 10, 97, 182, 0, 30, 55, 12, 178, 0, 26, 45]
abbrev dktJ15_vectorizedMismatch_1 : List UInt8 := dkwJ15_vectorizedMismatch_1 ++ dktJ15_vectorizedMismatch_2
def dkwJ15_vectorizedMismatch_0 : List UInt8 := [178, 0, 20, 21, 7, 100, 54, 8, 3, 54, 9, 21, 9, 21, 6, 21, 8, 122, 162, 0, 104, 21, 9, 133]
abbrev dktJ15_vectorizedMismatch_0 : List UInt8 := dkwJ15_vectorizedMismatch_0 ++ dktJ15_vectorizedMismatch_1
theorem dksJ15_vectorizedMismatch_0 : cJ15_vectorizedMismatch.data.toList.drop 0 = dktJ15_vectorizedMismatch_0 := by decide +kernel
theorem dksJ15_vectorizedMismatch_1 : cJ15_vectorizedMismatch.data.toList.drop 24 = dktJ15_vectorizedMismatch_1 := dk_seg dksJ15_vectorizedMismatch_0 24 rfl rfl
theorem dksJ15_vectorizedMismatch_2 : cJ15_vectorizedMismatch.data.toList.drop 47 = dktJ15_vectorizedMismatch_2 := dk_seg dksJ15_vectorizedMismatch_1 23 rfl rfl
theorem dksJ15_vectorizedMismatch_3 : cJ15_vectorizedMismatch.data.toList.drop 70 = dktJ15_vectorizedMismatch_3 := dk_seg dksJ15_vectorizedMismatch_2 23 rfl rfl
theorem dksJ15_vectorizedMismatch_4 : cJ15_vectorizedMismatch.data.toList.drop 93 = dktJ15_vectorizedMismatch_4 := dk_seg dksJ15_vectorizedMismatch_3 23 rfl rfl
theorem dksJ15_vectorizedMismatch_5 : cJ15_vectorizedMismatch.data.toList.drop 116 = dktJ15_vectorizedMismatch_5 := dk_seg dksJ15_vectorizedMismatch_4 23 rfl rfl
theorem dksJ15_vectorizedMismatch_6 : cJ15_vectorizedMismatch.data.toList.drop 140 = dktJ15_vectorizedMismatch_6 := dk_seg dksJ15_vectorizedMismatch_5 24 rfl rfl
theorem dksJ15_vectorizedMismatch_7 : cJ15_vectorizedMismatch.data.toList.drop 164 = dktJ15_vectorizedMismatch_7 := dk_seg dksJ15_vectorizedMismatch_6 24 rfl rfl
theorem dksJ15_vectorizedMismatch_8 : cJ15_vectorizedMismatch.data.toList.drop 188 = dktJ15_vectorizedMismatch_8 := dk_seg dksJ15_vectorizedMismatch_7 24 rfl rfl
theorem dksJ15_vectorizedMismatch_9 : cJ15_vectorizedMismatch.data.toList.drop 210 = dktJ15_vectorizedMismatch_9 := dk_seg dksJ15_vectorizedMismatch_8 22 rfl rfl
theorem dksJ15_vectorizedMismatch_10 : cJ15_vectorizedMismatch.data.toList.drop 233 = dktJ15_vectorizedMismatch_10 := dk_seg dksJ15_vectorizedMismatch_9 23 rfl rfl
theorem dksJ15_vectorizedMismatch_11 : cJ15_vectorizedMismatch.data.toList.drop 256 = dktJ15_vectorizedMismatch_11 := dk_seg dksJ15_vectorizedMismatch_10 23 rfl rfl
theorem dJ15_vectorizedMismatch_0 : decode cJ15_vectorizedMismatch 0 = .ok (.getstatic 20, 3) := dk_178 0 20 (dk_at dksJ15_vectorizedMismatch_0 0 rfl rfl)
theorem dJ15_vectorizedMismatch_3 : decode cJ15_vectorizedMismatch 3 = .ok (.iload 7, 2) := dk_21 7 (dk_at dksJ15_vectorizedMismatch_0 3 rfl rfl)
theorem dJ15_vectorizedMismatch_5 : decode cJ15_vectorizedMismatch 5 = .ok (.isub, 1) := dk_100 (dk_at dksJ15_vectorizedMismatch_0 5 rfl rfl)
theorem dJ15_vectorizedMismatch_6 : decode cJ15_vectorizedMismatch 6 = .ok (.istore 8, 2) := dk_54 8 (dk_at dksJ15_vectorizedMismatch_0 6 rfl rfl)
theorem dJ15_vectorizedMismatch_8 : decode cJ15_vectorizedMismatch 8 = .ok (.iconst 0, 1) := dk_3 (dk_at dksJ15_vectorizedMismatch_0 8 rfl rfl)
theorem dJ15_vectorizedMismatch_9 : decode cJ15_vectorizedMismatch 9 = .ok (.istore 9, 2) := dk_54 9 (dk_at dksJ15_vectorizedMismatch_0 9 rfl rfl)
theorem dJ15_vectorizedMismatch_11 : decode cJ15_vectorizedMismatch 11 = .ok (.iload 9, 2) := dk_21 9 (dk_at dksJ15_vectorizedMismatch_0 11 rfl rfl)
theorem dJ15_vectorizedMismatch_13 : decode cJ15_vectorizedMismatch 13 = .ok (.iload 6, 2) := dk_21 6 (dk_at dksJ15_vectorizedMismatch_0 13 rfl rfl)
theorem dJ15_vectorizedMismatch_15 : decode cJ15_vectorizedMismatch 15 = .ok (.iload 8, 2) := dk_21 8 (dk_at dksJ15_vectorizedMismatch_0 15 rfl rfl)
theorem dJ15_vectorizedMismatch_17 : decode cJ15_vectorizedMismatch 17 = .ok (.ishr, 1) := dk_122 (dk_at dksJ15_vectorizedMismatch_0 17 rfl rfl)
theorem dJ15_vectorizedMismatch_18 : decode cJ15_vectorizedMismatch 18 = .ok (.if_icmp .ge 104, 3) := dk_162 0 104 (dk_at dksJ15_vectorizedMismatch_0 18 rfl rfl)
theorem dJ15_vectorizedMismatch_21 : decode cJ15_vectorizedMismatch 21 = .ok (.iload 9, 2) := dk_21 9 (dk_at dksJ15_vectorizedMismatch_0 21 rfl rfl)
theorem dJ15_vectorizedMismatch_23 : decode cJ15_vectorizedMismatch 23 = .ok (.i2l, 1) := dk_133 (dk_at dksJ15_vectorizedMismatch_0 23 rfl rfl)
theorem dJ15_vectorizedMismatch_24 : decode cJ15_vectorizedMismatch 24 = .ok (.getstatic 20, 3) := dk_178 0 20 (dk_at dksJ15_vectorizedMismatch_1 0 rfl rfl)
theorem dJ15_vectorizedMismatch_27 : decode cJ15_vectorizedMismatch 27 = .ok (.lshl, 1) := dk_121 (dk_at dksJ15_vectorizedMismatch_1 3 rfl rfl)
theorem dJ15_vectorizedMismatch_28 : decode cJ15_vectorizedMismatch 28 = .ok (.lstore 10, 2) := dk_55 10 (dk_at dksJ15_vectorizedMismatch_1 4 rfl rfl)
theorem dJ15_vectorizedMismatch_30 : decode cJ15_vectorizedMismatch 30 = .ok (.getstatic 26, 3) := dk_178 0 26 (dk_at dksJ15_vectorizedMismatch_1 6 rfl rfl)
theorem dJ15_vectorizedMismatch_33 : decode cJ15_vectorizedMismatch 33 = .ok (.aload_n 0, 1) := dk_42 (dk_at dksJ15_vectorizedMismatch_1 9 rfl rfl)
theorem dJ15_vectorizedMismatch_34 : decode cJ15_vectorizedMismatch 34 = .ok (.lload_n 1, 1) := dk_31 (dk_at dksJ15_vectorizedMismatch_1 10 rfl rfl)
theorem dJ15_vectorizedMismatch_35 : decode cJ15_vectorizedMismatch 35 = .ok (.lload 10, 2) := dk_22 10 (dk_at dksJ15_vectorizedMismatch_1 11 rfl rfl)
theorem dJ15_vectorizedMismatch_37 : decode cJ15_vectorizedMismatch 37 = .ok (.ladd, 1) := dk_97 (dk_at dksJ15_vectorizedMismatch_1 13 rfl rfl)
theorem dJ15_vectorizedMismatch_38 : decode cJ15_vectorizedMismatch 38 = .ok (.invokevirtual 30, 3) := dk_182 0 30 (dk_at dksJ15_vectorizedMismatch_1 14 rfl rfl)
theorem dJ15_vectorizedMismatch_41 : decode cJ15_vectorizedMismatch 41 = .ok (.lstore 12, 2) := dk_55 12 (dk_at dksJ15_vectorizedMismatch_1 17 rfl rfl)
theorem dJ15_vectorizedMismatch_43 : decode cJ15_vectorizedMismatch 43 = .ok (.getstatic 26, 3) := dk_178 0 26 (dk_at dksJ15_vectorizedMismatch_1 19 rfl rfl)
theorem dJ15_vectorizedMismatch_46 : decode cJ15_vectorizedMismatch 46 = .ok (.aload_n 3, 1) := dk_45 (dk_at dksJ15_vectorizedMismatch_1 22 rfl rfl)
theorem dJ15_vectorizedMismatch_47 : decode cJ15_vectorizedMismatch 47 = .ok (.lload 4, 2) := dk_22 4 (dk_at dksJ15_vectorizedMismatch_2 0 rfl rfl)
theorem dJ15_vectorizedMismatch_49 : decode cJ15_vectorizedMismatch 49 = .ok (.lload 10, 2) := dk_22 10 (dk_at dksJ15_vectorizedMismatch_2 2 rfl rfl)
theorem dJ15_vectorizedMismatch_51 : decode cJ15_vectorizedMismatch 51 = .ok (.ladd, 1) := dk_97 (dk_at dksJ15_vectorizedMismatch_2 4 rfl rfl)
theorem dJ15_vectorizedMismatch_52 : decode cJ15_vectorizedMismatch 52 = .ok (.invokevirtual 30, 3) := dk_182 0 30 (dk_at dksJ15_vectorizedMismatch_2 5 rfl rfl)
theorem dJ15_vectorizedMismatch_55 : decode cJ15_vectorizedMismatch 55 = .ok (.lstore 14, 2) := dk_55 14 (dk_at dksJ15_vectorizedMismatch_2 8 rfl rfl)
theorem dJ15_vectorizedMismatch_57 : decode cJ15_vectorizedMismatch 57 = .ok (.lload 12, 2) := dk_22 12 (dk_at dksJ15_vectorizedMismatch_2 10 rfl rfl)
theorem dJ15_vectorizedMismatch_59 : decode cJ15_vectorizedMismatch 59 = .ok (.lload 14, 2) := dk_22 14 (dk_at dksJ15_vectorizedMismatch_2 12 rfl rfl)
theorem dJ15_vectorizedMismatch_61 : decode cJ15_vectorizedMismatch 61 = .ok (.lcmp, 1) := dk_148 (dk_at dksJ15_vectorizedMismatch_2 14 rfl rfl)
theorem dJ15_vectorizedMismatch_62 : decode cJ15_vectorizedMismatch 62 = .ok (.ifCond .eq 54, 3) := dk_153 0 54 (dk_at dksJ15_vectorizedMismatch_2 15 rfl rfl)
theorem dJ15_vectorizedMismatch_65 : decode cJ15_vectorizedMismatch 65 = .ok (.lload 12, 2) := dk_22 12 (dk_at dksJ15_vectorizedMismatch_2 18 rfl rfl)
theorem dJ15_vectorizedMismatch_67 : decode cJ15_vectorizedMismatch 67 = .ok (.lload 14, 2) := dk_22 14 (dk_at dksJ15_vectorizedMismatch_2 20 rfl rfl)
theorem dJ15_vectorizedMismatch_69 : decode cJ15_vectorizedMismatch 69 = .ok (.lxor, 1) := dk_131 (dk_at dksJ15_vectorizedMismatch_2 22 rfl rfl)
theorem dJ15_vectorizedMismatch_70 : decode cJ15_vectorizedMismatch 70 = .ok (.lstore 16, 2) := dk_55 16 (dk_at dksJ15_vectorizedMismatch_3 0 rfl rfl)
theorem dJ15_vectorizedMismatch_72 : decode cJ15_vectorizedMismatch 72 = .ok (.getstatic 36, 3) := dk_178 0 36 (dk_at dksJ15_vectorizedMismatch_3 2 rfl rfl)
theorem dJ15_vectorizedMismatch_75 : decode cJ15_vectorizedMismatch 75 = .ok (.ifCond .eq 18, 3) := dk_153 0 18 (dk_at dksJ15_vectorizedMismatch_3 5 rfl rfl)
theorem dJ15_vectorizedMismatch_78 : decode cJ15_vectorizedMismatch 78 = .ok (.lload 16, 2) := dk_22 16 (dk_at dksJ15_vectorizedMismatch_3 8 rfl rfl)
theorem dJ15_vectorizedMismatch_80 : decode cJ15_vectorizedMismatch 80 = .ok (.invokestatic 40, 3) := dk_184 0 40 (dk_at dksJ15_vectorizedMismatch_3 10 rfl rfl)
theorem dJ15_vectorizedMismatch_83 : decode cJ15_vectorizedMismatch 83 = .ok (.getstatic 46, 3) := dk_178 0 46 (dk_at dksJ15_vectorizedMismatch_3 13 rfl rfl)
theorem dJ15_vectorizedMismatch_86 : decode cJ15_vectorizedMismatch 86 = .ok (.iload 7, 2) := dk_21 7 (dk_at dksJ15_vectorizedMismatch_3 16 rfl rfl)
theorem dJ15_vectorizedMismatch_88 : decode cJ15_vectorizedMismatch 88 = .ok (.iadd, 1) := dk_96 (dk_at dksJ15_vectorizedMismatch_3 18 rfl rfl)
theorem dJ15_vectorizedMismatch_89 : decode cJ15_vectorizedMismatch 89 = .ok (.ishr, 1) := dk_122 (dk_at dksJ15_vectorizedMismatch_3 19 rfl rfl)
theorem dJ15_vectorizedMismatch_90 : decode cJ15_vectorizedMismatch 90 = .ok (.goto 15, 3) := dk_167 0 15 (dk_at dksJ15_vectorizedMismatch_3 20 rfl rfl)
theorem dJ15_vectorizedMismatch_93 : decode cJ15_vectorizedMismatch 93 = .ok (.lload 16, 2) := dk_22 16 (dk_at dksJ15_vectorizedMismatch_4 0 rfl rfl)
theorem dJ15_vectorizedMismatch_95 : decode cJ15_vectorizedMismatch 95 = .ok (.invokestatic 49, 3) := dk_184 0 49 (dk_at dksJ15_vectorizedMismatch_4 2 rfl rfl)
theorem dJ15_vectorizedMismatch_98 : decode cJ15_vectorizedMismatch 98 = .ok (.getstatic 46, 3) := dk_178 0 46 (dk_at dksJ15_vectorizedMismatch_4 5 rfl rfl)
theorem dJ15_vectorizedMismatch_101 : decode cJ15_vectorizedMismatch 101 = .ok (.iload 7, 2) := dk_21 7 (dk_at dksJ15_vectorizedMismatch_4 8 rfl rfl)
theorem dJ15_vectorizedMismatch_103 : decode cJ15_vectorizedMismatch 103 = .ok (.iadd, 1) := dk_96 (dk_at dksJ15_vectorizedMismatch_4 10 rfl rfl)
theorem dJ15_vectorizedMismatch_104 : decode cJ15_vectorizedMismatch 104 = .ok (.ishr, 1) := dk_122 (dk_at dksJ15_vectorizedMismatch_4 11 rfl rfl)
theorem dJ15_vectorizedMismatch_105 : decode cJ15_vectorizedMismatch 105 = .ok (.istore 18, 2) := dk_54 18 (dk_at dksJ15_vectorizedMismatch_4 12 rfl rfl)
theorem dJ15_vectorizedMismatch_107 : decode cJ15_vectorizedMismatch 107 = .ok (.iload 9, 2) := dk_21 9 (dk_at dksJ15_vectorizedMismatch_4 14 rfl rfl)
theorem dJ15_vectorizedMismatch_109 : decode cJ15_vectorizedMismatch 109 = .ok (.iload 8, 2) := dk_21 8 (dk_at dksJ15_vectorizedMismatch_4 16 rfl rfl)
theorem dJ15_vectorizedMismatch_111 : decode cJ15_vectorizedMismatch 111 = .ok (.ishl, 1) := dk_120 (dk_at dksJ15_vectorizedMismatch_4 18 rfl rfl)
theorem dJ15_vectorizedMismatch_112 : decode cJ15_vectorizedMismatch 112 = .ok (.iload 18, 2) := dk_21 18 (dk_at dksJ15_vectorizedMismatch_4 19 rfl rfl)
theorem dJ15_vectorizedMismatch_114 : decode cJ15_vectorizedMismatch 114 = .ok (.iadd, 1) := dk_96 (dk_at dksJ15_vectorizedMismatch_4 21 rfl rfl)
theorem dJ15_vectorizedMismatch_115 : decode cJ15_vectorizedMismatch 115 = .ok (.ireturn, 1) := dk_172 (dk_at dksJ15_vectorizedMismatch_4 22 rfl rfl)
theorem dJ15_vectorizedMismatch_116 : decode cJ15_vectorizedMismatch 116 = .ok (.iinc 9 1, 3) := dk_132 9 1 (dk_at dksJ15_vectorizedMismatch_5 0 rfl rfl)
theorem dJ15_vectorizedMismatch_119 : decode cJ15_vectorizedMismatch 119 = .ok (.goto (-108), 3) := dk_167 255 148 (dk_at dksJ15_vectorizedMismatch_5 3 rfl rfl)
theorem dJ15_vectorizedMismatch_122 : decode cJ15_vectorizedMismatch 122 = .ok (.iload 6, 2) := dk_21 6 (dk_at dksJ15_vectorizedMismatch_5 6 rfl rfl)
theorem dJ15_vectorizedMismatch_124 : decode cJ15_vectorizedMismatch 124 = .ok (.iload 9, 2) := dk_21 9 (dk_at dksJ15_vectorizedMismatch_5 8 rfl rfl)
theorem dJ15_vectorizedMismatch_126 : decode cJ15_vectorizedMismatch 126 = .ok (.iload 8, 2) := dk_21 8 (dk_at dksJ15_vectorizedMismatch_5 10 rfl rfl)
theorem dJ15_vectorizedMismatch_128 : decode cJ15_vectorizedMismatch 128 = .ok (.ishl, 1) := dk_120 (dk_at dksJ15_vectorizedMismatch_5 12 rfl rfl)
theorem dJ15_vectorizedMismatch_129 : decode cJ15_vectorizedMismatch 129 = .ok (.isub, 1) := dk_100 (dk_at dksJ15_vectorizedMismatch_5 13 rfl rfl)
theorem dJ15_vectorizedMismatch_130 : decode cJ15_vectorizedMismatch 130 = .ok (.istore 10, 2) := dk_54 10 (dk_at dksJ15_vectorizedMismatch_5 14 rfl rfl)
theorem dJ15_vectorizedMismatch_132 : decode cJ15_vectorizedMismatch 132 = .ok (.iload 7, 2) := dk_21 7 (dk_at dksJ15_vectorizedMismatch_5 16 rfl rfl)
theorem dJ15_vectorizedMismatch_134 : decode cJ15_vectorizedMismatch 134 = .ok (.getstatic 51, 3) := dk_178 0 51 (dk_at dksJ15_vectorizedMismatch_5 18 rfl rfl)
theorem dJ15_vectorizedMismatch_137 : decode cJ15_vectorizedMismatch 137 = .ok (.if_icmp .ge 126, 3) := dk_162 0 126 (dk_at dksJ15_vectorizedMismatch_5 21 rfl rfl)
theorem dJ15_vectorizedMismatch_140 : decode cJ15_vectorizedMismatch 140 = .ok (.iconst 1, 1) := dk_4 (dk_at dksJ15_vectorizedMismatch_6 0 rfl rfl)
theorem dJ15_vectorizedMismatch_141 : decode cJ15_vectorizedMismatch 141 = .ok (.getstatic 51, 3) := dk_178 0 51 (dk_at dksJ15_vectorizedMismatch_6 1 rfl rfl)
theorem dJ15_vectorizedMismatch_144 : decode cJ15_vectorizedMismatch 144 = .ok (.iload 7, 2) := dk_21 7 (dk_at dksJ15_vectorizedMismatch_6 4 rfl rfl)
theorem dJ15_vectorizedMismatch_146 : decode cJ15_vectorizedMismatch 146 = .ok (.isub, 1) := dk_100 (dk_at dksJ15_vectorizedMismatch_6 6 rfl rfl)
theorem dJ15_vectorizedMismatch_147 : decode cJ15_vectorizedMismatch 147 = .ok (.ishl, 1) := dk_120 (dk_at dksJ15_vectorizedMismatch_6 7 rfl rfl)
theorem dJ15_vectorizedMismatch_148 : decode cJ15_vectorizedMismatch 148 = .ok (.istore 11, 2) := dk_54 11 (dk_at dksJ15_vectorizedMismatch_6 8 rfl rfl)
theorem dJ15_vectorizedMismatch_150 : decode cJ15_vectorizedMismatch 150 = .ok (.iload 10, 2) := dk_21 10 (dk_at dksJ15_vectorizedMismatch_6 10 rfl rfl)
theorem dJ15_vectorizedMismatch_152 : decode cJ15_vectorizedMismatch 152 = .ok (.iload 11, 2) := dk_21 11 (dk_at dksJ15_vectorizedMismatch_6 12 rfl rfl)
theorem dJ15_vectorizedMismatch_154 : decode cJ15_vectorizedMismatch 154 = .ok (.if_icmp .lt 104, 3) := dk_161 0 104 (dk_at dksJ15_vectorizedMismatch_6 14 rfl rfl)
theorem dJ15_vectorizedMismatch_157 : decode cJ15_vectorizedMismatch 157 = .ok (.iload 9, 2) := dk_21 9 (dk_at dksJ15_vectorizedMismatch_6 17 rfl rfl)
theorem dJ15_vectorizedMismatch_159 : decode cJ15_vectorizedMismatch 159 = .ok (.i2l, 1) := dk_133 (dk_at dksJ15_vectorizedMismatch_6 19 rfl rfl)
theorem dJ15_vectorizedMismatch_160 : decode cJ15_vectorizedMismatch 160 = .ok (.getstatic 20, 3) := dk_178 0 20 (dk_at dksJ15_vectorizedMismatch_6 20 rfl rfl)
theorem dJ15_vectorizedMismatch_163 : decode cJ15_vectorizedMismatch 163 = .ok (.lshl, 1) := dk_121 (dk_at dksJ15_vectorizedMismatch_6 23 rfl rfl)
theorem dJ15_vectorizedMismatch_164 : decode cJ15_vectorizedMismatch 164 = .ok (.lstore 12, 2) := dk_55 12 (dk_at dksJ15_vectorizedMismatch_7 0 rfl rfl)
theorem dJ15_vectorizedMismatch_166 : decode cJ15_vectorizedMismatch 166 = .ok (.getstatic 26, 3) := dk_178 0 26 (dk_at dksJ15_vectorizedMismatch_7 2 rfl rfl)
theorem dJ15_vectorizedMismatch_169 : decode cJ15_vectorizedMismatch 169 = .ok (.aload_n 0, 1) := dk_42 (dk_at dksJ15_vectorizedMismatch_7 5 rfl rfl)
theorem dJ15_vectorizedMismatch_170 : decode cJ15_vectorizedMismatch 170 = .ok (.lload_n 1, 1) := dk_31 (dk_at dksJ15_vectorizedMismatch_7 6 rfl rfl)
theorem dJ15_vectorizedMismatch_171 : decode cJ15_vectorizedMismatch 171 = .ok (.lload 12, 2) := dk_22 12 (dk_at dksJ15_vectorizedMismatch_7 7 rfl rfl)
theorem dJ15_vectorizedMismatch_173 : decode cJ15_vectorizedMismatch 173 = .ok (.ladd, 1) := dk_97 (dk_at dksJ15_vectorizedMismatch_7 9 rfl rfl)
theorem dJ15_vectorizedMismatch_174 : decode cJ15_vectorizedMismatch 174 = .ok (.invokevirtual 54, 3) := dk_182 0 54 (dk_at dksJ15_vectorizedMismatch_7 10 rfl rfl)
theorem dJ15_vectorizedMismatch_177 : decode cJ15_vectorizedMismatch 177 = .ok (.istore 14, 2) := dk_54 14 (dk_at dksJ15_vectorizedMismatch_7 13 rfl rfl)
theorem dJ15_vectorizedMismatch_179 : decode cJ15_vectorizedMismatch 179 = .ok (.getstatic 26, 3) := dk_178 0 26 (dk_at dksJ15_vectorizedMismatch_7 15 rfl rfl)
theorem dJ15_vectorizedMismatch_182 : decode cJ15_vectorizedMismatch 182 = .ok (.aload_n 3, 1) := dk_45 (dk_at dksJ15_vectorizedMismatch_7 18 rfl rfl)
theorem dJ15_vectorizedMismatch_183 : decode cJ15_vectorizedMismatch 183 = .ok (.lload 4, 2) := dk_22 4 (dk_at dksJ15_vectorizedMismatch_7 19 rfl rfl)
theorem dJ15_vectorizedMismatch_185 : decode cJ15_vectorizedMismatch 185 = .ok (.lload 12, 2) := dk_22 12 (dk_at dksJ15_vectorizedMismatch_7 21 rfl rfl)
theorem dJ15_vectorizedMismatch_187 : decode cJ15_vectorizedMismatch 187 = .ok (.ladd, 1) := dk_97 (dk_at dksJ15_vectorizedMismatch_7 23 rfl rfl)
theorem dJ15_vectorizedMismatch_188 : decode cJ15_vectorizedMismatch 188 = .ok (.invokevirtual 54, 3) := dk_182 0 54 (dk_at dksJ15_vectorizedMismatch_8 0 rfl rfl)
theorem dJ15_vectorizedMismatch_191 : decode cJ15_vectorizedMismatch 191 = .ok (.istore 15, 2) := dk_54 15 (dk_at dksJ15_vectorizedMismatch_8 3 rfl rfl)
theorem dJ15_vectorizedMismatch_193 : decode cJ15_vectorizedMismatch 193 = .ok (.iload 14, 2) := dk_21 14 (dk_at dksJ15_vectorizedMismatch_8 5 rfl rfl)
theorem dJ15_vectorizedMismatch_195 : decode cJ15_vectorizedMismatch 195 = .ok (.iload 15, 2) := dk_21 15 (dk_at dksJ15_vectorizedMismatch_8 7 rfl rfl)
theorem dJ15_vectorizedMismatch_197 : decode cJ15_vectorizedMismatch 197 = .ok (.if_icmp .eq 54, 3) := dk_159 0 54 (dk_at dksJ15_vectorizedMismatch_8 9 rfl rfl)
theorem dJ15_vectorizedMismatch_200 : decode cJ15_vectorizedMismatch 200 = .ok (.iload 14, 2) := dk_21 14 (dk_at dksJ15_vectorizedMismatch_8 12 rfl rfl)
theorem dJ15_vectorizedMismatch_202 : decode cJ15_vectorizedMismatch 202 = .ok (.iload 15, 2) := dk_21 15 (dk_at dksJ15_vectorizedMismatch_8 14 rfl rfl)
theorem dJ15_vectorizedMismatch_204 : decode cJ15_vectorizedMismatch 204 = .ok (.ixor, 1) := dk_130 (dk_at dksJ15_vectorizedMismatch_8 16 rfl rfl)
theorem dJ15_vectorizedMismatch_205 : decode cJ15_vectorizedMismatch 205 = .ok (.istore 16, 2) := dk_54 16 (dk_at dksJ15_vectorizedMismatch_8 17 rfl rfl)
theorem dJ15_vectorizedMismatch_207 : decode cJ15_vectorizedMismatch 207 = .ok (.getstatic 36, 3) := dk_178 0 36 (dk_at dksJ15_vectorizedMismatch_8 19 rfl rfl)
theorem dJ15_vectorizedMismatch_210 : decode cJ15_vectorizedMismatch 210 = .ok (.ifCond .eq 18, 3) := dk_153 0 18 (dk_at dksJ15_vectorizedMismatch_9 0 rfl rfl)
theorem dJ15_vectorizedMismatch_213 : decode cJ15_vectorizedMismatch 213 = .ok (.iload 16, 2) := dk_21 16 (dk_at dksJ15_vectorizedMismatch_9 3 rfl rfl)
theorem dJ15_vectorizedMismatch_215 : decode cJ15_vectorizedMismatch 215 = .ok (.invokestatic 58, 3) := dk_184 0 58 (dk_at dksJ15_vectorizedMismatch_9 5 rfl rfl)
theorem dJ15_vectorizedMismatch_218 : decode cJ15_vectorizedMismatch 218 = .ok (.getstatic 46, 3) := dk_178 0 46 (dk_at dksJ15_vectorizedMismatch_9 8 rfl rfl)
theorem dJ15_vectorizedMismatch_221 : decode cJ15_vectorizedMismatch 221 = .ok (.iload 7, 2) := dk_21 7 (dk_at dksJ15_vectorizedMismatch_9 11 rfl rfl)
theorem dJ15_vectorizedMismatch_223 : decode cJ15_vectorizedMismatch 223 = .ok (.iadd, 1) := dk_96 (dk_at dksJ15_vectorizedMismatch_9 13 rfl rfl)
theorem dJ15_vectorizedMismatch_224 : decode cJ15_vectorizedMismatch 224 = .ok (.ishr, 1) := dk_122 (dk_at dksJ15_vectorizedMismatch_9 14 rfl rfl)
theorem dJ15_vectorizedMismatch_225 : decode cJ15_vectorizedMismatch 225 = .ok (.goto 15, 3) := dk_167 0 15 (dk_at dksJ15_vectorizedMismatch_9 15 rfl rfl)
theorem dJ15_vectorizedMismatch_228 : decode cJ15_vectorizedMismatch 228 = .ok (.iload 16, 2) := dk_21 16 (dk_at dksJ15_vectorizedMismatch_9 18 rfl rfl)
theorem dJ15_vectorizedMismatch_230 : decode cJ15_vectorizedMismatch 230 = .ok (.invokestatic 11, 3) := dk_184 0 11 (dk_at dksJ15_vectorizedMismatch_9 20 rfl rfl)
theorem dJ15_vectorizedMismatch_233 : decode cJ15_vectorizedMismatch 233 = .ok (.getstatic 46, 3) := dk_178 0 46 (dk_at dksJ15_vectorizedMismatch_10 0 rfl rfl)
theorem dJ15_vectorizedMismatch_236 : decode cJ15_vectorizedMismatch 236 = .ok (.iload 7, 2) := dk_21 7 (dk_at dksJ15_vectorizedMismatch_10 3 rfl rfl)
theorem dJ15_vectorizedMismatch_238 : decode cJ15_vectorizedMismatch 238 = .ok (.iadd, 1) := dk_96 (dk_at dksJ15_vectorizedMismatch_10 5 rfl rfl)
theorem dJ15_vectorizedMismatch_239 : decode cJ15_vectorizedMismatch 239 = .ok (.ishr, 1) := dk_122 (dk_at dksJ15_vectorizedMismatch_10 6 rfl rfl)
theorem dJ15_vectorizedMismatch_240 : decode cJ15_vectorizedMismatch 240 = .ok (.istore 17, 2) := dk_54 17 (dk_at dksJ15_vectorizedMismatch_10 7 rfl rfl)
theorem dJ15_vectorizedMismatch_242 : decode cJ15_vectorizedMismatch 242 = .ok (.iload 9, 2) := dk_21 9 (dk_at dksJ15_vectorizedMismatch_10 9 rfl rfl)
theorem dJ15_vectorizedMismatch_244 : decode cJ15_vectorizedMismatch 244 = .ok (.iload 8, 2) := dk_21 8 (dk_at dksJ15_vectorizedMismatch_10 11 rfl rfl)
theorem dJ15_vectorizedMismatch_246 : decode cJ15_vectorizedMismatch 246 = .ok (.ishl, 1) := dk_120 (dk_at dksJ15_vectorizedMismatch_10 13 rfl rfl)
theorem dJ15_vectorizedMismatch_247 : decode cJ15_vectorizedMismatch 247 = .ok (.iload 17, 2) := dk_21 17 (dk_at dksJ15_vectorizedMismatch_10 14 rfl rfl)
theorem dJ15_vectorizedMismatch_249 : decode cJ15_vectorizedMismatch 249 = .ok (.iadd, 1) := dk_96 (dk_at dksJ15_vectorizedMismatch_10 16 rfl rfl)
theorem dJ15_vectorizedMismatch_250 : decode cJ15_vectorizedMismatch 250 = .ok (.ireturn, 1) := dk_172 (dk_at dksJ15_vectorizedMismatch_10 17 rfl rfl)
theorem dJ15_vectorizedMismatch_251 : decode cJ15_vectorizedMismatch 251 = .ok (.iload 10, 2) := dk_21 10 (dk_at dksJ15_vectorizedMismatch_10 18 rfl rfl)
theorem dJ15_vectorizedMismatch_253 : decode cJ15_vectorizedMismatch 253 = .ok (.iload 11, 2) := dk_21 11 (dk_at dksJ15_vectorizedMismatch_10 20 rfl rfl)
theorem dJ15_vectorizedMismatch_255 : decode cJ15_vectorizedMismatch 255 = .ok (.isub, 1) := dk_100 (dk_at dksJ15_vectorizedMismatch_10 22 rfl rfl)
theorem dJ15_vectorizedMismatch_256 : decode cJ15_vectorizedMismatch 256 = .ok (.istore 10, 2) := dk_54 10 (dk_at dksJ15_vectorizedMismatch_11 0 rfl rfl)
theorem dJ15_vectorizedMismatch_258 : decode cJ15_vectorizedMismatch 258 = .ok (.iload 10, 2) := dk_21 10 (dk_at dksJ15_vectorizedMismatch_11 2 rfl rfl)
theorem dJ15_vectorizedMismatch_260 : decode cJ15_vectorizedMismatch 260 = .ok (.iconst (-1), 1) := dk_2 (dk_at dksJ15_vectorizedMismatch_11 4 rfl rfl)
theorem dJ15_vectorizedMismatch_261 : decode cJ15_vectorizedMismatch 261 = .ok (.ixor, 1) := dk_130 (dk_at dksJ15_vectorizedMismatch_11 5 rfl rfl)
theorem dJ15_vectorizedMismatch_262 : decode cJ15_vectorizedMismatch 262 = .ok (.ireturn, 1) := dk_172 (dk_at dksJ15_vectorizedMismatch_11 6 rfl rfl)
theorem dJ15_vectorizedMismatch_263 : decode cJ15_vectorizedMismatch 263 = .ok (.iload 10, 2) := dk_21 10 (dk_at dksJ15_vectorizedMismatch_11 7 rfl rfl)
theorem dJ15_vectorizedMismatch_265 : decode cJ15_vectorizedMismatch 265 = .ok (.iconst (-1), 1) := dk_2 (dk_at dksJ15_vectorizedMismatch_11 9 rfl rfl)
theorem dJ15_vectorizedMismatch_266 : decode cJ15_vectorizedMismatch 266 = .ok (.ixor, 1) := dk_130 (dk_at dksJ15_vectorizedMismatch_11 10 rfl rfl)
theorem dJ15_vectorizedMismatch_267 : decode cJ15_vectorizedMismatch 267 = .ok (.ireturn, 1) := dk_172 (dk_at dksJ15_vectorizedMismatch_11 11 rfl rfl)
theorem q105 : (Jvm.Cond.initialized "jdk/internal/util/ArraysSupport") ∈ lw_all := lw_g (lw_at lw_m1 22 rfl) rfl
theorem q494 : (Jvm.Cond.static ({ cls := "jdk/internal/util/ArraysSupport", name := "newLength", desc := "(III)I" } : Jvm.MethodName)) ∈ lw_all := lw_g (lw_at lw_m2 171 rfl) rfl
theorem q495 : (Jvm.Cond.code ({ cls := "jdk/internal/util/ArraysSupport", name := "newLength", desc := "(III)I" } : Jvm.MethodName) prog_66_method_27_code (4 : Nat) (Option.some Jvm.ClassFile.FieldType.int)) ∈ lw_all := lw_g (lw_at lw_m2 172 rfl) rfl
theorem q496 : (Jvm.Cond.methodLink "jdk/internal/util/ArraysSupport" (194 : Nat) ({ cls := "java/lang/Math", name := "max", desc := "(II)I" } : Jvm.MethodName)) ∈ lw_all := lw_g (lw_at lw_m2 173 rfl) rfl
theorem q499 : (Jvm.Cond.constant "jdk/internal/util/ArraysSupport" (200 : Nat) (2147483639 : Int32)) ∈ lw_all := lw_g (lw_at lw_m2 176 rfl) rfl
theorem q500 : (Jvm.Cond.methodLink "jdk/internal/util/ArraysSupport" (201 : Nat) ({ cls := "jdk/internal/util/ArraysSupport", name := "hugeLength", desc := "(II)I" } : Jvm.MethodName)) ∈ lw_all := lw_g (lw_at lw_m2 177 rfl) rfl
theorem q501 : (Jvm.Cond.static ({ cls := "jdk/internal/util/ArraysSupport", name := "hugeLength", desc := "(II)I" } : Jvm.MethodName)) ∈ lw_all := lw_g (lw_at lw_m2 178 rfl) rfl
theorem q502 : (Jvm.Cond.code ({ cls := "jdk/internal/util/ArraysSupport", name := "hugeLength", desc := "(II)I" } : Jvm.MethodName) prog_66_method_28_code (3 : Nat) (Option.some Jvm.ClassFile.FieldType.int)) ∈ lw_all := lw_g (lw_at lw_m2 179 rfl) rfl
theorem q1565 : (Jvm.Cond.static ({ cls := "jdk/internal/util/ArraysSupport", name := "mismatch", desc := "([B[BI)I" } : Jvm.MethodName)) ∈ lw_all := lw_g (lw_at lw_m7 42 rfl) rfl
theorem q1566 : (Jvm.Cond.code ({ cls := "jdk/internal/util/ArraysSupport", name := "mismatch", desc := "([B[BI)I" } : Jvm.MethodName) prog_66_method_13_code (4 : Nat) (Option.some Jvm.ClassFile.FieldType.int)) ∈ lw_all := lw_g (lw_at lw_m7 43 rfl) rfl
theorem q1567 : (Jvm.Cond.fieldLink "jdk/internal/util/ArraysSupport" (126 : Nat) "jdk/internal/misc/Unsafe" "ARRAY_BYTE_BASE_OFFSET" "I") ∈ lw_all := lw_g (lw_at lw_m7 44 rfl) rfl
theorem q1569 : (Jvm.Cond.fieldLink "jdk/internal/util/ArraysSupport" (129 : Nat) "jdk/internal/util/ArraysSupport" "LOG2_ARRAY_BYTE_INDEX_SCALE" "I") ∈ lw_all := lw_g (lw_at lw_m7 46 rfl) rfl
theorem q1570 : (Jvm.Cond.laysStatic "jdk/internal/util/ArraysSupport" "LOG2_ARRAY_BYTE_INDEX_SCALE" "I") ∈ lw_tbl := lw_at lw_m7 47 rfl
theorem q1571 : (Jvm.Cond.methodLink "jdk/internal/util/ArraysSupport" (122 : Nat) ({ cls := "jdk/internal/util/ArraysSupport", name := "vectorizedMismatch", desc := "(Ljava/lang/Object;JLjava/lang/Object;JII)I" } : Jvm.MethodName)) ∈ lw_all := lw_g (lw_at lw_m7 48 rfl) rfl
theorem q1572 : (Jvm.Cond.static ({ cls := "jdk/internal/util/ArraysSupport", name := "vectorizedMismatch", desc := "(Ljava/lang/Object;JLjava/lang/Object;JII)I" } : Jvm.MethodName)) ∈ lw_all := lw_g (lw_at lw_m7 49 rfl) rfl
theorem q1573 : (Jvm.Cond.code ({ cls := "jdk/internal/util/ArraysSupport", name := "vectorizedMismatch", desc := "(Ljava/lang/Object;JLjava/lang/Object;JII)I" } : Jvm.MethodName) prog_66_method_3_code (19 : Nat) (Option.some Jvm.ClassFile.FieldType.int)) ∈ lw_all := lw_g (lw_at lw_m7 50 rfl) rfl
theorem q1574 : (Jvm.Cond.fieldLink "jdk/internal/util/ArraysSupport" (20 : Nat) "jdk/internal/util/ArraysSupport" "LOG2_ARRAY_LONG_INDEX_SCALE" "I") ∈ lw_all := lw_g (lw_at lw_m7 51 rfl) rfl
theorem q1575 : (Jvm.Cond.laysStatic "jdk/internal/util/ArraysSupport" "LOG2_ARRAY_LONG_INDEX_SCALE" "I") ∈ lw_tbl := lw_at lw_m7 52 rfl
theorem q1576 : (Jvm.Cond.fieldLink "jdk/internal/util/ArraysSupport" (26 : Nat) "jdk/internal/util/ArraysSupport" "U" "Ljdk/internal/misc/Unsafe;") ∈ lw_all := lw_g (lw_at lw_m7 53 rfl) rfl
theorem q1577 : (Jvm.Cond.laysStatic "jdk/internal/util/ArraysSupport" "U" "Ljdk/internal/misc/Unsafe;") ∈ lw_tbl := lw_at lw_m7 54 rfl
theorem q1578 : (Jvm.Cond.methodLink "jdk/internal/util/ArraysSupport" (30 : Nat) ({ cls := "jdk/internal/misc/Unsafe", name := "getLongUnaligned", desc := "(Ljava/lang/Object;J)J" } : Jvm.MethodName)) ∈ lw_all := lw_g (lw_at lw_m7 55 rfl) rfl
theorem q1630 : (Jvm.Cond.fieldLink "jdk/internal/util/ArraysSupport" (36 : Nat) "jdk/internal/util/ArraysSupport" "BIG_ENDIAN" "Z") ∈ lw_all := lw_g (lw_at lw_m7 107 rfl) rfl
theorem q1631 : (Jvm.Cond.laysStatic "jdk/internal/util/ArraysSupport" "BIG_ENDIAN" "Z") ∈ lw_tbl := lw_at lw_m7 108 rfl
theorem q1632 : (Jvm.Cond.methodLink "jdk/internal/util/ArraysSupport" (40 : Nat) ({ cls := "java/lang/Long", name := "numberOfLeadingZeros", desc := "(J)I" } : Jvm.MethodName)) ∈ lw_all := lw_g (lw_at lw_m7 109 rfl) rfl
theorem q1639 : (Jvm.Cond.fieldLink "jdk/internal/util/ArraysSupport" (46 : Nat) "jdk/internal/util/ArraysSupport" "LOG2_BYTE_BIT_SIZE" "I") ∈ lw_all := lw_g (lw_at lw_m7 116 rfl) rfl
theorem q1640 : (Jvm.Cond.laysStatic "jdk/internal/util/ArraysSupport" "LOG2_BYTE_BIT_SIZE" "I") ∈ lw_tbl := lw_at lw_m7 117 rfl
theorem q1641 : (Jvm.Cond.methodLink "jdk/internal/util/ArraysSupport" (49 : Nat) ({ cls := "java/lang/Long", name := "numberOfTrailingZeros", desc := "(J)I" } : Jvm.MethodName)) ∈ lw_all := lw_g (lw_at lw_m7 118 rfl) rfl
theorem q1647 : (Jvm.Cond.fieldLink "jdk/internal/util/ArraysSupport" (51 : Nat) "jdk/internal/util/ArraysSupport" "LOG2_ARRAY_INT_INDEX_SCALE" "I") ∈ lw_all := lw_g (lw_at lw_m7 124 rfl) rfl
theorem q1648 : (Jvm.Cond.laysStatic "jdk/internal/util/ArraysSupport" "LOG2_ARRAY_INT_INDEX_SCALE" "I") ∈ lw_tbl := lw_at lw_m7 125 rfl
theorem q1649 : (Jvm.Cond.methodLink "jdk/internal/util/ArraysSupport" (54 : Nat) ({ cls := "jdk/internal/misc/Unsafe", name := "getIntUnaligned", desc := "(Ljava/lang/Object;J)I" } : Jvm.MethodName)) ∈ lw_all := lw_g (lw_at lw_m7 126 rfl) rfl
theorem q1666 : (Jvm.Cond.methodLink "jdk/internal/util/ArraysSupport" (58 : Nat) ({ cls := "java/lang/Integer", name := "numberOfLeadingZeros", desc := "(I)I" } : Jvm.MethodName)) ∈ lw_all := lw_g (lw_at lw_m7 143 rfl) rfl
theorem q1667 : (Jvm.Cond.methodLink "jdk/internal/util/ArraysSupport" (11 : Nat) ({ cls := "java/lang/Integer", name := "numberOfTrailingZeros", desc := "(I)I" } : Jvm.MethodName)) ∈ lw_all := lw_g (lw_at lw_m7 144 rfl) rfl

