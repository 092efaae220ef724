/-! java/lang/Math -/
set_option maxRecDepth 100000
def RJ16 : String := "java/lang/Math"
abbrev cJ16_max : ByteArray := prog_35_method_65_code
def yJ16_max : MethodName := ⟨RJ16, "max", "(II)I"⟩
def dkwJ16_max_0 : List UInt8 := [26, 27, 161, 0, 7, 26, 167, 0, 4, 27, 172]
abbrev dktJ16_max_0 : List UInt8 := dkwJ16_max_0 ++ []
theorem dksJ16_max_0 : cJ16_max.data.toList.drop 0 = dktJ16_max_0 := by decide +kernel
theorem dJ16_max_0 : decode cJ16_max 0 = .ok (.iload_n 0, 1) := dk_26 (dk_at dksJ16_max_0 0 rfl rfl)
theorem dJ16_max_1 : decode cJ16_max 1 = .ok (.iload_n 1, 1) := dk_27 (dk_at dksJ16_max_0 1 rfl rfl)
theorem dJ16_max_2 : decode cJ16_max 2 = .ok (.if_icmp .lt 7, 3) := dk_161 0 7 (dk_at dksJ16_max_0 2 rfl rfl)
theorem dJ16_max_5 : decode cJ16_max 5 = .ok (.iload_n 0, 1) := dk_26 (dk_at dksJ16_max_0 5 rfl rfl)
theorem dJ16_max_6 : decode cJ16_max 6 = .ok (.goto 4, 3) := dk_167 0 4 (dk_at dksJ16_max_0 6 rfl rfl)
theorem dJ16_max_9 : decode cJ16_max 9 = .ok (.iload_n 1, 1) := dk_27 (dk_at dksJ16_max_0 9 rfl rfl)
theorem dJ16_max_10 : decode cJ16_max 10 = .ok (.ireturn, 1) := dk_172 (dk_at dksJ16_max_0 10 rfl rfl)
abbrev cJ16_min : ByteArray := prog_35_method_69_code
def yJ16_min : MethodName := ⟨RJ16, "min", "(II)I"⟩
def dkwJ16_min_0 : List UInt8 := [26, 27, 163, 0, 7, 26, 167, 0, 4, 27, 172]
abbrev dktJ16_min_0 : List UInt8 := dkwJ16_min_0 ++ []
theorem dksJ16_min_0 : cJ16_min.data.toList.drop 0 = dktJ16_min_0 := by decide +kernel
theorem dJ16_min_0 : decode cJ16_min 0 = .ok (.iload_n 0, 1) := dk_26 (dk_at dksJ16_min_0 0 rfl rfl)
theorem dJ16_min_1 : decode cJ16_min 1 = .ok (.iload_n 1, 1) := dk_27 (dk_at dksJ16_min_0 1 rfl rfl)
theorem dJ16_min_2 : decode cJ16_min 2 = .ok (.if_icmp .gt 7, 3) := dk_163 0 7 (dk_at dksJ16_min_0 2 rfl rfl)
theorem dJ16_min_5 : decode cJ16_min 5 = .ok (.iload_n 0, 1) := dk_26 (dk_at dksJ16_min_0 5 rfl rfl)
theorem dJ16_min_6 : decode cJ16_min 6 = .ok (.goto 4, 3) := dk_167 0 4 (dk_at dksJ16_min_0 6 rfl rfl)
theorem dJ16_min_9 : decode cJ16_min 9 = .ok (.iload_n 1, 1) := dk_27 (dk_at dksJ16_min_0 9 rfl rfl)
theorem dJ16_min_10 : decode cJ16_min 10 = .ok (.ireturn, 1) := dk_172 (dk_at dksJ16_min_0 10 rfl rfl)
theorem q106 : (Jvm.Cond.initialized "java/lang/Math") ∈ lw_all := lw_g (lw_at lw_m1 23 rfl) rfl
theorem q497 : (Jvm.Cond.static ({ cls := "java/lang/Math", name := "max", desc := "(II)I" } : Jvm.MethodName)) ∈ lw_all := lw_g (lw_at lw_m2 174 rfl) rfl
theorem q498 : (Jvm.Cond.code ({ cls := "java/lang/Math", name := "max", desc := "(II)I" } : Jvm.MethodName) prog_35_method_65_code (2 : Nat) (Option.some Jvm.ClassFile.FieldType.int)) ∈ lw_all := lw_g (lw_at lw_m2 175 rfl) rfl
theorem q515 : (Jvm.Cond.static ({ cls := "java/lang/Math", name := "min", desc := "(II)I" } : Jvm.MethodName)) ∈ lw_all := lw_g (lw_at lw_m2 192 rfl) rfl
theorem q516 : (Jvm.Cond.code ({ cls := "java/lang/Math", name := "min", desc := "(II)I" } : Jvm.MethodName) prog_35_method_69_code (2 : Nat) (Option.some Jvm.ClassFile.FieldType.int)) ∈ lw_all := lw_g (lw_at lw_m2 193 rfl) rfl

/-! java/util/Arrays -/
set_option maxRecDepth 100000
def RJ17 : String := "java/util/Arrays"
abbrev cJ17_copyOf : ByteArray := prog_52_method_121_code
def yJ17_copyOf : MethodName := ⟨RJ17, "copyOf", "([BI)[B"⟩
def dkwJ17_copyOf_1 : List UInt8 := [27, 184, 1, 48, 184, 0, 150, 44, 176]
abbrev dktJ17_copyOf_1 : List UInt8 := dkwJ17_copyOf_1 ++ []
def dkwJ17_copyOf_0 : List UInt8 := [27, 42, 190, 160, 0, 11, 42, 182, 1, 54, 192, 1, 55, 176, 27, 188, 8, 77, 42, 3, 44, 3, 42, 190]
abbrev dktJ17_copyOf_0 : List UInt8 := dkwJ17_copyOf_0 ++ dktJ17_copyOf_1
theorem dksJ17_copyOf_0 : cJ17_copyOf.data.toList.drop 0 = dktJ17_copyOf_0 := by decide +kernel
theorem dksJ17_copyOf_1 : cJ17_copyOf.data.toList.drop 24 = dktJ17_copyOf_1 := dk_seg dksJ17_copyOf_0 24 rfl rfl
theorem dJ17_copyOf_0 : decode cJ17_copyOf 0 = .ok (.iload_n 1, 1) := dk_27 (dk_at dksJ17_copyOf_0 0 rfl rfl)
theorem dJ17_copyOf_1 : decode cJ17_copyOf 1 = .ok (.aload_n 0, 1) := dk_42 (dk_at dksJ17_copyOf_0 1 rfl rfl)
theorem dJ17_copyOf_2 : decode cJ17_copyOf 2 = .ok (.arraylength, 1) := dk_190 (dk_at dksJ17_copyOf_0 2 rfl rfl)
theorem dJ17_copyOf_3 : decode cJ17_copyOf 3 = .ok (.if_icmp .ne 11, 3) := dk_160 0 11 (dk_at dksJ17_copyOf_0 3 rfl rfl)
theorem dJ17_copyOf_6 : decode cJ17_copyOf 6 = .ok (.aload_n 0, 1) := dk_42 (dk_at dksJ17_copyOf_0 6 rfl rfl)
theorem dJ17_copyOf_7 : decode cJ17_copyOf 7 = .ok (.invokevirtual 310, 3) := dk_182 1 54 (dk_at dksJ17_copyOf_0 7 rfl rfl)
theorem dJ17_copyOf_10 : decode cJ17_copyOf 10 = .ok (.checkcast 311, 3) := dk_192 1 55 (dk_at dksJ17_copyOf_0 10 rfl rfl)
theorem dJ17_copyOf_13 : decode cJ17_copyOf 13 = .ok (.areturn, 1) := dk_176 (dk_at dksJ17_copyOf_0 13 rfl rfl)
theorem dJ17_copyOf_14 : decode cJ17_copyOf 14 = .ok (.iload_n 1, 1) := dk_27 (dk_at dksJ17_copyOf_0 14 rfl rfl)
theorem dJ17_copyOf_15 : decode cJ17_copyOf 15 = .ok (.newarray .byte, 2) := dk_188_8 (dk_at dksJ17_copyOf_0 15 rfl rfl)
theorem dJ17_copyOf_17 : decode cJ17_copyOf 17 = .ok (.astore_n 2, 1) := dk_77 (dk_at dksJ17_copyOf_0 17 rfl rfl)
theorem dJ17_copyOf_18 : decode cJ17_copyOf 18 = .ok (.aload_n 0, 1) := dk_42 (dk_at dksJ17_copyOf_0 18 rfl rfl)
theorem dJ17_copyOf_19 : decode cJ17_copyOf 19 = .ok (.iconst 0, 1) := dk_3 (dk_at dksJ17_copyOf_0 19 rfl rfl)
theorem dJ17_copyOf_20 : decode cJ17_copyOf 20 = .ok (.aload_n 2, 1) := dk_44 (dk_at dksJ17_copyOf_0 20 rfl rfl)
theorem dJ17_copyOf_21 : decode cJ17_copyOf 21 = .ok (.iconst 0, 1) := dk_3 (dk_at dksJ17_copyOf_0 21 rfl rfl)
theorem dJ17_copyOf_22 : decode cJ17_copyOf 22 = .ok (.aload_n 0, 1) := dk_42 (dk_at dksJ17_copyOf_0 22 rfl rfl)
theorem dJ17_copyOf_23 : decode cJ17_copyOf 23 = .ok (.arraylength, 1) := dk_190 (dk_at dksJ17_copyOf_0 23 rfl rfl)
theorem dJ17_copyOf_24 : decode cJ17_copyOf 24 = .ok (.iload_n 1, 1) := dk_27 (dk_at dksJ17_copyOf_1 0 rfl rfl)
theorem dJ17_copyOf_25 : decode cJ17_copyOf 25 = .ok (.invokestatic 304, 3) := dk_184 1 48 (dk_at dksJ17_copyOf_1 1 rfl rfl)
theorem dJ17_copyOf_28 : decode cJ17_copyOf 28 = .ok (.invokestatic 150, 3) := dk_184 0 150 (dk_at dksJ17_copyOf_1 4 rfl rfl)
theorem dJ17_copyOf_31 : decode cJ17_copyOf 31 = .ok (.aload_n 2, 1) := dk_44 (dk_at dksJ17_copyOf_1 7 rfl rfl)
theorem dJ17_copyOf_32 : decode cJ17_copyOf 32 = .ok (.areturn, 1) := dk_176 (dk_at dksJ17_copyOf_1 8 rfl rfl)
abbrev cJ17_copyOfRange : ByteArray := prog_52_method_132_code
def yJ17_copyOfRange : MethodName := ⟨RJ17, "copyOfRange", "([BII)[B"⟩
def dkwJ17_copyOfRange_1 : List UInt8 := [176]
abbrev dktJ17_copyOfRange_1 : List UInt8 := dkwJ17_copyOfRange_1 ++ []
def dkwJ17_copyOfRange_0 : List UInt8 := [27, 154, 0, 9, 28, 42, 190, 159, 0, 10, 42, 27, 28, 184, 1, 83, 176, 42, 182, 1, 54, 192, 1, 55]
abbrev dktJ17_copyOfRange_0 : List UInt8 := dkwJ17_copyOfRange_0 ++ dktJ17_copyOfRange_1
theorem dksJ17_copyOfRange_0 : cJ17_copyOfRange.data.toList.drop 0 = dktJ17_copyOfRange_0 := by decide +kernel
theorem dksJ17_copyOfRange_1 : cJ17_copyOfRange.data.toList.drop 24 = dktJ17_copyOfRange_1 := dk_seg dksJ17_copyOfRange_0 24 rfl rfl
theorem dJ17_copyOfRange_0 : decode cJ17_copyOfRange 0 = .ok (.iload_n 1, 1) := dk_27 (dk_at dksJ17_copyOfRange_0 0 rfl rfl)
theorem dJ17_copyOfRange_1 : decode cJ17_copyOfRange 1 = .ok (.ifCond .ne 9, 3) := dk_154 0 9 (dk_at dksJ17_copyOfRange_0 1 rfl rfl)
theorem dJ17_copyOfRange_4 : decode cJ17_copyOfRange 4 = .ok (.iload_n 2, 1) := dk_28 (dk_at dksJ17_copyOfRange_0 4 rfl rfl)
theorem dJ17_copyOfRange_5 : decode cJ17_copyOfRange 5 = .ok (.aload_n 0, 1) := dk_42 (dk_at dksJ17_copyOfRange_0 5 rfl rfl)
theorem dJ17_copyOfRange_6 : decode cJ17_copyOfRange 6 = .ok (.arraylength, 1) := dk_190 (dk_at dksJ17_copyOfRange_0 6 rfl rfl)
theorem dJ17_copyOfRange_7 : decode cJ17_copyOfRange 7 = .ok (.if_icmp .eq 10, 3) := dk_159 0 10 (dk_at dksJ17_copyOfRange_0 7 rfl rfl)
theorem dJ17_copyOfRange_10 : decode cJ17_copyOfRange 10 = .ok (.aload_n 0, 1) := dk_42 (dk_at dksJ17_copyOfRange_0 10 rfl rfl)
theorem dJ17_copyOfRange_11 : decode cJ17_copyOfRange 11 = .ok (.iload_n 1, 1) := dk_27 (dk_at dksJ17_copyOfRange_0 11 rfl rfl)
theorem dJ17_copyOfRange_12 : decode cJ17_copyOfRange 12 = .ok (.iload_n 2, 1) := dk_28 (dk_at dksJ17_copyOfRange_0 12 rfl rfl)
theorem dJ17_copyOfRange_13 : decode cJ17_copyOfRange 13 = .ok (.invokestatic 339, 3) := dk_184 1 83 (dk_at dksJ17_copyOfRange_0 13 rfl rfl)
theorem dJ17_copyOfRange_16 : decode cJ17_copyOfRange 16 = .ok (.areturn, 1) := dk_176 (dk_at dksJ17_copyOfRange_0 16 rfl rfl)
theorem dJ17_copyOfRange_17 : decode cJ17_copyOfRange 17 = .ok (.aload_n 0, 1) := dk_42 (dk_at dksJ17_copyOfRange_0 17 rfl rfl)
theorem dJ17_copyOfRange_18 : decode cJ17_copyOfRange 18 = .ok (.invokevirtual 310, 3) := dk_182 1 54 (dk_at dksJ17_copyOfRange_0 18 rfl rfl)
theorem dJ17_copyOfRange_21 : decode cJ17_copyOfRange 21 = .ok (.checkcast 311, 3) := dk_192 1 55 (dk_at dksJ17_copyOfRange_0 21 rfl rfl)
theorem dJ17_copyOfRange_24 : decode cJ17_copyOfRange 24 = .ok (.areturn, 1) := dk_176 (dk_at dksJ17_copyOfRange_1 0 rfl rfl)
abbrev cJ17_copyOfRangeByte : ByteArray := prog_52_method_133_code
def yJ17_copyOfRangeByte : MethodName := ⟨RJ17, "copyOfRangeByte", "([BII)[B"⟩
def dkwJ17_copyOfRangeByte_1 : List UInt8 := [184, 1, 48, 184, 0, 150, 25, 4, 176]
abbrev dktJ17_copyOfRangeByte_1 : List UInt8 := dkwJ17_copyOfRangeByte_1 ++ []
def dkwJ17_copyOfRangeByte_0 : List UInt8 := [27, 28, 184, 1, 87, 28, 27, 100, 62, 29, 188, 8, 58, 4, 42, 27, 25, 4, 3, 42, 190, 27, 100, 29]
abbrev dktJ17_copyOfRangeByte_0 : List UInt8 := dkwJ17_copyOfRangeByte_0 ++ dktJ17_copyOfRangeByte_1
theorem dksJ17_copyOfRangeByte_0 : cJ17_copyOfRangeByte.data.toList.drop 0 = dktJ17_copyOfRangeByte_0 := by decide +kernel
theorem dksJ17_copyOfRangeByte_1 : cJ17_copyOfRangeByte.data.toList.drop 24 = dktJ17_copyOfRangeByte_1 := dk_seg dksJ17_copyOfRangeByte_0 24 rfl rfl
theorem dJ17_copyOfRangeByte_0 : decode cJ17_copyOfRangeByte 0 = .ok (.iload_n 1, 1) := dk_27 (dk_at dksJ17_copyOfRangeByte_0 0 rfl rfl)
theorem dJ17_copyOfRangeByte_1 : decode cJ17_copyOfRangeByte 1 = .ok (.iload_n 2, 1) := dk_28 (dk_at dksJ17_copyOfRangeByte_0 1 rfl rfl)
theorem dJ17_copyOfRangeByte_2 : decode cJ17_copyOfRangeByte 2 = .ok (.invokestatic 343, 3) := dk_184 1 87 (dk_at dksJ17_copyOfRangeByte_0 2 rfl rfl)
theorem dJ17_copyOfRangeByte_5 : decode cJ17_copyOfRangeByte 5 = .ok (.iload_n 2, 1) := dk_28 (dk_at dksJ17_copyOfRangeByte_0 5 rfl rfl)
theorem dJ17_copyOfRangeByte_6 : decode cJ17_copyOfRangeByte 6 = .ok (.iload_n 1, 1) := dk_27 (dk_at dksJ17_copyOfRangeByte_0 6 rfl rfl)
theorem dJ17_copyOfRangeByte_7 : decode cJ17_copyOfRangeByte 7 = .ok (.isub, 1) := dk_100 (dk_at dksJ17_copyOfRangeByte_0 7 rfl rfl)
theorem dJ17_copyOfRangeByte_8 : decode cJ17_copyOfRangeByte 8 = .ok (.istore_n 3, 1) := dk_62 (dk_at dksJ17_copyOfRangeByte_0 8 rfl rfl)
theorem dJ17_copyOfRangeByte_9 : decode cJ17_copyOfRangeByte 9 = .ok (.iload_n 3, 1) := dk_29 (dk_at dksJ17_copyOfRangeByte_0 9 rfl rfl)
theorem dJ17_copyOfRangeByte_10 : decode cJ17_copyOfRangeByte 10 = .ok (.newarray .byte, 2) := dk_188_8 (dk_at dksJ17_copyOfRangeByte_0 10 rfl rfl)
theorem dJ17_copyOfRangeByte_12 : decode cJ17_copyOfRangeByte 12 = .ok (.astore 4, 2) := dk_58 4 (dk_at dksJ17_copyOfRangeByte_0 12 rfl rfl)
theorem dJ17_copyOfRangeByte_14 : decode cJ17_copyOfRangeByte 14 = .ok (.aload_n 0, 1) := dk_42 (dk_at dksJ17_copyOfRangeByte_0 14 rfl rfl)
theorem dJ17_copyOfRangeByte_15 : decode cJ17_copyOfRangeByte 15 = .ok (.iload_n 1, 1) := dk_27 (dk_at dksJ17_copyOfRangeByte_0 15 rfl rfl)
theorem dJ17_copyOfRangeByte_16 : decode cJ17_copyOfRangeByte 16 = .ok (.aload 4, 2) := dk_25 4 (dk_at dksJ17_copyOfRangeByte_0 16 rfl rfl)
theorem dJ17_copyOfRangeByte_18 : decode cJ17_copyOfRangeByte 18 = .ok (.iconst 0, 1) := dk_3 (dk_at dksJ17_copyOfRangeByte_0 18 rfl rfl)
theorem dJ17_copyOfRangeByte_19 : decode cJ17_copyOfRangeByte 19 = .ok (.aload_n 0, 1) := dk_42 (dk_at dksJ17_copyOfRangeByte_0 19 rfl rfl)
theorem dJ17_copyOfRangeByte_20 : decode cJ17_copyOfRangeByte 20 = .ok (.arraylength, 1) := dk_190 (dk_at dksJ17_copyOfRangeByte_0 20 rfl rfl)
theorem dJ17_copyOfRangeByte_21 : decode cJ17_copyOfRangeByte 21 = .ok (.iload_n 1, 1) := dk_27 (dk_at dksJ17_copyOfRangeByte_0 21 rfl rfl)
theorem dJ17_copyOfRangeByte_22 : decode cJ17_copyOfRangeByte 22 = .ok (.isub, 1) := dk_100 (dk_at dksJ17_copyOfRangeByte_0 22 rfl rfl)
theorem dJ17_copyOfRangeByte_23 : decode cJ17_copyOfRangeByte 23 = .ok (.iload_n 3, 1) := dk_29 (dk_at dksJ17_copyOfRangeByte_0 23 rfl rfl)
theorem dJ17_copyOfRangeByte_24 : decode cJ17_copyOfRangeByte 24 = .ok (.invokestatic 304, 3) := dk_184 1 48 (dk_at dksJ17_copyOfRangeByte_1 0 rfl rfl)
theorem dJ17_copyOfRangeByte_27 : decode cJ17_copyOfRangeByte 27 = .ok (.invokestatic 150, 3) := dk_184 0 150 (dk_at dksJ17_copyOfRangeByte_1 3 rfl rfl)
theorem dJ17_copyOfRangeByte_30 : decode cJ17_copyOfRangeByte 30 = .ok (.aload 4, 2) := dk_25 4 (dk_at dksJ17_copyOfRangeByte_1 6 rfl rfl)
theorem dJ17_copyOfRangeByte_32 : decode cJ17_copyOfRangeByte 32 = .ok (.areturn, 1) := dk_176 (dk_at dksJ17_copyOfRangeByte_1 8 rfl rfl)
abbrev cJ17_checkLength : ByteArray := prog_52_method_131_code
def yJ17_checkLength : MethodName := ⟨RJ17, "checkLength", "(II)V"⟩
def dkwJ17_checkLength_1 : List UInt8 := [182, 0, 50, 27, 182, 0, 54, 182, 0, 61, 183, 0, 65, 191, 177]
abbrev dktJ17_checkLength_1 : List UInt8 := dkwJ17_checkLength_1 ++ []
def dkwJ17_checkLength_0 : List UInt8 := [27, 26, 162, 0, 35, 187, 0, 43, 89, 187, 0, 45, 89, 183, 0, 47, 26, 182, 0, 54, 19, 1, 81]
abbrev dktJ17_checkLength_0 : List UInt8 := dkwJ17_checkLength_0 ++ dktJ17_checkLength_1
theorem dksJ17_checkLength_0 : cJ17_checkLength.data.toList.drop 0 = dktJ17_checkLength_0 := by decide +kernel
theorem dksJ17_checkLength_1 : cJ17_checkLength.data.toList.drop 23 = dktJ17_checkLength_1 := dk_seg dksJ17_checkLength_0 23 rfl rfl
theorem dJ17_checkLength_0 : decode cJ17_checkLength 0 = .ok (.iload_n 1, 1) := dk_27 (dk_at dksJ17_checkLength_0 0 rfl rfl)
theorem dJ17_checkLength_1 : decode cJ17_checkLength 1 = .ok (.iload_n 0, 1) := dk_26 (dk_at dksJ17_checkLength_0 1 rfl rfl)
theorem dJ17_checkLength_2 : decode cJ17_checkLength 2 = .ok (.if_icmp .ge 35, 3) := dk_162 0 35 (dk_at dksJ17_checkLength_0 2 rfl rfl)
theorem dJ17_checkLength_5 : decode cJ17_checkLength 5 = .ok (.new 43, 3) := dk_187 0 43 (dk_at dksJ17_checkLength_0 5 rfl rfl)
theorem dJ17_checkLength_8 : decode cJ17_checkLength 8 = .ok (.dup, 1) := dk_89 (dk_at dksJ17_checkLength_0 8 rfl rfl)
theorem dJ17_checkLength_9 : decode cJ17_checkLength 9 = .ok (.new 45, 3) := dk_187 0 45 (dk_at dksJ17_checkLength_0 9 rfl rfl)
theorem dJ17_checkLength_12 : decode cJ17_checkLength 12 = .ok (.dup, 1) := dk_89 (dk_at dksJ17_checkLength_0 12 rfl rfl)
theorem dJ17_checkLength_13 : decode cJ17_checkLength 13 = .ok (.invokespecial 47, 3) := dk_183 0 47 (dk_at dksJ17_checkLength_0 13 rfl rfl)
theorem dJ17_checkLength_16 : decode cJ17_checkLength 16 = .ok (.iload_n 0, 1) := dk_26 (dk_at dksJ17_checkLength_0 16 rfl rfl)
theorem dJ17_checkLength_17 : decode cJ17_checkLength 17 = .ok (.invokevirtual 54, 3) := dk_182 0 54 (dk_at dksJ17_checkLength_0 17 rfl rfl)
theorem dJ17_checkLength_20 : decode cJ17_checkLength 20 = .ok (.ldc_w 337, 3) := dk_19 1 81 (dk_at dksJ17_checkLength_0 20 rfl rfl)
theorem dJ17_checkLength_23 : decode cJ17_checkLength 23 = .ok (.invokevirtual 50, 3) := dk_182 0 50 (dk_at dksJ17_checkLength_1 0 rfl rfl)
theorem dJ17_checkLength_26 : decode cJ17_checkLength 26 = .ok (.iload_n 1, 1) := dk_27 (dk_at dksJ17_checkLength_1 3 rfl rfl)
theorem dJ17_checkLength_27 : decode cJ17_checkLength 27 = .ok (.invokevirtual 54, 3) := dk_182 0 54 (dk_at dksJ17_checkLength_1 4 rfl rfl)
theorem dJ17_checkLength_30 : decode cJ17_checkLength 30 = .ok (.invokevirtual 61, 3) := dk_182 0 61 (dk_at dksJ17_checkLength_1 7 rfl rfl)
theorem dJ17_checkLength_33 : decode cJ17_checkLength 33 = .ok (.invokespecial 65, 3) := dk_183 0 65 (dk_at dksJ17_checkLength_1 10 rfl rfl)
theorem dJ17_checkLength_36 : decode cJ17_checkLength 36 = .ok (.athrow, 1) := dk_191 (dk_at dksJ17_checkLength_1 13 rfl rfl)
theorem dJ17_checkLength_37 : decode cJ17_checkLength 37 = .ok (.return_, 1) := dk_177 (dk_at dksJ17_checkLength_1 14 rfl rfl)
abbrev cJ17_copyOf_2 : ByteArray := prog_52_method_119_code
def yJ17_copyOf_2 : MethodName := ⟨RJ17, "copyOf", "([Ljava/lang/Object;I)[Ljava/lang/Object;"⟩
def dkwJ17_copyOf_2_0 : List UInt8 := [42, 27, 42, 182, 0, 86, 184, 1, 44, 176]
abbrev dktJ17_copyOf_2_0 : List UInt8 := dkwJ17_copyOf_2_0 ++ []
theorem dksJ17_copyOf_2_0 : cJ17_copyOf_2.data.toList.drop 0 = dktJ17_copyOf_2_0 := by decide +kernel
theorem dJ17_copyOf_2_0 : decode cJ17_copyOf_2 0 = .ok (.aload_n 0, 1) := dk_42 (dk_at dksJ17_copyOf_2_0 0 rfl rfl)
theorem dJ17_copyOf_2_1 : decode cJ17_copyOf_2 1 = .ok (.iload_n 1, 1) := dk_27 (dk_at dksJ17_copyOf_2_0 1 rfl rfl)
theorem dJ17_copyOf_2_2 : decode cJ17_copyOf_2 2 = .ok (.aload_n 0, 1) := dk_42 (dk_at dksJ17_copyOf_2_0 2 rfl rfl)
theorem dJ17_copyOf_2_3 : decode cJ17_copyOf_2 3 = .ok (.invokevirtual 86, 3) := dk_182 0 86 (dk_at dksJ17_copyOf_2_0 3 rfl rfl)
theorem dJ17_copyOf_2_6 : decode cJ17_copyOf_2 6 = .ok (.invokestatic 300, 3) := dk_184 1 44 (dk_at dksJ17_copyOf_2_0 6 rfl rfl)
theorem dJ17_copyOf_2_9 : decode cJ17_copyOf_2 9 = .ok (.areturn, 1) := dk_176 (dk_at dksJ17_copyOf_2_0 9 rfl rfl)
abbrev cJ17_copyOf_3 : ByteArray := prog_52_method_120_code
def yJ17_copyOf_3 : MethodName := ⟨RJ17, "copyOf", "([Ljava/lang/Object;ILjava/lang/Class;)[Ljava/lang/Object;"⟩
def dkwJ17_copyOf_3_1 : List UInt8 := [78, 42, 3, 45, 3, 42, 190, 27, 184, 1, 48, 184, 0, 150, 45, 176]
abbrev dktJ17_copyOf_3_1 : List UInt8 := dkwJ17_copyOf_3_1 ++ []
def dkwJ17_copyOf_3_0 : List UInt8 := [44, 18, 110, 166, 0, 10, 27, 189, 0, 2, 167, 0, 14, 44, 182, 0, 90, 27, 184, 0, 95, 192, 0, 110]
abbrev dktJ17_copyOf_3_0 : List UInt8 := dkwJ17_copyOf_3_0 ++ dktJ17_copyOf_3_1
theorem dksJ17_copyOf_3_0 : cJ17_copyOf_3.data.toList.drop 0 = dktJ17_copyOf_3_0 := by decide +kernel
theorem dksJ17_copyOf_3_1 : cJ17_copyOf_3.data.toList.drop 24 = dktJ17_copyOf_3_1 := dk_seg dksJ17_copyOf_3_0 24 rfl rfl
theorem dJ17_copyOf_3_0 : decode cJ17_copyOf_3 0 = .ok (.aload_n 2, 1) := dk_44 (dk_at dksJ17_copyOf_3_0 0 rfl rfl)
theorem dJ17_copyOf_3_1 : decode cJ17_copyOf_3 1 = .ok (.ldc 110, 2) := dk_18 110 (dk_at dksJ17_copyOf_3_0 1 rfl rfl)
theorem dJ17_copyOf_3_3 : decode cJ17_copyOf_3 3 = .ok (.if_acmp .ne 10, 3) := dk_166 0 10 (dk_at dksJ17_copyOf_3_0 3 rfl rfl)
theorem dJ17_copyOf_3_6 : decode cJ17_copyOf_3 6 = .ok (.iload_n 1, 1) := dk_27 (dk_at dksJ17_copyOf_3_0 6 rfl rfl)
theorem dJ17_copyOf_3_7 : decode cJ17_copyOf_3 7 = .ok (.anewarray 2, 3) := dk_189 0 2 (dk_at dksJ17_copyOf_3_0 7 rfl rfl)
theorem dJ17_copyOf_3_10 : decode cJ17_copyOf_3 10 = .ok (.goto 14, 3) := dk_167 0 14 (dk_at dksJ17_copyOf_3_0 10 rfl rfl)
theorem dJ17_copyOf_3_13 : decode cJ17_copyOf_3 13 = .ok (.aload_n 2, 1) := dk_44 (dk_at dksJ17_copyOf_3_0 13 rfl rfl)
theorem dJ17_copyOf_3_14 : decode cJ17_copyOf_3 14 = .ok (.invokevirtual 90, 3) := dk_182 0 90 (dk_at dksJ17_copyOf_3_0 14 rfl rfl)
theorem dJ17_copyOf_3_17 : decode cJ17_copyOf_3 17 = .ok (.iload_n 1, 1) := dk_27 (dk_at dksJ17_copyOf_3_0 17 rfl rfl)
theorem dJ17_copyOf_3_18 : decode cJ17_copyOf_3 18 = .ok (.invokestatic 95, 3) := dk_184 0 95 (dk_at dksJ17_copyOf_3_0 18 rfl rfl)
theorem dJ17_copyOf_3_21 : decode cJ17_copyOf_3 21 = .ok (.checkcast 110, 3) := dk_192 0 110 (dk_at dksJ17_copyOf_3_0 21 rfl rfl)
theorem dJ17_copyOf_3_24 : decode cJ17_copyOf_3 24 = .ok (.astore_n 3, 1) := dk_78 (dk_at dksJ17_copyOf_3_1 0 rfl rfl)
theorem dJ17_copyOf_3_25 : decode cJ17_copyOf_3 25 = .ok (.aload_n 0, 1) := dk_42 (dk_at dksJ17_copyOf_3_1 1 rfl rfl)
theorem dJ17_copyOf_3_26 : decode cJ17_copyOf_3 26 = .ok (.iconst 0, 1) := dk_3 (dk_at dksJ17_copyOf_3_1 2 rfl rfl)
theorem dJ17_copyOf_3_27 : decode cJ17_copyOf_3 27 = .ok (.aload_n 3, 1) := dk_45 (dk_at dksJ17_copyOf_3_1 3 rfl rfl)
theorem dJ17_copyOf_3_28 : decode cJ17_copyOf_3 28 = .ok (.iconst 0, 1) := dk_3 (dk_at dksJ17_copyOf_3_1 4 rfl rfl)
theorem dJ17_copyOf_3_29 : decode cJ17_copyOf_3 29 = .ok (.aload_n 0, 1) := dk_42 (dk_at dksJ17_copyOf_3_1 5 rfl rfl)
theorem dJ17_copyOf_3_30 : decode cJ17_copyOf_3 30 = .ok (.arraylength, 1) := dk_190 (dk_at dksJ17_copyOf_3_1 6 rfl rfl)
theorem dJ17_copyOf_3_31 : decode cJ17_copyOf_3 31 = .ok (.iload_n 1, 1) := dk_27 (dk_at dksJ17_copyOf_3_1 7 rfl rfl)
theorem dJ17_copyOf_3_32 : decode cJ17_copyOf_3 32 = .ok (.invokestatic 304, 3) := dk_184 1 48 (dk_at dksJ17_copyOf_3_1 8 rfl rfl)
theorem dJ17_copyOf_3_35 : decode cJ17_copyOf_3 35 = .ok (.invokestatic 150, 3) := dk_184 0 150 (dk_at dksJ17_copyOf_3_1 11 rfl rfl)
theorem dJ17_copyOf_3_38 : decode cJ17_copyOf_3 38 = .ok (.aload_n 3, 1) := dk_45 (dk_at dksJ17_copyOf_3_1 14 rfl rfl)
theorem dJ17_copyOf_3_39 : decode cJ17_copyOf_3 39 = .ok (.areturn, 1) := dk_176 (dk_at dksJ17_copyOf_3_1 15 rfl rfl)
theorem q107 : (Jvm.Cond.initialized "java/util/Arrays") ∈ lw_all := lw_g (lw_at lw_m1 24 rfl) rfl
theorem q505 : (Jvm.Cond.static ({ cls := "java/util/Arrays", name := "copyOf", desc := "([BI)[B" } : Jvm.MethodName)) ∈ lw_all := lw_g (lw_at lw_m2 182 rfl) rfl
theorem q506 : (Jvm.Cond.code ({ cls := "java/util/Arrays", name := "copyOf", desc := "([BI)[B" } : Jvm.MethodName) prog_52_method_121_code (3 : Nat) (Option.some (Jvm.ClassFile.FieldType.array Jvm.ClassFile.FieldType.byte))) ∈ lw_all := lw_g (lw_at lw_m2 183 rfl) rfl
theorem q507 : (Jvm.Cond.methodLink "java/util/Arrays" (310 : Nat) ({ cls := "[B", name := "clone", desc := "()Ljava/lang/Object;" } : Jvm.MethodName)) ∈ lw_all := lw_g (lw_at lw_m2 184 rfl) rfl
theorem q513 : (Jvm.Cond.classLink "java/util/Arrays" (311 : Nat) "[B") ∈ lw_all := lw_g (lw_at lw_m2 190 rfl) rfl
theorem q514 : (Jvm.Cond.methodLink "java/util/Arrays" (304 : Nat) ({ cls := "java/lang/Math", name := "min", desc := "(II)I" } : Jvm.MethodName)) ∈ lw_all := lw_g (lw_at lw_m2 191 rfl) rfl
theorem q517 : (Jvm.Cond.methodLink "java/util/Arrays" (150 : Nat) ({ cls := "java/lang/System", name := "arraycopy", desc := "(Ljava/lang/Object;ILjava/lang/Object;II)V" } : Jvm.MethodName)) ∈ lw_all := lw_g (lw_at lw_m2 194 rfl) rfl
theorem q593 : (Jvm.Cond.static ({ cls := "java/util/Arrays", name := "copyOfRange", desc := "([BII)[B" } : Jvm.MethodName)) ∈ lw_all := lw_g (lw_at lw_m3 30 rfl) rfl
theorem q594 : (Jvm.Cond.code ({ cls := "java/util/Arrays", name := "copyOfRange", desc := "([BII)[B" } : Jvm.MethodName) prog_52_method_132_code (3 : Nat) (Option.some (Jvm.ClassFile.FieldType.array Jvm.ClassFile.FieldType.byte))) ∈ lw_all := lw_g (lw_at lw_m3 31 rfl) rfl
theorem q595 : (Jvm.Cond.methodLink "java/util/Arrays" (339 : Nat) ({ cls := "java/util/Arrays", name := "copyOfRangeByte", desc := "([BII)[B" } : Jvm.MethodName)) ∈ lw_all := lw_g (lw_at lw_m3 32 rfl) rfl
theorem q596 : (Jvm.Cond.static ({ cls := "java/util/Arrays", name := "copyOfRangeByte", desc := "([BII)[B" } : Jvm.MethodName)) ∈ lw_all := lw_g (lw_at lw_m3 33 rfl) rfl
theorem q597 : (Jvm.Cond.code ({ cls := "java/util/Arrays", name := "copyOfRangeByte", desc := "([BII)[B" } : Jvm.MethodName) prog_52_method_133_code (5 : Nat) (Option.some (Jvm.ClassFile.FieldType.array Jvm.ClassFile.FieldType.byte))) ∈ lw_all := lw_g (lw_at lw_m3 34 rfl) rfl
theorem q598 : (Jvm.Cond.methodLink "java/util/Arrays" (343 : Nat) ({ cls := "java/util/Arrays", name := "checkLength", desc := "(II)V" } : Jvm.MethodName)) ∈ lw_all := lw_g (lw_at lw_m3 35 rfl) rfl
theorem q599 : (Jvm.Cond.static ({ cls := "java/util/Arrays", name := "checkLength", desc := "(II)V" } : Jvm.MethodName)) ∈ lw_all := lw_g (lw_at lw_m3 36 rfl) rfl
theorem q600 : (Jvm.Cond.code ({ cls := "java/util/Arrays", name := "checkLength", desc := "(II)V" } : Jvm.MethodName) prog_52_method_131_code (2 : Nat) (Option.none : Option Jvm.ClassFile.FieldType)) ∈ lw_all := lw_g (lw_at lw_m3 37 rfl) rfl
theorem q601 : (Jvm.Cond.classLink "java/util/Arrays" (43 : Nat) "java/lang/IllegalArgumentException") ∈ lw_all := lw_g (lw_at lw_m3 38 rfl) rfl
theorem q610 : (Jvm.Cond.classLink "java/util/Arrays" (45 : Nat) "java/lang/StringBuilder") ∈ lw_all := lw_g (lw_at lw_m3 47 rfl) rfl
theorem q611 : (Jvm.Cond.methodLink "java/util/Arrays" (47 : Nat) ({ cls := "java/lang/StringBuilder", name := "<init>", desc := "()V" } : Jvm.MethodName)) ∈ lw_all := lw_g (lw_at lw_m3 48 rfl) rfl
theorem q614 : (Jvm.Cond.methodLink "java/util/Arrays" (54 : Nat) ({ cls := "java/lang/StringBuilder", name := "append", desc := "(I)Ljava/lang/StringBuilder;" } : Jvm.MethodName)) ∈ lw_all := lw_g (lw_at lw_m3 51 rfl) rfl
theorem q648 : (Jvm.Cond.stringRef "java/util/Arrays" (337 : Nat) " > ") ∈ lw_tbl := lw_at lw_m3 85 rfl
theorem q649 : (Jvm.Cond.methodLink "java/util/Arrays" (50 : Nat) ({ cls := "java/lang/StringBuilder", name := "append", desc := "(Ljava/lang/String;)Ljava/lang/StringBuilder;" } : Jvm.MethodName)) ∈ lw_all := lw_g (lw_at lw_m3 86 rfl) rfl
theorem q687 : (Jvm.Cond.methodLink "java/util/Arrays" (61 : Nat) ({ cls := "java/lang/StringBuilder", name := "toString", desc := "()Ljava/lang/String;" } : Jvm.MethodName)) ∈ lw_all := lw_g (lw_at lw_m3 124 rfl) rfl
theorem q688 : (Jvm.Cond.methodLink "java/util/Arrays" (65 : Nat) ({ cls := "java/lang/IllegalArgumentException", name := "<init>", desc := "(Ljava/lang/String;)V" } : Jvm.MethodName)) ∈ lw_all := lw_g (lw_at lw_m3 125 rfl) rfl
theorem q1074 : (Jvm.Cond.static ({ cls := "java/util/Arrays", name := "copyOf", desc := "([Ljava/lang/Object;I)[Ljava/lang/Object;" } : Jvm.MethodName)) ∈ lw_all := lw_g (lw_at lw_m5 31 rfl) rfl
theorem q1075 : (Jvm.Cond.code ({ cls := "java/util/Arrays", name := "copyOf", desc := "([Ljava/lang/Object;I)[Ljava/lang/Object;" } : Jvm.MethodName) prog_52_method_119_code (2 : Nat) (Option.some (Jvm.ClassFile.FieldType.array (Jvm.ClassFile.FieldType.object "java/lang/Object")))) ∈ lw_all := lw_g (lw_at lw_m5 32 rfl) rfl
theorem q1076 : (Jvm.Cond.methodLink "java/util/Arrays" (86 : Nat) ({ cls := "java/lang/Object", name := "getClass", desc := "()Ljava/lang/Class;" } : Jvm.MethodName)) ∈ lw_all := lw_g (lw_at lw_m5 33 rfl) rfl
theorem q1108 : (Jvm.Cond.methodLink "java/util/Arrays" (300 : Nat) ({ cls := "java/util/Arrays", name := "copyOf", desc := "([Ljava/lang/Object;ILjava/lang/Class;)[Ljava/lang/Object;" } : Jvm.MethodName)) ∈ lw_all := lw_g (lw_at lw_m5 65 rfl) rfl
theorem q1109 : (Jvm.Cond.static ({ cls := "java/util/Arrays", name := "copyOf", desc := "([Ljava/lang/Object;ILjava/lang/Class;)[Ljava/lang/Object;" } : Jvm.MethodName)) ∈ lw_all := lw_g (lw_at lw_m5 66 rfl) rfl
theorem q1110 : (Jvm.Cond.code ({ cls := "java/util/Arrays", name := "copyOf", desc := "([Ljava/lang/Object;ILjava/lang/Class;)[Ljava/lang/Object;" } : Jvm.MethodName) prog_52_method_120_code (4 : Nat) (Option.some (Jvm.ClassFile.FieldType.array (Jvm.ClassFile.FieldType.object "java/lang/Object")))) ∈ lw_all := lw_g (lw_at lw_m5 67 rfl) rfl
theorem q1111 : (Jvm.Cond.classLink "java/util/Arrays" (110 : Nat) "[Ljava/lang/Object;") ∈ lw_all := lw_g (lw_at lw_m5 68 rfl) rfl
theorem q1112 : (Jvm.Cond.classLink "java/util/Arrays" (2 : Nat) "java/lang/Object") ∈ lw_all := lw_g (lw_at lw_m5 69 rfl) rfl

/-! java/lang/StringLatin1 -/
set_option maxRecDepth 100000
def RJ18 : String := "java/lang/StringLatin1"
abbrev cJ18_canEncode : ByteArray := prog_41_method_3_code
def yJ18_canEncode : MethodName := ⟨RJ18, "canEncode", "(C)Z"⟩
def dkwJ18_canEncode_0 : List UInt8 := [26, 17, 0, 255, 163, 0, 7, 4, 167, 0, 4, 3, 172]
abbrev dktJ18_canEncode_0 : List UInt8 := dkwJ18_canEncode_0 ++ []
theorem dksJ18_canEncode_0 : cJ18_canEncode.data.toList.drop 0 = dktJ18_canEncode_0 := by decide +kernel
theorem dJ18_canEncode_0 : decode cJ18_canEncode 0 = .ok (.iload_n 0, 1) := dk_26 (dk_at dksJ18_canEncode_0 0 rfl rfl)
theorem dJ18_canEncode_1 : decode cJ18_canEncode 1 = .ok (.sipush 255, 3) := dk_17 0 255 (dk_at dksJ18_canEncode_0 1 rfl rfl)
theorem dJ18_canEncode_4 : decode cJ18_canEncode 4 = .ok (.if_icmp .gt 7, 3) := dk_163 0 7 (dk_at dksJ18_canEncode_0 4 rfl rfl)
theorem dJ18_canEncode_7 : decode cJ18_canEncode 7 = .ok (.iconst 1, 1) := dk_4 (dk_at dksJ18_canEncode_0 7 rfl rfl)
theorem dJ18_canEncode_8 : decode cJ18_canEncode 8 = .ok (.goto 4, 3) := dk_167 0 4 (dk_at dksJ18_canEncode_0 8 rfl rfl)
theorem dJ18_canEncode_11 : decode cJ18_canEncode 11 = .ok (.iconst 0, 1) := dk_3 (dk_at dksJ18_canEncode_0 11 rfl rfl)
theorem dJ18_canEncode_12 : decode cJ18_canEncode 12 = .ok (.ireturn, 1) := dk_172 (dk_at dksJ18_canEncode_0 12 rfl rfl)
abbrev cJ18_inflate : ByteArray := prog_41_method_50_code
def yJ18_inflate : MethodName := ⟨RJ18, "inflate", "([BI[BII)V"⟩
def dkwJ18_inflate_0 : List UInt8 := [42, 27, 44, 29, 21, 4, 184, 0, 240, 177]
abbrev dktJ18_inflate_0 : List UInt8 := dkwJ18_inflate_0 ++ []
theorem dksJ18_inflate_0 : cJ18_inflate.data.toList.drop 0 = dktJ18_inflate_0 := by decide +kernel
theorem dJ18_inflate_0 : decode cJ18_inflate 0 = .ok (.aload_n 0, 1) := dk_42 (dk_at dksJ18_inflate_0 0 rfl rfl)
theorem dJ18_inflate_1 : decode cJ18_inflate 1 = .ok (.iload_n 1, 1) := dk_27 (dk_at dksJ18_inflate_0 1 rfl rfl)
theorem dJ18_inflate_2 : decode cJ18_inflate 2 = .ok (.aload_n 2, 1) := dk_44 (dk_at dksJ18_inflate_0 2 rfl rfl)
theorem dJ18_inflate_3 : decode cJ18_inflate 3 = .ok (.iload_n 3, 1) := dk_29 (dk_at dksJ18_inflate_0 3 rfl rfl)
theorem dJ18_inflate_4 : decode cJ18_inflate 4 = .ok (.iload 4, 2) := dk_21 4 (dk_at dksJ18_inflate_0 4 rfl rfl)
theorem dJ18_inflate_6 : decode cJ18_inflate 6 = .ok (.invokestatic 240, 3) := dk_184 0 240 (dk_at dksJ18_inflate_0 6 rfl rfl)
theorem dJ18_inflate_9 : decode cJ18_inflate 9 = .ok (.return_, 1) := dk_177 (dk_at dksJ18_inflate_0 9 rfl rfl)
abbrev cJ18_equals : ByteArray := prog_41_method_13_code
def yJ18_equals : MethodName := ⟨RJ18, "equals", "([B[B)Z"⟩
def dkwJ18_equals_1 : List UInt8 := [3, 172, 132, 2, 1, 167, 255, 236, 4, 172, 3, 172]
abbrev dktJ18_equals_1 : List UInt8 := dkwJ18_equals_1 ++ []
def dkwJ18_equals_0 : List UInt8 := [42, 190, 43, 190, 160, 0, 30, 3, 61, 28, 42, 190, 162, 0, 20, 42, 28, 51, 43, 28, 51, 159, 0, 5]
abbrev dktJ18_equals_0 : List UInt8 := dkwJ18_equals_0 ++ dktJ18_equals_1
theorem dksJ18_equals_0 : cJ18_equals.data.toList.drop 0 = dktJ18_equals_0 := by decide +kernel
theorem dksJ18_equals_1 : cJ18_equals.data.toList.drop 24 = dktJ18_equals_1 := dk_seg dksJ18_equals_0 24 rfl rfl
theorem dJ18_equals_0 : decode cJ18_equals 0 = .ok (.aload_n 0, 1) := dk_42 (dk_at dksJ18_equals_0 0 rfl rfl)
theorem dJ18_equals_1 : decode cJ18_equals 1 = .ok (.arraylength, 1) := dk_190 (dk_at dksJ18_equals_0 1 rfl rfl)
theorem dJ18_equals_2 : decode cJ18_equals 2 = .ok (.aload_n 1, 1) := dk_43 (dk_at dksJ18_equals_0 2 rfl rfl)
theorem dJ18_equals_3 : decode cJ18_equals 3 = .ok (.arraylength, 1) := dk_190 (dk_at dksJ18_equals_0 3 rfl rfl)
theorem dJ18_equals_4 : decode cJ18_equals 4 = .ok (.if_icmp .ne 30, 3) := dk_160 0 30 (dk_at dksJ18_equals_0 4 rfl rfl)
theorem dJ18_equals_7 : decode cJ18_equals 7 = .ok (.iconst 0, 1) := dk_3 (dk_at dksJ18_equals_0 7 rfl rfl)
theorem dJ18_equals_8 : decode cJ18_equals 8 = .ok (.istore_n 2, 1) := dk_61 (dk_at dksJ18_equals_0 8 rfl rfl)
theorem dJ18_equals_9 : decode cJ18_equals 9 = .ok (.iload_n 2, 1) := dk_28 (dk_at dksJ18_equals_0 9 rfl rfl)
theorem dJ18_equals_10 : decode cJ18_equals 10 = .ok (.aload_n 0, 1) := dk_42 (dk_at dksJ18_equals_0 10 rfl rfl)
theorem dJ18_equals_11 : decode cJ18_equals 11 = .ok (.arraylength, 1) := dk_190 (dk_at dksJ18_equals_0 11 rfl rfl)
theorem dJ18_equals_12 : decode cJ18_equals 12 = .ok (.if_icmp .ge 20, 3) := dk_162 0 20 (dk_at dksJ18_equals_0 12 rfl rfl)
theorem dJ18_equals_15 : decode cJ18_equals 15 = .ok (.aload_n 0, 1) := dk_42 (dk_at dksJ18_equals_0 15 rfl rfl)
theorem dJ18_equals_16 : decode cJ18_equals 16 = .ok (.iload_n 2, 1) := dk_28 (dk_at dksJ18_equals_0 16 rfl rfl)
theorem dJ18_equals_17 : decode cJ18_equals 17 = .ok (.baload, 1) := dk_51 (dk_at dksJ18_equals_0 17 rfl rfl)
theorem dJ18_equals_18 : decode cJ18_equals 18 = .ok (.aload_n 1, 1) := dk_43 (dk_at dksJ18_equals_0 18 rfl rfl)
theorem dJ18_equals_19 : decode cJ18_equals 19 = .ok (.iload_n 2, 1) := dk_28 (dk_at dksJ18_equals_0 19 rfl rfl)
theorem dJ18_equals_20 : decode cJ18_equals 20 = .ok (.baload, 1) := dk_51 (dk_at dksJ18_equals_0 20 rfl rfl)
theorem dJ18_equals_21 : decode cJ18_equals 21 = .ok (.if_icmp .eq 5, 3) := dk_159 0 5 (dk_at dksJ18_equals_0 21 rfl rfl)
theorem dJ18_equals_24 : decode cJ18_equals 24 = .ok (.iconst 0, 1) := dk_3 (dk_at dksJ18_equals_1 0 rfl rfl)
theorem dJ18_equals_25 : decode cJ18_equals 25 = .ok (.ireturn, 1) := dk_172 (dk_at dksJ18_equals_1 1 rfl rfl)
theorem dJ18_equals_26 : decode cJ18_equals 26 = .ok (.iinc 2 1, 3) := dk_132 2 1 (dk_at dksJ18_equals_1 2 rfl rfl)
theorem dJ18_equals_29 : decode cJ18_equals 29 = .ok (.goto (-20), 3) := dk_167 255 236 (dk_at dksJ18_equals_1 5 rfl rfl)
theorem dJ18_equals_32 : decode cJ18_equals 32 = .ok (.iconst 1, 1) := dk_4 (dk_at dksJ18_equals_1 8 rfl rfl)
theorem dJ18_equals_33 : decode cJ18_equals 33 = .ok (.ireturn, 1) := dk_172 (dk_at dksJ18_equals_1 9 rfl rfl)
theorem dJ18_equals_34 : decode cJ18_equals 34 = .ok (.iconst 0, 1) := dk_3 (dk_at dksJ18_equals_1 10 rfl rfl)
theorem dJ18_equals_35 : decode cJ18_equals 35 = .ok (.ireturn, 1) := dk_172 (dk_at dksJ18_equals_1 11 rfl rfl)
abbrev cJ18_compareTo : ByteArray := prog_41_method_14_code
def yJ18_compareTo : MethodName := ⟨RJ18, "compareTo", "([B[B)I"⟩
def dkwJ18_compareTo_0 : List UInt8 := [42, 190, 61, 43, 190, 62, 42, 43, 28, 29, 184, 0, 34, 172]
abbrev dktJ18_compareTo_0 : List UInt8 := dkwJ18_compareTo_0 ++ []
theorem dksJ18_compareTo_0 : cJ18_compareTo.data.toList.drop 0 = dktJ18_compareTo_0 := by decide +kernel
theorem dJ18_compareTo_0 : decode cJ18_compareTo 0 = .ok (.aload_n 0, 1) := dk_42 (dk_at dksJ18_compareTo_0 0 rfl rfl)
theorem dJ18_compareTo_1 : decode cJ18_compareTo 1 = .ok (.arraylength, 1) := dk_190 (dk_at dksJ18_compareTo_0 1 rfl rfl)
theorem dJ18_compareTo_2 : decode cJ18_compareTo 2 = .ok (.istore_n 2, 1) := dk_61 (dk_at dksJ18_compareTo_0 2 rfl rfl)
theorem dJ18_compareTo_3 : decode cJ18_compareTo 3 = .ok (.aload_n 1, 1) := dk_43 (dk_at dksJ18_compareTo_0 3 rfl rfl)
theorem dJ18_compareTo_4 : decode cJ18_compareTo 4 = .ok (.arraylength, 1) := dk_190 (dk_at dksJ18_compareTo_0 4 rfl rfl)
theorem dJ18_compareTo_5 : decode cJ18_compareTo 5 = .ok (.istore_n 3, 1) := dk_62 (dk_at dksJ18_compareTo_0 5 rfl rfl)
theorem dJ18_compareTo_6 : decode cJ18_compareTo 6 = .ok (.aload_n 0, 1) := dk_42 (dk_at dksJ18_compareTo_0 6 rfl rfl)
theorem dJ18_compareTo_7 : decode cJ18_compareTo 7 = .ok (.aload_n 1, 1) := dk_43 (dk_at dksJ18_compareTo_0 7 rfl rfl)
theorem dJ18_compareTo_8 : decode cJ18_compareTo 8 = .ok (.iload_n 2, 1) := dk_28 (dk_at dksJ18_compareTo_0 8 rfl rfl)
theorem dJ18_compareTo_9 : decode cJ18_compareTo 9 = .ok (.iload_n 3, 1) := dk_29 (dk_at dksJ18_compareTo_0 9 rfl rfl)
theorem dJ18_compareTo_10 : decode cJ18_compareTo 10 = .ok (.invokestatic 34, 3) := dk_184 0 34 (dk_at dksJ18_compareTo_0 10 rfl rfl)
theorem dJ18_compareTo_13 : decode cJ18_compareTo 13 = .ok (.ireturn, 1) := dk_172 (dk_at dksJ18_compareTo_0 13 rfl rfl)
abbrev cJ18_compareTo_2 : ByteArray := prog_41_method_15_code
def yJ18_compareTo_2 : MethodName := ⟨RJ18, "compareTo", "([B[BII)I"⟩
def dkwJ18_compareTo_2_1 : List UInt8 := [167, 0, 16, 42, 21, 5, 184, 0, 50, 43, 21, 5, 184, 0, 50, 100, 172]
abbrev dktJ18_compareTo_2_1 : List UInt8 := dkwJ18_compareTo_2_1 ++ []
def dkwJ18_compareTo_2_0 : List UInt8 := [28, 29, 184, 0, 38, 54, 4, 42, 43, 21, 4, 184, 0, 44, 54, 5, 21, 5, 156, 0, 9, 28, 29, 100]
abbrev dktJ18_compareTo_2_0 : List UInt8 := dkwJ18_compareTo_2_0 ++ dktJ18_compareTo_2_1
theorem dksJ18_compareTo_2_0 : cJ18_compareTo_2.data.toList.drop 0 = dktJ18_compareTo_2_0 := by decide +kernel
theorem dksJ18_compareTo_2_1 : cJ18_compareTo_2.data.toList.drop 24 = dktJ18_compareTo_2_1 := dk_seg dksJ18_compareTo_2_0 24 rfl rfl
theorem dJ18_compareTo_2_0 : decode cJ18_compareTo_2 0 = .ok (.iload_n 2, 1) := dk_28 (dk_at dksJ18_compareTo_2_0 0 rfl rfl)
theorem dJ18_compareTo_2_1 : decode cJ18_compareTo_2 1 = .ok (.iload_n 3, 1) := dk_29 (dk_at dksJ18_compareTo_2_0 1 rfl rfl)
theorem dJ18_compareTo_2_2 : decode cJ18_compareTo_2 2 = .ok (.invokestatic 38, 3) := dk_184 0 38 (dk_at dksJ18_compareTo_2_0 2 rfl rfl)
theorem dJ18_compareTo_2_5 : decode cJ18_compareTo_2 5 = .ok (.istore 4, 2) := dk_54 4 (dk_at dksJ18_compareTo_2_0 5 rfl rfl)
theorem dJ18_compareTo_2_7 : decode cJ18_compareTo_2 7 = .ok (.aload_n 0, 1) := dk_42 (dk_at dksJ18_compareTo_2_0 7 rfl rfl)
theorem dJ18_compareTo_2_8 : decode cJ18_compareTo_2 8 = .ok (.aload_n 1, 1) := dk_43 (dk_at dksJ18_compareTo_2_0 8 rfl rfl)
theorem dJ18_compareTo_2_9 : decode cJ18_compareTo_2 9 = .ok (.iload 4, 2) := dk_21 4 (dk_at dksJ18_compareTo_2_0 9 rfl rfl)
theorem dJ18_compareTo_2_11 : decode cJ18_compareTo_2 11 = .ok (.invokestatic 44, 3) := dk_184 0 44 (dk_at dksJ18_compareTo_2_0 11 rfl rfl)
theorem dJ18_compareTo_2_14 : decode cJ18_compareTo_2 14 = .ok (.istore 5, 2) := dk_54 5 (dk_at dksJ18_compareTo_2_0 14 rfl rfl)
theorem dJ18_compareTo_2_16 : decode cJ18_compareTo_2 16 = .ok (.iload 5, 2) := dk_21 5 (dk_at dksJ18_compareTo_2_0 16 rfl rfl)
theorem dJ18_compareTo_2_18 : decode cJ18_compareTo_2 18 = .ok (.ifCond .ge 9, 3) := dk_156 0 9 (dk_at dksJ18_compareTo_2_0 18 rfl rfl)
theorem dJ18_compareTo_2_21 : decode cJ18_compareTo_2 21 = .ok (.iload_n 2, 1) := dk_28 (dk_at dksJ18_compareTo_2_0 21 rfl rfl)
theorem dJ18_compareTo_2_22 : decode cJ18_compareTo_2 22 = .ok (.iload_n 3, 1) := dk_29 (dk_at dksJ18_compareTo_2_0 22 rfl rfl)
theorem dJ18_compareTo_2_23 : decode cJ18_compareTo_2 23 = .ok (.isub, 1) := dk_100 (dk_at dksJ18_compareTo_2_0 23 rfl rfl)
theorem dJ18_compareTo_2_24 : decode cJ18_compareTo_2 24 = .ok (.goto 16, 3) := dk_167 0 16 (dk_at dksJ18_compareTo_2_1 0 rfl rfl)
theorem dJ18_compareTo_2_27 : decode cJ18_compareTo_2 27 = .ok (.aload_n 0, 1) := dk_42 (dk_at dksJ18_compareTo_2_1 3 rfl rfl)
theorem dJ18_compareTo_2_28 : decode cJ18_compareTo_2 28 = .ok (.iload 5, 2) := dk_21 5 (dk_at dksJ18_compareTo_2_1 4 rfl rfl)
theorem dJ18_compareTo_2_30 : decode cJ18_compareTo_2 30 = .ok (.invokestatic 50, 3) := dk_184 0 50 (dk_at dksJ18_compareTo_2_1 6 rfl rfl)
theorem dJ18_compareTo_2_33 : decode cJ18_compareTo_2 33 = .ok (.aload_n 1, 1) := dk_43 (dk_at dksJ18_compareTo_2_1 9 rfl rfl)
theorem dJ18_compareTo_2_34 : decode cJ18_compareTo_2 34 = .ok (.iload 5, 2) := dk_21 5 (dk_at dksJ18_compareTo_2_1 10 rfl rfl)
theorem dJ18_compareTo_2_36 : decode cJ18_compareTo_2 36 = .ok (.invokestatic 50, 3) := dk_184 0 50 (dk_at dksJ18_compareTo_2_1 12 rfl rfl)
theorem dJ18_compareTo_2_39 : decode cJ18_compareTo_2 39 = .ok (.isub, 1) := dk_100 (dk_at dksJ18_compareTo_2_1 15 rfl rfl)
theorem dJ18_compareTo_2_40 : decode cJ18_compareTo_2 40 = .ok (.ireturn, 1) := dk_172 (dk_at dksJ18_compareTo_2_1 16 rfl rfl)
abbrev cJ18_getChar : ByteArray := prog_41_method_44_code
def yJ18_getChar : MethodName := ⟨RJ18, "getChar", "([BI)C"⟩
def dkwJ18_getChar_0 : List UInt8 := [42, 27, 51, 17, 0, 255, 126, 146, 172]
abbrev dktJ18_getChar_0 : List UInt8 := dkwJ18_getChar_0 ++ []
theorem dksJ18_getChar_0 : cJ18_getChar.data.toList.drop 0 = dktJ18_getChar_0 := by decide +kernel
theorem dJ18_getChar_0 : decode cJ18_getChar 0 = .ok (.aload_n 0, 1) := dk_42 (dk_at dksJ18_getChar_0 0 rfl rfl)
theorem dJ18_getChar_1 : decode cJ18_getChar 1 = .ok (.iload_n 1, 1) := dk_27 (dk_at dksJ18_getChar_0 1 rfl rfl)
theorem dJ18_getChar_2 : decode cJ18_getChar 2 = .ok (.baload, 1) := dk_51 (dk_at dksJ18_getChar_0 2 rfl rfl)
theorem dJ18_getChar_3 : decode cJ18_getChar 3 = .ok (.sipush 255, 3) := dk_17 0 255 (dk_at dksJ18_getChar_0 3 rfl rfl)
theorem dJ18_getChar_6 : decode cJ18_getChar 6 = .ok (.iand, 1) := dk_126 (dk_at dksJ18_getChar_0 6 rfl rfl)
theorem dJ18_getChar_7 : decode cJ18_getChar 7 = .ok (.i2c, 1) := dk_146 (dk_at dksJ18_getChar_0 7 rfl rfl)
theorem dJ18_getChar_8 : decode cJ18_getChar 8 = .ok (.ireturn, 1) := dk_172 (dk_at dksJ18_getChar_0 8 rfl rfl)
abbrev cJ18_compareToUTF16 : ByteArray := prog_41_method_16_code
def yJ18_compareToUTF16 : MethodName := ⟨RJ18, "compareToUTF16", "([B[B)I"⟩
def dkwJ18_compareToUTF16_0 : List UInt8 := [42, 184, 0, 54, 61, 43, 184, 0, 58, 62, 42, 43, 28, 29, 184, 0, 59, 172]
abbrev dktJ18_compareToUTF16_0 : List UInt8 := dkwJ18_compareToUTF16_0 ++ []
theorem dksJ18_compareToUTF16_0 : cJ18_compareToUTF16.data.toList.drop 0 = dktJ18_compareToUTF16_0 := by decide +kernel
theorem dJ18_compareToUTF16_0 : decode cJ18_compareToUTF16 0 = .ok (.aload_n 0, 1) := dk_42 (dk_at dksJ18_compareToUTF16_0 0 rfl rfl)
theorem dJ18_compareToUTF16_1 : decode cJ18_compareToUTF16 1 = .ok (.invokestatic 54, 3) := dk_184 0 54 (dk_at dksJ18_compareToUTF16_0 1 rfl rfl)
theorem dJ18_compareToUTF16_4 : decode cJ18_compareToUTF16 4 = .ok (.istore_n 2, 1) := dk_61 (dk_at dksJ18_compareToUTF16_0 4 rfl rfl)
theorem dJ18_compareToUTF16_5 : decode cJ18_compareToUTF16 5 = .ok (.aload_n 1, 1) := dk_43 (dk_at dksJ18_compareToUTF16_0 5 rfl rfl)
theorem dJ18_compareToUTF16_6 : decode cJ18_compareToUTF16 6 = .ok (.invokestatic 58, 3) := dk_184 0 58 (dk_at dksJ18_compareToUTF16_0 6 rfl rfl)
theorem dJ18_compareToUTF16_9 : decode cJ18_compareToUTF16 9 = .ok (.istore_n 3, 1) := dk_62 (dk_at dksJ18_compareToUTF16_0 9 rfl rfl)
theorem dJ18_compareToUTF16_10 : decode cJ18_compareToUTF16 10 = .ok (.aload_n 0, 1) := dk_42 (dk_at dksJ18_compareToUTF16_0 10 rfl rfl)
theorem dJ18_compareToUTF16_11 : decode cJ18_compareToUTF16 11 = .ok (.aload_n 1, 1) := dk_43 (dk_at dksJ18_compareToUTF16_0 11 rfl rfl)
theorem dJ18_compareToUTF16_12 : decode cJ18_compareToUTF16 12 = .ok (.iload_n 2, 1) := dk_28 (dk_at dksJ18_compareToUTF16_0 12 rfl rfl)
theorem dJ18_compareToUTF16_13 : decode cJ18_compareToUTF16 13 = .ok (.iload_n 3, 1) := dk_29 (dk_at dksJ18_compareToUTF16_0 13 rfl rfl)
theorem dJ18_compareToUTF16_14 : decode cJ18_compareToUTF16 14 = .ok (.invokestatic 59, 3) := dk_184 0 59 (dk_at dksJ18_compareToUTF16_0 14 rfl rfl)
theorem dJ18_compareToUTF16_17 : decode cJ18_compareToUTF16 17 = .ok (.ireturn, 1) := dk_172 (dk_at dksJ18_compareToUTF16_0 17 rfl rfl)
abbrev cJ18_length : ByteArray := prog_41_method_5_code
def yJ18_length : MethodName := ⟨RJ18, "length", "([B)I"⟩
theorem dJ18_length_0 : decode cJ18_length 0 = .ok (.aload_n 0, 1) := by decide +kernel
theorem dJ18_length_1 : decode cJ18_length 1 = .ok (.arraylength, 1) := by decide +kernel
theorem dJ18_length_2 : decode cJ18_length 2 = .ok (.ireturn, 1) := by decide +kernel
abbrev cJ18_compareToUTF16Values : ByteArray := prog_41_method_18_code
def yJ18_compareToUTF16Values : MethodName := ⟨RJ18, "compareToUTF16Values", "([B[BII)I"⟩
def dkwJ18_compareToUTF16Values_2 : List UInt8 := [132, 5, 1, 167, 255, 217, 28, 29, 100, 172]
abbrev dktJ18_compareToUTF16Values_2 : List UInt8 := dkwJ18_compareToUTF16Values_2 ++ []
def dkwJ18_compareToUTF16Values_1 : List UInt8 := [54, 6, 43, 21, 5, 184, 0, 65, 54, 7, 21, 6, 21, 7, 159, 0, 9, 21, 6, 21, 7, 100, 172]
abbrev dktJ18_compareToUTF16Values_1 : List UInt8 := dkwJ18_compareToUTF16Values_1 ++ dktJ18_compareToUTF16Values_2
def dkwJ18_compareToUTF16Values_0 : List UInt8 := [28, 29, 184, 0, 38, 54, 4, 3, 54, 5, 21, 5, 21, 4, 162, 0, 38, 42, 21, 5, 184, 0, 50]
abbrev dktJ18_compareToUTF16Values_0 : List UInt8 := dkwJ18_compareToUTF16Values_0 ++ dktJ18_compareToUTF16Values_1
theorem dksJ18_compareToUTF16Values_0 : cJ18_compareToUTF16Values.data.toList.drop 0 = dktJ18_compareToUTF16Values_0 := by decide +kernel
theorem dksJ18_compareToUTF16Values_1 : cJ18_compareToUTF16Values.data.toList.drop 23 = dktJ18_compareToUTF16Values_1 := dk_seg dksJ18_compareToUTF16Values_0 23 rfl rfl
theorem dksJ18_compareToUTF16Values_2 : cJ18_compareToUTF16Values.data.toList.drop 46 = dktJ18_compareToUTF16Values_2 := dk_seg dksJ18_compareToUTF16Values_1 23 rfl rfl
theorem dJ18_compareToUTF16Values_0 : decode cJ18_compareToUTF16Values 0 = .ok (.iload_n 2, 1) := dk_28 (dk_at dksJ18_compareToUTF16Values_0 0 rfl rfl)
theorem dJ18_compareToUTF16Values_1 : decode cJ18_compareToUTF16Values 1 = .ok (.iload_n 3, 1) := dk_29 (dk_at dksJ18_compareToUTF16Values_0 1 rfl rfl)
theorem dJ18_compareToUTF16Values_2 : decode cJ18_compareToUTF16Values 2 = .ok (.invokestatic 38, 3) := dk_184 0 38 (dk_at dksJ18_compareToUTF16Values_0 2 rfl rfl)
theorem dJ18_compareToUTF16Values_5 : decode cJ18_compareToUTF16Values 5 = .ok (.istore 4, 2) := dk_54 4 (dk_at dksJ18_compareToUTF16Values_0 5 rfl rfl)
theorem dJ18_compareToUTF16Values_7 : decode cJ18_compareToUTF16Values 7 = .ok (.iconst 0, 1) := dk_3 (dk_at dksJ18_compareToUTF16Values_0 7 rfl rfl)
theorem dJ18_compareToUTF16Values_8 : decode cJ18_compareToUTF16Values 8 = .ok (.istore 5, 2) := dk_54 5 (dk_at dksJ18_compareToUTF16Values_0 8 rfl rfl)
theorem dJ18_compareToUTF16Values_10 : decode cJ18_compareToUTF16Values 10 = .ok (.iload 5, 2) := dk_21 5 (dk_at dksJ18_compareToUTF16Values_0 10 rfl rfl)
theorem dJ18_compareToUTF16Values_12 : decode cJ18_compareToUTF16Values 12 = .ok (.iload 4, 2) := dk_21 4 (dk_at dksJ18_compareToUTF16Values_0 12 rfl rfl)
theorem dJ18_compareToUTF16Values_14 : decode cJ18_compareToUTF16Values 14 = .ok (.if_icmp .ge 38, 3) := dk_162 0 38 (dk_at dksJ18_compareToUTF16Values_0 14 rfl rfl)
theorem dJ18_compareToUTF16Values_17 : decode cJ18_compareToUTF16Values 17 = .ok (.aload_n 0, 1) := dk_42 (dk_at dksJ18_compareToUTF16Values_0 17 rfl rfl)
theorem dJ18_compareToUTF16Values_18 : decode cJ18_compareToUTF16Values 18 = .ok (.iload 5, 2) := dk_21 5 (dk_at dksJ18_compareToUTF16Values_0 18 rfl rfl)
theorem dJ18_compareToUTF16Values_20 : decode cJ18_compareToUTF16Values 20 = .ok (.invokestatic 50, 3) := dk_184 0 50 (dk_at dksJ18_compareToUTF16Values_0 20 rfl rfl)
theorem dJ18_compareToUTF16Values_23 : decode cJ18_compareToUTF16Values 23 = .ok (.istore 6, 2) := dk_54 6 (dk_at dksJ18_compareToUTF16Values_1 0 rfl rfl)
theorem dJ18_compareToUTF16Values_25 : decode cJ18_compareToUTF16Values 25 = .ok (.aload_n 1, 1) := dk_43 (dk_at dksJ18_compareToUTF16Values_1 2 rfl rfl)
theorem dJ18_compareToUTF16Values_26 : decode cJ18_compareToUTF16Values 26 = .ok (.iload 5, 2) := dk_21 5 (dk_at dksJ18_compareToUTF16Values_1 3 rfl rfl)
theorem dJ18_compareToUTF16Values_28 : decode cJ18_compareToUTF16Values 28 = .ok (.invokestatic 65, 3) := dk_184 0 65 (dk_at dksJ18_compareToUTF16Values_1 5 rfl rfl)
theorem dJ18_compareToUTF16Values_31 : decode cJ18_compareToUTF16Values 31 = .ok (.istore 7, 2) := dk_54 7 (dk_at dksJ18_compareToUTF16Values_1 8 rfl rfl)
theorem dJ18_compareToUTF16Values_33 : decode cJ18_compareToUTF16Values 33 = .ok (.iload 6, 2) := dk_21 6 (dk_at dksJ18_compareToUTF16Values_1 10 rfl rfl)
theorem dJ18_compareToUTF16Values_35 : decode cJ18_compareToUTF16Values 35 = .ok (.iload 7, 2) := dk_21 7 (dk_at dksJ18_compareToUTF16Values_1 12 rfl rfl)
theorem dJ18_compareToUTF16Values_37 : decode cJ18_compareToUTF16Values 37 = .ok (.if_icmp .eq 9, 3) := dk_159 0 9 (dk_at dksJ18_compareToUTF16Values_1 14 rfl rfl)
theorem dJ18_compareToUTF16Values_40 : decode cJ18_compareToUTF16Values 40 = .ok (.iload 6, 2) := dk_21 6 (dk_at dksJ18_compareToUTF16Values_1 17 rfl rfl)
theorem dJ18_compareToUTF16Values_42 : decode cJ18_compareToUTF16Values 42 = .ok (.iload 7, 2) := dk_21 7 (dk_at dksJ18_compareToUTF16Values_1 19 rfl rfl)
theorem dJ18_compareToUTF16Values_44 : decode cJ18_compareToUTF16Values 44 = .ok (.isub, 1) := dk_100 (dk_at dksJ18_compareToUTF16Values_1 21 rfl rfl)
theorem dJ18_compareToUTF16Values_45 : decode cJ18_compareToUTF16Values 45 = .ok (.ireturn, 1) := dk_172 (dk_at dksJ18_compareToUTF16Values_1 22 rfl rfl)
theorem dJ18_compareToUTF16Values_46 : decode cJ18_compareToUTF16Values 46 = .ok (.iinc 5 1, 3) := dk_132 5 1 (dk_at dksJ18_compareToUTF16Values_2 0 rfl rfl)
theorem dJ18_compareToUTF16Values_49 : decode cJ18_compareToUTF16Values 49 = .ok (.goto (-39), 3) := dk_167 255 217 (dk_at dksJ18_compareToUTF16Values_2 3 rfl rfl)
theorem dJ18_compareToUTF16Values_52 : decode cJ18_compareToUTF16Values 52 = .ok (.iload_n 2, 1) := dk_28 (dk_at dksJ18_compareToUTF16Values_2 6 rfl rfl)
theorem dJ18_compareToUTF16Values_53 : decode cJ18_compareToUTF16Values 53 = .ok (.iload_n 3, 1) := dk_29 (dk_at dksJ18_compareToUTF16Values_2 7 rfl rfl)
theorem dJ18_compareToUTF16Values_54 : decode cJ18_compareToUTF16Values 54 = .ok (.isub, 1) := dk_100 (dk_at dksJ18_compareToUTF16Values_2 8 rfl rfl)
theorem dJ18_compareToUTF16Values_55 : decode cJ18_compareToUTF16Values 55 = .ok (.ireturn, 1) := dk_172 (dk_at dksJ18_compareToUTF16Values_2 9 rfl rfl)
abbrev cJ18_compareToUTF16_2 : ByteArray := prog_41_method_17_code
def yJ18_compareToUTF16_2 : MethodName := ⟨RJ18, "compareToUTF16", "([B[BII)I"⟩
def dkwJ18_compareToUTF16_2_0 : List UInt8 := [28, 42, 184, 0, 54, 184, 0, 62, 29, 43, 184, 0, 58, 184, 0, 62, 42, 43, 28, 29, 184, 0, 59, 172]
abbrev dktJ18_compareToUTF16_2_0 : List UInt8 := dkwJ18_compareToUTF16_2_0 ++ []
theorem dksJ18_compareToUTF16_2_0 : cJ18_compareToUTF16_2.data.toList.drop 0 = dktJ18_compareToUTF16_2_0 := by decide +kernel
theorem dJ18_compareToUTF16_2_0 : decode cJ18_compareToUTF16_2 0 = .ok (.iload_n 2, 1) := dk_28 (dk_at dksJ18_compareToUTF16_2_0 0 rfl rfl)
theorem dJ18_compareToUTF16_2_1 : decode cJ18_compareToUTF16_2 1 = .ok (.aload_n 0, 1) := dk_42 (dk_at dksJ18_compareToUTF16_2_0 1 rfl rfl)
theorem dJ18_compareToUTF16_2_2 : decode cJ18_compareToUTF16_2 2 = .ok (.invokestatic 54, 3) := dk_184 0 54 (dk_at dksJ18_compareToUTF16_2_0 2 rfl rfl)
theorem dJ18_compareToUTF16_2_5 : decode cJ18_compareToUTF16_2 5 = .ok (.invokestatic 62, 3) := dk_184 0 62 (dk_at dksJ18_compareToUTF16_2_0 5 rfl rfl)
theorem dJ18_compareToUTF16_2_8 : decode cJ18_compareToUTF16_2 8 = .ok (.iload_n 3, 1) := dk_29 (dk_at dksJ18_compareToUTF16_2_0 8 rfl rfl)
theorem dJ18_compareToUTF16_2_9 : decode cJ18_compareToUTF16_2 9 = .ok (.aload_n 1, 1) := dk_43 (dk_at dksJ18_compareToUTF16_2_0 9 rfl rfl)
theorem dJ18_compareToUTF16_2_10 : decode cJ18_compareToUTF16_2 10 = .ok (.invokestatic 58, 3) := dk_184 0 58 (dk_at dksJ18_compareToUTF16_2_0 10 rfl rfl)
theorem dJ18_compareToUTF16_2_13 : decode cJ18_compareToUTF16_2 13 = .ok (.invokestatic 62, 3) := dk_184 0 62 (dk_at dksJ18_compareToUTF16_2_0 13 rfl rfl)
theorem dJ18_compareToUTF16_2_16 : decode cJ18_compareToUTF16_2 16 = .ok (.aload_n 0, 1) := dk_42 (dk_at dksJ18_compareToUTF16_2_0 16 rfl rfl)
theorem dJ18_compareToUTF16_2_17 : decode cJ18_compareToUTF16_2 17 = .ok (.aload_n 1, 1) := dk_43 (dk_at dksJ18_compareToUTF16_2_0 17 rfl rfl)
theorem dJ18_compareToUTF16_2_18 : decode cJ18_compareToUTF16_2 18 = .ok (.iload_n 2, 1) := dk_28 (dk_at dksJ18_compareToUTF16_2_0 18 rfl rfl)
theorem dJ18_compareToUTF16_2_19 : decode cJ18_compareToUTF16_2 19 = .ok (.iload_n 3, 1) := dk_29 (dk_at dksJ18_compareToUTF16_2_0 19 rfl rfl)
theorem dJ18_compareToUTF16_2_20 : decode cJ18_compareToUTF16_2 20 = .ok (.invokestatic 59, 3) := dk_184 0 59 (dk_at dksJ18_compareToUTF16_2_0 20 rfl rfl)
theorem dJ18_compareToUTF16_2_23 : decode cJ18_compareToUTF16_2 23 = .ok (.ireturn, 1) := dk_172 (dk_at dksJ18_compareToUTF16_2_0 23 rfl rfl)
theorem q109 : (Jvm.Cond.initialized "java/lang/StringLatin1") ∈ lw_all := lw_g (lw_at lw_m1 26 rfl) rfl
theorem q526 : (Jvm.Cond.static ({ cls := "java/lang/StringLatin1", name := "canEncode", desc := "(C)Z" } : Jvm.MethodName)) ∈ lw_all := lw_g (lw_at lw_m2 203 rfl) rfl
theorem q527 : (Jvm.Cond.code ({ cls := "java/lang/StringLatin1", name := "canEncode", desc := "(C)Z" } : Jvm.MethodName) prog_41_method_3_code (1 : Nat) (Option.some Jvm.ClassFile.FieldType.boolean)) ∈ lw_all := lw_g (lw_at lw_m2 204 rfl) rfl
theorem q533 : (Jvm.Cond.static ({ cls := "java/lang/StringLatin1", name := "inflate", desc := "([BI[BII)V" } : Jvm.MethodName)) ∈ lw_all := lw_g (lw_at lw_m2 210 rfl) rfl
theorem q534 : (Jvm.Cond.code ({ cls := "java/lang/StringLatin1", name := "inflate", desc := "([BI[BII)V" } : Jvm.MethodName) prog_41_method_50_code (5 : Nat) (Option.none : Option Jvm.ClassFile.FieldType)) ∈ lw_all := lw_g (lw_at lw_m2 211 rfl) rfl
theorem q535 : (Jvm.Cond.methodLink "java/lang/StringLatin1" (240 : Nat) ({ cls := "java/lang/StringUTF16", name := "inflate", desc := "([BI[BII)V" } : Jvm.MethodName)) ∈ lw_all := lw_g (lw_at lw_m2 212 rfl) rfl
theorem q766 : (Jvm.Cond.static ({ cls := "java/lang/StringLatin1", name := "equals", desc := "([B[B)Z" } : Jvm.MethodName)) ∈ lw_all := lw_g (lw_at lw_m3 203 rfl) rfl
theorem q767 : (Jvm.Cond.code ({ cls := "java/lang/StringLatin1", name := "equals", desc := "([B[B)Z" } : Jvm.MethodName) prog_41_method_13_code (3 : Nat) (Option.some Jvm.ClassFile.FieldType.boolean)) ∈ lw_all := lw_g (lw_at lw_m3 204 rfl) rfl
theorem q1558 : (Jvm.Cond.static ({ cls := "java/lang/StringLatin1", name := "compareTo", desc := "([B[B)I" } : Jvm.MethodName)) ∈ lw_all := lw_g (lw_at lw_m7 35 rfl) rfl
theorem q1559 : (Jvm.Cond.code ({ cls := "java/lang/StringLatin1", name := "compareTo", desc := "([B[B)I" } : Jvm.MethodName) prog_41_method_14_code (4 : Nat) (Option.some Jvm.ClassFile.FieldType.int)) ∈ lw_all := lw_g (lw_at lw_m7 36 rfl) rfl
theorem q1560 : (Jvm.Cond.methodLink "java/lang/StringLatin1" (34 : Nat) ({ cls := "java/lang/StringLatin1", name := "compareTo", desc := "([B[BII)I" } : Jvm.MethodName)) ∈ lw_all := lw_g (lw_at lw_m7 37 rfl) rfl
theorem q1561 : (Jvm.Cond.static ({ cls := "java/lang/StringLatin1", name := "compareTo", desc := "([B[BII)I" } : Jvm.MethodName)) ∈ lw_all := lw_g (lw_at lw_m7 38 rfl) rfl
theorem q1562 : (Jvm.Cond.code ({ cls := "java/lang/StringLatin1", name := "compareTo", desc := "([B[BII)I" } : Jvm.MethodName) prog_41_method_15_code (6 : Nat) (Option.some Jvm.ClassFile.FieldType.int)) ∈ lw_all := lw_g (lw_at lw_m7 39 rfl) rfl
theorem q1563 : (Jvm.Cond.methodLink "java/lang/StringLatin1" (38 : Nat) ({ cls := "java/lang/Math", name := "min", desc := "(II)I" } : Jvm.MethodName)) ∈ lw_all := lw_g (lw_at lw_m7 40 rfl) rfl
theorem q1564 : (Jvm.Cond.methodLink "java/lang/StringLatin1" (44 : Nat) ({ cls := "jdk/internal/util/ArraysSupport", name := "mismatch", desc := "([B[BI)I" } : Jvm.MethodName)) ∈ lw_all := lw_g (lw_at lw_m7 41 rfl) rfl
theorem q1668 : (Jvm.Cond.methodLink "java/lang/StringLatin1" (50 : Nat) ({ cls := "java/lang/StringLatin1", name := "getChar", desc := "([BI)C" } : Jvm.MethodName)) ∈ lw_all := lw_g (lw_at lw_m7 145 rfl) rfl
theorem q1669 : (Jvm.Cond.static ({ cls := "java/lang/StringLatin1", name := "getChar", desc := "([BI)C" } : Jvm.MethodName)) ∈ lw_all := lw_g (lw_at lw_m7 146 rfl) rfl
theorem q1670 : (Jvm.Cond.code ({ cls := "java/lang/StringLatin1", name := "getChar", desc := "([BI)C" } : Jvm.MethodName) prog_41_method_44_code (2 : Nat) (Option.some Jvm.ClassFile.FieldType.char)) ∈ lw_all := lw_g (lw_at lw_m7 147 rfl) rfl
theorem q1679 : (Jvm.Cond.static ({ cls := "java/lang/StringLatin1", name := "compareToUTF16", desc := "([B[B)I" } : Jvm.MethodName)) ∈ lw_all := lw_g (lw_at lw_m7 156 rfl) rfl
theorem q1680 : (Jvm.Cond.code ({ cls := "java/lang/StringLatin1", name := "compareToUTF16", desc := "([B[B)I" } : Jvm.MethodName) prog_41_method_16_code (4 : Nat) (Option.some Jvm.ClassFile.FieldType.int)) ∈ lw_all := lw_g (lw_at lw_m7 157 rfl) rfl
theorem q1681 : (Jvm.Cond.methodLink "java/lang/StringLatin1" (54 : Nat) ({ cls := "java/lang/StringLatin1", name := "length", desc := "([B)I" } : Jvm.MethodName)) ∈ lw_all := lw_g (lw_at lw_m7 158 rfl) rfl
theorem q1682 : (Jvm.Cond.static ({ cls := "java/lang/StringLatin1", name := "length", desc := "([B)I" } : Jvm.MethodName)) ∈ lw_all := lw_g (lw_at lw_m7 159 rfl) rfl
theorem q1683 : (Jvm.Cond.code ({ cls := "java/lang/StringLatin1", name := "length", desc := "([B)I" } : Jvm.MethodName) prog_41_method_5_code (1 : Nat) (Option.some Jvm.ClassFile.FieldType.int)) ∈ lw_all := lw_g (lw_at lw_m7 160 rfl) rfl
theorem q1684 : (Jvm.Cond.methodLink "java/lang/StringLatin1" (58 : Nat) ({ cls := "java/lang/StringUTF16", name := "length", desc := "([B)I" } : Jvm.MethodName)) ∈ lw_all := lw_g (lw_at lw_m7 161 rfl) rfl
theorem q1685 : (Jvm.Cond.methodLink "java/lang/StringLatin1" (59 : Nat) ({ cls := "java/lang/StringLatin1", name := "compareToUTF16Values", desc := "([B[BII)I" } : Jvm.MethodName)) ∈ lw_all := lw_g (lw_at lw_m7 162 rfl) rfl
theorem q1686 : (Jvm.Cond.static ({ cls := "java/lang/StringLatin1", name := "compareToUTF16Values", desc := "([B[BII)I" } : Jvm.MethodName)) ∈ lw_all := lw_g (lw_at lw_m7 163 rfl) rfl
theorem q1687 : (Jvm.Cond.code ({ cls := "java/lang/StringLatin1", name := "compareToUTF16Values", desc := "([B[BII)I" } : Jvm.MethodName) prog_41_method_18_code (8 : Nat) (Option.some Jvm.ClassFile.FieldType.int)) ∈ lw_all := lw_g (lw_at lw_m7 164 rfl) rfl
theorem q1688 : (Jvm.Cond.methodLink "java/lang/StringLatin1" (65 : Nat) ({ cls := "java/lang/StringUTF16", name := "getChar", desc := "([BI)C" } : Jvm.MethodName)) ∈ lw_all := lw_g (lw_at lw_m7 165 rfl) rfl
theorem q1718 : (Jvm.Cond.static ({ cls := "java/lang/StringLatin1", name := "compareToUTF16", desc := "([B[BII)I" } : Jvm.MethodName)) ∈ lw_all := lw_g (lw_at lw_m7 195 rfl) rfl
theorem q1719 : (Jvm.Cond.code ({ cls := "java/lang/StringLatin1", name := "compareToUTF16", desc := "([B[BII)I" } : Jvm.MethodName) prog_41_method_17_code (4 : Nat) (Option.some Jvm.ClassFile.FieldType.int)) ∈ lw_all := lw_g (lw_at lw_m7 196 rfl) rfl
theorem q1720 : (Jvm.Cond.methodLink "java/lang/StringLatin1" (62 : Nat) ({ cls := "java/lang/String", name := "checkOffset", desc := "(II)V" } : Jvm.MethodName)) ∈ lw_all := lw_g (lw_at lw_m7 197 rfl) rfl

/-! jdk/internal/util/Preconditions -/
set_option maxRecDepth 100000
def RJ19 : String := "jdk/internal/util/Preconditions"
abbrev cJ19_checkFromIndexSize : ByteArray := prog_67_method_13_code
def yJ19_checkFromIndexSize : MethodName := ⟨RJ19, "checkFromIndexSize", "(IIILjava/util/function/BiFunction;)I"⟩
def dkwJ19_checkFromIndexSize_1 : List UInt8 := [172]
abbrev dktJ19_checkFromIndexSize_1 : List UInt8 := dkwJ19_checkFromIndexSize_1 ++ []
def dkwJ19_checkFromIndexSize_0 : List UInt8 := [28, 26, 128, 27, 128, 155, 0, 10, 27, 28, 26, 100, 164, 0, 11, 45, 26, 27, 28, 184, 0, 103, 191, 26]
abbrev dktJ19_checkFromIndexSize_0 : List UInt8 := dkwJ19_checkFromIndexSize_0 ++ dktJ19_checkFromIndexSize_1
theorem dksJ19_checkFromIndexSize_0 : cJ19_checkFromIndexSize.data.toList.drop 0 = dktJ19_checkFromIndexSize_0 := by decide +kernel
theorem dksJ19_checkFromIndexSize_1 : cJ19_checkFromIndexSize.data.toList.drop 24 = dktJ19_checkFromIndexSize_1 := dk_seg dksJ19_checkFromIndexSize_0 24 rfl rfl
theorem dJ19_checkFromIndexSize_0 : decode cJ19_checkFromIndexSize 0 = .ok (.iload_n 2, 1) := dk_28 (dk_at dksJ19_checkFromIndexSize_0 0 rfl rfl)
theorem dJ19_checkFromIndexSize_1 : decode cJ19_checkFromIndexSize 1 = .ok (.iload_n 0, 1) := dk_26 (dk_at dksJ19_checkFromIndexSize_0 1 rfl rfl)
theorem dJ19_checkFromIndexSize_2 : decode cJ19_checkFromIndexSize 2 = .ok (.ior, 1) := dk_128 (dk_at dksJ19_checkFromIndexSize_0 2 rfl rfl)
theorem dJ19_checkFromIndexSize_3 : decode cJ19_checkFromIndexSize 3 = .ok (.iload_n 1, 1) := dk_27 (dk_at dksJ19_checkFromIndexSize_0 3 rfl rfl)
theorem dJ19_checkFromIndexSize_4 : decode cJ19_checkFromIndexSize 4 = .ok (.ior, 1) := dk_128 (dk_at dksJ19_checkFromIndexSize_0 4 rfl rfl)
theorem dJ19_checkFromIndexSize_5 : decode cJ19_checkFromIndexSize 5 = .ok (.ifCond .lt 10, 3) := dk_155 0 10 (dk_at dksJ19_checkFromIndexSize_0 5 rfl rfl)
theorem dJ19_checkFromIndexSize_8 : decode cJ19_checkFromIndexSize 8 = .ok (.iload_n 1, 1) := dk_27 (dk_at dksJ19_checkFromIndexSize_0 8 rfl rfl)
theorem dJ19_checkFromIndexSize_9 : decode cJ19_checkFromIndexSize 9 = .ok (.iload_n 2, 1) := dk_28 (dk_at dksJ19_checkFromIndexSize_0 9 rfl rfl)
theorem dJ19_checkFromIndexSize_10 : decode cJ19_checkFromIndexSize 10 = .ok (.iload_n 0, 1) := dk_26 (dk_at dksJ19_checkFromIndexSize_0 10 rfl rfl)
theorem dJ19_checkFromIndexSize_11 : decode cJ19_checkFromIndexSize 11 = .ok (.isub, 1) := dk_100 (dk_at dksJ19_checkFromIndexSize_0 11 rfl rfl)
theorem dJ19_checkFromIndexSize_12 : decode cJ19_checkFromIndexSize 12 = .ok (.if_icmp .le 11, 3) := dk_164 0 11 (dk_at dksJ19_checkFromIndexSize_0 12 rfl rfl)
theorem dJ19_checkFromIndexSize_15 : decode cJ19_checkFromIndexSize 15 = .ok (.aload_n 3, 1) := dk_45 (dk_at dksJ19_checkFromIndexSize_0 15 rfl rfl)
theorem dJ19_checkFromIndexSize_16 : decode cJ19_checkFromIndexSize 16 = .ok (.iload_n 0, 1) := dk_26 (dk_at dksJ19_checkFromIndexSize_0 16 rfl rfl)
theorem dJ19_checkFromIndexSize_17 : decode cJ19_checkFromIndexSize 17 = .ok (.iload_n 1, 1) := dk_27 (dk_at dksJ19_checkFromIndexSize_0 17 rfl rfl)
theorem dJ19_checkFromIndexSize_18 : decode cJ19_checkFromIndexSize 18 = .ok (.iload_n 2, 1) := dk_28 (dk_at dksJ19_checkFromIndexSize_0 18 rfl rfl)
theorem dJ19_checkFromIndexSize_19 : decode cJ19_checkFromIndexSize 19 = .ok (.invokestatic 103, 3) := dk_184 0 103 (dk_at dksJ19_checkFromIndexSize_0 19 rfl rfl)
theorem dJ19_checkFromIndexSize_22 : decode cJ19_checkFromIndexSize 22 = .ok (.athrow, 1) := dk_191 (dk_at dksJ19_checkFromIndexSize_0 22 rfl rfl)
theorem dJ19_checkFromIndexSize_23 : decode cJ19_checkFromIndexSize 23 = .ok (.iload_n 0, 1) := dk_26 (dk_at dksJ19_checkFromIndexSize_0 23 rfl rfl)
theorem dJ19_checkFromIndexSize_24 : decode cJ19_checkFromIndexSize 24 = .ok (.ireturn, 1) := dk_172 (dk_at dksJ19_checkFromIndexSize_1 0 rfl rfl)
abbrev cJ19_checkIndex : ByteArray := prog_67_method_11_code
def yJ19_checkIndex : MethodName := ⟨RJ19, "checkIndex", "(IILjava/util/function/BiFunction;)I"⟩
def dkwJ19_checkIndex_0 : List UInt8 := [26, 155, 0, 8, 26, 27, 161, 0, 10, 44, 26, 27, 184, 0, 95, 191, 26, 172]
abbrev dktJ19_checkIndex_0 : List UInt8 := dkwJ19_checkIndex_0 ++ []
theorem dksJ19_checkIndex_0 : cJ19_checkIndex.data.toList.drop 0 = dktJ19_checkIndex_0 := by decide +kernel
theorem dJ19_checkIndex_0 : decode cJ19_checkIndex 0 = .ok (.iload_n 0, 1) := dk_26 (dk_at dksJ19_checkIndex_0 0 rfl rfl)
theorem dJ19_checkIndex_1 : decode cJ19_checkIndex 1 = .ok (.ifCond .lt 8, 3) := dk_155 0 8 (dk_at dksJ19_checkIndex_0 1 rfl rfl)
theorem dJ19_checkIndex_4 : decode cJ19_checkIndex 4 = .ok (.iload_n 0, 1) := dk_26 (dk_at dksJ19_checkIndex_0 4 rfl rfl)
theorem dJ19_checkIndex_5 : decode cJ19_checkIndex 5 = .ok (.iload_n 1, 1) := dk_27 (dk_at dksJ19_checkIndex_0 5 rfl rfl)
theorem dJ19_checkIndex_6 : decode cJ19_checkIndex 6 = .ok (.if_icmp .lt 10, 3) := dk_161 0 10 (dk_at dksJ19_checkIndex_0 6 rfl rfl)
theorem dJ19_checkIndex_9 : decode cJ19_checkIndex 9 = .ok (.aload_n 2, 1) := dk_44 (dk_at dksJ19_checkIndex_0 9 rfl rfl)
theorem dJ19_checkIndex_10 : decode cJ19_checkIndex 10 = .ok (.iload_n 0, 1) := dk_26 (dk_at dksJ19_checkIndex_0 10 rfl rfl)
theorem dJ19_checkIndex_11 : decode cJ19_checkIndex 11 = .ok (.iload_n 1, 1) := dk_27 (dk_at dksJ19_checkIndex_0 11 rfl rfl)
theorem dJ19_checkIndex_12 : decode cJ19_checkIndex 12 = .ok (.invokestatic 95, 3) := dk_184 0 95 (dk_at dksJ19_checkIndex_0 12 rfl rfl)
theorem dJ19_checkIndex_15 : decode cJ19_checkIndex 15 = .ok (.athrow, 1) := dk_191 (dk_at dksJ19_checkIndex_0 15 rfl rfl)
theorem dJ19_checkIndex_16 : decode cJ19_checkIndex 16 = .ok (.iload_n 0, 1) := dk_26 (dk_at dksJ19_checkIndex_0 16 rfl rfl)
theorem dJ19_checkIndex_17 : decode cJ19_checkIndex 17 = .ok (.ireturn, 1) := dk_172 (dk_at dksJ19_checkIndex_0 17 rfl rfl)
abbrev cJ19_checkFromToIndex : ByteArray := prog_67_method_12_code
def yJ19_checkFromToIndex : MethodName := ⟨RJ19, "checkFromToIndex", "(IIILjava/util/function/BiFunction;)I"⟩
def dkwJ19_checkFromToIndex_0 : List UInt8 := [26, 155, 0, 13, 26, 27, 163, 0, 8, 27, 28, 164, 0, 11, 45, 26, 27, 28, 184, 0, 99, 191, 26, 172]
abbrev dktJ19_checkFromToIndex_0 : List UInt8 := dkwJ19_checkFromToIndex_0 ++ []
theorem dksJ19_checkFromToIndex_0 : cJ19_checkFromToIndex.data.toList.drop 0 = dktJ19_checkFromToIndex_0 := by decide +kernel
theorem dJ19_checkFromToIndex_0 : decode cJ19_checkFromToIndex 0 = .ok (.iload_n 0, 1) := dk_26 (dk_at dksJ19_checkFromToIndex_0 0 rfl rfl)
theorem dJ19_checkFromToIndex_1 : decode cJ19_checkFromToIndex 1 = .ok (.ifCond .lt 13, 3) := dk_155 0 13 (dk_at dksJ19_checkFromToIndex_0 1 rfl rfl)
theorem dJ19_checkFromToIndex_4 : decode cJ19_checkFromToIndex 4 = .ok (.iload_n 0, 1) := dk_26 (dk_at dksJ19_checkFromToIndex_0 4 rfl rfl)
theorem dJ19_checkFromToIndex_5 : decode cJ19_checkFromToIndex 5 = .ok (.iload_n 1, 1) := dk_27 (dk_at dksJ19_checkFromToIndex_0 5 rfl rfl)
theorem dJ19_checkFromToIndex_6 : decode cJ19_checkFromToIndex 6 = .ok (.if_icmp .gt 8, 3) := dk_163 0 8 (dk_at dksJ19_checkFromToIndex_0 6 rfl rfl)
theorem dJ19_checkFromToIndex_9 : decode cJ19_checkFromToIndex 9 = .ok (.iload_n 1, 1) := dk_27 (dk_at dksJ19_checkFromToIndex_0 9 rfl rfl)
theorem dJ19_checkFromToIndex_10 : decode cJ19_checkFromToIndex 10 = .ok (.iload_n 2, 1) := dk_28 (dk_at dksJ19_checkFromToIndex_0 10 rfl rfl)
theorem dJ19_checkFromToIndex_11 : decode cJ19_checkFromToIndex 11 = .ok (.if_icmp .le 11, 3) := dk_164 0 11 (dk_at dksJ19_checkFromToIndex_0 11 rfl rfl)
theorem dJ19_checkFromToIndex_14 : decode cJ19_checkFromToIndex 14 = .ok (.aload_n 3, 1) := dk_45 (dk_at dksJ19_checkFromToIndex_0 14 rfl rfl)
theorem dJ19_checkFromToIndex_15 : decode cJ19_checkFromToIndex 15 = .ok (.iload_n 0, 1) := dk_26 (dk_at dksJ19_checkFromToIndex_0 15 rfl rfl)
theorem dJ19_checkFromToIndex_16 : decode cJ19_checkFromToIndex 16 = .ok (.iload_n 1, 1) := dk_27 (dk_at dksJ19_checkFromToIndex_0 16 rfl rfl)
theorem dJ19_checkFromToIndex_17 : decode cJ19_checkFromToIndex 17 = .ok (.iload_n 2, 1) := dk_28 (dk_at dksJ19_checkFromToIndex_0 17 rfl rfl)
theorem dJ19_checkFromToIndex_18 : decode cJ19_checkFromToIndex 18 = .ok (.invokestatic 99, 3) := dk_184 0 99 (dk_at dksJ19_checkFromToIndex_0 18 rfl rfl)
theorem dJ19_checkFromToIndex_21 : decode cJ19_checkFromToIndex 21 = .ok (.athrow, 1) := dk_191 (dk_at dksJ19_checkFromToIndex_0 21 rfl rfl)
theorem dJ19_checkFromToIndex_22 : decode cJ19_checkFromToIndex 22 = .ok (.iload_n 0, 1) := dk_26 (dk_at dksJ19_checkFromToIndex_0 22 rfl rfl)
theorem dJ19_checkFromToIndex_23 : decode cJ19_checkFromToIndex 23 = .ok (.ireturn, 1) := dk_172 (dk_at dksJ19_checkFromToIndex_0 23 rfl rfl)
theorem q110 : (Jvm.Cond.initialized "jdk/internal/util/Preconditions") ∈ lw_all := lw_g (lw_at lw_m1 27 rfl) rfl
theorem q548 : (Jvm.Cond.laysStatic "jdk/internal/util/Preconditions" "SIOOBE_FORMATTER" "Ljava/util/function/BiFunction;") ∈ lw_tbl := lw_at lw_m2 225 rfl
theorem q550 : (Jvm.Cond.static ({ cls := "jdk/internal/util/Preconditions", name := "checkFromIndexSize", desc := "(IIILjava/util/function/BiFunction;)I" } : Jvm.MethodName)) ∈ lw_all := lw_g (lw_at lw_m2 227 rfl) rfl
theorem q551 : (Jvm.Cond.code ({ cls := "jdk/internal/util/Preconditions", name := "checkFromIndexSize", desc := "(IIILjava/util/function/BiFunction;)I" } : Jvm.MethodName) prog_67_method_13_code (4 : Nat) (Option.some Jvm.ClassFile.FieldType.int)) ∈ lw_all := lw_g (lw_at lw_m2 228 rfl) rfl
theorem q571 : (Jvm.Cond.static ({ cls := "jdk/internal/util/Preconditions", name := "checkIndex", desc := "(IILjava/util/function/BiFunction;)I" } : Jvm.MethodName)) ∈ lw_all := lw_g (lw_at lw_m3 8 rfl) rfl
theorem q572 : (Jvm.Cond.code ({ cls := "jdk/internal/util/Preconditions", name := "checkIndex", desc := "(IILjava/util/function/BiFunction;)I" } : Jvm.MethodName) prog_67_method_11_code (3 : Nat) (Option.some Jvm.ClassFile.FieldType.int)) ∈ lw_all := lw_g (lw_at lw_m3 9 rfl) rfl
theorem q641 : (Jvm.Cond.static ({ cls := "jdk/internal/util/Preconditions", name := "checkFromToIndex", desc := "(IIILjava/util/function/BiFunction;)I" } : Jvm.MethodName)) ∈ lw_all := lw_g (lw_at lw_m3 78 rfl) rfl
theorem q642 : (Jvm.Cond.code ({ cls := "jdk/internal/util/Preconditions", name := "checkFromToIndex", desc := "(IIILjava/util/function/BiFunction;)I" } : Jvm.MethodName) prog_67_method_12_code (4 : Nat) (Option.some Jvm.ClassFile.FieldType.int)) ∈ lw_all := lw_g (lw_at lw_m3 79 rfl) rfl

/-! java/lang/IllegalArgumentException -/
set_option maxRecDepth 100000
def RJ20 : String := "java/lang/IllegalArgumentException"
def TJ20 : u_T := fun k => match k with
  | 0 => ("java/lang/Throwable", "cause", "Ljava/lang/Throwable;", false)
  | 1 => ("java/lang/Throwable", "stackTrace", "[Ljava/lang/StackTraceElement;", false)
  | 2 => ("java/lang/Throwable", "suppressedExceptions", "Ljava/util/List;", false)
  | 3 => ("java/lang/Throwable", "detailMessage", "Ljava/lang/String;", false)
  | 4 => ("java/lang/Throwable", "backtrace", "Ljava/lang/Object;", false)
  | _ => ("java/lang/Throwable", "depth", "I", false)
def tyJ20 : Nat → FieldType := fun k => match k with
  | 0 => .object "java/lang/Throwable"
  | 1 => .array (.object "java/lang/StackTraceElement")
  | 2 => .object "java/util/List"
  | 3 => .object "java/lang/String"
  | 4 => .object "java/lang/Object"
  | _ => .int
abbrev wsJ200 : List Cond := u_ws RJ20 TJ20 6
theorem nmJ20 : ∀ a, a < 6 → ∀ b, b < 6 → a ≠ b → (TJ20 a).2.1 ≠ (TJ20 b).2.1 := by decide +kernel
theorem tyJ20_ok : ∀ k, k < 6 → parseFieldDescriptor (TJ20 k).2.2.1 = some (tyJ20 k) := by decide +kernel
abbrev cJ20_init : ByteArray := prog_29_method_2_code
def yJ20_init : MethodName := ⟨RJ20, "<init>", "(Ljava/lang/String;)V"⟩
def dkwJ20_init_0 : List UInt8 := [42, 43, 183, 0, 7, 177]
abbrev dktJ20_init_0 : List UInt8 := dkwJ20_init_0 ++ []
theorem dksJ20_init_0 : cJ20_init.data.toList.drop 0 = dktJ20_init_0 := by decide +kernel
theorem dJ20_init_0 : decode cJ20_init 0 = .ok (.aload_n 0, 1) := dk_42 (dk_at dksJ20_init_0 0 rfl rfl)
theorem dJ20_init_1 : decode cJ20_init 1 = .ok (.aload_n 1, 1) := dk_43 (dk_at dksJ20_init_0 1 rfl rfl)
theorem dJ20_init_2 : decode cJ20_init 2 = .ok (.invokespecial 7, 3) := dk_183 0 7 (dk_at dksJ20_init_0 2 rfl rfl)
theorem dJ20_init_5 : decode cJ20_init 5 = .ok (.return_, 1) := dk_177 (dk_at dksJ20_init_0 5 rfl rfl)
abbrev cJ20_init_2 : ByteArray := prog_29_method_1_code
def yJ20_init_2 : MethodName := ⟨RJ20, "<init>", "()V"⟩
theorem dJ20_init_2_0 : decode cJ20_init_2 0 = .ok (.aload_n 0, 1) := by decide +kernel
theorem dJ20_init_2_1 : decode cJ20_init_2 1 = .ok (.invokespecial 1, 3) := by decide +kernel
theorem dJ20_init_2_4 : decode cJ20_init_2 4 = .ok (.return_, 1) := by decide +kernel
theorem q111 : (Jvm.Cond.initialized "java/lang/IllegalArgumentException") ∈ lw_all := lw_g (lw_at lw_m1 28 rfl) rfl
theorem q324 : (Jvm.Cond.selects "java/lang/IllegalArgumentException" ({ cls := "java/lang/Throwable", name := "fillInStackTrace", desc := "()Ljava/lang/Throwable;" } : Jvm.MethodName) ({ cls := "java/lang/Throwable", name := "fillInStackTrace", desc := "()Ljava/lang/Throwable;" } : Jvm.MethodName)) ∈ lw_all := lw_g (lw_at lw_m2 1 rfl) rfl
theorem q602 : (Jvm.Cond.instantiable "java/lang/IllegalArgumentException" (6 : Nat)) ∈ lw_all := lw_g (lw_at lw_m3 39 rfl) rfl
theorem q603 : (Jvm.Cond.castable "java/lang/IllegalArgumentException" "java/lang/IllegalArgumentException") ∈ lw_tbl := lw_at lw_m3 40 rfl
theorem q604 : (Jvm.Cond.selects "java/lang/IllegalArgumentException" ({ cls := "java/lang/Throwable", name := "fillInStackTrace", desc := "(I)Ljava/lang/Throwable;" } : Jvm.MethodName) ({ cls := "java/lang/Throwable", name := "fillInStackTrace", desc := "(I)Ljava/lang/Throwable;" } : Jvm.MethodName)) ∈ lw_all := lw_g (lw_at lw_m3 41 rfl) rfl
theorem q605 : (Jvm.Cond.lays "java/lang/IllegalArgumentException" "java/lang/Throwable" "cause" "Ljava/lang/Throwable;") ∈ lw_all := lw_g (lw_at lw_m3 42 rfl) rfl
theorem q606 : (Jvm.Cond.lays "java/lang/IllegalArgumentException" "java/lang/Throwable" "stackTrace" "[Ljava/lang/StackTraceElement;") ∈ lw_all := lw_g (lw_at lw_m3 43 rfl) rfl
theorem q607 : (Jvm.Cond.lays "java/lang/IllegalArgumentException" "java/lang/Throwable" "suppressedExceptions" "Ljava/util/List;") ∈ lw_all := lw_g (lw_at lw_m3 44 rfl) rfl
theorem q608 : (Jvm.Cond.lays "java/lang/IllegalArgumentException" "java/lang/Throwable" "detailMessage" "Ljava/lang/String;") ∈ lw_all := lw_g (lw_at lw_m3 45 rfl) rfl
theorem q609 : (Jvm.Cond.lays "java/lang/IllegalArgumentException" "java/lang/Throwable" "backtrace" "Ljava/lang/Object;") ∈ lw_all := lw_g (lw_at lw_m3 46 rfl) rfl
theorem q689 : (Jvm.Cond.instanceMethod ({ cls := "java/lang/IllegalArgumentException", name := "<init>", desc := "(Ljava/lang/String;)V" } : Jvm.MethodName)) ∈ lw_all := lw_g (lw_at lw_m3 126 rfl) rfl
theorem q690 : (Jvm.Cond.code ({ cls := "java/lang/IllegalArgumentException", name := "<init>", desc := "(Ljava/lang/String;)V" } : Jvm.MethodName) prog_29_method_2_code (2 : Nat) (Option.none : Option Jvm.ClassFile.FieldType)) ∈ lw_all := lw_g (lw_at lw_m3 127 rfl) rfl
theorem q691 : (Jvm.Cond.methodLink "java/lang/IllegalArgumentException" (7 : Nat) ({ cls := "java/lang/RuntimeException", name := "<init>", desc := "(Ljava/lang/String;)V" } : Jvm.MethodName)) ∈ lw_all := lw_g (lw_at lw_m3 128 rfl) rfl
theorem q692 : (Jvm.Cond.lays "java/lang/IllegalArgumentException" "java/lang/Throwable" "depth" "I") ∈ lw_all := lw_g (lw_at lw_m3 129 rfl) rfl
theorem q693 : (Jvm.Cond.superclass "java/lang/IllegalArgumentException" "java/lang/RuntimeException") ∈ lw_all := lw_g (lw_at lw_m3 130 rfl) rfl
theorem q1096 : (Jvm.Cond.selects "java/lang/IllegalArgumentException" ({ cls := "java/lang/Object", name := "getClass", desc := "()Ljava/lang/Class;" } : Jvm.MethodName) ({ cls := "java/lang/Object", name := "getClass", desc := "()Ljava/lang/Class;" } : Jvm.MethodName)) ∈ lw_all := lw_g (lw_at lw_m5 53 rfl) rfl
theorem q1117 : (Jvm.Cond.instanceMethod ({ cls := "java/lang/IllegalArgumentException", name := "<init>", desc := "()V" } : Jvm.MethodName)) ∈ lw_all := lw_g (lw_at lw_m5 74 rfl) rfl
theorem q1118 : (Jvm.Cond.code ({ cls := "java/lang/IllegalArgumentException", name := "<init>", desc := "()V" } : Jvm.MethodName) prog_29_method_1_code (1 : Nat) (Option.none : Option Jvm.ClassFile.FieldType)) ∈ lw_all := lw_g (lw_at lw_m5 75 rfl) rfl
theorem q1119 : (Jvm.Cond.methodLink "java/lang/IllegalArgumentException" (1 : Nat) ({ cls := "java/lang/RuntimeException", name := "<init>", desc := "()V" } : Jvm.MethodName)) ∈ lw_all := lw_g (lw_at lw_m5 76 rfl) rfl
theorem q2674 : (Jvm.Cond.castable "java/lang/IllegalArgumentException" "java/lang/Object") ∈ lw_tbl := lw_at lw_m11 191 rfl
theorem in_J20 : ∀ w ∈ wsJ200, w ∈ lw_all := lw_in wsJ200 [605, 606, 607, 608, 609, 692] (by decide +kernel) (by decide +kernel)

/-! java/lang/Integer -/
set_option maxRecDepth 100000
def RJ21 : String := "java/lang/Integer"
abbrev cJ21_stringSize : ByteArray := prog_32_method_13_code
def yJ21_stringSize : MethodName := ⟨RJ21, "stringSize", "(I)I"⟩
def dkwJ21_stringSize_1 : List UInt8 := [164, 0, 7, 29, 27, 96, 172, 16, 10, 28, 104, 61, 132, 3, 1, 167, 255, 233, 16, 10, 27, 96, 172]
abbrev dktJ21_stringSize_1 : List UInt8 := dkwJ21_stringSize_1 ++ []
def dkwJ21_stringSize_0 : List UInt8 := [4, 60, 26, 155, 0, 8, 3, 60, 26, 116, 59, 16, 246, 61, 4, 62, 29, 16, 10, 162, 0, 23, 26, 28]
abbrev dktJ21_stringSize_0 : List UInt8 := dkwJ21_stringSize_0 ++ dktJ21_stringSize_1
theorem dksJ21_stringSize_0 : cJ21_stringSize.data.toList.drop 0 = dktJ21_stringSize_0 := by decide +kernel
theorem dksJ21_stringSize_1 : cJ21_stringSize.data.toList.drop 24 = dktJ21_stringSize_1 := dk_seg dksJ21_stringSize_0 24 rfl rfl
theorem dJ21_stringSize_0 : decode cJ21_stringSize 0 = .ok (.iconst 1, 1) := dk_4 (dk_at dksJ21_stringSize_0 0 rfl rfl)
theorem dJ21_stringSize_1 : decode cJ21_stringSize 1 = .ok (.istore_n 1, 1) := dk_60 (dk_at dksJ21_stringSize_0 1 rfl rfl)
theorem dJ21_stringSize_2 : decode cJ21_stringSize 2 = .ok (.iload_n 0, 1) := dk_26 (dk_at dksJ21_stringSize_0 2 rfl rfl)
theorem dJ21_stringSize_3 : decode cJ21_stringSize 3 = .ok (.ifCond .lt 8, 3) := dk_155 0 8 (dk_at dksJ21_stringSize_0 3 rfl rfl)
theorem dJ21_stringSize_6 : decode cJ21_stringSize 6 = .ok (.iconst 0, 1) := dk_3 (dk_at dksJ21_stringSize_0 6 rfl rfl)
theorem dJ21_stringSize_7 : decode cJ21_stringSize 7 = .ok (.istore_n 1, 1) := dk_60 (dk_at dksJ21_stringSize_0 7 rfl rfl)
theorem dJ21_stringSize_8 : decode cJ21_stringSize 8 = .ok (.iload_n 0, 1) := dk_26 (dk_at dksJ21_stringSize_0 8 rfl rfl)
theorem dJ21_stringSize_9 : decode cJ21_stringSize 9 = .ok (.ineg, 1) := dk_116 (dk_at dksJ21_stringSize_0 9 rfl rfl)
theorem dJ21_stringSize_10 : decode cJ21_stringSize 10 = .ok (.istore_n 0, 1) := dk_59 (dk_at dksJ21_stringSize_0 10 rfl rfl)
theorem dJ21_stringSize_11 : decode cJ21_stringSize 11 = .ok (.bipush (-10), 2) := dk_16 246 (dk_at dksJ21_stringSize_0 11 rfl rfl)
theorem dJ21_stringSize_13 : decode cJ21_stringSize 13 = .ok (.istore_n 2, 1) := dk_61 (dk_at dksJ21_stringSize_0 13 rfl rfl)
theorem dJ21_stringSize_14 : decode cJ21_stringSize 14 = .ok (.iconst 1, 1) := dk_4 (dk_at dksJ21_stringSize_0 14 rfl rfl)
theorem dJ21_stringSize_15 : decode cJ21_stringSize 15 = .ok (.istore_n 3, 1) := dk_62 (dk_at dksJ21_stringSize_0 15 rfl rfl)
theorem dJ21_stringSize_16 : decode cJ21_stringSize 16 = .ok (.iload_n 3, 1) := dk_29 (dk_at dksJ21_stringSize_0 16 rfl rfl)
theorem dJ21_stringSize_17 : decode cJ21_stringSize 17 = .ok (.bipush 10, 2) := dk_16 10 (dk_at dksJ21_stringSize_0 17 rfl rfl)
theorem dJ21_stringSize_19 : decode cJ21_stringSize 19 = .ok (.if_icmp .ge 23, 3) := dk_162 0 23 (dk_at dksJ21_stringSize_0 19 rfl rfl)
theorem dJ21_stringSize_22 : decode cJ21_stringSize 22 = .ok (.iload_n 0, 1) := dk_26 (dk_at dksJ21_stringSize_0 22 rfl rfl)
theorem dJ21_stringSize_23 : decode cJ21_stringSize 23 = .ok (.iload_n 2, 1) := dk_28 (dk_at dksJ21_stringSize_0 23 rfl rfl)
theorem dJ21_stringSize_24 : decode cJ21_stringSize 24 = .ok (.if_icmp .le 7, 3) := dk_164 0 7 (dk_at dksJ21_stringSize_1 0 rfl rfl)
theorem dJ21_stringSize_27 : decode cJ21_stringSize 27 = .ok (.iload_n 3, 1) := dk_29 (dk_at dksJ21_stringSize_1 3 rfl rfl)
theorem dJ21_stringSize_28 : decode cJ21_stringSize 28 = .ok (.iload_n 1, 1) := dk_27 (dk_at dksJ21_stringSize_1 4 rfl rfl)
theorem dJ21_stringSize_29 : decode cJ21_stringSize 29 = .ok (.iadd, 1) := dk_96 (dk_at dksJ21_stringSize_1 5 rfl rfl)
theorem dJ21_stringSize_30 : decode cJ21_stringSize 30 = .ok (.ireturn, 1) := dk_172 (dk_at dksJ21_stringSize_1 6 rfl rfl)
theorem dJ21_stringSize_31 : decode cJ21_stringSize 31 = .ok (.bipush 10, 2) := dk_16 10 (dk_at dksJ21_stringSize_1 7 rfl rfl)
theorem dJ21_stringSize_33 : decode cJ21_stringSize 33 = .ok (.iload_n 2, 1) := dk_28 (dk_at dksJ21_stringSize_1 9 rfl rfl)
theorem dJ21_stringSize_34 : decode cJ21_stringSize 34 = .ok (.imul, 1) := dk_104 (dk_at dksJ21_stringSize_1 10 rfl rfl)
theorem dJ21_stringSize_35 : decode cJ21_stringSize 35 = .ok (.istore_n 2, 1) := dk_61 (dk_at dksJ21_stringSize_1 11 rfl rfl)
theorem dJ21_stringSize_36 : decode cJ21_stringSize 36 = .ok (.iinc 3 1, 3) := dk_132 3 1 (dk_at dksJ21_stringSize_1 12 rfl rfl)
theorem dJ21_stringSize_39 : decode cJ21_stringSize 39 = .ok (.goto (-23), 3) := dk_167 255 233 (dk_at dksJ21_stringSize_1 15 rfl rfl)
theorem dJ21_stringSize_42 : decode cJ21_stringSize 42 = .ok (.bipush 10, 2) := dk_16 10 (dk_at dksJ21_stringSize_1 18 rfl rfl)
theorem dJ21_stringSize_44 : decode cJ21_stringSize 44 = .ok (.iload_n 1, 1) := dk_27 (dk_at dksJ21_stringSize_1 20 rfl rfl)
theorem dJ21_stringSize_45 : decode cJ21_stringSize 45 = .ok (.iadd, 1) := dk_96 (dk_at dksJ21_stringSize_1 21 rfl rfl)
theorem dJ21_stringSize_46 : decode cJ21_stringSize 46 = .ok (.ireturn, 1) := dk_172 (dk_at dksJ21_stringSize_1 22 rfl rfl)
abbrev cJ21_getChars : ByteArray := prog_32_method_12_code
def yJ21_getChars : MethodName := ⟨RJ21, "getChars", "(II[B)I"⟩
def dkwJ21_getChars_5 : List UInt8 := [16, 45, 84, 21, 5, 172]
abbrev dktJ21_getChars_5 : List UInt8 := dkwJ21_getChars_5 ++ []
def dkwJ21_getChars_4 : List UInt8 := [132, 5, 255, 21, 5, 178, 0, 87, 26, 116, 51, 84, 21, 6, 153, 0, 12, 44, 132, 5, 255, 21, 5]
abbrev dktJ21_getChars_4 : List UInt8 := dkwJ21_getChars_4 ++ dktJ21_getChars_5
def dkwJ21_getChars_3 : List UInt8 := [167, 255, 209, 44, 132, 5, 255, 21, 5, 178, 0, 83, 26, 116, 51, 84, 26, 16, 247, 162, 0, 16, 44]
abbrev dktJ21_getChars_3 : List UInt8 := dkwJ21_getChars_3 ++ dktJ21_getChars_4
def dkwJ21_getChars_2 : List UInt8 := [21, 5, 178, 0, 83, 21, 4, 51, 84, 44, 132, 5, 255, 21, 5, 178, 0, 87, 21, 4, 51, 84]
abbrev dktJ21_getChars_2 : List UInt8 := dkwJ21_getChars_2 ++ dktJ21_getChars_3
def dkwJ21_getChars_1 : List UInt8 := [16, 156, 163, 0, 47, 26, 16, 100, 108, 62, 29, 16, 100, 104, 26, 100, 54, 4, 29, 59, 44, 132, 5, 255]
abbrev dktJ21_getChars_1 : List UInt8 := dkwJ21_getChars_1 ++ dktJ21_getChars_2
def dkwJ21_getChars_0 : List UInt8 := [27, 54, 5, 26, 156, 0, 7, 4, 167, 0, 4, 3, 54, 6, 21, 6, 154, 0, 6, 26, 116, 59, 26]
abbrev dktJ21_getChars_0 : List UInt8 := dkwJ21_getChars_0 ++ dktJ21_getChars_1
theorem dksJ21_getChars_0 : cJ21_getChars.data.toList.drop 0 = dktJ21_getChars_0 := by decide +kernel
theorem dksJ21_getChars_1 : cJ21_getChars.data.toList.drop 23 = dktJ21_getChars_1 := dk_seg dksJ21_getChars_0 23 rfl rfl
theorem dksJ21_getChars_2 : cJ21_getChars.data.toList.drop 47 = dktJ21_getChars_2 := dk_seg dksJ21_getChars_1 24 rfl rfl
theorem dksJ21_getChars_3 : cJ21_getChars.data.toList.drop 69 = dktJ21_getChars_3 := dk_seg dksJ21_getChars_2 22 rfl rfl
theorem dksJ21_getChars_4 : cJ21_getChars.data.toList.drop 92 = dktJ21_getChars_4 := dk_seg dksJ21_getChars_3 23 rfl rfl
theorem dksJ21_getChars_5 : cJ21_getChars.data.toList.drop 115 = dktJ21_getChars_5 := dk_seg dksJ21_getChars_4 23 rfl rfl
theorem dJ21_getChars_0 : decode cJ21_getChars 0 = .ok (.iload_n 1, 1) := dk_27 (dk_at dksJ21_getChars_0 0 rfl rfl)
theorem dJ21_getChars_1 : decode cJ21_getChars 1 = .ok (.istore 5, 2) := dk_54 5 (dk_at dksJ21_getChars_0 1 rfl rfl)
theorem dJ21_getChars_3 : decode cJ21_getChars 3 = .ok (.iload_n 0, 1) := dk_26 (dk_at dksJ21_getChars_0 3 rfl rfl)
theorem dJ21_getChars_4 : decode cJ21_getChars 4 = .ok (.ifCond .ge 7, 3) := dk_156 0 7 (dk_at dksJ21_getChars_0 4 rfl rfl)
theorem dJ21_getChars_7 : decode cJ21_getChars 7 = .ok (.iconst 1, 1) := dk_4 (dk_at dksJ21_getChars_0 7 rfl rfl)
theorem dJ21_getChars_8 : decode cJ21_getChars 8 = .ok (.goto 4, 3) := dk_167 0 4 (dk_at dksJ21_getChars_0 8 rfl rfl)
theorem dJ21_getChars_11 : decode cJ21_getChars 11 = .ok (.iconst 0, 1) := dk_3 (dk_at dksJ21_getChars_0 11 rfl rfl)
theorem dJ21_getChars_12 : decode cJ21_getChars 12 = .ok (.istore 6, 2) := dk_54 6 (dk_at dksJ21_getChars_0 12 rfl rfl)
theorem dJ21_getChars_14 : decode cJ21_getChars 14 = .ok (.iload 6, 2) := dk_21 6 (dk_at dksJ21_getChars_0 14 rfl rfl)
theorem dJ21_getChars_16 : decode cJ21_getChars 16 = .ok (.ifCond .ne 6, 3) := dk_154 0 6 (dk_at dksJ21_getChars_0 16 rfl rfl)
theorem dJ21_getChars_19 : decode cJ21_getChars 19 = .ok (.iload_n 0, 1) := dk_26 (dk_at dksJ21_getChars_0 19 rfl rfl)
theorem dJ21_getChars_20 : decode cJ21_getChars 20 = .ok (.ineg, 1) := dk_116 (dk_at dksJ21_getChars_0 20 rfl rfl)
theorem dJ21_getChars_21 : decode cJ21_getChars 21 = .ok (.istore_n 0, 1) := dk_59 (dk_at dksJ21_getChars_0 21 rfl rfl)
theorem dJ21_getChars_22 : decode cJ21_getChars 22 = .ok (.iload_n 0, 1) := dk_26 (dk_at dksJ21_getChars_0 22 rfl rfl)
theorem dJ21_getChars_23 : decode cJ21_getChars 23 = .ok (.bipush (-100), 2) := dk_16 156 (dk_at dksJ21_getChars_1 0 rfl rfl)
theorem dJ21_getChars_25 : decode cJ21_getChars 25 = .ok (.if_icmp .gt 47, 3) := dk_163 0 47 (dk_at dksJ21_getChars_1 2 rfl rfl)
theorem dJ21_getChars_28 : decode cJ21_getChars 28 = .ok (.iload_n 0, 1) := dk_26 (dk_at dksJ21_getChars_1 5 rfl rfl)
theorem dJ21_getChars_29 : decode cJ21_getChars 29 = .ok (.bipush 100, 2) := dk_16 100 (dk_at dksJ21_getChars_1 6 rfl rfl)
theorem dJ21_getChars_31 : decode cJ21_getChars 31 = .ok (.idiv, 1) := dk_108 (dk_at dksJ21_getChars_1 8 rfl rfl)
theorem dJ21_getChars_32 : decode cJ21_getChars 32 = .ok (.istore_n 3, 1) := dk_62 (dk_at dksJ21_getChars_1 9 rfl rfl)
theorem dJ21_getChars_33 : decode cJ21_getChars 33 = .ok (.iload_n 3, 1) := dk_29 (dk_at dksJ21_getChars_1 10 rfl rfl)
theorem dJ21_getChars_34 : decode cJ21_getChars 34 = .ok (.bipush 100, 2) := dk_16 100 (dk_at dksJ21_getChars_1 11 rfl rfl)
theorem dJ21_getChars_36 : decode cJ21_getChars 36 = .ok (.imul, 1) := dk_104 (dk_at dksJ21_getChars_1 13 rfl rfl)
theorem dJ21_getChars_37 : decode cJ21_getChars 37 = .ok (.iload_n 0, 1) := dk_26 (dk_at dksJ21_getChars_1 14 rfl rfl)
theorem dJ21_getChars_38 : decode cJ21_getChars 38 = .ok (.isub, 1) := dk_100 (dk_at dksJ21_getChars_1 15 rfl rfl)
theorem dJ21_getChars_39 : decode cJ21_getChars 39 = .ok (.istore 4, 2) := dk_54 4 (dk_at dksJ21_getChars_1 16 rfl rfl)
theorem dJ21_getChars_41 : decode cJ21_getChars 41 = .ok (.iload_n 3, 1) := dk_29 (dk_at dksJ21_getChars_1 18 rfl rfl)
theorem dJ21_getChars_42 : decode cJ21_getChars 42 = .ok (.istore_n 0, 1) := dk_59 (dk_at dksJ21_getChars_1 19 rfl rfl)
theorem dJ21_getChars_43 : decode cJ21_getChars 43 = .ok (.aload_n 2, 1) := dk_44 (dk_at dksJ21_getChars_1 20 rfl rfl)
theorem dJ21_getChars_44 : decode cJ21_getChars 44 = .ok (.iinc 5 (-1), 3) := dk_132 5 255 (dk_at dksJ21_getChars_1 21 rfl rfl)
theorem dJ21_getChars_47 : decode cJ21_getChars 47 = .ok (.iload 5, 2) := dk_21 5 (dk_at dksJ21_getChars_2 0 rfl rfl)
theorem dJ21_getChars_49 : decode cJ21_getChars 49 = .ok (.getstatic 83, 3) := dk_178 0 83 (dk_at dksJ21_getChars_2 2 rfl rfl)
theorem dJ21_getChars_52 : decode cJ21_getChars 52 = .ok (.iload 4, 2) := dk_21 4 (dk_at dksJ21_getChars_2 5 rfl rfl)
theorem dJ21_getChars_54 : decode cJ21_getChars 54 = .ok (.baload, 1) := dk_51 (dk_at dksJ21_getChars_2 7 rfl rfl)
theorem dJ21_getChars_55 : decode cJ21_getChars 55 = .ok (.bastore, 1) := dk_84 (dk_at dksJ21_getChars_2 8 rfl rfl)
theorem dJ21_getChars_56 : decode cJ21_getChars 56 = .ok (.aload_n 2, 1) := dk_44 (dk_at dksJ21_getChars_2 9 rfl rfl)
theorem dJ21_getChars_57 : decode cJ21_getChars 57 = .ok (.iinc 5 (-1), 3) := dk_132 5 255 (dk_at dksJ21_getChars_2 10 rfl rfl)
theorem dJ21_getChars_60 : decode cJ21_getChars 60 = .ok (.iload 5, 2) := dk_21 5 (dk_at dksJ21_getChars_2 13 rfl rfl)
theorem dJ21_getChars_62 : decode cJ21_getChars 62 = .ok (.getstatic 87, 3) := dk_178 0 87 (dk_at dksJ21_getChars_2 15 rfl rfl)
theorem dJ21_getChars_65 : decode cJ21_getChars 65 = .ok (.iload 4, 2) := dk_21 4 (dk_at dksJ21_getChars_2 18 rfl rfl)
theorem dJ21_getChars_67 : decode cJ21_getChars 67 = .ok (.baload, 1) := dk_51 (dk_at dksJ21_getChars_2 20 rfl rfl)
theorem dJ21_getChars_68 : decode cJ21_getChars 68 = .ok (.bastore, 1) := dk_84 (dk_at dksJ21_getChars_2 21 rfl rfl)
theorem dJ21_getChars_69 : decode cJ21_getChars 69 = .ok (.goto (-47), 3) := dk_167 255 209 (dk_at dksJ21_getChars_3 0 rfl rfl)
theorem dJ21_getChars_72 : decode cJ21_getChars 72 = .ok (.aload_n 2, 1) := dk_44 (dk_at dksJ21_getChars_3 3 rfl rfl)
theorem dJ21_getChars_73 : decode cJ21_getChars 73 = .ok (.iinc 5 (-1), 3) := dk_132 5 255 (dk_at dksJ21_getChars_3 4 rfl rfl)
theorem dJ21_getChars_76 : decode cJ21_getChars 76 = .ok (.iload 5, 2) := dk_21 5 (dk_at dksJ21_getChars_3 7 rfl rfl)
theorem dJ21_getChars_78 : decode cJ21_getChars 78 = .ok (.getstatic 83, 3) := dk_178 0 83 (dk_at dksJ21_getChars_3 9 rfl rfl)
theorem dJ21_getChars_81 : decode cJ21_getChars 81 = .ok (.iload_n 0, 1) := dk_26 (dk_at dksJ21_getChars_3 12 rfl rfl)
theorem dJ21_getChars_82 : decode cJ21_getChars 82 = .ok (.ineg, 1) := dk_116 (dk_at dksJ21_getChars_3 13 rfl rfl)
theorem dJ21_getChars_83 : decode cJ21_getChars 83 = .ok (.baload, 1) := dk_51 (dk_at dksJ21_getChars_3 14 rfl rfl)
theorem dJ21_getChars_84 : decode cJ21_getChars 84 = .ok (.bastore, 1) := dk_84 (dk_at dksJ21_getChars_3 15 rfl rfl)
theorem dJ21_getChars_85 : decode cJ21_getChars 85 = .ok (.iload_n 0, 1) := dk_26 (dk_at dksJ21_getChars_3 16 rfl rfl)
theorem dJ21_getChars_86 : decode cJ21_getChars 86 = .ok (.bipush (-9), 2) := dk_16 247 (dk_at dksJ21_getChars_3 17 rfl rfl)
theorem dJ21_getChars_88 : decode cJ21_getChars 88 = .ok (.if_icmp .ge 16, 3) := dk_162 0 16 (dk_at dksJ21_getChars_3 19 rfl rfl)
theorem dJ21_getChars_91 : decode cJ21_getChars 91 = .ok (.aload_n 2, 1) := dk_44 (dk_at dksJ21_getChars_3 22 rfl rfl)
theorem dJ21_getChars_92 : decode cJ21_getChars 92 = .ok (.iinc 5 (-1), 3) := dk_132 5 255 (dk_at dksJ21_getChars_4 0 rfl rfl)
theorem dJ21_getChars_95 : decode cJ21_getChars 95 = .ok (.iload 5, 2) := dk_21 5 (dk_at dksJ21_getChars_4 3 rfl rfl)
theorem dJ21_getChars_97 : decode cJ21_getChars 97 = .ok (.getstatic 87, 3) := dk_178 0 87 (dk_at dksJ21_getChars_4 5 rfl rfl)
theorem dJ21_getChars_100 : decode cJ21_getChars 100 = .ok (.iload_n 0, 1) := dk_26 (dk_at dksJ21_getChars_4 8 rfl rfl)
theorem dJ21_getChars_101 : decode cJ21_getChars 101 = .ok (.ineg, 1) := dk_116 (dk_at dksJ21_getChars_4 9 rfl rfl)
theorem dJ21_getChars_102 : decode cJ21_getChars 102 = .ok (.baload, 1) := dk_51 (dk_at dksJ21_getChars_4 10 rfl rfl)
theorem dJ21_getChars_103 : decode cJ21_getChars 103 = .ok (.bastore, 1) := dk_84 (dk_at dksJ21_getChars_4 11 rfl rfl)
theorem dJ21_getChars_104 : decode cJ21_getChars 104 = .ok (.iload 6, 2) := dk_21 6 (dk_at dksJ21_getChars_4 12 rfl rfl)
theorem dJ21_getChars_106 : decode cJ21_getChars 106 = .ok (.ifCond .eq 12, 3) := dk_153 0 12 (dk_at dksJ21_getChars_4 14 rfl rfl)
theorem dJ21_getChars_109 : decode cJ21_getChars 109 = .ok (.aload_n 2, 1) := dk_44 (dk_at dksJ21_getChars_4 17 rfl rfl)
theorem dJ21_getChars_110 : decode cJ21_getChars 110 = .ok (.iinc 5 (-1), 3) := dk_132 5 255 (dk_at dksJ21_getChars_4 18 rfl rfl)
theorem dJ21_getChars_113 : decode cJ21_getChars 113 = .ok (.iload 5, 2) := dk_21 5 (dk_at dksJ21_getChars_4 21 rfl rfl)
theorem dJ21_getChars_115 : decode cJ21_getChars 115 = .ok (.bipush 45, 2) := dk_16 45 (dk_at dksJ21_getChars_5 0 rfl rfl)
theorem dJ21_getChars_117 : decode cJ21_getChars 117 = .ok (.bastore, 1) := dk_84 (dk_at dksJ21_getChars_5 2 rfl rfl)
theorem dJ21_getChars_118 : decode cJ21_getChars 118 = .ok (.iload 5, 2) := dk_21 5 (dk_at dksJ21_getChars_5 3 rfl rfl)
theorem dJ21_getChars_120 : decode cJ21_getChars 120 = .ok (.ireturn, 1) := dk_172 (dk_at dksJ21_getChars_5 5 rfl rfl)
abbrev cJ21_compare : ByteArray := prog_32_method_40_code
def yJ21_compare : MethodName := ⟨RJ21, "compare", "(II)I"⟩
def dkwJ21_compare_0 : List UInt8 := [26, 27, 162, 0, 7, 2, 167, 0, 13, 26, 27, 160, 0, 7, 3, 167, 0, 4, 4, 172]
abbrev dktJ21_compare_0 : List UInt8 := dkwJ21_compare_0 ++ []
theorem dksJ21_compare_0 : cJ21_compare.data.toList.drop 0 = dktJ21_compare_0 := by decide +kernel
theorem dJ21_compare_0 : decode cJ21_compare 0 = .ok (.iload_n 0, 1) := dk_26 (dk_at dksJ21_compare_0 0 rfl rfl)
theorem dJ21_compare_1 : decode cJ21_compare 1 = .ok (.iload_n 1, 1) := dk_27 (dk_at dksJ21_compare_0 1 rfl rfl)
theorem dJ21_compare_2 : decode cJ21_compare 2 = .ok (.if_icmp .ge 7, 3) := dk_162 0 7 (dk_at dksJ21_compare_0 2 rfl rfl)
theorem dJ21_compare_5 : decode cJ21_compare 5 = .ok (.iconst (-1), 1) := dk_2 (dk_at dksJ21_compare_0 5 rfl rfl)
theorem dJ21_compare_6 : decode cJ21_compare 6 = .ok (.goto 13, 3) := dk_167 0 13 (dk_at dksJ21_compare_0 6 rfl rfl)
theorem dJ21_compare_9 : decode cJ21_compare 9 = .ok (.iload_n 0, 1) := dk_26 (dk_at dksJ21_compare_0 9 rfl rfl)
theorem dJ21_compare_10 : decode cJ21_compare 10 = .ok (.iload_n 1, 1) := dk_27 (dk_at dksJ21_compare_0 10 rfl rfl)
theorem dJ21_compare_11 : decode cJ21_compare 11 = .ok (.if_icmp .ne 7, 3) := dk_160 0 7 (dk_at dksJ21_compare_0 11 rfl rfl)
theorem dJ21_compare_14 : decode cJ21_compare 14 = .ok (.iconst 0, 1) := dk_3 (dk_at dksJ21_compare_0 14 rfl rfl)
theorem dJ21_compare_15 : decode cJ21_compare 15 = .ok (.goto 4, 3) := dk_167 0 4 (dk_at dksJ21_compare_0 15 rfl rfl)
theorem dJ21_compare_18 : decode cJ21_compare 18 = .ok (.iconst 1, 1) := dk_4 (dk_at dksJ21_compare_0 18 rfl rfl)
theorem dJ21_compare_19 : decode cJ21_compare 19 = .ok (.ireturn, 1) := dk_172 (dk_at dksJ21_compare_0 19 rfl rfl)
abbrev cJ21_numberOfLeadingZeros : ByteArray := prog_32_method_47_code
def yJ21_numberOfLeadingZeros : MethodName := ⟨RJ21, "numberOfLeadingZeros", "(I)I"⟩
def dkwJ21_numberOfLeadingZeros_3 : List UInt8 := [5, 124, 59, 27, 26, 4, 124, 100, 172]
abbrev dktJ21_numberOfLeadingZeros_3 : List UInt8 := dkwJ21_numberOfLeadingZeros_3 ++ []
def dkwJ21_numberOfLeadingZeros_2 : List UInt8 := [124, 59, 26, 16, 16, 161, 0, 10, 132, 1, 252, 26, 7, 124, 59, 26, 7, 161, 0, 10, 132, 1, 254, 26]
abbrev dktJ21_numberOfLeadingZeros_2 : List UInt8 := dkwJ21_numberOfLeadingZeros_2 ++ dktJ21_numberOfLeadingZeros_3
def dkwJ21_numberOfLeadingZeros_1 : List UInt8 := [161, 0, 11, 132, 1, 240, 26, 16, 16, 124, 59, 26, 17, 1, 0, 161, 0, 11, 132, 1, 248, 26, 16, 8]
abbrev dktJ21_numberOfLeadingZeros_1 : List UInt8 := dkwJ21_numberOfLeadingZeros_1 ++ dktJ21_numberOfLeadingZeros_2
def dkwJ21_numberOfLeadingZeros_0 : List UInt8 := [26, 157, 0, 14, 26, 154, 0, 8, 16, 32, 167, 0, 4, 3, 172, 16, 31, 60, 26, 19, 1, 8]
abbrev dktJ21_numberOfLeadingZeros_0 : List UInt8 := dkwJ21_numberOfLeadingZeros_0 ++ dktJ21_numberOfLeadingZeros_1
theorem dksJ21_numberOfLeadingZeros_0 : cJ21_numberOfLeadingZeros.data.toList.drop 0 = dktJ21_numberOfLeadingZeros_0 := by decide +kernel
theorem dksJ21_numberOfLeadingZeros_1 : cJ21_numberOfLeadingZeros.data.toList.drop 22 = dktJ21_numberOfLeadingZeros_1 := dk_seg dksJ21_numberOfLeadingZeros_0 22 rfl rfl
theorem dksJ21_numberOfLeadingZeros_2 : cJ21_numberOfLeadingZeros.data.toList.drop 46 = dktJ21_numberOfLeadingZeros_2 := dk_seg dksJ21_numberOfLeadingZeros_1 24 rfl rfl
theorem dksJ21_numberOfLeadingZeros_3 : cJ21_numberOfLeadingZeros.data.toList.drop 70 = dktJ21_numberOfLeadingZeros_3 := dk_seg dksJ21_numberOfLeadingZeros_2 24 rfl rfl
theorem dJ21_numberOfLeadingZeros_0 : decode cJ21_numberOfLeadingZeros 0 = .ok (.iload_n 0, 1) := dk_26 (dk_at dksJ21_numberOfLeadingZeros_0 0 rfl rfl)
theorem dJ21_numberOfLeadingZeros_1 : decode cJ21_numberOfLeadingZeros 1 = .ok (.ifCond .gt 14, 3) := dk_157 0 14 (dk_at dksJ21_numberOfLeadingZeros_0 1 rfl rfl)
theorem dJ21_numberOfLeadingZeros_4 : decode cJ21_numberOfLeadingZeros 4 = .ok (.iload_n 0, 1) := dk_26 (dk_at dksJ21_numberOfLeadingZeros_0 4 rfl rfl)
theorem dJ21_numberOfLeadingZeros_5 : decode cJ21_numberOfLeadingZeros 5 = .ok (.ifCond .ne 8, 3) := dk_154 0 8 (dk_at dksJ21_numberOfLeadingZeros_0 5 rfl rfl)
theorem dJ21_numberOfLeadingZeros_8 : decode cJ21_numberOfLeadingZeros 8 = .ok (.bipush 32, 2) := dk_16 32 (dk_at dksJ21_numberOfLeadingZeros_0 8 rfl rfl)
theorem dJ21_numberOfLeadingZeros_10 : decode cJ21_numberOfLeadingZeros 10 = .ok (.goto 4, 3) := dk_167 0 4 (dk_at dksJ21_numberOfLeadingZeros_0 10 rfl rfl)
theorem dJ21_numberOfLeadingZeros_13 : decode cJ21_numberOfLeadingZeros 13 = .ok (.iconst 0, 1) := dk_3 (dk_at dksJ21_numberOfLeadingZeros_0 13 rfl rfl)
theorem dJ21_numberOfLeadingZeros_14 : decode cJ21_numberOfLeadingZeros 14 = .ok (.ireturn, 1) := dk_172 (dk_at dksJ21_numberOfLeadingZeros_0 14 rfl rfl)
theorem dJ21_numberOfLeadingZeros_15 : decode cJ21_numberOfLeadingZeros 15 = .ok (.bipush 31, 2) := dk_16 31 (dk_at dksJ21_numberOfLeadingZeros_0 15 rfl rfl)
theorem dJ21_numberOfLeadingZeros_17 : decode cJ21_numberOfLeadingZeros 17 = .ok (.istore_n 1, 1) := dk_60 (dk_at dksJ21_numberOfLeadingZeros_0 17 rfl rfl)
theorem dJ21_numberOfLeadingZeros_18 : decode cJ21_numberOfLeadingZeros 18 = .ok (.iload_n 0, 1) := dk_26 (dk_at dksJ21_numberOfLeadingZeros_0 18 rfl rfl)
theorem dJ21_numberOfLeadingZeros_19 : decode cJ21_numberOfLeadingZeros 19 = .ok (.ldc_w 264, 3) := dk_19 1 8 (dk_at dksJ21_numberOfLeadingZeros_0 19 rfl rfl)
theorem dJ21_numberOfLeadingZeros_22 : decode cJ21_numberOfLeadingZeros 22 = .ok (.if_icmp .lt 11, 3) := dk_161 0 11 (dk_at dksJ21_numberOfLeadingZeros_1 0 rfl rfl)
theorem dJ21_numberOfLeadingZeros_25 : decode cJ21_numberOfLeadingZeros 25 = .ok (.iinc 1 (-16), 3) := dk_132 1 240 (dk_at dksJ21_numberOfLeadingZeros_1 3 rfl rfl)
theorem dJ21_numberOfLeadingZeros_28 : decode cJ21_numberOfLeadingZeros 28 = .ok (.iload_n 0, 1) := dk_26 (dk_at dksJ21_numberOfLeadingZeros_1 6 rfl rfl)
theorem dJ21_numberOfLeadingZeros_29 : decode cJ21_numberOfLeadingZeros 29 = .ok (.bipush 16, 2) := dk_16 16 (dk_at dksJ21_numberOfLeadingZeros_1 7 rfl rfl)
theorem dJ21_numberOfLeadingZeros_31 : decode cJ21_numberOfLeadingZeros 31 = .ok (.iushr, 1) := dk_124 (dk_at dksJ21_numberOfLeadingZeros_1 9 rfl rfl)
theorem dJ21_numberOfLeadingZeros_32 : decode cJ21_numberOfLeadingZeros 32 = .ok (.istore_n 0, 1) := dk_59 (dk_at dksJ21_numberOfLeadingZeros_1 10 rfl rfl)
theorem dJ21_numberOfLeadingZeros_33 : decode cJ21_numberOfLeadingZeros 33 = .ok (.iload_n 0, 1) := dk_26 (dk_at dksJ21_numberOfLeadingZeros_1 11 rfl rfl)
theorem dJ21_numberOfLeadingZeros_34 : decode cJ21_numberOfLeadingZeros 34 = .ok (.sipush 256, 3) := dk_17 1 0 (dk_at dksJ21_numberOfLeadingZeros_1 12 rfl rfl)
theorem dJ21_numberOfLeadingZeros_37 : decode cJ21_numberOfLeadingZeros 37 = .ok (.if_icmp .lt 11, 3) := dk_161 0 11 (dk_at dksJ21_numberOfLeadingZeros_1 15 rfl rfl)
theorem dJ21_numberOfLeadingZeros_40 : decode cJ21_numberOfLeadingZeros 40 = .ok (.iinc 1 (-8), 3) := dk_132 1 248 (dk_at dksJ21_numberOfLeadingZeros_1 18 rfl rfl)
theorem dJ21_numberOfLeadingZeros_43 : decode cJ21_numberOfLeadingZeros 43 = .ok (.iload_n 0, 1) := dk_26 (dk_at dksJ21_numberOfLeadingZeros_1 21 rfl rfl)
theorem dJ21_numberOfLeadingZeros_44 : decode cJ21_numberOfLeadingZeros 44 = .ok (.bipush 8, 2) := dk_16 8 (dk_at dksJ21_numberOfLeadingZeros_1 22 rfl rfl)
theorem dJ21_numberOfLeadingZeros_46 : decode cJ21_numberOfLeadingZeros 46 = .ok (.iushr, 1) := dk_124 (dk_at dksJ21_numberOfLeadingZeros_2 0 rfl rfl)
theorem dJ21_numberOfLeadingZeros_47 : decode cJ21_numberOfLeadingZeros 47 = .ok (.istore_n 0, 1) := dk_59 (dk_at dksJ21_numberOfLeadingZeros_2 1 rfl rfl)
theorem dJ21_numberOfLeadingZeros_48 : decode cJ21_numberOfLeadingZeros 48 = .ok (.iload_n 0, 1) := dk_26 (dk_at dksJ21_numberOfLeadingZeros_2 2 rfl rfl)
theorem dJ21_numberOfLeadingZeros_49 : decode cJ21_numberOfLeadingZeros 49 = .ok (.bipush 16, 2) := dk_16 16 (dk_at dksJ21_numberOfLeadingZeros_2 3 rfl rfl)
theorem dJ21_numberOfLeadingZeros_51 : decode cJ21_numberOfLeadingZeros 51 = .ok (.if_icmp .lt 10, 3) := dk_161 0 10 (dk_at dksJ21_numberOfLeadingZeros_2 5 rfl rfl)
theorem dJ21_numberOfLeadingZeros_54 : decode cJ21_numberOfLeadingZeros 54 = .ok (.iinc 1 (-4), 3) := dk_132 1 252 (dk_at dksJ21_numberOfLeadingZeros_2 8 rfl rfl)
theorem dJ21_numberOfLeadingZeros_57 : decode cJ21_numberOfLeadingZeros 57 = .ok (.iload_n 0, 1) := dk_26 (dk_at dksJ21_numberOfLeadingZeros_2 11 rfl rfl)
theorem dJ21_numberOfLeadingZeros_58 : decode cJ21_numberOfLeadingZeros 58 = .ok (.iconst 4, 1) := dk_7 (dk_at dksJ21_numberOfLeadingZeros_2 12 rfl rfl)
theorem dJ21_numberOfLeadingZeros_59 : decode cJ21_numberOfLeadingZeros 59 = .ok (.iushr, 1) := dk_124 (dk_at dksJ21_numberOfLeadingZeros_2 13 rfl rfl)
theorem dJ21_numberOfLeadingZeros_60 : decode cJ21_numberOfLeadingZeros 60 = .ok (.istore_n 0, 1) := dk_59 (dk_at dksJ21_numberOfLeadingZeros_2 14 rfl rfl)
theorem dJ21_numberOfLeadingZeros_61 : decode cJ21_numberOfLeadingZeros 61 = .ok (.iload_n 0, 1) := dk_26 (dk_at dksJ21_numberOfLeadingZeros_2 15 rfl rfl)
theorem dJ21_numberOfLeadingZeros_62 : decode cJ21_numberOfLeadingZeros 62 = .ok (.iconst 4, 1) := dk_7 (dk_at dksJ21_numberOfLeadingZeros_2 16 rfl rfl)
theorem dJ21_numberOfLeadingZeros_63 : decode cJ21_numberOfLeadingZeros 63 = .ok (.if_icmp .lt 10, 3) := dk_161 0 10 (dk_at dksJ21_numberOfLeadingZeros_2 17 rfl rfl)
theorem dJ21_numberOfLeadingZeros_66 : decode cJ21_numberOfLeadingZeros 66 = .ok (.iinc 1 (-2), 3) := dk_132 1 254 (dk_at dksJ21_numberOfLeadingZeros_2 20 rfl rfl)
theorem dJ21_numberOfLeadingZeros_69 : decode cJ21_numberOfLeadingZeros 69 = .ok (.iload_n 0, 1) := dk_26 (dk_at dksJ21_numberOfLeadingZeros_2 23 rfl rfl)
theorem dJ21_numberOfLeadingZeros_70 : decode cJ21_numberOfLeadingZeros 70 = .ok (.iconst 2, 1) := dk_5 (dk_at dksJ21_numberOfLeadingZeros_3 0 rfl rfl)
theorem dJ21_numberOfLeadingZeros_71 : decode cJ21_numberOfLeadingZeros 71 = .ok (.iushr, 1) := dk_124 (dk_at dksJ21_numberOfLeadingZeros_3 1 rfl rfl)
theorem dJ21_numberOfLeadingZeros_72 : decode cJ21_numberOfLeadingZeros 72 = .ok (.istore_n 0, 1) := dk_59 (dk_at dksJ21_numberOfLeadingZeros_3 2 rfl rfl)
theorem dJ21_numberOfLeadingZeros_73 : decode cJ21_numberOfLeadingZeros 73 = .ok (.iload_n 1, 1) := dk_27 (dk_at dksJ21_numberOfLeadingZeros_3 3 rfl rfl)
theorem dJ21_numberOfLeadingZeros_74 : decode cJ21_numberOfLeadingZeros 74 = .ok (.iload_n 0, 1) := dk_26 (dk_at dksJ21_numberOfLeadingZeros_3 4 rfl rfl)
theorem dJ21_numberOfLeadingZeros_75 : decode cJ21_numberOfLeadingZeros 75 = .ok (.iconst 1, 1) := dk_4 (dk_at dksJ21_numberOfLeadingZeros_3 5 rfl rfl)
theorem dJ21_numberOfLeadingZeros_76 : decode cJ21_numberOfLeadingZeros 76 = .ok (.iushr, 1) := dk_124 (dk_at dksJ21_numberOfLeadingZeros_3 6 rfl rfl)
theorem dJ21_numberOfLeadingZeros_77 : decode cJ21_numberOfLeadingZeros 77 = .ok (.isub, 1) := dk_100 (dk_at dksJ21_numberOfLeadingZeros_3 7 rfl rfl)
theorem dJ21_numberOfLeadingZeros_78 : decode cJ21_numberOfLeadingZeros 78 = .ok (.ireturn, 1) := dk_172 (dk_at dksJ21_numberOfLeadingZeros_3 8 rfl rfl)
abbrev cJ21_numberOfTrailingZeros : ByteArray := prog_32_method_48_code
def yJ21_numberOfTrailingZeros : MethodName := ⟨RJ21, "numberOfTrailingZeros", "(I)I"⟩
def dkwJ21_numberOfTrailingZeros_3 : List UInt8 := [5, 124, 59, 27, 26, 4, 124, 96, 172]
abbrev dktJ21_numberOfTrailingZeros_3 : List UInt8 := dkwJ21_numberOfTrailingZeros_3 ++ []
def dkwJ21_numberOfTrailingZeros_2 : List UInt8 := [124, 59, 26, 16, 16, 164, 0, 10, 132, 1, 4, 26, 7, 124, 59, 26, 7, 164, 0, 10, 132, 1, 2, 26]
abbrev dktJ21_numberOfTrailingZeros_2 : List UInt8 := dkwJ21_numberOfTrailingZeros_2 ++ dktJ21_numberOfTrailingZeros_3
def dkwJ21_numberOfTrailingZeros_1 : List UInt8 := [164, 0, 11, 132, 1, 16, 26, 16, 16, 124, 59, 26, 17, 1, 0, 164, 0, 11, 132, 1, 8, 26, 16, 8]
abbrev dktJ21_numberOfTrailingZeros_1 : List UInt8 := dkwJ21_numberOfTrailingZeros_1 ++ dktJ21_numberOfTrailingZeros_2
def dkwJ21_numberOfTrailingZeros_0 : List UInt8 := [26, 2, 130, 26, 4, 100, 126, 59, 26, 157, 0, 8, 26, 16, 32, 126, 172, 4, 60, 26, 19, 1, 8]
abbrev dktJ21_numberOfTrailingZeros_0 : List UInt8 := dkwJ21_numberOfTrailingZeros_0 ++ dktJ21_numberOfTrailingZeros_1
theorem dksJ21_numberOfTrailingZeros_0 : cJ21_numberOfTrailingZeros.data.toList.drop 0 = dktJ21_numberOfTrailingZeros_0 := by decide +kernel
theorem dksJ21_numberOfTrailingZeros_1 : cJ21_numberOfTrailingZeros.data.toList.drop 23 = dktJ21_numberOfTrailingZeros_1 := dk_seg dksJ21_numberOfTrailingZeros_0 23 rfl rfl
theorem dksJ21_numberOfTrailingZeros_2 : cJ21_numberOfTrailingZeros.data.toList.drop 47 = dktJ21_numberOfTrailingZeros_2 := dk_seg dksJ21_numberOfTrailingZeros_1 24 rfl rfl
theorem dksJ21_numberOfTrailingZeros_3 : cJ21_numberOfTrailingZeros.data.toList.drop 71 = dktJ21_numberOfTrailingZeros_3 := dk_seg dksJ21_numberOfTrailingZeros_2 24 rfl rfl
theorem dJ21_numberOfTrailingZeros_0 : decode cJ21_numberOfTrailingZeros 0 = .ok (.iload_n 0, 1) := dk_26 (dk_at dksJ21_numberOfTrailingZeros_0 0 rfl rfl)
theorem dJ21_numberOfTrailingZeros_1 : decode cJ21_numberOfTrailingZeros 1 = .ok (.iconst (-1), 1) := dk_2 (dk_at dksJ21_numberOfTrailingZeros_0 1 rfl rfl)
theorem dJ21_numberOfTrailingZeros_2 : decode cJ21_numberOfTrailingZeros 2 = .ok (.ixor, 1) := dk_130 (dk_at dksJ21_numberOfTrailingZeros_0 2 rfl rfl)
theorem dJ21_numberOfTrailingZeros_3 : decode cJ21_numberOfTrailingZeros 3 = .ok (.iload_n 0, 1) := dk_26 (dk_at dksJ21_numberOfTrailingZeros_0 3 rfl rfl)
theorem dJ21_numberOfTrailingZeros_4 : decode cJ21_numberOfTrailingZeros 4 = .ok (.iconst 1, 1) := dk_4 (dk_at dksJ21_numberOfTrailingZeros_0 4 rfl rfl)
theorem dJ21_numberOfTrailingZeros_5 : decode cJ21_numberOfTrailingZeros 5 = .ok (.isub, 1) := dk_100 (dk_at dksJ21_numberOfTrailingZeros_0 5 rfl rfl)
theorem dJ21_numberOfTrailingZeros_6 : decode cJ21_numberOfTrailingZeros 6 = .ok (.iand, 1) := dk_126 (dk_at dksJ21_numberOfTrailingZeros_0 6 rfl rfl)
theorem dJ21_numberOfTrailingZeros_7 : decode cJ21_numberOfTrailingZeros 7 = .ok (.istore_n 0, 1) := dk_59 (dk_at dksJ21_numberOfTrailingZeros_0 7 rfl rfl)
theorem dJ21_numberOfTrailingZeros_8 : decode cJ21_numberOfTrailingZeros 8 = .ok (.iload_n 0, 1) := dk_26 (dk_at dksJ21_numberOfTrailingZeros_0 8 rfl rfl)
theorem dJ21_numberOfTrailingZeros_9 : decode cJ21_numberOfTrailingZeros 9 = .ok (.ifCond .gt 8, 3) := dk_157 0 8 (dk_at dksJ21_numberOfTrailingZeros_0 9 rfl rfl)
theorem dJ21_numberOfTrailingZeros_12 : decode cJ21_numberOfTrailingZeros 12 = .ok (.iload_n 0, 1) := dk_26 (dk_at dksJ21_numberOfTrailingZeros_0 12 rfl rfl)
theorem dJ21_numberOfTrailingZeros_13 : decode cJ21_numberOfTrailingZeros 13 = .ok (.bipush 32, 2) := dk_16 32 (dk_at dksJ21_numberOfTrailingZeros_0 13 rfl rfl)
theorem dJ21_numberOfTrailingZeros_15 : decode cJ21_numberOfTrailingZeros 15 = .ok (.iand, 1) := dk_126 (dk_at dksJ21_numberOfTrailingZeros_0 15 rfl rfl)
theorem dJ21_numberOfTrailingZeros_16 : decode cJ21_numberOfTrailingZeros 16 = .ok (.ireturn, 1) := dk_172 (dk_at dksJ21_numberOfTrailingZeros_0 16 rfl rfl)
theorem dJ21_numberOfTrailingZeros_17 : decode cJ21_numberOfTrailingZeros 17 = .ok (.iconst 1, 1) := dk_4 (dk_at dksJ21_numberOfTrailingZeros_0 17 rfl rfl)
theorem dJ21_numberOfTrailingZeros_18 : decode cJ21_numberOfTrailingZeros 18 = .ok (.istore_n 1, 1) := dk_60 (dk_at dksJ21_numberOfTrailingZeros_0 18 rfl rfl)
theorem dJ21_numberOfTrailingZeros_19 : decode cJ21_numberOfTrailingZeros 19 = .ok (.iload_n 0, 1) := dk_26 (dk_at dksJ21_numberOfTrailingZeros_0 19 rfl rfl)
theorem dJ21_numberOfTrailingZeros_20 : decode cJ21_numberOfTrailingZeros 20 = .ok (.ldc_w 264, 3) := dk_19 1 8 (dk_at dksJ21_numberOfTrailingZeros_0 20 rfl rfl)
theorem dJ21_numberOfTrailingZeros_23 : decode cJ21_numberOfTrailingZeros 23 = .ok (.if_icmp .le 11, 3) := dk_164 0 11 (dk_at dksJ21_numberOfTrailingZeros_1 0 rfl rfl)
theorem dJ21_numberOfTrailingZeros_26 : decode cJ21_numberOfTrailingZeros 26 = .ok (.iinc 1 16, 3) := dk_132 1 16 (dk_at dksJ21_numberOfTrailingZeros_1 3 rfl rfl)
theorem dJ21_numberOfTrailingZeros_29 : decode cJ21_numberOfTrailingZeros 29 = .ok (.iload_n 0, 1) := dk_26 (dk_at dksJ21_numberOfTrailingZeros_1 6 rfl rfl)
theorem dJ21_numberOfTrailingZeros_30 : decode cJ21_numberOfTrailingZeros 30 = .ok (.bipush 16, 2) := dk_16 16 (dk_at dksJ21_numberOfTrailingZeros_1 7 rfl rfl)
theorem dJ21_numberOfTrailingZeros_32 : decode cJ21_numberOfTrailingZeros 32 = .ok (.iushr, 1) := dk_124 (dk_at dksJ21_numberOfTrailingZeros_1 9 rfl rfl)
theorem dJ21_numberOfTrailingZeros_33 : decode cJ21_numberOfTrailingZeros 33 = .ok (.istore_n 0, 1) := dk_59 (dk_at dksJ21_numberOfTrailingZeros_1 10 rfl rfl)
theorem dJ21_numberOfTrailingZeros_34 : decode cJ21_numberOfTrailingZeros 34 = .ok (.iload_n 0, 1) := dk_26 (dk_at dksJ21_numberOfTrailingZeros_1 11 rfl rfl)
theorem dJ21_numberOfTrailingZeros_35 : decode cJ21_numberOfTrailingZeros 35 = .ok (.sipush 256, 3) := dk_17 1 0 (dk_at dksJ21_numberOfTrailingZeros_1 12 rfl rfl)
theorem dJ21_numberOfTrailingZeros_38 : decode cJ21_numberOfTrailingZeros 38 = .ok (.if_icmp .le 11, 3) := dk_164 0 11 (dk_at dksJ21_numberOfTrailingZeros_1 15 rfl rfl)
theorem dJ21_numberOfTrailingZeros_41 : decode cJ21_numberOfTrailingZeros 41 = .ok (.iinc 1 8, 3) := dk_132 1 8 (dk_at dksJ21_numberOfTrailingZeros_1 18 rfl rfl)
theorem dJ21_numberOfTrailingZeros_44 : decode cJ21_numberOfTrailingZeros 44 = .ok (.iload_n 0, 1) := dk_26 (dk_at dksJ21_numberOfTrailingZeros_1 21 rfl rfl)
theorem dJ21_numberOfTrailingZeros_45 : decode cJ21_numberOfTrailingZeros 45 = .ok (.bipush 8, 2) := dk_16 8 (dk_at dksJ21_numberOfTrailingZeros_1 22 rfl rfl)
theorem dJ21_numberOfTrailingZeros_47 : decode cJ21_numberOfTrailingZeros 47 = .ok (.iushr, 1) := dk_124 (dk_at dksJ21_numberOfTrailingZeros_2 0 rfl rfl)
theorem dJ21_numberOfTrailingZeros_48 : decode cJ21_numberOfTrailingZeros 48 = .ok (.istore_n 0, 1) := dk_59 (dk_at dksJ21_numberOfTrailingZeros_2 1 rfl rfl)
theorem dJ21_numberOfTrailingZeros_49 : decode cJ21_numberOfTrailingZeros 49 = .ok (.iload_n 0, 1) := dk_26 (dk_at dksJ21_numberOfTrailingZeros_2 2 rfl rfl)
theorem dJ21_numberOfTrailingZeros_50 : decode cJ21_numberOfTrailingZeros 50 = .ok (.bipush 16, 2) := dk_16 16 (dk_at dksJ21_numberOfTrailingZeros_2 3 rfl rfl)
theorem dJ21_numberOfTrailingZeros_52 : decode cJ21_numberOfTrailingZeros 52 = .ok (.if_icmp .le 10, 3) := dk_164 0 10 (dk_at dksJ21_numberOfTrailingZeros_2 5 rfl rfl)
theorem dJ21_numberOfTrailingZeros_55 : decode cJ21_numberOfTrailingZeros 55 = .ok (.iinc 1 4, 3) := dk_132 1 4 (dk_at dksJ21_numberOfTrailingZeros_2 8 rfl rfl)
theorem dJ21_numberOfTrailingZeros_58 : decode cJ21_numberOfTrailingZeros 58 = .ok (.iload_n 0, 1) := dk_26 (dk_at dksJ21_numberOfTrailingZeros_2 11 rfl rfl)
theorem dJ21_numberOfTrailingZeros_59 : decode cJ21_numberOfTrailingZeros 59 = .ok (.iconst 4, 1) := dk_7 (dk_at dksJ21_numberOfTrailingZeros_2 12 rfl rfl)
theorem dJ21_numberOfTrailingZeros_60 : decode cJ21_numberOfTrailingZeros 60 = .ok (.iushr, 1) := dk_124 (dk_at dksJ21_numberOfTrailingZeros_2 13 rfl rfl)
theorem dJ21_numberOfTrailingZeros_61 : decode cJ21_numberOfTrailingZeros 61 = .ok (.istore_n 0, 1) := dk_59 (dk_at dksJ21_numberOfTrailingZeros_2 14 rfl rfl)
theorem dJ21_numberOfTrailingZeros_62 : decode cJ21_numberOfTrailingZeros 62 = .ok (.iload_n 0, 1) := dk_26 (dk_at dksJ21_numberOfTrailingZeros_2 15 rfl rfl)
theorem dJ21_numberOfTrailingZeros_63 : decode cJ21_numberOfTrailingZeros 63 = .ok (.iconst 4, 1) := dk_7 (dk_at dksJ21_numberOfTrailingZeros_2 16 rfl rfl)
theorem dJ21_numberOfTrailingZeros_64 : decode cJ21_numberOfTrailingZeros 64 = .ok (.if_icmp .le 10, 3) := dk_164 0 10 (dk_at dksJ21_numberOfTrailingZeros_2 17 rfl rfl)
theorem dJ21_numberOfTrailingZeros_67 : decode cJ21_numberOfTrailingZeros 67 = .ok (.iinc 1 2, 3) := dk_132 1 2 (dk_at dksJ21_numberOfTrailingZeros_2 20 rfl rfl)
theorem dJ21_numberOfTrailingZeros_70 : decode cJ21_numberOfTrailingZeros 70 = .ok (.iload_n 0, 1) := dk_26 (dk_at dksJ21_numberOfTrailingZeros_2 23 rfl rfl)
theorem dJ21_numberOfTrailingZeros_71 : decode cJ21_numberOfTrailingZeros 71 = .ok (.iconst 2, 1) := dk_5 (dk_at dksJ21_numberOfTrailingZeros_3 0 rfl rfl)
theorem dJ21_numberOfTrailingZeros_72 : decode cJ21_numberOfTrailingZeros 72 = .ok (.iushr, 1) := dk_124 (dk_at dksJ21_numberOfTrailingZeros_3 1 rfl rfl)
theorem dJ21_numberOfTrailingZeros_73 : decode cJ21_numberOfTrailingZeros 73 = .ok (.istore_n 0, 1) := dk_59 (dk_at dksJ21_numberOfTrailingZeros_3 2 rfl rfl)
theorem dJ21_numberOfTrailingZeros_74 : decode cJ21_numberOfTrailingZeros 74 = .ok (.iload_n 1, 1) := dk_27 (dk_at dksJ21_numberOfTrailingZeros_3 3 rfl rfl)
theorem dJ21_numberOfTrailingZeros_75 : decode cJ21_numberOfTrailingZeros 75 = .ok (.iload_n 0, 1) := dk_26 (dk_at dksJ21_numberOfTrailingZeros_3 4 rfl rfl)
theorem dJ21_numberOfTrailingZeros_76 : decode cJ21_numberOfTrailingZeros 76 = .ok (.iconst 1, 1) := dk_4 (dk_at dksJ21_numberOfTrailingZeros_3 5 rfl rfl)
theorem dJ21_numberOfTrailingZeros_77 : decode cJ21_numberOfTrailingZeros 77 = .ok (.iushr, 1) := dk_124 (dk_at dksJ21_numberOfTrailingZeros_3 6 rfl rfl)
theorem dJ21_numberOfTrailingZeros_78 : decode cJ21_numberOfTrailingZeros 78 = .ok (.iadd, 1) := dk_96 (dk_at dksJ21_numberOfTrailingZeros_3 7 rfl rfl)
theorem dJ21_numberOfTrailingZeros_79 : decode cJ21_numberOfTrailingZeros 79 = .ok (.ireturn, 1) := dk_172 (dk_at dksJ21_numberOfTrailingZeros_3 8 rfl rfl)
theorem q113 : (Jvm.Cond.initialized "java/lang/Integer") ∈ lw_all := lw_g (lw_at lw_m1 30 rfl) rfl
theorem q622 : (Jvm.Cond.static ({ cls := "java/lang/Integer", name := "stringSize", desc := "(I)I" } : Jvm.MethodName)) ∈ lw_all := lw_g (lw_at lw_m3 59 rfl) rfl
theorem q623 : (Jvm.Cond.code ({ cls := "java/lang/Integer", name := "stringSize", desc := "(I)I" } : Jvm.MethodName) prog_32_method_13_code (4 : Nat) (Option.some Jvm.ClassFile.FieldType.int)) ∈ lw_all := lw_g (lw_at lw_m3 60 rfl) rfl
theorem q625 : (Jvm.Cond.static ({ cls := "java/lang/Integer", name := "getChars", desc := "(II[B)I" } : Jvm.MethodName)) ∈ lw_all := lw_g (lw_at lw_m3 62 rfl) rfl
theorem q626 : (Jvm.Cond.code ({ cls := "java/lang/Integer", name := "getChars", desc := "(II[B)I" } : Jvm.MethodName) prog_32_method_12_code (7 : Nat) (Option.some Jvm.ClassFile.FieldType.int)) ∈ lw_all := lw_g (lw_at lw_m3 63 rfl) rfl
theorem q627 : (Jvm.Cond.fieldLink "java/lang/Integer" (83 : Nat) "java/lang/Integer" "DigitOnes" "[B") ∈ lw_all := lw_g (lw_at lw_m3 64 rfl) rfl
theorem q628 : (Jvm.Cond.laysStatic "java/lang/Integer" "DigitOnes" "[B") ∈ lw_tbl := lw_at lw_m3 65 rfl
theorem q629 : (Jvm.Cond.fieldLink "java/lang/Integer" (87 : Nat) "java/lang/Integer" "DigitTens" "[B") ∈ lw_all := lw_g (lw_at lw_m3 66 rfl) rfl
theorem q630 : (Jvm.Cond.laysStatic "java/lang/Integer" "DigitTens" "[B") ∈ lw_tbl := lw_at lw_m3 67 rfl
theorem q1545 : (Jvm.Cond.static ({ cls := "java/lang/Integer", name := "compare", desc := "(II)I" } : Jvm.MethodName)) ∈ lw_all := lw_g (lw_at lw_m7 22 rfl) rfl
theorem q1546 : (Jvm.Cond.code ({ cls := "java/lang/Integer", name := "compare", desc := "(II)I" } : Jvm.MethodName) prog_32_method_40_code (2 : Nat) (Option.some Jvm.ClassFile.FieldType.int)) ∈ lw_all := lw_g (lw_at lw_m7 23 rfl) rfl
theorem q1636 : (Jvm.Cond.static ({ cls := "java/lang/Integer", name := "numberOfLeadingZeros", desc := "(I)I" } : Jvm.MethodName)) ∈ lw_all := lw_g (lw_at lw_m7 113 rfl) rfl
theorem q1637 : (Jvm.Cond.code ({ cls := "java/lang/Integer", name := "numberOfLeadingZeros", desc := "(I)I" } : Jvm.MethodName) prog_32_method_47_code (2 : Nat) (Option.some Jvm.ClassFile.FieldType.int)) ∈ lw_all := lw_g (lw_at lw_m7 114 rfl) rfl
theorem q1638 : (Jvm.Cond.constant "java/lang/Integer" (264 : Nat) (65536 : Int32)) ∈ lw_all := lw_g (lw_at lw_m7 115 rfl) rfl
theorem q1645 : (Jvm.Cond.static ({ cls := "java/lang/Integer", name := "numberOfTrailingZeros", desc := "(I)I" } : Jvm.MethodName)) ∈ lw_all := lw_g (lw_at lw_m7 122 rfl) rfl
theorem q1646 : (Jvm.Cond.code ({ cls := "java/lang/Integer", name := "numberOfTrailingZeros", desc := "(I)I" } : Jvm.MethodName) prog_32_method_48_code (2 : Nat) (Option.some Jvm.ClassFile.FieldType.int)) ∈ lw_all := lw_g (lw_at lw_m7 123 rfl) rfl

/-! java/lang/Record -/
set_option maxRecDepth 100000
def RJ22 : String := "java/lang/Record"
abbrev cJ22_init : ByteArray := prog_37_method_1_code
def yJ22_init : MethodName := ⟨RJ22, "<init>", "()V"⟩
theorem dJ22_init_0 : decode cJ22_init 0 = .ok (.aload_n 0, 1) := by decide +kernel
theorem dJ22_init_1 : decode cJ22_init 1 = .ok (.invokespecial 1, 3) := by decide +kernel
theorem dJ22_init_4 : decode cJ22_init 4 = .ok (.return_, 1) := by decide +kernel
theorem q119 : (Jvm.Cond.initialized "java/lang/Record") ∈ lw_all := lw_g (lw_at lw_m1 36 rfl) rfl
theorem q1043 : (Jvm.Cond.instanceMethod ({ cls := "java/lang/Record", name := "<init>", desc := "()V" } : Jvm.MethodName)) ∈ lw_all := lw_g (lw_at lw_m5 0 rfl) rfl
theorem q1044 : (Jvm.Cond.code ({ cls := "java/lang/Record", name := "<init>", desc := "()V" } : Jvm.MethodName) prog_37_method_1_code (1 : Nat) (Option.none : Option Jvm.ClassFile.FieldType)) ∈ lw_all := lw_g (lw_at lw_m5 1 rfl) rfl
theorem q1045 : (Jvm.Cond.methodLink "java/lang/Record" (1 : Nat) ({ cls := "java/lang/Object", name := "<init>", desc := "()V" } : Jvm.MethodName)) ∈ lw_all := lw_g (lw_at lw_m5 2 rfl) rfl

/-! java/util/NoSuchElementException -/
set_option maxRecDepth 100000
def RJ23 : String := "java/util/NoSuchElementException"
def TJ23 : u_T := fun k => match k with
  | 0 => ("java/lang/Throwable", "cause", "Ljava/lang/Throwable;", false)
  | 1 => ("java/lang/Throwable", "stackTrace", "[Ljava/lang/StackTraceElement;", false)
  | 2 => ("java/lang/Throwable", "suppressedExceptions", "Ljava/util/List;", false)
  | 3 => ("java/lang/Throwable", "detailMessage", "Ljava/lang/String;", false)
  | 4 => ("java/lang/Throwable", "backtrace", "Ljava/lang/Object;", false)
  | _ => ("java/lang/Throwable", "depth", "I", false)
def tyJ23 : Nat → FieldType := fun k => match k with
  | 0 => .object "java/lang/Throwable"
  | 1 => .array (.object "java/lang/StackTraceElement")
  | 2 => .object "java/util/List"
  | 3 => .object "java/lang/String"
  | 4 => .object "java/lang/Object"
  | _ => .int
abbrev wsJ230 : List Cond := u_ws RJ23 TJ23 6
theorem nmJ23 : ∀ a, a < 6 → ∀ b, b < 6 → a ≠ b → (TJ23 a).2.1 ≠ (TJ23 b).2.1 := by decide +kernel
theorem tyJ23_ok : ∀ k, k < 6 → parseFieldDescriptor (TJ23 k).2.2.1 = some (tyJ23 k) := by decide +kernel
abbrev cJ23_init : ByteArray := prog_57_method_1_code
def yJ23_init : MethodName := ⟨RJ23, "<init>", "()V"⟩
theorem dJ23_init_0 : decode cJ23_init 0 = .ok (.aload_n 0, 1) := by decide +kernel
theorem dJ23_init_1 : decode cJ23_init 1 = .ok (.invokespecial 1, 3) := by decide +kernel
theorem dJ23_init_4 : decode cJ23_init 4 = .ok (.return_, 1) := by decide +kernel
abbrev cJ23_init_2 : ByteArray := prog_57_method_4_code
def yJ23_init_2 : MethodName := ⟨RJ23, "<init>", "(Ljava/lang/String;)V"⟩
def dkwJ23_init_2_0 : List UInt8 := [42, 43, 183, 0, 13, 177]
abbrev dktJ23_init_2_0 : List UInt8 := dkwJ23_init_2_0 ++ []
theorem dksJ23_init_2_0 : cJ23_init_2.data.toList.drop 0 = dktJ23_init_2_0 := by decide +kernel
theorem dJ23_init_2_0 : decode cJ23_init_2 0 = .ok (.aload_n 0, 1) := dk_42 (dk_at dksJ23_init_2_0 0 rfl rfl)
theorem dJ23_init_2_1 : decode cJ23_init_2 1 = .ok (.aload_n 1, 1) := dk_43 (dk_at dksJ23_init_2_0 1 rfl rfl)
theorem dJ23_init_2_2 : decode cJ23_init_2 2 = .ok (.invokespecial 13, 3) := dk_183 0 13 (dk_at dksJ23_init_2_0 2 rfl rfl)
theorem dJ23_init_2_5 : decode cJ23_init_2 5 = .ok (.return_, 1) := dk_177 (dk_at dksJ23_init_2_0 5 rfl rfl)
theorem q121 : (Jvm.Cond.initialized "java/util/NoSuchElementException") ∈ lw_all := lw_g (lw_at lw_m1 38 rfl) rfl
theorem q326 : (Jvm.Cond.selects "java/util/NoSuchElementException" ({ cls := "java/lang/Throwable", name := "fillInStackTrace", desc := "()Ljava/lang/Throwable;" } : Jvm.MethodName) ({ cls := "java/lang/Throwable", name := "fillInStackTrace", desc := "()Ljava/lang/Throwable;" } : Jvm.MethodName)) ∈ lw_all := lw_g (lw_at lw_m2 3 rfl) rfl
theorem q1103 : (Jvm.Cond.selects "java/util/NoSuchElementException" ({ cls := "java/lang/Object", name := "getClass", desc := "()Ljava/lang/Class;" } : Jvm.MethodName) ({ cls := "java/lang/Object", name := "getClass", desc := "()Ljava/lang/Class;" } : Jvm.MethodName)) ∈ lw_all := lw_g (lw_at lw_m5 60 rfl) rfl
theorem q1149 : (Jvm.Cond.instantiable "java/util/NoSuchElementException" (6 : Nat)) ∈ lw_all := lw_g (lw_at lw_m5 106 rfl) rfl
theorem q1150 : (Jvm.Cond.castable "java/util/NoSuchElementException" "java/util/NoSuchElementException") ∈ lw_tbl := lw_at lw_m5 107 rfl
theorem q1151 : (Jvm.Cond.selects "java/util/NoSuchElementException" ({ cls := "java/lang/Throwable", name := "fillInStackTrace", desc := "(I)Ljava/lang/Throwable;" } : Jvm.MethodName) ({ cls := "java/lang/Throwable", name := "fillInStackTrace", desc := "(I)Ljava/lang/Throwable;" } : Jvm.MethodName)) ∈ lw_all := lw_g (lw_at lw_m5 108 rfl) rfl
theorem q1152 : (Jvm.Cond.lays "java/util/NoSuchElementException" "java/lang/Throwable" "cause" "Ljava/lang/Throwable;") ∈ lw_all := lw_g (lw_at lw_m5 109 rfl) rfl
theorem q1153 : (Jvm.Cond.lays "java/util/NoSuchElementException" "java/lang/Throwable" "stackTrace" "[Ljava/lang/StackTraceElement;") ∈ lw_all := lw_g (lw_at lw_m5 110 rfl) rfl
theorem q1154 : (Jvm.Cond.lays "java/util/NoSuchElementException" "java/lang/Throwable" "suppressedExceptions" "Ljava/util/List;") ∈ lw_all := lw_g (lw_at lw_m5 111 rfl) rfl
theorem q1155 : (Jvm.Cond.lays "java/util/NoSuchElementException" "java/lang/Throwable" "detailMessage" "Ljava/lang/String;") ∈ lw_all := lw_g (lw_at lw_m5 112 rfl) rfl
theorem q1156 : (Jvm.Cond.lays "java/util/NoSuchElementException" "java/lang/Throwable" "backtrace" "Ljava/lang/Object;") ∈ lw_all := lw_g (lw_at lw_m5 113 rfl) rfl
theorem q1158 : (Jvm.Cond.instanceMethod ({ cls := "java/util/NoSuchElementException", name := "<init>", desc := "()V" } : Jvm.MethodName)) ∈ lw_all := lw_g (lw_at lw_m5 115 rfl) rfl
theorem q1159 : (Jvm.Cond.code ({ cls := "java/util/NoSuchElementException", name := "<init>", desc := "()V" } : Jvm.MethodName) prog_57_method_1_code (1 : Nat) (Option.none : Option Jvm.ClassFile.FieldType)) ∈ lw_all := lw_g (lw_at lw_m5 116 rfl) rfl
theorem q1160 : (Jvm.Cond.methodLink "java/util/NoSuchElementException" (1 : Nat) ({ cls := "java/lang/RuntimeException", name := "<init>", desc := "()V" } : Jvm.MethodName)) ∈ lw_all := lw_g (lw_at lw_m5 117 rfl) rfl
theorem q1161 : (Jvm.Cond.lays "java/util/NoSuchElementException" "java/lang/Throwable" "depth" "I") ∈ lw_all := lw_g (lw_at lw_m5 118 rfl) rfl
theorem q1162 : (Jvm.Cond.superclass "java/util/NoSuchElementException" "java/lang/RuntimeException") ∈ lw_all := lw_g (lw_at lw_m5 119 rfl) rfl
theorem q1271 : (Jvm.Cond.instanceMethod ({ cls := "java/util/NoSuchElementException", name := "<init>", desc := "(Ljava/lang/String;)V" } : Jvm.MethodName)) ∈ lw_all := lw_g (lw_at lw_m5 228 rfl) rfl
theorem q1272 : (Jvm.Cond.code ({ cls := "java/util/NoSuchElementException", name := "<init>", desc := "(Ljava/lang/String;)V" } : Jvm.MethodName) prog_57_method_4_code (2 : Nat) (Option.none : Option Jvm.ClassFile.FieldType)) ∈ lw_all := lw_g (lw_at lw_m5 229 rfl) rfl
theorem q1273 : (Jvm.Cond.methodLink "java/util/NoSuchElementException" (13 : Nat) ({ cls := "java/lang/RuntimeException", name := "<init>", desc := "(Ljava/lang/String;)V" } : Jvm.MethodName)) ∈ lw_all := lw_g (lw_at lw_m5 230 rfl) rfl
theorem q2681 : (Jvm.Cond.castable "java/util/NoSuchElementException" "java/lang/Object") ∈ lw_tbl := lw_at lw_m11 198 rfl
theorem in_J23 : ∀ w ∈ wsJ230, w ∈ lw_all := lw_in wsJ230 [1152, 1153, 1154, 1155, 1156, 1161] (by decide +kernel) (by decide +kernel)

/-! java/util/Optional -/
set_option maxRecDepth 100000
def RJ24 : String := "java/util/Optional"
def TJ24 : u_T := fun k => match k with
  | _ => ("java/util/Optional", "value", "Ljava/lang/Object;", true)
def tyJ24 : Nat → FieldType := fun k => match k with
  | _ => .object "java/lang/Object"
abbrev wsJ240 : List Cond := u_ws RJ24 TJ24 1
theorem nmJ24 : ∀ a, a < 1 → ∀ b, b < 1 → a ≠ b → (TJ24 a).2.1 ≠ (TJ24 b).2.1 := by decide +kernel
theorem tyJ24_ok : ∀ k, k < 1 → parseFieldDescriptor (TJ24 k).2.2.1 = some (tyJ24 k) := by decide +kernel
abbrev cJ24_of : ByteArray := prog_59_method_3_code
def yJ24_of : MethodName := ⟨RJ24, "of", "(Ljava/lang/Object;)Ljava/util/Optional;"⟩
def dkwJ24_of_0 : List UInt8 := [187, 0, 2, 89, 42, 184, 0, 17, 183, 0, 23, 176]
abbrev dktJ24_of_0 : List UInt8 := dkwJ24_of_0 ++ []
theorem dksJ24_of_0 : cJ24_of.data.toList.drop 0 = dktJ24_of_0 := by decide +kernel
theorem dJ24_of_0 : decode cJ24_of 0 = .ok (.new 2, 3) := dk_187 0 2 (dk_at dksJ24_of_0 0 rfl rfl)
theorem dJ24_of_3 : decode cJ24_of 3 = .ok (.dup, 1) := dk_89 (dk_at dksJ24_of_0 3 rfl rfl)
theorem dJ24_of_4 : decode cJ24_of 4 = .ok (.aload_n 0, 1) := dk_42 (dk_at dksJ24_of_0 4 rfl rfl)
theorem dJ24_of_5 : decode cJ24_of 5 = .ok (.invokestatic 17, 3) := dk_184 0 17 (dk_at dksJ24_of_0 5 rfl rfl)
theorem dJ24_of_8 : decode cJ24_of 8 = .ok (.invokespecial 23, 3) := dk_183 0 23 (dk_at dksJ24_of_0 8 rfl rfl)
theorem dJ24_of_11 : decode cJ24_of 11 = .ok (.areturn, 1) := dk_176 (dk_at dksJ24_of_0 11 rfl rfl)
abbrev cJ24_init : ByteArray := prog_59_method_2_code
def yJ24_init : MethodName := ⟨RJ24, "<init>", "(Ljava/lang/Object;)V"⟩
def dkwJ24_init_0 : List UInt8 := [42, 183, 0, 7, 42, 43, 181, 0, 13, 177]
abbrev dktJ24_init_0 : List UInt8 := dkwJ24_init_0 ++ []
theorem dksJ24_init_0 : cJ24_init.data.toList.drop 0 = dktJ24_init_0 := by decide +kernel
theorem dJ24_init_0 : decode cJ24_init 0 = .ok (.aload_n 0, 1) := dk_42 (dk_at dksJ24_init_0 0 rfl rfl)
theorem dJ24_init_1 : decode cJ24_init 1 = .ok (.invokespecial 7, 3) := dk_183 0 7 (dk_at dksJ24_init_0 1 rfl rfl)
theorem dJ24_init_4 : decode cJ24_init 4 = .ok (.aload_n 0, 1) := dk_42 (dk_at dksJ24_init_0 4 rfl rfl)
theorem dJ24_init_5 : decode cJ24_init 5 = .ok (.aload_n 1, 1) := dk_43 (dk_at dksJ24_init_0 5 rfl rfl)
theorem dJ24_init_6 : decode cJ24_init 6 = .ok (.putfield 13, 3) := dk_181 0 13 (dk_at dksJ24_init_0 6 rfl rfl)
theorem dJ24_init_9 : decode cJ24_init 9 = .ok (.return_, 1) := dk_177 (dk_at dksJ24_init_0 9 rfl rfl)
abbrev cJ24_empty : ByteArray := prog_59_method_1_code
def yJ24_empty : MethodName := ⟨RJ24, "empty", "()Ljava/util/Optional;"⟩
def dkwJ24_empty_0 : List UInt8 := [178, 0, 1, 75, 42, 176]
abbrev dktJ24_empty_0 : List UInt8 := dkwJ24_empty_0 ++ []
theorem dksJ24_empty_0 : cJ24_empty.data.toList.drop 0 = dktJ24_empty_0 := by decide +kernel
theorem dJ24_empty_0 : decode cJ24_empty 0 = .ok (.getstatic 1, 3) := dk_178 0 1 (dk_at dksJ24_empty_0 0 rfl rfl)
theorem dJ24_empty_3 : decode cJ24_empty 3 = .ok (.astore_n 0, 1) := dk_75 (dk_at dksJ24_empty_0 3 rfl rfl)
theorem dJ24_empty_4 : decode cJ24_empty 4 = .ok (.aload_n 0, 1) := dk_42 (dk_at dksJ24_empty_0 4 rfl rfl)
theorem dJ24_empty_5 : decode cJ24_empty 5 = .ok (.areturn, 1) := dk_176 (dk_at dksJ24_empty_0 5 rfl rfl)
abbrev cJ24_isPresent : ByteArray := prog_59_method_6_code
def yJ24_isPresent : MethodName := ⟨RJ24, "isPresent", "()Z"⟩
def dkwJ24_isPresent_0 : List UInt8 := [42, 180, 0, 13, 198, 0, 7, 4, 167, 0, 4, 3, 172]
abbrev dktJ24_isPresent_0 : List UInt8 := dkwJ24_isPresent_0 ++ []
theorem dksJ24_isPresent_0 : cJ24_isPresent.data.toList.drop 0 = dktJ24_isPresent_0 := by decide +kernel
theorem dJ24_isPresent_0 : decode cJ24_isPresent 0 = .ok (.aload_n 0, 1) := dk_42 (dk_at dksJ24_isPresent_0 0 rfl rfl)
theorem dJ24_isPresent_1 : decode cJ24_isPresent 1 = .ok (.getfield 13, 3) := dk_180 0 13 (dk_at dksJ24_isPresent_0 1 rfl rfl)
theorem dJ24_isPresent_4 : decode cJ24_isPresent 4 = .ok (.ifnull 7, 3) := dk_198 0 7 (dk_at dksJ24_isPresent_0 4 rfl rfl)
theorem dJ24_isPresent_7 : decode cJ24_isPresent 7 = .ok (.iconst 1, 1) := dk_4 (dk_at dksJ24_isPresent_0 7 rfl rfl)
theorem dJ24_isPresent_8 : decode cJ24_isPresent 8 = .ok (.goto 4, 3) := dk_167 0 4 (dk_at dksJ24_isPresent_0 8 rfl rfl)
theorem dJ24_isPresent_11 : decode cJ24_isPresent 11 = .ok (.iconst 0, 1) := dk_3 (dk_at dksJ24_isPresent_0 11 rfl rfl)
theorem dJ24_isPresent_12 : decode cJ24_isPresent 12 = .ok (.ireturn, 1) := dk_172 (dk_at dksJ24_isPresent_0 12 rfl rfl)
abbrev cJ24_get : ByteArray := prog_59_method_5_code
def yJ24_get : MethodName := ⟨RJ24, "get", "()Ljava/lang/Object;"⟩
def dkwJ24_get_0 : List UInt8 := [42, 180, 0, 13, 199, 0, 13, 187, 0, 26, 89, 18, 28, 183, 0, 30, 191, 42, 180, 0, 13, 176]
abbrev dktJ24_get_0 : List UInt8 := dkwJ24_get_0 ++ []
theorem dksJ24_get_0 : cJ24_get.data.toList.drop 0 = dktJ24_get_0 := by decide +kernel
theorem dJ24_get_0 : decode cJ24_get 0 = .ok (.aload_n 0, 1) := dk_42 (dk_at dksJ24_get_0 0 rfl rfl)
theorem dJ24_get_1 : decode cJ24_get 1 = .ok (.getfield 13, 3) := dk_180 0 13 (dk_at dksJ24_get_0 1 rfl rfl)
theorem dJ24_get_4 : decode cJ24_get 4 = .ok (.ifnonnull 13, 3) := dk_199 0 13 (dk_at dksJ24_get_0 4 rfl rfl)
theorem dJ24_get_7 : decode cJ24_get 7 = .ok (.new 26, 3) := dk_187 0 26 (dk_at dksJ24_get_0 7 rfl rfl)
theorem dJ24_get_10 : decode cJ24_get 10 = .ok (.dup, 1) := dk_89 (dk_at dksJ24_get_0 10 rfl rfl)
theorem dJ24_get_11 : decode cJ24_get 11 = .ok (.ldc 28, 2) := dk_18 28 (dk_at dksJ24_get_0 11 rfl rfl)
theorem dJ24_get_13 : decode cJ24_get 13 = .ok (.invokespecial 30, 3) := dk_183 0 30 (dk_at dksJ24_get_0 13 rfl rfl)
theorem dJ24_get_16 : decode cJ24_get 16 = .ok (.athrow, 1) := dk_191 (dk_at dksJ24_get_0 16 rfl rfl)
theorem dJ24_get_17 : decode cJ24_get 17 = .ok (.aload_n 0, 1) := dk_42 (dk_at dksJ24_get_0 17 rfl rfl)
theorem dJ24_get_18 : decode cJ24_get 18 = .ok (.getfield 13, 3) := dk_180 0 13 (dk_at dksJ24_get_0 18 rfl rfl)
theorem dJ24_get_21 : decode cJ24_get 21 = .ok (.areturn, 1) := dk_176 (dk_at dksJ24_get_0 21 rfl rfl)
theorem q122 : (Jvm.Cond.initialized "java/util/Optional") ∈ lw_all := lw_g (lw_at lw_m1 39 rfl) rfl
theorem q1104 : (Jvm.Cond.selects "java/util/Optional" ({ cls := "java/lang/Object", name := "getClass", desc := "()Ljava/lang/Class;" } : Jvm.MethodName) ({ cls := "java/lang/Object", name := "getClass", desc := "()Ljava/lang/Class;" } : Jvm.MethodName)) ∈ lw_all := lw_g (lw_at lw_m5 61 rfl) rfl
theorem q1237 : (Jvm.Cond.static ({ cls := "java/util/Optional", name := "of", desc := "(Ljava/lang/Object;)Ljava/util/Optional;" } : Jvm.MethodName)) ∈ lw_all := lw_g (lw_at lw_m5 194 rfl) rfl
theorem q1238 : (Jvm.Cond.code ({ cls := "java/util/Optional", name := "of", desc := "(Ljava/lang/Object;)Ljava/util/Optional;" } : Jvm.MethodName) prog_59_method_3_code (1 : Nat) (Option.some (Jvm.ClassFile.FieldType.object "java/util/Optional"))) ∈ lw_all := lw_g (lw_at lw_m5 195 rfl) rfl
theorem q1239 : (Jvm.Cond.classLink "java/util/Optional" (2 : Nat) "java/util/Optional") ∈ lw_all := lw_g (lw_at lw_m5 196 rfl) rfl
theorem q1240 : (Jvm.Cond.instantiable "java/util/Optional" (1 : Nat)) ∈ lw_all := lw_g (lw_at lw_m5 197 rfl) rfl
theorem q1241 : (Jvm.Cond.methodLink "java/util/Optional" (17 : Nat) ({ cls := "java/util/Objects", name := "requireNonNull", desc := "(Ljava/lang/Object;)Ljava/lang/Object;" } : Jvm.MethodName)) ∈ lw_all := lw_g (lw_at lw_m5 198 rfl) rfl
theorem q1244 : (Jvm.Cond.methodLink "java/util/Optional" (23 : Nat) ({ cls := "java/util/Optional", name := "<init>", desc := "(Ljava/lang/Object;)V" } : Jvm.MethodName)) ∈ lw_all := lw_g (lw_at lw_m5 201 rfl) rfl
theorem q1245 : (Jvm.Cond.instanceMethod ({ cls := "java/util/Optional", name := "<init>", desc := "(Ljava/lang/Object;)V" } : Jvm.MethodName)) ∈ lw_all := lw_g (lw_at lw_m5 202 rfl) rfl
theorem q1246 : (Jvm.Cond.code ({ cls := "java/util/Optional", name := "<init>", desc := "(Ljava/lang/Object;)V" } : Jvm.MethodName) prog_59_method_2_code (2 : Nat) (Option.none : Option Jvm.ClassFile.FieldType)) ∈ lw_all := lw_g (lw_at lw_m5 203 rfl) rfl
theorem q1247 : (Jvm.Cond.methodLink "java/util/Optional" (7 : Nat) ({ cls := "java/lang/Object", name := "<init>", desc := "()V" } : Jvm.MethodName)) ∈ lw_all := lw_g (lw_at lw_m5 204 rfl) rfl
theorem q1248 : (Jvm.Cond.fieldLink "java/util/Optional" (13 : Nat) "java/util/Optional" "value" "Ljava/lang/Object;") ∈ lw_all := lw_g (lw_at lw_m5 205 rfl) rfl
theorem q1249 : (Jvm.Cond.laysFinal "java/util/Optional" "java/util/Optional" "value" "Ljava/lang/Object;") ∈ lw_all := lw_g (lw_at lw_m5 206 rfl) rfl
theorem q1250 : (Jvm.Cond.soleField "java/util/Optional" "value") ∈ lw_all := lw_g (lw_at lw_m5 207 rfl) rfl
theorem q1251 : (Jvm.Cond.superclass "java/util/Optional" "java/lang/Object") ∈ lw_all := lw_g (lw_at lw_m5 208 rfl) rfl
theorem q1253 : (Jvm.Cond.static ({ cls := "java/util/Optional", name := "empty", desc := "()Ljava/util/Optional;" } : Jvm.MethodName)) ∈ lw_all := lw_g (lw_at lw_m5 210 rfl) rfl
theorem q1254 : (Jvm.Cond.code ({ cls := "java/util/Optional", name := "empty", desc := "()Ljava/util/Optional;" } : Jvm.MethodName) prog_59_method_1_code (1 : Nat) (Option.some (Jvm.ClassFile.FieldType.object "java/util/Optional"))) ∈ lw_all := lw_g (lw_at lw_m5 211 rfl) rfl
theorem q1255 : (Jvm.Cond.fieldLink "java/util/Optional" (1 : Nat) "java/util/Optional" "EMPTY" "Ljava/util/Optional;") ∈ lw_all := lw_g (lw_at lw_m5 212 rfl) rfl
theorem q1256 : (Jvm.Cond.laysStatic "java/util/Optional" "EMPTY" "Ljava/util/Optional;") ∈ lw_tbl := lw_at lw_m5 213 rfl
theorem q1258 : (Jvm.Cond.instanceMethod ({ cls := "java/util/Optional", name := "isPresent", desc := "()Z" } : Jvm.MethodName)) ∈ lw_all := lw_g (lw_at lw_m5 215 rfl) rfl
theorem q1259 : (Jvm.Cond.selects "java/util/Optional" ({ cls := "java/util/Optional", name := "isPresent", desc := "()Z" } : Jvm.MethodName) ({ cls := "java/util/Optional", name := "isPresent", desc := "()Z" } : Jvm.MethodName)) ∈ lw_all := lw_g (lw_at lw_m5 216 rfl) rfl
theorem q1260 : (Jvm.Cond.code ({ cls := "java/util/Optional", name := "isPresent", desc := "()Z" } : Jvm.MethodName) prog_59_method_6_code (1 : Nat) (Option.some Jvm.ClassFile.FieldType.boolean)) ∈ lw_all := lw_g (lw_at lw_m5 217 rfl) rfl
theorem q1265 : (Jvm.Cond.instanceMethod ({ cls := "java/util/Optional", name := "get", desc := "()Ljava/lang/Object;" } : Jvm.MethodName)) ∈ lw_all := lw_g (lw_at lw_m5 222 rfl) rfl
theorem q1266 : (Jvm.Cond.selects "java/util/Optional" ({ cls := "java/util/Optional", name := "get", desc := "()Ljava/lang/Object;" } : Jvm.MethodName) ({ cls := "java/util/Optional", name := "get", desc := "()Ljava/lang/Object;" } : Jvm.MethodName)) ∈ lw_all := lw_g (lw_at lw_m5 223 rfl) rfl
theorem q1267 : (Jvm.Cond.code ({ cls := "java/util/Optional", name := "get", desc := "()Ljava/lang/Object;" } : Jvm.MethodName) prog_59_method_5_code (1 : Nat) (Option.some (Jvm.ClassFile.FieldType.object "java/lang/Object"))) ∈ lw_all := lw_g (lw_at lw_m5 224 rfl) rfl
theorem q1268 : (Jvm.Cond.classLink "java/util/Optional" (26 : Nat) "java/util/NoSuchElementException") ∈ lw_all := lw_g (lw_at lw_m5 225 rfl) rfl
theorem q1269 : (Jvm.Cond.stringRef "java/util/Optional" (28 : Nat) "No value present") ∈ lw_tbl := lw_at lw_m5 226 rfl
theorem q1270 : (Jvm.Cond.methodLink "java/util/Optional" (30 : Nat) ({ cls := "java/util/NoSuchElementException", name := "<init>", desc := "(Ljava/lang/String;)V" } : Jvm.MethodName)) ∈ lw_all := lw_g (lw_at lw_m5 227 rfl) rfl
theorem q2682 : (Jvm.Cond.castable "java/util/Optional" "java/lang/Object") ∈ lw_tbl := lw_at lw_m11 199 rfl
theorem in_J24 : ∀ w ∈ wsJ240, w ∈ lw_all := lw_in wsJ240 [1249] (by decide +kernel) (by decide +kernel)

/-! java/util/Objects -/
set_option maxRecDepth 100000
def RJ25 : String := "java/util/Objects"
abbrev cJ25_requireNonNull : ByteArray := prog_58_method_10_code
def yJ25_requireNonNull : MethodName := ⟨RJ25, "requireNonNull", "(Ljava/lang/Object;)Ljava/lang/Object;"⟩
def dkwJ25_requireNonNull_0 : List UInt8 := [42, 199, 0, 11, 187, 0, 84, 89, 183, 0, 86, 191, 42, 176]
abbrev dktJ25_requireNonNull_0 : List UInt8 := dkwJ25_requireNonNull_0 ++ []
theorem dksJ25_requireNonNull_0 : cJ25_requireNonNull.data.toList.drop 0 = dktJ25_requireNonNull_0 := by decide +kernel
theorem dJ25_requireNonNull_0 : decode cJ25_requireNonNull 0 = .ok (.aload_n 0, 1) := dk_42 (dk_at dksJ25_requireNonNull_0 0 rfl rfl)
theorem dJ25_requireNonNull_1 : decode cJ25_requireNonNull 1 = .ok (.ifnonnull 11, 3) := dk_199 0 11 (dk_at dksJ25_requireNonNull_0 1 rfl rfl)
theorem dJ25_requireNonNull_4 : decode cJ25_requireNonNull 4 = .ok (.new 84, 3) := dk_187 0 84 (dk_at dksJ25_requireNonNull_0 4 rfl rfl)
theorem dJ25_requireNonNull_7 : decode cJ25_requireNonNull 7 = .ok (.dup, 1) := dk_89 (dk_at dksJ25_requireNonNull_0 7 rfl rfl)
theorem dJ25_requireNonNull_8 : decode cJ25_requireNonNull 8 = .ok (.invokespecial 86, 3) := dk_183 0 86 (dk_at dksJ25_requireNonNull_0 8 rfl rfl)
theorem dJ25_requireNonNull_11 : decode cJ25_requireNonNull 11 = .ok (.athrow, 1) := dk_191 (dk_at dksJ25_requireNonNull_0 11 rfl rfl)
theorem dJ25_requireNonNull_12 : decode cJ25_requireNonNull 12 = .ok (.aload_n 0, 1) := dk_42 (dk_at dksJ25_requireNonNull_0 12 rfl rfl)
theorem dJ25_requireNonNull_13 : decode cJ25_requireNonNull 13 = .ok (.areturn, 1) := dk_176 (dk_at dksJ25_requireNonNull_0 13 rfl rfl)
abbrev cJ25_checkIndex : ByteArray := prog_58_method_17_code
def yJ25_checkIndex : MethodName := ⟨RJ25, "checkIndex", "(II)I"⟩
def dkwJ25_checkIndex_0 : List UInt8 := [26, 27, 1, 184, 0, 105, 172]
abbrev dktJ25_checkIndex_0 : List UInt8 := dkwJ25_checkIndex_0 ++ []
theorem dksJ25_checkIndex_0 : cJ25_checkIndex.data.toList.drop 0 = dktJ25_checkIndex_0 := by decide +kernel
theorem dJ25_checkIndex_0 : decode cJ25_checkIndex 0 = .ok (.iload_n 0, 1) := dk_26 (dk_at dksJ25_checkIndex_0 0 rfl rfl)
theorem dJ25_checkIndex_1 : decode cJ25_checkIndex 1 = .ok (.iload_n 1, 1) := dk_27 (dk_at dksJ25_checkIndex_0 1 rfl rfl)
theorem dJ25_checkIndex_2 : decode cJ25_checkIndex 2 = .ok (.aconst_null, 1) := dk_1 (dk_at dksJ25_checkIndex_0 2 rfl rfl)
theorem dJ25_checkIndex_3 : decode cJ25_checkIndex 3 = .ok (.invokestatic 105, 3) := dk_184 0 105 (dk_at dksJ25_checkIndex_0 3 rfl rfl)
theorem dJ25_checkIndex_6 : decode cJ25_checkIndex 6 = .ok (.ireturn, 1) := dk_172 (dk_at dksJ25_checkIndex_0 6 rfl rfl)
theorem q123 : (Jvm.Cond.initialized "java/util/Objects") ∈ lw_all := lw_g (lw_at lw_m1 40 rfl) rfl
theorem q1242 : (Jvm.Cond.static ({ cls := "java/util/Objects", name := "requireNonNull", desc := "(Ljava/lang/Object;)Ljava/lang/Object;" } : Jvm.MethodName)) ∈ lw_all := lw_g (lw_at lw_m5 199 rfl) rfl
theorem q1243 : (Jvm.Cond.code ({ cls := "java/util/Objects", name := "requireNonNull", desc := "(Ljava/lang/Object;)Ljava/lang/Object;" } : Jvm.MethodName) prog_58_method_10_code (1 : Nat) (Option.some (Jvm.ClassFile.FieldType.object "java/lang/Object"))) ∈ lw_all := lw_g (lw_at lw_m5 200 rfl) rfl
theorem q1822 : (Jvm.Cond.static ({ cls := "java/util/Objects", name := "checkIndex", desc := "(II)I" } : Jvm.MethodName)) ∈ lw_all := lw_g (lw_at lw_m8 59 rfl) rfl
theorem q1823 : (Jvm.Cond.code ({ cls := "java/util/Objects", name := "checkIndex", desc := "(II)I" } : Jvm.MethodName) prog_58_method_17_code (2 : Nat) (Option.some Jvm.ClassFile.FieldType.int)) ∈ lw_all := lw_g (lw_at lw_m8 60 rfl) rfl
theorem q1824 : (Jvm.Cond.methodLink "java/util/Objects" (105 : Nat) ({ cls := "jdk/internal/util/Preconditions", name := "checkIndex", desc := "(IILjava/util/function/BiFunction;)I" } : Jvm.MethodName)) ∈ lw_all := lw_g (lw_at lw_m8 61 rfl) rfl

/-! java/util/AbstractQueue -/
set_option maxRecDepth 100000
def RJ26 : String := "java/util/AbstractQueue"
abbrev cJ26_init : ByteArray := prog_49_method_1_code
def yJ26_init : MethodName := ⟨RJ26, "<init>", "()V"⟩
theorem dJ26_init_0 : decode cJ26_init 0 = .ok (.aload_n 0, 1) := by decide +kernel
theorem dJ26_init_1 : decode cJ26_init 1 = .ok (.invokespecial 1, 3) := by decide +kernel
theorem dJ26_init_4 : decode cJ26_init 4 = .ok (.return_, 1) := by decide +kernel
theorem q125 : (Jvm.Cond.initialized "java/util/AbstractQueue") ∈ lw_all := lw_g (lw_at lw_m1 42 rfl) rfl
theorem q1434 : (Jvm.Cond.instanceMethod ({ cls := "java/util/AbstractQueue", name := "<init>", desc := "()V" } : Jvm.MethodName)) ∈ lw_all := lw_g (lw_at lw_m6 151 rfl) rfl
theorem q1435 : (Jvm.Cond.code ({ cls := "java/util/AbstractQueue", name := "<init>", desc := "()V" } : Jvm.MethodName) prog_49_method_1_code (1 : Nat) (Option.none : Option Jvm.ClassFile.FieldType)) ∈ lw_all := lw_g (lw_at lw_m6 152 rfl) rfl
theorem q1436 : (Jvm.Cond.methodLink "java/util/AbstractQueue" (1 : Nat) ({ cls := "java/util/AbstractCollection", name := "<init>", desc := "()V" } : Jvm.MethodName)) ∈ lw_all := lw_g (lw_at lw_m6 153 rfl) rfl

/-! java/util/PriorityQueue -/
set_option maxRecDepth 100000
def RJ27 : String := "java/util/PriorityQueue"
def TJ27 : u_T := fun k => match k with
  | 0 => ("java/util/PriorityQueue", "queue", "[Ljava/lang/Object;", false)
  | 1 => ("java/util/PriorityQueue", "size", "I", false)
  | 2 => ("java/util/PriorityQueue", "comparator", "Ljava/util/Comparator;", true)
  | _ => ("java/util/PriorityQueue", "modCount", "I", false)
def tyJ27 : Nat → FieldType := fun k => match k with
  | 0 => .array (.object "java/lang/Object")
  | 1 => .int
  | 2 => .object "java/util/Comparator"
  | _ => .int
abbrev wsJ270 : List Cond := u_ws RJ27 TJ27 4
theorem nmJ27 : ∀ a, a < 4 → ∀ b, b < 4 → a ≠ b → (TJ27 a).2.1 ≠ (TJ27 b).2.1 := by decide +kernel
theorem tyJ27_ok : ∀ k, k < 4 → parseFieldDescriptor (TJ27 k).2.2.1 = some (tyJ27 k) := by decide +kernel
abbrev cJ27_init : ByteArray := prog_60_method_1_code
def yJ27_init : MethodName := ⟨RJ27, "<init>", "()V"⟩
def dkwJ27_init_0 : List UInt8 := [42, 16, 11, 1, 183, 0, 3, 177]
abbrev dktJ27_init_0 : List UInt8 := dkwJ27_init_0 ++ []
theorem dksJ27_init_0 : cJ27_init.data.toList.drop 0 = dktJ27_init_0 := by decide +kernel
theorem dJ27_init_0 : decode cJ27_init 0 = .ok (.aload_n 0, 1) := dk_42 (dk_at dksJ27_init_0 0 rfl rfl)
theorem dJ27_init_1 : decode cJ27_init 1 = .ok (.bipush 11, 2) := dk_16 11 (dk_at dksJ27_init_0 1 rfl rfl)
theorem dJ27_init_3 : decode cJ27_init 3 = .ok (.aconst_null, 1) := dk_1 (dk_at dksJ27_init_0 3 rfl rfl)
theorem dJ27_init_4 : decode cJ27_init 4 = .ok (.invokespecial 3, 3) := dk_183 0 3 (dk_at dksJ27_init_0 4 rfl rfl)
theorem dJ27_init_7 : decode cJ27_init 7 = .ok (.return_, 1) := dk_177 (dk_at dksJ27_init_0 7 rfl rfl)
abbrev cJ27_init_2 : ByteArray := prog_60_method_4_code
def yJ27_init_2 : MethodName := ⟨RJ27, "<init>", "(ILjava/util/Comparator;)V"⟩
def dkwJ27_init_2_1 : List UInt8 := [181, 0, 17, 42, 44, 181, 0, 21, 177]
abbrev dktJ27_init_2_1 : List UInt8 := dkwJ27_init_2_1 ++ []
def dkwJ27_init_2_0 : List UInt8 := [42, 183, 0, 7, 27, 4, 162, 0, 11, 187, 0, 12, 89, 183, 0, 14, 191, 42, 27, 189, 0, 15]
abbrev dktJ27_init_2_0 : List UInt8 := dkwJ27_init_2_0 ++ dktJ27_init_2_1
theorem dksJ27_init_2_0 : cJ27_init_2.data.toList.drop 0 = dktJ27_init_2_0 := by decide +kernel
theorem dksJ27_init_2_1 : cJ27_init_2.data.toList.drop 22 = dktJ27_init_2_1 := dk_seg dksJ27_init_2_0 22 rfl rfl
theorem dJ27_init_2_0 : decode cJ27_init_2 0 = .ok (.aload_n 0, 1) := dk_42 (dk_at dksJ27_init_2_0 0 rfl rfl)
theorem dJ27_init_2_1 : decode cJ27_init_2 1 = .ok (.invokespecial 7, 3) := dk_183 0 7 (dk_at dksJ27_init_2_0 1 rfl rfl)
theorem dJ27_init_2_4 : decode cJ27_init_2 4 = .ok (.iload_n 1, 1) := dk_27 (dk_at dksJ27_init_2_0 4 rfl rfl)
theorem dJ27_init_2_5 : decode cJ27_init_2 5 = .ok (.iconst 1, 1) := dk_4 (dk_at dksJ27_init_2_0 5 rfl rfl)
theorem dJ27_init_2_6 : decode cJ27_init_2 6 = .ok (.if_icmp .ge 11, 3) := dk_162 0 11 (dk_at dksJ27_init_2_0 6 rfl rfl)
theorem dJ27_init_2_9 : decode cJ27_init_2 9 = .ok (.new 12, 3) := dk_187 0 12 (dk_at dksJ27_init_2_0 9 rfl rfl)
theorem dJ27_init_2_12 : decode cJ27_init_2 12 = .ok (.dup, 1) := dk_89 (dk_at dksJ27_init_2_0 12 rfl rfl)
theorem dJ27_init_2_13 : decode cJ27_init_2 13 = .ok (.invokespecial 14, 3) := dk_183 0 14 (dk_at dksJ27_init_2_0 13 rfl rfl)
theorem dJ27_init_2_16 : decode cJ27_init_2 16 = .ok (.athrow, 1) := dk_191 (dk_at dksJ27_init_2_0 16 rfl rfl)
theorem dJ27_init_2_17 : decode cJ27_init_2 17 = .ok (.aload_n 0, 1) := dk_42 (dk_at dksJ27_init_2_0 17 rfl rfl)
theorem dJ27_init_2_18 : decode cJ27_init_2 18 = .ok (.iload_n 1, 1) := dk_27 (dk_at dksJ27_init_2_0 18 rfl rfl)
theorem dJ27_init_2_19 : decode cJ27_init_2 19 = .ok (.anewarray 15, 3) := dk_189 0 15 (dk_at dksJ27_init_2_0 19 rfl rfl)
theorem dJ27_init_2_22 : decode cJ27_init_2 22 = .ok (.putfield 17, 3) := dk_181 0 17 (dk_at dksJ27_init_2_1 0 rfl rfl)
theorem dJ27_init_2_25 : decode cJ27_init_2 25 = .ok (.aload_n 0, 1) := dk_42 (dk_at dksJ27_init_2_1 3 rfl rfl)
theorem dJ27_init_2_26 : decode cJ27_init_2 26 = .ok (.aload_n 2, 1) := dk_44 (dk_at dksJ27_init_2_1 4 rfl rfl)
theorem dJ27_init_2_27 : decode cJ27_init_2 27 = .ok (.putfield 21, 3) := dk_181 0 21 (dk_at dksJ27_init_2_1 5 rfl rfl)
theorem dJ27_init_2_30 : decode cJ27_init_2 30 = .ok (.return_, 1) := dk_177 (dk_at dksJ27_init_2_1 8 rfl rfl)
abbrev cJ27_add : ByteArray := prog_60_method_13_code
def yJ27_add : MethodName := ⟨RJ27, "add", "(Ljava/lang/Object;)Z"⟩
def dkwJ27_add_0 : List UInt8 := [42, 43, 182, 0, 89, 172]
abbrev dktJ27_add_0 : List UInt8 := dkwJ27_add_0 ++ []
theorem dksJ27_add_0 : cJ27_add.data.toList.drop 0 = dktJ27_add_0 := by decide +kernel
theorem dJ27_add_0 : decode cJ27_add 0 = .ok (.aload_n 0, 1) := dk_42 (dk_at dksJ27_add_0 0 rfl rfl)
theorem dJ27_add_1 : decode cJ27_add 1 = .ok (.aload_n 1, 1) := dk_43 (dk_at dksJ27_add_0 1 rfl rfl)
theorem dJ27_add_2 : decode cJ27_add 2 = .ok (.invokevirtual 89, 3) := dk_182 0 89 (dk_at dksJ27_add_0 2 rfl rfl)
theorem dJ27_add_5 : decode cJ27_add 5 = .ok (.ireturn, 1) := dk_172 (dk_at dksJ27_add_0 5 rfl rfl)
abbrev cJ27_offer : ByteArray := prog_60_method_14_code
def yJ27_offer : MethodName := ⟨RJ27, "offer", "(Ljava/lang/Object;)Z"⟩
def dkwJ27_offer_2 : List UInt8 := [182, 0, 100, 42, 28, 4, 96, 181, 0, 58, 4, 172]
abbrev dktJ27_offer_2 : List UInt8 := dkwJ27_offer_2 ++ []
def dkwJ27_offer_1 : List UInt8 := [180, 0, 58, 61, 28, 42, 180, 0, 17, 190, 161, 0, 10, 42, 28, 4, 96, 182, 0, 96, 42, 28, 43]
abbrev dktJ27_offer_1 : List UInt8 := dkwJ27_offer_1 ++ dktJ27_offer_2
def dkwJ27_offer_0 : List UInt8 := [43, 199, 0, 11, 187, 0, 74, 89, 183, 0, 76, 191, 42, 89, 180, 0, 93, 4, 96, 181, 0, 93, 42]
abbrev dktJ27_offer_0 : List UInt8 := dkwJ27_offer_0 ++ dktJ27_offer_1
theorem dksJ27_offer_0 : cJ27_offer.data.toList.drop 0 = dktJ27_offer_0 := by decide +kernel
theorem dksJ27_offer_1 : cJ27_offer.data.toList.drop 23 = dktJ27_offer_1 := dk_seg dksJ27_offer_0 23 rfl rfl
theorem dksJ27_offer_2 : cJ27_offer.data.toList.drop 46 = dktJ27_offer_2 := dk_seg dksJ27_offer_1 23 rfl rfl
theorem dJ27_offer_0 : decode cJ27_offer 0 = .ok (.aload_n 1, 1) := dk_43 (dk_at dksJ27_offer_0 0 rfl rfl)
theorem dJ27_offer_1 : decode cJ27_offer 1 = .ok (.ifnonnull 11, 3) := dk_199 0 11 (dk_at dksJ27_offer_0 1 rfl rfl)
theorem dJ27_offer_4 : decode cJ27_offer 4 = .ok (.new 74, 3) := dk_187 0 74 (dk_at dksJ27_offer_0 4 rfl rfl)
theorem dJ27_offer_7 : decode cJ27_offer 7 = .ok (.dup, 1) := dk_89 (dk_at dksJ27_offer_0 7 rfl rfl)
theorem dJ27_offer_8 : decode cJ27_offer 8 = .ok (.invokespecial 76, 3) := dk_183 0 76 (dk_at dksJ27_offer_0 8 rfl rfl)
theorem dJ27_offer_11 : decode cJ27_offer 11 = .ok (.athrow, 1) := dk_191 (dk_at dksJ27_offer_0 11 rfl rfl)
theorem dJ27_offer_12 : decode cJ27_offer 12 = .ok (.aload_n 0, 1) := dk_42 (dk_at dksJ27_offer_0 12 rfl rfl)
theorem dJ27_offer_13 : decode cJ27_offer 13 = .ok (.dup, 1) := dk_89 (dk_at dksJ27_offer_0 13 rfl rfl)
theorem dJ27_offer_14 : decode cJ27_offer 14 = .ok (.getfield 93, 3) := dk_180 0 93 (dk_at dksJ27_offer_0 14 rfl rfl)
theorem dJ27_offer_17 : decode cJ27_offer 17 = .ok (.iconst 1, 1) := dk_4 (dk_at dksJ27_offer_0 17 rfl rfl)
theorem dJ27_offer_18 : decode cJ27_offer 18 = .ok (.iadd, 1) := dk_96 (dk_at dksJ27_offer_0 18 rfl rfl)
theorem dJ27_offer_19 : decode cJ27_offer 19 = .ok (.putfield 93, 3) := dk_181 0 93 (dk_at dksJ27_offer_0 19 rfl rfl)
theorem dJ27_offer_22 : decode cJ27_offer 22 = .ok (.aload_n 0, 1) := dk_42 (dk_at dksJ27_offer_0 22 rfl rfl)
theorem dJ27_offer_23 : decode cJ27_offer 23 = .ok (.getfield 58, 3) := dk_180 0 58 (dk_at dksJ27_offer_1 0 rfl rfl)
theorem dJ27_offer_26 : decode cJ27_offer 26 = .ok (.istore_n 2, 1) := dk_61 (dk_at dksJ27_offer_1 3 rfl rfl)
theorem dJ27_offer_27 : decode cJ27_offer 27 = .ok (.iload_n 2, 1) := dk_28 (dk_at dksJ27_offer_1 4 rfl rfl)
theorem dJ27_offer_28 : decode cJ27_offer 28 = .ok (.aload_n 0, 1) := dk_42 (dk_at dksJ27_offer_1 5 rfl rfl)
theorem dJ27_offer_29 : decode cJ27_offer 29 = .ok (.getfield 17, 3) := dk_180 0 17 (dk_at dksJ27_offer_1 6 rfl rfl)
theorem dJ27_offer_32 : decode cJ27_offer 32 = .ok (.arraylength, 1) := dk_190 (dk_at dksJ27_offer_1 9 rfl rfl)
theorem dJ27_offer_33 : decode cJ27_offer 33 = .ok (.if_icmp .lt 10, 3) := dk_161 0 10 (dk_at dksJ27_offer_1 10 rfl rfl)
theorem dJ27_offer_36 : decode cJ27_offer 36 = .ok (.aload_n 0, 1) := dk_42 (dk_at dksJ27_offer_1 13 rfl rfl)
theorem dJ27_offer_37 : decode cJ27_offer 37 = .ok (.iload_n 2, 1) := dk_28 (dk_at dksJ27_offer_1 14 rfl rfl)
theorem dJ27_offer_38 : decode cJ27_offer 38 = .ok (.iconst 1, 1) := dk_4 (dk_at dksJ27_offer_1 15 rfl rfl)
theorem dJ27_offer_39 : decode cJ27_offer 39 = .ok (.iadd, 1) := dk_96 (dk_at dksJ27_offer_1 16 rfl rfl)
theorem dJ27_offer_40 : decode cJ27_offer 40 = .ok (.invokevirtual 96, 3) := dk_182 0 96 (dk_at dksJ27_offer_1 17 rfl rfl)
theorem dJ27_offer_43 : decode cJ27_offer 43 = .ok (.aload_n 0, 1) := dk_42 (dk_at dksJ27_offer_1 20 rfl rfl)
theorem dJ27_offer_44 : decode cJ27_offer 44 = .ok (.iload_n 2, 1) := dk_28 (dk_at dksJ27_offer_1 21 rfl rfl)
theorem dJ27_offer_45 : decode cJ27_offer 45 = .ok (.aload_n 1, 1) := dk_43 (dk_at dksJ27_offer_1 22 rfl rfl)
theorem dJ27_offer_46 : decode cJ27_offer 46 = .ok (.invokevirtual 100, 3) := dk_182 0 100 (dk_at dksJ27_offer_2 0 rfl rfl)
theorem dJ27_offer_49 : decode cJ27_offer 49 = .ok (.aload_n 0, 1) := dk_42 (dk_at dksJ27_offer_2 3 rfl rfl)
theorem dJ27_offer_50 : decode cJ27_offer 50 = .ok (.iload_n 2, 1) := dk_28 (dk_at dksJ27_offer_2 4 rfl rfl)
theorem dJ27_offer_51 : decode cJ27_offer 51 = .ok (.iconst 1, 1) := dk_4 (dk_at dksJ27_offer_2 5 rfl rfl)
theorem dJ27_offer_52 : decode cJ27_offer 52 = .ok (.iadd, 1) := dk_96 (dk_at dksJ27_offer_2 6 rfl rfl)
theorem dJ27_offer_53 : decode cJ27_offer 53 = .ok (.putfield 58, 3) := dk_181 0 58 (dk_at dksJ27_offer_2 7 rfl rfl)
theorem dJ27_offer_56 : decode cJ27_offer 56 = .ok (.iconst 1, 1) := dk_4 (dk_at dksJ27_offer_2 10 rfl rfl)
theorem dJ27_offer_57 : decode cJ27_offer 57 = .ok (.ireturn, 1) := dk_172 (dk_at dksJ27_offer_2 11 rfl rfl)
abbrev cJ27_grow : ByteArray := prog_60_method_12_code
def yJ27_grow : MethodName := ⟨RJ27, "grow", "(I)V"⟩
def dkwJ27_grow_1 : List UInt8 := [122, 184, 0, 80, 62, 42, 42, 180, 0, 17, 29, 184, 0, 86, 181, 0, 17, 177]
abbrev dktJ27_grow_1 : List UInt8 := dkwJ27_grow_1 ++ []
def dkwJ27_grow_0 : List UInt8 := [42, 180, 0, 17, 190, 61, 28, 27, 28, 100, 28, 16, 64, 162, 0, 9, 28, 5, 96, 167, 0, 6, 28, 4]
abbrev dktJ27_grow_0 : List UInt8 := dkwJ27_grow_0 ++ dktJ27_grow_1
theorem dksJ27_grow_0 : cJ27_grow.data.toList.drop 0 = dktJ27_grow_0 := by decide +kernel
theorem dksJ27_grow_1 : cJ27_grow.data.toList.drop 24 = dktJ27_grow_1 := dk_seg dksJ27_grow_0 24 rfl rfl
theorem dJ27_grow_0 : decode cJ27_grow 0 = .ok (.aload_n 0, 1) := dk_42 (dk_at dksJ27_grow_0 0 rfl rfl)
theorem dJ27_grow_1 : decode cJ27_grow 1 = .ok (.getfield 17, 3) := dk_180 0 17 (dk_at dksJ27_grow_0 1 rfl rfl)
theorem dJ27_grow_4 : decode cJ27_grow 4 = .ok (.arraylength, 1) := dk_190 (dk_at dksJ27_grow_0 4 rfl rfl)
theorem dJ27_grow_5 : decode cJ27_grow 5 = .ok (.istore_n 2, 1) := dk_61 (dk_at dksJ27_grow_0 5 rfl rfl)
theorem dJ27_grow_6 : decode cJ27_grow 6 = .ok (.iload_n 2, 1) := dk_28 (dk_at dksJ27_grow_0 6 rfl rfl)
theorem dJ27_grow_7 : decode cJ27_grow 7 = .ok (.iload_n 1, 1) := dk_27 (dk_at dksJ27_grow_0 7 rfl rfl)
theorem dJ27_grow_8 : decode cJ27_grow 8 = .ok (.iload_n 2, 1) := dk_28 (dk_at dksJ27_grow_0 8 rfl rfl)
theorem dJ27_grow_9 : decode cJ27_grow 9 = .ok (.isub, 1) := dk_100 (dk_at dksJ27_grow_0 9 rfl rfl)
theorem dJ27_grow_10 : decode cJ27_grow 10 = .ok (.iload_n 2, 1) := dk_28 (dk_at dksJ27_grow_0 10 rfl rfl)
theorem dJ27_grow_11 : decode cJ27_grow 11 = .ok (.bipush 64, 2) := dk_16 64 (dk_at dksJ27_grow_0 11 rfl rfl)
theorem dJ27_grow_13 : decode cJ27_grow 13 = .ok (.if_icmp .ge 9, 3) := dk_162 0 9 (dk_at dksJ27_grow_0 13 rfl rfl)
theorem dJ27_grow_16 : decode cJ27_grow 16 = .ok (.iload_n 2, 1) := dk_28 (dk_at dksJ27_grow_0 16 rfl rfl)
theorem dJ27_grow_17 : decode cJ27_grow 17 = .ok (.iconst 2, 1) := dk_5 (dk_at dksJ27_grow_0 17 rfl rfl)
theorem dJ27_grow_18 : decode cJ27_grow 18 = .ok (.iadd, 1) := dk_96 (dk_at dksJ27_grow_0 18 rfl rfl)
theorem dJ27_grow_19 : decode cJ27_grow 19 = .ok (.goto 6, 3) := dk_167 0 6 (dk_at dksJ27_grow_0 19 rfl rfl)
theorem dJ27_grow_22 : decode cJ27_grow 22 = .ok (.iload_n 2, 1) := dk_28 (dk_at dksJ27_grow_0 22 rfl rfl)
theorem dJ27_grow_23 : decode cJ27_grow 23 = .ok (.iconst 1, 1) := dk_4 (dk_at dksJ27_grow_0 23 rfl rfl)
theorem dJ27_grow_24 : decode cJ27_grow 24 = .ok (.ishr, 1) := dk_122 (dk_at dksJ27_grow_1 0 rfl rfl)
theorem dJ27_grow_25 : decode cJ27_grow 25 = .ok (.invokestatic 80, 3) := dk_184 0 80 (dk_at dksJ27_grow_1 1 rfl rfl)
theorem dJ27_grow_28 : decode cJ27_grow 28 = .ok (.istore_n 3, 1) := dk_62 (dk_at dksJ27_grow_1 4 rfl rfl)
theorem dJ27_grow_29 : decode cJ27_grow 29 = .ok (.aload_n 0, 1) := dk_42 (dk_at dksJ27_grow_1 5 rfl rfl)
theorem dJ27_grow_30 : decode cJ27_grow 30 = .ok (.aload_n 0, 1) := dk_42 (dk_at dksJ27_grow_1 6 rfl rfl)
theorem dJ27_grow_31 : decode cJ27_grow 31 = .ok (.getfield 17, 3) := dk_180 0 17 (dk_at dksJ27_grow_1 7 rfl rfl)
theorem dJ27_grow_34 : decode cJ27_grow 34 = .ok (.iload_n 3, 1) := dk_29 (dk_at dksJ27_grow_1 10 rfl rfl)
theorem dJ27_grow_35 : decode cJ27_grow 35 = .ok (.invokestatic 86, 3) := dk_184 0 86 (dk_at dksJ27_grow_1 11 rfl rfl)
theorem dJ27_grow_38 : decode cJ27_grow 38 = .ok (.putfield 17, 3) := dk_181 0 17 (dk_at dksJ27_grow_1 14 rfl rfl)
theorem dJ27_grow_41 : decode cJ27_grow 41 = .ok (.return_, 1) := dk_177 (dk_at dksJ27_grow_1 17 rfl rfl)
abbrev cJ27_siftUp : ByteArray := prog_60_method_27_code
def yJ27_siftUp : MethodName := ⟨RJ27, "siftUp", "(ILjava/lang/Object;)V"⟩
def dkwJ27_siftUp_1 : List UInt8 := [44, 42, 180, 0, 17, 184, 0, 140, 177]
abbrev dktJ27_siftUp_1 : List UInt8 := dkwJ27_siftUp_1 ++ []
def dkwJ27_siftUp_0 : List UInt8 := [42, 180, 0, 21, 198, 0, 19, 27, 44, 42, 180, 0, 17, 42, 180, 0, 21, 184, 0, 136, 167, 0, 12, 27]
abbrev dktJ27_siftUp_0 : List UInt8 := dkwJ27_siftUp_0 ++ dktJ27_siftUp_1
theorem dksJ27_siftUp_0 : cJ27_siftUp.data.toList.drop 0 = dktJ27_siftUp_0 := by decide +kernel
theorem dksJ27_siftUp_1 : cJ27_siftUp.data.toList.drop 24 = dktJ27_siftUp_1 := dk_seg dksJ27_siftUp_0 24 rfl rfl
theorem dJ27_siftUp_0 : decode cJ27_siftUp 0 = .ok (.aload_n 0, 1) := dk_42 (dk_at dksJ27_siftUp_0 0 rfl rfl)
theorem dJ27_siftUp_1 : decode cJ27_siftUp 1 = .ok (.getfield 21, 3) := dk_180 0 21 (dk_at dksJ27_siftUp_0 1 rfl rfl)
theorem dJ27_siftUp_4 : decode cJ27_siftUp 4 = .ok (.ifnull 19, 3) := dk_198 0 19 (dk_at dksJ27_siftUp_0 4 rfl rfl)
theorem dJ27_siftUp_7 : decode cJ27_siftUp 7 = .ok (.iload_n 1, 1) := dk_27 (dk_at dksJ27_siftUp_0 7 rfl rfl)
theorem dJ27_siftUp_8 : decode cJ27_siftUp 8 = .ok (.aload_n 2, 1) := dk_44 (dk_at dksJ27_siftUp_0 8 rfl rfl)
theorem dJ27_siftUp_9 : decode cJ27_siftUp 9 = .ok (.aload_n 0, 1) := dk_42 (dk_at dksJ27_siftUp_0 9 rfl rfl)
theorem dJ27_siftUp_10 : decode cJ27_siftUp 10 = .ok (.getfield 17, 3) := dk_180 0 17 (dk_at dksJ27_siftUp_0 10 rfl rfl)
theorem dJ27_siftUp_13 : decode cJ27_siftUp 13 = .ok (.aload_n 0, 1) := dk_42 (dk_at dksJ27_siftUp_0 13 rfl rfl)
theorem dJ27_siftUp_14 : decode cJ27_siftUp 14 = .ok (.getfield 21, 3) := dk_180 0 21 (dk_at dksJ27_siftUp_0 14 rfl rfl)
theorem dJ27_siftUp_17 : decode cJ27_siftUp 17 = .ok (.invokestatic 136, 3) := dk_184 0 136 (dk_at dksJ27_siftUp_0 17 rfl rfl)
theorem dJ27_siftUp_20 : decode cJ27_siftUp 20 = .ok (.goto 12, 3) := dk_167 0 12 (dk_at dksJ27_siftUp_0 20 rfl rfl)
theorem dJ27_siftUp_23 : decode cJ27_siftUp 23 = .ok (.iload_n 1, 1) := dk_27 (dk_at dksJ27_siftUp_0 23 rfl rfl)
theorem dJ27_siftUp_24 : decode cJ27_siftUp 24 = .ok (.aload_n 2, 1) := dk_44 (dk_at dksJ27_siftUp_1 0 rfl rfl)
theorem dJ27_siftUp_25 : decode cJ27_siftUp 25 = .ok (.aload_n 0, 1) := dk_42 (dk_at dksJ27_siftUp_1 1 rfl rfl)
theorem dJ27_siftUp_26 : decode cJ27_siftUp 26 = .ok (.getfield 17, 3) := dk_180 0 17 (dk_at dksJ27_siftUp_1 2 rfl rfl)
theorem dJ27_siftUp_29 : decode cJ27_siftUp 29 = .ok (.invokestatic 140, 3) := dk_184 0 140 (dk_at dksJ27_siftUp_1 5 rfl rfl)
theorem dJ27_siftUp_32 : decode cJ27_siftUp 32 = .ok (.return_, 1) := dk_177 (dk_at dksJ27_siftUp_1 8 rfl rfl)
abbrev cJ27_siftUpUsingComparator : ByteArray := prog_60_method_29_code
def yJ27_siftUpUsingComparator : MethodName := ⟨RJ27, "siftUpUsingComparator", "(ILjava/lang/Object;[Ljava/lang/Object;Ljava/util/Comparator;)V"⟩
def dkwJ27_siftUpUsingComparator_2 : List UInt8 := [43, 83, 177]
abbrev dktJ27_siftUpUsingComparator_2 : List UInt8 := dkwJ27_siftUpUsingComparator_2 ++ []
def dkwJ27_siftUpUsingComparator_1 : List UInt8 := [185, 0, 149, 3, 0, 155, 0, 6, 167, 0, 14, 44, 26, 25, 5, 83, 21, 4, 59, 167, 255, 216, 44, 26]
abbrev dktJ27_siftUpUsingComparator_1 : List UInt8 := dkwJ27_siftUpUsingComparator_1 ++ dktJ27_siftUpUsingComparator_2
def dkwJ27_siftUpUsingComparator_0 : List UInt8 := [26, 158, 0, 42, 26, 4, 100, 4, 124, 54, 4, 44, 21, 4, 50, 58, 5, 45, 43, 25, 5]
abbrev dktJ27_siftUpUsingComparator_0 : List UInt8 := dkwJ27_siftUpUsingComparator_0 ++ dktJ27_siftUpUsingComparator_1
theorem dksJ27_siftUpUsingComparator_0 : cJ27_siftUpUsingComparator.data.toList.drop 0 = dktJ27_siftUpUsingComparator_0 := by decide +kernel
theorem dksJ27_siftUpUsingComparator_1 : cJ27_siftUpUsingComparator.data.toList.drop 21 = dktJ27_siftUpUsingComparator_1 := dk_seg dksJ27_siftUpUsingComparator_0 21 rfl rfl
theorem dksJ27_siftUpUsingComparator_2 : cJ27_siftUpUsingComparator.data.toList.drop 45 = dktJ27_siftUpUsingComparator_2 := dk_seg dksJ27_siftUpUsingComparator_1 24 rfl rfl
theorem dJ27_siftUpUsingComparator_0 : decode cJ27_siftUpUsingComparator 0 = .ok (.iload_n 0, 1) := dk_26 (dk_at dksJ27_siftUpUsingComparator_0 0 rfl rfl)
theorem dJ27_siftUpUsingComparator_1 : decode cJ27_siftUpUsingComparator 1 = .ok (.ifCond .le 42, 3) := dk_158 0 42 (dk_at dksJ27_siftUpUsingComparator_0 1 rfl rfl)
theorem dJ27_siftUpUsingComparator_4 : decode cJ27_siftUpUsingComparator 4 = .ok (.iload_n 0, 1) := dk_26 (dk_at dksJ27_siftUpUsingComparator_0 4 rfl rfl)
theorem dJ27_siftUpUsingComparator_5 : decode cJ27_siftUpUsingComparator 5 = .ok (.iconst 1, 1) := dk_4 (dk_at dksJ27_siftUpUsingComparator_0 5 rfl rfl)
theorem dJ27_siftUpUsingComparator_6 : decode cJ27_siftUpUsingComparator 6 = .ok (.isub, 1) := dk_100 (dk_at dksJ27_siftUpUsingComparator_0 6 rfl rfl)
theorem dJ27_siftUpUsingComparator_7 : decode cJ27_siftUpUsingComparator 7 = .ok (.iconst 1, 1) := dk_4 (dk_at dksJ27_siftUpUsingComparator_0 7 rfl rfl)
theorem dJ27_siftUpUsingComparator_8 : decode cJ27_siftUpUsingComparator 8 = .ok (.iushr, 1) := dk_124 (dk_at dksJ27_siftUpUsingComparator_0 8 rfl rfl)
theorem dJ27_siftUpUsingComparator_9 : decode cJ27_siftUpUsingComparator 9 = .ok (.istore 4, 2) := dk_54 4 (dk_at dksJ27_siftUpUsingComparator_0 9 rfl rfl)
theorem dJ27_siftUpUsingComparator_11 : decode cJ27_siftUpUsingComparator 11 = .ok (.aload_n 2, 1) := dk_44 (dk_at dksJ27_siftUpUsingComparator_0 11 rfl rfl)
theorem dJ27_siftUpUsingComparator_12 : decode cJ27_siftUpUsingComparator 12 = .ok (.iload 4, 2) := dk_21 4 (dk_at dksJ27_siftUpUsingComparator_0 12 rfl rfl)
theorem dJ27_siftUpUsingComparator_14 : decode cJ27_siftUpUsingComparator 14 = .ok (.aaload, 1) := dk_50 (dk_at dksJ27_siftUpUsingComparator_0 14 rfl rfl)
theorem dJ27_siftUpUsingComparator_15 : decode cJ27_siftUpUsingComparator 15 = .ok (.astore 5, 2) := dk_58 5 (dk_at dksJ27_siftUpUsingComparator_0 15 rfl rfl)
theorem dJ27_siftUpUsingComparator_17 : decode cJ27_siftUpUsingComparator 17 = .ok (.aload_n 3, 1) := dk_45 (dk_at dksJ27_siftUpUsingComparator_0 17 rfl rfl)
theorem dJ27_siftUpUsingComparator_18 : decode cJ27_siftUpUsingComparator 18 = .ok (.aload_n 1, 1) := dk_43 (dk_at dksJ27_siftUpUsingComparator_0 18 rfl rfl)
theorem dJ27_siftUpUsingComparator_19 : decode cJ27_siftUpUsingComparator 19 = .ok (.aload 5, 2) := dk_25 5 (dk_at dksJ27_siftUpUsingComparator_0 19 rfl rfl)
theorem dJ27_siftUpUsingComparator_21 : decode cJ27_siftUpUsingComparator 21 = .ok (.invokeinterface 149 3, 5) := by decide +kernel
theorem dJ27_siftUpUsingComparator_26 : decode cJ27_siftUpUsingComparator 26 = .ok (.ifCond .lt 6, 3) := dk_155 0 6 (dk_at dksJ27_siftUpUsingComparator_1 5 rfl rfl)
theorem dJ27_siftUpUsingComparator_29 : decode cJ27_siftUpUsingComparator 29 = .ok (.goto 14, 3) := dk_167 0 14 (dk_at dksJ27_siftUpUsingComparator_1 8 rfl rfl)
theorem dJ27_siftUpUsingComparator_32 : decode cJ27_siftUpUsingComparator 32 = .ok (.aload_n 2, 1) := dk_44 (dk_at dksJ27_siftUpUsingComparator_1 11 rfl rfl)
theorem dJ27_siftUpUsingComparator_33 : decode cJ27_siftUpUsingComparator 33 = .ok (.iload_n 0, 1) := dk_26 (dk_at dksJ27_siftUpUsingComparator_1 12 rfl rfl)
theorem dJ27_siftUpUsingComparator_34 : decode cJ27_siftUpUsingComparator 34 = .ok (.aload 5, 2) := dk_25 5 (dk_at dksJ27_siftUpUsingComparator_1 13 rfl rfl)
theorem dJ27_siftUpUsingComparator_36 : decode cJ27_siftUpUsingComparator 36 = .ok (.aastore, 1) := dk_83 (dk_at dksJ27_siftUpUsingComparator_1 15 rfl rfl)
theorem dJ27_siftUpUsingComparator_37 : decode cJ27_siftUpUsingComparator 37 = .ok (.iload 4, 2) := dk_21 4 (dk_at dksJ27_siftUpUsingComparator_1 16 rfl rfl)
theorem dJ27_siftUpUsingComparator_39 : decode cJ27_siftUpUsingComparator 39 = .ok (.istore_n 0, 1) := dk_59 (dk_at dksJ27_siftUpUsingComparator_1 18 rfl rfl)
theorem dJ27_siftUpUsingComparator_40 : decode cJ27_siftUpUsingComparator 40 = .ok (.goto (-40), 3) := dk_167 255 216 (dk_at dksJ27_siftUpUsingComparator_1 19 rfl rfl)
theorem dJ27_siftUpUsingComparator_43 : decode cJ27_siftUpUsingComparator 43 = .ok (.aload_n 2, 1) := dk_44 (dk_at dksJ27_siftUpUsingComparator_1 22 rfl rfl)
theorem dJ27_siftUpUsingComparator_44 : decode cJ27_siftUpUsingComparator 44 = .ok (.iload_n 0, 1) := dk_26 (dk_at dksJ27_siftUpUsingComparator_1 23 rfl rfl)
theorem dJ27_siftUpUsingComparator_45 : decode cJ27_siftUpUsingComparator 45 = .ok (.aload_n 1, 1) := dk_43 (dk_at dksJ27_siftUpUsingComparator_2 0 rfl rfl)
theorem dJ27_siftUpUsingComparator_46 : decode cJ27_siftUpUsingComparator 46 = .ok (.aastore, 1) := dk_83 (dk_at dksJ27_siftUpUsingComparator_2 1 rfl rfl)
theorem dJ27_siftUpUsingComparator_47 : decode cJ27_siftUpUsingComparator 47 = .ok (.return_, 1) := dk_177 (dk_at dksJ27_siftUpUsingComparator_2 2 rfl rfl)
abbrev cJ27_siftUpComparable : ByteArray := prog_60_method_28_code
def yJ27_siftUpComparable : MethodName := ⟨RJ27, "siftUpComparable", "(ILjava/lang/Object;[Ljava/lang/Object;)V"⟩
def dkwJ27_siftUpComparable_2 : List UInt8 := [44, 26, 45, 83, 177]
abbrev dktJ27_siftUpComparable_2 : List UInt8 := dkwJ27_siftUpComparable_2 ++ []
def dkwJ27_siftUpComparable_1 : List UInt8 := [25, 5, 185, 0, 146, 2, 0, 155, 0, 6, 167, 0, 14, 44, 26, 25, 5, 83, 21, 4, 59, 167, 255, 217]
abbrev dktJ27_siftUpComparable_1 : List UInt8 := dkwJ27_siftUpComparable_1 ++ dktJ27_siftUpComparable_2
def dkwJ27_siftUpComparable_0 : List UInt8 := [43, 192, 0, 144, 78, 26, 158, 0, 41, 26, 4, 100, 4, 124, 54, 4, 44, 21, 4, 50, 58, 5, 45]
abbrev dktJ27_siftUpComparable_0 : List UInt8 := dkwJ27_siftUpComparable_0 ++ dktJ27_siftUpComparable_1
theorem dksJ27_siftUpComparable_0 : cJ27_siftUpComparable.data.toList.drop 0 = dktJ27_siftUpComparable_0 := by decide +kernel
theorem dksJ27_siftUpComparable_1 : cJ27_siftUpComparable.data.toList.drop 23 = dktJ27_siftUpComparable_1 := dk_seg dksJ27_siftUpComparable_0 23 rfl rfl
theorem dksJ27_siftUpComparable_2 : cJ27_siftUpComparable.data.toList.drop 47 = dktJ27_siftUpComparable_2 := dk_seg dksJ27_siftUpComparable_1 24 rfl rfl
theorem dJ27_siftUpComparable_0 : decode cJ27_siftUpComparable 0 = .ok (.aload_n 1, 1) := dk_43 (dk_at dksJ27_siftUpComparable_0 0 rfl rfl)
theorem dJ27_siftUpComparable_1 : decode cJ27_siftUpComparable 1 = .ok (.checkcast 144, 3) := dk_192 0 144 (dk_at dksJ27_siftUpComparable_0 1 rfl rfl)
theorem dJ27_siftUpComparable_4 : decode cJ27_siftUpComparable 4 = .ok (.astore_n 3, 1) := dk_78 (dk_at dksJ27_siftUpComparable_0 4 rfl rfl)
theorem dJ27_siftUpComparable_5 : decode cJ27_siftUpComparable 5 = .ok (.iload_n 0, 1) := dk_26 (dk_at dksJ27_siftUpComparable_0 5 rfl rfl)
theorem dJ27_siftUpComparable_6 : decode cJ27_siftUpComparable 6 = .ok (.ifCond .le 41, 3) := dk_158 0 41 (dk_at dksJ27_siftUpComparable_0 6 rfl rfl)
theorem dJ27_siftUpComparable_9 : decode cJ27_siftUpComparable 9 = .ok (.iload_n 0, 1) := dk_26 (dk_at dksJ27_siftUpComparable_0 9 rfl rfl)
theorem dJ27_siftUpComparable_10 : decode cJ27_siftUpComparable 10 = .ok (.iconst 1, 1) := dk_4 (dk_at dksJ27_siftUpComparable_0 10 rfl rfl)
theorem dJ27_siftUpComparable_11 : decode cJ27_siftUpComparable 11 = .ok (.isub, 1) := dk_100 (dk_at dksJ27_siftUpComparable_0 11 rfl rfl)
theorem dJ27_siftUpComparable_12 : decode cJ27_siftUpComparable 12 = .ok (.iconst 1, 1) := dk_4 (dk_at dksJ27_siftUpComparable_0 12 rfl rfl)
theorem dJ27_siftUpComparable_13 : decode cJ27_siftUpComparable 13 = .ok (.iushr, 1) := dk_124 (dk_at dksJ27_siftUpComparable_0 13 rfl rfl)
theorem dJ27_siftUpComparable_14 : decode cJ27_siftUpComparable 14 = .ok (.istore 4, 2) := dk_54 4 (dk_at dksJ27_siftUpComparable_0 14 rfl rfl)
theorem dJ27_siftUpComparable_16 : decode cJ27_siftUpComparable 16 = .ok (.aload_n 2, 1) := dk_44 (dk_at dksJ27_siftUpComparable_0 16 rfl rfl)
theorem dJ27_siftUpComparable_17 : decode cJ27_siftUpComparable 17 = .ok (.iload 4, 2) := dk_21 4 (dk_at dksJ27_siftUpComparable_0 17 rfl rfl)
theorem dJ27_siftUpComparable_19 : decode cJ27_siftUpComparable 19 = .ok (.aaload, 1) := dk_50 (dk_at dksJ27_siftUpComparable_0 19 rfl rfl)
theorem dJ27_siftUpComparable_20 : decode cJ27_siftUpComparable 20 = .ok (.astore 5, 2) := dk_58 5 (dk_at dksJ27_siftUpComparable_0 20 rfl rfl)
theorem dJ27_siftUpComparable_22 : decode cJ27_siftUpComparable 22 = .ok (.aload_n 3, 1) := dk_45 (dk_at dksJ27_siftUpComparable_0 22 rfl rfl)
theorem dJ27_siftUpComparable_23 : decode cJ27_siftUpComparable 23 = .ok (.aload 5, 2) := dk_25 5 (dk_at dksJ27_siftUpComparable_1 0 rfl rfl)
theorem dJ27_siftUpComparable_25 : decode cJ27_siftUpComparable 25 = .ok (.invokeinterface 146 2, 5) := by decide +kernel
theorem dJ27_siftUpComparable_30 : decode cJ27_siftUpComparable 30 = .ok (.ifCond .lt 6, 3) := dk_155 0 6 (dk_at dksJ27_siftUpComparable_1 7 rfl rfl)
theorem dJ27_siftUpComparable_33 : decode cJ27_siftUpComparable 33 = .ok (.goto 14, 3) := dk_167 0 14 (dk_at dksJ27_siftUpComparable_1 10 rfl rfl)
theorem dJ27_siftUpComparable_36 : decode cJ27_siftUpComparable 36 = .ok (.aload_n 2, 1) := dk_44 (dk_at dksJ27_siftUpComparable_1 13 rfl rfl)
theorem dJ27_siftUpComparable_37 : decode cJ27_siftUpComparable 37 = .ok (.iload_n 0, 1) := dk_26 (dk_at dksJ27_siftUpComparable_1 14 rfl rfl)
theorem dJ27_siftUpComparable_38 : decode cJ27_siftUpComparable 38 = .ok (.aload 5, 2) := dk_25 5 (dk_at dksJ27_siftUpComparable_1 15 rfl rfl)
theorem dJ27_siftUpComparable_40 : decode cJ27_siftUpComparable 40 = .ok (.aastore, 1) := dk_83 (dk_at dksJ27_siftUpComparable_1 17 rfl rfl)
theorem dJ27_siftUpComparable_41 : decode cJ27_siftUpComparable 41 = .ok (.iload 4, 2) := dk_21 4 (dk_at dksJ27_siftUpComparable_1 18 rfl rfl)
theorem dJ27_siftUpComparable_43 : decode cJ27_siftUpComparable 43 = .ok (.istore_n 0, 1) := dk_59 (dk_at dksJ27_siftUpComparable_1 20 rfl rfl)
theorem dJ27_siftUpComparable_44 : decode cJ27_siftUpComparable 44 = .ok (.goto (-39), 3) := dk_167 255 217 (dk_at dksJ27_siftUpComparable_1 21 rfl rfl)
theorem dJ27_siftUpComparable_47 : decode cJ27_siftUpComparable 47 = .ok (.aload_n 2, 1) := dk_44 (dk_at dksJ27_siftUpComparable_2 0 rfl rfl)
theorem dJ27_siftUpComparable_48 : decode cJ27_siftUpComparable 48 = .ok (.iload_n 0, 1) := dk_26 (dk_at dksJ27_siftUpComparable_2 1 rfl rfl)
theorem dJ27_siftUpComparable_49 : decode cJ27_siftUpComparable 49 = .ok (.aload_n 3, 1) := dk_45 (dk_at dksJ27_siftUpComparable_2 2 rfl rfl)
theorem dJ27_siftUpComparable_50 : decode cJ27_siftUpComparable 50 = .ok (.aastore, 1) := dk_83 (dk_at dksJ27_siftUpComparable_2 3 rfl rfl)
theorem dJ27_siftUpComparable_51 : decode cJ27_siftUpComparable 51 = .ok (.return_, 1) := dk_177 (dk_at dksJ27_siftUpComparable_2 4 rfl rfl)
abbrev cJ27_peek : ByteArray := prog_60_method_15_code
def yJ27_peek : MethodName := ⟨RJ27, "peek", "()Ljava/lang/Object;"⟩
def dkwJ27_peek_0 : List UInt8 := [42, 180, 0, 17, 3, 50, 176]
abbrev dktJ27_peek_0 : List UInt8 := dkwJ27_peek_0 ++ []
theorem dksJ27_peek_0 : cJ27_peek.data.toList.drop 0 = dktJ27_peek_0 := by decide +kernel
theorem dJ27_peek_0 : decode cJ27_peek 0 = .ok (.aload_n 0, 1) := dk_42 (dk_at dksJ27_peek_0 0 rfl rfl)
theorem dJ27_peek_1 : decode cJ27_peek 1 = .ok (.getfield 17, 3) := dk_180 0 17 (dk_at dksJ27_peek_0 1 rfl rfl)
theorem dJ27_peek_4 : decode cJ27_peek 4 = .ok (.iconst 0, 1) := dk_3 (dk_at dksJ27_peek_0 4 rfl rfl)
theorem dJ27_peek_5 : decode cJ27_peek 5 = .ok (.aaload, 1) := dk_50 (dk_at dksJ27_peek_0 5 rfl rfl)
theorem dJ27_peek_6 : decode cJ27_peek 6 = .ok (.areturn, 1) := dk_176 (dk_at dksJ27_peek_0 6 rfl rfl)
theorem q126 : (Jvm.Cond.initialized "java/util/PriorityQueue") ∈ lw_all := lw_g (lw_at lw_m1 43 rfl) rfl
theorem q1105 : (Jvm.Cond.selects "java/util/PriorityQueue" ({ cls := "java/lang/Object", name := "getClass", desc := "()Ljava/lang/Class;" } : Jvm.MethodName) ({ cls := "java/lang/Object", name := "getClass", desc := "()Ljava/lang/Class;" } : Jvm.MethodName)) ∈ lw_all := lw_g (lw_at lw_m5 62 rfl) rfl
theorem q1426 : (Jvm.Cond.instantiable "java/util/PriorityQueue" (4 : Nat)) ∈ lw_all := lw_g (lw_at lw_m6 143 rfl) rfl
theorem q1428 : (Jvm.Cond.instanceMethod ({ cls := "java/util/PriorityQueue", name := "<init>", desc := "()V" } : Jvm.MethodName)) ∈ lw_all := lw_g (lw_at lw_m6 145 rfl) rfl
theorem q1429 : (Jvm.Cond.code ({ cls := "java/util/PriorityQueue", name := "<init>", desc := "()V" } : Jvm.MethodName) prog_60_method_1_code (1 : Nat) (Option.none : Option Jvm.ClassFile.FieldType)) ∈ lw_all := lw_g (lw_at lw_m6 146 rfl) rfl
theorem q1430 : (Jvm.Cond.methodLink "java/util/PriorityQueue" (3 : Nat) ({ cls := "java/util/PriorityQueue", name := "<init>", desc := "(ILjava/util/Comparator;)V" } : Jvm.MethodName)) ∈ lw_all := lw_g (lw_at lw_m6 147 rfl) rfl
theorem q1431 : (Jvm.Cond.instanceMethod ({ cls := "java/util/PriorityQueue", name := "<init>", desc := "(ILjava/util/Comparator;)V" } : Jvm.MethodName)) ∈ lw_all := lw_g (lw_at lw_m6 148 rfl) rfl
theorem q1432 : (Jvm.Cond.code ({ cls := "java/util/PriorityQueue", name := "<init>", desc := "(ILjava/util/Comparator;)V" } : Jvm.MethodName) prog_60_method_4_code (3 : Nat) (Option.none : Option Jvm.ClassFile.FieldType)) ∈ lw_all := lw_g (lw_at lw_m6 149 rfl) rfl
theorem q1433 : (Jvm.Cond.methodLink "java/util/PriorityQueue" (7 : Nat) ({ cls := "java/util/AbstractQueue", name := "<init>", desc := "()V" } : Jvm.MethodName)) ∈ lw_all := lw_g (lw_at lw_m6 150 rfl) rfl
theorem q1437 : (Jvm.Cond.classLink "java/util/PriorityQueue" (12 : Nat) "java/lang/IllegalArgumentException") ∈ lw_all := lw_g (lw_at lw_m6 154 rfl) rfl
theorem q1438 : (Jvm.Cond.methodLink "java/util/PriorityQueue" (14 : Nat) ({ cls := "java/lang/IllegalArgumentException", name := "<init>", desc := "()V" } : Jvm.MethodName)) ∈ lw_all := lw_g (lw_at lw_m6 155 rfl) rfl
theorem q1439 : (Jvm.Cond.classLink "java/util/PriorityQueue" (15 : Nat) "java/lang/Object") ∈ lw_all := lw_g (lw_at lw_m6 156 rfl) rfl
theorem q1440 : (Jvm.Cond.fieldLink "java/util/PriorityQueue" (17 : Nat) "java/util/PriorityQueue" "queue" "[Ljava/lang/Object;") ∈ lw_all := lw_g (lw_at lw_m6 157 rfl) rfl
theorem q1441 : (Jvm.Cond.fieldLink "java/util/PriorityQueue" (58 : Nat) "java/util/PriorityQueue" "size" "I") ∈ lw_all := lw_g (lw_at lw_m6 158 rfl) rfl
theorem q1442 : (Jvm.Cond.fieldLink "java/util/PriorityQueue" (21 : Nat) "java/util/PriorityQueue" "comparator" "Ljava/util/Comparator;") ∈ lw_all := lw_g (lw_at lw_m6 159 rfl) rfl
theorem q1443 : (Jvm.Cond.fieldLink "java/util/PriorityQueue" (93 : Nat) "java/util/PriorityQueue" "modCount" "I") ∈ lw_all := lw_g (lw_at lw_m6 160 rfl) rfl
theorem q1444 : (Jvm.Cond.lays "java/util/PriorityQueue" "java/util/PriorityQueue" "queue" "[Ljava/lang/Object;") ∈ lw_all := lw_g (lw_at lw_m6 161 rfl) rfl
theorem q1445 : (Jvm.Cond.soleField "java/util/PriorityQueue" "queue") ∈ lw_all := lw_g (lw_at lw_m6 162 rfl) rfl
theorem q1446 : (Jvm.Cond.lays "java/util/PriorityQueue" "java/util/PriorityQueue" "size" "I") ∈ lw_all := lw_g (lw_at lw_m6 163 rfl) rfl
theorem q1447 : (Jvm.Cond.soleField "java/util/PriorityQueue" "size") ∈ lw_all := lw_g (lw_at lw_m6 164 rfl) rfl
theorem q1448 : (Jvm.Cond.laysFinal "java/util/PriorityQueue" "java/util/PriorityQueue" "comparator" "Ljava/util/Comparator;") ∈ lw_all := lw_g (lw_at lw_m6 165 rfl) rfl
theorem q1449 : (Jvm.Cond.soleField "java/util/PriorityQueue" "comparator") ∈ lw_all := lw_g (lw_at lw_m6 166 rfl) rfl
theorem q1450 : (Jvm.Cond.lays "java/util/PriorityQueue" "java/util/PriorityQueue" "modCount" "I") ∈ lw_all := lw_g (lw_at lw_m6 167 rfl) rfl
theorem q1451 : (Jvm.Cond.soleField "java/util/PriorityQueue" "modCount") ∈ lw_all := lw_g (lw_at lw_m6 168 rfl) rfl
theorem q1452 : (Jvm.Cond.superclass "java/util/PriorityQueue" "java/util/AbstractQueue") ∈ lw_all := lw_g (lw_at lw_m6 169 rfl) rfl
theorem q1468 : (Jvm.Cond.instanceMethod ({ cls := "java/util/PriorityQueue", name := "add", desc := "(Ljava/lang/Object;)Z" } : Jvm.MethodName)) ∈ lw_all := lw_g (lw_at lw_m6 185 rfl) rfl
theorem q1469 : (Jvm.Cond.selects "java/util/PriorityQueue" ({ cls := "java/util/PriorityQueue", name := "add", desc := "(Ljava/lang/Object;)Z" } : Jvm.MethodName) ({ cls := "java/util/PriorityQueue", name := "add", desc := "(Ljava/lang/Object;)Z" } : Jvm.MethodName)) ∈ lw_all := lw_g (lw_at lw_m6 186 rfl) rfl
theorem q1470 : (Jvm.Cond.code ({ cls := "java/util/PriorityQueue", name := "add", desc := "(Ljava/lang/Object;)Z" } : Jvm.MethodName) prog_60_method_13_code (2 : Nat) (Option.some Jvm.ClassFile.FieldType.boolean)) ∈ lw_all := lw_g (lw_at lw_m6 187 rfl) rfl
theorem q1471 : (Jvm.Cond.methodLink "java/util/PriorityQueue" (89 : Nat) ({ cls := "java/util/PriorityQueue", name := "offer", desc := "(Ljava/lang/Object;)Z" } : Jvm.MethodName)) ∈ lw_all := lw_g (lw_at lw_m6 188 rfl) rfl
theorem q1472 : (Jvm.Cond.instanceMethod ({ cls := "java/util/PriorityQueue", name := "offer", desc := "(Ljava/lang/Object;)Z" } : Jvm.MethodName)) ∈ lw_all := lw_g (lw_at lw_m6 189 rfl) rfl
theorem q1473 : (Jvm.Cond.selects "java/util/PriorityQueue" ({ cls := "java/util/PriorityQueue", name := "offer", desc := "(Ljava/lang/Object;)Z" } : Jvm.MethodName) ({ cls := "java/util/PriorityQueue", name := "offer", desc := "(Ljava/lang/Object;)Z" } : Jvm.MethodName)) ∈ lw_all := lw_g (lw_at lw_m6 190 rfl) rfl
theorem q1474 : (Jvm.Cond.code ({ cls := "java/util/PriorityQueue", name := "offer", desc := "(Ljava/lang/Object;)Z" } : Jvm.MethodName) prog_60_method_14_code (3 : Nat) (Option.some Jvm.ClassFile.FieldType.boolean)) ∈ lw_all := lw_g (lw_at lw_m6 191 rfl) rfl
theorem q1475 : (Jvm.Cond.methodLink "java/util/PriorityQueue" (96 : Nat) ({ cls := "java/util/PriorityQueue", name := "grow", desc := "(I)V" } : Jvm.MethodName)) ∈ lw_all := lw_g (lw_at lw_m6 192 rfl) rfl
theorem q1476 : (Jvm.Cond.privateMethod ({ cls := "java/util/PriorityQueue", name := "grow", desc := "(I)V" } : Jvm.MethodName)) ∈ lw_tbl := lw_at lw_m6 193 rfl
theorem q1477 : (Jvm.Cond.instanceMethod ({ cls := "java/util/PriorityQueue", name := "grow", desc := "(I)V" } : Jvm.MethodName)) ∈ lw_all := lw_g (lw_at lw_m6 194 rfl) rfl
theorem q1478 : (Jvm.Cond.code ({ cls := "java/util/PriorityQueue", name := "grow", desc := "(I)V" } : Jvm.MethodName) prog_60_method_12_code (4 : Nat) (Option.none : Option Jvm.ClassFile.FieldType)) ∈ lw_all := lw_g (lw_at lw_m6 195 rfl) rfl
theorem q1479 : (Jvm.Cond.methodLink "java/util/PriorityQueue" (80 : Nat) ({ cls := "jdk/internal/util/ArraysSupport", name := "newLength", desc := "(III)I" } : Jvm.MethodName)) ∈ lw_all := lw_g (lw_at lw_m6 196 rfl) rfl
theorem q1480 : (Jvm.Cond.methodLink "java/util/PriorityQueue" (86 : Nat) ({ cls := "java/util/Arrays", name := "copyOf", desc := "([Ljava/lang/Object;I)[Ljava/lang/Object;" } : Jvm.MethodName)) ∈ lw_all := lw_g (lw_at lw_m6 197 rfl) rfl
theorem q1481 : (Jvm.Cond.methodLink "java/util/PriorityQueue" (100 : Nat) ({ cls := "java/util/PriorityQueue", name := "siftUp", desc := "(ILjava/lang/Object;)V" } : Jvm.MethodName)) ∈ lw_all := lw_g (lw_at lw_m6 198 rfl) rfl
theorem q1482 : (Jvm.Cond.privateMethod ({ cls := "java/util/PriorityQueue", name := "siftUp", desc := "(ILjava/lang/Object;)V" } : Jvm.MethodName)) ∈ lw_tbl := lw_at lw_m6 199 rfl
theorem q1483 : (Jvm.Cond.instanceMethod ({ cls := "java/util/PriorityQueue", name := "siftUp", desc := "(ILjava/lang/Object;)V" } : Jvm.MethodName)) ∈ lw_all := lw_g (lw_at lw_m6 200 rfl) rfl
theorem q1484 : (Jvm.Cond.code ({ cls := "java/util/PriorityQueue", name := "siftUp", desc := "(ILjava/lang/Object;)V" } : Jvm.MethodName) prog_60_method_27_code (3 : Nat) (Option.none : Option Jvm.ClassFile.FieldType)) ∈ lw_all := lw_g (lw_at lw_m6 201 rfl) rfl
theorem q1485 : (Jvm.Cond.methodLink "java/util/PriorityQueue" (136 : Nat) ({ cls := "java/util/PriorityQueue", name := "siftUpUsingComparator", desc := "(ILjava/lang/Object;[Ljava/lang/Object;Ljava/util/Comparator;)V" } : Jvm.MethodName)) ∈ lw_all := lw_g (lw_at lw_m6 202 rfl) rfl
theorem q1486 : (Jvm.Cond.static ({ cls := "java/util/PriorityQueue", name := "siftUpUsingComparator", desc := "(ILjava/lang/Object;[Ljava/lang/Object;Ljava/util/Comparator;)V" } : Jvm.MethodName)) ∈ lw_all := lw_g (lw_at lw_m6 203 rfl) rfl
theorem q1487 : (Jvm.Cond.code ({ cls := "java/util/PriorityQueue", name := "siftUpUsingComparator", desc := "(ILjava/lang/Object;[Ljava/lang/Object;Ljava/util/Comparator;)V" } : Jvm.MethodName) prog_60_method_29_code (6 : Nat) (Option.none : Option Jvm.ClassFile.FieldType)) ∈ lw_all := lw_g (lw_at lw_m6 204 rfl) rfl
theorem q1488 : (Jvm.Cond.interfaceEntry "java/util/PriorityQueue" (149 : Nat)) ∈ lw_tbl := lw_at lw_m6 205 rfl
theorem q1489 : (Jvm.Cond.methodLink "java/util/PriorityQueue" (149 : Nat) ({ cls := "java/util/Comparator", name := "compare", desc := "(Ljava/lang/Object;Ljava/lang/Object;)I" } : Jvm.MethodName)) ∈ lw_all := lw_g (lw_at lw_m6 206 rfl) rfl
theorem q1492 : (Jvm.Cond.methodLink "java/util/PriorityQueue" (140 : Nat) ({ cls := "java/util/PriorityQueue", name := "siftUpComparable", desc := "(ILjava/lang/Object;[Ljava/lang/Object;)V" } : Jvm.MethodName)) ∈ lw_all := lw_g (lw_at lw_m6 209 rfl) rfl
theorem q1493 : (Jvm.Cond.static ({ cls := "java/util/PriorityQueue", name := "siftUpComparable", desc := "(ILjava/lang/Object;[Ljava/lang/Object;)V" } : Jvm.MethodName)) ∈ lw_all := lw_g (lw_at lw_m6 210 rfl) rfl
theorem q1494 : (Jvm.Cond.code ({ cls := "java/util/PriorityQueue", name := "siftUpComparable", desc := "(ILjava/lang/Object;[Ljava/lang/Object;)V" } : Jvm.MethodName) prog_60_method_28_code (6 : Nat) (Option.none : Option Jvm.ClassFile.FieldType)) ∈ lw_all := lw_g (lw_at lw_m6 211 rfl) rfl
theorem q1495 : (Jvm.Cond.classLink "java/util/PriorityQueue" (144 : Nat) "java/lang/Comparable") ∈ lw_all := lw_g (lw_at lw_m6 212 rfl) rfl
theorem q1496 : (Jvm.Cond.interfaceEntry "java/util/PriorityQueue" (146 : Nat)) ∈ lw_tbl := lw_at lw_m6 213 rfl
theorem q1497 : (Jvm.Cond.methodLink "java/util/PriorityQueue" (146 : Nat) ({ cls := "java/lang/Comparable", name := "compareTo", desc := "(Ljava/lang/Object;)I" } : Jvm.MethodName)) ∈ lw_all := lw_g (lw_at lw_m6 214 rfl) rfl
theorem q1726 : (Jvm.Cond.instanceMethod ({ cls := "java/util/PriorityQueue", name := "peek", desc := "()Ljava/lang/Object;" } : Jvm.MethodName)) ∈ lw_all := lw_g (lw_at lw_m7 203 rfl) rfl
theorem q1727 : (Jvm.Cond.selects "java/util/PriorityQueue" ({ cls := "java/util/PriorityQueue", name := "peek", desc := "()Ljava/lang/Object;" } : Jvm.MethodName) ({ cls := "java/util/PriorityQueue", name := "peek", desc := "()Ljava/lang/Object;" } : Jvm.MethodName)) ∈ lw_all := lw_g (lw_at lw_m7 204 rfl) rfl
theorem q1728 : (Jvm.Cond.code ({ cls := "java/util/PriorityQueue", name := "peek", desc := "()Ljava/lang/Object;" } : Jvm.MethodName) prog_60_method_15_code (1 : Nat) (Option.some (Jvm.ClassFile.FieldType.object "java/lang/Object"))) ∈ lw_all := lw_g (lw_at lw_m7 205 rfl) rfl
theorem q2684 : (Jvm.Cond.castable "java/util/PriorityQueue" "java/lang/Object") ∈ lw_tbl := lw_at lw_m11 201 rfl
theorem in_J27 : ∀ w ∈ wsJ270, w ∈ lw_all := lw_in wsJ270 [1444, 1446, 1448, 1450] (by decide +kernel) (by decide +kernel)

/-! jdk/internal/misc/Unsafe -/
set_option maxRecDepth 100000
def RJ28 : String := "jdk/internal/misc/Unsafe"
abbrev cJ28_getLongUnaligned : ByteArray := prog_64_method_334_code
def yJ28_getLongUnaligned : MethodName := ⟨RJ28, "getLongUnaligned", "(Ljava/lang/Object;J)J"⟩
def dkwJ28_getLongUnaligned_7 : List UInt8 := [182, 0, 39, 184, 2, 197, 173]
abbrev dktJ28_getLongUnaligned_7 : List UInt8 := dkwJ28_getLongUnaligned_7 ++ []
def dkwJ28_getLongUnaligned_6 : List UInt8 := [20, 2, 195, 97, 182, 0, 39, 42, 43, 32, 20, 2, 190, 97, 182, 0, 39, 42, 43, 32, 20, 2, 184, 97]
abbrev dktJ28_getLongUnaligned_6 : List UInt8 := dkwJ28_getLongUnaligned_6 ++ dktJ28_getLongUnaligned_7
def dkwJ28_getLongUnaligned_5 : List UInt8 := [43, 32, 20, 1, 93, 97, 182, 0, 39, 42, 43, 32, 20, 0, 205, 97, 182, 0, 39, 42, 43, 32]
abbrev dktJ28_getLongUnaligned_5 : List UInt8 := dkwJ28_getLongUnaligned_5 ++ dktJ28_getLongUnaligned_6
def dkwJ28_getLongUnaligned_4 : List UInt8 := [43, 32, 182, 0, 39, 42, 43, 32, 10, 97, 182, 0, 39, 42, 43, 32, 20, 0, 203, 97, 182, 0, 39, 42]
abbrev dktJ28_getLongUnaligned_4 : List UInt8 := dkwJ28_getLongUnaligned_4 ++ dktJ28_getLongUnaligned_5
def dkwJ28_getLongUnaligned_3 : List UInt8 := [43, 32, 20, 0, 205, 97, 182, 0, 47, 42, 43, 32, 20, 2, 190, 97, 182, 0, 47, 184, 2, 192, 173, 42]
abbrev dktJ28_getLongUnaligned_3 : List UInt8 := dkwJ28_getLongUnaligned_3 ++ dktJ28_getLongUnaligned_4
def dkwJ28_getLongUnaligned_2 : List UInt8 := [10, 127, 9, 148, 154, 0, 43, 42, 43, 32, 182, 0, 47, 42, 43, 32, 20, 0, 203, 97, 182, 0, 47, 42]
abbrev dktJ28_getLongUnaligned_2 : List UInt8 := dkwJ28_getLongUnaligned_2 ++ dktJ28_getLongUnaligned_3
def dkwJ28_getLongUnaligned_1 : List UInt8 := [154, 0, 23, 42, 43, 32, 182, 0, 17, 42, 43, 32, 20, 0, 205, 97, 182, 0, 17, 184, 2, 186, 173, 32]
abbrev dktJ28_getLongUnaligned_1 : List UInt8 := dkwJ28_getLongUnaligned_1 ++ dktJ28_getLongUnaligned_2
def dkwJ28_getLongUnaligned_0 : List UInt8 := [32, 20, 2, 184, 127, 9, 148, 154, 0, 10, 42, 43, 32, 182, 0, 27, 173, 32, 20, 1, 93, 127, 9, 148]
abbrev dktJ28_getLongUnaligned_0 : List UInt8 := dkwJ28_getLongUnaligned_0 ++ dktJ28_getLongUnaligned_1
theorem dksJ28_getLongUnaligned_0 : cJ28_getLongUnaligned.data.toList.drop 0 = dktJ28_getLongUnaligned_0 := by decide +kernel
theorem dksJ28_getLongUnaligned_1 : cJ28_getLongUnaligned.data.toList.drop 24 = dktJ28_getLongUnaligned_1 := dk_seg dksJ28_getLongUnaligned_0 24 rfl rfl
theorem dksJ28_getLongUnaligned_2 : cJ28_getLongUnaligned.data.toList.drop 48 = dktJ28_getLongUnaligned_2 := dk_seg dksJ28_getLongUnaligned_1 24 rfl rfl
theorem dksJ28_getLongUnaligned_3 : cJ28_getLongUnaligned.data.toList.drop 72 = dktJ28_getLongUnaligned_3 := dk_seg dksJ28_getLongUnaligned_2 24 rfl rfl
theorem dksJ28_getLongUnaligned_4 : cJ28_getLongUnaligned.data.toList.drop 96 = dktJ28_getLongUnaligned_4 := dk_seg dksJ28_getLongUnaligned_3 24 rfl rfl
theorem dksJ28_getLongUnaligned_5 : cJ28_getLongUnaligned.data.toList.drop 120 = dktJ28_getLongUnaligned_5 := dk_seg dksJ28_getLongUnaligned_4 24 rfl rfl
theorem dksJ28_getLongUnaligned_6 : cJ28_getLongUnaligned.data.toList.drop 142 = dktJ28_getLongUnaligned_6 := dk_seg dksJ28_getLongUnaligned_5 22 rfl rfl
theorem dksJ28_getLongUnaligned_7 : cJ28_getLongUnaligned.data.toList.drop 166 = dktJ28_getLongUnaligned_7 := dk_seg dksJ28_getLongUnaligned_6 24 rfl rfl
theorem dJ28_getLongUnaligned_0 : decode cJ28_getLongUnaligned 0 = .ok (.lload_n 2, 1) := dk_32 (dk_at dksJ28_getLongUnaligned_0 0 rfl rfl)
theorem dJ28_getLongUnaligned_1 : decode cJ28_getLongUnaligned 1 = .ok (.ldc2_w 696, 3) := dk_20 2 184 (dk_at dksJ28_getLongUnaligned_0 1 rfl rfl)
theorem dJ28_getLongUnaligned_4 : decode cJ28_getLongUnaligned 4 = .ok (.land, 1) := dk_127 (dk_at dksJ28_getLongUnaligned_0 4 rfl rfl)
theorem dJ28_getLongUnaligned_5 : decode cJ28_getLongUnaligned 5 = .ok (.lconst 0, 1) := dk_9 (dk_at dksJ28_getLongUnaligned_0 5 rfl rfl)
theorem dJ28_getLongUnaligned_6 : decode cJ28_getLongUnaligned 6 = .ok (.lcmp, 1) := dk_148 (dk_at dksJ28_getLongUnaligned_0 6 rfl rfl)
theorem dJ28_getLongUnaligned_7 : decode cJ28_getLongUnaligned 7 = .ok (.ifCond .ne 10, 3) := dk_154 0 10 (dk_at dksJ28_getLongUnaligned_0 7 rfl rfl)
theorem dJ28_getLongUnaligned_10 : decode cJ28_getLongUnaligned 10 = .ok (.aload_n 0, 1) := dk_42 (dk_at dksJ28_getLongUnaligned_0 10 rfl rfl)
theorem dJ28_getLongUnaligned_11 : decode cJ28_getLongUnaligned 11 = .ok (.aload_n 1, 1) := dk_43 (dk_at dksJ28_getLongUnaligned_0 11 rfl rfl)
theorem dJ28_getLongUnaligned_12 : decode cJ28_getLongUnaligned 12 = .ok (.lload_n 2, 1) := dk_32 (dk_at dksJ28_getLongUnaligned_0 12 rfl rfl)
theorem dJ28_getLongUnaligned_13 : decode cJ28_getLongUnaligned 13 = .ok (.invokevirtual 27, 3) := dk_182 0 27 (dk_at dksJ28_getLongUnaligned_0 13 rfl rfl)
theorem dJ28_getLongUnaligned_16 : decode cJ28_getLongUnaligned 16 = .ok (.lreturn, 1) := dk_173 (dk_at dksJ28_getLongUnaligned_0 16 rfl rfl)
theorem dJ28_getLongUnaligned_17 : decode cJ28_getLongUnaligned 17 = .ok (.lload_n 2, 1) := dk_32 (dk_at dksJ28_getLongUnaligned_0 17 rfl rfl)
theorem dJ28_getLongUnaligned_18 : decode cJ28_getLongUnaligned 18 = .ok (.ldc2_w 349, 3) := dk_20 1 93 (dk_at dksJ28_getLongUnaligned_0 18 rfl rfl)
theorem dJ28_getLongUnaligned_21 : decode cJ28_getLongUnaligned 21 = .ok (.land, 1) := dk_127 (dk_at dksJ28_getLongUnaligned_0 21 rfl rfl)
theorem dJ28_getLongUnaligned_22 : decode cJ28_getLongUnaligned 22 = .ok (.lconst 0, 1) := dk_9 (dk_at dksJ28_getLongUnaligned_0 22 rfl rfl)
theorem dJ28_getLongUnaligned_23 : decode cJ28_getLongUnaligned 23 = .ok (.lcmp, 1) := dk_148 (dk_at dksJ28_getLongUnaligned_0 23 rfl rfl)
theorem dJ28_getLongUnaligned_24 : decode cJ28_getLongUnaligned 24 = .ok (.ifCond .ne 23, 3) := dk_154 0 23 (dk_at dksJ28_getLongUnaligned_1 0 rfl rfl)
theorem dJ28_getLongUnaligned_27 : decode cJ28_getLongUnaligned 27 = .ok (.aload_n 0, 1) := dk_42 (dk_at dksJ28_getLongUnaligned_1 3 rfl rfl)
theorem dJ28_getLongUnaligned_28 : decode cJ28_getLongUnaligned 28 = .ok (.aload_n 1, 1) := dk_43 (dk_at dksJ28_getLongUnaligned_1 4 rfl rfl)
theorem dJ28_getLongUnaligned_29 : decode cJ28_getLongUnaligned 29 = .ok (.lload_n 2, 1) := dk_32 (dk_at dksJ28_getLongUnaligned_1 5 rfl rfl)
theorem dJ28_getLongUnaligned_30 : decode cJ28_getLongUnaligned 30 = .ok (.invokevirtual 17, 3) := dk_182 0 17 (dk_at dksJ28_getLongUnaligned_1 6 rfl rfl)
theorem dJ28_getLongUnaligned_33 : decode cJ28_getLongUnaligned 33 = .ok (.aload_n 0, 1) := dk_42 (dk_at dksJ28_getLongUnaligned_1 9 rfl rfl)
theorem dJ28_getLongUnaligned_34 : decode cJ28_getLongUnaligned 34 = .ok (.aload_n 1, 1) := dk_43 (dk_at dksJ28_getLongUnaligned_1 10 rfl rfl)
theorem dJ28_getLongUnaligned_35 : decode cJ28_getLongUnaligned 35 = .ok (.lload_n 2, 1) := dk_32 (dk_at dksJ28_getLongUnaligned_1 11 rfl rfl)
theorem dJ28_getLongUnaligned_36 : decode cJ28_getLongUnaligned 36 = .ok (.ldc2_w 205, 3) := dk_20 0 205 (dk_at dksJ28_getLongUnaligned_1 12 rfl rfl)
theorem dJ28_getLongUnaligned_39 : decode cJ28_getLongUnaligned 39 = .ok (.ladd, 1) := dk_97 (dk_at dksJ28_getLongUnaligned_1 15 rfl rfl)
theorem dJ28_getLongUnaligned_40 : decode cJ28_getLongUnaligned 40 = .ok (.invokevirtual 17, 3) := dk_182 0 17 (dk_at dksJ28_getLongUnaligned_1 16 rfl rfl)
theorem dJ28_getLongUnaligned_43 : decode cJ28_getLongUnaligned 43 = .ok (.invokestatic 698, 3) := dk_184 2 186 (dk_at dksJ28_getLongUnaligned_1 19 rfl rfl)
theorem dJ28_getLongUnaligned_46 : decode cJ28_getLongUnaligned 46 = .ok (.lreturn, 1) := dk_173 (dk_at dksJ28_getLongUnaligned_1 22 rfl rfl)
theorem dJ28_getLongUnaligned_47 : decode cJ28_getLongUnaligned 47 = .ok (.lload_n 2, 1) := dk_32 (dk_at dksJ28_getLongUnaligned_1 23 rfl rfl)
theorem dJ28_getLongUnaligned_48 : decode cJ28_getLongUnaligned 48 = .ok (.lconst 1, 1) := dk_10 (dk_at dksJ28_getLongUnaligned_2 0 rfl rfl)
theorem dJ28_getLongUnaligned_49 : decode cJ28_getLongUnaligned 49 = .ok (.land, 1) := dk_127 (dk_at dksJ28_getLongUnaligned_2 1 rfl rfl)
theorem dJ28_getLongUnaligned_50 : decode cJ28_getLongUnaligned 50 = .ok (.lconst 0, 1) := dk_9 (dk_at dksJ28_getLongUnaligned_2 2 rfl rfl)
theorem dJ28_getLongUnaligned_51 : decode cJ28_getLongUnaligned 51 = .ok (.lcmp, 1) := dk_148 (dk_at dksJ28_getLongUnaligned_2 3 rfl rfl)
theorem dJ28_getLongUnaligned_52 : decode cJ28_getLongUnaligned 52 = .ok (.ifCond .ne 43, 3) := dk_154 0 43 (dk_at dksJ28_getLongUnaligned_2 4 rfl rfl)
theorem dJ28_getLongUnaligned_55 : decode cJ28_getLongUnaligned 55 = .ok (.aload_n 0, 1) := dk_42 (dk_at dksJ28_getLongUnaligned_2 7 rfl rfl)
theorem dJ28_getLongUnaligned_56 : decode cJ28_getLongUnaligned 56 = .ok (.aload_n 1, 1) := dk_43 (dk_at dksJ28_getLongUnaligned_2 8 rfl rfl)
theorem dJ28_getLongUnaligned_57 : decode cJ28_getLongUnaligned 57 = .ok (.lload_n 2, 1) := dk_32 (dk_at dksJ28_getLongUnaligned_2 9 rfl rfl)
theorem dJ28_getLongUnaligned_58 : decode cJ28_getLongUnaligned 58 = .ok (.invokevirtual 47, 3) := dk_182 0 47 (dk_at dksJ28_getLongUnaligned_2 10 rfl rfl)
theorem dJ28_getLongUnaligned_61 : decode cJ28_getLongUnaligned 61 = .ok (.aload_n 0, 1) := dk_42 (dk_at dksJ28_getLongUnaligned_2 13 rfl rfl)
theorem dJ28_getLongUnaligned_62 : decode cJ28_getLongUnaligned 62 = .ok (.aload_n 1, 1) := dk_43 (dk_at dksJ28_getLongUnaligned_2 14 rfl rfl)
theorem dJ28_getLongUnaligned_63 : decode cJ28_getLongUnaligned 63 = .ok (.lload_n 2, 1) := dk_32 (dk_at dksJ28_getLongUnaligned_2 15 rfl rfl)
theorem dJ28_getLongUnaligned_64 : decode cJ28_getLongUnaligned 64 = .ok (.ldc2_w 203, 3) := dk_20 0 203 (dk_at dksJ28_getLongUnaligned_2 16 rfl rfl)
theorem dJ28_getLongUnaligned_67 : decode cJ28_getLongUnaligned 67 = .ok (.ladd, 1) := dk_97 (dk_at dksJ28_getLongUnaligned_2 19 rfl rfl)
theorem dJ28_getLongUnaligned_68 : decode cJ28_getLongUnaligned 68 = .ok (.invokevirtual 47, 3) := dk_182 0 47 (dk_at dksJ28_getLongUnaligned_2 20 rfl rfl)
theorem dJ28_getLongUnaligned_71 : decode cJ28_getLongUnaligned 71 = .ok (.aload_n 0, 1) := dk_42 (dk_at dksJ28_getLongUnaligned_2 23 rfl rfl)
theorem dJ28_getLongUnaligned_72 : decode cJ28_getLongUnaligned 72 = .ok (.aload_n 1, 1) := dk_43 (dk_at dksJ28_getLongUnaligned_3 0 rfl rfl)
theorem dJ28_getLongUnaligned_73 : decode cJ28_getLongUnaligned 73 = .ok (.lload_n 2, 1) := dk_32 (dk_at dksJ28_getLongUnaligned_3 1 rfl rfl)
theorem dJ28_getLongUnaligned_74 : decode cJ28_getLongUnaligned 74 = .ok (.ldc2_w 205, 3) := dk_20 0 205 (dk_at dksJ28_getLongUnaligned_3 2 rfl rfl)
theorem dJ28_getLongUnaligned_77 : decode cJ28_getLongUnaligned 77 = .ok (.ladd, 1) := dk_97 (dk_at dksJ28_getLongUnaligned_3 5 rfl rfl)
theorem dJ28_getLongUnaligned_78 : decode cJ28_getLongUnaligned 78 = .ok (.invokevirtual 47, 3) := dk_182 0 47 (dk_at dksJ28_getLongUnaligned_3 6 rfl rfl)
theorem dJ28_getLongUnaligned_81 : decode cJ28_getLongUnaligned 81 = .ok (.aload_n 0, 1) := dk_42 (dk_at dksJ28_getLongUnaligned_3 9 rfl rfl)
theorem dJ28_getLongUnaligned_82 : decode cJ28_getLongUnaligned 82 = .ok (.aload_n 1, 1) := dk_43 (dk_at dksJ28_getLongUnaligned_3 10 rfl rfl)
theorem dJ28_getLongUnaligned_83 : decode cJ28_getLongUnaligned 83 = .ok (.lload_n 2, 1) := dk_32 (dk_at dksJ28_getLongUnaligned_3 11 rfl rfl)
theorem dJ28_getLongUnaligned_84 : decode cJ28_getLongUnaligned 84 = .ok (.ldc2_w 702, 3) := dk_20 2 190 (dk_at dksJ28_getLongUnaligned_3 12 rfl rfl)
theorem dJ28_getLongUnaligned_87 : decode cJ28_getLongUnaligned 87 = .ok (.ladd, 1) := dk_97 (dk_at dksJ28_getLongUnaligned_3 15 rfl rfl)
theorem dJ28_getLongUnaligned_88 : decode cJ28_getLongUnaligned 88 = .ok (.invokevirtual 47, 3) := dk_182 0 47 (dk_at dksJ28_getLongUnaligned_3 16 rfl rfl)
theorem dJ28_getLongUnaligned_91 : decode cJ28_getLongUnaligned 91 = .ok (.invokestatic 704, 3) := dk_184 2 192 (dk_at dksJ28_getLongUnaligned_3 19 rfl rfl)
theorem dJ28_getLongUnaligned_94 : decode cJ28_getLongUnaligned 94 = .ok (.lreturn, 1) := dk_173 (dk_at dksJ28_getLongUnaligned_3 22 rfl rfl)
theorem dJ28_getLongUnaligned_95 : decode cJ28_getLongUnaligned 95 = .ok (.aload_n 0, 1) := dk_42 (dk_at dksJ28_getLongUnaligned_3 23 rfl rfl)
theorem dJ28_getLongUnaligned_96 : decode cJ28_getLongUnaligned 96 = .ok (.aload_n 1, 1) := dk_43 (dk_at dksJ28_getLongUnaligned_4 0 rfl rfl)
theorem dJ28_getLongUnaligned_97 : decode cJ28_getLongUnaligned 97 = .ok (.lload_n 2, 1) := dk_32 (dk_at dksJ28_getLongUnaligned_4 1 rfl rfl)
theorem dJ28_getLongUnaligned_98 : decode cJ28_getLongUnaligned 98 = .ok (.invokevirtual 39, 3) := dk_182 0 39 (dk_at dksJ28_getLongUnaligned_4 2 rfl rfl)
theorem dJ28_getLongUnaligned_101 : decode cJ28_getLongUnaligned 101 = .ok (.aload_n 0, 1) := dk_42 (dk_at dksJ28_getLongUnaligned_4 5 rfl rfl)
theorem dJ28_getLongUnaligned_102 : decode cJ28_getLongUnaligned 102 = .ok (.aload_n 1, 1) := dk_43 (dk_at dksJ28_getLongUnaligned_4 6 rfl rfl)
theorem dJ28_getLongUnaligned_103 : decode cJ28_getLongUnaligned 103 = .ok (.lload_n 2, 1) := dk_32 (dk_at dksJ28_getLongUnaligned_4 7 rfl rfl)
theorem dJ28_getLongUnaligned_104 : decode cJ28_getLongUnaligned 104 = .ok (.lconst 1, 1) := dk_10 (dk_at dksJ28_getLongUnaligned_4 8 rfl rfl)
theorem dJ28_getLongUnaligned_105 : decode cJ28_getLongUnaligned 105 = .ok (.ladd, 1) := dk_97 (dk_at dksJ28_getLongUnaligned_4 9 rfl rfl)
theorem dJ28_getLongUnaligned_106 : decode cJ28_getLongUnaligned 106 = .ok (.invokevirtual 39, 3) := dk_182 0 39 (dk_at dksJ28_getLongUnaligned_4 10 rfl rfl)
theorem dJ28_getLongUnaligned_109 : decode cJ28_getLongUnaligned 109 = .ok (.aload_n 0, 1) := dk_42 (dk_at dksJ28_getLongUnaligned_4 13 rfl rfl)
theorem dJ28_getLongUnaligned_110 : decode cJ28_getLongUnaligned 110 = .ok (.aload_n 1, 1) := dk_43 (dk_at dksJ28_getLongUnaligned_4 14 rfl rfl)
theorem dJ28_getLongUnaligned_111 : decode cJ28_getLongUnaligned 111 = .ok (.lload_n 2, 1) := dk_32 (dk_at dksJ28_getLongUnaligned_4 15 rfl rfl)
theorem dJ28_getLongUnaligned_112 : decode cJ28_getLongUnaligned 112 = .ok (.ldc2_w 203, 3) := dk_20 0 203 (dk_at dksJ28_getLongUnaligned_4 16 rfl rfl)
theorem dJ28_getLongUnaligned_115 : decode cJ28_getLongUnaligned 115 = .ok (.ladd, 1) := dk_97 (dk_at dksJ28_getLongUnaligned_4 19 rfl rfl)
theorem dJ28_getLongUnaligned_116 : decode cJ28_getLongUnaligned 116 = .ok (.invokevirtual 39, 3) := dk_182 0 39 (dk_at dksJ28_getLongUnaligned_4 20 rfl rfl)
theorem dJ28_getLongUnaligned_119 : decode cJ28_getLongUnaligned 119 = .ok (.aload_n 0, 1) := dk_42 (dk_at dksJ28_getLongUnaligned_4 23 rfl rfl)
theorem dJ28_getLongUnaligned_120 : decode cJ28_getLongUnaligned 120 = .ok (.aload_n 1, 1) := dk_43 (dk_at dksJ28_getLongUnaligned_5 0 rfl rfl)
theorem dJ28_getLongUnaligned_121 : decode cJ28_getLongUnaligned 121 = .ok (.lload_n 2, 1) := dk_32 (dk_at dksJ28_getLongUnaligned_5 1 rfl rfl)
theorem dJ28_getLongUnaligned_122 : decode cJ28_getLongUnaligned 122 = .ok (.ldc2_w 349, 3) := dk_20 1 93 (dk_at dksJ28_getLongUnaligned_5 2 rfl rfl)
theorem dJ28_getLongUnaligned_125 : decode cJ28_getLongUnaligned 125 = .ok (.ladd, 1) := dk_97 (dk_at dksJ28_getLongUnaligned_5 5 rfl rfl)
theorem dJ28_getLongUnaligned_126 : decode cJ28_getLongUnaligned 126 = .ok (.invokevirtual 39, 3) := dk_182 0 39 (dk_at dksJ28_getLongUnaligned_5 6 rfl rfl)
theorem dJ28_getLongUnaligned_129 : decode cJ28_getLongUnaligned 129 = .ok (.aload_n 0, 1) := dk_42 (dk_at dksJ28_getLongUnaligned_5 9 rfl rfl)
theorem dJ28_getLongUnaligned_130 : decode cJ28_getLongUnaligned 130 = .ok (.aload_n 1, 1) := dk_43 (dk_at dksJ28_getLongUnaligned_5 10 rfl rfl)
theorem dJ28_getLongUnaligned_131 : decode cJ28_getLongUnaligned 131 = .ok (.lload_n 2, 1) := dk_32 (dk_at dksJ28_getLongUnaligned_5 11 rfl rfl)
theorem dJ28_getLongUnaligned_132 : decode cJ28_getLongUnaligned 132 = .ok (.ldc2_w 205, 3) := dk_20 0 205 (dk_at dksJ28_getLongUnaligned_5 12 rfl rfl)
theorem dJ28_getLongUnaligned_135 : decode cJ28_getLongUnaligned 135 = .ok (.ladd, 1) := dk_97 (dk_at dksJ28_getLongUnaligned_5 15 rfl rfl)
theorem dJ28_getLongUnaligned_136 : decode cJ28_getLongUnaligned 136 = .ok (.invokevirtual 39, 3) := dk_182 0 39 (dk_at dksJ28_getLongUnaligned_5 16 rfl rfl)
theorem dJ28_getLongUnaligned_139 : decode cJ28_getLongUnaligned 139 = .ok (.aload_n 0, 1) := dk_42 (dk_at dksJ28_getLongUnaligned_5 19 rfl rfl)
theorem dJ28_getLongUnaligned_140 : decode cJ28_getLongUnaligned 140 = .ok (.aload_n 1, 1) := dk_43 (dk_at dksJ28_getLongUnaligned_5 20 rfl rfl)
theorem dJ28_getLongUnaligned_141 : decode cJ28_getLongUnaligned 141 = .ok (.lload_n 2, 1) := dk_32 (dk_at dksJ28_getLongUnaligned_5 21 rfl rfl)
theorem dJ28_getLongUnaligned_142 : decode cJ28_getLongUnaligned 142 = .ok (.ldc2_w 707, 3) := dk_20 2 195 (dk_at dksJ28_getLongUnaligned_6 0 rfl rfl)
theorem dJ28_getLongUnaligned_145 : decode cJ28_getLongUnaligned 145 = .ok (.ladd, 1) := dk_97 (dk_at dksJ28_getLongUnaligned_6 3 rfl rfl)
theorem dJ28_getLongUnaligned_146 : decode cJ28_getLongUnaligned 146 = .ok (.invokevirtual 39, 3) := dk_182 0 39 (dk_at dksJ28_getLongUnaligned_6 4 rfl rfl)
theorem dJ28_getLongUnaligned_149 : decode cJ28_getLongUnaligned 149 = .ok (.aload_n 0, 1) := dk_42 (dk_at dksJ28_getLongUnaligned_6 7 rfl rfl)
theorem dJ28_getLongUnaligned_150 : decode cJ28_getLongUnaligned 150 = .ok (.aload_n 1, 1) := dk_43 (dk_at dksJ28_getLongUnaligned_6 8 rfl rfl)
theorem dJ28_getLongUnaligned_151 : decode cJ28_getLongUnaligned 151 = .ok (.lload_n 2, 1) := dk_32 (dk_at dksJ28_getLongUnaligned_6 9 rfl rfl)
theorem dJ28_getLongUnaligned_152 : decode cJ28_getLongUnaligned 152 = .ok (.ldc2_w 702, 3) := dk_20 2 190 (dk_at dksJ28_getLongUnaligned_6 10 rfl rfl)
theorem dJ28_getLongUnaligned_155 : decode cJ28_getLongUnaligned 155 = .ok (.ladd, 1) := dk_97 (dk_at dksJ28_getLongUnaligned_6 13 rfl rfl)
theorem dJ28_getLongUnaligned_156 : decode cJ28_getLongUnaligned 156 = .ok (.invokevirtual 39, 3) := dk_182 0 39 (dk_at dksJ28_getLongUnaligned_6 14 rfl rfl)
theorem dJ28_getLongUnaligned_159 : decode cJ28_getLongUnaligned 159 = .ok (.aload_n 0, 1) := dk_42 (dk_at dksJ28_getLongUnaligned_6 17 rfl rfl)
theorem dJ28_getLongUnaligned_160 : decode cJ28_getLongUnaligned 160 = .ok (.aload_n 1, 1) := dk_43 (dk_at dksJ28_getLongUnaligned_6 18 rfl rfl)
theorem dJ28_getLongUnaligned_161 : decode cJ28_getLongUnaligned 161 = .ok (.lload_n 2, 1) := dk_32 (dk_at dksJ28_getLongUnaligned_6 19 rfl rfl)
theorem dJ28_getLongUnaligned_162 : decode cJ28_getLongUnaligned 162 = .ok (.ldc2_w 696, 3) := dk_20 2 184 (dk_at dksJ28_getLongUnaligned_6 20 rfl rfl)
theorem dJ28_getLongUnaligned_165 : decode cJ28_getLongUnaligned 165 = .ok (.ladd, 1) := dk_97 (dk_at dksJ28_getLongUnaligned_6 23 rfl rfl)
theorem dJ28_getLongUnaligned_166 : decode cJ28_getLongUnaligned 166 = .ok (.invokevirtual 39, 3) := dk_182 0 39 (dk_at dksJ28_getLongUnaligned_7 0 rfl rfl)
theorem dJ28_getLongUnaligned_169 : decode cJ28_getLongUnaligned 169 = .ok (.invokestatic 709, 3) := dk_184 2 197 (dk_at dksJ28_getLongUnaligned_7 3 rfl rfl)
theorem dJ28_getLongUnaligned_172 : decode cJ28_getLongUnaligned 172 = .ok (.lreturn, 1) := dk_173 (dk_at dksJ28_getLongUnaligned_7 6 rfl rfl)
abbrev cJ28_makeLong : ByteArray := prog_64_method_353_code
def yJ28_makeLong : MethodName := ⟨RJ28, "makeLong", "(II)J"⟩
def dkwJ28_makeLong_1 : List UInt8 := [173]
abbrev dktJ28_makeLong_1 : List UInt8 := dkwJ28_makeLong_1 ++ []
def dkwJ28_makeLong_0 : List UInt8 := [26, 184, 3, 23, 16, 32, 3, 184, 3, 16, 121, 27, 184, 3, 23, 16, 32, 16, 32, 184, 3, 16, 121, 129]
abbrev dktJ28_makeLong_0 : List UInt8 := dkwJ28_makeLong_0 ++ dktJ28_makeLong_1
theorem dksJ28_makeLong_0 : cJ28_makeLong.data.toList.drop 0 = dktJ28_makeLong_0 := by decide +kernel
theorem dksJ28_makeLong_1 : cJ28_makeLong.data.toList.drop 24 = dktJ28_makeLong_1 := dk_seg dksJ28_makeLong_0 24 rfl rfl
theorem dJ28_makeLong_0 : decode cJ28_makeLong 0 = .ok (.iload_n 0, 1) := dk_26 (dk_at dksJ28_makeLong_0 0 rfl rfl)
theorem dJ28_makeLong_1 : decode cJ28_makeLong 1 = .ok (.invokestatic 791, 3) := dk_184 3 23 (dk_at dksJ28_makeLong_0 1 rfl rfl)
theorem dJ28_makeLong_4 : decode cJ28_makeLong 4 = .ok (.bipush 32, 2) := dk_16 32 (dk_at dksJ28_makeLong_0 4 rfl rfl)
theorem dJ28_makeLong_6 : decode cJ28_makeLong 6 = .ok (.iconst 0, 1) := dk_3 (dk_at dksJ28_makeLong_0 6 rfl rfl)
theorem dJ28_makeLong_7 : decode cJ28_makeLong 7 = .ok (.invokestatic 784, 3) := dk_184 3 16 (dk_at dksJ28_makeLong_0 7 rfl rfl)
theorem dJ28_makeLong_10 : decode cJ28_makeLong 10 = .ok (.lshl, 1) := dk_121 (dk_at dksJ28_makeLong_0 10 rfl rfl)
theorem dJ28_makeLong_11 : decode cJ28_makeLong 11 = .ok (.iload_n 1, 1) := dk_27 (dk_at dksJ28_makeLong_0 11 rfl rfl)
theorem dJ28_makeLong_12 : decode cJ28_makeLong 12 = .ok (.invokestatic 791, 3) := dk_184 3 23 (dk_at dksJ28_makeLong_0 12 rfl rfl)
theorem dJ28_makeLong_15 : decode cJ28_makeLong 15 = .ok (.bipush 32, 2) := dk_16 32 (dk_at dksJ28_makeLong_0 15 rfl rfl)
theorem dJ28_makeLong_17 : decode cJ28_makeLong 17 = .ok (.bipush 32, 2) := dk_16 32 (dk_at dksJ28_makeLong_0 17 rfl rfl)
theorem dJ28_makeLong_19 : decode cJ28_makeLong 19 = .ok (.invokestatic 784, 3) := dk_184 3 16 (dk_at dksJ28_makeLong_0 19 rfl rfl)
theorem dJ28_makeLong_22 : decode cJ28_makeLong 22 = .ok (.lshl, 1) := dk_121 (dk_at dksJ28_makeLong_0 22 rfl rfl)
theorem dJ28_makeLong_23 : decode cJ28_makeLong 23 = .ok (.lor, 1) := dk_129 (dk_at dksJ28_makeLong_0 23 rfl rfl)
theorem dJ28_makeLong_24 : decode cJ28_makeLong 24 = .ok (.lreturn, 1) := dk_173 (dk_at dksJ28_makeLong_1 0 rfl rfl)
abbrev cJ28_toUnsignedLong : ByteArray := prog_64_method_370_code
def yJ28_toUnsignedLong : MethodName := ⟨RJ28, "toUnsignedLong", "(I)J"⟩
def dkwJ28_toUnsignedLong_0 : List UInt8 := [26, 133, 20, 3, 44, 127, 173]
abbrev dktJ28_toUnsignedLong_0 : List UInt8 := dkwJ28_toUnsignedLong_0 ++ []
theorem dksJ28_toUnsignedLong_0 : cJ28_toUnsignedLong.data.toList.drop 0 = dktJ28_toUnsignedLong_0 := by decide +kernel
theorem dJ28_toUnsignedLong_0 : decode cJ28_toUnsignedLong 0 = .ok (.iload_n 0, 1) := dk_26 (dk_at dksJ28_toUnsignedLong_0 0 rfl rfl)
theorem dJ28_toUnsignedLong_1 : decode cJ28_toUnsignedLong 1 = .ok (.i2l, 1) := dk_133 (dk_at dksJ28_toUnsignedLong_0 1 rfl rfl)
theorem dJ28_toUnsignedLong_2 : decode cJ28_toUnsignedLong 2 = .ok (.ldc2_w 812, 3) := dk_20 3 44 (dk_at dksJ28_toUnsignedLong_0 2 rfl rfl)
theorem dJ28_toUnsignedLong_5 : decode cJ28_toUnsignedLong 5 = .ok (.land, 1) := dk_127 (dk_at dksJ28_toUnsignedLong_0 5 rfl rfl)
theorem dJ28_toUnsignedLong_6 : decode cJ28_toUnsignedLong 6 = .ok (.lreturn, 1) := dk_173 (dk_at dksJ28_toUnsignedLong_0 6 rfl rfl)
abbrev cJ28_pickPos : ByteArray := prog_64_method_350_code
def yJ28_pickPos : MethodName := ⟨RJ28, "pickPos", "(II)I"⟩
def dkwJ28_pickPos_0 : List UInt8 := [178, 1, 95, 153, 0, 9, 26, 27, 100, 167, 0, 4, 27, 172]
abbrev dktJ28_pickPos_0 : List UInt8 := dkwJ28_pickPos_0 ++ []
theorem dksJ28_pickPos_0 : cJ28_pickPos.data.toList.drop 0 = dktJ28_pickPos_0 := by decide +kernel
theorem dJ28_pickPos_0 : decode cJ28_pickPos 0 = .ok (.getstatic 351, 3) := dk_178 1 95 (dk_at dksJ28_pickPos_0 0 rfl rfl)
theorem dJ28_pickPos_3 : decode cJ28_pickPos 3 = .ok (.ifCond .eq 9, 3) := dk_153 0 9 (dk_at dksJ28_pickPos_0 3 rfl rfl)
theorem dJ28_pickPos_6 : decode cJ28_pickPos 6 = .ok (.iload_n 0, 1) := dk_26 (dk_at dksJ28_pickPos_0 6 rfl rfl)
theorem dJ28_pickPos_7 : decode cJ28_pickPos 7 = .ok (.iload_n 1, 1) := dk_27 (dk_at dksJ28_pickPos_0 7 rfl rfl)
theorem dJ28_pickPos_8 : decode cJ28_pickPos 8 = .ok (.isub, 1) := dk_100 (dk_at dksJ28_pickPos_0 8 rfl rfl)
theorem dJ28_pickPos_9 : decode cJ28_pickPos 9 = .ok (.goto 4, 3) := dk_167 0 4 (dk_at dksJ28_pickPos_0 9 rfl rfl)
theorem dJ28_pickPos_12 : decode cJ28_pickPos 12 = .ok (.iload_n 1, 1) := dk_27 (dk_at dksJ28_pickPos_0 12 rfl rfl)
theorem dJ28_pickPos_13 : decode cJ28_pickPos 13 = .ok (.ireturn, 1) := dk_172 (dk_at dksJ28_pickPos_0 13 rfl rfl)
abbrev cJ28_makeLong_2 : ByteArray := prog_64_method_352_code
def yJ28_makeLong_2 : MethodName := ⟨RJ28, "makeLong", "(SSSS)J"⟩
def dkwJ28_makeLong_2_2 : List UInt8 := [121, 129, 173]
abbrev dktJ28_makeLong_2_2 : List UInt8 := dkwJ28_makeLong_2_2 ++ []
def dkwJ28_makeLong_2_1 : List UInt8 := [28, 184, 3, 20, 16, 48, 16, 32, 184, 3, 16, 121, 129, 29, 184, 3, 20, 16, 48, 16, 48, 184, 3, 16]
abbrev dktJ28_makeLong_2_1 : List UInt8 := dkwJ28_makeLong_2_1 ++ dktJ28_makeLong_2_2
def dkwJ28_makeLong_2_0 : List UInt8 := [26, 184, 3, 20, 16, 48, 3, 184, 3, 16, 121, 27, 184, 3, 20, 16, 48, 16, 16, 184, 3, 16, 121, 129]
abbrev dktJ28_makeLong_2_0 : List UInt8 := dkwJ28_makeLong_2_0 ++ dktJ28_makeLong_2_1
theorem dksJ28_makeLong_2_0 : cJ28_makeLong_2.data.toList.drop 0 = dktJ28_makeLong_2_0 := by decide +kernel
theorem dksJ28_makeLong_2_1 : cJ28_makeLong_2.data.toList.drop 24 = dktJ28_makeLong_2_1 := dk_seg dksJ28_makeLong_2_0 24 rfl rfl
theorem dksJ28_makeLong_2_2 : cJ28_makeLong_2.data.toList.drop 48 = dktJ28_makeLong_2_2 := dk_seg dksJ28_makeLong_2_1 24 rfl rfl
theorem dJ28_makeLong_2_0 : decode cJ28_makeLong_2 0 = .ok (.iload_n 0, 1) := dk_26 (dk_at dksJ28_makeLong_2_0 0 rfl rfl)
theorem dJ28_makeLong_2_1 : decode cJ28_makeLong_2 1 = .ok (.invokestatic 788, 3) := dk_184 3 20 (dk_at dksJ28_makeLong_2_0 1 rfl rfl)
theorem dJ28_makeLong_2_4 : decode cJ28_makeLong_2 4 = .ok (.bipush 48, 2) := dk_16 48 (dk_at dksJ28_makeLong_2_0 4 rfl rfl)
theorem dJ28_makeLong_2_6 : decode cJ28_makeLong_2 6 = .ok (.iconst 0, 1) := dk_3 (dk_at dksJ28_makeLong_2_0 6 rfl rfl)
theorem dJ28_makeLong_2_7 : decode cJ28_makeLong_2 7 = .ok (.invokestatic 784, 3) := dk_184 3 16 (dk_at dksJ28_makeLong_2_0 7 rfl rfl)
theorem dJ28_makeLong_2_10 : decode cJ28_makeLong_2 10 = .ok (.lshl, 1) := dk_121 (dk_at dksJ28_makeLong_2_0 10 rfl rfl)
theorem dJ28_makeLong_2_11 : decode cJ28_makeLong_2 11 = .ok (.iload_n 1, 1) := dk_27 (dk_at dksJ28_makeLong_2_0 11 rfl rfl)
theorem dJ28_makeLong_2_12 : decode cJ28_makeLong_2 12 = .ok (.invokestatic 788, 3) := dk_184 3 20 (dk_at dksJ28_makeLong_2_0 12 rfl rfl)
theorem dJ28_makeLong_2_15 : decode cJ28_makeLong_2 15 = .ok (.bipush 48, 2) := dk_16 48 (dk_at dksJ28_makeLong_2_0 15 rfl rfl)
theorem dJ28_makeLong_2_17 : decode cJ28_makeLong_2 17 = .ok (.bipush 16, 2) := dk_16 16 (dk_at dksJ28_makeLong_2_0 17 rfl rfl)
theorem dJ28_makeLong_2_19 : decode cJ28_makeLong_2 19 = .ok (.invokestatic 784, 3) := dk_184 3 16 (dk_at dksJ28_makeLong_2_0 19 rfl rfl)
theorem dJ28_makeLong_2_22 : decode cJ28_makeLong_2 22 = .ok (.lshl, 1) := dk_121 (dk_at dksJ28_makeLong_2_0 22 rfl rfl)
theorem dJ28_makeLong_2_23 : decode cJ28_makeLong_2 23 = .ok (.lor, 1) := dk_129 (dk_at dksJ28_makeLong_2_0 23 rfl rfl)
theorem dJ28_makeLong_2_24 : decode cJ28_makeLong_2 24 = .ok (.iload_n 2, 1) := dk_28 (dk_at dksJ28_makeLong_2_1 0 rfl rfl)
theorem dJ28_makeLong_2_25 : decode cJ28_makeLong_2 25 = .ok (.invokestatic 788, 3) := dk_184 3 20 (dk_at dksJ28_makeLong_2_1 1 rfl rfl)
theorem dJ28_makeLong_2_28 : decode cJ28_makeLong_2 28 = .ok (.bipush 48, 2) := dk_16 48 (dk_at dksJ28_makeLong_2_1 4 rfl rfl)
theorem dJ28_makeLong_2_30 : decode cJ28_makeLong_2 30 = .ok (.bipush 32, 2) := dk_16 32 (dk_at dksJ28_makeLong_2_1 6 rfl rfl)
theorem dJ28_makeLong_2_32 : decode cJ28_makeLong_2 32 = .ok (.invokestatic 784, 3) := dk_184 3 16 (dk_at dksJ28_makeLong_2_1 8 rfl rfl)
theorem dJ28_makeLong_2_35 : decode cJ28_makeLong_2 35 = .ok (.lshl, 1) := dk_121 (dk_at dksJ28_makeLong_2_1 11 rfl rfl)
theorem dJ28_makeLong_2_36 : decode cJ28_makeLong_2 36 = .ok (.lor, 1) := dk_129 (dk_at dksJ28_makeLong_2_1 12 rfl rfl)
theorem dJ28_makeLong_2_37 : decode cJ28_makeLong_2 37 = .ok (.iload_n 3, 1) := dk_29 (dk_at dksJ28_makeLong_2_1 13 rfl rfl)
theorem dJ28_makeLong_2_38 : decode cJ28_makeLong_2 38 = .ok (.invokestatic 788, 3) := dk_184 3 20 (dk_at dksJ28_makeLong_2_1 14 rfl rfl)
theorem dJ28_makeLong_2_41 : decode cJ28_makeLong_2 41 = .ok (.bipush 48, 2) := dk_16 48 (dk_at dksJ28_makeLong_2_1 17 rfl rfl)
theorem dJ28_makeLong_2_43 : decode cJ28_makeLong_2 43 = .ok (.bipush 48, 2) := dk_16 48 (dk_at dksJ28_makeLong_2_1 19 rfl rfl)
theorem dJ28_makeLong_2_45 : decode cJ28_makeLong_2 45 = .ok (.invokestatic 784, 3) := dk_184 3 16 (dk_at dksJ28_makeLong_2_1 21 rfl rfl)
theorem dJ28_makeLong_2_48 : decode cJ28_makeLong_2 48 = .ok (.lshl, 1) := dk_121 (dk_at dksJ28_makeLong_2_2 0 rfl rfl)
theorem dJ28_makeLong_2_49 : decode cJ28_makeLong_2 49 = .ok (.lor, 1) := dk_129 (dk_at dksJ28_makeLong_2_2 1 rfl rfl)
theorem dJ28_makeLong_2_50 : decode cJ28_makeLong_2 50 = .ok (.lreturn, 1) := dk_173 (dk_at dksJ28_makeLong_2_2 2 rfl rfl)
abbrev cJ28_toUnsignedLong_2 : ByteArray := prog_64_method_369_code
def yJ28_toUnsignedLong_2 : MethodName := ⟨RJ28, "toUnsignedLong", "(S)J"⟩
def dkwJ28_toUnsignedLong_2_0 : List UInt8 := [26, 133, 20, 3, 42, 127, 173]
abbrev dktJ28_toUnsignedLong_2_0 : List UInt8 := dkwJ28_toUnsignedLong_2_0 ++ []
theorem dksJ28_toUnsignedLong_2_0 : cJ28_toUnsignedLong_2.data.toList.drop 0 = dktJ28_toUnsignedLong_2_0 := by decide +kernel
theorem dJ28_toUnsignedLong_2_0 : decode cJ28_toUnsignedLong_2 0 = .ok (.iload_n 0, 1) := dk_26 (dk_at dksJ28_toUnsignedLong_2_0 0 rfl rfl)
theorem dJ28_toUnsignedLong_2_1 : decode cJ28_toUnsignedLong_2 1 = .ok (.i2l, 1) := dk_133 (dk_at dksJ28_toUnsignedLong_2_0 1 rfl rfl)
theorem dJ28_toUnsignedLong_2_2 : decode cJ28_toUnsignedLong_2 2 = .ok (.ldc2_w 810, 3) := dk_20 3 42 (dk_at dksJ28_toUnsignedLong_2_0 2 rfl rfl)
theorem dJ28_toUnsignedLong_2_5 : decode cJ28_toUnsignedLong_2 5 = .ok (.land, 1) := dk_127 (dk_at dksJ28_toUnsignedLong_2_0 5 rfl rfl)
theorem dJ28_toUnsignedLong_2_6 : decode cJ28_toUnsignedLong_2 6 = .ok (.lreturn, 1) := dk_173 (dk_at dksJ28_toUnsignedLong_2_0 6 rfl rfl)
abbrev cJ28_makeLong_3 : ByteArray := prog_64_method_351_code
def yJ28_makeLong_3 : MethodName := ⟨RJ28, "makeLong", "(BBBBBBBB)J"⟩
def dkwJ28_makeLong_3_4 : List UInt8 := [184, 3, 13, 16, 56, 16, 56, 184, 3, 16, 121, 129, 173]
abbrev dktJ28_makeLong_3_4 : List UInt8 := dkwJ28_makeLong_3_4 ++ []
def dkwJ28_makeLong_3_3 : List UInt8 := [16, 40, 184, 3, 16, 121, 129, 21, 6, 184, 3, 13, 16, 56, 16, 48, 184, 3, 16, 121, 129, 21, 7]
abbrev dktJ28_makeLong_3_3 : List UInt8 := dkwJ28_makeLong_3_3 ++ dktJ28_makeLong_3_4
def dkwJ28_makeLong_3_2 : List UInt8 := [121, 129, 21, 4, 184, 3, 13, 16, 56, 16, 32, 184, 3, 16, 121, 129, 21, 5, 184, 3, 13, 16, 56]
abbrev dktJ28_makeLong_3_2 : List UInt8 := dkwJ28_makeLong_3_2 ++ dktJ28_makeLong_3_3
def dkwJ28_makeLong_3_1 : List UInt8 := [28, 184, 3, 13, 16, 56, 16, 16, 184, 3, 16, 121, 129, 29, 184, 3, 13, 16, 56, 16, 24, 184, 3, 16]
abbrev dktJ28_makeLong_3_1 : List UInt8 := dkwJ28_makeLong_3_1 ++ dktJ28_makeLong_3_2
def dkwJ28_makeLong_3_0 : List UInt8 := [26, 184, 3, 13, 16, 56, 3, 184, 3, 16, 121, 27, 184, 3, 13, 16, 56, 16, 8, 184, 3, 16, 121, 129]
abbrev dktJ28_makeLong_3_0 : List UInt8 := dkwJ28_makeLong_3_0 ++ dktJ28_makeLong_3_1
theorem dksJ28_makeLong_3_0 : cJ28_makeLong_3.data.toList.drop 0 = dktJ28_makeLong_3_0 := by decide +kernel
theorem dksJ28_makeLong_3_1 : cJ28_makeLong_3.data.toList.drop 24 = dktJ28_makeLong_3_1 := dk_seg dksJ28_makeLong_3_0 24 rfl rfl
theorem dksJ28_makeLong_3_2 : cJ28_makeLong_3.data.toList.drop 48 = dktJ28_makeLong_3_2 := dk_seg dksJ28_makeLong_3_1 24 rfl rfl
theorem dksJ28_makeLong_3_3 : cJ28_makeLong_3.data.toList.drop 71 = dktJ28_makeLong_3_3 := dk_seg dksJ28_makeLong_3_2 23 rfl rfl
theorem dksJ28_makeLong_3_4 : cJ28_makeLong_3.data.toList.drop 94 = dktJ28_makeLong_3_4 := dk_seg dksJ28_makeLong_3_3 23 rfl rfl
theorem dJ28_makeLong_3_0 : decode cJ28_makeLong_3 0 = .ok (.iload_n 0, 1) := dk_26 (dk_at dksJ28_makeLong_3_0 0 rfl rfl)
theorem dJ28_makeLong_3_1 : decode cJ28_makeLong_3 1 = .ok (.invokestatic 781, 3) := dk_184 3 13 (dk_at dksJ28_makeLong_3_0 1 rfl rfl)
theorem dJ28_makeLong_3_4 : decode cJ28_makeLong_3 4 = .ok (.bipush 56, 2) := dk_16 56 (dk_at dksJ28_makeLong_3_0 4 rfl rfl)
theorem dJ28_makeLong_3_6 : decode cJ28_makeLong_3 6 = .ok (.iconst 0, 1) := dk_3 (dk_at dksJ28_makeLong_3_0 6 rfl rfl)
theorem dJ28_makeLong_3_7 : decode cJ28_makeLong_3 7 = .ok (.invokestatic 784, 3) := dk_184 3 16 (dk_at dksJ28_makeLong_3_0 7 rfl rfl)
theorem dJ28_makeLong_3_10 : decode cJ28_makeLong_3 10 = .ok (.lshl, 1) := dk_121 (dk_at dksJ28_makeLong_3_0 10 rfl rfl)
theorem dJ28_makeLong_3_11 : decode cJ28_makeLong_3 11 = .ok (.iload_n 1, 1) := dk_27 (dk_at dksJ28_makeLong_3_0 11 rfl rfl)
theorem dJ28_makeLong_3_12 : decode cJ28_makeLong_3 12 = .ok (.invokestatic 781, 3) := dk_184 3 13 (dk_at dksJ28_makeLong_3_0 12 rfl rfl)
theorem dJ28_makeLong_3_15 : decode cJ28_makeLong_3 15 = .ok (.bipush 56, 2) := dk_16 56 (dk_at dksJ28_makeLong_3_0 15 rfl rfl)
theorem dJ28_makeLong_3_17 : decode cJ28_makeLong_3 17 = .ok (.bipush 8, 2) := dk_16 8 (dk_at dksJ28_makeLong_3_0 17 rfl rfl)
theorem dJ28_makeLong_3_19 : decode cJ28_makeLong_3 19 = .ok (.invokestatic 784, 3) := dk_184 3 16 (dk_at dksJ28_makeLong_3_0 19 rfl rfl)
theorem dJ28_makeLong_3_22 : decode cJ28_makeLong_3 22 = .ok (.lshl, 1) := dk_121 (dk_at dksJ28_makeLong_3_0 22 rfl rfl)
theorem dJ28_makeLong_3_23 : decode cJ28_makeLong_3 23 = .ok (.lor, 1) := dk_129 (dk_at dksJ28_makeLong_3_0 23 rfl rfl)
theorem dJ28_makeLong_3_24 : decode cJ28_makeLong_3 24 = .ok (.iload_n 2, 1) := dk_28 (dk_at dksJ28_makeLong_3_1 0 rfl rfl)
theorem dJ28_makeLong_3_25 : decode cJ28_makeLong_3 25 = .ok (.invokestatic 781, 3) := dk_184 3 13 (dk_at dksJ28_makeLong_3_1 1 rfl rfl)
theorem dJ28_makeLong_3_28 : decode cJ28_makeLong_3 28 = .ok (.bipush 56, 2) := dk_16 56 (dk_at dksJ28_makeLong_3_1 4 rfl rfl)
theorem dJ28_makeLong_3_30 : decode cJ28_makeLong_3 30 = .ok (.bipush 16, 2) := dk_16 16 (dk_at dksJ28_makeLong_3_1 6 rfl rfl)
theorem dJ28_makeLong_3_32 : decode cJ28_makeLong_3 32 = .ok (.invokestatic 784, 3) := dk_184 3 16 (dk_at dksJ28_makeLong_3_1 8 rfl rfl)
theorem dJ28_makeLong_3_35 : decode cJ28_makeLong_3 35 = .ok (.lshl, 1) := dk_121 (dk_at dksJ28_makeLong_3_1 11 rfl rfl)
theorem dJ28_makeLong_3_36 : decode cJ28_makeLong_3 36 = .ok (.lor, 1) := dk_129 (dk_at dksJ28_makeLong_3_1 12 rfl rfl)
theorem dJ28_makeLong_3_37 : decode cJ28_makeLong_3 37 = .ok (.iload_n 3, 1) := dk_29 (dk_at dksJ28_makeLong_3_1 13 rfl rfl)
theorem dJ28_makeLong_3_38 : decode cJ28_makeLong_3 38 = .ok (.invokestatic 781, 3) := dk_184 3 13 (dk_at dksJ28_makeLong_3_1 14 rfl rfl)
theorem dJ28_makeLong_3_41 : decode cJ28_makeLong_3 41 = .ok (.bipush 56, 2) := dk_16 56 (dk_at dksJ28_makeLong_3_1 17 rfl rfl)
theorem dJ28_makeLong_3_43 : decode cJ28_makeLong_3 43 = .ok (.bipush 24, 2) := dk_16 24 (dk_at dksJ28_makeLong_3_1 19 rfl rfl)
theorem dJ28_makeLong_3_45 : decode cJ28_makeLong_3 45 = .ok (.invokestatic 784, 3) := dk_184 3 16 (dk_at dksJ28_makeLong_3_1 21 rfl rfl)
theorem dJ28_makeLong_3_48 : decode cJ28_makeLong_3 48 = .ok (.lshl, 1) := dk_121 (dk_at dksJ28_makeLong_3_2 0 rfl rfl)
theorem dJ28_makeLong_3_49 : decode cJ28_makeLong_3 49 = .ok (.lor, 1) := dk_129 (dk_at dksJ28_makeLong_3_2 1 rfl rfl)
theorem dJ28_makeLong_3_50 : decode cJ28_makeLong_3 50 = .ok (.iload 4, 2) := dk_21 4 (dk_at dksJ28_makeLong_3_2 2 rfl rfl)
theorem dJ28_makeLong_3_52 : decode cJ28_makeLong_3 52 = .ok (.invokestatic 781, 3) := dk_184 3 13 (dk_at dksJ28_makeLong_3_2 4 rfl rfl)
theorem dJ28_makeLong_3_55 : decode cJ28_makeLong_3 55 = .ok (.bipush 56, 2) := dk_16 56 (dk_at dksJ28_makeLong_3_2 7 rfl rfl)
theorem dJ28_makeLong_3_57 : decode cJ28_makeLong_3 57 = .ok (.bipush 32, 2) := dk_16 32 (dk_at dksJ28_makeLong_3_2 9 rfl rfl)
theorem dJ28_makeLong_3_59 : decode cJ28_makeLong_3 59 = .ok (.invokestatic 784, 3) := dk_184 3 16 (dk_at dksJ28_makeLong_3_2 11 rfl rfl)
theorem dJ28_makeLong_3_62 : decode cJ28_makeLong_3 62 = .ok (.lshl, 1) := dk_121 (dk_at dksJ28_makeLong_3_2 14 rfl rfl)
theorem dJ28_makeLong_3_63 : decode cJ28_makeLong_3 63 = .ok (.lor, 1) := dk_129 (dk_at dksJ28_makeLong_3_2 15 rfl rfl)
theorem dJ28_makeLong_3_64 : decode cJ28_makeLong_3 64 = .ok (.iload 5, 2) := dk_21 5 (dk_at dksJ28_makeLong_3_2 16 rfl rfl)
theorem dJ28_makeLong_3_66 : decode cJ28_makeLong_3 66 = .ok (.invokestatic 781, 3) := dk_184 3 13 (dk_at dksJ28_makeLong_3_2 18 rfl rfl)
theorem dJ28_makeLong_3_69 : decode cJ28_makeLong_3 69 = .ok (.bipush 56, 2) := dk_16 56 (dk_at dksJ28_makeLong_3_2 21 rfl rfl)
theorem dJ28_makeLong_3_71 : decode cJ28_makeLong_3 71 = .ok (.bipush 40, 2) := dk_16 40 (dk_at dksJ28_makeLong_3_3 0 rfl rfl)
theorem dJ28_makeLong_3_73 : decode cJ28_makeLong_3 73 = .ok (.invokestatic 784, 3) := dk_184 3 16 (dk_at dksJ28_makeLong_3_3 2 rfl rfl)
theorem dJ28_makeLong_3_76 : decode cJ28_makeLong_3 76 = .ok (.lshl, 1) := dk_121 (dk_at dksJ28_makeLong_3_3 5 rfl rfl)
theorem dJ28_makeLong_3_77 : decode cJ28_makeLong_3 77 = .ok (.lor, 1) := dk_129 (dk_at dksJ28_makeLong_3_3 6 rfl rfl)
theorem dJ28_makeLong_3_78 : decode cJ28_makeLong_3 78 = .ok (.iload 6, 2) := dk_21 6 (dk_at dksJ28_makeLong_3_3 7 rfl rfl)
theorem dJ28_makeLong_3_80 : decode cJ28_makeLong_3 80 = .ok (.invokestatic 781, 3) := dk_184 3 13 (dk_at dksJ28_makeLong_3_3 9 rfl rfl)
theorem dJ28_makeLong_3_83 : decode cJ28_makeLong_3 83 = .ok (.bipush 56, 2) := dk_16 56 (dk_at dksJ28_makeLong_3_3 12 rfl rfl)
theorem dJ28_makeLong_3_85 : decode cJ28_makeLong_3 85 = .ok (.bipush 48, 2) := dk_16 48 (dk_at dksJ28_makeLong_3_3 14 rfl rfl)
theorem dJ28_makeLong_3_87 : decode cJ28_makeLong_3 87 = .ok (.invokestatic 784, 3) := dk_184 3 16 (dk_at dksJ28_makeLong_3_3 16 rfl rfl)
theorem dJ28_makeLong_3_90 : decode cJ28_makeLong_3 90 = .ok (.lshl, 1) := dk_121 (dk_at dksJ28_makeLong_3_3 19 rfl rfl)
theorem dJ28_makeLong_3_91 : decode cJ28_makeLong_3 91 = .ok (.lor, 1) := dk_129 (dk_at dksJ28_makeLong_3_3 20 rfl rfl)
theorem dJ28_makeLong_3_92 : decode cJ28_makeLong_3 92 = .ok (.iload 7, 2) := dk_21 7 (dk_at dksJ28_makeLong_3_3 21 rfl rfl)
theorem dJ28_makeLong_3_94 : decode cJ28_makeLong_3 94 = .ok (.invokestatic 781, 3) := dk_184 3 13 (dk_at dksJ28_makeLong_3_4 0 rfl rfl)
theorem dJ28_makeLong_3_97 : decode cJ28_makeLong_3 97 = .ok (.bipush 56, 2) := dk_16 56 (dk_at dksJ28_makeLong_3_4 3 rfl rfl)
theorem dJ28_makeLong_3_99 : decode cJ28_makeLong_3 99 = .ok (.bipush 56, 2) := dk_16 56 (dk_at dksJ28_makeLong_3_4 5 rfl rfl)
theorem dJ28_makeLong_3_101 : decode cJ28_makeLong_3 101 = .ok (.invokestatic 784, 3) := dk_184 3 16 (dk_at dksJ28_makeLong_3_4 7 rfl rfl)
theorem dJ28_makeLong_3_104 : decode cJ28_makeLong_3 104 = .ok (.lshl, 1) := dk_121 (dk_at dksJ28_makeLong_3_4 10 rfl rfl)
theorem dJ28_makeLong_3_105 : decode cJ28_makeLong_3 105 = .ok (.lor, 1) := dk_129 (dk_at dksJ28_makeLong_3_4 11 rfl rfl)
theorem dJ28_makeLong_3_106 : decode cJ28_makeLong_3 106 = .ok (.lreturn, 1) := dk_173 (dk_at dksJ28_makeLong_3_4 12 rfl rfl)
abbrev cJ28_toUnsignedLong_3 : ByteArray := prog_64_method_368_code
def yJ28_toUnsignedLong_3 : MethodName := ⟨RJ28, "toUnsignedLong", "(B)J"⟩
def dkwJ28_toUnsignedLong_3_0 : List UInt8 := [26, 133, 20, 3, 40, 127, 173]
abbrev dktJ28_toUnsignedLong_3_0 : List UInt8 := dkwJ28_toUnsignedLong_3_0 ++ []
theorem dksJ28_toUnsignedLong_3_0 : cJ28_toUnsignedLong_3.data.toList.drop 0 = dktJ28_toUnsignedLong_3_0 := by decide +kernel
theorem dJ28_toUnsignedLong_3_0 : decode cJ28_toUnsignedLong_3 0 = .ok (.iload_n 0, 1) := dk_26 (dk_at dksJ28_toUnsignedLong_3_0 0 rfl rfl)
theorem dJ28_toUnsignedLong_3_1 : decode cJ28_toUnsignedLong_3 1 = .ok (.i2l, 1) := dk_133 (dk_at dksJ28_toUnsignedLong_3_0 1 rfl rfl)
theorem dJ28_toUnsignedLong_3_2 : decode cJ28_toUnsignedLong_3 2 = .ok (.ldc2_w 808, 3) := dk_20 3 40 (dk_at dksJ28_toUnsignedLong_3_0 2 rfl rfl)
theorem dJ28_toUnsignedLong_3_5 : decode cJ28_toUnsignedLong_3 5 = .ok (.land, 1) := dk_127 (dk_at dksJ28_toUnsignedLong_3_0 5 rfl rfl)
theorem dJ28_toUnsignedLong_3_6 : decode cJ28_toUnsignedLong_3 6 = .ok (.lreturn, 1) := dk_173 (dk_at dksJ28_toUnsignedLong_3_0 6 rfl rfl)
abbrev cJ28_getIntUnaligned : ByteArray := prog_64_method_336_code
def yJ28_getIntUnaligned : MethodName := ⟨RJ28, "getIntUnaligned", "(Ljava/lang/Object;J)I"⟩
def dkwJ28_getIntUnaligned_3 : List UInt8 := [43, 32, 20, 1, 93, 97, 182, 0, 39, 184, 2, 211, 172]
abbrev dktJ28_getIntUnaligned_3 : List UInt8 := dkwJ28_getIntUnaligned_3 ++ []
def dkwJ28_getIntUnaligned_2 : List UInt8 := [43, 32, 182, 0, 39, 42, 43, 32, 10, 97, 182, 0, 39, 42, 43, 32, 20, 0, 203, 97, 182, 0, 39, 42]
abbrev dktJ28_getIntUnaligned_2 : List UInt8 := dkwJ28_getIntUnaligned_2 ++ dktJ28_getIntUnaligned_3
def dkwJ28_getIntUnaligned_1 : List UInt8 := [154, 0, 23, 42, 43, 32, 182, 0, 47, 42, 43, 32, 20, 0, 203, 97, 182, 0, 47, 184, 2, 207, 172, 42]
abbrev dktJ28_getIntUnaligned_1 : List UInt8 := dkwJ28_getIntUnaligned_1 ++ dktJ28_getIntUnaligned_2
def dkwJ28_getIntUnaligned_0 : List UInt8 := [32, 20, 1, 93, 127, 9, 148, 154, 0, 10, 42, 43, 32, 182, 0, 17, 172, 32, 10, 127, 9, 148]
abbrev dktJ28_getIntUnaligned_0 : List UInt8 := dkwJ28_getIntUnaligned_0 ++ dktJ28_getIntUnaligned_1
theorem dksJ28_getIntUnaligned_0 : cJ28_getIntUnaligned.data.toList.drop 0 = dktJ28_getIntUnaligned_0 := by decide +kernel
theorem dksJ28_getIntUnaligned_1 : cJ28_getIntUnaligned.data.toList.drop 22 = dktJ28_getIntUnaligned_1 := dk_seg dksJ28_getIntUnaligned_0 22 rfl rfl
theorem dksJ28_getIntUnaligned_2 : cJ28_getIntUnaligned.data.toList.drop 46 = dktJ28_getIntUnaligned_2 := dk_seg dksJ28_getIntUnaligned_1 24 rfl rfl
theorem dksJ28_getIntUnaligned_3 : cJ28_getIntUnaligned.data.toList.drop 70 = dktJ28_getIntUnaligned_3 := dk_seg dksJ28_getIntUnaligned_2 24 rfl rfl
theorem dJ28_getIntUnaligned_0 : decode cJ28_getIntUnaligned 0 = .ok (.lload_n 2, 1) := dk_32 (dk_at dksJ28_getIntUnaligned_0 0 rfl rfl)
theorem dJ28_getIntUnaligned_1 : decode cJ28_getIntUnaligned 1 = .ok (.ldc2_w 349, 3) := dk_20 1 93 (dk_at dksJ28_getIntUnaligned_0 1 rfl rfl)
theorem dJ28_getIntUnaligned_4 : decode cJ28_getIntUnaligned 4 = .ok (.land, 1) := dk_127 (dk_at dksJ28_getIntUnaligned_0 4 rfl rfl)
theorem dJ28_getIntUnaligned_5 : decode cJ28_getIntUnaligned 5 = .ok (.lconst 0, 1) := dk_9 (dk_at dksJ28_getIntUnaligned_0 5 rfl rfl)
theorem dJ28_getIntUnaligned_6 : decode cJ28_getIntUnaligned 6 = .ok (.lcmp, 1) := dk_148 (dk_at dksJ28_getIntUnaligned_0 6 rfl rfl)
theorem dJ28_getIntUnaligned_7 : decode cJ28_getIntUnaligned 7 = .ok (.ifCond .ne 10, 3) := dk_154 0 10 (dk_at dksJ28_getIntUnaligned_0 7 rfl rfl)
theorem dJ28_getIntUnaligned_10 : decode cJ28_getIntUnaligned 10 = .ok (.aload_n 0, 1) := dk_42 (dk_at dksJ28_getIntUnaligned_0 10 rfl rfl)
theorem dJ28_getIntUnaligned_11 : decode cJ28_getIntUnaligned 11 = .ok (.aload_n 1, 1) := dk_43 (dk_at dksJ28_getIntUnaligned_0 11 rfl rfl)
theorem dJ28_getIntUnaligned_12 : decode cJ28_getIntUnaligned 12 = .ok (.lload_n 2, 1) := dk_32 (dk_at dksJ28_getIntUnaligned_0 12 rfl rfl)
theorem dJ28_getIntUnaligned_13 : decode cJ28_getIntUnaligned 13 = .ok (.invokevirtual 17, 3) := dk_182 0 17 (dk_at dksJ28_getIntUnaligned_0 13 rfl rfl)
theorem dJ28_getIntUnaligned_16 : decode cJ28_getIntUnaligned 16 = .ok (.ireturn, 1) := dk_172 (dk_at dksJ28_getIntUnaligned_0 16 rfl rfl)
theorem dJ28_getIntUnaligned_17 : decode cJ28_getIntUnaligned 17 = .ok (.lload_n 2, 1) := dk_32 (dk_at dksJ28_getIntUnaligned_0 17 rfl rfl)
theorem dJ28_getIntUnaligned_18 : decode cJ28_getIntUnaligned 18 = .ok (.lconst 1, 1) := dk_10 (dk_at dksJ28_getIntUnaligned_0 18 rfl rfl)
theorem dJ28_getIntUnaligned_19 : decode cJ28_getIntUnaligned 19 = .ok (.land, 1) := dk_127 (dk_at dksJ28_getIntUnaligned_0 19 rfl rfl)
theorem dJ28_getIntUnaligned_20 : decode cJ28_getIntUnaligned 20 = .ok (.lconst 0, 1) := dk_9 (dk_at dksJ28_getIntUnaligned_0 20 rfl rfl)
theorem dJ28_getIntUnaligned_21 : decode cJ28_getIntUnaligned 21 = .ok (.lcmp, 1) := dk_148 (dk_at dksJ28_getIntUnaligned_0 21 rfl rfl)
theorem dJ28_getIntUnaligned_22 : decode cJ28_getIntUnaligned 22 = .ok (.ifCond .ne 23, 3) := dk_154 0 23 (dk_at dksJ28_getIntUnaligned_1 0 rfl rfl)
theorem dJ28_getIntUnaligned_25 : decode cJ28_getIntUnaligned 25 = .ok (.aload_n 0, 1) := dk_42 (dk_at dksJ28_getIntUnaligned_1 3 rfl rfl)
theorem dJ28_getIntUnaligned_26 : decode cJ28_getIntUnaligned 26 = .ok (.aload_n 1, 1) := dk_43 (dk_at dksJ28_getIntUnaligned_1 4 rfl rfl)
theorem dJ28_getIntUnaligned_27 : decode cJ28_getIntUnaligned 27 = .ok (.lload_n 2, 1) := dk_32 (dk_at dksJ28_getIntUnaligned_1 5 rfl rfl)
theorem dJ28_getIntUnaligned_28 : decode cJ28_getIntUnaligned 28 = .ok (.invokevirtual 47, 3) := dk_182 0 47 (dk_at dksJ28_getIntUnaligned_1 6 rfl rfl)
theorem dJ28_getIntUnaligned_31 : decode cJ28_getIntUnaligned 31 = .ok (.aload_n 0, 1) := dk_42 (dk_at dksJ28_getIntUnaligned_1 9 rfl rfl)
theorem dJ28_getIntUnaligned_32 : decode cJ28_getIntUnaligned 32 = .ok (.aload_n 1, 1) := dk_43 (dk_at dksJ28_getIntUnaligned_1 10 rfl rfl)
theorem dJ28_getIntUnaligned_33 : decode cJ28_getIntUnaligned 33 = .ok (.lload_n 2, 1) := dk_32 (dk_at dksJ28_getIntUnaligned_1 11 rfl rfl)
theorem dJ28_getIntUnaligned_34 : decode cJ28_getIntUnaligned 34 = .ok (.ldc2_w 203, 3) := dk_20 0 203 (dk_at dksJ28_getIntUnaligned_1 12 rfl rfl)
theorem dJ28_getIntUnaligned_37 : decode cJ28_getIntUnaligned 37 = .ok (.ladd, 1) := dk_97 (dk_at dksJ28_getIntUnaligned_1 15 rfl rfl)
theorem dJ28_getIntUnaligned_38 : decode cJ28_getIntUnaligned 38 = .ok (.invokevirtual 47, 3) := dk_182 0 47 (dk_at dksJ28_getIntUnaligned_1 16 rfl rfl)
theorem dJ28_getIntUnaligned_41 : decode cJ28_getIntUnaligned 41 = .ok (.invokestatic 719, 3) := dk_184 2 207 (dk_at dksJ28_getIntUnaligned_1 19 rfl rfl)
theorem dJ28_getIntUnaligned_44 : decode cJ28_getIntUnaligned 44 = .ok (.ireturn, 1) := dk_172 (dk_at dksJ28_getIntUnaligned_1 22 rfl rfl)
theorem dJ28_getIntUnaligned_45 : decode cJ28_getIntUnaligned 45 = .ok (.aload_n 0, 1) := dk_42 (dk_at dksJ28_getIntUnaligned_1 23 rfl rfl)
theorem dJ28_getIntUnaligned_46 : decode cJ28_getIntUnaligned 46 = .ok (.aload_n 1, 1) := dk_43 (dk_at dksJ28_getIntUnaligned_2 0 rfl rfl)
theorem dJ28_getIntUnaligned_47 : decode cJ28_getIntUnaligned 47 = .ok (.lload_n 2, 1) := dk_32 (dk_at dksJ28_getIntUnaligned_2 1 rfl rfl)
theorem dJ28_getIntUnaligned_48 : decode cJ28_getIntUnaligned 48 = .ok (.invokevirtual 39, 3) := dk_182 0 39 (dk_at dksJ28_getIntUnaligned_2 2 rfl rfl)
theorem dJ28_getIntUnaligned_51 : decode cJ28_getIntUnaligned 51 = .ok (.aload_n 0, 1) := dk_42 (dk_at dksJ28_getIntUnaligned_2 5 rfl rfl)
theorem dJ28_getIntUnaligned_52 : decode cJ28_getIntUnaligned 52 = .ok (.aload_n 1, 1) := dk_43 (dk_at dksJ28_getIntUnaligned_2 6 rfl rfl)
theorem dJ28_getIntUnaligned_53 : decode cJ28_getIntUnaligned 53 = .ok (.lload_n 2, 1) := dk_32 (dk_at dksJ28_getIntUnaligned_2 7 rfl rfl)
theorem dJ28_getIntUnaligned_54 : decode cJ28_getIntUnaligned 54 = .ok (.lconst 1, 1) := dk_10 (dk_at dksJ28_getIntUnaligned_2 8 rfl rfl)
theorem dJ28_getIntUnaligned_55 : decode cJ28_getIntUnaligned 55 = .ok (.ladd, 1) := dk_97 (dk_at dksJ28_getIntUnaligned_2 9 rfl rfl)
theorem dJ28_getIntUnaligned_56 : decode cJ28_getIntUnaligned 56 = .ok (.invokevirtual 39, 3) := dk_182 0 39 (dk_at dksJ28_getIntUnaligned_2 10 rfl rfl)
theorem dJ28_getIntUnaligned_59 : decode cJ28_getIntUnaligned 59 = .ok (.aload_n 0, 1) := dk_42 (dk_at dksJ28_getIntUnaligned_2 13 rfl rfl)
theorem dJ28_getIntUnaligned_60 : decode cJ28_getIntUnaligned 60 = .ok (.aload_n 1, 1) := dk_43 (dk_at dksJ28_getIntUnaligned_2 14 rfl rfl)
theorem dJ28_getIntUnaligned_61 : decode cJ28_getIntUnaligned 61 = .ok (.lload_n 2, 1) := dk_32 (dk_at dksJ28_getIntUnaligned_2 15 rfl rfl)
theorem dJ28_getIntUnaligned_62 : decode cJ28_getIntUnaligned 62 = .ok (.ldc2_w 203, 3) := dk_20 0 203 (dk_at dksJ28_getIntUnaligned_2 16 rfl rfl)
theorem dJ28_getIntUnaligned_65 : decode cJ28_getIntUnaligned 65 = .ok (.ladd, 1) := dk_97 (dk_at dksJ28_getIntUnaligned_2 19 rfl rfl)
theorem dJ28_getIntUnaligned_66 : decode cJ28_getIntUnaligned 66 = .ok (.invokevirtual 39, 3) := dk_182 0 39 (dk_at dksJ28_getIntUnaligned_2 20 rfl rfl)
theorem dJ28_getIntUnaligned_69 : decode cJ28_getIntUnaligned 69 = .ok (.aload_n 0, 1) := dk_42 (dk_at dksJ28_getIntUnaligned_2 23 rfl rfl)
theorem dJ28_getIntUnaligned_70 : decode cJ28_getIntUnaligned 70 = .ok (.aload_n 1, 1) := dk_43 (dk_at dksJ28_getIntUnaligned_3 0 rfl rfl)
theorem dJ28_getIntUnaligned_71 : decode cJ28_getIntUnaligned 71 = .ok (.lload_n 2, 1) := dk_32 (dk_at dksJ28_getIntUnaligned_3 1 rfl rfl)
theorem dJ28_getIntUnaligned_72 : decode cJ28_getIntUnaligned 72 = .ok (.ldc2_w 349, 3) := dk_20 1 93 (dk_at dksJ28_getIntUnaligned_3 2 rfl rfl)
theorem dJ28_getIntUnaligned_75 : decode cJ28_getIntUnaligned 75 = .ok (.ladd, 1) := dk_97 (dk_at dksJ28_getIntUnaligned_3 5 rfl rfl)
theorem dJ28_getIntUnaligned_76 : decode cJ28_getIntUnaligned 76 = .ok (.invokevirtual 39, 3) := dk_182 0 39 (dk_at dksJ28_getIntUnaligned_3 6 rfl rfl)
theorem dJ28_getIntUnaligned_79 : decode cJ28_getIntUnaligned 79 = .ok (.invokestatic 723, 3) := dk_184 2 211 (dk_at dksJ28_getIntUnaligned_3 9 rfl rfl)
theorem dJ28_getIntUnaligned_82 : decode cJ28_getIntUnaligned 82 = .ok (.ireturn, 1) := dk_172 (dk_at dksJ28_getIntUnaligned_3 12 rfl rfl)
abbrev cJ28_makeInt : ByteArray := prog_64_method_354_code
def yJ28_makeInt : MethodName := ⟨RJ28, "makeInt", "(SS)I"⟩
def dkwJ28_makeInt_1 : List UInt8 := [172]
abbrev dktJ28_makeInt_1 : List UInt8 := dkwJ28_makeInt_1 ++ []
def dkwJ28_makeInt_0 : List UInt8 := [26, 184, 3, 24, 16, 16, 3, 184, 3, 16, 120, 27, 184, 3, 24, 16, 16, 16, 16, 184, 3, 16, 120, 128]
abbrev dktJ28_makeInt_0 : List UInt8 := dkwJ28_makeInt_0 ++ dktJ28_makeInt_1
theorem dksJ28_makeInt_0 : cJ28_makeInt.data.toList.drop 0 = dktJ28_makeInt_0 := by decide +kernel
theorem dksJ28_makeInt_1 : cJ28_makeInt.data.toList.drop 24 = dktJ28_makeInt_1 := dk_seg dksJ28_makeInt_0 24 rfl rfl
theorem dJ28_makeInt_0 : decode cJ28_makeInt 0 = .ok (.iload_n 0, 1) := dk_26 (dk_at dksJ28_makeInt_0 0 rfl rfl)
theorem dJ28_makeInt_1 : decode cJ28_makeInt 1 = .ok (.invokestatic 792, 3) := dk_184 3 24 (dk_at dksJ28_makeInt_0 1 rfl rfl)
theorem dJ28_makeInt_4 : decode cJ28_makeInt 4 = .ok (.bipush 16, 2) := dk_16 16 (dk_at dksJ28_makeInt_0 4 rfl rfl)
theorem dJ28_makeInt_6 : decode cJ28_makeInt 6 = .ok (.iconst 0, 1) := dk_3 (dk_at dksJ28_makeInt_0 6 rfl rfl)
theorem dJ28_makeInt_7 : decode cJ28_makeInt 7 = .ok (.invokestatic 784, 3) := dk_184 3 16 (dk_at dksJ28_makeInt_0 7 rfl rfl)
theorem dJ28_makeInt_10 : decode cJ28_makeInt 10 = .ok (.ishl, 1) := dk_120 (dk_at dksJ28_makeInt_0 10 rfl rfl)
theorem dJ28_makeInt_11 : decode cJ28_makeInt 11 = .ok (.iload_n 1, 1) := dk_27 (dk_at dksJ28_makeInt_0 11 rfl rfl)
theorem dJ28_makeInt_12 : decode cJ28_makeInt 12 = .ok (.invokestatic 792, 3) := dk_184 3 24 (dk_at dksJ28_makeInt_0 12 rfl rfl)
theorem dJ28_makeInt_15 : decode cJ28_makeInt 15 = .ok (.bipush 16, 2) := dk_16 16 (dk_at dksJ28_makeInt_0 15 rfl rfl)
theorem dJ28_makeInt_17 : decode cJ28_makeInt 17 = .ok (.bipush 16, 2) := dk_16 16 (dk_at dksJ28_makeInt_0 17 rfl rfl)
theorem dJ28_makeInt_19 : decode cJ28_makeInt 19 = .ok (.invokestatic 784, 3) := dk_184 3 16 (dk_at dksJ28_makeInt_0 19 rfl rfl)
theorem dJ28_makeInt_22 : decode cJ28_makeInt 22 = .ok (.ishl, 1) := dk_120 (dk_at dksJ28_makeInt_0 22 rfl rfl)
theorem dJ28_makeInt_23 : decode cJ28_makeInt 23 = .ok (.ior, 1) := dk_128 (dk_at dksJ28_makeInt_0 23 rfl rfl)
theorem dJ28_makeInt_24 : decode cJ28_makeInt 24 = .ok (.ireturn, 1) := dk_172 (dk_at dksJ28_makeInt_1 0 rfl rfl)
abbrev cJ28_toUnsignedInt : ByteArray := prog_64_method_367_code
def yJ28_toUnsignedInt : MethodName := ⟨RJ28, "toUnsignedInt", "(S)I"⟩
def dkwJ28_toUnsignedInt_0 : List UInt8 := [26, 19, 1, 118, 126, 172]
abbrev dktJ28_toUnsignedInt_0 : List UInt8 := dkwJ28_toUnsignedInt_0 ++ []
theorem dksJ28_toUnsignedInt_0 : cJ28_toUnsignedInt.data.toList.drop 0 = dktJ28_toUnsignedInt_0 := by decide +kernel
theorem dJ28_toUnsignedInt_0 : decode cJ28_toUnsignedInt 0 = .ok (.iload_n 0, 1) := dk_26 (dk_at dksJ28_toUnsignedInt_0 0 rfl rfl)
theorem dJ28_toUnsignedInt_1 : decode cJ28_toUnsignedInt 1 = .ok (.ldc_w 374, 3) := dk_19 1 118 (dk_at dksJ28_toUnsignedInt_0 1 rfl rfl)
theorem dJ28_toUnsignedInt_4 : decode cJ28_toUnsignedInt 4 = .ok (.iand, 1) := dk_126 (dk_at dksJ28_toUnsignedInt_0 4 rfl rfl)
theorem dJ28_toUnsignedInt_5 : decode cJ28_toUnsignedInt 5 = .ok (.ireturn, 1) := dk_172 (dk_at dksJ28_toUnsignedInt_0 5 rfl rfl)
abbrev cJ28_makeInt_2 : ByteArray := prog_64_method_355_code
def yJ28_makeInt_2 : MethodName := ⟨RJ28, "makeInt", "(BBBB)I"⟩
def dkwJ28_makeInt_2_2 : List UInt8 := [120, 128, 172]
abbrev dktJ28_makeInt_2_2 : List UInt8 := dkwJ28_makeInt_2_2 ++ []
def dkwJ28_makeInt_2_1 : List UInt8 := [28, 184, 3, 28, 16, 24, 16, 16, 184, 3, 16, 120, 128, 29, 184, 3, 28, 16, 24, 16, 24, 184, 3, 16]
abbrev dktJ28_makeInt_2_1 : List UInt8 := dkwJ28_makeInt_2_1 ++ dktJ28_makeInt_2_2
def dkwJ28_makeInt_2_0 : List UInt8 := [26, 184, 3, 28, 16, 24, 3, 184, 3, 16, 120, 27, 184, 3, 28, 16, 24, 16, 8, 184, 3, 16, 120, 128]
abbrev dktJ28_makeInt_2_0 : List UInt8 := dkwJ28_makeInt_2_0 ++ dktJ28_makeInt_2_1
theorem dksJ28_makeInt_2_0 : cJ28_makeInt_2.data.toList.drop 0 = dktJ28_makeInt_2_0 := by decide +kernel
theorem dksJ28_makeInt_2_1 : cJ28_makeInt_2.data.toList.drop 24 = dktJ28_makeInt_2_1 := dk_seg dksJ28_makeInt_2_0 24 rfl rfl
theorem dksJ28_makeInt_2_2 : cJ28_makeInt_2.data.toList.drop 48 = dktJ28_makeInt_2_2 := dk_seg dksJ28_makeInt_2_1 24 rfl rfl
theorem dJ28_makeInt_2_0 : decode cJ28_makeInt_2 0 = .ok (.iload_n 0, 1) := dk_26 (dk_at dksJ28_makeInt_2_0 0 rfl rfl)
theorem dJ28_makeInt_2_1 : decode cJ28_makeInt_2 1 = .ok (.invokestatic 796, 3) := dk_184 3 28 (dk_at dksJ28_makeInt_2_0 1 rfl rfl)
theorem dJ28_makeInt_2_4 : decode cJ28_makeInt_2 4 = .ok (.bipush 24, 2) := dk_16 24 (dk_at dksJ28_makeInt_2_0 4 rfl rfl)
theorem dJ28_makeInt_2_6 : decode cJ28_makeInt_2 6 = .ok (.iconst 0, 1) := dk_3 (dk_at dksJ28_makeInt_2_0 6 rfl rfl)
theorem dJ28_makeInt_2_7 : decode cJ28_makeInt_2 7 = .ok (.invokestatic 784, 3) := dk_184 3 16 (dk_at dksJ28_makeInt_2_0 7 rfl rfl)
theorem dJ28_makeInt_2_10 : decode cJ28_makeInt_2 10 = .ok (.ishl, 1) := dk_120 (dk_at dksJ28_makeInt_2_0 10 rfl rfl)
theorem dJ28_makeInt_2_11 : decode cJ28_makeInt_2 11 = .ok (.iload_n 1, 1) := dk_27 (dk_at dksJ28_makeInt_2_0 11 rfl rfl)
theorem dJ28_makeInt_2_12 : decode cJ28_makeInt_2 12 = .ok (.invokestatic 796, 3) := dk_184 3 28 (dk_at dksJ28_makeInt_2_0 12 rfl rfl)
theorem dJ28_makeInt_2_15 : decode cJ28_makeInt_2 15 = .ok (.bipush 24, 2) := dk_16 24 (dk_at dksJ28_makeInt_2_0 15 rfl rfl)
theorem dJ28_makeInt_2_17 : decode cJ28_makeInt_2 17 = .ok (.bipush 8, 2) := dk_16 8 (dk_at dksJ28_makeInt_2_0 17 rfl rfl)
theorem dJ28_makeInt_2_19 : decode cJ28_makeInt_2 19 = .ok (.invokestatic 784, 3) := dk_184 3 16 (dk_at dksJ28_makeInt_2_0 19 rfl rfl)
theorem dJ28_makeInt_2_22 : decode cJ28_makeInt_2 22 = .ok (.ishl, 1) := dk_120 (dk_at dksJ28_makeInt_2_0 22 rfl rfl)
theorem dJ28_makeInt_2_23 : decode cJ28_makeInt_2 23 = .ok (.ior, 1) := dk_128 (dk_at dksJ28_makeInt_2_0 23 rfl rfl)
theorem dJ28_makeInt_2_24 : decode cJ28_makeInt_2 24 = .ok (.iload_n 2, 1) := dk_28 (dk_at dksJ28_makeInt_2_1 0 rfl rfl)
theorem dJ28_makeInt_2_25 : decode cJ28_makeInt_2 25 = .ok (.invokestatic 796, 3) := dk_184 3 28 (dk_at dksJ28_makeInt_2_1 1 rfl rfl)
theorem dJ28_makeInt_2_28 : decode cJ28_makeInt_2 28 = .ok (.bipush 24, 2) := dk_16 24 (dk_at dksJ28_makeInt_2_1 4 rfl rfl)
theorem dJ28_makeInt_2_30 : decode cJ28_makeInt_2 30 = .ok (.bipush 16, 2) := dk_16 16 (dk_at dksJ28_makeInt_2_1 6 rfl rfl)
theorem dJ28_makeInt_2_32 : decode cJ28_makeInt_2 32 = .ok (.invokestatic 784, 3) := dk_184 3 16 (dk_at dksJ28_makeInt_2_1 8 rfl rfl)
theorem dJ28_makeInt_2_35 : decode cJ28_makeInt_2 35 = .ok (.ishl, 1) := dk_120 (dk_at dksJ28_makeInt_2_1 11 rfl rfl)
theorem dJ28_makeInt_2_36 : decode cJ28_makeInt_2 36 = .ok (.ior, 1) := dk_128 (dk_at dksJ28_makeInt_2_1 12 rfl rfl)
theorem dJ28_makeInt_2_37 : decode cJ28_makeInt_2 37 = .ok (.iload_n 3, 1) := dk_29 (dk_at dksJ28_makeInt_2_1 13 rfl rfl)
theorem dJ28_makeInt_2_38 : decode cJ28_makeInt_2 38 = .ok (.invokestatic 796, 3) := dk_184 3 28 (dk_at dksJ28_makeInt_2_1 14 rfl rfl)
theorem dJ28_makeInt_2_41 : decode cJ28_makeInt_2 41 = .ok (.bipush 24, 2) := dk_16 24 (dk_at dksJ28_makeInt_2_1 17 rfl rfl)
theorem dJ28_makeInt_2_43 : decode cJ28_makeInt_2 43 = .ok (.bipush 24, 2) := dk_16 24 (dk_at dksJ28_makeInt_2_1 19 rfl rfl)
theorem dJ28_makeInt_2_45 : decode cJ28_makeInt_2 45 = .ok (.invokestatic 784, 3) := dk_184 3 16 (dk_at dksJ28_makeInt_2_1 21 rfl rfl)
theorem dJ28_makeInt_2_48 : decode cJ28_makeInt_2 48 = .ok (.ishl, 1) := dk_120 (dk_at dksJ28_makeInt_2_2 0 rfl rfl)
theorem dJ28_makeInt_2_49 : decode cJ28_makeInt_2 49 = .ok (.ior, 1) := dk_128 (dk_at dksJ28_makeInt_2_2 1 rfl rfl)
theorem dJ28_makeInt_2_50 : decode cJ28_makeInt_2 50 = .ok (.ireturn, 1) := dk_172 (dk_at dksJ28_makeInt_2_2 2 rfl rfl)
abbrev cJ28_toUnsignedInt_2 : ByteArray := prog_64_method_366_code
def yJ28_toUnsignedInt_2 : MethodName := ⟨RJ28, "toUnsignedInt", "(B)I"⟩
def dkwJ28_toUnsignedInt_2_0 : List UInt8 := [26, 17, 0, 255, 126, 172]
abbrev dktJ28_toUnsignedInt_2_0 : List UInt8 := dkwJ28_toUnsignedInt_2_0 ++ []
theorem dksJ28_toUnsignedInt_2_0 : cJ28_toUnsignedInt_2.data.toList.drop 0 = dktJ28_toUnsignedInt_2_0 := by decide +kernel
theorem dJ28_toUnsignedInt_2_0 : decode cJ28_toUnsignedInt_2 0 = .ok (.iload_n 0, 1) := dk_26 (dk_at dksJ28_toUnsignedInt_2_0 0 rfl rfl)
theorem dJ28_toUnsignedInt_2_1 : decode cJ28_toUnsignedInt_2 1 = .ok (.sipush 255, 3) := dk_17 0 255 (dk_at dksJ28_toUnsignedInt_2_0 1 rfl rfl)
theorem dJ28_toUnsignedInt_2_4 : decode cJ28_toUnsignedInt_2 4 = .ok (.iand, 1) := dk_126 (dk_at dksJ28_toUnsignedInt_2_0 4 rfl rfl)
theorem dJ28_toUnsignedInt_2_5 : decode cJ28_toUnsignedInt_2 5 = .ok (.ireturn, 1) := dk_172 (dk_at dksJ28_toUnsignedInt_2_0 5 rfl rfl)
theorem q128 : (Jvm.Cond.initialized "jdk/internal/misc/Unsafe") ∈ lw_all := lw_g (lw_at lw_m1 45 rfl) rfl
theorem q1106 : (Jvm.Cond.selects "jdk/internal/misc/Unsafe" ({ cls := "java/lang/Object", name := "getClass", desc := "()Ljava/lang/Class;" } : Jvm.MethodName) ({ cls := "java/lang/Object", name := "getClass", desc := "()Ljava/lang/Class;" } : Jvm.MethodName)) ∈ lw_all := lw_g (lw_at lw_m5 63 rfl) rfl
theorem q1568 : (Jvm.Cond.laysStatic "jdk/internal/misc/Unsafe" "ARRAY_BYTE_BASE_OFFSET" "I") ∈ lw_tbl := lw_at lw_m7 45 rfl
theorem q1579 : (Jvm.Cond.instanceMethod ({ cls := "jdk/internal/misc/Unsafe", name := "getLongUnaligned", desc := "(Ljava/lang/Object;J)J" } : Jvm.MethodName)) ∈ lw_all := lw_g (lw_at lw_m7 56 rfl) rfl
theorem q1580 : (Jvm.Cond.selects "jdk/internal/misc/Unsafe" ({ cls := "jdk/internal/misc/Unsafe", name := "getLongUnaligned", desc := "(Ljava/lang/Object;J)J" } : Jvm.MethodName) ({ cls := "jdk/internal/misc/Unsafe", name := "getLongUnaligned", desc := "(Ljava/lang/Object;J)J" } : Jvm.MethodName)) ∈ lw_all := lw_g (lw_at lw_m7 57 rfl) rfl
theorem q1581 : (Jvm.Cond.code ({ cls := "jdk/internal/misc/Unsafe", name := "getLongUnaligned", desc := "(Ljava/lang/Object;J)J" } : Jvm.MethodName) prog_64_method_334_code (4 : Nat) (Option.some Jvm.ClassFile.FieldType.long)) ∈ lw_all := lw_g (lw_at lw_m7 58 rfl) rfl
theorem q1582 : (Jvm.Cond.constantLong "jdk/internal/misc/Unsafe" (696 : Nat) (7 : Int64)) ∈ lw_all := lw_g (lw_at lw_m7 59 rfl) rfl
theorem q1583 : (Jvm.Cond.methodLink "jdk/internal/misc/Unsafe" (27 : Nat) ({ cls := "jdk/internal/misc/Unsafe", name := "getLong", desc := "(Ljava/lang/Object;J)J" } : Jvm.MethodName)) ∈ lw_all := lw_g (lw_at lw_m7 60 rfl) rfl
theorem q1584 : (Jvm.Cond.instanceMethod ({ cls := "jdk/internal/misc/Unsafe", name := "getLong", desc := "(Ljava/lang/Object;J)J" } : Jvm.MethodName)) ∈ lw_all := lw_g (lw_at lw_m7 61 rfl) rfl
theorem q1585 : (Jvm.Cond.selects "jdk/internal/misc/Unsafe" ({ cls := "jdk/internal/misc/Unsafe", name := "getLong", desc := "(Ljava/lang/Object;J)J" } : Jvm.MethodName) ({ cls := "jdk/internal/misc/Unsafe", name := "getLong", desc := "(Ljava/lang/Object;J)J" } : Jvm.MethodName)) ∈ lw_all := lw_g (lw_at lw_m7 62 rfl) rfl
theorem q1586 : (Jvm.Cond.native ({ cls := "jdk/internal/misc/Unsafe", name := "getLong", desc := "(Ljava/lang/Object;J)J" } : Jvm.MethodName)) ∈ lw_all := lw_g (lw_at lw_m7 63 rfl) rfl
theorem q1587 : (Jvm.Cond.constantLong "jdk/internal/misc/Unsafe" (349 : Nat) (3 : Int64)) ∈ lw_all := lw_g (lw_at lw_m7 64 rfl) rfl
theorem q1588 : (Jvm.Cond.methodLink "jdk/internal/misc/Unsafe" (17 : Nat) ({ cls := "jdk/internal/misc/Unsafe", name := "getInt", desc := "(Ljava/lang/Object;J)I" } : Jvm.MethodName)) ∈ lw_all := lw_g (lw_at lw_m7 65 rfl) rfl
theorem q1589 : (Jvm.Cond.instanceMethod ({ cls := "jdk/internal/misc/Unsafe", name := "getInt", desc := "(Ljava/lang/Object;J)I" } : Jvm.MethodName)) ∈ lw_all := lw_g (lw_at lw_m7 66 rfl) rfl
theorem q1590 : (Jvm.Cond.selects "jdk/internal/misc/Unsafe" ({ cls := "jdk/internal/misc/Unsafe", name := "getInt", desc := "(Ljava/lang/Object;J)I" } : Jvm.MethodName) ({ cls := "jdk/internal/misc/Unsafe", name := "getInt", desc := "(Ljava/lang/Object;J)I" } : Jvm.MethodName)) ∈ lw_all := lw_g (lw_at lw_m7 67 rfl) rfl
theorem q1591 : (Jvm.Cond.native ({ cls := "jdk/internal/misc/Unsafe", name := "getInt", desc := "(Ljava/lang/Object;J)I" } : Jvm.MethodName)) ∈ lw_all := lw_g (lw_at lw_m7 68 rfl) rfl
theorem q1592 : (Jvm.Cond.constantLong "jdk/internal/misc/Unsafe" (205 : Nat) (4 : Int64)) ∈ lw_all := lw_g (lw_at lw_m7 69 rfl) rfl
theorem q1593 : (Jvm.Cond.methodLink "jdk/internal/misc/Unsafe" (698 : Nat) ({ cls := "jdk/internal/misc/Unsafe", name := "makeLong", desc := "(II)J" } : Jvm.MethodName)) ∈ lw_all := lw_g (lw_at lw_m7 70 rfl) rfl
theorem q1594 : (Jvm.Cond.static ({ cls := "jdk/internal/misc/Unsafe", name := "makeLong", desc := "(II)J" } : Jvm.MethodName)) ∈ lw_all := lw_g (lw_at lw_m7 71 rfl) rfl
theorem q1595 : (Jvm.Cond.code ({ cls := "jdk/internal/misc/Unsafe", name := "makeLong", desc := "(II)J" } : Jvm.MethodName) prog_64_method_353_code (2 : Nat) (Option.some Jvm.ClassFile.FieldType.long)) ∈ lw_all := lw_g (lw_at lw_m7 72 rfl) rfl
theorem q1596 : (Jvm.Cond.methodLink "jdk/internal/misc/Unsafe" (791 : Nat) ({ cls := "jdk/internal/misc/Unsafe", name := "toUnsignedLong", desc := "(I)J" } : Jvm.MethodName)) ∈ lw_all := lw_g (lw_at lw_m7 73 rfl) rfl
theorem q1597 : (Jvm.Cond.static ({ cls := "jdk/internal/misc/Unsafe", name := "toUnsignedLong", desc := "(I)J" } : Jvm.MethodName)) ∈ lw_all := lw_g (lw_at lw_m7 74 rfl) rfl
theorem q1598 : (Jvm.Cond.code ({ cls := "jdk/internal/misc/Unsafe", name := "toUnsignedLong", desc := "(I)J" } : Jvm.MethodName) prog_64_method_370_code (1 : Nat) (Option.some Jvm.ClassFile.FieldType.long)) ∈ lw_all := lw_g (lw_at lw_m7 75 rfl) rfl
theorem q1599 : (Jvm.Cond.constantLong "jdk/internal/misc/Unsafe" (812 : Nat) (4294967295 : Int64)) ∈ lw_all := lw_g (lw_at lw_m7 76 rfl) rfl
theorem q1600 : (Jvm.Cond.methodLink "jdk/internal/misc/Unsafe" (784 : Nat) ({ cls := "jdk/internal/misc/Unsafe", name := "pickPos", desc := "(II)I" } : Jvm.MethodName)) ∈ lw_all := lw_g (lw_at lw_m7 77 rfl) rfl
theorem q1601 : (Jvm.Cond.static ({ cls := "jdk/internal/misc/Unsafe", name := "pickPos", desc := "(II)I" } : Jvm.MethodName)) ∈ lw_all := lw_g (lw_at lw_m7 78 rfl) rfl
theorem q1602 : (Jvm.Cond.code ({ cls := "jdk/internal/misc/Unsafe", name := "pickPos", desc := "(II)I" } : Jvm.MethodName) prog_64_method_350_code (2 : Nat) (Option.some Jvm.ClassFile.FieldType.int)) ∈ lw_all := lw_g (lw_at lw_m7 79 rfl) rfl
theorem q1603 : (Jvm.Cond.fieldLink "jdk/internal/misc/Unsafe" (351 : Nat) "jdk/internal/misc/UnsafeConstants" "BIG_ENDIAN" "Z") ∈ lw_all := lw_g (lw_at lw_m7 80 rfl) rfl
theorem q1605 : (Jvm.Cond.methodLink "jdk/internal/misc/Unsafe" (47 : Nat) ({ cls := "jdk/internal/misc/Unsafe", name := "getShort", desc := "(Ljava/lang/Object;J)S" } : Jvm.MethodName)) ∈ lw_all := lw_g (lw_at lw_m7 82 rfl) rfl
theorem q1606 : (Jvm.Cond.instanceMethod ({ cls := "jdk/internal/misc/Unsafe", name := "getShort", desc := "(Ljava/lang/Object;J)S" } : Jvm.MethodName)) ∈ lw_all := lw_g (lw_at lw_m7 83 rfl) rfl
theorem q1607 : (Jvm.Cond.selects "jdk/internal/misc/Unsafe" ({ cls := "jdk/internal/misc/Unsafe", name := "getShort", desc := "(Ljava/lang/Object;J)S" } : Jvm.MethodName) ({ cls := "jdk/internal/misc/Unsafe", name := "getShort", desc := "(Ljava/lang/Object;J)S" } : Jvm.MethodName)) ∈ lw_all := lw_g (lw_at lw_m7 84 rfl) rfl
theorem q1608 : (Jvm.Cond.native ({ cls := "jdk/internal/misc/Unsafe", name := "getShort", desc := "(Ljava/lang/Object;J)S" } : Jvm.MethodName)) ∈ lw_all := lw_g (lw_at lw_m7 85 rfl) rfl
theorem q1609 : (Jvm.Cond.constantLong "jdk/internal/misc/Unsafe" (203 : Nat) (2 : Int64)) ∈ lw_all := lw_g (lw_at lw_m7 86 rfl) rfl
theorem q1610 : (Jvm.Cond.constantLong "jdk/internal/misc/Unsafe" (702 : Nat) (6 : Int64)) ∈ lw_all := lw_g (lw_at lw_m7 87 rfl) rfl
theorem q1611 : (Jvm.Cond.methodLink "jdk/internal/misc/Unsafe" (704 : Nat) ({ cls := "jdk/internal/misc/Unsafe", name := "makeLong", desc := "(SSSS)J" } : Jvm.MethodName)) ∈ lw_all := lw_g (lw_at lw_m7 88 rfl) rfl
theorem q1612 : (Jvm.Cond.static ({ cls := "jdk/internal/misc/Unsafe", name := "makeLong", desc := "(SSSS)J" } : Jvm.MethodName)) ∈ lw_all := lw_g (lw_at lw_m7 89 rfl) rfl
theorem q1613 : (Jvm.Cond.code ({ cls := "jdk/internal/misc/Unsafe", name := "makeLong", desc := "(SSSS)J" } : Jvm.MethodName) prog_64_method_352_code (4 : Nat) (Option.some Jvm.ClassFile.FieldType.long)) ∈ lw_all := lw_g (lw_at lw_m7 90 rfl) rfl
theorem q1614 : (Jvm.Cond.methodLink "jdk/internal/misc/Unsafe" (788 : Nat) ({ cls := "jdk/internal/misc/Unsafe", name := "toUnsignedLong", desc := "(S)J" } : Jvm.MethodName)) ∈ lw_all := lw_g (lw_at lw_m7 91 rfl) rfl
theorem q1615 : (Jvm.Cond.static ({ cls := "jdk/internal/misc/Unsafe", name := "toUnsignedLong", desc := "(S)J" } : Jvm.MethodName)) ∈ lw_all := lw_g (lw_at lw_m7 92 rfl) rfl
theorem q1616 : (Jvm.Cond.code ({ cls := "jdk/internal/misc/Unsafe", name := "toUnsignedLong", desc := "(S)J" } : Jvm.MethodName) prog_64_method_369_code (1 : Nat) (Option.some Jvm.ClassFile.FieldType.long)) ∈ lw_all := lw_g (lw_at lw_m7 93 rfl) rfl
theorem q1617 : (Jvm.Cond.constantLong "jdk/internal/misc/Unsafe" (810 : Nat) (65535 : Int64)) ∈ lw_all := lw_g (lw_at lw_m7 94 rfl) rfl
theorem q1618 : (Jvm.Cond.methodLink "jdk/internal/misc/Unsafe" (39 : Nat) ({ cls := "jdk/internal/misc/Unsafe", name := "getByte", desc := "(Ljava/lang/Object;J)B" } : Jvm.MethodName)) ∈ lw_all := lw_g (lw_at lw_m7 95 rfl) rfl
theorem q1619 : (Jvm.Cond.instanceMethod ({ cls := "jdk/internal/misc/Unsafe", name := "getByte", desc := "(Ljava/lang/Object;J)B" } : Jvm.MethodName)) ∈ lw_all := lw_g (lw_at lw_m7 96 rfl) rfl
theorem q1620 : (Jvm.Cond.selects "jdk/internal/misc/Unsafe" ({ cls := "jdk/internal/misc/Unsafe", name := "getByte", desc := "(Ljava/lang/Object;J)B" } : Jvm.MethodName) ({ cls := "jdk/internal/misc/Unsafe", name := "getByte", desc := "(Ljava/lang/Object;J)B" } : Jvm.MethodName)) ∈ lw_all := lw_g (lw_at lw_m7 97 rfl) rfl
theorem q1621 : (Jvm.Cond.native ({ cls := "jdk/internal/misc/Unsafe", name := "getByte", desc := "(Ljava/lang/Object;J)B" } : Jvm.MethodName)) ∈ lw_all := lw_g (lw_at lw_m7 98 rfl) rfl
theorem q1622 : (Jvm.Cond.constantLong "jdk/internal/misc/Unsafe" (707 : Nat) (5 : Int64)) ∈ lw_all := lw_g (lw_at lw_m7 99 rfl) rfl
theorem q1623 : (Jvm.Cond.methodLink "jdk/internal/misc/Unsafe" (709 : Nat) ({ cls := "jdk/internal/misc/Unsafe", name := "makeLong", desc := "(BBBBBBBB)J" } : Jvm.MethodName)) ∈ lw_all := lw_g (lw_at lw_m7 100 rfl) rfl
theorem q1624 : (Jvm.Cond.static ({ cls := "jdk/internal/misc/Unsafe", name := "makeLong", desc := "(BBBBBBBB)J" } : Jvm.MethodName)) ∈ lw_all := lw_g (lw_at lw_m7 101 rfl) rfl
theorem q1625 : (Jvm.Cond.code ({ cls := "jdk/internal/misc/Unsafe", name := "makeLong", desc := "(BBBBBBBB)J" } : Jvm.MethodName) prog_64_method_351_code (8 : Nat) (Option.some Jvm.ClassFile.FieldType.long)) ∈ lw_all := lw_g (lw_at lw_m7 102 rfl) rfl
theorem q1626 : (Jvm.Cond.methodLink "jdk/internal/misc/Unsafe" (781 : Nat) ({ cls := "jdk/internal/misc/Unsafe", name := "toUnsignedLong", desc := "(B)J" } : Jvm.MethodName)) ∈ lw_all := lw_g (lw_at lw_m7 103 rfl) rfl
theorem q1627 : (Jvm.Cond.static ({ cls := "jdk/internal/misc/Unsafe", name := "toUnsignedLong", desc := "(B)J" } : Jvm.MethodName)) ∈ lw_all := lw_g (lw_at lw_m7 104 rfl) rfl
theorem q1628 : (Jvm.Cond.code ({ cls := "jdk/internal/misc/Unsafe", name := "toUnsignedLong", desc := "(B)J" } : Jvm.MethodName) prog_64_method_368_code (1 : Nat) (Option.some Jvm.ClassFile.FieldType.long)) ∈ lw_all := lw_g (lw_at lw_m7 105 rfl) rfl
theorem q1629 : (Jvm.Cond.constantLong "jdk/internal/misc/Unsafe" (808 : Nat) (255 : Int64)) ∈ lw_all := lw_g (lw_at lw_m7 106 rfl) rfl
theorem q1650 : (Jvm.Cond.instanceMethod ({ cls := "jdk/internal/misc/Unsafe", name := "getIntUnaligned", desc := "(Ljava/lang/Object;J)I" } : Jvm.MethodName)) ∈ lw_all := lw_g (lw_at lw_m7 127 rfl) rfl
theorem q1651 : (Jvm.Cond.selects "jdk/internal/misc/Unsafe" ({ cls := "jdk/internal/misc/Unsafe", name := "getIntUnaligned", desc := "(Ljava/lang/Object;J)I" } : Jvm.MethodName) ({ cls := "jdk/internal/misc/Unsafe", name := "getIntUnaligned", desc := "(Ljava/lang/Object;J)I" } : Jvm.MethodName)) ∈ lw_all := lw_g (lw_at lw_m7 128 rfl) rfl
theorem q1652 : (Jvm.Cond.code ({ cls := "jdk/internal/misc/Unsafe", name := "getIntUnaligned", desc := "(Ljava/lang/Object;J)I" } : Jvm.MethodName) prog_64_method_336_code (4 : Nat) (Option.some Jvm.ClassFile.FieldType.int)) ∈ lw_all := lw_g (lw_at lw_m7 129 rfl) rfl
theorem q1653 : (Jvm.Cond.methodLink "jdk/internal/misc/Unsafe" (719 : Nat) ({ cls := "jdk/internal/misc/Unsafe", name := "makeInt", desc := "(SS)I" } : Jvm.MethodName)) ∈ lw_all := lw_g (lw_at lw_m7 130 rfl) rfl
theorem q1654 : (Jvm.Cond.static ({ cls := "jdk/internal/misc/Unsafe", name := "makeInt", desc := "(SS)I" } : Jvm.MethodName)) ∈ lw_all := lw_g (lw_at lw_m7 131 rfl) rfl
theorem q1655 : (Jvm.Cond.code ({ cls := "jdk/internal/misc/Unsafe", name := "makeInt", desc := "(SS)I" } : Jvm.MethodName) prog_64_method_354_code (2 : Nat) (Option.some Jvm.ClassFile.FieldType.int)) ∈ lw_all := lw_g (lw_at lw_m7 132 rfl) rfl
theorem q1656 : (Jvm.Cond.methodLink "jdk/internal/misc/Unsafe" (792 : Nat) ({ cls := "jdk/internal/misc/Unsafe", name := "toUnsignedInt", desc := "(S)I" } : Jvm.MethodName)) ∈ lw_all := lw_g (lw_at lw_m7 133 rfl) rfl
theorem q1657 : (Jvm.Cond.static ({ cls := "jdk/internal/misc/Unsafe", name := "toUnsignedInt", desc := "(S)I" } : Jvm.MethodName)) ∈ lw_all := lw_g (lw_at lw_m7 134 rfl) rfl
theorem q1658 : (Jvm.Cond.code ({ cls := "jdk/internal/misc/Unsafe", name := "toUnsignedInt", desc := "(S)I" } : Jvm.MethodName) prog_64_method_367_code (1 : Nat) (Option.some Jvm.ClassFile.FieldType.int)) ∈ lw_all := lw_g (lw_at lw_m7 135 rfl) rfl
theorem q1659 : (Jvm.Cond.constant "jdk/internal/misc/Unsafe" (374 : Nat) (65535 : Int32)) ∈ lw_all := lw_g (lw_at lw_m7 136 rfl) rfl
theorem q1660 : (Jvm.Cond.methodLink "jdk/internal/misc/Unsafe" (723 : Nat) ({ cls := "jdk/internal/misc/Unsafe", name := "makeInt", desc := "(BBBB)I" } : Jvm.MethodName)) ∈ lw_all := lw_g (lw_at lw_m7 137 rfl) rfl
theorem q1661 : (Jvm.Cond.static ({ cls := "jdk/internal/misc/Unsafe", name := "makeInt", desc := "(BBBB)I" } : Jvm.MethodName)) ∈ lw_all := lw_g (lw_at lw_m7 138 rfl) rfl
theorem q1662 : (Jvm.Cond.code ({ cls := "jdk/internal/misc/Unsafe", name := "makeInt", desc := "(BBBB)I" } : Jvm.MethodName) prog_64_method_355_code (4 : Nat) (Option.some Jvm.ClassFile.FieldType.int)) ∈ lw_all := lw_g (lw_at lw_m7 139 rfl) rfl
theorem q1663 : (Jvm.Cond.methodLink "jdk/internal/misc/Unsafe" (796 : Nat) ({ cls := "jdk/internal/misc/Unsafe", name := "toUnsignedInt", desc := "(B)I" } : Jvm.MethodName)) ∈ lw_all := lw_g (lw_at lw_m7 140 rfl) rfl
theorem q1664 : (Jvm.Cond.static ({ cls := "jdk/internal/misc/Unsafe", name := "toUnsignedInt", desc := "(B)I" } : Jvm.MethodName)) ∈ lw_all := lw_g (lw_at lw_m7 141 rfl) rfl
theorem q1665 : (Jvm.Cond.code ({ cls := "jdk/internal/misc/Unsafe", name := "toUnsignedInt", desc := "(B)I" } : Jvm.MethodName) prog_64_method_366_code (1 : Nat) (Option.some Jvm.ClassFile.FieldType.int)) ∈ lw_all := lw_g (lw_at lw_m7 142 rfl) rfl
theorem q2686 : (Jvm.Cond.castable "jdk/internal/misc/Unsafe" "java/lang/Object") ∈ lw_tbl := lw_at lw_m11 203 rfl

/-! java/lang/Long -/
set_option maxRecDepth 100000
def RJ29 : String := "java/lang/Long"
abbrev cJ29_numberOfLeadingZeros : ByteArray := prog_34_method_48_code
def yJ29_numberOfLeadingZeros : MethodName := ⟨RJ29, "numberOfLeadingZeros", "(J)I"⟩
def dkwJ29_numberOfLeadingZeros_1 : List UInt8 := [184, 1, 52, 172]
abbrev dktJ29_numberOfLeadingZeros_1 : List UInt8 := dkwJ29_numberOfLeadingZeros_1 ++ []
def dkwJ29_numberOfLeadingZeros_0 : List UInt8 := [30, 16, 32, 125, 136, 61, 28, 154, 0, 14, 16, 32, 30, 136, 184, 1, 52, 96, 167, 0, 7, 28]
abbrev dktJ29_numberOfLeadingZeros_0 : List UInt8 := dkwJ29_numberOfLeadingZeros_0 ++ dktJ29_numberOfLeadingZeros_1
theorem dksJ29_numberOfLeadingZeros_0 : cJ29_numberOfLeadingZeros.data.toList.drop 0 = dktJ29_numberOfLeadingZeros_0 := by decide +kernel
theorem dksJ29_numberOfLeadingZeros_1 : cJ29_numberOfLeadingZeros.data.toList.drop 22 = dktJ29_numberOfLeadingZeros_1 := dk_seg dksJ29_numberOfLeadingZeros_0 22 rfl rfl
theorem dJ29_numberOfLeadingZeros_0 : decode cJ29_numberOfLeadingZeros 0 = .ok (.lload_n 0, 1) := dk_30 (dk_at dksJ29_numberOfLeadingZeros_0 0 rfl rfl)
theorem dJ29_numberOfLeadingZeros_1 : decode cJ29_numberOfLeadingZeros 1 = .ok (.bipush 32, 2) := dk_16 32 (dk_at dksJ29_numberOfLeadingZeros_0 1 rfl rfl)
theorem dJ29_numberOfLeadingZeros_3 : decode cJ29_numberOfLeadingZeros 3 = .ok (.lushr, 1) := dk_125 (dk_at dksJ29_numberOfLeadingZeros_0 3 rfl rfl)
theorem dJ29_numberOfLeadingZeros_4 : decode cJ29_numberOfLeadingZeros 4 = .ok (.l2i, 1) := dk_136 (dk_at dksJ29_numberOfLeadingZeros_0 4 rfl rfl)
theorem dJ29_numberOfLeadingZeros_5 : decode cJ29_numberOfLeadingZeros 5 = .ok (.istore_n 2, 1) := dk_61 (dk_at dksJ29_numberOfLeadingZeros_0 5 rfl rfl)
theorem dJ29_numberOfLeadingZeros_6 : decode cJ29_numberOfLeadingZeros 6 = .ok (.iload_n 2, 1) := dk_28 (dk_at dksJ29_numberOfLeadingZeros_0 6 rfl rfl)
theorem dJ29_numberOfLeadingZeros_7 : decode cJ29_numberOfLeadingZeros 7 = .ok (.ifCond .ne 14, 3) := dk_154 0 14 (dk_at dksJ29_numberOfLeadingZeros_0 7 rfl rfl)
theorem dJ29_numberOfLeadingZeros_10 : decode cJ29_numberOfLeadingZeros 10 = .ok (.bipush 32, 2) := dk_16 32 (dk_at dksJ29_numberOfLeadingZeros_0 10 rfl rfl)
theorem dJ29_numberOfLeadingZeros_12 : decode cJ29_numberOfLeadingZeros 12 = .ok (.lload_n 0, 1) := dk_30 (dk_at dksJ29_numberOfLeadingZeros_0 12 rfl rfl)
theorem dJ29_numberOfLeadingZeros_13 : decode cJ29_numberOfLeadingZeros 13 = .ok (.l2i, 1) := dk_136 (dk_at dksJ29_numberOfLeadingZeros_0 13 rfl rfl)
theorem dJ29_numberOfLeadingZeros_14 : decode cJ29_numberOfLeadingZeros 14 = .ok (.invokestatic 308, 3) := dk_184 1 52 (dk_at dksJ29_numberOfLeadingZeros_0 14 rfl rfl)
theorem dJ29_numberOfLeadingZeros_17 : decode cJ29_numberOfLeadingZeros 17 = .ok (.iadd, 1) := dk_96 (dk_at dksJ29_numberOfLeadingZeros_0 17 rfl rfl)
theorem dJ29_numberOfLeadingZeros_18 : decode cJ29_numberOfLeadingZeros 18 = .ok (.goto 7, 3) := dk_167 0 7 (dk_at dksJ29_numberOfLeadingZeros_0 18 rfl rfl)
theorem dJ29_numberOfLeadingZeros_21 : decode cJ29_numberOfLeadingZeros 21 = .ok (.iload_n 2, 1) := dk_28 (dk_at dksJ29_numberOfLeadingZeros_0 21 rfl rfl)
theorem dJ29_numberOfLeadingZeros_22 : decode cJ29_numberOfLeadingZeros 22 = .ok (.invokestatic 308, 3) := dk_184 1 52 (dk_at dksJ29_numberOfLeadingZeros_1 0 rfl rfl)
theorem dJ29_numberOfLeadingZeros_25 : decode cJ29_numberOfLeadingZeros 25 = .ok (.ireturn, 1) := dk_172 (dk_at dksJ29_numberOfLeadingZeros_1 3 rfl rfl)
abbrev cJ29_numberOfTrailingZeros : ByteArray := prog_34_method_49_code
def yJ29_numberOfTrailingZeros : MethodName := ⟨RJ29, "numberOfTrailingZeros", "(J)I"⟩
def dkwJ29_numberOfTrailingZeros_1 : List UInt8 := [184, 1, 55, 172]
abbrev dktJ29_numberOfTrailingZeros_1 : List UInt8 := dkwJ29_numberOfTrailingZeros_1 ++ []
def dkwJ29_numberOfTrailingZeros_0 : List UInt8 := [30, 136, 61, 28, 154, 0, 17, 16, 32, 30, 16, 32, 125, 136, 184, 1, 55, 96, 167, 0, 7, 28]
abbrev dktJ29_numberOfTrailingZeros_0 : List UInt8 := dkwJ29_numberOfTrailingZeros_0 ++ dktJ29_numberOfTrailingZeros_1
theorem dksJ29_numberOfTrailingZeros_0 : cJ29_numberOfTrailingZeros.data.toList.drop 0 = dktJ29_numberOfTrailingZeros_0 := by decide +kernel
theorem dksJ29_numberOfTrailingZeros_1 : cJ29_numberOfTrailingZeros.data.toList.drop 22 = dktJ29_numberOfTrailingZeros_1 := dk_seg dksJ29_numberOfTrailingZeros_0 22 rfl rfl
theorem dJ29_numberOfTrailingZeros_0 : decode cJ29_numberOfTrailingZeros 0 = .ok (.lload_n 0, 1) := dk_30 (dk_at dksJ29_numberOfTrailingZeros_0 0 rfl rfl)
theorem dJ29_numberOfTrailingZeros_1 : decode cJ29_numberOfTrailingZeros 1 = .ok (.l2i, 1) := dk_136 (dk_at dksJ29_numberOfTrailingZeros_0 1 rfl rfl)
theorem dJ29_numberOfTrailingZeros_2 : decode cJ29_numberOfTrailingZeros 2 = .ok (.istore_n 2, 1) := dk_61 (dk_at dksJ29_numberOfTrailingZeros_0 2 rfl rfl)
theorem dJ29_numberOfTrailingZeros_3 : decode cJ29_numberOfTrailingZeros 3 = .ok (.iload_n 2, 1) := dk_28 (dk_at dksJ29_numberOfTrailingZeros_0 3 rfl rfl)
theorem dJ29_numberOfTrailingZeros_4 : decode cJ29_numberOfTrailingZeros 4 = .ok (.ifCond .ne 17, 3) := dk_154 0 17 (dk_at dksJ29_numberOfTrailingZeros_0 4 rfl rfl)
theorem dJ29_numberOfTrailingZeros_7 : decode cJ29_numberOfTrailingZeros 7 = .ok (.bipush 32, 2) := dk_16 32 (dk_at dksJ29_numberOfTrailingZeros_0 7 rfl rfl)
theorem dJ29_numberOfTrailingZeros_9 : decode cJ29_numberOfTrailingZeros 9 = .ok (.lload_n 0, 1) := dk_30 (dk_at dksJ29_numberOfTrailingZeros_0 9 rfl rfl)
theorem dJ29_numberOfTrailingZeros_10 : decode cJ29_numberOfTrailingZeros 10 = .ok (.bipush 32, 2) := dk_16 32 (dk_at dksJ29_numberOfTrailingZeros_0 10 rfl rfl)
theorem dJ29_numberOfTrailingZeros_12 : decode cJ29_numberOfTrailingZeros 12 = .ok (.lushr, 1) := dk_125 (dk_at dksJ29_numberOfTrailingZeros_0 12 rfl rfl)
theorem dJ29_numberOfTrailingZeros_13 : decode cJ29_numberOfTrailingZeros 13 = .ok (.l2i, 1) := dk_136 (dk_at dksJ29_numberOfTrailingZeros_0 13 rfl rfl)
theorem dJ29_numberOfTrailingZeros_14 : decode cJ29_numberOfTrailingZeros 14 = .ok (.invokestatic 311, 3) := dk_184 1 55 (dk_at dksJ29_numberOfTrailingZeros_0 14 rfl rfl)
theorem dJ29_numberOfTrailingZeros_17 : decode cJ29_numberOfTrailingZeros 17 = .ok (.iadd, 1) := dk_96 (dk_at dksJ29_numberOfTrailingZeros_0 17 rfl rfl)
theorem dJ29_numberOfTrailingZeros_18 : decode cJ29_numberOfTrailingZeros 18 = .ok (.goto 7, 3) := dk_167 0 7 (dk_at dksJ29_numberOfTrailingZeros_0 18 rfl rfl)
theorem dJ29_numberOfTrailingZeros_21 : decode cJ29_numberOfTrailingZeros 21 = .ok (.iload_n 2, 1) := dk_28 (dk_at dksJ29_numberOfTrailingZeros_0 21 rfl rfl)
theorem dJ29_numberOfTrailingZeros_22 : decode cJ29_numberOfTrailingZeros 22 = .ok (.invokestatic 311, 3) := dk_184 1 55 (dk_at dksJ29_numberOfTrailingZeros_1 0 rfl rfl)
theorem dJ29_numberOfTrailingZeros_25 : decode cJ29_numberOfTrailingZeros 25 = .ok (.ireturn, 1) := dk_172 (dk_at dksJ29_numberOfTrailingZeros_1 3 rfl rfl)
theorem q130 : (Jvm.Cond.initialized "java/lang/Long") ∈ lw_all := lw_g (lw_at lw_m1 47 rfl) rfl
theorem q1633 : (Jvm.Cond.static ({ cls := "java/lang/Long", name := "numberOfLeadingZeros", desc := "(J)I" } : Jvm.MethodName)) ∈ lw_all := lw_g (lw_at lw_m7 110 rfl) rfl
theorem q1634 : (Jvm.Cond.code ({ cls := "java/lang/Long", name := "numberOfLeadingZeros", desc := "(J)I" } : Jvm.MethodName) prog_34_method_48_code (3 : Nat) (Option.some Jvm.ClassFile.FieldType.int)) ∈ lw_all := lw_g (lw_at lw_m7 111 rfl) rfl
theorem q1635 : (Jvm.Cond.methodLink "java/lang/Long" (308 : Nat) ({ cls := "java/lang/Integer", name := "numberOfLeadingZeros", desc := "(I)I" } : Jvm.MethodName)) ∈ lw_all := lw_g (lw_at lw_m7 112 rfl) rfl
theorem q1642 : (Jvm.Cond.static ({ cls := "java/lang/Long", name := "numberOfTrailingZeros", desc := "(J)I" } : Jvm.MethodName)) ∈ lw_all := lw_g (lw_at lw_m7 119 rfl) rfl
theorem q1643 : (Jvm.Cond.code ({ cls := "java/lang/Long", name := "numberOfTrailingZeros", desc := "(J)I" } : Jvm.MethodName) prog_34_method_49_code (3 : Nat) (Option.some Jvm.ClassFile.FieldType.int)) ∈ lw_all := lw_g (lw_at lw_m7 120 rfl) rfl
theorem q1644 : (Jvm.Cond.methodLink "java/lang/Long" (311 : Nat) ({ cls := "java/lang/Integer", name := "numberOfTrailingZeros", desc := "(I)I" } : Jvm.MethodName)) ∈ lw_all := lw_g (lw_at lw_m7 121 rfl) rfl

/-! java/lang/Object -/
set_option maxRecDepth 100000
def RJ30 : String := "java/lang/Object"
abbrev cJ30_init : ByteArray := object_method_1_code
def yJ30_init : MethodName := ⟨RJ30, "<init>", "()V"⟩
theorem dJ30_init_0 : decode cJ30_init 0 = .ok (.return_, 1) := by decide +kernel
theorem q137 : (Jvm.Cond.instanceMethod ({ cls := "java/lang/Object", name := "<init>", desc := "()V" } : Jvm.MethodName)) ∈ lw_all := lw_g (lw_at lw_m1 54 rfl) rfl
theorem q138 : (Jvm.Cond.code ({ cls := "java/lang/Object", name := "<init>", desc := "()V" } : Jvm.MethodName) object_method_1_code (1 : Nat) (Option.none : Option Jvm.ClassFile.FieldType)) ∈ lw_all := lw_g (lw_at lw_m1 55 rfl) rfl
theorem q509 : (Jvm.Cond.native ({ cls := "java/lang/Object", name := "clone", desc := "()Ljava/lang/Object;" } : Jvm.MethodName)) ∈ lw_all := lw_g (lw_at lw_m2 186 rfl) rfl
theorem q510 : (Jvm.Cond.instanceMethod ({ cls := "java/lang/Object", name := "clone", desc := "()Ljava/lang/Object;" } : Jvm.MethodName)) ∈ lw_all := lw_g (lw_at lw_m2 187 rfl) rfl
theorem q1077 : (Jvm.Cond.instanceMethod ({ cls := "java/lang/Object", name := "getClass", desc := "()Ljava/lang/Class;" } : Jvm.MethodName)) ∈ lw_all := lw_g (lw_at lw_m5 34 rfl) rfl
theorem q1078 : (Jvm.Cond.sameMethod "java/lang/Object" "java/lang/Object" "getClass" "()Ljava/lang/Class;") ∈ lw_all := lw_g (lw_at lw_m5 35 rfl) rfl
theorem q1107 : (Jvm.Cond.native ({ cls := "java/lang/Object", name := "getClass", desc := "()Ljava/lang/Class;" } : Jvm.MethodName)) ∈ lw_all := lw_g (lw_at lw_m5 64 rfl) rfl
theorem q2651 : (Jvm.Cond.initialized "java/lang/Object") ∈ lw_all := lw_g (lw_at lw_m11 168 rfl) rfl
theorem q2693 : (Jvm.Cond.declares ({ cls := "java/lang/Object", name := "getClass", desc := "()Ljava/lang/Class;" } : Jvm.MethodName)) ∈ lw_tbl := lw_at lw_m11 210 rfl
theorem q2706 : (Jvm.Cond.instantiable "java/lang/Object" (0 : Nat)) ∈ lw_all := lw_g (lw_at lw_m11 223 rfl) rfl

