theorem q974 : (Jvm.Cond.interfaceMethod "CountedSkipLists$Rule" "CountedSkipLists$Rule" "finds" "(LCountedSkipLists$SkipList;)LCountedSkipLists$Gap;") ∈ lw_tbl := lw_at lw_m4 171 rfl
set_option maxRecDepth 100000
theorem q975 : (Jvm.Cond.declares ({ cls := "CountedSkipLists$Rule", name := "finds", desc := "(LCountedSkipLists$SkipList;)LCountedSkipLists$Gap;" } : Jvm.MethodName)) ∈ lw_tbl := lw_at lw_m4 172 rfl
theorem q2660 : (Jvm.Cond.castable "CountedSkipLists$Rule" "java/lang/Object") ∈ lw_tbl := lw_at lw_m11 177 rfl

theorem q101 : (Jvm.Cond.initialized "CountedSkipLists$Token") ∈ lw_all := lw_g (lw_at lw_m1 18 rfl) rfl
set_option maxRecDepth 100000
theorem q438 : (Jvm.Cond.laysStatic "CountedSkipLists$Token" "END" "LCountedSkipLists$Token;") ∈ lw_tbl := lw_at lw_m2 115 rfl
theorem q715 : (Jvm.Cond.laysStatic "CountedSkipLists$Token" "WORD" "LCountedSkipLists$Token;") ∈ lw_tbl := lw_at lw_m3 152 rfl
theorem q717 : (Jvm.Cond.laysStatic "CountedSkipLists$Token" "BAD" "LCountedSkipLists$Token;") ∈ lw_tbl := lw_at lw_m3 154 rfl
theorem q719 : (Jvm.Cond.laysStatic "CountedSkipLists$Token" "NUMBER" "LCountedSkipLists$Token;") ∈ lw_tbl := lw_at lw_m3 156 rfl
theorem q721 : (Jvm.Cond.laysStatic "CountedSkipLists$Token" "SEMICOLON" "LCountedSkipLists$Token;") ∈ lw_tbl := lw_at lw_m3 158 rfl
theorem q723 : (Jvm.Cond.laysStatic "CountedSkipLists$Token" "COLON" "LCountedSkipLists$Token;") ∈ lw_tbl := lw_at lw_m3 160 rfl
theorem q725 : (Jvm.Cond.laysStatic "CountedSkipLists$Token" "MINUS" "LCountedSkipLists$Token;") ∈ lw_tbl := lw_at lw_m3 162 rfl
theorem q1092 : (Jvm.Cond.selects "CountedSkipLists$Token" ({ cls := "java/lang/Object", name := "getClass", desc := "()Ljava/lang/Class;" } : Jvm.MethodName) ({ cls := "java/lang/Object", name := "getClass", desc := "()Ljava/lang/Class;" } : Jvm.MethodName)) ∈ lw_all := lw_g (lw_at lw_m5 49 rfl) rfl
theorem q1513 : (Jvm.Cond.selects "CountedSkipLists$Token" ({ cls := "java/lang/Enum", name := "compareTo", desc := "(Ljava/lang/Enum;)I" } : Jvm.MethodName) ({ cls := "java/lang/Enum", name := "compareTo", desc := "(Ljava/lang/Enum;)I" } : Jvm.MethodName)) ∈ lw_all := lw_g (lw_at lw_m6 230 rfl) rfl
theorem q1522 : (Jvm.Cond.selects "CountedSkipLists$Token" ({ cls := "java/lang/Enum", name := "getDeclaringClass", desc := "()Ljava/lang/Class;" } : Jvm.MethodName) ({ cls := "java/lang/Enum", name := "getDeclaringClass", desc := "()Ljava/lang/Class;" } : Jvm.MethodName)) ∈ lw_all := lw_g (lw_at lw_m6 239 rfl) rfl
theorem q1530 : (Jvm.Cond.castable "CountedSkipLists$Token" "java/lang/Comparable") ∈ lw_tbl := lw_at lw_m7 7 rfl
theorem q1531 : (Jvm.Cond.selects "CountedSkipLists$Token" ({ cls := "java/lang/Comparable", name := "compareTo", desc := "(Ljava/lang/Object;)I" } : Jvm.MethodName) ({ cls := "java/lang/Enum", name := "compareTo", desc := "(Ljava/lang/Object;)I" } : Jvm.MethodName)) ∈ lw_all := lw_g (lw_at lw_m7 8 rfl) rfl
theorem q1532 : (Jvm.Cond.unhidden "CountedSkipLists$Token" "compareTo" "(Ljava/lang/Object;)I") ∈ lw_tbl := lw_at lw_m7 9 rfl
theorem q2656 : (Jvm.Cond.castable "CountedSkipLists$Token" "java/lang/Enum") ∈ lw_tbl := lw_at lw_m11 173 rfl
theorem q2671 : (Jvm.Cond.castable "CountedSkipLists$Token" "java/lang/Object") ∈ lw_tbl := lw_at lw_m11 188 rfl

theorem q508 : (Jvm.Cond.sameMethod "[B" "java/lang/Object" "clone" "()Ljava/lang/Object;") ∈ lw_all := lw_g (lw_at lw_m2 185 rfl) rfl
set_option maxRecDepth 100000
theorem q511 : (Jvm.Cond.selects "[B" ({ cls := "[B", name := "clone", desc := "()Ljava/lang/Object;" } : Jvm.MethodName) ({ cls := "java/lang/Object", name := "clone", desc := "()Ljava/lang/Object;" } : Jvm.MethodName)) ∈ lw_all := lw_g (lw_at lw_m2 188 rfl) rfl
theorem q512 : (Jvm.Cond.castable "[B" "java/lang/Cloneable") ∈ lw_tbl := lw_at lw_m2 189 rfl
theorem q2695 : (Jvm.Cond.castable "[B" "java/lang/Object") ∈ lw_tbl := lw_at lw_m11 212 rfl

theorem q2704 : (Jvm.Cond.castable "[D" "java/lang/Object") ∈ lw_tbl := lw_at lw_m11 221 rfl
set_option maxRecDepth 100000

theorem q2696 : (Jvm.Cond.castable "[I" "java/lang/Object") ∈ lw_tbl := lw_at lw_m11 213 rfl
set_option maxRecDepth 100000

theorem q2702 : (Jvm.Cond.castable "[J" "java/lang/Object") ∈ lw_tbl := lw_at lw_m11 219 rfl
set_option maxRecDepth 100000

theorem q1951 : (Jvm.Cond.sameMethod "[LCountedSkipLists$Mend;" "java/lang/Object" "clone" "()Ljava/lang/Object;") ∈ lw_all := lw_g (lw_at lw_m8 188 rfl) rfl
set_option maxRecDepth 100000
theorem q1952 : (Jvm.Cond.selects "[LCountedSkipLists$Mend;" ({ cls := "[LCountedSkipLists$Mend;", name := "clone", desc := "()Ljava/lang/Object;" } : Jvm.MethodName) ({ cls := "java/lang/Object", name := "clone", desc := "()Ljava/lang/Object;" } : Jvm.MethodName)) ∈ lw_all := lw_g (lw_at lw_m8 189 rfl) rfl
theorem q1953 : (Jvm.Cond.castable "[LCountedSkipLists$Mend;" "java/lang/Cloneable") ∈ lw_tbl := lw_at lw_m8 190 rfl
theorem q2701 : (Jvm.Cond.castable "[LCountedSkipLists$Mend;" "java/lang/Object") ∈ lw_tbl := lw_at lw_m11 218 rfl

theorem q2699 : (Jvm.Cond.castable "[LCountedSkipLists$Node;" "java/lang/Object") ∈ lw_tbl := lw_at lw_m11 216 rfl
set_option maxRecDepth 100000

theorem q2700 : (Jvm.Cond.castable "[LCountedSkipLists$Rule;" "java/lang/Object") ∈ lw_tbl := lw_at lw_m11 217 rfl
set_option maxRecDepth 100000

theorem q2694 : (Jvm.Cond.castable "[LCountedSkipLists$SkipList;" "java/lang/Object") ∈ lw_tbl := lw_at lw_m11 211 rfl
set_option maxRecDepth 100000

theorem q2698 : (Jvm.Cond.castable "[LCountedSkipLists$State;" "java/lang/Object") ∈ lw_tbl := lw_at lw_m11 215 rfl
set_option maxRecDepth 100000

theorem q2691 : (Jvm.Cond.sameMethod "[Ljava/lang/Object;" "java/lang/Object" "getClass" "()Ljava/lang/Class;") ∈ lw_all := lw_g (lw_at lw_m11 208 rfl) rfl
set_option maxRecDepth 100000
theorem q2692 : (Jvm.Cond.selects "[Ljava/lang/Object;" ({ cls := "java/lang/Object", name := "getClass", desc := "()Ljava/lang/Class;" } : Jvm.MethodName) ({ cls := "java/lang/Object", name := "getClass", desc := "()Ljava/lang/Class;" } : Jvm.MethodName)) ∈ lw_all := lw_g (lw_at lw_m11 209 rfl) rfl
theorem q2697 : (Jvm.Cond.castable "[Ljava/lang/Object;" "java/lang/Object") ∈ lw_tbl := lw_at lw_m11 214 rfl

theorem q2703 : (Jvm.Cond.castable "[Z" "java/lang/Object") ∈ lw_tbl := lw_at lw_m11 220 rfl
set_option maxRecDepth 100000

theorem q1498 : (Jvm.Cond.interfaceMethod "java/lang/Comparable" "java/lang/Comparable" "compareTo" "(Ljava/lang/Object;)I") ∈ lw_tbl := lw_at lw_m6 215 rfl
set_option maxRecDepth 100000
theorem q1499 : (Jvm.Cond.declares ({ cls := "java/lang/Comparable", name := "compareTo", desc := "(Ljava/lang/Object;)I" } : Jvm.MethodName)) ∈ lw_tbl := lw_at lw_m6 216 rfl

theorem q112 : (Jvm.Cond.initialized "java/lang/Number") ∈ lw_all := lw_g (lw_at lw_m1 29 rfl) rfl
set_option maxRecDepth 100000

theorem q108 : (Jvm.Cond.initialized "java/lang/System") ∈ lw_all := lw_g (lw_at lw_m1 25 rfl) rfl
set_option maxRecDepth 100000
theorem q518 : (Jvm.Cond.static ({ cls := "java/lang/System", name := "arraycopy", desc := "(Ljava/lang/Object;ILjava/lang/Object;II)V" } : Jvm.MethodName)) ∈ lw_all := lw_g (lw_at lw_m2 195 rfl) rfl
theorem q519 : (Jvm.Cond.native ({ cls := "java/lang/System", name := "arraycopy", desc := "(Ljava/lang/Object;ILjava/lang/Object;II)V" } : Jvm.MethodName)) ∈ lw_all := lw_g (lw_at lw_m2 196 rfl) rfl

theorem q1490 : (Jvm.Cond.interfaceMethod "java/util/Comparator" "java/util/Comparator" "compare" "(Ljava/lang/Object;Ljava/lang/Object;)I") ∈ lw_tbl := lw_at lw_m6 207 rfl
set_option maxRecDepth 100000
theorem q1491 : (Jvm.Cond.declares ({ cls := "java/util/Comparator", name := "compare", desc := "(Ljava/lang/Object;Ljava/lang/Object;)I" } : Jvm.MethodName)) ∈ lw_tbl := lw_at lw_m6 208 rfl

theorem q129 : (Jvm.Cond.initialized "jdk/internal/misc/UnsafeConstants") ∈ lw_all := lw_g (lw_at lw_m1 46 rfl) rfl
set_option maxRecDepth 100000
theorem q1604 : (Jvm.Cond.laysStatic "jdk/internal/misc/UnsafeConstants" "BIG_ENDIAN" "Z") ∈ lw_tbl := lw_at lw_m7 81 rfl

theorem q146 : (Jvm.Cond.arrayOver (Jvm.ClassFile.FieldType.object "CountedSkipLists$SkipList")) ∈ lw_tbl := lw_at lw_m1 63 rfl
set_option maxRecDepth 100000
theorem q179 : (Jvm.Cond.arrayClass Jvm.ClassFile.FieldType.byte) ∈ lw_all := lw_g (lw_at lw_m1 96 rfl) rfl
theorem q180 : (Jvm.Cond.arrayClass Jvm.ClassFile.FieldType.int) ∈ lw_all := lw_g (lw_at lw_m1 97 rfl) rfl
theorem q212 : (Jvm.Cond.arrayOver (Jvm.ClassFile.FieldType.object "java/lang/Object")) ∈ lw_tbl := lw_at lw_m1 129 rfl
theorem q223 : (Jvm.Cond.arrayOver (Jvm.ClassFile.FieldType.object "CountedSkipLists$State")) ∈ lw_tbl := lw_at lw_m1 140 rfl
theorem q828 : (Jvm.Cond.arrayOver (Jvm.ClassFile.FieldType.object "CountedSkipLists$Node")) ∈ lw_tbl := lw_at lw_m4 25 rfl
theorem q968 : (Jvm.Cond.arrayOver (Jvm.ClassFile.FieldType.object "CountedSkipLists$Rule")) ∈ lw_tbl := lw_at lw_m4 165 rfl
theorem q1954 : (Jvm.Cond.arrayOver (Jvm.ClassFile.FieldType.object "CountedSkipLists$Mend")) ∈ lw_tbl := lw_at lw_m8 191 rfl
theorem q2193 : (Jvm.Cond.arrayClass Jvm.ClassFile.FieldType.long) ∈ lw_all := lw_g (lw_at lw_m9 190 rfl) rfl
theorem q2194 : (Jvm.Cond.arrayClass Jvm.ClassFile.FieldType.boolean) ∈ lw_all := lw_g (lw_at lw_m9 191 rfl) rfl
theorem q2637 : (Jvm.Cond.arrayClass Jvm.ClassFile.FieldType.double) ∈ lw_all := lw_g (lw_at lw_m11 154 rfl) rfl

