theorem q910 : (Jvm.Cond.sameMethod "[B" "java/lang/Object" "clone" "()Ljava/lang/Object;") ∈ lw_all := lw_g (lw_at lw_m4 91 rfl) rfl
set_option maxRecDepth 100000
theorem q913 : (Jvm.Cond.selects "[B" ({ cls := "[B", name := "clone", desc := "()Ljava/lang/Object;" } : Jvm.MethodName) ({ cls := "java/lang/Object", name := "clone", desc := "()Ljava/lang/Object;" } : Jvm.MethodName)) ∈ lw_all := lw_g (lw_at lw_m4 94 rfl) rfl
theorem q914 : (Jvm.Cond.castable "[B" "java/lang/Cloneable") ∈ lw_tbl := lw_at lw_m4 95 rfl
theorem q4203 : (Jvm.Cond.castable "[B" "java/lang/Object") ∈ lw_tbl := lw_at lw_m18 24 rfl
theorem q4202 : (Jvm.Cond.castable "[C" "java/lang/Object") ∈ lw_tbl := lw_at lw_m18 23 rfl
set_option maxRecDepth 100000
theorem q4208 : (Jvm.Cond.castable "[D" "java/lang/Object") ∈ lw_tbl := lw_at lw_m18 29 rfl
set_option maxRecDepth 100000
theorem q4207 : (Jvm.Cond.castable "[I" "java/lang/Object") ∈ lw_tbl := lw_at lw_m18 28 rfl
set_option maxRecDepth 100000
theorem q1213 : (Jvm.Cond.sameMethod "[J" "java/lang/Object" "clone" "()Ljava/lang/Object;") ∈ lw_all := lw_g (lw_at lw_m5 154 rfl) rfl
set_option maxRecDepth 100000
theorem q1214 : (Jvm.Cond.selects "[J" ({ cls := "[J", name := "clone", desc := "()Ljava/lang/Object;" } : Jvm.MethodName) ({ cls := "java/lang/Object", name := "clone", desc := "()Ljava/lang/Object;" } : Jvm.MethodName)) ∈ lw_all := lw_g (lw_at lw_m5 155 rfl) rfl
theorem q1215 : (Jvm.Cond.castable "[J" "java/lang/Cloneable") ∈ lw_tbl := lw_at lw_m5 156 rfl
theorem q4204 : (Jvm.Cond.castable "[J" "java/lang/Object") ∈ lw_tbl := lw_at lw_m18 25 rfl
theorem q4200 : (Jvm.Cond.castable "[LPaperStore$Aisle;" "java/lang/Object") ∈ lw_tbl := lw_at lw_m18 21 rfl
set_option maxRecDepth 100000
theorem q4201 : (Jvm.Cond.castable "[LPaperStore$Shelf;" "java/lang/Object") ∈ lw_tbl := lw_at lw_m18 22 rfl
set_option maxRecDepth 100000
theorem q4197 : (Jvm.Cond.sameMethod "[Ljava/lang/Object;" "java/lang/Object" "getClass" "()Ljava/lang/Class;") ∈ lw_all := lw_g (lw_at lw_m18 18 rfl) rfl
set_option maxRecDepth 100000
theorem q4198 : (Jvm.Cond.selects "[Ljava/lang/Object;" ({ cls := "java/lang/Object", name := "getClass", desc := "()Ljava/lang/Class;" } : Jvm.MethodName) ({ cls := "java/lang/Object", name := "getClass", desc := "()Ljava/lang/Class;" } : Jvm.MethodName)) ∈ lw_all := lw_g (lw_at lw_m18 19 rfl) rfl
theorem q4205 : (Jvm.Cond.castable "[Ljava/lang/Object;" "java/lang/Object") ∈ lw_tbl := lw_at lw_m18 26 rfl
theorem q4206 : (Jvm.Cond.castable "[Ljava/util/HashMap$Node;" "java/lang/Object") ∈ lw_tbl := lw_at lw_m18 27 rfl
set_option maxRecDepth 100000
theorem q3129 : (Jvm.Cond.interfaceMethod "java/lang/Appendable" "java/lang/Appendable" "append" "(C)Ljava/lang/Appendable;") ∈ lw_tbl := lw_at lw_m13 150 rfl
set_option maxRecDepth 100000
theorem q3130 : (Jvm.Cond.declares ({ cls := "java/lang/Appendable", name := "append", desc := "(C)Ljava/lang/Appendable;" } : Jvm.MethodName)) ∈ lw_tbl := lw_at lw_m13 151 rfl
theorem q3154 : (Jvm.Cond.interfaceMethod "java/lang/Appendable" "java/lang/Appendable" "append" "(Ljava/lang/CharSequence;)Ljava/lang/Appendable;") ∈ lw_tbl := lw_at lw_m13 175 rfl
theorem q3155 : (Jvm.Cond.declares ({ cls := "java/lang/Appendable", name := "append", desc := "(Ljava/lang/CharSequence;)Ljava/lang/Appendable;" } : Jvm.MethodName)) ∈ lw_tbl := lw_at lw_m13 176 rfl
theorem q3197 : (Jvm.Cond.interfaceMethod "java/lang/CharSequence" "java/lang/CharSequence" "length" "()I") ∈ lw_tbl := lw_at lw_m13 218 rfl
set_option maxRecDepth 100000
theorem q3198 : (Jvm.Cond.declares ({ cls := "java/lang/CharSequence", name := "length", desc := "()I" } : Jvm.MethodName)) ∈ lw_tbl := lw_at lw_m13 219 rfl
theorem q3248 : (Jvm.Cond.interfaceMethod "java/lang/CharSequence" "java/lang/CharSequence" "charAt" "(I)C") ∈ lw_tbl := lw_at lw_m14 29 rfl
theorem q3249 : (Jvm.Cond.declares ({ cls := "java/lang/CharSequence", name := "charAt", desc := "(I)C" } : Jvm.MethodName)) ∈ lw_tbl := lw_at lw_m14 30 rfl
theorem q1539 : (Jvm.Cond.interfaceMethod "java/lang/Comparable" "java/lang/Comparable" "compareTo" "(Ljava/lang/Object;)I") ∈ lw_tbl := lw_at lw_m7 0 rfl
set_option maxRecDepth 100000
theorem q1540 : (Jvm.Cond.declares ({ cls := "java/lang/Comparable", name := "compareTo", desc := "(Ljava/lang/Object;)I" } : Jvm.MethodName)) ∈ lw_tbl := lw_at lw_m7 1 rfl
theorem q142 : (Jvm.Cond.initialized "java/lang/Double") ∈ lw_all := lw_g (lw_at lw_m1 43 rfl) rfl
set_option maxRecDepth 100000
theorem q1450 : (Jvm.Cond.static ({ cls := "java/lang/Double", name := "doubleToRawLongBits", desc := "(D)J" } : Jvm.MethodName)) ∈ lw_all := lw_g (lw_at lw_m6 151 rfl) rfl
theorem q1451 : (Jvm.Cond.native ({ cls := "java/lang/Double", name := "doubleToRawLongBits", desc := "(D)J" } : Jvm.MethodName)) ∈ lw_all := lw_g (lw_at lw_m6 152 rfl) rfl
theorem q1460 : (Jvm.Cond.static ({ cls := "java/lang/Double", name := "longBitsToDouble", desc := "(J)D" } : Jvm.MethodName)) ∈ lw_all := lw_g (lw_at lw_m6 161 rfl) rfl
theorem q1461 : (Jvm.Cond.native ({ cls := "java/lang/Double", name := "longBitsToDouble", desc := "(J)D" } : Jvm.MethodName)) ∈ lw_all := lw_g (lw_at lw_m6 162 rfl) rfl
theorem q154 : (Jvm.Cond.initialized "java/lang/Integer$IntegerCache") ∈ lw_all := lw_g (lw_at lw_m1 55 rfl) rfl
set_option maxRecDepth 100000
theorem q2534 : (Jvm.Cond.laysStatic "java/lang/Integer$IntegerCache" "high" "I") ∈ lw_tbl := lw_at lw_m11 35 rfl
theorem q2536 : (Jvm.Cond.laysStatic "java/lang/Integer$IntegerCache" "cache" "[Ljava/lang/Integer;") ∈ lw_tbl := lw_at lw_m11 37 rfl
theorem q3122 : (Jvm.Cond.instanceMethod ({ cls := "java/lang/StringBuffer", name := "append", desc := "([C)Ljava/lang/StringBuffer;" } : Jvm.MethodName)) ∈ lw_all := lw_g (lw_at lw_m13 143 rfl) rfl
set_option maxRecDepth 100000
theorem q3123 : (Jvm.Cond.selects "java/lang/StringBuffer" ({ cls := "java/lang/StringBuffer", name := "append", desc := "([C)Ljava/lang/StringBuffer;" } : Jvm.MethodName) ({ cls := "java/lang/StringBuffer", name := "append", desc := "([C)Ljava/lang/StringBuffer;" } : Jvm.MethodName)) ∈ lw_all := lw_g (lw_at lw_m13 144 rfl) rfl
theorem q3124 : (Jvm.Cond.codeSync ({ cls := "java/lang/StringBuffer", name := "append", desc := "([C)Ljava/lang/StringBuffer;" } : Jvm.MethodName) prog_41_method_24_code (2 : Nat) (Option.some (Jvm.ClassFile.FieldType.object "java/lang/StringBuffer"))) ∈ lw_all := lw_g (lw_at lw_m13 145 rfl) rfl
theorem q3125 : (Jvm.Cond.methodLink "java/lang/StringBuffer" (89 : Nat) ({ cls := "java/lang/AbstractStringBuilder", name := "append", desc := "([C)Ljava/lang/AbstractStringBuilder;" } : Jvm.MethodName)) ∈ lw_all := lw_g (lw_at lw_m13 146 rfl) rfl
theorem q3126 : (Jvm.Cond.superclass "java/lang/StringBuffer" "java/lang/AbstractStringBuilder") ∈ lw_all := lw_g (lw_at lw_m13 147 rfl) rfl
theorem q4210 : (Jvm.Cond.fieldLink "java/lang/StringBuffer" (34 : Nat) "java/lang/StringBuffer" "toStringCache" "Ljava/lang/String;") ∈ lw_all := lw_g (lw_at lw_m18 31 rfl) rfl
theorem q120 : (Jvm.Cond.initialized "java/lang/System") ∈ lw_all := lw_g (lw_at lw_m1 21 rfl) rfl
set_option maxRecDepth 100000
theorem q524 : (Jvm.Cond.static ({ cls := "java/lang/System", name := "arraycopy", desc := "(Ljava/lang/Object;ILjava/lang/Object;II)V" } : Jvm.MethodName)) ∈ lw_all := lw_g (lw_at lw_m2 185 rfl) rfl
theorem q525 : (Jvm.Cond.native ({ cls := "java/lang/System", name := "arraycopy", desc := "(Ljava/lang/Object;ILjava/lang/Object;II)V" } : Jvm.MethodName)) ∈ lw_all := lw_g (lw_at lw_m2 186 rfl) rfl
theorem q456 : (Jvm.Cond.interfaceMethod "java/util/Collection" "java/util/Collection" "toArray" "()[Ljava/lang/Object;") ∈ lw_tbl := lw_at lw_m2 117 rfl
set_option maxRecDepth 100000
theorem q457 : (Jvm.Cond.declares ({ cls := "java/util/Collection", name := "toArray", desc := "()[Ljava/lang/Object;" } : Jvm.MethodName)) ∈ lw_tbl := lw_at lw_m2 118 rfl
theorem q2940 : (Jvm.Cond.interfaceMethod "java/util/Collection" "java/util/Collection" "size" "()I") ∈ lw_tbl := lw_at lw_m12 201 rfl
theorem q2941 : (Jvm.Cond.declares ({ cls := "java/util/Collection", name := "size", desc := "()I" } : Jvm.MethodName)) ∈ lw_tbl := lw_at lw_m12 202 rfl
theorem q3418 : (Jvm.Cond.interfaceMethod "java/util/Collection" "java/util/Collection" "iterator" "()Ljava/util/Iterator;") ∈ lw_tbl := lw_at lw_m14 199 rfl
theorem q3419 : (Jvm.Cond.declares ({ cls := "java/util/Collection", name := "iterator", desc := "()Ljava/util/Iterator;" } : Jvm.MethodName)) ∈ lw_tbl := lw_at lw_m14 200 rfl
theorem q693 : (Jvm.Cond.interfaceMethod "java/util/Iterator" "java/util/Iterator" "hasNext" "()Z") ∈ lw_tbl := lw_at lw_m3 114 rfl
set_option maxRecDepth 100000
theorem q694 : (Jvm.Cond.declares ({ cls := "java/util/Iterator", name := "hasNext", desc := "()Z" } : Jvm.MethodName)) ∈ lw_tbl := lw_at lw_m3 115 rfl
theorem q719 : (Jvm.Cond.interfaceMethod "java/util/Iterator" "java/util/Iterator" "next" "()Ljava/lang/Object;") ∈ lw_tbl := lw_at lw_m3 140 rfl
theorem q720 : (Jvm.Cond.declares ({ cls := "java/util/Iterator", name := "next", desc := "()Ljava/lang/Object;" } : Jvm.MethodName)) ∈ lw_tbl := lw_at lw_m3 141 rfl
theorem q1430 : (Jvm.Cond.interfaceMethod "java/util/Map" "java/util/Map" "size" "()I") ∈ lw_tbl := lw_at lw_m6 131 rfl
set_option maxRecDepth 100000
theorem q1431 : (Jvm.Cond.declares ({ cls := "java/util/Map", name := "size", desc := "()I" } : Jvm.MethodName)) ∈ lw_tbl := lw_at lw_m6 132 rfl
theorem q1742 : (Jvm.Cond.interfaceMethod "java/util/Map" "java/util/Map" "entrySet" "()Ljava/util/Set;") ∈ lw_tbl := lw_at lw_m7 203 rfl
theorem q1743 : (Jvm.Cond.declares ({ cls := "java/util/Map", name := "entrySet", desc := "()Ljava/util/Set;" } : Jvm.MethodName)) ∈ lw_tbl := lw_at lw_m7 204 rfl
theorem q1768 : (Jvm.Cond.interfaceMethod "java/util/Map$Entry" "java/util/Map$Entry" "getKey" "()Ljava/lang/Object;") ∈ lw_tbl := lw_at lw_m7 229 rfl
set_option maxRecDepth 100000
theorem q1769 : (Jvm.Cond.declares ({ cls := "java/util/Map$Entry", name := "getKey", desc := "()Ljava/lang/Object;" } : Jvm.MethodName)) ∈ lw_tbl := lw_at lw_m7 230 rfl
theorem q1781 : (Jvm.Cond.interfaceMethod "java/util/Map$Entry" "java/util/Map$Entry" "getValue" "()Ljava/lang/Object;") ∈ lw_tbl := lw_at lw_m8 2 rfl
theorem q1782 : (Jvm.Cond.declares ({ cls := "java/util/Map$Entry", name := "getValue", desc := "()Ljava/lang/Object;" } : Jvm.MethodName)) ∈ lw_tbl := lw_at lw_m8 3 rfl
theorem q650 : (Jvm.Cond.interfaceMethod "java/util/Set" "java/util/Set" "iterator" "()Ljava/util/Iterator;") ∈ lw_tbl := lw_at lw_m3 71 rfl
set_option maxRecDepth 100000
theorem q651 : (Jvm.Cond.declares ({ cls := "java/util/Set", name := "iterator", desc := "()Ljava/util/Iterator;" } : Jvm.MethodName)) ∈ lw_tbl := lw_at lw_m3 72 rfl
theorem q3459 : (Jvm.Cond.interfaceMethod "java/util/Set" "java/util/Set" "contains" "(Ljava/lang/Object;)Z") ∈ lw_tbl := lw_at lw_m15 0 rfl
theorem q3460 : (Jvm.Cond.declares ({ cls := "java/util/Set", name := "contains", desc := "(Ljava/lang/Object;)Z" } : Jvm.MethodName)) ∈ lw_tbl := lw_at lw_m15 1 rfl
theorem q1849 : (Jvm.Cond.interfaceMethod "jdk/internal/access/JavaLangAccess" "jdk/internal/access/JavaLangAccess" "getUTF16Char" "([BI)C") ∈ lw_tbl := lw_at lw_m8 70 rfl
set_option maxRecDepth 100000
theorem q1850 : (Jvm.Cond.declares ({ cls := "jdk/internal/access/JavaLangAccess", name := "getUTF16Char", desc := "([BI)C" } : Jvm.MethodName)) ∈ lw_tbl := lw_at lw_m8 71 rfl
theorem q145 : (Jvm.Cond.initialized "jdk/internal/misc/UnsafeConstants") ∈ lw_all := lw_g (lw_at lw_m1 46 rfl) rfl
set_option maxRecDepth 100000
theorem q1613 : (Jvm.Cond.laysStatic "jdk/internal/misc/UnsafeConstants" "BIG_ENDIAN" "Z") ∈ lw_tbl := lw_at lw_m7 74 rfl
theorem q188 : (Jvm.Cond.arrayOver (Jvm.ClassFile.FieldType.object "PaperStore$Aisle")) ∈ lw_tbl := lw_at lw_m1 89 rfl
set_option maxRecDepth 100000
theorem q264 : (Jvm.Cond.arrayOver (Jvm.ClassFile.FieldType.object "PaperStore$Shelf")) ∈ lw_tbl := lw_at lw_m1 165 rfl
theorem q385 : (Jvm.Cond.arrayClass Jvm.ClassFile.FieldType.char) ∈ lw_all := lw_g (lw_at lw_m2 46 rfl) rfl
theorem q386 : (Jvm.Cond.arrayClass Jvm.ClassFile.FieldType.byte) ∈ lw_all := lw_g (lw_at lw_m2 47 rfl) rfl
theorem q439 : (Jvm.Cond.arrayClass Jvm.ClassFile.FieldType.long) ∈ lw_all := lw_g (lw_at lw_m2 100 rfl) rfl
theorem q518 : (Jvm.Cond.arrayOver (Jvm.ClassFile.FieldType.object "java/lang/Object")) ∈ lw_tbl := lw_at lw_m2 179 rfl
theorem q1477 : (Jvm.Cond.arrayOver (Jvm.ClassFile.FieldType.object "java/util/HashMap$Node")) ∈ lw_tbl := lw_at lw_m6 178 rfl
theorem q3568 : (Jvm.Cond.arrayClass Jvm.ClassFile.FieldType.int) ∈ lw_all := lw_g (lw_at lw_m15 109 rfl) rfl
theorem q4107 : (Jvm.Cond.arrayClass Jvm.ClassFile.FieldType.double) ∈ lw_all := lw_g (lw_at lw_m17 168 rfl) rfl
theorem q4209 : (Jvm.Cond.arrayClass Jvm.ClassFile.FieldType.short) ∈ lw_all := lw_g (lw_at lw_m18 30 rfl) rfl
