theorem q133 : (Jvm.Cond.initialized "SableCrown$Sort") ∈ lw_all := lw_g (lw_at lw_m1 29 rfl) rfl
set_option maxRecDepth 100000
theorem q679 : (Jvm.Cond.selects "SableCrown$Sort" ({ cls := "java/lang/Object", name := "getClass", desc := "()Ljava/lang/Class;" } : Jvm.MethodName) ({ cls := "java/lang/Object", name := "getClass", desc := "()Ljava/lang/Class;" } : Jvm.MethodName)) ∈ lw_all := lw_g (lw_at lw_m3 95 rfl) rfl
theorem q984 : (Jvm.Cond.laysStatic "SableCrown$Sort" "END" "LSableCrown$Sort;") ∈ lw_tbl := lw_at lw_m4 160 rfl
theorem q1015 : (Jvm.Cond.laysStatic "SableCrown$Sort" "WORD" "LSableCrown$Sort;") ∈ lw_tbl := lw_at lw_m4 191 rfl
theorem q1020 : (Jvm.Cond.laysStatic "SableCrown$Sort" "NUMBER" "LSableCrown$Sort;") ∈ lw_tbl := lw_at lw_m4 196 rfl
theorem q1025 : (Jvm.Cond.laysStatic "SableCrown$Sort" "SIGN" "LSableCrown$Sort;") ∈ lw_tbl := lw_at lw_m4 201 rfl
theorem q1027 : (Jvm.Cond.laysStatic "SableCrown$Sort" "BAD" "LSableCrown$Sort;") ∈ lw_tbl := lw_at lw_m4 203 rfl
theorem q2315 : (Jvm.Cond.castable "SableCrown$Sort" "java/lang/Object") ∈ lw_tbl := lw_at lw_m10 51 rfl
theorem q283 : (Jvm.Cond.sameMethod "[B" "java/lang/Object" "clone" "()Ljava/lang/Object;") ∈ lw_all := lw_g (lw_at lw_m1 179 rfl) rfl
set_option maxRecDepth 100000
theorem q286 : (Jvm.Cond.selects "[B" ({ cls := "[B", name := "clone", desc := "()Ljava/lang/Object;" } : Jvm.MethodName) ({ cls := "java/lang/Object", name := "clone", desc := "()Ljava/lang/Object;" } : Jvm.MethodName)) ∈ lw_all := lw_g (lw_at lw_m1 182 rfl) rfl
theorem q287 : (Jvm.Cond.castable "[B" "java/lang/Cloneable") ∈ lw_tbl := lw_at lw_m1 183 rfl
theorem q2330 : (Jvm.Cond.castable "[B" "java/lang/Object") ∈ lw_tbl := lw_at lw_m10 66 rfl
theorem q2332 : (Jvm.Cond.castable "[I" "java/lang/Object") ∈ lw_tbl := lw_at lw_m10 68 rfl
set_option maxRecDepth 100000
theorem q2335 : (Jvm.Cond.castable "[J" "java/lang/Object") ∈ lw_tbl := lw_at lw_m10 71 rfl
set_option maxRecDepth 100000
theorem q511 : (Jvm.Cond.sameMethod "[LSableCrown$Value;" "java/lang/Object" "clone" "()Ljava/lang/Object;") ∈ lw_all := lw_g (lw_at lw_m2 167 rfl) rfl
set_option maxRecDepth 100000
theorem q512 : (Jvm.Cond.selects "[LSableCrown$Value;" ({ cls := "[LSableCrown$Value;", name := "clone", desc := "()Ljava/lang/Object;" } : Jvm.MethodName) ({ cls := "java/lang/Object", name := "clone", desc := "()Ljava/lang/Object;" } : Jvm.MethodName)) ∈ lw_all := lw_g (lw_at lw_m2 168 rfl) rfl
theorem q513 : (Jvm.Cond.castable "[LSableCrown$Value;" "java/lang/Cloneable") ∈ lw_tbl := lw_at lw_m2 169 rfl
theorem q2331 : (Jvm.Cond.castable "[LSableCrown$Value;" "java/lang/Object") ∈ lw_tbl := lw_at lw_m10 67 rfl
theorem q2326 : (Jvm.Cond.sameMethod "[Ljava/lang/Object;" "java/lang/Object" "getClass" "()Ljava/lang/Class;") ∈ lw_all := lw_g (lw_at lw_m10 62 rfl) rfl
set_option maxRecDepth 100000
theorem q2327 : (Jvm.Cond.selects "[Ljava/lang/Object;" ({ cls := "java/lang/Object", name := "getClass", desc := "()Ljava/lang/Class;" } : Jvm.MethodName) ({ cls := "java/lang/Object", name := "getClass", desc := "()Ljava/lang/Class;" } : Jvm.MethodName)) ∈ lw_all := lw_g (lw_at lw_m10 63 rfl) rfl
theorem q2329 : (Jvm.Cond.castable "[Ljava/lang/Object;" "java/lang/Object") ∈ lw_tbl := lw_at lw_m10 65 rfl
theorem q2334 : (Jvm.Cond.castable "[Ljava/lang/String;" "java/lang/Object") ∈ lw_tbl := lw_at lw_m10 70 rfl
set_option maxRecDepth 100000
theorem q2333 : (Jvm.Cond.castable "[Z" "java/lang/Object") ∈ lw_tbl := lw_at lw_m10 69 rfl
set_option maxRecDepth 100000
theorem q138 : (Jvm.Cond.initialized "java/lang/Integer$IntegerCache") ∈ lw_all := lw_g (lw_at lw_m1 34 rfl) rfl
set_option maxRecDepth 100000
theorem q1197 : (Jvm.Cond.laysStatic "java/lang/Integer$IntegerCache" "high" "I") ∈ lw_tbl := lw_at lw_m5 133 rfl
theorem q1199 : (Jvm.Cond.laysStatic "java/lang/Integer$IntegerCache" "cache" "[Ljava/lang/Integer;") ∈ lw_tbl := lw_at lw_m5 135 rfl
theorem q121 : (Jvm.Cond.initialized "java/lang/System") ∈ lw_all := lw_g (lw_at lw_m1 17 rfl) rfl
set_option maxRecDepth 100000
theorem q293 : (Jvm.Cond.static ({ cls := "java/lang/System", name := "arraycopy", desc := "(Ljava/lang/Object;ILjava/lang/Object;II)V" } : Jvm.MethodName)) ∈ lw_all := lw_g (lw_at lw_m1 189 rfl) rfl
theorem q294 : (Jvm.Cond.native ({ cls := "java/lang/System", name := "arraycopy", desc := "(Ljava/lang/Object;ILjava/lang/Object;II)V" } : Jvm.MethodName)) ∈ lw_all := lw_g (lw_at lw_m1 190 rfl) rfl
theorem q172 : (Jvm.Cond.arrayOver (Jvm.ClassFile.FieldType.object "java/lang/Object")) ∈ lw_tbl := lw_at lw_m1 68 rfl
set_option maxRecDepth 100000
theorem q247 : (Jvm.Cond.arrayClass Jvm.ClassFile.FieldType.byte) ∈ lw_all := lw_g (lw_at lw_m1 143 rfl) rfl
theorem q514 : (Jvm.Cond.arrayOver (Jvm.ClassFile.FieldType.object "SableCrown$Value")) ∈ lw_tbl := lw_at lw_m2 170 rfl
theorem q521 : (Jvm.Cond.arrayClass Jvm.ClassFile.FieldType.int) ∈ lw_all := lw_g (lw_at lw_m2 177 rfl) rfl
theorem q1070 : (Jvm.Cond.arrayClass Jvm.ClassFile.FieldType.boolean) ∈ lw_all := lw_g (lw_at lw_m5 6 rfl) rfl
theorem q1669 : (Jvm.Cond.arrayOver (Jvm.ClassFile.FieldType.object "java/lang/String")) ∈ lw_tbl := lw_at lw_m7 125 rfl
theorem q2290 : (Jvm.Cond.arrayClass Jvm.ClassFile.FieldType.long) ∈ lw_all := lw_g (lw_at lw_m10 26 rfl) rfl
