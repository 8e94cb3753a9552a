theorem q1658 : (Jvm.Cond.castable "[I" "java/lang/Object") ∈ lw_tbl := lw_at lw_m7 139 rfl
set_option maxRecDepth 100000

theorem q1660 : (Jvm.Cond.castable "[J" "java/lang/Object") ∈ lw_tbl := lw_at lw_m7 141 rfl
set_option maxRecDepth 100000

theorem q1659 : (Jvm.Cond.castable "[B" "java/lang/Object") ∈ lw_tbl := lw_at lw_m7 140 rfl
set_option maxRecDepth 100000

theorem q1662 : (Jvm.Cond.castable "[Z" "java/lang/Object") ∈ lw_tbl := lw_at lw_m7 143 rfl
set_option maxRecDepth 100000

theorem q1657 : (Jvm.Cond.castable "[[I" "java/lang/Object") ∈ lw_tbl := lw_at lw_m7 138 rfl
set_option maxRecDepth 100000

theorem q1654 : (Jvm.Cond.sameMethod "[Ljava/lang/Object;" "java/lang/Object" "getClass" "()Ljava/lang/Class;") ∈ lw_all := lw_g (lw_at lw_m7 135 rfl) rfl
set_option maxRecDepth 100000
theorem q1655 : (Jvm.Cond.selects "[Ljava/lang/Object;" ({ cls := "java/lang/Object", name := "getClass", desc := "()Ljava/lang/Class;" } : Jvm.MethodName) ({ cls := "java/lang/Object", name := "getClass", desc := "()Ljava/lang/Class;" } : Jvm.MethodName)) ∈ lw_all := lw_g (lw_at lw_m7 136 rfl) rfl
theorem q1661 : (Jvm.Cond.castable "[Ljava/lang/Object;" "java/lang/Object") ∈ lw_tbl := lw_at lw_m7 142 rfl

theorem q132 : (Jvm.Cond.arrayOver (Jvm.ClassFile.FieldType.array Jvm.ClassFile.FieldType.int)) ∈ lw_tbl := lw_at lw_m1 53 rfl
set_option maxRecDepth 100000
theorem q159 : (Jvm.Cond.arrayClass Jvm.ClassFile.FieldType.int) ∈ lw_all := lw_g (lw_at lw_m1 80 rfl) rfl
theorem q242 : (Jvm.Cond.arrayClass Jvm.ClassFile.FieldType.byte) ∈ lw_all := lw_g (lw_at lw_m1 163 rfl) rfl
theorem q243 : (Jvm.Cond.arrayClass Jvm.ClassFile.FieldType.long) ∈ lw_all := lw_g (lw_at lw_m1 164 rfl) rfl
theorem q373 : (Jvm.Cond.arrayOver (Jvm.ClassFile.FieldType.object "java/lang/Object")) ∈ lw_tbl := lw_at lw_m2 54 rfl
theorem q576 : (Jvm.Cond.arrayClass Jvm.ClassFile.FieldType.boolean) ∈ lw_all := lw_g (lw_at lw_m3 17 rfl) rfl
theorem q1677 : (Jvm.Cond.arrayOver (Jvm.ClassFile.FieldType.object "java/lang/String")) ∈ lw_tbl := lw_at lw_m7 158 rfl

theorem q985 : (Jvm.Cond.interfaceMethod "ManyEyes$Sum" "ManyEyes$Sum" "of" "(LManyEyes$Now;)J") ∈ lw_tbl := lw_at lw_m4 186 rfl
set_option maxRecDepth 100000
theorem q986 : (Jvm.Cond.declares ({ cls := "ManyEyes$Sum", name := "of", desc := "(LManyEyes$Now;)J" } : Jvm.MethodName)) ∈ lw_tbl := lw_at lw_m4 187 rfl

theorem q1073 : (Jvm.Cond.interfaceMethod "ManyEyes$Asked" "ManyEyes$Asked" "is" "(LManyEyes$Now;)Z") ∈ lw_tbl := lw_at lw_m5 34 rfl
set_option maxRecDepth 100000
theorem q1074 : (Jvm.Cond.declares ({ cls := "ManyEyes$Asked", name := "is", desc := "(LManyEyes$Now;)Z" } : Jvm.MethodName)) ∈ lw_tbl := lw_at lw_m5 35 rfl

theorem q114 : (Jvm.Cond.initialized "java/lang/Integer$IntegerCache") ∈ lw_all := lw_g (lw_at lw_m1 35 rfl) rfl
set_option maxRecDepth 100000
theorem q893 : (Jvm.Cond.laysStatic "java/lang/Integer$IntegerCache" "high" "I") ∈ lw_tbl := lw_at lw_m4 94 rfl
theorem q895 : (Jvm.Cond.laysStatic "java/lang/Integer$IntegerCache" "cache" "[Ljava/lang/Integer;") ∈ lw_tbl := lw_at lw_m4 96 rfl

