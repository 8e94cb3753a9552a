set_option maxRecDepth 100000
/-! ManyEyes$Wrong -/
set_option maxRecDepth 100000
def RX7 : String := "ManyEyes$Wrong"
def TX7 : u_T := fun k => match k with
  | 0 => ("java/lang/Throwable", "cause", "Ljava/lang/Throwable;", false)
  | 1 => ("java/lang/Throwable", "stackTrace", "[Ljava/lang/StackTraceElement;", false)
  | 2 => ("java/lang/Throwable", "suppressedExceptions", "Ljava/util/List;", false)
  | 3 => ("java/lang/Throwable", "detailMessage", "Ljava/lang/String;", false)
  | 4 => ("java/lang/Throwable", "backtrace", "Ljava/lang/Object;", false)
  | 5 => ("java/lang/Throwable", "depth", "I", false)
  | 6 => ("ManyEyes$Wrong", "fault", "I", true)
  | _ => ("ManyEyes$Wrong", "place", "I", true)
def tyX7 : Nat → FieldType := fun k => match k with
  | 0 => .object "java/lang/Throwable"
  | 1 => .array (.object "java/lang/StackTraceElement")
  | 2 => .object "java/util/List"
  | 3 => .object "java/lang/String"
  | 4 => .object "java/lang/Object"
  | 5 => .int
  | 6 => .int
  | _ => .int
abbrev wsX70 : List Cond := u_ws RX7 TX7 8
theorem nmX7 : ∀ a, a < 8 → ∀ b, b < 8 → a ≠ b → (TX7 a).2.1 ≠ (TX7 b).2.1 := by decide +kernel
theorem tyX7_ok : ∀ k, k < 8 → parseFieldDescriptor (TX7 k).2.2.1 = some (tyX7 k) := by decide +kernel
abbrev cX7_init : ByteArray := prog_20_method_1_code
def yX7_init : MethodName := ⟨RX7, "<init>", "(II)V"⟩
theorem dX7_init_0 : decode cX7_init 0 = .ok (.aload_n 0, 1) := by decide +kernel
theorem dX7_init_1 : decode cX7_init 1 = .ok (.invokespecial 1, 3) := by decide +kernel
theorem dX7_init_4 : decode cX7_init 4 = .ok (.aload_n 0, 1) := by decide +kernel
theorem dX7_init_5 : decode cX7_init 5 = .ok (.iload_n 1, 1) := by decide +kernel
theorem dX7_init_6 : decode cX7_init 6 = .ok (.putfield 7, 3) := by decide +kernel
theorem dX7_init_9 : decode cX7_init 9 = .ok (.aload_n 0, 1) := by decide +kernel
theorem dX7_init_10 : decode cX7_init 10 = .ok (.iload_n 2, 1) := by decide +kernel
theorem dX7_init_11 : decode cX7_init 11 = .ok (.putfield 13, 3) := by decide +kernel
theorem dX7_init_14 : decode cX7_init 14 = .ok (.return_, 1) := by decide +kernel
theorem q100 : (Jvm.Cond.initialized "ManyEyes$Wrong") ∈ lw_all := lw_g (lw_at lw_m1 21 rfl) rfl
theorem q364 : (Jvm.Cond.selects "ManyEyes$Wrong" ({ cls := "java/lang/Object", name := "getClass", desc := "()Ljava/lang/Class;" } : Jvm.MethodName) ({ cls := "java/lang/Object", name := "getClass", desc := "()Ljava/lang/Class;" } : Jvm.MethodName)) ∈ lw_all := lw_g (lw_at lw_m2 45 rfl) rfl
theorem q653 : (Jvm.Cond.instantiable "ManyEyes$Wrong" (8 : Nat)) ∈ lw_all := lw_g (lw_at lw_m3 94 rfl) rfl
theorem q654 : (Jvm.Cond.castable "ManyEyes$Wrong" "ManyEyes$Wrong") ∈ lw_tbl := lw_at lw_m3 95 rfl
theorem q659 : (Jvm.Cond.selects "ManyEyes$Wrong" ({ cls := "java/lang/Throwable", name := "fillInStackTrace", desc := "(I)Ljava/lang/Throwable;" } : Jvm.MethodName) ({ cls := "java/lang/Throwable", name := "fillInStackTrace", desc := "(I)Ljava/lang/Throwable;" } : Jvm.MethodName)) ∈ lw_all := lw_g (lw_at lw_m3 100 rfl) rfl
theorem q660 : (Jvm.Cond.selects "ManyEyes$Wrong" ({ cls := "java/lang/Throwable", name := "fillInStackTrace", desc := "()Ljava/lang/Throwable;" } : Jvm.MethodName) ({ cls := "java/lang/Throwable", name := "fillInStackTrace", desc := "()Ljava/lang/Throwable;" } : Jvm.MethodName)) ∈ lw_all := lw_g (lw_at lw_m3 101 rfl) rfl
theorem q661 : (Jvm.Cond.lays "ManyEyes$Wrong" "java/lang/Throwable" "cause" "Ljava/lang/Throwable;") ∈ lw_all := lw_g (lw_at lw_m3 102 rfl) rfl
theorem q663 : (Jvm.Cond.lays "ManyEyes$Wrong" "java/lang/Throwable" "stackTrace" "[Ljava/lang/StackTraceElement;") ∈ lw_all := lw_g (lw_at lw_m3 104 rfl) rfl
theorem q665 : (Jvm.Cond.lays "ManyEyes$Wrong" "java/lang/Throwable" "suppressedExceptions" "Ljava/util/List;") ∈ lw_all := lw_g (lw_at lw_m3 106 rfl) rfl
theorem q667 : (Jvm.Cond.lays "ManyEyes$Wrong" "java/lang/Throwable" "detailMessage" "Ljava/lang/String;") ∈ lw_all := lw_g (lw_at lw_m3 108 rfl) rfl
theorem q669 : (Jvm.Cond.lays "ManyEyes$Wrong" "java/lang/Throwable" "backtrace" "Ljava/lang/Object;") ∈ lw_all := lw_g (lw_at lw_m3 110 rfl) rfl
theorem q690 : (Jvm.Cond.instanceMethod ({ cls := "ManyEyes$Wrong", name := "<init>", desc := "(II)V" } : Jvm.MethodName)) ∈ lw_all := lw_g (lw_at lw_m3 131 rfl) rfl
theorem q691 : (Jvm.Cond.code ({ cls := "ManyEyes$Wrong", name := "<init>", desc := "(II)V" } : Jvm.MethodName) prog_20_method_1_code (3 : Nat) (Option.none : Option Jvm.ClassFile.FieldType)) ∈ lw_all := lw_g (lw_at lw_m3 132 rfl) rfl
theorem q692 : (Jvm.Cond.methodLink "ManyEyes$Wrong" (1 : Nat) ({ cls := "java/lang/Exception", name := "<init>", desc := "()V" } : Jvm.MethodName)) ∈ lw_all := lw_g (lw_at lw_m3 133 rfl) rfl
theorem q696 : (Jvm.Cond.fieldLink "ManyEyes$Wrong" (7 : Nat) "ManyEyes$Wrong" "fault" "I") ∈ lw_all := lw_g (lw_at lw_m3 137 rfl) rfl
theorem q698 : (Jvm.Cond.fieldLink "ManyEyes$Wrong" (13 : Nat) "ManyEyes$Wrong" "place" "I") ∈ lw_all := lw_g (lw_at lw_m3 139 rfl) rfl
theorem q704 : (Jvm.Cond.laysFinal "ManyEyes$Wrong" "ManyEyes$Wrong" "fault" "I") ∈ lw_all := lw_g (lw_at lw_m3 145 rfl) rfl
theorem q705 : (Jvm.Cond.soleField "ManyEyes$Wrong" "fault") ∈ lw_all := lw_g (lw_at lw_m3 146 rfl) rfl
theorem q706 : (Jvm.Cond.laysFinal "ManyEyes$Wrong" "ManyEyes$Wrong" "place" "I") ∈ lw_all := lw_g (lw_at lw_m3 147 rfl) rfl
theorem q707 : (Jvm.Cond.soleField "ManyEyes$Wrong" "place") ∈ lw_all := lw_g (lw_at lw_m3 148 rfl) rfl
theorem q712 : (Jvm.Cond.lays "ManyEyes$Wrong" "java/lang/Throwable" "depth" "I") ∈ lw_all := lw_g (lw_at lw_m3 153 rfl) rfl
theorem q715 : (Jvm.Cond.superclass "ManyEyes$Wrong" "java/lang/Exception") ∈ lw_all := lw_g (lw_at lw_m3 156 rfl) rfl
theorem q1638 : (Jvm.Cond.castable "ManyEyes$Wrong" "java/lang/Object") ∈ lw_tbl := lw_at lw_m7 119 rfl
theorem in_X7 : ∀ w ∈ wsX70, w ∈ lw_all := lw_in wsX70 [661, 663, 665, 667, 669, 712, 704, 706] (by decide +kernel) (by decide +kernel)

/-! ManyEyes$Clause -/
set_option maxRecDepth 100000
def RX8 : String := "ManyEyes$Clause"
def TX8 : u_T := fun k => match k with
  | 0 => ("ManyEyes$Clause", "sort", "I", true)
  | 1 => ("ManyEyes$Clause", "letter", "I", false)
  | 2 => ("ManyEyes$Clause", "sum", "LManyEyes$Sum;", false)
  | _ => ("ManyEyes$Clause", "asked", "LManyEyes$Asked;", false)
def tyX8 : Nat → FieldType := fun k => match k with
  | 0 => .int
  | 1 => .int
  | 2 => .object "ManyEyes$Sum"
  | _ => .object "ManyEyes$Asked"
abbrev wsX80 : List Cond := u_ws RX8 TX8 4
theorem nmX8 : ∀ a, a < 4 → ∀ b, b < 4 → a ≠ b → (TX8 a).2.1 ≠ (TX8 b).2.1 := by decide +kernel
theorem tyX8_ok : ∀ k, k < 4 → parseFieldDescriptor (TX8 k).2.2.1 = some (tyX8 k) := by decide +kernel
abbrev cX8_init : ByteArray := prog_5_method_1_code
def yX8_init : MethodName := ⟨RX8, "<init>", "(I)V"⟩
theorem dX8_init_0 : decode cX8_init 0 = .ok (.aload_n 0, 1) := by decide +kernel
theorem dX8_init_1 : decode cX8_init 1 = .ok (.invokespecial 1, 3) := by decide +kernel
theorem dX8_init_4 : decode cX8_init 4 = .ok (.aload_n 0, 1) := by decide +kernel
theorem dX8_init_5 : decode cX8_init 5 = .ok (.iload_n 1, 1) := by decide +kernel
theorem dX8_init_6 : decode cX8_init 6 = .ok (.putfield 7, 3) := by decide +kernel
theorem dX8_init_9 : decode cX8_init 9 = .ok (.return_, 1) := by decide +kernel
theorem q101 : (Jvm.Cond.initialized "ManyEyes$Clause") ∈ lw_all := lw_g (lw_at lw_m1 22 rfl) rfl
theorem q350 : (Jvm.Cond.selects "ManyEyes$Clause" ({ cls := "java/lang/Object", name := "getClass", desc := "()Ljava/lang/Class;" } : Jvm.MethodName) ({ cls := "java/lang/Object", name := "getClass", desc := "()Ljava/lang/Class;" } : Jvm.MethodName)) ∈ lw_all := lw_g (lw_at lw_m2 31 rfl) rfl
theorem q718 : (Jvm.Cond.instantiable "ManyEyes$Clause" (4 : Nat)) ∈ lw_all := lw_g (lw_at lw_m3 159 rfl) rfl
theorem q720 : (Jvm.Cond.instanceMethod ({ cls := "ManyEyes$Clause", name := "<init>", desc := "(I)V" } : Jvm.MethodName)) ∈ lw_all := lw_g (lw_at lw_m3 161 rfl) rfl
theorem q721 : (Jvm.Cond.code ({ cls := "ManyEyes$Clause", name := "<init>", desc := "(I)V" } : Jvm.MethodName) prog_5_method_1_code (2 : Nat) (Option.none : Option Jvm.ClassFile.FieldType)) ∈ lw_all := lw_g (lw_at lw_m3 162 rfl) rfl
theorem q722 : (Jvm.Cond.methodLink "ManyEyes$Clause" (1 : Nat) ({ cls := "java/lang/Object", name := "<init>", desc := "()V" } : Jvm.MethodName)) ∈ lw_all := lw_g (lw_at lw_m3 163 rfl) rfl
theorem q723 : (Jvm.Cond.fieldLink "ManyEyes$Clause" (7 : Nat) "ManyEyes$Clause" "sort" "I") ∈ lw_all := lw_g (lw_at lw_m3 164 rfl) rfl
theorem q732 : (Jvm.Cond.laysFinal "ManyEyes$Clause" "ManyEyes$Clause" "sort" "I") ∈ lw_all := lw_g (lw_at lw_m3 173 rfl) rfl
theorem q733 : (Jvm.Cond.soleField "ManyEyes$Clause" "sort") ∈ lw_all := lw_g (lw_at lw_m3 174 rfl) rfl
theorem q734 : (Jvm.Cond.lays "ManyEyes$Clause" "ManyEyes$Clause" "letter" "I") ∈ lw_all := lw_g (lw_at lw_m3 175 rfl) rfl
theorem q735 : (Jvm.Cond.soleField "ManyEyes$Clause" "letter") ∈ lw_all := lw_g (lw_at lw_m3 176 rfl) rfl
theorem q736 : (Jvm.Cond.lays "ManyEyes$Clause" "ManyEyes$Clause" "sum" "LManyEyes$Sum;") ∈ lw_all := lw_g (lw_at lw_m3 177 rfl) rfl
theorem q737 : (Jvm.Cond.soleField "ManyEyes$Clause" "sum") ∈ lw_all := lw_g (lw_at lw_m3 178 rfl) rfl
theorem q738 : (Jvm.Cond.lays "ManyEyes$Clause" "ManyEyes$Clause" "asked" "LManyEyes$Asked;") ∈ lw_all := lw_g (lw_at lw_m3 179 rfl) rfl
theorem q739 : (Jvm.Cond.soleField "ManyEyes$Clause" "asked") ∈ lw_all := lw_g (lw_at lw_m3 180 rfl) rfl
theorem q740 : (Jvm.Cond.superclass "ManyEyes$Clause" "java/lang/Object") ∈ lw_all := lw_g (lw_at lw_m3 181 rfl) rfl
theorem q1639 : (Jvm.Cond.castable "ManyEyes$Clause" "java/lang/Object") ∈ lw_tbl := lw_at lw_m7 120 rfl
theorem in_X8 : ∀ w ∈ wsX80, w ∈ lw_all := lw_in wsX80 [732, 734, 736, 738] (by decide +kernel) (by decide +kernel)

/-! ManyEyes$Not -/
set_option maxRecDepth 100000
def RX9 : String := "ManyEyes$Not"
def TX9 : u_T := fun k => match k with
  | _ => ("ManyEyes$Not", "x", "LManyEyes$Asked;", true)
def tyX9 : Nat → FieldType := fun k => match k with
  | _ => .object "ManyEyes$Asked"
abbrev wsX90 : List Cond := u_ws RX9 TX9 1
theorem nmX9 : ∀ a, a < 1 → ∀ b, b < 1 → a ≠ b → (TX9 a).2.1 ≠ (TX9 b).2.1 := by decide +kernel
theorem tyX9_ok : ∀ k, k < 1 → parseFieldDescriptor (TX9 k).2.2.1 = some (tyX9 k) := by decide +kernel
abbrev cX9_init : ByteArray := prog_12_method_1_code
def yX9_init : MethodName := ⟨RX9, "<init>", "(LManyEyes$Asked;)V"⟩
theorem dX9_init_0 : decode cX9_init 0 = .ok (.aload_n 0, 1) := by decide +kernel
theorem dX9_init_1 : decode cX9_init 1 = .ok (.invokespecial 1, 3) := by decide +kernel
theorem dX9_init_4 : decode cX9_init 4 = .ok (.aload_n 0, 1) := by decide +kernel
theorem dX9_init_5 : decode cX9_init 5 = .ok (.aload_n 1, 1) := by decide +kernel
theorem dX9_init_6 : decode cX9_init 6 = .ok (.putfield 7, 3) := by decide +kernel
theorem dX9_init_9 : decode cX9_init 9 = .ok (.return_, 1) := by decide +kernel
abbrev cX9_is : ByteArray := prog_12_method_2_code
def yX9_is : MethodName := ⟨RX9, "is", "(LManyEyes$Now;)Z"⟩
theorem dX9_is_0 : decode cX9_is 0 = .ok (.aload_n 0, 1) := by decide +kernel
theorem dX9_is_1 : decode cX9_is 1 = .ok (.getfield 7, 3) := by decide +kernel
theorem dX9_is_4 : decode cX9_is 4 = .ok (.aload_n 1, 1) := by decide +kernel
theorem dX9_is_5 : decode cX9_is 5 = .ok (.invokeinterface 13 2, 5) := by decide +kernel
theorem dX9_is_10 : decode cX9_is 10 = .ok (.ifCond .ne 7, 3) := by decide +kernel
theorem dX9_is_13 : decode cX9_is 13 = .ok (.iconst 1, 1) := by decide +kernel
theorem dX9_is_14 : decode cX9_is 14 = .ok (.goto 4, 3) := by decide +kernel
theorem dX9_is_17 : decode cX9_is 17 = .ok (.iconst 0, 1) := by decide +kernel
theorem dX9_is_18 : decode cX9_is 18 = .ok (.ireturn, 1) := by decide +kernel
theorem q103 : (Jvm.Cond.initialized "ManyEyes$Not") ∈ lw_all := lw_g (lw_at lw_m1 24 rfl) rfl
theorem q357 : (Jvm.Cond.selects "ManyEyes$Not" ({ cls := "java/lang/Object", name := "getClass", desc := "()Ljava/lang/Class;" } : Jvm.MethodName) ({ cls := "java/lang/Object", name := "getClass", desc := "()Ljava/lang/Class;" } : Jvm.MethodName)) ∈ lw_all := lw_g (lw_at lw_m2 38 rfl) rfl
theorem q762 : (Jvm.Cond.instantiable "ManyEyes$Not" (1 : Nat)) ∈ lw_all := lw_g (lw_at lw_m3 203 rfl) rfl
theorem q764 : (Jvm.Cond.instanceMethod ({ cls := "ManyEyes$Not", name := "<init>", desc := "(LManyEyes$Asked;)V" } : Jvm.MethodName)) ∈ lw_all := lw_g (lw_at lw_m3 205 rfl) rfl
theorem q765 : (Jvm.Cond.code ({ cls := "ManyEyes$Not", name := "<init>", desc := "(LManyEyes$Asked;)V" } : Jvm.MethodName) prog_12_method_1_code (2 : Nat) (Option.none : Option Jvm.ClassFile.FieldType)) ∈ lw_all := lw_g (lw_at lw_m3 206 rfl) rfl
theorem q766 : (Jvm.Cond.methodLink "ManyEyes$Not" (1 : Nat) ({ cls := "java/lang/Record", name := "<init>", desc := "()V" } : Jvm.MethodName)) ∈ lw_all := lw_g (lw_at lw_m3 207 rfl) rfl
theorem q770 : (Jvm.Cond.fieldLink "ManyEyes$Not" (7 : Nat) "ManyEyes$Not" "x" "LManyEyes$Asked;") ∈ lw_all := lw_g (lw_at lw_m3 211 rfl) rfl
theorem q771 : (Jvm.Cond.laysFinal "ManyEyes$Not" "ManyEyes$Not" "x" "LManyEyes$Asked;") ∈ lw_all := lw_g (lw_at lw_m3 212 rfl) rfl
theorem q772 : (Jvm.Cond.soleField "ManyEyes$Not" "x") ∈ lw_all := lw_g (lw_at lw_m3 213 rfl) rfl
theorem q773 : (Jvm.Cond.superclass "ManyEyes$Not" "java/lang/Record") ∈ lw_all := lw_g (lw_at lw_m3 214 rfl) rfl
theorem q1094 : (Jvm.Cond.castable "ManyEyes$Not" "ManyEyes$Asked") ∈ lw_tbl := lw_at lw_m5 55 rfl
theorem q1095 : (Jvm.Cond.selects "ManyEyes$Not" ({ cls := "ManyEyes$Asked", name := "is", desc := "(LManyEyes$Now;)Z" } : Jvm.MethodName) ({ cls := "ManyEyes$Not", name := "is", desc := "(LManyEyes$Now;)Z" } : Jvm.MethodName)) ∈ lw_all := lw_g (lw_at lw_m5 56 rfl) rfl
theorem q1096 : (Jvm.Cond.unhidden "ManyEyes$Not" "is" "(LManyEyes$Now;)Z") ∈ lw_tbl := lw_at lw_m5 57 rfl
theorem q1097 : (Jvm.Cond.instanceMethod ({ cls := "ManyEyes$Not", name := "is", desc := "(LManyEyes$Now;)Z" } : Jvm.MethodName)) ∈ lw_all := lw_g (lw_at lw_m5 58 rfl) rfl
theorem q1098 : (Jvm.Cond.publicMethod ({ cls := "ManyEyes$Not", name := "is", desc := "(LManyEyes$Now;)Z" } : Jvm.MethodName)) ∈ lw_tbl := lw_at lw_m5 59 rfl
theorem q1099 : (Jvm.Cond.code ({ cls := "ManyEyes$Not", name := "is", desc := "(LManyEyes$Now;)Z" } : Jvm.MethodName) prog_12_method_2_code (2 : Nat) (Option.some Jvm.ClassFile.FieldType.boolean)) ∈ lw_all := lw_g (lw_at lw_m5 60 rfl) rfl
theorem q1100 : (Jvm.Cond.interfaceEntry "ManyEyes$Not" (13 : Nat)) ∈ lw_tbl := lw_at lw_m5 61 rfl
theorem q1101 : (Jvm.Cond.methodLink "ManyEyes$Not" (13 : Nat) ({ cls := "ManyEyes$Asked", name := "is", desc := "(LManyEyes$Now;)Z" } : Jvm.MethodName)) ∈ lw_all := lw_g (lw_at lw_m5 62 rfl) rfl
theorem q1640 : (Jvm.Cond.castable "ManyEyes$Not" "java/lang/Object") ∈ lw_tbl := lw_at lw_m7 121 rfl
theorem in_X9 : ∀ w ∈ wsX90, w ∈ lw_all := lw_in wsX90 [771] (by decide +kernel) (by decide +kernel)

/-! ManyEyes$Chain -/
set_option maxRecDepth 100000
def RX10 : String := "ManyEyes$Chain"
def TX10 : u_T := fun k => match k with
  | 0 => ("ManyEyes$Chain", "first", "LManyEyes$Sum;", true)
  | 1 => ("ManyEyes$Chain", "more", "Ljava/util/ArrayList;", true)
  | _ => ("ManyEyes$Chain", "signs", "Ljava/util/ArrayList;", true)
def tyX10 : Nat → FieldType := fun k => match k with
  | 0 => .object "ManyEyes$Sum"
  | 1 => .object "java/util/ArrayList"
  | _ => .object "java/util/ArrayList"
abbrev wsX100 : List Cond := u_ws RX10 TX10 3
theorem nmX10 : ∀ a, a < 3 → ∀ b, b < 3 → a ≠ b → (TX10 a).2.1 ≠ (TX10 b).2.1 := by decide +kernel
theorem tyX10_ok : ∀ k, k < 3 → parseFieldDescriptor (TX10 k).2.2.1 = some (tyX10 k) := by decide +kernel
abbrev cX10_init : ByteArray := prog_4_method_1_code
def yX10_init : MethodName := ⟨RX10, "<init>", "(LManyEyes$Sum;)V"⟩
theorem dX10_init_0 : decode cX10_init 0 = .ok (.aload_n 0, 1) := by decide +kernel
theorem dX10_init_1 : decode cX10_init 1 = .ok (.invokespecial 1, 3) := by decide +kernel
theorem dX10_init_4 : decode cX10_init 4 = .ok (.aload_n 0, 1) := by decide +kernel
theorem dX10_init_5 : decode cX10_init 5 = .ok (.new 7, 3) := by decide +kernel
theorem dX10_init_8 : decode cX10_init 8 = .ok (.dup, 1) := by decide +kernel
theorem dX10_init_9 : decode cX10_init 9 = .ok (.invokespecial 9, 3) := by decide +kernel
theorem dX10_init_12 : decode cX10_init 12 = .ok (.putfield 10, 3) := by decide +kernel
theorem dX10_init_15 : decode cX10_init 15 = .ok (.aload_n 0, 1) := by decide +kernel
theorem dX10_init_16 : decode cX10_init 16 = .ok (.new 7, 3) := by decide +kernel
theorem dX10_init_19 : decode cX10_init 19 = .ok (.dup, 1) := by decide +kernel
theorem dX10_init_20 : decode cX10_init 20 = .ok (.invokespecial 9, 3) := by decide +kernel
theorem dX10_init_23 : decode cX10_init 23 = .ok (.putfield 16, 3) := by decide +kernel
theorem dX10_init_26 : decode cX10_init 26 = .ok (.aload_n 0, 1) := by decide +kernel
theorem dX10_init_27 : decode cX10_init 27 = .ok (.aload_n 1, 1) := by decide +kernel
theorem dX10_init_28 : decode cX10_init 28 = .ok (.putfield 19, 3) := by decide +kernel
theorem dX10_init_31 : decode cX10_init 31 = .ok (.return_, 1) := by decide +kernel
abbrev cX10_add : ByteArray := prog_4_method_2_code
def yX10_add : MethodName := ⟨RX10, "add", "(ILManyEyes$Sum;)V"⟩
theorem dX10_add_0 : decode cX10_add 0 = .ok (.aload_n 0, 1) := by decide +kernel
theorem dX10_add_1 : decode cX10_add 1 = .ok (.getfield 16, 3) := by decide +kernel
theorem dX10_add_4 : decode cX10_add 4 = .ok (.iload_n 1, 1) := by decide +kernel
theorem dX10_add_5 : decode cX10_add 5 = .ok (.invokestatic 23, 3) := by decide +kernel
theorem dX10_add_8 : decode cX10_add 8 = .ok (.invokevirtual 29, 3) := by decide +kernel
theorem dX10_add_11 : decode cX10_add 11 = .ok (.pop, 1) := by decide +kernel
theorem dX10_add_12 : decode cX10_add 12 = .ok (.aload_n 0, 1) := by decide +kernel
theorem dX10_add_13 : decode cX10_add 13 = .ok (.getfield 10, 3) := by decide +kernel
theorem dX10_add_16 : decode cX10_add 16 = .ok (.aload_n 2, 1) := by decide +kernel
theorem dX10_add_17 : decode cX10_add 17 = .ok (.invokevirtual 29, 3) := by decide +kernel
theorem dX10_add_20 : decode cX10_add 20 = .ok (.pop, 1) := by decide +kernel
theorem dX10_add_21 : decode cX10_add 21 = .ok (.return_, 1) := by decide +kernel
abbrev cX10_itself : ByteArray := prog_4_method_3_code
def yX10_itself : MethodName := ⟨RX10, "itself", "()LManyEyes$Sum;"⟩
theorem dX10_itself_0 : decode cX10_itself 0 = .ok (.aload_n 0, 1) := by decide +kernel
theorem dX10_itself_1 : decode cX10_itself 1 = .ok (.getfield 10, 3) := by decide +kernel
theorem dX10_itself_4 : decode cX10_itself 4 = .ok (.invokevirtual 33, 3) := by decide +kernel
theorem dX10_itself_7 : decode cX10_itself 7 = .ok (.ifCond .eq 10, 3) := by decide +kernel
theorem dX10_itself_10 : decode cX10_itself 10 = .ok (.aload_n 0, 1) := by decide +kernel
theorem dX10_itself_11 : decode cX10_itself 11 = .ok (.getfield 19, 3) := by decide +kernel
theorem dX10_itself_14 : decode cX10_itself 14 = .ok (.goto 4, 3) := by decide +kernel
theorem dX10_itself_17 : decode cX10_itself 17 = .ok (.aload_n 0, 1) := by decide +kernel
theorem dX10_itself_18 : decode cX10_itself 18 = .ok (.areturn, 1) := by decide +kernel
abbrev cX10_of : ByteArray := prog_4_method_4_code
def yX10_of : MethodName := ⟨RX10, "of", "(LManyEyes$Now;)J"⟩
theorem dX10_of_0 : decode cX10_of 0 = .ok (.aload_n 0, 1) := by decide +kernel
theorem dX10_of_1 : decode cX10_of 1 = .ok (.getfield 19, 3) := by decide +kernel
theorem dX10_of_4 : decode cX10_of 4 = .ok (.aload_n 1, 1) := by decide +kernel
theorem dX10_of_5 : decode cX10_of 5 = .ok (.invokeinterface 37 2, 5) := by decide +kernel
theorem dX10_of_10 : decode cX10_of 10 = .ok (.lstore_n 2, 1) := by decide +kernel
theorem dX10_of_11 : decode cX10_of 11 = .ok (.iconst 0, 1) := by decide +kernel
theorem dX10_of_12 : decode cX10_of 12 = .ok (.istore 4, 2) := by decide +kernel
theorem dX10_of_14 : decode cX10_of 14 = .ok (.iload 4, 2) := by decide +kernel
theorem dX10_of_16 : decode cX10_of 16 = .ok (.aload_n 0, 1) := by decide +kernel
theorem dX10_of_17 : decode cX10_of 17 = .ok (.getfield 10, 3) := by decide +kernel
theorem dX10_of_20 : decode cX10_of 20 = .ok (.invokevirtual 43, 3) := by decide +kernel
theorem dX10_of_23 : decode cX10_of 23 = .ok (.if_icmp .ge 108, 3) := by decide +kernel
theorem dX10_of_26 : decode cX10_of 26 = .ok (.aload_n 0, 1) := by decide +kernel
theorem dX10_of_27 : decode cX10_of 27 = .ok (.getfield 10, 3) := by decide +kernel
theorem dX10_of_30 : decode cX10_of 30 = .ok (.iload 4, 2) := by decide +kernel
theorem dX10_of_32 : decode cX10_of 32 = .ok (.invokevirtual 47, 3) := by decide +kernel
theorem dX10_of_35 : decode cX10_of 35 = .ok (.checkcast 38, 3) := by decide +kernel
theorem dX10_of_38 : decode cX10_of 38 = .ok (.aload_n 1, 1) := by decide +kernel
theorem dX10_of_39 : decode cX10_of 39 = .ok (.invokeinterface 37 2, 5) := by decide +kernel
theorem dX10_of_44 : decode cX10_of 44 = .ok (.lstore 5, 2) := by decide +kernel
theorem dX10_of_46 : decode cX10_of 46 = .ok (.aload_n 0, 1) := by decide +kernel
theorem dX10_of_47 : decode cX10_of 47 = .ok (.getfield 16, 3) := by decide +kernel
theorem dX10_of_50 : decode cX10_of 50 = .ok (.iload 4, 2) := by decide +kernel
theorem dX10_of_52 : decode cX10_of 52 = .ok (.invokevirtual 47, 3) := by decide +kernel
theorem dX10_of_55 : decode cX10_of 55 = .ok (.checkcast 24, 3) := by decide +kernel
theorem dX10_of_58 : decode cX10_of 58 = .ok (.invokevirtual 51, 3) := by decide +kernel
theorem dX10_of_61 : decode cX10_of 61 = .ok (.istore 7, 2) := by decide +kernel
theorem dX10_of_63 : decode cX10_of 63 = .ok (.aload_n 1, 1) := by decide +kernel
theorem dX10_of_64 : decode cX10_of 64 = .ok (.iload 7, 2) := by decide +kernel
theorem dX10_of_66 : decode cX10_of 66 = .ok (.bipush 43, 2) := by decide +kernel
theorem dX10_of_68 : decode cX10_of 68 = .ok (.if_icmp .ne 10, 3) := by decide +kernel
theorem dX10_of_71 : decode cX10_of 71 = .ok (.lload_n 2, 1) := by decide +kernel
theorem dX10_of_72 : decode cX10_of 72 = .ok (.lload 5, 2) := by decide +kernel
theorem dX10_of_74 : decode cX10_of 74 = .ok (.ladd, 1) := by decide +kernel
theorem dX10_of_75 : decode cX10_of 75 = .ok (.goto 46, 3) := by decide +kernel
theorem dX10_of_78 : decode cX10_of 78 = .ok (.iload 7, 2) := by decide +kernel
theorem dX10_of_80 : decode cX10_of 80 = .ok (.bipush 45, 2) := by decide +kernel
theorem dX10_of_82 : decode cX10_of 82 = .ok (.if_icmp .ne 10, 3) := by decide +kernel
theorem dX10_of_85 : decode cX10_of 85 = .ok (.lload_n 2, 1) := by decide +kernel
theorem dX10_of_86 : decode cX10_of 86 = .ok (.lload 5, 2) := by decide +kernel
theorem dX10_of_88 : decode cX10_of 88 = .ok (.lsub, 1) := by decide +kernel
theorem dX10_of_89 : decode cX10_of 89 = .ok (.goto 32, 3) := by decide +kernel
theorem dX10_of_92 : decode cX10_of 92 = .ok (.iload 7, 2) := by decide +kernel
theorem dX10_of_94 : decode cX10_of 94 = .ok (.bipush 42, 2) := by decide +kernel
theorem dX10_of_96 : decode cX10_of 96 = .ok (.if_icmp .ne 10, 3) := by decide +kernel
theorem dX10_of_99 : decode cX10_of 99 = .ok (.lload_n 2, 1) := by decide +kernel
theorem dX10_of_100 : decode cX10_of 100 = .ok (.lload 5, 2) := by decide +kernel
theorem dX10_of_102 : decode cX10_of 102 = .ok (.lmul, 1) := by decide +kernel
theorem dX10_of_103 : decode cX10_of 103 = .ok (.goto 18, 3) := by decide +kernel
theorem dX10_of_106 : decode cX10_of 106 = .ok (.lload 5, 2) := by decide +kernel
theorem dX10_of_108 : decode cX10_of 108 = .ok (.lconst 0, 1) := by decide +kernel
theorem dX10_of_109 : decode cX10_of 109 = .ok (.lcmp, 1) := by decide +kernel
theorem dX10_of_110 : decode cX10_of 110 = .ok (.ifCond .ne 7, 3) := by decide +kernel
theorem dX10_of_113 : decode cX10_of 113 = .ok (.lconst 0, 1) := by decide +kernel
theorem dX10_of_114 : decode cX10_of 114 = .ok (.goto 7, 3) := by decide +kernel
theorem dX10_of_117 : decode cX10_of 117 = .ok (.lload_n 2, 1) := by decide +kernel
theorem dX10_of_118 : decode cX10_of 118 = .ok (.lload 5, 2) := by decide +kernel
theorem dX10_of_120 : decode cX10_of 120 = .ok (.ldiv, 1) := by decide +kernel
theorem dX10_of_121 : decode cX10_of 121 = .ok (.invokevirtual 54, 3) := by decide +kernel
theorem dX10_of_124 : decode cX10_of 124 = .ok (.lstore_n 2, 1) := by decide +kernel
theorem dX10_of_125 : decode cX10_of 125 = .ok (.iinc 4 1, 3) := by decide +kernel
theorem dX10_of_128 : decode cX10_of 128 = .ok (.goto (-114), 3) := by decide +kernel
theorem dX10_of_131 : decode cX10_of 131 = .ok (.lload_n 2, 1) := by decide +kernel
theorem dX10_of_132 : decode cX10_of 132 = .ok (.lreturn, 1) := by decide +kernel
theorem q104 : (Jvm.Cond.initialized "ManyEyes$Chain") ∈ lw_all := lw_g (lw_at lw_m1 25 rfl) rfl
theorem q349 : (Jvm.Cond.selects "ManyEyes$Chain" ({ cls := "java/lang/Object", name := "getClass", desc := "()Ljava/lang/Class;" } : Jvm.MethodName) ({ cls := "java/lang/Object", name := "getClass", desc := "()Ljava/lang/Class;" } : Jvm.MethodName)) ∈ lw_all := lw_g (lw_at lw_m2 30 rfl) rfl
theorem q779 : (Jvm.Cond.instantiable "ManyEyes$Chain" (3 : Nat)) ∈ lw_all := lw_g (lw_at lw_m3 220 rfl) rfl
theorem q870 : (Jvm.Cond.instanceMethod ({ cls := "ManyEyes$Chain", name := "<init>", desc := "(LManyEyes$Sum;)V" } : Jvm.MethodName)) ∈ lw_all := lw_g (lw_at lw_m4 71 rfl) rfl
theorem q871 : (Jvm.Cond.code ({ cls := "ManyEyes$Chain", name := "<init>", desc := "(LManyEyes$Sum;)V" } : Jvm.MethodName) prog_4_method_1_code (2 : Nat) (Option.none : Option Jvm.ClassFile.FieldType)) ∈ lw_all := lw_g (lw_at lw_m4 72 rfl) rfl
theorem q872 : (Jvm.Cond.methodLink "ManyEyes$Chain" (1 : Nat) ({ cls := "java/lang/Object", name := "<init>", desc := "()V" } : Jvm.MethodName)) ∈ lw_all := lw_g (lw_at lw_m4 73 rfl) rfl
theorem q873 : (Jvm.Cond.classLink "ManyEyes$Chain" (7 : Nat) "java/util/ArrayList") ∈ lw_all := lw_g (lw_at lw_m4 74 rfl) rfl
theorem q874 : (Jvm.Cond.methodLink "ManyEyes$Chain" (9 : Nat) ({ cls := "java/util/ArrayList", name := "<init>", desc := "()V" } : Jvm.MethodName)) ∈ lw_all := lw_g (lw_at lw_m4 75 rfl) rfl
theorem q875 : (Jvm.Cond.fieldLink "ManyEyes$Chain" (19 : Nat) "ManyEyes$Chain" "first" "LManyEyes$Sum;") ∈ lw_all := lw_g (lw_at lw_m4 76 rfl) rfl
theorem q876 : (Jvm.Cond.fieldLink "ManyEyes$Chain" (10 : Nat) "ManyEyes$Chain" "more" "Ljava/util/ArrayList;") ∈ lw_all := lw_g (lw_at lw_m4 77 rfl) rfl
theorem q877 : (Jvm.Cond.fieldLink "ManyEyes$Chain" (16 : Nat) "ManyEyes$Chain" "signs" "Ljava/util/ArrayList;") ∈ lw_all := lw_g (lw_at lw_m4 78 rfl) rfl
theorem q878 : (Jvm.Cond.laysFinal "ManyEyes$Chain" "ManyEyes$Chain" "first" "LManyEyes$Sum;") ∈ lw_all := lw_g (lw_at lw_m4 79 rfl) rfl
theorem q879 : (Jvm.Cond.soleField "ManyEyes$Chain" "first") ∈ lw_all := lw_g (lw_at lw_m4 80 rfl) rfl
theorem q880 : (Jvm.Cond.laysFinal "ManyEyes$Chain" "ManyEyes$Chain" "more" "Ljava/util/ArrayList;") ∈ lw_all := lw_g (lw_at lw_m4 81 rfl) rfl
theorem q881 : (Jvm.Cond.soleField "ManyEyes$Chain" "more") ∈ lw_all := lw_g (lw_at lw_m4 82 rfl) rfl
theorem q882 : (Jvm.Cond.laysFinal "ManyEyes$Chain" "ManyEyes$Chain" "signs" "Ljava/util/ArrayList;") ∈ lw_all := lw_g (lw_at lw_m4 83 rfl) rfl
theorem q883 : (Jvm.Cond.soleField "ManyEyes$Chain" "signs") ∈ lw_all := lw_g (lw_at lw_m4 84 rfl) rfl
theorem q884 : (Jvm.Cond.superclass "ManyEyes$Chain" "java/lang/Object") ∈ lw_all := lw_g (lw_at lw_m4 85 rfl) rfl
theorem q886 : (Jvm.Cond.instanceMethod ({ cls := "ManyEyes$Chain", name := "add", desc := "(ILManyEyes$Sum;)V" } : Jvm.MethodName)) ∈ lw_all := lw_g (lw_at lw_m4 87 rfl) rfl
theorem q887 : (Jvm.Cond.selects "ManyEyes$Chain" ({ cls := "ManyEyes$Chain", name := "add", desc := "(ILManyEyes$Sum;)V" } : Jvm.MethodName) ({ cls := "ManyEyes$Chain", name := "add", desc := "(ILManyEyes$Sum;)V" } : Jvm.MethodName)) ∈ lw_all := lw_g (lw_at lw_m4 88 rfl) rfl
theorem q888 : (Jvm.Cond.code ({ cls := "ManyEyes$Chain", name := "add", desc := "(ILManyEyes$Sum;)V" } : Jvm.MethodName) prog_4_method_2_code (3 : Nat) (Option.none : Option Jvm.ClassFile.FieldType)) ∈ lw_all := lw_g (lw_at lw_m4 89 rfl) rfl
theorem q889 : (Jvm.Cond.methodLink "ManyEyes$Chain" (23 : Nat) ({ cls := "java/lang/Integer", name := "valueOf", desc := "(I)Ljava/lang/Integer;" } : Jvm.MethodName)) ∈ lw_all := lw_g (lw_at lw_m4 90 rfl) rfl
theorem q909 : (Jvm.Cond.methodLink "ManyEyes$Chain" (29 : Nat) ({ cls := "java/util/ArrayList", name := "add", desc := "(Ljava/lang/Object;)Z" } : Jvm.MethodName)) ∈ lw_all := lw_g (lw_at lw_m4 110 rfl) rfl
theorem q911 : (Jvm.Cond.instanceMethod ({ cls := "ManyEyes$Chain", name := "itself", desc := "()LManyEyes$Sum;" } : Jvm.MethodName)) ∈ lw_all := lw_g (lw_at lw_m4 112 rfl) rfl
theorem q912 : (Jvm.Cond.selects "ManyEyes$Chain" ({ cls := "ManyEyes$Chain", name := "itself", desc := "()LManyEyes$Sum;" } : Jvm.MethodName) ({ cls := "ManyEyes$Chain", name := "itself", desc := "()LManyEyes$Sum;" } : Jvm.MethodName)) ∈ lw_all := lw_g (lw_at lw_m4 113 rfl) rfl
theorem q913 : (Jvm.Cond.code ({ cls := "ManyEyes$Chain", name := "itself", desc := "()LManyEyes$Sum;" } : Jvm.MethodName) prog_4_method_3_code (1 : Nat) (Option.some (Jvm.ClassFile.FieldType.object "ManyEyes$Sum"))) ∈ lw_all := lw_g (lw_at lw_m4 114 rfl) rfl
theorem q914 : (Jvm.Cond.methodLink "ManyEyes$Chain" (33 : Nat) ({ cls := "java/util/ArrayList", name := "isEmpty", desc := "()Z" } : Jvm.MethodName)) ∈ lw_all := lw_g (lw_at lw_m4 115 rfl) rfl
theorem q987 : (Jvm.Cond.castable "ManyEyes$Chain" "ManyEyes$Sum") ∈ lw_tbl := lw_at lw_m4 188 rfl
theorem q988 : (Jvm.Cond.selects "ManyEyes$Chain" ({ cls := "ManyEyes$Sum", name := "of", desc := "(LManyEyes$Now;)J" } : Jvm.MethodName) ({ cls := "ManyEyes$Chain", name := "of", desc := "(LManyEyes$Now;)J" } : Jvm.MethodName)) ∈ lw_all := lw_g (lw_at lw_m4 189 rfl) rfl
theorem q989 : (Jvm.Cond.unhidden "ManyEyes$Chain" "of" "(LManyEyes$Now;)J") ∈ lw_tbl := lw_at lw_m4 190 rfl
theorem q990 : (Jvm.Cond.instanceMethod ({ cls := "ManyEyes$Chain", name := "of", desc := "(LManyEyes$Now;)J" } : Jvm.MethodName)) ∈ lw_all := lw_g (lw_at lw_m4 191 rfl) rfl
theorem q991 : (Jvm.Cond.publicMethod ({ cls := "ManyEyes$Chain", name := "of", desc := "(LManyEyes$Now;)J" } : Jvm.MethodName)) ∈ lw_tbl := lw_at lw_m4 192 rfl
theorem q992 : (Jvm.Cond.code ({ cls := "ManyEyes$Chain", name := "of", desc := "(LManyEyes$Now;)J" } : Jvm.MethodName) prog_4_method_4_code (8 : Nat) (Option.some Jvm.ClassFile.FieldType.long)) ∈ lw_all := lw_g (lw_at lw_m4 193 rfl) rfl
theorem q993 : (Jvm.Cond.interfaceEntry "ManyEyes$Chain" (37 : Nat)) ∈ lw_tbl := lw_at lw_m4 194 rfl
theorem q994 : (Jvm.Cond.methodLink "ManyEyes$Chain" (37 : Nat) ({ cls := "ManyEyes$Sum", name := "of", desc := "(LManyEyes$Now;)J" } : Jvm.MethodName)) ∈ lw_all := lw_g (lw_at lw_m4 195 rfl) rfl
theorem q1057 : (Jvm.Cond.methodLink "ManyEyes$Chain" (43 : Nat) ({ cls := "java/util/ArrayList", name := "size", desc := "()I" } : Jvm.MethodName)) ∈ lw_all := lw_g (lw_at lw_m5 18 rfl) rfl
theorem q1058 : (Jvm.Cond.methodLink "ManyEyes$Chain" (47 : Nat) ({ cls := "java/util/ArrayList", name := "get", desc := "(I)Ljava/lang/Object;" } : Jvm.MethodName)) ∈ lw_all := lw_g (lw_at lw_m5 19 rfl) rfl
theorem q1059 : (Jvm.Cond.classLink "ManyEyes$Chain" (38 : Nat) "ManyEyes$Sum") ∈ lw_all := lw_g (lw_at lw_m5 20 rfl) rfl
theorem q1060 : (Jvm.Cond.classLink "ManyEyes$Chain" (24 : Nat) "java/lang/Integer") ∈ lw_all := lw_g (lw_at lw_m5 21 rfl) rfl
theorem q1061 : (Jvm.Cond.methodLink "ManyEyes$Chain" (51 : Nat) ({ cls := "java/lang/Integer", name := "intValue", desc := "()I" } : Jvm.MethodName)) ∈ lw_all := lw_g (lw_at lw_m5 22 rfl) rfl
theorem q1065 : (Jvm.Cond.methodLink "ManyEyes$Chain" (54 : Nat) ({ cls := "ManyEyes$Now", name := "held", desc := "(J)J" } : Jvm.MethodName)) ∈ lw_all := lw_g (lw_at lw_m5 26 rfl) rfl
theorem q1641 : (Jvm.Cond.castable "ManyEyes$Chain" "java/lang/Object") ∈ lw_tbl := lw_at lw_m7 122 rfl
theorem in_X10 : ∀ w ∈ wsX100, w ∈ lw_all := lw_in wsX100 [878, 880, 882] (by decide +kernel) (by decide +kernel)

/-! ManyEyes$Plain -/
set_option maxRecDepth 100000
def RX11 : String := "ManyEyes$Plain"
def TX11 : u_T := fun k => match k with
  | _ => ("ManyEyes$Plain", "v", "I", true)
def tyX11 : Nat → FieldType := fun k => match k with
  | _ => .int
abbrev wsX110 : List Cond := u_ws RX11 TX11 1
theorem nmX11 : ∀ a, a < 1 → ∀ b, b < 1 → a ≠ b → (TX11 a).2.1 ≠ (TX11 b).2.1 := by decide +kernel
theorem tyX11_ok : ∀ k, k < 1 → parseFieldDescriptor (TX11 k).2.2.1 = some (tyX11 k) := by decide +kernel
abbrev cX11_init : ByteArray := prog_15_method_1_code
def yX11_init : MethodName := ⟨RX11, "<init>", "(I)V"⟩
theorem dX11_init_0 : decode cX11_init 0 = .ok (.aload_n 0, 1) := by decide +kernel
theorem dX11_init_1 : decode cX11_init 1 = .ok (.invokespecial 1, 3) := by decide +kernel
theorem dX11_init_4 : decode cX11_init 4 = .ok (.aload_n 0, 1) := by decide +kernel
theorem dX11_init_5 : decode cX11_init 5 = .ok (.iload_n 1, 1) := by decide +kernel
theorem dX11_init_6 : decode cX11_init 6 = .ok (.putfield 7, 3) := by decide +kernel
theorem dX11_init_9 : decode cX11_init 9 = .ok (.return_, 1) := by decide +kernel
abbrev cX11_of : ByteArray := prog_15_method_2_code
def yX11_of : MethodName := ⟨RX11, "of", "(LManyEyes$Now;)J"⟩
theorem dX11_of_0 : decode cX11_of 0 = .ok (.aload_n 1, 1) := by decide +kernel
theorem dX11_of_1 : decode cX11_of 1 = .ok (.aload_n 0, 1) := by decide +kernel
theorem dX11_of_2 : decode cX11_of 2 = .ok (.getfield 7, 3) := by decide +kernel
theorem dX11_of_5 : decode cX11_of 5 = .ok (.i2l, 1) := by decide +kernel
theorem dX11_of_6 : decode cX11_of 6 = .ok (.invokevirtual 13, 3) := by decide +kernel
theorem dX11_of_9 : decode cX11_of 9 = .ok (.lreturn, 1) := by decide +kernel
theorem q105 : (Jvm.Cond.initialized "ManyEyes$Plain") ∈ lw_all := lw_g (lw_at lw_m1 26 rfl) rfl
theorem q360 : (Jvm.Cond.selects "ManyEyes$Plain" ({ cls := "java/lang/Object", name := "getClass", desc := "()Ljava/lang/Class;" } : Jvm.MethodName) ({ cls := "java/lang/Object", name := "getClass", desc := "()Ljava/lang/Class;" } : Jvm.MethodName)) ∈ lw_all := lw_g (lw_at lw_m2 41 rfl) rfl
theorem q789 : (Jvm.Cond.instantiable "ManyEyes$Plain" (1 : Nat)) ∈ lw_all := lw_g (lw_at lw_m3 230 rfl) rfl
theorem q795 : (Jvm.Cond.instanceMethod ({ cls := "ManyEyes$Plain", name := "<init>", desc := "(I)V" } : Jvm.MethodName)) ∈ lw_all := lw_g (lw_at lw_m3 236 rfl) rfl
theorem q796 : (Jvm.Cond.code ({ cls := "ManyEyes$Plain", name := "<init>", desc := "(I)V" } : Jvm.MethodName) prog_15_method_1_code (2 : Nat) (Option.none : Option Jvm.ClassFile.FieldType)) ∈ lw_all := lw_g (lw_at lw_m3 237 rfl) rfl
theorem q797 : (Jvm.Cond.methodLink "ManyEyes$Plain" (1 : Nat) ({ cls := "java/lang/Record", name := "<init>", desc := "()V" } : Jvm.MethodName)) ∈ lw_all := lw_g (lw_at lw_m3 238 rfl) rfl
theorem q798 : (Jvm.Cond.fieldLink "ManyEyes$Plain" (7 : Nat) "ManyEyes$Plain" "v" "I") ∈ lw_all := lw_g (lw_at lw_m3 239 rfl) rfl
theorem q799 : (Jvm.Cond.laysFinal "ManyEyes$Plain" "ManyEyes$Plain" "v" "I") ∈ lw_all := lw_g (lw_at lw_m4 0 rfl) rfl
theorem q800 : (Jvm.Cond.soleField "ManyEyes$Plain" "v") ∈ lw_all := lw_g (lw_at lw_m4 1 rfl) rfl
theorem q801 : (Jvm.Cond.superclass "ManyEyes$Plain" "java/lang/Record") ∈ lw_all := lw_g (lw_at lw_m4 2 rfl) rfl
theorem q1041 : (Jvm.Cond.castable "ManyEyes$Plain" "ManyEyes$Sum") ∈ lw_tbl := lw_at lw_m5 2 rfl
theorem q1042 : (Jvm.Cond.selects "ManyEyes$Plain" ({ cls := "ManyEyes$Sum", name := "of", desc := "(LManyEyes$Now;)J" } : Jvm.MethodName) ({ cls := "ManyEyes$Plain", name := "of", desc := "(LManyEyes$Now;)J" } : Jvm.MethodName)) ∈ lw_all := lw_g (lw_at lw_m5 3 rfl) rfl
theorem q1043 : (Jvm.Cond.unhidden "ManyEyes$Plain" "of" "(LManyEyes$Now;)J") ∈ lw_tbl := lw_at lw_m5 4 rfl
theorem q1044 : (Jvm.Cond.instanceMethod ({ cls := "ManyEyes$Plain", name := "of", desc := "(LManyEyes$Now;)J" } : Jvm.MethodName)) ∈ lw_all := lw_g (lw_at lw_m5 5 rfl) rfl
theorem q1045 : (Jvm.Cond.publicMethod ({ cls := "ManyEyes$Plain", name := "of", desc := "(LManyEyes$Now;)J" } : Jvm.MethodName)) ∈ lw_tbl := lw_at lw_m5 6 rfl
theorem q1046 : (Jvm.Cond.code ({ cls := "ManyEyes$Plain", name := "of", desc := "(LManyEyes$Now;)J" } : Jvm.MethodName) prog_15_method_2_code (2 : Nat) (Option.some Jvm.ClassFile.FieldType.long)) ∈ lw_all := lw_g (lw_at lw_m5 7 rfl) rfl
theorem q1047 : (Jvm.Cond.methodLink "ManyEyes$Plain" (13 : Nat) ({ cls := "ManyEyes$Now", name := "held", desc := "(J)J" } : Jvm.MethodName)) ∈ lw_all := lw_g (lw_at lw_m5 8 rfl) rfl
theorem q1642 : (Jvm.Cond.castable "ManyEyes$Plain" "java/lang/Object") ∈ lw_tbl := lw_at lw_m7 123 rfl
theorem in_X11 : ∀ w ∈ wsX110, w ∈ lw_all := lw_in wsX110 [799] (by decide +kernel) (by decide +kernel)

/-! ManyEyes$Letter -/
set_option maxRecDepth 100000
def RX12 : String := "ManyEyes$Letter"
def TX12 : u_T := fun k => match k with
  | _ => ("ManyEyes$Letter", "k", "I", true)
def tyX12 : Nat → FieldType := fun k => match k with
  | _ => .int
abbrev wsX120 : List Cond := u_ws RX12 TX12 1
theorem nmX12 : ∀ a, a < 1 → ∀ b, b < 1 → a ≠ b → (TX12 a).2.1 ≠ (TX12 b).2.1 := by decide +kernel
theorem tyX12_ok : ∀ k, k < 1 → parseFieldDescriptor (TX12 k).2.2.1 = some (tyX12 k) := by decide +kernel
abbrev cX12_init : ByteArray := prog_10_method_1_code
def yX12_init : MethodName := ⟨RX12, "<init>", "(I)V"⟩
theorem dX12_init_0 : decode cX12_init 0 = .ok (.aload_n 0, 1) := by decide +kernel
theorem dX12_init_1 : decode cX12_init 1 = .ok (.invokespecial 1, 3) := by decide +kernel
theorem dX12_init_4 : decode cX12_init 4 = .ok (.aload_n 0, 1) := by decide +kernel
theorem dX12_init_5 : decode cX12_init 5 = .ok (.iload_n 1, 1) := by decide +kernel
theorem dX12_init_6 : decode cX12_init 6 = .ok (.putfield 7, 3) := by decide +kernel
theorem dX12_init_9 : decode cX12_init 9 = .ok (.return_, 1) := by decide +kernel
abbrev cX12_of : ByteArray := prog_10_method_2_code
def yX12_of : MethodName := ⟨RX12, "of", "(LManyEyes$Now;)J"⟩
theorem dX12_of_0 : decode cX12_of 0 = .ok (.aload_n 1, 1) := by decide +kernel
theorem dX12_of_1 : decode cX12_of 1 = .ok (.aload_n 1, 1) := by decide +kernel
theorem dX12_of_2 : decode cX12_of 2 = .ok (.getfield 13, 3) := by decide +kernel
theorem dX12_of_5 : decode cX12_of 5 = .ok (.aload_n 0, 1) := by decide +kernel
theorem dX12_of_6 : decode cX12_of 6 = .ok (.getfield 7, 3) := by decide +kernel
theorem dX12_of_9 : decode cX12_of 9 = .ok (.laload, 1) := by decide +kernel
theorem dX12_of_10 : decode cX12_of 10 = .ok (.invokevirtual 19, 3) := by decide +kernel
theorem dX12_of_13 : decode cX12_of 13 = .ok (.lreturn, 1) := by decide +kernel
theorem q106 : (Jvm.Cond.initialized "ManyEyes$Letter") ∈ lw_all := lw_g (lw_at lw_m1 27 rfl) rfl
theorem q221 : (Jvm.Cond.fieldLinkNest "ManyEyes$Letter" (13 : Nat) "ManyEyes$Now" "letter" "[J" "ManyEyes") ∈ lw_tbl := lw_at lw_m1 142 rfl
theorem q355 : (Jvm.Cond.selects "ManyEyes$Letter" ({ cls := "java/lang/Object", name := "getClass", desc := "()Ljava/lang/Class;" } : Jvm.MethodName) ({ cls := "java/lang/Object", name := "getClass", desc := "()Ljava/lang/Class;" } : Jvm.MethodName)) ∈ lw_all := lw_g (lw_at lw_m2 36 rfl) rfl
theorem q803 : (Jvm.Cond.instantiable "ManyEyes$Letter" (1 : Nat)) ∈ lw_all := lw_g (lw_at lw_m4 4 rfl) rfl
theorem q805 : (Jvm.Cond.instanceMethod ({ cls := "ManyEyes$Letter", name := "<init>", desc := "(I)V" } : Jvm.MethodName)) ∈ lw_all := lw_g (lw_at lw_m4 6 rfl) rfl
theorem q806 : (Jvm.Cond.code ({ cls := "ManyEyes$Letter", name := "<init>", desc := "(I)V" } : Jvm.MethodName) prog_10_method_1_code (2 : Nat) (Option.none : Option Jvm.ClassFile.FieldType)) ∈ lw_all := lw_g (lw_at lw_m4 7 rfl) rfl
theorem q807 : (Jvm.Cond.methodLink "ManyEyes$Letter" (1 : Nat) ({ cls := "java/lang/Record", name := "<init>", desc := "()V" } : Jvm.MethodName)) ∈ lw_all := lw_g (lw_at lw_m4 8 rfl) rfl
theorem q808 : (Jvm.Cond.fieldLink "ManyEyes$Letter" (7 : Nat) "ManyEyes$Letter" "k" "I") ∈ lw_all := lw_g (lw_at lw_m4 9 rfl) rfl
theorem q809 : (Jvm.Cond.laysFinal "ManyEyes$Letter" "ManyEyes$Letter" "k" "I") ∈ lw_all := lw_g (lw_at lw_m4 10 rfl) rfl
theorem q810 : (Jvm.Cond.soleField "ManyEyes$Letter" "k") ∈ lw_all := lw_g (lw_at lw_m4 11 rfl) rfl
theorem q811 : (Jvm.Cond.superclass "ManyEyes$Letter" "java/lang/Record") ∈ lw_all := lw_g (lw_at lw_m4 12 rfl) rfl
theorem q1019 : (Jvm.Cond.castable "ManyEyes$Letter" "ManyEyes$Sum") ∈ lw_tbl := lw_at lw_m4 220 rfl
theorem q1020 : (Jvm.Cond.selects "ManyEyes$Letter" ({ cls := "ManyEyes$Sum", name := "of", desc := "(LManyEyes$Now;)J" } : Jvm.MethodName) ({ cls := "ManyEyes$Letter", name := "of", desc := "(LManyEyes$Now;)J" } : Jvm.MethodName)) ∈ lw_all := lw_g (lw_at lw_m4 221 rfl) rfl
theorem q1021 : (Jvm.Cond.unhidden "ManyEyes$Letter" "of" "(LManyEyes$Now;)J") ∈ lw_tbl := lw_at lw_m4 222 rfl
theorem q1022 : (Jvm.Cond.instanceMethod ({ cls := "ManyEyes$Letter", name := "of", desc := "(LManyEyes$Now;)J" } : Jvm.MethodName)) ∈ lw_all := lw_g (lw_at lw_m4 223 rfl) rfl
theorem q1023 : (Jvm.Cond.publicMethod ({ cls := "ManyEyes$Letter", name := "of", desc := "(LManyEyes$Now;)J" } : Jvm.MethodName)) ∈ lw_tbl := lw_at lw_m4 224 rfl
theorem q1024 : (Jvm.Cond.code ({ cls := "ManyEyes$Letter", name := "of", desc := "(LManyEyes$Now;)J" } : Jvm.MethodName) prog_10_method_2_code (2 : Nat) (Option.some Jvm.ClassFile.FieldType.long)) ∈ lw_all := lw_g (lw_at lw_m4 225 rfl) rfl
theorem q1025 : (Jvm.Cond.methodLink "ManyEyes$Letter" (19 : Nat) ({ cls := "ManyEyes$Now", name := "held", desc := "(J)J" } : Jvm.MethodName)) ∈ lw_all := lw_g (lw_at lw_m4 226 rfl) rfl
theorem q1643 : (Jvm.Cond.castable "ManyEyes$Letter" "java/lang/Object") ∈ lw_tbl := lw_at lw_m7 124 rfl
theorem in_X12 : ∀ w ∈ wsX120, w ∈ lw_all := lw_in wsX120 [809] (by decide +kernel) (by decide +kernel)

/-! ManyEyes$Lens -/
set_option maxRecDepth 100000
def RX13 : String := "ManyEyes$Lens"
def TX13 : u_T := fun k => match k with
  | _ => ("ManyEyes$Lens", "k", "I", true)
def tyX13 : Nat → FieldType := fun k => match k with
  | _ => .int
abbrev wsX130 : List Cond := u_ws RX13 TX13 1
theorem nmX13 : ∀ a, a < 1 → ∀ b, b < 1 → a ≠ b → (TX13 a).2.1 ≠ (TX13 b).2.1 := by decide +kernel
theorem tyX13_ok : ∀ k, k < 1 → parseFieldDescriptor (TX13 k).2.2.1 = some (tyX13 k) := by decide +kernel
abbrev cX13_init : ByteArray := prog_9_method_1_code
def yX13_init : MethodName := ⟨RX13, "<init>", "(I)V"⟩
theorem dX13_init_0 : decode cX13_init 0 = .ok (.aload_n 0, 1) := by decide +kernel
theorem dX13_init_1 : decode cX13_init 1 = .ok (.invokespecial 1, 3) := by decide +kernel
theorem dX13_init_4 : decode cX13_init 4 = .ok (.aload_n 0, 1) := by decide +kernel
theorem dX13_init_5 : decode cX13_init 5 = .ok (.iload_n 1, 1) := by decide +kernel
theorem dX13_init_6 : decode cX13_init 6 = .ok (.putfield 7, 3) := by decide +kernel
theorem dX13_init_9 : decode cX13_init 9 = .ok (.return_, 1) := by decide +kernel
abbrev cX13_of : ByteArray := prog_9_method_2_code
def yX13_of : MethodName := ⟨RX13, "of", "(LManyEyes$Now;)J"⟩
theorem dX13_of_0 : decode cX13_of 0 = .ok (.aload_n 1, 1) := by decide +kernel
theorem dX13_of_1 : decode cX13_of 1 = .ok (.aload_n 1, 1) := by decide +kernel
theorem dX13_of_2 : decode cX13_of 2 = .ok (.getfield 13, 3) := by decide +kernel
theorem dX13_of_5 : decode cX13_of 5 = .ok (.aload_n 0, 1) := by decide +kernel
theorem dX13_of_6 : decode cX13_of 6 = .ok (.getfield 7, 3) := by decide +kernel
theorem dX13_of_9 : decode cX13_of 9 = .ok (.iaload, 1) := by decide +kernel
theorem dX13_of_10 : decode cX13_of 10 = .ok (.i2l, 1) := by decide +kernel
theorem dX13_of_11 : decode cX13_of 11 = .ok (.invokevirtual 19, 3) := by decide +kernel
theorem dX13_of_14 : decode cX13_of 14 = .ok (.lreturn, 1) := by decide +kernel
theorem q107 : (Jvm.Cond.initialized "ManyEyes$Lens") ∈ lw_all := lw_g (lw_at lw_m1 28 rfl) rfl
theorem q215 : (Jvm.Cond.fieldLinkNest "ManyEyes$Lens" (13 : Nat) "ManyEyes$Now" "take" "[I" "ManyEyes") ∈ lw_tbl := lw_at lw_m1 136 rfl
theorem q354 : (Jvm.Cond.selects "ManyEyes$Lens" ({ cls := "java/lang/Object", name := "getClass", desc := "()Ljava/lang/Class;" } : Jvm.MethodName) ({ cls := "java/lang/Object", name := "getClass", desc := "()Ljava/lang/Class;" } : Jvm.MethodName)) ∈ lw_all := lw_g (lw_at lw_m2 35 rfl) rfl
theorem q813 : (Jvm.Cond.instantiable "ManyEyes$Lens" (1 : Nat)) ∈ lw_all := lw_g (lw_at lw_m4 14 rfl) rfl
theorem q815 : (Jvm.Cond.instanceMethod ({ cls := "ManyEyes$Lens", name := "<init>", desc := "(I)V" } : Jvm.MethodName)) ∈ lw_all := lw_g (lw_at lw_m4 16 rfl) rfl
theorem q816 : (Jvm.Cond.code ({ cls := "ManyEyes$Lens", name := "<init>", desc := "(I)V" } : Jvm.MethodName) prog_9_method_1_code (2 : Nat) (Option.none : Option Jvm.ClassFile.FieldType)) ∈ lw_all := lw_g (lw_at lw_m4 17 rfl) rfl
theorem q817 : (Jvm.Cond.methodLink "ManyEyes$Lens" (1 : Nat) ({ cls := "java/lang/Record", name := "<init>", desc := "()V" } : Jvm.MethodName)) ∈ lw_all := lw_g (lw_at lw_m4 18 rfl) rfl
theorem q818 : (Jvm.Cond.fieldLink "ManyEyes$Lens" (7 : Nat) "ManyEyes$Lens" "k" "I") ∈ lw_all := lw_g (lw_at lw_m4 19 rfl) rfl
theorem q819 : (Jvm.Cond.laysFinal "ManyEyes$Lens" "ManyEyes$Lens" "k" "I") ∈ lw_all := lw_g (lw_at lw_m4 20 rfl) rfl
theorem q820 : (Jvm.Cond.soleField "ManyEyes$Lens" "k") ∈ lw_all := lw_g (lw_at lw_m4 21 rfl) rfl
theorem q821 : (Jvm.Cond.superclass "ManyEyes$Lens" "java/lang/Record") ∈ lw_all := lw_g (lw_at lw_m4 22 rfl) rfl
theorem q1003 : (Jvm.Cond.castable "ManyEyes$Lens" "ManyEyes$Sum") ∈ lw_tbl := lw_at lw_m4 204 rfl
theorem q1004 : (Jvm.Cond.selects "ManyEyes$Lens" ({ cls := "ManyEyes$Sum", name := "of", desc := "(LManyEyes$Now;)J" } : Jvm.MethodName) ({ cls := "ManyEyes$Lens", name := "of", desc := "(LManyEyes$Now;)J" } : Jvm.MethodName)) ∈ lw_all := lw_g (lw_at lw_m4 205 rfl) rfl
theorem q1005 : (Jvm.Cond.unhidden "ManyEyes$Lens" "of" "(LManyEyes$Now;)J") ∈ lw_tbl := lw_at lw_m4 206 rfl
theorem q1006 : (Jvm.Cond.instanceMethod ({ cls := "ManyEyes$Lens", name := "of", desc := "(LManyEyes$Now;)J" } : Jvm.MethodName)) ∈ lw_all := lw_g (lw_at lw_m4 207 rfl) rfl
theorem q1007 : (Jvm.Cond.publicMethod ({ cls := "ManyEyes$Lens", name := "of", desc := "(LManyEyes$Now;)J" } : Jvm.MethodName)) ∈ lw_tbl := lw_at lw_m4 208 rfl
theorem q1008 : (Jvm.Cond.code ({ cls := "ManyEyes$Lens", name := "of", desc := "(LManyEyes$Now;)J" } : Jvm.MethodName) prog_9_method_2_code (2 : Nat) (Option.some Jvm.ClassFile.FieldType.long)) ∈ lw_all := lw_g (lw_at lw_m4 209 rfl) rfl
theorem q1009 : (Jvm.Cond.methodLink "ManyEyes$Lens" (19 : Nat) ({ cls := "ManyEyes$Now", name := "held", desc := "(J)J" } : Jvm.MethodName)) ∈ lw_all := lw_g (lw_at lw_m4 210 rfl) rfl
theorem q1644 : (Jvm.Cond.castable "ManyEyes$Lens" "java/lang/Object") ∈ lw_tbl := lw_at lw_m7 125 rfl
theorem in_X13 : ∀ w ∈ wsX130, w ∈ lw_all := lw_in wsX130 [819] (by decide +kernel) (by decide +kernel)

/-! ManyEyes$Paired -/
set_option maxRecDepth 100000
def RX14 : String := "ManyEyes$Paired"
def TX14 : u_T := fun k => match k with
  | _ => ("ManyEyes$Paired", "k", "I", true)
def tyX14 : Nat → FieldType := fun k => match k with
  | _ => .int
abbrev wsX140 : List Cond := u_ws RX14 TX14 1
theorem nmX14 : ∀ a, a < 1 → ∀ b, b < 1 → a ≠ b → (TX14 a).2.1 ≠ (TX14 b).2.1 := by decide +kernel
theorem tyX14_ok : ∀ k, k < 1 → parseFieldDescriptor (TX14 k).2.2.1 = some (tyX14 k) := by decide +kernel
abbrev cX14_init : ByteArray := prog_14_method_1_code
def yX14_init : MethodName := ⟨RX14, "<init>", "(I)V"⟩
theorem dX14_init_0 : decode cX14_init 0 = .ok (.aload_n 0, 1) := by decide +kernel
theorem dX14_init_1 : decode cX14_init 1 = .ok (.invokespecial 1, 3) := by decide +kernel
theorem dX14_init_4 : decode cX14_init 4 = .ok (.aload_n 0, 1) := by decide +kernel
theorem dX14_init_5 : decode cX14_init 5 = .ok (.iload_n 1, 1) := by decide +kernel
theorem dX14_init_6 : decode cX14_init 6 = .ok (.putfield 7, 3) := by decide +kernel
theorem dX14_init_9 : decode cX14_init 9 = .ok (.return_, 1) := by decide +kernel
abbrev cX14_of : ByteArray := prog_14_method_2_code
def yX14_of : MethodName := ⟨RX14, "of", "(LManyEyes$Now;)J"⟩
theorem dX14_of_0 : decode cX14_of 0 = .ok (.aload_n 1, 1) := by decide +kernel
theorem dX14_of_1 : decode cX14_of 1 = .ok (.aload_n 1, 1) := by decide +kernel
theorem dX14_of_2 : decode cX14_of 2 = .ok (.getfield 13, 3) := by decide +kernel
theorem dX14_of_5 : decode cX14_of 5 = .ok (.aload_n 0, 1) := by decide +kernel
theorem dX14_of_6 : decode cX14_of 6 = .ok (.getfield 7, 3) := by decide +kernel
theorem dX14_of_9 : decode cX14_of 9 = .ok (.iaload, 1) := by decide +kernel
theorem dX14_of_10 : decode cX14_of 10 = .ok (.i2l, 1) := by decide +kernel
theorem dX14_of_11 : decode cX14_of 11 = .ok (.invokevirtual 19, 3) := by decide +kernel
theorem dX14_of_14 : decode cX14_of 14 = .ok (.lreturn, 1) := by decide +kernel
theorem q108 : (Jvm.Cond.initialized "ManyEyes$Paired") ∈ lw_all := lw_g (lw_at lw_m1 29 rfl) rfl
theorem q218 : (Jvm.Cond.fieldLinkNest "ManyEyes$Paired" (13 : Nat) "ManyEyes$Now" "pair" "[I" "ManyEyes") ∈ lw_tbl := lw_at lw_m1 139 rfl
theorem q359 : (Jvm.Cond.selects "ManyEyes$Paired" ({ cls := "java/lang/Object", name := "getClass", desc := "()Ljava/lang/Class;" } : Jvm.MethodName) ({ cls := "java/lang/Object", name := "getClass", desc := "()Ljava/lang/Class;" } : Jvm.MethodName)) ∈ lw_all := lw_g (lw_at lw_m2 40 rfl) rfl
theorem q823 : (Jvm.Cond.instantiable "ManyEyes$Paired" (1 : Nat)) ∈ lw_all := lw_g (lw_at lw_m4 24 rfl) rfl
theorem q825 : (Jvm.Cond.instanceMethod ({ cls := "ManyEyes$Paired", name := "<init>", desc := "(I)V" } : Jvm.MethodName)) ∈ lw_all := lw_g (lw_at lw_m4 26 rfl) rfl
theorem q826 : (Jvm.Cond.code ({ cls := "ManyEyes$Paired", name := "<init>", desc := "(I)V" } : Jvm.MethodName) prog_14_method_1_code (2 : Nat) (Option.none : Option Jvm.ClassFile.FieldType)) ∈ lw_all := lw_g (lw_at lw_m4 27 rfl) rfl
theorem q827 : (Jvm.Cond.methodLink "ManyEyes$Paired" (1 : Nat) ({ cls := "java/lang/Record", name := "<init>", desc := "()V" } : Jvm.MethodName)) ∈ lw_all := lw_g (lw_at lw_m4 28 rfl) rfl
theorem q828 : (Jvm.Cond.fieldLink "ManyEyes$Paired" (7 : Nat) "ManyEyes$Paired" "k" "I") ∈ lw_all := lw_g (lw_at lw_m4 29 rfl) rfl
theorem q829 : (Jvm.Cond.laysFinal "ManyEyes$Paired" "ManyEyes$Paired" "k" "I") ∈ lw_all := lw_g (lw_at lw_m4 30 rfl) rfl
theorem q830 : (Jvm.Cond.soleField "ManyEyes$Paired" "k") ∈ lw_all := lw_g (lw_at lw_m4 31 rfl) rfl
theorem q831 : (Jvm.Cond.superclass "ManyEyes$Paired" "java/lang/Record") ∈ lw_all := lw_g (lw_at lw_m4 32 rfl) rfl
theorem q1034 : (Jvm.Cond.castable "ManyEyes$Paired" "ManyEyes$Sum") ∈ lw_tbl := lw_at lw_m4 235 rfl
theorem q1035 : (Jvm.Cond.selects "ManyEyes$Paired" ({ cls := "ManyEyes$Sum", name := "of", desc := "(LManyEyes$Now;)J" } : Jvm.MethodName) ({ cls := "ManyEyes$Paired", name := "of", desc := "(LManyEyes$Now;)J" } : Jvm.MethodName)) ∈ lw_all := lw_g (lw_at lw_m4 236 rfl) rfl
theorem q1036 : (Jvm.Cond.unhidden "ManyEyes$Paired" "of" "(LManyEyes$Now;)J") ∈ lw_tbl := lw_at lw_m4 237 rfl
theorem q1037 : (Jvm.Cond.instanceMethod ({ cls := "ManyEyes$Paired", name := "of", desc := "(LManyEyes$Now;)J" } : Jvm.MethodName)) ∈ lw_all := lw_g (lw_at lw_m4 238 rfl) rfl
theorem q1038 : (Jvm.Cond.publicMethod ({ cls := "ManyEyes$Paired", name := "of", desc := "(LManyEyes$Now;)J" } : Jvm.MethodName)) ∈ lw_tbl := lw_at lw_m4 239 rfl
theorem q1039 : (Jvm.Cond.code ({ cls := "ManyEyes$Paired", name := "of", desc := "(LManyEyes$Now;)J" } : Jvm.MethodName) prog_14_method_2_code (2 : Nat) (Option.some Jvm.ClassFile.FieldType.long)) ∈ lw_all := lw_g (lw_at lw_m5 0 rfl) rfl
theorem q1040 : (Jvm.Cond.methodLink "ManyEyes$Paired" (19 : Nat) ({ cls := "ManyEyes$Now", name := "held", desc := "(J)J" } : Jvm.MethodName)) ∈ lw_all := lw_g (lw_at lw_m5 1 rfl) rfl
theorem q1645 : (Jvm.Cond.castable "ManyEyes$Paired" "java/lang/Object") ∈ lw_tbl := lw_at lw_m7 126 rfl
theorem in_X14 : ∀ w ∈ wsX140, w ∈ lw_all := lw_in wsX140 [829] (by decide +kernel) (by decide +kernel)

/-! ManyEyes$Tick -/
set_option maxRecDepth 100000
def RX15 : String := "ManyEyes$Tick"
abbrev cX15_init : ByteArray := prog_18_method_1_code
def yX15_init : MethodName := ⟨RX15, "<init>", "()V"⟩
theorem dX15_init_0 : decode cX15_init 0 = .ok (.aload_n 0, 1) := by decide +kernel
theorem dX15_init_1 : decode cX15_init 1 = .ok (.invokespecial 1, 3) := by decide +kernel
theorem dX15_init_4 : decode cX15_init 4 = .ok (.return_, 1) := by decide +kernel
abbrev cX15_of : ByteArray := prog_18_method_2_code
def yX15_of : MethodName := ⟨RX15, "of", "(LManyEyes$Now;)J"⟩
theorem dX15_of_0 : decode cX15_of 0 = .ok (.aload_n 1, 1) := by decide +kernel
theorem dX15_of_1 : decode cX15_of 1 = .ok (.aload_n 1, 1) := by decide +kernel
theorem dX15_of_2 : decode cX15_of 2 = .ok (.getfield 7, 3) := by decide +kernel
theorem dX15_of_5 : decode cX15_of 5 = .ok (.i2l, 1) := by decide +kernel
theorem dX15_of_6 : decode cX15_of 6 = .ok (.invokevirtual 13, 3) := by decide +kernel
theorem dX15_of_9 : decode cX15_of 9 = .ok (.lreturn, 1) := by decide +kernel
theorem q109 : (Jvm.Cond.initialized "ManyEyes$Tick") ∈ lw_all := lw_g (lw_at lw_m1 30 rfl) rfl
theorem q223 : (Jvm.Cond.fieldLinkNest "ManyEyes$Tick" (7 : Nat) "ManyEyes$Now" "tick" "I" "ManyEyes") ∈ lw_tbl := lw_at lw_m1 144 rfl
theorem q362 : (Jvm.Cond.selects "ManyEyes$Tick" ({ cls := "java/lang/Object", name := "getClass", desc := "()Ljava/lang/Class;" } : Jvm.MethodName) ({ cls := "java/lang/Object", name := "getClass", desc := "()Ljava/lang/Class;" } : Jvm.MethodName)) ∈ lw_all := lw_g (lw_at lw_m2 43 rfl) rfl
theorem q833 : (Jvm.Cond.instantiable "ManyEyes$Tick" (0 : Nat)) ∈ lw_all := lw_g (lw_at lw_m4 34 rfl) rfl
theorem q835 : (Jvm.Cond.instanceMethod ({ cls := "ManyEyes$Tick", name := "<init>", desc := "()V" } : Jvm.MethodName)) ∈ lw_all := lw_g (lw_at lw_m4 36 rfl) rfl
theorem q836 : (Jvm.Cond.code ({ cls := "ManyEyes$Tick", name := "<init>", desc := "()V" } : Jvm.MethodName) prog_18_method_1_code (1 : Nat) (Option.none : Option Jvm.ClassFile.FieldType)) ∈ lw_all := lw_g (lw_at lw_m4 37 rfl) rfl
theorem q837 : (Jvm.Cond.methodLink "ManyEyes$Tick" (1 : Nat) ({ cls := "java/lang/Record", name := "<init>", desc := "()V" } : Jvm.MethodName)) ∈ lw_all := lw_g (lw_at lw_m4 38 rfl) rfl
theorem q838 : (Jvm.Cond.superclass "ManyEyes$Tick" "java/lang/Record") ∈ lw_all := lw_g (lw_at lw_m4 39 rfl) rfl
theorem q1048 : (Jvm.Cond.castable "ManyEyes$Tick" "ManyEyes$Sum") ∈ lw_tbl := lw_at lw_m5 9 rfl
theorem q1049 : (Jvm.Cond.selects "ManyEyes$Tick" ({ cls := "ManyEyes$Sum", name := "of", desc := "(LManyEyes$Now;)J" } : Jvm.MethodName) ({ cls := "ManyEyes$Tick", name := "of", desc := "(LManyEyes$Now;)J" } : Jvm.MethodName)) ∈ lw_all := lw_g (lw_at lw_m5 10 rfl) rfl
theorem q1050 : (Jvm.Cond.unhidden "ManyEyes$Tick" "of" "(LManyEyes$Now;)J") ∈ lw_tbl := lw_at lw_m5 11 rfl
theorem q1051 : (Jvm.Cond.instanceMethod ({ cls := "ManyEyes$Tick", name := "of", desc := "(LManyEyes$Now;)J" } : Jvm.MethodName)) ∈ lw_all := lw_g (lw_at lw_m5 12 rfl) rfl
theorem q1052 : (Jvm.Cond.publicMethod ({ cls := "ManyEyes$Tick", name := "of", desc := "(LManyEyes$Now;)J" } : Jvm.MethodName)) ∈ lw_tbl := lw_at lw_m5 13 rfl
theorem q1053 : (Jvm.Cond.code ({ cls := "ManyEyes$Tick", name := "of", desc := "(LManyEyes$Now;)J" } : Jvm.MethodName) prog_18_method_2_code (2 : Nat) (Option.some Jvm.ClassFile.FieldType.long)) ∈ lw_all := lw_g (lw_at lw_m5 14 rfl) rfl
theorem q1054 : (Jvm.Cond.methodLink "ManyEyes$Tick" (13 : Nat) ({ cls := "ManyEyes$Now", name := "held", desc := "(J)J" } : Jvm.MethodName)) ∈ lw_all := lw_g (lw_at lw_m5 15 rfl) rfl
theorem q1646 : (Jvm.Cond.castable "ManyEyes$Tick" "java/lang/Object") ∈ lw_tbl := lw_at lw_m7 127 rfl

/-! ManyEyes$Minus -/
set_option maxRecDepth 100000
def RX16 : String := "ManyEyes$Minus"
def TX16 : u_T := fun k => match k with
  | _ => ("ManyEyes$Minus", "x", "LManyEyes$Sum;", true)
def tyX16 : Nat → FieldType := fun k => match k with
  | _ => .object "ManyEyes$Sum"
abbrev wsX160 : List Cond := u_ws RX16 TX16 1
theorem nmX16 : ∀ a, a < 1 → ∀ b, b < 1 → a ≠ b → (TX16 a).2.1 ≠ (TX16 b).2.1 := by decide +kernel
theorem tyX16_ok : ∀ k, k < 1 → parseFieldDescriptor (TX16 k).2.2.1 = some (tyX16 k) := by decide +kernel
abbrev cX16_init : ByteArray := prog_11_method_1_code
def yX16_init : MethodName := ⟨RX16, "<init>", "(LManyEyes$Sum;)V"⟩
theorem dX16_init_0 : decode cX16_init 0 = .ok (.aload_n 0, 1) := by decide +kernel
theorem dX16_init_1 : decode cX16_init 1 = .ok (.invokespecial 1, 3) := by decide +kernel
theorem dX16_init_4 : decode cX16_init 4 = .ok (.aload_n 0, 1) := by decide +kernel
theorem dX16_init_5 : decode cX16_init 5 = .ok (.aload_n 1, 1) := by decide +kernel
theorem dX16_init_6 : decode cX16_init 6 = .ok (.putfield 7, 3) := by decide +kernel
theorem dX16_init_9 : decode cX16_init 9 = .ok (.return_, 1) := by decide +kernel
abbrev cX16_of : ByteArray := prog_11_method_2_code
def yX16_of : MethodName := ⟨RX16, "of", "(LManyEyes$Now;)J"⟩
theorem dX16_of_0 : decode cX16_of 0 = .ok (.aload_n 0, 1) := by decide +kernel
theorem dX16_of_1 : decode cX16_of 1 = .ok (.getfield 7, 3) := by decide +kernel
theorem dX16_of_4 : decode cX16_of 4 = .ok (.aload_n 1, 1) := by decide +kernel
theorem dX16_of_5 : decode cX16_of 5 = .ok (.invokeinterface 13 2, 5) := by decide +kernel
theorem dX16_of_10 : decode cX16_of 10 = .ok (.lneg, 1) := by decide +kernel
theorem dX16_of_11 : decode cX16_of 11 = .ok (.lreturn, 1) := by decide +kernel
theorem q110 : (Jvm.Cond.initialized "ManyEyes$Minus") ∈ lw_all := lw_g (lw_at lw_m1 31 rfl) rfl
theorem q356 : (Jvm.Cond.selects "ManyEyes$Minus" ({ cls := "java/lang/Object", name := "getClass", desc := "()Ljava/lang/Class;" } : Jvm.MethodName) ({ cls := "java/lang/Object", name := "getClass", desc := "()Ljava/lang/Class;" } : Jvm.MethodName)) ∈ lw_all := lw_g (lw_at lw_m2 37 rfl) rfl
theorem q844 : (Jvm.Cond.instantiable "ManyEyes$Minus" (1 : Nat)) ∈ lw_all := lw_g (lw_at lw_m4 45 rfl) rfl
theorem q846 : (Jvm.Cond.instanceMethod ({ cls := "ManyEyes$Minus", name := "<init>", desc := "(LManyEyes$Sum;)V" } : Jvm.MethodName)) ∈ lw_all := lw_g (lw_at lw_m4 47 rfl) rfl
theorem q847 : (Jvm.Cond.code ({ cls := "ManyEyes$Minus", name := "<init>", desc := "(LManyEyes$Sum;)V" } : Jvm.MethodName) prog_11_method_1_code (2 : Nat) (Option.none : Option Jvm.ClassFile.FieldType)) ∈ lw_all := lw_g (lw_at lw_m4 48 rfl) rfl
theorem q848 : (Jvm.Cond.methodLink "ManyEyes$Minus" (1 : Nat) ({ cls := "java/lang/Record", name := "<init>", desc := "()V" } : Jvm.MethodName)) ∈ lw_all := lw_g (lw_at lw_m4 49 rfl) rfl
theorem q849 : (Jvm.Cond.fieldLink "ManyEyes$Minus" (7 : Nat) "ManyEyes$Minus" "x" "LManyEyes$Sum;") ∈ lw_all := lw_g (lw_at lw_m4 50 rfl) rfl
theorem q850 : (Jvm.Cond.laysFinal "ManyEyes$Minus" "ManyEyes$Minus" "x" "LManyEyes$Sum;") ∈ lw_all := lw_g (lw_at lw_m4 51 rfl) rfl
theorem q851 : (Jvm.Cond.soleField "ManyEyes$Minus" "x") ∈ lw_all := lw_g (lw_at lw_m4 52 rfl) rfl
theorem q852 : (Jvm.Cond.superclass "ManyEyes$Minus" "java/lang/Record") ∈ lw_all := lw_g (lw_at lw_m4 53 rfl) rfl
theorem q1026 : (Jvm.Cond.castable "ManyEyes$Minus" "ManyEyes$Sum") ∈ lw_tbl := lw_at lw_m4 227 rfl
theorem q1027 : (Jvm.Cond.selects "ManyEyes$Minus" ({ cls := "ManyEyes$Sum", name := "of", desc := "(LManyEyes$Now;)J" } : Jvm.MethodName) ({ cls := "ManyEyes$Minus", name := "of", desc := "(LManyEyes$Now;)J" } : Jvm.MethodName)) ∈ lw_all := lw_g (lw_at lw_m4 228 rfl) rfl
theorem q1028 : (Jvm.Cond.unhidden "ManyEyes$Minus" "of" "(LManyEyes$Now;)J") ∈ lw_tbl := lw_at lw_m4 229 rfl
theorem q1029 : (Jvm.Cond.instanceMethod ({ cls := "ManyEyes$Minus", name := "of", desc := "(LManyEyes$Now;)J" } : Jvm.MethodName)) ∈ lw_all := lw_g (lw_at lw_m4 230 rfl) rfl
theorem q1030 : (Jvm.Cond.publicMethod ({ cls := "ManyEyes$Minus", name := "of", desc := "(LManyEyes$Now;)J" } : Jvm.MethodName)) ∈ lw_tbl := lw_at lw_m4 231 rfl
theorem q1031 : (Jvm.Cond.code ({ cls := "ManyEyes$Minus", name := "of", desc := "(LManyEyes$Now;)J" } : Jvm.MethodName) prog_11_method_2_code (2 : Nat) (Option.some Jvm.ClassFile.FieldType.long)) ∈ lw_all := lw_g (lw_at lw_m4 232 rfl) rfl
theorem q1032 : (Jvm.Cond.interfaceEntry "ManyEyes$Minus" (13 : Nat)) ∈ lw_tbl := lw_at lw_m4 233 rfl
theorem q1033 : (Jvm.Cond.methodLink "ManyEyes$Minus" (13 : Nat) ({ cls := "ManyEyes$Sum", name := "of", desc := "(LManyEyes$Now;)J" } : Jvm.MethodName)) ∈ lw_all := lw_g (lw_at lw_m4 234 rfl) rfl
theorem q1647 : (Jvm.Cond.castable "ManyEyes$Minus" "java/lang/Object") ∈ lw_tbl := lw_at lw_m7 128 rfl
theorem in_X16 : ∀ w ∈ wsX160, w ∈ lw_all := lw_in wsX160 [850] (by decide +kernel) (by decide +kernel)

/-! ManyEyes$Least -/
set_option maxRecDepth 100000
def RX17 : String := "ManyEyes$Least"
def TX17 : u_T := fun k => match k with
  | 0 => ("ManyEyes$Least", "most", "Z", true)
  | 1 => ("ManyEyes$Least", "a", "LManyEyes$Sum;", true)
  | _ => ("ManyEyes$Least", "b", "LManyEyes$Sum;", true)
def tyX17 : Nat → FieldType := fun k => match k with
  | 0 => .boolean
  | 1 => .object "ManyEyes$Sum"
  | _ => .object "ManyEyes$Sum"
abbrev wsX170 : List Cond := u_ws RX17 TX17 3
theorem nmX17 : ∀ a, a < 3 → ∀ b, b < 3 → a ≠ b → (TX17 a).2.1 ≠ (TX17 b).2.1 := by decide +kernel
theorem tyX17_ok : ∀ k, k < 3 → parseFieldDescriptor (TX17 k).2.2.1 = some (tyX17 k) := by decide +kernel
abbrev cX17_init : ByteArray := prog_8_method_1_code
def yX17_init : MethodName := ⟨RX17, "<init>", "(ZLManyEyes$Sum;LManyEyes$Sum;)V"⟩
theorem dX17_init_0 : decode cX17_init 0 = .ok (.aload_n 0, 1) := by decide +kernel
theorem dX17_init_1 : decode cX17_init 1 = .ok (.invokespecial 1, 3) := by decide +kernel
theorem dX17_init_4 : decode cX17_init 4 = .ok (.aload_n 0, 1) := by decide +kernel
theorem dX17_init_5 : decode cX17_init 5 = .ok (.iload_n 1, 1) := by decide +kernel
theorem dX17_init_6 : decode cX17_init 6 = .ok (.putfield 7, 3) := by decide +kernel
theorem dX17_init_9 : decode cX17_init 9 = .ok (.aload_n 0, 1) := by decide +kernel
theorem dX17_init_10 : decode cX17_init 10 = .ok (.aload_n 2, 1) := by decide +kernel
theorem dX17_init_11 : decode cX17_init 11 = .ok (.putfield 13, 3) := by decide +kernel
theorem dX17_init_14 : decode cX17_init 14 = .ok (.aload_n 0, 1) := by decide +kernel
theorem dX17_init_15 : decode cX17_init 15 = .ok (.aload_n 3, 1) := by decide +kernel
theorem dX17_init_16 : decode cX17_init 16 = .ok (.putfield 17, 3) := by decide +kernel
theorem dX17_init_19 : decode cX17_init 19 = .ok (.return_, 1) := by decide +kernel
abbrev cX17_of : ByteArray := prog_8_method_2_code
def yX17_of : MethodName := ⟨RX17, "of", "(LManyEyes$Now;)J"⟩
theorem dX17_of_0 : decode cX17_of 0 = .ok (.aload_n 0, 1) := by decide +kernel
theorem dX17_of_1 : decode cX17_of 1 = .ok (.getfield 13, 3) := by decide +kernel
theorem dX17_of_4 : decode cX17_of 4 = .ok (.aload_n 1, 1) := by decide +kernel
theorem dX17_of_5 : decode cX17_of 5 = .ok (.invokeinterface 20 2, 5) := by decide +kernel
theorem dX17_of_10 : decode cX17_of 10 = .ok (.lstore_n 2, 1) := by decide +kernel
theorem dX17_of_11 : decode cX17_of 11 = .ok (.aload_n 0, 1) := by decide +kernel
theorem dX17_of_12 : decode cX17_of 12 = .ok (.getfield 17, 3) := by decide +kernel
theorem dX17_of_15 : decode cX17_of 15 = .ok (.aload_n 1, 1) := by decide +kernel
theorem dX17_of_16 : decode cX17_of 16 = .ok (.invokeinterface 20 2, 5) := by decide +kernel
theorem dX17_of_21 : decode cX17_of 21 = .ok (.lstore 4, 2) := by decide +kernel
theorem dX17_of_23 : decode cX17_of 23 = .ok (.aload_n 0, 1) := by decide +kernel
theorem dX17_of_24 : decode cX17_of 24 = .ok (.getfield 7, 3) := by decide +kernel
theorem dX17_of_27 : decode cX17_of 27 = .ok (.ifCond .eq 12, 3) := by decide +kernel
theorem dX17_of_30 : decode cX17_of 30 = .ok (.lload_n 2, 1) := by decide +kernel
theorem dX17_of_31 : decode cX17_of 31 = .ok (.lload 4, 2) := by decide +kernel
theorem dX17_of_33 : decode cX17_of 33 = .ok (.invokestatic 26, 3) := by decide +kernel
theorem dX17_of_36 : decode cX17_of 36 = .ok (.goto 9, 3) := by decide +kernel
theorem dX17_of_39 : decode cX17_of 39 = .ok (.lload_n 2, 1) := by decide +kernel
theorem dX17_of_40 : decode cX17_of 40 = .ok (.lload 4, 2) := by decide +kernel
theorem dX17_of_42 : decode cX17_of 42 = .ok (.invokestatic 32, 3) := by decide +kernel
theorem dX17_of_45 : decode cX17_of 45 = .ok (.lreturn, 1) := by decide +kernel
theorem q111 : (Jvm.Cond.initialized "ManyEyes$Least") ∈ lw_all := lw_g (lw_at lw_m1 32 rfl) rfl
theorem q353 : (Jvm.Cond.selects "ManyEyes$Least" ({ cls := "java/lang/Object", name := "getClass", desc := "()Ljava/lang/Class;" } : Jvm.MethodName) ({ cls := "java/lang/Object", name := "getClass", desc := "()Ljava/lang/Class;" } : Jvm.MethodName)) ∈ lw_all := lw_g (lw_at lw_m2 34 rfl) rfl
theorem q854 : (Jvm.Cond.instantiable "ManyEyes$Least" (3 : Nat)) ∈ lw_all := lw_g (lw_at lw_m4 55 rfl) rfl
theorem q856 : (Jvm.Cond.instanceMethod ({ cls := "ManyEyes$Least", name := "<init>", desc := "(ZLManyEyes$Sum;LManyEyes$Sum;)V" } : Jvm.MethodName)) ∈ lw_all := lw_g (lw_at lw_m4 57 rfl) rfl
theorem q857 : (Jvm.Cond.code ({ cls := "ManyEyes$Least", name := "<init>", desc := "(ZLManyEyes$Sum;LManyEyes$Sum;)V" } : Jvm.MethodName) prog_8_method_1_code (4 : Nat) (Option.none : Option Jvm.ClassFile.FieldType)) ∈ lw_all := lw_g (lw_at lw_m4 58 rfl) rfl
theorem q858 : (Jvm.Cond.methodLink "ManyEyes$Least" (1 : Nat) ({ cls := "java/lang/Record", name := "<init>", desc := "()V" } : Jvm.MethodName)) ∈ lw_all := lw_g (lw_at lw_m4 59 rfl) rfl
theorem q859 : (Jvm.Cond.fieldLink "ManyEyes$Least" (7 : Nat) "ManyEyes$Least" "most" "Z") ∈ lw_all := lw_g (lw_at lw_m4 60 rfl) rfl
theorem q860 : (Jvm.Cond.fieldLink "ManyEyes$Least" (13 : Nat) "ManyEyes$Least" "a" "LManyEyes$Sum;") ∈ lw_all := lw_g (lw_at lw_m4 61 rfl) rfl
theorem q861 : (Jvm.Cond.fieldLink "ManyEyes$Least" (17 : Nat) "ManyEyes$Least" "b" "LManyEyes$Sum;") ∈ lw_all := lw_g (lw_at lw_m4 62 rfl) rfl
theorem q862 : (Jvm.Cond.laysFinal "ManyEyes$Least" "ManyEyes$Least" "most" "Z") ∈ lw_all := lw_g (lw_at lw_m4 63 rfl) rfl
theorem q863 : (Jvm.Cond.soleField "ManyEyes$Least" "most") ∈ lw_all := lw_g (lw_at lw_m4 64 rfl) rfl
theorem q864 : (Jvm.Cond.laysFinal "ManyEyes$Least" "ManyEyes$Least" "a" "LManyEyes$Sum;") ∈ lw_all := lw_g (lw_at lw_m4 65 rfl) rfl
theorem q865 : (Jvm.Cond.soleField "ManyEyes$Least" "a") ∈ lw_all := lw_g (lw_at lw_m4 66 rfl) rfl
theorem q866 : (Jvm.Cond.laysFinal "ManyEyes$Least" "ManyEyes$Least" "b" "LManyEyes$Sum;") ∈ lw_all := lw_g (lw_at lw_m4 67 rfl) rfl
theorem q867 : (Jvm.Cond.soleField "ManyEyes$Least" "b") ∈ lw_all := lw_g (lw_at lw_m4 68 rfl) rfl
theorem q868 : (Jvm.Cond.superclass "ManyEyes$Least" "java/lang/Record") ∈ lw_all := lw_g (lw_at lw_m4 69 rfl) rfl
theorem q995 : (Jvm.Cond.castable "ManyEyes$Least" "ManyEyes$Sum") ∈ lw_tbl := lw_at lw_m4 196 rfl
theorem q996 : (Jvm.Cond.selects "ManyEyes$Least" ({ cls := "ManyEyes$Sum", name := "of", desc := "(LManyEyes$Now;)J" } : Jvm.MethodName) ({ cls := "ManyEyes$Least", name := "of", desc := "(LManyEyes$Now;)J" } : Jvm.MethodName)) ∈ lw_all := lw_g (lw_at lw_m4 197 rfl) rfl
theorem q997 : (Jvm.Cond.unhidden "ManyEyes$Least" "of" "(LManyEyes$Now;)J") ∈ lw_tbl := lw_at lw_m4 198 rfl
theorem q998 : (Jvm.Cond.instanceMethod ({ cls := "ManyEyes$Least", name := "of", desc := "(LManyEyes$Now;)J" } : Jvm.MethodName)) ∈ lw_all := lw_g (lw_at lw_m4 199 rfl) rfl
theorem q999 : (Jvm.Cond.publicMethod ({ cls := "ManyEyes$Least", name := "of", desc := "(LManyEyes$Now;)J" } : Jvm.MethodName)) ∈ lw_tbl := lw_at lw_m4 200 rfl
theorem q1000 : (Jvm.Cond.code ({ cls := "ManyEyes$Least", name := "of", desc := "(LManyEyes$Now;)J" } : Jvm.MethodName) prog_8_method_2_code (6 : Nat) (Option.some Jvm.ClassFile.FieldType.long)) ∈ lw_all := lw_g (lw_at lw_m4 201 rfl) rfl
theorem q1001 : (Jvm.Cond.interfaceEntry "ManyEyes$Least" (20 : Nat)) ∈ lw_tbl := lw_at lw_m4 202 rfl
theorem q1002 : (Jvm.Cond.methodLink "ManyEyes$Least" (20 : Nat) ({ cls := "ManyEyes$Sum", name := "of", desc := "(LManyEyes$Now;)J" } : Jvm.MethodName)) ∈ lw_all := lw_g (lw_at lw_m4 203 rfl) rfl
theorem q1055 : (Jvm.Cond.methodLink "ManyEyes$Least" (26 : Nat) ({ cls := "java/lang/Math", name := "max", desc := "(JJ)J" } : Jvm.MethodName)) ∈ lw_all := lw_g (lw_at lw_m5 16 rfl) rfl
theorem q1056 : (Jvm.Cond.methodLink "ManyEyes$Least" (32 : Nat) ({ cls := "java/lang/Math", name := "min", desc := "(JJ)J" } : Jvm.MethodName)) ∈ lw_all := lw_g (lw_at lw_m5 17 rfl) rfl
theorem q1648 : (Jvm.Cond.castable "ManyEyes$Least" "java/lang/Object") ∈ lw_tbl := lw_at lw_m7 129 rfl
theorem in_X17 : ∀ w ∈ wsX170, w ∈ lw_all := lw_in wsX170 [862, 864, 866] (by decide +kernel) (by decide +kernel)

/-! ManyEyes$Compared -/
set_option maxRecDepth 100000
def RX18 : String := "ManyEyes$Compared"
def TX18 : u_T := fun k => match k with
  | 0 => ("ManyEyes$Compared", "sign", "I", true)
  | 1 => ("ManyEyes$Compared", "a", "LManyEyes$Sum;", true)
  | _ => ("ManyEyes$Compared", "b", "LManyEyes$Sum;", true)
def tyX18 : Nat → FieldType := fun k => match k with
  | 0 => .int
  | 1 => .object "ManyEyes$Sum"
  | _ => .object "ManyEyes$Sum"
abbrev wsX180 : List Cond := u_ws RX18 TX18 3
theorem nmX18 : ∀ a, a < 3 → ∀ b, b < 3 → a ≠ b → (TX18 a).2.1 ≠ (TX18 b).2.1 := by decide +kernel
theorem tyX18_ok : ∀ k, k < 3 → parseFieldDescriptor (TX18 k).2.2.1 = some (tyX18 k) := by decide +kernel
abbrev cX18_init : ByteArray := prog_6_method_1_code
def yX18_init : MethodName := ⟨RX18, "<init>", "(ILManyEyes$Sum;LManyEyes$Sum;)V"⟩
theorem dX18_init_0 : decode cX18_init 0 = .ok (.aload_n 0, 1) := by decide +kernel
theorem dX18_init_1 : decode cX18_init 1 = .ok (.invokespecial 1, 3) := by decide +kernel
theorem dX18_init_4 : decode cX18_init 4 = .ok (.aload_n 0, 1) := by decide +kernel
theorem dX18_init_5 : decode cX18_init 5 = .ok (.iload_n 1, 1) := by decide +kernel
theorem dX18_init_6 : decode cX18_init 6 = .ok (.putfield 7, 3) := by decide +kernel
theorem dX18_init_9 : decode cX18_init 9 = .ok (.aload_n 0, 1) := by decide +kernel
theorem dX18_init_10 : decode cX18_init 10 = .ok (.aload_n 2, 1) := by decide +kernel
theorem dX18_init_11 : decode cX18_init 11 = .ok (.putfield 13, 3) := by decide +kernel
theorem dX18_init_14 : decode cX18_init 14 = .ok (.aload_n 0, 1) := by decide +kernel
theorem dX18_init_15 : decode cX18_init 15 = .ok (.aload_n 3, 1) := by decide +kernel
theorem dX18_init_16 : decode cX18_init 16 = .ok (.putfield 17, 3) := by decide +kernel
theorem dX18_init_19 : decode cX18_init 19 = .ok (.return_, 1) := by decide +kernel
abbrev cX18_is : ByteArray := prog_6_method_2_code
def yX18_is : MethodName := ⟨RX18, "is", "(LManyEyes$Now;)Z"⟩
theorem dX18_is_0 : decode cX18_is 0 = .ok (.aload_n 0, 1) := by decide +kernel
theorem dX18_is_1 : decode cX18_is 1 = .ok (.getfield 13, 3) := by decide +kernel
theorem dX18_is_4 : decode cX18_is 4 = .ok (.aload_n 1, 1) := by decide +kernel
theorem dX18_is_5 : decode cX18_is 5 = .ok (.invokeinterface 20 2, 5) := by decide +kernel
theorem dX18_is_10 : decode cX18_is 10 = .ok (.aload_n 0, 1) := by decide +kernel
theorem dX18_is_11 : decode cX18_is 11 = .ok (.getfield 17, 3) := by decide +kernel
theorem dX18_is_14 : decode cX18_is 14 = .ok (.aload_n 1, 1) := by decide +kernel
theorem dX18_is_15 : decode cX18_is 15 = .ok (.invokeinterface 20 2, 5) := by decide +kernel
theorem dX18_is_20 : decode cX18_is 20 = .ok (.lsub, 1) := by decide +kernel
theorem dX18_is_21 : decode cX18_is 21 = .ok (.lstore_n 2, 1) := by decide +kernel
theorem dX18_is_22 : decode cX18_is 22 = .ok (.aload_n 0, 1) := by decide +kernel
theorem dX18_is_23 : decode cX18_is 23 = .ok (.getfield 7, 3) := by decide +kernel
theorem dX18_is_26 : decode cX18_is 26 = .ok (.lookupswitch 110 #[(35, 86), (60, 50), (61, 74), (62, 62), (303, 98)], 50) := by decide +kernel
theorem dX18_is_76 : decode cX18_is 76 = .ok (.lload_n 2, 1) := by decide +kernel
theorem dX18_is_77 : decode cX18_is 77 = .ok (.lconst 0, 1) := by decide +kernel
theorem dX18_is_78 : decode cX18_is 78 = .ok (.lcmp, 1) := by decide +kernel
theorem dX18_is_79 : decode cX18_is 79 = .ok (.ifCond .ge 7, 3) := by decide +kernel
theorem dX18_is_82 : decode cX18_is 82 = .ok (.iconst 1, 1) := by decide +kernel
theorem dX18_is_83 : decode cX18_is 83 = .ok (.goto 4, 3) := by decide +kernel
theorem dX18_is_86 : decode cX18_is 86 = .ok (.iconst 0, 1) := by decide +kernel
theorem dX18_is_87 : decode cX18_is 87 = .ok (.ireturn, 1) := by decide +kernel
theorem dX18_is_88 : decode cX18_is 88 = .ok (.lload_n 2, 1) := by decide +kernel
theorem dX18_is_89 : decode cX18_is 89 = .ok (.lconst 0, 1) := by decide +kernel
theorem dX18_is_90 : decode cX18_is 90 = .ok (.lcmp, 1) := by decide +kernel
theorem dX18_is_91 : decode cX18_is 91 = .ok (.ifCond .le 7, 3) := by decide +kernel
theorem dX18_is_94 : decode cX18_is 94 = .ok (.iconst 1, 1) := by decide +kernel
theorem dX18_is_95 : decode cX18_is 95 = .ok (.goto 4, 3) := by decide +kernel
theorem dX18_is_98 : decode cX18_is 98 = .ok (.iconst 0, 1) := by decide +kernel
theorem dX18_is_99 : decode cX18_is 99 = .ok (.ireturn, 1) := by decide +kernel
theorem dX18_is_100 : decode cX18_is 100 = .ok (.lload_n 2, 1) := by decide +kernel
theorem dX18_is_101 : decode cX18_is 101 = .ok (.lconst 0, 1) := by decide +kernel
theorem dX18_is_102 : decode cX18_is 102 = .ok (.lcmp, 1) := by decide +kernel
theorem dX18_is_103 : decode cX18_is 103 = .ok (.ifCond .ne 7, 3) := by decide +kernel
theorem dX18_is_106 : decode cX18_is 106 = .ok (.iconst 1, 1) := by decide +kernel
theorem dX18_is_107 : decode cX18_is 107 = .ok (.goto 4, 3) := by decide +kernel
theorem dX18_is_110 : decode cX18_is 110 = .ok (.iconst 0, 1) := by decide +kernel
theorem dX18_is_111 : decode cX18_is 111 = .ok (.ireturn, 1) := by decide +kernel
theorem dX18_is_112 : decode cX18_is 112 = .ok (.lload_n 2, 1) := by decide +kernel
theorem dX18_is_113 : decode cX18_is 113 = .ok (.lconst 0, 1) := by decide +kernel
theorem dX18_is_114 : decode cX18_is 114 = .ok (.lcmp, 1) := by decide +kernel
theorem dX18_is_115 : decode cX18_is 115 = .ok (.ifCond .eq 7, 3) := by decide +kernel
theorem dX18_is_118 : decode cX18_is 118 = .ok (.iconst 1, 1) := by decide +kernel
theorem dX18_is_119 : decode cX18_is 119 = .ok (.goto 4, 3) := by decide +kernel
theorem dX18_is_122 : decode cX18_is 122 = .ok (.iconst 0, 1) := by decide +kernel
theorem dX18_is_123 : decode cX18_is 123 = .ok (.ireturn, 1) := by decide +kernel
theorem dX18_is_124 : decode cX18_is 124 = .ok (.lload_n 2, 1) := by decide +kernel
theorem dX18_is_125 : decode cX18_is 125 = .ok (.lconst 0, 1) := by decide +kernel
theorem dX18_is_126 : decode cX18_is 126 = .ok (.lcmp, 1) := by decide +kernel
theorem dX18_is_127 : decode cX18_is 127 = .ok (.ifCond .gt 7, 3) := by decide +kernel
theorem dX18_is_130 : decode cX18_is 130 = .ok (.iconst 1, 1) := by decide +kernel
theorem dX18_is_131 : decode cX18_is 131 = .ok (.goto 4, 3) := by decide +kernel
theorem dX18_is_134 : decode cX18_is 134 = .ok (.iconst 0, 1) := by decide +kernel
theorem dX18_is_135 : decode cX18_is 135 = .ok (.ireturn, 1) := by decide +kernel
theorem dX18_is_136 : decode cX18_is 136 = .ok (.lload_n 2, 1) := by decide +kernel
theorem dX18_is_137 : decode cX18_is 137 = .ok (.lconst 0, 1) := by decide +kernel
theorem dX18_is_138 : decode cX18_is 138 = .ok (.lcmp, 1) := by decide +kernel
theorem dX18_is_139 : decode cX18_is 139 = .ok (.ifCond .lt 7, 3) := by decide +kernel
theorem dX18_is_142 : decode cX18_is 142 = .ok (.iconst 1, 1) := by decide +kernel
theorem dX18_is_143 : decode cX18_is 143 = .ok (.goto 4, 3) := by decide +kernel
theorem dX18_is_146 : decode cX18_is 146 = .ok (.iconst 0, 1) := by decide +kernel
theorem dX18_is_147 : decode cX18_is 147 = .ok (.ireturn, 1) := by decide +kernel
theorem q115 : (Jvm.Cond.initialized "ManyEyes$Compared") ∈ lw_all := lw_g (lw_at lw_m1 36 rfl) rfl
theorem q351 : (Jvm.Cond.selects "ManyEyes$Compared" ({ cls := "java/lang/Object", name := "getClass", desc := "()Ljava/lang/Class;" } : Jvm.MethodName) ({ cls := "java/lang/Object", name := "getClass", desc := "()Ljava/lang/Class;" } : Jvm.MethodName)) ∈ lw_all := lw_g (lw_at lw_m2 32 rfl) rfl
theorem q919 : (Jvm.Cond.instantiable "ManyEyes$Compared" (3 : Nat)) ∈ lw_all := lw_g (lw_at lw_m4 120 rfl) rfl
theorem q921 : (Jvm.Cond.instanceMethod ({ cls := "ManyEyes$Compared", name := "<init>", desc := "(ILManyEyes$Sum;LManyEyes$Sum;)V" } : Jvm.MethodName)) ∈ lw_all := lw_g (lw_at lw_m4 122 rfl) rfl
theorem q922 : (Jvm.Cond.code ({ cls := "ManyEyes$Compared", name := "<init>", desc := "(ILManyEyes$Sum;LManyEyes$Sum;)V" } : Jvm.MethodName) prog_6_method_1_code (4 : Nat) (Option.none : Option Jvm.ClassFile.FieldType)) ∈ lw_all := lw_g (lw_at lw_m4 123 rfl) rfl
theorem q923 : (Jvm.Cond.methodLink "ManyEyes$Compared" (1 : Nat) ({ cls := "java/lang/Record", name := "<init>", desc := "()V" } : Jvm.MethodName)) ∈ lw_all := lw_g (lw_at lw_m4 124 rfl) rfl
theorem q924 : (Jvm.Cond.fieldLink "ManyEyes$Compared" (7 : Nat) "ManyEyes$Compared" "sign" "I") ∈ lw_all := lw_g (lw_at lw_m4 125 rfl) rfl
theorem q925 : (Jvm.Cond.fieldLink "ManyEyes$Compared" (13 : Nat) "ManyEyes$Compared" "a" "LManyEyes$Sum;") ∈ lw_all := lw_g (lw_at lw_m4 126 rfl) rfl
theorem q926 : (Jvm.Cond.fieldLink "ManyEyes$Compared" (17 : Nat) "ManyEyes$Compared" "b" "LManyEyes$Sum;") ∈ lw_all := lw_g (lw_at lw_m4 127 rfl) rfl
theorem q927 : (Jvm.Cond.laysFinal "ManyEyes$Compared" "ManyEyes$Compared" "sign" "I") ∈ lw_all := lw_g (lw_at lw_m4 128 rfl) rfl
theorem q928 : (Jvm.Cond.soleField "ManyEyes$Compared" "sign") ∈ lw_all := lw_g (lw_at lw_m4 129 rfl) rfl
theorem q929 : (Jvm.Cond.laysFinal "ManyEyes$Compared" "ManyEyes$Compared" "a" "LManyEyes$Sum;") ∈ lw_all := lw_g (lw_at lw_m4 130 rfl) rfl
theorem q930 : (Jvm.Cond.soleField "ManyEyes$Compared" "a") ∈ lw_all := lw_g (lw_at lw_m4 131 rfl) rfl
theorem q931 : (Jvm.Cond.laysFinal "ManyEyes$Compared" "ManyEyes$Compared" "b" "LManyEyes$Sum;") ∈ lw_all := lw_g (lw_at lw_m4 132 rfl) rfl
theorem q932 : (Jvm.Cond.soleField "ManyEyes$Compared" "b") ∈ lw_all := lw_g (lw_at lw_m4 133 rfl) rfl
theorem q933 : (Jvm.Cond.superclass "ManyEyes$Compared" "java/lang/Record") ∈ lw_all := lw_g (lw_at lw_m4 134 rfl) rfl
theorem q1086 : (Jvm.Cond.castable "ManyEyes$Compared" "ManyEyes$Asked") ∈ lw_tbl := lw_at lw_m5 47 rfl
theorem q1087 : (Jvm.Cond.selects "ManyEyes$Compared" ({ cls := "ManyEyes$Asked", name := "is", desc := "(LManyEyes$Now;)Z" } : Jvm.MethodName) ({ cls := "ManyEyes$Compared", name := "is", desc := "(LManyEyes$Now;)Z" } : Jvm.MethodName)) ∈ lw_all := lw_g (lw_at lw_m5 48 rfl) rfl
theorem q1088 : (Jvm.Cond.unhidden "ManyEyes$Compared" "is" "(LManyEyes$Now;)Z") ∈ lw_tbl := lw_at lw_m5 49 rfl
theorem q1089 : (Jvm.Cond.instanceMethod ({ cls := "ManyEyes$Compared", name := "is", desc := "(LManyEyes$Now;)Z" } : Jvm.MethodName)) ∈ lw_all := lw_g (lw_at lw_m5 50 rfl) rfl
theorem q1090 : (Jvm.Cond.publicMethod ({ cls := "ManyEyes$Compared", name := "is", desc := "(LManyEyes$Now;)Z" } : Jvm.MethodName)) ∈ lw_tbl := lw_at lw_m5 51 rfl
theorem q1091 : (Jvm.Cond.code ({ cls := "ManyEyes$Compared", name := "is", desc := "(LManyEyes$Now;)Z" } : Jvm.MethodName) prog_6_method_2_code (4 : Nat) (Option.some Jvm.ClassFile.FieldType.boolean)) ∈ lw_all := lw_g (lw_at lw_m5 52 rfl) rfl
theorem q1092 : (Jvm.Cond.interfaceEntry "ManyEyes$Compared" (20 : Nat)) ∈ lw_tbl := lw_at lw_m5 53 rfl
theorem q1093 : (Jvm.Cond.methodLink "ManyEyes$Compared" (20 : Nat) ({ cls := "ManyEyes$Sum", name := "of", desc := "(LManyEyes$Now;)J" } : Jvm.MethodName)) ∈ lw_all := lw_g (lw_at lw_m5 54 rfl) rfl
theorem q1650 : (Jvm.Cond.castable "ManyEyes$Compared" "java/lang/Object") ∈ lw_tbl := lw_at lw_m7 131 rfl
theorem in_X18 : ∀ w ∈ wsX180, w ∈ lw_all := lw_in wsX180 [927, 929, 931] (by decide +kernel) (by decide +kernel)

/-! ManyEyes$All -/
set_option maxRecDepth 100000
def RX19 : String := "ManyEyes$All"
def TX19 : u_T := fun k => match k with
  | 0 => ("ManyEyes$All", "and", "Z", true)
  | _ => ("ManyEyes$All", "of", "Ljava/util/ArrayList;", true)
def tyX19 : Nat → FieldType := fun k => match k with
  | 0 => .boolean
  | _ => .object "java/util/ArrayList"
abbrev wsX190 : List Cond := u_ws RX19 TX19 2
theorem nmX19 : ∀ a, a < 2 → ∀ b, b < 2 → a ≠ b → (TX19 a).2.1 ≠ (TX19 b).2.1 := by decide +kernel
theorem tyX19_ok : ∀ k, k < 2 → parseFieldDescriptor (TX19 k).2.2.1 = some (tyX19 k) := by decide +kernel
abbrev cX19_init : ByteArray := prog_2_method_1_code
def yX19_init : MethodName := ⟨RX19, "<init>", "(ZLjava/util/ArrayList;)V"⟩
theorem dX19_init_0 : decode cX19_init 0 = .ok (.aload_n 0, 1) := by decide +kernel
theorem dX19_init_1 : decode cX19_init 1 = .ok (.invokespecial 1, 3) := by decide +kernel
theorem dX19_init_4 : decode cX19_init 4 = .ok (.aload_n 0, 1) := by decide +kernel
theorem dX19_init_5 : decode cX19_init 5 = .ok (.iload_n 1, 1) := by decide +kernel
theorem dX19_init_6 : decode cX19_init 6 = .ok (.putfield 7, 3) := by decide +kernel
theorem dX19_init_9 : decode cX19_init 9 = .ok (.aload_n 0, 1) := by decide +kernel
theorem dX19_init_10 : decode cX19_init 10 = .ok (.aload_n 2, 1) := by decide +kernel
theorem dX19_init_11 : decode cX19_init 11 = .ok (.putfield 13, 3) := by decide +kernel
theorem dX19_init_14 : decode cX19_init 14 = .ok (.return_, 1) := by decide +kernel
abbrev cX19_is : ByteArray := prog_2_method_2_code
def yX19_is : MethodName := ⟨RX19, "is", "(LManyEyes$Now;)Z"⟩
theorem dX19_is_0 : decode cX19_is 0 = .ok (.iconst 0, 1) := by decide +kernel
theorem dX19_is_1 : decode cX19_is 1 = .ok (.istore_n 2, 1) := by decide +kernel
theorem dX19_is_2 : decode cX19_is 2 = .ok (.iconst 0, 1) := by decide +kernel
theorem dX19_is_3 : decode cX19_is 3 = .ok (.istore_n 3, 1) := by decide +kernel
theorem dX19_is_4 : decode cX19_is 4 = .ok (.iload_n 3, 1) := by decide +kernel
theorem dX19_is_5 : decode cX19_is 5 = .ok (.aload_n 0, 1) := by decide +kernel
theorem dX19_is_6 : decode cX19_is 6 = .ok (.getfield 13, 3) := by decide +kernel
theorem dX19_is_9 : decode cX19_is 9 = .ok (.invokevirtual 17, 3) := by decide +kernel
theorem dX19_is_12 : decode cX19_is 12 = .ok (.if_icmp .ge 37, 3) := by decide +kernel
theorem dX19_is_15 : decode cX19_is 15 = .ok (.iload_n 2, 1) := by decide +kernel
theorem dX19_is_16 : decode cX19_is 16 = .ok (.aload_n 0, 1) := by decide +kernel
theorem dX19_is_17 : decode cX19_is 17 = .ok (.getfield 13, 3) := by decide +kernel
theorem dX19_is_20 : decode cX19_is 20 = .ok (.iload_n 3, 1) := by decide +kernel
theorem dX19_is_21 : decode cX19_is 21 = .ok (.invokevirtual 23, 3) := by decide +kernel
theorem dX19_is_24 : decode cX19_is 24 = .ok (.checkcast 27, 3) := by decide +kernel
theorem dX19_is_27 : decode cX19_is 27 = .ok (.aload_n 1, 1) := by decide +kernel
theorem dX19_is_28 : decode cX19_is 28 = .ok (.invokeinterface 29 2, 5) := by decide +kernel
theorem dX19_is_33 : decode cX19_is 33 = .ok (.ifCond .eq 7, 3) := by decide +kernel
theorem dX19_is_36 : decode cX19_is 36 = .ok (.iconst 1, 1) := by decide +kernel
theorem dX19_is_37 : decode cX19_is 37 = .ok (.goto 4, 3) := by decide +kernel
theorem dX19_is_40 : decode cX19_is 40 = .ok (.iconst 0, 1) := by decide +kernel
theorem dX19_is_41 : decode cX19_is 41 = .ok (.iadd, 1) := by decide +kernel
theorem dX19_is_42 : decode cX19_is 42 = .ok (.istore_n 2, 1) := by decide +kernel
theorem dX19_is_43 : decode cX19_is 43 = .ok (.iinc 3 1, 3) := by decide +kernel
theorem dX19_is_46 : decode cX19_is 46 = .ok (.goto (-42), 3) := by decide +kernel
theorem dX19_is_49 : decode cX19_is 49 = .ok (.aload_n 0, 1) := by decide +kernel
theorem dX19_is_50 : decode cX19_is 50 = .ok (.getfield 7, 3) := by decide +kernel
theorem dX19_is_53 : decode cX19_is 53 = .ok (.ifCond .eq 22, 3) := by decide +kernel
theorem dX19_is_56 : decode cX19_is 56 = .ok (.iload_n 2, 1) := by decide +kernel
theorem dX19_is_57 : decode cX19_is 57 = .ok (.aload_n 0, 1) := by decide +kernel
theorem dX19_is_58 : decode cX19_is 58 = .ok (.getfield 13, 3) := by decide +kernel
theorem dX19_is_61 : decode cX19_is 61 = .ok (.invokevirtual 17, 3) := by decide +kernel
theorem dX19_is_64 : decode cX19_is 64 = .ok (.if_icmp .ne 7, 3) := by decide +kernel
theorem dX19_is_67 : decode cX19_is 67 = .ok (.iconst 1, 1) := by decide +kernel
theorem dX19_is_68 : decode cX19_is 68 = .ok (.goto 16, 3) := by decide +kernel
theorem dX19_is_71 : decode cX19_is 71 = .ok (.iconst 0, 1) := by decide +kernel
theorem dX19_is_72 : decode cX19_is 72 = .ok (.goto 12, 3) := by decide +kernel
theorem dX19_is_75 : decode cX19_is 75 = .ok (.iload_n 2, 1) := by decide +kernel
theorem dX19_is_76 : decode cX19_is 76 = .ok (.ifCond .le 7, 3) := by decide +kernel
theorem dX19_is_79 : decode cX19_is 79 = .ok (.iconst 1, 1) := by decide +kernel
theorem dX19_is_80 : decode cX19_is 80 = .ok (.goto 4, 3) := by decide +kernel
theorem dX19_is_83 : decode cX19_is 83 = .ok (.iconst 0, 1) := by decide +kernel
theorem dX19_is_84 : decode cX19_is 84 = .ok (.ireturn, 1) := by decide +kernel
theorem q116 : (Jvm.Cond.initialized "ManyEyes$All") ∈ lw_all := lw_g (lw_at lw_m1 37 rfl) rfl
theorem q348 : (Jvm.Cond.selects "ManyEyes$All" ({ cls := "java/lang/Object", name := "getClass", desc := "()Ljava/lang/Class;" } : Jvm.MethodName) ({ cls := "java/lang/Object", name := "getClass", desc := "()Ljava/lang/Class;" } : Jvm.MethodName)) ∈ lw_all := lw_g (lw_at lw_m2 29 rfl) rfl
theorem q938 : (Jvm.Cond.instantiable "ManyEyes$All" (2 : Nat)) ∈ lw_all := lw_g (lw_at lw_m4 139 rfl) rfl
theorem q940 : (Jvm.Cond.instanceMethod ({ cls := "ManyEyes$All", name := "<init>", desc := "(ZLjava/util/ArrayList;)V" } : Jvm.MethodName)) ∈ lw_all := lw_g (lw_at lw_m4 141 rfl) rfl
theorem q941 : (Jvm.Cond.code ({ cls := "ManyEyes$All", name := "<init>", desc := "(ZLjava/util/ArrayList;)V" } : Jvm.MethodName) prog_2_method_1_code (3 : Nat) (Option.none : Option Jvm.ClassFile.FieldType)) ∈ lw_all := lw_g (lw_at lw_m4 142 rfl) rfl
theorem q942 : (Jvm.Cond.methodLink "ManyEyes$All" (1 : Nat) ({ cls := "java/lang/Record", name := "<init>", desc := "()V" } : Jvm.MethodName)) ∈ lw_all := lw_g (lw_at lw_m4 143 rfl) rfl
theorem q943 : (Jvm.Cond.fieldLink "ManyEyes$All" (7 : Nat) "ManyEyes$All" "and" "Z") ∈ lw_all := lw_g (lw_at lw_m4 144 rfl) rfl
theorem q944 : (Jvm.Cond.fieldLink "ManyEyes$All" (13 : Nat) "ManyEyes$All" "of" "Ljava/util/ArrayList;") ∈ lw_all := lw_g (lw_at lw_m4 145 rfl) rfl
theorem q945 : (Jvm.Cond.laysFinal "ManyEyes$All" "ManyEyes$All" "and" "Z") ∈ lw_all := lw_g (lw_at lw_m4 146 rfl) rfl
theorem q946 : (Jvm.Cond.soleField "ManyEyes$All" "and") ∈ lw_all := lw_g (lw_at lw_m4 147 rfl) rfl
theorem q947 : (Jvm.Cond.laysFinal "ManyEyes$All" "ManyEyes$All" "of" "Ljava/util/ArrayList;") ∈ lw_all := lw_g (lw_at lw_m4 148 rfl) rfl
theorem q948 : (Jvm.Cond.soleField "ManyEyes$All" "of") ∈ lw_all := lw_g (lw_at lw_m4 149 rfl) rfl
theorem q949 : (Jvm.Cond.superclass "ManyEyes$All" "java/lang/Record") ∈ lw_all := lw_g (lw_at lw_m4 150 rfl) rfl
theorem q1075 : (Jvm.Cond.castable "ManyEyes$All" "ManyEyes$Asked") ∈ lw_tbl := lw_at lw_m5 36 rfl
theorem q1076 : (Jvm.Cond.selects "ManyEyes$All" ({ cls := "ManyEyes$Asked", name := "is", desc := "(LManyEyes$Now;)Z" } : Jvm.MethodName) ({ cls := "ManyEyes$All", name := "is", desc := "(LManyEyes$Now;)Z" } : Jvm.MethodName)) ∈ lw_all := lw_g (lw_at lw_m5 37 rfl) rfl
theorem q1077 : (Jvm.Cond.unhidden "ManyEyes$All" "is" "(LManyEyes$Now;)Z") ∈ lw_tbl := lw_at lw_m5 38 rfl
theorem q1078 : (Jvm.Cond.instanceMethod ({ cls := "ManyEyes$All", name := "is", desc := "(LManyEyes$Now;)Z" } : Jvm.MethodName)) ∈ lw_all := lw_g (lw_at lw_m5 39 rfl) rfl
theorem q1079 : (Jvm.Cond.publicMethod ({ cls := "ManyEyes$All", name := "is", desc := "(LManyEyes$Now;)Z" } : Jvm.MethodName)) ∈ lw_tbl := lw_at lw_m5 40 rfl
theorem q1080 : (Jvm.Cond.code ({ cls := "ManyEyes$All", name := "is", desc := "(LManyEyes$Now;)Z" } : Jvm.MethodName) prog_2_method_2_code (4 : Nat) (Option.some Jvm.ClassFile.FieldType.boolean)) ∈ lw_all := lw_g (lw_at lw_m5 41 rfl) rfl
theorem q1081 : (Jvm.Cond.methodLink "ManyEyes$All" (17 : Nat) ({ cls := "java/util/ArrayList", name := "size", desc := "()I" } : Jvm.MethodName)) ∈ lw_all := lw_g (lw_at lw_m5 42 rfl) rfl
theorem q1082 : (Jvm.Cond.methodLink "ManyEyes$All" (23 : Nat) ({ cls := "java/util/ArrayList", name := "get", desc := "(I)Ljava/lang/Object;" } : Jvm.MethodName)) ∈ lw_all := lw_g (lw_at lw_m5 43 rfl) rfl
theorem q1083 : (Jvm.Cond.classLink "ManyEyes$All" (27 : Nat) "ManyEyes$Asked") ∈ lw_all := lw_g (lw_at lw_m5 44 rfl) rfl
theorem q1084 : (Jvm.Cond.interfaceEntry "ManyEyes$All" (29 : Nat)) ∈ lw_tbl := lw_at lw_m5 45 rfl
theorem q1085 : (Jvm.Cond.methodLink "ManyEyes$All" (29 : Nat) ({ cls := "ManyEyes$Asked", name := "is", desc := "(LManyEyes$Now;)Z" } : Jvm.MethodName)) ∈ lw_all := lw_g (lw_at lw_m5 46 rfl) rfl
theorem q1651 : (Jvm.Cond.castable "ManyEyes$All" "java/lang/Object") ∈ lw_tbl := lw_at lw_m7 132 rfl
theorem in_X19 : ∀ w ∈ wsX190, w ∈ lw_all := lw_in wsX190 [945, 947] (by decide +kernel) (by decide +kernel)

