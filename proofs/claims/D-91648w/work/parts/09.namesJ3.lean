set_option maxRecDepth 100000
/-! java/lang/Math -/
set_option maxRecDepth 100000
def RJ3 : String := "java/lang/Math"
abbrev cJ3_min : ByteArray := prog_29_method_69_code
def yJ3_min : MethodName := ⟨RJ3, "min", "(II)I"⟩
theorem dJ3_min_0 : decode cJ3_min 0 = .ok (.iload_n 0, 1) := by decide +kernel
theorem dJ3_min_1 : decode cJ3_min 1 = .ok (.iload_n 1, 1) := by decide +kernel
theorem dJ3_min_2 : decode cJ3_min 2 = .ok (.if_icmp .gt 7, 3) := by decide +kernel
theorem dJ3_min_5 : decode cJ3_min 5 = .ok (.iload_n 0, 1) := by decide +kernel
theorem dJ3_min_6 : decode cJ3_min 6 = .ok (.goto 4, 3) := by decide +kernel
theorem dJ3_min_9 : decode cJ3_min 9 = .ok (.iload_n 1, 1) := by decide +kernel
theorem dJ3_min_10 : decode cJ3_min 10 = .ok (.ireturn, 1) := by decide +kernel
abbrev cJ3_max : ByteArray := prog_29_method_65_code
def yJ3_max : MethodName := ⟨RJ3, "max", "(II)I"⟩
theorem dJ3_max_0 : decode cJ3_max 0 = .ok (.iload_n 0, 1) := by decide +kernel
theorem dJ3_max_1 : decode cJ3_max 1 = .ok (.iload_n 1, 1) := by decide +kernel
theorem dJ3_max_2 : decode cJ3_max 2 = .ok (.if_icmp .lt 7, 3) := by decide +kernel
theorem dJ3_max_5 : decode cJ3_max 5 = .ok (.iload_n 0, 1) := by decide +kernel
theorem dJ3_max_6 : decode cJ3_max 6 = .ok (.goto 4, 3) := by decide +kernel
theorem dJ3_max_9 : decode cJ3_max 9 = .ok (.iload_n 1, 1) := by decide +kernel
theorem dJ3_max_10 : decode cJ3_max 10 = .ok (.ireturn, 1) := by decide +kernel
abbrev cJ3_floorDiv : ByteArray := prog_29_method_47_code
def yJ3_floorDiv : MethodName := ⟨RJ3, "floorDiv", "(II)I"⟩
theorem dJ3_floorDiv_0 : decode cJ3_floorDiv 0 = .ok (.iload_n 0, 1) := by decide +kernel
theorem dJ3_floorDiv_1 : decode cJ3_floorDiv 1 = .ok (.iload_n 1, 1) := by decide +kernel
theorem dJ3_floorDiv_2 : decode cJ3_floorDiv 2 = .ok (.idiv, 1) := by decide +kernel
theorem dJ3_floorDiv_3 : decode cJ3_floorDiv 3 = .ok (.istore_n 2, 1) := by decide +kernel
theorem dJ3_floorDiv_4 : decode cJ3_floorDiv 4 = .ok (.iload_n 0, 1) := by decide +kernel
theorem dJ3_floorDiv_5 : decode cJ3_floorDiv 5 = .ok (.iload_n 1, 1) := by decide +kernel
theorem dJ3_floorDiv_6 : decode cJ3_floorDiv 6 = .ok (.ixor, 1) := by decide +kernel
theorem dJ3_floorDiv_7 : decode cJ3_floorDiv 7 = .ok (.ifCond .ge 14, 3) := by decide +kernel
theorem dJ3_floorDiv_10 : decode cJ3_floorDiv 10 = .ok (.iload_n 2, 1) := by decide +kernel
theorem dJ3_floorDiv_11 : decode cJ3_floorDiv 11 = .ok (.iload_n 1, 1) := by decide +kernel
theorem dJ3_floorDiv_12 : decode cJ3_floorDiv 12 = .ok (.imul, 1) := by decide +kernel
theorem dJ3_floorDiv_13 : decode cJ3_floorDiv 13 = .ok (.iload_n 0, 1) := by decide +kernel
theorem dJ3_floorDiv_14 : decode cJ3_floorDiv 14 = .ok (.if_icmp .eq 7, 3) := by decide +kernel
theorem dJ3_floorDiv_17 : decode cJ3_floorDiv 17 = .ok (.iload_n 2, 1) := by decide +kernel
theorem dJ3_floorDiv_18 : decode cJ3_floorDiv 18 = .ok (.iconst 1, 1) := by decide +kernel
theorem dJ3_floorDiv_19 : decode cJ3_floorDiv 19 = .ok (.isub, 1) := by decide +kernel
theorem dJ3_floorDiv_20 : decode cJ3_floorDiv 20 = .ok (.ireturn, 1) := by decide +kernel
theorem dJ3_floorDiv_21 : decode cJ3_floorDiv 21 = .ok (.iload_n 2, 1) := by decide +kernel
theorem dJ3_floorDiv_22 : decode cJ3_floorDiv 22 = .ok (.ireturn, 1) := by decide +kernel
abbrev cJ3_abs : ByteArray := prog_29_method_59_code
def yJ3_abs : MethodName := ⟨RJ3, "abs", "(I)I"⟩
theorem dJ3_abs_0 : decode cJ3_abs 0 = .ok (.iload_n 0, 1) := by decide +kernel
theorem dJ3_abs_1 : decode cJ3_abs 1 = .ok (.ifCond .ge 8, 3) := by decide +kernel
theorem dJ3_abs_4 : decode cJ3_abs 4 = .ok (.iload_n 0, 1) := by decide +kernel
theorem dJ3_abs_5 : decode cJ3_abs 5 = .ok (.ineg, 1) := by decide +kernel
theorem dJ3_abs_6 : decode cJ3_abs 6 = .ok (.goto 4, 3) := by decide +kernel
theorem dJ3_abs_9 : decode cJ3_abs 9 = .ok (.iload_n 0, 1) := by decide +kernel
theorem dJ3_abs_10 : decode cJ3_abs 10 = .ok (.ireturn, 1) := by decide +kernel
abbrev cJ3_floorMod : ByteArray := prog_29_method_50_code
def yJ3_floorMod : MethodName := ⟨RJ3, "floorMod", "(II)I"⟩
theorem dJ3_floorMod_0 : decode cJ3_floorMod 0 = .ok (.iload_n 0, 1) := by decide +kernel
theorem dJ3_floorMod_1 : decode cJ3_floorMod 1 = .ok (.iload_n 1, 1) := by decide +kernel
theorem dJ3_floorMod_2 : decode cJ3_floorMod 2 = .ok (.irem, 1) := by decide +kernel
theorem dJ3_floorMod_3 : decode cJ3_floorMod 3 = .ok (.istore_n 2, 1) := by decide +kernel
theorem dJ3_floorMod_4 : decode cJ3_floorMod 4 = .ok (.iload_n 0, 1) := by decide +kernel
theorem dJ3_floorMod_5 : decode cJ3_floorMod 5 = .ok (.iload_n 1, 1) := by decide +kernel
theorem dJ3_floorMod_6 : decode cJ3_floorMod 6 = .ok (.ixor, 1) := by decide +kernel
theorem dJ3_floorMod_7 : decode cJ3_floorMod 7 = .ok (.ifCond .ge 11, 3) := by decide +kernel
theorem dJ3_floorMod_10 : decode cJ3_floorMod 10 = .ok (.iload_n 2, 1) := by decide +kernel
theorem dJ3_floorMod_11 : decode cJ3_floorMod 11 = .ok (.ifCond .eq 7, 3) := by decide +kernel
theorem dJ3_floorMod_14 : decode cJ3_floorMod 14 = .ok (.iload_n 2, 1) := by decide +kernel
theorem dJ3_floorMod_15 : decode cJ3_floorMod 15 = .ok (.iload_n 1, 1) := by decide +kernel
theorem dJ3_floorMod_16 : decode cJ3_floorMod 16 = .ok (.iadd, 1) := by decide +kernel
theorem dJ3_floorMod_17 : decode cJ3_floorMod 17 = .ok (.ireturn, 1) := by decide +kernel
theorem dJ3_floorMod_18 : decode cJ3_floorMod 18 = .ok (.iload_n 2, 1) := by decide +kernel
theorem dJ3_floorMod_19 : decode cJ3_floorMod 19 = .ok (.ireturn, 1) := by decide +kernel
abbrev cJ3_min_2 : ByteArray := prog_29_method_70_code
def yJ3_min_2 : MethodName := ⟨RJ3, "min", "(JJ)J"⟩
theorem dJ3_min_2_0 : decode cJ3_min_2 0 = .ok (.lload_n 0, 1) := by decide +kernel
theorem dJ3_min_2_1 : decode cJ3_min_2 1 = .ok (.lload_n 2, 1) := by decide +kernel
theorem dJ3_min_2_2 : decode cJ3_min_2 2 = .ok (.lcmp, 1) := by decide +kernel
theorem dJ3_min_2_3 : decode cJ3_min_2 3 = .ok (.ifCond .gt 7, 3) := by decide +kernel
theorem dJ3_min_2_6 : decode cJ3_min_2 6 = .ok (.lload_n 0, 1) := by decide +kernel
theorem dJ3_min_2_7 : decode cJ3_min_2 7 = .ok (.goto 4, 3) := by decide +kernel
theorem dJ3_min_2_10 : decode cJ3_min_2 10 = .ok (.lload_n 2, 1) := by decide +kernel
theorem dJ3_min_2_11 : decode cJ3_min_2 11 = .ok (.lreturn, 1) := by decide +kernel
abbrev cJ3_max_2 : ByteArray := prog_29_method_66_code
def yJ3_max_2 : MethodName := ⟨RJ3, "max", "(JJ)J"⟩
theorem dJ3_max_2_0 : decode cJ3_max_2 0 = .ok (.lload_n 0, 1) := by decide +kernel
theorem dJ3_max_2_1 : decode cJ3_max_2 1 = .ok (.lload_n 2, 1) := by decide +kernel
theorem dJ3_max_2_2 : decode cJ3_max_2 2 = .ok (.lcmp, 1) := by decide +kernel
theorem dJ3_max_2_3 : decode cJ3_max_2 3 = .ok (.ifCond .lt 7, 3) := by decide +kernel
theorem dJ3_max_2_6 : decode cJ3_max_2 6 = .ok (.lload_n 0, 1) := by decide +kernel
theorem dJ3_max_2_7 : decode cJ3_max_2 7 = .ok (.goto 4, 3) := by decide +kernel
theorem dJ3_max_2_10 : decode cJ3_max_2 10 = .ok (.lload_n 2, 1) := by decide +kernel
theorem dJ3_max_2_11 : decode cJ3_max_2 11 = .ok (.lreturn, 1) := by decide +kernel
theorem q87 : (Jvm.Cond.initialized "java/lang/Math") ∈ lw_all := lw_g (lw_at lw_m1 8 rfl) rfl
theorem q280 : (Jvm.Cond.static ({ cls := "java/lang/Math", name := "min", desc := "(II)I" } : Jvm.MethodName)) ∈ lw_all := lw_g (lw_at lw_m1 201 rfl) rfl
theorem q281 : (Jvm.Cond.code ({ cls := "java/lang/Math", name := "min", desc := "(II)I" } : Jvm.MethodName) prog_29_method_69_code (2 : Nat) (Option.some Jvm.ClassFile.FieldType.int)) ∈ lw_all := lw_g (lw_at lw_m1 202 rfl) rfl
theorem q283 : (Jvm.Cond.static ({ cls := "java/lang/Math", name := "max", desc := "(II)I" } : Jvm.MethodName)) ∈ lw_all := lw_g (lw_at lw_m1 204 rfl) rfl
theorem q284 : (Jvm.Cond.code ({ cls := "java/lang/Math", name := "max", desc := "(II)I" } : Jvm.MethodName) prog_29_method_65_code (2 : Nat) (Option.some Jvm.ClassFile.FieldType.int)) ∈ lw_all := lw_g (lw_at lw_m1 205 rfl) rfl
theorem q469 : (Jvm.Cond.static ({ cls := "java/lang/Math", name := "floorDiv", desc := "(II)I" } : Jvm.MethodName)) ∈ lw_all := lw_g (lw_at lw_m2 150 rfl) rfl
theorem q470 : (Jvm.Cond.code ({ cls := "java/lang/Math", name := "floorDiv", desc := "(II)I" } : Jvm.MethodName) prog_29_method_47_code (3 : Nat) (Option.some Jvm.ClassFile.FieldType.int)) ∈ lw_all := lw_g (lw_at lw_m2 151 rfl) rfl
theorem q492 : (Jvm.Cond.static ({ cls := "java/lang/Math", name := "abs", desc := "(I)I" } : Jvm.MethodName)) ∈ lw_all := lw_g (lw_at lw_m2 173 rfl) rfl
theorem q493 : (Jvm.Cond.code ({ cls := "java/lang/Math", name := "abs", desc := "(I)I" } : Jvm.MethodName) prog_29_method_59_code (1 : Nat) (Option.some Jvm.ClassFile.FieldType.int)) ∈ lw_all := lw_g (lw_at lw_m2 174 rfl) rfl
theorem q495 : (Jvm.Cond.static ({ cls := "java/lang/Math", name := "floorMod", desc := "(II)I" } : Jvm.MethodName)) ∈ lw_all := lw_g (lw_at lw_m2 176 rfl) rfl
theorem q496 : (Jvm.Cond.code ({ cls := "java/lang/Math", name := "floorMod", desc := "(II)I" } : Jvm.MethodName) prog_29_method_50_code (3 : Nat) (Option.some Jvm.ClassFile.FieldType.int)) ∈ lw_all := lw_g (lw_at lw_m2 177 rfl) rfl
theorem q1014 : (Jvm.Cond.static ({ cls := "java/lang/Math", name := "min", desc := "(JJ)J" } : Jvm.MethodName)) ∈ lw_all := lw_g (lw_at lw_m4 215 rfl) rfl
theorem q1015 : (Jvm.Cond.code ({ cls := "java/lang/Math", name := "min", desc := "(JJ)J" } : Jvm.MethodName) prog_29_method_70_code (4 : Nat) (Option.some Jvm.ClassFile.FieldType.long)) ∈ lw_all := lw_g (lw_at lw_m4 216 rfl) rfl
theorem q1017 : (Jvm.Cond.static ({ cls := "java/lang/Math", name := "max", desc := "(JJ)J" } : Jvm.MethodName)) ∈ lw_all := lw_g (lw_at lw_m4 218 rfl) rfl
theorem q1018 : (Jvm.Cond.code ({ cls := "java/lang/Math", name := "max", desc := "(JJ)J" } : Jvm.MethodName) prog_29_method_66_code (4 : Nat) (Option.some Jvm.ClassFile.FieldType.long)) ∈ lw_all := lw_g (lw_at lw_m4 219 rfl) rfl
