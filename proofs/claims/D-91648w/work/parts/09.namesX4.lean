set_option maxRecDepth 100000
/-! ManyEyes$Now -/
set_option maxRecDepth 100000
def RX4 : String := "ManyEyes$Now"
def TX4 : u_T := fun k => match k with
  | 0 => ("ManyEyes$Now", "take", "[I", true)
  | 1 => ("ManyEyes$Now", "pair", "[I", true)
  | 2 => ("ManyEyes$Now", "letter", "[J", true)
  | 3 => ("ManyEyes$Now", "tick", "I", false)
  | 4 => ("ManyEyes$Now", "over", "I", false)
  | _ => ("ManyEyes$Now", "bound", "J", false)
def tyX4 : Nat → FieldType := fun k => match k with
  | 0 => .array .int
  | 1 => .array .int
  | 2 => .array .long
  | 3 => .int
  | 4 => .int
  | _ => .long
abbrev wsX40 : List Cond := u_ws RX4 TX4 6
theorem nmX4 : ∀ a, a < 6 → ∀ b, b < 6 → a ≠ b → (TX4 a).2.1 ≠ (TX4 b).2.1 := by decide +kernel
theorem tyX4_ok : ∀ k, k < 6 → parseFieldDescriptor (TX4 k).2.2.1 = some (tyX4 k) := by decide +kernel
abbrev cX4_init : ByteArray := prog_13_method_1_code
def yX4_init : MethodName := ⟨RX4, "<init>", "()V"⟩
theorem dX4_init_0 : decode cX4_init 0 = .ok (.aload_n 0, 1) := by decide +kernel
theorem dX4_init_1 : decode cX4_init 1 = .ok (.invokespecial 3, 3) := by decide +kernel
theorem dX4_init_4 : decode cX4_init 4 = .ok (.aload_n 0, 1) := by decide +kernel
theorem dX4_init_5 : decode cX4_init 5 = .ok (.bipush 16, 2) := by decide +kernel
theorem dX4_init_7 : decode cX4_init 7 = .ok (.newarray .int, 2) := by decide +kernel
theorem dX4_init_9 : decode cX4_init 9 = .ok (.putfield 9, 3) := by decide +kernel
theorem dX4_init_12 : decode cX4_init 12 = .ok (.aload_n 0, 1) := by decide +kernel
theorem dX4_init_13 : decode cX4_init 13 = .ok (.bipush 16, 2) := by decide +kernel
theorem dX4_init_15 : decode cX4_init 15 = .ok (.newarray .int, 2) := by decide +kernel
theorem dX4_init_17 : decode cX4_init 17 = .ok (.putfield 15, 3) := by decide +kernel
theorem dX4_init_20 : decode cX4_init 20 = .ok (.aload_n 0, 1) := by decide +kernel
theorem dX4_init_21 : decode cX4_init 21 = .ok (.bipush 8, 2) := by decide +kernel
theorem dX4_init_23 : decode cX4_init 23 = .ok (.newarray .long, 2) := by decide +kernel
theorem dX4_init_25 : decode cX4_init 25 = .ok (.putfield 18, 3) := by decide +kernel
theorem dX4_init_28 : decode cX4_init 28 = .ok (.return_, 1) := by decide +kernel
abbrev cX4_held : ByteArray := prog_13_method_2_code
def yX4_held : MethodName := ⟨RX4, "held", "(J)J"⟩
theorem dX4_held_0 : decode cX4_held 0 = .ok (.lload_n 1, 1) := by decide +kernel
theorem dX4_held_1 : decode cX4_held 1 = .ok (.aload_n 0, 1) := by decide +kernel
theorem dX4_held_2 : decode cX4_held 2 = .ok (.getfield 22, 3) := by decide +kernel
theorem dX4_held_5 : decode cX4_held 5 = .ok (.lcmp, 1) := by decide +kernel
theorem dX4_held_6 : decode cX4_held 6 = .ok (.ifCond .gt 13, 3) := by decide +kernel
theorem dX4_held_9 : decode cX4_held 9 = .ok (.lload_n 1, 1) := by decide +kernel
theorem dX4_held_10 : decode cX4_held 10 = .ok (.aload_n 0, 1) := by decide +kernel
theorem dX4_held_11 : decode cX4_held 11 = .ok (.getfield 22, 3) := by decide +kernel
theorem dX4_held_14 : decode cX4_held 14 = .ok (.lneg, 1) := by decide +kernel
theorem dX4_held_15 : decode cX4_held 15 = .ok (.lcmp, 1) := by decide +kernel
theorem dX4_held_16 : decode cX4_held 16 = .ok (.ifCond .ge 13, 3) := by decide +kernel
theorem dX4_held_19 : decode cX4_held 19 = .ok (.aload_n 0, 1) := by decide +kernel
theorem dX4_held_20 : decode cX4_held 20 = .ok (.dup, 1) := by decide +kernel
theorem dX4_held_21 : decode cX4_held 21 = .ok (.getfield 26, 3) := by decide +kernel
theorem dX4_held_24 : decode cX4_held 24 = .ok (.iconst 1, 1) := by decide +kernel
theorem dX4_held_25 : decode cX4_held 25 = .ok (.iadd, 1) := by decide +kernel
theorem dX4_held_26 : decode cX4_held 26 = .ok (.putfield 26, 3) := by decide +kernel
theorem dX4_held_29 : decode cX4_held 29 = .ok (.aload_n 0, 1) := by decide +kernel
theorem dX4_held_30 : decode cX4_held 30 = .ok (.getfield 22, 3) := by decide +kernel
theorem dX4_held_33 : decode cX4_held 33 = .ok (.lneg, 1) := by decide +kernel
theorem dX4_held_34 : decode cX4_held 34 = .ok (.aload_n 0, 1) := by decide +kernel
theorem dX4_held_35 : decode cX4_held 35 = .ok (.getfield 22, 3) := by decide +kernel
theorem dX4_held_38 : decode cX4_held 38 = .ok (.lload_n 1, 1) := by decide +kernel
theorem dX4_held_39 : decode cX4_held 39 = .ok (.invokestatic 30, 3) := by decide +kernel
theorem dX4_held_42 : decode cX4_held 42 = .ok (.invokestatic 36, 3) := by decide +kernel
theorem dX4_held_45 : decode cX4_held 45 = .ok (.lreturn, 1) := by decide +kernel
theorem q86 : (Jvm.Cond.initialized "ManyEyes$Now") ∈ lw_all := lw_g (lw_at lw_m1 7 rfl) rfl
theorem q209 : (Jvm.Cond.instantiable "ManyEyes$Now" (6 : Nat)) ∈ lw_all := lw_g (lw_at lw_m1 130 rfl) rfl
theorem q211 : (Jvm.Cond.instanceMethod ({ cls := "ManyEyes$Now", name := "<init>", desc := "()V" } : Jvm.MethodName)) ∈ lw_all := lw_g (lw_at lw_m1 132 rfl) rfl
theorem q212 : (Jvm.Cond.code ({ cls := "ManyEyes$Now", name := "<init>", desc := "()V" } : Jvm.MethodName) prog_13_method_1_code (1 : Nat) (Option.none : Option Jvm.ClassFile.FieldType)) ∈ lw_all := lw_g (lw_at lw_m1 133 rfl) rfl
theorem q213 : (Jvm.Cond.methodLink "ManyEyes$Now" (3 : Nat) ({ cls := "java/lang/Object", name := "<init>", desc := "()V" } : Jvm.MethodName)) ∈ lw_all := lw_g (lw_at lw_m1 134 rfl) rfl
theorem q214 : (Jvm.Cond.fieldLink "ManyEyes$Now" (9 : Nat) "ManyEyes$Now" "take" "[I") ∈ lw_all := lw_g (lw_at lw_m1 135 rfl) rfl
theorem q217 : (Jvm.Cond.fieldLink "ManyEyes$Now" (15 : Nat) "ManyEyes$Now" "pair" "[I") ∈ lw_all := lw_g (lw_at lw_m1 138 rfl) rfl
theorem q220 : (Jvm.Cond.fieldLink "ManyEyes$Now" (18 : Nat) "ManyEyes$Now" "letter" "[J") ∈ lw_all := lw_g (lw_at lw_m1 141 rfl) rfl
theorem q225 : (Jvm.Cond.fieldLink "ManyEyes$Now" (26 : Nat) "ManyEyes$Now" "over" "I") ∈ lw_all := lw_g (lw_at lw_m1 146 rfl) rfl
theorem q227 : (Jvm.Cond.fieldLink "ManyEyes$Now" (22 : Nat) "ManyEyes$Now" "bound" "J") ∈ lw_all := lw_g (lw_at lw_m1 148 rfl) rfl
theorem q229 : (Jvm.Cond.laysFinal "ManyEyes$Now" "ManyEyes$Now" "take" "[I") ∈ lw_all := lw_g (lw_at lw_m1 150 rfl) rfl
theorem q230 : (Jvm.Cond.soleField "ManyEyes$Now" "take") ∈ lw_all := lw_g (lw_at lw_m1 151 rfl) rfl
theorem q231 : (Jvm.Cond.laysFinal "ManyEyes$Now" "ManyEyes$Now" "pair" "[I") ∈ lw_all := lw_g (lw_at lw_m1 152 rfl) rfl
theorem q232 : (Jvm.Cond.soleField "ManyEyes$Now" "pair") ∈ lw_all := lw_g (lw_at lw_m1 153 rfl) rfl
theorem q233 : (Jvm.Cond.laysFinal "ManyEyes$Now" "ManyEyes$Now" "letter" "[J") ∈ lw_all := lw_g (lw_at lw_m1 154 rfl) rfl
theorem q234 : (Jvm.Cond.soleField "ManyEyes$Now" "letter") ∈ lw_all := lw_g (lw_at lw_m1 155 rfl) rfl
theorem q235 : (Jvm.Cond.lays "ManyEyes$Now" "ManyEyes$Now" "tick" "I") ∈ lw_all := lw_g (lw_at lw_m1 156 rfl) rfl
theorem q236 : (Jvm.Cond.soleField "ManyEyes$Now" "tick") ∈ lw_all := lw_g (lw_at lw_m1 157 rfl) rfl
theorem q237 : (Jvm.Cond.lays "ManyEyes$Now" "ManyEyes$Now" "over" "I") ∈ lw_all := lw_g (lw_at lw_m1 158 rfl) rfl
theorem q238 : (Jvm.Cond.soleField "ManyEyes$Now" "over") ∈ lw_all := lw_g (lw_at lw_m1 159 rfl) rfl
theorem q239 : (Jvm.Cond.lays "ManyEyes$Now" "ManyEyes$Now" "bound" "J") ∈ lw_all := lw_g (lw_at lw_m1 160 rfl) rfl
theorem q240 : (Jvm.Cond.soleField "ManyEyes$Now" "bound") ∈ lw_all := lw_g (lw_at lw_m1 161 rfl) rfl
theorem q241 : (Jvm.Cond.superclass "ManyEyes$Now" "java/lang/Object") ∈ lw_all := lw_g (lw_at lw_m1 162 rfl) rfl
theorem q358 : (Jvm.Cond.selects "ManyEyes$Now" ({ cls := "java/lang/Object", name := "getClass", desc := "()Ljava/lang/Class;" } : Jvm.MethodName) ({ cls := "java/lang/Object", name := "getClass", desc := "()Ljava/lang/Class;" } : Jvm.MethodName)) ∈ lw_all := lw_g (lw_at lw_m2 39 rfl) rfl
theorem q1010 : (Jvm.Cond.instanceMethod ({ cls := "ManyEyes$Now", name := "held", desc := "(J)J" } : Jvm.MethodName)) ∈ lw_all := lw_g (lw_at lw_m4 211 rfl) rfl
theorem q1011 : (Jvm.Cond.selects "ManyEyes$Now" ({ cls := "ManyEyes$Now", name := "held", desc := "(J)J" } : Jvm.MethodName) ({ cls := "ManyEyes$Now", name := "held", desc := "(J)J" } : Jvm.MethodName)) ∈ lw_all := lw_g (lw_at lw_m4 212 rfl) rfl
theorem q1012 : (Jvm.Cond.code ({ cls := "ManyEyes$Now", name := "held", desc := "(J)J" } : Jvm.MethodName) prog_13_method_2_code (3 : Nat) (Option.some Jvm.ClassFile.FieldType.long)) ∈ lw_all := lw_g (lw_at lw_m4 213 rfl) rfl
theorem q1013 : (Jvm.Cond.methodLink "ManyEyes$Now" (30 : Nat) ({ cls := "java/lang/Math", name := "min", desc := "(JJ)J" } : Jvm.MethodName)) ∈ lw_all := lw_g (lw_at lw_m4 214 rfl) rfl
theorem q1016 : (Jvm.Cond.methodLink "ManyEyes$Now" (36 : Nat) ({ cls := "java/lang/Math", name := "max", desc := "(JJ)J" } : Jvm.MethodName)) ∈ lw_all := lw_g (lw_at lw_m4 217 rfl) rfl
theorem q1635 : (Jvm.Cond.castable "ManyEyes$Now" "java/lang/Object") ∈ lw_tbl := lw_at lw_m7 116 rfl
theorem in_X4 : ∀ w ∈ wsX40, w ∈ lw_all := lw_in wsX40 [229, 231, 233, 235, 237, 239] (by decide +kernel) (by decide +kernel)
