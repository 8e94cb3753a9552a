set_option maxRecDepth 100000
/-! ManyEyes$Flight -/
set_option maxRecDepth 100000
def RX3 : String := "ManyEyes$Flight"
def TX3 : u_T := fun k => match k with
  | 0 => ("ManyEyes$Flight", "tick", "[[I", true)
  | 1 => ("ManyEyes$Flight", "take", "[[I", true)
  | 2 => ("ManyEyes$Flight", "pairs", "[[I", true)
  | 3 => ("ManyEyes$Flight", "asked", "LManyEyes$Now;", true)
  | 4 => ("ManyEyes$Flight", "x", "I", false)
  | 5 => ("ManyEyes$Flight", "y", "I", false)
  | 6 => ("ManyEyes$Flight", "head", "I", false)
  | 7 => ("ManyEyes$Flight", "many", "I", false)
  | 8 => ("ManyEyes$Flight", "hit", "Z", false)
  | _ => ("ManyEyes$Flight", "rested", "Z", false)
def tyX3 : Nat → FieldType := fun k => match k with
  | 0 => .array (.array .int)
  | 1 => .array (.array .int)
  | 2 => .array (.array .int)
  | 3 => .object "ManyEyes$Now"
  | 4 => .int
  | 5 => .int
  | 6 => .int
  | 7 => .int
  | 8 => .boolean
  | _ => .boolean
abbrev wsX30 : List Cond := u_ws RX3 TX3 10
theorem nmX3 : ∀ a, a < 10 → ∀ b, b < 10 → a ≠ b → (TX3 a).2.1 ≠ (TX3 b).2.1 := by decide +kernel
theorem tyX3_ok : ∀ k, k < 10 → parseFieldDescriptor (TX3 k).2.2.1 = some (tyX3 k) := by decide +kernel
abbrev cX3_init : ByteArray := prog_7_method_1_code
def yX3_init : MethodName := ⟨RX3, "<init>", "()V"⟩
theorem dX3_init_0 : decode cX3_init 0 = .ok (.aload_n 0, 1) := by decide +kernel
theorem dX3_init_1 : decode cX3_init 1 = .ok (.invokespecial 3, 3) := by decide +kernel
theorem dX3_init_4 : decode cX3_init 4 = .ok (.aload_n 0, 1) := by decide +kernel
theorem dX3_init_5 : decode cX3_init 5 = .ok (.bipush 60, 2) := by decide +kernel
theorem dX3_init_7 : decode cX3_init 7 = .ok (.iconst 5, 1) := by decide +kernel
theorem dX3_init_8 : decode cX3_init 8 = .ok (.multianewarray 9 2, 4) := by decide +kernel
theorem dX3_init_12 : decode cX3_init 12 = .ok (.putfield 11, 3) := by decide +kernel
theorem dX3_init_15 : decode cX3_init 15 = .ok (.aload_n 0, 1) := by decide +kernel
theorem dX3_init_16 : decode cX3_init 16 = .ok (.bipush 60, 2) := by decide +kernel
theorem dX3_init_18 : decode cX3_init 18 = .ok (.bipush 16, 2) := by decide +kernel
theorem dX3_init_20 : decode cX3_init 20 = .ok (.multianewarray 9 2, 4) := by decide +kernel
theorem dX3_init_24 : decode cX3_init 24 = .ok (.putfield 16, 3) := by decide +kernel
theorem dX3_init_27 : decode cX3_init 27 = .ok (.aload_n 0, 1) := by decide +kernel
theorem dX3_init_28 : decode cX3_init 28 = .ok (.bipush 60, 2) := by decide +kernel
theorem dX3_init_30 : decode cX3_init 30 = .ok (.bipush 16, 2) := by decide +kernel
theorem dX3_init_32 : decode cX3_init 32 = .ok (.multianewarray 9 2, 4) := by decide +kernel
theorem dX3_init_36 : decode cX3_init 36 = .ok (.putfield 19, 3) := by decide +kernel
theorem dX3_init_39 : decode cX3_init 39 = .ok (.aload_n 0, 1) := by decide +kernel
theorem dX3_init_40 : decode cX3_init 40 = .ok (.new 22, 3) := by decide +kernel
theorem dX3_init_43 : decode cX3_init 43 = .ok (.dup, 1) := by decide +kernel
theorem dX3_init_44 : decode cX3_init 44 = .ok (.invokespecial 24, 3) := by decide +kernel
theorem dX3_init_47 : decode cX3_init 47 = .ok (.putfield 25, 3) := by decide +kernel
theorem dX3_init_50 : decode cX3_init 50 = .ok (.return_, 1) := by decide +kernel
theorem q85 : (Jvm.Cond.initialized "ManyEyes$Flight") ∈ lw_all := lw_g (lw_at lw_m1 6 rfl) rfl
theorem q202 : (Jvm.Cond.instantiable "ManyEyes$Flight" (10 : Nat)) ∈ lw_all := lw_g (lw_at lw_m1 123 rfl) rfl
theorem q204 : (Jvm.Cond.instanceMethod ({ cls := "ManyEyes$Flight", name := "<init>", desc := "()V" } : Jvm.MethodName)) ∈ lw_all := lw_g (lw_at lw_m1 125 rfl) rfl
theorem q205 : (Jvm.Cond.code ({ cls := "ManyEyes$Flight", name := "<init>", desc := "()V" } : Jvm.MethodName) prog_7_method_1_code (1 : Nat) (Option.none : Option Jvm.ClassFile.FieldType)) ∈ lw_all := lw_g (lw_at lw_m1 126 rfl) rfl
theorem q206 : (Jvm.Cond.methodLink "ManyEyes$Flight" (3 : Nat) ({ cls := "java/lang/Object", name := "<init>", desc := "()V" } : Jvm.MethodName)) ∈ lw_all := lw_g (lw_at lw_m1 127 rfl) rfl
theorem q207 : (Jvm.Cond.classLink "ManyEyes$Flight" (9 : Nat) "[[I") ∈ lw_all := lw_g (lw_at lw_m1 128 rfl) rfl
theorem q208 : (Jvm.Cond.classLink "ManyEyes$Flight" (22 : Nat) "ManyEyes$Now") ∈ lw_all := lw_g (lw_at lw_m1 129 rfl) rfl
theorem q210 : (Jvm.Cond.methodLinkNest "ManyEyes$Flight" (24 : Nat) ({ cls := "ManyEyes$Now", name := "<init>", desc := "()V" } : Jvm.MethodName) "ManyEyes") ∈ lw_tbl := lw_at lw_m1 131 rfl
theorem q244 : (Jvm.Cond.fieldLink "ManyEyes$Flight" (11 : Nat) "ManyEyes$Flight" "tick" "[[I") ∈ lw_all := lw_g (lw_at lw_m1 165 rfl) rfl
theorem q246 : (Jvm.Cond.fieldLink "ManyEyes$Flight" (16 : Nat) "ManyEyes$Flight" "take" "[[I") ∈ lw_all := lw_g (lw_at lw_m1 167 rfl) rfl
theorem q248 : (Jvm.Cond.fieldLink "ManyEyes$Flight" (19 : Nat) "ManyEyes$Flight" "pairs" "[[I") ∈ lw_all := lw_g (lw_at lw_m1 169 rfl) rfl
theorem q250 : (Jvm.Cond.fieldLink "ManyEyes$Flight" (25 : Nat) "ManyEyes$Flight" "asked" "LManyEyes$Now;") ∈ lw_all := lw_g (lw_at lw_m1 171 rfl) rfl
theorem q258 : (Jvm.Cond.laysFinal "ManyEyes$Flight" "ManyEyes$Flight" "tick" "[[I") ∈ lw_all := lw_g (lw_at lw_m1 179 rfl) rfl
theorem q259 : (Jvm.Cond.soleField "ManyEyes$Flight" "tick") ∈ lw_all := lw_g (lw_at lw_m1 180 rfl) rfl
theorem q260 : (Jvm.Cond.laysFinal "ManyEyes$Flight" "ManyEyes$Flight" "take" "[[I") ∈ lw_all := lw_g (lw_at lw_m1 181 rfl) rfl
theorem q261 : (Jvm.Cond.soleField "ManyEyes$Flight" "take") ∈ lw_all := lw_g (lw_at lw_m1 182 rfl) rfl
theorem q262 : (Jvm.Cond.laysFinal "ManyEyes$Flight" "ManyEyes$Flight" "pairs" "[[I") ∈ lw_all := lw_g (lw_at lw_m1 183 rfl) rfl
theorem q263 : (Jvm.Cond.soleField "ManyEyes$Flight" "pairs") ∈ lw_all := lw_g (lw_at lw_m1 184 rfl) rfl
theorem q264 : (Jvm.Cond.laysFinal "ManyEyes$Flight" "ManyEyes$Flight" "asked" "LManyEyes$Now;") ∈ lw_all := lw_g (lw_at lw_m1 185 rfl) rfl
theorem q265 : (Jvm.Cond.soleField "ManyEyes$Flight" "asked") ∈ lw_all := lw_g (lw_at lw_m1 186 rfl) rfl
theorem q266 : (Jvm.Cond.lays "ManyEyes$Flight" "ManyEyes$Flight" "x" "I") ∈ lw_all := lw_g (lw_at lw_m1 187 rfl) rfl
theorem q267 : (Jvm.Cond.soleField "ManyEyes$Flight" "x") ∈ lw_all := lw_g (lw_at lw_m1 188 rfl) rfl
theorem q268 : (Jvm.Cond.lays "ManyEyes$Flight" "ManyEyes$Flight" "y" "I") ∈ lw_all := lw_g (lw_at lw_m1 189 rfl) rfl
theorem q269 : (Jvm.Cond.soleField "ManyEyes$Flight" "y") ∈ lw_all := lw_g (lw_at lw_m1 190 rfl) rfl
theorem q270 : (Jvm.Cond.lays "ManyEyes$Flight" "ManyEyes$Flight" "head" "I") ∈ lw_all := lw_g (lw_at lw_m1 191 rfl) rfl
theorem q271 : (Jvm.Cond.soleField "ManyEyes$Flight" "head") ∈ lw_all := lw_g (lw_at lw_m1 192 rfl) rfl
theorem q272 : (Jvm.Cond.lays "ManyEyes$Flight" "ManyEyes$Flight" "many" "I") ∈ lw_all := lw_g (lw_at lw_m1 193 rfl) rfl
theorem q273 : (Jvm.Cond.soleField "ManyEyes$Flight" "many") ∈ lw_all := lw_g (lw_at lw_m1 194 rfl) rfl
theorem q274 : (Jvm.Cond.lays "ManyEyes$Flight" "ManyEyes$Flight" "hit" "Z") ∈ lw_all := lw_g (lw_at lw_m1 195 rfl) rfl
theorem q275 : (Jvm.Cond.soleField "ManyEyes$Flight" "hit") ∈ lw_all := lw_g (lw_at lw_m1 196 rfl) rfl
theorem q276 : (Jvm.Cond.lays "ManyEyes$Flight" "ManyEyes$Flight" "rested" "Z") ∈ lw_all := lw_g (lw_at lw_m1 197 rfl) rfl
theorem q277 : (Jvm.Cond.soleField "ManyEyes$Flight" "rested") ∈ lw_all := lw_g (lw_at lw_m1 198 rfl) rfl
theorem q278 : (Jvm.Cond.superclass "ManyEyes$Flight" "java/lang/Object") ∈ lw_all := lw_g (lw_at lw_m1 199 rfl) rfl
theorem q352 : (Jvm.Cond.selects "ManyEyes$Flight" ({ cls := "java/lang/Object", name := "getClass", desc := "()Ljava/lang/Class;" } : Jvm.MethodName) ({ cls := "java/lang/Object", name := "getClass", desc := "()Ljava/lang/Class;" } : Jvm.MethodName)) ∈ lw_all := lw_g (lw_at lw_m2 33 rfl) rfl
theorem q1634 : (Jvm.Cond.castable "ManyEyes$Flight" "java/lang/Object") ∈ lw_tbl := lw_at lw_m7 115 rfl
theorem in_X3 : ∀ w ∈ wsX30, w ∈ lw_all := lw_in wsX30 [258, 260, 262, 264, 266, 268, 270, 272, 274, 276] (by decide +kernel) (by decide +kernel)
