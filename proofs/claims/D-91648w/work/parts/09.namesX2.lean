set_option maxRecDepth 100000
/-! ManyEyes$State -/
set_option maxRecDepth 100000
def RX2 : String := "ManyEyes$State"
def TX2 : u_T := fun k => match k with
  | 0 => ("ManyEyes$State", "n", "[I", true)
  | 1 => ("ManyEyes$State", "mark", "[I", true)
  | 2 => ("ManyEyes$State", "body", "[[I", true)
  | 3 => ("ManyEyes$State", "lens", "[[I", true)
  | 4 => ("ManyEyes$State", "pair", "[[I", true)
  | 5 => ("ManyEyes$State", "read", "[[I", true)
  | 6 => ("ManyEyes$State", "tick", "[[I", true)
  | 7 => ("ManyEyes$State", "take", "[[I", true)
  | 8 => ("ManyEyes$State", "pairs", "[[I", true)
  | _ => ("ManyEyes$State", "rules", "Ljava/util/ArrayList;", true)
def tyX2 : Nat → FieldType := fun k => match k with
  | 0 => .array .int
  | 1 => .array .int
  | 2 => .array (.array .int)
  | 3 => .array (.array .int)
  | 4 => .array (.array .int)
  | 5 => .array (.array .int)
  | 6 => .array (.array .int)
  | 7 => .array (.array .int)
  | 8 => .array (.array .int)
  | _ => .object "java/util/ArrayList"
abbrev wsX20 : List Cond := u_ws RX2 TX2 10
theorem nmX2 : ∀ a, a < 10 → ∀ b, b < 10 → a ≠ b → (TX2 a).2.1 ≠ (TX2 b).2.1 := by decide +kernel
theorem tyX2_ok : ∀ k, k < 10 → parseFieldDescriptor (TX2 k).2.2.1 = some (tyX2 k) := by decide +kernel
abbrev cX2_init : ByteArray := prog_16_method_1_code
def yX2_init : MethodName := ⟨RX2, "<init>", "()V"⟩
theorem dX2_init_0 : decode cX2_init 0 = .ok (.aload_n 0, 1) := by decide +kernel
theorem dX2_init_1 : decode cX2_init 1 = .ok (.invokespecial 3, 3) := by decide +kernel
theorem dX2_init_4 : decode cX2_init 4 = .ok (.aload_n 0, 1) := by decide +kernel
theorem dX2_init_5 : decode cX2_init 5 = .ok (.bipush 14, 2) := by decide +kernel
theorem dX2_init_7 : decode cX2_init 7 = .ok (.newarray .int, 2) := by decide +kernel
theorem dX2_init_9 : decode cX2_init 9 = .ok (.putfield 9, 3) := by decide +kernel
theorem dX2_init_12 : decode cX2_init 12 = .ok (.aload_n 0, 1) := by decide +kernel
theorem dX2_init_13 : decode cX2_init 13 = .ok (.sipush 576, 3) := by decide +kernel
theorem dX2_init_16 : decode cX2_init 16 = .ok (.newarray .int, 2) := by decide +kernel
theorem dX2_init_18 : decode cX2_init 18 = .ok (.putfield 15, 3) := by decide +kernel
theorem dX2_init_21 : decode cX2_init 21 = .ok (.aload_n 0, 1) := by decide +kernel
theorem dX2_init_22 : decode cX2_init 22 = .ok (.bipush 6, 2) := by decide +kernel
theorem dX2_init_24 : decode cX2_init 24 = .ok (.iconst 4, 1) := by decide +kernel
theorem dX2_init_25 : decode cX2_init 25 = .ok (.multianewarray 18 2, 4) := by decide +kernel
theorem dX2_init_29 : decode cX2_init 29 = .ok (.putfield 20, 3) := by decide +kernel
theorem dX2_init_32 : decode cX2_init 32 = .ok (.aload_n 0, 1) := by decide +kernel
theorem dX2_init_33 : decode cX2_init 33 = .ok (.bipush 16, 2) := by decide +kernel
theorem dX2_init_35 : decode cX2_init 35 = .ok (.iconst 2, 1) := by decide +kernel
theorem dX2_init_36 : decode cX2_init 36 = .ok (.multianewarray 18 2, 4) := by decide +kernel
theorem dX2_init_40 : decode cX2_init 40 = .ok (.putfield 23, 3) := by decide +kernel
theorem dX2_init_43 : decode cX2_init 43 = .ok (.aload_n 0, 1) := by decide +kernel
theorem dX2_init_44 : decode cX2_init 44 = .ok (.bipush 16, 2) := by decide +kernel
theorem dX2_init_46 : decode cX2_init 46 = .ok (.iconst 3, 1) := by decide +kernel
theorem dX2_init_47 : decode cX2_init 47 = .ok (.multianewarray 18 2, 4) := by decide +kernel
theorem dX2_init_51 : decode cX2_init 51 = .ok (.putfield 26, 3) := by decide +kernel
theorem dX2_init_54 : decode cX2_init 54 = .ok (.aload_n 0, 1) := by decide +kernel
theorem dX2_init_55 : decode cX2_init 55 = .ok (.bipush 6, 2) := by decide +kernel
theorem dX2_init_57 : decode cX2_init 57 = .ok (.bipush 24, 2) := by decide +kernel
theorem dX2_init_59 : decode cX2_init 59 = .ok (.multianewarray 18 2, 4) := by decide +kernel
theorem dX2_init_63 : decode cX2_init 63 = .ok (.putfield 29, 3) := by decide +kernel
theorem dX2_init_66 : decode cX2_init 66 = .ok (.aload_n 0, 1) := by decide +kernel
theorem dX2_init_67 : decode cX2_init 67 = .ok (.bipush 60, 2) := by decide +kernel
theorem dX2_init_69 : decode cX2_init 69 = .ok (.iconst 5, 1) := by decide +kernel
theorem dX2_init_70 : decode cX2_init 70 = .ok (.multianewarray 18 2, 4) := by decide +kernel
theorem dX2_init_74 : decode cX2_init 74 = .ok (.putfield 32, 3) := by decide +kernel
theorem dX2_init_77 : decode cX2_init 77 = .ok (.aload_n 0, 1) := by decide +kernel
theorem dX2_init_78 : decode cX2_init 78 = .ok (.bipush 60, 2) := by decide +kernel
theorem dX2_init_80 : decode cX2_init 80 = .ok (.bipush 16, 2) := by decide +kernel
theorem dX2_init_82 : decode cX2_init 82 = .ok (.multianewarray 18 2, 4) := by decide +kernel
theorem dX2_init_86 : decode cX2_init 86 = .ok (.putfield 35, 3) := by decide +kernel
theorem dX2_init_89 : decode cX2_init 89 = .ok (.aload_n 0, 1) := by decide +kernel
theorem dX2_init_90 : decode cX2_init 90 = .ok (.bipush 60, 2) := by decide +kernel
theorem dX2_init_92 : decode cX2_init 92 = .ok (.bipush 16, 2) := by decide +kernel
theorem dX2_init_94 : decode cX2_init 94 = .ok (.multianewarray 18 2, 4) := by decide +kernel
theorem dX2_init_98 : decode cX2_init 98 = .ok (.putfield 38, 3) := by decide +kernel
theorem dX2_init_101 : decode cX2_init 101 = .ok (.aload_n 0, 1) := by decide +kernel
theorem dX2_init_102 : decode cX2_init 102 = .ok (.new 41, 3) := by decide +kernel
theorem dX2_init_105 : decode cX2_init 105 = .ok (.dup, 1) := by decide +kernel
theorem dX2_init_106 : decode cX2_init 106 = .ok (.invokespecial 43, 3) := by decide +kernel
theorem dX2_init_109 : decode cX2_init 109 = .ok (.putfield 44, 3) := by decide +kernel
theorem dX2_init_112 : decode cX2_init 112 = .ok (.return_, 1) := by decide +kernel
abbrev cX2_be : ByteArray := prog_16_method_3_code
def yX2_be : MethodName := ⟨RX2, "be", "(LManyEyes$State;)V"⟩
theorem dX2_be_0 : decode cX2_be 0 = .ok (.aload_n 1, 1) := by decide +kernel
theorem dX2_be_1 : decode cX2_be 1 = .ok (.getfield 9, 3) := by decide +kernel
theorem dX2_be_4 : decode cX2_be 4 = .ok (.iconst 0, 1) := by decide +kernel
theorem dX2_be_5 : decode cX2_be 5 = .ok (.aload_n 0, 1) := by decide +kernel
theorem dX2_be_6 : decode cX2_be 6 = .ok (.getfield 9, 3) := by decide +kernel
theorem dX2_be_9 : decode cX2_be 9 = .ok (.iconst 0, 1) := by decide +kernel
theorem dX2_be_10 : decode cX2_be 10 = .ok (.bipush 14, 2) := by decide +kernel
theorem dX2_be_12 : decode cX2_be 12 = .ok (.invokestatic 48, 3) := by decide +kernel
theorem dX2_be_15 : decode cX2_be 15 = .ok (.aload_n 1, 1) := by decide +kernel
theorem dX2_be_16 : decode cX2_be 16 = .ok (.getfield 15, 3) := by decide +kernel
theorem dX2_be_19 : decode cX2_be 19 = .ok (.iconst 0, 1) := by decide +kernel
theorem dX2_be_20 : decode cX2_be 20 = .ok (.aload_n 0, 1) := by decide +kernel
theorem dX2_be_21 : decode cX2_be 21 = .ok (.getfield 15, 3) := by decide +kernel
theorem dX2_be_24 : decode cX2_be 24 = .ok (.iconst 0, 1) := by decide +kernel
theorem dX2_be_25 : decode cX2_be 25 = .ok (.sipush 576, 3) := by decide +kernel
theorem dX2_be_28 : decode cX2_be 28 = .ok (.invokestatic 48, 3) := by decide +kernel
theorem dX2_be_31 : decode cX2_be 31 = .ok (.aload_n 1, 1) := by decide +kernel
theorem dX2_be_32 : decode cX2_be 32 = .ok (.getfield 20, 3) := by decide +kernel
theorem dX2_be_35 : decode cX2_be 35 = .ok (.aload_n 0, 1) := by decide +kernel
theorem dX2_be_36 : decode cX2_be 36 = .ok (.getfield 20, 3) := by decide +kernel
theorem dX2_be_39 : decode cX2_be 39 = .ok (.invokestatic 54, 3) := by decide +kernel
theorem dX2_be_42 : decode cX2_be 42 = .ok (.aload_n 1, 1) := by decide +kernel
theorem dX2_be_43 : decode cX2_be 43 = .ok (.getfield 23, 3) := by decide +kernel
theorem dX2_be_46 : decode cX2_be 46 = .ok (.aload_n 0, 1) := by decide +kernel
theorem dX2_be_47 : decode cX2_be 47 = .ok (.getfield 23, 3) := by decide +kernel
theorem dX2_be_50 : decode cX2_be 50 = .ok (.invokestatic 54, 3) := by decide +kernel
theorem dX2_be_53 : decode cX2_be 53 = .ok (.aload_n 1, 1) := by decide +kernel
theorem dX2_be_54 : decode cX2_be 54 = .ok (.getfield 26, 3) := by decide +kernel
theorem dX2_be_57 : decode cX2_be 57 = .ok (.aload_n 0, 1) := by decide +kernel
theorem dX2_be_58 : decode cX2_be 58 = .ok (.getfield 26, 3) := by decide +kernel
theorem dX2_be_61 : decode cX2_be 61 = .ok (.invokestatic 54, 3) := by decide +kernel
theorem dX2_be_64 : decode cX2_be 64 = .ok (.aload_n 1, 1) := by decide +kernel
theorem dX2_be_65 : decode cX2_be 65 = .ok (.getfield 29, 3) := by decide +kernel
theorem dX2_be_68 : decode cX2_be 68 = .ok (.aload_n 0, 1) := by decide +kernel
theorem dX2_be_69 : decode cX2_be 69 = .ok (.getfield 29, 3) := by decide +kernel
theorem dX2_be_72 : decode cX2_be 72 = .ok (.invokestatic 54, 3) := by decide +kernel
theorem dX2_be_75 : decode cX2_be 75 = .ok (.aload_n 1, 1) := by decide +kernel
theorem dX2_be_76 : decode cX2_be 76 = .ok (.getfield 32, 3) := by decide +kernel
theorem dX2_be_79 : decode cX2_be 79 = .ok (.aload_n 0, 1) := by decide +kernel
theorem dX2_be_80 : decode cX2_be 80 = .ok (.getfield 32, 3) := by decide +kernel
theorem dX2_be_83 : decode cX2_be 83 = .ok (.invokestatic 54, 3) := by decide +kernel
theorem dX2_be_86 : decode cX2_be 86 = .ok (.aload_n 1, 1) := by decide +kernel
theorem dX2_be_87 : decode cX2_be 87 = .ok (.getfield 35, 3) := by decide +kernel
theorem dX2_be_90 : decode cX2_be 90 = .ok (.aload_n 0, 1) := by decide +kernel
theorem dX2_be_91 : decode cX2_be 91 = .ok (.getfield 35, 3) := by decide +kernel
theorem dX2_be_94 : decode cX2_be 94 = .ok (.invokestatic 54, 3) := by decide +kernel
theorem dX2_be_97 : decode cX2_be 97 = .ok (.aload_n 1, 1) := by decide +kernel
theorem dX2_be_98 : decode cX2_be 98 = .ok (.getfield 38, 3) := by decide +kernel
theorem dX2_be_101 : decode cX2_be 101 = .ok (.aload_n 0, 1) := by decide +kernel
theorem dX2_be_102 : decode cX2_be 102 = .ok (.getfield 38, 3) := by decide +kernel
theorem dX2_be_105 : decode cX2_be 105 = .ok (.invokestatic 54, 3) := by decide +kernel
theorem dX2_be_108 : decode cX2_be 108 = .ok (.aload_n 0, 1) := by decide +kernel
theorem dX2_be_109 : decode cX2_be 109 = .ok (.getfield 44, 3) := by decide +kernel
theorem dX2_be_112 : decode cX2_be 112 = .ok (.invokevirtual 58, 3) := by decide +kernel
theorem dX2_be_115 : decode cX2_be 115 = .ok (.iconst 0, 1) := by decide +kernel
theorem dX2_be_116 : decode cX2_be 116 = .ok (.istore_n 2, 1) := by decide +kernel
theorem dX2_be_117 : decode cX2_be 117 = .ok (.iload_n 2, 1) := by decide +kernel
theorem dX2_be_118 : decode cX2_be 118 = .ok (.aload_n 1, 1) := by decide +kernel
theorem dX2_be_119 : decode cX2_be 119 = .ok (.getfield 44, 3) := by decide +kernel
theorem dX2_be_122 : decode cX2_be 122 = .ok (.invokevirtual 61, 3) := by decide +kernel
theorem dX2_be_125 : decode cX2_be 125 = .ok (.if_icmp .ge 28, 3) := by decide +kernel
theorem dX2_be_128 : decode cX2_be 128 = .ok (.aload_n 0, 1) := by decide +kernel
theorem dX2_be_129 : decode cX2_be 129 = .ok (.getfield 44, 3) := by decide +kernel
theorem dX2_be_132 : decode cX2_be 132 = .ok (.aload_n 1, 1) := by decide +kernel
theorem dX2_be_133 : decode cX2_be 133 = .ok (.getfield 44, 3) := by decide +kernel
theorem dX2_be_136 : decode cX2_be 136 = .ok (.iload_n 2, 1) := by decide +kernel
theorem dX2_be_137 : decode cX2_be 137 = .ok (.invokevirtual 65, 3) := by decide +kernel
theorem dX2_be_140 : decode cX2_be 140 = .ok (.checkcast 41, 3) := by decide +kernel
theorem dX2_be_143 : decode cX2_be 143 = .ok (.invokevirtual 69, 3) := by decide +kernel
theorem dX2_be_146 : decode cX2_be 146 = .ok (.pop, 1) := by decide +kernel
theorem dX2_be_147 : decode cX2_be 147 = .ok (.iinc 2 1, 3) := by decide +kernel
theorem dX2_be_150 : decode cX2_be 150 = .ok (.goto (-33), 3) := by decide +kernel
theorem dX2_be_153 : decode cX2_be 153 = .ok (.return_, 1) := by decide +kernel
abbrev cX2_copy : ByteArray := prog_16_method_2_code
def yX2_copy : MethodName := ⟨RX2, "copy", "([[I[[I)V"⟩
theorem dX2_copy_0 : decode cX2_copy 0 = .ok (.iconst 0, 1) := by decide +kernel
theorem dX2_copy_1 : decode cX2_copy 1 = .ok (.istore_n 2, 1) := by decide +kernel
theorem dX2_copy_2 : decode cX2_copy 2 = .ok (.iload_n 2, 1) := by decide +kernel
theorem dX2_copy_3 : decode cX2_copy 3 = .ok (.aload_n 0, 1) := by decide +kernel
theorem dX2_copy_4 : decode cX2_copy 4 = .ok (.arraylength, 1) := by decide +kernel
theorem dX2_copy_5 : decode cX2_copy 5 = .ok (.if_icmp .ge 24, 3) := by decide +kernel
theorem dX2_copy_8 : decode cX2_copy 8 = .ok (.aload_n 0, 1) := by decide +kernel
theorem dX2_copy_9 : decode cX2_copy 9 = .ok (.iload_n 2, 1) := by decide +kernel
theorem dX2_copy_10 : decode cX2_copy 10 = .ok (.aaload, 1) := by decide +kernel
theorem dX2_copy_11 : decode cX2_copy 11 = .ok (.iconst 0, 1) := by decide +kernel
theorem dX2_copy_12 : decode cX2_copy 12 = .ok (.aload_n 1, 1) := by decide +kernel
theorem dX2_copy_13 : decode cX2_copy 13 = .ok (.iload_n 2, 1) := by decide +kernel
theorem dX2_copy_14 : decode cX2_copy 14 = .ok (.aaload, 1) := by decide +kernel
theorem dX2_copy_15 : decode cX2_copy 15 = .ok (.iconst 0, 1) := by decide +kernel
theorem dX2_copy_16 : decode cX2_copy 16 = .ok (.aload_n 0, 1) := by decide +kernel
theorem dX2_copy_17 : decode cX2_copy 17 = .ok (.iload_n 2, 1) := by decide +kernel
theorem dX2_copy_18 : decode cX2_copy 18 = .ok (.aaload, 1) := by decide +kernel
theorem dX2_copy_19 : decode cX2_copy 19 = .ok (.arraylength, 1) := by decide +kernel
theorem dX2_copy_20 : decode cX2_copy 20 = .ok (.invokestatic 48, 3) := by decide +kernel
theorem dX2_copy_23 : decode cX2_copy 23 = .ok (.iinc 2 1, 3) := by decide +kernel
theorem dX2_copy_26 : decode cX2_copy 26 = .ok (.goto (-24), 3) := by decide +kernel
theorem dX2_copy_29 : decode cX2_copy 29 = .ok (.return_, 1) := by decide +kernel
theorem q81 : (Jvm.Cond.initialized "ManyEyes$State") ∈ lw_all := lw_g (lw_at lw_m1 2 rfl) rfl
theorem q126 : (Jvm.Cond.instantiable "ManyEyes$State" (10 : Nat)) ∈ lw_all := lw_g (lw_at lw_m1 47 rfl) rfl
theorem q128 : (Jvm.Cond.instanceMethod ({ cls := "ManyEyes$State", name := "<init>", desc := "()V" } : Jvm.MethodName)) ∈ lw_all := lw_g (lw_at lw_m1 49 rfl) rfl
theorem q129 : (Jvm.Cond.code ({ cls := "ManyEyes$State", name := "<init>", desc := "()V" } : Jvm.MethodName) prog_16_method_1_code (1 : Nat) (Option.none : Option Jvm.ClassFile.FieldType)) ∈ lw_all := lw_g (lw_at lw_m1 50 rfl) rfl
theorem q130 : (Jvm.Cond.methodLink "ManyEyes$State" (3 : Nat) ({ cls := "java/lang/Object", name := "<init>", desc := "()V" } : Jvm.MethodName)) ∈ lw_all := lw_g (lw_at lw_m1 51 rfl) rfl
theorem q131 : (Jvm.Cond.classLink "ManyEyes$State" (18 : Nat) "[[I") ∈ lw_all := lw_g (lw_at lw_m1 52 rfl) rfl
theorem q133 : (Jvm.Cond.classLink "ManyEyes$State" (41 : Nat) "java/util/ArrayList") ∈ lw_all := lw_g (lw_at lw_m1 54 rfl) rfl
theorem q135 : (Jvm.Cond.methodLink "ManyEyes$State" (43 : Nat) ({ cls := "java/util/ArrayList", name := "<init>", desc := "()V" } : Jvm.MethodName)) ∈ lw_all := lw_g (lw_at lw_m1 56 rfl) rfl
theorem q160 : (Jvm.Cond.fieldLink "ManyEyes$State" (9 : Nat) "ManyEyes$State" "n" "[I") ∈ lw_all := lw_g (lw_at lw_m1 81 rfl) rfl
theorem q162 : (Jvm.Cond.fieldLink "ManyEyes$State" (15 : Nat) "ManyEyes$State" "mark" "[I") ∈ lw_all := lw_g (lw_at lw_m1 83 rfl) rfl
theorem q164 : (Jvm.Cond.fieldLink "ManyEyes$State" (20 : Nat) "ManyEyes$State" "body" "[[I") ∈ lw_all := lw_g (lw_at lw_m1 85 rfl) rfl
theorem q166 : (Jvm.Cond.fieldLink "ManyEyes$State" (23 : Nat) "ManyEyes$State" "lens" "[[I") ∈ lw_all := lw_g (lw_at lw_m1 87 rfl) rfl
theorem q168 : (Jvm.Cond.fieldLink "ManyEyes$State" (26 : Nat) "ManyEyes$State" "pair" "[[I") ∈ lw_all := lw_g (lw_at lw_m1 89 rfl) rfl
theorem q170 : (Jvm.Cond.fieldLink "ManyEyes$State" (29 : Nat) "ManyEyes$State" "read" "[[I") ∈ lw_all := lw_g (lw_at lw_m1 91 rfl) rfl
theorem q172 : (Jvm.Cond.fieldLink "ManyEyes$State" (32 : Nat) "ManyEyes$State" "tick" "[[I") ∈ lw_all := lw_g (lw_at lw_m1 93 rfl) rfl
theorem q174 : (Jvm.Cond.fieldLink "ManyEyes$State" (35 : Nat) "ManyEyes$State" "take" "[[I") ∈ lw_all := lw_g (lw_at lw_m1 95 rfl) rfl
theorem q176 : (Jvm.Cond.fieldLink "ManyEyes$State" (38 : Nat) "ManyEyes$State" "pairs" "[[I") ∈ lw_all := lw_g (lw_at lw_m1 97 rfl) rfl
theorem q178 : (Jvm.Cond.fieldLink "ManyEyes$State" (44 : Nat) "ManyEyes$State" "rules" "Ljava/util/ArrayList;") ∈ lw_all := lw_g (lw_at lw_m1 99 rfl) rfl
theorem q180 : (Jvm.Cond.laysFinal "ManyEyes$State" "ManyEyes$State" "n" "[I") ∈ lw_all := lw_g (lw_at lw_m1 101 rfl) rfl
theorem q181 : (Jvm.Cond.soleField "ManyEyes$State" "n") ∈ lw_all := lw_g (lw_at lw_m1 102 rfl) rfl
theorem q182 : (Jvm.Cond.laysFinal "ManyEyes$State" "ManyEyes$State" "mark" "[I") ∈ lw_all := lw_g (lw_at lw_m1 103 rfl) rfl
theorem q183 : (Jvm.Cond.soleField "ManyEyes$State" "mark") ∈ lw_all := lw_g (lw_at lw_m1 104 rfl) rfl
theorem q184 : (Jvm.Cond.laysFinal "ManyEyes$State" "ManyEyes$State" "body" "[[I") ∈ lw_all := lw_g (lw_at lw_m1 105 rfl) rfl
theorem q185 : (Jvm.Cond.soleField "ManyEyes$State" "body") ∈ lw_all := lw_g (lw_at lw_m1 106 rfl) rfl
theorem q186 : (Jvm.Cond.laysFinal "ManyEyes$State" "ManyEyes$State" "lens" "[[I") ∈ lw_all := lw_g (lw_at lw_m1 107 rfl) rfl
theorem q187 : (Jvm.Cond.soleField "ManyEyes$State" "lens") ∈ lw_all := lw_g (lw_at lw_m1 108 rfl) rfl
theorem q188 : (Jvm.Cond.laysFinal "ManyEyes$State" "ManyEyes$State" "pair" "[[I") ∈ lw_all := lw_g (lw_at lw_m1 109 rfl) rfl
theorem q189 : (Jvm.Cond.soleField "ManyEyes$State" "pair") ∈ lw_all := lw_g (lw_at lw_m1 110 rfl) rfl
theorem q190 : (Jvm.Cond.laysFinal "ManyEyes$State" "ManyEyes$State" "read" "[[I") ∈ lw_all := lw_g (lw_at lw_m1 111 rfl) rfl
theorem q191 : (Jvm.Cond.soleField "ManyEyes$State" "read") ∈ lw_all := lw_g (lw_at lw_m1 112 rfl) rfl
theorem q192 : (Jvm.Cond.laysFinal "ManyEyes$State" "ManyEyes$State" "tick" "[[I") ∈ lw_all := lw_g (lw_at lw_m1 113 rfl) rfl
theorem q193 : (Jvm.Cond.soleField "ManyEyes$State" "tick") ∈ lw_all := lw_g (lw_at lw_m1 114 rfl) rfl
theorem q194 : (Jvm.Cond.laysFinal "ManyEyes$State" "ManyEyes$State" "take" "[[I") ∈ lw_all := lw_g (lw_at lw_m1 115 rfl) rfl
theorem q195 : (Jvm.Cond.soleField "ManyEyes$State" "take") ∈ lw_all := lw_g (lw_at lw_m1 116 rfl) rfl
theorem q196 : (Jvm.Cond.laysFinal "ManyEyes$State" "ManyEyes$State" "pairs" "[[I") ∈ lw_all := lw_g (lw_at lw_m1 117 rfl) rfl
theorem q197 : (Jvm.Cond.soleField "ManyEyes$State" "pairs") ∈ lw_all := lw_g (lw_at lw_m1 118 rfl) rfl
theorem q198 : (Jvm.Cond.laysFinal "ManyEyes$State" "ManyEyes$State" "rules" "Ljava/util/ArrayList;") ∈ lw_all := lw_g (lw_at lw_m1 119 rfl) rfl
theorem q199 : (Jvm.Cond.soleField "ManyEyes$State" "rules") ∈ lw_all := lw_g (lw_at lw_m1 120 rfl) rfl
theorem q200 : (Jvm.Cond.superclass "ManyEyes$State" "java/lang/Object") ∈ lw_all := lw_g (lw_at lw_m1 121 rfl) rfl
theorem q286 : (Jvm.Cond.instanceMethod ({ cls := "ManyEyes$State", name := "be", desc := "(LManyEyes$State;)V" } : Jvm.MethodName)) ∈ lw_all := lw_g (lw_at lw_m1 207 rfl) rfl
theorem q287 : (Jvm.Cond.selects "ManyEyes$State" ({ cls := "ManyEyes$State", name := "be", desc := "(LManyEyes$State;)V" } : Jvm.MethodName) ({ cls := "ManyEyes$State", name := "be", desc := "(LManyEyes$State;)V" } : Jvm.MethodName)) ∈ lw_all := lw_g (lw_at lw_m1 208 rfl) rfl
theorem q288 : (Jvm.Cond.code ({ cls := "ManyEyes$State", name := "be", desc := "(LManyEyes$State;)V" } : Jvm.MethodName) prog_16_method_3_code (3 : Nat) (Option.none : Option Jvm.ClassFile.FieldType)) ∈ lw_all := lw_g (lw_at lw_m1 209 rfl) rfl
theorem q289 : (Jvm.Cond.methodLink "ManyEyes$State" (48 : Nat) ({ cls := "java/lang/System", name := "arraycopy", desc := "(Ljava/lang/Object;ILjava/lang/Object;II)V" } : Jvm.MethodName)) ∈ lw_all := lw_g (lw_at lw_m1 210 rfl) rfl
theorem q292 : (Jvm.Cond.methodLink "ManyEyes$State" (54 : Nat) ({ cls := "ManyEyes$State", name := "copy", desc := "([[I[[I)V" } : Jvm.MethodName)) ∈ lw_all := lw_g (lw_at lw_m1 213 rfl) rfl
theorem q293 : (Jvm.Cond.static ({ cls := "ManyEyes$State", name := "copy", desc := "([[I[[I)V" } : Jvm.MethodName)) ∈ lw_all := lw_g (lw_at lw_m1 214 rfl) rfl
theorem q294 : (Jvm.Cond.code ({ cls := "ManyEyes$State", name := "copy", desc := "([[I[[I)V" } : Jvm.MethodName) prog_16_method_2_code (3 : Nat) (Option.none : Option Jvm.ClassFile.FieldType)) ∈ lw_all := lw_g (lw_at lw_m1 215 rfl) rfl
theorem q295 : (Jvm.Cond.methodLink "ManyEyes$State" (58 : Nat) ({ cls := "java/util/ArrayList", name := "clear", desc := "()V" } : Jvm.MethodName)) ∈ lw_all := lw_g (lw_at lw_m1 216 rfl) rfl
theorem q299 : (Jvm.Cond.methodLink "ManyEyes$State" (61 : Nat) ({ cls := "java/util/ArrayList", name := "size", desc := "()I" } : Jvm.MethodName)) ∈ lw_all := lw_g (lw_at lw_m1 220 rfl) rfl
theorem q303 : (Jvm.Cond.methodLink "ManyEyes$State" (65 : Nat) ({ cls := "java/util/ArrayList", name := "get", desc := "(I)Ljava/lang/Object;" } : Jvm.MethodName)) ∈ lw_all := lw_g (lw_at lw_m1 224 rfl) rfl
theorem q317 : (Jvm.Cond.methodLink "ManyEyes$State" (69 : Nat) ({ cls := "java/util/ArrayList", name := "add", desc := "(Ljava/lang/Object;)Z" } : Jvm.MethodName)) ∈ lw_all := lw_g (lw_at lw_m1 238 rfl) rfl
theorem q361 : (Jvm.Cond.selects "ManyEyes$State" ({ cls := "java/lang/Object", name := "getClass", desc := "()Ljava/lang/Class;" } : Jvm.MethodName) ({ cls := "java/lang/Object", name := "getClass", desc := "()Ljava/lang/Class;" } : Jvm.MethodName)) ∈ lw_all := lw_g (lw_at lw_m2 42 rfl) rfl
theorem q1632 : (Jvm.Cond.castable "ManyEyes$State" "java/lang/Object") ∈ lw_tbl := lw_at lw_m7 113 rfl
theorem in_X2 : ∀ w ∈ wsX20, w ∈ lw_all := lw_in wsX20 [180, 182, 184, 186, 188, 190, 192, 194, 196, 198] (by decide +kernel) (by decide +kernel)
