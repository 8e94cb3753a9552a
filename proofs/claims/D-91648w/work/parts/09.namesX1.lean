set_option maxRecDepth 100000
/-! ManyEyes -/
set_option maxRecDepth 100000
def RX1 : String := "ManyEyes"
def TX1 : u_T := fun k => match k with
  | 0 => ("ManyEyes", "now", "LManyEyes$State;", true)
  | 1 => ("ManyEyes", "image", "LManyEyes$State;", true)
  | 2 => ("ManyEyes", "w", "I", true)
  | 3 => ("ManyEyes", "h", "I", true)
  | 4 => ("ManyEyes", "tape", "[B", true)
  | 5 => ("ManyEyes", "taped", "I", false)
  | 6 => ("ManyEyes", "fault", "I", false)
  | 7 => ("ManyEyes", "faultAt", "I", false)
  | 8 => ("ManyEyes", "world", "[I", true)
  | 9 => ("ManyEyes", "far", "I", false)
  | 10 => ("ManyEyes", "takes", "[I", true)
  | _ => ("ManyEyes", "flight", "LManyEyes$Flight;", true)
def tyX1 : Nat → FieldType := fun k => match k with
  | 0 => .object "ManyEyes$State"
  | 1 => .object "ManyEyes$State"
  | 2 => .int
  | 3 => .int
  | 4 => .array .byte
  | 5 => .int
  | 6 => .int
  | 7 => .int
  | 8 => .array .int
  | 9 => .int
  | 10 => .array .int
  | _ => .object "ManyEyes$Flight"
abbrev wsX10 : List Cond := u_ws RX1 TX1 12
theorem nmX1 : ∀ a, a < 12 → ∀ b, b < 12 → a ≠ b → (TX1 a).2.1 ≠ (TX1 b).2.1 := by decide +kernel
theorem tyX1_ok : ∀ k, k < 12 → parseFieldDescriptor (TX1 k).2.2.1 = some (tyX1 k) := by decide +kernel
abbrev cX1_init : ByteArray := prog_1_method_1_code
def yX1_init : MethodName := ⟨RX1, "<init>", "(II)V"⟩
theorem dX1_init_0 : decode cX1_init 0 = .ok (.aload_n 0, 1) := by decide +kernel
theorem dX1_init_1 : decode cX1_init 1 = .ok (.invokespecial 1, 3) := by decide +kernel
theorem dX1_init_4 : decode cX1_init 4 = .ok (.aload_n 0, 1) := by decide +kernel
theorem dX1_init_5 : decode cX1_init 5 = .ok (.new 7, 3) := by decide +kernel
theorem dX1_init_8 : decode cX1_init 8 = .ok (.dup, 1) := by decide +kernel
theorem dX1_init_9 : decode cX1_init 9 = .ok (.invokespecial 9, 3) := by decide +kernel
theorem dX1_init_12 : decode cX1_init 12 = .ok (.putfield 10, 3) := by decide +kernel
theorem dX1_init_15 : decode cX1_init 15 = .ok (.aload_n 0, 1) := by decide +kernel
theorem dX1_init_16 : decode cX1_init 16 = .ok (.new 7, 3) := by decide +kernel
theorem dX1_init_19 : decode cX1_init 19 = .ok (.dup, 1) := by decide +kernel
theorem dX1_init_20 : decode cX1_init 20 = .ok (.invokespecial 9, 3) := by decide +kernel
theorem dX1_init_23 : decode cX1_init 23 = .ok (.putfield 16, 3) := by decide +kernel
theorem dX1_init_26 : decode cX1_init 26 = .ok (.aload_n 0, 1) := by decide +kernel
theorem dX1_init_27 : decode cX1_init 27 = .ok (.sipush 300, 3) := by decide +kernel
theorem dX1_init_30 : decode cX1_init 30 = .ok (.newarray .byte, 2) := by decide +kernel
theorem dX1_init_32 : decode cX1_init 32 = .ok (.putfield 19, 3) := by decide +kernel
theorem dX1_init_35 : decode cX1_init 35 = .ok (.aload_n 0, 1) := by decide +kernel
theorem dX1_init_36 : decode cX1_init 36 = .ok (.iconst (-1), 1) := by decide +kernel
theorem dX1_init_37 : decode cX1_init 37 = .ok (.putfield 23, 3) := by decide +kernel
theorem dX1_init_40 : decode cX1_init 40 = .ok (.aload_n 0, 1) := by decide +kernel
theorem dX1_init_41 : decode cX1_init 41 = .ok (.iconst (-1), 1) := by decide +kernel
theorem dX1_init_42 : decode cX1_init 42 = .ok (.putfield 27, 3) := by decide +kernel
theorem dX1_init_45 : decode cX1_init 45 = .ok (.aload_n 0, 1) := by decide +kernel
theorem dX1_init_46 : decode cX1_init 46 = .ok (.sipush 576, 3) := by decide +kernel
theorem dX1_init_49 : decode cX1_init 49 = .ok (.newarray .int, 2) := by decide +kernel
theorem dX1_init_51 : decode cX1_init 51 = .ok (.putfield 30, 3) := by decide +kernel
theorem dX1_init_54 : decode cX1_init 54 = .ok (.aload_n 0, 1) := by decide +kernel
theorem dX1_init_55 : decode cX1_init 55 = .ok (.bipush 16, 2) := by decide +kernel
theorem dX1_init_57 : decode cX1_init 57 = .ok (.newarray .int, 2) := by decide +kernel
theorem dX1_init_59 : decode cX1_init 59 = .ok (.putfield 34, 3) := by decide +kernel
theorem dX1_init_62 : decode cX1_init 62 = .ok (.aload_n 0, 1) := by decide +kernel
theorem dX1_init_63 : decode cX1_init 63 = .ok (.new 37, 3) := by decide +kernel
theorem dX1_init_66 : decode cX1_init 66 = .ok (.dup, 1) := by decide +kernel
theorem dX1_init_67 : decode cX1_init 67 = .ok (.invokespecial 39, 3) := by decide +kernel
theorem dX1_init_70 : decode cX1_init 70 = .ok (.putfield 40, 3) := by decide +kernel
theorem dX1_init_73 : decode cX1_init 73 = .ok (.aload_n 0, 1) := by decide +kernel
theorem dX1_init_74 : decode cX1_init 74 = .ok (.iconst 4, 1) := by decide +kernel
theorem dX1_init_75 : decode cX1_init 75 = .ok (.bipush 24, 2) := by decide +kernel
theorem dX1_init_77 : decode cX1_init 77 = .ok (.iload_n 1, 1) := by decide +kernel
theorem dX1_init_78 : decode cX1_init 78 = .ok (.invokestatic 44, 3) := by decide +kernel
theorem dX1_init_81 : decode cX1_init 81 = .ok (.invokestatic 50, 3) := by decide +kernel
theorem dX1_init_84 : decode cX1_init 84 = .ok (.putfield 53, 3) := by decide +kernel
theorem dX1_init_87 : decode cX1_init 87 = .ok (.aload_n 0, 1) := by decide +kernel
theorem dX1_init_88 : decode cX1_init 88 = .ok (.iconst 4, 1) := by decide +kernel
theorem dX1_init_89 : decode cX1_init 89 = .ok (.bipush 24, 2) := by decide +kernel
theorem dX1_init_91 : decode cX1_init 91 = .ok (.iload_n 2, 1) := by decide +kernel
theorem dX1_init_92 : decode cX1_init 92 = .ok (.invokestatic 44, 3) := by decide +kernel
theorem dX1_init_95 : decode cX1_init 95 = .ok (.invokestatic 50, 3) := by decide +kernel
theorem dX1_init_98 : decode cX1_init 98 = .ok (.putfield 56, 3) := by decide +kernel
theorem dX1_init_101 : decode cX1_init 101 = .ok (.aload_n 0, 1) := by decide +kernel
theorem dX1_init_102 : decode cX1_init 102 = .ok (.getfield 10, 3) := by decide +kernel
theorem dX1_init_105 : decode cX1_init 105 = .ok (.getfield 59, 3) := by decide +kernel
theorem dX1_init_108 : decode cX1_init 108 = .ok (.iconst 5, 1) := by decide +kernel
theorem dX1_init_109 : decode cX1_init 109 = .ok (.iconst (-1), 1) := by decide +kernel
theorem dX1_init_110 : decode cX1_init 110 = .ok (.iastore, 1) := by decide +kernel
theorem dX1_init_111 : decode cX1_init 111 = .ok (.aload_n 0, 1) := by decide +kernel
theorem dX1_init_112 : decode cX1_init 112 = .ok (.getfield 16, 3) := by decide +kernel
theorem dX1_init_115 : decode cX1_init 115 = .ok (.aload_n 0, 1) := by decide +kernel
theorem dX1_init_116 : decode cX1_init 116 = .ok (.getfield 10, 3) := by decide +kernel
theorem dX1_init_119 : decode cX1_init 119 = .ok (.invokevirtual 62, 3) := by decide +kernel
theorem dX1_init_122 : decode cX1_init 122 = .ok (.return_, 1) := by decide +kernel
abbrev cX1_mark : ByteArray := prog_1_method_8_code
def yX1_mark : MethodName := ⟨RX1, "mark", "(II)Z"⟩
theorem dX1_mark_0 : decode cX1_mark 0 = .ok (.aload_n 0, 1) := by decide +kernel
theorem dX1_mark_1 : decode cX1_mark 1 = .ok (.iload_n 1, 1) := by decide +kernel
theorem dX1_mark_2 : decode cX1_mark 2 = .ok (.invokevirtual 76, 3) := by decide +kernel
theorem dX1_mark_5 : decode cX1_mark 5 = .ok (.ifCond .eq 14, 3) := by decide +kernel
theorem dX1_mark_8 : decode cX1_mark 8 = .ok (.iload_n 2, 1) := by decide +kernel
theorem dX1_mark_9 : decode cX1_mark 9 = .ok (.iconst 0, 1) := by decide +kernel
theorem dX1_mark_10 : decode cX1_mark 10 = .ok (.sipush 255, 3) := by decide +kernel
theorem dX1_mark_13 : decode cX1_mark 13 = .ok (.invokestatic 66, 3) := by decide +kernel
theorem dX1_mark_16 : decode cX1_mark 16 = .ok (.ifCond .ne 5, 3) := by decide +kernel
theorem dX1_mark_19 : decode cX1_mark 19 = .ok (.iconst 0, 1) := by decide +kernel
theorem dX1_mark_20 : decode cX1_mark 20 = .ok (.ireturn, 1) := by decide +kernel
theorem dX1_mark_21 : decode cX1_mark 21 = .ok (.aload_n 0, 1) := by decide +kernel
theorem dX1_mark_22 : decode cX1_mark 22 = .ok (.getfield 10, 3) := by decide +kernel
theorem dX1_mark_25 : decode cX1_mark 25 = .ok (.getfield 80, 3) := by decide +kernel
theorem dX1_mark_28 : decode cX1_mark 28 = .ok (.iload_n 1, 1) := by decide +kernel
theorem dX1_mark_29 : decode cX1_mark 29 = .ok (.iload_n 2, 1) := by decide +kernel
theorem dX1_mark_30 : decode cX1_mark 30 = .ok (.iastore, 1) := by decide +kernel
theorem dX1_mark_31 : decode cX1_mark 31 = .ok (.iconst 1, 1) := by decide +kernel
theorem dX1_mark_32 : decode cX1_mark 32 = .ok (.ireturn, 1) := by decide +kernel
abbrev cX1_isCell : ByteArray := prog_1_method_4_code
def yX1_isCell : MethodName := ⟨RX1, "isCell", "(I)Z"⟩
theorem dX1_isCell_0 : decode cX1_isCell 0 = .ok (.iload_n 1, 1) := by decide +kernel
theorem dX1_isCell_1 : decode cX1_isCell 1 = .ok (.iconst 0, 1) := by decide +kernel
theorem dX1_isCell_2 : decode cX1_isCell 2 = .ok (.aload_n 0, 1) := by decide +kernel
theorem dX1_isCell_3 : decode cX1_isCell 3 = .ok (.getfield 53, 3) := by decide +kernel
theorem dX1_isCell_6 : decode cX1_isCell 6 = .ok (.aload_n 0, 1) := by decide +kernel
theorem dX1_isCell_7 : decode cX1_isCell 7 = .ok (.getfield 56, 3) := by decide +kernel
theorem dX1_isCell_10 : decode cX1_isCell 10 = .ok (.imul, 1) := by decide +kernel
theorem dX1_isCell_11 : decode cX1_isCell 11 = .ok (.iconst 1, 1) := by decide +kernel
theorem dX1_isCell_12 : decode cX1_isCell 12 = .ok (.isub, 1) := by decide +kernel
theorem dX1_isCell_13 : decode cX1_isCell 13 = .ok (.invokestatic 66, 3) := by decide +kernel
theorem dX1_isCell_16 : decode cX1_isCell 16 = .ok (.ireturn, 1) := by decide +kernel
abbrev cX1_in : ByteArray := prog_1_method_2_code
def yX1_in : MethodName := ⟨RX1, "in", "(III)Z"⟩
theorem dX1_in_0 : decode cX1_in 0 = .ok (.iload_n 0, 1) := by decide +kernel
theorem dX1_in_1 : decode cX1_in 1 = .ok (.iload_n 1, 1) := by decide +kernel
theorem dX1_in_2 : decode cX1_in 2 = .ok (.if_icmp .lt 12, 3) := by decide +kernel
theorem dX1_in_5 : decode cX1_in 5 = .ok (.iload_n 0, 1) := by decide +kernel
theorem dX1_in_6 : decode cX1_in 6 = .ok (.iload_n 2, 1) := by decide +kernel
theorem dX1_in_7 : decode cX1_in 7 = .ok (.if_icmp .gt 7, 3) := by decide +kernel
theorem dX1_in_10 : decode cX1_in 10 = .ok (.iconst 1, 1) := by decide +kernel
theorem dX1_in_11 : decode cX1_in 11 = .ok (.goto 4, 3) := by decide +kernel
theorem dX1_in_14 : decode cX1_in 14 = .ok (.iconst 0, 1) := by decide +kernel
theorem dX1_in_15 : decode cX1_in 15 = .ok (.ireturn, 1) := by decide +kernel
abbrev cX1_body : ByteArray := prog_1_method_10_code
def yX1_body : MethodName := ⟨RX1, "body", "(IIII)I"⟩
theorem dX1_body_0 : decode cX1_body 0 = .ok (.aload_n 0, 1) := by decide +kernel
theorem dX1_body_1 : decode cX1_body 1 = .ok (.iload_n 1, 1) := by decide +kernel
theorem dX1_body_2 : decode cX1_body 2 = .ok (.invokevirtual 76, 3) := by decide +kernel
theorem dX1_body_5 : decode cX1_body 5 = .ok (.ifCond .eq 43, 3) := by decide +kernel
theorem dX1_body_8 : decode cX1_body 8 = .ok (.iload_n 2, 1) := by decide +kernel
theorem dX1_body_9 : decode cX1_body 9 = .ok (.invokestatic 83, 3) := by decide +kernel
theorem dX1_body_12 : decode cX1_body 12 = .ok (.ifCond .eq 36, 3) := by decide +kernel
theorem dX1_body_15 : decode cX1_body 15 = .ok (.iload_n 3, 1) := by decide +kernel
theorem dX1_body_16 : decode cX1_body 16 = .ok (.invokestatic 83, 3) := by decide +kernel
theorem dX1_body_19 : decode cX1_body 19 = .ok (.ifCond .eq 29, 3) := by decide +kernel
theorem dX1_body_22 : decode cX1_body 22 = .ok (.iload 4, 2) := by decide +kernel
theorem dX1_body_24 : decode cX1_body 24 = .ok (.iconst 1, 1) := by decide +kernel
theorem dX1_body_25 : decode cX1_body 25 = .ok (.sipush 255, 3) := by decide +kernel
theorem dX1_body_28 : decode cX1_body 28 = .ok (.invokestatic 66, 3) := by decide +kernel
theorem dX1_body_31 : decode cX1_body 31 = .ok (.ifCond .eq 17, 3) := by decide +kernel
theorem dX1_body_34 : decode cX1_body 34 = .ok (.aload_n 0, 1) := by decide +kernel
theorem dX1_body_35 : decode cX1_body 35 = .ok (.getfield 10, 3) := by decide +kernel
theorem dX1_body_38 : decode cX1_body 38 = .ok (.getfield 59, 3) := by decide +kernel
theorem dX1_body_41 : decode cX1_body 41 = .ok (.iconst 0, 1) := by decide +kernel
theorem dX1_body_42 : decode cX1_body 42 = .ok (.iaload, 1) := by decide +kernel
theorem dX1_body_43 : decode cX1_body 43 = .ok (.bipush 6, 2) := by decide +kernel
theorem dX1_body_45 : decode cX1_body 45 = .ok (.if_icmp .ne 7, 3) := by decide +kernel
theorem dX1_body_48 : decode cX1_body 48 = .ok (.iconst (-1), 1) := by decide +kernel
theorem dX1_body_49 : decode cX1_body 49 = .ok (.goto 45, 3) := by decide +kernel
theorem dX1_body_52 : decode cX1_body 52 = .ok (.aload_n 0, 1) := by decide +kernel
theorem dX1_body_53 : decode cX1_body 53 = .ok (.iconst 0, 1) := by decide +kernel
theorem dX1_body_54 : decode cX1_body 54 = .ok (.aload_n 0, 1) := by decide +kernel
theorem dX1_body_55 : decode cX1_body 55 = .ok (.getfield 10, 3) := by decide +kernel
theorem dX1_body_58 : decode cX1_body 58 = .ok (.getfield 86, 3) := by decide +kernel
theorem dX1_body_61 : decode cX1_body 61 = .ok (.aload_n 0, 1) := by decide +kernel
theorem dX1_body_62 : decode cX1_body 62 = .ok (.getfield 10, 3) := by decide +kernel
theorem dX1_body_65 : decode cX1_body 65 = .ok (.getfield 59, 3) := by decide +kernel
theorem dX1_body_68 : decode cX1_body 68 = .ok (.iconst 0, 1) := by decide +kernel
theorem dX1_body_69 : decode cX1_body 69 = .ok (.iaload, 1) := by decide +kernel
theorem dX1_body_70 : decode cX1_body 70 = .ok (.aaload, 1) := by decide +kernel
theorem dX1_body_71 : decode cX1_body 71 = .ok (.iconst 4, 1) := by decide +kernel
theorem dX1_body_72 : decode cX1_body 72 = .ok (.newarray .int, 2) := by decide +kernel
theorem dX1_body_74 : decode cX1_body 74 = .ok (.dup, 1) := by decide +kernel
theorem dX1_body_75 : decode cX1_body 75 = .ok (.iconst 0, 1) := by decide +kernel
theorem dX1_body_76 : decode cX1_body 76 = .ok (.iload_n 1, 1) := by decide +kernel
theorem dX1_body_77 : decode cX1_body 77 = .ok (.iastore, 1) := by decide +kernel
theorem dX1_body_78 : decode cX1_body 78 = .ok (.dup, 1) := by decide +kernel
theorem dX1_body_79 : decode cX1_body 79 = .ok (.iconst 1, 1) := by decide +kernel
theorem dX1_body_80 : decode cX1_body 80 = .ok (.iload_n 2, 1) := by decide +kernel
theorem dX1_body_81 : decode cX1_body 81 = .ok (.iastore, 1) := by decide +kernel
theorem dX1_body_82 : decode cX1_body 82 = .ok (.dup, 1) := by decide +kernel
theorem dX1_body_83 : decode cX1_body 83 = .ok (.iconst 2, 1) := by decide +kernel
theorem dX1_body_84 : decode cX1_body 84 = .ok (.iload_n 3, 1) := by decide +kernel
theorem dX1_body_85 : decode cX1_body 85 = .ok (.iastore, 1) := by decide +kernel
theorem dX1_body_86 : decode cX1_body 86 = .ok (.dup, 1) := by decide +kernel
theorem dX1_body_87 : decode cX1_body 87 = .ok (.iconst 3, 1) := by decide +kernel
theorem dX1_body_88 : decode cX1_body 88 = .ok (.iload 4, 2) := by decide +kernel
theorem dX1_body_90 : decode cX1_body 90 = .ok (.iastore, 1) := by decide +kernel
theorem dX1_body_91 : decode cX1_body 91 = .ok (.invokevirtual 90, 3) := by decide +kernel
theorem dX1_body_94 : decode cX1_body 94 = .ok (.ireturn, 1) := by decide +kernel
abbrev cX1_isWay : ByteArray := prog_1_method_9_code
def yX1_isWay : MethodName := ⟨RX1, "isWay", "(I)Z"⟩
theorem dX1_isWay_0 : decode cX1_isWay 0 = .ok (.iload_n 0, 1) := by decide +kernel
theorem dX1_isWay_1 : decode cX1_isWay 1 = .ok (.bipush (-2), 2) := by decide +kernel
theorem dX1_isWay_3 : decode cX1_isWay 3 = .ok (.iconst 2, 1) := by decide +kernel
theorem dX1_isWay_4 : decode cX1_isWay 4 = .ok (.invokestatic 66, 3) := by decide +kernel
theorem dX1_isWay_7 : decode cX1_isWay 7 = .ok (.ireturn, 1) := by decide +kernel
abbrev cX1_adds : ByteArray := prog_1_method_7_code
def yX1_adds : MethodName := ⟨RX1, "adds", "(I[I[I)I"⟩
theorem dX1_adds_0 : decode cX1_adds 0 = .ok (.aload_n 3, 1) := by decide +kernel
theorem dX1_adds_1 : decode cX1_adds 1 = .ok (.iconst 0, 1) := by decide +kernel
theorem dX1_adds_2 : decode cX1_adds 2 = .ok (.aload_n 2, 1) := by decide +kernel
theorem dX1_adds_3 : decode cX1_adds 3 = .ok (.iconst 0, 1) := by decide +kernel
theorem dX1_adds_4 : decode cX1_adds 4 = .ok (.aload_n 3, 1) := by decide +kernel
theorem dX1_adds_5 : decode cX1_adds 5 = .ok (.arraylength, 1) := by decide +kernel
theorem dX1_adds_6 : decode cX1_adds 6 = .ok (.invokestatic 70, 3) := by decide +kernel
theorem dX1_adds_9 : decode cX1_adds 9 = .ok (.aload_n 0, 1) := by decide +kernel
theorem dX1_adds_10 : decode cX1_adds 10 = .ok (.getfield 10, 3) := by decide +kernel
theorem dX1_adds_13 : decode cX1_adds 13 = .ok (.getfield 59, 3) := by decide +kernel
theorem dX1_adds_16 : decode cX1_adds 16 = .ok (.iload_n 1, 1) := by decide +kernel
theorem dX1_adds_17 : decode cX1_adds 17 = .ok (.dup2, 1) := by decide +kernel
theorem dX1_adds_18 : decode cX1_adds 18 = .ok (.iaload, 1) := by decide +kernel
theorem dX1_adds_19 : decode cX1_adds 19 = .ok (.iconst 1, 1) := by decide +kernel
theorem dX1_adds_20 : decode cX1_adds 20 = .ok (.iadd, 1) := by decide +kernel
theorem dX1_adds_21 : decode cX1_adds 21 = .ok (.iastore, 1) := by decide +kernel
theorem dX1_adds_22 : decode cX1_adds 22 = .ok (.aload_n 0, 1) := by decide +kernel
theorem dX1_adds_23 : decode cX1_adds 23 = .ok (.getfield 10, 3) := by decide +kernel
theorem dX1_adds_26 : decode cX1_adds 26 = .ok (.getfield 59, 3) := by decide +kernel
theorem dX1_adds_29 : decode cX1_adds 29 = .ok (.iload_n 1, 1) := by decide +kernel
theorem dX1_adds_30 : decode cX1_adds 30 = .ok (.iaload, 1) := by decide +kernel
theorem dX1_adds_31 : decode cX1_adds 31 = .ok (.iconst 1, 1) := by decide +kernel
theorem dX1_adds_32 : decode cX1_adds 32 = .ok (.isub, 1) := by decide +kernel
theorem dX1_adds_33 : decode cX1_adds 33 = .ok (.ireturn, 1) := by decide +kernel
abbrev cX1_markOf : ByteArray := prog_1_method_12_code
def yX1_markOf : MethodName := ⟨RX1, "markOf", "(II)I"⟩
theorem dX1_markOf_0 : decode cX1_markOf 0 = .ok (.aload_n 0, 1) := by decide +kernel
theorem dX1_markOf_1 : decode cX1_markOf 1 = .ok (.iload_n 1, 1) := by decide +kernel
theorem dX1_markOf_2 : decode cX1_markOf 2 = .ok (.invokevirtual 76, 3) := by decide +kernel
theorem dX1_markOf_5 : decode cX1_markOf 5 = .ok (.ifCond .eq 14, 3) := by decide +kernel
theorem dX1_markOf_8 : decode cX1_markOf 8 = .ok (.iload_n 2, 1) := by decide +kernel
theorem dX1_markOf_9 : decode cX1_markOf 9 = .ok (.iconst 0, 1) := by decide +kernel
theorem dX1_markOf_10 : decode cX1_markOf 10 = .ok (.sipush 999, 3) := by decide +kernel
theorem dX1_markOf_13 : decode cX1_markOf 13 = .ok (.invokestatic 66, 3) := by decide +kernel
theorem dX1_markOf_16 : decode cX1_markOf 16 = .ok (.ifCond .ne 5, 3) := by decide +kernel
theorem dX1_markOf_19 : decode cX1_markOf 19 = .ok (.iconst (-1), 1) := by decide +kernel
theorem dX1_markOf_20 : decode cX1_markOf 20 = .ok (.ireturn, 1) := by decide +kernel
theorem dX1_markOf_21 : decode cX1_markOf 21 = .ok (.aload_n 0, 1) := by decide +kernel
theorem dX1_markOf_22 : decode cX1_markOf 22 = .ok (.iload_n 2, 1) := by decide +kernel
theorem dX1_markOf_23 : decode cX1_markOf 23 = .ok (.invokevirtual 94, 3) := by decide +kernel
theorem dX1_markOf_26 : decode cX1_markOf 26 = .ok (.aload_n 0, 1) := by decide +kernel
theorem dX1_markOf_27 : decode cX1_markOf 27 = .ok (.getfield 30, 3) := by decide +kernel
theorem dX1_markOf_30 : decode cX1_markOf 30 = .ok (.iload_n 1, 1) := by decide +kernel
theorem dX1_markOf_31 : decode cX1_markOf 31 = .ok (.iaload, 1) := by decide +kernel
theorem dX1_markOf_32 : decode cX1_markOf 32 = .ok (.ireturn, 1) := by decide +kernel
abbrev cX1_lays : ByteArray := prog_1_method_11_code
def yX1_lays : MethodName := ⟨RX1, "lays", "(I)V"⟩
theorem dX1_lays_0 : decode cX1_lays 0 = .ok (.aload_n 0, 1) := by decide +kernel
theorem dX1_lays_1 : decode cX1_lays 1 = .ok (.getfield 10, 3) := by decide +kernel
theorem dX1_lays_4 : decode cX1_lays 4 = .ok (.getfield 80, 3) := by decide +kernel
theorem dX1_lays_7 : decode cX1_lays 7 = .ok (.iconst 0, 1) := by decide +kernel
theorem dX1_lays_8 : decode cX1_lays 8 = .ok (.aload_n 0, 1) := by decide +kernel
theorem dX1_lays_9 : decode cX1_lays 9 = .ok (.getfield 30, 3) := by decide +kernel
theorem dX1_lays_12 : decode cX1_lays 12 = .ok (.iconst 0, 1) := by decide +kernel
theorem dX1_lays_13 : decode cX1_lays 13 = .ok (.aload_n 0, 1) := by decide +kernel
theorem dX1_lays_14 : decode cX1_lays 14 = .ok (.getfield 53, 3) := by decide +kernel
theorem dX1_lays_17 : decode cX1_lays 17 = .ok (.aload_n 0, 1) := by decide +kernel
theorem dX1_lays_18 : decode cX1_lays 18 = .ok (.getfield 56, 3) := by decide +kernel
theorem dX1_lays_21 : decode cX1_lays 21 = .ok (.imul, 1) := by decide +kernel
theorem dX1_lays_22 : decode cX1_lays 22 = .ok (.invokestatic 70, 3) := by decide +kernel
theorem dX1_lays_25 : decode cX1_lays 25 = .ok (.aload_n 0, 1) := by decide +kernel
theorem dX1_lays_26 : decode cX1_lays 26 = .ok (.getfield 10, 3) := by decide +kernel
theorem dX1_lays_29 : decode cX1_lays 29 = .ok (.getfield 59, 3) := by decide +kernel
theorem dX1_lays_32 : decode cX1_lays 32 = .ok (.iconst 0, 1) := by decide +kernel
theorem dX1_lays_33 : decode cX1_lays 33 = .ok (.iaload, 1) := by decide +kernel
theorem dX1_lays_34 : decode cX1_lays 34 = .ok (.iconst 1, 1) := by decide +kernel
theorem dX1_lays_35 : decode cX1_lays 35 = .ok (.isub, 1) := by decide +kernel
theorem dX1_lays_36 : decode cX1_lays 36 = .ok (.istore_n 2, 1) := by decide +kernel
theorem dX1_lays_37 : decode cX1_lays 37 = .ok (.iload_n 2, 1) := by decide +kernel
theorem dX1_lays_38 : decode cX1_lays 38 = .ok (.ifCond .lt 99, 3) := by decide +kernel
theorem dX1_lays_41 : decode cX1_lays 41 = .ok (.aload_n 0, 1) := by decide +kernel
theorem dX1_lays_42 : decode cX1_lays 42 = .ok (.getfield 10, 3) := by decide +kernel
theorem dX1_lays_45 : decode cX1_lays 45 = .ok (.getfield 86, 3) := by decide +kernel
theorem dX1_lays_48 : decode cX1_lays 48 = .ok (.iload_n 2, 1) := by decide +kernel
theorem dX1_lays_49 : decode cX1_lays 49 = .ok (.aaload, 1) := by decide +kernel
theorem dX1_lays_50 : decode cX1_lays 50 = .ok (.astore_n 3, 1) := by decide +kernel
theorem dX1_lays_51 : decode cX1_lays 51 = .ok (.aload_n 3, 1) := by decide +kernel
theorem dX1_lays_52 : decode cX1_lays 52 = .ok (.iconst 0, 1) := by decide +kernel
theorem dX1_lays_53 : decode cX1_lays 53 = .ok (.iaload, 1) := by decide +kernel
theorem dX1_lays_54 : decode cX1_lays 54 = .ok (.aload_n 0, 1) := by decide +kernel
theorem dX1_lays_55 : decode cX1_lays 55 = .ok (.getfield 53, 3) := by decide +kernel
theorem dX1_lays_58 : decode cX1_lays 58 = .ok (.irem, 1) := by decide +kernel
theorem dX1_lays_59 : decode cX1_lays 59 = .ok (.iload_n 1, 1) := by decide +kernel
theorem dX1_lays_60 : decode cX1_lays 60 = .ok (.aload_n 3, 1) := by decide +kernel
theorem dX1_lays_61 : decode cX1_lays 61 = .ok (.iconst 1, 1) := by decide +kernel
theorem dX1_lays_62 : decode cX1_lays 62 = .ok (.iaload, 1) := by decide +kernel
theorem dX1_lays_63 : decode cX1_lays 63 = .ok (.imul, 1) := by decide +kernel
theorem dX1_lays_64 : decode cX1_lays 64 = .ok (.iadd, 1) := by decide +kernel
theorem dX1_lays_65 : decode cX1_lays 65 = .ok (.istore 4, 2) := by decide +kernel
theorem dX1_lays_67 : decode cX1_lays 67 = .ok (.aload_n 3, 1) := by decide +kernel
theorem dX1_lays_68 : decode cX1_lays 68 = .ok (.iconst 0, 1) := by decide +kernel
theorem dX1_lays_69 : decode cX1_lays 69 = .ok (.iaload, 1) := by decide +kernel
theorem dX1_lays_70 : decode cX1_lays 70 = .ok (.aload_n 0, 1) := by decide +kernel
theorem dX1_lays_71 : decode cX1_lays 71 = .ok (.getfield 53, 3) := by decide +kernel
theorem dX1_lays_74 : decode cX1_lays 74 = .ok (.idiv, 1) := by decide +kernel
theorem dX1_lays_75 : decode cX1_lays 75 = .ok (.iload_n 1, 1) := by decide +kernel
theorem dX1_lays_76 : decode cX1_lays 76 = .ok (.aload_n 3, 1) := by decide +kernel
theorem dX1_lays_77 : decode cX1_lays 77 = .ok (.iconst 2, 1) := by decide +kernel
theorem dX1_lays_78 : decode cX1_lays 78 = .ok (.iaload, 1) := by decide +kernel
theorem dX1_lays_79 : decode cX1_lays 79 = .ok (.imul, 1) := by decide +kernel
theorem dX1_lays_80 : decode cX1_lays 80 = .ok (.iadd, 1) := by decide +kernel
theorem dX1_lays_81 : decode cX1_lays 81 = .ok (.istore 5, 2) := by decide +kernel
theorem dX1_lays_83 : decode cX1_lays 83 = .ok (.iload 4, 2) := by decide +kernel
theorem dX1_lays_85 : decode cX1_lays 85 = .ok (.iconst 0, 1) := by decide +kernel
theorem dX1_lays_86 : decode cX1_lays 86 = .ok (.aload_n 0, 1) := by decide +kernel
theorem dX1_lays_87 : decode cX1_lays 87 = .ok (.getfield 53, 3) := by decide +kernel
theorem dX1_lays_90 : decode cX1_lays 90 = .ok (.iconst 1, 1) := by decide +kernel
theorem dX1_lays_91 : decode cX1_lays 91 = .ok (.isub, 1) := by decide +kernel
theorem dX1_lays_92 : decode cX1_lays 92 = .ok (.invokestatic 66, 3) := by decide +kernel
theorem dX1_lays_95 : decode cX1_lays 95 = .ok (.ifCond .eq 36, 3) := by decide +kernel
theorem dX1_lays_98 : decode cX1_lays 98 = .ok (.iload 5, 2) := by decide +kernel
theorem dX1_lays_100 : decode cX1_lays 100 = .ok (.iconst 0, 1) := by decide +kernel
theorem dX1_lays_101 : decode cX1_lays 101 = .ok (.aload_n 0, 1) := by decide +kernel
theorem dX1_lays_102 : decode cX1_lays 102 = .ok (.getfield 56, 3) := by decide +kernel
theorem dX1_lays_105 : decode cX1_lays 105 = .ok (.iconst 1, 1) := by decide +kernel
theorem dX1_lays_106 : decode cX1_lays 106 = .ok (.isub, 1) := by decide +kernel
theorem dX1_lays_107 : decode cX1_lays 107 = .ok (.invokestatic 66, 3) := by decide +kernel
theorem dX1_lays_110 : decode cX1_lays 110 = .ok (.ifCond .eq 21, 3) := by decide +kernel
theorem dX1_lays_113 : decode cX1_lays 113 = .ok (.aload_n 0, 1) := by decide +kernel
theorem dX1_lays_114 : decode cX1_lays 114 = .ok (.getfield 30, 3) := by decide +kernel
theorem dX1_lays_117 : decode cX1_lays 117 = .ok (.iload 5, 2) := by decide +kernel
theorem dX1_lays_119 : decode cX1_lays 119 = .ok (.aload_n 0, 1) := by decide +kernel
theorem dX1_lays_120 : decode cX1_lays 120 = .ok (.getfield 53, 3) := by decide +kernel
theorem dX1_lays_123 : decode cX1_lays 123 = .ok (.imul, 1) := by decide +kernel
theorem dX1_lays_124 : decode cX1_lays 124 = .ok (.iload 4, 2) := by decide +kernel
theorem dX1_lays_126 : decode cX1_lays 126 = .ok (.iadd, 1) := by decide +kernel
theorem dX1_lays_127 : decode cX1_lays 127 = .ok (.aload_n 3, 1) := by decide +kernel
theorem dX1_lays_128 : decode cX1_lays 128 = .ok (.iconst 3, 1) := by decide +kernel
theorem dX1_lays_129 : decode cX1_lays 129 = .ok (.iaload, 1) := by decide +kernel
theorem dX1_lays_130 : decode cX1_lays 130 = .ok (.iastore, 1) := by decide +kernel
theorem dX1_lays_131 : decode cX1_lays 131 = .ok (.iinc 2 (-1), 3) := by decide +kernel
theorem dX1_lays_134 : decode cX1_lays 134 = .ok (.goto (-97), 3) := by decide +kernel
theorem dX1_lays_137 : decode cX1_lays 137 = .ok (.return_, 1) := by decide +kernel
abbrev cX1_ray : ByteArray := prog_1_method_16_code
def yX1_ray : MethodName := ⟨RX1, "ray", "(IIIIZ)I"⟩
theorem dX1_ray_0 : decode cX1_ray 0 = .ok (.aload_n 0, 1) := by decide +kernel
theorem dX1_ray_1 : decode cX1_ray 1 = .ok (.iload_n 1, 1) := by decide +kernel
theorem dX1_ray_2 : decode cX1_ray 2 = .ok (.iload_n 2, 1) := by decide +kernel
theorem dX1_ray_3 : decode cX1_ray 3 = .ok (.invokevirtual 111, 3) := by decide +kernel
theorem dX1_ray_6 : decode cX1_ray 6 = .ok (.ifCond .eq 22, 3) := by decide +kernel
theorem dX1_ray_9 : decode cX1_ray 9 = .ok (.iload_n 3, 1) := by decide +kernel
theorem dX1_ray_10 : decode cX1_ray 10 = .ok (.invokestatic 115, 3) := by decide +kernel
theorem dX1_ray_13 : decode cX1_ray 13 = .ok (.ifCond .eq 15, 3) := by decide +kernel
theorem dX1_ray_16 : decode cX1_ray 16 = .ok (.iload 4, 2) := by decide +kernel
theorem dX1_ray_18 : decode cX1_ray 18 = .ok (.iconst 0, 1) := by decide +kernel
theorem dX1_ray_19 : decode cX1_ray 19 = .ok (.sipush 999, 3) := by decide +kernel
theorem dX1_ray_22 : decode cX1_ray 22 = .ok (.invokestatic 66, 3) := by decide +kernel
theorem dX1_ray_25 : decode cX1_ray 25 = .ok (.ifCond .ne 5, 3) := by decide +kernel
theorem dX1_ray_28 : decode cX1_ray 28 = .ok (.iconst (-1), 1) := by decide +kernel
theorem dX1_ray_29 : decode cX1_ray 29 = .ok (.ireturn, 1) := by decide +kernel
theorem dX1_ray_30 : decode cX1_ray 30 = .ok (.aload_n 0, 1) := by decide +kernel
theorem dX1_ray_31 : decode cX1_ray 31 = .ok (.iload 4, 2) := by decide +kernel
theorem dX1_ray_33 : decode cX1_ray 33 = .ok (.invokevirtual 94, 3) := by decide +kernel
theorem dX1_ray_36 : decode cX1_ray 36 = .ok (.aload_n 0, 1) := by decide +kernel
theorem dX1_ray_37 : decode cX1_ray 37 = .ok (.iload_n 1, 1) := by decide +kernel
theorem dX1_ray_38 : decode cX1_ray 38 = .ok (.iload_n 2, 1) := by decide +kernel
theorem dX1_ray_39 : decode cX1_ray 39 = .ok (.iload_n 3, 1) := by decide +kernel
theorem dX1_ray_40 : decode cX1_ray 40 = .ok (.invokevirtual 118, 3) := by decide +kernel
theorem dX1_ray_43 : decode cX1_ray 43 = .ok (.istore 6, 2) := by decide +kernel
theorem dX1_ray_45 : decode cX1_ray 45 = .ok (.iload 5, 2) := by decide +kernel
theorem dX1_ray_47 : decode cX1_ray 47 = .ok (.ifCond .eq 10, 3) := by decide +kernel
theorem dX1_ray_50 : decode cX1_ray 50 = .ok (.aload_n 0, 1) := by decide +kernel
theorem dX1_ray_51 : decode cX1_ray 51 = .ok (.getfield 105, 3) := by decide +kernel
theorem dX1_ray_54 : decode cX1_ray 54 = .ok (.goto 5, 3) := by decide +kernel
theorem dX1_ray_57 : decode cX1_ray 57 = .ok (.iload 6, 2) := by decide +kernel
theorem dX1_ray_59 : decode cX1_ray 59 = .ok (.ireturn, 1) := by decide +kernel
abbrev cX1_isPlace : ByteArray := prog_1_method_5_code
def yX1_isPlace : MethodName := ⟨RX1, "isPlace", "(II)Z"⟩
theorem dX1_isPlace_0 : decode cX1_isPlace 0 = .ok (.iload_n 1, 1) := by decide +kernel
theorem dX1_isPlace_1 : decode cX1_isPlace 1 = .ok (.iconst 0, 1) := by decide +kernel
theorem dX1_isPlace_2 : decode cX1_isPlace 2 = .ok (.bipush 16, 2) := by decide +kernel
theorem dX1_isPlace_4 : decode cX1_isPlace 4 = .ok (.aload_n 0, 1) := by decide +kernel
theorem dX1_isPlace_5 : decode cX1_isPlace 5 = .ok (.getfield 53, 3) := by decide +kernel
theorem dX1_isPlace_8 : decode cX1_isPlace 8 = .ok (.imul, 1) := by decide +kernel
theorem dX1_isPlace_9 : decode cX1_isPlace 9 = .ok (.iconst 1, 1) := by decide +kernel
theorem dX1_isPlace_10 : decode cX1_isPlace 10 = .ok (.isub, 1) := by decide +kernel
theorem dX1_isPlace_11 : decode cX1_isPlace 11 = .ok (.invokestatic 66, 3) := by decide +kernel
theorem dX1_isPlace_14 : decode cX1_isPlace 14 = .ok (.ifCond .eq 24, 3) := by decide +kernel
theorem dX1_isPlace_17 : decode cX1_isPlace 17 = .ok (.iload_n 2, 1) := by decide +kernel
theorem dX1_isPlace_18 : decode cX1_isPlace 18 = .ok (.iconst 0, 1) := by decide +kernel
theorem dX1_isPlace_19 : decode cX1_isPlace 19 = .ok (.bipush 16, 2) := by decide +kernel
theorem dX1_isPlace_21 : decode cX1_isPlace 21 = .ok (.aload_n 0, 1) := by decide +kernel
theorem dX1_isPlace_22 : decode cX1_isPlace 22 = .ok (.getfield 56, 3) := by decide +kernel
theorem dX1_isPlace_25 : decode cX1_isPlace 25 = .ok (.imul, 1) := by decide +kernel
theorem dX1_isPlace_26 : decode cX1_isPlace 26 = .ok (.iconst 1, 1) := by decide +kernel
theorem dX1_isPlace_27 : decode cX1_isPlace 27 = .ok (.isub, 1) := by decide +kernel
theorem dX1_isPlace_28 : decode cX1_isPlace 28 = .ok (.invokestatic 66, 3) := by decide +kernel
theorem dX1_isPlace_31 : decode cX1_isPlace 31 = .ok (.ifCond .eq 7, 3) := by decide +kernel
theorem dX1_isPlace_34 : decode cX1_isPlace 34 = .ok (.iconst 1, 1) := by decide +kernel
theorem dX1_isPlace_35 : decode cX1_isPlace 35 = .ok (.goto 4, 3) := by decide +kernel
theorem dX1_isPlace_38 : decode cX1_isPlace 38 = .ok (.iconst 0, 1) := by decide +kernel
theorem dX1_isPlace_39 : decode cX1_isPlace 39 = .ok (.ireturn, 1) := by decide +kernel
abbrev cX1_isHead : ByteArray := prog_1_method_6_code
def yX1_isHead : MethodName := ⟨RX1, "isHead", "(I)Z"⟩
theorem dX1_isHead_0 : decode cX1_isHead 0 = .ok (.iload_n 0, 1) := by decide +kernel
theorem dX1_isHead_1 : decode cX1_isHead 1 = .ok (.iconst 0, 1) := by decide +kernel
theorem dX1_isHead_2 : decode cX1_isHead 2 = .ok (.bipush 63, 2) := by decide +kernel
theorem dX1_isHead_4 : decode cX1_isHead 4 = .ok (.invokestatic 66, 3) := by decide +kernel
theorem dX1_isHead_7 : decode cX1_isHead 7 = .ok (.ireturn, 1) := by decide +kernel
abbrev cX1_rayOf : ByteArray := prog_1_method_15_code
def yX1_rayOf : MethodName := ⟨RX1, "rayOf", "(III)I"⟩
theorem dX1_rayOf_0 : decode cX1_rayOf 0 = .ok (.iload_n 3, 1) := by decide +kernel
theorem dX1_rayOf_1 : decode cX1_rayOf 1 = .ok (.invokestatic 98, 3) := by decide +kernel
theorem dX1_rayOf_4 : decode cX1_rayOf 4 = .ok (.istore 4, 2) := by decide +kernel
theorem dX1_rayOf_6 : decode cX1_rayOf 6 = .ok (.iload_n 3, 1) := by decide +kernel
theorem dX1_rayOf_7 : decode cX1_rayOf 7 = .ok (.invokestatic 102, 3) := by decide +kernel
theorem dX1_rayOf_10 : decode cX1_rayOf 10 = .ok (.istore 5, 2) := by decide +kernel
theorem dX1_rayOf_12 : decode cX1_rayOf 12 = .ok (.aload_n 0, 1) := by decide +kernel
theorem dX1_rayOf_13 : decode cX1_rayOf 13 = .ok (.iconst 1, 1) := by decide +kernel
theorem dX1_rayOf_14 : decode cX1_rayOf 14 = .ok (.putfield 105, 3) := by decide +kernel
theorem dX1_rayOf_17 : decode cX1_rayOf 17 = .ok (.aload_n 0, 1) := by decide +kernel
theorem dX1_rayOf_18 : decode cX1_rayOf 18 = .ok (.getfield 105, 3) := by decide +kernel
theorem dX1_rayOf_21 : decode cX1_rayOf 21 = .ok (.bipush 40, 2) := by decide +kernel
theorem dX1_rayOf_23 : decode cX1_rayOf 23 = .ok (.if_icmp .gt 115, 3) := by decide +kernel
theorem dX1_rayOf_26 : decode cX1_rayOf 26 = .ok (.iload_n 1, 1) := by decide +kernel
theorem dX1_rayOf_27 : decode cX1_rayOf 27 = .ok (.aload_n 0, 1) := by decide +kernel
theorem dX1_rayOf_28 : decode cX1_rayOf 28 = .ok (.getfield 105, 3) := by decide +kernel
theorem dX1_rayOf_31 : decode cX1_rayOf 31 = .ok (.iload 4, 2) := by decide +kernel
theorem dX1_rayOf_33 : decode cX1_rayOf 33 = .ok (.imul, 1) := by decide +kernel
theorem dX1_rayOf_34 : decode cX1_rayOf 34 = .ok (.iadd, 1) := by decide +kernel
theorem dX1_rayOf_35 : decode cX1_rayOf 35 = .ok (.bipush 16, 2) := by decide +kernel
theorem dX1_rayOf_37 : decode cX1_rayOf 37 = .ok (.invokestatic 108, 3) := by decide +kernel
theorem dX1_rayOf_40 : decode cX1_rayOf 40 = .ok (.istore 6, 2) := by decide +kernel
theorem dX1_rayOf_42 : decode cX1_rayOf 42 = .ok (.iload_n 2, 1) := by decide +kernel
theorem dX1_rayOf_43 : decode cX1_rayOf 43 = .ok (.aload_n 0, 1) := by decide +kernel
theorem dX1_rayOf_44 : decode cX1_rayOf 44 = .ok (.getfield 105, 3) := by decide +kernel
theorem dX1_rayOf_47 : decode cX1_rayOf 47 = .ok (.iload 5, 2) := by decide +kernel
theorem dX1_rayOf_49 : decode cX1_rayOf 49 = .ok (.imul, 1) := by decide +kernel
theorem dX1_rayOf_50 : decode cX1_rayOf 50 = .ok (.iadd, 1) := by decide +kernel
theorem dX1_rayOf_51 : decode cX1_rayOf 51 = .ok (.bipush 16, 2) := by decide +kernel
theorem dX1_rayOf_53 : decode cX1_rayOf 53 = .ok (.invokestatic 108, 3) := by decide +kernel
theorem dX1_rayOf_56 : decode cX1_rayOf 56 = .ok (.istore 7, 2) := by decide +kernel
theorem dX1_rayOf_58 : decode cX1_rayOf 58 = .ok (.iload 6, 2) := by decide +kernel
theorem dX1_rayOf_60 : decode cX1_rayOf 60 = .ok (.iconst 0, 1) := by decide +kernel
theorem dX1_rayOf_61 : decode cX1_rayOf 61 = .ok (.aload_n 0, 1) := by decide +kernel
theorem dX1_rayOf_62 : decode cX1_rayOf 62 = .ok (.getfield 53, 3) := by decide +kernel
theorem dX1_rayOf_65 : decode cX1_rayOf 65 = .ok (.iconst 1, 1) := by decide +kernel
theorem dX1_rayOf_66 : decode cX1_rayOf 66 = .ok (.isub, 1) := by decide +kernel
theorem dX1_rayOf_67 : decode cX1_rayOf 67 = .ok (.invokestatic 66, 3) := by decide +kernel
theorem dX1_rayOf_70 : decode cX1_rayOf 70 = .ok (.ifCond .eq 68, 3) := by decide +kernel
theorem dX1_rayOf_73 : decode cX1_rayOf 73 = .ok (.iload 7, 2) := by decide +kernel
theorem dX1_rayOf_75 : decode cX1_rayOf 75 = .ok (.iconst 0, 1) := by decide +kernel
theorem dX1_rayOf_76 : decode cX1_rayOf 76 = .ok (.aload_n 0, 1) := by decide +kernel
theorem dX1_rayOf_77 : decode cX1_rayOf 77 = .ok (.getfield 56, 3) := by decide +kernel
theorem dX1_rayOf_80 : decode cX1_rayOf 80 = .ok (.iconst 1, 1) := by decide +kernel
theorem dX1_rayOf_81 : decode cX1_rayOf 81 = .ok (.isub, 1) := by decide +kernel
theorem dX1_rayOf_82 : decode cX1_rayOf 82 = .ok (.invokestatic 66, 3) := by decide +kernel
theorem dX1_rayOf_85 : decode cX1_rayOf 85 = .ok (.ifCond .ne 6, 3) := by decide +kernel
theorem dX1_rayOf_88 : decode cX1_rayOf 88 = .ok (.goto 50, 3) := by decide +kernel
theorem dX1_rayOf_91 : decode cX1_rayOf 91 = .ok (.aload_n 0, 1) := by decide +kernel
theorem dX1_rayOf_92 : decode cX1_rayOf 92 = .ok (.getfield 30, 3) := by decide +kernel
theorem dX1_rayOf_95 : decode cX1_rayOf 95 = .ok (.iload 7, 2) := by decide +kernel
theorem dX1_rayOf_97 : decode cX1_rayOf 97 = .ok (.aload_n 0, 1) := by decide +kernel
theorem dX1_rayOf_98 : decode cX1_rayOf 98 = .ok (.getfield 53, 3) := by decide +kernel
theorem dX1_rayOf_101 : decode cX1_rayOf 101 = .ok (.imul, 1) := by decide +kernel
theorem dX1_rayOf_102 : decode cX1_rayOf 102 = .ok (.iload 6, 2) := by decide +kernel
theorem dX1_rayOf_104 : decode cX1_rayOf 104 = .ok (.iadd, 1) := by decide +kernel
theorem dX1_rayOf_105 : decode cX1_rayOf 105 = .ok (.iaload, 1) := by decide +kernel
theorem dX1_rayOf_106 : decode cX1_rayOf 106 = .ok (.ifCond .le 19, 3) := by decide +kernel
theorem dX1_rayOf_109 : decode cX1_rayOf 109 = .ok (.aload_n 0, 1) := by decide +kernel
theorem dX1_rayOf_110 : decode cX1_rayOf 110 = .ok (.getfield 30, 3) := by decide +kernel
theorem dX1_rayOf_113 : decode cX1_rayOf 113 = .ok (.iload 7, 2) := by decide +kernel
theorem dX1_rayOf_115 : decode cX1_rayOf 115 = .ok (.aload_n 0, 1) := by decide +kernel
theorem dX1_rayOf_116 : decode cX1_rayOf 116 = .ok (.getfield 53, 3) := by decide +kernel
theorem dX1_rayOf_119 : decode cX1_rayOf 119 = .ok (.imul, 1) := by decide +kernel
theorem dX1_rayOf_120 : decode cX1_rayOf 120 = .ok (.iload 6, 2) := by decide +kernel
theorem dX1_rayOf_122 : decode cX1_rayOf 122 = .ok (.iadd, 1) := by decide +kernel
theorem dX1_rayOf_123 : decode cX1_rayOf 123 = .ok (.iaload, 1) := by decide +kernel
theorem dX1_rayOf_124 : decode cX1_rayOf 124 = .ok (.ireturn, 1) := by decide +kernel
theorem dX1_rayOf_125 : decode cX1_rayOf 125 = .ok (.aload_n 0, 1) := by decide +kernel
theorem dX1_rayOf_126 : decode cX1_rayOf 126 = .ok (.dup, 1) := by decide +kernel
theorem dX1_rayOf_127 : decode cX1_rayOf 127 = .ok (.getfield 105, 3) := by decide +kernel
theorem dX1_rayOf_130 : decode cX1_rayOf 130 = .ok (.iconst 1, 1) := by decide +kernel
theorem dX1_rayOf_131 : decode cX1_rayOf 131 = .ok (.iadd, 1) := by decide +kernel
theorem dX1_rayOf_132 : decode cX1_rayOf 132 = .ok (.putfield 105, 3) := by decide +kernel
theorem dX1_rayOf_135 : decode cX1_rayOf 135 = .ok (.goto (-118), 3) := by decide +kernel
theorem dX1_rayOf_138 : decode cX1_rayOf 138 = .ok (.aload_n 0, 1) := by decide +kernel
theorem dX1_rayOf_139 : decode cX1_rayOf 139 = .ok (.bipush 41, 2) := by decide +kernel
theorem dX1_rayOf_141 : decode cX1_rayOf 141 = .ok (.putfield 105, 3) := by decide +kernel
theorem dX1_rayOf_144 : decode cX1_rayOf 144 = .ok (.iconst 0, 1) := by decide +kernel
theorem dX1_rayOf_145 : decode cX1_rayOf 145 = .ok (.ireturn, 1) := by decide +kernel
abbrev cX1_wayX : ByteArray := prog_1_method_13_code
def yX1_wayX : MethodName := ⟨RX1, "wayX", "(I)I"⟩
theorem dX1_wayX_0 : decode cX1_wayX 0 = .ok (.iconst 2, 1) := by decide +kernel
theorem dX1_wayX_1 : decode cX1_wayX 1 = .ok (.iload_n 0, 1) := by decide +kernel
theorem dX1_wayX_2 : decode cX1_wayX 2 = .ok (.bipush 16, 2) := by decide +kernel
theorem dX1_wayX_4 : decode cX1_wayX 4 = .ok (.irem, 1) := by decide +kernel
theorem dX1_wayX_5 : decode cX1_wayX 5 = .ok (.imul, 1) := by decide +kernel
theorem dX1_wayX_6 : decode cX1_wayX 6 = .ok (.bipush 16, 2) := by decide +kernel
theorem dX1_wayX_8 : decode cX1_wayX 8 = .ok (.isub, 1) := by decide +kernel
theorem dX1_wayX_9 : decode cX1_wayX 9 = .ok (.istore_n 1, 1) := by decide +kernel
theorem dX1_wayX_10 : decode cX1_wayX 10 = .ok (.iload_n 0, 1) := by decide +kernel
theorem dX1_wayX_11 : decode cX1_wayX 11 = .ok (.bipush 16, 2) := by decide +kernel
theorem dX1_wayX_13 : decode cX1_wayX 13 = .ok (.if_icmp .ge 8, 3) := by decide +kernel
theorem dX1_wayX_16 : decode cX1_wayX 16 = .ok (.bipush 16, 2) := by decide +kernel
theorem dX1_wayX_18 : decode cX1_wayX 18 = .ok (.goto 26, 3) := by decide +kernel
theorem dX1_wayX_21 : decode cX1_wayX 21 = .ok (.iload_n 0, 1) := by decide +kernel
theorem dX1_wayX_22 : decode cX1_wayX 22 = .ok (.bipush 32, 2) := by decide +kernel
theorem dX1_wayX_24 : decode cX1_wayX 24 = .ok (.if_icmp .ge 8, 3) := by decide +kernel
theorem dX1_wayX_27 : decode cX1_wayX 27 = .ok (.iload_n 1, 1) := by decide +kernel
theorem dX1_wayX_28 : decode cX1_wayX 28 = .ok (.ineg, 1) := by decide +kernel
theorem dX1_wayX_29 : decode cX1_wayX 29 = .ok (.goto 15, 3) := by decide +kernel
theorem dX1_wayX_32 : decode cX1_wayX 32 = .ok (.iload_n 0, 1) := by decide +kernel
theorem dX1_wayX_33 : decode cX1_wayX 33 = .ok (.bipush 48, 2) := by decide +kernel
theorem dX1_wayX_35 : decode cX1_wayX 35 = .ok (.if_icmp .ge 8, 3) := by decide +kernel
theorem dX1_wayX_38 : decode cX1_wayX 38 = .ok (.bipush (-16), 2) := by decide +kernel
theorem dX1_wayX_40 : decode cX1_wayX 40 = .ok (.goto 4, 3) := by decide +kernel
theorem dX1_wayX_43 : decode cX1_wayX 43 = .ok (.iload_n 1, 1) := by decide +kernel
theorem dX1_wayX_44 : decode cX1_wayX 44 = .ok (.ireturn, 1) := by decide +kernel
abbrev cX1_wayY : ByteArray := prog_1_method_14_code
def yX1_wayY : MethodName := ⟨RX1, "wayY", "(I)I"⟩
theorem dX1_wayY_0 : decode cX1_wayY 0 = .ok (.iconst 2, 1) := by decide +kernel
theorem dX1_wayY_1 : decode cX1_wayY 1 = .ok (.iload_n 0, 1) := by decide +kernel
theorem dX1_wayY_2 : decode cX1_wayY 2 = .ok (.bipush 16, 2) := by decide +kernel
theorem dX1_wayY_4 : decode cX1_wayY 4 = .ok (.irem, 1) := by decide +kernel
theorem dX1_wayY_5 : decode cX1_wayY 5 = .ok (.imul, 1) := by decide +kernel
theorem dX1_wayY_6 : decode cX1_wayY 6 = .ok (.bipush 16, 2) := by decide +kernel
theorem dX1_wayY_8 : decode cX1_wayY 8 = .ok (.isub, 1) := by decide +kernel
theorem dX1_wayY_9 : decode cX1_wayY 9 = .ok (.istore_n 1, 1) := by decide +kernel
theorem dX1_wayY_10 : decode cX1_wayY 10 = .ok (.iload_n 0, 1) := by decide +kernel
theorem dX1_wayY_11 : decode cX1_wayY 11 = .ok (.bipush 16, 2) := by decide +kernel
theorem dX1_wayY_13 : decode cX1_wayY 13 = .ok (.if_icmp .ge 7, 3) := by decide +kernel
theorem dX1_wayY_16 : decode cX1_wayY 16 = .ok (.iload_n 1, 1) := by decide +kernel
theorem dX1_wayY_17 : decode cX1_wayY 17 = .ok (.goto 27, 3) := by decide +kernel
theorem dX1_wayY_20 : decode cX1_wayY 20 = .ok (.iload_n 0, 1) := by decide +kernel
theorem dX1_wayY_21 : decode cX1_wayY 21 = .ok (.bipush 32, 2) := by decide +kernel
theorem dX1_wayY_23 : decode cX1_wayY 23 = .ok (.if_icmp .ge 8, 3) := by decide +kernel
theorem dX1_wayY_26 : decode cX1_wayY 26 = .ok (.bipush 16, 2) := by decide +kernel
theorem dX1_wayY_28 : decode cX1_wayY 28 = .ok (.goto 16, 3) := by decide +kernel
theorem dX1_wayY_31 : decode cX1_wayY 31 = .ok (.iload_n 0, 1) := by decide +kernel
theorem dX1_wayY_32 : decode cX1_wayY 32 = .ok (.bipush 48, 2) := by decide +kernel
theorem dX1_wayY_34 : decode cX1_wayY 34 = .ok (.if_icmp .ge 8, 3) := by decide +kernel
theorem dX1_wayY_37 : decode cX1_wayY 37 = .ok (.iload_n 1, 1) := by decide +kernel
theorem dX1_wayY_38 : decode cX1_wayY 38 = .ok (.ineg, 1) := by decide +kernel
theorem dX1_wayY_39 : decode cX1_wayY 39 = .ok (.goto 5, 3) := by decide +kernel
theorem dX1_wayY_42 : decode cX1_wayY 42 = .ok (.bipush (-16), 2) := by decide +kernel
theorem dX1_wayY_44 : decode cX1_wayY 44 = .ok (.ireturn, 1) := by decide +kernel
abbrev cX1_lens : ByteArray := prog_1_method_17_code
def yX1_lens : MethodName := ⟨RX1, "lens", "(II)I"⟩
theorem dX1_lens_0 : decode cX1_lens 0 = .ok (.iload_n 1, 1) := by decide +kernel
theorem dX1_lens_1 : decode cX1_lens 1 = .ok (.invokestatic 115, 3) := by decide +kernel
theorem dX1_lens_4 : decode cX1_lens 4 = .ok (.ifCond .eq 27, 3) := by decide +kernel
theorem dX1_lens_7 : decode cX1_lens 7 = .ok (.iload_n 2, 1) := by decide +kernel
theorem dX1_lens_8 : decode cX1_lens 8 = .ok (.iconst 0, 1) := by decide +kernel
theorem dX1_lens_9 : decode cX1_lens 9 = .ok (.bipush 7, 2) := by decide +kernel
theorem dX1_lens_11 : decode cX1_lens 11 = .ok (.invokestatic 66, 3) := by decide +kernel
theorem dX1_lens_14 : decode cX1_lens 14 = .ok (.ifCond .eq 17, 3) := by decide +kernel
theorem dX1_lens_17 : decode cX1_lens 17 = .ok (.aload_n 0, 1) := by decide +kernel
theorem dX1_lens_18 : decode cX1_lens 18 = .ok (.getfield 10, 3) := by decide +kernel
theorem dX1_lens_21 : decode cX1_lens 21 = .ok (.getfield 59, 3) := by decide +kernel
theorem dX1_lens_24 : decode cX1_lens 24 = .ok (.iconst 1, 1) := by decide +kernel
theorem dX1_lens_25 : decode cX1_lens 25 = .ok (.iaload, 1) := by decide +kernel
theorem dX1_lens_26 : decode cX1_lens 26 = .ok (.bipush 16, 2) := by decide +kernel
theorem dX1_lens_28 : decode cX1_lens 28 = .ok (.if_icmp .ne 7, 3) := by decide +kernel
theorem dX1_lens_31 : decode cX1_lens 31 = .ok (.iconst (-1), 1) := by decide +kernel
theorem dX1_lens_32 : decode cX1_lens 32 = .ok (.goto 36, 3) := by decide +kernel
theorem dX1_lens_35 : decode cX1_lens 35 = .ok (.aload_n 0, 1) := by decide +kernel
theorem dX1_lens_36 : decode cX1_lens 36 = .ok (.iconst 1, 1) := by decide +kernel
theorem dX1_lens_37 : decode cX1_lens 37 = .ok (.aload_n 0, 1) := by decide +kernel
theorem dX1_lens_38 : decode cX1_lens 38 = .ok (.getfield 10, 3) := by decide +kernel
theorem dX1_lens_41 : decode cX1_lens 41 = .ok (.getfield 122, 3) := by decide +kernel
theorem dX1_lens_44 : decode cX1_lens 44 = .ok (.aload_n 0, 1) := by decide +kernel
theorem dX1_lens_45 : decode cX1_lens 45 = .ok (.getfield 10, 3) := by decide +kernel
theorem dX1_lens_48 : decode cX1_lens 48 = .ok (.getfield 59, 3) := by decide +kernel
theorem dX1_lens_51 : decode cX1_lens 51 = .ok (.iconst 1, 1) := by decide +kernel
theorem dX1_lens_52 : decode cX1_lens 52 = .ok (.iaload, 1) := by decide +kernel
theorem dX1_lens_53 : decode cX1_lens 53 = .ok (.aaload, 1) := by decide +kernel
theorem dX1_lens_54 : decode cX1_lens 54 = .ok (.iconst 2, 1) := by decide +kernel
theorem dX1_lens_55 : decode cX1_lens 55 = .ok (.newarray .int, 2) := by decide +kernel
theorem dX1_lens_57 : decode cX1_lens 57 = .ok (.dup, 1) := by decide +kernel
theorem dX1_lens_58 : decode cX1_lens 58 = .ok (.iconst 0, 1) := by decide +kernel
theorem dX1_lens_59 : decode cX1_lens 59 = .ok (.iload_n 1, 1) := by decide +kernel
theorem dX1_lens_60 : decode cX1_lens 60 = .ok (.iastore, 1) := by decide +kernel
theorem dX1_lens_61 : decode cX1_lens 61 = .ok (.dup, 1) := by decide +kernel
theorem dX1_lens_62 : decode cX1_lens 62 = .ok (.iconst 1, 1) := by decide +kernel
theorem dX1_lens_63 : decode cX1_lens 63 = .ok (.iload_n 2, 1) := by decide +kernel
theorem dX1_lens_64 : decode cX1_lens 64 = .ok (.iastore, 1) := by decide +kernel
theorem dX1_lens_65 : decode cX1_lens 65 = .ok (.invokevirtual 90, 3) := by decide +kernel
theorem dX1_lens_68 : decode cX1_lens 68 = .ok (.ireturn, 1) := by decide +kernel
abbrev cX1_take : ByteArray := prog_1_method_20_code
def yX1_take : MethodName := ⟨RX1, "take", "(IIIII)I"⟩
theorem dX1_take_0 : decode cX1_take 0 = .ok (.aload_n 0, 1) := by decide +kernel
theorem dX1_take_1 : decode cX1_take 1 = .ok (.iconst 1, 1) := by decide +kernel
theorem dX1_take_2 : decode cX1_take 2 = .ok (.iload_n 1, 1) := by decide +kernel
theorem dX1_take_3 : decode cX1_take 3 = .ok (.invokevirtual 135, 3) := by decide +kernel
theorem dX1_take_6 : decode cX1_take 6 = .ok (.ifCond .eq 32, 3) := by decide +kernel
theorem dX1_take_9 : decode cX1_take 9 = .ok (.aload_n 0, 1) := by decide +kernel
theorem dX1_take_10 : decode cX1_take 10 = .ok (.iload_n 2, 1) := by decide +kernel
theorem dX1_take_11 : decode cX1_take 11 = .ok (.iload_n 3, 1) := by decide +kernel
theorem dX1_take_12 : decode cX1_take 12 = .ok (.invokevirtual 111, 3) := by decide +kernel
theorem dX1_take_15 : decode cX1_take 15 = .ok (.ifCond .eq 23, 3) := by decide +kernel
theorem dX1_take_18 : decode cX1_take 18 = .ok (.iload 4, 2) := by decide +kernel
theorem dX1_take_20 : decode cX1_take 20 = .ok (.invokestatic 115, 3) := by decide +kernel
theorem dX1_take_23 : decode cX1_take 23 = .ok (.ifCond .eq 15, 3) := by decide +kernel
theorem dX1_take_26 : decode cX1_take 26 = .ok (.iload 5, 2) := by decide +kernel
theorem dX1_take_28 : decode cX1_take 28 = .ok (.iconst 0, 1) := by decide +kernel
theorem dX1_take_29 : decode cX1_take 29 = .ok (.sipush 999, 3) := by decide +kernel
theorem dX1_take_32 : decode cX1_take 32 = .ok (.invokestatic 66, 3) := by decide +kernel
theorem dX1_take_35 : decode cX1_take 35 = .ok (.ifCond .ne 5, 3) := by decide +kernel
theorem dX1_take_38 : decode cX1_take 38 = .ok (.iconst (-1), 1) := by decide +kernel
theorem dX1_take_39 : decode cX1_take 39 = .ok (.ireturn, 1) := by decide +kernel
theorem dX1_take_40 : decode cX1_take 40 = .ok (.aload_n 0, 1) := by decide +kernel
theorem dX1_take_41 : decode cX1_take 41 = .ok (.iload 5, 2) := by decide +kernel
theorem dX1_take_43 : decode cX1_take 43 = .ok (.invokevirtual 94, 3) := by decide +kernel
theorem dX1_take_46 : decode cX1_take 46 = .ok (.aload_n 0, 1) := by decide +kernel
theorem dX1_take_47 : decode cX1_take 47 = .ok (.iload_n 1, 1) := by decide +kernel
theorem dX1_take_48 : decode cX1_take 48 = .ok (.iload_n 2, 1) := by decide +kernel
theorem dX1_take_49 : decode cX1_take 49 = .ok (.iload_n 3, 1) := by decide +kernel
theorem dX1_take_50 : decode cX1_take 50 = .ok (.iload 4, 2) := by decide +kernel
theorem dX1_take_52 : decode cX1_take 52 = .ok (.invokevirtual 138, 3) := by decide +kernel
theorem dX1_take_55 : decode cX1_take 55 = .ok (.ireturn, 1) := by decide +kernel
abbrev cX1_isOne : ByteArray := prog_1_method_3_code
def yX1_isOne : MethodName := ⟨RX1, "isOne", "(II)Z"⟩
theorem dX1_isOne_0 : decode cX1_isOne 0 = .ok (.iload_n 2, 1) := by decide +kernel
theorem dX1_isOne_1 : decode cX1_isOne 1 = .ok (.iconst 0, 1) := by decide +kernel
theorem dX1_isOne_2 : decode cX1_isOne 2 = .ok (.aload_n 0, 1) := by decide +kernel
theorem dX1_isOne_3 : decode cX1_isOne 3 = .ok (.getfield 10, 3) := by decide +kernel
theorem dX1_isOne_6 : decode cX1_isOne 6 = .ok (.getfield 59, 3) := by decide +kernel
theorem dX1_isOne_9 : decode cX1_isOne 9 = .ok (.iload_n 1, 1) := by decide +kernel
theorem dX1_isOne_10 : decode cX1_isOne 10 = .ok (.iaload, 1) := by decide +kernel
theorem dX1_isOne_11 : decode cX1_isOne 11 = .ok (.iconst 1, 1) := by decide +kernel
theorem dX1_isOne_12 : decode cX1_isOne 12 = .ok (.isub, 1) := by decide +kernel
theorem dX1_isOne_13 : decode cX1_isOne 13 = .ok (.invokestatic 66, 3) := by decide +kernel
theorem dX1_isOne_16 : decode cX1_isOne 16 = .ok (.ireturn, 1) := by decide +kernel
abbrev cX1_takeOf : ByteArray := prog_1_method_19_code
def yX1_takeOf : MethodName := ⟨RX1, "takeOf", "(IIII)I"⟩
theorem dX1_takeOf_0 : decode cX1_takeOf 0 = .ok (.aload_n 0, 1) := by decide +kernel
theorem dX1_takeOf_1 : decode cX1_takeOf 1 = .ok (.aload_n 0, 1) := by decide +kernel
theorem dX1_takeOf_2 : decode cX1_takeOf 2 = .ok (.getfield 10, 3) := by decide +kernel
theorem dX1_takeOf_5 : decode cX1_takeOf 5 = .ok (.getfield 122, 3) := by decide +kernel
theorem dX1_takeOf_8 : decode cX1_takeOf 8 = .ok (.iload_n 1, 1) := by decide +kernel
theorem dX1_takeOf_9 : decode cX1_takeOf 9 = .ok (.aaload, 1) := by decide +kernel
theorem dX1_takeOf_10 : decode cX1_takeOf 10 = .ok (.iconst 0, 1) := by decide +kernel
theorem dX1_takeOf_11 : decode cX1_takeOf 11 = .ok (.iaload, 1) := by decide +kernel
theorem dX1_takeOf_12 : decode cX1_takeOf 12 = .ok (.aload_n 0, 1) := by decide +kernel
theorem dX1_takeOf_13 : decode cX1_takeOf 13 = .ok (.getfield 10, 3) := by decide +kernel
theorem dX1_takeOf_16 : decode cX1_takeOf 16 = .ok (.getfield 122, 3) := by decide +kernel
theorem dX1_takeOf_19 : decode cX1_takeOf 19 = .ok (.iload_n 1, 1) := by decide +kernel
theorem dX1_takeOf_20 : decode cX1_takeOf 20 = .ok (.aaload, 1) := by decide +kernel
theorem dX1_takeOf_21 : decode cX1_takeOf 21 = .ok (.iconst 1, 1) := by decide +kernel
theorem dX1_takeOf_22 : decode cX1_takeOf 22 = .ok (.iaload, 1) := by decide +kernel
theorem dX1_takeOf_23 : decode cX1_takeOf 23 = .ok (.iload_n 2, 1) := by decide +kernel
theorem dX1_takeOf_24 : decode cX1_takeOf 24 = .ok (.iload_n 3, 1) := by decide +kernel
theorem dX1_takeOf_25 : decode cX1_takeOf 25 = .ok (.iload 4, 2) := by decide +kernel
theorem dX1_takeOf_27 : decode cX1_takeOf 27 = .ok (.invokevirtual 131, 3) := by decide +kernel
theorem dX1_takeOf_30 : decode cX1_takeOf 30 = .ok (.ireturn, 1) := by decide +kernel
abbrev cX1_takeOf_2 : ByteArray := prog_1_method_18_code
def yX1_takeOf_2 : MethodName := ⟨RX1, "takeOf", "(IIIII)I"⟩
theorem dX1_takeOf_2_0 : decode cX1_takeOf_2 0 = .ok (.iconst 0, 1) := by decide +kernel
theorem dX1_takeOf_2_1 : decode cX1_takeOf_2 1 = .ok (.istore 6, 2) := by decide +kernel
theorem dX1_takeOf_2_3 : decode cX1_takeOf_2 3 = .ok (.iload_n 2, 1) := by decide +kernel
theorem dX1_takeOf_2_4 : decode cX1_takeOf_2 4 = .ok (.ineg, 1) := by decide +kernel
theorem dX1_takeOf_2_5 : decode cX1_takeOf_2 5 = .ok (.istore 7, 2) := by decide +kernel
theorem dX1_takeOf_2_7 : decode cX1_takeOf_2 7 = .ok (.iload 7, 2) := by decide +kernel
theorem dX1_takeOf_2_9 : decode cX1_takeOf_2 9 = .ok (.iload_n 2, 1) := by decide +kernel
theorem dX1_takeOf_2_10 : decode cX1_takeOf_2 10 = .ok (.if_icmp .gt 43, 3) := by decide +kernel
theorem dX1_takeOf_2_13 : decode cX1_takeOf_2 13 = .ok (.iload 6, 2) := by decide +kernel
theorem dX1_takeOf_2_15 : decode cX1_takeOf_2 15 = .ok (.iload_n 2, 1) := by decide +kernel
theorem dX1_takeOf_2_16 : decode cX1_takeOf_2 16 = .ok (.iconst 1, 1) := by decide +kernel
theorem dX1_takeOf_2_17 : decode cX1_takeOf_2 17 = .ok (.iadd, 1) := by decide +kernel
theorem dX1_takeOf_2_18 : decode cX1_takeOf_2 18 = .ok (.iload 7, 2) := by decide +kernel
theorem dX1_takeOf_2_20 : decode cX1_takeOf_2 20 = .ok (.invokestatic 125, 3) := by decide +kernel
theorem dX1_takeOf_2_23 : decode cX1_takeOf_2 23 = .ok (.isub, 1) := by decide +kernel
theorem dX1_takeOf_2_24 : decode cX1_takeOf_2 24 = .ok (.aload_n 0, 1) := by decide +kernel
theorem dX1_takeOf_2_25 : decode cX1_takeOf_2 25 = .ok (.iload_n 3, 1) := by decide +kernel
theorem dX1_takeOf_2_26 : decode cX1_takeOf_2 26 = .ok (.iload 4, 2) := by decide +kernel
theorem dX1_takeOf_2_28 : decode cX1_takeOf_2 28 = .ok (.iload 5, 2) := by decide +kernel
theorem dX1_takeOf_2_30 : decode cX1_takeOf_2 30 = .ok (.iload_n 1, 1) := by decide +kernel
theorem dX1_takeOf_2_31 : decode cX1_takeOf_2 31 = .ok (.iadd, 1) := by decide +kernel
theorem dX1_takeOf_2_32 : decode cX1_takeOf_2 32 = .ok (.iload 7, 2) := by decide +kernel
theorem dX1_takeOf_2_34 : decode cX1_takeOf_2 34 = .ok (.iadd, 1) := by decide +kernel
theorem dX1_takeOf_2_35 : decode cX1_takeOf_2 35 = .ok (.bipush 64, 2) := by decide +kernel
theorem dX1_takeOf_2_37 : decode cX1_takeOf_2 37 = .ok (.invokestatic 128, 3) := by decide +kernel
theorem dX1_takeOf_2_40 : decode cX1_takeOf_2 40 = .ok (.invokevirtual 118, 3) := by decide +kernel
theorem dX1_takeOf_2_43 : decode cX1_takeOf_2 43 = .ok (.imul, 1) := by decide +kernel
theorem dX1_takeOf_2_44 : decode cX1_takeOf_2 44 = .ok (.iadd, 1) := by decide +kernel
theorem dX1_takeOf_2_45 : decode cX1_takeOf_2 45 = .ok (.istore 6, 2) := by decide +kernel
theorem dX1_takeOf_2_47 : decode cX1_takeOf_2 47 = .ok (.iinc 7 1, 3) := by decide +kernel
theorem dX1_takeOf_2_50 : decode cX1_takeOf_2 50 = .ok (.goto (-43), 3) := by decide +kernel
theorem dX1_takeOf_2_53 : decode cX1_takeOf_2 53 = .ok (.iload 6, 2) := by decide +kernel
theorem dX1_takeOf_2_55 : decode cX1_takeOf_2 55 = .ok (.iload_n 2, 1) := by decide +kernel
theorem dX1_takeOf_2_56 : decode cX1_takeOf_2 56 = .ok (.iconst 1, 1) := by decide +kernel
theorem dX1_takeOf_2_57 : decode cX1_takeOf_2 57 = .ok (.iadd, 1) := by decide +kernel
theorem dX1_takeOf_2_58 : decode cX1_takeOf_2 58 = .ok (.iload_n 2, 1) := by decide +kernel
theorem dX1_takeOf_2_59 : decode cX1_takeOf_2 59 = .ok (.iconst 1, 1) := by decide +kernel
theorem dX1_takeOf_2_60 : decode cX1_takeOf_2 60 = .ok (.iadd, 1) := by decide +kernel
theorem dX1_takeOf_2_61 : decode cX1_takeOf_2 61 = .ok (.imul, 1) := by decide +kernel
theorem dX1_takeOf_2_62 : decode cX1_takeOf_2 62 = .ok (.idiv, 1) := by decide +kernel
theorem dX1_takeOf_2_63 : decode cX1_takeOf_2 63 = .ok (.ireturn, 1) := by decide +kernel
abbrev cX1_pair : ByteArray := prog_1_method_21_code
def yX1_pair : MethodName := ⟨RX1, "pair", "(III)I"⟩
theorem dX1_pair_0 : decode cX1_pair 0 = .ok (.aload_n 0, 1) := by decide +kernel
theorem dX1_pair_1 : decode cX1_pair 1 = .ok (.iconst 1, 1) := by decide +kernel
theorem dX1_pair_2 : decode cX1_pair 2 = .ok (.iload_n 1, 1) := by decide +kernel
theorem dX1_pair_3 : decode cX1_pair 3 = .ok (.invokevirtual 135, 3) := by decide +kernel
theorem dX1_pair_6 : decode cX1_pair 6 = .ok (.ifCond .eq 41, 3) := by decide +kernel
theorem dX1_pair_9 : decode cX1_pair 9 = .ok (.aload_n 0, 1) := by decide +kernel
theorem dX1_pair_10 : decode cX1_pair 10 = .ok (.iconst 1, 1) := by decide +kernel
theorem dX1_pair_11 : decode cX1_pair 11 = .ok (.iload_n 2, 1) := by decide +kernel
theorem dX1_pair_12 : decode cX1_pair 12 = .ok (.invokevirtual 135, 3) := by decide +kernel
theorem dX1_pair_15 : decode cX1_pair 15 = .ok (.ifCond .eq 32, 3) := by decide +kernel
theorem dX1_pair_18 : decode cX1_pair 18 = .ok (.iload_n 1, 1) := by decide +kernel
theorem dX1_pair_19 : decode cX1_pair 19 = .ok (.iload_n 2, 1) := by decide +kernel
theorem dX1_pair_20 : decode cX1_pair 20 = .ok (.if_icmp .eq 27, 3) := by decide +kernel
theorem dX1_pair_23 : decode cX1_pair 23 = .ok (.iload_n 3, 1) := by decide +kernel
theorem dX1_pair_24 : decode cX1_pair 24 = .ok (.iconst 1, 1) := by decide +kernel
theorem dX1_pair_25 : decode cX1_pair 25 = .ok (.bipush 8, 2) := by decide +kernel
theorem dX1_pair_27 : decode cX1_pair 27 = .ok (.invokestatic 66, 3) := by decide +kernel
theorem dX1_pair_30 : decode cX1_pair 30 = .ok (.ifCond .eq 17, 3) := by decide +kernel
theorem dX1_pair_33 : decode cX1_pair 33 = .ok (.aload_n 0, 1) := by decide +kernel
theorem dX1_pair_34 : decode cX1_pair 34 = .ok (.getfield 10, 3) := by decide +kernel
theorem dX1_pair_37 : decode cX1_pair 37 = .ok (.getfield 59, 3) := by decide +kernel
theorem dX1_pair_40 : decode cX1_pair 40 = .ok (.iconst 2, 1) := by decide +kernel
theorem dX1_pair_41 : decode cX1_pair 41 = .ok (.iaload, 1) := by decide +kernel
theorem dX1_pair_42 : decode cX1_pair 42 = .ok (.bipush 16, 2) := by decide +kernel
theorem dX1_pair_44 : decode cX1_pair 44 = .ok (.if_icmp .ne 7, 3) := by decide +kernel
theorem dX1_pair_47 : decode cX1_pair 47 = .ok (.iconst (-1), 1) := by decide +kernel
theorem dX1_pair_48 : decode cX1_pair 48 = .ok (.goto 40, 3) := by decide +kernel
theorem dX1_pair_51 : decode cX1_pair 51 = .ok (.aload_n 0, 1) := by decide +kernel
theorem dX1_pair_52 : decode cX1_pair 52 = .ok (.iconst 2, 1) := by decide +kernel
theorem dX1_pair_53 : decode cX1_pair 53 = .ok (.aload_n 0, 1) := by decide +kernel
theorem dX1_pair_54 : decode cX1_pair 54 = .ok (.getfield 10, 3) := by decide +kernel
theorem dX1_pair_57 : decode cX1_pair 57 = .ok (.getfield 141, 3) := by decide +kernel
theorem dX1_pair_60 : decode cX1_pair 60 = .ok (.aload_n 0, 1) := by decide +kernel
theorem dX1_pair_61 : decode cX1_pair 61 = .ok (.getfield 10, 3) := by decide +kernel
theorem dX1_pair_64 : decode cX1_pair 64 = .ok (.getfield 59, 3) := by decide +kernel
theorem dX1_pair_67 : decode cX1_pair 67 = .ok (.iconst 2, 1) := by decide +kernel
theorem dX1_pair_68 : decode cX1_pair 68 = .ok (.iaload, 1) := by decide +kernel
theorem dX1_pair_69 : decode cX1_pair 69 = .ok (.aaload, 1) := by decide +kernel
theorem dX1_pair_70 : decode cX1_pair 70 = .ok (.iconst 3, 1) := by decide +kernel
theorem dX1_pair_71 : decode cX1_pair 71 = .ok (.newarray .int, 2) := by decide +kernel
theorem dX1_pair_73 : decode cX1_pair 73 = .ok (.dup, 1) := by decide +kernel
theorem dX1_pair_74 : decode cX1_pair 74 = .ok (.iconst 0, 1) := by decide +kernel
theorem dX1_pair_75 : decode cX1_pair 75 = .ok (.iload_n 1, 1) := by decide +kernel
theorem dX1_pair_76 : decode cX1_pair 76 = .ok (.iastore, 1) := by decide +kernel
theorem dX1_pair_77 : decode cX1_pair 77 = .ok (.dup, 1) := by decide +kernel
theorem dX1_pair_78 : decode cX1_pair 78 = .ok (.iconst 1, 1) := by decide +kernel
theorem dX1_pair_79 : decode cX1_pair 79 = .ok (.iload_n 2, 1) := by decide +kernel
theorem dX1_pair_80 : decode cX1_pair 80 = .ok (.iastore, 1) := by decide +kernel
theorem dX1_pair_81 : decode cX1_pair 81 = .ok (.dup, 1) := by decide +kernel
theorem dX1_pair_82 : decode cX1_pair 82 = .ok (.iconst 2, 1) := by decide +kernel
theorem dX1_pair_83 : decode cX1_pair 83 = .ok (.iload_n 3, 1) := by decide +kernel
theorem dX1_pair_84 : decode cX1_pair 84 = .ok (.iastore, 1) := by decide +kernel
theorem dX1_pair_85 : decode cX1_pair 85 = .ok (.invokevirtual 90, 3) := by decide +kernel
theorem dX1_pair_88 : decode cX1_pair 88 = .ok (.ireturn, 1) := by decide +kernel
abbrev cX1_covered : ByteArray := prog_1_method_24_code
def yX1_covered : MethodName := ⟨RX1, "covered", "(I)I"⟩
theorem dX1_covered_0 : decode cX1_covered 0 = .ok (.iload_n 1, 1) := by decide +kernel
theorem dX1_covered_1 : decode cX1_covered 1 = .ok (.iconst (-1), 1) := by decide +kernel
theorem dX1_covered_2 : decode cX1_covered 2 = .ok (.if_icmp .eq 20, 3) := by decide +kernel
theorem dX1_covered_5 : decode cX1_covered 5 = .ok (.iload_n 1, 1) := by decide +kernel
theorem dX1_covered_6 : decode cX1_covered 6 = .ok (.invokestatic 115, 3) := by decide +kernel
theorem dX1_covered_9 : decode cX1_covered 9 = .ok (.ifCond .eq 11, 3) := by decide +kernel
theorem dX1_covered_12 : decode cX1_covered 12 = .ok (.aload_n 0, 1) := by decide +kernel
theorem dX1_covered_13 : decode cX1_covered 13 = .ok (.iload_n 1, 1) := by decide +kernel
theorem dX1_covered_14 : decode cX1_covered 14 = .ok (.invokevirtual 147, 3) := by decide +kernel
theorem dX1_covered_17 : decode cX1_covered 17 = .ok (.goto 4, 3) := by decide +kernel
theorem dX1_covered_20 : decode cX1_covered 20 = .ok (.iconst (-1), 1) := by decide +kernel
theorem dX1_covered_21 : decode cX1_covered 21 = .ok (.ireturn, 1) := by decide +kernel
theorem dX1_covered_22 : decode cX1_covered 22 = .ok (.iconst 0, 1) := by decide +kernel
theorem dX1_covered_23 : decode cX1_covered 23 = .ok (.istore_n 2, 1) := by decide +kernel
theorem dX1_covered_24 : decode cX1_covered 24 = .ok (.iconst 0, 1) := by decide +kernel
theorem dX1_covered_25 : decode cX1_covered 25 = .ok (.istore_n 3, 1) := by decide +kernel
theorem dX1_covered_26 : decode cX1_covered 26 = .ok (.iload_n 3, 1) := by decide +kernel
theorem dX1_covered_27 : decode cX1_covered 27 = .ok (.bipush 64, 2) := by decide +kernel
theorem dX1_covered_29 : decode cX1_covered 29 = .ok (.if_icmp .ge 25, 3) := by decide +kernel
theorem dX1_covered_32 : decode cX1_covered 32 = .ok (.iload_n 2, 1) := by decide +kernel
theorem dX1_covered_33 : decode cX1_covered 33 = .ok (.aload_n 0, 1) := by decide +kernel
theorem dX1_covered_34 : decode cX1_covered 34 = .ok (.iload_n 3, 1) := by decide +kernel
theorem dX1_covered_35 : decode cX1_covered 35 = .ok (.invokevirtual 147, 3) := by decide +kernel
theorem dX1_covered_38 : decode cX1_covered 38 = .ok (.ifCond .ne 7, 3) := by decide +kernel
theorem dX1_covered_41 : decode cX1_covered 41 = .ok (.iconst 1, 1) := by decide +kernel
theorem dX1_covered_42 : decode cX1_covered 42 = .ok (.goto 4, 3) := by decide +kernel
theorem dX1_covered_45 : decode cX1_covered 45 = .ok (.iconst 0, 1) := by decide +kernel
theorem dX1_covered_46 : decode cX1_covered 46 = .ok (.iadd, 1) := by decide +kernel
theorem dX1_covered_47 : decode cX1_covered 47 = .ok (.istore_n 2, 1) := by decide +kernel
theorem dX1_covered_48 : decode cX1_covered 48 = .ok (.iinc 3 1, 3) := by decide +kernel
theorem dX1_covered_51 : decode cX1_covered 51 = .ok (.goto (-25), 3) := by decide +kernel
theorem dX1_covered_54 : decode cX1_covered 54 = .ok (.iload_n 2, 1) := by decide +kernel
theorem dX1_covered_55 : decode cX1_covered 55 = .ok (.ireturn, 1) := by decide +kernel
abbrev cX1_coveredBy : ByteArray := prog_1_method_23_code
def yX1_coveredBy : MethodName := ⟨RX1, "coveredBy", "(I)I"⟩
theorem dX1_coveredBy_0 : decode cX1_coveredBy 0 = .ok (.iconst 0, 1) := by decide +kernel
theorem dX1_coveredBy_1 : decode cX1_coveredBy 1 = .ok (.istore_n 2, 1) := by decide +kernel
theorem dX1_coveredBy_2 : decode cX1_coveredBy 2 = .ok (.iconst 0, 1) := by decide +kernel
theorem dX1_coveredBy_3 : decode cX1_coveredBy 3 = .ok (.istore_n 3, 1) := by decide +kernel
theorem dX1_coveredBy_4 : decode cX1_coveredBy 4 = .ok (.iload_n 3, 1) := by decide +kernel
theorem dX1_coveredBy_5 : decode cX1_coveredBy 5 = .ok (.aload_n 0, 1) := by decide +kernel
theorem dX1_coveredBy_6 : decode cX1_coveredBy 6 = .ok (.getfield 10, 3) := by decide +kernel
theorem dX1_coveredBy_9 : decode cX1_coveredBy 9 = .ok (.getfield 59, 3) := by decide +kernel
theorem dX1_coveredBy_12 : decode cX1_coveredBy 12 = .ok (.iconst 1, 1) := by decide +kernel
theorem dX1_coveredBy_13 : decode cX1_coveredBy 13 = .ok (.iaload, 1) := by decide +kernel
theorem dX1_coveredBy_14 : decode cX1_coveredBy 14 = .ok (.if_icmp .ge 26, 3) := by decide +kernel
theorem dX1_coveredBy_17 : decode cX1_coveredBy 17 = .ok (.iload_n 2, 1) := by decide +kernel
theorem dX1_coveredBy_18 : decode cX1_coveredBy 18 = .ok (.aload_n 0, 1) := by decide +kernel
theorem dX1_coveredBy_19 : decode cX1_coveredBy 19 = .ok (.iload_n 3, 1) := by decide +kernel
theorem dX1_coveredBy_20 : decode cX1_coveredBy 20 = .ok (.iload_n 1, 1) := by decide +kernel
theorem dX1_coveredBy_21 : decode cX1_coveredBy 21 = .ok (.invokevirtual 144, 3) := by decide +kernel
theorem dX1_coveredBy_24 : decode cX1_coveredBy 24 = .ok (.ifCond .le 7, 3) := by decide +kernel
theorem dX1_coveredBy_27 : decode cX1_coveredBy 27 = .ok (.iconst 1, 1) := by decide +kernel
theorem dX1_coveredBy_28 : decode cX1_coveredBy 28 = .ok (.goto 4, 3) := by decide +kernel
theorem dX1_coveredBy_31 : decode cX1_coveredBy 31 = .ok (.iconst 0, 1) := by decide +kernel
theorem dX1_coveredBy_32 : decode cX1_coveredBy 32 = .ok (.iadd, 1) := by decide +kernel
theorem dX1_coveredBy_33 : decode cX1_coveredBy 33 = .ok (.istore_n 2, 1) := by decide +kernel
theorem dX1_coveredBy_34 : decode cX1_coveredBy 34 = .ok (.iinc 3 1, 3) := by decide +kernel
theorem dX1_coveredBy_37 : decode cX1_coveredBy 37 = .ok (.goto (-33), 3) := by decide +kernel
theorem dX1_coveredBy_40 : decode cX1_coveredBy 40 = .ok (.iload_n 2, 1) := by decide +kernel
theorem dX1_coveredBy_41 : decode cX1_coveredBy 41 = .ok (.ireturn, 1) := by decide +kernel
abbrev cX1_weight : ByteArray := prog_1_method_22_code
def yX1_weight : MethodName := ⟨RX1, "weight", "(II)I"⟩
theorem dX1_weight_0 : decode cX1_weight 0 = .ok (.iload_n 2, 1) := by decide +kernel
theorem dX1_weight_1 : decode cX1_weight 1 = .ok (.aload_n 0, 1) := by decide +kernel
theorem dX1_weight_2 : decode cX1_weight 2 = .ok (.getfield 10, 3) := by decide +kernel
theorem dX1_weight_5 : decode cX1_weight 5 = .ok (.getfield 122, 3) := by decide +kernel
theorem dX1_weight_8 : decode cX1_weight 8 = .ok (.iload_n 1, 1) := by decide +kernel
theorem dX1_weight_9 : decode cX1_weight 9 = .ok (.aaload, 1) := by decide +kernel
theorem dX1_weight_10 : decode cX1_weight 10 = .ok (.iconst 0, 1) := by decide +kernel
theorem dX1_weight_11 : decode cX1_weight 11 = .ok (.iaload, 1) := by decide +kernel
theorem dX1_weight_12 : decode cX1_weight 12 = .ok (.isub, 1) := by decide +kernel
theorem dX1_weight_13 : decode cX1_weight 13 = .ok (.bipush 32, 2) := by decide +kernel
theorem dX1_weight_15 : decode cX1_weight 15 = .ok (.iadd, 1) := by decide +kernel
theorem dX1_weight_16 : decode cX1_weight 16 = .ok (.bipush 64, 2) := by decide +kernel
theorem dX1_weight_18 : decode cX1_weight 18 = .ok (.invokestatic 128, 3) := by decide +kernel
theorem dX1_weight_21 : decode cX1_weight 21 = .ok (.bipush 32, 2) := by decide +kernel
theorem dX1_weight_23 : decode cX1_weight 23 = .ok (.isub, 1) := by decide +kernel
theorem dX1_weight_24 : decode cX1_weight 24 = .ok (.istore_n 3, 1) := by decide +kernel
theorem dX1_weight_25 : decode cX1_weight 25 = .ok (.iconst 0, 1) := by decide +kernel
theorem dX1_weight_26 : decode cX1_weight 26 = .ok (.aload_n 0, 1) := by decide +kernel
theorem dX1_weight_27 : decode cX1_weight 27 = .ok (.getfield 10, 3) := by decide +kernel
theorem dX1_weight_30 : decode cX1_weight 30 = .ok (.getfield 122, 3) := by decide +kernel
theorem dX1_weight_33 : decode cX1_weight 33 = .ok (.iload_n 1, 1) := by decide +kernel
theorem dX1_weight_34 : decode cX1_weight 34 = .ok (.aaload, 1) := by decide +kernel
theorem dX1_weight_35 : decode cX1_weight 35 = .ok (.iconst 1, 1) := by decide +kernel
theorem dX1_weight_36 : decode cX1_weight 36 = .ok (.iaload, 1) := by decide +kernel
theorem dX1_weight_37 : decode cX1_weight 37 = .ok (.iconst 1, 1) := by decide +kernel
theorem dX1_weight_38 : decode cX1_weight 38 = .ok (.iadd, 1) := by decide +kernel
theorem dX1_weight_39 : decode cX1_weight 39 = .ok (.iload_n 3, 1) := by decide +kernel
theorem dX1_weight_40 : decode cX1_weight 40 = .ok (.invokestatic 125, 3) := by decide +kernel
theorem dX1_weight_43 : decode cX1_weight 43 = .ok (.isub, 1) := by decide +kernel
theorem dX1_weight_44 : decode cX1_weight 44 = .ok (.invokestatic 50, 3) := by decide +kernel
theorem dX1_weight_47 : decode cX1_weight 47 = .ok (.ireturn, 1) := by decide +kernel
abbrev cX1_ends : ByteArray := prog_1_method_25_code
def yX1_ends : MethodName := ⟨RX1, "ends", "(IIIIZ)I"⟩
theorem dX1_ends_0 : decode cX1_ends 0 = .ok (.iload_n 1, 1) := by decide +kernel
theorem dX1_ends_1 : decode cX1_ends 1 = .ok (.invokestatic 115, 3) := by decide +kernel
theorem dX1_ends_4 : decode cX1_ends 4 = .ok (.ifCond .eq 20, 3) := by decide +kernel
theorem dX1_ends_7 : decode cX1_ends 7 = .ok (.aload_n 0, 1) := by decide +kernel
theorem dX1_ends_8 : decode cX1_ends 8 = .ok (.iload_n 2, 1) := by decide +kernel
theorem dX1_ends_9 : decode cX1_ends 9 = .ok (.iload_n 3, 1) := by decide +kernel
theorem dX1_ends_10 : decode cX1_ends 10 = .ok (.invokevirtual 111, 3) := by decide +kernel
theorem dX1_ends_13 : decode cX1_ends 13 = .ok (.ifCond .eq 11, 3) := by decide +kernel
theorem dX1_ends_16 : decode cX1_ends 16 = .ok (.iload 4, 2) := by decide +kernel
theorem dX1_ends_18 : decode cX1_ends 18 = .ok (.invokestatic 115, 3) := by decide +kernel
theorem dX1_ends_21 : decode cX1_ends 21 = .ok (.ifCond .ne 5, 3) := by decide +kernel
theorem dX1_ends_24 : decode cX1_ends 24 = .ok (.iconst (-1), 1) := by decide +kernel
theorem dX1_ends_25 : decode cX1_ends 25 = .ok (.ireturn, 1) := by decide +kernel
theorem dX1_ends_26 : decode cX1_ends 26 = .ok (.aload_n 0, 1) := by decide +kernel
theorem dX1_ends_27 : decode cX1_ends 27 = .ok (.iconst 0, 1) := by decide +kernel
theorem dX1_ends_28 : decode cX1_ends 28 = .ok (.invokevirtual 94, 3) := by decide +kernel
theorem dX1_ends_31 : decode cX1_ends 31 = .ok (.iconst 0, 1) := by decide +kernel
theorem dX1_ends_32 : decode cX1_ends 32 = .ok (.istore 6, 2) := by decide +kernel
theorem dX1_ends_34 : decode cX1_ends 34 = .ok (.sipush 255, 3) := by decide +kernel
theorem dX1_ends_37 : decode cX1_ends 37 = .ok (.istore 7, 2) := by decide +kernel
theorem dX1_ends_39 : decode cX1_ends 39 = .ok (.iconst 0, 1) := by decide +kernel
theorem dX1_ends_40 : decode cX1_ends 40 = .ok (.istore 8, 2) := by decide +kernel
theorem dX1_ends_42 : decode cX1_ends 42 = .ok (.iload 8, 2) := by decide +kernel
theorem dX1_ends_44 : decode cX1_ends 44 = .ok (.aload_n 0, 1) := by decide +kernel
theorem dX1_ends_45 : decode cX1_ends 45 = .ok (.getfield 10, 3) := by decide +kernel
theorem dX1_ends_48 : decode cX1_ends 48 = .ok (.getfield 59, 3) := by decide +kernel
theorem dX1_ends_51 : decode cX1_ends 51 = .ok (.iconst 1, 1) := by decide +kernel
theorem dX1_ends_52 : decode cX1_ends 52 = .ok (.iaload, 1) := by decide +kernel
theorem dX1_ends_53 : decode cX1_ends 53 = .ok (.if_icmp .ge 121, 3) := by decide +kernel
theorem dX1_ends_56 : decode cX1_ends 56 = .ok (.aload_n 0, 1) := by decide +kernel
theorem dX1_ends_57 : decode cX1_ends 57 = .ok (.iload 8, 2) := by decide +kernel
theorem dX1_ends_59 : decode cX1_ends 59 = .ok (.iload_n 1, 1) := by decide +kernel
theorem dX1_ends_60 : decode cX1_ends 60 = .ok (.invokevirtual 144, 3) := by decide +kernel
theorem dX1_ends_63 : decode cX1_ends 63 = .ok (.istore 9, 2) := by decide +kernel
theorem dX1_ends_65 : decode cX1_ends 65 = .ok (.iload 9, 2) := by decide +kernel
theorem dX1_ends_67 : decode cX1_ends 67 = .ok (.ifCond .ne 6, 3) := by decide +kernel
theorem dX1_ends_70 : decode cX1_ends 70 = .ok (.goto 98, 3) := by decide +kernel
theorem dX1_ends_73 : decode cX1_ends 73 = .ok (.aload_n 0, 1) := by decide +kernel
theorem dX1_ends_74 : decode cX1_ends 74 = .ok (.getfield 10, 3) := by decide +kernel
theorem dX1_ends_77 : decode cX1_ends 77 = .ok (.getfield 122, 3) := by decide +kernel
theorem dX1_ends_80 : decode cX1_ends 80 = .ok (.iload 8, 2) := by decide +kernel
theorem dX1_ends_82 : decode cX1_ends 82 = .ok (.aaload, 1) := by decide +kernel
theorem dX1_ends_83 : decode cX1_ends 83 = .ok (.iconst 1, 1) := by decide +kernel
theorem dX1_ends_84 : decode cX1_ends 84 = .ok (.iaload, 1) := by decide +kernel
theorem dX1_ends_85 : decode cX1_ends 85 = .ok (.iconst 1, 1) := by decide +kernel
theorem dX1_ends_86 : decode cX1_ends 86 = .ok (.iadd, 1) := by decide +kernel
theorem dX1_ends_87 : decode cX1_ends 87 = .ok (.aload_n 0, 1) := by decide +kernel
theorem dX1_ends_88 : decode cX1_ends 88 = .ok (.getfield 10, 3) := by decide +kernel
theorem dX1_ends_91 : decode cX1_ends 91 = .ok (.getfield 122, 3) := by decide +kernel
theorem dX1_ends_94 : decode cX1_ends 94 = .ok (.iload 8, 2) := by decide +kernel
theorem dX1_ends_96 : decode cX1_ends 96 = .ok (.aaload, 1) := by decide +kernel
theorem dX1_ends_97 : decode cX1_ends 97 = .ok (.iconst 1, 1) := by decide +kernel
theorem dX1_ends_98 : decode cX1_ends 98 = .ok (.iaload, 1) := by decide +kernel
theorem dX1_ends_99 : decode cX1_ends 99 = .ok (.iconst 1, 1) := by decide +kernel
theorem dX1_ends_100 : decode cX1_ends 100 = .ok (.iadd, 1) := by decide +kernel
theorem dX1_ends_101 : decode cX1_ends 101 = .ok (.imul, 1) := by decide +kernel
theorem dX1_ends_102 : decode cX1_ends 102 = .ok (.istore 10, 2) := by decide +kernel
theorem dX1_ends_104 : decode cX1_ends 104 = .ok (.aload_n 0, 1) := by decide +kernel
theorem dX1_ends_105 : decode cX1_ends 105 = .ok (.iload 8, 2) := by decide +kernel
theorem dX1_ends_107 : decode cX1_ends 107 = .ok (.iload_n 2, 1) := by decide +kernel
theorem dX1_ends_108 : decode cX1_ends 108 = .ok (.iload_n 3, 1) := by decide +kernel
theorem dX1_ends_109 : decode cX1_ends 109 = .ok (.iload 4, 2) := by decide +kernel
theorem dX1_ends_111 : decode cX1_ends 111 = .ok (.invokevirtual 138, 3) := by decide +kernel
theorem dX1_ends_114 : decode cX1_ends 114 = .ok (.istore 11, 2) := by decide +kernel
theorem dX1_ends_116 : decode cX1_ends 116 = .ok (.iload 11, 2) := by decide +kernel
theorem dX1_ends_118 : decode cX1_ends 118 = .ok (.iload 10, 2) := by decide +kernel
theorem dX1_ends_120 : decode cX1_ends 120 = .ok (.imul, 1) := by decide +kernel
theorem dX1_ends_121 : decode cX1_ends 121 = .ok (.sipush 255, 3) := by decide +kernel
theorem dX1_ends_124 : decode cX1_ends 124 = .ok (.iload 10, 2) := by decide +kernel
theorem dX1_ends_126 : decode cX1_ends 126 = .ok (.iload 9, 2) := by decide +kernel
theorem dX1_ends_128 : decode cX1_ends 128 = .ok (.isub, 1) := by decide +kernel
theorem dX1_ends_129 : decode cX1_ends 129 = .ok (.imul, 1) := by decide +kernel
theorem dX1_ends_130 : decode cX1_ends 130 = .ok (.isub, 1) := by decide +kernel
theorem dX1_ends_131 : decode cX1_ends 131 = .ok (.istore 12, 2) := by decide +kernel
theorem dX1_ends_133 : decode cX1_ends 133 = .ok (.iload 6, 2) := by decide +kernel
theorem dX1_ends_135 : decode cX1_ends 135 = .ok (.iload 12, 2) := by decide +kernel
theorem dX1_ends_137 : decode cX1_ends 137 = .ok (.ineg, 1) := by decide +kernel
theorem dX1_ends_138 : decode cX1_ends 138 = .ok (.iload 9, 2) := by decide +kernel
theorem dX1_ends_140 : decode cX1_ends 140 = .ok (.invokestatic 108, 3) := by decide +kernel
theorem dX1_ends_143 : decode cX1_ends 143 = .ok (.ineg, 1) := by decide +kernel
theorem dX1_ends_144 : decode cX1_ends 144 = .ok (.invokestatic 50, 3) := by decide +kernel
theorem dX1_ends_147 : decode cX1_ends 147 = .ok (.istore 6, 2) := by decide +kernel
theorem dX1_ends_149 : decode cX1_ends 149 = .ok (.iload 7, 2) := by decide +kernel
theorem dX1_ends_151 : decode cX1_ends 151 = .ok (.iload 11, 2) := by decide +kernel
theorem dX1_ends_153 : decode cX1_ends 153 = .ok (.iconst 1, 1) := by decide +kernel
theorem dX1_ends_154 : decode cX1_ends 154 = .ok (.iadd, 1) := by decide +kernel
theorem dX1_ends_155 : decode cX1_ends 155 = .ok (.iload 10, 2) := by decide +kernel
theorem dX1_ends_157 : decode cX1_ends 157 = .ok (.imul, 1) := by decide +kernel
theorem dX1_ends_158 : decode cX1_ends 158 = .ok (.iconst 1, 1) := by decide +kernel
theorem dX1_ends_159 : decode cX1_ends 159 = .ok (.isub, 1) := by decide +kernel
theorem dX1_ends_160 : decode cX1_ends 160 = .ok (.iload 9, 2) := by decide +kernel
theorem dX1_ends_162 : decode cX1_ends 162 = .ok (.idiv, 1) := by decide +kernel
theorem dX1_ends_163 : decode cX1_ends 163 = .ok (.invokestatic 44, 3) := by decide +kernel
theorem dX1_ends_166 : decode cX1_ends 166 = .ok (.istore 7, 2) := by decide +kernel
theorem dX1_ends_168 : decode cX1_ends 168 = .ok (.iinc 8 1, 3) := by decide +kernel
theorem dX1_ends_171 : decode cX1_ends 171 = .ok (.goto (-129), 3) := by decide +kernel
theorem dX1_ends_174 : decode cX1_ends 174 = .ok (.iload 5, 2) := by decide +kernel
theorem dX1_ends_176 : decode cX1_ends 176 = .ok (.ifCond .eq 8, 3) := by decide +kernel
theorem dX1_ends_179 : decode cX1_ends 179 = .ok (.iload 7, 2) := by decide +kernel
theorem dX1_ends_181 : decode cX1_ends 181 = .ok (.goto 5, 3) := by decide +kernel
theorem dX1_ends_184 : decode cX1_ends 184 = .ok (.iload 6, 2) := by decide +kernel
theorem dX1_ends_186 : decode cX1_ends 186 = .ok (.ireturn, 1) := by decide +kernel
abbrev cX1_width : ByteArray := prog_1_method_26_code
def yX1_width : MethodName := ⟨RX1, "width", "(IIIII)I"⟩
theorem dX1_width_0 : decode cX1_width 0 = .ok (.iload_n 1, 1) := by decide +kernel
theorem dX1_width_1 : decode cX1_width 1 = .ok (.invokestatic 115, 3) := by decide +kernel
theorem dX1_width_4 : decode cX1_width 4 = .ok (.ifCond .eq 28, 3) := by decide +kernel
theorem dX1_width_7 : decode cX1_width 7 = .ok (.iload_n 2, 1) := by decide +kernel
theorem dX1_width_8 : decode cX1_width 8 = .ok (.invokestatic 115, 3) := by decide +kernel
theorem dX1_width_11 : decode cX1_width 11 = .ok (.ifCond .eq 21, 3) := by decide +kernel
theorem dX1_width_14 : decode cX1_width 14 = .ok (.aload_n 0, 1) := by decide +kernel
theorem dX1_width_15 : decode cX1_width 15 = .ok (.iload_n 3, 1) := by decide +kernel
theorem dX1_width_16 : decode cX1_width 16 = .ok (.iload 4, 2) := by decide +kernel
theorem dX1_width_18 : decode cX1_width 18 = .ok (.invokevirtual 111, 3) := by decide +kernel
theorem dX1_width_21 : decode cX1_width 21 = .ok (.ifCond .eq 11, 3) := by decide +kernel
theorem dX1_width_24 : decode cX1_width 24 = .ok (.iload 5, 2) := by decide +kernel
theorem dX1_width_26 : decode cX1_width 26 = .ok (.invokestatic 115, 3) := by decide +kernel
theorem dX1_width_29 : decode cX1_width 29 = .ok (.ifCond .ne 5, 3) := by decide +kernel
theorem dX1_width_32 : decode cX1_width 32 = .ok (.iconst (-1), 1) := by decide +kernel
theorem dX1_width_33 : decode cX1_width 33 = .ok (.ireturn, 1) := by decide +kernel
theorem dX1_width_34 : decode cX1_width 34 = .ok (.aload_n 0, 1) := by decide +kernel
theorem dX1_width_35 : decode cX1_width 35 = .ok (.iconst 0, 1) := by decide +kernel
theorem dX1_width_36 : decode cX1_width 36 = .ok (.invokevirtual 94, 3) := by decide +kernel
theorem dX1_width_39 : decode cX1_width 39 = .ok (.iconst (-1), 1) := by decide +kernel
theorem dX1_width_40 : decode cX1_width 40 = .ok (.istore 6, 2) := by decide +kernel
theorem dX1_width_42 : decode cX1_width 42 = .ok (.iconst (-1), 1) := by decide +kernel
theorem dX1_width_43 : decode cX1_width 43 = .ok (.istore 7, 2) := by decide +kernel
theorem dX1_width_45 : decode cX1_width 45 = .ok (.iconst 0, 1) := by decide +kernel
theorem dX1_width_46 : decode cX1_width 46 = .ok (.istore 8, 2) := by decide +kernel
theorem dX1_width_48 : decode cX1_width 48 = .ok (.iload 8, 2) := by decide +kernel
theorem dX1_width_50 : decode cX1_width 50 = .ok (.bipush 7, 2) := by decide +kernel
theorem dX1_width_52 : decode cX1_width 52 = .ok (.if_icmp .gt 57, 3) := by decide +kernel
theorem dX1_width_55 : decode cX1_width 55 = .ok (.aload_n 0, 1) := by decide +kernel
theorem dX1_width_56 : decode cX1_width 56 = .ok (.iload_n 1, 1) := by decide +kernel
theorem dX1_width_57 : decode cX1_width 57 = .ok (.iload 8, 2) := by decide +kernel
theorem dX1_width_59 : decode cX1_width 59 = .ok (.iload_n 3, 1) := by decide +kernel
theorem dX1_width_60 : decode cX1_width 60 = .ok (.iload 4, 2) := by decide +kernel
theorem dX1_width_62 : decode cX1_width 62 = .ok (.iload 5, 2) := by decide +kernel
theorem dX1_width_64 : decode cX1_width 64 = .ok (.invokevirtual 131, 3) := by decide +kernel
theorem dX1_width_67 : decode cX1_width 67 = .ok (.aload_n 0, 1) := by decide +kernel
theorem dX1_width_68 : decode cX1_width 68 = .ok (.iload_n 2, 1) := by decide +kernel
theorem dX1_width_69 : decode cX1_width 69 = .ok (.iload 8, 2) := by decide +kernel
theorem dX1_width_71 : decode cX1_width 71 = .ok (.iload_n 3, 1) := by decide +kernel
theorem dX1_width_72 : decode cX1_width 72 = .ok (.iload 4, 2) := by decide +kernel
theorem dX1_width_74 : decode cX1_width 74 = .ok (.iload 5, 2) := by decide +kernel
theorem dX1_width_76 : decode cX1_width 76 = .ok (.invokevirtual 131, 3) := by decide +kernel
theorem dX1_width_79 : decode cX1_width 79 = .ok (.isub, 1) := by decide +kernel
theorem dX1_width_80 : decode cX1_width 80 = .ok (.invokestatic 125, 3) := by decide +kernel
theorem dX1_width_83 : decode cX1_width 83 = .ok (.istore 9, 2) := by decide +kernel
theorem dX1_width_85 : decode cX1_width 85 = .ok (.iload 9, 2) := by decide +kernel
theorem dX1_width_87 : decode cX1_width 87 = .ok (.iload 7, 2) := by decide +kernel
theorem dX1_width_89 : decode cX1_width 89 = .ok (.if_icmp .gt 6, 3) := by decide +kernel
theorem dX1_width_92 : decode cX1_width 92 = .ok (.goto 11, 3) := by decide +kernel
theorem dX1_width_95 : decode cX1_width 95 = .ok (.iload 9, 2) := by decide +kernel
theorem dX1_width_97 : decode cX1_width 97 = .ok (.istore 7, 2) := by decide +kernel
theorem dX1_width_99 : decode cX1_width 99 = .ok (.iload 8, 2) := by decide +kernel
theorem dX1_width_101 : decode cX1_width 101 = .ok (.istore 6, 2) := by decide +kernel
theorem dX1_width_103 : decode cX1_width 103 = .ok (.iinc 8 1, 3) := by decide +kernel
theorem dX1_width_106 : decode cX1_width 106 = .ok (.goto (-58), 3) := by decide +kernel
theorem dX1_width_109 : decode cX1_width 109 = .ok (.iload 6, 2) := by decide +kernel
theorem dX1_width_111 : decode cX1_width 111 = .ok (.ireturn, 1) := by decide +kernel
abbrev cX1_same : ByteArray := prog_1_method_27_code
def yX1_same : MethodName := ⟨RX1, "same", "(IIIIII)I"⟩
theorem dX1_same_0 : decode cX1_same 0 = .ok (.aload_n 0, 1) := by decide +kernel
theorem dX1_same_1 : decode cX1_same 1 = .ok (.iconst 0, 1) := by decide +kernel
theorem dX1_same_2 : decode cX1_same 2 = .ok (.iload_n 1, 1) := by decide +kernel
theorem dX1_same_3 : decode cX1_same 3 = .ok (.invokevirtual 135, 3) := by decide +kernel
theorem dX1_same_6 : decode cX1_same 6 = .ok (.ifCond .eq 44, 3) := by decide +kernel
theorem dX1_same_9 : decode cX1_same 9 = .ok (.aload_n 0, 1) := by decide +kernel
theorem dX1_same_10 : decode cX1_same 10 = .ok (.iload 4, 2) := by decide +kernel
theorem dX1_same_12 : decode cX1_same 12 = .ok (.iload 5, 2) := by decide +kernel
theorem dX1_same_14 : decode cX1_same 14 = .ok (.invokevirtual 111, 3) := by decide +kernel
theorem dX1_same_17 : decode cX1_same 17 = .ok (.ifCond .eq 33, 3) := by decide +kernel
theorem dX1_same_20 : decode cX1_same 20 = .ok (.iload 6, 2) := by decide +kernel
theorem dX1_same_22 : decode cX1_same 22 = .ok (.invokestatic 115, 3) := by decide +kernel
theorem dX1_same_25 : decode cX1_same 25 = .ok (.ifCond .eq 25, 3) := by decide +kernel
theorem dX1_same_28 : decode cX1_same 28 = .ok (.iload_n 2, 1) := by decide +kernel
theorem dX1_same_29 : decode cX1_same 29 = .ok (.bipush (-24), 2) := by decide +kernel
theorem dX1_same_31 : decode cX1_same 31 = .ok (.bipush 24, 2) := by decide +kernel
theorem dX1_same_33 : decode cX1_same 33 = .ok (.invokestatic 66, 3) := by decide +kernel
theorem dX1_same_36 : decode cX1_same 36 = .ok (.ifCond .eq 14, 3) := by decide +kernel
theorem dX1_same_39 : decode cX1_same 39 = .ok (.iload_n 3, 1) := by decide +kernel
theorem dX1_same_40 : decode cX1_same 40 = .ok (.bipush (-24), 2) := by decide +kernel
theorem dX1_same_42 : decode cX1_same 42 = .ok (.bipush 24, 2) := by decide +kernel
theorem dX1_same_44 : decode cX1_same 44 = .ok (.invokestatic 66, 3) := by decide +kernel
theorem dX1_same_47 : decode cX1_same 47 = .ok (.ifCond .ne 5, 3) := by decide +kernel
theorem dX1_same_50 : decode cX1_same 50 = .ok (.iconst (-1), 1) := by decide +kernel
theorem dX1_same_51 : decode cX1_same 51 = .ok (.ireturn, 1) := by decide +kernel
theorem dX1_same_52 : decode cX1_same 52 = .ok (.aload_n 0, 1) := by decide +kernel
theorem dX1_same_53 : decode cX1_same 53 = .ok (.getfield 10, 3) := by decide +kernel
theorem dX1_same_56 : decode cX1_same 56 = .ok (.getfield 86, 3) := by decide +kernel
theorem dX1_same_59 : decode cX1_same 59 = .ok (.iload_n 1, 1) := by decide +kernel
theorem dX1_same_60 : decode cX1_same 60 = .ok (.aaload, 1) := by decide +kernel
theorem dX1_same_61 : decode cX1_same 61 = .ok (.astore 7, 2) := by decide +kernel
theorem dX1_same_63 : decode cX1_same 63 = .ok (.aload 7, 2) := by decide +kernel
theorem dX1_same_65 : decode cX1_same 65 = .ok (.iconst 0, 1) := by decide +kernel
theorem dX1_same_66 : decode cX1_same 66 = .ok (.iaload, 1) := by decide +kernel
theorem dX1_same_67 : decode cX1_same 67 = .ok (.aload_n 0, 1) := by decide +kernel
theorem dX1_same_68 : decode cX1_same 68 = .ok (.getfield 53, 3) := by decide +kernel
theorem dX1_same_71 : decode cX1_same 71 = .ok (.irem, 1) := by decide +kernel
theorem dX1_same_72 : decode cX1_same 72 = .ok (.iload_n 2, 1) := by decide +kernel
theorem dX1_same_73 : decode cX1_same 73 = .ok (.iadd, 1) := by decide +kernel
theorem dX1_same_74 : decode cX1_same 74 = .ok (.istore 8, 2) := by decide +kernel
theorem dX1_same_76 : decode cX1_same 76 = .ok (.aload 7, 2) := by decide +kernel
theorem dX1_same_78 : decode cX1_same 78 = .ok (.iconst 0, 1) := by decide +kernel
theorem dX1_same_79 : decode cX1_same 79 = .ok (.iaload, 1) := by decide +kernel
theorem dX1_same_80 : decode cX1_same 80 = .ok (.aload_n 0, 1) := by decide +kernel
theorem dX1_same_81 : decode cX1_same 81 = .ok (.getfield 53, 3) := by decide +kernel
theorem dX1_same_84 : decode cX1_same 84 = .ok (.idiv, 1) := by decide +kernel
theorem dX1_same_85 : decode cX1_same 85 = .ok (.iload_n 3, 1) := by decide +kernel
theorem dX1_same_86 : decode cX1_same 86 = .ok (.iadd, 1) := by decide +kernel
theorem dX1_same_87 : decode cX1_same 87 = .ok (.istore 9, 2) := by decide +kernel
theorem dX1_same_89 : decode cX1_same 89 = .ok (.iload 8, 2) := by decide +kernel
theorem dX1_same_91 : decode cX1_same 91 = .ok (.iconst 0, 1) := by decide +kernel
theorem dX1_same_92 : decode cX1_same 92 = .ok (.aload_n 0, 1) := by decide +kernel
theorem dX1_same_93 : decode cX1_same 93 = .ok (.getfield 53, 3) := by decide +kernel
theorem dX1_same_96 : decode cX1_same 96 = .ok (.iconst 1, 1) := by decide +kernel
theorem dX1_same_97 : decode cX1_same 97 = .ok (.isub, 1) := by decide +kernel
theorem dX1_same_98 : decode cX1_same 98 = .ok (.invokestatic 66, 3) := by decide +kernel
theorem dX1_same_101 : decode cX1_same 101 = .ok (.ifCond .eq 18, 3) := by decide +kernel
theorem dX1_same_104 : decode cX1_same 104 = .ok (.iload 9, 2) := by decide +kernel
theorem dX1_same_106 : decode cX1_same 106 = .ok (.iconst 0, 1) := by decide +kernel
theorem dX1_same_107 : decode cX1_same 107 = .ok (.aload_n 0, 1) := by decide +kernel
theorem dX1_same_108 : decode cX1_same 108 = .ok (.getfield 56, 3) := by decide +kernel
theorem dX1_same_111 : decode cX1_same 111 = .ok (.iconst 1, 1) := by decide +kernel
theorem dX1_same_112 : decode cX1_same 112 = .ok (.isub, 1) := by decide +kernel
theorem dX1_same_113 : decode cX1_same 113 = .ok (.invokestatic 66, 3) := by decide +kernel
theorem dX1_same_116 : decode cX1_same 116 = .ok (.ifCond .ne 5, 3) := by decide +kernel
theorem dX1_same_119 : decode cX1_same 119 = .ok (.iconst (-1), 1) := by decide +kernel
theorem dX1_same_120 : decode cX1_same 120 = .ok (.ireturn, 1) := by decide +kernel
theorem dX1_same_121 : decode cX1_same 121 = .ok (.aload_n 0, 1) := by decide +kernel
theorem dX1_same_122 : decode cX1_same 122 = .ok (.iconst 0, 1) := by decide +kernel
theorem dX1_same_123 : decode cX1_same 123 = .ok (.invokevirtual 94, 3) := by decide +kernel
theorem dX1_same_126 : decode cX1_same 126 = .ok (.iconst 0, 1) := by decide +kernel
theorem dX1_same_127 : decode cX1_same 127 = .ok (.istore 10, 2) := by decide +kernel
theorem dX1_same_129 : decode cX1_same 129 = .ok (.iload 10, 2) := by decide +kernel
theorem dX1_same_131 : decode cX1_same 131 = .ok (.aload_n 0, 1) := by decide +kernel
theorem dX1_same_132 : decode cX1_same 132 = .ok (.getfield 10, 3) := by decide +kernel
theorem dX1_same_135 : decode cX1_same 135 = .ok (.getfield 59, 3) := by decide +kernel
theorem dX1_same_138 : decode cX1_same 138 = .ok (.iconst 1, 1) := by decide +kernel
theorem dX1_same_139 : decode cX1_same 139 = .ok (.iaload, 1) := by decide +kernel
theorem dX1_same_140 : decode cX1_same 140 = .ok (.if_icmp .ge 28, 3) := by decide +kernel
theorem dX1_same_143 : decode cX1_same 143 = .ok (.aload_n 0, 1) := by decide +kernel
theorem dX1_same_144 : decode cX1_same 144 = .ok (.getfield 34, 3) := by decide +kernel
theorem dX1_same_147 : decode cX1_same 147 = .ok (.iload 10, 2) := by decide +kernel
theorem dX1_same_149 : decode cX1_same 149 = .ok (.aload_n 0, 1) := by decide +kernel
theorem dX1_same_150 : decode cX1_same 150 = .ok (.iload 10, 2) := by decide +kernel
theorem dX1_same_152 : decode cX1_same 152 = .ok (.iload 4, 2) := by decide +kernel
theorem dX1_same_154 : decode cX1_same 154 = .ok (.iload 5, 2) := by decide +kernel
theorem dX1_same_156 : decode cX1_same 156 = .ok (.iload 6, 2) := by decide +kernel
theorem dX1_same_158 : decode cX1_same 158 = .ok (.invokevirtual 138, 3) := by decide +kernel
theorem dX1_same_161 : decode cX1_same 161 = .ok (.iastore, 1) := by decide +kernel
theorem dX1_same_162 : decode cX1_same 162 = .ok (.iinc 10 1, 3) := by decide +kernel
theorem dX1_same_165 : decode cX1_same 165 = .ok (.goto (-36), 3) := by decide +kernel
theorem dX1_same_168 : decode cX1_same 168 = .ok (.aload 7, 2) := by decide +kernel
theorem dX1_same_170 : decode cX1_same 170 = .ok (.iconst 0, 1) := by decide +kernel
theorem dX1_same_171 : decode cX1_same 171 = .ok (.iaload, 1) := by decide +kernel
theorem dX1_same_172 : decode cX1_same 172 = .ok (.istore 10, 2) := by decide +kernel
theorem dX1_same_174 : decode cX1_same 174 = .ok (.aload 7, 2) := by decide +kernel
theorem dX1_same_176 : decode cX1_same 176 = .ok (.iconst 0, 1) := by decide +kernel
theorem dX1_same_177 : decode cX1_same 177 = .ok (.iload 9, 2) := by decide +kernel
theorem dX1_same_179 : decode cX1_same 179 = .ok (.aload_n 0, 1) := by decide +kernel
theorem dX1_same_180 : decode cX1_same 180 = .ok (.getfield 53, 3) := by decide +kernel
theorem dX1_same_183 : decode cX1_same 183 = .ok (.imul, 1) := by decide +kernel
theorem dX1_same_184 : decode cX1_same 184 = .ok (.iload 8, 2) := by decide +kernel
theorem dX1_same_186 : decode cX1_same 186 = .ok (.iadd, 1) := by decide +kernel
theorem dX1_same_187 : decode cX1_same 187 = .ok (.iastore, 1) := by decide +kernel
theorem dX1_same_188 : decode cX1_same 188 = .ok (.aload_n 0, 1) := by decide +kernel
theorem dX1_same_189 : decode cX1_same 189 = .ok (.iconst 0, 1) := by decide +kernel
theorem dX1_same_190 : decode cX1_same 190 = .ok (.invokevirtual 94, 3) := by decide +kernel
theorem dX1_same_193 : decode cX1_same 193 = .ok (.aload 7, 2) := by decide +kernel
theorem dX1_same_195 : decode cX1_same 195 = .ok (.iconst 0, 1) := by decide +kernel
theorem dX1_same_196 : decode cX1_same 196 = .ok (.iload 10, 2) := by decide +kernel
theorem dX1_same_198 : decode cX1_same 198 = .ok (.iastore, 1) := by decide +kernel
theorem dX1_same_199 : decode cX1_same 199 = .ok (.iconst 0, 1) := by decide +kernel
theorem dX1_same_200 : decode cX1_same 200 = .ok (.istore 11, 2) := by decide +kernel
theorem dX1_same_202 : decode cX1_same 202 = .ok (.iload 11, 2) := by decide +kernel
theorem dX1_same_204 : decode cX1_same 204 = .ok (.aload_n 0, 1) := by decide +kernel
theorem dX1_same_205 : decode cX1_same 205 = .ok (.getfield 10, 3) := by decide +kernel
theorem dX1_same_208 : decode cX1_same 208 = .ok (.getfield 59, 3) := by decide +kernel
theorem dX1_same_211 : decode cX1_same 211 = .ok (.iconst 1, 1) := by decide +kernel
theorem dX1_same_212 : decode cX1_same 212 = .ok (.iaload, 1) := by decide +kernel
theorem dX1_same_213 : decode cX1_same 213 = .ok (.if_icmp .ge 33, 3) := by decide +kernel
theorem dX1_same_216 : decode cX1_same 216 = .ok (.aload_n 0, 1) := by decide +kernel
theorem dX1_same_217 : decode cX1_same 217 = .ok (.getfield 34, 3) := by decide +kernel
theorem dX1_same_220 : decode cX1_same 220 = .ok (.iload 11, 2) := by decide +kernel
theorem dX1_same_222 : decode cX1_same 222 = .ok (.iaload, 1) := by decide +kernel
theorem dX1_same_223 : decode cX1_same 223 = .ok (.aload_n 0, 1) := by decide +kernel
theorem dX1_same_224 : decode cX1_same 224 = .ok (.iload 11, 2) := by decide +kernel
theorem dX1_same_226 : decode cX1_same 226 = .ok (.iload 4, 2) := by decide +kernel
theorem dX1_same_228 : decode cX1_same 228 = .ok (.iload 5, 2) := by decide +kernel
theorem dX1_same_230 : decode cX1_same 230 = .ok (.iload 6, 2) := by decide +kernel
theorem dX1_same_232 : decode cX1_same 232 = .ok (.invokevirtual 138, 3) := by decide +kernel
theorem dX1_same_235 : decode cX1_same 235 = .ok (.if_icmp .eq 5, 3) := by decide +kernel
theorem dX1_same_238 : decode cX1_same 238 = .ok (.iconst 0, 1) := by decide +kernel
theorem dX1_same_239 : decode cX1_same 239 = .ok (.ireturn, 1) := by decide +kernel
theorem dX1_same_240 : decode cX1_same 240 = .ok (.iinc 11 1, 3) := by decide +kernel
theorem dX1_same_243 : decode cX1_same 243 = .ok (.goto (-41), 3) := by decide +kernel
theorem dX1_same_246 : decode cX1_same 246 = .ok (.iconst 1, 1) := by decide +kernel
theorem dX1_same_247 : decode cX1_same 247 = .ok (.ireturn, 1) := by decide +kernel
abbrev cX1_feed : ByteArray := prog_1_method_29_code
def yX1_feed : MethodName := ⟨RX1, "feed", "(IIIII)I"⟩
theorem dX1_feed_0 : decode cX1_feed 0 = .ok (.aload_n 0, 1) := by decide +kernel
theorem dX1_feed_1 : decode cX1_feed 1 = .ok (.getfield 150, 3) := by decide +kernel
theorem dX1_feed_4 : decode cX1_feed 4 = .ok (.bipush 20, 2) := by decide +kernel
theorem dX1_feed_6 : decode cX1_feed 6 = .ok (.iadd, 1) := by decide +kernel
theorem dX1_feed_7 : decode cX1_feed 7 = .ok (.sipush 300, 3) := by decide +kernel
theorem dX1_feed_10 : decode cX1_feed 10 = .ok (.if_icmp .le 5, 3) := by decide +kernel
theorem dX1_feed_13 : decode cX1_feed 13 = .ok (.iconst (-1), 1) := by decide +kernel
theorem dX1_feed_14 : decode cX1_feed 14 = .ok (.ireturn, 1) := by decide +kernel
theorem dX1_feed_15 : decode cX1_feed 15 = .ok (.aload_n 0, 1) := by decide +kernel
theorem dX1_feed_16 : decode cX1_feed 16 = .ok (.iload_n 1, 1) := by decide +kernel
theorem dX1_feed_17 : decode cX1_feed 17 = .ok (.invokevirtual 153, 3) := by decide +kernel
theorem dX1_feed_20 : decode cX1_feed 20 = .ok (.aload_n 0, 1) := by decide +kernel
theorem dX1_feed_21 : decode cX1_feed 21 = .ok (.iload_n 2, 1) := by decide +kernel
theorem dX1_feed_22 : decode cX1_feed 22 = .ok (.invokevirtual 153, 3) := by decide +kernel
theorem dX1_feed_25 : decode cX1_feed 25 = .ok (.aload_n 0, 1) := by decide +kernel
theorem dX1_feed_26 : decode cX1_feed 26 = .ok (.iload_n 3, 1) := by decide +kernel
theorem dX1_feed_27 : decode cX1_feed 27 = .ok (.invokevirtual 153, 3) := by decide +kernel
theorem dX1_feed_30 : decode cX1_feed 30 = .ok (.aload_n 0, 1) := by decide +kernel
theorem dX1_feed_31 : decode cX1_feed 31 = .ok (.iload 4, 2) := by decide +kernel
theorem dX1_feed_33 : decode cX1_feed 33 = .ok (.invokevirtual 153, 3) := by decide +kernel
theorem dX1_feed_36 : decode cX1_feed 36 = .ok (.aload_n 0, 1) := by decide +kernel
theorem dX1_feed_37 : decode cX1_feed 37 = .ok (.iload 5, 2) := by decide +kernel
theorem dX1_feed_39 : decode cX1_feed 39 = .ok (.invokevirtual 153, 3) := by decide +kernel
theorem dX1_feed_42 : decode cX1_feed 42 = .ok (.aload_n 0, 1) := by decide +kernel
theorem dX1_feed_43 : decode cX1_feed 43 = .ok (.getfield 150, 3) := by decide +kernel
theorem dX1_feed_46 : decode cX1_feed 46 = .ok (.ireturn, 1) := by decide +kernel
abbrev cX1_put : ByteArray := prog_1_method_28_code
def yX1_put : MethodName := ⟨RX1, "put", "(I)V"⟩
theorem dX1_put_0 : decode cX1_put 0 = .ok (.bipush 24, 2) := by decide +kernel
theorem dX1_put_2 : decode cX1_put 2 = .ok (.istore_n 2, 1) := by decide +kernel
theorem dX1_put_3 : decode cX1_put 3 = .ok (.iload_n 2, 1) := by decide +kernel
theorem dX1_put_4 : decode cX1_put 4 = .ok (.ifCond .lt 32, 3) := by decide +kernel
theorem dX1_put_7 : decode cX1_put 7 = .ok (.aload_n 0, 1) := by decide +kernel
theorem dX1_put_8 : decode cX1_put 8 = .ok (.getfield 19, 3) := by decide +kernel
theorem dX1_put_11 : decode cX1_put 11 = .ok (.aload_n 0, 1) := by decide +kernel
theorem dX1_put_12 : decode cX1_put 12 = .ok (.getfield 150, 3) := by decide +kernel
theorem dX1_put_15 : decode cX1_put 15 = .ok (.iload_n 1, 1) := by decide +kernel
theorem dX1_put_16 : decode cX1_put 16 = .ok (.iload_n 2, 1) := by decide +kernel
theorem dX1_put_17 : decode cX1_put 17 = .ok (.ishr, 1) := by decide +kernel
theorem dX1_put_18 : decode cX1_put 18 = .ok (.i2b, 1) := by decide +kernel
theorem dX1_put_19 : decode cX1_put 19 = .ok (.bastore, 1) := by decide +kernel
theorem dX1_put_20 : decode cX1_put 20 = .ok (.aload_n 0, 1) := by decide +kernel
theorem dX1_put_21 : decode cX1_put 21 = .ok (.dup, 1) := by decide +kernel
theorem dX1_put_22 : decode cX1_put 22 = .ok (.getfield 150, 3) := by decide +kernel
theorem dX1_put_25 : decode cX1_put 25 = .ok (.iconst 1, 1) := by decide +kernel
theorem dX1_put_26 : decode cX1_put 26 = .ok (.iadd, 1) := by decide +kernel
theorem dX1_put_27 : decode cX1_put 27 = .ok (.putfield 150, 3) := by decide +kernel
theorem dX1_put_30 : decode cX1_put 30 = .ok (.iinc 2 (-8), 3) := by decide +kernel
theorem dX1_put_33 : decode cX1_put 33 = .ok (.goto (-30), 3) := by decide +kernel
theorem dX1_put_36 : decode cX1_put 36 = .ok (.return_, 1) := by decide +kernel
abbrev cX1_end : ByteArray := prog_1_method_30_code
def yX1_end : MethodName := ⟨RX1, "end", "(I)I"⟩
theorem dX1_end_0 : decode cX1_end 0 = .ok (.iload_n 1, 1) := by decide +kernel
theorem dX1_end_1 : decode cX1_end 1 = .ok (.iconst 0, 1) := by decide +kernel
theorem dX1_end_2 : decode cX1_end 2 = .ok (.aload_n 0, 1) := by decide +kernel
theorem dX1_end_3 : decode cX1_end 3 = .ok (.getfield 150, 3) := by decide +kernel
theorem dX1_end_6 : decode cX1_end 6 = .ok (.invokestatic 66, 3) := by decide +kernel
theorem dX1_end_9 : decode cX1_end 9 = .ok (.ifCond .ne 5, 3) := by decide +kernel
theorem dX1_end_12 : decode cX1_end 12 = .ok (.iconst (-1), 1) := by decide +kernel
theorem dX1_end_13 : decode cX1_end 13 = .ok (.ireturn, 1) := by decide +kernel
theorem dX1_end_14 : decode cX1_end 14 = .ok (.aload_n 0, 1) := by decide +kernel
theorem dX1_end_15 : decode cX1_end 15 = .ok (.iload_n 1, 1) := by decide +kernel
theorem dX1_end_16 : decode cX1_end 16 = .ok (.putfield 150, 3) := by decide +kernel
theorem dX1_end_19 : decode cX1_end 19 = .ok (.iload_n 1, 1) := by decide +kernel
theorem dX1_end_20 : decode cX1_end 20 = .ok (.ireturn, 1) := by decide +kernel
abbrev cX1_rule : ByteArray := prog_1_method_31_code
def yX1_rule : MethodName := ⟨RX1, "rule", "()I"⟩
theorem dX1_rule_0 : decode cX1_rule 0 = .ok (.aload_n 0, 1) := by decide +kernel
theorem dX1_rule_1 : decode cX1_rule 1 = .ok (.getfield 10, 3) := by decide +kernel
theorem dX1_rule_4 : decode cX1_rule 4 = .ok (.getfield 59, 3) := by decide +kernel
theorem dX1_rule_7 : decode cX1_rule 7 = .ok (.iconst 3, 1) := by decide +kernel
theorem dX1_rule_8 : decode cX1_rule 8 = .ok (.iaload, 1) := by decide +kernel
theorem dX1_rule_9 : decode cX1_rule 9 = .ok (.bipush 8, 2) := by decide +kernel
theorem dX1_rule_11 : decode cX1_rule 11 = .ok (.if_icmp .ne 5, 3) := by decide +kernel
theorem dX1_rule_14 : decode cX1_rule 14 = .ok (.iconst (-1), 1) := by decide +kernel
theorem dX1_rule_15 : decode cX1_rule 15 = .ok (.ireturn, 1) := by decide +kernel
theorem dX1_rule_16 : decode cX1_rule 16 = .ok (.aload_n 0, 1) := by decide +kernel
theorem dX1_rule_17 : decode cX1_rule 17 = .ok (.getfield 150, 3) := by decide +kernel
theorem dX1_rule_20 : decode cX1_rule 20 = .ok (.istore_n 1, 1) := by decide +kernel
theorem dX1_rule_21 : decode cX1_rule 21 = .ok (.aload_n 0, 1) := by decide +kernel
theorem dX1_rule_22 : decode cX1_rule 22 = .ok (.iconst 0, 1) := by decide +kernel
theorem dX1_rule_23 : decode cX1_rule 23 = .ok (.putfield 23, 3) := by decide +kernel
theorem dX1_rule_26 : decode cX1_rule 26 = .ok (.aload_n 0, 1) := by decide +kernel
theorem dX1_rule_27 : decode cX1_rule 27 = .ok (.iconst (-1), 1) := by decide +kernel
theorem dX1_rule_28 : decode cX1_rule 28 = .ok (.putfield 27, 3) := by decide +kernel
theorem dX1_rule_31 : decode cX1_rule 31 = .ok (.aload_n 0, 1) := by decide +kernel
theorem dX1_rule_32 : decode cX1_rule 32 = .ok (.getfield 10, 3) := by decide +kernel
theorem dX1_rule_35 : decode cX1_rule 35 = .ok (.getfield 156, 3) := by decide +kernel
theorem dX1_rule_38 : decode cX1_rule 38 = .ok (.new 160, 3) := by decide +kernel
theorem dX1_rule_41 : decode cX1_rule 41 = .ok (.dup, 1) := by decide +kernel
theorem dX1_rule_42 : decode cX1_rule 42 = .ok (.aload_n 0, 1) := by decide +kernel
theorem dX1_rule_43 : decode cX1_rule 43 = .ok (.getfield 19, 3) := by decide +kernel
theorem dX1_rule_46 : decode cX1_rule 46 = .ok (.iload_n 1, 1) := by decide +kernel
theorem dX1_rule_47 : decode cX1_rule 47 = .ok (.invokespecial 162, 3) := by decide +kernel
theorem dX1_rule_50 : decode cX1_rule 50 = .ok (.invokevirtual 165, 3) := by decide +kernel
theorem dX1_rule_53 : decode cX1_rule 53 = .ok (.invokevirtual 169, 3) := by decide +kernel
theorem dX1_rule_56 : decode cX1_rule 56 = .ok (.pop, 1) := by decide +kernel
theorem dX1_rule_57 : decode cX1_rule 57 = .ok (.aload_n 0, 1) := by decide +kernel
theorem dX1_rule_58 : decode cX1_rule 58 = .ok (.iconst 0, 1) := by decide +kernel
theorem dX1_rule_59 : decode cX1_rule 59 = .ok (.putfield 150, 3) := by decide +kernel
theorem dX1_rule_62 : decode cX1_rule 62 = .ok (.goto 39, 3) := by decide +kernel
theorem dX1_rule_65 : decode cX1_rule 65 = .ok (.astore_n 2, 1) := by decide +kernel
theorem dX1_rule_66 : decode cX1_rule 66 = .ok (.aload_n 0, 1) := by decide +kernel
theorem dX1_rule_67 : decode cX1_rule 67 = .ok (.aload_n 2, 1) := by decide +kernel
theorem dX1_rule_68 : decode cX1_rule 68 = .ok (.getfield 177, 3) := by decide +kernel
theorem dX1_rule_71 : decode cX1_rule 71 = .ok (.putfield 23, 3) := by decide +kernel
theorem dX1_rule_74 : decode cX1_rule 74 = .ok (.aload_n 0, 1) := by decide +kernel
theorem dX1_rule_75 : decode cX1_rule 75 = .ok (.aload_n 2, 1) := by decide +kernel
theorem dX1_rule_76 : decode cX1_rule 76 = .ok (.getfield 178, 3) := by decide +kernel
theorem dX1_rule_79 : decode cX1_rule 79 = .ok (.putfield 27, 3) := by decide +kernel
theorem dX1_rule_82 : decode cX1_rule 82 = .ok (.iconst (-1), 1) := by decide +kernel
theorem dX1_rule_83 : decode cX1_rule 83 = .ok (.istore_n 3, 1) := by decide +kernel
theorem dX1_rule_84 : decode cX1_rule 84 = .ok (.aload_n 0, 1) := by decide +kernel
theorem dX1_rule_85 : decode cX1_rule 85 = .ok (.iconst 0, 1) := by decide +kernel
theorem dX1_rule_86 : decode cX1_rule 86 = .ok (.putfield 150, 3) := by decide +kernel
theorem dX1_rule_89 : decode cX1_rule 89 = .ok (.iload_n 3, 1) := by decide +kernel
theorem dX1_rule_90 : decode cX1_rule 90 = .ok (.ireturn, 1) := by decide +kernel
theorem dX1_rule_91 : decode cX1_rule 91 = .ok (.astore 4, 2) := by decide +kernel
theorem dX1_rule_93 : decode cX1_rule 93 = .ok (.aload_n 0, 1) := by decide +kernel
theorem dX1_rule_94 : decode cX1_rule 94 = .ok (.iconst 0, 1) := by decide +kernel
theorem dX1_rule_95 : decode cX1_rule 95 = .ok (.putfield 150, 3) := by decide +kernel
theorem dX1_rule_98 : decode cX1_rule 98 = .ok (.aload 4, 2) := by decide +kernel
theorem dX1_rule_100 : decode cX1_rule 100 = .ok (.athrow, 1) := by decide +kernel
theorem dX1_rule_101 : decode cX1_rule 101 = .ok (.aload_n 0, 1) := by decide +kernel
theorem dX1_rule_102 : decode cX1_rule 102 = .ok (.getfield 10, 3) := by decide +kernel
theorem dX1_rule_105 : decode cX1_rule 105 = .ok (.getfield 59, 3) := by decide +kernel
theorem dX1_rule_108 : decode cX1_rule 108 = .ok (.iconst 3, 1) := by decide +kernel
theorem dX1_rule_109 : decode cX1_rule 109 = .ok (.dup2, 1) := by decide +kernel
theorem dX1_rule_110 : decode cX1_rule 110 = .ok (.iaload, 1) := by decide +kernel
theorem dX1_rule_111 : decode cX1_rule 111 = .ok (.iconst 1, 1) := by decide +kernel
theorem dX1_rule_112 : decode cX1_rule 112 = .ok (.iadd, 1) := by decide +kernel
theorem dX1_rule_113 : decode cX1_rule 113 = .ok (.iastore, 1) := by decide +kernel
theorem dX1_rule_114 : decode cX1_rule 114 = .ok (.aload_n 0, 1) := by decide +kernel
theorem dX1_rule_115 : decode cX1_rule 115 = .ok (.getfield 10, 3) := by decide +kernel
theorem dX1_rule_118 : decode cX1_rule 118 = .ok (.getfield 59, 3) := by decide +kernel
theorem dX1_rule_121 : decode cX1_rule 121 = .ok (.iconst 3, 1) := by decide +kernel
theorem dX1_rule_122 : decode cX1_rule 122 = .ok (.iaload, 1) := by decide +kernel
theorem dX1_rule_123 : decode cX1_rule 123 = .ok (.iconst 1, 1) := by decide +kernel
theorem dX1_rule_124 : decode cX1_rule 124 = .ok (.isub, 1) := by decide +kernel
theorem dX1_rule_125 : decode cX1_rule 125 = .ok (.ireturn, 1) := by decide +kernel
abbrev cX1_fault : ByteArray := prog_1_method_32_code
def yX1_fault : MethodName := ⟨RX1, "fault", "(I)I"⟩
theorem dX1_fault_0 : decode cX1_fault 0 = .ok (.iload_n 1, 1) := by decide +kernel
theorem dX1_fault_1 : decode cX1_fault 1 = .ok (.ifCond .ne 10, 3) := by decide +kernel
theorem dX1_fault_4 : decode cX1_fault 4 = .ok (.aload_n 0, 1) := by decide +kernel
theorem dX1_fault_5 : decode cX1_fault 5 = .ok (.getfield 23, 3) := by decide +kernel
theorem dX1_fault_8 : decode cX1_fault 8 = .ok (.goto 16, 3) := by decide +kernel
theorem dX1_fault_11 : decode cX1_fault 11 = .ok (.iload_n 1, 1) := by decide +kernel
theorem dX1_fault_12 : decode cX1_fault 12 = .ok (.iconst 1, 1) := by decide +kernel
theorem dX1_fault_13 : decode cX1_fault 13 = .ok (.if_icmp .ne 10, 3) := by decide +kernel
theorem dX1_fault_16 : decode cX1_fault 16 = .ok (.aload_n 0, 1) := by decide +kernel
theorem dX1_fault_17 : decode cX1_fault 17 = .ok (.getfield 27, 3) := by decide +kernel
theorem dX1_fault_20 : decode cX1_fault 20 = .ok (.goto 4, 3) := by decide +kernel
theorem dX1_fault_23 : decode cX1_fault 23 = .ok (.iconst (-1), 1) := by decide +kernel
theorem dX1_fault_24 : decode cX1_fault 24 = .ok (.ireturn, 1) := by decide +kernel
abbrev cX1_fly : ByteArray := prog_1_method_38_code
def yX1_fly : MethodName := ⟨RX1, "fly", "(IIIIII)I"⟩
theorem dX1_fly_0 : decode cX1_fly 0 = .ok (.aload_n 0, 1) := by decide +kernel
theorem dX1_fly_1 : decode cX1_fly 1 = .ok (.iconst 3, 1) := by decide +kernel
theorem dX1_fly_2 : decode cX1_fly 2 = .ok (.iload_n 1, 1) := by decide +kernel
theorem dX1_fly_3 : decode cX1_fly 3 = .ok (.invokevirtual 135, 3) := by decide +kernel
theorem dX1_fly_6 : decode cX1_fly 6 = .ok (.ifCond .eq 33, 3) := by decide +kernel
theorem dX1_fly_9 : decode cX1_fly 9 = .ok (.iload 5, 2) := by decide +kernel
theorem dX1_fly_11 : decode cX1_fly 11 = .ok (.iconst 1, 1) := by decide +kernel
theorem dX1_fly_12 : decode cX1_fly 12 = .ok (.bipush 60, 2) := by decide +kernel
theorem dX1_fly_14 : decode cX1_fly 14 = .ok (.invokestatic 66, 3) := by decide +kernel
theorem dX1_fly_17 : decode cX1_fly 17 = .ok (.ifCond .eq 22, 3) := by decide +kernel
theorem dX1_fly_20 : decode cX1_fly 20 = .ok (.iload 6, 2) := by decide +kernel
theorem dX1_fly_22 : decode cX1_fly 22 = .ok (.invokestatic 285, 3) := by decide +kernel
theorem dX1_fly_25 : decode cX1_fly 25 = .ok (.ifCond .eq 14, 3) := by decide +kernel
theorem dX1_fly_28 : decode cX1_fly 28 = .ok (.aload_n 0, 1) := by decide +kernel
theorem dX1_fly_29 : decode cX1_fly 29 = .ok (.iload_n 2, 1) := by decide +kernel
theorem dX1_fly_30 : decode cX1_fly 30 = .ok (.iload_n 3, 1) := by decide +kernel
theorem dX1_fly_31 : decode cX1_fly 31 = .ok (.iload 4, 2) := by decide +kernel
theorem dX1_fly_33 : decode cX1_fly 33 = .ok (.invokevirtual 288, 3) := by decide +kernel
theorem dX1_fly_36 : decode cX1_fly 36 = .ok (.ifCond .ne 5, 3) := by decide +kernel
theorem dX1_fly_39 : decode cX1_fly 39 = .ok (.iconst (-1), 1) := by decide +kernel
theorem dX1_fly_40 : decode cX1_fly 40 = .ok (.ireturn, 1) := by decide +kernel
theorem dX1_fly_41 : decode cX1_fly 41 = .ok (.aload_n 0, 1) := by decide +kernel
theorem dX1_fly_42 : decode cX1_fly 42 = .ok (.iload_n 1, 1) := by decide +kernel
theorem dX1_fly_43 : decode cX1_fly 43 = .ok (.iload_n 2, 1) := by decide +kernel
theorem dX1_fly_44 : decode cX1_fly 44 = .ok (.iload_n 3, 1) := by decide +kernel
theorem dX1_fly_45 : decode cX1_fly 45 = .ok (.iload 4, 2) := by decide +kernel
theorem dX1_fly_47 : decode cX1_fly 47 = .ok (.iload 5, 2) := by decide +kernel
theorem dX1_fly_49 : decode cX1_fly 49 = .ok (.iload 6, 2) := by decide +kernel
theorem dX1_fly_51 : decode cX1_fly 51 = .ok (.invokevirtual 291, 3) := by decide +kernel
theorem dX1_fly_54 : decode cX1_fly 54 = .ok (.aload_n 0, 1) := by decide +kernel
theorem dX1_fly_55 : decode cX1_fly 55 = .ok (.getfield 40, 3) := by decide +kernel
theorem dX1_fly_58 : decode cX1_fly 58 = .ok (.astore 7, 2) := by decide +kernel
theorem dX1_fly_60 : decode cX1_fly 60 = .ok (.aload 7, 2) := by decide +kernel
theorem dX1_fly_62 : decode cX1_fly 62 = .ok (.getfield 283, 3) := by decide +kernel
theorem dX1_fly_65 : decode cX1_fly 65 = .ok (.aload_n 0, 1) := by decide +kernel
theorem dX1_fly_66 : decode cX1_fly 66 = .ok (.getfield 10, 3) := by decide +kernel
theorem dX1_fly_69 : decode cX1_fly 69 = .ok (.getfield 295, 3) := by decide +kernel
theorem dX1_fly_72 : decode cX1_fly 72 = .ok (.invokestatic 296, 3) := by decide +kernel
theorem dX1_fly_75 : decode cX1_fly 75 = .ok (.aload 7, 2) := by decide +kernel
theorem dX1_fly_77 : decode cX1_fly 77 = .ok (.getfield 221, 3) := by decide +kernel
theorem dX1_fly_80 : decode cX1_fly 80 = .ok (.aload_n 0, 1) := by decide +kernel
theorem dX1_fly_81 : decode cX1_fly 81 = .ok (.getfield 10, 3) := by decide +kernel
theorem dX1_fly_84 : decode cX1_fly 84 = .ok (.getfield 300, 3) := by decide +kernel
theorem dX1_fly_87 : decode cX1_fly 87 = .ok (.invokestatic 296, 3) := by decide +kernel
theorem dX1_fly_90 : decode cX1_fly 90 = .ok (.aload 7, 2) := by decide +kernel
theorem dX1_fly_92 : decode cX1_fly 92 = .ok (.getfield 224, 3) := by decide +kernel
theorem dX1_fly_95 : decode cX1_fly 95 = .ok (.aload_n 0, 1) := by decide +kernel
theorem dX1_fly_96 : decode cX1_fly 96 = .ok (.getfield 10, 3) := by decide +kernel
theorem dX1_fly_99 : decode cX1_fly 99 = .ok (.getfield 301, 3) := by decide +kernel
theorem dX1_fly_102 : decode cX1_fly 102 = .ok (.invokestatic 296, 3) := by decide +kernel
theorem dX1_fly_105 : decode cX1_fly 105 = .ok (.aload_n 0, 1) := by decide +kernel
theorem dX1_fly_106 : decode cX1_fly 106 = .ok (.getfield 10, 3) := by decide +kernel
theorem dX1_fly_109 : decode cX1_fly 109 = .ok (.getfield 59, 3) := by decide +kernel
theorem dX1_fly_112 : decode cX1_fly 112 = .ok (.iconst 5, 1) := by decide +kernel
theorem dX1_fly_113 : decode cX1_fly 113 = .ok (.aload 7, 2) := by decide +kernel
theorem dX1_fly_115 : decode cX1_fly 115 = .ok (.getfield 193, 3) := by decide +kernel
theorem dX1_fly_118 : decode cX1_fly 118 = .ok (.iastore, 1) := by decide +kernel
theorem dX1_fly_119 : decode cX1_fly 119 = .ok (.aload_n 0, 1) := by decide +kernel
theorem dX1_fly_120 : decode cX1_fly 120 = .ok (.getfield 10, 3) := by decide +kernel
theorem dX1_fly_123 : decode cX1_fly 123 = .ok (.getfield 59, 3) := by decide +kernel
theorem dX1_fly_126 : decode cX1_fly 126 = .ok (.bipush 6, 2) := by decide +kernel
theorem dX1_fly_128 : decode cX1_fly 128 = .ok (.aload 7, 2) := by decide +kernel
theorem dX1_fly_130 : decode cX1_fly 130 = .ok (.getfield 184, 3) := by decide +kernel
theorem dX1_fly_133 : decode cX1_fly 133 = .ok (.iastore, 1) := by decide +kernel
theorem dX1_fly_134 : decode cX1_fly 134 = .ok (.aload_n 0, 1) := by decide +kernel
theorem dX1_fly_135 : decode cX1_fly 135 = .ok (.getfield 10, 3) := by decide +kernel
theorem dX1_fly_138 : decode cX1_fly 138 = .ok (.getfield 59, 3) := by decide +kernel
theorem dX1_fly_141 : decode cX1_fly 141 = .ok (.bipush 7, 2) := by decide +kernel
theorem dX1_fly_143 : decode cX1_fly 143 = .ok (.aload 7, 2) := by decide +kernel
theorem dX1_fly_145 : decode cX1_fly 145 = .ok (.getfield 187, 3) := by decide +kernel
theorem dX1_fly_148 : decode cX1_fly 148 = .ok (.iastore, 1) := by decide +kernel
theorem dX1_fly_149 : decode cX1_fly 149 = .ok (.aload_n 0, 1) := by decide +kernel
theorem dX1_fly_150 : decode cX1_fly 150 = .ok (.getfield 10, 3) := by decide +kernel
theorem dX1_fly_153 : decode cX1_fly 153 = .ok (.getfield 59, 3) := by decide +kernel
theorem dX1_fly_156 : decode cX1_fly 156 = .ok (.bipush 8, 2) := by decide +kernel
theorem dX1_fly_158 : decode cX1_fly 158 = .ok (.aload 7, 2) := by decide +kernel
theorem dX1_fly_160 : decode cX1_fly 160 = .ok (.getfield 190, 3) := by decide +kernel
theorem dX1_fly_163 : decode cX1_fly 163 = .ok (.iastore, 1) := by decide +kernel
theorem dX1_fly_164 : decode cX1_fly 164 = .ok (.aload_n 0, 1) := by decide +kernel
theorem dX1_fly_165 : decode cX1_fly 165 = .ok (.getfield 10, 3) := by decide +kernel
theorem dX1_fly_168 : decode cX1_fly 168 = .ok (.getfield 59, 3) := by decide +kernel
theorem dX1_fly_171 : decode cX1_fly 171 = .ok (.bipush 9, 2) := by decide +kernel
theorem dX1_fly_173 : decode cX1_fly 173 = .ok (.aload 7, 2) := by decide +kernel
theorem dX1_fly_175 : decode cX1_fly 175 = .ok (.getfield 196, 3) := by decide +kernel
theorem dX1_fly_178 : decode cX1_fly 178 = .ok (.ifCond .eq 7, 3) := by decide +kernel
theorem dX1_fly_181 : decode cX1_fly 181 = .ok (.iconst 1, 1) := by decide +kernel
theorem dX1_fly_182 : decode cX1_fly 182 = .ok (.goto 4, 3) := by decide +kernel
theorem dX1_fly_185 : decode cX1_fly 185 = .ok (.iconst 0, 1) := by decide +kernel
theorem dX1_fly_186 : decode cX1_fly 186 = .ok (.iastore, 1) := by decide +kernel
theorem dX1_fly_187 : decode cX1_fly 187 = .ok (.aload_n 0, 1) := by decide +kernel
theorem dX1_fly_188 : decode cX1_fly 188 = .ok (.getfield 10, 3) := by decide +kernel
theorem dX1_fly_191 : decode cX1_fly 191 = .ok (.getfield 59, 3) := by decide +kernel
theorem dX1_fly_194 : decode cX1_fly 194 = .ok (.bipush 10, 2) := by decide +kernel
theorem dX1_fly_196 : decode cX1_fly 196 = .ok (.aload 7, 2) := by decide +kernel
theorem dX1_fly_198 : decode cX1_fly 198 = .ok (.getfield 200, 3) := by decide +kernel
theorem dX1_fly_201 : decode cX1_fly 201 = .ok (.ifCond .eq 7, 3) := by decide +kernel
theorem dX1_fly_204 : decode cX1_fly 204 = .ok (.iconst 1, 1) := by decide +kernel
theorem dX1_fly_205 : decode cX1_fly 205 = .ok (.goto 4, 3) := by decide +kernel
theorem dX1_fly_208 : decode cX1_fly 208 = .ok (.iconst 0, 1) := by decide +kernel
theorem dX1_fly_209 : decode cX1_fly 209 = .ok (.iastore, 1) := by decide +kernel
theorem dX1_fly_210 : decode cX1_fly 210 = .ok (.aload_n 0, 1) := by decide +kernel
theorem dX1_fly_211 : decode cX1_fly 211 = .ok (.getfield 10, 3) := by decide +kernel
theorem dX1_fly_214 : decode cX1_fly 214 = .ok (.getfield 59, 3) := by decide +kernel
theorem dX1_fly_217 : decode cX1_fly 217 = .ok (.bipush 11, 2) := by decide +kernel
theorem dX1_fly_219 : decode cX1_fly 219 = .ok (.aload 7, 2) := by decide +kernel
theorem dX1_fly_221 : decode cX1_fly 221 = .ok (.getfield 203, 3) := by decide +kernel
theorem dX1_fly_224 : decode cX1_fly 224 = .ok (.getfield 207, 3) := by decide +kernel
theorem dX1_fly_227 : decode cX1_fly 227 = .ok (.iastore, 1) := by decide +kernel
theorem dX1_fly_228 : decode cX1_fly 228 = .ok (.aload_n 0, 1) := by decide +kernel
theorem dX1_fly_229 : decode cX1_fly 229 = .ok (.getfield 10, 3) := by decide +kernel
theorem dX1_fly_232 : decode cX1_fly 232 = .ok (.getfield 59, 3) := by decide +kernel
theorem dX1_fly_235 : decode cX1_fly 235 = .ok (.bipush 12, 2) := by decide +kernel
theorem dX1_fly_237 : decode cX1_fly 237 = .ok (.aload_n 0, 1) := by decide +kernel
theorem dX1_fly_238 : decode cX1_fly 238 = .ok (.getfield 10, 3) := by decide +kernel
theorem dX1_fly_241 : decode cX1_fly 241 = .ok (.getfield 59, 3) := by decide +kernel
theorem dX1_fly_244 : decode cX1_fly 244 = .ok (.iconst 1, 1) := by decide +kernel
theorem dX1_fly_245 : decode cX1_fly 245 = .ok (.iaload, 1) := by decide +kernel
theorem dX1_fly_246 : decode cX1_fly 246 = .ok (.iastore, 1) := by decide +kernel
theorem dX1_fly_247 : decode cX1_fly 247 = .ok (.aload_n 0, 1) := by decide +kernel
theorem dX1_fly_248 : decode cX1_fly 248 = .ok (.getfield 10, 3) := by decide +kernel
theorem dX1_fly_251 : decode cX1_fly 251 = .ok (.getfield 59, 3) := by decide +kernel
theorem dX1_fly_254 : decode cX1_fly 254 = .ok (.bipush 13, 2) := by decide +kernel
theorem dX1_fly_256 : decode cX1_fly 256 = .ok (.aload_n 0, 1) := by decide +kernel
theorem dX1_fly_257 : decode cX1_fly 257 = .ok (.getfield 10, 3) := by decide +kernel
theorem dX1_fly_260 : decode cX1_fly 260 = .ok (.getfield 59, 3) := by decide +kernel
theorem dX1_fly_263 : decode cX1_fly 263 = .ok (.iconst 2, 1) := by decide +kernel
theorem dX1_fly_264 : decode cX1_fly 264 = .ok (.iaload, 1) := by decide +kernel
theorem dX1_fly_265 : decode cX1_fly 265 = .ok (.iastore, 1) := by decide +kernel
theorem dX1_fly_266 : decode cX1_fly 266 = .ok (.aload 7, 2) := by decide +kernel
theorem dX1_fly_268 : decode cX1_fly 268 = .ok (.getfield 193, 3) := by decide +kernel
theorem dX1_fly_271 : decode cX1_fly 271 = .ok (.ireturn, 1) := by decide +kernel
abbrev cX1_isBits : ByteArray := prog_1_method_37_code
def yX1_isBits : MethodName := ⟨RX1, "isBits", "(I)Z"⟩
theorem dX1_isBits_0 : decode cX1_isBits 0 = .ok (.iload_n 0, 1) := by decide +kernel
theorem dX1_isBits_1 : decode cX1_isBits 1 = .ok (.ifCond .eq 13, 3) := by decide +kernel
theorem dX1_isBits_4 : decode cX1_isBits 4 = .ok (.iload_n 0, 1) := by decide +kernel
theorem dX1_isBits_5 : decode cX1_isBits 5 = .ok (.iconst 4, 1) := by decide +kernel
theorem dX1_isBits_6 : decode cX1_isBits 6 = .ok (.bipush 20, 2) := by decide +kernel
theorem dX1_isBits_8 : decode cX1_isBits 8 = .ok (.invokestatic 66, 3) := by decide +kernel
theorem dX1_isBits_11 : decode cX1_isBits 11 = .ok (.ifCond .eq 7, 3) := by decide +kernel
theorem dX1_isBits_14 : decode cX1_isBits 14 = .ok (.iconst 1, 1) := by decide +kernel
theorem dX1_isBits_15 : decode cX1_isBits 15 = .ok (.goto 4, 3) := by decide +kernel
theorem dX1_isBits_18 : decode cX1_isBits 18 = .ok (.iconst 0, 1) := by decide +kernel
theorem dX1_isBits_19 : decode cX1_isBits 19 = .ok (.ireturn, 1) := by decide +kernel
abbrev cX1_isStart : ByteArray := prog_1_method_34_code
def yX1_isStart : MethodName := ⟨RX1, "isStart", "(III)Z"⟩
theorem dX1_isStart_0 : decode cX1_isStart 0 = .ok (.aload_n 0, 1) := by decide +kernel
theorem dX1_isStart_1 : decode cX1_isStart 1 = .ok (.iload_n 1, 1) := by decide +kernel
theorem dX1_isStart_2 : decode cX1_isStart 2 = .ok (.iload_n 2, 1) := by decide +kernel
theorem dX1_isStart_3 : decode cX1_isStart 3 = .ok (.invokevirtual 111, 3) := by decide +kernel
theorem dX1_isStart_6 : decode cX1_isStart 6 = .ok (.ifCond .eq 10, 3) := by decide +kernel
theorem dX1_isStart_9 : decode cX1_isStart 9 = .ok (.iload_n 3, 1) := by decide +kernel
theorem dX1_isStart_10 : decode cX1_isStart 10 = .ok (.invokestatic 115, 3) := by decide +kernel
theorem dX1_isStart_13 : decode cX1_isStart 13 = .ok (.ifCond .ne 5, 3) := by decide +kernel
theorem dX1_isStart_16 : decode cX1_isStart 16 = .ok (.iconst 0, 1) := by decide +kernel
theorem dX1_isStart_17 : decode cX1_isStart 17 = .ok (.ireturn, 1) := by decide +kernel
theorem dX1_isStart_18 : decode cX1_isStart 18 = .ok (.aload_n 0, 1) := by decide +kernel
theorem dX1_isStart_19 : decode cX1_isStart 19 = .ok (.iconst 0, 1) := by decide +kernel
theorem dX1_isStart_20 : decode cX1_isStart 20 = .ok (.invokevirtual 94, 3) := by decide +kernel
theorem dX1_isStart_23 : decode cX1_isStart 23 = .ok (.aload_n 0, 1) := by decide +kernel
theorem dX1_isStart_24 : decode cX1_isStart 24 = .ok (.iload_n 1, 1) := by decide +kernel
theorem dX1_isStart_25 : decode cX1_isStart 25 = .ok (.iload_n 2, 1) := by decide +kernel
theorem dX1_isStart_26 : decode cX1_isStart 26 = .ok (.invokevirtual 181, 3) := by decide +kernel
theorem dX1_isStart_29 : decode cX1_isStart 29 = .ok (.ireturn, 1) := by decide +kernel
abbrev cX1_isEmpty : ByteArray := prog_1_method_33_code
def yX1_isEmpty : MethodName := ⟨RX1, "isEmpty", "(II)Z"⟩
theorem dX1_isEmpty_0 : decode cX1_isEmpty 0 = .ok (.aload_n 0, 1) := by decide +kernel
theorem dX1_isEmpty_1 : decode cX1_isEmpty 1 = .ok (.iload_n 1, 1) := by decide +kernel
theorem dX1_isEmpty_2 : decode cX1_isEmpty 2 = .ok (.iload_n 2, 1) := by decide +kernel
theorem dX1_isEmpty_3 : decode cX1_isEmpty 3 = .ok (.invokevirtual 111, 3) := by decide +kernel
theorem dX1_isEmpty_6 : decode cX1_isEmpty 6 = .ok (.ifCond .eq 29, 3) := by decide +kernel
theorem dX1_isEmpty_9 : decode cX1_isEmpty 9 = .ok (.aload_n 0, 1) := by decide +kernel
theorem dX1_isEmpty_10 : decode cX1_isEmpty 10 = .ok (.getfield 30, 3) := by decide +kernel
theorem dX1_isEmpty_13 : decode cX1_isEmpty 13 = .ok (.iload_n 2, 1) := by decide +kernel
theorem dX1_isEmpty_14 : decode cX1_isEmpty 14 = .ok (.bipush 16, 2) := by decide +kernel
theorem dX1_isEmpty_16 : decode cX1_isEmpty 16 = .ok (.idiv, 1) := by decide +kernel
theorem dX1_isEmpty_17 : decode cX1_isEmpty 17 = .ok (.aload_n 0, 1) := by decide +kernel
theorem dX1_isEmpty_18 : decode cX1_isEmpty 18 = .ok (.getfield 53, 3) := by decide +kernel
theorem dX1_isEmpty_21 : decode cX1_isEmpty 21 = .ok (.imul, 1) := by decide +kernel
theorem dX1_isEmpty_22 : decode cX1_isEmpty 22 = .ok (.iload_n 1, 1) := by decide +kernel
theorem dX1_isEmpty_23 : decode cX1_isEmpty 23 = .ok (.bipush 16, 2) := by decide +kernel
theorem dX1_isEmpty_25 : decode cX1_isEmpty 25 = .ok (.idiv, 1) := by decide +kernel
theorem dX1_isEmpty_26 : decode cX1_isEmpty 26 = .ok (.iadd, 1) := by decide +kernel
theorem dX1_isEmpty_27 : decode cX1_isEmpty 27 = .ok (.iaload, 1) := by decide +kernel
theorem dX1_isEmpty_28 : decode cX1_isEmpty 28 = .ok (.ifCond .ne 7, 3) := by decide +kernel
theorem dX1_isEmpty_31 : decode cX1_isEmpty 31 = .ok (.iconst 1, 1) := by decide +kernel
theorem dX1_isEmpty_32 : decode cX1_isEmpty 32 = .ok (.goto 4, 3) := by decide +kernel
theorem dX1_isEmpty_35 : decode cX1_isEmpty 35 = .ok (.iconst 0, 1) := by decide +kernel
theorem dX1_isEmpty_36 : decode cX1_isEmpty 36 = .ok (.ireturn, 1) := by decide +kernel
abbrev cX1_flies : ByteArray := prog_1_method_35_code
def yX1_flies : MethodName := ⟨RX1, "flies", "(IIIIII)V"⟩
theorem dX1_flies_0 : decode cX1_flies 0 = .ok (.aload_n 0, 1) := by decide +kernel
theorem dX1_flies_1 : decode cX1_flies 1 = .ok (.getfield 40, 3) := by decide +kernel
theorem dX1_flies_4 : decode cX1_flies 4 = .ok (.astore 7, 2) := by decide +kernel
theorem dX1_flies_6 : decode cX1_flies 6 = .ok (.aload 7, 2) := by decide +kernel
theorem dX1_flies_8 : decode cX1_flies 8 = .ok (.iload_n 2, 1) := by decide +kernel
theorem dX1_flies_9 : decode cX1_flies 9 = .ok (.putfield 184, 3) := by decide +kernel
theorem dX1_flies_12 : decode cX1_flies 12 = .ok (.aload 7, 2) := by decide +kernel
theorem dX1_flies_14 : decode cX1_flies 14 = .ok (.iload_n 3, 1) := by decide +kernel
theorem dX1_flies_15 : decode cX1_flies 15 = .ok (.putfield 187, 3) := by decide +kernel
theorem dX1_flies_18 : decode cX1_flies 18 = .ok (.aload 7, 2) := by decide +kernel
theorem dX1_flies_20 : decode cX1_flies 20 = .ok (.iload 4, 2) := by decide +kernel
theorem dX1_flies_22 : decode cX1_flies 22 = .ok (.putfield 190, 3) := by decide +kernel
theorem dX1_flies_25 : decode cX1_flies 25 = .ok (.aload 7, 2) := by decide +kernel
theorem dX1_flies_27 : decode cX1_flies 27 = .ok (.iconst 0, 1) := by decide +kernel
theorem dX1_flies_28 : decode cX1_flies 28 = .ok (.putfield 193, 3) := by decide +kernel
theorem dX1_flies_31 : decode cX1_flies 31 = .ok (.aload 7, 2) := by decide +kernel
theorem dX1_flies_33 : decode cX1_flies 33 = .ok (.iconst 0, 1) := by decide +kernel
theorem dX1_flies_34 : decode cX1_flies 34 = .ok (.putfield 196, 3) := by decide +kernel
theorem dX1_flies_37 : decode cX1_flies 37 = .ok (.aload 7, 2) := by decide +kernel
theorem dX1_flies_39 : decode cX1_flies 39 = .ok (.iconst 0, 1) := by decide +kernel
theorem dX1_flies_40 : decode cX1_flies 40 = .ok (.putfield 200, 3) := by decide +kernel
theorem dX1_flies_43 : decode cX1_flies 43 = .ok (.aload 7, 2) := by decide +kernel
theorem dX1_flies_45 : decode cX1_flies 45 = .ok (.getfield 203, 3) := by decide +kernel
theorem dX1_flies_48 : decode cX1_flies 48 = .ok (.iconst 0, 1) := by decide +kernel
theorem dX1_flies_49 : decode cX1_flies 49 = .ok (.putfield 207, 3) := by decide +kernel
theorem dX1_flies_52 : decode cX1_flies 52 = .ok (.aload 7, 2) := by decide +kernel
theorem dX1_flies_54 : decode cX1_flies 54 = .ok (.getfield 203, 3) := by decide +kernel
theorem dX1_flies_57 : decode cX1_flies 57 = .ok (.iload 6, 2) := by decide +kernel
theorem dX1_flies_59 : decode cX1_flies 59 = .ok (.ifCond .ne 9, 3) := by decide +kernel
theorem dX1_flies_62 : decode cX1_flies 62 = .ok (.ldc2_w 212, 3) := by decide +kernel
theorem dX1_flies_65 : decode cX1_flies 65 = .ok (.goto 11, 3) := by decide +kernel
theorem dX1_flies_68 : decode cX1_flies 68 = .ok (.lconst 1, 1) := by decide +kernel
theorem dX1_flies_69 : decode cX1_flies 69 = .ok (.iload 6, 2) := by decide +kernel
theorem dX1_flies_71 : decode cX1_flies 71 = .ok (.iconst 1, 1) := by decide +kernel
theorem dX1_flies_72 : decode cX1_flies 72 = .ok (.isub, 1) := by decide +kernel
theorem dX1_flies_73 : decode cX1_flies 73 = .ok (.lshl, 1) := by decide +kernel
theorem dX1_flies_74 : decode cX1_flies 74 = .ok (.lconst 1, 1) := by decide +kernel
theorem dX1_flies_75 : decode cX1_flies 75 = .ok (.lsub, 1) := by decide +kernel
theorem dX1_flies_76 : decode cX1_flies 76 = .ok (.putfield 214, 3) := by decide +kernel
theorem dX1_flies_79 : decode cX1_flies 79 = .ok (.aload 7, 2) := by decide +kernel
theorem dX1_flies_81 : decode cX1_flies 81 = .ok (.getfield 193, 3) := by decide +kernel
theorem dX1_flies_84 : decode cX1_flies 84 = .ok (.iload 5, 2) := by decide +kernel
theorem dX1_flies_86 : decode cX1_flies 86 = .ok (.if_icmp .ge 27, 3) := by decide +kernel
theorem dX1_flies_89 : decode cX1_flies 89 = .ok (.aload 7, 2) := by decide +kernel
theorem dX1_flies_91 : decode cX1_flies 91 = .ok (.getfield 196, 3) := by decide +kernel
theorem dX1_flies_94 : decode cX1_flies 94 = .ok (.ifCond .ne 19, 3) := by decide +kernel
theorem dX1_flies_97 : decode cX1_flies 97 = .ok (.aload 7, 2) := by decide +kernel
theorem dX1_flies_99 : decode cX1_flies 99 = .ok (.getfield 200, 3) := by decide +kernel
theorem dX1_flies_102 : decode cX1_flies 102 = .ok (.ifCond .ne 11, 3) := by decide +kernel
theorem dX1_flies_105 : decode cX1_flies 105 = .ok (.aload_n 0, 1) := by decide +kernel
theorem dX1_flies_106 : decode cX1_flies 106 = .ok (.iload_n 1, 1) := by decide +kernel
theorem dX1_flies_107 : decode cX1_flies 107 = .ok (.invokevirtual 218, 3) := by decide +kernel
theorem dX1_flies_110 : decode cX1_flies 110 = .ok (.goto (-31), 3) := by decide +kernel
theorem dX1_flies_113 : decode cX1_flies 113 = .ok (.return_, 1) := by decide +kernel
abbrev cX1_goes : ByteArray := prog_1_method_36_code
def yX1_goes : MethodName := ⟨RX1, "goes", "(I)V"⟩
theorem dX1_goes_0 : decode cX1_goes 0 = .ok (.aload_n 0, 1) := by decide +kernel
theorem dX1_goes_1 : decode cX1_goes 1 = .ok (.getfield 40, 3) := by decide +kernel
theorem dX1_goes_4 : decode cX1_goes 4 = .ok (.astore_n 2, 1) := by decide +kernel
theorem dX1_goes_5 : decode cX1_goes 5 = .ok (.aload_n 2, 1) := by decide +kernel
theorem dX1_goes_6 : decode cX1_goes 6 = .ok (.getfield 193, 3) := by decide +kernel
theorem dX1_goes_9 : decode cX1_goes 9 = .ok (.istore_n 3, 1) := by decide +kernel
theorem dX1_goes_10 : decode cX1_goes 10 = .ok (.aload_n 0, 1) := by decide +kernel
theorem dX1_goes_11 : decode cX1_goes 11 = .ok (.iload_n 3, 1) := by decide +kernel
theorem dX1_goes_12 : decode cX1_goes 12 = .ok (.invokevirtual 94, 3) := by decide +kernel
theorem dX1_goes_15 : decode cX1_goes 15 = .ok (.iconst 0, 1) := by decide +kernel
theorem dX1_goes_16 : decode cX1_goes 16 = .ok (.istore 4, 2) := by decide +kernel
theorem dX1_goes_18 : decode cX1_goes 18 = .ok (.iload 4, 2) := by decide +kernel
theorem dX1_goes_20 : decode cX1_goes 20 = .ok (.aload_n 0, 1) := by decide +kernel
theorem dX1_goes_21 : decode cX1_goes 21 = .ok (.getfield 10, 3) := by decide +kernel
theorem dX1_goes_24 : decode cX1_goes 24 = .ok (.getfield 59, 3) := by decide +kernel
theorem dX1_goes_27 : decode cX1_goes 27 = .ok (.iconst 1, 1) := by decide +kernel
theorem dX1_goes_28 : decode cX1_goes 28 = .ok (.iaload, 1) := by decide +kernel
theorem dX1_goes_29 : decode cX1_goes 29 = .ok (.if_icmp .ge 36, 3) := by decide +kernel
theorem dX1_goes_32 : decode cX1_goes 32 = .ok (.aload_n 2, 1) := by decide +kernel
theorem dX1_goes_33 : decode cX1_goes 33 = .ok (.getfield 221, 3) := by decide +kernel
theorem dX1_goes_36 : decode cX1_goes 36 = .ok (.iload_n 3, 1) := by decide +kernel
theorem dX1_goes_37 : decode cX1_goes 37 = .ok (.aaload, 1) := by decide +kernel
theorem dX1_goes_38 : decode cX1_goes 38 = .ok (.iload 4, 2) := by decide +kernel
theorem dX1_goes_40 : decode cX1_goes 40 = .ok (.aload_n 0, 1) := by decide +kernel
theorem dX1_goes_41 : decode cX1_goes 41 = .ok (.iload 4, 2) := by decide +kernel
theorem dX1_goes_43 : decode cX1_goes 43 = .ok (.aload_n 2, 1) := by decide +kernel
theorem dX1_goes_44 : decode cX1_goes 44 = .ok (.getfield 184, 3) := by decide +kernel
theorem dX1_goes_47 : decode cX1_goes 47 = .ok (.aload_n 2, 1) := by decide +kernel
theorem dX1_goes_48 : decode cX1_goes 48 = .ok (.getfield 187, 3) := by decide +kernel
theorem dX1_goes_51 : decode cX1_goes 51 = .ok (.aload_n 2, 1) := by decide +kernel
theorem dX1_goes_52 : decode cX1_goes 52 = .ok (.getfield 190, 3) := by decide +kernel
theorem dX1_goes_55 : decode cX1_goes 55 = .ok (.invokevirtual 138, 3) := by decide +kernel
theorem dX1_goes_58 : decode cX1_goes 58 = .ok (.iastore, 1) := by decide +kernel
theorem dX1_goes_59 : decode cX1_goes 59 = .ok (.iinc 4 1, 3) := by decide +kernel
theorem dX1_goes_62 : decode cX1_goes 62 = .ok (.goto (-44), 3) := by decide +kernel
theorem dX1_goes_65 : decode cX1_goes 65 = .ok (.iconst 0, 1) := by decide +kernel
theorem dX1_goes_66 : decode cX1_goes 66 = .ok (.istore 4, 2) := by decide +kernel
theorem dX1_goes_68 : decode cX1_goes 68 = .ok (.iload 4, 2) := by decide +kernel
theorem dX1_goes_70 : decode cX1_goes 70 = .ok (.aload_n 0, 1) := by decide +kernel
theorem dX1_goes_71 : decode cX1_goes 71 = .ok (.getfield 10, 3) := by decide +kernel
theorem dX1_goes_74 : decode cX1_goes 74 = .ok (.getfield 59, 3) := by decide +kernel
theorem dX1_goes_77 : decode cX1_goes 77 = .ok (.iconst 2, 1) := by decide +kernel
theorem dX1_goes_78 : decode cX1_goes 78 = .ok (.iaload, 1) := by decide +kernel
theorem dX1_goes_79 : decode cX1_goes 79 = .ok (.if_icmp .ge 99, 3) := by decide +kernel
theorem dX1_goes_82 : decode cX1_goes 82 = .ok (.aload_n 0, 1) := by decide +kernel
theorem dX1_goes_83 : decode cX1_goes 83 = .ok (.getfield 10, 3) := by decide +kernel
theorem dX1_goes_86 : decode cX1_goes 86 = .ok (.getfield 141, 3) := by decide +kernel
theorem dX1_goes_89 : decode cX1_goes 89 = .ok (.iload 4, 2) := by decide +kernel
theorem dX1_goes_91 : decode cX1_goes 91 = .ok (.aaload, 1) := by decide +kernel
theorem dX1_goes_92 : decode cX1_goes 92 = .ok (.astore 5, 2) := by decide +kernel
theorem dX1_goes_94 : decode cX1_goes 94 = .ok (.aload_n 2, 1) := by decide +kernel
theorem dX1_goes_95 : decode cX1_goes 95 = .ok (.getfield 224, 3) := by decide +kernel
theorem dX1_goes_98 : decode cX1_goes 98 = .ok (.iload_n 3, 1) := by decide +kernel
theorem dX1_goes_99 : decode cX1_goes 99 = .ok (.aaload, 1) := by decide +kernel
theorem dX1_goes_100 : decode cX1_goes 100 = .ok (.iload 4, 2) := by decide +kernel
theorem dX1_goes_102 : decode cX1_goes 102 = .ok (.iload_n 3, 1) := by decide +kernel
theorem dX1_goes_103 : decode cX1_goes 103 = .ok (.aload 5, 2) := by decide +kernel
theorem dX1_goes_105 : decode cX1_goes 105 = .ok (.iconst 2, 1) := by decide +kernel
theorem dX1_goes_106 : decode cX1_goes 106 = .ok (.iaload, 1) := by decide +kernel
theorem dX1_goes_107 : decode cX1_goes 107 = .ok (.if_icmp .ge 7, 3) := by decide +kernel
theorem dX1_goes_110 : decode cX1_goes 110 = .ok (.iconst 0, 1) := by decide +kernel
theorem dX1_goes_111 : decode cX1_goes 111 = .ok (.goto 60, 3) := by decide +kernel
theorem dX1_goes_114 : decode cX1_goes 114 = .ok (.aload_n 2, 1) := by decide +kernel
theorem dX1_goes_115 : decode cX1_goes 115 = .ok (.getfield 221, 3) := by decide +kernel
theorem dX1_goes_118 : decode cX1_goes 118 = .ok (.iload_n 3, 1) := by decide +kernel
theorem dX1_goes_119 : decode cX1_goes 119 = .ok (.aload 5, 2) := by decide +kernel
theorem dX1_goes_121 : decode cX1_goes 121 = .ok (.iconst 2, 1) := by decide +kernel
theorem dX1_goes_122 : decode cX1_goes 122 = .ok (.iaload, 1) := by decide +kernel
theorem dX1_goes_123 : decode cX1_goes 123 = .ok (.isub, 1) := by decide +kernel
theorem dX1_goes_124 : decode cX1_goes 124 = .ok (.aaload, 1) := by decide +kernel
theorem dX1_goes_125 : decode cX1_goes 125 = .ok (.aload 5, 2) := by decide +kernel
theorem dX1_goes_127 : decode cX1_goes 127 = .ok (.iconst 0, 1) := by decide +kernel
theorem dX1_goes_128 : decode cX1_goes 128 = .ok (.iaload, 1) := by decide +kernel
theorem dX1_goes_129 : decode cX1_goes 129 = .ok (.iaload, 1) := by decide +kernel
theorem dX1_goes_130 : decode cX1_goes 130 = .ok (.aload_n 2, 1) := by decide +kernel
theorem dX1_goes_131 : decode cX1_goes 131 = .ok (.getfield 221, 3) := by decide +kernel
theorem dX1_goes_134 : decode cX1_goes 134 = .ok (.iload_n 3, 1) := by decide +kernel
theorem dX1_goes_135 : decode cX1_goes 135 = .ok (.aaload, 1) := by decide +kernel
theorem dX1_goes_136 : decode cX1_goes 136 = .ok (.aload 5, 2) := by decide +kernel
theorem dX1_goes_138 : decode cX1_goes 138 = .ok (.iconst 1, 1) := by decide +kernel
theorem dX1_goes_139 : decode cX1_goes 139 = .ok (.iaload, 1) := by decide +kernel
theorem dX1_goes_140 : decode cX1_goes 140 = .ok (.iaload, 1) := by decide +kernel
theorem dX1_goes_141 : decode cX1_goes 141 = .ok (.imul, 1) := by decide +kernel
theorem dX1_goes_142 : decode cX1_goes 142 = .ok (.aload_n 2, 1) := by decide +kernel
theorem dX1_goes_143 : decode cX1_goes 143 = .ok (.getfield 221, 3) := by decide +kernel
theorem dX1_goes_146 : decode cX1_goes 146 = .ok (.iload_n 3, 1) := by decide +kernel
theorem dX1_goes_147 : decode cX1_goes 147 = .ok (.aaload, 1) := by decide +kernel
theorem dX1_goes_148 : decode cX1_goes 148 = .ok (.aload 5, 2) := by decide +kernel
theorem dX1_goes_150 : decode cX1_goes 150 = .ok (.iconst 0, 1) := by decide +kernel
theorem dX1_goes_151 : decode cX1_goes 151 = .ok (.iaload, 1) := by decide +kernel
theorem dX1_goes_152 : decode cX1_goes 152 = .ok (.iaload, 1) := by decide +kernel
theorem dX1_goes_153 : decode cX1_goes 153 = .ok (.aload_n 2, 1) := by decide +kernel
theorem dX1_goes_154 : decode cX1_goes 154 = .ok (.getfield 221, 3) := by decide +kernel
theorem dX1_goes_157 : decode cX1_goes 157 = .ok (.iload_n 3, 1) := by decide +kernel
theorem dX1_goes_158 : decode cX1_goes 158 = .ok (.aload 5, 2) := by decide +kernel
theorem dX1_goes_160 : decode cX1_goes 160 = .ok (.iconst 2, 1) := by decide +kernel
theorem dX1_goes_161 : decode cX1_goes 161 = .ok (.iaload, 1) := by decide +kernel
theorem dX1_goes_162 : decode cX1_goes 162 = .ok (.isub, 1) := by decide +kernel
theorem dX1_goes_163 : decode cX1_goes 163 = .ok (.aaload, 1) := by decide +kernel
theorem dX1_goes_164 : decode cX1_goes 164 = .ok (.aload 5, 2) := by decide +kernel
theorem dX1_goes_166 : decode cX1_goes 166 = .ok (.iconst 1, 1) := by decide +kernel
theorem dX1_goes_167 : decode cX1_goes 167 = .ok (.iaload, 1) := by decide +kernel
theorem dX1_goes_168 : decode cX1_goes 168 = .ok (.iaload, 1) := by decide +kernel
theorem dX1_goes_169 : decode cX1_goes 169 = .ok (.imul, 1) := by decide +kernel
theorem dX1_goes_170 : decode cX1_goes 170 = .ok (.isub, 1) := by decide +kernel
theorem dX1_goes_171 : decode cX1_goes 171 = .ok (.iastore, 1) := by decide +kernel
theorem dX1_goes_172 : decode cX1_goes 172 = .ok (.iinc 4 1, 3) := by decide +kernel
theorem dX1_goes_175 : decode cX1_goes 175 = .ok (.goto (-107), 3) := by decide +kernel
theorem dX1_goes_178 : decode cX1_goes 178 = .ok (.iconst 0, 1) := by decide +kernel
theorem dX1_goes_179 : decode cX1_goes 179 = .ok (.istore 4, 2) := by decide +kernel
theorem dX1_goes_181 : decode cX1_goes 181 = .ok (.iload 4, 2) := by decide +kernel
theorem dX1_goes_183 : decode cX1_goes 183 = .ok (.bipush 16, 2) := by decide +kernel
theorem dX1_goes_185 : decode cX1_goes 185 = .ok (.if_icmp .ge 46, 3) := by decide +kernel
theorem dX1_goes_188 : decode cX1_goes 188 = .ok (.aload_n 2, 1) := by decide +kernel
theorem dX1_goes_189 : decode cX1_goes 189 = .ok (.getfield 203, 3) := by decide +kernel
theorem dX1_goes_192 : decode cX1_goes 192 = .ok (.getfield 227, 3) := by decide +kernel
theorem dX1_goes_195 : decode cX1_goes 195 = .ok (.iload 4, 2) := by decide +kernel
theorem dX1_goes_197 : decode cX1_goes 197 = .ok (.iload 4, 2) := by decide +kernel
theorem dX1_goes_199 : decode cX1_goes 199 = .ok (.aload_n 0, 1) := by decide +kernel
theorem dX1_goes_200 : decode cX1_goes 200 = .ok (.getfield 10, 3) := by decide +kernel
theorem dX1_goes_203 : decode cX1_goes 203 = .ok (.getfield 59, 3) := by decide +kernel
theorem dX1_goes_206 : decode cX1_goes 206 = .ok (.iconst 1, 1) := by decide +kernel
theorem dX1_goes_207 : decode cX1_goes 207 = .ok (.iaload, 1) := by decide +kernel
theorem dX1_goes_208 : decode cX1_goes 208 = .ok (.if_icmp .ge 15, 3) := by decide +kernel
theorem dX1_goes_211 : decode cX1_goes 211 = .ok (.aload_n 2, 1) := by decide +kernel
theorem dX1_goes_212 : decode cX1_goes 212 = .ok (.getfield 221, 3) := by decide +kernel
theorem dX1_goes_215 : decode cX1_goes 215 = .ok (.iload_n 3, 1) := by decide +kernel
theorem dX1_goes_216 : decode cX1_goes 216 = .ok (.aaload, 1) := by decide +kernel
theorem dX1_goes_217 : decode cX1_goes 217 = .ok (.iload 4, 2) := by decide +kernel
theorem dX1_goes_219 : decode cX1_goes 219 = .ok (.iaload, 1) := by decide +kernel
theorem dX1_goes_220 : decode cX1_goes 220 = .ok (.goto 4, 3) := by decide +kernel
theorem dX1_goes_223 : decode cX1_goes 223 = .ok (.iconst 0, 1) := by decide +kernel
theorem dX1_goes_224 : decode cX1_goes 224 = .ok (.iastore, 1) := by decide +kernel
theorem dX1_goes_225 : decode cX1_goes 225 = .ok (.iinc 4 1, 3) := by decide +kernel
theorem dX1_goes_228 : decode cX1_goes 228 = .ok (.goto (-47), 3) := by decide +kernel
theorem dX1_goes_231 : decode cX1_goes 231 = .ok (.iconst 0, 1) := by decide +kernel
theorem dX1_goes_232 : decode cX1_goes 232 = .ok (.istore 4, 2) := by decide +kernel
theorem dX1_goes_234 : decode cX1_goes 234 = .ok (.iload 4, 2) := by decide +kernel
theorem dX1_goes_236 : decode cX1_goes 236 = .ok (.bipush 16, 2) := by decide +kernel
theorem dX1_goes_238 : decode cX1_goes 238 = .ok (.if_icmp .ge 46, 3) := by decide +kernel
theorem dX1_goes_241 : decode cX1_goes 241 = .ok (.aload_n 2, 1) := by decide +kernel
theorem dX1_goes_242 : decode cX1_goes 242 = .ok (.getfield 203, 3) := by decide +kernel
theorem dX1_goes_245 : decode cX1_goes 245 = .ok (.getfield 229, 3) := by decide +kernel
theorem dX1_goes_248 : decode cX1_goes 248 = .ok (.iload 4, 2) := by decide +kernel
theorem dX1_goes_250 : decode cX1_goes 250 = .ok (.iload 4, 2) := by decide +kernel
theorem dX1_goes_252 : decode cX1_goes 252 = .ok (.aload_n 0, 1) := by decide +kernel
theorem dX1_goes_253 : decode cX1_goes 253 = .ok (.getfield 10, 3) := by decide +kernel
theorem dX1_goes_256 : decode cX1_goes 256 = .ok (.getfield 59, 3) := by decide +kernel
theorem dX1_goes_259 : decode cX1_goes 259 = .ok (.iconst 2, 1) := by decide +kernel
theorem dX1_goes_260 : decode cX1_goes 260 = .ok (.iaload, 1) := by decide +kernel
theorem dX1_goes_261 : decode cX1_goes 261 = .ok (.if_icmp .ge 15, 3) := by decide +kernel
theorem dX1_goes_264 : decode cX1_goes 264 = .ok (.aload_n 2, 1) := by decide +kernel
theorem dX1_goes_265 : decode cX1_goes 265 = .ok (.getfield 224, 3) := by decide +kernel
theorem dX1_goes_268 : decode cX1_goes 268 = .ok (.iload_n 3, 1) := by decide +kernel
theorem dX1_goes_269 : decode cX1_goes 269 = .ok (.aaload, 1) := by decide +kernel
theorem dX1_goes_270 : decode cX1_goes 270 = .ok (.iload 4, 2) := by decide +kernel
theorem dX1_goes_272 : decode cX1_goes 272 = .ok (.iaload, 1) := by decide +kernel
theorem dX1_goes_273 : decode cX1_goes 273 = .ok (.goto 4, 3) := by decide +kernel
theorem dX1_goes_276 : decode cX1_goes 276 = .ok (.iconst 0, 1) := by decide +kernel
theorem dX1_goes_277 : decode cX1_goes 277 = .ok (.iastore, 1) := by decide +kernel
theorem dX1_goes_278 : decode cX1_goes 278 = .ok (.iinc 4 1, 3) := by decide +kernel
theorem dX1_goes_281 : decode cX1_goes 281 = .ok (.goto (-47), 3) := by decide +kernel
theorem dX1_goes_284 : decode cX1_goes 284 = .ok (.aload_n 2, 1) := by decide +kernel
theorem dX1_goes_285 : decode cX1_goes 285 = .ok (.getfield 203, 3) := by decide +kernel
theorem dX1_goes_288 : decode cX1_goes 288 = .ok (.iload_n 3, 1) := by decide +kernel
theorem dX1_goes_289 : decode cX1_goes 289 = .ok (.putfield 231, 3) := by decide +kernel
theorem dX1_goes_292 : decode cX1_goes 292 = .ok (.lconst 0, 1) := by decide +kernel
theorem dX1_goes_293 : decode cX1_goes 293 = .ok (.lstore 4, 2) := by decide +kernel
theorem dX1_goes_295 : decode cX1_goes 295 = .ok (.lconst 0, 1) := by decide +kernel
theorem dX1_goes_296 : decode cX1_goes 296 = .ok (.lstore 6, 2) := by decide +kernel
theorem dX1_goes_298 : decode cX1_goes 298 = .ok (.aload_n 0, 1) := by decide +kernel
theorem dX1_goes_299 : decode cX1_goes 299 = .ok (.getfield 10, 3) := by decide +kernel
theorem dX1_goes_302 : decode cX1_goes 302 = .ok (.getfield 156, 3) := by decide +kernel
theorem dX1_goes_305 : decode cX1_goes 305 = .ok (.iload_n 1, 1) := by decide +kernel
theorem dX1_goes_306 : decode cX1_goes 306 = .ok (.invokevirtual 234, 3) := by decide +kernel
theorem dX1_goes_309 : decode cX1_goes 309 = .ok (.checkcast 170, 3) := by decide +kernel
theorem dX1_goes_312 : decode cX1_goes 312 = .ok (.astore 8, 2) := by decide +kernel
theorem dX1_goes_314 : decode cX1_goes 314 = .ok (.iconst 0, 1) := by decide +kernel
theorem dX1_goes_315 : decode cX1_goes 315 = .ok (.istore 9, 2) := by decide +kernel
theorem dX1_goes_317 : decode cX1_goes 317 = .ok (.iload 9, 2) := by decide +kernel
theorem dX1_goes_319 : decode cX1_goes 319 = .ok (.aload 8, 2) := by decide +kernel
theorem dX1_goes_321 : decode cX1_goes 321 = .ok (.invokevirtual 238, 3) := by decide +kernel
theorem dX1_goes_324 : decode cX1_goes 324 = .ok (.if_icmp .ge 162, 3) := by decide +kernel
theorem dX1_goes_327 : decode cX1_goes 327 = .ok (.aload 8, 2) := by decide +kernel
theorem dX1_goes_329 : decode cX1_goes 329 = .ok (.iload 9, 2) := by decide +kernel
theorem dX1_goes_331 : decode cX1_goes 331 = .ok (.invokevirtual 234, 3) := by decide +kernel
theorem dX1_goes_334 : decode cX1_goes 334 = .ok (.checkcast 242, 3) := by decide +kernel
theorem dX1_goes_337 : decode cX1_goes 337 = .ok (.astore 10, 2) := by decide +kernel
theorem dX1_goes_339 : decode cX1_goes 339 = .ok (.aload 10, 2) := by decide +kernel
theorem dX1_goes_341 : decode cX1_goes 341 = .ok (.getfield 244, 3) := by decide +kernel
theorem dX1_goes_344 : decode cX1_goes 344 = .ok (.tableswitch 118 200 202 #[28, 58, 89], 28) := by decide +kernel
theorem dX1_goes_372 : decode cX1_goes 372 = .ok (.aload_n 2, 1) := by decide +kernel
theorem dX1_goes_373 : decode cX1_goes 373 = .ok (.getfield 203, 3) := by decide +kernel
theorem dX1_goes_376 : decode cX1_goes 376 = .ok (.getfield 247, 3) := by decide +kernel
theorem dX1_goes_379 : decode cX1_goes 379 = .ok (.aload 10, 2) := by decide +kernel
theorem dX1_goes_381 : decode cX1_goes 381 = .ok (.getfield 251, 3) := by decide +kernel
theorem dX1_goes_384 : decode cX1_goes 384 = .ok (.aload 10, 2) := by decide +kernel
theorem dX1_goes_386 : decode cX1_goes 386 = .ok (.getfield 253, 3) := by decide +kernel
theorem dX1_goes_389 : decode cX1_goes 389 = .ok (.aload_n 2, 1) := by decide +kernel
theorem dX1_goes_390 : decode cX1_goes 390 = .ok (.getfield 203, 3) := by decide +kernel
theorem dX1_goes_393 : decode cX1_goes 393 = .ok (.invokeinterface 257 2, 5) := by decide +kernel
theorem dX1_goes_398 : decode cX1_goes 398 = .ok (.lastore, 1) := by decide +kernel
theorem dX1_goes_399 : decode cX1_goes 399 = .ok (.goto 81, 3) := by decide +kernel
theorem dX1_goes_402 : decode cX1_goes 402 = .ok (.ldc2_w 263, 3) := by decide +kernel
theorem dX1_goes_405 : decode cX1_goes 405 = .ok (.ldc2_w 265, 3) := by decide +kernel
theorem dX1_goes_408 : decode cX1_goes 408 = .ok (.aload 10, 2) := by decide +kernel
theorem dX1_goes_410 : decode cX1_goes 410 = .ok (.getfield 253, 3) := by decide +kernel
theorem dX1_goes_413 : decode cX1_goes 413 = .ok (.aload_n 2, 1) := by decide +kernel
theorem dX1_goes_414 : decode cX1_goes 414 = .ok (.getfield 203, 3) := by decide +kernel
theorem dX1_goes_417 : decode cX1_goes 417 = .ok (.invokeinterface 257 2, 5) := by decide +kernel
theorem dX1_goes_422 : decode cX1_goes 422 = .ok (.invokestatic 267, 3) := by decide +kernel
theorem dX1_goes_425 : decode cX1_goes 425 = .ok (.invokestatic 270, 3) := by decide +kernel
theorem dX1_goes_428 : decode cX1_goes 428 = .ok (.lstore 4, 2) := by decide +kernel
theorem dX1_goes_430 : decode cX1_goes 430 = .ok (.goto 50, 3) := by decide +kernel
theorem dX1_goes_433 : decode cX1_goes 433 = .ok (.lconst 0, 1) := by decide +kernel
theorem dX1_goes_434 : decode cX1_goes 434 = .ok (.ldc2_w 272, 3) := by decide +kernel
theorem dX1_goes_437 : decode cX1_goes 437 = .ok (.aload 10, 2) := by decide +kernel
theorem dX1_goes_439 : decode cX1_goes 439 = .ok (.getfield 253, 3) := by decide +kernel
theorem dX1_goes_442 : decode cX1_goes 442 = .ok (.aload_n 2, 1) := by decide +kernel
theorem dX1_goes_443 : decode cX1_goes 443 = .ok (.getfield 203, 3) := by decide +kernel
theorem dX1_goes_446 : decode cX1_goes 446 = .ok (.invokeinterface 257 2, 5) := by decide +kernel
theorem dX1_goes_451 : decode cX1_goes 451 = .ok (.invokestatic 267, 3) := by decide +kernel
theorem dX1_goes_454 : decode cX1_goes 454 = .ok (.invokestatic 270, 3) := by decide +kernel
theorem dX1_goes_457 : decode cX1_goes 457 = .ok (.lstore 6, 2) := by decide +kernel
theorem dX1_goes_459 : decode cX1_goes 459 = .ok (.goto 21, 3) := by decide +kernel
theorem dX1_goes_462 : decode cX1_goes 462 = .ok (.aload_n 2, 1) := by decide +kernel
theorem dX1_goes_463 : decode cX1_goes 463 = .ok (.aload 10, 2) := by decide +kernel
theorem dX1_goes_465 : decode cX1_goes 465 = .ok (.getfield 274, 3) := by decide +kernel
theorem dX1_goes_468 : decode cX1_goes 468 = .ok (.aload_n 2, 1) := by decide +kernel
theorem dX1_goes_469 : decode cX1_goes 469 = .ok (.getfield 203, 3) := by decide +kernel
theorem dX1_goes_472 : decode cX1_goes 472 = .ok (.invokeinterface 277 2, 5) := by decide +kernel
theorem dX1_goes_477 : decode cX1_goes 477 = .ok (.putfield 200, 3) := by decide +kernel
theorem dX1_goes_480 : decode cX1_goes 480 = .ok (.iinc 9 1, 3) := by decide +kernel
theorem dX1_goes_483 : decode cX1_goes 483 = .ok (.goto (-166), 3) := by decide +kernel
theorem dX1_goes_486 : decode cX1_goes 486 = .ok (.aload_n 2, 1) := by decide +kernel
theorem dX1_goes_487 : decode cX1_goes 487 = .ok (.getfield 200, 3) := by decide +kernel
theorem dX1_goes_490 : decode cX1_goes 490 = .ok (.ifCond .eq 4, 3) := by decide +kernel
theorem dX1_goes_493 : decode cX1_goes 493 = .ok (.return_, 1) := by decide +kernel
theorem dX1_goes_494 : decode cX1_goes 494 = .ok (.aload_n 2, 1) := by decide +kernel
theorem dX1_goes_495 : decode cX1_goes 495 = .ok (.getfield 283, 3) := by decide +kernel
theorem dX1_goes_498 : decode cX1_goes 498 = .ok (.iload_n 3, 1) := by decide +kernel
theorem dX1_goes_499 : decode cX1_goes 499 = .ok (.aaload, 1) := by decide +kernel
theorem dX1_goes_500 : decode cX1_goes 500 = .ok (.astore 9, 2) := by decide +kernel
theorem dX1_goes_502 : decode cX1_goes 502 = .ok (.aload 9, 2) := by decide +kernel
theorem dX1_goes_504 : decode cX1_goes 504 = .ok (.iconst 0, 1) := by decide +kernel
theorem dX1_goes_505 : decode cX1_goes 505 = .ok (.lload 4, 2) := by decide +kernel
theorem dX1_goes_507 : decode cX1_goes 507 = .ok (.l2i, 1) := by decide +kernel
theorem dX1_goes_508 : decode cX1_goes 508 = .ok (.iastore, 1) := by decide +kernel
theorem dX1_goes_509 : decode cX1_goes 509 = .ok (.aload 9, 2) := by decide +kernel
theorem dX1_goes_511 : decode cX1_goes 511 = .ok (.iconst 1, 1) := by decide +kernel
theorem dX1_goes_512 : decode cX1_goes 512 = .ok (.lload 6, 2) := by decide +kernel
theorem dX1_goes_514 : decode cX1_goes 514 = .ok (.l2i, 1) := by decide +kernel
theorem dX1_goes_515 : decode cX1_goes 515 = .ok (.iastore, 1) := by decide +kernel
theorem dX1_goes_516 : decode cX1_goes 516 = .ok (.aload 9, 2) := by decide +kernel
theorem dX1_goes_518 : decode cX1_goes 518 = .ok (.iconst 2, 1) := by decide +kernel
theorem dX1_goes_519 : decode cX1_goes 519 = .ok (.aload_n 2, 1) := by decide +kernel
theorem dX1_goes_520 : decode cX1_goes 520 = .ok (.getfield 184, 3) := by decide +kernel
theorem dX1_goes_523 : decode cX1_goes 523 = .ok (.iastore, 1) := by decide +kernel
theorem dX1_goes_524 : decode cX1_goes 524 = .ok (.aload 9, 2) := by decide +kernel
theorem dX1_goes_526 : decode cX1_goes 526 = .ok (.iconst 3, 1) := by decide +kernel
theorem dX1_goes_527 : decode cX1_goes 527 = .ok (.aload_n 2, 1) := by decide +kernel
theorem dX1_goes_528 : decode cX1_goes 528 = .ok (.getfield 187, 3) := by decide +kernel
theorem dX1_goes_531 : decode cX1_goes 531 = .ok (.iastore, 1) := by decide +kernel
theorem dX1_goes_532 : decode cX1_goes 532 = .ok (.aload 9, 2) := by decide +kernel
theorem dX1_goes_534 : decode cX1_goes 534 = .ok (.iconst 4, 1) := by decide +kernel
theorem dX1_goes_535 : decode cX1_goes 535 = .ok (.aload_n 2, 1) := by decide +kernel
theorem dX1_goes_536 : decode cX1_goes 536 = .ok (.getfield 190, 3) := by decide +kernel
theorem dX1_goes_539 : decode cX1_goes 539 = .ok (.iastore, 1) := by decide +kernel
theorem dX1_goes_540 : decode cX1_goes 540 = .ok (.aload_n 2, 1) := by decide +kernel
theorem dX1_goes_541 : decode cX1_goes 541 = .ok (.dup, 1) := by decide +kernel
theorem dX1_goes_542 : decode cX1_goes 542 = .ok (.getfield 193, 3) := by decide +kernel
theorem dX1_goes_545 : decode cX1_goes 545 = .ok (.iconst 1, 1) := by decide +kernel
theorem dX1_goes_546 : decode cX1_goes 546 = .ok (.iadd, 1) := by decide +kernel
theorem dX1_goes_547 : decode cX1_goes 547 = .ok (.putfield 193, 3) := by decide +kernel
theorem dX1_goes_550 : decode cX1_goes 550 = .ok (.aload_n 2, 1) := by decide +kernel
theorem dX1_goes_551 : decode cX1_goes 551 = .ok (.aload_n 2, 1) := by decide +kernel
theorem dX1_goes_552 : decode cX1_goes 552 = .ok (.getfield 190, 3) := by decide +kernel
theorem dX1_goes_555 : decode cX1_goes 555 = .ok (.lload 4, 2) := by decide +kernel
theorem dX1_goes_557 : decode cX1_goes 557 = .ok (.l2i, 1) := by decide +kernel
theorem dX1_goes_558 : decode cX1_goes 558 = .ok (.iadd, 1) := by decide +kernel
theorem dX1_goes_559 : decode cX1_goes 559 = .ok (.bipush 64, 2) := by decide +kernel
theorem dX1_goes_561 : decode cX1_goes 561 = .ok (.invokestatic 128, 3) := by decide +kernel
theorem dX1_goes_564 : decode cX1_goes 564 = .ok (.putfield 190, 3) := by decide +kernel
theorem dX1_goes_567 : decode cX1_goes 567 = .ok (.aload_n 2, 1) := by decide +kernel
theorem dX1_goes_568 : decode cX1_goes 568 = .ok (.dup, 1) := by decide +kernel
theorem dX1_goes_569 : decode cX1_goes 569 = .ok (.getfield 184, 3) := by decide +kernel
theorem dX1_goes_572 : decode cX1_goes 572 = .ok (.lload 6, 2) := by decide +kernel
theorem dX1_goes_574 : decode cX1_goes 574 = .ok (.l2i, 1) := by decide +kernel
theorem dX1_goes_575 : decode cX1_goes 575 = .ok (.aload_n 2, 1) := by decide +kernel
theorem dX1_goes_576 : decode cX1_goes 576 = .ok (.getfield 190, 3) := by decide +kernel
theorem dX1_goes_579 : decode cX1_goes 579 = .ok (.invokestatic 98, 3) := by decide +kernel
theorem dX1_goes_582 : decode cX1_goes 582 = .ok (.imul, 1) := by decide +kernel
theorem dX1_goes_583 : decode cX1_goes 583 = .ok (.bipush 16, 2) := by decide +kernel
theorem dX1_goes_585 : decode cX1_goes 585 = .ok (.invokestatic 108, 3) := by decide +kernel
theorem dX1_goes_588 : decode cX1_goes 588 = .ok (.iadd, 1) := by decide +kernel
theorem dX1_goes_589 : decode cX1_goes 589 = .ok (.putfield 184, 3) := by decide +kernel
theorem dX1_goes_592 : decode cX1_goes 592 = .ok (.aload_n 2, 1) := by decide +kernel
theorem dX1_goes_593 : decode cX1_goes 593 = .ok (.dup, 1) := by decide +kernel
theorem dX1_goes_594 : decode cX1_goes 594 = .ok (.getfield 187, 3) := by decide +kernel
theorem dX1_goes_597 : decode cX1_goes 597 = .ok (.lload 6, 2) := by decide +kernel
theorem dX1_goes_599 : decode cX1_goes 599 = .ok (.l2i, 1) := by decide +kernel
theorem dX1_goes_600 : decode cX1_goes 600 = .ok (.aload_n 2, 1) := by decide +kernel
theorem dX1_goes_601 : decode cX1_goes 601 = .ok (.getfield 190, 3) := by decide +kernel
theorem dX1_goes_604 : decode cX1_goes 604 = .ok (.invokestatic 102, 3) := by decide +kernel
theorem dX1_goes_607 : decode cX1_goes 607 = .ok (.imul, 1) := by decide +kernel
theorem dX1_goes_608 : decode cX1_goes 608 = .ok (.bipush 16, 2) := by decide +kernel
theorem dX1_goes_610 : decode cX1_goes 610 = .ok (.invokestatic 108, 3) := by decide +kernel
theorem dX1_goes_613 : decode cX1_goes 613 = .ok (.iadd, 1) := by decide +kernel
theorem dX1_goes_614 : decode cX1_goes 614 = .ok (.putfield 187, 3) := by decide +kernel
theorem dX1_goes_617 : decode cX1_goes 617 = .ok (.aload_n 0, 1) := by decide +kernel
theorem dX1_goes_618 : decode cX1_goes 618 = .ok (.iload_n 3, 1) := by decide +kernel
theorem dX1_goes_619 : decode cX1_goes 619 = .ok (.iconst 1, 1) := by decide +kernel
theorem dX1_goes_620 : decode cX1_goes 620 = .ok (.iadd, 1) := by decide +kernel
theorem dX1_goes_621 : decode cX1_goes 621 = .ok (.invokevirtual 94, 3) := by decide +kernel
theorem dX1_goes_624 : decode cX1_goes 624 = .ok (.aload_n 2, 1) := by decide +kernel
theorem dX1_goes_625 : decode cX1_goes 625 = .ok (.aload_n 0, 1) := by decide +kernel
theorem dX1_goes_626 : decode cX1_goes 626 = .ok (.aload_n 2, 1) := by decide +kernel
theorem dX1_goes_627 : decode cX1_goes 627 = .ok (.getfield 184, 3) := by decide +kernel
theorem dX1_goes_630 : decode cX1_goes 630 = .ok (.aload_n 2, 1) := by decide +kernel
theorem dX1_goes_631 : decode cX1_goes 631 = .ok (.getfield 187, 3) := by decide +kernel
theorem dX1_goes_634 : decode cX1_goes 634 = .ok (.invokevirtual 181, 3) := by decide +kernel
theorem dX1_goes_637 : decode cX1_goes 637 = .ok (.ifCond .ne 7, 3) := by decide +kernel
theorem dX1_goes_640 : decode cX1_goes 640 = .ok (.iconst 1, 1) := by decide +kernel
theorem dX1_goes_641 : decode cX1_goes 641 = .ok (.goto 4, 3) := by decide +kernel
theorem dX1_goes_644 : decode cX1_goes 644 = .ok (.iconst 0, 1) := by decide +kernel
theorem dX1_goes_645 : decode cX1_goes 645 = .ok (.putfield 196, 3) := by decide +kernel
theorem dX1_goes_648 : decode cX1_goes 648 = .ok (.return_, 1) := by decide +kernel
abbrev cX1_flown : ByteArray := prog_1_method_39_code
def yX1_flown : MethodName := ⟨RX1, "flown", "(I)I"⟩
theorem dX1_flown_0 : decode cX1_flown 0 = .ok (.aload_n 0, 1) := by decide +kernel
theorem dX1_flown_1 : decode cX1_flown 1 = .ok (.getfield 10, 3) := by decide +kernel
theorem dX1_flown_4 : decode cX1_flown 4 = .ok (.getfield 59, 3) := by decide +kernel
theorem dX1_flown_7 : decode cX1_flown 7 = .ok (.iconst 5, 1) := by decide +kernel
theorem dX1_flown_8 : decode cX1_flown 8 = .ok (.iaload, 1) := by decide +kernel
theorem dX1_flown_9 : decode cX1_flown 9 = .ok (.iconst (-1), 1) := by decide +kernel
theorem dX1_flown_10 : decode cX1_flown 10 = .ok (.if_icmp .eq 12, 3) := by decide +kernel
theorem dX1_flown_13 : decode cX1_flown 13 = .ok (.iload_n 1, 1) := by decide +kernel
theorem dX1_flown_14 : decode cX1_flown 14 = .ok (.iconst 0, 1) := by decide +kernel
theorem dX1_flown_15 : decode cX1_flown 15 = .ok (.iconst 5, 1) := by decide +kernel
theorem dX1_flown_16 : decode cX1_flown 16 = .ok (.invokestatic 66, 3) := by decide +kernel
theorem dX1_flown_19 : decode cX1_flown 19 = .ok (.ifCond .ne 7, 3) := by decide +kernel
theorem dX1_flown_22 : decode cX1_flown 22 = .ok (.iconst (-1), 1) := by decide +kernel
theorem dX1_flown_23 : decode cX1_flown 23 = .ok (.goto 15, 3) := by decide +kernel
theorem dX1_flown_26 : decode cX1_flown 26 = .ok (.aload_n 0, 1) := by decide +kernel
theorem dX1_flown_27 : decode cX1_flown 27 = .ok (.getfield 10, 3) := by decide +kernel
theorem dX1_flown_30 : decode cX1_flown 30 = .ok (.getfield 59, 3) := by decide +kernel
theorem dX1_flown_33 : decode cX1_flown 33 = .ok (.bipush 6, 2) := by decide +kernel
theorem dX1_flown_35 : decode cX1_flown 35 = .ok (.iload_n 1, 1) := by decide +kernel
theorem dX1_flown_36 : decode cX1_flown 36 = .ok (.iadd, 1) := by decide +kernel
theorem dX1_flown_37 : decode cX1_flown 37 = .ok (.iaload, 1) := by decide +kernel
theorem dX1_flown_38 : decode cX1_flown 38 = .ok (.ireturn, 1) := by decide +kernel
abbrev cX1_tick : ByteArray := prog_1_method_40_code
def yX1_tick : MethodName := ⟨RX1, "tick", "(II)I"⟩
theorem dX1_tick_0 : decode cX1_tick 0 = .ok (.iload_n 1, 1) := by decide +kernel
theorem dX1_tick_1 : decode cX1_tick 1 = .ok (.iconst 0, 1) := by decide +kernel
theorem dX1_tick_2 : decode cX1_tick 2 = .ok (.aload_n 0, 1) := by decide +kernel
theorem dX1_tick_3 : decode cX1_tick 3 = .ok (.getfield 10, 3) := by decide +kernel
theorem dX1_tick_6 : decode cX1_tick 6 = .ok (.getfield 59, 3) := by decide +kernel
theorem dX1_tick_9 : decode cX1_tick 9 = .ok (.iconst 5, 1) := by decide +kernel
theorem dX1_tick_10 : decode cX1_tick 10 = .ok (.iaload, 1) := by decide +kernel
theorem dX1_tick_11 : decode cX1_tick 11 = .ok (.iconst 1, 1) := by decide +kernel
theorem dX1_tick_12 : decode cX1_tick 12 = .ok (.isub, 1) := by decide +kernel
theorem dX1_tick_13 : decode cX1_tick 13 = .ok (.invokestatic 66, 3) := by decide +kernel
theorem dX1_tick_16 : decode cX1_tick 16 = .ok (.ifCond .ne 7, 3) := by decide +kernel
theorem dX1_tick_19 : decode cX1_tick 19 = .ok (.ldc_w 302, 3) := by decide +kernel
theorem dX1_tick_22 : decode cX1_tick 22 = .ok (.ireturn, 1) := by decide +kernel
theorem dX1_tick_23 : decode cX1_tick 23 = .ok (.iload_n 2, 1) := by decide +kernel
theorem dX1_tick_24 : decode cX1_tick 24 = .ok (.iconst 0, 1) := by decide +kernel
theorem dX1_tick_25 : decode cX1_tick 25 = .ok (.iconst 4, 1) := by decide +kernel
theorem dX1_tick_26 : decode cX1_tick 26 = .ok (.invokestatic 66, 3) := by decide +kernel
theorem dX1_tick_29 : decode cX1_tick 29 = .ok (.ifCond .eq 15, 3) := by decide +kernel
theorem dX1_tick_32 : decode cX1_tick 32 = .ok (.aload_n 0, 1) := by decide +kernel
theorem dX1_tick_33 : decode cX1_tick 33 = .ok (.getfield 10, 3) := by decide +kernel
theorem dX1_tick_36 : decode cX1_tick 36 = .ok (.getfield 295, 3) := by decide +kernel
theorem dX1_tick_39 : decode cX1_tick 39 = .ok (.iload_n 1, 1) := by decide +kernel
theorem dX1_tick_40 : decode cX1_tick 40 = .ok (.aaload, 1) := by decide +kernel
theorem dX1_tick_41 : decode cX1_tick 41 = .ok (.iload_n 2, 1) := by decide +kernel
theorem dX1_tick_42 : decode cX1_tick 42 = .ok (.iaload, 1) := by decide +kernel
theorem dX1_tick_43 : decode cX1_tick 43 = .ok (.ireturn, 1) := by decide +kernel
theorem dX1_tick_44 : decode cX1_tick 44 = .ok (.iload_n 2, 1) := by decide +kernel
theorem dX1_tick_45 : decode cX1_tick 45 = .ok (.bipush 100, 2) := by decide +kernel
theorem dX1_tick_47 : decode cX1_tick 47 = .ok (.bipush 99, 2) := by decide +kernel
theorem dX1_tick_49 : decode cX1_tick 49 = .ok (.aload_n 0, 1) := by decide +kernel
theorem dX1_tick_50 : decode cX1_tick 50 = .ok (.getfield 10, 3) := by decide +kernel
theorem dX1_tick_53 : decode cX1_tick 53 = .ok (.getfield 59, 3) := by decide +kernel
theorem dX1_tick_56 : decode cX1_tick 56 = .ok (.bipush 12, 2) := by decide +kernel
theorem dX1_tick_58 : decode cX1_tick 58 = .ok (.iaload, 1) := by decide +kernel
theorem dX1_tick_59 : decode cX1_tick 59 = .ok (.iadd, 1) := by decide +kernel
theorem dX1_tick_60 : decode cX1_tick 60 = .ok (.invokestatic 66, 3) := by decide +kernel
theorem dX1_tick_63 : decode cX1_tick 63 = .ok (.ifCond .eq 18, 3) := by decide +kernel
theorem dX1_tick_66 : decode cX1_tick 66 = .ok (.aload_n 0, 1) := by decide +kernel
theorem dX1_tick_67 : decode cX1_tick 67 = .ok (.getfield 10, 3) := by decide +kernel
theorem dX1_tick_70 : decode cX1_tick 70 = .ok (.getfield 300, 3) := by decide +kernel
theorem dX1_tick_73 : decode cX1_tick 73 = .ok (.iload_n 1, 1) := by decide +kernel
theorem dX1_tick_74 : decode cX1_tick 74 = .ok (.aaload, 1) := by decide +kernel
theorem dX1_tick_75 : decode cX1_tick 75 = .ok (.iload_n 2, 1) := by decide +kernel
theorem dX1_tick_76 : decode cX1_tick 76 = .ok (.bipush 100, 2) := by decide +kernel
theorem dX1_tick_78 : decode cX1_tick 78 = .ok (.isub, 1) := by decide +kernel
theorem dX1_tick_79 : decode cX1_tick 79 = .ok (.iaload, 1) := by decide +kernel
theorem dX1_tick_80 : decode cX1_tick 80 = .ok (.ireturn, 1) := by decide +kernel
theorem dX1_tick_81 : decode cX1_tick 81 = .ok (.iload_n 2, 1) := by decide +kernel
theorem dX1_tick_82 : decode cX1_tick 82 = .ok (.sipush 200, 3) := by decide +kernel
theorem dX1_tick_85 : decode cX1_tick 85 = .ok (.sipush 199, 3) := by decide +kernel
theorem dX1_tick_88 : decode cX1_tick 88 = .ok (.aload_n 0, 1) := by decide +kernel
theorem dX1_tick_89 : decode cX1_tick 89 = .ok (.getfield 10, 3) := by decide +kernel
theorem dX1_tick_92 : decode cX1_tick 92 = .ok (.getfield 59, 3) := by decide +kernel
theorem dX1_tick_95 : decode cX1_tick 95 = .ok (.bipush 13, 2) := by decide +kernel
theorem dX1_tick_97 : decode cX1_tick 97 = .ok (.iaload, 1) := by decide +kernel
theorem dX1_tick_98 : decode cX1_tick 98 = .ok (.iadd, 1) := by decide +kernel
theorem dX1_tick_99 : decode cX1_tick 99 = .ok (.invokestatic 66, 3) := by decide +kernel
theorem dX1_tick_102 : decode cX1_tick 102 = .ok (.ifCond .eq 21, 3) := by decide +kernel
theorem dX1_tick_105 : decode cX1_tick 105 = .ok (.aload_n 0, 1) := by decide +kernel
theorem dX1_tick_106 : decode cX1_tick 106 = .ok (.getfield 10, 3) := by decide +kernel
theorem dX1_tick_109 : decode cX1_tick 109 = .ok (.getfield 301, 3) := by decide +kernel
theorem dX1_tick_112 : decode cX1_tick 112 = .ok (.iload_n 1, 1) := by decide +kernel
theorem dX1_tick_113 : decode cX1_tick 113 = .ok (.aaload, 1) := by decide +kernel
theorem dX1_tick_114 : decode cX1_tick 114 = .ok (.iload_n 2, 1) := by decide +kernel
theorem dX1_tick_115 : decode cX1_tick 115 = .ok (.sipush 200, 3) := by decide +kernel
theorem dX1_tick_118 : decode cX1_tick 118 = .ok (.isub, 1) := by decide +kernel
theorem dX1_tick_119 : decode cX1_tick 119 = .ok (.iaload, 1) := by decide +kernel
theorem dX1_tick_120 : decode cX1_tick 120 = .ok (.goto 6, 3) := by decide +kernel
theorem dX1_tick_123 : decode cX1_tick 123 = .ok (.ldc_w 302, 3) := by decide +kernel
theorem dX1_tick_126 : decode cX1_tick 126 = .ok (.ireturn, 1) := by decide +kernel
abbrev cX1_safe : ByteArray := prog_1_method_41_code
def yX1_safe : MethodName := ⟨RX1, "safe", "(IIIIIIII)I"⟩
theorem dX1_safe_0 : decode cX1_safe 0 = .ok (.aload_n 0, 1) := by decide +kernel
theorem dX1_safe_1 : decode cX1_safe 1 = .ok (.iconst 3, 1) := by decide +kernel
theorem dX1_safe_2 : decode cX1_safe 2 = .ok (.iload_n 1, 1) := by decide +kernel
theorem dX1_safe_3 : decode cX1_safe 3 = .ok (.invokevirtual 135, 3) := by decide +kernel
theorem dX1_safe_6 : decode cX1_safe 6 = .ok (.ifCond .eq 72, 3) := by decide +kernel
theorem dX1_safe_9 : decode cX1_safe 9 = .ok (.aload_n 0, 1) := by decide +kernel
theorem dX1_safe_10 : decode cX1_safe 10 = .ok (.iload_n 2, 1) := by decide +kernel
theorem dX1_safe_11 : decode cX1_safe 11 = .ok (.iload 4, 2) := by decide +kernel
theorem dX1_safe_13 : decode cX1_safe 13 = .ok (.invokevirtual 111, 3) := by decide +kernel
theorem dX1_safe_16 : decode cX1_safe 16 = .ok (.ifCond .eq 62, 3) := by decide +kernel
theorem dX1_safe_19 : decode cX1_safe 19 = .ok (.aload_n 0, 1) := by decide +kernel
theorem dX1_safe_20 : decode cX1_safe 20 = .ok (.iload_n 3, 1) := by decide +kernel
theorem dX1_safe_21 : decode cX1_safe 21 = .ok (.iload 4, 2) := by decide +kernel
theorem dX1_safe_23 : decode cX1_safe 23 = .ok (.invokevirtual 111, 3) := by decide +kernel
theorem dX1_safe_26 : decode cX1_safe 26 = .ok (.ifCond .eq 52, 3) := by decide +kernel
theorem dX1_safe_29 : decode cX1_safe 29 = .ok (.iload_n 3, 1) := by decide +kernel
theorem dX1_safe_30 : decode cX1_safe 30 = .ok (.iload_n 2, 1) := by decide +kernel
theorem dX1_safe_31 : decode cX1_safe 31 = .ok (.if_icmp .lt 47, 3) := by decide +kernel
theorem dX1_safe_34 : decode cX1_safe 34 = .ok (.iload 5, 2) := by decide +kernel
theorem dX1_safe_36 : decode cX1_safe 36 = .ok (.invokestatic 115, 3) := by decide +kernel
theorem dX1_safe_39 : decode cX1_safe 39 = .ok (.ifCond .eq 39, 3) := by decide +kernel
theorem dX1_safe_42 : decode cX1_safe 42 = .ok (.iload 6, 2) := by decide +kernel
theorem dX1_safe_44 : decode cX1_safe 44 = .ok (.invokestatic 115, 3) := by decide +kernel
theorem dX1_safe_47 : decode cX1_safe 47 = .ok (.ifCond .eq 31, 3) := by decide +kernel
theorem dX1_safe_50 : decode cX1_safe 50 = .ok (.iload 6, 2) := by decide +kernel
theorem dX1_safe_52 : decode cX1_safe 52 = .ok (.iload 5, 2) := by decide +kernel
theorem dX1_safe_54 : decode cX1_safe 54 = .ok (.if_icmp .lt 24, 3) := by decide +kernel
theorem dX1_safe_57 : decode cX1_safe 57 = .ok (.iload 7, 2) := by decide +kernel
theorem dX1_safe_59 : decode cX1_safe 59 = .ok (.iconst 1, 1) := by decide +kernel
theorem dX1_safe_60 : decode cX1_safe 60 = .ok (.bipush 60, 2) := by decide +kernel
theorem dX1_safe_62 : decode cX1_safe 62 = .ok (.invokestatic 66, 3) := by decide +kernel
theorem dX1_safe_65 : decode cX1_safe 65 = .ok (.ifCond .eq 13, 3) := by decide +kernel
theorem dX1_safe_68 : decode cX1_safe 68 = .ok (.iload 8, 2) := by decide +kernel
theorem dX1_safe_70 : decode cX1_safe 70 = .ok (.iconst 0, 1) := by decide +kernel
theorem dX1_safe_71 : decode cX1_safe 71 = .ok (.iconst 1, 1) := by decide +kernel
theorem dX1_safe_72 : decode cX1_safe 72 = .ok (.invokestatic 66, 3) := by decide +kernel
theorem dX1_safe_75 : decode cX1_safe 75 = .ok (.ifCond .ne 5, 3) := by decide +kernel
theorem dX1_safe_78 : decode cX1_safe 78 = .ok (.iconst (-1), 1) := by decide +kernel
theorem dX1_safe_79 : decode cX1_safe 79 = .ok (.ireturn, 1) := by decide +kernel
theorem dX1_safe_80 : decode cX1_safe 80 = .ok (.iload_n 3, 1) := by decide +kernel
theorem dX1_safe_81 : decode cX1_safe 81 = .ok (.iload_n 2, 1) := by decide +kernel
theorem dX1_safe_82 : decode cX1_safe 82 = .ok (.isub, 1) := by decide +kernel
theorem dX1_safe_83 : decode cX1_safe 83 = .ok (.bipush 16, 2) := by decide +kernel
theorem dX1_safe_85 : decode cX1_safe 85 = .ok (.idiv, 1) := by decide +kernel
theorem dX1_safe_86 : decode cX1_safe 86 = .ok (.iconst 1, 1) := by decide +kernel
theorem dX1_safe_87 : decode cX1_safe 87 = .ok (.iadd, 1) := by decide +kernel
theorem dX1_safe_88 : decode cX1_safe 88 = .ok (.iload 6, 2) := by decide +kernel
theorem dX1_safe_90 : decode cX1_safe 90 = .ok (.iload 5, 2) := by decide +kernel
theorem dX1_safe_92 : decode cX1_safe 92 = .ok (.isub, 1) := by decide +kernel
theorem dX1_safe_93 : decode cX1_safe 93 = .ok (.iconst 1, 1) := by decide +kernel
theorem dX1_safe_94 : decode cX1_safe 94 = .ok (.iadd, 1) := by decide +kernel
theorem dX1_safe_95 : decode cX1_safe 95 = .ok (.imul, 1) := by decide +kernel
theorem dX1_safe_96 : decode cX1_safe 96 = .ok (.bipush 64, 2) := by decide +kernel
theorem dX1_safe_98 : decode cX1_safe 98 = .ok (.if_icmp .le 5, 3) := by decide +kernel
theorem dX1_safe_101 : decode cX1_safe 101 = .ok (.iconst (-1), 1) := by decide +kernel
theorem dX1_safe_102 : decode cX1_safe 102 = .ok (.ireturn, 1) := by decide +kernel
theorem dX1_safe_103 : decode cX1_safe 103 = .ok (.iload_n 2, 1) := by decide +kernel
theorem dX1_safe_104 : decode cX1_safe 104 = .ok (.istore 9, 2) := by decide +kernel
theorem dX1_safe_106 : decode cX1_safe 106 = .ok (.iload 9, 2) := by decide +kernel
theorem dX1_safe_108 : decode cX1_safe 108 = .ok (.iload_n 3, 1) := by decide +kernel
theorem dX1_safe_109 : decode cX1_safe 109 = .ok (.if_icmp .gt 79, 3) := by decide +kernel
theorem dX1_safe_112 : decode cX1_safe 112 = .ok (.iload 5, 2) := by decide +kernel
theorem dX1_safe_114 : decode cX1_safe 114 = .ok (.istore 10, 2) := by decide +kernel
theorem dX1_safe_116 : decode cX1_safe 116 = .ok (.iload 10, 2) := by decide +kernel
theorem dX1_safe_118 : decode cX1_safe 118 = .ok (.iload 6, 2) := by decide +kernel
theorem dX1_safe_120 : decode cX1_safe 120 = .ok (.if_icmp .gt 62, 3) := by decide +kernel
theorem dX1_safe_123 : decode cX1_safe 123 = .ok (.aload_n 0, 1) := by decide +kernel
theorem dX1_safe_124 : decode cX1_safe 124 = .ok (.iload 9, 2) := by decide +kernel
theorem dX1_safe_126 : decode cX1_safe 126 = .ok (.iload 4, 2) := by decide +kernel
theorem dX1_safe_128 : decode cX1_safe 128 = .ok (.iload 10, 2) := by decide +kernel
theorem dX1_safe_130 : decode cX1_safe 130 = .ok (.invokevirtual 288, 3) := by decide +kernel
theorem dX1_safe_133 : decode cX1_safe 133 = .ok (.ifCond .ne 6, 3) := by decide +kernel
theorem dX1_safe_136 : decode cX1_safe 136 = .ok (.goto 40, 3) := by decide +kernel
theorem dX1_safe_139 : decode cX1_safe 139 = .ok (.aload_n 0, 1) := by decide +kernel
theorem dX1_safe_140 : decode cX1_safe 140 = .ok (.iload_n 1, 1) := by decide +kernel
theorem dX1_safe_141 : decode cX1_safe 141 = .ok (.iload 9, 2) := by decide +kernel
theorem dX1_safe_143 : decode cX1_safe 143 = .ok (.iload 4, 2) := by decide +kernel
theorem dX1_safe_145 : decode cX1_safe 145 = .ok (.iload 10, 2) := by decide +kernel
theorem dX1_safe_147 : decode cX1_safe 147 = .ok (.iload 7, 2) := by decide +kernel
theorem dX1_safe_149 : decode cX1_safe 149 = .ok (.iconst 0, 1) := by decide +kernel
theorem dX1_safe_150 : decode cX1_safe 150 = .ok (.invokevirtual 291, 3) := by decide +kernel
theorem dX1_safe_153 : decode cX1_safe 153 = .ok (.aload_n 0, 1) := by decide +kernel
theorem dX1_safe_154 : decode cX1_safe 154 = .ok (.getfield 40, 3) := by decide +kernel
theorem dX1_safe_157 : decode cX1_safe 157 = .ok (.getfield 196, 3) := by decide +kernel
theorem dX1_safe_160 : decode cX1_safe 160 = .ok (.ifCond .eq 16, 3) := by decide +kernel
theorem dX1_safe_163 : decode cX1_safe 163 = .ok (.iload 8, 2) := by decide +kernel
theorem dX1_safe_165 : decode cX1_safe 165 = .ok (.ifCond .ne 8, 3) := by decide +kernel
theorem dX1_safe_168 : decode cX1_safe 168 = .ok (.iload 9, 2) := by decide +kernel
theorem dX1_safe_170 : decode cX1_safe 170 = .ok (.goto 5, 3) := by decide +kernel
theorem dX1_safe_173 : decode cX1_safe 173 = .ok (.iload 10, 2) := by decide +kernel
theorem dX1_safe_175 : decode cX1_safe 175 = .ok (.ireturn, 1) := by decide +kernel
theorem dX1_safe_176 : decode cX1_safe 176 = .ok (.iinc 10 1, 3) := by decide +kernel
theorem dX1_safe_179 : decode cX1_safe 179 = .ok (.goto (-63), 3) := by decide +kernel
theorem dX1_safe_182 : decode cX1_safe 182 = .ok (.iinc 9 16, 3) := by decide +kernel
theorem dX1_safe_185 : decode cX1_safe 185 = .ok (.goto (-79), 3) := by decide +kernel
theorem dX1_safe_188 : decode cX1_safe 188 = .ok (.iconst (-1), 1) := by decide +kernel
theorem dX1_safe_189 : decode cX1_safe 189 = .ok (.ireturn, 1) := by decide +kernel
abbrev cX1_read : ByteArray := prog_1_method_42_code
def yX1_read : MethodName := ⟨RX1, "read", "(III)I"⟩
theorem dX1_read_0 : decode cX1_read 0 = .ok (.aload_n 0, 1) := by decide +kernel
theorem dX1_read_1 : decode cX1_read 1 = .ok (.iload_n 1, 1) := by decide +kernel
theorem dX1_read_2 : decode cX1_read 2 = .ok (.iload_n 2, 1) := by decide +kernel
theorem dX1_read_3 : decode cX1_read 3 = .ok (.invokevirtual 111, 3) := by decide +kernel
theorem dX1_read_6 : decode cX1_read 6 = .ok (.ifCond .eq 24, 3) := by decide +kernel
theorem dX1_read_9 : decode cX1_read 9 = .ok (.iload_n 3, 1) := by decide +kernel
theorem dX1_read_10 : decode cX1_read 10 = .ok (.invokestatic 115, 3) := by decide +kernel
theorem dX1_read_13 : decode cX1_read 13 = .ok (.ifCond .eq 17, 3) := by decide +kernel
theorem dX1_read_16 : decode cX1_read 16 = .ok (.aload_n 0, 1) := by decide +kernel
theorem dX1_read_17 : decode cX1_read 17 = .ok (.getfield 10, 3) := by decide +kernel
theorem dX1_read_20 : decode cX1_read 20 = .ok (.getfield 59, 3) := by decide +kernel
theorem dX1_read_23 : decode cX1_read 23 = .ok (.iconst 4, 1) := by decide +kernel
theorem dX1_read_24 : decode cX1_read 24 = .ok (.iaload, 1) := by decide +kernel
theorem dX1_read_25 : decode cX1_read 25 = .ok (.bipush 6, 2) := by decide +kernel
theorem dX1_read_27 : decode cX1_read 27 = .ok (.if_icmp .ne 7, 3) := by decide +kernel
theorem dX1_read_30 : decode cX1_read 30 = .ok (.iconst (-1), 1) := by decide +kernel
theorem dX1_read_31 : decode cX1_read 31 = .ok (.goto 44, 3) := by decide +kernel
theorem dX1_read_34 : decode cX1_read 34 = .ok (.aload_n 0, 1) := by decide +kernel
theorem dX1_read_35 : decode cX1_read 35 = .ok (.iconst 4, 1) := by decide +kernel
theorem dX1_read_36 : decode cX1_read 36 = .ok (.aload_n 0, 1) := by decide +kernel
theorem dX1_read_37 : decode cX1_read 37 = .ok (.getfield 10, 3) := by decide +kernel
theorem dX1_read_40 : decode cX1_read 40 = .ok (.getfield 303, 3) := by decide +kernel
theorem dX1_read_43 : decode cX1_read 43 = .ok (.aload_n 0, 1) := by decide +kernel
theorem dX1_read_44 : decode cX1_read 44 = .ok (.getfield 10, 3) := by decide +kernel
theorem dX1_read_47 : decode cX1_read 47 = .ok (.getfield 59, 3) := by decide +kernel
theorem dX1_read_50 : decode cX1_read 50 = .ok (.iconst 4, 1) := by decide +kernel
theorem dX1_read_51 : decode cX1_read 51 = .ok (.iaload, 1) := by decide +kernel
theorem dX1_read_52 : decode cX1_read 52 = .ok (.aaload, 1) := by decide +kernel
theorem dX1_read_53 : decode cX1_read 53 = .ok (.iconst 4, 1) := by decide +kernel
theorem dX1_read_54 : decode cX1_read 54 = .ok (.newarray .int, 2) := by decide +kernel
theorem dX1_read_56 : decode cX1_read 56 = .ok (.dup, 1) := by decide +kernel
theorem dX1_read_57 : decode cX1_read 57 = .ok (.iconst 0, 1) := by decide +kernel
theorem dX1_read_58 : decode cX1_read 58 = .ok (.iload_n 1, 1) := by decide +kernel
theorem dX1_read_59 : decode cX1_read 59 = .ok (.iastore, 1) := by decide +kernel
theorem dX1_read_60 : decode cX1_read 60 = .ok (.dup, 1) := by decide +kernel
theorem dX1_read_61 : decode cX1_read 61 = .ok (.iconst 1, 1) := by decide +kernel
theorem dX1_read_62 : decode cX1_read 62 = .ok (.iload_n 2, 1) := by decide +kernel
theorem dX1_read_63 : decode cX1_read 63 = .ok (.iastore, 1) := by decide +kernel
theorem dX1_read_64 : decode cX1_read 64 = .ok (.dup, 1) := by decide +kernel
theorem dX1_read_65 : decode cX1_read 65 = .ok (.iconst 2, 1) := by decide +kernel
theorem dX1_read_66 : decode cX1_read 66 = .ok (.iload_n 3, 1) := by decide +kernel
theorem dX1_read_67 : decode cX1_read 67 = .ok (.iastore, 1) := by decide +kernel
theorem dX1_read_68 : decode cX1_read 68 = .ok (.dup, 1) := by decide +kernel
theorem dX1_read_69 : decode cX1_read 69 = .ok (.iconst 3, 1) := by decide +kernel
theorem dX1_read_70 : decode cX1_read 70 = .ok (.iconst 0, 1) := by decide +kernel
theorem dX1_read_71 : decode cX1_read 71 = .ok (.iastore, 1) := by decide +kernel
theorem dX1_read_72 : decode cX1_read 72 = .ok (.invokevirtual 90, 3) := by decide +kernel
theorem dX1_read_75 : decode cX1_read 75 = .ok (.ireturn, 1) := by decide +kernel
abbrev cX1_turned : ByteArray := prog_1_method_43_code
def yX1_turned : MethodName := ⟨RX1, "turned", "(II)I"⟩
theorem dX1_turned_0 : decode cX1_turned 0 = .ok (.aload_n 0, 1) := by decide +kernel
theorem dX1_turned_1 : decode cX1_turned 1 = .ok (.iconst 4, 1) := by decide +kernel
theorem dX1_turned_2 : decode cX1_turned 2 = .ok (.iload_n 1, 1) := by decide +kernel
theorem dX1_turned_3 : decode cX1_turned 3 = .ok (.invokevirtual 135, 3) := by decide +kernel
theorem dX1_turned_6 : decode cX1_turned 6 = .ok (.ifCond .eq 30, 3) := by decide +kernel
theorem dX1_turned_9 : decode cX1_turned 9 = .ok (.iload_n 2, 1) := by decide +kernel
theorem dX1_turned_10 : decode cX1_turned 10 = .ok (.bipush (-8), 2) := by decide +kernel
theorem dX1_turned_12 : decode cX1_turned 12 = .ok (.bipush 8, 2) := by decide +kernel
theorem dX1_turned_14 : decode cX1_turned 14 = .ok (.invokestatic 66, 3) := by decide +kernel
theorem dX1_turned_17 : decode cX1_turned 17 = .ok (.ifCond .eq 19, 3) := by decide +kernel
theorem dX1_turned_20 : decode cX1_turned 20 = .ok (.aload_n 0, 1) := by decide +kernel
theorem dX1_turned_21 : decode cX1_turned 21 = .ok (.getfield 10, 3) := by decide +kernel
theorem dX1_turned_24 : decode cX1_turned 24 = .ok (.getfield 303, 3) := by decide +kernel
theorem dX1_turned_27 : decode cX1_turned 27 = .ok (.iload_n 1, 1) := by decide +kernel
theorem dX1_turned_28 : decode cX1_turned 28 = .ok (.aaload, 1) := by decide +kernel
theorem dX1_turned_29 : decode cX1_turned 29 = .ok (.iconst 3, 1) := by decide +kernel
theorem dX1_turned_30 : decode cX1_turned 30 = .ok (.iaload, 1) := by decide +kernel
theorem dX1_turned_31 : decode cX1_turned 31 = .ok (.bipush 20, 2) := by decide +kernel
theorem dX1_turned_33 : decode cX1_turned 33 = .ok (.if_icmp .ne 5, 3) := by decide +kernel
theorem dX1_turned_36 : decode cX1_turned 36 = .ok (.iconst (-1), 1) := by decide +kernel
theorem dX1_turned_37 : decode cX1_turned 37 = .ok (.ireturn, 1) := by decide +kernel
theorem dX1_turned_38 : decode cX1_turned 38 = .ok (.aload_n 0, 1) := by decide +kernel
theorem dX1_turned_39 : decode cX1_turned 39 = .ok (.getfield 10, 3) := by decide +kernel
theorem dX1_turned_42 : decode cX1_turned 42 = .ok (.getfield 303, 3) := by decide +kernel
theorem dX1_turned_45 : decode cX1_turned 45 = .ok (.iload_n 1, 1) := by decide +kernel
theorem dX1_turned_46 : decode cX1_turned 46 = .ok (.aaload, 1) := by decide +kernel
theorem dX1_turned_47 : decode cX1_turned 47 = .ok (.astore_n 3, 1) := by decide +kernel
theorem dX1_turned_48 : decode cX1_turned 48 = .ok (.aload_n 3, 1) := by decide +kernel
theorem dX1_turned_49 : decode cX1_turned 49 = .ok (.iconst 4, 1) := by decide +kernel
theorem dX1_turned_50 : decode cX1_turned 50 = .ok (.aload_n 3, 1) := by decide +kernel
theorem dX1_turned_51 : decode cX1_turned 51 = .ok (.iconst 3, 1) := by decide +kernel
theorem dX1_turned_52 : decode cX1_turned 52 = .ok (.iaload, 1) := by decide +kernel
theorem dX1_turned_53 : decode cX1_turned 53 = .ok (.iadd, 1) := by decide +kernel
theorem dX1_turned_54 : decode cX1_turned 54 = .ok (.iload_n 2, 1) := by decide +kernel
theorem dX1_turned_55 : decode cX1_turned 55 = .ok (.iastore, 1) := by decide +kernel
theorem dX1_turned_56 : decode cX1_turned 56 = .ok (.aload_n 3, 1) := by decide +kernel
theorem dX1_turned_57 : decode cX1_turned 57 = .ok (.iconst 3, 1) := by decide +kernel
theorem dX1_turned_58 : decode cX1_turned 58 = .ok (.dup2, 1) := by decide +kernel
theorem dX1_turned_59 : decode cX1_turned 59 = .ok (.iaload, 1) := by decide +kernel
theorem dX1_turned_60 : decode cX1_turned 60 = .ok (.iconst 1, 1) := by decide +kernel
theorem dX1_turned_61 : decode cX1_turned 61 = .ok (.iadd, 1) := by decide +kernel
theorem dX1_turned_62 : decode cX1_turned 62 = .ok (.iastore, 1) := by decide +kernel
theorem dX1_turned_63 : decode cX1_turned 63 = .ok (.aload_n 3, 1) := by decide +kernel
theorem dX1_turned_64 : decode cX1_turned 64 = .ok (.iconst 3, 1) := by decide +kernel
theorem dX1_turned_65 : decode cX1_turned 65 = .ok (.iaload, 1) := by decide +kernel
theorem dX1_turned_66 : decode cX1_turned 66 = .ok (.ireturn, 1) := by decide +kernel
abbrev cX1_kept : ByteArray := prog_1_method_46_code
def yX1_kept : MethodName := ⟨RX1, "kept", "(I)I"⟩
theorem dX1_kept_0 : decode cX1_kept 0 = .ok (.iload_n 1, 1) := by decide +kernel
theorem dX1_kept_1 : decode cX1_kept 1 = .ok (.iconst (-1), 1) := by decide +kernel
theorem dX1_kept_2 : decode cX1_kept 2 = .ok (.if_icmp .ne 13, 3) := by decide +kernel
theorem dX1_kept_5 : decode cX1_kept 5 = .ok (.aload_n 0, 1) := by decide +kernel
theorem dX1_kept_6 : decode cX1_kept 6 = .ok (.invokevirtual 308, 3) := by decide +kernel
theorem dX1_kept_9 : decode cX1_kept 9 = .ok (.invokestatic 311, 3) := by decide +kernel
theorem dX1_kept_12 : decode cX1_kept 12 = .ok (.goto 29, 3) := by decide +kernel
theorem dX1_kept_15 : decode cX1_kept 15 = .ok (.aload_n 0, 1) := by decide +kernel
theorem dX1_kept_16 : decode cX1_kept 16 = .ok (.iconst 3, 1) := by decide +kernel
theorem dX1_kept_17 : decode cX1_kept 17 = .ok (.iload_n 1, 1) := by decide +kernel
theorem dX1_kept_18 : decode cX1_kept 18 = .ok (.invokevirtual 135, 3) := by decide +kernel
theorem dX1_kept_21 : decode cX1_kept 21 = .ok (.ifCond .eq 19, 3) := by decide +kernel
theorem dX1_kept_24 : decode cX1_kept 24 = .ok (.aload_n 0, 1) := by decide +kernel
theorem dX1_kept_25 : decode cX1_kept 25 = .ok (.iload_n 1, 1) := by decide +kernel
theorem dX1_kept_26 : decode cX1_kept 26 = .ok (.invokevirtual 305, 3) := by decide +kernel
theorem dX1_kept_29 : decode cX1_kept 29 = .ok (.ifCond .eq 7, 3) := by decide +kernel
theorem dX1_kept_32 : decode cX1_kept 32 = .ok (.iconst 1, 1) := by decide +kernel
theorem dX1_kept_33 : decode cX1_kept 33 = .ok (.goto 8, 3) := by decide +kernel
theorem dX1_kept_36 : decode cX1_kept 36 = .ok (.iconst 0, 1) := by decide +kernel
theorem dX1_kept_37 : decode cX1_kept 37 = .ok (.goto 4, 3) := by decide +kernel
theorem dX1_kept_40 : decode cX1_kept 40 = .ok (.iconst (-1), 1) := by decide +kernel
theorem dX1_kept_41 : decode cX1_kept 41 = .ok (.ireturn, 1) := by decide +kernel
abbrev cX1_keeps : ByteArray := prog_1_method_45_code
def yX1_keeps : MethodName := ⟨RX1, "keeps", "()I"⟩
theorem dX1_keeps_0 : decode cX1_keeps 0 = .ok (.iconst 0, 1) := by decide +kernel
theorem dX1_keeps_1 : decode cX1_keeps 1 = .ok (.istore_n 1, 1) := by decide +kernel
theorem dX1_keeps_2 : decode cX1_keeps 2 = .ok (.iconst 0, 1) := by decide +kernel
theorem dX1_keeps_3 : decode cX1_keeps 3 = .ok (.istore_n 2, 1) := by decide +kernel
theorem dX1_keeps_4 : decode cX1_keeps 4 = .ok (.iload_n 2, 1) := by decide +kernel
theorem dX1_keeps_5 : decode cX1_keeps 5 = .ok (.aload_n 0, 1) := by decide +kernel
theorem dX1_keeps_6 : decode cX1_keeps 6 = .ok (.getfield 10, 3) := by decide +kernel
theorem dX1_keeps_9 : decode cX1_keeps 9 = .ok (.getfield 59, 3) := by decide +kernel
theorem dX1_keeps_12 : decode cX1_keeps 12 = .ok (.iconst 3, 1) := by decide +kernel
theorem dX1_keeps_13 : decode cX1_keeps 13 = .ok (.iaload, 1) := by decide +kernel
theorem dX1_keeps_14 : decode cX1_keeps 14 = .ok (.if_icmp .ge 27, 3) := by decide +kernel
theorem dX1_keeps_17 : decode cX1_keeps 17 = .ok (.iload_n 1, 1) := by decide +kernel
theorem dX1_keeps_18 : decode cX1_keeps 18 = .ok (.aload_n 0, 1) := by decide +kernel
theorem dX1_keeps_19 : decode cX1_keeps 19 = .ok (.iload_n 2, 1) := by decide +kernel
theorem dX1_keeps_20 : decode cX1_keeps 20 = .ok (.invokevirtual 305, 3) := by decide +kernel
theorem dX1_keeps_23 : decode cX1_keeps 23 = .ok (.ifCond .eq 9, 3) := by decide +kernel
theorem dX1_keeps_26 : decode cX1_keeps 26 = .ok (.iconst 1, 1) := by decide +kernel
theorem dX1_keeps_27 : decode cX1_keeps 27 = .ok (.iload_n 2, 1) := by decide +kernel
theorem dX1_keeps_28 : decode cX1_keeps 28 = .ok (.ishl, 1) := by decide +kernel
theorem dX1_keeps_29 : decode cX1_keeps 29 = .ok (.goto 4, 3) := by decide +kernel
theorem dX1_keeps_32 : decode cX1_keeps 32 = .ok (.iconst 0, 1) := by decide +kernel
theorem dX1_keeps_33 : decode cX1_keeps 33 = .ok (.ior, 1) := by decide +kernel
theorem dX1_keeps_34 : decode cX1_keeps 34 = .ok (.istore_n 1, 1) := by decide +kernel
theorem dX1_keeps_35 : decode cX1_keeps 35 = .ok (.iinc 2 1, 3) := by decide +kernel
theorem dX1_keeps_38 : decode cX1_keeps 38 = .ok (.goto (-34), 3) := by decide +kernel
theorem dX1_keeps_41 : decode cX1_keeps 41 = .ok (.iload_n 1, 1) := by decide +kernel
theorem dX1_keeps_42 : decode cX1_keeps 42 = .ok (.ireturn, 1) := by decide +kernel
abbrev cX1_isKept : ByteArray := prog_1_method_44_code
def yX1_isKept : MethodName := ⟨RX1, "isKept", "(I)Z"⟩
theorem dX1_isKept_0 : decode cX1_isKept 0 = .ok (.iconst 0, 1) := by decide +kernel
theorem dX1_isKept_1 : decode cX1_isKept 1 = .ok (.istore_n 2, 1) := by decide +kernel
theorem dX1_isKept_2 : decode cX1_isKept 2 = .ok (.iload_n 2, 1) := by decide +kernel
theorem dX1_isKept_3 : decode cX1_isKept 3 = .ok (.aload_n 0, 1) := by decide +kernel
theorem dX1_isKept_4 : decode cX1_isKept 4 = .ok (.getfield 10, 3) := by decide +kernel
theorem dX1_isKept_7 : decode cX1_isKept 7 = .ok (.getfield 59, 3) := by decide +kernel
theorem dX1_isKept_10 : decode cX1_isKept 10 = .ok (.iconst 4, 1) := by decide +kernel
theorem dX1_isKept_11 : decode cX1_isKept 11 = .ok (.iaload, 1) := by decide +kernel
theorem dX1_isKept_12 : decode cX1_isKept 12 = .ok (.if_icmp .ge 110, 3) := by decide +kernel
theorem dX1_isKept_15 : decode cX1_isKept 15 = .ok (.aload_n 0, 1) := by decide +kernel
theorem dX1_isKept_16 : decode cX1_isKept 16 = .ok (.getfield 10, 3) := by decide +kernel
theorem dX1_isKept_19 : decode cX1_isKept 19 = .ok (.getfield 303, 3) := by decide +kernel
theorem dX1_isKept_22 : decode cX1_isKept 22 = .ok (.iload_n 2, 1) := by decide +kernel
theorem dX1_isKept_23 : decode cX1_isKept 23 = .ok (.aaload, 1) := by decide +kernel
theorem dX1_isKept_24 : decode cX1_isKept 24 = .ok (.astore_n 3, 1) := by decide +kernel
theorem dX1_isKept_25 : decode cX1_isKept 25 = .ok (.aload_n 0, 1) := by decide +kernel
theorem dX1_isKept_26 : decode cX1_isKept 26 = .ok (.aload_n 3, 1) := by decide +kernel
theorem dX1_isKept_27 : decode cX1_isKept 27 = .ok (.iconst 0, 1) := by decide +kernel
theorem dX1_isKept_28 : decode cX1_isKept 28 = .ok (.iaload, 1) := by decide +kernel
theorem dX1_isKept_29 : decode cX1_isKept 29 = .ok (.aload_n 3, 1) := by decide +kernel
theorem dX1_isKept_30 : decode cX1_isKept 30 = .ok (.iconst 1, 1) := by decide +kernel
theorem dX1_isKept_31 : decode cX1_isKept 31 = .ok (.iaload, 1) := by decide +kernel
theorem dX1_isKept_32 : decode cX1_isKept 32 = .ok (.aload_n 3, 1) := by decide +kernel
theorem dX1_isKept_33 : decode cX1_isKept 33 = .ok (.iconst 2, 1) := by decide +kernel
theorem dX1_isKept_34 : decode cX1_isKept 34 = .ok (.iaload, 1) := by decide +kernel
theorem dX1_isKept_35 : decode cX1_isKept 35 = .ok (.invokevirtual 288, 3) := by decide +kernel
theorem dX1_isKept_38 : decode cX1_isKept 38 = .ok (.ifCond .ne 5, 3) := by decide +kernel
theorem dX1_isKept_41 : decode cX1_isKept 41 = .ok (.iconst 0, 1) := by decide +kernel
theorem dX1_isKept_42 : decode cX1_isKept 42 = .ok (.ireturn, 1) := by decide +kernel
theorem dX1_isKept_43 : decode cX1_isKept 43 = .ok (.aload_n 0, 1) := by decide +kernel
theorem dX1_isKept_44 : decode cX1_isKept 44 = .ok (.iload_n 1, 1) := by decide +kernel
theorem dX1_isKept_45 : decode cX1_isKept 45 = .ok (.aload_n 3, 1) := by decide +kernel
theorem dX1_isKept_46 : decode cX1_isKept 46 = .ok (.iconst 0, 1) := by decide +kernel
theorem dX1_isKept_47 : decode cX1_isKept 47 = .ok (.iaload, 1) := by decide +kernel
theorem dX1_isKept_48 : decode cX1_isKept 48 = .ok (.aload_n 3, 1) := by decide +kernel
theorem dX1_isKept_49 : decode cX1_isKept 49 = .ok (.iconst 1, 1) := by decide +kernel
theorem dX1_isKept_50 : decode cX1_isKept 50 = .ok (.iaload, 1) := by decide +kernel
theorem dX1_isKept_51 : decode cX1_isKept 51 = .ok (.aload_n 3, 1) := by decide +kernel
theorem dX1_isKept_52 : decode cX1_isKept 52 = .ok (.iconst 2, 1) := by decide +kernel
theorem dX1_isKept_53 : decode cX1_isKept 53 = .ok (.iaload, 1) := by decide +kernel
theorem dX1_isKept_54 : decode cX1_isKept 54 = .ok (.aload_n 3, 1) := by decide +kernel
theorem dX1_isKept_55 : decode cX1_isKept 55 = .ok (.iconst 3, 1) := by decide +kernel
theorem dX1_isKept_56 : decode cX1_isKept 56 = .ok (.iaload, 1) := by decide +kernel
theorem dX1_isKept_57 : decode cX1_isKept 57 = .ok (.iconst 0, 1) := by decide +kernel
theorem dX1_isKept_58 : decode cX1_isKept 58 = .ok (.invokevirtual 291, 3) := by decide +kernel
theorem dX1_isKept_61 : decode cX1_isKept 61 = .ok (.aload_n 0, 1) := by decide +kernel
theorem dX1_isKept_62 : decode cX1_isKept 62 = .ok (.getfield 40, 3) := by decide +kernel
theorem dX1_isKept_65 : decode cX1_isKept 65 = .ok (.getfield 193, 3) := by decide +kernel
theorem dX1_isKept_68 : decode cX1_isKept 68 = .ok (.aload_n 3, 1) := by decide +kernel
theorem dX1_isKept_69 : decode cX1_isKept 69 = .ok (.iconst 3, 1) := by decide +kernel
theorem dX1_isKept_70 : decode cX1_isKept 70 = .ok (.iaload, 1) := by decide +kernel
theorem dX1_isKept_71 : decode cX1_isKept 71 = .ok (.if_icmp .ge 5, 3) := by decide +kernel
theorem dX1_isKept_74 : decode cX1_isKept 74 = .ok (.iconst 0, 1) := by decide +kernel
theorem dX1_isKept_75 : decode cX1_isKept 75 = .ok (.ireturn, 1) := by decide +kernel
theorem dX1_isKept_76 : decode cX1_isKept 76 = .ok (.iconst 0, 1) := by decide +kernel
theorem dX1_isKept_77 : decode cX1_isKept 77 = .ok (.istore 4, 2) := by decide +kernel
theorem dX1_isKept_79 : decode cX1_isKept 79 = .ok (.iload 4, 2) := by decide +kernel
theorem dX1_isKept_81 : decode cX1_isKept 81 = .ok (.aload_n 3, 1) := by decide +kernel
theorem dX1_isKept_82 : decode cX1_isKept 82 = .ok (.iconst 3, 1) := by decide +kernel
theorem dX1_isKept_83 : decode cX1_isKept 83 = .ok (.iaload, 1) := by decide +kernel
theorem dX1_isKept_84 : decode cX1_isKept 84 = .ok (.if_icmp .ge 32, 3) := by decide +kernel
theorem dX1_isKept_87 : decode cX1_isKept 87 = .ok (.aload_n 0, 1) := by decide +kernel
theorem dX1_isKept_88 : decode cX1_isKept 88 = .ok (.getfield 40, 3) := by decide +kernel
theorem dX1_isKept_91 : decode cX1_isKept 91 = .ok (.getfield 283, 3) := by decide +kernel
theorem dX1_isKept_94 : decode cX1_isKept 94 = .ok (.iload 4, 2) := by decide +kernel
theorem dX1_isKept_96 : decode cX1_isKept 96 = .ok (.aaload, 1) := by decide +kernel
theorem dX1_isKept_97 : decode cX1_isKept 97 = .ok (.iconst 0, 1) := by decide +kernel
theorem dX1_isKept_98 : decode cX1_isKept 98 = .ok (.iaload, 1) := by decide +kernel
theorem dX1_isKept_99 : decode cX1_isKept 99 = .ok (.aload_n 3, 1) := by decide +kernel
theorem dX1_isKept_100 : decode cX1_isKept 100 = .ok (.iconst 4, 1) := by decide +kernel
theorem dX1_isKept_101 : decode cX1_isKept 101 = .ok (.iload 4, 2) := by decide +kernel
theorem dX1_isKept_103 : decode cX1_isKept 103 = .ok (.iadd, 1) := by decide +kernel
theorem dX1_isKept_104 : decode cX1_isKept 104 = .ok (.iaload, 1) := by decide +kernel
theorem dX1_isKept_105 : decode cX1_isKept 105 = .ok (.if_icmp .eq 5, 3) := by decide +kernel
theorem dX1_isKept_108 : decode cX1_isKept 108 = .ok (.iconst 0, 1) := by decide +kernel
theorem dX1_isKept_109 : decode cX1_isKept 109 = .ok (.ireturn, 1) := by decide +kernel
theorem dX1_isKept_110 : decode cX1_isKept 110 = .ok (.iinc 4 1, 3) := by decide +kernel
theorem dX1_isKept_113 : decode cX1_isKept 113 = .ok (.goto (-34), 3) := by decide +kernel
theorem dX1_isKept_116 : decode cX1_isKept 116 = .ok (.iinc 2 1, 3) := by decide +kernel
theorem dX1_isKept_119 : decode cX1_isKept 119 = .ok (.goto (-117), 3) := by decide +kernel
theorem dX1_isKept_122 : decode cX1_isKept 122 = .ok (.iconst 1, 1) := by decide +kernel
theorem dX1_isKept_123 : decode cX1_isKept 123 = .ok (.ireturn, 1) := by decide +kernel
abbrev cX1_parts : ByteArray := prog_1_method_48_code
def yX1_parts : MethodName := ⟨RX1, "parts", "(II)I"⟩
theorem dX1_parts_0 : decode cX1_parts 0 = .ok (.iload_n 1, 1) := by decide +kernel
theorem dX1_parts_1 : decode cX1_parts 1 = .ok (.iconst 0, 1) := by decide +kernel
theorem dX1_parts_2 : decode cX1_parts 2 = .ok (.aload_n 0, 1) := by decide +kernel
theorem dX1_parts_3 : decode cX1_parts 3 = .ok (.getfield 56, 3) := by decide +kernel
theorem dX1_parts_6 : decode cX1_parts 6 = .ok (.iconst 1, 1) := by decide +kernel
theorem dX1_parts_7 : decode cX1_parts 7 = .ok (.isub, 1) := by decide +kernel
theorem dX1_parts_8 : decode cX1_parts 8 = .ok (.invokestatic 66, 3) := by decide +kernel
theorem dX1_parts_11 : decode cX1_parts 11 = .ok (.ifCond .eq 12, 3) := by decide +kernel
theorem dX1_parts_14 : decode cX1_parts 14 = .ok (.iload_n 2, 1) := by decide +kernel
theorem dX1_parts_15 : decode cX1_parts 15 = .ok (.iconst 0, 1) := by decide +kernel
theorem dX1_parts_16 : decode cX1_parts 16 = .ok (.iconst 2, 1) := by decide +kernel
theorem dX1_parts_17 : decode cX1_parts 17 = .ok (.invokestatic 66, 3) := by decide +kernel
theorem dX1_parts_20 : decode cX1_parts 20 = .ok (.ifCond .ne 5, 3) := by decide +kernel
theorem dX1_parts_23 : decode cX1_parts 23 = .ok (.iconst (-1), 1) := by decide +kernel
theorem dX1_parts_24 : decode cX1_parts 24 = .ok (.ireturn, 1) := by decide +kernel
theorem dX1_parts_25 : decode cX1_parts 25 = .ok (.aload_n 0, 1) := by decide +kernel
theorem dX1_parts_26 : decode cX1_parts 26 = .ok (.invokevirtual 308, 3) := by decide +kernel
theorem dX1_parts_29 : decode cX1_parts 29 = .ok (.istore_n 3, 1) := by decide +kernel
theorem dX1_parts_30 : decode cX1_parts 30 = .ok (.iconst 1, 1) := by decide +kernel
theorem dX1_parts_31 : decode cX1_parts 31 = .ok (.istore 4, 2) := by decide +kernel
theorem dX1_parts_33 : decode cX1_parts 33 = .ok (.iconst (-1), 1) := by decide +kernel
theorem dX1_parts_34 : decode cX1_parts 34 = .ok (.istore 5, 2) := by decide +kernel
theorem dX1_parts_36 : decode cX1_parts 36 = .ok (.iconst (-1), 1) := by decide +kernel
theorem dX1_parts_37 : decode cX1_parts 37 = .ok (.istore 6, 2) := by decide +kernel
theorem dX1_parts_39 : decode cX1_parts 39 = .ok (.bipush 8, 2) := by decide +kernel
theorem dX1_parts_41 : decode cX1_parts 41 = .ok (.istore 7, 2) := by decide +kernel
theorem dX1_parts_43 : decode cX1_parts 43 = .ok (.iload 7, 2) := by decide +kernel
theorem dX1_parts_45 : decode cX1_parts 45 = .ok (.bipush 16, 2) := by decide +kernel
theorem dX1_parts_47 : decode cX1_parts 47 = .ok (.aload_n 0, 1) := by decide +kernel
theorem dX1_parts_48 : decode cX1_parts 48 = .ok (.getfield 53, 3) := by decide +kernel
theorem dX1_parts_51 : decode cX1_parts 51 = .ok (.imul, 1) := by decide +kernel
theorem dX1_parts_52 : decode cX1_parts 52 = .ok (.if_icmp .ge 86, 3) := by decide +kernel
theorem dX1_parts_55 : decode cX1_parts 55 = .ok (.iconst 0, 1) := by decide +kernel
theorem dX1_parts_56 : decode cX1_parts 56 = .ok (.istore 8, 2) := by decide +kernel
theorem dX1_parts_58 : decode cX1_parts 58 = .ok (.iload 8, 2) := by decide +kernel
theorem dX1_parts_60 : decode cX1_parts 60 = .ok (.bipush 64, 2) := by decide +kernel
theorem dX1_parts_62 : decode cX1_parts 62 = .ok (.if_icmp .ge 70, 3) := by decide +kernel
theorem dX1_parts_65 : decode cX1_parts 65 = .ok (.aload_n 0, 1) := by decide +kernel
theorem dX1_parts_66 : decode cX1_parts 66 = .ok (.iload 7, 2) := by decide +kernel
theorem dX1_parts_68 : decode cX1_parts 68 = .ok (.bipush 16, 2) := by decide +kernel
theorem dX1_parts_70 : decode cX1_parts 70 = .ok (.iload_n 1, 1) := by decide +kernel
theorem dX1_parts_71 : decode cX1_parts 71 = .ok (.imul, 1) := by decide +kernel
theorem dX1_parts_72 : decode cX1_parts 72 = .ok (.bipush 8, 2) := by decide +kernel
theorem dX1_parts_74 : decode cX1_parts 74 = .ok (.iadd, 1) := by decide +kernel
theorem dX1_parts_75 : decode cX1_parts 75 = .ok (.iload 8, 2) := by decide +kernel
theorem dX1_parts_77 : decode cX1_parts 77 = .ok (.invokevirtual 288, 3) := by decide +kernel
theorem dX1_parts_80 : decode cX1_parts 80 = .ok (.ifCond .ne 6, 3) := by decide +kernel
theorem dX1_parts_83 : decode cX1_parts 83 = .ok (.goto 43, 3) := by decide +kernel
theorem dX1_parts_86 : decode cX1_parts 86 = .ok (.aload_n 0, 1) := by decide +kernel
theorem dX1_parts_87 : decode cX1_parts 87 = .ok (.iload_n 3, 1) := by decide +kernel
theorem dX1_parts_88 : decode cX1_parts 88 = .ok (.iload 7, 2) := by decide +kernel
theorem dX1_parts_90 : decode cX1_parts 90 = .ok (.bipush 16, 2) := by decide +kernel
theorem dX1_parts_92 : decode cX1_parts 92 = .ok (.iload_n 1, 1) := by decide +kernel
theorem dX1_parts_93 : decode cX1_parts 93 = .ok (.imul, 1) := by decide +kernel
theorem dX1_parts_94 : decode cX1_parts 94 = .ok (.bipush 8, 2) := by decide +kernel
theorem dX1_parts_96 : decode cX1_parts 96 = .ok (.iadd, 1) := by decide +kernel
theorem dX1_parts_97 : decode cX1_parts 97 = .ok (.iload 8, 2) := by decide +kernel
theorem dX1_parts_99 : decode cX1_parts 99 = .ok (.invokevirtual 316, 3) := by decide +kernel
theorem dX1_parts_102 : decode cX1_parts 102 = .ok (.istore 9, 2) := by decide +kernel
theorem dX1_parts_104 : decode cX1_parts 104 = .ok (.iload 9, 2) := by decide +kernel
theorem dX1_parts_106 : decode cX1_parts 106 = .ok (.iload 4, 2) := by decide +kernel
theorem dX1_parts_108 : decode cX1_parts 108 = .ok (.if_icmp .gt 6, 3) := by decide +kernel
theorem dX1_parts_111 : decode cX1_parts 111 = .ok (.goto 15, 3) := by decide +kernel
theorem dX1_parts_114 : decode cX1_parts 114 = .ok (.iload 9, 2) := by decide +kernel
theorem dX1_parts_116 : decode cX1_parts 116 = .ok (.istore 4, 2) := by decide +kernel
theorem dX1_parts_118 : decode cX1_parts 118 = .ok (.iload 7, 2) := by decide +kernel
theorem dX1_parts_120 : decode cX1_parts 120 = .ok (.istore 5, 2) := by decide +kernel
theorem dX1_parts_122 : decode cX1_parts 122 = .ok (.iload 8, 2) := by decide +kernel
theorem dX1_parts_124 : decode cX1_parts 124 = .ok (.istore 6, 2) := by decide +kernel
theorem dX1_parts_126 : decode cX1_parts 126 = .ok (.iinc 8 8, 3) := by decide +kernel
theorem dX1_parts_129 : decode cX1_parts 129 = .ok (.goto (-71), 3) := by decide +kernel
theorem dX1_parts_132 : decode cX1_parts 132 = .ok (.iinc 7 16, 3) := by decide +kernel
theorem dX1_parts_135 : decode cX1_parts 135 = .ok (.goto (-92), 3) := by decide +kernel
theorem dX1_parts_138 : decode cX1_parts 138 = .ok (.iload 5, 2) := by decide +kernel
theorem dX1_parts_140 : decode cX1_parts 140 = .ok (.iconst (-1), 1) := by decide +kernel
theorem dX1_parts_141 : decode cX1_parts 141 = .ok (.if_icmp .ne 7, 3) := by decide +kernel
theorem dX1_parts_144 : decode cX1_parts 144 = .ok (.iconst (-1), 1) := by decide +kernel
theorem dX1_parts_145 : decode cX1_parts 145 = .ok (.goto 24, 3) := by decide +kernel
theorem dX1_parts_148 : decode cX1_parts 148 = .ok (.iload_n 2, 1) := by decide +kernel
theorem dX1_parts_149 : decode cX1_parts 149 = .ok (.ifCond .ne 8, 3) := by decide +kernel
theorem dX1_parts_152 : decode cX1_parts 152 = .ok (.iload 5, 2) := by decide +kernel
theorem dX1_parts_154 : decode cX1_parts 154 = .ok (.goto 15, 3) := by decide +kernel
theorem dX1_parts_157 : decode cX1_parts 157 = .ok (.iload_n 2, 1) := by decide +kernel
theorem dX1_parts_158 : decode cX1_parts 158 = .ok (.iconst 1, 1) := by decide +kernel
theorem dX1_parts_159 : decode cX1_parts 159 = .ok (.if_icmp .ne 8, 3) := by decide +kernel
theorem dX1_parts_162 : decode cX1_parts 162 = .ok (.iload 6, 2) := by decide +kernel
theorem dX1_parts_164 : decode cX1_parts 164 = .ok (.goto 5, 3) := by decide +kernel
theorem dX1_parts_167 : decode cX1_parts 167 = .ok (.iload 4, 2) := by decide +kernel
theorem dX1_parts_169 : decode cX1_parts 169 = .ok (.ireturn, 1) := by decide +kernel
abbrev cX1_unlike : ByteArray := prog_1_method_47_code
def yX1_unlike : MethodName := ⟨RX1, "unlike", "(IIII)I"⟩
theorem dX1_unlike_0 : decode cX1_unlike 0 = .ok (.iconst 0, 1) := by decide +kernel
theorem dX1_unlike_1 : decode cX1_unlike 1 = .ok (.istore 5, 2) := by decide +kernel
theorem dX1_unlike_3 : decode cX1_unlike 3 = .ok (.iconst 0, 1) := by decide +kernel
theorem dX1_unlike_4 : decode cX1_unlike 4 = .ok (.istore 6, 2) := by decide +kernel
theorem dX1_unlike_6 : decode cX1_unlike 6 = .ok (.iload 6, 2) := by decide +kernel
theorem dX1_unlike_8 : decode cX1_unlike 8 = .ok (.aload_n 0, 1) := by decide +kernel
theorem dX1_unlike_9 : decode cX1_unlike 9 = .ok (.getfield 10, 3) := by decide +kernel
theorem dX1_unlike_12 : decode cX1_unlike 12 = .ok (.getfield 59, 3) := by decide +kernel
theorem dX1_unlike_15 : decode cX1_unlike 15 = .ok (.iconst 3, 1) := by decide +kernel
theorem dX1_unlike_16 : decode cX1_unlike 16 = .ok (.iaload, 1) := by decide +kernel
theorem dX1_unlike_17 : decode cX1_unlike 17 = .ok (.if_icmp .ge 68, 3) := by decide +kernel
theorem dX1_unlike_20 : decode cX1_unlike 20 = .ok (.iload_n 1, 1) := by decide +kernel
theorem dX1_unlike_21 : decode cX1_unlike 21 = .ok (.iload 6, 2) := by decide +kernel
theorem dX1_unlike_23 : decode cX1_unlike 23 = .ok (.ishr, 1) := by decide +kernel
theorem dX1_unlike_24 : decode cX1_unlike 24 = .ok (.iconst 1, 1) := by decide +kernel
theorem dX1_unlike_25 : decode cX1_unlike 25 = .ok (.iand, 1) := by decide +kernel
theorem dX1_unlike_26 : decode cX1_unlike 26 = .ok (.ifCond .ne 6, 3) := by decide +kernel
theorem dX1_unlike_29 : decode cX1_unlike 29 = .ok (.goto 50, 3) := by decide +kernel
theorem dX1_unlike_32 : decode cX1_unlike 32 = .ok (.aload_n 0, 1) := by decide +kernel
theorem dX1_unlike_33 : decode cX1_unlike 33 = .ok (.iload 6, 2) := by decide +kernel
theorem dX1_unlike_35 : decode cX1_unlike 35 = .ok (.iload_n 2, 1) := by decide +kernel
theorem dX1_unlike_36 : decode cX1_unlike 36 = .ok (.iload_n 3, 1) := by decide +kernel
theorem dX1_unlike_37 : decode cX1_unlike 37 = .ok (.iload 4, 2) := by decide +kernel
theorem dX1_unlike_39 : decode cX1_unlike 39 = .ok (.iconst 1, 1) := by decide +kernel
theorem dX1_unlike_40 : decode cX1_unlike 40 = .ok (.iconst 0, 1) := by decide +kernel
theorem dX1_unlike_41 : decode cX1_unlike 41 = .ok (.invokevirtual 291, 3) := by decide +kernel
theorem dX1_unlike_44 : decode cX1_unlike 44 = .ok (.iload 5, 2) := by decide +kernel
theorem dX1_unlike_46 : decode cX1_unlike 46 = .ok (.iconst 1, 1) := by decide +kernel
theorem dX1_unlike_47 : decode cX1_unlike 47 = .ok (.bipush 8, 2) := by decide +kernel
theorem dX1_unlike_49 : decode cX1_unlike 49 = .ok (.aload_n 0, 1) := by decide +kernel
theorem dX1_unlike_50 : decode cX1_unlike 50 = .ok (.getfield 40, 3) := by decide +kernel
theorem dX1_unlike_53 : decode cX1_unlike 53 = .ok (.getfield 193, 3) := by decide +kernel
theorem dX1_unlike_56 : decode cX1_unlike 56 = .ok (.ifCond .ne 7, 3) := by decide +kernel
theorem dX1_unlike_59 : decode cX1_unlike 59 = .ok (.iconst 0, 1) := by decide +kernel
theorem dX1_unlike_60 : decode cX1_unlike 60 = .ok (.goto 14, 3) := by decide +kernel
theorem dX1_unlike_63 : decode cX1_unlike 63 = .ok (.aload_n 0, 1) := by decide +kernel
theorem dX1_unlike_64 : decode cX1_unlike 64 = .ok (.getfield 40, 3) := by decide +kernel
theorem dX1_unlike_67 : decode cX1_unlike 67 = .ok (.getfield 283, 3) := by decide +kernel
theorem dX1_unlike_70 : decode cX1_unlike 70 = .ok (.iconst 0, 1) := by decide +kernel
theorem dX1_unlike_71 : decode cX1_unlike 71 = .ok (.aaload, 1) := by decide +kernel
theorem dX1_unlike_72 : decode cX1_unlike 72 = .ok (.iconst 0, 1) := by decide +kernel
theorem dX1_unlike_73 : decode cX1_unlike 73 = .ok (.iaload, 1) := by decide +kernel
theorem dX1_unlike_74 : decode cX1_unlike 74 = .ok (.iadd, 1) := by decide +kernel
theorem dX1_unlike_75 : decode cX1_unlike 75 = .ok (.ishl, 1) := by decide +kernel
theorem dX1_unlike_76 : decode cX1_unlike 76 = .ok (.ior, 1) := by decide +kernel
theorem dX1_unlike_77 : decode cX1_unlike 77 = .ok (.istore 5, 2) := by decide +kernel
theorem dX1_unlike_79 : decode cX1_unlike 79 = .ok (.iinc 6 1, 3) := by decide +kernel
theorem dX1_unlike_82 : decode cX1_unlike 82 = .ok (.goto (-76), 3) := by decide +kernel
theorem dX1_unlike_85 : decode cX1_unlike 85 = .ok (.iload 5, 2) := by decide +kernel
theorem dX1_unlike_87 : decode cX1_unlike 87 = .ok (.invokestatic 311, 3) := by decide +kernel
theorem dX1_unlike_90 : decode cX1_unlike 90 = .ok (.ireturn, 1) := by decide +kernel
abbrev cX1_image : ByteArray := prog_1_method_49_code
def yX1_image : MethodName := ⟨RX1, "image", "()I"⟩
theorem dX1_image_0 : decode cX1_image 0 = .ok (.aload_n 0, 1) := by decide +kernel
theorem dX1_image_1 : decode cX1_image 1 = .ok (.getfield 16, 3) := by decide +kernel
theorem dX1_image_4 : decode cX1_image 4 = .ok (.aload_n 0, 1) := by decide +kernel
theorem dX1_image_5 : decode cX1_image 5 = .ok (.getfield 10, 3) := by decide +kernel
theorem dX1_image_8 : decode cX1_image 8 = .ok (.invokevirtual 62, 3) := by decide +kernel
theorem dX1_image_11 : decode cX1_image 11 = .ok (.aload_n 0, 1) := by decide +kernel
theorem dX1_image_12 : decode cX1_image 12 = .ok (.getfield 10, 3) := by decide +kernel
theorem dX1_image_15 : decode cX1_image 15 = .ok (.getfield 59, 3) := by decide +kernel
theorem dX1_image_18 : decode cX1_image 18 = .ok (.iconst 3, 1) := by decide +kernel
theorem dX1_image_19 : decode cX1_image 19 = .ok (.iaload, 1) := by decide +kernel
theorem dX1_image_20 : decode cX1_image 20 = .ok (.ireturn, 1) := by decide +kernel
abbrev cX1_back : ByteArray := prog_1_method_50_code
def yX1_back : MethodName := ⟨RX1, "back", "()I"⟩
theorem dX1_back_0 : decode cX1_back 0 = .ok (.aload_n 0, 1) := by decide +kernel
theorem dX1_back_1 : decode cX1_back 1 = .ok (.getfield 10, 3) := by decide +kernel
theorem dX1_back_4 : decode cX1_back 4 = .ok (.aload_n 0, 1) := by decide +kernel
theorem dX1_back_5 : decode cX1_back 5 = .ok (.getfield 16, 3) := by decide +kernel
theorem dX1_back_8 : decode cX1_back 8 = .ok (.invokevirtual 62, 3) := by decide +kernel
theorem dX1_back_11 : decode cX1_back 11 = .ok (.aload_n 0, 1) := by decide +kernel
theorem dX1_back_12 : decode cX1_back 12 = .ok (.getfield 10, 3) := by decide +kernel
theorem dX1_back_15 : decode cX1_back 15 = .ok (.getfield 59, 3) := by decide +kernel
theorem dX1_back_18 : decode cX1_back 18 = .ok (.iconst 3, 1) := by decide +kernel
theorem dX1_back_19 : decode cX1_back 19 = .ok (.iaload, 1) := by decide +kernel
theorem dX1_back_20 : decode cX1_back 20 = .ok (.ireturn, 1) := by decide +kernel
abbrev cX1_about : ByteArray := prog_1_method_51_code
def yX1_about : MethodName := ⟨RX1, "about", "(I)I"⟩
theorem dX1_about_0 : decode cX1_about 0 = .ok (.iload_n 1, 1) := by decide +kernel
theorem dX1_about_1 : decode cX1_about 1 = .ok (.iconst 0, 1) := by decide +kernel
theorem dX1_about_2 : decode cX1_about 2 = .ok (.iconst 1, 1) := by decide +kernel
theorem dX1_about_3 : decode cX1_about 3 = .ok (.invokestatic 66, 3) := by decide +kernel
theorem dX1_about_6 : decode cX1_about 6 = .ok (.ifCond .eq 19, 3) := by decide +kernel
theorem dX1_about_9 : decode cX1_about 9 = .ok (.iload_n 1, 1) := by decide +kernel
theorem dX1_about_10 : decode cX1_about 10 = .ok (.ifCond .ne 10, 3) := by decide +kernel
theorem dX1_about_13 : decode cX1_about 13 = .ok (.aload_n 0, 1) := by decide +kernel
theorem dX1_about_14 : decode cX1_about 14 = .ok (.getfield 53, 3) := by decide +kernel
theorem dX1_about_17 : decode cX1_about 17 = .ok (.goto 7, 3) := by decide +kernel
theorem dX1_about_20 : decode cX1_about 20 = .ok (.aload_n 0, 1) := by decide +kernel
theorem dX1_about_21 : decode cX1_about 21 = .ok (.getfield 56, 3) := by decide +kernel
theorem dX1_about_24 : decode cX1_about 24 = .ok (.ireturn, 1) := by decide +kernel
theorem dX1_about_25 : decode cX1_about 25 = .ok (.iload_n 1, 1) := by decide +kernel
theorem dX1_about_26 : decode cX1_about 26 = .ok (.iconst 2, 1) := by decide +kernel
theorem dX1_about_27 : decode cX1_about 27 = .ok (.bipush 6, 2) := by decide +kernel
theorem dX1_about_29 : decode cX1_about 29 = .ok (.invokestatic 66, 3) := by decide +kernel
theorem dX1_about_32 : decode cX1_about 32 = .ok (.ifCond .eq 15, 3) := by decide +kernel
theorem dX1_about_35 : decode cX1_about 35 = .ok (.aload_n 0, 1) := by decide +kernel
theorem dX1_about_36 : decode cX1_about 36 = .ok (.getfield 10, 3) := by decide +kernel
theorem dX1_about_39 : decode cX1_about 39 = .ok (.getfield 59, 3) := by decide +kernel
theorem dX1_about_42 : decode cX1_about 42 = .ok (.iload_n 1, 1) := by decide +kernel
theorem dX1_about_43 : decode cX1_about 43 = .ok (.iconst 2, 1) := by decide +kernel
theorem dX1_about_44 : decode cX1_about 44 = .ok (.isub, 1) := by decide +kernel
theorem dX1_about_45 : decode cX1_about 45 = .ok (.iaload, 1) := by decide +kernel
theorem dX1_about_46 : decode cX1_about 46 = .ok (.ireturn, 1) := by decide +kernel
theorem dX1_about_47 : decode cX1_about 47 = .ok (.iload_n 1, 1) := by decide +kernel
theorem dX1_about_48 : decode cX1_about 48 = .ok (.bipush 7, 2) := by decide +kernel
theorem dX1_about_50 : decode cX1_about 50 = .ok (.if_icmp .ne 8, 3) := by decide +kernel
theorem dX1_about_53 : decode cX1_about 53 = .ok (.aload_n 0, 1) := by decide +kernel
theorem dX1_about_54 : decode cX1_about 54 = .ok (.getfield 150, 3) := by decide +kernel
theorem dX1_about_57 : decode cX1_about 57 = .ok (.ireturn, 1) := by decide +kernel
theorem dX1_about_58 : decode cX1_about 58 = .ok (.iload_n 1, 1) := by decide +kernel
theorem dX1_about_59 : decode cX1_about 59 = .ok (.bipush 8, 2) := by decide +kernel
theorem dX1_about_61 : decode cX1_about 61 = .ok (.if_icmp .eq 5, 3) := by decide +kernel
theorem dX1_about_64 : decode cX1_about 64 = .ok (.iconst (-1), 1) := by decide +kernel
theorem dX1_about_65 : decode cX1_about 65 = .ok (.ireturn, 1) := by decide +kernel
theorem dX1_about_66 : decode cX1_about 66 = .ok (.iconst 0, 1) := by decide +kernel
theorem dX1_about_67 : decode cX1_about 67 = .ok (.istore_n 2, 1) := by decide +kernel
theorem dX1_about_68 : decode cX1_about 68 = .ok (.iconst 0, 1) := by decide +kernel
theorem dX1_about_69 : decode cX1_about 69 = .ok (.istore_n 3, 1) := by decide +kernel
theorem dX1_about_70 : decode cX1_about 70 = .ok (.iload_n 3, 1) := by decide +kernel
theorem dX1_about_71 : decode cX1_about 71 = .ok (.aload_n 0, 1) := by decide +kernel
theorem dX1_about_72 : decode cX1_about 72 = .ok (.getfield 53, 3) := by decide +kernel
theorem dX1_about_75 : decode cX1_about 75 = .ok (.aload_n 0, 1) := by decide +kernel
theorem dX1_about_76 : decode cX1_about 76 = .ok (.getfield 56, 3) := by decide +kernel
theorem dX1_about_79 : decode cX1_about 79 = .ok (.imul, 1) := by decide +kernel
theorem dX1_about_80 : decode cX1_about 80 = .ok (.if_icmp .ge 29, 3) := by decide +kernel
theorem dX1_about_83 : decode cX1_about 83 = .ok (.iload_n 2, 1) := by decide +kernel
theorem dX1_about_84 : decode cX1_about 84 = .ok (.aload_n 0, 1) := by decide +kernel
theorem dX1_about_85 : decode cX1_about 85 = .ok (.getfield 10, 3) := by decide +kernel
theorem dX1_about_88 : decode cX1_about 88 = .ok (.getfield 80, 3) := by decide +kernel
theorem dX1_about_91 : decode cX1_about 91 = .ok (.iload_n 3, 1) := by decide +kernel
theorem dX1_about_92 : decode cX1_about 92 = .ok (.iaload, 1) := by decide +kernel
theorem dX1_about_93 : decode cX1_about 93 = .ok (.ifCond .le 7, 3) := by decide +kernel
theorem dX1_about_96 : decode cX1_about 96 = .ok (.iconst 1, 1) := by decide +kernel
theorem dX1_about_97 : decode cX1_about 97 = .ok (.goto 4, 3) := by decide +kernel
theorem dX1_about_100 : decode cX1_about 100 = .ok (.iconst 0, 1) := by decide +kernel
theorem dX1_about_101 : decode cX1_about 101 = .ok (.iadd, 1) := by decide +kernel
theorem dX1_about_102 : decode cX1_about 102 = .ok (.istore_n 2, 1) := by decide +kernel
theorem dX1_about_103 : decode cX1_about 103 = .ok (.iinc 3 1, 3) := by decide +kernel
theorem dX1_about_106 : decode cX1_about 106 = .ok (.goto (-36), 3) := by decide +kernel
theorem dX1_about_109 : decode cX1_about 109 = .ok (.iload_n 2, 1) := by decide +kernel
theorem dX1_about_110 : decode cX1_about 110 = .ok (.ireturn, 1) := by decide +kernel
theorem q80 : (Jvm.Cond.initialized "ManyEyes") ∈ lw_all := lw_g (lw_at lw_m1 1 rfl) rfl
theorem q118 : (Jvm.Cond.instantiable "ManyEyes" (12 : Nat)) ∈ lw_all := lw_g (lw_at lw_m1 39 rfl) rfl
theorem q120 : (Jvm.Cond.instanceMethod ({ cls := "ManyEyes", name := "<init>", desc := "(II)V" } : Jvm.MethodName)) ∈ lw_all := lw_g (lw_at lw_m1 41 rfl) rfl
theorem q121 : (Jvm.Cond.code ({ cls := "ManyEyes", name := "<init>", desc := "(II)V" } : Jvm.MethodName) prog_1_method_1_code (3 : Nat) (Option.none : Option Jvm.ClassFile.FieldType)) ∈ lw_all := lw_g (lw_at lw_m1 42 rfl) rfl
theorem q122 : (Jvm.Cond.methodLink "ManyEyes" (1 : Nat) ({ cls := "java/lang/Object", name := "<init>", desc := "()V" } : Jvm.MethodName)) ∈ lw_all := lw_g (lw_at lw_m1 43 rfl) rfl
theorem q125 : (Jvm.Cond.classLink "ManyEyes" (7 : Nat) "ManyEyes$State") ∈ lw_all := lw_g (lw_at lw_m1 46 rfl) rfl
theorem q127 : (Jvm.Cond.methodLinkNest "ManyEyes" (9 : Nat) ({ cls := "ManyEyes$State", name := "<init>", desc := "()V" } : Jvm.MethodName) "ManyEyes") ∈ lw_tbl := lw_at lw_m1 48 rfl
theorem q161 : (Jvm.Cond.fieldLinkNest "ManyEyes" (59 : Nat) "ManyEyes$State" "n" "[I" "ManyEyes") ∈ lw_tbl := lw_at lw_m1 82 rfl
theorem q163 : (Jvm.Cond.fieldLinkNest "ManyEyes" (80 : Nat) "ManyEyes$State" "mark" "[I" "ManyEyes") ∈ lw_tbl := lw_at lw_m1 84 rfl
theorem q165 : (Jvm.Cond.fieldLinkNest "ManyEyes" (86 : Nat) "ManyEyes$State" "body" "[[I" "ManyEyes") ∈ lw_tbl := lw_at lw_m1 86 rfl
theorem q167 : (Jvm.Cond.fieldLinkNest "ManyEyes" (122 : Nat) "ManyEyes$State" "lens" "[[I" "ManyEyes") ∈ lw_tbl := lw_at lw_m1 88 rfl
theorem q169 : (Jvm.Cond.fieldLinkNest "ManyEyes" (141 : Nat) "ManyEyes$State" "pair" "[[I" "ManyEyes") ∈ lw_tbl := lw_at lw_m1 90 rfl
theorem q171 : (Jvm.Cond.fieldLinkNest "ManyEyes" (303 : Nat) "ManyEyes$State" "read" "[[I" "ManyEyes") ∈ lw_tbl := lw_at lw_m1 92 rfl
theorem q173 : (Jvm.Cond.fieldLinkNest "ManyEyes" (295 : Nat) "ManyEyes$State" "tick" "[[I" "ManyEyes") ∈ lw_tbl := lw_at lw_m1 94 rfl
theorem q175 : (Jvm.Cond.fieldLinkNest "ManyEyes" (300 : Nat) "ManyEyes$State" "take" "[[I" "ManyEyes") ∈ lw_tbl := lw_at lw_m1 96 rfl
theorem q177 : (Jvm.Cond.fieldLinkNest "ManyEyes" (301 : Nat) "ManyEyes$State" "pairs" "[[I" "ManyEyes") ∈ lw_tbl := lw_at lw_m1 98 rfl
theorem q179 : (Jvm.Cond.fieldLinkNest "ManyEyes" (156 : Nat) "ManyEyes$State" "rules" "Ljava/util/ArrayList;" "ManyEyes") ∈ lw_tbl := lw_at lw_m1 100 rfl
theorem q201 : (Jvm.Cond.classLink "ManyEyes" (37 : Nat) "ManyEyes$Flight") ∈ lw_all := lw_g (lw_at lw_m1 122 rfl) rfl
theorem q203 : (Jvm.Cond.methodLinkNest "ManyEyes" (39 : Nat) ({ cls := "ManyEyes$Flight", name := "<init>", desc := "()V" } : Jvm.MethodName) "ManyEyes") ∈ lw_tbl := lw_at lw_m1 124 rfl
theorem q216 : (Jvm.Cond.fieldLinkNest "ManyEyes" (227 : Nat) "ManyEyes$Now" "take" "[I" "ManyEyes") ∈ lw_tbl := lw_at lw_m1 137 rfl
theorem q219 : (Jvm.Cond.fieldLinkNest "ManyEyes" (229 : Nat) "ManyEyes$Now" "pair" "[I" "ManyEyes") ∈ lw_tbl := lw_at lw_m1 140 rfl
theorem q222 : (Jvm.Cond.fieldLinkNest "ManyEyes" (247 : Nat) "ManyEyes$Now" "letter" "[J" "ManyEyes") ∈ lw_tbl := lw_at lw_m1 143 rfl
theorem q224 : (Jvm.Cond.fieldLinkNest "ManyEyes" (231 : Nat) "ManyEyes$Now" "tick" "I" "ManyEyes") ∈ lw_tbl := lw_at lw_m1 145 rfl
theorem q226 : (Jvm.Cond.fieldLinkNest "ManyEyes" (207 : Nat) "ManyEyes$Now" "over" "I" "ManyEyes") ∈ lw_tbl := lw_at lw_m1 147 rfl
theorem q228 : (Jvm.Cond.fieldLinkNest "ManyEyes" (214 : Nat) "ManyEyes$Now" "bound" "J" "ManyEyes") ∈ lw_tbl := lw_at lw_m1 149 rfl
theorem q245 : (Jvm.Cond.fieldLinkNest "ManyEyes" (283 : Nat) "ManyEyes$Flight" "tick" "[[I" "ManyEyes") ∈ lw_tbl := lw_at lw_m1 166 rfl
theorem q247 : (Jvm.Cond.fieldLinkNest "ManyEyes" (221 : Nat) "ManyEyes$Flight" "take" "[[I" "ManyEyes") ∈ lw_tbl := lw_at lw_m1 168 rfl
theorem q249 : (Jvm.Cond.fieldLinkNest "ManyEyes" (224 : Nat) "ManyEyes$Flight" "pairs" "[[I" "ManyEyes") ∈ lw_tbl := lw_at lw_m1 170 rfl
theorem q251 : (Jvm.Cond.fieldLinkNest "ManyEyes" (203 : Nat) "ManyEyes$Flight" "asked" "LManyEyes$Now;" "ManyEyes") ∈ lw_tbl := lw_at lw_m1 172 rfl
theorem q252 : (Jvm.Cond.fieldLinkNest "ManyEyes" (184 : Nat) "ManyEyes$Flight" "x" "I" "ManyEyes") ∈ lw_tbl := lw_at lw_m1 173 rfl
theorem q253 : (Jvm.Cond.fieldLinkNest "ManyEyes" (187 : Nat) "ManyEyes$Flight" "y" "I" "ManyEyes") ∈ lw_tbl := lw_at lw_m1 174 rfl
theorem q254 : (Jvm.Cond.fieldLinkNest "ManyEyes" (190 : Nat) "ManyEyes$Flight" "head" "I" "ManyEyes") ∈ lw_tbl := lw_at lw_m1 175 rfl
theorem q255 : (Jvm.Cond.fieldLinkNest "ManyEyes" (193 : Nat) "ManyEyes$Flight" "many" "I" "ManyEyes") ∈ lw_tbl := lw_at lw_m1 176 rfl
theorem q256 : (Jvm.Cond.fieldLinkNest "ManyEyes" (196 : Nat) "ManyEyes$Flight" "hit" "Z" "ManyEyes") ∈ lw_tbl := lw_at lw_m1 177 rfl
theorem q257 : (Jvm.Cond.fieldLinkNest "ManyEyes" (200 : Nat) "ManyEyes$Flight" "rested" "Z" "ManyEyes") ∈ lw_tbl := lw_at lw_m1 178 rfl
theorem q279 : (Jvm.Cond.methodLink "ManyEyes" (44 : Nat) ({ cls := "java/lang/Math", name := "min", desc := "(II)I" } : Jvm.MethodName)) ∈ lw_all := lw_g (lw_at lw_m1 200 rfl) rfl
theorem q282 : (Jvm.Cond.methodLink "ManyEyes" (50 : Nat) ({ cls := "java/lang/Math", name := "max", desc := "(II)I" } : Jvm.MethodName)) ∈ lw_all := lw_g (lw_at lw_m1 203 rfl) rfl
theorem q285 : (Jvm.Cond.methodLink "ManyEyes" (62 : Nat) ({ cls := "ManyEyes$State", name := "be", desc := "(LManyEyes$State;)V" } : Jvm.MethodName)) ∈ lw_all := lw_g (lw_at lw_m1 206 rfl) rfl
theorem q347 : (Jvm.Cond.selects "ManyEyes" ({ cls := "java/lang/Object", name := "getClass", desc := "()Ljava/lang/Class;" } : Jvm.MethodName) ({ cls := "java/lang/Object", name := "getClass", desc := "()Ljava/lang/Class;" } : Jvm.MethodName)) ∈ lw_all := lw_g (lw_at lw_m2 28 rfl) rfl
theorem q379 : (Jvm.Cond.fieldLink "ManyEyes" (10 : Nat) "ManyEyes" "now" "LManyEyes$State;") ∈ lw_all := lw_g (lw_at lw_m2 60 rfl) rfl
theorem q380 : (Jvm.Cond.fieldLink "ManyEyes" (16 : Nat) "ManyEyes" "image" "LManyEyes$State;") ∈ lw_all := lw_g (lw_at lw_m2 61 rfl) rfl
theorem q381 : (Jvm.Cond.fieldLink "ManyEyes" (53 : Nat) "ManyEyes" "w" "I") ∈ lw_all := lw_g (lw_at lw_m2 62 rfl) rfl
theorem q382 : (Jvm.Cond.fieldLink "ManyEyes" (56 : Nat) "ManyEyes" "h" "I") ∈ lw_all := lw_g (lw_at lw_m2 63 rfl) rfl
theorem q383 : (Jvm.Cond.fieldLink "ManyEyes" (19 : Nat) "ManyEyes" "tape" "[B") ∈ lw_all := lw_g (lw_at lw_m2 64 rfl) rfl
theorem q384 : (Jvm.Cond.fieldLink "ManyEyes" (150 : Nat) "ManyEyes" "taped" "I") ∈ lw_all := lw_g (lw_at lw_m2 65 rfl) rfl
theorem q385 : (Jvm.Cond.fieldLink "ManyEyes" (23 : Nat) "ManyEyes" "fault" "I") ∈ lw_all := lw_g (lw_at lw_m2 66 rfl) rfl
theorem q386 : (Jvm.Cond.fieldLink "ManyEyes" (27 : Nat) "ManyEyes" "faultAt" "I") ∈ lw_all := lw_g (lw_at lw_m2 67 rfl) rfl
theorem q387 : (Jvm.Cond.fieldLink "ManyEyes" (30 : Nat) "ManyEyes" "world" "[I") ∈ lw_all := lw_g (lw_at lw_m2 68 rfl) rfl
theorem q388 : (Jvm.Cond.fieldLink "ManyEyes" (105 : Nat) "ManyEyes" "far" "I") ∈ lw_all := lw_g (lw_at lw_m2 69 rfl) rfl
theorem q389 : (Jvm.Cond.fieldLink "ManyEyes" (34 : Nat) "ManyEyes" "takes" "[I") ∈ lw_all := lw_g (lw_at lw_m2 70 rfl) rfl
theorem q390 : (Jvm.Cond.fieldLink "ManyEyes" (40 : Nat) "ManyEyes" "flight" "LManyEyes$Flight;") ∈ lw_all := lw_g (lw_at lw_m2 71 rfl) rfl
theorem q391 : (Jvm.Cond.laysFinal "ManyEyes" "ManyEyes" "now" "LManyEyes$State;") ∈ lw_all := lw_g (lw_at lw_m2 72 rfl) rfl
theorem q392 : (Jvm.Cond.soleField "ManyEyes" "now") ∈ lw_all := lw_g (lw_at lw_m2 73 rfl) rfl
theorem q393 : (Jvm.Cond.laysFinal "ManyEyes" "ManyEyes" "image" "LManyEyes$State;") ∈ lw_all := lw_g (lw_at lw_m2 74 rfl) rfl
theorem q394 : (Jvm.Cond.soleField "ManyEyes" "image") ∈ lw_all := lw_g (lw_at lw_m2 75 rfl) rfl
theorem q395 : (Jvm.Cond.laysFinal "ManyEyes" "ManyEyes" "w" "I") ∈ lw_all := lw_g (lw_at lw_m2 76 rfl) rfl
theorem q396 : (Jvm.Cond.soleField "ManyEyes" "w") ∈ lw_all := lw_g (lw_at lw_m2 77 rfl) rfl
theorem q397 : (Jvm.Cond.laysFinal "ManyEyes" "ManyEyes" "h" "I") ∈ lw_all := lw_g (lw_at lw_m2 78 rfl) rfl
theorem q398 : (Jvm.Cond.soleField "ManyEyes" "h") ∈ lw_all := lw_g (lw_at lw_m2 79 rfl) rfl
theorem q399 : (Jvm.Cond.laysFinal "ManyEyes" "ManyEyes" "tape" "[B") ∈ lw_all := lw_g (lw_at lw_m2 80 rfl) rfl
theorem q400 : (Jvm.Cond.soleField "ManyEyes" "tape") ∈ lw_all := lw_g (lw_at lw_m2 81 rfl) rfl
theorem q401 : (Jvm.Cond.lays "ManyEyes" "ManyEyes" "taped" "I") ∈ lw_all := lw_g (lw_at lw_m2 82 rfl) rfl
theorem q402 : (Jvm.Cond.soleField "ManyEyes" "taped") ∈ lw_all := lw_g (lw_at lw_m2 83 rfl) rfl
theorem q403 : (Jvm.Cond.lays "ManyEyes" "ManyEyes" "fault" "I") ∈ lw_all := lw_g (lw_at lw_m2 84 rfl) rfl
theorem q404 : (Jvm.Cond.soleField "ManyEyes" "fault") ∈ lw_all := lw_g (lw_at lw_m2 85 rfl) rfl
theorem q405 : (Jvm.Cond.lays "ManyEyes" "ManyEyes" "faultAt" "I") ∈ lw_all := lw_g (lw_at lw_m2 86 rfl) rfl
theorem q406 : (Jvm.Cond.soleField "ManyEyes" "faultAt") ∈ lw_all := lw_g (lw_at lw_m2 87 rfl) rfl
theorem q407 : (Jvm.Cond.laysFinal "ManyEyes" "ManyEyes" "world" "[I") ∈ lw_all := lw_g (lw_at lw_m2 88 rfl) rfl
theorem q408 : (Jvm.Cond.soleField "ManyEyes" "world") ∈ lw_all := lw_g (lw_at lw_m2 89 rfl) rfl
theorem q409 : (Jvm.Cond.lays "ManyEyes" "ManyEyes" "far" "I") ∈ lw_all := lw_g (lw_at lw_m2 90 rfl) rfl
theorem q410 : (Jvm.Cond.soleField "ManyEyes" "far") ∈ lw_all := lw_g (lw_at lw_m2 91 rfl) rfl
theorem q411 : (Jvm.Cond.laysFinal "ManyEyes" "ManyEyes" "takes" "[I") ∈ lw_all := lw_g (lw_at lw_m2 92 rfl) rfl
theorem q412 : (Jvm.Cond.soleField "ManyEyes" "takes") ∈ lw_all := lw_g (lw_at lw_m2 93 rfl) rfl
theorem q413 : (Jvm.Cond.laysFinal "ManyEyes" "ManyEyes" "flight" "LManyEyes$Flight;") ∈ lw_all := lw_g (lw_at lw_m2 94 rfl) rfl
theorem q414 : (Jvm.Cond.soleField "ManyEyes" "flight") ∈ lw_all := lw_g (lw_at lw_m2 95 rfl) rfl
theorem q415 : (Jvm.Cond.superclass "ManyEyes" "java/lang/Object") ∈ lw_all := lw_g (lw_at lw_m2 96 rfl) rfl
theorem q417 : (Jvm.Cond.instanceMethod ({ cls := "ManyEyes", name := "mark", desc := "(II)Z" } : Jvm.MethodName)) ∈ lw_all := lw_g (lw_at lw_m2 98 rfl) rfl
theorem q418 : (Jvm.Cond.selects "ManyEyes" ({ cls := "ManyEyes", name := "mark", desc := "(II)Z" } : Jvm.MethodName) ({ cls := "ManyEyes", name := "mark", desc := "(II)Z" } : Jvm.MethodName)) ∈ lw_all := lw_g (lw_at lw_m2 99 rfl) rfl
theorem q419 : (Jvm.Cond.code ({ cls := "ManyEyes", name := "mark", desc := "(II)Z" } : Jvm.MethodName) prog_1_method_8_code (3 : Nat) (Option.some Jvm.ClassFile.FieldType.boolean)) ∈ lw_all := lw_g (lw_at lw_m2 100 rfl) rfl
theorem q420 : (Jvm.Cond.methodLink "ManyEyes" (76 : Nat) ({ cls := "ManyEyes", name := "isCell", desc := "(I)Z" } : Jvm.MethodName)) ∈ lw_all := lw_g (lw_at lw_m2 101 rfl) rfl
theorem q421 : (Jvm.Cond.privateMethod ({ cls := "ManyEyes", name := "isCell", desc := "(I)Z" } : Jvm.MethodName)) ∈ lw_tbl := lw_at lw_m2 102 rfl
theorem q422 : (Jvm.Cond.instanceMethod ({ cls := "ManyEyes", name := "isCell", desc := "(I)Z" } : Jvm.MethodName)) ∈ lw_all := lw_g (lw_at lw_m2 103 rfl) rfl
theorem q423 : (Jvm.Cond.code ({ cls := "ManyEyes", name := "isCell", desc := "(I)Z" } : Jvm.MethodName) prog_1_method_4_code (2 : Nat) (Option.some Jvm.ClassFile.FieldType.boolean)) ∈ lw_all := lw_g (lw_at lw_m2 104 rfl) rfl
theorem q424 : (Jvm.Cond.methodLink "ManyEyes" (66 : Nat) ({ cls := "ManyEyes", name := "in", desc := "(III)Z" } : Jvm.MethodName)) ∈ lw_all := lw_g (lw_at lw_m2 105 rfl) rfl
theorem q425 : (Jvm.Cond.static ({ cls := "ManyEyes", name := "in", desc := "(III)Z" } : Jvm.MethodName)) ∈ lw_all := lw_g (lw_at lw_m2 106 rfl) rfl
theorem q426 : (Jvm.Cond.code ({ cls := "ManyEyes", name := "in", desc := "(III)Z" } : Jvm.MethodName) prog_1_method_2_code (3 : Nat) (Option.some Jvm.ClassFile.FieldType.boolean)) ∈ lw_all := lw_g (lw_at lw_m2 107 rfl) rfl
theorem q428 : (Jvm.Cond.instanceMethod ({ cls := "ManyEyes", name := "body", desc := "(IIII)I" } : Jvm.MethodName)) ∈ lw_all := lw_g (lw_at lw_m2 109 rfl) rfl
theorem q429 : (Jvm.Cond.selects "ManyEyes" ({ cls := "ManyEyes", name := "body", desc := "(IIII)I" } : Jvm.MethodName) ({ cls := "ManyEyes", name := "body", desc := "(IIII)I" } : Jvm.MethodName)) ∈ lw_all := lw_g (lw_at lw_m2 110 rfl) rfl
theorem q430 : (Jvm.Cond.code ({ cls := "ManyEyes", name := "body", desc := "(IIII)I" } : Jvm.MethodName) prog_1_method_10_code (5 : Nat) (Option.some Jvm.ClassFile.FieldType.int)) ∈ lw_all := lw_g (lw_at lw_m2 111 rfl) rfl
theorem q431 : (Jvm.Cond.methodLink "ManyEyes" (83 : Nat) ({ cls := "ManyEyes", name := "isWay", desc := "(I)Z" } : Jvm.MethodName)) ∈ lw_all := lw_g (lw_at lw_m2 112 rfl) rfl
theorem q432 : (Jvm.Cond.static ({ cls := "ManyEyes", name := "isWay", desc := "(I)Z" } : Jvm.MethodName)) ∈ lw_all := lw_g (lw_at lw_m2 113 rfl) rfl
theorem q433 : (Jvm.Cond.code ({ cls := "ManyEyes", name := "isWay", desc := "(I)Z" } : Jvm.MethodName) prog_1_method_9_code (1 : Nat) (Option.some Jvm.ClassFile.FieldType.boolean)) ∈ lw_all := lw_g (lw_at lw_m2 114 rfl) rfl
theorem q434 : (Jvm.Cond.methodLink "ManyEyes" (90 : Nat) ({ cls := "ManyEyes", name := "adds", desc := "(I[I[I)I" } : Jvm.MethodName)) ∈ lw_all := lw_g (lw_at lw_m2 115 rfl) rfl
theorem q435 : (Jvm.Cond.privateMethod ({ cls := "ManyEyes", name := "adds", desc := "(I[I[I)I" } : Jvm.MethodName)) ∈ lw_tbl := lw_at lw_m2 116 rfl
theorem q436 : (Jvm.Cond.instanceMethod ({ cls := "ManyEyes", name := "adds", desc := "(I[I[I)I" } : Jvm.MethodName)) ∈ lw_all := lw_g (lw_at lw_m2 117 rfl) rfl
theorem q437 : (Jvm.Cond.code ({ cls := "ManyEyes", name := "adds", desc := "(I[I[I)I" } : Jvm.MethodName) prog_1_method_7_code (4 : Nat) (Option.some Jvm.ClassFile.FieldType.int)) ∈ lw_all := lw_g (lw_at lw_m2 118 rfl) rfl
theorem q438 : (Jvm.Cond.methodLink "ManyEyes" (70 : Nat) ({ cls := "java/lang/System", name := "arraycopy", desc := "(Ljava/lang/Object;ILjava/lang/Object;II)V" } : Jvm.MethodName)) ∈ lw_all := lw_g (lw_at lw_m2 119 rfl) rfl
theorem q440 : (Jvm.Cond.instanceMethod ({ cls := "ManyEyes", name := "markOf", desc := "(II)I" } : Jvm.MethodName)) ∈ lw_all := lw_g (lw_at lw_m2 121 rfl) rfl
theorem q441 : (Jvm.Cond.selects "ManyEyes" ({ cls := "ManyEyes", name := "markOf", desc := "(II)I" } : Jvm.MethodName) ({ cls := "ManyEyes", name := "markOf", desc := "(II)I" } : Jvm.MethodName)) ∈ lw_all := lw_g (lw_at lw_m2 122 rfl) rfl
theorem q442 : (Jvm.Cond.code ({ cls := "ManyEyes", name := "markOf", desc := "(II)I" } : Jvm.MethodName) prog_1_method_12_code (3 : Nat) (Option.some Jvm.ClassFile.FieldType.int)) ∈ lw_all := lw_g (lw_at lw_m2 123 rfl) rfl
theorem q443 : (Jvm.Cond.methodLink "ManyEyes" (94 : Nat) ({ cls := "ManyEyes", name := "lays", desc := "(I)V" } : Jvm.MethodName)) ∈ lw_all := lw_g (lw_at lw_m2 124 rfl) rfl
theorem q444 : (Jvm.Cond.privateMethod ({ cls := "ManyEyes", name := "lays", desc := "(I)V" } : Jvm.MethodName)) ∈ lw_tbl := lw_at lw_m2 125 rfl
theorem q445 : (Jvm.Cond.instanceMethod ({ cls := "ManyEyes", name := "lays", desc := "(I)V" } : Jvm.MethodName)) ∈ lw_all := lw_g (lw_at lw_m2 126 rfl) rfl
theorem q446 : (Jvm.Cond.code ({ cls := "ManyEyes", name := "lays", desc := "(I)V" } : Jvm.MethodName) prog_1_method_11_code (6 : Nat) (Option.none : Option Jvm.ClassFile.FieldType)) ∈ lw_all := lw_g (lw_at lw_m2 127 rfl) rfl
theorem q448 : (Jvm.Cond.instanceMethod ({ cls := "ManyEyes", name := "ray", desc := "(IIIIZ)I" } : Jvm.MethodName)) ∈ lw_all := lw_g (lw_at lw_m2 129 rfl) rfl
theorem q449 : (Jvm.Cond.selects "ManyEyes" ({ cls := "ManyEyes", name := "ray", desc := "(IIIIZ)I" } : Jvm.MethodName) ({ cls := "ManyEyes", name := "ray", desc := "(IIIIZ)I" } : Jvm.MethodName)) ∈ lw_all := lw_g (lw_at lw_m2 130 rfl) rfl
theorem q450 : (Jvm.Cond.code ({ cls := "ManyEyes", name := "ray", desc := "(IIIIZ)I" } : Jvm.MethodName) prog_1_method_16_code (7 : Nat) (Option.some Jvm.ClassFile.FieldType.int)) ∈ lw_all := lw_g (lw_at lw_m2 131 rfl) rfl
theorem q451 : (Jvm.Cond.methodLink "ManyEyes" (111 : Nat) ({ cls := "ManyEyes", name := "isPlace", desc := "(II)Z" } : Jvm.MethodName)) ∈ lw_all := lw_g (lw_at lw_m2 132 rfl) rfl
theorem q452 : (Jvm.Cond.privateMethod ({ cls := "ManyEyes", name := "isPlace", desc := "(II)Z" } : Jvm.MethodName)) ∈ lw_tbl := lw_at lw_m2 133 rfl
theorem q453 : (Jvm.Cond.instanceMethod ({ cls := "ManyEyes", name := "isPlace", desc := "(II)Z" } : Jvm.MethodName)) ∈ lw_all := lw_g (lw_at lw_m2 134 rfl) rfl
theorem q454 : (Jvm.Cond.code ({ cls := "ManyEyes", name := "isPlace", desc := "(II)Z" } : Jvm.MethodName) prog_1_method_5_code (3 : Nat) (Option.some Jvm.ClassFile.FieldType.boolean)) ∈ lw_all := lw_g (lw_at lw_m2 135 rfl) rfl
theorem q455 : (Jvm.Cond.methodLink "ManyEyes" (115 : Nat) ({ cls := "ManyEyes", name := "isHead", desc := "(I)Z" } : Jvm.MethodName)) ∈ lw_all := lw_g (lw_at lw_m2 136 rfl) rfl
theorem q456 : (Jvm.Cond.static ({ cls := "ManyEyes", name := "isHead", desc := "(I)Z" } : Jvm.MethodName)) ∈ lw_all := lw_g (lw_at lw_m2 137 rfl) rfl
theorem q457 : (Jvm.Cond.code ({ cls := "ManyEyes", name := "isHead", desc := "(I)Z" } : Jvm.MethodName) prog_1_method_6_code (1 : Nat) (Option.some Jvm.ClassFile.FieldType.boolean)) ∈ lw_all := lw_g (lw_at lw_m2 138 rfl) rfl
theorem q458 : (Jvm.Cond.methodLink "ManyEyes" (118 : Nat) ({ cls := "ManyEyes", name := "rayOf", desc := "(III)I" } : Jvm.MethodName)) ∈ lw_all := lw_g (lw_at lw_m2 139 rfl) rfl
theorem q459 : (Jvm.Cond.privateMethod ({ cls := "ManyEyes", name := "rayOf", desc := "(III)I" } : Jvm.MethodName)) ∈ lw_tbl := lw_at lw_m2 140 rfl
theorem q460 : (Jvm.Cond.instanceMethod ({ cls := "ManyEyes", name := "rayOf", desc := "(III)I" } : Jvm.MethodName)) ∈ lw_all := lw_g (lw_at lw_m2 141 rfl) rfl
theorem q461 : (Jvm.Cond.code ({ cls := "ManyEyes", name := "rayOf", desc := "(III)I" } : Jvm.MethodName) prog_1_method_15_code (8 : Nat) (Option.some Jvm.ClassFile.FieldType.int)) ∈ lw_all := lw_g (lw_at lw_m2 142 rfl) rfl
theorem q462 : (Jvm.Cond.methodLink "ManyEyes" (98 : Nat) ({ cls := "ManyEyes", name := "wayX", desc := "(I)I" } : Jvm.MethodName)) ∈ lw_all := lw_g (lw_at lw_m2 143 rfl) rfl
theorem q463 : (Jvm.Cond.static ({ cls := "ManyEyes", name := "wayX", desc := "(I)I" } : Jvm.MethodName)) ∈ lw_all := lw_g (lw_at lw_m2 144 rfl) rfl
theorem q464 : (Jvm.Cond.code ({ cls := "ManyEyes", name := "wayX", desc := "(I)I" } : Jvm.MethodName) prog_1_method_13_code (2 : Nat) (Option.some Jvm.ClassFile.FieldType.int)) ∈ lw_all := lw_g (lw_at lw_m2 145 rfl) rfl
theorem q465 : (Jvm.Cond.methodLink "ManyEyes" (102 : Nat) ({ cls := "ManyEyes", name := "wayY", desc := "(I)I" } : Jvm.MethodName)) ∈ lw_all := lw_g (lw_at lw_m2 146 rfl) rfl
theorem q466 : (Jvm.Cond.static ({ cls := "ManyEyes", name := "wayY", desc := "(I)I" } : Jvm.MethodName)) ∈ lw_all := lw_g (lw_at lw_m2 147 rfl) rfl
theorem q467 : (Jvm.Cond.code ({ cls := "ManyEyes", name := "wayY", desc := "(I)I" } : Jvm.MethodName) prog_1_method_14_code (2 : Nat) (Option.some Jvm.ClassFile.FieldType.int)) ∈ lw_all := lw_g (lw_at lw_m2 148 rfl) rfl
theorem q468 : (Jvm.Cond.methodLink "ManyEyes" (108 : Nat) ({ cls := "java/lang/Math", name := "floorDiv", desc := "(II)I" } : Jvm.MethodName)) ∈ lw_all := lw_g (lw_at lw_m2 149 rfl) rfl
theorem q472 : (Jvm.Cond.instanceMethod ({ cls := "ManyEyes", name := "lens", desc := "(II)I" } : Jvm.MethodName)) ∈ lw_all := lw_g (lw_at lw_m2 153 rfl) rfl
theorem q473 : (Jvm.Cond.selects "ManyEyes" ({ cls := "ManyEyes", name := "lens", desc := "(II)I" } : Jvm.MethodName) ({ cls := "ManyEyes", name := "lens", desc := "(II)I" } : Jvm.MethodName)) ∈ lw_all := lw_g (lw_at lw_m2 154 rfl) rfl
theorem q474 : (Jvm.Cond.code ({ cls := "ManyEyes", name := "lens", desc := "(II)I" } : Jvm.MethodName) prog_1_method_17_code (3 : Nat) (Option.some Jvm.ClassFile.FieldType.int)) ∈ lw_all := lw_g (lw_at lw_m2 155 rfl) rfl
theorem q476 : (Jvm.Cond.instanceMethod ({ cls := "ManyEyes", name := "take", desc := "(IIIII)I" } : Jvm.MethodName)) ∈ lw_all := lw_g (lw_at lw_m2 157 rfl) rfl
theorem q477 : (Jvm.Cond.selects "ManyEyes" ({ cls := "ManyEyes", name := "take", desc := "(IIIII)I" } : Jvm.MethodName) ({ cls := "ManyEyes", name := "take", desc := "(IIIII)I" } : Jvm.MethodName)) ∈ lw_all := lw_g (lw_at lw_m2 158 rfl) rfl
theorem q478 : (Jvm.Cond.code ({ cls := "ManyEyes", name := "take", desc := "(IIIII)I" } : Jvm.MethodName) prog_1_method_20_code (6 : Nat) (Option.some Jvm.ClassFile.FieldType.int)) ∈ lw_all := lw_g (lw_at lw_m2 159 rfl) rfl
theorem q479 : (Jvm.Cond.methodLink "ManyEyes" (135 : Nat) ({ cls := "ManyEyes", name := "isOne", desc := "(II)Z" } : Jvm.MethodName)) ∈ lw_all := lw_g (lw_at lw_m2 160 rfl) rfl
theorem q480 : (Jvm.Cond.privateMethod ({ cls := "ManyEyes", name := "isOne", desc := "(II)Z" } : Jvm.MethodName)) ∈ lw_tbl := lw_at lw_m2 161 rfl
theorem q481 : (Jvm.Cond.instanceMethod ({ cls := "ManyEyes", name := "isOne", desc := "(II)Z" } : Jvm.MethodName)) ∈ lw_all := lw_g (lw_at lw_m2 162 rfl) rfl
theorem q482 : (Jvm.Cond.code ({ cls := "ManyEyes", name := "isOne", desc := "(II)Z" } : Jvm.MethodName) prog_1_method_3_code (3 : Nat) (Option.some Jvm.ClassFile.FieldType.boolean)) ∈ lw_all := lw_g (lw_at lw_m2 163 rfl) rfl
theorem q483 : (Jvm.Cond.methodLink "ManyEyes" (138 : Nat) ({ cls := "ManyEyes", name := "takeOf", desc := "(IIII)I" } : Jvm.MethodName)) ∈ lw_all := lw_g (lw_at lw_m2 164 rfl) rfl
theorem q484 : (Jvm.Cond.privateMethod ({ cls := "ManyEyes", name := "takeOf", desc := "(IIII)I" } : Jvm.MethodName)) ∈ lw_tbl := lw_at lw_m2 165 rfl
theorem q485 : (Jvm.Cond.instanceMethod ({ cls := "ManyEyes", name := "takeOf", desc := "(IIII)I" } : Jvm.MethodName)) ∈ lw_all := lw_g (lw_at lw_m2 166 rfl) rfl
theorem q486 : (Jvm.Cond.code ({ cls := "ManyEyes", name := "takeOf", desc := "(IIII)I" } : Jvm.MethodName) prog_1_method_19_code (5 : Nat) (Option.some Jvm.ClassFile.FieldType.int)) ∈ lw_all := lw_g (lw_at lw_m2 167 rfl) rfl
theorem q487 : (Jvm.Cond.methodLink "ManyEyes" (131 : Nat) ({ cls := "ManyEyes", name := "takeOf", desc := "(IIIII)I" } : Jvm.MethodName)) ∈ lw_all := lw_g (lw_at lw_m2 168 rfl) rfl
theorem q488 : (Jvm.Cond.privateMethod ({ cls := "ManyEyes", name := "takeOf", desc := "(IIIII)I" } : Jvm.MethodName)) ∈ lw_tbl := lw_at lw_m2 169 rfl
theorem q489 : (Jvm.Cond.instanceMethod ({ cls := "ManyEyes", name := "takeOf", desc := "(IIIII)I" } : Jvm.MethodName)) ∈ lw_all := lw_g (lw_at lw_m2 170 rfl) rfl
theorem q490 : (Jvm.Cond.code ({ cls := "ManyEyes", name := "takeOf", desc := "(IIIII)I" } : Jvm.MethodName) prog_1_method_18_code (8 : Nat) (Option.some Jvm.ClassFile.FieldType.int)) ∈ lw_all := lw_g (lw_at lw_m2 171 rfl) rfl
theorem q491 : (Jvm.Cond.methodLink "ManyEyes" (125 : Nat) ({ cls := "java/lang/Math", name := "abs", desc := "(I)I" } : Jvm.MethodName)) ∈ lw_all := lw_g (lw_at lw_m2 172 rfl) rfl
theorem q494 : (Jvm.Cond.methodLink "ManyEyes" (128 : Nat) ({ cls := "java/lang/Math", name := "floorMod", desc := "(II)I" } : Jvm.MethodName)) ∈ lw_all := lw_g (lw_at lw_m2 175 rfl) rfl
theorem q498 : (Jvm.Cond.instanceMethod ({ cls := "ManyEyes", name := "pair", desc := "(III)I" } : Jvm.MethodName)) ∈ lw_all := lw_g (lw_at lw_m2 179 rfl) rfl
theorem q499 : (Jvm.Cond.selects "ManyEyes" ({ cls := "ManyEyes", name := "pair", desc := "(III)I" } : Jvm.MethodName) ({ cls := "ManyEyes", name := "pair", desc := "(III)I" } : Jvm.MethodName)) ∈ lw_all := lw_g (lw_at lw_m2 180 rfl) rfl
theorem q500 : (Jvm.Cond.code ({ cls := "ManyEyes", name := "pair", desc := "(III)I" } : Jvm.MethodName) prog_1_method_21_code (4 : Nat) (Option.some Jvm.ClassFile.FieldType.int)) ∈ lw_all := lw_g (lw_at lw_m2 181 rfl) rfl
theorem q502 : (Jvm.Cond.instanceMethod ({ cls := "ManyEyes", name := "covered", desc := "(I)I" } : Jvm.MethodName)) ∈ lw_all := lw_g (lw_at lw_m2 183 rfl) rfl
theorem q503 : (Jvm.Cond.selects "ManyEyes" ({ cls := "ManyEyes", name := "covered", desc := "(I)I" } : Jvm.MethodName) ({ cls := "ManyEyes", name := "covered", desc := "(I)I" } : Jvm.MethodName)) ∈ lw_all := lw_g (lw_at lw_m2 184 rfl) rfl
theorem q504 : (Jvm.Cond.code ({ cls := "ManyEyes", name := "covered", desc := "(I)I" } : Jvm.MethodName) prog_1_method_24_code (4 : Nat) (Option.some Jvm.ClassFile.FieldType.int)) ∈ lw_all := lw_g (lw_at lw_m2 185 rfl) rfl
theorem q505 : (Jvm.Cond.methodLink "ManyEyes" (147 : Nat) ({ cls := "ManyEyes", name := "coveredBy", desc := "(I)I" } : Jvm.MethodName)) ∈ lw_all := lw_g (lw_at lw_m2 186 rfl) rfl
theorem q506 : (Jvm.Cond.privateMethod ({ cls := "ManyEyes", name := "coveredBy", desc := "(I)I" } : Jvm.MethodName)) ∈ lw_tbl := lw_at lw_m2 187 rfl
theorem q507 : (Jvm.Cond.instanceMethod ({ cls := "ManyEyes", name := "coveredBy", desc := "(I)I" } : Jvm.MethodName)) ∈ lw_all := lw_g (lw_at lw_m2 188 rfl) rfl
theorem q508 : (Jvm.Cond.code ({ cls := "ManyEyes", name := "coveredBy", desc := "(I)I" } : Jvm.MethodName) prog_1_method_23_code (4 : Nat) (Option.some Jvm.ClassFile.FieldType.int)) ∈ lw_all := lw_g (lw_at lw_m2 189 rfl) rfl
theorem q509 : (Jvm.Cond.methodLink "ManyEyes" (144 : Nat) ({ cls := "ManyEyes", name := "weight", desc := "(II)I" } : Jvm.MethodName)) ∈ lw_all := lw_g (lw_at lw_m2 190 rfl) rfl
theorem q510 : (Jvm.Cond.privateMethod ({ cls := "ManyEyes", name := "weight", desc := "(II)I" } : Jvm.MethodName)) ∈ lw_tbl := lw_at lw_m2 191 rfl
theorem q511 : (Jvm.Cond.instanceMethod ({ cls := "ManyEyes", name := "weight", desc := "(II)I" } : Jvm.MethodName)) ∈ lw_all := lw_g (lw_at lw_m2 192 rfl) rfl
theorem q512 : (Jvm.Cond.code ({ cls := "ManyEyes", name := "weight", desc := "(II)I" } : Jvm.MethodName) prog_1_method_22_code (4 : Nat) (Option.some Jvm.ClassFile.FieldType.int)) ∈ lw_all := lw_g (lw_at lw_m2 193 rfl) rfl
theorem q514 : (Jvm.Cond.instanceMethod ({ cls := "ManyEyes", name := "ends", desc := "(IIIIZ)I" } : Jvm.MethodName)) ∈ lw_all := lw_g (lw_at lw_m2 195 rfl) rfl
theorem q515 : (Jvm.Cond.selects "ManyEyes" ({ cls := "ManyEyes", name := "ends", desc := "(IIIIZ)I" } : Jvm.MethodName) ({ cls := "ManyEyes", name := "ends", desc := "(IIIIZ)I" } : Jvm.MethodName)) ∈ lw_all := lw_g (lw_at lw_m2 196 rfl) rfl
theorem q516 : (Jvm.Cond.code ({ cls := "ManyEyes", name := "ends", desc := "(IIIIZ)I" } : Jvm.MethodName) prog_1_method_25_code (13 : Nat) (Option.some Jvm.ClassFile.FieldType.int)) ∈ lw_all := lw_g (lw_at lw_m2 197 rfl) rfl
theorem q518 : (Jvm.Cond.instanceMethod ({ cls := "ManyEyes", name := "width", desc := "(IIIII)I" } : Jvm.MethodName)) ∈ lw_all := lw_g (lw_at lw_m2 199 rfl) rfl
theorem q519 : (Jvm.Cond.selects "ManyEyes" ({ cls := "ManyEyes", name := "width", desc := "(IIIII)I" } : Jvm.MethodName) ({ cls := "ManyEyes", name := "width", desc := "(IIIII)I" } : Jvm.MethodName)) ∈ lw_all := lw_g (lw_at lw_m2 200 rfl) rfl
theorem q520 : (Jvm.Cond.code ({ cls := "ManyEyes", name := "width", desc := "(IIIII)I" } : Jvm.MethodName) prog_1_method_26_code (10 : Nat) (Option.some Jvm.ClassFile.FieldType.int)) ∈ lw_all := lw_g (lw_at lw_m2 201 rfl) rfl
theorem q522 : (Jvm.Cond.instanceMethod ({ cls := "ManyEyes", name := "same", desc := "(IIIIII)I" } : Jvm.MethodName)) ∈ lw_all := lw_g (lw_at lw_m2 203 rfl) rfl
theorem q523 : (Jvm.Cond.selects "ManyEyes" ({ cls := "ManyEyes", name := "same", desc := "(IIIIII)I" } : Jvm.MethodName) ({ cls := "ManyEyes", name := "same", desc := "(IIIIII)I" } : Jvm.MethodName)) ∈ lw_all := lw_g (lw_at lw_m2 204 rfl) rfl
theorem q524 : (Jvm.Cond.code ({ cls := "ManyEyes", name := "same", desc := "(IIIIII)I" } : Jvm.MethodName) prog_1_method_27_code (12 : Nat) (Option.some Jvm.ClassFile.FieldType.int)) ∈ lw_all := lw_g (lw_at lw_m2 205 rfl) rfl
theorem q526 : (Jvm.Cond.instanceMethod ({ cls := "ManyEyes", name := "feed", desc := "(IIIII)I" } : Jvm.MethodName)) ∈ lw_all := lw_g (lw_at lw_m2 207 rfl) rfl
theorem q527 : (Jvm.Cond.selects "ManyEyes" ({ cls := "ManyEyes", name := "feed", desc := "(IIIII)I" } : Jvm.MethodName) ({ cls := "ManyEyes", name := "feed", desc := "(IIIII)I" } : Jvm.MethodName)) ∈ lw_all := lw_g (lw_at lw_m2 208 rfl) rfl
theorem q528 : (Jvm.Cond.code ({ cls := "ManyEyes", name := "feed", desc := "(IIIII)I" } : Jvm.MethodName) prog_1_method_29_code (6 : Nat) (Option.some Jvm.ClassFile.FieldType.int)) ∈ lw_all := lw_g (lw_at lw_m2 209 rfl) rfl
theorem q529 : (Jvm.Cond.methodLink "ManyEyes" (153 : Nat) ({ cls := "ManyEyes", name := "put", desc := "(I)V" } : Jvm.MethodName)) ∈ lw_all := lw_g (lw_at lw_m2 210 rfl) rfl
theorem q530 : (Jvm.Cond.privateMethod ({ cls := "ManyEyes", name := "put", desc := "(I)V" } : Jvm.MethodName)) ∈ lw_tbl := lw_at lw_m2 211 rfl
theorem q531 : (Jvm.Cond.instanceMethod ({ cls := "ManyEyes", name := "put", desc := "(I)V" } : Jvm.MethodName)) ∈ lw_all := lw_g (lw_at lw_m2 212 rfl) rfl
theorem q532 : (Jvm.Cond.code ({ cls := "ManyEyes", name := "put", desc := "(I)V" } : Jvm.MethodName) prog_1_method_28_code (3 : Nat) (Option.none : Option Jvm.ClassFile.FieldType)) ∈ lw_all := lw_g (lw_at lw_m2 213 rfl) rfl
theorem q534 : (Jvm.Cond.instanceMethod ({ cls := "ManyEyes", name := "end", desc := "(I)I" } : Jvm.MethodName)) ∈ lw_all := lw_g (lw_at lw_m2 215 rfl) rfl
theorem q535 : (Jvm.Cond.selects "ManyEyes" ({ cls := "ManyEyes", name := "end", desc := "(I)I" } : Jvm.MethodName) ({ cls := "ManyEyes", name := "end", desc := "(I)I" } : Jvm.MethodName)) ∈ lw_all := lw_g (lw_at lw_m2 216 rfl) rfl
theorem q536 : (Jvm.Cond.code ({ cls := "ManyEyes", name := "end", desc := "(I)I" } : Jvm.MethodName) prog_1_method_30_code (2 : Nat) (Option.some Jvm.ClassFile.FieldType.int)) ∈ lw_all := lw_g (lw_at lw_m2 217 rfl) rfl
theorem q538 : (Jvm.Cond.instanceMethod ({ cls := "ManyEyes", name := "rule", desc := "()I" } : Jvm.MethodName)) ∈ lw_all := lw_g (lw_at lw_m2 219 rfl) rfl
theorem q539 : (Jvm.Cond.selects "ManyEyes" ({ cls := "ManyEyes", name := "rule", desc := "()I" } : Jvm.MethodName) ({ cls := "ManyEyes", name := "rule", desc := "()I" } : Jvm.MethodName)) ∈ lw_all := lw_g (lw_at lw_m2 220 rfl) rfl
theorem q540 : (Jvm.Cond.codeWith ({ cls := "ManyEyes", name := "rule", desc := "()I" } : Jvm.MethodName) prog_1_method_31_code (5 : Nat) (Option.some Jvm.ClassFile.FieldType.int) [((31 : Nat), (57 : Nat), (65 : Nat), (175 : Nat)), ((31 : Nat), (57 : Nat), (91 : Nat), (0 : Nat)), ((65 : Nat), (84 : Nat), (91 : Nat), (0 : Nat)), ((91 : Nat), (93 : Nat), (91 : Nat), (0 : Nat))]) ∈ lw_all := lw_g (lw_at lw_m2 221 rfl) rfl
theorem q541 : (Jvm.Cond.classLink "ManyEyes" (175 : Nat) "ManyEyes$Wrong") ∈ lw_all := lw_g (lw_at lw_m2 222 rfl) rfl
theorem q542 : (Jvm.Cond.classLink "ManyEyes" (160 : Nat) "ManyEyes$Tokens") ∈ lw_all := lw_g (lw_at lw_m2 223 rfl) rfl
theorem q544 : (Jvm.Cond.methodLink "ManyEyes" (162 : Nat) ({ cls := "ManyEyes$Tokens", name := "<init>", desc := "([BI)V" } : Jvm.MethodName)) ∈ lw_all := lw_g (lw_at lw_m2 225 rfl) rfl
theorem q577 : (Jvm.Cond.methodLink "ManyEyes" (165 : Nat) ({ cls := "ManyEyes$Tokens", name := "read", desc := "()Ljava/util/ArrayList;" } : Jvm.MethodName)) ∈ lw_all := lw_g (lw_at lw_m3 18 rfl) rfl
theorem q697 : (Jvm.Cond.fieldLinkNest "ManyEyes" (177 : Nat) "ManyEyes$Wrong" "fault" "I" "ManyEyes") ∈ lw_tbl := lw_at lw_m3 138 rfl
theorem q699 : (Jvm.Cond.fieldLinkNest "ManyEyes" (178 : Nat) "ManyEyes$Wrong" "place" "I" "ManyEyes") ∈ lw_tbl := lw_at lw_m3 140 rfl
theorem q725 : (Jvm.Cond.fieldLink "ManyEyes" (244 : Nat) "ManyEyes$Clause" "sort" "I") ∈ lw_all := lw_g (lw_at lw_m3 166 rfl) rfl
theorem q727 : (Jvm.Cond.fieldLink "ManyEyes" (251 : Nat) "ManyEyes$Clause" "letter" "I") ∈ lw_all := lw_g (lw_at lw_m3 168 rfl) rfl
theorem q729 : (Jvm.Cond.fieldLink "ManyEyes" (253 : Nat) "ManyEyes$Clause" "sum" "LManyEyes$Sum;") ∈ lw_all := lw_g (lw_at lw_m3 170 rfl) rfl
theorem q731 : (Jvm.Cond.fieldLink "ManyEyes" (274 : Nat) "ManyEyes$Clause" "asked" "LManyEyes$Asked;") ∈ lw_all := lw_g (lw_at lw_m3 172 rfl) rfl
theorem q950 : (Jvm.Cond.methodLink "ManyEyes" (169 : Nat) ({ cls := "java/util/ArrayList", name := "add", desc := "(Ljava/lang/Object;)Z" } : Jvm.MethodName)) ∈ lw_all := lw_g (lw_at lw_m4 151 rfl) rfl
theorem q952 : (Jvm.Cond.instanceMethod ({ cls := "ManyEyes", name := "fault", desc := "(I)I" } : Jvm.MethodName)) ∈ lw_all := lw_g (lw_at lw_m4 153 rfl) rfl
theorem q953 : (Jvm.Cond.selects "ManyEyes" ({ cls := "ManyEyes", name := "fault", desc := "(I)I" } : Jvm.MethodName) ({ cls := "ManyEyes", name := "fault", desc := "(I)I" } : Jvm.MethodName)) ∈ lw_all := lw_g (lw_at lw_m4 154 rfl) rfl
theorem q954 : (Jvm.Cond.code ({ cls := "ManyEyes", name := "fault", desc := "(I)I" } : Jvm.MethodName) prog_1_method_32_code (2 : Nat) (Option.some Jvm.ClassFile.FieldType.int)) ∈ lw_all := lw_g (lw_at lw_m4 155 rfl) rfl
theorem q956 : (Jvm.Cond.instanceMethod ({ cls := "ManyEyes", name := "fly", desc := "(IIIIII)I" } : Jvm.MethodName)) ∈ lw_all := lw_g (lw_at lw_m4 157 rfl) rfl
theorem q957 : (Jvm.Cond.selects "ManyEyes" ({ cls := "ManyEyes", name := "fly", desc := "(IIIIII)I" } : Jvm.MethodName) ({ cls := "ManyEyes", name := "fly", desc := "(IIIIII)I" } : Jvm.MethodName)) ∈ lw_all := lw_g (lw_at lw_m4 158 rfl) rfl
theorem q958 : (Jvm.Cond.code ({ cls := "ManyEyes", name := "fly", desc := "(IIIIII)I" } : Jvm.MethodName) prog_1_method_38_code (8 : Nat) (Option.some Jvm.ClassFile.FieldType.int)) ∈ lw_all := lw_g (lw_at lw_m4 159 rfl) rfl
theorem q959 : (Jvm.Cond.methodLink "ManyEyes" (285 : Nat) ({ cls := "ManyEyes", name := "isBits", desc := "(I)Z" } : Jvm.MethodName)) ∈ lw_all := lw_g (lw_at lw_m4 160 rfl) rfl
theorem q960 : (Jvm.Cond.static ({ cls := "ManyEyes", name := "isBits", desc := "(I)Z" } : Jvm.MethodName)) ∈ lw_all := lw_g (lw_at lw_m4 161 rfl) rfl
theorem q961 : (Jvm.Cond.code ({ cls := "ManyEyes", name := "isBits", desc := "(I)Z" } : Jvm.MethodName) prog_1_method_37_code (1 : Nat) (Option.some Jvm.ClassFile.FieldType.boolean)) ∈ lw_all := lw_g (lw_at lw_m4 162 rfl) rfl
theorem q962 : (Jvm.Cond.methodLink "ManyEyes" (288 : Nat) ({ cls := "ManyEyes", name := "isStart", desc := "(III)Z" } : Jvm.MethodName)) ∈ lw_all := lw_g (lw_at lw_m4 163 rfl) rfl
theorem q963 : (Jvm.Cond.privateMethod ({ cls := "ManyEyes", name := "isStart", desc := "(III)Z" } : Jvm.MethodName)) ∈ lw_tbl := lw_at lw_m4 164 rfl
theorem q964 : (Jvm.Cond.instanceMethod ({ cls := "ManyEyes", name := "isStart", desc := "(III)Z" } : Jvm.MethodName)) ∈ lw_all := lw_g (lw_at lw_m4 165 rfl) rfl
theorem q965 : (Jvm.Cond.code ({ cls := "ManyEyes", name := "isStart", desc := "(III)Z" } : Jvm.MethodName) prog_1_method_34_code (4 : Nat) (Option.some Jvm.ClassFile.FieldType.boolean)) ∈ lw_all := lw_g (lw_at lw_m4 166 rfl) rfl
theorem q966 : (Jvm.Cond.methodLink "ManyEyes" (181 : Nat) ({ cls := "ManyEyes", name := "isEmpty", desc := "(II)Z" } : Jvm.MethodName)) ∈ lw_all := lw_g (lw_at lw_m4 167 rfl) rfl
theorem q967 : (Jvm.Cond.privateMethod ({ cls := "ManyEyes", name := "isEmpty", desc := "(II)Z" } : Jvm.MethodName)) ∈ lw_tbl := lw_at lw_m4 168 rfl
theorem q968 : (Jvm.Cond.instanceMethod ({ cls := "ManyEyes", name := "isEmpty", desc := "(II)Z" } : Jvm.MethodName)) ∈ lw_all := lw_g (lw_at lw_m4 169 rfl) rfl
theorem q969 : (Jvm.Cond.code ({ cls := "ManyEyes", name := "isEmpty", desc := "(II)Z" } : Jvm.MethodName) prog_1_method_33_code (3 : Nat) (Option.some Jvm.ClassFile.FieldType.boolean)) ∈ lw_all := lw_g (lw_at lw_m4 170 rfl) rfl
theorem q970 : (Jvm.Cond.methodLink "ManyEyes" (291 : Nat) ({ cls := "ManyEyes", name := "flies", desc := "(IIIIII)V" } : Jvm.MethodName)) ∈ lw_all := lw_g (lw_at lw_m4 171 rfl) rfl
theorem q971 : (Jvm.Cond.privateMethod ({ cls := "ManyEyes", name := "flies", desc := "(IIIIII)V" } : Jvm.MethodName)) ∈ lw_tbl := lw_at lw_m4 172 rfl
theorem q972 : (Jvm.Cond.instanceMethod ({ cls := "ManyEyes", name := "flies", desc := "(IIIIII)V" } : Jvm.MethodName)) ∈ lw_all := lw_g (lw_at lw_m4 173 rfl) rfl
theorem q973 : (Jvm.Cond.code ({ cls := "ManyEyes", name := "flies", desc := "(IIIIII)V" } : Jvm.MethodName) prog_1_method_35_code (8 : Nat) (Option.none : Option Jvm.ClassFile.FieldType)) ∈ lw_all := lw_g (lw_at lw_m4 174 rfl) rfl
theorem q974 : (Jvm.Cond.constantLong "ManyEyes" (212 : Nat) (1000000 : Int64)) ∈ lw_all := lw_g (lw_at lw_m4 175 rfl) rfl
theorem q975 : (Jvm.Cond.methodLink "ManyEyes" (218 : Nat) ({ cls := "ManyEyes", name := "goes", desc := "(I)V" } : Jvm.MethodName)) ∈ lw_all := lw_g (lw_at lw_m4 176 rfl) rfl
theorem q976 : (Jvm.Cond.privateMethod ({ cls := "ManyEyes", name := "goes", desc := "(I)V" } : Jvm.MethodName)) ∈ lw_tbl := lw_at lw_m4 177 rfl
theorem q977 : (Jvm.Cond.instanceMethod ({ cls := "ManyEyes", name := "goes", desc := "(I)V" } : Jvm.MethodName)) ∈ lw_all := lw_g (lw_at lw_m4 178 rfl) rfl
theorem q978 : (Jvm.Cond.code ({ cls := "ManyEyes", name := "goes", desc := "(I)V" } : Jvm.MethodName) prog_1_method_36_code (11 : Nat) (Option.none : Option Jvm.ClassFile.FieldType)) ∈ lw_all := lw_g (lw_at lw_m4 179 rfl) rfl
theorem q979 : (Jvm.Cond.methodLink "ManyEyes" (234 : Nat) ({ cls := "java/util/ArrayList", name := "get", desc := "(I)Ljava/lang/Object;" } : Jvm.MethodName)) ∈ lw_all := lw_g (lw_at lw_m4 180 rfl) rfl
theorem q980 : (Jvm.Cond.classLink "ManyEyes" (170 : Nat) "java/util/ArrayList") ∈ lw_all := lw_g (lw_at lw_m4 181 rfl) rfl
theorem q981 : (Jvm.Cond.methodLink "ManyEyes" (238 : Nat) ({ cls := "java/util/ArrayList", name := "size", desc := "()I" } : Jvm.MethodName)) ∈ lw_all := lw_g (lw_at lw_m4 182 rfl) rfl
theorem q982 : (Jvm.Cond.classLink "ManyEyes" (242 : Nat) "ManyEyes$Clause") ∈ lw_all := lw_g (lw_at lw_m4 183 rfl) rfl
theorem q983 : (Jvm.Cond.interfaceEntry "ManyEyes" (257 : Nat)) ∈ lw_tbl := lw_at lw_m4 184 rfl
theorem q984 : (Jvm.Cond.methodLink "ManyEyes" (257 : Nat) ({ cls := "ManyEyes$Sum", name := "of", desc := "(LManyEyes$Now;)J" } : Jvm.MethodName)) ∈ lw_all := lw_g (lw_at lw_m4 185 rfl) rfl
theorem q1066 : (Jvm.Cond.constantLong "ManyEyes" (263 : Nat) (-8 : Int64)) ∈ lw_all := lw_g (lw_at lw_m5 27 rfl) rfl
theorem q1067 : (Jvm.Cond.constantLong "ManyEyes" (265 : Nat) (8 : Int64)) ∈ lw_all := lw_g (lw_at lw_m5 28 rfl) rfl
theorem q1068 : (Jvm.Cond.methodLink "ManyEyes" (267 : Nat) ({ cls := "java/lang/Math", name := "min", desc := "(JJ)J" } : Jvm.MethodName)) ∈ lw_all := lw_g (lw_at lw_m5 29 rfl) rfl
theorem q1069 : (Jvm.Cond.methodLink "ManyEyes" (270 : Nat) ({ cls := "java/lang/Math", name := "max", desc := "(JJ)J" } : Jvm.MethodName)) ∈ lw_all := lw_g (lw_at lw_m5 30 rfl) rfl
theorem q1070 : (Jvm.Cond.constantLong "ManyEyes" (272 : Nat) (16 : Int64)) ∈ lw_all := lw_g (lw_at lw_m5 31 rfl) rfl
theorem q1071 : (Jvm.Cond.interfaceEntry "ManyEyes" (277 : Nat)) ∈ lw_tbl := lw_at lw_m5 32 rfl
theorem q1072 : (Jvm.Cond.methodLink "ManyEyes" (277 : Nat) ({ cls := "ManyEyes$Asked", name := "is", desc := "(LManyEyes$Now;)Z" } : Jvm.MethodName)) ∈ lw_all := lw_g (lw_at lw_m5 33 rfl) rfl
theorem q1102 : (Jvm.Cond.methodLinkNest "ManyEyes" (296 : Nat) ({ cls := "ManyEyes$State", name := "copy", desc := "([[I[[I)V" } : Jvm.MethodName) "ManyEyes") ∈ lw_tbl := lw_at lw_m5 63 rfl
theorem q1104 : (Jvm.Cond.instanceMethod ({ cls := "ManyEyes", name := "flown", desc := "(I)I" } : Jvm.MethodName)) ∈ lw_all := lw_g (lw_at lw_m5 65 rfl) rfl
theorem q1105 : (Jvm.Cond.selects "ManyEyes" ({ cls := "ManyEyes", name := "flown", desc := "(I)I" } : Jvm.MethodName) ({ cls := "ManyEyes", name := "flown", desc := "(I)I" } : Jvm.MethodName)) ∈ lw_all := lw_g (lw_at lw_m5 66 rfl) rfl
theorem q1106 : (Jvm.Cond.code ({ cls := "ManyEyes", name := "flown", desc := "(I)I" } : Jvm.MethodName) prog_1_method_39_code (2 : Nat) (Option.some Jvm.ClassFile.FieldType.int)) ∈ lw_all := lw_g (lw_at lw_m5 67 rfl) rfl
theorem q1108 : (Jvm.Cond.instanceMethod ({ cls := "ManyEyes", name := "tick", desc := "(II)I" } : Jvm.MethodName)) ∈ lw_all := lw_g (lw_at lw_m5 69 rfl) rfl
theorem q1109 : (Jvm.Cond.selects "ManyEyes" ({ cls := "ManyEyes", name := "tick", desc := "(II)I" } : Jvm.MethodName) ({ cls := "ManyEyes", name := "tick", desc := "(II)I" } : Jvm.MethodName)) ∈ lw_all := lw_g (lw_at lw_m5 70 rfl) rfl
theorem q1110 : (Jvm.Cond.code ({ cls := "ManyEyes", name := "tick", desc := "(II)I" } : Jvm.MethodName) prog_1_method_40_code (3 : Nat) (Option.some Jvm.ClassFile.FieldType.int)) ∈ lw_all := lw_g (lw_at lw_m5 71 rfl) rfl
theorem q1111 : (Jvm.Cond.constant "ManyEyes" (302 : Nat) (-10000000 : Int32)) ∈ lw_all := lw_g (lw_at lw_m5 72 rfl) rfl
theorem q1113 : (Jvm.Cond.instanceMethod ({ cls := "ManyEyes", name := "safe", desc := "(IIIIIIII)I" } : Jvm.MethodName)) ∈ lw_all := lw_g (lw_at lw_m5 74 rfl) rfl
theorem q1114 : (Jvm.Cond.selects "ManyEyes" ({ cls := "ManyEyes", name := "safe", desc := "(IIIIIIII)I" } : Jvm.MethodName) ({ cls := "ManyEyes", name := "safe", desc := "(IIIIIIII)I" } : Jvm.MethodName)) ∈ lw_all := lw_g (lw_at lw_m5 75 rfl) rfl
theorem q1115 : (Jvm.Cond.code ({ cls := "ManyEyes", name := "safe", desc := "(IIIIIIII)I" } : Jvm.MethodName) prog_1_method_41_code (11 : Nat) (Option.some Jvm.ClassFile.FieldType.int)) ∈ lw_all := lw_g (lw_at lw_m5 76 rfl) rfl
theorem q1117 : (Jvm.Cond.instanceMethod ({ cls := "ManyEyes", name := "read", desc := "(III)I" } : Jvm.MethodName)) ∈ lw_all := lw_g (lw_at lw_m5 78 rfl) rfl
theorem q1118 : (Jvm.Cond.selects "ManyEyes" ({ cls := "ManyEyes", name := "read", desc := "(III)I" } : Jvm.MethodName) ({ cls := "ManyEyes", name := "read", desc := "(III)I" } : Jvm.MethodName)) ∈ lw_all := lw_g (lw_at lw_m5 79 rfl) rfl
theorem q1119 : (Jvm.Cond.code ({ cls := "ManyEyes", name := "read", desc := "(III)I" } : Jvm.MethodName) prog_1_method_42_code (4 : Nat) (Option.some Jvm.ClassFile.FieldType.int)) ∈ lw_all := lw_g (lw_at lw_m5 80 rfl) rfl
theorem q1121 : (Jvm.Cond.instanceMethod ({ cls := "ManyEyes", name := "turned", desc := "(II)I" } : Jvm.MethodName)) ∈ lw_all := lw_g (lw_at lw_m5 82 rfl) rfl
theorem q1122 : (Jvm.Cond.selects "ManyEyes" ({ cls := "ManyEyes", name := "turned", desc := "(II)I" } : Jvm.MethodName) ({ cls := "ManyEyes", name := "turned", desc := "(II)I" } : Jvm.MethodName)) ∈ lw_all := lw_g (lw_at lw_m5 83 rfl) rfl
theorem q1123 : (Jvm.Cond.code ({ cls := "ManyEyes", name := "turned", desc := "(II)I" } : Jvm.MethodName) prog_1_method_43_code (4 : Nat) (Option.some Jvm.ClassFile.FieldType.int)) ∈ lw_all := lw_g (lw_at lw_m5 84 rfl) rfl
theorem q1125 : (Jvm.Cond.instanceMethod ({ cls := "ManyEyes", name := "kept", desc := "(I)I" } : Jvm.MethodName)) ∈ lw_all := lw_g (lw_at lw_m5 86 rfl) rfl
theorem q1126 : (Jvm.Cond.selects "ManyEyes" ({ cls := "ManyEyes", name := "kept", desc := "(I)I" } : Jvm.MethodName) ({ cls := "ManyEyes", name := "kept", desc := "(I)I" } : Jvm.MethodName)) ∈ lw_all := lw_g (lw_at lw_m5 87 rfl) rfl
theorem q1127 : (Jvm.Cond.code ({ cls := "ManyEyes", name := "kept", desc := "(I)I" } : Jvm.MethodName) prog_1_method_46_code (2 : Nat) (Option.some Jvm.ClassFile.FieldType.int)) ∈ lw_all := lw_g (lw_at lw_m5 88 rfl) rfl
theorem q1128 : (Jvm.Cond.methodLink "ManyEyes" (308 : Nat) ({ cls := "ManyEyes", name := "keeps", desc := "()I" } : Jvm.MethodName)) ∈ lw_all := lw_g (lw_at lw_m5 89 rfl) rfl
theorem q1129 : (Jvm.Cond.privateMethod ({ cls := "ManyEyes", name := "keeps", desc := "()I" } : Jvm.MethodName)) ∈ lw_tbl := lw_at lw_m5 90 rfl
theorem q1130 : (Jvm.Cond.instanceMethod ({ cls := "ManyEyes", name := "keeps", desc := "()I" } : Jvm.MethodName)) ∈ lw_all := lw_g (lw_at lw_m5 91 rfl) rfl
theorem q1131 : (Jvm.Cond.code ({ cls := "ManyEyes", name := "keeps", desc := "()I" } : Jvm.MethodName) prog_1_method_45_code (3 : Nat) (Option.some Jvm.ClassFile.FieldType.int)) ∈ lw_all := lw_g (lw_at lw_m5 92 rfl) rfl
theorem q1132 : (Jvm.Cond.methodLink "ManyEyes" (305 : Nat) ({ cls := "ManyEyes", name := "isKept", desc := "(I)Z" } : Jvm.MethodName)) ∈ lw_all := lw_g (lw_at lw_m5 93 rfl) rfl
theorem q1133 : (Jvm.Cond.privateMethod ({ cls := "ManyEyes", name := "isKept", desc := "(I)Z" } : Jvm.MethodName)) ∈ lw_tbl := lw_at lw_m5 94 rfl
theorem q1134 : (Jvm.Cond.instanceMethod ({ cls := "ManyEyes", name := "isKept", desc := "(I)Z" } : Jvm.MethodName)) ∈ lw_all := lw_g (lw_at lw_m5 95 rfl) rfl
theorem q1135 : (Jvm.Cond.code ({ cls := "ManyEyes", name := "isKept", desc := "(I)Z" } : Jvm.MethodName) prog_1_method_44_code (5 : Nat) (Option.some Jvm.ClassFile.FieldType.boolean)) ∈ lw_all := lw_g (lw_at lw_m5 96 rfl) rfl
theorem q1136 : (Jvm.Cond.methodLink "ManyEyes" (311 : Nat) ({ cls := "java/lang/Integer", name := "bitCount", desc := "(I)I" } : Jvm.MethodName)) ∈ lw_all := lw_g (lw_at lw_m5 97 rfl) rfl
theorem q1143 : (Jvm.Cond.instanceMethod ({ cls := "ManyEyes", name := "parts", desc := "(II)I" } : Jvm.MethodName)) ∈ lw_all := lw_g (lw_at lw_m5 104 rfl) rfl
theorem q1144 : (Jvm.Cond.selects "ManyEyes" ({ cls := "ManyEyes", name := "parts", desc := "(II)I" } : Jvm.MethodName) ({ cls := "ManyEyes", name := "parts", desc := "(II)I" } : Jvm.MethodName)) ∈ lw_all := lw_g (lw_at lw_m5 105 rfl) rfl
theorem q1145 : (Jvm.Cond.code ({ cls := "ManyEyes", name := "parts", desc := "(II)I" } : Jvm.MethodName) prog_1_method_48_code (10 : Nat) (Option.some Jvm.ClassFile.FieldType.int)) ∈ lw_all := lw_g (lw_at lw_m5 106 rfl) rfl
theorem q1146 : (Jvm.Cond.methodLink "ManyEyes" (316 : Nat) ({ cls := "ManyEyes", name := "unlike", desc := "(IIII)I" } : Jvm.MethodName)) ∈ lw_all := lw_g (lw_at lw_m5 107 rfl) rfl
theorem q1147 : (Jvm.Cond.privateMethod ({ cls := "ManyEyes", name := "unlike", desc := "(IIII)I" } : Jvm.MethodName)) ∈ lw_tbl := lw_at lw_m5 108 rfl
theorem q1148 : (Jvm.Cond.instanceMethod ({ cls := "ManyEyes", name := "unlike", desc := "(IIII)I" } : Jvm.MethodName)) ∈ lw_all := lw_g (lw_at lw_m5 109 rfl) rfl
theorem q1149 : (Jvm.Cond.code ({ cls := "ManyEyes", name := "unlike", desc := "(IIII)I" } : Jvm.MethodName) prog_1_method_47_code (7 : Nat) (Option.some Jvm.ClassFile.FieldType.int)) ∈ lw_all := lw_g (lw_at lw_m5 110 rfl) rfl
theorem q1151 : (Jvm.Cond.instanceMethod ({ cls := "ManyEyes", name := "image", desc := "()I" } : Jvm.MethodName)) ∈ lw_all := lw_g (lw_at lw_m5 112 rfl) rfl
theorem q1152 : (Jvm.Cond.selects "ManyEyes" ({ cls := "ManyEyes", name := "image", desc := "()I" } : Jvm.MethodName) ({ cls := "ManyEyes", name := "image", desc := "()I" } : Jvm.MethodName)) ∈ lw_all := lw_g (lw_at lw_m5 113 rfl) rfl
theorem q1153 : (Jvm.Cond.code ({ cls := "ManyEyes", name := "image", desc := "()I" } : Jvm.MethodName) prog_1_method_49_code (1 : Nat) (Option.some Jvm.ClassFile.FieldType.int)) ∈ lw_all := lw_g (lw_at lw_m5 114 rfl) rfl
theorem q1155 : (Jvm.Cond.instanceMethod ({ cls := "ManyEyes", name := "back", desc := "()I" } : Jvm.MethodName)) ∈ lw_all := lw_g (lw_at lw_m5 116 rfl) rfl
theorem q1156 : (Jvm.Cond.selects "ManyEyes" ({ cls := "ManyEyes", name := "back", desc := "()I" } : Jvm.MethodName) ({ cls := "ManyEyes", name := "back", desc := "()I" } : Jvm.MethodName)) ∈ lw_all := lw_g (lw_at lw_m5 117 rfl) rfl
theorem q1157 : (Jvm.Cond.code ({ cls := "ManyEyes", name := "back", desc := "()I" } : Jvm.MethodName) prog_1_method_50_code (1 : Nat) (Option.some Jvm.ClassFile.FieldType.int)) ∈ lw_all := lw_g (lw_at lw_m5 118 rfl) rfl
theorem q1159 : (Jvm.Cond.instanceMethod ({ cls := "ManyEyes", name := "about", desc := "(I)I" } : Jvm.MethodName)) ∈ lw_all := lw_g (lw_at lw_m5 120 rfl) rfl
theorem q1160 : (Jvm.Cond.selects "ManyEyes" ({ cls := "ManyEyes", name := "about", desc := "(I)I" } : Jvm.MethodName) ({ cls := "ManyEyes", name := "about", desc := "(I)I" } : Jvm.MethodName)) ∈ lw_all := lw_g (lw_at lw_m5 121 rfl) rfl
theorem q1161 : (Jvm.Cond.code ({ cls := "ManyEyes", name := "about", desc := "(I)I" } : Jvm.MethodName) prog_1_method_51_code (4 : Nat) (Option.some Jvm.ClassFile.FieldType.int)) ∈ lw_all := lw_g (lw_at lw_m5 122 rfl) rfl
theorem q1631 : (Jvm.Cond.castable "ManyEyes" "java/lang/Object") ∈ lw_tbl := lw_at lw_m7 112 rfl
theorem in_X1 : ∀ w ∈ wsX10, w ∈ lw_all := lw_in wsX10 [391, 393, 395, 397, 399, 401, 403, 405, 407, 409, 411, 413] (by decide +kernel) (by decide +kernel)
