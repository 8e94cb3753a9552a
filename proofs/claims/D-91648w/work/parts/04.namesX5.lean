/-! ManyEyesModel -/
set_option maxRecDepth 100000
def RX5 : String := "ManyEyesModel"
def TX5 : u_T := fun k => match k with
  | 0 => ("ManyEyesModel", "w", "I", true)
  | 1 => ("ManyEyesModel", "h", "I", true)
  | 2 => ("ManyEyesModel", "a", "[I", true)
  | 3 => ("ManyEyesModel", "image", "[I", true)
  | 4 => ("ManyEyesModel", "texts", "[I", true)
  | 5 => ("ManyEyesModel", "board", "[I", true)
  | 6 => ("ManyEyesModel", "taken", "[I", true)
  | 7 => ("ManyEyesModel", "fars", "[I", true)
  | 8 => ("ManyEyesModel", "before", "[I", true)
  | 9 => ("ManyEyesModel", "tape", "[I", true)
  | 10 => ("ManyEyesModel", "taped", "I", false)
  | 11 => ("ManyEyesModel", "fault", "I", false)
  | 12 => ("ManyEyesModel", "faultPlace", "I", false)
  | 13 => ("ManyEyesModel", "at", "I", false)
  | 14 => ("ManyEyesModel", "place", "I", false)
  | 15 => ("ManyEyesModel", "token", "I", false)
  | 16 => ("ManyEyesModel", "number", "I", false)
  | 17 => ("ManyEyesModel", "word", "J", false)
  | 18 => ("ManyEyesModel", "text0", "I", false)
  | 19 => ("ManyEyesModel", "clauses", "I", false)
  | 20 => ("ManyEyesModel", "written", "I", false)
  | 21 => ("ManyEyesModel", "came", "I", false)
  | 22 => ("ManyEyesModel", "letters", "I", false)
  | 23 => ("ManyEyesModel", "pile", "[I", true)
  | 24 => ("ManyEyesModel", "piled", "I", false)
  | 25 => ("ManyEyesModel", "opens", "I", false)
  | 26 => ("ManyEyesModel", "isWhole", "Z", false)
  | 27 => ("ManyEyesModel", "bound", "J", false)
  | 28 => ("ManyEyesModel", "over", "I", false)
  | 29 => ("ManyEyesModel", "ticks", "I", false)
  | 30 => ("ManyEyesModel", "atX", "I", false)
  | 31 => ("ManyEyesModel", "atY", "I", false)
  | 32 => ("ManyEyesModel", "heading", "I", false)
  | 33 => ("ManyEyesModel", "hit", "Z", false)
  | 34 => ("ManyEyesModel", "rested", "Z", false)
  | 35 => ("ManyEyesModel", "rows", "[I", true)
  | 36 => ("ManyEyesModel", "told", "[I", true)
  | 37 => ("ManyEyesModel", "values", "[J", true)
  | 38 => ("ManyEyesModel", "truth", "[Z", true)
  | 39 => ("ManyEyesModel", "now", "I", false)
  | 40 => ("ManyEyesModel", "turn", "I", false)
  | 41 => ("ManyEyesModel", "go", "I", false)
  | _ => ("ManyEyesModel", "keeps", "[Z", true)
def tyX5 : Nat → FieldType := fun k => match k with
  | 0 => .int
  | 1 => .int
  | 2 => .array .int
  | 3 => .array .int
  | 4 => .array .int
  | 5 => .array .int
  | 6 => .array .int
  | 7 => .array .int
  | 8 => .array .int
  | 9 => .array .int
  | 10 => .int
  | 11 => .int
  | 12 => .int
  | 13 => .int
  | 14 => .int
  | 15 => .int
  | 16 => .int
  | 17 => .long
  | 18 => .int
  | 19 => .int
  | 20 => .int
  | 21 => .int
  | 22 => .int
  | 23 => .array .int
  | 24 => .int
  | 25 => .int
  | 26 => .boolean
  | 27 => .long
  | 28 => .int
  | 29 => .int
  | 30 => .int
  | 31 => .int
  | 32 => .int
  | 33 => .boolean
  | 34 => .boolean
  | 35 => .array .int
  | 36 => .array .int
  | 37 => .array .long
  | 38 => .array .boolean
  | 39 => .int
  | 40 => .int
  | 41 => .int
  | _ => .array .boolean
abbrev wsX50 : List Cond := u_ws RX5 TX5 43
set_option maxRecDepth 100000 in
theorem nmX5 : ∀ a, a < 43 → ∀ b, b < 43 → a ≠ b → (TX5 a).2.1 ≠ (TX5 b).2.1 := by decide +kernel
set_option maxRecDepth 100000 in
theorem tyX5_ok : ∀ k, k < 43 → parseFieldDescriptor (TX5 k).2.2.1 = some (tyX5 k) := by decide +kernel
abbrev cX5_init : ByteArray := prog_22_method_1_code
def yX5_init : MethodName := ⟨RX5, "<init>", "(II)V"⟩
theorem dX5_init_0 : decode cX5_init 0 = .ok (.aload_n 0, 1) := by decide +kernel
theorem dX5_init_1 : decode cX5_init 1 = .ok (.invokespecial 1, 3) := by decide +kernel
theorem dX5_init_4 : decode cX5_init 4 = .ok (.aload_n 0, 1) := by decide +kernel
theorem dX5_init_5 : decode cX5_init 5 = .ok (.sipush 3170, 3) := by decide +kernel
theorem dX5_init_8 : decode cX5_init 8 = .ok (.newarray .int, 2) := by decide +kernel
theorem dX5_init_10 : decode cX5_init 10 = .ok (.putfield 7, 3) := by decide +kernel
theorem dX5_init_13 : decode cX5_init 13 = .ok (.aload_n 0, 1) := by decide +kernel
theorem dX5_init_14 : decode cX5_init 14 = .ok (.sipush 3170, 3) := by decide +kernel
theorem dX5_init_17 : decode cX5_init 17 = .ok (.newarray .int, 2) := by decide +kernel
theorem dX5_init_19 : decode cX5_init 19 = .ok (.putfield 13, 3) := by decide +kernel
theorem dX5_init_22 : decode cX5_init 22 = .ok (.aload_n 0, 1) := by decide +kernel
theorem dX5_init_23 : decode cX5_init 23 = .ok (.sipush 6400, 3) := by decide +kernel
theorem dX5_init_26 : decode cX5_init 26 = .ok (.newarray .int, 2) := by decide +kernel
theorem dX5_init_28 : decode cX5_init 28 = .ok (.putfield 16, 3) := by decide +kernel
theorem dX5_init_31 : decode cX5_init 31 = .ok (.aload_n 0, 1) := by decide +kernel
theorem dX5_init_32 : decode cX5_init 32 = .ok (.sipush 576, 3) := by decide +kernel
theorem dX5_init_35 : decode cX5_init 35 = .ok (.newarray .int, 2) := by decide +kernel
theorem dX5_init_37 : decode cX5_init 37 = .ok (.putfield 19, 3) := by decide +kernel
theorem dX5_init_40 : decode cX5_init 40 = .ok (.aload_n 0, 1) := by decide +kernel
theorem dX5_init_41 : decode cX5_init 41 = .ok (.bipush 64, 2) := by decide +kernel
theorem dX5_init_43 : decode cX5_init 43 = .ok (.newarray .int, 2) := by decide +kernel
theorem dX5_init_45 : decode cX5_init 45 = .ok (.putfield 22, 3) := by decide +kernel
theorem dX5_init_48 : decode cX5_init 48 = .ok (.aload_n 0, 1) := by decide +kernel
theorem dX5_init_49 : decode cX5_init 49 = .ok (.bipush 64, 2) := by decide +kernel
theorem dX5_init_51 : decode cX5_init 51 = .ok (.newarray .int, 2) := by decide +kernel
theorem dX5_init_53 : decode cX5_init 53 = .ok (.putfield 25, 3) := by decide +kernel
theorem dX5_init_56 : decode cX5_init 56 = .ok (.aload_n 0, 1) := by decide +kernel
theorem dX5_init_57 : decode cX5_init 57 = .ok (.bipush 16, 2) := by decide +kernel
theorem dX5_init_59 : decode cX5_init 59 = .ok (.newarray .int, 2) := by decide +kernel
theorem dX5_init_61 : decode cX5_init 61 = .ok (.putfield 28, 3) := by decide +kernel
theorem dX5_init_64 : decode cX5_init 64 = .ok (.aload_n 0, 1) := by decide +kernel
theorem dX5_init_65 : decode cX5_init 65 = .ok (.sipush 300, 3) := by decide +kernel
theorem dX5_init_68 : decode cX5_init 68 = .ok (.newarray .int, 2) := by decide +kernel
theorem dX5_init_70 : decode cX5_init 70 = .ok (.putfield 31, 3) := by decide +kernel
theorem dX5_init_73 : decode cX5_init 73 = .ok (.aload_n 0, 1) := by decide +kernel
theorem dX5_init_74 : decode cX5_init 74 = .ok (.iconst (-1), 1) := by decide +kernel
theorem dX5_init_75 : decode cX5_init 75 = .ok (.putfield 34, 3) := by decide +kernel
theorem dX5_init_78 : decode cX5_init 78 = .ok (.aload_n 0, 1) := by decide +kernel
theorem dX5_init_79 : decode cX5_init 79 = .ok (.iconst (-1), 1) := by decide +kernel
theorem dX5_init_80 : decode cX5_init 80 = .ok (.putfield 38, 3) := by decide +kernel
theorem dX5_init_83 : decode cX5_init 83 = .ok (.aload_n 0, 1) := by decide +kernel
theorem dX5_init_84 : decode cX5_init 84 = .ok (.sipush 160, 3) := by decide +kernel
theorem dX5_init_87 : decode cX5_init 87 = .ok (.newarray .int, 2) := by decide +kernel
theorem dX5_init_89 : decode cX5_init 89 = .ok (.putfield 41, 3) := by decide +kernel
theorem dX5_init_92 : decode cX5_init 92 = .ok (.aload_n 0, 1) := by decide +kernel
theorem dX5_init_93 : decode cX5_init 93 = .ok (.sipush 2280, 3) := by decide +kernel
theorem dX5_init_96 : decode cX5_init 96 = .ok (.newarray .int, 2) := by decide +kernel
theorem dX5_init_98 : decode cX5_init 98 = .ok (.putfield 44, 3) := by decide +kernel
theorem dX5_init_101 : decode cX5_init 101 = .ok (.aload_n 0, 1) := by decide +kernel
theorem dX5_init_102 : decode cX5_init 102 = .ok (.bipush 8, 2) := by decide +kernel
theorem dX5_init_104 : decode cX5_init 104 = .ok (.newarray .int, 2) := by decide +kernel
theorem dX5_init_106 : decode cX5_init 106 = .ok (.putfield 47, 3) := by decide +kernel
theorem dX5_init_109 : decode cX5_init 109 = .ok (.aload_n 0, 1) := by decide +kernel
theorem dX5_init_110 : decode cX5_init 110 = .ok (.sipush 330, 3) := by decide +kernel
theorem dX5_init_113 : decode cX5_init 113 = .ok (.newarray .long, 2) := by decide +kernel
theorem dX5_init_115 : decode cX5_init 115 = .ok (.putfield 50, 3) := by decide +kernel
theorem dX5_init_118 : decode cX5_init 118 = .ok (.aload_n 0, 1) := by decide +kernel
theorem dX5_init_119 : decode cX5_init 119 = .ok (.sipush 330, 3) := by decide +kernel
theorem dX5_init_122 : decode cX5_init 122 = .ok (.newarray .boolean, 2) := by decide +kernel
theorem dX5_init_124 : decode cX5_init 124 = .ok (.putfield 54, 3) := by decide +kernel
theorem dX5_init_127 : decode cX5_init 127 = .ok (.aload_n 0, 1) := by decide +kernel
theorem dX5_init_128 : decode cX5_init 128 = .ok (.bipush 8, 2) := by decide +kernel
theorem dX5_init_130 : decode cX5_init 130 = .ok (.newarray .boolean, 2) := by decide +kernel
theorem dX5_init_132 : decode cX5_init 132 = .ok (.putfield 58, 3) := by decide +kernel
theorem dX5_init_135 : decode cX5_init 135 = .ok (.aload_n 0, 1) := by decide +kernel
theorem dX5_init_136 : decode cX5_init 136 = .ok (.iload_n 1, 1) := by decide +kernel
theorem dX5_init_137 : decode cX5_init 137 = .ok (.iconst 4, 1) := by decide +kernel
theorem dX5_init_138 : decode cX5_init 138 = .ok (.if_icmp .ge 7, 3) := by decide +kernel
theorem dX5_init_141 : decode cX5_init 141 = .ok (.iconst 4, 1) := by decide +kernel
theorem dX5_init_142 : decode cX5_init 142 = .ok (.goto 15, 3) := by decide +kernel
theorem dX5_init_145 : decode cX5_init 145 = .ok (.iload_n 1, 1) := by decide +kernel
theorem dX5_init_146 : decode cX5_init 146 = .ok (.bipush 24, 2) := by decide +kernel
theorem dX5_init_148 : decode cX5_init 148 = .ok (.if_icmp .le 8, 3) := by decide +kernel
theorem dX5_init_151 : decode cX5_init 151 = .ok (.bipush 24, 2) := by decide +kernel
theorem dX5_init_153 : decode cX5_init 153 = .ok (.goto 4, 3) := by decide +kernel
theorem dX5_init_156 : decode cX5_init 156 = .ok (.iload_n 1, 1) := by decide +kernel
theorem dX5_init_157 : decode cX5_init 157 = .ok (.putfield 61, 3) := by decide +kernel
theorem dX5_init_160 : decode cX5_init 160 = .ok (.aload_n 0, 1) := by decide +kernel
theorem dX5_init_161 : decode cX5_init 161 = .ok (.iload_n 2, 1) := by decide +kernel
theorem dX5_init_162 : decode cX5_init 162 = .ok (.iconst 4, 1) := by decide +kernel
theorem dX5_init_163 : decode cX5_init 163 = .ok (.if_icmp .ge 7, 3) := by decide +kernel
theorem dX5_init_166 : decode cX5_init 166 = .ok (.iconst 4, 1) := by decide +kernel
theorem dX5_init_167 : decode cX5_init 167 = .ok (.goto 15, 3) := by decide +kernel
theorem dX5_init_170 : decode cX5_init 170 = .ok (.iload_n 2, 1) := by decide +kernel
theorem dX5_init_171 : decode cX5_init 171 = .ok (.bipush 24, 2) := by decide +kernel
theorem dX5_init_173 : decode cX5_init 173 = .ok (.if_icmp .le 8, 3) := by decide +kernel
theorem dX5_init_176 : decode cX5_init 176 = .ok (.bipush 24, 2) := by decide +kernel
theorem dX5_init_178 : decode cX5_init 178 = .ok (.goto 4, 3) := by decide +kernel
theorem dX5_init_181 : decode cX5_init 181 = .ok (.iload_n 2, 1) := by decide +kernel
theorem dX5_init_182 : decode cX5_init 182 = .ok (.putfield 64, 3) := by decide +kernel
theorem dX5_init_185 : decode cX5_init 185 = .ok (.aload_n 0, 1) := by decide +kernel
theorem dX5_init_186 : decode cX5_init 186 = .ok (.getfield 7, 3) := by decide +kernel
theorem dX5_init_189 : decode cX5_init 189 = .ok (.sipush 880, 3) := by decide +kernel
theorem dX5_init_192 : decode cX5_init 192 = .ok (.iconst (-1), 1) := by decide +kernel
theorem dX5_init_193 : decode cX5_init 193 = .ok (.iastore, 1) := by decide +kernel
theorem dX5_init_194 : decode cX5_init 194 = .ok (.aload_n 0, 1) := by decide +kernel
theorem dX5_init_195 : decode cX5_init 195 = .ok (.getfield 7, 3) := by decide +kernel
theorem dX5_init_198 : decode cX5_init 198 = .ok (.aload_n 0, 1) := by decide +kernel
theorem dX5_init_199 : decode cX5_init 199 = .ok (.getfield 13, 3) := by decide +kernel
theorem dX5_init_202 : decode cX5_init 202 = .ok (.invokestatic 67, 3) := by decide +kernel
theorem dX5_init_205 : decode cX5_init 205 = .ok (.return_, 1) := by decide +kernel
abbrev cX5_copy : ByteArray := prog_22_method_2_code
def yX5_copy : MethodName := ⟨RX5, "copy", "([I[I)V"⟩
theorem dX5_copy_0 : decode cX5_copy 0 = .ok (.iconst 0, 1) := by decide +kernel
theorem dX5_copy_1 : decode cX5_copy 1 = .ok (.istore_n 2, 1) := by decide +kernel
theorem dX5_copy_2 : decode cX5_copy 2 = .ok (.iload_n 2, 1) := by decide +kernel
theorem dX5_copy_3 : decode cX5_copy 3 = .ok (.sipush 3170, 3) := by decide +kernel
theorem dX5_copy_6 : decode cX5_copy 6 = .ok (.if_icmp .ge 15, 3) := by decide +kernel
theorem dX5_copy_9 : decode cX5_copy 9 = .ok (.aload_n 1, 1) := by decide +kernel
theorem dX5_copy_10 : decode cX5_copy 10 = .ok (.iload_n 2, 1) := by decide +kernel
theorem dX5_copy_11 : decode cX5_copy 11 = .ok (.aload_n 0, 1) := by decide +kernel
theorem dX5_copy_12 : decode cX5_copy 12 = .ok (.iload_n 2, 1) := by decide +kernel
theorem dX5_copy_13 : decode cX5_copy 13 = .ok (.iaload, 1) := by decide +kernel
theorem dX5_copy_14 : decode cX5_copy 14 = .ok (.iastore, 1) := by decide +kernel
theorem dX5_copy_15 : decode cX5_copy 15 = .ok (.iinc 2 1, 3) := by decide +kernel
theorem dX5_copy_18 : decode cX5_copy 18 = .ok (.goto (-16), 3) := by decide +kernel
theorem dX5_copy_21 : decode cX5_copy 21 = .ok (.return_, 1) := by decide +kernel
abbrev cX5_mark : ByteArray := prog_22_method_10_code
def yX5_mark : MethodName := ⟨RX5, "mark", "(II)Z"⟩
theorem dX5_mark_0 : decode cX5_mark 0 = .ok (.aload_n 0, 1) := by decide +kernel
theorem dX5_mark_1 : decode cX5_mark 1 = .ok (.iload_n 1, 1) := by decide +kernel
theorem dX5_mark_2 : decode cX5_mark 2 = .ok (.invokevirtual 75, 3) := by decide +kernel
theorem dX5_mark_5 : decode cX5_mark 5 = .ok (.ifCond .eq 14, 3) := by decide +kernel
theorem dX5_mark_8 : decode cX5_mark 8 = .ok (.iload_n 2, 1) := by decide +kernel
theorem dX5_mark_9 : decode cX5_mark 9 = .ok (.iconst 0, 1) := by decide +kernel
theorem dX5_mark_10 : decode cX5_mark 10 = .ok (.sipush 255, 3) := by decide +kernel
theorem dX5_mark_13 : decode cX5_mark 13 = .ok (.invokestatic 71, 3) := by decide +kernel
theorem dX5_mark_16 : decode cX5_mark 16 = .ok (.ifCond .ne 5, 3) := by decide +kernel
theorem dX5_mark_19 : decode cX5_mark 19 = .ok (.iconst 0, 1) := by decide +kernel
theorem dX5_mark_20 : decode cX5_mark 20 = .ok (.ireturn, 1) := by decide +kernel
theorem dX5_mark_21 : decode cX5_mark 21 = .ok (.aload_n 0, 1) := by decide +kernel
theorem dX5_mark_22 : decode cX5_mark 22 = .ok (.getfield 7, 3) := by decide +kernel
theorem dX5_mark_25 : decode cX5_mark 25 = .ok (.bipush 10, 2) := by decide +kernel
theorem dX5_mark_27 : decode cX5_mark 27 = .ok (.iload_n 1, 1) := by decide +kernel
theorem dX5_mark_28 : decode cX5_mark 28 = .ok (.iadd, 1) := by decide +kernel
theorem dX5_mark_29 : decode cX5_mark 29 = .ok (.iload_n 2, 1) := by decide +kernel
theorem dX5_mark_30 : decode cX5_mark 30 = .ok (.iastore, 1) := by decide +kernel
theorem dX5_mark_31 : decode cX5_mark 31 = .ok (.iconst 1, 1) := by decide +kernel
theorem dX5_mark_32 : decode cX5_mark 32 = .ok (.ireturn, 1) := by decide +kernel
abbrev cX5_isCell : ByteArray := prog_22_method_4_code
def yX5_isCell : MethodName := ⟨RX5, "isCell", "(I)Z"⟩
theorem dX5_isCell_0 : decode cX5_isCell 0 = .ok (.iload_n 1, 1) := by decide +kernel
theorem dX5_isCell_1 : decode cX5_isCell 1 = .ok (.iconst 0, 1) := by decide +kernel
theorem dX5_isCell_2 : decode cX5_isCell 2 = .ok (.aload_n 0, 1) := by decide +kernel
theorem dX5_isCell_3 : decode cX5_isCell 3 = .ok (.getfield 61, 3) := by decide +kernel
theorem dX5_isCell_6 : decode cX5_isCell 6 = .ok (.aload_n 0, 1) := by decide +kernel
theorem dX5_isCell_7 : decode cX5_isCell 7 = .ok (.getfield 64, 3) := by decide +kernel
theorem dX5_isCell_10 : decode cX5_isCell 10 = .ok (.imul, 1) := by decide +kernel
theorem dX5_isCell_11 : decode cX5_isCell 11 = .ok (.iconst 1, 1) := by decide +kernel
theorem dX5_isCell_12 : decode cX5_isCell 12 = .ok (.isub, 1) := by decide +kernel
theorem dX5_isCell_13 : decode cX5_isCell 13 = .ok (.invokestatic 71, 3) := by decide +kernel
theorem dX5_isCell_16 : decode cX5_isCell 16 = .ok (.ireturn, 1) := by decide +kernel
abbrev cX5_isIn : ByteArray := prog_22_method_3_code
def yX5_isIn : MethodName := ⟨RX5, "isIn", "(III)Z"⟩
theorem dX5_isIn_0 : decode cX5_isIn 0 = .ok (.iload_n 0, 1) := by decide +kernel
theorem dX5_isIn_1 : decode cX5_isIn 1 = .ok (.iload_n 1, 1) := by decide +kernel
theorem dX5_isIn_2 : decode cX5_isIn 2 = .ok (.if_icmp .lt 12, 3) := by decide +kernel
theorem dX5_isIn_5 : decode cX5_isIn 5 = .ok (.iload_n 0, 1) := by decide +kernel
theorem dX5_isIn_6 : decode cX5_isIn 6 = .ok (.iload_n 2, 1) := by decide +kernel
theorem dX5_isIn_7 : decode cX5_isIn 7 = .ok (.if_icmp .gt 7, 3) := by decide +kernel
theorem dX5_isIn_10 : decode cX5_isIn 10 = .ok (.iconst 1, 1) := by decide +kernel
theorem dX5_isIn_11 : decode cX5_isIn 11 = .ok (.goto 4, 3) := by decide +kernel
theorem dX5_isIn_14 : decode cX5_isIn 14 = .ok (.iconst 0, 1) := by decide +kernel
theorem dX5_isIn_15 : decode cX5_isIn 15 = .ok (.ireturn, 1) := by decide +kernel
abbrev cX5_body : ByteArray := prog_22_method_11_code
def yX5_body : MethodName := ⟨RX5, "body", "(IIII)I"⟩
theorem dX5_body_0 : decode cX5_body 0 = .ok (.aload_n 0, 1) := by decide +kernel
theorem dX5_body_1 : decode cX5_body 1 = .ok (.iload_n 1, 1) := by decide +kernel
theorem dX5_body_2 : decode cX5_body 2 = .ok (.invokevirtual 75, 3) := by decide +kernel
theorem dX5_body_5 : decode cX5_body 5 = .ok (.ifCond .eq 46, 3) := by decide +kernel
theorem dX5_body_8 : decode cX5_body 8 = .ok (.iload_n 2, 1) := by decide +kernel
theorem dX5_body_9 : decode cX5_body 9 = .ok (.bipush (-2), 2) := by decide +kernel
theorem dX5_body_11 : decode cX5_body 11 = .ok (.iconst 2, 1) := by decide +kernel
theorem dX5_body_12 : decode cX5_body 12 = .ok (.invokestatic 71, 3) := by decide +kernel
theorem dX5_body_15 : decode cX5_body 15 = .ok (.ifCond .eq 36, 3) := by decide +kernel
theorem dX5_body_18 : decode cX5_body 18 = .ok (.iload_n 3, 1) := by decide +kernel
theorem dX5_body_19 : decode cX5_body 19 = .ok (.bipush (-2), 2) := by decide +kernel
theorem dX5_body_21 : decode cX5_body 21 = .ok (.iconst 2, 1) := by decide +kernel
theorem dX5_body_22 : decode cX5_body 22 = .ok (.invokestatic 71, 3) := by decide +kernel
theorem dX5_body_25 : decode cX5_body 25 = .ok (.ifCond .eq 26, 3) := by decide +kernel
theorem dX5_body_28 : decode cX5_body 28 = .ok (.iload 4, 2) := by decide +kernel
theorem dX5_body_30 : decode cX5_body 30 = .ok (.iconst 1, 1) := by decide +kernel
theorem dX5_body_31 : decode cX5_body 31 = .ok (.sipush 255, 3) := by decide +kernel
theorem dX5_body_34 : decode cX5_body 34 = .ok (.invokestatic 71, 3) := by decide +kernel
theorem dX5_body_37 : decode cX5_body 37 = .ok (.ifCond .eq 14, 3) := by decide +kernel
theorem dX5_body_40 : decode cX5_body 40 = .ok (.aload_n 0, 1) := by decide +kernel
theorem dX5_body_41 : decode cX5_body 41 = .ok (.getfield 7, 3) := by decide +kernel
theorem dX5_body_44 : decode cX5_body 44 = .ok (.iconst 0, 1) := by decide +kernel
theorem dX5_body_45 : decode cX5_body 45 = .ok (.iaload, 1) := by decide +kernel
theorem dX5_body_46 : decode cX5_body 46 = .ok (.bipush 6, 2) := by decide +kernel
theorem dX5_body_48 : decode cX5_body 48 = .ok (.if_icmp .ne 5, 3) := by decide +kernel
theorem dX5_body_51 : decode cX5_body 51 = .ok (.iconst (-1), 1) := by decide +kernel
theorem dX5_body_52 : decode cX5_body 52 = .ok (.ireturn, 1) := by decide +kernel
theorem dX5_body_53 : decode cX5_body 53 = .ok (.sipush 590, 3) := by decide +kernel
theorem dX5_body_56 : decode cX5_body 56 = .ok (.iconst 4, 1) := by decide +kernel
theorem dX5_body_57 : decode cX5_body 57 = .ok (.aload_n 0, 1) := by decide +kernel
theorem dX5_body_58 : decode cX5_body 58 = .ok (.getfield 7, 3) := by decide +kernel
theorem dX5_body_61 : decode cX5_body 61 = .ok (.iconst 0, 1) := by decide +kernel
theorem dX5_body_62 : decode cX5_body 62 = .ok (.iaload, 1) := by decide +kernel
theorem dX5_body_63 : decode cX5_body 63 = .ok (.imul, 1) := by decide +kernel
theorem dX5_body_64 : decode cX5_body 64 = .ok (.iadd, 1) := by decide +kernel
theorem dX5_body_65 : decode cX5_body 65 = .ok (.istore 5, 2) := by decide +kernel
theorem dX5_body_67 : decode cX5_body 67 = .ok (.aload_n 0, 1) := by decide +kernel
theorem dX5_body_68 : decode cX5_body 68 = .ok (.getfield 7, 3) := by decide +kernel
theorem dX5_body_71 : decode cX5_body 71 = .ok (.iload 5, 2) := by decide +kernel
theorem dX5_body_73 : decode cX5_body 73 = .ok (.iload_n 1, 1) := by decide +kernel
theorem dX5_body_74 : decode cX5_body 74 = .ok (.iastore, 1) := by decide +kernel
theorem dX5_body_75 : decode cX5_body 75 = .ok (.aload_n 0, 1) := by decide +kernel
theorem dX5_body_76 : decode cX5_body 76 = .ok (.getfield 7, 3) := by decide +kernel
theorem dX5_body_79 : decode cX5_body 79 = .ok (.iload 5, 2) := by decide +kernel
theorem dX5_body_81 : decode cX5_body 81 = .ok (.iconst 1, 1) := by decide +kernel
theorem dX5_body_82 : decode cX5_body 82 = .ok (.iadd, 1) := by decide +kernel
theorem dX5_body_83 : decode cX5_body 83 = .ok (.iload_n 2, 1) := by decide +kernel
theorem dX5_body_84 : decode cX5_body 84 = .ok (.iastore, 1) := by decide +kernel
theorem dX5_body_85 : decode cX5_body 85 = .ok (.aload_n 0, 1) := by decide +kernel
theorem dX5_body_86 : decode cX5_body 86 = .ok (.getfield 7, 3) := by decide +kernel
theorem dX5_body_89 : decode cX5_body 89 = .ok (.iload 5, 2) := by decide +kernel
theorem dX5_body_91 : decode cX5_body 91 = .ok (.iconst 2, 1) := by decide +kernel
theorem dX5_body_92 : decode cX5_body 92 = .ok (.iadd, 1) := by decide +kernel
theorem dX5_body_93 : decode cX5_body 93 = .ok (.iload_n 3, 1) := by decide +kernel
theorem dX5_body_94 : decode cX5_body 94 = .ok (.iastore, 1) := by decide +kernel
theorem dX5_body_95 : decode cX5_body 95 = .ok (.aload_n 0, 1) := by decide +kernel
theorem dX5_body_96 : decode cX5_body 96 = .ok (.getfield 7, 3) := by decide +kernel
theorem dX5_body_99 : decode cX5_body 99 = .ok (.iload 5, 2) := by decide +kernel
theorem dX5_body_101 : decode cX5_body 101 = .ok (.iconst 3, 1) := by decide +kernel
theorem dX5_body_102 : decode cX5_body 102 = .ok (.iadd, 1) := by decide +kernel
theorem dX5_body_103 : decode cX5_body 103 = .ok (.iload 4, 2) := by decide +kernel
theorem dX5_body_105 : decode cX5_body 105 = .ok (.iastore, 1) := by decide +kernel
theorem dX5_body_106 : decode cX5_body 106 = .ok (.aload_n 0, 1) := by decide +kernel
theorem dX5_body_107 : decode cX5_body 107 = .ok (.getfield 7, 3) := by decide +kernel
theorem dX5_body_110 : decode cX5_body 110 = .ok (.iconst 0, 1) := by decide +kernel
theorem dX5_body_111 : decode cX5_body 111 = .ok (.dup2, 1) := by decide +kernel
theorem dX5_body_112 : decode cX5_body 112 = .ok (.iaload, 1) := by decide +kernel
theorem dX5_body_113 : decode cX5_body 113 = .ok (.iconst 1, 1) := by decide +kernel
theorem dX5_body_114 : decode cX5_body 114 = .ok (.iadd, 1) := by decide +kernel
theorem dX5_body_115 : decode cX5_body 115 = .ok (.iastore, 1) := by decide +kernel
theorem dX5_body_116 : decode cX5_body 116 = .ok (.aload_n 0, 1) := by decide +kernel
theorem dX5_body_117 : decode cX5_body 117 = .ok (.getfield 7, 3) := by decide +kernel
theorem dX5_body_120 : decode cX5_body 120 = .ok (.iconst 0, 1) := by decide +kernel
theorem dX5_body_121 : decode cX5_body 121 = .ok (.iaload, 1) := by decide +kernel
theorem dX5_body_122 : decode cX5_body 122 = .ok (.iconst 1, 1) := by decide +kernel
theorem dX5_body_123 : decode cX5_body 123 = .ok (.isub, 1) := by decide +kernel
theorem dX5_body_124 : decode cX5_body 124 = .ok (.ireturn, 1) := by decide +kernel
abbrev cX5_markOf : ByteArray := prog_22_method_14_code
def yX5_markOf : MethodName := ⟨RX5, "markOf", "(II)I"⟩
theorem dX5_markOf_0 : decode cX5_markOf 0 = .ok (.aload_n 0, 1) := by decide +kernel
theorem dX5_markOf_1 : decode cX5_markOf 1 = .ok (.iload_n 1, 1) := by decide +kernel
theorem dX5_markOf_2 : decode cX5_markOf 2 = .ok (.invokevirtual 75, 3) := by decide +kernel
theorem dX5_markOf_5 : decode cX5_markOf 5 = .ok (.ifCond .eq 19, 3) := by decide +kernel
theorem dX5_markOf_8 : decode cX5_markOf 8 = .ok (.iload_n 2, 1) := by decide +kernel
theorem dX5_markOf_9 : decode cX5_markOf 9 = .ok (.invokestatic 83, 3) := by decide +kernel
theorem dX5_markOf_12 : decode cX5_markOf 12 = .ok (.ifCond .eq 12, 3) := by decide +kernel
theorem dX5_markOf_15 : decode cX5_markOf 15 = .ok (.aload_n 0, 1) := by decide +kernel
theorem dX5_markOf_16 : decode cX5_markOf 16 = .ok (.iload_n 1, 1) := by decide +kernel
theorem dX5_markOf_17 : decode cX5_markOf 17 = .ok (.iload_n 2, 1) := by decide +kernel
theorem dX5_markOf_18 : decode cX5_markOf 18 = .ok (.invokevirtual 86, 3) := by decide +kernel
theorem dX5_markOf_21 : decode cX5_markOf 21 = .ok (.goto 4, 3) := by decide +kernel
theorem dX5_markOf_24 : decode cX5_markOf 24 = .ok (.iconst (-1), 1) := by decide +kernel
theorem dX5_markOf_25 : decode cX5_markOf 25 = .ok (.ireturn, 1) := by decide +kernel
abbrev cX5_isTick : ByteArray := prog_22_method_6_code
def yX5_isTick : MethodName := ⟨RX5, "isTick", "(I)Z"⟩
theorem dX5_isTick_0 : decode cX5_isTick 0 = .ok (.iload_n 0, 1) := by decide +kernel
theorem dX5_isTick_1 : decode cX5_isTick 1 = .ok (.iconst 0, 1) := by decide +kernel
theorem dX5_isTick_2 : decode cX5_isTick 2 = .ok (.sipush 999, 3) := by decide +kernel
theorem dX5_isTick_5 : decode cX5_isTick 5 = .ok (.invokestatic 71, 3) := by decide +kernel
theorem dX5_isTick_8 : decode cX5_isTick 8 = .ok (.ireturn, 1) := by decide +kernel
abbrev cX5_markAt : ByteArray := prog_22_method_13_code
def yX5_markAt : MethodName := ⟨RX5, "markAt", "(II)I"⟩
theorem dX5_markAt_0 : decode cX5_markAt 0 = .ok (.iconst 0, 1) := by decide +kernel
theorem dX5_markAt_1 : decode cX5_markAt 1 = .ok (.istore_n 3, 1) := by decide +kernel
theorem dX5_markAt_2 : decode cX5_markAt 2 = .ok (.iload_n 3, 1) := by decide +kernel
theorem dX5_markAt_3 : decode cX5_markAt 3 = .ok (.aload_n 0, 1) := by decide +kernel
theorem dX5_markAt_4 : decode cX5_markAt 4 = .ok (.getfield 7, 3) := by decide +kernel
theorem dX5_markAt_7 : decode cX5_markAt 7 = .ok (.iconst 0, 1) := by decide +kernel
theorem dX5_markAt_8 : decode cX5_markAt 8 = .ok (.iaload, 1) := by decide +kernel
theorem dX5_markAt_9 : decode cX5_markAt 9 = .ok (.if_icmp .ge 34, 3) := by decide +kernel
theorem dX5_markAt_12 : decode cX5_markAt 12 = .ok (.aload_n 0, 1) := by decide +kernel
theorem dX5_markAt_13 : decode cX5_markAt 13 = .ok (.iload_n 3, 1) := by decide +kernel
theorem dX5_markAt_14 : decode cX5_markAt 14 = .ok (.iload_n 2, 1) := by decide +kernel
theorem dX5_markAt_15 : decode cX5_markAt 15 = .ok (.invokevirtual 79, 3) := by decide +kernel
theorem dX5_markAt_18 : decode cX5_markAt 18 = .ok (.iload_n 1, 1) := by decide +kernel
theorem dX5_markAt_19 : decode cX5_markAt 19 = .ok (.if_icmp .ne 18, 3) := by decide +kernel
theorem dX5_markAt_22 : decode cX5_markAt 22 = .ok (.aload_n 0, 1) := by decide +kernel
theorem dX5_markAt_23 : decode cX5_markAt 23 = .ok (.getfield 7, 3) := by decide +kernel
theorem dX5_markAt_26 : decode cX5_markAt 26 = .ok (.sipush 590, 3) := by decide +kernel
theorem dX5_markAt_29 : decode cX5_markAt 29 = .ok (.iconst 4, 1) := by decide +kernel
theorem dX5_markAt_30 : decode cX5_markAt 30 = .ok (.iload_n 3, 1) := by decide +kernel
theorem dX5_markAt_31 : decode cX5_markAt 31 = .ok (.imul, 1) := by decide +kernel
theorem dX5_markAt_32 : decode cX5_markAt 32 = .ok (.iadd, 1) := by decide +kernel
theorem dX5_markAt_33 : decode cX5_markAt 33 = .ok (.iconst 3, 1) := by decide +kernel
theorem dX5_markAt_34 : decode cX5_markAt 34 = .ok (.iadd, 1) := by decide +kernel
theorem dX5_markAt_35 : decode cX5_markAt 35 = .ok (.iaload, 1) := by decide +kernel
theorem dX5_markAt_36 : decode cX5_markAt 36 = .ok (.ireturn, 1) := by decide +kernel
theorem dX5_markAt_37 : decode cX5_markAt 37 = .ok (.iinc 3 1, 3) := by decide +kernel
theorem dX5_markAt_40 : decode cX5_markAt 40 = .ok (.goto (-38), 3) := by decide +kernel
theorem dX5_markAt_43 : decode cX5_markAt 43 = .ok (.aload_n 0, 1) := by decide +kernel
theorem dX5_markAt_44 : decode cX5_markAt 44 = .ok (.getfield 7, 3) := by decide +kernel
theorem dX5_markAt_47 : decode cX5_markAt 47 = .ok (.bipush 10, 2) := by decide +kernel
theorem dX5_markAt_49 : decode cX5_markAt 49 = .ok (.iload_n 1, 1) := by decide +kernel
theorem dX5_markAt_50 : decode cX5_markAt 50 = .ok (.iadd, 1) := by decide +kernel
theorem dX5_markAt_51 : decode cX5_markAt 51 = .ok (.iaload, 1) := by decide +kernel
theorem dX5_markAt_52 : decode cX5_markAt 52 = .ok (.ireturn, 1) := by decide +kernel
abbrev cX5_bodyAt : ByteArray := prog_22_method_12_code
def yX5_bodyAt : MethodName := ⟨RX5, "bodyAt", "(II)I"⟩
theorem dX5_bodyAt_0 : decode cX5_bodyAt 0 = .ok (.aload_n 0, 1) := by decide +kernel
theorem dX5_bodyAt_1 : decode cX5_bodyAt 1 = .ok (.getfield 7, 3) := by decide +kernel
theorem dX5_bodyAt_4 : decode cX5_bodyAt 4 = .ok (.sipush 590, 3) := by decide +kernel
theorem dX5_bodyAt_7 : decode cX5_bodyAt 7 = .ok (.iconst 4, 1) := by decide +kernel
theorem dX5_bodyAt_8 : decode cX5_bodyAt 8 = .ok (.iload_n 1, 1) := by decide +kernel
theorem dX5_bodyAt_9 : decode cX5_bodyAt 9 = .ok (.imul, 1) := by decide +kernel
theorem dX5_bodyAt_10 : decode cX5_bodyAt 10 = .ok (.iadd, 1) := by decide +kernel
theorem dX5_bodyAt_11 : decode cX5_bodyAt 11 = .ok (.iaload, 1) := by decide +kernel
theorem dX5_bodyAt_12 : decode cX5_bodyAt 12 = .ok (.aload_n 0, 1) := by decide +kernel
theorem dX5_bodyAt_13 : decode cX5_bodyAt 13 = .ok (.getfield 61, 3) := by decide +kernel
theorem dX5_bodyAt_16 : decode cX5_bodyAt 16 = .ok (.irem, 1) := by decide +kernel
theorem dX5_bodyAt_17 : decode cX5_bodyAt 17 = .ok (.iload_n 2, 1) := by decide +kernel
theorem dX5_bodyAt_18 : decode cX5_bodyAt 18 = .ok (.aload_n 0, 1) := by decide +kernel
theorem dX5_bodyAt_19 : decode cX5_bodyAt 19 = .ok (.getfield 7, 3) := by decide +kernel
theorem dX5_bodyAt_22 : decode cX5_bodyAt 22 = .ok (.sipush 590, 3) := by decide +kernel
theorem dX5_bodyAt_25 : decode cX5_bodyAt 25 = .ok (.iconst 4, 1) := by decide +kernel
theorem dX5_bodyAt_26 : decode cX5_bodyAt 26 = .ok (.iload_n 1, 1) := by decide +kernel
theorem dX5_bodyAt_27 : decode cX5_bodyAt 27 = .ok (.imul, 1) := by decide +kernel
theorem dX5_bodyAt_28 : decode cX5_bodyAt 28 = .ok (.iadd, 1) := by decide +kernel
theorem dX5_bodyAt_29 : decode cX5_bodyAt 29 = .ok (.iconst 1, 1) := by decide +kernel
theorem dX5_bodyAt_30 : decode cX5_bodyAt 30 = .ok (.iadd, 1) := by decide +kernel
theorem dX5_bodyAt_31 : decode cX5_bodyAt 31 = .ok (.iaload, 1) := by decide +kernel
theorem dX5_bodyAt_32 : decode cX5_bodyAt 32 = .ok (.imul, 1) := by decide +kernel
theorem dX5_bodyAt_33 : decode cX5_bodyAt 33 = .ok (.iadd, 1) := by decide +kernel
theorem dX5_bodyAt_34 : decode cX5_bodyAt 34 = .ok (.istore_n 3, 1) := by decide +kernel
theorem dX5_bodyAt_35 : decode cX5_bodyAt 35 = .ok (.aload_n 0, 1) := by decide +kernel
theorem dX5_bodyAt_36 : decode cX5_bodyAt 36 = .ok (.getfield 7, 3) := by decide +kernel
theorem dX5_bodyAt_39 : decode cX5_bodyAt 39 = .ok (.sipush 590, 3) := by decide +kernel
theorem dX5_bodyAt_42 : decode cX5_bodyAt 42 = .ok (.iconst 4, 1) := by decide +kernel
theorem dX5_bodyAt_43 : decode cX5_bodyAt 43 = .ok (.iload_n 1, 1) := by decide +kernel
theorem dX5_bodyAt_44 : decode cX5_bodyAt 44 = .ok (.imul, 1) := by decide +kernel
theorem dX5_bodyAt_45 : decode cX5_bodyAt 45 = .ok (.iadd, 1) := by decide +kernel
theorem dX5_bodyAt_46 : decode cX5_bodyAt 46 = .ok (.iaload, 1) := by decide +kernel
theorem dX5_bodyAt_47 : decode cX5_bodyAt 47 = .ok (.aload_n 0, 1) := by decide +kernel
theorem dX5_bodyAt_48 : decode cX5_bodyAt 48 = .ok (.getfield 61, 3) := by decide +kernel
theorem dX5_bodyAt_51 : decode cX5_bodyAt 51 = .ok (.idiv, 1) := by decide +kernel
theorem dX5_bodyAt_52 : decode cX5_bodyAt 52 = .ok (.iload_n 2, 1) := by decide +kernel
theorem dX5_bodyAt_53 : decode cX5_bodyAt 53 = .ok (.aload_n 0, 1) := by decide +kernel
theorem dX5_bodyAt_54 : decode cX5_bodyAt 54 = .ok (.getfield 7, 3) := by decide +kernel
theorem dX5_bodyAt_57 : decode cX5_bodyAt 57 = .ok (.sipush 590, 3) := by decide +kernel
theorem dX5_bodyAt_60 : decode cX5_bodyAt 60 = .ok (.iconst 4, 1) := by decide +kernel
theorem dX5_bodyAt_61 : decode cX5_bodyAt 61 = .ok (.iload_n 1, 1) := by decide +kernel
theorem dX5_bodyAt_62 : decode cX5_bodyAt 62 = .ok (.imul, 1) := by decide +kernel
theorem dX5_bodyAt_63 : decode cX5_bodyAt 63 = .ok (.iadd, 1) := by decide +kernel
theorem dX5_bodyAt_64 : decode cX5_bodyAt 64 = .ok (.iconst 2, 1) := by decide +kernel
theorem dX5_bodyAt_65 : decode cX5_bodyAt 65 = .ok (.iadd, 1) := by decide +kernel
theorem dX5_bodyAt_66 : decode cX5_bodyAt 66 = .ok (.iaload, 1) := by decide +kernel
theorem dX5_bodyAt_67 : decode cX5_bodyAt 67 = .ok (.imul, 1) := by decide +kernel
theorem dX5_bodyAt_68 : decode cX5_bodyAt 68 = .ok (.iadd, 1) := by decide +kernel
theorem dX5_bodyAt_69 : decode cX5_bodyAt 69 = .ok (.istore 4, 2) := by decide +kernel
theorem dX5_bodyAt_71 : decode cX5_bodyAt 71 = .ok (.iload_n 3, 1) := by decide +kernel
theorem dX5_bodyAt_72 : decode cX5_bodyAt 72 = .ok (.iconst 0, 1) := by decide +kernel
theorem dX5_bodyAt_73 : decode cX5_bodyAt 73 = .ok (.aload_n 0, 1) := by decide +kernel
theorem dX5_bodyAt_74 : decode cX5_bodyAt 74 = .ok (.getfield 61, 3) := by decide +kernel
theorem dX5_bodyAt_77 : decode cX5_bodyAt 77 = .ok (.iconst 1, 1) := by decide +kernel
theorem dX5_bodyAt_78 : decode cX5_bodyAt 78 = .ok (.isub, 1) := by decide +kernel
theorem dX5_bodyAt_79 : decode cX5_bodyAt 79 = .ok (.invokestatic 71, 3) := by decide +kernel
theorem dX5_bodyAt_82 : decode cX5_bodyAt 82 = .ok (.ifCond .eq 30, 3) := by decide +kernel
theorem dX5_bodyAt_85 : decode cX5_bodyAt 85 = .ok (.iload 4, 2) := by decide +kernel
theorem dX5_bodyAt_87 : decode cX5_bodyAt 87 = .ok (.iconst 0, 1) := by decide +kernel
theorem dX5_bodyAt_88 : decode cX5_bodyAt 88 = .ok (.aload_n 0, 1) := by decide +kernel
theorem dX5_bodyAt_89 : decode cX5_bodyAt 89 = .ok (.getfield 64, 3) := by decide +kernel
theorem dX5_bodyAt_92 : decode cX5_bodyAt 92 = .ok (.iconst 1, 1) := by decide +kernel
theorem dX5_bodyAt_93 : decode cX5_bodyAt 93 = .ok (.isub, 1) := by decide +kernel
theorem dX5_bodyAt_94 : decode cX5_bodyAt 94 = .ok (.invokestatic 71, 3) := by decide +kernel
theorem dX5_bodyAt_97 : decode cX5_bodyAt 97 = .ok (.ifCond .eq 15, 3) := by decide +kernel
theorem dX5_bodyAt_100 : decode cX5_bodyAt 100 = .ok (.iload 4, 2) := by decide +kernel
theorem dX5_bodyAt_102 : decode cX5_bodyAt 102 = .ok (.aload_n 0, 1) := by decide +kernel
theorem dX5_bodyAt_103 : decode cX5_bodyAt 103 = .ok (.getfield 61, 3) := by decide +kernel
theorem dX5_bodyAt_106 : decode cX5_bodyAt 106 = .ok (.imul, 1) := by decide +kernel
theorem dX5_bodyAt_107 : decode cX5_bodyAt 107 = .ok (.iload_n 3, 1) := by decide +kernel
theorem dX5_bodyAt_108 : decode cX5_bodyAt 108 = .ok (.iadd, 1) := by decide +kernel
theorem dX5_bodyAt_109 : decode cX5_bodyAt 109 = .ok (.goto 4, 3) := by decide +kernel
theorem dX5_bodyAt_112 : decode cX5_bodyAt 112 = .ok (.iconst (-1), 1) := by decide +kernel
theorem dX5_bodyAt_113 : decode cX5_bodyAt 113 = .ok (.ireturn, 1) := by decide +kernel
abbrev cX5_ray : ByteArray := prog_22_method_20_code
def yX5_ray : MethodName := ⟨RX5, "ray", "(IIIIZ)I"⟩
theorem dX5_ray_0 : decode cX5_ray 0 = .ok (.aload_n 0, 1) := by decide +kernel
theorem dX5_ray_1 : decode cX5_ray 1 = .ok (.iload_n 1, 1) := by decide +kernel
theorem dX5_ray_2 : decode cX5_ray 2 = .ok (.iload_n 2, 1) := by decide +kernel
theorem dX5_ray_3 : decode cX5_ray 3 = .ok (.invokevirtual 107, 3) := by decide +kernel
theorem dX5_ray_6 : decode cX5_ray 6 = .ok (.ifCond .eq 18, 3) := by decide +kernel
theorem dX5_ray_9 : decode cX5_ray 9 = .ok (.iload_n 3, 1) := by decide +kernel
theorem dX5_ray_10 : decode cX5_ray 10 = .ok (.invokestatic 111, 3) := by decide +kernel
theorem dX5_ray_13 : decode cX5_ray 13 = .ok (.ifCond .eq 11, 3) := by decide +kernel
theorem dX5_ray_16 : decode cX5_ray 16 = .ok (.iload 4, 2) := by decide +kernel
theorem dX5_ray_18 : decode cX5_ray 18 = .ok (.invokestatic 83, 3) := by decide +kernel
theorem dX5_ray_21 : decode cX5_ray 21 = .ok (.ifCond .ne 5, 3) := by decide +kernel
theorem dX5_ray_24 : decode cX5_ray 24 = .ok (.iconst (-1), 1) := by decide +kernel
theorem dX5_ray_25 : decode cX5_ray 25 = .ok (.ireturn, 1) := by decide +kernel
theorem dX5_ray_26 : decode cX5_ray 26 = .ok (.aload_n 0, 1) := by decide +kernel
theorem dX5_ray_27 : decode cX5_ray 27 = .ok (.iload 4, 2) := by decide +kernel
theorem dX5_ray_29 : decode cX5_ray 29 = .ok (.invokevirtual 99, 3) := by decide +kernel
theorem dX5_ray_32 : decode cX5_ray 32 = .ok (.aload_n 0, 1) := by decide +kernel
theorem dX5_ray_33 : decode cX5_ray 33 = .ok (.iload_n 1, 1) := by decide +kernel
theorem dX5_ray_34 : decode cX5_ray 34 = .ok (.iload_n 2, 1) := by decide +kernel
theorem dX5_ray_35 : decode cX5_ray 35 = .ok (.iload_n 3, 1) := by decide +kernel
theorem dX5_ray_36 : decode cX5_ray 36 = .ok (.invokevirtual 103, 3) := by decide +kernel
theorem dX5_ray_39 : decode cX5_ray 39 = .ok (.iload 5, 2) := by decide +kernel
theorem dX5_ray_41 : decode cX5_ray 41 = .ok (.ifCond .eq 12, 3) := by decide +kernel
theorem dX5_ray_44 : decode cX5_ray 44 = .ok (.aload_n 0, 1) := by decide +kernel
theorem dX5_ray_45 : decode cX5_ray 45 = .ok (.getfield 25, 3) := by decide +kernel
theorem dX5_ray_48 : decode cX5_ray 48 = .ok (.iload_n 3, 1) := by decide +kernel
theorem dX5_ray_49 : decode cX5_ray 49 = .ok (.iaload, 1) := by decide +kernel
theorem dX5_ray_50 : decode cX5_ray 50 = .ok (.goto 9, 3) := by decide +kernel
theorem dX5_ray_53 : decode cX5_ray 53 = .ok (.aload_n 0, 1) := by decide +kernel
theorem dX5_ray_54 : decode cX5_ray 54 = .ok (.getfield 22, 3) := by decide +kernel
theorem dX5_ray_57 : decode cX5_ray 57 = .ok (.iload_n 3, 1) := by decide +kernel
theorem dX5_ray_58 : decode cX5_ray 58 = .ok (.iaload, 1) := by decide +kernel
theorem dX5_ray_59 : decode cX5_ray 59 = .ok (.ireturn, 1) := by decide +kernel
abbrev cX5_isPlace : ByteArray := prog_22_method_7_code
def yX5_isPlace : MethodName := ⟨RX5, "isPlace", "(II)Z"⟩
theorem dX5_isPlace_0 : decode cX5_isPlace 0 = .ok (.iload_n 1, 1) := by decide +kernel
theorem dX5_isPlace_1 : decode cX5_isPlace 1 = .ok (.iconst 0, 1) := by decide +kernel
theorem dX5_isPlace_2 : decode cX5_isPlace 2 = .ok (.bipush 16, 2) := by decide +kernel
theorem dX5_isPlace_4 : decode cX5_isPlace 4 = .ok (.aload_n 0, 1) := by decide +kernel
theorem dX5_isPlace_5 : decode cX5_isPlace 5 = .ok (.getfield 61, 3) := by decide +kernel
theorem dX5_isPlace_8 : decode cX5_isPlace 8 = .ok (.imul, 1) := by decide +kernel
theorem dX5_isPlace_9 : decode cX5_isPlace 9 = .ok (.iconst 1, 1) := by decide +kernel
theorem dX5_isPlace_10 : decode cX5_isPlace 10 = .ok (.isub, 1) := by decide +kernel
theorem dX5_isPlace_11 : decode cX5_isPlace 11 = .ok (.invokestatic 71, 3) := by decide +kernel
theorem dX5_isPlace_14 : decode cX5_isPlace 14 = .ok (.ifCond .eq 24, 3) := by decide +kernel
theorem dX5_isPlace_17 : decode cX5_isPlace 17 = .ok (.iload_n 2, 1) := by decide +kernel
theorem dX5_isPlace_18 : decode cX5_isPlace 18 = .ok (.iconst 0, 1) := by decide +kernel
theorem dX5_isPlace_19 : decode cX5_isPlace 19 = .ok (.bipush 16, 2) := by decide +kernel
theorem dX5_isPlace_21 : decode cX5_isPlace 21 = .ok (.aload_n 0, 1) := by decide +kernel
theorem dX5_isPlace_22 : decode cX5_isPlace 22 = .ok (.getfield 64, 3) := by decide +kernel
theorem dX5_isPlace_25 : decode cX5_isPlace 25 = .ok (.imul, 1) := by decide +kernel
theorem dX5_isPlace_26 : decode cX5_isPlace 26 = .ok (.iconst 1, 1) := by decide +kernel
theorem dX5_isPlace_27 : decode cX5_isPlace 27 = .ok (.isub, 1) := by decide +kernel
theorem dX5_isPlace_28 : decode cX5_isPlace 28 = .ok (.invokestatic 71, 3) := by decide +kernel
theorem dX5_isPlace_31 : decode cX5_isPlace 31 = .ok (.ifCond .eq 7, 3) := by decide +kernel
theorem dX5_isPlace_34 : decode cX5_isPlace 34 = .ok (.iconst 1, 1) := by decide +kernel
theorem dX5_isPlace_35 : decode cX5_isPlace 35 = .ok (.goto 4, 3) := by decide +kernel
theorem dX5_isPlace_38 : decode cX5_isPlace 38 = .ok (.iconst 0, 1) := by decide +kernel
theorem dX5_isPlace_39 : decode cX5_isPlace 39 = .ok (.ireturn, 1) := by decide +kernel
abbrev cX5_isSide : ByteArray := prog_22_method_5_code
def yX5_isSide : MethodName := ⟨RX5, "isSide", "(I)Z"⟩
theorem dX5_isSide_0 : decode cX5_isSide 0 = .ok (.iload_n 0, 1) := by decide +kernel
theorem dX5_isSide_1 : decode cX5_isSide 1 = .ok (.iconst 0, 1) := by decide +kernel
theorem dX5_isSide_2 : decode cX5_isSide 2 = .ok (.bipush 63, 2) := by decide +kernel
theorem dX5_isSide_4 : decode cX5_isSide 4 = .ok (.invokestatic 71, 3) := by decide +kernel
theorem dX5_isSide_7 : decode cX5_isSide 7 = .ok (.ireturn, 1) := by decide +kernel
abbrev cX5_lay : ByteArray := prog_22_method_15_code
def yX5_lay : MethodName := ⟨RX5, "lay", "(I)V"⟩
theorem dX5_lay_0 : decode cX5_lay 0 = .ok (.iconst 0, 1) := by decide +kernel
theorem dX5_lay_1 : decode cX5_lay 1 = .ok (.istore_n 2, 1) := by decide +kernel
theorem dX5_lay_2 : decode cX5_lay 2 = .ok (.iload_n 2, 1) := by decide +kernel
theorem dX5_lay_3 : decode cX5_lay 3 = .ok (.aload_n 0, 1) := by decide +kernel
theorem dX5_lay_4 : decode cX5_lay 4 = .ok (.getfield 61, 3) := by decide +kernel
theorem dX5_lay_7 : decode cX5_lay 7 = .ok (.aload_n 0, 1) := by decide +kernel
theorem dX5_lay_8 : decode cX5_lay 8 = .ok (.getfield 64, 3) := by decide +kernel
theorem dX5_lay_11 : decode cX5_lay 11 = .ok (.imul, 1) := by decide +kernel
theorem dX5_lay_12 : decode cX5_lay 12 = .ok (.if_icmp .ge 24, 3) := by decide +kernel
theorem dX5_lay_15 : decode cX5_lay 15 = .ok (.aload_n 0, 1) := by decide +kernel
theorem dX5_lay_16 : decode cX5_lay 16 = .ok (.getfield 19, 3) := by decide +kernel
theorem dX5_lay_19 : decode cX5_lay 19 = .ok (.iload_n 2, 1) := by decide +kernel
theorem dX5_lay_20 : decode cX5_lay 20 = .ok (.aload_n 0, 1) := by decide +kernel
theorem dX5_lay_21 : decode cX5_lay 21 = .ok (.getfield 7, 3) := by decide +kernel
theorem dX5_lay_24 : decode cX5_lay 24 = .ok (.bipush 10, 2) := by decide +kernel
theorem dX5_lay_26 : decode cX5_lay 26 = .ok (.iload_n 2, 1) := by decide +kernel
theorem dX5_lay_27 : decode cX5_lay 27 = .ok (.iadd, 1) := by decide +kernel
theorem dX5_lay_28 : decode cX5_lay 28 = .ok (.iaload, 1) := by decide +kernel
theorem dX5_lay_29 : decode cX5_lay 29 = .ok (.iastore, 1) := by decide +kernel
theorem dX5_lay_30 : decode cX5_lay 30 = .ok (.iinc 2 1, 3) := by decide +kernel
theorem dX5_lay_33 : decode cX5_lay 33 = .ok (.goto (-31), 3) := by decide +kernel
theorem dX5_lay_36 : decode cX5_lay 36 = .ok (.aload_n 0, 1) := by decide +kernel
theorem dX5_lay_37 : decode cX5_lay 37 = .ok (.getfield 7, 3) := by decide +kernel
theorem dX5_lay_40 : decode cX5_lay 40 = .ok (.iconst 0, 1) := by decide +kernel
theorem dX5_lay_41 : decode cX5_lay 41 = .ok (.iaload, 1) := by decide +kernel
theorem dX5_lay_42 : decode cX5_lay 42 = .ok (.iconst 1, 1) := by decide +kernel
theorem dX5_lay_43 : decode cX5_lay 43 = .ok (.isub, 1) := by decide +kernel
theorem dX5_lay_44 : decode cX5_lay 44 = .ok (.istore_n 2, 1) := by decide +kernel
theorem dX5_lay_45 : decode cX5_lay 45 = .ok (.iload_n 2, 1) := by decide +kernel
theorem dX5_lay_46 : decode cX5_lay 46 = .ok (.ifCond .lt 43, 3) := by decide +kernel
theorem dX5_lay_49 : decode cX5_lay 49 = .ok (.aload_n 0, 1) := by decide +kernel
theorem dX5_lay_50 : decode cX5_lay 50 = .ok (.iload_n 2, 1) := by decide +kernel
theorem dX5_lay_51 : decode cX5_lay 51 = .ok (.iload_n 1, 1) := by decide +kernel
theorem dX5_lay_52 : decode cX5_lay 52 = .ok (.invokevirtual 79, 3) := by decide +kernel
theorem dX5_lay_55 : decode cX5_lay 55 = .ok (.ifCond .lt 28, 3) := by decide +kernel
theorem dX5_lay_58 : decode cX5_lay 58 = .ok (.aload_n 0, 1) := by decide +kernel
theorem dX5_lay_59 : decode cX5_lay 59 = .ok (.getfield 19, 3) := by decide +kernel
theorem dX5_lay_62 : decode cX5_lay 62 = .ok (.aload_n 0, 1) := by decide +kernel
theorem dX5_lay_63 : decode cX5_lay 63 = .ok (.iload_n 2, 1) := by decide +kernel
theorem dX5_lay_64 : decode cX5_lay 64 = .ok (.iload_n 1, 1) := by decide +kernel
theorem dX5_lay_65 : decode cX5_lay 65 = .ok (.invokevirtual 79, 3) := by decide +kernel
theorem dX5_lay_68 : decode cX5_lay 68 = .ok (.aload_n 0, 1) := by decide +kernel
theorem dX5_lay_69 : decode cX5_lay 69 = .ok (.getfield 7, 3) := by decide +kernel
theorem dX5_lay_72 : decode cX5_lay 72 = .ok (.sipush 590, 3) := by decide +kernel
theorem dX5_lay_75 : decode cX5_lay 75 = .ok (.iconst 4, 1) := by decide +kernel
theorem dX5_lay_76 : decode cX5_lay 76 = .ok (.iload_n 2, 1) := by decide +kernel
theorem dX5_lay_77 : decode cX5_lay 77 = .ok (.imul, 1) := by decide +kernel
theorem dX5_lay_78 : decode cX5_lay 78 = .ok (.iadd, 1) := by decide +kernel
theorem dX5_lay_79 : decode cX5_lay 79 = .ok (.iconst 3, 1) := by decide +kernel
theorem dX5_lay_80 : decode cX5_lay 80 = .ok (.iadd, 1) := by decide +kernel
theorem dX5_lay_81 : decode cX5_lay 81 = .ok (.iaload, 1) := by decide +kernel
theorem dX5_lay_82 : decode cX5_lay 82 = .ok (.iastore, 1) := by decide +kernel
theorem dX5_lay_83 : decode cX5_lay 83 = .ok (.iinc 2 (-1), 3) := by decide +kernel
theorem dX5_lay_86 : decode cX5_lay 86 = .ok (.goto (-41), 3) := by decide +kernel
theorem dX5_lay_89 : decode cX5_lay 89 = .ok (.return_, 1) := by decide +kernel
abbrev cX5_shoot : ByteArray := prog_22_method_18_code
def yX5_shoot : MethodName := ⟨RX5, "shoot", "(III)V"⟩
theorem dX5_shoot_0 : decode cX5_shoot 0 = .ok (.aload_n 0, 1) := by decide +kernel
theorem dX5_shoot_1 : decode cX5_shoot 1 = .ok (.getfield 22, 3) := by decide +kernel
theorem dX5_shoot_4 : decode cX5_shoot 4 = .ok (.iload_n 3, 1) := by decide +kernel
theorem dX5_shoot_5 : decode cX5_shoot 5 = .ok (.iconst 0, 1) := by decide +kernel
theorem dX5_shoot_6 : decode cX5_shoot 6 = .ok (.iastore, 1) := by decide +kernel
theorem dX5_shoot_7 : decode cX5_shoot 7 = .ok (.aload_n 0, 1) := by decide +kernel
theorem dX5_shoot_8 : decode cX5_shoot 8 = .ok (.getfield 25, 3) := by decide +kernel
theorem dX5_shoot_11 : decode cX5_shoot 11 = .ok (.iload_n 3, 1) := by decide +kernel
theorem dX5_shoot_12 : decode cX5_shoot 12 = .ok (.bipush 41, 2) := by decide +kernel
theorem dX5_shoot_14 : decode cX5_shoot 14 = .ok (.iastore, 1) := by decide +kernel
theorem dX5_shoot_15 : decode cX5_shoot 15 = .ok (.iconst 1, 1) := by decide +kernel
theorem dX5_shoot_16 : decode cX5_shoot 16 = .ok (.istore 4, 2) := by decide +kernel
theorem dX5_shoot_18 : decode cX5_shoot 18 = .ok (.iload 4, 2) := by decide +kernel
theorem dX5_shoot_20 : decode cX5_shoot 20 = .ok (.bipush 40, 2) := by decide +kernel
theorem dX5_shoot_22 : decode cX5_shoot 22 = .ok (.if_icmp .gt 123, 3) := by decide +kernel
theorem dX5_shoot_25 : decode cX5_shoot 25 = .ok (.iload_n 1, 1) := by decide +kernel
theorem dX5_shoot_26 : decode cX5_shoot 26 = .ok (.iload 4, 2) := by decide +kernel
theorem dX5_shoot_28 : decode cX5_shoot 28 = .ok (.iload_n 3, 1) := by decide +kernel
theorem dX5_shoot_29 : decode cX5_shoot 29 = .ok (.invokestatic 89, 3) := by decide +kernel
theorem dX5_shoot_32 : decode cX5_shoot 32 = .ok (.imul, 1) := by decide +kernel
theorem dX5_shoot_33 : decode cX5_shoot 33 = .ok (.iadd, 1) := by decide +kernel
theorem dX5_shoot_34 : decode cX5_shoot 34 = .ok (.bipush 16, 2) := by decide +kernel
theorem dX5_shoot_36 : decode cX5_shoot 36 = .ok (.invokestatic 93, 3) := by decide +kernel
theorem dX5_shoot_39 : decode cX5_shoot 39 = .ok (.istore 5, 2) := by decide +kernel
theorem dX5_shoot_41 : decode cX5_shoot 41 = .ok (.iload_n 2, 1) := by decide +kernel
theorem dX5_shoot_42 : decode cX5_shoot 42 = .ok (.iload 4, 2) := by decide +kernel
theorem dX5_shoot_44 : decode cX5_shoot 44 = .ok (.iload_n 3, 1) := by decide +kernel
theorem dX5_shoot_45 : decode cX5_shoot 45 = .ok (.invokestatic 96, 3) := by decide +kernel
theorem dX5_shoot_48 : decode cX5_shoot 48 = .ok (.imul, 1) := by decide +kernel
theorem dX5_shoot_49 : decode cX5_shoot 49 = .ok (.iadd, 1) := by decide +kernel
theorem dX5_shoot_50 : decode cX5_shoot 50 = .ok (.bipush 16, 2) := by decide +kernel
theorem dX5_shoot_52 : decode cX5_shoot 52 = .ok (.invokestatic 93, 3) := by decide +kernel
theorem dX5_shoot_55 : decode cX5_shoot 55 = .ok (.istore 6, 2) := by decide +kernel
theorem dX5_shoot_57 : decode cX5_shoot 57 = .ok (.iload 5, 2) := by decide +kernel
theorem dX5_shoot_59 : decode cX5_shoot 59 = .ok (.iconst 0, 1) := by decide +kernel
theorem dX5_shoot_60 : decode cX5_shoot 60 = .ok (.aload_n 0, 1) := by decide +kernel
theorem dX5_shoot_61 : decode cX5_shoot 61 = .ok (.getfield 61, 3) := by decide +kernel
theorem dX5_shoot_64 : decode cX5_shoot 64 = .ok (.iconst 1, 1) := by decide +kernel
theorem dX5_shoot_65 : decode cX5_shoot 65 = .ok (.isub, 1) := by decide +kernel
theorem dX5_shoot_66 : decode cX5_shoot 66 = .ok (.invokestatic 71, 3) := by decide +kernel
theorem dX5_shoot_69 : decode cX5_shoot 69 = .ok (.ifCond .eq 18, 3) := by decide +kernel
theorem dX5_shoot_72 : decode cX5_shoot 72 = .ok (.iload 6, 2) := by decide +kernel
theorem dX5_shoot_74 : decode cX5_shoot 74 = .ok (.iconst 0, 1) := by decide +kernel
theorem dX5_shoot_75 : decode cX5_shoot 75 = .ok (.aload_n 0, 1) := by decide +kernel
theorem dX5_shoot_76 : decode cX5_shoot 76 = .ok (.getfield 64, 3) := by decide +kernel
theorem dX5_shoot_79 : decode cX5_shoot 79 = .ok (.iconst 1, 1) := by decide +kernel
theorem dX5_shoot_80 : decode cX5_shoot 80 = .ok (.isub, 1) := by decide +kernel
theorem dX5_shoot_81 : decode cX5_shoot 81 = .ok (.invokestatic 71, 3) := by decide +kernel
theorem dX5_shoot_84 : decode cX5_shoot 84 = .ok (.ifCond .ne 4, 3) := by decide +kernel
theorem dX5_shoot_87 : decode cX5_shoot 87 = .ok (.return_, 1) := by decide +kernel
theorem dX5_shoot_88 : decode cX5_shoot 88 = .ok (.aload_n 0, 1) := by decide +kernel
theorem dX5_shoot_89 : decode cX5_shoot 89 = .ok (.getfield 19, 3) := by decide +kernel
theorem dX5_shoot_92 : decode cX5_shoot 92 = .ok (.iload 6, 2) := by decide +kernel
theorem dX5_shoot_94 : decode cX5_shoot 94 = .ok (.aload_n 0, 1) := by decide +kernel
theorem dX5_shoot_95 : decode cX5_shoot 95 = .ok (.getfield 61, 3) := by decide +kernel
theorem dX5_shoot_98 : decode cX5_shoot 98 = .ok (.imul, 1) := by decide +kernel
theorem dX5_shoot_99 : decode cX5_shoot 99 = .ok (.iload 5, 2) := by decide +kernel
theorem dX5_shoot_101 : decode cX5_shoot 101 = .ok (.iadd, 1) := by decide +kernel
theorem dX5_shoot_102 : decode cX5_shoot 102 = .ok (.iaload, 1) := by decide +kernel
theorem dX5_shoot_103 : decode cX5_shoot 103 = .ok (.ifCond .ne 6, 3) := by decide +kernel
theorem dX5_shoot_106 : decode cX5_shoot 106 = .ok (.goto 33, 3) := by decide +kernel
theorem dX5_shoot_109 : decode cX5_shoot 109 = .ok (.aload_n 0, 1) := by decide +kernel
theorem dX5_shoot_110 : decode cX5_shoot 110 = .ok (.getfield 22, 3) := by decide +kernel
theorem dX5_shoot_113 : decode cX5_shoot 113 = .ok (.iload_n 3, 1) := by decide +kernel
theorem dX5_shoot_114 : decode cX5_shoot 114 = .ok (.aload_n 0, 1) := by decide +kernel
theorem dX5_shoot_115 : decode cX5_shoot 115 = .ok (.getfield 19, 3) := by decide +kernel
theorem dX5_shoot_118 : decode cX5_shoot 118 = .ok (.iload 6, 2) := by decide +kernel
theorem dX5_shoot_120 : decode cX5_shoot 120 = .ok (.aload_n 0, 1) := by decide +kernel
theorem dX5_shoot_121 : decode cX5_shoot 121 = .ok (.getfield 61, 3) := by decide +kernel
theorem dX5_shoot_124 : decode cX5_shoot 124 = .ok (.imul, 1) := by decide +kernel
theorem dX5_shoot_125 : decode cX5_shoot 125 = .ok (.iload 5, 2) := by decide +kernel
theorem dX5_shoot_127 : decode cX5_shoot 127 = .ok (.iadd, 1) := by decide +kernel
theorem dX5_shoot_128 : decode cX5_shoot 128 = .ok (.iaload, 1) := by decide +kernel
theorem dX5_shoot_129 : decode cX5_shoot 129 = .ok (.iastore, 1) := by decide +kernel
theorem dX5_shoot_130 : decode cX5_shoot 130 = .ok (.aload_n 0, 1) := by decide +kernel
theorem dX5_shoot_131 : decode cX5_shoot 131 = .ok (.getfield 25, 3) := by decide +kernel
theorem dX5_shoot_134 : decode cX5_shoot 134 = .ok (.iload_n 3, 1) := by decide +kernel
theorem dX5_shoot_135 : decode cX5_shoot 135 = .ok (.iload 4, 2) := by decide +kernel
theorem dX5_shoot_137 : decode cX5_shoot 137 = .ok (.iastore, 1) := by decide +kernel
theorem dX5_shoot_138 : decode cX5_shoot 138 = .ok (.return_, 1) := by decide +kernel
theorem dX5_shoot_139 : decode cX5_shoot 139 = .ok (.iinc 4 1, 3) := by decide +kernel
theorem dX5_shoot_142 : decode cX5_shoot 142 = .ok (.goto (-124), 3) := by decide +kernel
theorem dX5_shoot_145 : decode cX5_shoot 145 = .ok (.return_, 1) := by decide +kernel
abbrev cX5_wayX : ByteArray := prog_22_method_16_code
def yX5_wayX : MethodName := ⟨RX5, "wayX", "(I)I"⟩
theorem dX5_wayX_0 : decode cX5_wayX 0 = .ok (.iconst 2, 1) := by decide +kernel
theorem dX5_wayX_1 : decode cX5_wayX 1 = .ok (.iload_n 0, 1) := by decide +kernel
theorem dX5_wayX_2 : decode cX5_wayX 2 = .ok (.bipush 16, 2) := by decide +kernel
theorem dX5_wayX_4 : decode cX5_wayX 4 = .ok (.irem, 1) := by decide +kernel
theorem dX5_wayX_5 : decode cX5_wayX 5 = .ok (.imul, 1) := by decide +kernel
theorem dX5_wayX_6 : decode cX5_wayX 6 = .ok (.bipush 16, 2) := by decide +kernel
theorem dX5_wayX_8 : decode cX5_wayX 8 = .ok (.isub, 1) := by decide +kernel
theorem dX5_wayX_9 : decode cX5_wayX 9 = .ok (.istore_n 1, 1) := by decide +kernel
theorem dX5_wayX_10 : decode cX5_wayX 10 = .ok (.iload_n 0, 1) := by decide +kernel
theorem dX5_wayX_11 : decode cX5_wayX 11 = .ok (.bipush 16, 2) := by decide +kernel
theorem dX5_wayX_13 : decode cX5_wayX 13 = .ok (.idiv, 1) := by decide +kernel
theorem dX5_wayX_14 : decode cX5_wayX 14 = .ok (.istore_n 2, 1) := by decide +kernel
theorem dX5_wayX_15 : decode cX5_wayX 15 = .ok (.iload_n 2, 1) := by decide +kernel
theorem dX5_wayX_16 : decode cX5_wayX 16 = .ok (.ifCond .ne 8, 3) := by decide +kernel
theorem dX5_wayX_19 : decode cX5_wayX 19 = .ok (.bipush 16, 2) := by decide +kernel
theorem dX5_wayX_21 : decode cX5_wayX 21 = .ok (.goto 24, 3) := by decide +kernel
theorem dX5_wayX_24 : decode cX5_wayX 24 = .ok (.iload_n 2, 1) := by decide +kernel
theorem dX5_wayX_25 : decode cX5_wayX 25 = .ok (.iconst 1, 1) := by decide +kernel
theorem dX5_wayX_26 : decode cX5_wayX 26 = .ok (.if_icmp .ne 8, 3) := by decide +kernel
theorem dX5_wayX_29 : decode cX5_wayX 29 = .ok (.iload_n 1, 1) := by decide +kernel
theorem dX5_wayX_30 : decode cX5_wayX 30 = .ok (.ineg, 1) := by decide +kernel
theorem dX5_wayX_31 : decode cX5_wayX 31 = .ok (.goto 14, 3) := by decide +kernel
theorem dX5_wayX_34 : decode cX5_wayX 34 = .ok (.iload_n 2, 1) := by decide +kernel
theorem dX5_wayX_35 : decode cX5_wayX 35 = .ok (.iconst 2, 1) := by decide +kernel
theorem dX5_wayX_36 : decode cX5_wayX 36 = .ok (.if_icmp .ne 8, 3) := by decide +kernel
theorem dX5_wayX_39 : decode cX5_wayX 39 = .ok (.bipush (-16), 2) := by decide +kernel
theorem dX5_wayX_41 : decode cX5_wayX 41 = .ok (.goto 4, 3) := by decide +kernel
theorem dX5_wayX_44 : decode cX5_wayX 44 = .ok (.iload_n 1, 1) := by decide +kernel
theorem dX5_wayX_45 : decode cX5_wayX 45 = .ok (.ireturn, 1) := by decide +kernel
abbrev cX5_floor : ByteArray := prog_22_method_9_code
def yX5_floor : MethodName := ⟨RX5, "floor", "(II)I"⟩
theorem dX5_floor_0 : decode cX5_floor 0 = .ok (.iload_n 0, 1) := by decide +kernel
theorem dX5_floor_1 : decode cX5_floor 1 = .ok (.ifCond .lt 9, 3) := by decide +kernel
theorem dX5_floor_4 : decode cX5_floor 4 = .ok (.iload_n 0, 1) := by decide +kernel
theorem dX5_floor_5 : decode cX5_floor 5 = .ok (.iload_n 1, 1) := by decide +kernel
theorem dX5_floor_6 : decode cX5_floor 6 = .ok (.idiv, 1) := by decide +kernel
theorem dX5_floor_7 : decode cX5_floor 7 = .ok (.goto 11, 3) := by decide +kernel
theorem dX5_floor_10 : decode cX5_floor 10 = .ok (.iload_n 1, 1) := by decide +kernel
theorem dX5_floor_11 : decode cX5_floor 11 = .ok (.iconst 1, 1) := by decide +kernel
theorem dX5_floor_12 : decode cX5_floor 12 = .ok (.isub, 1) := by decide +kernel
theorem dX5_floor_13 : decode cX5_floor 13 = .ok (.iload_n 0, 1) := by decide +kernel
theorem dX5_floor_14 : decode cX5_floor 14 = .ok (.isub, 1) := by decide +kernel
theorem dX5_floor_15 : decode cX5_floor 15 = .ok (.iload_n 1, 1) := by decide +kernel
theorem dX5_floor_16 : decode cX5_floor 16 = .ok (.idiv, 1) := by decide +kernel
theorem dX5_floor_17 : decode cX5_floor 17 = .ok (.ineg, 1) := by decide +kernel
theorem dX5_floor_18 : decode cX5_floor 18 = .ok (.ireturn, 1) := by decide +kernel
abbrev cX5_wayY : ByteArray := prog_22_method_17_code
def yX5_wayY : MethodName := ⟨RX5, "wayY", "(I)I"⟩
theorem dX5_wayY_0 : decode cX5_wayY 0 = .ok (.iconst 2, 1) := by decide +kernel
theorem dX5_wayY_1 : decode cX5_wayY 1 = .ok (.iload_n 0, 1) := by decide +kernel
theorem dX5_wayY_2 : decode cX5_wayY 2 = .ok (.bipush 16, 2) := by decide +kernel
theorem dX5_wayY_4 : decode cX5_wayY 4 = .ok (.irem, 1) := by decide +kernel
theorem dX5_wayY_5 : decode cX5_wayY 5 = .ok (.imul, 1) := by decide +kernel
theorem dX5_wayY_6 : decode cX5_wayY 6 = .ok (.bipush 16, 2) := by decide +kernel
theorem dX5_wayY_8 : decode cX5_wayY 8 = .ok (.isub, 1) := by decide +kernel
theorem dX5_wayY_9 : decode cX5_wayY 9 = .ok (.istore_n 1, 1) := by decide +kernel
theorem dX5_wayY_10 : decode cX5_wayY 10 = .ok (.iload_n 0, 1) := by decide +kernel
theorem dX5_wayY_11 : decode cX5_wayY 11 = .ok (.bipush 16, 2) := by decide +kernel
theorem dX5_wayY_13 : decode cX5_wayY 13 = .ok (.idiv, 1) := by decide +kernel
theorem dX5_wayY_14 : decode cX5_wayY 14 = .ok (.istore_n 2, 1) := by decide +kernel
theorem dX5_wayY_15 : decode cX5_wayY 15 = .ok (.iload_n 2, 1) := by decide +kernel
theorem dX5_wayY_16 : decode cX5_wayY 16 = .ok (.ifCond .ne 7, 3) := by decide +kernel
theorem dX5_wayY_19 : decode cX5_wayY 19 = .ok (.iload_n 1, 1) := by decide +kernel
theorem dX5_wayY_20 : decode cX5_wayY 20 = .ok (.goto 25, 3) := by decide +kernel
theorem dX5_wayY_23 : decode cX5_wayY 23 = .ok (.iload_n 2, 1) := by decide +kernel
theorem dX5_wayY_24 : decode cX5_wayY 24 = .ok (.iconst 1, 1) := by decide +kernel
theorem dX5_wayY_25 : decode cX5_wayY 25 = .ok (.if_icmp .ne 8, 3) := by decide +kernel
theorem dX5_wayY_28 : decode cX5_wayY 28 = .ok (.bipush 16, 2) := by decide +kernel
theorem dX5_wayY_30 : decode cX5_wayY 30 = .ok (.goto 15, 3) := by decide +kernel
theorem dX5_wayY_33 : decode cX5_wayY 33 = .ok (.iload_n 2, 1) := by decide +kernel
theorem dX5_wayY_34 : decode cX5_wayY 34 = .ok (.iconst 2, 1) := by decide +kernel
theorem dX5_wayY_35 : decode cX5_wayY 35 = .ok (.if_icmp .ne 8, 3) := by decide +kernel
theorem dX5_wayY_38 : decode cX5_wayY 38 = .ok (.iload_n 1, 1) := by decide +kernel
theorem dX5_wayY_39 : decode cX5_wayY 39 = .ok (.ineg, 1) := by decide +kernel
theorem dX5_wayY_40 : decode cX5_wayY 40 = .ok (.goto 5, 3) := by decide +kernel
theorem dX5_wayY_43 : decode cX5_wayY 43 = .ok (.bipush (-16), 2) := by decide +kernel
theorem dX5_wayY_45 : decode cX5_wayY 45 = .ok (.ireturn, 1) := by decide +kernel
abbrev cX5_lens : ByteArray := prog_22_method_21_code
def yX5_lens : MethodName := ⟨RX5, "lens", "(II)I"⟩
theorem dX5_lens_0 : decode cX5_lens 0 = .ok (.iload_n 1, 1) := by decide +kernel
theorem dX5_lens_1 : decode cX5_lens 1 = .ok (.invokestatic 111, 3) := by decide +kernel
theorem dX5_lens_4 : decode cX5_lens 4 = .ok (.ifCond .eq 24, 3) := by decide +kernel
theorem dX5_lens_7 : decode cX5_lens 7 = .ok (.iload_n 2, 1) := by decide +kernel
theorem dX5_lens_8 : decode cX5_lens 8 = .ok (.iconst 0, 1) := by decide +kernel
theorem dX5_lens_9 : decode cX5_lens 9 = .ok (.bipush 7, 2) := by decide +kernel
theorem dX5_lens_11 : decode cX5_lens 11 = .ok (.invokestatic 71, 3) := by decide +kernel
theorem dX5_lens_14 : decode cX5_lens 14 = .ok (.ifCond .eq 14, 3) := by decide +kernel
theorem dX5_lens_17 : decode cX5_lens 17 = .ok (.aload_n 0, 1) := by decide +kernel
theorem dX5_lens_18 : decode cX5_lens 18 = .ok (.getfield 7, 3) := by decide +kernel
theorem dX5_lens_21 : decode cX5_lens 21 = .ok (.iconst 1, 1) := by decide +kernel
theorem dX5_lens_22 : decode cX5_lens 22 = .ok (.iaload, 1) := by decide +kernel
theorem dX5_lens_23 : decode cX5_lens 23 = .ok (.bipush 16, 2) := by decide +kernel
theorem dX5_lens_25 : decode cX5_lens 25 = .ok (.if_icmp .ne 5, 3) := by decide +kernel
theorem dX5_lens_28 : decode cX5_lens 28 = .ok (.iconst (-1), 1) := by decide +kernel
theorem dX5_lens_29 : decode cX5_lens 29 = .ok (.ireturn, 1) := by decide +kernel
theorem dX5_lens_30 : decode cX5_lens 30 = .ok (.aload_n 0, 1) := by decide +kernel
theorem dX5_lens_31 : decode cX5_lens 31 = .ok (.getfield 7, 3) := by decide +kernel
theorem dX5_lens_34 : decode cX5_lens 34 = .ok (.sipush 620, 3) := by decide +kernel
theorem dX5_lens_37 : decode cX5_lens 37 = .ok (.iconst 2, 1) := by decide +kernel
theorem dX5_lens_38 : decode cX5_lens 38 = .ok (.aload_n 0, 1) := by decide +kernel
theorem dX5_lens_39 : decode cX5_lens 39 = .ok (.getfield 7, 3) := by decide +kernel
theorem dX5_lens_42 : decode cX5_lens 42 = .ok (.iconst 1, 1) := by decide +kernel
theorem dX5_lens_43 : decode cX5_lens 43 = .ok (.iaload, 1) := by decide +kernel
theorem dX5_lens_44 : decode cX5_lens 44 = .ok (.imul, 1) := by decide +kernel
theorem dX5_lens_45 : decode cX5_lens 45 = .ok (.iadd, 1) := by decide +kernel
theorem dX5_lens_46 : decode cX5_lens 46 = .ok (.iload_n 1, 1) := by decide +kernel
theorem dX5_lens_47 : decode cX5_lens 47 = .ok (.iastore, 1) := by decide +kernel
theorem dX5_lens_48 : decode cX5_lens 48 = .ok (.aload_n 0, 1) := by decide +kernel
theorem dX5_lens_49 : decode cX5_lens 49 = .ok (.getfield 7, 3) := by decide +kernel
theorem dX5_lens_52 : decode cX5_lens 52 = .ok (.sipush 620, 3) := by decide +kernel
theorem dX5_lens_55 : decode cX5_lens 55 = .ok (.iconst 2, 1) := by decide +kernel
theorem dX5_lens_56 : decode cX5_lens 56 = .ok (.aload_n 0, 1) := by decide +kernel
theorem dX5_lens_57 : decode cX5_lens 57 = .ok (.getfield 7, 3) := by decide +kernel
theorem dX5_lens_60 : decode cX5_lens 60 = .ok (.iconst 1, 1) := by decide +kernel
theorem dX5_lens_61 : decode cX5_lens 61 = .ok (.iaload, 1) := by decide +kernel
theorem dX5_lens_62 : decode cX5_lens 62 = .ok (.imul, 1) := by decide +kernel
theorem dX5_lens_63 : decode cX5_lens 63 = .ok (.iadd, 1) := by decide +kernel
theorem dX5_lens_64 : decode cX5_lens 64 = .ok (.iconst 1, 1) := by decide +kernel
theorem dX5_lens_65 : decode cX5_lens 65 = .ok (.iadd, 1) := by decide +kernel
theorem dX5_lens_66 : decode cX5_lens 66 = .ok (.iload_n 2, 1) := by decide +kernel
theorem dX5_lens_67 : decode cX5_lens 67 = .ok (.iastore, 1) := by decide +kernel
theorem dX5_lens_68 : decode cX5_lens 68 = .ok (.aload_n 0, 1) := by decide +kernel
theorem dX5_lens_69 : decode cX5_lens 69 = .ok (.getfield 7, 3) := by decide +kernel
theorem dX5_lens_72 : decode cX5_lens 72 = .ok (.iconst 1, 1) := by decide +kernel
theorem dX5_lens_73 : decode cX5_lens 73 = .ok (.dup2, 1) := by decide +kernel
theorem dX5_lens_74 : decode cX5_lens 74 = .ok (.iaload, 1) := by decide +kernel
theorem dX5_lens_75 : decode cX5_lens 75 = .ok (.iconst 1, 1) := by decide +kernel
theorem dX5_lens_76 : decode cX5_lens 76 = .ok (.iadd, 1) := by decide +kernel
theorem dX5_lens_77 : decode cX5_lens 77 = .ok (.iastore, 1) := by decide +kernel
theorem dX5_lens_78 : decode cX5_lens 78 = .ok (.aload_n 0, 1) := by decide +kernel
theorem dX5_lens_79 : decode cX5_lens 79 = .ok (.getfield 7, 3) := by decide +kernel
theorem dX5_lens_82 : decode cX5_lens 82 = .ok (.iconst 1, 1) := by decide +kernel
theorem dX5_lens_83 : decode cX5_lens 83 = .ok (.iaload, 1) := by decide +kernel
theorem dX5_lens_84 : decode cX5_lens 84 = .ok (.iconst 1, 1) := by decide +kernel
theorem dX5_lens_85 : decode cX5_lens 85 = .ok (.isub, 1) := by decide +kernel
theorem dX5_lens_86 : decode cX5_lens 86 = .ok (.ireturn, 1) := by decide +kernel
abbrev cX5_pair : ByteArray := prog_22_method_23_code
def yX5_pair : MethodName := ⟨RX5, "pair", "(III)I"⟩
theorem dX5_pair_0 : decode cX5_pair 0 = .ok (.aload_n 0, 1) := by decide +kernel
theorem dX5_pair_1 : decode cX5_pair 1 = .ok (.iload_n 1, 1) := by decide +kernel
theorem dX5_pair_2 : decode cX5_pair 2 = .ok (.invokevirtual 114, 3) := by decide +kernel
theorem dX5_pair_5 : decode cX5_pair 5 = .ok (.ifCond .eq 37, 3) := by decide +kernel
theorem dX5_pair_8 : decode cX5_pair 8 = .ok (.aload_n 0, 1) := by decide +kernel
theorem dX5_pair_9 : decode cX5_pair 9 = .ok (.iload_n 2, 1) := by decide +kernel
theorem dX5_pair_10 : decode cX5_pair 10 = .ok (.invokevirtual 114, 3) := by decide +kernel
theorem dX5_pair_13 : decode cX5_pair 13 = .ok (.ifCond .eq 29, 3) := by decide +kernel
theorem dX5_pair_16 : decode cX5_pair 16 = .ok (.iload_n 1, 1) := by decide +kernel
theorem dX5_pair_17 : decode cX5_pair 17 = .ok (.iload_n 2, 1) := by decide +kernel
theorem dX5_pair_18 : decode cX5_pair 18 = .ok (.if_icmp .eq 24, 3) := by decide +kernel
theorem dX5_pair_21 : decode cX5_pair 21 = .ok (.iload_n 3, 1) := by decide +kernel
theorem dX5_pair_22 : decode cX5_pair 22 = .ok (.iconst 1, 1) := by decide +kernel
theorem dX5_pair_23 : decode cX5_pair 23 = .ok (.bipush 8, 2) := by decide +kernel
theorem dX5_pair_25 : decode cX5_pair 25 = .ok (.invokestatic 71, 3) := by decide +kernel
theorem dX5_pair_28 : decode cX5_pair 28 = .ok (.ifCond .eq 14, 3) := by decide +kernel
theorem dX5_pair_31 : decode cX5_pair 31 = .ok (.aload_n 0, 1) := by decide +kernel
theorem dX5_pair_32 : decode cX5_pair 32 = .ok (.getfield 7, 3) := by decide +kernel
theorem dX5_pair_35 : decode cX5_pair 35 = .ok (.iconst 2, 1) := by decide +kernel
theorem dX5_pair_36 : decode cX5_pair 36 = .ok (.iaload, 1) := by decide +kernel
theorem dX5_pair_37 : decode cX5_pair 37 = .ok (.bipush 16, 2) := by decide +kernel
theorem dX5_pair_39 : decode cX5_pair 39 = .ok (.if_icmp .ne 5, 3) := by decide +kernel
theorem dX5_pair_42 : decode cX5_pair 42 = .ok (.iconst (-1), 1) := by decide +kernel
theorem dX5_pair_43 : decode cX5_pair 43 = .ok (.ireturn, 1) := by decide +kernel
theorem dX5_pair_44 : decode cX5_pair 44 = .ok (.sipush 660, 3) := by decide +kernel
theorem dX5_pair_47 : decode cX5_pair 47 = .ok (.iconst 3, 1) := by decide +kernel
theorem dX5_pair_48 : decode cX5_pair 48 = .ok (.aload_n 0, 1) := by decide +kernel
theorem dX5_pair_49 : decode cX5_pair 49 = .ok (.getfield 7, 3) := by decide +kernel
theorem dX5_pair_52 : decode cX5_pair 52 = .ok (.iconst 2, 1) := by decide +kernel
theorem dX5_pair_53 : decode cX5_pair 53 = .ok (.iaload, 1) := by decide +kernel
theorem dX5_pair_54 : decode cX5_pair 54 = .ok (.imul, 1) := by decide +kernel
theorem dX5_pair_55 : decode cX5_pair 55 = .ok (.iadd, 1) := by decide +kernel
theorem dX5_pair_56 : decode cX5_pair 56 = .ok (.istore 4, 2) := by decide +kernel
theorem dX5_pair_58 : decode cX5_pair 58 = .ok (.aload_n 0, 1) := by decide +kernel
theorem dX5_pair_59 : decode cX5_pair 59 = .ok (.getfield 7, 3) := by decide +kernel
theorem dX5_pair_62 : decode cX5_pair 62 = .ok (.iload 4, 2) := by decide +kernel
theorem dX5_pair_64 : decode cX5_pair 64 = .ok (.iload_n 1, 1) := by decide +kernel
theorem dX5_pair_65 : decode cX5_pair 65 = .ok (.iastore, 1) := by decide +kernel
theorem dX5_pair_66 : decode cX5_pair 66 = .ok (.aload_n 0, 1) := by decide +kernel
theorem dX5_pair_67 : decode cX5_pair 67 = .ok (.getfield 7, 3) := by decide +kernel
theorem dX5_pair_70 : decode cX5_pair 70 = .ok (.iload 4, 2) := by decide +kernel
theorem dX5_pair_72 : decode cX5_pair 72 = .ok (.iconst 1, 1) := by decide +kernel
theorem dX5_pair_73 : decode cX5_pair 73 = .ok (.iadd, 1) := by decide +kernel
theorem dX5_pair_74 : decode cX5_pair 74 = .ok (.iload_n 2, 1) := by decide +kernel
theorem dX5_pair_75 : decode cX5_pair 75 = .ok (.iastore, 1) := by decide +kernel
theorem dX5_pair_76 : decode cX5_pair 76 = .ok (.aload_n 0, 1) := by decide +kernel
theorem dX5_pair_77 : decode cX5_pair 77 = .ok (.getfield 7, 3) := by decide +kernel
theorem dX5_pair_80 : decode cX5_pair 80 = .ok (.iload 4, 2) := by decide +kernel
theorem dX5_pair_82 : decode cX5_pair 82 = .ok (.iconst 2, 1) := by decide +kernel
theorem dX5_pair_83 : decode cX5_pair 83 = .ok (.iadd, 1) := by decide +kernel
theorem dX5_pair_84 : decode cX5_pair 84 = .ok (.iload_n 3, 1) := by decide +kernel
theorem dX5_pair_85 : decode cX5_pair 85 = .ok (.iastore, 1) := by decide +kernel
theorem dX5_pair_86 : decode cX5_pair 86 = .ok (.aload_n 0, 1) := by decide +kernel
theorem dX5_pair_87 : decode cX5_pair 87 = .ok (.getfield 7, 3) := by decide +kernel
theorem dX5_pair_90 : decode cX5_pair 90 = .ok (.iconst 2, 1) := by decide +kernel
theorem dX5_pair_91 : decode cX5_pair 91 = .ok (.dup2, 1) := by decide +kernel
theorem dX5_pair_92 : decode cX5_pair 92 = .ok (.iaload, 1) := by decide +kernel
theorem dX5_pair_93 : decode cX5_pair 93 = .ok (.iconst 1, 1) := by decide +kernel
theorem dX5_pair_94 : decode cX5_pair 94 = .ok (.iadd, 1) := by decide +kernel
theorem dX5_pair_95 : decode cX5_pair 95 = .ok (.iastore, 1) := by decide +kernel
theorem dX5_pair_96 : decode cX5_pair 96 = .ok (.aload_n 0, 1) := by decide +kernel
theorem dX5_pair_97 : decode cX5_pair 97 = .ok (.getfield 7, 3) := by decide +kernel
theorem dX5_pair_100 : decode cX5_pair 100 = .ok (.iconst 2, 1) := by decide +kernel
theorem dX5_pair_101 : decode cX5_pair 101 = .ok (.iaload, 1) := by decide +kernel
theorem dX5_pair_102 : decode cX5_pair 102 = .ok (.iconst 1, 1) := by decide +kernel
theorem dX5_pair_103 : decode cX5_pair 103 = .ok (.isub, 1) := by decide +kernel
theorem dX5_pair_104 : decode cX5_pair 104 = .ok (.ireturn, 1) := by decide +kernel
abbrev cX5_isLens : ByteArray := prog_22_method_22_code
def yX5_isLens : MethodName := ⟨RX5, "isLens", "(I)Z"⟩
theorem dX5_isLens_0 : decode cX5_isLens 0 = .ok (.iload_n 1, 1) := by decide +kernel
theorem dX5_isLens_1 : decode cX5_isLens 1 = .ok (.iconst 0, 1) := by decide +kernel
theorem dX5_isLens_2 : decode cX5_isLens 2 = .ok (.aload_n 0, 1) := by decide +kernel
theorem dX5_isLens_3 : decode cX5_isLens 3 = .ok (.getfield 7, 3) := by decide +kernel
theorem dX5_isLens_6 : decode cX5_isLens 6 = .ok (.iconst 1, 1) := by decide +kernel
theorem dX5_isLens_7 : decode cX5_isLens 7 = .ok (.iaload, 1) := by decide +kernel
theorem dX5_isLens_8 : decode cX5_isLens 8 = .ok (.iconst 1, 1) := by decide +kernel
theorem dX5_isLens_9 : decode cX5_isLens 9 = .ok (.isub, 1) := by decide +kernel
theorem dX5_isLens_10 : decode cX5_isLens 10 = .ok (.invokestatic 71, 3) := by decide +kernel
theorem dX5_isLens_13 : decode cX5_isLens 13 = .ok (.ireturn, 1) := by decide +kernel
abbrev cX5_take : ByteArray := prog_22_method_26_code
def yX5_take : MethodName := ⟨RX5, "take", "(IIIII)I"⟩
theorem dX5_take_0 : decode cX5_take 0 = .ok (.aload_n 0, 1) := by decide +kernel
theorem dX5_take_1 : decode cX5_take 1 = .ok (.iload_n 1, 1) := by decide +kernel
theorem dX5_take_2 : decode cX5_take 2 = .ok (.invokevirtual 114, 3) := by decide +kernel
theorem dX5_take_5 : decode cX5_take 5 = .ok (.ifCond .eq 28, 3) := by decide +kernel
theorem dX5_take_8 : decode cX5_take 8 = .ok (.aload_n 0, 1) := by decide +kernel
theorem dX5_take_9 : decode cX5_take 9 = .ok (.iload_n 2, 1) := by decide +kernel
theorem dX5_take_10 : decode cX5_take 10 = .ok (.iload_n 3, 1) := by decide +kernel
theorem dX5_take_11 : decode cX5_take 11 = .ok (.invokevirtual 107, 3) := by decide +kernel
theorem dX5_take_14 : decode cX5_take 14 = .ok (.ifCond .eq 19, 3) := by decide +kernel
theorem dX5_take_17 : decode cX5_take 17 = .ok (.iload 4, 2) := by decide +kernel
theorem dX5_take_19 : decode cX5_take 19 = .ok (.invokestatic 111, 3) := by decide +kernel
theorem dX5_take_22 : decode cX5_take 22 = .ok (.ifCond .eq 11, 3) := by decide +kernel
theorem dX5_take_25 : decode cX5_take 25 = .ok (.iload 5, 2) := by decide +kernel
theorem dX5_take_27 : decode cX5_take 27 = .ok (.invokestatic 83, 3) := by decide +kernel
theorem dX5_take_30 : decode cX5_take 30 = .ok (.ifCond .ne 5, 3) := by decide +kernel
theorem dX5_take_33 : decode cX5_take 33 = .ok (.iconst (-1), 1) := by decide +kernel
theorem dX5_take_34 : decode cX5_take 34 = .ok (.ireturn, 1) := by decide +kernel
theorem dX5_take_35 : decode cX5_take 35 = .ok (.aload_n 0, 1) := by decide +kernel
theorem dX5_take_36 : decode cX5_take 36 = .ok (.iload_n 2, 1) := by decide +kernel
theorem dX5_take_37 : decode cX5_take 37 = .ok (.iload_n 3, 1) := by decide +kernel
theorem dX5_take_38 : decode cX5_take 38 = .ok (.iload 5, 2) := by decide +kernel
theorem dX5_take_40 : decode cX5_take 40 = .ok (.invokevirtual 124, 3) := by decide +kernel
theorem dX5_take_43 : decode cX5_take 43 = .ok (.aload_n 0, 1) := by decide +kernel
theorem dX5_take_44 : decode cX5_take 44 = .ok (.iload_n 1, 1) := by decide +kernel
theorem dX5_take_45 : decode cX5_take 45 = .ok (.iload 4, 2) := by decide +kernel
theorem dX5_take_47 : decode cX5_take 47 = .ok (.invokevirtual 127, 3) := by decide +kernel
theorem dX5_take_50 : decode cX5_take 50 = .ok (.ireturn, 1) := by decide +kernel
abbrev cX5_look : ByteArray := prog_22_method_19_code
def yX5_look : MethodName := ⟨RX5, "look", "(III)V"⟩
theorem dX5_look_0 : decode cX5_look 0 = .ok (.aload_n 0, 1) := by decide +kernel
theorem dX5_look_1 : decode cX5_look 1 = .ok (.iload_n 3, 1) := by decide +kernel
theorem dX5_look_2 : decode cX5_look 2 = .ok (.invokevirtual 99, 3) := by decide +kernel
theorem dX5_look_5 : decode cX5_look 5 = .ok (.iconst 0, 1) := by decide +kernel
theorem dX5_look_6 : decode cX5_look 6 = .ok (.istore 4, 2) := by decide +kernel
theorem dX5_look_8 : decode cX5_look 8 = .ok (.iload 4, 2) := by decide +kernel
theorem dX5_look_10 : decode cX5_look 10 = .ok (.bipush 64, 2) := by decide +kernel
theorem dX5_look_12 : decode cX5_look 12 = .ok (.if_icmp .ge 17, 3) := by decide +kernel
theorem dX5_look_15 : decode cX5_look 15 = .ok (.aload_n 0, 1) := by decide +kernel
theorem dX5_look_16 : decode cX5_look 16 = .ok (.iload_n 1, 1) := by decide +kernel
theorem dX5_look_17 : decode cX5_look 17 = .ok (.iload_n 2, 1) := by decide +kernel
theorem dX5_look_18 : decode cX5_look 18 = .ok (.iload 4, 2) := by decide +kernel
theorem dX5_look_20 : decode cX5_look 20 = .ok (.invokevirtual 103, 3) := by decide +kernel
theorem dX5_look_23 : decode cX5_look 23 = .ok (.iinc 4 1, 3) := by decide +kernel
theorem dX5_look_26 : decode cX5_look 26 = .ok (.goto (-18), 3) := by decide +kernel
theorem dX5_look_29 : decode cX5_look 29 = .ok (.return_, 1) := by decide +kernel
abbrev cX5_lensTake : ByteArray := prog_22_method_25_code
def yX5_lensTake : MethodName := ⟨RX5, "lensTake", "(II)I"⟩
theorem dX5_lensTake_0 : decode cX5_lensTake 0 = .ok (.aload_n 0, 1) := by decide +kernel
theorem dX5_lensTake_1 : decode cX5_lensTake 1 = .ok (.aload_n 0, 1) := by decide +kernel
theorem dX5_lensTake_2 : decode cX5_lensTake 2 = .ok (.getfield 7, 3) := by decide +kernel
theorem dX5_lensTake_5 : decode cX5_lensTake 5 = .ok (.sipush 620, 3) := by decide +kernel
theorem dX5_lensTake_8 : decode cX5_lensTake 8 = .ok (.iconst 2, 1) := by decide +kernel
theorem dX5_lensTake_9 : decode cX5_lensTake 9 = .ok (.iload_n 1, 1) := by decide +kernel
theorem dX5_lensTake_10 : decode cX5_lensTake 10 = .ok (.imul, 1) := by decide +kernel
theorem dX5_lensTake_11 : decode cX5_lensTake 11 = .ok (.iadd, 1) := by decide +kernel
theorem dX5_lensTake_12 : decode cX5_lensTake 12 = .ok (.iaload, 1) := by decide +kernel
theorem dX5_lensTake_13 : decode cX5_lensTake 13 = .ok (.aload_n 0, 1) := by decide +kernel
theorem dX5_lensTake_14 : decode cX5_lensTake 14 = .ok (.getfield 7, 3) := by decide +kernel
theorem dX5_lensTake_17 : decode cX5_lensTake 17 = .ok (.sipush 620, 3) := by decide +kernel
theorem dX5_lensTake_20 : decode cX5_lensTake 20 = .ok (.iconst 2, 1) := by decide +kernel
theorem dX5_lensTake_21 : decode cX5_lensTake 21 = .ok (.iload_n 1, 1) := by decide +kernel
theorem dX5_lensTake_22 : decode cX5_lensTake 22 = .ok (.imul, 1) := by decide +kernel
theorem dX5_lensTake_23 : decode cX5_lensTake 23 = .ok (.iadd, 1) := by decide +kernel
theorem dX5_lensTake_24 : decode cX5_lensTake 24 = .ok (.iconst 1, 1) := by decide +kernel
theorem dX5_lensTake_25 : decode cX5_lensTake 25 = .ok (.iadd, 1) := by decide +kernel
theorem dX5_lensTake_26 : decode cX5_lensTake 26 = .ok (.iaload, 1) := by decide +kernel
theorem dX5_lensTake_27 : decode cX5_lensTake 27 = .ok (.iload_n 2, 1) := by decide +kernel
theorem dX5_lensTake_28 : decode cX5_lensTake 28 = .ok (.invokevirtual 120, 3) := by decide +kernel
theorem dX5_lensTake_31 : decode cX5_lensTake 31 = .ok (.ireturn, 1) := by decide +kernel
abbrev cX5_takeOf : ByteArray := prog_22_method_24_code
def yX5_takeOf : MethodName := ⟨RX5, "takeOf", "(III)I"⟩
theorem dX5_takeOf_0 : decode cX5_takeOf 0 = .ok (.iconst 0, 1) := by decide +kernel
theorem dX5_takeOf_1 : decode cX5_takeOf 1 = .ok (.istore 4, 2) := by decide +kernel
theorem dX5_takeOf_3 : decode cX5_takeOf 3 = .ok (.iload_n 2, 1) := by decide +kernel
theorem dX5_takeOf_4 : decode cX5_takeOf 4 = .ok (.ineg, 1) := by decide +kernel
theorem dX5_takeOf_5 : decode cX5_takeOf 5 = .ok (.istore 5, 2) := by decide +kernel
theorem dX5_takeOf_7 : decode cX5_takeOf 7 = .ok (.iload 5, 2) := by decide +kernel
theorem dX5_takeOf_9 : decode cX5_takeOf 9 = .ok (.iload_n 2, 1) := by decide +kernel
theorem dX5_takeOf_10 : decode cX5_takeOf 10 = .ok (.if_icmp .gt 41, 3) := by decide +kernel
theorem dX5_takeOf_13 : decode cX5_takeOf 13 = .ok (.iload 4, 2) := by decide +kernel
theorem dX5_takeOf_15 : decode cX5_takeOf 15 = .ok (.iload_n 2, 1) := by decide +kernel
theorem dX5_takeOf_16 : decode cX5_takeOf 16 = .ok (.iconst 1, 1) := by decide +kernel
theorem dX5_takeOf_17 : decode cX5_takeOf 17 = .ok (.iadd, 1) := by decide +kernel
theorem dX5_takeOf_18 : decode cX5_takeOf 18 = .ok (.iload 5, 2) := by decide +kernel
theorem dX5_takeOf_20 : decode cX5_takeOf 20 = .ok (.invokestatic 117, 3) := by decide +kernel
theorem dX5_takeOf_23 : decode cX5_takeOf 23 = .ok (.isub, 1) := by decide +kernel
theorem dX5_takeOf_24 : decode cX5_takeOf 24 = .ok (.aload_n 0, 1) := by decide +kernel
theorem dX5_takeOf_25 : decode cX5_takeOf 25 = .ok (.getfield 22, 3) := by decide +kernel
theorem dX5_takeOf_28 : decode cX5_takeOf 28 = .ok (.iload_n 3, 1) := by decide +kernel
theorem dX5_takeOf_29 : decode cX5_takeOf 29 = .ok (.iload_n 1, 1) := by decide +kernel
theorem dX5_takeOf_30 : decode cX5_takeOf 30 = .ok (.iadd, 1) := by decide +kernel
theorem dX5_takeOf_31 : decode cX5_takeOf 31 = .ok (.iload 5, 2) := by decide +kernel
theorem dX5_takeOf_33 : decode cX5_takeOf 33 = .ok (.iadd, 1) := by decide +kernel
theorem dX5_takeOf_34 : decode cX5_takeOf 34 = .ok (.bipush 64, 2) := by decide +kernel
theorem dX5_takeOf_36 : decode cX5_takeOf 36 = .ok (.iadd, 1) := by decide +kernel
theorem dX5_takeOf_37 : decode cX5_takeOf 37 = .ok (.bipush 64, 2) := by decide +kernel
theorem dX5_takeOf_39 : decode cX5_takeOf 39 = .ok (.irem, 1) := by decide +kernel
theorem dX5_takeOf_40 : decode cX5_takeOf 40 = .ok (.iaload, 1) := by decide +kernel
theorem dX5_takeOf_41 : decode cX5_takeOf 41 = .ok (.imul, 1) := by decide +kernel
theorem dX5_takeOf_42 : decode cX5_takeOf 42 = .ok (.iadd, 1) := by decide +kernel
theorem dX5_takeOf_43 : decode cX5_takeOf 43 = .ok (.istore 4, 2) := by decide +kernel
theorem dX5_takeOf_45 : decode cX5_takeOf 45 = .ok (.iinc 5 1, 3) := by decide +kernel
theorem dX5_takeOf_48 : decode cX5_takeOf 48 = .ok (.goto (-41), 3) := by decide +kernel
theorem dX5_takeOf_51 : decode cX5_takeOf 51 = .ok (.iload 4, 2) := by decide +kernel
theorem dX5_takeOf_53 : decode cX5_takeOf 53 = .ok (.iload_n 2, 1) := by decide +kernel
theorem dX5_takeOf_54 : decode cX5_takeOf 54 = .ok (.iconst 1, 1) := by decide +kernel
theorem dX5_takeOf_55 : decode cX5_takeOf 55 = .ok (.iadd, 1) := by decide +kernel
theorem dX5_takeOf_56 : decode cX5_takeOf 56 = .ok (.iload_n 2, 1) := by decide +kernel
theorem dX5_takeOf_57 : decode cX5_takeOf 57 = .ok (.iconst 1, 1) := by decide +kernel
theorem dX5_takeOf_58 : decode cX5_takeOf 58 = .ok (.iadd, 1) := by decide +kernel
theorem dX5_takeOf_59 : decode cX5_takeOf 59 = .ok (.imul, 1) := by decide +kernel
theorem dX5_takeOf_60 : decode cX5_takeOf 60 = .ok (.idiv, 1) := by decide +kernel
theorem dX5_takeOf_61 : decode cX5_takeOf 61 = .ok (.ireturn, 1) := by decide +kernel
abbrev cX5_abs : ByteArray := prog_22_method_8_code
def yX5_abs : MethodName := ⟨RX5, "abs", "(I)I"⟩
theorem dX5_abs_0 : decode cX5_abs 0 = .ok (.iload_n 0, 1) := by decide +kernel
theorem dX5_abs_1 : decode cX5_abs 1 = .ok (.ifCond .ge 8, 3) := by decide +kernel
theorem dX5_abs_4 : decode cX5_abs 4 = .ok (.iload_n 0, 1) := by decide +kernel
theorem dX5_abs_5 : decode cX5_abs 5 = .ok (.ineg, 1) := by decide +kernel
theorem dX5_abs_6 : decode cX5_abs 6 = .ok (.goto 4, 3) := by decide +kernel
theorem dX5_abs_9 : decode cX5_abs 9 = .ok (.iload_n 0, 1) := by decide +kernel
theorem dX5_abs_10 : decode cX5_abs 10 = .ok (.ireturn, 1) := by decide +kernel
abbrev cX5_covered : ByteArray := prog_22_method_29_code
def yX5_covered : MethodName := ⟨RX5, "covered", "(I)I"⟩
theorem dX5_covered_0 : decode cX5_covered 0 = .ok (.iload_n 1, 1) := by decide +kernel
theorem dX5_covered_1 : decode cX5_covered 1 = .ok (.iconst (-1), 1) := by decide +kernel
theorem dX5_covered_2 : decode cX5_covered 2 = .ok (.if_icmp .eq 12, 3) := by decide +kernel
theorem dX5_covered_5 : decode cX5_covered 5 = .ok (.iload_n 1, 1) := by decide +kernel
theorem dX5_covered_6 : decode cX5_covered 6 = .ok (.invokestatic 111, 3) := by decide +kernel
theorem dX5_covered_9 : decode cX5_covered 9 = .ok (.ifCond .ne 5, 3) := by decide +kernel
theorem dX5_covered_12 : decode cX5_covered 12 = .ok (.iconst (-1), 1) := by decide +kernel
theorem dX5_covered_13 : decode cX5_covered 13 = .ok (.ireturn, 1) := by decide +kernel
theorem dX5_covered_14 : decode cX5_covered 14 = .ok (.iload_n 1, 1) := by decide +kernel
theorem dX5_covered_15 : decode cX5_covered 15 = .ok (.iconst (-1), 1) := by decide +kernel
theorem dX5_covered_16 : decode cX5_covered 16 = .ok (.if_icmp .eq 9, 3) := by decide +kernel
theorem dX5_covered_19 : decode cX5_covered 19 = .ok (.aload_n 0, 1) := by decide +kernel
theorem dX5_covered_20 : decode cX5_covered 20 = .ok (.iload_n 1, 1) := by decide +kernel
theorem dX5_covered_21 : decode cX5_covered 21 = .ok (.invokevirtual 133, 3) := by decide +kernel
theorem dX5_covered_24 : decode cX5_covered 24 = .ok (.ireturn, 1) := by decide +kernel
theorem dX5_covered_25 : decode cX5_covered 25 = .ok (.iconst 0, 1) := by decide +kernel
theorem dX5_covered_26 : decode cX5_covered 26 = .ok (.istore_n 2, 1) := by decide +kernel
theorem dX5_covered_27 : decode cX5_covered 27 = .ok (.iconst 0, 1) := by decide +kernel
theorem dX5_covered_28 : decode cX5_covered 28 = .ok (.istore_n 3, 1) := by decide +kernel
theorem dX5_covered_29 : decode cX5_covered 29 = .ok (.iload_n 3, 1) := by decide +kernel
theorem dX5_covered_30 : decode cX5_covered 30 = .ok (.bipush 64, 2) := by decide +kernel
theorem dX5_covered_32 : decode cX5_covered 32 = .ok (.if_icmp .ge 25, 3) := by decide +kernel
theorem dX5_covered_35 : decode cX5_covered 35 = .ok (.iload_n 2, 1) := by decide +kernel
theorem dX5_covered_36 : decode cX5_covered 36 = .ok (.aload_n 0, 1) := by decide +kernel
theorem dX5_covered_37 : decode cX5_covered 37 = .ok (.iload_n 3, 1) := by decide +kernel
theorem dX5_covered_38 : decode cX5_covered 38 = .ok (.invokevirtual 133, 3) := by decide +kernel
theorem dX5_covered_41 : decode cX5_covered 41 = .ok (.ifCond .ne 7, 3) := by decide +kernel
theorem dX5_covered_44 : decode cX5_covered 44 = .ok (.iconst 1, 1) := by decide +kernel
theorem dX5_covered_45 : decode cX5_covered 45 = .ok (.goto 4, 3) := by decide +kernel
theorem dX5_covered_48 : decode cX5_covered 48 = .ok (.iconst 0, 1) := by decide +kernel
theorem dX5_covered_49 : decode cX5_covered 49 = .ok (.iadd, 1) := by decide +kernel
theorem dX5_covered_50 : decode cX5_covered 50 = .ok (.istore_n 2, 1) := by decide +kernel
theorem dX5_covered_51 : decode cX5_covered 51 = .ok (.iinc 3 1, 3) := by decide +kernel
theorem dX5_covered_54 : decode cX5_covered 54 = .ok (.goto (-25), 3) := by decide +kernel
theorem dX5_covered_57 : decode cX5_covered 57 = .ok (.iload_n 2, 1) := by decide +kernel
theorem dX5_covered_58 : decode cX5_covered 58 = .ok (.ireturn, 1) := by decide +kernel
abbrev cX5_coverOf : ByteArray := prog_22_method_28_code
def yX5_coverOf : MethodName := ⟨RX5, "coverOf", "(I)I"⟩
theorem dX5_coverOf_0 : decode cX5_coverOf 0 = .ok (.iconst 0, 1) := by decide +kernel
theorem dX5_coverOf_1 : decode cX5_coverOf 1 = .ok (.istore_n 2, 1) := by decide +kernel
theorem dX5_coverOf_2 : decode cX5_coverOf 2 = .ok (.iconst 0, 1) := by decide +kernel
theorem dX5_coverOf_3 : decode cX5_coverOf 3 = .ok (.istore_n 3, 1) := by decide +kernel
theorem dX5_coverOf_4 : decode cX5_coverOf 4 = .ok (.iload_n 3, 1) := by decide +kernel
theorem dX5_coverOf_5 : decode cX5_coverOf 5 = .ok (.aload_n 0, 1) := by decide +kernel
theorem dX5_coverOf_6 : decode cX5_coverOf 6 = .ok (.getfield 7, 3) := by decide +kernel
theorem dX5_coverOf_9 : decode cX5_coverOf 9 = .ok (.iconst 1, 1) := by decide +kernel
theorem dX5_coverOf_10 : decode cX5_coverOf 10 = .ok (.iaload, 1) := by decide +kernel
theorem dX5_coverOf_11 : decode cX5_coverOf 11 = .ok (.if_icmp .ge 40, 3) := by decide +kernel
theorem dX5_coverOf_14 : decode cX5_coverOf 14 = .ok (.iload_n 2, 1) := by decide +kernel
theorem dX5_coverOf_15 : decode cX5_coverOf 15 = .ok (.aload_n 0, 1) := by decide +kernel
theorem dX5_coverOf_16 : decode cX5_coverOf 16 = .ok (.iload_n 3, 1) := by decide +kernel
theorem dX5_coverOf_17 : decode cX5_coverOf 17 = .ok (.iload_n 1, 1) := by decide +kernel
theorem dX5_coverOf_18 : decode cX5_coverOf 18 = .ok (.invokevirtual 130, 3) := by decide +kernel
theorem dX5_coverOf_21 : decode cX5_coverOf 21 = .ok (.aload_n 0, 1) := by decide +kernel
theorem dX5_coverOf_22 : decode cX5_coverOf 22 = .ok (.getfield 7, 3) := by decide +kernel
theorem dX5_coverOf_25 : decode cX5_coverOf 25 = .ok (.sipush 620, 3) := by decide +kernel
theorem dX5_coverOf_28 : decode cX5_coverOf 28 = .ok (.iconst 2, 1) := by decide +kernel
theorem dX5_coverOf_29 : decode cX5_coverOf 29 = .ok (.iload_n 3, 1) := by decide +kernel
theorem dX5_coverOf_30 : decode cX5_coverOf 30 = .ok (.imul, 1) := by decide +kernel
theorem dX5_coverOf_31 : decode cX5_coverOf 31 = .ok (.iadd, 1) := by decide +kernel
theorem dX5_coverOf_32 : decode cX5_coverOf 32 = .ok (.iconst 1, 1) := by decide +kernel
theorem dX5_coverOf_33 : decode cX5_coverOf 33 = .ok (.iadd, 1) := by decide +kernel
theorem dX5_coverOf_34 : decode cX5_coverOf 34 = .ok (.iaload, 1) := by decide +kernel
theorem dX5_coverOf_35 : decode cX5_coverOf 35 = .ok (.if_icmp .gt 7, 3) := by decide +kernel
theorem dX5_coverOf_38 : decode cX5_coverOf 38 = .ok (.iconst 1, 1) := by decide +kernel
theorem dX5_coverOf_39 : decode cX5_coverOf 39 = .ok (.goto 4, 3) := by decide +kernel
theorem dX5_coverOf_42 : decode cX5_coverOf 42 = .ok (.iconst 0, 1) := by decide +kernel
theorem dX5_coverOf_43 : decode cX5_coverOf 43 = .ok (.iadd, 1) := by decide +kernel
theorem dX5_coverOf_44 : decode cX5_coverOf 44 = .ok (.istore_n 2, 1) := by decide +kernel
theorem dX5_coverOf_45 : decode cX5_coverOf 45 = .ok (.iinc 3 1, 3) := by decide +kernel
theorem dX5_coverOf_48 : decode cX5_coverOf 48 = .ok (.goto (-44), 3) := by decide +kernel
theorem dX5_coverOf_51 : decode cX5_coverOf 51 = .ok (.iload_n 2, 1) := by decide +kernel
theorem dX5_coverOf_52 : decode cX5_coverOf 52 = .ok (.ireturn, 1) := by decide +kernel
abbrev cX5_apart : ByteArray := prog_22_method_27_code
def yX5_apart : MethodName := ⟨RX5, "apart", "(II)I"⟩
theorem dX5_apart_0 : decode cX5_apart 0 = .ok (.aload_n 0, 1) := by decide +kernel
theorem dX5_apart_1 : decode cX5_apart 1 = .ok (.getfield 7, 3) := by decide +kernel
theorem dX5_apart_4 : decode cX5_apart 4 = .ok (.sipush 620, 3) := by decide +kernel
theorem dX5_apart_7 : decode cX5_apart 7 = .ok (.iconst 2, 1) := by decide +kernel
theorem dX5_apart_8 : decode cX5_apart 8 = .ok (.iload_n 1, 1) := by decide +kernel
theorem dX5_apart_9 : decode cX5_apart 9 = .ok (.imul, 1) := by decide +kernel
theorem dX5_apart_10 : decode cX5_apart 10 = .ok (.iadd, 1) := by decide +kernel
theorem dX5_apart_11 : decode cX5_apart 11 = .ok (.iaload, 1) := by decide +kernel
theorem dX5_apart_12 : decode cX5_apart 12 = .ok (.iload_n 2, 1) := by decide +kernel
theorem dX5_apart_13 : decode cX5_apart 13 = .ok (.isub, 1) := by decide +kernel
theorem dX5_apart_14 : decode cX5_apart 14 = .ok (.invokestatic 117, 3) := by decide +kernel
theorem dX5_apart_17 : decode cX5_apart 17 = .ok (.istore_n 3, 1) := by decide +kernel
theorem dX5_apart_18 : decode cX5_apart 18 = .ok (.iload_n 3, 1) := by decide +kernel
theorem dX5_apart_19 : decode cX5_apart 19 = .ok (.bipush 64, 2) := by decide +kernel
theorem dX5_apart_21 : decode cX5_apart 21 = .ok (.iload_n 3, 1) := by decide +kernel
theorem dX5_apart_22 : decode cX5_apart 22 = .ok (.isub, 1) := by decide +kernel
theorem dX5_apart_23 : decode cX5_apart 23 = .ok (.if_icmp .ge 7, 3) := by decide +kernel
theorem dX5_apart_26 : decode cX5_apart 26 = .ok (.iload_n 3, 1) := by decide +kernel
theorem dX5_apart_27 : decode cX5_apart 27 = .ok (.goto 7, 3) := by decide +kernel
theorem dX5_apart_30 : decode cX5_apart 30 = .ok (.bipush 64, 2) := by decide +kernel
theorem dX5_apart_32 : decode cX5_apart 32 = .ok (.iload_n 3, 1) := by decide +kernel
theorem dX5_apart_33 : decode cX5_apart 33 = .ok (.isub, 1) := by decide +kernel
theorem dX5_apart_34 : decode cX5_apart 34 = .ok (.ireturn, 1) := by decide +kernel
abbrev cX5_ends : ByteArray := prog_22_method_30_code
def yX5_ends : MethodName := ⟨RX5, "ends", "(IIIIZ)I"⟩
theorem dX5_ends_0 : decode cX5_ends 0 = .ok (.iload_n 1, 1) := by decide +kernel
theorem dX5_ends_1 : decode cX5_ends 1 = .ok (.invokestatic 111, 3) := by decide +kernel
theorem dX5_ends_4 : decode cX5_ends 4 = .ok (.ifCond .eq 20, 3) := by decide +kernel
theorem dX5_ends_7 : decode cX5_ends 7 = .ok (.aload_n 0, 1) := by decide +kernel
theorem dX5_ends_8 : decode cX5_ends 8 = .ok (.iload_n 2, 1) := by decide +kernel
theorem dX5_ends_9 : decode cX5_ends 9 = .ok (.iload_n 3, 1) := by decide +kernel
theorem dX5_ends_10 : decode cX5_ends 10 = .ok (.invokevirtual 107, 3) := by decide +kernel
theorem dX5_ends_13 : decode cX5_ends 13 = .ok (.ifCond .eq 11, 3) := by decide +kernel
theorem dX5_ends_16 : decode cX5_ends 16 = .ok (.iload 4, 2) := by decide +kernel
theorem dX5_ends_18 : decode cX5_ends 18 = .ok (.invokestatic 111, 3) := by decide +kernel
theorem dX5_ends_21 : decode cX5_ends 21 = .ok (.ifCond .ne 5, 3) := by decide +kernel
theorem dX5_ends_24 : decode cX5_ends 24 = .ok (.iconst (-1), 1) := by decide +kernel
theorem dX5_ends_25 : decode cX5_ends 25 = .ok (.ireturn, 1) := by decide +kernel
theorem dX5_ends_26 : decode cX5_ends 26 = .ok (.aload_n 0, 1) := by decide +kernel
theorem dX5_ends_27 : decode cX5_ends 27 = .ok (.iload_n 2, 1) := by decide +kernel
theorem dX5_ends_28 : decode cX5_ends 28 = .ok (.iload_n 3, 1) := by decide +kernel
theorem dX5_ends_29 : decode cX5_ends 29 = .ok (.iconst 0, 1) := by decide +kernel
theorem dX5_ends_30 : decode cX5_ends 30 = .ok (.invokevirtual 124, 3) := by decide +kernel
theorem dX5_ends_33 : decode cX5_ends 33 = .ok (.iconst 0, 1) := by decide +kernel
theorem dX5_ends_34 : decode cX5_ends 34 = .ok (.istore 6, 2) := by decide +kernel
theorem dX5_ends_36 : decode cX5_ends 36 = .ok (.sipush 255, 3) := by decide +kernel
theorem dX5_ends_39 : decode cX5_ends 39 = .ok (.istore 7, 2) := by decide +kernel
theorem dX5_ends_41 : decode cX5_ends 41 = .ok (.iconst 0, 1) := by decide +kernel
theorem dX5_ends_42 : decode cX5_ends 42 = .ok (.istore 8, 2) := by decide +kernel
theorem dX5_ends_44 : decode cX5_ends 44 = .ok (.iload 8, 2) := by decide +kernel
theorem dX5_ends_46 : decode cX5_ends 46 = .ok (.aload_n 0, 1) := by decide +kernel
theorem dX5_ends_47 : decode cX5_ends 47 = .ok (.getfield 7, 3) := by decide +kernel
theorem dX5_ends_50 : decode cX5_ends 50 = .ok (.iconst 1, 1) := by decide +kernel
theorem dX5_ends_51 : decode cX5_ends 51 = .ok (.iaload, 1) := by decide +kernel
theorem dX5_ends_52 : decode cX5_ends 52 = .ok (.if_icmp .ge 136, 3) := by decide +kernel
theorem dX5_ends_55 : decode cX5_ends 55 = .ok (.aload_n 0, 1) := by decide +kernel
theorem dX5_ends_56 : decode cX5_ends 56 = .ok (.getfield 7, 3) := by decide +kernel
theorem dX5_ends_59 : decode cX5_ends 59 = .ok (.sipush 620, 3) := by decide +kernel
theorem dX5_ends_62 : decode cX5_ends 62 = .ok (.iconst 2, 1) := by decide +kernel
theorem dX5_ends_63 : decode cX5_ends 63 = .ok (.iload 8, 2) := by decide +kernel
theorem dX5_ends_65 : decode cX5_ends 65 = .ok (.imul, 1) := by decide +kernel
theorem dX5_ends_66 : decode cX5_ends 66 = .ok (.iadd, 1) := by decide +kernel
theorem dX5_ends_67 : decode cX5_ends 67 = .ok (.iconst 1, 1) := by decide +kernel
theorem dX5_ends_68 : decode cX5_ends 68 = .ok (.iadd, 1) := by decide +kernel
theorem dX5_ends_69 : decode cX5_ends 69 = .ok (.iaload, 1) := by decide +kernel
theorem dX5_ends_70 : decode cX5_ends 70 = .ok (.istore 9, 2) := by decide +kernel
theorem dX5_ends_72 : decode cX5_ends 72 = .ok (.aload_n 0, 1) := by decide +kernel
theorem dX5_ends_73 : decode cX5_ends 73 = .ok (.iload 8, 2) := by decide +kernel
theorem dX5_ends_75 : decode cX5_ends 75 = .ok (.iload_n 1, 1) := by decide +kernel
theorem dX5_ends_76 : decode cX5_ends 76 = .ok (.invokevirtual 130, 3) := by decide +kernel
theorem dX5_ends_79 : decode cX5_ends 79 = .ok (.iload 9, 2) := by decide +kernel
theorem dX5_ends_81 : decode cX5_ends 81 = .ok (.if_icmp .le 6, 3) := by decide +kernel
theorem dX5_ends_84 : decode cX5_ends 84 = .ok (.goto 98, 3) := by decide +kernel
theorem dX5_ends_87 : decode cX5_ends 87 = .ok (.iload 9, 2) := by decide +kernel
theorem dX5_ends_89 : decode cX5_ends 89 = .ok (.iconst 1, 1) := by decide +kernel
theorem dX5_ends_90 : decode cX5_ends 90 = .ok (.iadd, 1) := by decide +kernel
theorem dX5_ends_91 : decode cX5_ends 91 = .ok (.aload_n 0, 1) := by decide +kernel
theorem dX5_ends_92 : decode cX5_ends 92 = .ok (.iload 8, 2) := by decide +kernel
theorem dX5_ends_94 : decode cX5_ends 94 = .ok (.iload_n 1, 1) := by decide +kernel
theorem dX5_ends_95 : decode cX5_ends 95 = .ok (.invokevirtual 130, 3) := by decide +kernel
theorem dX5_ends_98 : decode cX5_ends 98 = .ok (.isub, 1) := by decide +kernel
theorem dX5_ends_99 : decode cX5_ends 99 = .ok (.istore 10, 2) := by decide +kernel
theorem dX5_ends_101 : decode cX5_ends 101 = .ok (.iload 9, 2) := by decide +kernel
theorem dX5_ends_103 : decode cX5_ends 103 = .ok (.iconst 1, 1) := by decide +kernel
theorem dX5_ends_104 : decode cX5_ends 104 = .ok (.iadd, 1) := by decide +kernel
theorem dX5_ends_105 : decode cX5_ends 105 = .ok (.iload 9, 2) := by decide +kernel
theorem dX5_ends_107 : decode cX5_ends 107 = .ok (.iconst 1, 1) := by decide +kernel
theorem dX5_ends_108 : decode cX5_ends 108 = .ok (.iadd, 1) := by decide +kernel
theorem dX5_ends_109 : decode cX5_ends 109 = .ok (.imul, 1) := by decide +kernel
theorem dX5_ends_110 : decode cX5_ends 110 = .ok (.istore 11, 2) := by decide +kernel
theorem dX5_ends_112 : decode cX5_ends 112 = .ok (.aload_n 0, 1) := by decide +kernel
theorem dX5_ends_113 : decode cX5_ends 113 = .ok (.iload 8, 2) := by decide +kernel
theorem dX5_ends_115 : decode cX5_ends 115 = .ok (.iload 4, 2) := by decide +kernel
theorem dX5_ends_117 : decode cX5_ends 117 = .ok (.invokevirtual 127, 3) := by decide +kernel
theorem dX5_ends_120 : decode cX5_ends 120 = .ok (.istore 12, 2) := by decide +kernel
theorem dX5_ends_122 : decode cX5_ends 122 = .ok (.iload 12, 2) := by decide +kernel
theorem dX5_ends_124 : decode cX5_ends 124 = .ok (.iload 11, 2) := by decide +kernel
theorem dX5_ends_126 : decode cX5_ends 126 = .ok (.imul, 1) := by decide +kernel
theorem dX5_ends_127 : decode cX5_ends 127 = .ok (.sipush 255, 3) := by decide +kernel
theorem dX5_ends_130 : decode cX5_ends 130 = .ok (.iload 11, 2) := by decide +kernel
theorem dX5_ends_132 : decode cX5_ends 132 = .ok (.iload 10, 2) := by decide +kernel
theorem dX5_ends_134 : decode cX5_ends 134 = .ok (.isub, 1) := by decide +kernel
theorem dX5_ends_135 : decode cX5_ends 135 = .ok (.imul, 1) := by decide +kernel
theorem dX5_ends_136 : decode cX5_ends 136 = .ok (.isub, 1) := by decide +kernel
theorem dX5_ends_137 : decode cX5_ends 137 = .ok (.ineg, 1) := by decide +kernel
theorem dX5_ends_138 : decode cX5_ends 138 = .ok (.iload 10, 2) := by decide +kernel
theorem dX5_ends_140 : decode cX5_ends 140 = .ok (.invokestatic 93, 3) := by decide +kernel
theorem dX5_ends_143 : decode cX5_ends 143 = .ok (.ineg, 1) := by decide +kernel
theorem dX5_ends_144 : decode cX5_ends 144 = .ok (.istore 13, 2) := by decide +kernel
theorem dX5_ends_146 : decode cX5_ends 146 = .ok (.iload 12, 2) := by decide +kernel
theorem dX5_ends_148 : decode cX5_ends 148 = .ok (.iconst 1, 1) := by decide +kernel
theorem dX5_ends_149 : decode cX5_ends 149 = .ok (.iadd, 1) := by decide +kernel
theorem dX5_ends_150 : decode cX5_ends 150 = .ok (.iload 11, 2) := by decide +kernel
theorem dX5_ends_152 : decode cX5_ends 152 = .ok (.imul, 1) := by decide +kernel
theorem dX5_ends_153 : decode cX5_ends 153 = .ok (.iconst 1, 1) := by decide +kernel
theorem dX5_ends_154 : decode cX5_ends 154 = .ok (.isub, 1) := by decide +kernel
theorem dX5_ends_155 : decode cX5_ends 155 = .ok (.iload 10, 2) := by decide +kernel
theorem dX5_ends_157 : decode cX5_ends 157 = .ok (.idiv, 1) := by decide +kernel
theorem dX5_ends_158 : decode cX5_ends 158 = .ok (.istore 14, 2) := by decide +kernel
theorem dX5_ends_160 : decode cX5_ends 160 = .ok (.iload 13, 2) := by decide +kernel
theorem dX5_ends_162 : decode cX5_ends 162 = .ok (.iload 6, 2) := by decide +kernel
theorem dX5_ends_164 : decode cX5_ends 164 = .ok (.if_icmp .le 7, 3) := by decide +kernel
theorem dX5_ends_167 : decode cX5_ends 167 = .ok (.iload 13, 2) := by decide +kernel
theorem dX5_ends_169 : decode cX5_ends 169 = .ok (.istore 6, 2) := by decide +kernel
theorem dX5_ends_171 : decode cX5_ends 171 = .ok (.iload 14, 2) := by decide +kernel
theorem dX5_ends_173 : decode cX5_ends 173 = .ok (.iload 7, 2) := by decide +kernel
theorem dX5_ends_175 : decode cX5_ends 175 = .ok (.if_icmp .ge 7, 3) := by decide +kernel
theorem dX5_ends_178 : decode cX5_ends 178 = .ok (.iload 14, 2) := by decide +kernel
theorem dX5_ends_180 : decode cX5_ends 180 = .ok (.istore 7, 2) := by decide +kernel
theorem dX5_ends_182 : decode cX5_ends 182 = .ok (.iinc 8 1, 3) := by decide +kernel
theorem dX5_ends_185 : decode cX5_ends 185 = .ok (.goto (-141), 3) := by decide +kernel
theorem dX5_ends_188 : decode cX5_ends 188 = .ok (.iload 5, 2) := by decide +kernel
theorem dX5_ends_190 : decode cX5_ends 190 = .ok (.ifCond .eq 8, 3) := by decide +kernel
theorem dX5_ends_193 : decode cX5_ends 193 = .ok (.iload 7, 2) := by decide +kernel
theorem dX5_ends_195 : decode cX5_ends 195 = .ok (.goto 5, 3) := by decide +kernel
theorem dX5_ends_198 : decode cX5_ends 198 = .ok (.iload 6, 2) := by decide +kernel
theorem dX5_ends_200 : decode cX5_ends 200 = .ok (.ireturn, 1) := by decide +kernel
abbrev cX5_width : ByteArray := prog_22_method_31_code
def yX5_width : MethodName := ⟨RX5, "width", "(IIIII)I"⟩
theorem dX5_width_0 : decode cX5_width 0 = .ok (.iload_n 1, 1) := by decide +kernel
theorem dX5_width_1 : decode cX5_width 1 = .ok (.invokestatic 111, 3) := by decide +kernel
theorem dX5_width_4 : decode cX5_width 4 = .ok (.ifCond .eq 28, 3) := by decide +kernel
theorem dX5_width_7 : decode cX5_width 7 = .ok (.iload_n 2, 1) := by decide +kernel
theorem dX5_width_8 : decode cX5_width 8 = .ok (.invokestatic 111, 3) := by decide +kernel
theorem dX5_width_11 : decode cX5_width 11 = .ok (.ifCond .eq 21, 3) := by decide +kernel
theorem dX5_width_14 : decode cX5_width 14 = .ok (.aload_n 0, 1) := by decide +kernel
theorem dX5_width_15 : decode cX5_width 15 = .ok (.iload_n 3, 1) := by decide +kernel
theorem dX5_width_16 : decode cX5_width 16 = .ok (.iload 4, 2) := by decide +kernel
theorem dX5_width_18 : decode cX5_width 18 = .ok (.invokevirtual 107, 3) := by decide +kernel
theorem dX5_width_21 : decode cX5_width 21 = .ok (.ifCond .eq 11, 3) := by decide +kernel
theorem dX5_width_24 : decode cX5_width 24 = .ok (.iload 5, 2) := by decide +kernel
theorem dX5_width_26 : decode cX5_width 26 = .ok (.invokestatic 111, 3) := by decide +kernel
theorem dX5_width_29 : decode cX5_width 29 = .ok (.ifCond .ne 5, 3) := by decide +kernel
theorem dX5_width_32 : decode cX5_width 32 = .ok (.iconst (-1), 1) := by decide +kernel
theorem dX5_width_33 : decode cX5_width 33 = .ok (.ireturn, 1) := by decide +kernel
theorem dX5_width_34 : decode cX5_width 34 = .ok (.aload_n 0, 1) := by decide +kernel
theorem dX5_width_35 : decode cX5_width 35 = .ok (.iload_n 3, 1) := by decide +kernel
theorem dX5_width_36 : decode cX5_width 36 = .ok (.iload 4, 2) := by decide +kernel
theorem dX5_width_38 : decode cX5_width 38 = .ok (.iconst 0, 1) := by decide +kernel
theorem dX5_width_39 : decode cX5_width 39 = .ok (.invokevirtual 124, 3) := by decide +kernel
theorem dX5_width_42 : decode cX5_width 42 = .ok (.iconst 0, 1) := by decide +kernel
theorem dX5_width_43 : decode cX5_width 43 = .ok (.istore 6, 2) := by decide +kernel
theorem dX5_width_45 : decode cX5_width 45 = .ok (.iconst (-1), 1) := by decide +kernel
theorem dX5_width_46 : decode cX5_width 46 = .ok (.istore 7, 2) := by decide +kernel
theorem dX5_width_48 : decode cX5_width 48 = .ok (.iconst 0, 1) := by decide +kernel
theorem dX5_width_49 : decode cX5_width 49 = .ok (.istore 8, 2) := by decide +kernel
theorem dX5_width_51 : decode cX5_width 51 = .ok (.iload 8, 2) := by decide +kernel
theorem dX5_width_53 : decode cX5_width 53 = .ok (.bipush 8, 2) := by decide +kernel
theorem dX5_width_55 : decode cX5_width 55 = .ok (.if_icmp .ge 51, 3) := by decide +kernel
theorem dX5_width_58 : decode cX5_width 58 = .ok (.aload_n 0, 1) := by decide +kernel
theorem dX5_width_59 : decode cX5_width 59 = .ok (.iload_n 1, 1) := by decide +kernel
theorem dX5_width_60 : decode cX5_width 60 = .ok (.iload 8, 2) := by decide +kernel
theorem dX5_width_62 : decode cX5_width 62 = .ok (.iload 5, 2) := by decide +kernel
theorem dX5_width_64 : decode cX5_width 64 = .ok (.invokevirtual 120, 3) := by decide +kernel
theorem dX5_width_67 : decode cX5_width 67 = .ok (.aload_n 0, 1) := by decide +kernel
theorem dX5_width_68 : decode cX5_width 68 = .ok (.iload_n 2, 1) := by decide +kernel
theorem dX5_width_69 : decode cX5_width 69 = .ok (.iload 8, 2) := by decide +kernel
theorem dX5_width_71 : decode cX5_width 71 = .ok (.iload 5, 2) := by decide +kernel
theorem dX5_width_73 : decode cX5_width 73 = .ok (.invokevirtual 120, 3) := by decide +kernel
theorem dX5_width_76 : decode cX5_width 76 = .ok (.isub, 1) := by decide +kernel
theorem dX5_width_77 : decode cX5_width 77 = .ok (.invokestatic 117, 3) := by decide +kernel
theorem dX5_width_80 : decode cX5_width 80 = .ok (.istore 9, 2) := by decide +kernel
theorem dX5_width_82 : decode cX5_width 82 = .ok (.iload 9, 2) := by decide +kernel
theorem dX5_width_84 : decode cX5_width 84 = .ok (.iload 7, 2) := by decide +kernel
theorem dX5_width_86 : decode cX5_width 86 = .ok (.if_icmp .gt 6, 3) := by decide +kernel
theorem dX5_width_89 : decode cX5_width 89 = .ok (.goto 11, 3) := by decide +kernel
theorem dX5_width_92 : decode cX5_width 92 = .ok (.iload 8, 2) := by decide +kernel
theorem dX5_width_94 : decode cX5_width 94 = .ok (.istore 6, 2) := by decide +kernel
theorem dX5_width_96 : decode cX5_width 96 = .ok (.iload 9, 2) := by decide +kernel
theorem dX5_width_98 : decode cX5_width 98 = .ok (.istore 7, 2) := by decide +kernel
theorem dX5_width_100 : decode cX5_width 100 = .ok (.iinc 8 1, 3) := by decide +kernel
theorem dX5_width_103 : decode cX5_width 103 = .ok (.goto (-52), 3) := by decide +kernel
theorem dX5_width_106 : decode cX5_width 106 = .ok (.iload 6, 2) := by decide +kernel
theorem dX5_width_108 : decode cX5_width 108 = .ok (.ireturn, 1) := by decide +kernel
abbrev cX5_same : ByteArray := prog_22_method_32_code
def yX5_same : MethodName := ⟨RX5, "same", "(IIIIII)I"⟩
theorem dX5_same_0 : decode cX5_same 0 = .ok (.iload_n 1, 1) := by decide +kernel
theorem dX5_same_1 : decode cX5_same 1 = .ok (.iconst 0, 1) := by decide +kernel
theorem dX5_same_2 : decode cX5_same 2 = .ok (.aload_n 0, 1) := by decide +kernel
theorem dX5_same_3 : decode cX5_same 3 = .ok (.getfield 7, 3) := by decide +kernel
theorem dX5_same_6 : decode cX5_same 6 = .ok (.iconst 0, 1) := by decide +kernel
theorem dX5_same_7 : decode cX5_same 7 = .ok (.iaload, 1) := by decide +kernel
theorem dX5_same_8 : decode cX5_same 8 = .ok (.iconst 1, 1) := by decide +kernel
theorem dX5_same_9 : decode cX5_same 9 = .ok (.isub, 1) := by decide +kernel
theorem dX5_same_10 : decode cX5_same 10 = .ok (.invokestatic 71, 3) := by decide +kernel
theorem dX5_same_13 : decode cX5_same 13 = .ok (.ifCond .eq 44, 3) := by decide +kernel
theorem dX5_same_16 : decode cX5_same 16 = .ok (.aload_n 0, 1) := by decide +kernel
theorem dX5_same_17 : decode cX5_same 17 = .ok (.iload 4, 2) := by decide +kernel
theorem dX5_same_19 : decode cX5_same 19 = .ok (.iload 5, 2) := by decide +kernel
theorem dX5_same_21 : decode cX5_same 21 = .ok (.invokevirtual 107, 3) := by decide +kernel
theorem dX5_same_24 : decode cX5_same 24 = .ok (.ifCond .eq 33, 3) := by decide +kernel
theorem dX5_same_27 : decode cX5_same 27 = .ok (.iload 6, 2) := by decide +kernel
theorem dX5_same_29 : decode cX5_same 29 = .ok (.invokestatic 111, 3) := by decide +kernel
theorem dX5_same_32 : decode cX5_same 32 = .ok (.ifCond .eq 25, 3) := by decide +kernel
theorem dX5_same_35 : decode cX5_same 35 = .ok (.iload_n 2, 1) := by decide +kernel
theorem dX5_same_36 : decode cX5_same 36 = .ok (.bipush (-23), 2) := by decide +kernel
theorem dX5_same_38 : decode cX5_same 38 = .ok (.bipush 23, 2) := by decide +kernel
theorem dX5_same_40 : decode cX5_same 40 = .ok (.invokestatic 71, 3) := by decide +kernel
theorem dX5_same_43 : decode cX5_same 43 = .ok (.ifCond .eq 14, 3) := by decide +kernel
theorem dX5_same_46 : decode cX5_same 46 = .ok (.iload_n 3, 1) := by decide +kernel
theorem dX5_same_47 : decode cX5_same 47 = .ok (.bipush (-23), 2) := by decide +kernel
theorem dX5_same_49 : decode cX5_same 49 = .ok (.bipush 23, 2) := by decide +kernel
theorem dX5_same_51 : decode cX5_same 51 = .ok (.invokestatic 71, 3) := by decide +kernel
theorem dX5_same_54 : decode cX5_same 54 = .ok (.ifCond .ne 5, 3) := by decide +kernel
theorem dX5_same_57 : decode cX5_same 57 = .ok (.iconst (-1), 1) := by decide +kernel
theorem dX5_same_58 : decode cX5_same 58 = .ok (.ireturn, 1) := by decide +kernel
theorem dX5_same_59 : decode cX5_same 59 = .ok (.aload_n 0, 1) := by decide +kernel
theorem dX5_same_60 : decode cX5_same 60 = .ok (.getfield 7, 3) := by decide +kernel
theorem dX5_same_63 : decode cX5_same 63 = .ok (.sipush 590, 3) := by decide +kernel
theorem dX5_same_66 : decode cX5_same 66 = .ok (.iconst 4, 1) := by decide +kernel
theorem dX5_same_67 : decode cX5_same 67 = .ok (.iload_n 1, 1) := by decide +kernel
theorem dX5_same_68 : decode cX5_same 68 = .ok (.imul, 1) := by decide +kernel
theorem dX5_same_69 : decode cX5_same 69 = .ok (.iadd, 1) := by decide +kernel
theorem dX5_same_70 : decode cX5_same 70 = .ok (.iaload, 1) := by decide +kernel
theorem dX5_same_71 : decode cX5_same 71 = .ok (.istore 7, 2) := by decide +kernel
theorem dX5_same_73 : decode cX5_same 73 = .ok (.iload 7, 2) := by decide +kernel
theorem dX5_same_75 : decode cX5_same 75 = .ok (.aload_n 0, 1) := by decide +kernel
theorem dX5_same_76 : decode cX5_same 76 = .ok (.getfield 61, 3) := by decide +kernel
theorem dX5_same_79 : decode cX5_same 79 = .ok (.irem, 1) := by decide +kernel
theorem dX5_same_80 : decode cX5_same 80 = .ok (.iload_n 2, 1) := by decide +kernel
theorem dX5_same_81 : decode cX5_same 81 = .ok (.iadd, 1) := by decide +kernel
theorem dX5_same_82 : decode cX5_same 82 = .ok (.istore 8, 2) := by decide +kernel
theorem dX5_same_84 : decode cX5_same 84 = .ok (.iload 7, 2) := by decide +kernel
theorem dX5_same_86 : decode cX5_same 86 = .ok (.aload_n 0, 1) := by decide +kernel
theorem dX5_same_87 : decode cX5_same 87 = .ok (.getfield 61, 3) := by decide +kernel
theorem dX5_same_90 : decode cX5_same 90 = .ok (.idiv, 1) := by decide +kernel
theorem dX5_same_91 : decode cX5_same 91 = .ok (.iload_n 3, 1) := by decide +kernel
theorem dX5_same_92 : decode cX5_same 92 = .ok (.iadd, 1) := by decide +kernel
theorem dX5_same_93 : decode cX5_same 93 = .ok (.istore 9, 2) := by decide +kernel
theorem dX5_same_95 : decode cX5_same 95 = .ok (.iload 8, 2) := by decide +kernel
theorem dX5_same_97 : decode cX5_same 97 = .ok (.iconst 0, 1) := by decide +kernel
theorem dX5_same_98 : decode cX5_same 98 = .ok (.aload_n 0, 1) := by decide +kernel
theorem dX5_same_99 : decode cX5_same 99 = .ok (.getfield 61, 3) := by decide +kernel
theorem dX5_same_102 : decode cX5_same 102 = .ok (.iconst 1, 1) := by decide +kernel
theorem dX5_same_103 : decode cX5_same 103 = .ok (.isub, 1) := by decide +kernel
theorem dX5_same_104 : decode cX5_same 104 = .ok (.invokestatic 71, 3) := by decide +kernel
theorem dX5_same_107 : decode cX5_same 107 = .ok (.ifCond .eq 18, 3) := by decide +kernel
theorem dX5_same_110 : decode cX5_same 110 = .ok (.iload 9, 2) := by decide +kernel
theorem dX5_same_112 : decode cX5_same 112 = .ok (.iconst 0, 1) := by decide +kernel
theorem dX5_same_113 : decode cX5_same 113 = .ok (.aload_n 0, 1) := by decide +kernel
theorem dX5_same_114 : decode cX5_same 114 = .ok (.getfield 64, 3) := by decide +kernel
theorem dX5_same_117 : decode cX5_same 117 = .ok (.iconst 1, 1) := by decide +kernel
theorem dX5_same_118 : decode cX5_same 118 = .ok (.isub, 1) := by decide +kernel
theorem dX5_same_119 : decode cX5_same 119 = .ok (.invokestatic 71, 3) := by decide +kernel
theorem dX5_same_122 : decode cX5_same 122 = .ok (.ifCond .ne 5, 3) := by decide +kernel
theorem dX5_same_125 : decode cX5_same 125 = .ok (.iconst (-1), 1) := by decide +kernel
theorem dX5_same_126 : decode cX5_same 126 = .ok (.ireturn, 1) := by decide +kernel
theorem dX5_same_127 : decode cX5_same 127 = .ok (.aload_n 0, 1) := by decide +kernel
theorem dX5_same_128 : decode cX5_same 128 = .ok (.iload 4, 2) := by decide +kernel
theorem dX5_same_130 : decode cX5_same 130 = .ok (.iload 5, 2) := by decide +kernel
theorem dX5_same_132 : decode cX5_same 132 = .ok (.iconst 0, 1) := by decide +kernel
theorem dX5_same_133 : decode cX5_same 133 = .ok (.invokevirtual 124, 3) := by decide +kernel
theorem dX5_same_136 : decode cX5_same 136 = .ok (.iconst 0, 1) := by decide +kernel
theorem dX5_same_137 : decode cX5_same 137 = .ok (.istore 10, 2) := by decide +kernel
theorem dX5_same_139 : decode cX5_same 139 = .ok (.iload 10, 2) := by decide +kernel
theorem dX5_same_141 : decode cX5_same 141 = .ok (.aload_n 0, 1) := by decide +kernel
theorem dX5_same_142 : decode cX5_same 142 = .ok (.getfield 7, 3) := by decide +kernel
theorem dX5_same_145 : decode cX5_same 145 = .ok (.iconst 1, 1) := by decide +kernel
theorem dX5_same_146 : decode cX5_same 146 = .ok (.iaload, 1) := by decide +kernel
theorem dX5_same_147 : decode cX5_same 147 = .ok (.if_icmp .ge 24, 3) := by decide +kernel
theorem dX5_same_150 : decode cX5_same 150 = .ok (.aload_n 0, 1) := by decide +kernel
theorem dX5_same_151 : decode cX5_same 151 = .ok (.getfield 28, 3) := by decide +kernel
theorem dX5_same_154 : decode cX5_same 154 = .ok (.iload 10, 2) := by decide +kernel
theorem dX5_same_156 : decode cX5_same 156 = .ok (.aload_n 0, 1) := by decide +kernel
theorem dX5_same_157 : decode cX5_same 157 = .ok (.iload 10, 2) := by decide +kernel
theorem dX5_same_159 : decode cX5_same 159 = .ok (.iload 6, 2) := by decide +kernel
theorem dX5_same_161 : decode cX5_same 161 = .ok (.invokevirtual 127, 3) := by decide +kernel
theorem dX5_same_164 : decode cX5_same 164 = .ok (.iastore, 1) := by decide +kernel
theorem dX5_same_165 : decode cX5_same 165 = .ok (.iinc 10 1, 3) := by decide +kernel
theorem dX5_same_168 : decode cX5_same 168 = .ok (.goto (-29), 3) := by decide +kernel
theorem dX5_same_171 : decode cX5_same 171 = .ok (.aload_n 0, 1) := by decide +kernel
theorem dX5_same_172 : decode cX5_same 172 = .ok (.getfield 7, 3) := by decide +kernel
theorem dX5_same_175 : decode cX5_same 175 = .ok (.sipush 590, 3) := by decide +kernel
theorem dX5_same_178 : decode cX5_same 178 = .ok (.iconst 4, 1) := by decide +kernel
theorem dX5_same_179 : decode cX5_same 179 = .ok (.iload_n 1, 1) := by decide +kernel
theorem dX5_same_180 : decode cX5_same 180 = .ok (.imul, 1) := by decide +kernel
theorem dX5_same_181 : decode cX5_same 181 = .ok (.iadd, 1) := by decide +kernel
theorem dX5_same_182 : decode cX5_same 182 = .ok (.iload 9, 2) := by decide +kernel
theorem dX5_same_184 : decode cX5_same 184 = .ok (.aload_n 0, 1) := by decide +kernel
theorem dX5_same_185 : decode cX5_same 185 = .ok (.getfield 61, 3) := by decide +kernel
theorem dX5_same_188 : decode cX5_same 188 = .ok (.imul, 1) := by decide +kernel
theorem dX5_same_189 : decode cX5_same 189 = .ok (.iload 8, 2) := by decide +kernel
theorem dX5_same_191 : decode cX5_same 191 = .ok (.iadd, 1) := by decide +kernel
theorem dX5_same_192 : decode cX5_same 192 = .ok (.iastore, 1) := by decide +kernel
theorem dX5_same_193 : decode cX5_same 193 = .ok (.aload_n 0, 1) := by decide +kernel
theorem dX5_same_194 : decode cX5_same 194 = .ok (.iload 4, 2) := by decide +kernel
theorem dX5_same_196 : decode cX5_same 196 = .ok (.iload 5, 2) := by decide +kernel
theorem dX5_same_198 : decode cX5_same 198 = .ok (.iconst 0, 1) := by decide +kernel
theorem dX5_same_199 : decode cX5_same 199 = .ok (.invokevirtual 124, 3) := by decide +kernel
theorem dX5_same_202 : decode cX5_same 202 = .ok (.iconst 1, 1) := by decide +kernel
theorem dX5_same_203 : decode cX5_same 203 = .ok (.istore 10, 2) := by decide +kernel
theorem dX5_same_205 : decode cX5_same 205 = .ok (.iconst 0, 1) := by decide +kernel
theorem dX5_same_206 : decode cX5_same 206 = .ok (.istore 11, 2) := by decide +kernel
theorem dX5_same_208 : decode cX5_same 208 = .ok (.iload 11, 2) := by decide +kernel
theorem dX5_same_210 : decode cX5_same 210 = .ok (.aload_n 0, 1) := by decide +kernel
theorem dX5_same_211 : decode cX5_same 211 = .ok (.getfield 7, 3) := by decide +kernel
theorem dX5_same_214 : decode cX5_same 214 = .ok (.iconst 1, 1) := by decide +kernel
theorem dX5_same_215 : decode cX5_same 215 = .ok (.iaload, 1) := by decide +kernel
theorem dX5_same_216 : decode cX5_same 216 = .ok (.if_icmp .ge 39, 3) := by decide +kernel
theorem dX5_same_219 : decode cX5_same 219 = .ok (.iload 10, 2) := by decide +kernel
theorem dX5_same_221 : decode cX5_same 221 = .ok (.ifCond .eq 25, 3) := by decide +kernel
theorem dX5_same_224 : decode cX5_same 224 = .ok (.aload_n 0, 1) := by decide +kernel
theorem dX5_same_225 : decode cX5_same 225 = .ok (.iload 11, 2) := by decide +kernel
theorem dX5_same_227 : decode cX5_same 227 = .ok (.iload 6, 2) := by decide +kernel
theorem dX5_same_229 : decode cX5_same 229 = .ok (.invokevirtual 127, 3) := by decide +kernel
theorem dX5_same_232 : decode cX5_same 232 = .ok (.aload_n 0, 1) := by decide +kernel
theorem dX5_same_233 : decode cX5_same 233 = .ok (.getfield 28, 3) := by decide +kernel
theorem dX5_same_236 : decode cX5_same 236 = .ok (.iload 11, 2) := by decide +kernel
theorem dX5_same_238 : decode cX5_same 238 = .ok (.iaload, 1) := by decide +kernel
theorem dX5_same_239 : decode cX5_same 239 = .ok (.if_icmp .ne 7, 3) := by decide +kernel
theorem dX5_same_242 : decode cX5_same 242 = .ok (.iconst 1, 1) := by decide +kernel
theorem dX5_same_243 : decode cX5_same 243 = .ok (.goto 4, 3) := by decide +kernel
theorem dX5_same_246 : decode cX5_same 246 = .ok (.iconst 0, 1) := by decide +kernel
theorem dX5_same_247 : decode cX5_same 247 = .ok (.istore 10, 2) := by decide +kernel
theorem dX5_same_249 : decode cX5_same 249 = .ok (.iinc 11 1, 3) := by decide +kernel
theorem dX5_same_252 : decode cX5_same 252 = .ok (.goto (-44), 3) := by decide +kernel
theorem dX5_same_255 : decode cX5_same 255 = .ok (.aload_n 0, 1) := by decide +kernel
theorem dX5_same_256 : decode cX5_same 256 = .ok (.getfield 7, 3) := by decide +kernel
theorem dX5_same_259 : decode cX5_same 259 = .ok (.sipush 590, 3) := by decide +kernel
theorem dX5_same_262 : decode cX5_same 262 = .ok (.iconst 4, 1) := by decide +kernel
theorem dX5_same_263 : decode cX5_same 263 = .ok (.iload_n 1, 1) := by decide +kernel
theorem dX5_same_264 : decode cX5_same 264 = .ok (.imul, 1) := by decide +kernel
theorem dX5_same_265 : decode cX5_same 265 = .ok (.iadd, 1) := by decide +kernel
theorem dX5_same_266 : decode cX5_same 266 = .ok (.iload 7, 2) := by decide +kernel
theorem dX5_same_268 : decode cX5_same 268 = .ok (.iastore, 1) := by decide +kernel
theorem dX5_same_269 : decode cX5_same 269 = .ok (.iload 10, 2) := by decide +kernel
theorem dX5_same_271 : decode cX5_same 271 = .ok (.ifCond .eq 7, 3) := by decide +kernel
theorem dX5_same_274 : decode cX5_same 274 = .ok (.iconst 1, 1) := by decide +kernel
theorem dX5_same_275 : decode cX5_same 275 = .ok (.goto 4, 3) := by decide +kernel
theorem dX5_same_278 : decode cX5_same 278 = .ok (.iconst 0, 1) := by decide +kernel
theorem dX5_same_279 : decode cX5_same 279 = .ok (.ireturn, 1) := by decide +kernel
abbrev cX5_feed : ByteArray := prog_22_method_34_code
def yX5_feed : MethodName := ⟨RX5, "feed", "(IIIII)I"⟩
theorem dX5_feed_0 : decode cX5_feed 0 = .ok (.aload_n 0, 1) := by decide +kernel
theorem dX5_feed_1 : decode cX5_feed 1 = .ok (.getfield 136, 3) := by decide +kernel
theorem dX5_feed_4 : decode cX5_feed 4 = .ok (.bipush 20, 2) := by decide +kernel
theorem dX5_feed_6 : decode cX5_feed 6 = .ok (.iadd, 1) := by decide +kernel
theorem dX5_feed_7 : decode cX5_feed 7 = .ok (.sipush 300, 3) := by decide +kernel
theorem dX5_feed_10 : decode cX5_feed 10 = .ok (.if_icmp .le 5, 3) := by decide +kernel
theorem dX5_feed_13 : decode cX5_feed 13 = .ok (.iconst (-1), 1) := by decide +kernel
theorem dX5_feed_14 : decode cX5_feed 14 = .ok (.ireturn, 1) := by decide +kernel
theorem dX5_feed_15 : decode cX5_feed 15 = .ok (.aload_n 0, 1) := by decide +kernel
theorem dX5_feed_16 : decode cX5_feed 16 = .ok (.iload_n 1, 1) := by decide +kernel
theorem dX5_feed_17 : decode cX5_feed 17 = .ok (.invokevirtual 139, 3) := by decide +kernel
theorem dX5_feed_20 : decode cX5_feed 20 = .ok (.aload_n 0, 1) := by decide +kernel
theorem dX5_feed_21 : decode cX5_feed 21 = .ok (.iload_n 2, 1) := by decide +kernel
theorem dX5_feed_22 : decode cX5_feed 22 = .ok (.invokevirtual 139, 3) := by decide +kernel
theorem dX5_feed_25 : decode cX5_feed 25 = .ok (.aload_n 0, 1) := by decide +kernel
theorem dX5_feed_26 : decode cX5_feed 26 = .ok (.iload_n 3, 1) := by decide +kernel
theorem dX5_feed_27 : decode cX5_feed 27 = .ok (.invokevirtual 139, 3) := by decide +kernel
theorem dX5_feed_30 : decode cX5_feed 30 = .ok (.aload_n 0, 1) := by decide +kernel
theorem dX5_feed_31 : decode cX5_feed 31 = .ok (.iload 4, 2) := by decide +kernel
theorem dX5_feed_33 : decode cX5_feed 33 = .ok (.invokevirtual 139, 3) := by decide +kernel
theorem dX5_feed_36 : decode cX5_feed 36 = .ok (.aload_n 0, 1) := by decide +kernel
theorem dX5_feed_37 : decode cX5_feed 37 = .ok (.iload 5, 2) := by decide +kernel
theorem dX5_feed_39 : decode cX5_feed 39 = .ok (.invokevirtual 139, 3) := by decide +kernel
theorem dX5_feed_42 : decode cX5_feed 42 = .ok (.aload_n 0, 1) := by decide +kernel
theorem dX5_feed_43 : decode cX5_feed 43 = .ok (.getfield 136, 3) := by decide +kernel
theorem dX5_feed_46 : decode cX5_feed 46 = .ok (.ireturn, 1) := by decide +kernel
abbrev cX5_four : ByteArray := prog_22_method_33_code
def yX5_four : MethodName := ⟨RX5, "four", "(I)V"⟩
theorem dX5_four_0 : decode cX5_four 0 = .ok (.bipush 24, 2) := by decide +kernel
theorem dX5_four_2 : decode cX5_four 2 = .ok (.istore_n 2, 1) := by decide +kernel
theorem dX5_four_3 : decode cX5_four 3 = .ok (.iload_n 2, 1) := by decide +kernel
theorem dX5_four_4 : decode cX5_four 4 = .ok (.ifCond .lt 35, 3) := by decide +kernel
theorem dX5_four_7 : decode cX5_four 7 = .ok (.aload_n 0, 1) := by decide +kernel
theorem dX5_four_8 : decode cX5_four 8 = .ok (.getfield 31, 3) := by decide +kernel
theorem dX5_four_11 : decode cX5_four 11 = .ok (.aload_n 0, 1) := by decide +kernel
theorem dX5_four_12 : decode cX5_four 12 = .ok (.getfield 136, 3) := by decide +kernel
theorem dX5_four_15 : decode cX5_four 15 = .ok (.iload_n 1, 1) := by decide +kernel
theorem dX5_four_16 : decode cX5_four 16 = .ok (.iload_n 2, 1) := by decide +kernel
theorem dX5_four_17 : decode cX5_four 17 = .ok (.ishr, 1) := by decide +kernel
theorem dX5_four_18 : decode cX5_four 18 = .ok (.sipush 255, 3) := by decide +kernel
theorem dX5_four_21 : decode cX5_four 21 = .ok (.iand, 1) := by decide +kernel
theorem dX5_four_22 : decode cX5_four 22 = .ok (.iastore, 1) := by decide +kernel
theorem dX5_four_23 : decode cX5_four 23 = .ok (.aload_n 0, 1) := by decide +kernel
theorem dX5_four_24 : decode cX5_four 24 = .ok (.dup, 1) := by decide +kernel
theorem dX5_four_25 : decode cX5_four 25 = .ok (.getfield 136, 3) := by decide +kernel
theorem dX5_four_28 : decode cX5_four 28 = .ok (.iconst 1, 1) := by decide +kernel
theorem dX5_four_29 : decode cX5_four 29 = .ok (.iadd, 1) := by decide +kernel
theorem dX5_four_30 : decode cX5_four 30 = .ok (.putfield 136, 3) := by decide +kernel
theorem dX5_four_33 : decode cX5_four 33 = .ok (.iinc 2 (-8), 3) := by decide +kernel
theorem dX5_four_36 : decode cX5_four 36 = .ok (.goto (-33), 3) := by decide +kernel
theorem dX5_four_39 : decode cX5_four 39 = .ok (.return_, 1) := by decide +kernel
abbrev cX5_end : ByteArray := prog_22_method_35_code
def yX5_end : MethodName := ⟨RX5, "end", "(I)I"⟩
theorem dX5_end_0 : decode cX5_end 0 = .ok (.iload_n 1, 1) := by decide +kernel
theorem dX5_end_1 : decode cX5_end 1 = .ok (.iconst 0, 1) := by decide +kernel
theorem dX5_end_2 : decode cX5_end 2 = .ok (.aload_n 0, 1) := by decide +kernel
theorem dX5_end_3 : decode cX5_end 3 = .ok (.getfield 136, 3) := by decide +kernel
theorem dX5_end_6 : decode cX5_end 6 = .ok (.invokestatic 71, 3) := by decide +kernel
theorem dX5_end_9 : decode cX5_end 9 = .ok (.ifCond .ne 5, 3) := by decide +kernel
theorem dX5_end_12 : decode cX5_end 12 = .ok (.iconst (-1), 1) := by decide +kernel
theorem dX5_end_13 : decode cX5_end 13 = .ok (.ireturn, 1) := by decide +kernel
theorem dX5_end_14 : decode cX5_end 14 = .ok (.aload_n 0, 1) := by decide +kernel
theorem dX5_end_15 : decode cX5_end 15 = .ok (.iload_n 1, 1) := by decide +kernel
theorem dX5_end_16 : decode cX5_end 16 = .ok (.putfield 136, 3) := by decide +kernel
theorem dX5_end_19 : decode cX5_end 19 = .ok (.iload_n 1, 1) := by decide +kernel
theorem dX5_end_20 : decode cX5_end 20 = .ok (.ireturn, 1) := by decide +kernel
abbrev cX5_rule : ByteArray := prog_22_method_62_code
def yX5_rule : MethodName := ⟨RX5, "rule", "()I"⟩
theorem dX5_rule_0 : decode cX5_rule 0 = .ok (.aload_n 0, 1) := by decide +kernel
theorem dX5_rule_1 : decode cX5_rule 1 = .ok (.getfield 7, 3) := by decide +kernel
theorem dX5_rule_4 : decode cX5_rule 4 = .ok (.iconst 3, 1) := by decide +kernel
theorem dX5_rule_5 : decode cX5_rule 5 = .ok (.iaload, 1) := by decide +kernel
theorem dX5_rule_6 : decode cX5_rule 6 = .ok (.bipush 8, 2) := by decide +kernel
theorem dX5_rule_8 : decode cX5_rule 8 = .ok (.if_icmp .ne 5, 3) := by decide +kernel
theorem dX5_rule_11 : decode cX5_rule 11 = .ok (.iconst (-1), 1) := by decide +kernel
theorem dX5_rule_12 : decode cX5_rule 12 = .ok (.ireturn, 1) := by decide +kernel
theorem dX5_rule_13 : decode cX5_rule 13 = .ok (.aload_n 0, 1) := by decide +kernel
theorem dX5_rule_14 : decode cX5_rule 14 = .ok (.aload_n 0, 1) := by decide +kernel
theorem dX5_rule_15 : decode cX5_rule 15 = .ok (.invokevirtual 271, 3) := by decide +kernel
theorem dX5_rule_18 : decode cX5_rule 18 = .ok (.putfield 34, 3) := by decide +kernel
theorem dX5_rule_21 : decode cX5_rule 21 = .ok (.aload_n 0, 1) := by decide +kernel
theorem dX5_rule_22 : decode cX5_rule 22 = .ok (.aload_n 0, 1) := by decide +kernel
theorem dX5_rule_23 : decode cX5_rule 23 = .ok (.getfield 34, 3) := by decide +kernel
theorem dX5_rule_26 : decode cX5_rule 26 = .ok (.ifCond .ne 7, 3) := by decide +kernel
theorem dX5_rule_29 : decode cX5_rule 29 = .ok (.iconst (-1), 1) := by decide +kernel
theorem dX5_rule_30 : decode cX5_rule 30 = .ok (.goto 7, 3) := by decide +kernel
theorem dX5_rule_33 : decode cX5_rule 33 = .ok (.aload_n 0, 1) := by decide +kernel
theorem dX5_rule_34 : decode cX5_rule 34 = .ok (.getfield 148, 3) := by decide +kernel
theorem dX5_rule_37 : decode cX5_rule 37 = .ok (.putfield 38, 3) := by decide +kernel
theorem dX5_rule_40 : decode cX5_rule 40 = .ok (.aload_n 0, 1) := by decide +kernel
theorem dX5_rule_41 : decode cX5_rule 41 = .ok (.iconst 0, 1) := by decide +kernel
theorem dX5_rule_42 : decode cX5_rule 42 = .ok (.putfield 136, 3) := by decide +kernel
theorem dX5_rule_45 : decode cX5_rule 45 = .ok (.aload_n 0, 1) := by decide +kernel
theorem dX5_rule_46 : decode cX5_rule 46 = .ok (.getfield 34, 3) := by decide +kernel
theorem dX5_rule_49 : decode cX5_rule 49 = .ok (.ifCond .eq 5, 3) := by decide +kernel
theorem dX5_rule_52 : decode cX5_rule 52 = .ok (.iconst (-1), 1) := by decide +kernel
theorem dX5_rule_53 : decode cX5_rule 53 = .ok (.ireturn, 1) := by decide +kernel
theorem dX5_rule_54 : decode cX5_rule 54 = .ok (.aload_n 0, 1) := by decide +kernel
theorem dX5_rule_55 : decode cX5_rule 55 = .ok (.getfield 16, 3) := by decide +kernel
theorem dX5_rule_58 : decode cX5_rule 58 = .ok (.aload_n 0, 1) := by decide +kernel
theorem dX5_rule_59 : decode cX5_rule 59 = .ok (.getfield 176, 3) := by decide +kernel
theorem dX5_rule_62 : decode cX5_rule 62 = .ok (.aload_n 0, 1) := by decide +kernel
theorem dX5_rule_63 : decode cX5_rule 63 = .ok (.getfield 262, 3) := by decide +kernel
theorem dX5_rule_66 : decode cX5_rule 66 = .ok (.iastore, 1) := by decide +kernel
theorem dX5_rule_67 : decode cX5_rule 67 = .ok (.aload_n 0, 1) := by decide +kernel
theorem dX5_rule_68 : decode cX5_rule 68 = .ok (.getfield 7, 3) := by decide +kernel
theorem dX5_rule_71 : decode cX5_rule 71 = .ok (.iconst 3, 1) := by decide +kernel
theorem dX5_rule_72 : decode cX5_rule 72 = .ok (.dup2, 1) := by decide +kernel
theorem dX5_rule_73 : decode cX5_rule 73 = .ok (.iaload, 1) := by decide +kernel
theorem dX5_rule_74 : decode cX5_rule 74 = .ok (.iconst 1, 1) := by decide +kernel
theorem dX5_rule_75 : decode cX5_rule 75 = .ok (.iadd, 1) := by decide +kernel
theorem dX5_rule_76 : decode cX5_rule 76 = .ok (.iastore, 1) := by decide +kernel
theorem dX5_rule_77 : decode cX5_rule 77 = .ok (.aload_n 0, 1) := by decide +kernel
theorem dX5_rule_78 : decode cX5_rule 78 = .ok (.getfield 7, 3) := by decide +kernel
theorem dX5_rule_81 : decode cX5_rule 81 = .ok (.iconst 3, 1) := by decide +kernel
theorem dX5_rule_82 : decode cX5_rule 82 = .ok (.iaload, 1) := by decide +kernel
theorem dX5_rule_83 : decode cX5_rule 83 = .ok (.iconst 1, 1) := by decide +kernel
theorem dX5_rule_84 : decode cX5_rule 84 = .ok (.isub, 1) := by decide +kernel
theorem dX5_rule_85 : decode cX5_rule 85 = .ok (.ireturn, 1) := by decide +kernel
abbrev cX5_readText : ByteArray := prog_22_method_61_code
def yX5_readText : MethodName := ⟨RX5, "readText", "()I"⟩
theorem dX5_readText_0 : decode cX5_readText 0 = .ok (.aload_n 0, 1) := by decide +kernel
theorem dX5_readText_1 : decode cX5_readText 1 = .ok (.sipush 800, 3) := by decide +kernel
theorem dX5_readText_4 : decode cX5_readText 4 = .ok (.aload_n 0, 1) := by decide +kernel
theorem dX5_readText_5 : decode cX5_readText 5 = .ok (.getfield 7, 3) := by decide +kernel
theorem dX5_readText_8 : decode cX5_readText 8 = .ok (.iconst 3, 1) := by decide +kernel
theorem dX5_readText_9 : decode cX5_readText 9 = .ok (.iaload, 1) := by decide +kernel
theorem dX5_readText_10 : decode cX5_readText 10 = .ok (.imul, 1) := by decide +kernel
theorem dX5_readText_11 : decode cX5_readText 11 = .ok (.putfield 176, 3) := by decide +kernel
theorem dX5_readText_14 : decode cX5_readText 14 = .ok (.aload_n 0, 1) := by decide +kernel
theorem dX5_readText_15 : decode cX5_readText 15 = .ok (.iconst 0, 1) := by decide +kernel
theorem dX5_readText_16 : decode cX5_readText 16 = .ok (.putfield 262, 3) := by decide +kernel
theorem dX5_readText_19 : decode cX5_readText 19 = .ok (.aload_n 0, 1) := by decide +kernel
theorem dX5_readText_20 : decode cX5_readText 20 = .ok (.iconst 0, 1) := by decide +kernel
theorem dX5_readText_21 : decode cX5_readText 21 = .ok (.putfield 179, 3) := by decide +kernel
theorem dX5_readText_24 : decode cX5_readText 24 = .ok (.aload_n 0, 1) := by decide +kernel
theorem dX5_readText_25 : decode cX5_readText 25 = .ok (.iconst 0, 1) := by decide +kernel
theorem dX5_readText_26 : decode cX5_readText 26 = .ok (.putfield 189, 3) := by decide +kernel
theorem dX5_readText_29 : decode cX5_readText 29 = .ok (.aload_n 0, 1) := by decide +kernel
theorem dX5_readText_30 : decode cX5_readText 30 = .ok (.iconst 0, 1) := by decide +kernel
theorem dX5_readText_31 : decode cX5_readText 31 = .ok (.putfield 259, 3) := by decide +kernel
theorem dX5_readText_34 : decode cX5_readText 34 = .ok (.aload_n 0, 1) := by decide +kernel
theorem dX5_readText_35 : decode cX5_readText 35 = .ok (.iconst 0, 1) := by decide +kernel
theorem dX5_readText_36 : decode cX5_readText 36 = .ok (.putfield 210, 3) := by decide +kernel
theorem dX5_readText_39 : decode cX5_readText 39 = .ok (.aload_n 0, 1) := by decide +kernel
theorem dX5_readText_40 : decode cX5_readText 40 = .ok (.iconst 0, 1) := by decide +kernel
theorem dX5_readText_41 : decode cX5_readText 41 = .ok (.putfield 142, 3) := by decide +kernel
theorem dX5_readText_44 : decode cX5_readText 44 = .ok (.aload_n 0, 1) := by decide +kernel
theorem dX5_readText_45 : decode cX5_readText 45 = .ok (.invokevirtual 200, 3) := by decide +kernel
theorem dX5_readText_48 : decode cX5_readText 48 = .ok (.aload_n 0, 1) := by decide +kernel
theorem dX5_readText_49 : decode cX5_readText 49 = .ok (.getfield 151, 3) := by decide +kernel
theorem dX5_readText_52 : decode cX5_readText 52 = .ok (.ifCond .eq 17, 3) := by decide +kernel
theorem dX5_readText_55 : decode cX5_readText 55 = .ok (.aload_n 0, 1) := by decide +kernel
theorem dX5_readText_56 : decode cX5_readText 56 = .ok (.invokevirtual 268, 3) := by decide +kernel
theorem dX5_readText_59 : decode cX5_readText 59 = .ok (.istore_n 1, 1) := by decide +kernel
theorem dX5_readText_60 : decode cX5_readText 60 = .ok (.iload_n 1, 1) := by decide +kernel
theorem dX5_readText_61 : decode cX5_readText 61 = .ok (.ifCond .eq 5, 3) := by decide +kernel
theorem dX5_readText_64 : decode cX5_readText 64 = .ok (.iload_n 1, 1) := by decide +kernel
theorem dX5_readText_65 : decode cX5_readText 65 = .ok (.ireturn, 1) := by decide +kernel
theorem dX5_readText_66 : decode cX5_readText 66 = .ok (.goto (-18), 3) := by decide +kernel
theorem dX5_readText_69 : decode cX5_readText 69 = .ok (.iconst 0, 1) := by decide +kernel
theorem dX5_readText_70 : decode cX5_readText 70 = .ok (.ireturn, 1) := by decide +kernel
abbrev cX5_nextToken : ByteArray := prog_22_method_39_code
def yX5_nextToken : MethodName := ⟨RX5, "nextToken", "()V"⟩
theorem dX5_nextToken_0 : decode cX5_nextToken 0 = .ok (.aload_n 0, 1) := by decide +kernel
theorem dX5_nextToken_1 : decode cX5_nextToken 1 = .ok (.aload_n 0, 1) := by decide +kernel
theorem dX5_nextToken_2 : decode cX5_nextToken 2 = .ok (.getfield 142, 3) := by decide +kernel
theorem dX5_nextToken_5 : decode cX5_nextToken 5 = .ok (.invokevirtual 145, 3) := by decide +kernel
theorem dX5_nextToken_8 : decode cX5_nextToken 8 = .ok (.bipush 32, 2) := by decide +kernel
theorem dX5_nextToken_10 : decode cX5_nextToken 10 = .ok (.if_icmp .eq 16, 3) := by decide +kernel
theorem dX5_nextToken_13 : decode cX5_nextToken 13 = .ok (.aload_n 0, 1) := by decide +kernel
theorem dX5_nextToken_14 : decode cX5_nextToken 14 = .ok (.aload_n 0, 1) := by decide +kernel
theorem dX5_nextToken_15 : decode cX5_nextToken 15 = .ok (.getfield 142, 3) := by decide +kernel
theorem dX5_nextToken_18 : decode cX5_nextToken 18 = .ok (.invokevirtual 145, 3) := by decide +kernel
theorem dX5_nextToken_21 : decode cX5_nextToken 21 = .ok (.bipush 10, 2) := by decide +kernel
theorem dX5_nextToken_23 : decode cX5_nextToken 23 = .ok (.if_icmp .ne 16, 3) := by decide +kernel
theorem dX5_nextToken_26 : decode cX5_nextToken 26 = .ok (.aload_n 0, 1) := by decide +kernel
theorem dX5_nextToken_27 : decode cX5_nextToken 27 = .ok (.dup, 1) := by decide +kernel
theorem dX5_nextToken_28 : decode cX5_nextToken 28 = .ok (.getfield 142, 3) := by decide +kernel
theorem dX5_nextToken_31 : decode cX5_nextToken 31 = .ok (.iconst 1, 1) := by decide +kernel
theorem dX5_nextToken_32 : decode cX5_nextToken 32 = .ok (.iadd, 1) := by decide +kernel
theorem dX5_nextToken_33 : decode cX5_nextToken 33 = .ok (.putfield 142, 3) := by decide +kernel
theorem dX5_nextToken_36 : decode cX5_nextToken 36 = .ok (.goto (-36), 3) := by decide +kernel
theorem dX5_nextToken_39 : decode cX5_nextToken 39 = .ok (.aload_n 0, 1) := by decide +kernel
theorem dX5_nextToken_40 : decode cX5_nextToken 40 = .ok (.aload_n 0, 1) := by decide +kernel
theorem dX5_nextToken_41 : decode cX5_nextToken 41 = .ok (.getfield 142, 3) := by decide +kernel
theorem dX5_nextToken_44 : decode cX5_nextToken 44 = .ok (.putfield 148, 3) := by decide +kernel
theorem dX5_nextToken_47 : decode cX5_nextToken 47 = .ok (.aload_n 0, 1) := by decide +kernel
theorem dX5_nextToken_48 : decode cX5_nextToken 48 = .ok (.aload_n 0, 1) := by decide +kernel
theorem dX5_nextToken_49 : decode cX5_nextToken 49 = .ok (.getfield 142, 3) := by decide +kernel
theorem dX5_nextToken_52 : decode cX5_nextToken 52 = .ok (.invokevirtual 145, 3) := by decide +kernel
theorem dX5_nextToken_55 : decode cX5_nextToken 55 = .ok (.istore_n 1, 1) := by decide +kernel
theorem dX5_nextToken_56 : decode cX5_nextToken 56 = .ok (.iload_n 1, 1) := by decide +kernel
theorem dX5_nextToken_57 : decode cX5_nextToken 57 = .ok (.ifCond .ge 11, 3) := by decide +kernel
theorem dX5_nextToken_60 : decode cX5_nextToken 60 = .ok (.aload_n 0, 1) := by decide +kernel
theorem dX5_nextToken_61 : decode cX5_nextToken 61 = .ok (.iconst 0, 1) := by decide +kernel
theorem dX5_nextToken_62 : decode cX5_nextToken 62 = .ok (.putfield 151, 3) := by decide +kernel
theorem dX5_nextToken_65 : decode cX5_nextToken 65 = .ok (.goto 331, 3) := by decide +kernel
theorem dX5_nextToken_68 : decode cX5_nextToken 68 = .ok (.iload_n 1, 1) := by decide +kernel
theorem dX5_nextToken_69 : decode cX5_nextToken 69 = .ok (.invokestatic 154, 3) := by decide +kernel
theorem dX5_nextToken_72 : decode cX5_nextToken 72 = .ok (.ifCond .eq 72, 3) := by decide +kernel
theorem dX5_nextToken_75 : decode cX5_nextToken 75 = .ok (.aload_n 0, 1) := by decide +kernel
theorem dX5_nextToken_76 : decode cX5_nextToken 76 = .ok (.iconst 1, 1) := by decide +kernel
theorem dX5_nextToken_77 : decode cX5_nextToken 77 = .ok (.putfield 151, 3) := by decide +kernel
theorem dX5_nextToken_80 : decode cX5_nextToken 80 = .ok (.aload_n 0, 1) := by decide +kernel
theorem dX5_nextToken_81 : decode cX5_nextToken 81 = .ok (.iconst 0, 1) := by decide +kernel
theorem dX5_nextToken_82 : decode cX5_nextToken 82 = .ok (.putfield 157, 3) := by decide +kernel
theorem dX5_nextToken_85 : decode cX5_nextToken 85 = .ok (.aload_n 0, 1) := by decide +kernel
theorem dX5_nextToken_86 : decode cX5_nextToken 86 = .ok (.aload_n 0, 1) := by decide +kernel
theorem dX5_nextToken_87 : decode cX5_nextToken 87 = .ok (.getfield 142, 3) := by decide +kernel
theorem dX5_nextToken_90 : decode cX5_nextToken 90 = .ok (.invokevirtual 145, 3) := by decide +kernel
theorem dX5_nextToken_93 : decode cX5_nextToken 93 = .ok (.invokestatic 154, 3) := by decide +kernel
theorem dX5_nextToken_96 : decode cX5_nextToken 96 = .ok (.ifCond .eq 300, 3) := by decide +kernel
theorem dX5_nextToken_99 : decode cX5_nextToken 99 = .ok (.aload_n 0, 1) := by decide +kernel
theorem dX5_nextToken_100 : decode cX5_nextToken 100 = .ok (.getfield 157, 3) := by decide +kernel
theorem dX5_nextToken_103 : decode cX5_nextToken 103 = .ok (.ldc 160, 2) := by decide +kernel
theorem dX5_nextToken_105 : decode cX5_nextToken 105 = .ok (.if_icmp .ge 26, 3) := by decide +kernel
theorem dX5_nextToken_108 : decode cX5_nextToken 108 = .ok (.aload_n 0, 1) := by decide +kernel
theorem dX5_nextToken_109 : decode cX5_nextToken 109 = .ok (.bipush 10, 2) := by decide +kernel
theorem dX5_nextToken_111 : decode cX5_nextToken 111 = .ok (.aload_n 0, 1) := by decide +kernel
theorem dX5_nextToken_112 : decode cX5_nextToken 112 = .ok (.getfield 157, 3) := by decide +kernel
theorem dX5_nextToken_115 : decode cX5_nextToken 115 = .ok (.imul, 1) := by decide +kernel
theorem dX5_nextToken_116 : decode cX5_nextToken 116 = .ok (.aload_n 0, 1) := by decide +kernel
theorem dX5_nextToken_117 : decode cX5_nextToken 117 = .ok (.aload_n 0, 1) := by decide +kernel
theorem dX5_nextToken_118 : decode cX5_nextToken 118 = .ok (.getfield 142, 3) := by decide +kernel
theorem dX5_nextToken_121 : decode cX5_nextToken 121 = .ok (.invokevirtual 145, 3) := by decide +kernel
theorem dX5_nextToken_124 : decode cX5_nextToken 124 = .ok (.iadd, 1) := by decide +kernel
theorem dX5_nextToken_125 : decode cX5_nextToken 125 = .ok (.bipush 48, 2) := by decide +kernel
theorem dX5_nextToken_127 : decode cX5_nextToken 127 = .ok (.isub, 1) := by decide +kernel
theorem dX5_nextToken_128 : decode cX5_nextToken 128 = .ok (.putfield 157, 3) := by decide +kernel
theorem dX5_nextToken_131 : decode cX5_nextToken 131 = .ok (.aload_n 0, 1) := by decide +kernel
theorem dX5_nextToken_132 : decode cX5_nextToken 132 = .ok (.dup, 1) := by decide +kernel
theorem dX5_nextToken_133 : decode cX5_nextToken 133 = .ok (.getfield 142, 3) := by decide +kernel
theorem dX5_nextToken_136 : decode cX5_nextToken 136 = .ok (.iconst 1, 1) := by decide +kernel
theorem dX5_nextToken_137 : decode cX5_nextToken 137 = .ok (.iadd, 1) := by decide +kernel
theorem dX5_nextToken_138 : decode cX5_nextToken 138 = .ok (.putfield 142, 3) := by decide +kernel
theorem dX5_nextToken_141 : decode cX5_nextToken 141 = .ok (.goto (-56), 3) := by decide +kernel
theorem dX5_nextToken_144 : decode cX5_nextToken 144 = .ok (.iload_n 1, 1) := by decide +kernel
theorem dX5_nextToken_145 : decode cX5_nextToken 145 = .ok (.invokestatic 161, 3) := by decide +kernel
theorem dX5_nextToken_148 : decode cX5_nextToken 148 = .ok (.ifCond .eq 97, 3) := by decide +kernel
theorem dX5_nextToken_151 : decode cX5_nextToken 151 = .ok (.aload_n 0, 1) := by decide +kernel
theorem dX5_nextToken_152 : decode cX5_nextToken 152 = .ok (.iconst 2, 1) := by decide +kernel
theorem dX5_nextToken_153 : decode cX5_nextToken 153 = .ok (.putfield 151, 3) := by decide +kernel
theorem dX5_nextToken_156 : decode cX5_nextToken 156 = .ok (.aload_n 0, 1) := by decide +kernel
theorem dX5_nextToken_157 : decode cX5_nextToken 157 = .ok (.lconst 0, 1) := by decide +kernel
theorem dX5_nextToken_158 : decode cX5_nextToken 158 = .ok (.putfield 164, 3) := by decide +kernel
theorem dX5_nextToken_161 : decode cX5_nextToken 161 = .ok (.aload_n 0, 1) := by decide +kernel
theorem dX5_nextToken_162 : decode cX5_nextToken 162 = .ok (.aload_n 0, 1) := by decide +kernel
theorem dX5_nextToken_163 : decode cX5_nextToken 163 = .ok (.getfield 142, 3) := by decide +kernel
theorem dX5_nextToken_166 : decode cX5_nextToken 166 = .ok (.invokevirtual 145, 3) := by decide +kernel
theorem dX5_nextToken_169 : decode cX5_nextToken 169 = .ok (.invokestatic 161, 3) := by decide +kernel
theorem dX5_nextToken_172 : decode cX5_nextToken 172 = .ok (.ifCond .eq 51, 3) := by decide +kernel
theorem dX5_nextToken_175 : decode cX5_nextToken 175 = .ok (.aload_n 0, 1) := by decide +kernel
theorem dX5_nextToken_176 : decode cX5_nextToken 176 = .ok (.getfield 142, 3) := by decide +kernel
theorem dX5_nextToken_179 : decode cX5_nextToken 179 = .ok (.aload_n 0, 1) := by decide +kernel
theorem dX5_nextToken_180 : decode cX5_nextToken 180 = .ok (.getfield 148, 3) := by decide +kernel
theorem dX5_nextToken_183 : decode cX5_nextToken 183 = .ok (.isub, 1) := by decide +kernel
theorem dX5_nextToken_184 : decode cX5_nextToken 184 = .ok (.bipush 6, 2) := by decide +kernel
theorem dX5_nextToken_186 : decode cX5_nextToken 186 = .ok (.if_icmp .ge 24, 3) := by decide +kernel
theorem dX5_nextToken_189 : decode cX5_nextToken 189 = .ok (.aload_n 0, 1) := by decide +kernel
theorem dX5_nextToken_190 : decode cX5_nextToken 190 = .ok (.aload_n 0, 1) := by decide +kernel
theorem dX5_nextToken_191 : decode cX5_nextToken 191 = .ok (.getfield 164, 3) := by decide +kernel
theorem dX5_nextToken_194 : decode cX5_nextToken 194 = .ok (.bipush 8, 2) := by decide +kernel
theorem dX5_nextToken_196 : decode cX5_nextToken 196 = .ok (.lshl, 1) := by decide +kernel
theorem dX5_nextToken_197 : decode cX5_nextToken 197 = .ok (.aload_n 0, 1) := by decide +kernel
theorem dX5_nextToken_198 : decode cX5_nextToken 198 = .ok (.aload_n 0, 1) := by decide +kernel
theorem dX5_nextToken_199 : decode cX5_nextToken 199 = .ok (.getfield 142, 3) := by decide +kernel
theorem dX5_nextToken_202 : decode cX5_nextToken 202 = .ok (.invokevirtual 145, 3) := by decide +kernel
theorem dX5_nextToken_205 : decode cX5_nextToken 205 = .ok (.i2l, 1) := by decide +kernel
theorem dX5_nextToken_206 : decode cX5_nextToken 206 = .ok (.lor, 1) := by decide +kernel
theorem dX5_nextToken_207 : decode cX5_nextToken 207 = .ok (.putfield 164, 3) := by decide +kernel
theorem dX5_nextToken_210 : decode cX5_nextToken 210 = .ok (.aload_n 0, 1) := by decide +kernel
theorem dX5_nextToken_211 : decode cX5_nextToken 211 = .ok (.dup, 1) := by decide +kernel
theorem dX5_nextToken_212 : decode cX5_nextToken 212 = .ok (.getfield 142, 3) := by decide +kernel
theorem dX5_nextToken_215 : decode cX5_nextToken 215 = .ok (.iconst 1, 1) := by decide +kernel
theorem dX5_nextToken_216 : decode cX5_nextToken 216 = .ok (.iadd, 1) := by decide +kernel
theorem dX5_nextToken_217 : decode cX5_nextToken 217 = .ok (.putfield 142, 3) := by decide +kernel
theorem dX5_nextToken_220 : decode cX5_nextToken 220 = .ok (.goto (-59), 3) := by decide +kernel
theorem dX5_nextToken_223 : decode cX5_nextToken 223 = .ok (.aload_n 0, 1) := by decide +kernel
theorem dX5_nextToken_224 : decode cX5_nextToken 224 = .ok (.getfield 142, 3) := by decide +kernel
theorem dX5_nextToken_227 : decode cX5_nextToken 227 = .ok (.aload_n 0, 1) := by decide +kernel
theorem dX5_nextToken_228 : decode cX5_nextToken 228 = .ok (.getfield 148, 3) := by decide +kernel
theorem dX5_nextToken_231 : decode cX5_nextToken 231 = .ok (.isub, 1) := by decide +kernel
theorem dX5_nextToken_232 : decode cX5_nextToken 232 = .ok (.bipush 6, 2) := by decide +kernel
theorem dX5_nextToken_234 : decode cX5_nextToken 234 = .ok (.if_icmp .le 162, 3) := by decide +kernel
theorem dX5_nextToken_237 : decode cX5_nextToken 237 = .ok (.aload_n 0, 1) := by decide +kernel
theorem dX5_nextToken_238 : decode cX5_nextToken 238 = .ok (.lconst 0, 1) := by decide +kernel
theorem dX5_nextToken_239 : decode cX5_nextToken 239 = .ok (.putfield 164, 3) := by decide +kernel
theorem dX5_nextToken_242 : decode cX5_nextToken 242 = .ok (.goto 154, 3) := by decide +kernel
theorem dX5_nextToken_245 : decode cX5_nextToken 245 = .ok (.aload_n 0, 1) := by decide +kernel
theorem dX5_nextToken_246 : decode cX5_nextToken 246 = .ok (.dup, 1) := by decide +kernel
theorem dX5_nextToken_247 : decode cX5_nextToken 247 = .ok (.getfield 142, 3) := by decide +kernel
theorem dX5_nextToken_250 : decode cX5_nextToken 250 = .ok (.iconst 1, 1) := by decide +kernel
theorem dX5_nextToken_251 : decode cX5_nextToken 251 = .ok (.iadd, 1) := by decide +kernel
theorem dX5_nextToken_252 : decode cX5_nextToken 252 = .ok (.putfield 142, 3) := by decide +kernel
theorem dX5_nextToken_255 : decode cX5_nextToken 255 = .ok (.iload_n 1, 1) := by decide +kernel
theorem dX5_nextToken_256 : decode cX5_nextToken 256 = .ok (.bipush 60, 2) := by decide +kernel
theorem dX5_nextToken_258 : decode cX5_nextToken 258 = .ok (.if_icmp .eq 69, 3) := by decide +kernel
theorem dX5_nextToken_261 : decode cX5_nextToken 261 = .ok (.iload_n 1, 1) := by decide +kernel
theorem dX5_nextToken_262 : decode cX5_nextToken 262 = .ok (.bipush 62, 2) := by decide +kernel
theorem dX5_nextToken_264 : decode cX5_nextToken 264 = .ok (.if_icmp .eq 63, 3) := by decide +kernel
theorem dX5_nextToken_267 : decode cX5_nextToken 267 = .ok (.iload_n 1, 1) := by decide +kernel
theorem dX5_nextToken_268 : decode cX5_nextToken 268 = .ok (.bipush 61, 2) := by decide +kernel
theorem dX5_nextToken_270 : decode cX5_nextToken 270 = .ok (.if_icmp .eq 57, 3) := by decide +kernel
theorem dX5_nextToken_273 : decode cX5_nextToken 273 = .ok (.iload_n 1, 1) := by decide +kernel
theorem dX5_nextToken_274 : decode cX5_nextToken 274 = .ok (.bipush 35, 2) := by decide +kernel
theorem dX5_nextToken_276 : decode cX5_nextToken 276 = .ok (.if_icmp .eq 51, 3) := by decide +kernel
theorem dX5_nextToken_279 : decode cX5_nextToken 279 = .ok (.iload_n 1, 1) := by decide +kernel
theorem dX5_nextToken_280 : decode cX5_nextToken 280 = .ok (.bipush 43, 2) := by decide +kernel
theorem dX5_nextToken_282 : decode cX5_nextToken 282 = .ok (.if_icmp .eq 45, 3) := by decide +kernel
theorem dX5_nextToken_285 : decode cX5_nextToken 285 = .ok (.iload_n 1, 1) := by decide +kernel
theorem dX5_nextToken_286 : decode cX5_nextToken 286 = .ok (.bipush 45, 2) := by decide +kernel
theorem dX5_nextToken_288 : decode cX5_nextToken 288 = .ok (.if_icmp .eq 39, 3) := by decide +kernel
theorem dX5_nextToken_291 : decode cX5_nextToken 291 = .ok (.iload_n 1, 1) := by decide +kernel
theorem dX5_nextToken_292 : decode cX5_nextToken 292 = .ok (.bipush 42, 2) := by decide +kernel
theorem dX5_nextToken_294 : decode cX5_nextToken 294 = .ok (.if_icmp .eq 33, 3) := by decide +kernel
theorem dX5_nextToken_297 : decode cX5_nextToken 297 = .ok (.iload_n 1, 1) := by decide +kernel
theorem dX5_nextToken_298 : decode cX5_nextToken 298 = .ok (.bipush 47, 2) := by decide +kernel
theorem dX5_nextToken_300 : decode cX5_nextToken 300 = .ok (.if_icmp .eq 27, 3) := by decide +kernel
theorem dX5_nextToken_303 : decode cX5_nextToken 303 = .ok (.iload_n 1, 1) := by decide +kernel
theorem dX5_nextToken_304 : decode cX5_nextToken 304 = .ok (.bipush 40, 2) := by decide +kernel
theorem dX5_nextToken_306 : decode cX5_nextToken 306 = .ok (.if_icmp .eq 21, 3) := by decide +kernel
theorem dX5_nextToken_309 : decode cX5_nextToken 309 = .ok (.iload_n 1, 1) := by decide +kernel
theorem dX5_nextToken_310 : decode cX5_nextToken 310 = .ok (.bipush 41, 2) := by decide +kernel
theorem dX5_nextToken_312 : decode cX5_nextToken 312 = .ok (.if_icmp .eq 15, 3) := by decide +kernel
theorem dX5_nextToken_315 : decode cX5_nextToken 315 = .ok (.iload_n 1, 1) := by decide +kernel
theorem dX5_nextToken_316 : decode cX5_nextToken 316 = .ok (.bipush 44, 2) := by decide +kernel
theorem dX5_nextToken_318 : decode cX5_nextToken 318 = .ok (.if_icmp .eq 9, 3) := by decide +kernel
theorem dX5_nextToken_321 : decode cX5_nextToken 321 = .ok (.iload_n 1, 1) := by decide +kernel
theorem dX5_nextToken_322 : decode cX5_nextToken 322 = .ok (.bipush 59, 2) := by decide +kernel
theorem dX5_nextToken_324 : decode cX5_nextToken 324 = .ok (.if_icmp .ne 7, 3) := by decide +kernel
theorem dX5_nextToken_327 : decode cX5_nextToken 327 = .ok (.iconst 1, 1) := by decide +kernel
theorem dX5_nextToken_328 : decode cX5_nextToken 328 = .ok (.goto 4, 3) := by decide +kernel
theorem dX5_nextToken_331 : decode cX5_nextToken 331 = .ok (.iconst 0, 1) := by decide +kernel
theorem dX5_nextToken_332 : decode cX5_nextToken 332 = .ok (.istore_n 2, 1) := by decide +kernel
theorem dX5_nextToken_333 : decode cX5_nextToken 333 = .ok (.aload_n 0, 1) := by decide +kernel
theorem dX5_nextToken_334 : decode cX5_nextToken 334 = .ok (.iload_n 2, 1) := by decide +kernel
theorem dX5_nextToken_335 : decode cX5_nextToken 335 = .ok (.ifCond .eq 7, 3) := by decide +kernel
theorem dX5_nextToken_338 : decode cX5_nextToken 338 = .ok (.iload_n 1, 1) := by decide +kernel
theorem dX5_nextToken_339 : decode cX5_nextToken 339 = .ok (.goto 4, 3) := by decide +kernel
theorem dX5_nextToken_342 : decode cX5_nextToken 342 = .ok (.iconst 3, 1) := by decide +kernel
theorem dX5_nextToken_343 : decode cX5_nextToken 343 = .ok (.putfield 151, 3) := by decide +kernel
theorem dX5_nextToken_346 : decode cX5_nextToken 346 = .ok (.iload_n 1, 1) := by decide +kernel
theorem dX5_nextToken_347 : decode cX5_nextToken 347 = .ok (.bipush 60, 2) := by decide +kernel
theorem dX5_nextToken_349 : decode cX5_nextToken 349 = .ok (.if_icmp .eq 9, 3) := by decide +kernel
theorem dX5_nextToken_352 : decode cX5_nextToken 352 = .ok (.iload_n 1, 1) := by decide +kernel
theorem dX5_nextToken_353 : decode cX5_nextToken 353 = .ok (.bipush 62, 2) := by decide +kernel
theorem dX5_nextToken_355 : decode cX5_nextToken 355 = .ok (.if_icmp .ne 41, 3) := by decide +kernel
theorem dX5_nextToken_358 : decode cX5_nextToken 358 = .ok (.aload_n 0, 1) := by decide +kernel
theorem dX5_nextToken_359 : decode cX5_nextToken 359 = .ok (.aload_n 0, 1) := by decide +kernel
theorem dX5_nextToken_360 : decode cX5_nextToken 360 = .ok (.getfield 142, 3) := by decide +kernel
theorem dX5_nextToken_363 : decode cX5_nextToken 363 = .ok (.invokevirtual 145, 3) := by decide +kernel
theorem dX5_nextToken_366 : decode cX5_nextToken 366 = .ok (.bipush 61, 2) := by decide +kernel
theorem dX5_nextToken_368 : decode cX5_nextToken 368 = .ok (.if_icmp .ne 28, 3) := by decide +kernel
theorem dX5_nextToken_371 : decode cX5_nextToken 371 = .ok (.aload_n 0, 1) := by decide +kernel
theorem dX5_nextToken_372 : decode cX5_nextToken 372 = .ok (.dup, 1) := by decide +kernel
theorem dX5_nextToken_373 : decode cX5_nextToken 373 = .ok (.getfield 142, 3) := by decide +kernel
theorem dX5_nextToken_376 : decode cX5_nextToken 376 = .ok (.iconst 1, 1) := by decide +kernel
theorem dX5_nextToken_377 : decode cX5_nextToken 377 = .ok (.iadd, 1) := by decide +kernel
theorem dX5_nextToken_378 : decode cX5_nextToken 378 = .ok (.putfield 142, 3) := by decide +kernel
theorem dX5_nextToken_381 : decode cX5_nextToken 381 = .ok (.aload_n 0, 1) := by decide +kernel
theorem dX5_nextToken_382 : decode cX5_nextToken 382 = .ok (.iload_n 1, 1) := by decide +kernel
theorem dX5_nextToken_383 : decode cX5_nextToken 383 = .ok (.bipush 60, 2) := by decide +kernel
theorem dX5_nextToken_385 : decode cX5_nextToken 385 = .ok (.if_icmp .ne 7, 3) := by decide +kernel
theorem dX5_nextToken_388 : decode cX5_nextToken 388 = .ok (.iconst 4, 1) := by decide +kernel
theorem dX5_nextToken_389 : decode cX5_nextToken 389 = .ok (.goto 4, 3) := by decide +kernel
theorem dX5_nextToken_392 : decode cX5_nextToken 392 = .ok (.iconst 5, 1) := by decide +kernel
theorem dX5_nextToken_393 : decode cX5_nextToken 393 = .ok (.putfield 151, 3) := by decide +kernel
theorem dX5_nextToken_396 : decode cX5_nextToken 396 = .ok (.return_, 1) := by decide +kernel
abbrev cX5_see : ByteArray := prog_22_method_36_code
def yX5_see : MethodName := ⟨RX5, "see", "(I)I"⟩
theorem dX5_see_0 : decode cX5_see 0 = .ok (.iload_n 1, 1) := by decide +kernel
theorem dX5_see_1 : decode cX5_see 1 = .ok (.aload_n 0, 1) := by decide +kernel
theorem dX5_see_2 : decode cX5_see 2 = .ok (.getfield 136, 3) := by decide +kernel
theorem dX5_see_5 : decode cX5_see 5 = .ok (.if_icmp .ge 12, 3) := by decide +kernel
theorem dX5_see_8 : decode cX5_see 8 = .ok (.aload_n 0, 1) := by decide +kernel
theorem dX5_see_9 : decode cX5_see 9 = .ok (.getfield 31, 3) := by decide +kernel
theorem dX5_see_12 : decode cX5_see 12 = .ok (.iload_n 1, 1) := by decide +kernel
theorem dX5_see_13 : decode cX5_see 13 = .ok (.iaload, 1) := by decide +kernel
theorem dX5_see_14 : decode cX5_see 14 = .ok (.goto 4, 3) := by decide +kernel
theorem dX5_see_17 : decode cX5_see 17 = .ok (.iconst (-1), 1) := by decide +kernel
theorem dX5_see_18 : decode cX5_see 18 = .ok (.ireturn, 1) := by decide +kernel
abbrev cX5_isDigit : ByteArray := prog_22_method_38_code
def yX5_isDigit : MethodName := ⟨RX5, "isDigit", "(I)Z"⟩
theorem dX5_isDigit_0 : decode cX5_isDigit 0 = .ok (.iload_n 0, 1) := by decide +kernel
theorem dX5_isDigit_1 : decode cX5_isDigit 1 = .ok (.bipush 48, 2) := by decide +kernel
theorem dX5_isDigit_3 : decode cX5_isDigit 3 = .ok (.bipush 57, 2) := by decide +kernel
theorem dX5_isDigit_5 : decode cX5_isDigit 5 = .ok (.invokestatic 71, 3) := by decide +kernel
theorem dX5_isDigit_8 : decode cX5_isDigit 8 = .ok (.ireturn, 1) := by decide +kernel
abbrev cX5_isLetter : ByteArray := prog_22_method_37_code
def yX5_isLetter : MethodName := ⟨RX5, "isLetter", "(I)Z"⟩
theorem dX5_isLetter_0 : decode cX5_isLetter 0 = .ok (.iload_n 0, 1) := by decide +kernel
theorem dX5_isLetter_1 : decode cX5_isLetter 1 = .ok (.bipush 97, 2) := by decide +kernel
theorem dX5_isLetter_3 : decode cX5_isLetter 3 = .ok (.bipush 122, 2) := by decide +kernel
theorem dX5_isLetter_5 : decode cX5_isLetter 5 = .ok (.invokestatic 71, 3) := by decide +kernel
theorem dX5_isLetter_8 : decode cX5_isLetter 8 = .ok (.ifCond .ne 14, 3) := by decide +kernel
theorem dX5_isLetter_11 : decode cX5_isLetter 11 = .ok (.iload_n 0, 1) := by decide +kernel
theorem dX5_isLetter_12 : decode cX5_isLetter 12 = .ok (.bipush 65, 2) := by decide +kernel
theorem dX5_isLetter_14 : decode cX5_isLetter 14 = .ok (.bipush 90, 2) := by decide +kernel
theorem dX5_isLetter_16 : decode cX5_isLetter 16 = .ok (.invokestatic 71, 3) := by decide +kernel
theorem dX5_isLetter_19 : decode cX5_isLetter 19 = .ok (.ifCond .eq 7, 3) := by decide +kernel
theorem dX5_isLetter_22 : decode cX5_isLetter 22 = .ok (.iconst 1, 1) := by decide +kernel
theorem dX5_isLetter_23 : decode cX5_isLetter 23 = .ok (.goto 4, 3) := by decide +kernel
theorem dX5_isLetter_26 : decode cX5_isLetter 26 = .ok (.iconst 0, 1) := by decide +kernel
theorem dX5_isLetter_27 : decode cX5_isLetter 27 = .ok (.ireturn, 1) := by decide +kernel
abbrev cX5_clause : ByteArray := prog_22_method_60_code
def yX5_clause : MethodName := ⟨RX5, "clause", "()I"⟩
theorem dX5_clause_0 : decode cX5_clause 0 = .ok (.aload_n 0, 1) := by decide +kernel
theorem dX5_clause_1 : decode cX5_clause 1 = .ok (.invokevirtual 256, 3) := by decide +kernel
theorem dX5_clause_4 : decode cX5_clause 4 = .ok (.istore_n 1, 1) := by decide +kernel
theorem dX5_clause_5 : decode cX5_clause 5 = .ok (.iload_n 1, 1) := by decide +kernel
theorem dX5_clause_6 : decode cX5_clause 6 = .ok (.ifCond .ne 5, 3) := by decide +kernel
theorem dX5_clause_9 : decode cX5_clause 9 = .ok (.iconst 1, 1) := by decide +kernel
theorem dX5_clause_10 : decode cX5_clause 10 = .ok (.ireturn, 1) := by decide +kernel
theorem dX5_clause_11 : decode cX5_clause 11 = .ok (.iload_n 1, 1) := by decide +kernel
theorem dX5_clause_12 : decode cX5_clause 12 = .ok (.iconst 1, 1) := by decide +kernel
theorem dX5_clause_13 : decode cX5_clause 13 = .ok (.if_icmp .eq 17, 3) := by decide +kernel
theorem dX5_clause_16 : decode cX5_clause 16 = .ok (.aload_n 0, 1) := by decide +kernel
theorem dX5_clause_17 : decode cX5_clause 17 = .ok (.getfield 259, 3) := by decide +kernel
theorem dX5_clause_20 : decode cX5_clause 20 = .ok (.iload_n 1, 1) := by decide +kernel
theorem dX5_clause_21 : decode cX5_clause 21 = .ok (.ishr, 1) := by decide +kernel
theorem dX5_clause_22 : decode cX5_clause 22 = .ok (.iconst 1, 1) := by decide +kernel
theorem dX5_clause_23 : decode cX5_clause 23 = .ok (.iand, 1) := by decide +kernel
theorem dX5_clause_24 : decode cX5_clause 24 = .ok (.iconst 1, 1) := by decide +kernel
theorem dX5_clause_25 : decode cX5_clause 25 = .ok (.if_icmp .ne 5, 3) := by decide +kernel
theorem dX5_clause_28 : decode cX5_clause 28 = .ok (.iconst 4, 1) := by decide +kernel
theorem dX5_clause_29 : decode cX5_clause 29 = .ok (.ireturn, 1) := by decide +kernel
theorem dX5_clause_30 : decode cX5_clause 30 = .ok (.aload_n 0, 1) := by decide +kernel
theorem dX5_clause_31 : decode cX5_clause 31 = .ok (.getfield 262, 3) := by decide +kernel
theorem dX5_clause_34 : decode cX5_clause 34 = .ok (.bipush 10, 2) := by decide +kernel
theorem dX5_clause_36 : decode cX5_clause 36 = .ok (.if_icmp .ne 6, 3) := by decide +kernel
theorem dX5_clause_39 : decode cX5_clause 39 = .ok (.bipush 6, 2) := by decide +kernel
theorem dX5_clause_41 : decode cX5_clause 41 = .ok (.ireturn, 1) := by decide +kernel
theorem dX5_clause_42 : decode cX5_clause 42 = .ok (.aload_n 0, 1) := by decide +kernel
theorem dX5_clause_43 : decode cX5_clause 43 = .ok (.dup, 1) := by decide +kernel
theorem dX5_clause_44 : decode cX5_clause 44 = .ok (.getfield 259, 3) := by decide +kernel
theorem dX5_clause_47 : decode cX5_clause 47 = .ok (.iconst 1, 1) := by decide +kernel
theorem dX5_clause_48 : decode cX5_clause 48 = .ok (.iload_n 1, 1) := by decide +kernel
theorem dX5_clause_49 : decode cX5_clause 49 = .ok (.ishl, 1) := by decide +kernel
theorem dX5_clause_50 : decode cX5_clause 50 = .ok (.ior, 1) := by decide +kernel
theorem dX5_clause_51 : decode cX5_clause 51 = .ok (.putfield 259, 3) := by decide +kernel
theorem dX5_clause_54 : decode cX5_clause 54 = .ok (.aload_n 0, 1) := by decide +kernel
theorem dX5_clause_55 : decode cX5_clause 55 = .ok (.getfield 176, 3) := by decide +kernel
theorem dX5_clause_58 : decode cX5_clause 58 = .ok (.iconst 1, 1) := by decide +kernel
theorem dX5_clause_59 : decode cX5_clause 59 = .ok (.iadd, 1) := by decide +kernel
theorem dX5_clause_60 : decode cX5_clause 60 = .ok (.iconst 4, 1) := by decide +kernel
theorem dX5_clause_61 : decode cX5_clause 61 = .ok (.aload_n 0, 1) := by decide +kernel
theorem dX5_clause_62 : decode cX5_clause 62 = .ok (.getfield 262, 3) := by decide +kernel
theorem dX5_clause_65 : decode cX5_clause 65 = .ok (.imul, 1) := by decide +kernel
theorem dX5_clause_66 : decode cX5_clause 66 = .ok (.iadd, 1) := by decide +kernel
theorem dX5_clause_67 : decode cX5_clause 67 = .ok (.istore_n 2, 1) := by decide +kernel
theorem dX5_clause_68 : decode cX5_clause 68 = .ok (.aload_n 0, 1) := by decide +kernel
theorem dX5_clause_69 : decode cX5_clause 69 = .ok (.getfield 16, 3) := by decide +kernel
theorem dX5_clause_72 : decode cX5_clause 72 = .ok (.iload_n 2, 1) := by decide +kernel
theorem dX5_clause_73 : decode cX5_clause 73 = .ok (.iload_n 1, 1) := by decide +kernel
theorem dX5_clause_74 : decode cX5_clause 74 = .ok (.iastore, 1) := by decide +kernel
theorem dX5_clause_75 : decode cX5_clause 75 = .ok (.aload_n 0, 1) := by decide +kernel
theorem dX5_clause_76 : decode cX5_clause 76 = .ok (.getfield 16, 3) := by decide +kernel
theorem dX5_clause_79 : decode cX5_clause 79 = .ok (.iload_n 2, 1) := by decide +kernel
theorem dX5_clause_80 : decode cX5_clause 80 = .ok (.iconst 2, 1) := by decide +kernel
theorem dX5_clause_81 : decode cX5_clause 81 = .ok (.iadd, 1) := by decide +kernel
theorem dX5_clause_82 : decode cX5_clause 82 = .ok (.aload_n 0, 1) := by decide +kernel
theorem dX5_clause_83 : decode cX5_clause 83 = .ok (.getfield 179, 3) := by decide +kernel
theorem dX5_clause_86 : decode cX5_clause 86 = .ok (.iastore, 1) := by decide +kernel
theorem dX5_clause_87 : decode cX5_clause 87 = .ok (.aload_n 0, 1) := by decide +kernel
theorem dX5_clause_88 : decode cX5_clause 88 = .ok (.invokevirtual 200, 3) := by decide +kernel
theorem dX5_clause_91 : decode cX5_clause 91 = .ok (.iconst 0, 1) := by decide +kernel
theorem dX5_clause_92 : decode cX5_clause 92 = .ok (.istore_n 3, 1) := by decide +kernel
theorem dX5_clause_93 : decode cX5_clause 93 = .ok (.iload_n 1, 1) := by decide +kernel
theorem dX5_clause_94 : decode cX5_clause 94 = .ok (.iconst 1, 1) := by decide +kernel
theorem dX5_clause_95 : decode cX5_clause 95 = .ok (.if_icmp .ne 50, 3) := by decide +kernel
theorem dX5_clause_98 : decode cX5_clause 98 = .ok (.aload_n 0, 1) := by decide +kernel
theorem dX5_clause_99 : decode cX5_clause 99 = .ok (.invokevirtual 206, 3) := by decide +kernel
theorem dX5_clause_102 : decode cX5_clause 102 = .ok (.istore 4, 2) := by decide +kernel
theorem dX5_clause_104 : decode cX5_clause 104 = .ok (.iload 4, 2) := by decide +kernel
theorem dX5_clause_106 : decode cX5_clause 106 = .ok (.ifCond .ge 5, 3) := by decide +kernel
theorem dX5_clause_109 : decode cX5_clause 109 = .ok (.iconst 1, 1) := by decide +kernel
theorem dX5_clause_110 : decode cX5_clause 110 = .ok (.ireturn, 1) := by decide +kernel
theorem dX5_clause_111 : decode cX5_clause 111 = .ok (.aload_n 0, 1) := by decide +kernel
theorem dX5_clause_112 : decode cX5_clause 112 = .ok (.getfield 210, 3) := by decide +kernel
theorem dX5_clause_115 : decode cX5_clause 115 = .ok (.iload 4, 2) := by decide +kernel
theorem dX5_clause_117 : decode cX5_clause 117 = .ok (.ishr, 1) := by decide +kernel
theorem dX5_clause_118 : decode cX5_clause 118 = .ok (.iconst 1, 1) := by decide +kernel
theorem dX5_clause_119 : decode cX5_clause 119 = .ok (.iand, 1) := by decide +kernel
theorem dX5_clause_120 : decode cX5_clause 120 = .ok (.iconst 1, 1) := by decide +kernel
theorem dX5_clause_121 : decode cX5_clause 121 = .ok (.if_icmp .ne 5, 3) := by decide +kernel
theorem dX5_clause_124 : decode cX5_clause 124 = .ok (.iconst 4, 1) := by decide +kernel
theorem dX5_clause_125 : decode cX5_clause 125 = .ok (.ireturn, 1) := by decide +kernel
theorem dX5_clause_126 : decode cX5_clause 126 = .ok (.aload_n 0, 1) := by decide +kernel
theorem dX5_clause_127 : decode cX5_clause 127 = .ok (.getfield 16, 3) := by decide +kernel
theorem dX5_clause_130 : decode cX5_clause 130 = .ok (.iload_n 2, 1) := by decide +kernel
theorem dX5_clause_131 : decode cX5_clause 131 = .ok (.iconst 1, 1) := by decide +kernel
theorem dX5_clause_132 : decode cX5_clause 132 = .ok (.iadd, 1) := by decide +kernel
theorem dX5_clause_133 : decode cX5_clause 133 = .ok (.iload 4, 2) := by decide +kernel
theorem dX5_clause_135 : decode cX5_clause 135 = .ok (.iastore, 1) := by decide +kernel
theorem dX5_clause_136 : decode cX5_clause 136 = .ok (.iconst 1, 1) := by decide +kernel
theorem dX5_clause_137 : decode cX5_clause 137 = .ok (.iload 4, 2) := by decide +kernel
theorem dX5_clause_139 : decode cX5_clause 139 = .ok (.ishl, 1) := by decide +kernel
theorem dX5_clause_140 : decode cX5_clause 140 = .ok (.istore_n 3, 1) := by decide +kernel
theorem dX5_clause_141 : decode cX5_clause 141 = .ok (.aload_n 0, 1) := by decide +kernel
theorem dX5_clause_142 : decode cX5_clause 142 = .ok (.invokevirtual 200, 3) := by decide +kernel
theorem dX5_clause_145 : decode cX5_clause 145 = .ok (.iload_n 1, 1) := by decide +kernel
theorem dX5_clause_146 : decode cX5_clause 146 = .ok (.iconst 4, 1) := by decide +kernel
theorem dX5_clause_147 : decode cX5_clause 147 = .ok (.if_icmp .ne 10, 3) := by decide +kernel
theorem dX5_clause_150 : decode cX5_clause 150 = .ok (.aload_n 0, 1) := by decide +kernel
theorem dX5_clause_151 : decode cX5_clause 151 = .ok (.invokevirtual 265, 3) := by decide +kernel
theorem dX5_clause_154 : decode cX5_clause 154 = .ok (.goto 7, 3) := by decide +kernel
theorem dX5_clause_157 : decode cX5_clause 157 = .ok (.aload_n 0, 1) := by decide +kernel
theorem dX5_clause_158 : decode cX5_clause 158 = .ok (.invokevirtual 243, 3) := by decide +kernel
theorem dX5_clause_161 : decode cX5_clause 161 = .ok (.istore 4, 2) := by decide +kernel
theorem dX5_clause_163 : decode cX5_clause 163 = .ok (.iload 4, 2) := by decide +kernel
theorem dX5_clause_165 : decode cX5_clause 165 = .ok (.ifCond .eq 6, 3) := by decide +kernel
theorem dX5_clause_168 : decode cX5_clause 168 = .ok (.iload 4, 2) := by decide +kernel
theorem dX5_clause_170 : decode cX5_clause 170 = .ok (.ireturn, 1) := by decide +kernel
theorem dX5_clause_171 : decode cX5_clause 171 = .ok (.aload_n 0, 1) := by decide +kernel
theorem dX5_clause_172 : decode cX5_clause 172 = .ok (.getfield 16, 3) := by decide +kernel
theorem dX5_clause_175 : decode cX5_clause 175 = .ok (.iload_n 2, 1) := by decide +kernel
theorem dX5_clause_176 : decode cX5_clause 176 = .ok (.iconst 3, 1) := by decide +kernel
theorem dX5_clause_177 : decode cX5_clause 177 = .ok (.iadd, 1) := by decide +kernel
theorem dX5_clause_178 : decode cX5_clause 178 = .ok (.aload_n 0, 1) := by decide +kernel
theorem dX5_clause_179 : decode cX5_clause 179 = .ok (.getfield 179, 3) := by decide +kernel
theorem dX5_clause_182 : decode cX5_clause 182 = .ok (.iastore, 1) := by decide +kernel
theorem dX5_clause_183 : decode cX5_clause 183 = .ok (.aload_n 0, 1) := by decide +kernel
theorem dX5_clause_184 : decode cX5_clause 184 = .ok (.getfield 151, 3) := by decide +kernel
theorem dX5_clause_187 : decode cX5_clause 187 = .ok (.bipush 59, 2) := by decide +kernel
theorem dX5_clause_189 : decode cX5_clause 189 = .ok (.if_icmp .eq 5, 3) := by decide +kernel
theorem dX5_clause_192 : decode cX5_clause 192 = .ok (.iconst 1, 1) := by decide +kernel
theorem dX5_clause_193 : decode cX5_clause 193 = .ok (.ireturn, 1) := by decide +kernel
theorem dX5_clause_194 : decode cX5_clause 194 = .ok (.aload_n 0, 1) := by decide +kernel
theorem dX5_clause_195 : decode cX5_clause 195 = .ok (.dup, 1) := by decide +kernel
theorem dX5_clause_196 : decode cX5_clause 196 = .ok (.getfield 210, 3) := by decide +kernel
theorem dX5_clause_199 : decode cX5_clause 199 = .ok (.iload_n 3, 1) := by decide +kernel
theorem dX5_clause_200 : decode cX5_clause 200 = .ok (.ior, 1) := by decide +kernel
theorem dX5_clause_201 : decode cX5_clause 201 = .ok (.putfield 210, 3) := by decide +kernel
theorem dX5_clause_204 : decode cX5_clause 204 = .ok (.aload_n 0, 1) := by decide +kernel
theorem dX5_clause_205 : decode cX5_clause 205 = .ok (.dup, 1) := by decide +kernel
theorem dX5_clause_206 : decode cX5_clause 206 = .ok (.getfield 262, 3) := by decide +kernel
theorem dX5_clause_209 : decode cX5_clause 209 = .ok (.iconst 1, 1) := by decide +kernel
theorem dX5_clause_210 : decode cX5_clause 210 = .ok (.iadd, 1) := by decide +kernel
theorem dX5_clause_211 : decode cX5_clause 211 = .ok (.putfield 262, 3) := by decide +kernel
theorem dX5_clause_214 : decode cX5_clause 214 = .ok (.aload_n 0, 1) := by decide +kernel
theorem dX5_clause_215 : decode cX5_clause 215 = .ok (.invokevirtual 200, 3) := by decide +kernel
theorem dX5_clause_218 : decode cX5_clause 218 = .ok (.iconst 0, 1) := by decide +kernel
theorem dX5_clause_219 : decode cX5_clause 219 = .ok (.ireturn, 1) := by decide +kernel
abbrev cX5_sortOf : ByteArray := prog_22_method_59_code
def yX5_sortOf : MethodName := ⟨RX5, "sortOf", "()I"⟩
theorem dX5_sortOf_0 : decode cX5_sortOf 0 = .ok (.aload_n 0, 1) := by decide +kernel
theorem dX5_sortOf_1 : decode cX5_sortOf 1 = .ok (.getfield 151, 3) := by decide +kernel
theorem dX5_sortOf_4 : decode cX5_sortOf 4 = .ok (.iconst 2, 1) := by decide +kernel
theorem dX5_sortOf_5 : decode cX5_sortOf 5 = .ok (.if_icmp .eq 5, 3) := by decide +kernel
theorem dX5_sortOf_8 : decode cX5_sortOf 8 = .ok (.iconst 0, 1) := by decide +kernel
theorem dX5_sortOf_9 : decode cX5_sortOf 9 = .ok (.ireturn, 1) := by decide +kernel
theorem dX5_sortOf_10 : decode cX5_sortOf 10 = .ok (.aload_n 0, 1) := by decide +kernel
theorem dX5_sortOf_11 : decode cX5_sortOf 11 = .ok (.getfield 164, 3) := by decide +kernel
theorem dX5_sortOf_14 : decode cX5_sortOf 14 = .ok (.bipush 108, 2) := by decide +kernel
theorem dX5_sortOf_16 : decode cX5_sortOf 16 = .ok (.bipush 101, 2) := by decide +kernel
theorem dX5_sortOf_18 : decode cX5_sortOf 18 = .ok (.bipush 116, 2) := by decide +kernel
theorem dX5_sortOf_20 : decode cX5_sortOf 20 = .ok (.invokestatic 168, 3) := by decide +kernel
theorem dX5_sortOf_23 : decode cX5_sortOf 23 = .ok (.lcmp, 1) := by decide +kernel
theorem dX5_sortOf_24 : decode cX5_sortOf 24 = .ok (.ifCond .ne 5, 3) := by decide +kernel
theorem dX5_sortOf_27 : decode cX5_sortOf 27 = .ok (.iconst 1, 1) := by decide +kernel
theorem dX5_sortOf_28 : decode cX5_sortOf 28 = .ok (.ireturn, 1) := by decide +kernel
theorem dX5_sortOf_29 : decode cX5_sortOf 29 = .ok (.aload_n 0, 1) := by decide +kernel
theorem dX5_sortOf_30 : decode cX5_sortOf 30 = .ok (.getfield 164, 3) := by decide +kernel
theorem dX5_sortOf_33 : decode cX5_sortOf 33 = .ok (.bipush 116, 2) := by decide +kernel
theorem dX5_sortOf_35 : decode cX5_sortOf 35 = .ok (.bipush 117, 2) := by decide +kernel
theorem dX5_sortOf_37 : decode cX5_sortOf 37 = .ok (.bipush 114, 2) := by decide +kernel
theorem dX5_sortOf_39 : decode cX5_sortOf 39 = .ok (.bipush 110, 2) := by decide +kernel
theorem dX5_sortOf_41 : decode cX5_sortOf 41 = .ok (.invokestatic 213, 3) := by decide +kernel
theorem dX5_sortOf_44 : decode cX5_sortOf 44 = .ok (.lcmp, 1) := by decide +kernel
theorem dX5_sortOf_45 : decode cX5_sortOf 45 = .ok (.ifCond .ne 5, 3) := by decide +kernel
theorem dX5_sortOf_48 : decode cX5_sortOf 48 = .ok (.iconst 2, 1) := by decide +kernel
theorem dX5_sortOf_49 : decode cX5_sortOf 49 = .ok (.ireturn, 1) := by decide +kernel
theorem dX5_sortOf_50 : decode cX5_sortOf 50 = .ok (.aload_n 0, 1) := by decide +kernel
theorem dX5_sortOf_51 : decode cX5_sortOf 51 = .ok (.getfield 164, 3) := by decide +kernel
theorem dX5_sortOf_54 : decode cX5_sortOf 54 = .ok (.ldc2_w 254, 3) := by decide +kernel
theorem dX5_sortOf_57 : decode cX5_sortOf 57 = .ok (.lcmp, 1) := by decide +kernel
theorem dX5_sortOf_58 : decode cX5_sortOf 58 = .ok (.ifCond .ne 7, 3) := by decide +kernel
theorem dX5_sortOf_61 : decode cX5_sortOf 61 = .ok (.iconst 3, 1) := by decide +kernel
theorem dX5_sortOf_62 : decode cX5_sortOf 62 = .ok (.goto 27, 3) := by decide +kernel
theorem dX5_sortOf_65 : decode cX5_sortOf 65 = .ok (.aload_n 0, 1) := by decide +kernel
theorem dX5_sortOf_66 : decode cX5_sortOf 66 = .ok (.getfield 164, 3) := by decide +kernel
theorem dX5_sortOf_69 : decode cX5_sortOf 69 = .ok (.bipush 114, 2) := by decide +kernel
theorem dX5_sortOf_71 : decode cX5_sortOf 71 = .ok (.bipush 101, 2) := by decide +kernel
theorem dX5_sortOf_73 : decode cX5_sortOf 73 = .ok (.bipush 115, 2) := by decide +kernel
theorem dX5_sortOf_75 : decode cX5_sortOf 75 = .ok (.bipush 116, 2) := by decide +kernel
theorem dX5_sortOf_77 : decode cX5_sortOf 77 = .ok (.invokestatic 213, 3) := by decide +kernel
theorem dX5_sortOf_80 : decode cX5_sortOf 80 = .ok (.lcmp, 1) := by decide +kernel
theorem dX5_sortOf_81 : decode cX5_sortOf 81 = .ok (.ifCond .ne 7, 3) := by decide +kernel
theorem dX5_sortOf_84 : decode cX5_sortOf 84 = .ok (.iconst 4, 1) := by decide +kernel
theorem dX5_sortOf_85 : decode cX5_sortOf 85 = .ok (.goto 4, 3) := by decide +kernel
theorem dX5_sortOf_88 : decode cX5_sortOf 88 = .ok (.iconst 0, 1) := by decide +kernel
theorem dX5_sortOf_89 : decode cX5_sortOf 89 = .ok (.ireturn, 1) := by decide +kernel
abbrev cX5_w3 : ByteArray := prog_22_method_40_code
def yX5_w3 : MethodName := ⟨RX5, "w3", "(III)J"⟩
theorem dX5_w3_0 : decode cX5_w3 0 = .ok (.iload_n 0, 1) := by decide +kernel
theorem dX5_w3_1 : decode cX5_w3 1 = .ok (.i2l, 1) := by decide +kernel
theorem dX5_w3_2 : decode cX5_w3 2 = .ok (.bipush 8, 2) := by decide +kernel
theorem dX5_w3_4 : decode cX5_w3 4 = .ok (.lshl, 1) := by decide +kernel
theorem dX5_w3_5 : decode cX5_w3 5 = .ok (.iload_n 1, 1) := by decide +kernel
theorem dX5_w3_6 : decode cX5_w3 6 = .ok (.i2l, 1) := by decide +kernel
theorem dX5_w3_7 : decode cX5_w3 7 = .ok (.lor, 1) := by decide +kernel
theorem dX5_w3_8 : decode cX5_w3 8 = .ok (.bipush 8, 2) := by decide +kernel
theorem dX5_w3_10 : decode cX5_w3 10 = .ok (.lshl, 1) := by decide +kernel
theorem dX5_w3_11 : decode cX5_w3 11 = .ok (.iload_n 2, 1) := by decide +kernel
theorem dX5_w3_12 : decode cX5_w3 12 = .ok (.i2l, 1) := by decide +kernel
theorem dX5_w3_13 : decode cX5_w3 13 = .ok (.lor, 1) := by decide +kernel
theorem dX5_w3_14 : decode cX5_w3 14 = .ok (.lreturn, 1) := by decide +kernel
abbrev cX5_w4 : ByteArray := prog_22_method_42_code
def yX5_w4 : MethodName := ⟨RX5, "w4", "(IIII)J"⟩
theorem dX5_w4_0 : decode cX5_w4 0 = .ok (.iload_n 0, 1) := by decide +kernel
theorem dX5_w4_1 : decode cX5_w4 1 = .ok (.iload_n 1, 1) := by decide +kernel
theorem dX5_w4_2 : decode cX5_w4 2 = .ok (.iload_n 2, 1) := by decide +kernel
theorem dX5_w4_3 : decode cX5_w4 3 = .ok (.invokestatic 168, 3) := by decide +kernel
theorem dX5_w4_6 : decode cX5_w4 6 = .ok (.bipush 8, 2) := by decide +kernel
theorem dX5_w4_8 : decode cX5_w4 8 = .ok (.lshl, 1) := by decide +kernel
theorem dX5_w4_9 : decode cX5_w4 9 = .ok (.iload_n 3, 1) := by decide +kernel
theorem dX5_w4_10 : decode cX5_w4 10 = .ok (.i2l, 1) := by decide +kernel
theorem dX5_w4_11 : decode cX5_w4 11 = .ok (.lor, 1) := by decide +kernel
theorem dX5_w4_12 : decode cX5_w4 12 = .ok (.lreturn, 1) := by decide +kernel
abbrev cX5_letterOf : ByteArray := prog_22_method_49_code
def yX5_letterOf : MethodName := ⟨RX5, "letterOf", "()I"⟩
theorem dX5_letterOf_0 : decode cX5_letterOf 0 = .ok (.aload_n 0, 1) := by decide +kernel
theorem dX5_letterOf_1 : decode cX5_letterOf 1 = .ok (.getfield 151, 3) := by decide +kernel
theorem dX5_letterOf_4 : decode cX5_letterOf 4 = .ok (.iconst 2, 1) := by decide +kernel
theorem dX5_letterOf_5 : decode cX5_letterOf 5 = .ok (.if_icmp .ne 36, 3) := by decide +kernel
theorem dX5_letterOf_8 : decode cX5_letterOf 8 = .ok (.aload_n 0, 1) := by decide +kernel
theorem dX5_letterOf_9 : decode cX5_letterOf 9 = .ok (.getfield 164, 3) := by decide +kernel
theorem dX5_letterOf_12 : decode cX5_letterOf 12 = .ok (.ldc2_w 196, 3) := by decide +kernel
theorem dX5_letterOf_15 : decode cX5_letterOf 15 = .ok (.lcmp, 1) := by decide +kernel
theorem dX5_letterOf_16 : decode cX5_letterOf 16 = .ok (.ifCond .lt 25, 3) := by decide +kernel
theorem dX5_letterOf_19 : decode cX5_letterOf 19 = .ok (.aload_n 0, 1) := by decide +kernel
theorem dX5_letterOf_20 : decode cX5_letterOf 20 = .ok (.getfield 164, 3) := by decide +kernel
theorem dX5_letterOf_23 : decode cX5_letterOf 23 = .ok (.ldc2_w 198, 3) := by decide +kernel
theorem dX5_letterOf_26 : decode cX5_letterOf 26 = .ok (.lcmp, 1) := by decide +kernel
theorem dX5_letterOf_27 : decode cX5_letterOf 27 = .ok (.ifCond .gt 14, 3) := by decide +kernel
theorem dX5_letterOf_30 : decode cX5_letterOf 30 = .ok (.aload_n 0, 1) := by decide +kernel
theorem dX5_letterOf_31 : decode cX5_letterOf 31 = .ok (.getfield 164, 3) := by decide +kernel
theorem dX5_letterOf_34 : decode cX5_letterOf 34 = .ok (.l2i, 1) := by decide +kernel
theorem dX5_letterOf_35 : decode cX5_letterOf 35 = .ok (.bipush 65, 2) := by decide +kernel
theorem dX5_letterOf_37 : decode cX5_letterOf 37 = .ok (.isub, 1) := by decide +kernel
theorem dX5_letterOf_38 : decode cX5_letterOf 38 = .ok (.goto 4, 3) := by decide +kernel
theorem dX5_letterOf_41 : decode cX5_letterOf 41 = .ok (.iconst (-1), 1) := by decide +kernel
theorem dX5_letterOf_42 : decode cX5_letterOf 42 = .ok (.ireturn, 1) := by decide +kernel
abbrev cX5_either : ByteArray := prog_22_method_58_code
def yX5_either : MethodName := ⟨RX5, "either", "()I"⟩
theorem dX5_either_0 : decode cX5_either 0 = .ok (.iconst 0, 1) := by decide +kernel
theorem dX5_either_1 : decode cX5_either 1 = .ok (.istore_n 1, 1) := by decide +kernel
theorem dX5_either_2 : decode cX5_either 2 = .ok (.iconst 0, 1) := by decide +kernel
theorem dX5_either_3 : decode cX5_either 3 = .ok (.istore_n 2, 1) := by decide +kernel
theorem dX5_either_4 : decode cX5_either 4 = .ok (.iconst 1, 1) := by decide +kernel
theorem dX5_either_5 : decode cX5_either 5 = .ok (.istore_n 3, 1) := by decide +kernel
theorem dX5_either_6 : decode cX5_either 6 = .ok (.iload_n 3, 1) := by decide +kernel
theorem dX5_either_7 : decode cX5_either 7 = .ok (.ifCond .eq 112, 3) := by decide +kernel
theorem dX5_either_10 : decode cX5_either 10 = .ok (.aload_n 0, 1) := by decide +kernel
theorem dX5_either_11 : decode cX5_either 11 = .ok (.invokevirtual 249, 3) := by decide +kernel
theorem dX5_either_14 : decode cX5_either 14 = .ok (.istore 4, 2) := by decide +kernel
theorem dX5_either_16 : decode cX5_either 16 = .ok (.iload 4, 2) := by decide +kernel
theorem dX5_either_18 : decode cX5_either 18 = .ok (.ifCond .eq 6, 3) := by decide +kernel
theorem dX5_either_21 : decode cX5_either 21 = .ok (.iload 4, 2) := by decide +kernel
theorem dX5_either_23 : decode cX5_either 23 = .ok (.ireturn, 1) := by decide +kernel
theorem dX5_either_24 : decode cX5_either 24 = .ok (.iload_n 1, 1) := by decide +kernel
theorem dX5_either_25 : decode cX5_either 25 = .ok (.ifCond .eq 10, 3) := by decide +kernel
theorem dX5_either_28 : decode cX5_either 28 = .ok (.aload_n 0, 1) := by decide +kernel
theorem dX5_either_29 : decode cX5_either 29 = .ok (.bipush 21, 2) := by decide +kernel
theorem dX5_either_31 : decode cX5_either 31 = .ok (.iconst 0, 1) := by decide +kernel
theorem dX5_either_32 : decode cX5_either 32 = .ok (.invokevirtual 192, 3) := by decide +kernel
theorem dX5_either_35 : decode cX5_either 35 = .ok (.aload_n 0, 1) := by decide +kernel
theorem dX5_either_36 : decode cX5_either 36 = .ok (.bipush 97, 2) := by decide +kernel
theorem dX5_either_38 : decode cX5_either 38 = .ok (.bipush 110, 2) := by decide +kernel
theorem dX5_either_40 : decode cX5_either 40 = .ok (.bipush 100, 2) := by decide +kernel
theorem dX5_either_42 : decode cX5_either 42 = .ok (.invokestatic 168, 3) := by decide +kernel
theorem dX5_either_45 : decode cX5_either 45 = .ok (.invokevirtual 217, 3) := by decide +kernel
theorem dX5_either_48 : decode cX5_either 48 = .ok (.istore_n 1, 1) := by decide +kernel
theorem dX5_either_49 : decode cX5_either 49 = .ok (.aload_n 0, 1) := by decide +kernel
theorem dX5_either_50 : decode cX5_either 50 = .ok (.getfield 151, 3) := by decide +kernel
theorem dX5_either_53 : decode cX5_either 53 = .ok (.iconst 2, 1) := by decide +kernel
theorem dX5_either_54 : decode cX5_either 54 = .ok (.if_icmp .ne 18, 3) := by decide +kernel
theorem dX5_either_57 : decode cX5_either 57 = .ok (.aload_n 0, 1) := by decide +kernel
theorem dX5_either_58 : decode cX5_either 58 = .ok (.getfield 164, 3) := by decide +kernel
theorem dX5_either_61 : decode cX5_either 61 = .ok (.ldc2_w 252, 3) := by decide +kernel
theorem dX5_either_64 : decode cX5_either 64 = .ok (.lcmp, 1) := by decide +kernel
theorem dX5_either_65 : decode cX5_either 65 = .ok (.ifCond .ne 7, 3) := by decide +kernel
theorem dX5_either_68 : decode cX5_either 68 = .ok (.iconst 1, 1) := by decide +kernel
theorem dX5_either_69 : decode cX5_either 69 = .ok (.goto 4, 3) := by decide +kernel
theorem dX5_either_72 : decode cX5_either 72 = .ok (.iconst 0, 1) := by decide +kernel
theorem dX5_either_73 : decode cX5_either 73 = .ok (.istore 5, 2) := by decide +kernel
theorem dX5_either_75 : decode cX5_either 75 = .ok (.iload_n 1, 1) := by decide +kernel
theorem dX5_either_76 : decode cX5_either 76 = .ok (.ifCond .ne 17, 3) := by decide +kernel
theorem dX5_either_79 : decode cX5_either 79 = .ok (.iload_n 2, 1) := by decide +kernel
theorem dX5_either_80 : decode cX5_either 80 = .ok (.ifCond .eq 10, 3) := by decide +kernel
theorem dX5_either_83 : decode cX5_either 83 = .ok (.aload_n 0, 1) := by decide +kernel
theorem dX5_either_84 : decode cX5_either 84 = .ok (.bipush 22, 2) := by decide +kernel
theorem dX5_either_86 : decode cX5_either 86 = .ok (.iconst 0, 1) := by decide +kernel
theorem dX5_either_87 : decode cX5_either 87 = .ok (.invokevirtual 192, 3) := by decide +kernel
theorem dX5_either_90 : decode cX5_either 90 = .ok (.iload 5, 2) := by decide +kernel
theorem dX5_either_92 : decode cX5_either 92 = .ok (.istore_n 2, 1) := by decide +kernel
theorem dX5_either_93 : decode cX5_either 93 = .ok (.iload_n 1, 1) := by decide +kernel
theorem dX5_either_94 : decode cX5_either 94 = .ok (.ifCond .ne 8, 3) := by decide +kernel
theorem dX5_either_97 : decode cX5_either 97 = .ok (.iload 5, 2) := by decide +kernel
theorem dX5_either_99 : decode cX5_either 99 = .ok (.ifCond .eq 7, 3) := by decide +kernel
theorem dX5_either_102 : decode cX5_either 102 = .ok (.iconst 1, 1) := by decide +kernel
theorem dX5_either_103 : decode cX5_either 103 = .ok (.goto 4, 3) := by decide +kernel
theorem dX5_either_106 : decode cX5_either 106 = .ok (.iconst 0, 1) := by decide +kernel
theorem dX5_either_107 : decode cX5_either 107 = .ok (.istore_n 3, 1) := by decide +kernel
theorem dX5_either_108 : decode cX5_either 108 = .ok (.iload_n 3, 1) := by decide +kernel
theorem dX5_either_109 : decode cX5_either 109 = .ok (.ifCond .eq 7, 3) := by decide +kernel
theorem dX5_either_112 : decode cX5_either 112 = .ok (.aload_n 0, 1) := by decide +kernel
theorem dX5_either_113 : decode cX5_either 113 = .ok (.invokevirtual 200, 3) := by decide +kernel
theorem dX5_either_116 : decode cX5_either 116 = .ok (.goto (-110), 3) := by decide +kernel
theorem dX5_either_119 : decode cX5_either 119 = .ok (.iconst 0, 1) := by decide +kernel
theorem dX5_either_120 : decode cX5_either 120 = .ok (.ireturn, 1) := by decide +kernel
abbrev cX5_ask : ByteArray := prog_22_method_57_code
def yX5_ask : MethodName := ⟨RX5, "ask", "()I"⟩
theorem dX5_ask_0 : decode cX5_ask 0 = .ok (.iconst 0, 1) := by decide +kernel
theorem dX5_ask_1 : decode cX5_ask 1 = .ok (.istore_n 1, 1) := by decide +kernel
theorem dX5_ask_2 : decode cX5_ask 2 = .ok (.aload_n 0, 1) := by decide +kernel
theorem dX5_ask_3 : decode cX5_ask 3 = .ok (.bipush 110, 2) := by decide +kernel
theorem dX5_ask_5 : decode cX5_ask 5 = .ok (.bipush 111, 2) := by decide +kernel
theorem dX5_ask_7 : decode cX5_ask 7 = .ok (.bipush 116, 2) := by decide +kernel
theorem dX5_ask_9 : decode cX5_ask 9 = .ok (.invokestatic 168, 3) := by decide +kernel
theorem dX5_ask_12 : decode cX5_ask 12 = .ok (.invokevirtual 217, 3) := by decide +kernel
theorem dX5_ask_15 : decode cX5_ask 15 = .ok (.ifCond .eq 34, 3) := by decide +kernel
theorem dX5_ask_18 : decode cX5_ask 18 = .ok (.aload_n 0, 1) := by decide +kernel
theorem dX5_ask_19 : decode cX5_ask 19 = .ok (.getfield 189, 3) := by decide +kernel
theorem dX5_ask_22 : decode cX5_ask 22 = .ok (.bipush 8, 2) := by decide +kernel
theorem dX5_ask_24 : decode cX5_ask 24 = .ok (.if_icmp .ne 5, 3) := by decide +kernel
theorem dX5_ask_27 : decode cX5_ask 27 = .ok (.iconst 3, 1) := by decide +kernel
theorem dX5_ask_28 : decode cX5_ask 28 = .ok (.ireturn, 1) := by decide +kernel
theorem dX5_ask_29 : decode cX5_ask 29 = .ok (.aload_n 0, 1) := by decide +kernel
theorem dX5_ask_30 : decode cX5_ask 30 = .ok (.dup, 1) := by decide +kernel
theorem dX5_ask_31 : decode cX5_ask 31 = .ok (.getfield 189, 3) := by decide +kernel
theorem dX5_ask_34 : decode cX5_ask 34 = .ok (.iconst 1, 1) := by decide +kernel
theorem dX5_ask_35 : decode cX5_ask 35 = .ok (.iadd, 1) := by decide +kernel
theorem dX5_ask_36 : decode cX5_ask 36 = .ok (.putfield 189, 3) := by decide +kernel
theorem dX5_ask_39 : decode cX5_ask 39 = .ok (.iinc 1 1, 3) := by decide +kernel
theorem dX5_ask_42 : decode cX5_ask 42 = .ok (.aload_n 0, 1) := by decide +kernel
theorem dX5_ask_43 : decode cX5_ask 43 = .ok (.invokevirtual 200, 3) := by decide +kernel
theorem dX5_ask_46 : decode cX5_ask 46 = .ok (.goto (-44), 3) := by decide +kernel
theorem dX5_ask_49 : decode cX5_ask 49 = .ok (.aload_n 0, 1) := by decide +kernel
theorem dX5_ask_50 : decode cX5_ask 50 = .ok (.invokevirtual 243, 3) := by decide +kernel
theorem dX5_ask_53 : decode cX5_ask 53 = .ok (.istore_n 2, 1) := by decide +kernel
theorem dX5_ask_54 : decode cX5_ask 54 = .ok (.iload_n 2, 1) := by decide +kernel
theorem dX5_ask_55 : decode cX5_ask 55 = .ok (.ifCond .eq 5, 3) := by decide +kernel
theorem dX5_ask_58 : decode cX5_ask 58 = .ok (.iload_n 2, 1) := by decide +kernel
theorem dX5_ask_59 : decode cX5_ask 59 = .ok (.ireturn, 1) := by decide +kernel
theorem dX5_ask_60 : decode cX5_ask 60 = .ok (.aload_n 0, 1) := by decide +kernel
theorem dX5_ask_61 : decode cX5_ask 61 = .ok (.invokevirtual 246, 3) := by decide +kernel
theorem dX5_ask_64 : decode cX5_ask 64 = .ok (.istore_n 3, 1) := by decide +kernel
theorem dX5_ask_65 : decode cX5_ask 65 = .ok (.iload_n 3, 1) := by decide +kernel
theorem dX5_ask_66 : decode cX5_ask 66 = .ok (.ifCond .ge 5, 3) := by decide +kernel
theorem dX5_ask_69 : decode cX5_ask 69 = .ok (.iconst 1, 1) := by decide +kernel
theorem dX5_ask_70 : decode cX5_ask 70 = .ok (.ireturn, 1) := by decide +kernel
theorem dX5_ask_71 : decode cX5_ask 71 = .ok (.aload_n 0, 1) := by decide +kernel
theorem dX5_ask_72 : decode cX5_ask 72 = .ok (.invokevirtual 200, 3) := by decide +kernel
theorem dX5_ask_75 : decode cX5_ask 75 = .ok (.aload_n 0, 1) := by decide +kernel
theorem dX5_ask_76 : decode cX5_ask 76 = .ok (.invokevirtual 243, 3) := by decide +kernel
theorem dX5_ask_79 : decode cX5_ask 79 = .ok (.istore_n 2, 1) := by decide +kernel
theorem dX5_ask_80 : decode cX5_ask 80 = .ok (.iload_n 2, 1) := by decide +kernel
theorem dX5_ask_81 : decode cX5_ask 81 = .ok (.ifCond .eq 5, 3) := by decide +kernel
theorem dX5_ask_84 : decode cX5_ask 84 = .ok (.iload_n 2, 1) := by decide +kernel
theorem dX5_ask_85 : decode cX5_ask 85 = .ok (.ireturn, 1) := by decide +kernel
theorem dX5_ask_86 : decode cX5_ask 86 = .ok (.aload_n 0, 1) := by decide +kernel
theorem dX5_ask_87 : decode cX5_ask 87 = .ok (.iload_n 3, 1) := by decide +kernel
theorem dX5_ask_88 : decode cX5_ask 88 = .ok (.iconst 0, 1) := by decide +kernel
theorem dX5_ask_89 : decode cX5_ask 89 = .ok (.invokevirtual 192, 3) := by decide +kernel
theorem dX5_ask_92 : decode cX5_ask 92 = .ok (.aload_n 0, 1) := by decide +kernel
theorem dX5_ask_93 : decode cX5_ask 93 = .ok (.dup, 1) := by decide +kernel
theorem dX5_ask_94 : decode cX5_ask 94 = .ok (.getfield 189, 3) := by decide +kernel
theorem dX5_ask_97 : decode cX5_ask 97 = .ok (.iload_n 1, 1) := by decide +kernel
theorem dX5_ask_98 : decode cX5_ask 98 = .ok (.isub, 1) := by decide +kernel
theorem dX5_ask_99 : decode cX5_ask 99 = .ok (.putfield 189, 3) := by decide +kernel
theorem dX5_ask_102 : decode cX5_ask 102 = .ok (.iconst 0, 1) := by decide +kernel
theorem dX5_ask_103 : decode cX5_ask 103 = .ok (.istore 4, 2) := by decide +kernel
theorem dX5_ask_105 : decode cX5_ask 105 = .ok (.iload 4, 2) := by decide +kernel
theorem dX5_ask_107 : decode cX5_ask 107 = .ok (.iload_n 1, 1) := by decide +kernel
theorem dX5_ask_108 : decode cX5_ask 108 = .ok (.if_icmp .ge 16, 3) := by decide +kernel
theorem dX5_ask_111 : decode cX5_ask 111 = .ok (.aload_n 0, 1) := by decide +kernel
theorem dX5_ask_112 : decode cX5_ask 112 = .ok (.bipush 20, 2) := by decide +kernel
theorem dX5_ask_114 : decode cX5_ask 114 = .ok (.iconst 0, 1) := by decide +kernel
theorem dX5_ask_115 : decode cX5_ask 115 = .ok (.invokevirtual 192, 3) := by decide +kernel
theorem dX5_ask_118 : decode cX5_ask 118 = .ok (.iinc 4 1, 3) := by decide +kernel
theorem dX5_ask_121 : decode cX5_ask 121 = .ok (.goto (-16), 3) := by decide +kernel
theorem dX5_ask_124 : decode cX5_ask 124 = .ok (.iconst 0, 1) := by decide +kernel
theorem dX5_ask_125 : decode cX5_ask 125 = .ok (.ireturn, 1) := by decide +kernel
abbrev cX5_isWord : ByteArray := prog_22_method_44_code
def yX5_isWord : MethodName := ⟨RX5, "isWord", "(J)Z"⟩
theorem dX5_isWord_0 : decode cX5_isWord 0 = .ok (.aload_n 0, 1) := by decide +kernel
theorem dX5_isWord_1 : decode cX5_isWord 1 = .ok (.getfield 151, 3) := by decide +kernel
theorem dX5_isWord_4 : decode cX5_isWord 4 = .ok (.iconst 2, 1) := by decide +kernel
theorem dX5_isWord_5 : decode cX5_isWord 5 = .ok (.if_icmp .ne 16, 3) := by decide +kernel
theorem dX5_isWord_8 : decode cX5_isWord 8 = .ok (.aload_n 0, 1) := by decide +kernel
theorem dX5_isWord_9 : decode cX5_isWord 9 = .ok (.getfield 164, 3) := by decide +kernel
theorem dX5_isWord_12 : decode cX5_isWord 12 = .ok (.lload_n 1, 1) := by decide +kernel
theorem dX5_isWord_13 : decode cX5_isWord 13 = .ok (.lcmp, 1) := by decide +kernel
theorem dX5_isWord_14 : decode cX5_isWord 14 = .ok (.ifCond .ne 7, 3) := by decide +kernel
theorem dX5_isWord_17 : decode cX5_isWord 17 = .ok (.iconst 1, 1) := by decide +kernel
theorem dX5_isWord_18 : decode cX5_isWord 18 = .ok (.goto 4, 3) := by decide +kernel
theorem dX5_isWord_21 : decode cX5_isWord 21 = .ok (.iconst 0, 1) := by decide +kernel
theorem dX5_isWord_22 : decode cX5_isWord 22 = .ok (.ireturn, 1) := by decide +kernel
abbrev cX5_summed : ByteArray := prog_22_method_55_code
def yX5_summed : MethodName := ⟨RX5, "summed", "()I"⟩
theorem dX5_summed_0 : decode cX5_summed 0 = .ok (.aload_n 0, 1) := by decide +kernel
theorem dX5_summed_1 : decode cX5_summed 1 = .ok (.iconst 0, 1) := by decide +kernel
theorem dX5_summed_2 : decode cX5_summed 2 = .ok (.putfield 182, 3) := by decide +kernel
theorem dX5_summed_5 : decode cX5_summed 5 = .ok (.aload_n 0, 1) := by decide +kernel
theorem dX5_summed_6 : decode cX5_summed 6 = .ok (.iconst 0, 1) := by decide +kernel
theorem dX5_summed_7 : decode cX5_summed 7 = .ok (.putfield 185, 3) := by decide +kernel
theorem dX5_summed_10 : decode cX5_summed 10 = .ok (.aload_n 0, 1) := by decide +kernel
theorem dX5_summed_11 : decode cX5_summed 11 = .ok (.getfield 185, 3) := by decide +kernel
theorem dX5_summed_14 : decode cX5_summed 14 = .ok (.ifCond .eq 10, 3) := by decide +kernel
theorem dX5_summed_17 : decode cX5_summed 17 = .ok (.aload_n 0, 1) := by decide +kernel
theorem dX5_summed_18 : decode cX5_summed 18 = .ok (.invokevirtual 234, 3) := by decide +kernel
theorem dX5_summed_21 : decode cX5_summed 21 = .ok (.ifCond .eq 31, 3) := by decide +kernel
theorem dX5_summed_24 : decode cX5_summed 24 = .ok (.aload_n 0, 1) := by decide +kernel
theorem dX5_summed_25 : decode cX5_summed 25 = .ok (.getfield 185, 3) := by decide +kernel
theorem dX5_summed_28 : decode cX5_summed 28 = .ok (.ifCond .eq 10, 3) := by decide +kernel
theorem dX5_summed_31 : decode cX5_summed 31 = .ok (.aload_n 0, 1) := by decide +kernel
theorem dX5_summed_32 : decode cX5_summed 32 = .ok (.invokevirtual 237, 3) := by decide +kernel
theorem dX5_summed_35 : decode cX5_summed 35 = .ok (.goto 7, 3) := by decide +kernel
theorem dX5_summed_38 : decode cX5_summed 38 = .ok (.aload_n 0, 1) := by decide +kernel
theorem dX5_summed_39 : decode cX5_summed 39 = .ok (.invokevirtual 240, 3) := by decide +kernel
theorem dX5_summed_42 : decode cX5_summed 42 = .ok (.istore_n 1, 1) := by decide +kernel
theorem dX5_summed_43 : decode cX5_summed 43 = .ok (.iload_n 1, 1) := by decide +kernel
theorem dX5_summed_44 : decode cX5_summed 44 = .ok (.ifCond .eq 5, 3) := by decide +kernel
theorem dX5_summed_47 : decode cX5_summed 47 = .ok (.iload_n 1, 1) := by decide +kernel
theorem dX5_summed_48 : decode cX5_summed 48 = .ok (.ireturn, 1) := by decide +kernel
theorem dX5_summed_49 : decode cX5_summed 49 = .ok (.goto (-39), 3) := by decide +kernel
theorem dX5_summed_52 : decode cX5_summed 52 = .ok (.aload_n 0, 1) := by decide +kernel
theorem dX5_summed_53 : decode cX5_summed 53 = .ok (.iconst 3, 1) := by decide +kernel
theorem dX5_summed_54 : decode cX5_summed 54 = .ok (.invokevirtual 231, 3) := by decide +kernel
theorem dX5_summed_57 : decode cX5_summed 57 = .ok (.aload_n 0, 1) := by decide +kernel
theorem dX5_summed_58 : decode cX5_summed 58 = .ok (.getfield 182, 3) := by decide +kernel
theorem dX5_summed_61 : decode cX5_summed 61 = .ok (.ifCond .le 7, 3) := by decide +kernel
theorem dX5_summed_64 : decode cX5_summed 64 = .ok (.iconst 1, 1) := by decide +kernel
theorem dX5_summed_65 : decode cX5_summed 65 = .ok (.goto 4, 3) := by decide +kernel
theorem dX5_summed_68 : decode cX5_summed 68 = .ok (.iconst 0, 1) := by decide +kernel
theorem dX5_summed_69 : decode cX5_summed 69 = .ok (.ireturn, 1) := by decide +kernel
abbrev cX5_goesOn : ByteArray := prog_22_method_53_code
def yX5_goesOn : MethodName := ⟨RX5, "goesOn", "()Z"⟩
theorem dX5_goesOn_0 : decode cX5_goesOn 0 = .ok (.aload_n 0, 1) := by decide +kernel
theorem dX5_goesOn_1 : decode cX5_goesOn 1 = .ok (.getfield 151, 3) := by decide +kernel
theorem dX5_goesOn_4 : decode cX5_goesOn 4 = .ok (.bipush 43, 2) := by decide +kernel
theorem dX5_goesOn_6 : decode cX5_goesOn 6 = .ok (.if_icmp .eq 55, 3) := by decide +kernel
theorem dX5_goesOn_9 : decode cX5_goesOn 9 = .ok (.aload_n 0, 1) := by decide +kernel
theorem dX5_goesOn_10 : decode cX5_goesOn 10 = .ok (.getfield 151, 3) := by decide +kernel
theorem dX5_goesOn_13 : decode cX5_goesOn 13 = .ok (.bipush 45, 2) := by decide +kernel
theorem dX5_goesOn_15 : decode cX5_goesOn 15 = .ok (.if_icmp .eq 46, 3) := by decide +kernel
theorem dX5_goesOn_18 : decode cX5_goesOn 18 = .ok (.aload_n 0, 1) := by decide +kernel
theorem dX5_goesOn_19 : decode cX5_goesOn 19 = .ok (.getfield 151, 3) := by decide +kernel
theorem dX5_goesOn_22 : decode cX5_goesOn 22 = .ok (.bipush 42, 2) := by decide +kernel
theorem dX5_goesOn_24 : decode cX5_goesOn 24 = .ok (.if_icmp .eq 37, 3) := by decide +kernel
theorem dX5_goesOn_27 : decode cX5_goesOn 27 = .ok (.aload_n 0, 1) := by decide +kernel
theorem dX5_goesOn_28 : decode cX5_goesOn 28 = .ok (.getfield 151, 3) := by decide +kernel
theorem dX5_goesOn_31 : decode cX5_goesOn 31 = .ok (.bipush 47, 2) := by decide +kernel
theorem dX5_goesOn_33 : decode cX5_goesOn 33 = .ok (.if_icmp .eq 28, 3) := by decide +kernel
theorem dX5_goesOn_36 : decode cX5_goesOn 36 = .ok (.aload_n 0, 1) := by decide +kernel
theorem dX5_goesOn_37 : decode cX5_goesOn 37 = .ok (.getfield 151, 3) := by decide +kernel
theorem dX5_goesOn_40 : decode cX5_goesOn 40 = .ok (.bipush 44, 2) := by decide +kernel
theorem dX5_goesOn_42 : decode cX5_goesOn 42 = .ok (.if_icmp .eq 12, 3) := by decide +kernel
theorem dX5_goesOn_45 : decode cX5_goesOn 45 = .ok (.aload_n 0, 1) := by decide +kernel
theorem dX5_goesOn_46 : decode cX5_goesOn 46 = .ok (.getfield 151, 3) := by decide +kernel
theorem dX5_goesOn_49 : decode cX5_goesOn 49 = .ok (.bipush 41, 2) := by decide +kernel
theorem dX5_goesOn_51 : decode cX5_goesOn 51 = .ok (.if_icmp .ne 14, 3) := by decide +kernel
theorem dX5_goesOn_54 : decode cX5_goesOn 54 = .ok (.aload_n 0, 1) := by decide +kernel
theorem dX5_goesOn_55 : decode cX5_goesOn 55 = .ok (.invokevirtual 227, 3) := by decide +kernel
theorem dX5_goesOn_58 : decode cX5_goesOn 58 = .ok (.ifCond .eq 7, 3) := by decide +kernel
theorem dX5_goesOn_61 : decode cX5_goesOn 61 = .ok (.iconst 1, 1) := by decide +kernel
theorem dX5_goesOn_62 : decode cX5_goesOn 62 = .ok (.goto 4, 3) := by decide +kernel
theorem dX5_goesOn_65 : decode cX5_goesOn 65 = .ok (.iconst 0, 1) := by decide +kernel
theorem dX5_goesOn_66 : decode cX5_goesOn 66 = .ok (.ireturn, 1) := by decide +kernel
abbrev cX5_hasParen : ByteArray := prog_22_method_52_code
def yX5_hasParen : MethodName := ⟨RX5, "hasParen", "()Z"⟩
theorem dX5_hasParen_0 : decode cX5_hasParen 0 = .ok (.iconst 0, 1) := by decide +kernel
theorem dX5_hasParen_1 : decode cX5_hasParen 1 = .ok (.istore_n 1, 1) := by decide +kernel
theorem dX5_hasParen_2 : decode cX5_hasParen 2 = .ok (.iload_n 1, 1) := by decide +kernel
theorem dX5_hasParen_3 : decode cX5_hasParen 3 = .ok (.aload_n 0, 1) := by decide +kernel
theorem dX5_hasParen_4 : decode cX5_hasParen 4 = .ok (.getfield 182, 3) := by decide +kernel
theorem dX5_hasParen_7 : decode cX5_hasParen 7 = .ok (.if_icmp .ge 22, 3) := by decide +kernel
theorem dX5_hasParen_10 : decode cX5_hasParen 10 = .ok (.aload_n 0, 1) := by decide +kernel
theorem dX5_hasParen_11 : decode cX5_hasParen 11 = .ok (.getfield 41, 3) := by decide +kernel
theorem dX5_hasParen_14 : decode cX5_hasParen 14 = .ok (.iload_n 1, 1) := by decide +kernel
theorem dX5_hasParen_15 : decode cX5_hasParen 15 = .ok (.iaload, 1) := by decide +kernel
theorem dX5_hasParen_16 : decode cX5_hasParen 16 = .ok (.bipush 40, 2) := by decide +kernel
theorem dX5_hasParen_18 : decode cX5_hasParen 18 = .ok (.if_icmp .lt 5, 3) := by decide +kernel
theorem dX5_hasParen_21 : decode cX5_hasParen 21 = .ok (.iconst 1, 1) := by decide +kernel
theorem dX5_hasParen_22 : decode cX5_hasParen 22 = .ok (.ireturn, 1) := by decide +kernel
theorem dX5_hasParen_23 : decode cX5_hasParen 23 = .ok (.iinc 1 1, 3) := by decide +kernel
theorem dX5_hasParen_26 : decode cX5_hasParen 26 = .ok (.goto (-24), 3) := by decide +kernel
theorem dX5_hasParen_29 : decode cX5_hasParen 29 = .ok (.iconst 0, 1) := by decide +kernel
theorem dX5_hasParen_30 : decode cX5_hasParen 30 = .ok (.ireturn, 1) := by decide +kernel
abbrev cX5_behindOne : ByteArray := prog_22_method_54_code
def yX5_behindOne : MethodName := ⟨RX5, "behindOne", "()I"⟩
theorem dX5_behindOne_0 : decode cX5_behindOne 0 = .ok (.aload_n 0, 1) := by decide +kernel
theorem dX5_behindOne_1 : decode cX5_behindOne 1 = .ok (.getfield 151, 3) := by decide +kernel
theorem dX5_behindOne_4 : decode cX5_behindOne 4 = .ok (.istore_n 1, 1) := by decide +kernel
theorem dX5_behindOne_5 : decode cX5_behindOne 5 = .ok (.iload_n 1, 1) := by decide +kernel
theorem dX5_behindOne_6 : decode cX5_behindOne 6 = .ok (.bipush 43, 2) := by decide +kernel
theorem dX5_behindOne_8 : decode cX5_behindOne 8 = .ok (.if_icmp .eq 9, 3) := by decide +kernel
theorem dX5_behindOne_11 : decode cX5_behindOne 11 = .ok (.iload_n 1, 1) := by decide +kernel
theorem dX5_behindOne_12 : decode cX5_behindOne 12 = .ok (.bipush 45, 2) := by decide +kernel
theorem dX5_behindOne_14 : decode cX5_behindOne 14 = .ok (.if_icmp .ne 31, 3) := by decide +kernel
theorem dX5_behindOne_17 : decode cX5_behindOne 17 = .ok (.aload_n 0, 1) := by decide +kernel
theorem dX5_behindOne_18 : decode cX5_behindOne 18 = .ok (.iconst 3, 1) := by decide +kernel
theorem dX5_behindOne_19 : decode cX5_behindOne 19 = .ok (.invokevirtual 231, 3) := by decide +kernel
theorem dX5_behindOne_22 : decode cX5_behindOne 22 = .ok (.aload_n 0, 1) := by decide +kernel
theorem dX5_behindOne_23 : decode cX5_behindOne 23 = .ok (.iload_n 1, 1) := by decide +kernel
theorem dX5_behindOne_24 : decode cX5_behindOne 24 = .ok (.bipush 43, 2) := by decide +kernel
theorem dX5_behindOne_26 : decode cX5_behindOne 26 = .ok (.if_icmp .ne 7, 3) := by decide +kernel
theorem dX5_behindOne_29 : decode cX5_behindOne 29 = .ok (.iconst 3, 1) := by decide +kernel
theorem dX5_behindOne_30 : decode cX5_behindOne 30 = .ok (.goto 4, 3) := by decide +kernel
theorem dX5_behindOne_33 : decode cX5_behindOne 33 = .ok (.iconst 4, 1) := by decide +kernel
theorem dX5_behindOne_34 : decode cX5_behindOne 34 = .ok (.invokevirtual 224, 3) := by decide +kernel
theorem dX5_behindOne_37 : decode cX5_behindOne 37 = .ok (.aload_n 0, 1) := by decide +kernel
theorem dX5_behindOne_38 : decode cX5_behindOne 38 = .ok (.iconst 0, 1) := by decide +kernel
theorem dX5_behindOne_39 : decode cX5_behindOne 39 = .ok (.putfield 185, 3) := by decide +kernel
theorem dX5_behindOne_42 : decode cX5_behindOne 42 = .ok (.goto 166, 3) := by decide +kernel
theorem dX5_behindOne_45 : decode cX5_behindOne 45 = .ok (.iload_n 1, 1) := by decide +kernel
theorem dX5_behindOne_46 : decode cX5_behindOne 46 = .ok (.bipush 42, 2) := by decide +kernel
theorem dX5_behindOne_48 : decode cX5_behindOne 48 = .ok (.if_icmp .eq 9, 3) := by decide +kernel
theorem dX5_behindOne_51 : decode cX5_behindOne 51 = .ok (.iload_n 1, 1) := by decide +kernel
theorem dX5_behindOne_52 : decode cX5_behindOne 52 = .ok (.bipush 47, 2) := by decide +kernel
theorem dX5_behindOne_54 : decode cX5_behindOne 54 = .ok (.if_icmp .ne 32, 3) := by decide +kernel
theorem dX5_behindOne_57 : decode cX5_behindOne 57 = .ok (.aload_n 0, 1) := by decide +kernel
theorem dX5_behindOne_58 : decode cX5_behindOne 58 = .ok (.iconst 5, 1) := by decide +kernel
theorem dX5_behindOne_59 : decode cX5_behindOne 59 = .ok (.invokevirtual 231, 3) := by decide +kernel
theorem dX5_behindOne_62 : decode cX5_behindOne 62 = .ok (.aload_n 0, 1) := by decide +kernel
theorem dX5_behindOne_63 : decode cX5_behindOne 63 = .ok (.iload_n 1, 1) := by decide +kernel
theorem dX5_behindOne_64 : decode cX5_behindOne 64 = .ok (.bipush 42, 2) := by decide +kernel
theorem dX5_behindOne_66 : decode cX5_behindOne 66 = .ok (.if_icmp .ne 7, 3) := by decide +kernel
theorem dX5_behindOne_69 : decode cX5_behindOne 69 = .ok (.iconst 5, 1) := by decide +kernel
theorem dX5_behindOne_70 : decode cX5_behindOne 70 = .ok (.goto 5, 3) := by decide +kernel
theorem dX5_behindOne_73 : decode cX5_behindOne 73 = .ok (.bipush 6, 2) := by decide +kernel
theorem dX5_behindOne_75 : decode cX5_behindOne 75 = .ok (.invokevirtual 224, 3) := by decide +kernel
theorem dX5_behindOne_78 : decode cX5_behindOne 78 = .ok (.aload_n 0, 1) := by decide +kernel
theorem dX5_behindOne_79 : decode cX5_behindOne 79 = .ok (.iconst 0, 1) := by decide +kernel
theorem dX5_behindOne_80 : decode cX5_behindOne 80 = .ok (.putfield 185, 3) := by decide +kernel
theorem dX5_behindOne_83 : decode cX5_behindOne 83 = .ok (.goto 125, 3) := by decide +kernel
theorem dX5_behindOne_86 : decode cX5_behindOne 86 = .ok (.aload_n 0, 1) := by decide +kernel
theorem dX5_behindOne_87 : decode cX5_behindOne 87 = .ok (.iconst 3, 1) := by decide +kernel
theorem dX5_behindOne_88 : decode cX5_behindOne 88 = .ok (.invokevirtual 231, 3) := by decide +kernel
theorem dX5_behindOne_91 : decode cX5_behindOne 91 = .ok (.aload_n 0, 1) := by decide +kernel
theorem dX5_behindOne_92 : decode cX5_behindOne 92 = .ok (.getfield 41, 3) := by decide +kernel
theorem dX5_behindOne_95 : decode cX5_behindOne 95 = .ok (.aload_n 0, 1) := by decide +kernel
theorem dX5_behindOne_96 : decode cX5_behindOne 96 = .ok (.getfield 182, 3) := by decide +kernel
theorem dX5_behindOne_99 : decode cX5_behindOne 99 = .ok (.iconst 1, 1) := by decide +kernel
theorem dX5_behindOne_100 : decode cX5_behindOne 100 = .ok (.isub, 1) := by decide +kernel
theorem dX5_behindOne_101 : decode cX5_behindOne 101 = .ok (.iaload, 1) := by decide +kernel
theorem dX5_behindOne_102 : decode cX5_behindOne 102 = .ok (.istore_n 2, 1) := by decide +kernel
theorem dX5_behindOne_103 : decode cX5_behindOne 103 = .ok (.iload_n 1, 1) := by decide +kernel
theorem dX5_behindOne_104 : decode cX5_behindOne 104 = .ok (.bipush 44, 2) := by decide +kernel
theorem dX5_behindOne_106 : decode cX5_behindOne 106 = .ok (.if_icmp .ne 40, 3) := by decide +kernel
theorem dX5_behindOne_109 : decode cX5_behindOne 109 = .ok (.iload_n 2, 1) := by decide +kernel
theorem dX5_behindOne_110 : decode cX5_behindOne 110 = .ok (.bipush 41, 2) := by decide +kernel
theorem dX5_behindOne_112 : decode cX5_behindOne 112 = .ok (.if_icmp .eq 11, 3) := by decide +kernel
theorem dX5_behindOne_115 : decode cX5_behindOne 115 = .ok (.iload_n 2, 1) := by decide +kernel
theorem dX5_behindOne_116 : decode cX5_behindOne 116 = .ok (.bipush 42, 2) := by decide +kernel
theorem dX5_behindOne_118 : decode cX5_behindOne 118 = .ok (.if_icmp .eq 5, 3) := by decide +kernel
theorem dX5_behindOne_121 : decode cX5_behindOne 121 = .ok (.iconst 1, 1) := by decide +kernel
theorem dX5_behindOne_122 : decode cX5_behindOne 122 = .ok (.ireturn, 1) := by decide +kernel
theorem dX5_behindOne_123 : decode cX5_behindOne 123 = .ok (.aload_n 0, 1) := by decide +kernel
theorem dX5_behindOne_124 : decode cX5_behindOne 124 = .ok (.getfield 41, 3) := by decide +kernel
theorem dX5_behindOne_127 : decode cX5_behindOne 127 = .ok (.aload_n 0, 1) := by decide +kernel
theorem dX5_behindOne_128 : decode cX5_behindOne 128 = .ok (.getfield 182, 3) := by decide +kernel
theorem dX5_behindOne_131 : decode cX5_behindOne 131 = .ok (.iconst 1, 1) := by decide +kernel
theorem dX5_behindOne_132 : decode cX5_behindOne 132 = .ok (.isub, 1) := by decide +kernel
theorem dX5_behindOne_133 : decode cX5_behindOne 133 = .ok (.dup2, 1) := by decide +kernel
theorem dX5_behindOne_134 : decode cX5_behindOne 134 = .ok (.iaload, 1) := by decide +kernel
theorem dX5_behindOne_135 : decode cX5_behindOne 135 = .ok (.iconst 2, 1) := by decide +kernel
theorem dX5_behindOne_136 : decode cX5_behindOne 136 = .ok (.iadd, 1) := by decide +kernel
theorem dX5_behindOne_137 : decode cX5_behindOne 137 = .ok (.iastore, 1) := by decide +kernel
theorem dX5_behindOne_138 : decode cX5_behindOne 138 = .ok (.aload_n 0, 1) := by decide +kernel
theorem dX5_behindOne_139 : decode cX5_behindOne 139 = .ok (.iconst 0, 1) := by decide +kernel
theorem dX5_behindOne_140 : decode cX5_behindOne 140 = .ok (.putfield 185, 3) := by decide +kernel
theorem dX5_behindOne_143 : decode cX5_behindOne 143 = .ok (.goto 65, 3) := by decide +kernel
theorem dX5_behindOne_146 : decode cX5_behindOne 146 = .ok (.iload_n 2, 1) := by decide +kernel
theorem dX5_behindOne_147 : decode cX5_behindOne 147 = .ok (.bipush 41, 2) := by decide +kernel
theorem dX5_behindOne_149 : decode cX5_behindOne 149 = .ok (.if_icmp .eq 9, 3) := by decide +kernel
theorem dX5_behindOne_152 : decode cX5_behindOne 152 = .ok (.iload_n 2, 1) := by decide +kernel
theorem dX5_behindOne_153 : decode cX5_behindOne 153 = .ok (.bipush 42, 2) := by decide +kernel
theorem dX5_behindOne_155 : decode cX5_behindOne 155 = .ok (.if_icmp .ne 5, 3) := by decide +kernel
theorem dX5_behindOne_158 : decode cX5_behindOne 158 = .ok (.iconst 1, 1) := by decide +kernel
theorem dX5_behindOne_159 : decode cX5_behindOne 159 = .ok (.ireturn, 1) := by decide +kernel
theorem dX5_behindOne_160 : decode cX5_behindOne 160 = .ok (.aload_n 0, 1) := by decide +kernel
theorem dX5_behindOne_161 : decode cX5_behindOne 161 = .ok (.dup, 1) := by decide +kernel
theorem dX5_behindOne_162 : decode cX5_behindOne 162 = .ok (.getfield 182, 3) := by decide +kernel
theorem dX5_behindOne_165 : decode cX5_behindOne 165 = .ok (.iconst 1, 1) := by decide +kernel
theorem dX5_behindOne_166 : decode cX5_behindOne 166 = .ok (.isub, 1) := by decide +kernel
theorem dX5_behindOne_167 : decode cX5_behindOne 167 = .ok (.putfield 182, 3) := by decide +kernel
theorem dX5_behindOne_170 : decode cX5_behindOne 170 = .ok (.aload_n 0, 1) := by decide +kernel
theorem dX5_behindOne_171 : decode cX5_behindOne 171 = .ok (.dup, 1) := by decide +kernel
theorem dX5_behindOne_172 : decode cX5_behindOne 172 = .ok (.getfield 189, 3) := by decide +kernel
theorem dX5_behindOne_175 : decode cX5_behindOne 175 = .ok (.iconst 1, 1) := by decide +kernel
theorem dX5_behindOne_176 : decode cX5_behindOne 176 = .ok (.isub, 1) := by decide +kernel
theorem dX5_behindOne_177 : decode cX5_behindOne 177 = .ok (.putfield 189, 3) := by decide +kernel
theorem dX5_behindOne_180 : decode cX5_behindOne 180 = .ok (.iload_n 2, 1) := by decide +kernel
theorem dX5_behindOne_181 : decode cX5_behindOne 181 = .ok (.bipush 40, 2) := by decide +kernel
theorem dX5_behindOne_183 : decode cX5_behindOne 183 = .ok (.if_icmp .le 21, 3) := by decide +kernel
theorem dX5_behindOne_186 : decode cX5_behindOne 186 = .ok (.aload_n 0, 1) := by decide +kernel
theorem dX5_behindOne_187 : decode cX5_behindOne 187 = .ok (.iload_n 2, 1) := by decide +kernel
theorem dX5_behindOne_188 : decode cX5_behindOne 188 = .ok (.bipush 43, 2) := by decide +kernel
theorem dX5_behindOne_190 : decode cX5_behindOne 190 = .ok (.if_icmp .ne 8, 3) := by decide +kernel
theorem dX5_behindOne_193 : decode cX5_behindOne 193 = .ok (.bipush 7, 2) := by decide +kernel
theorem dX5_behindOne_195 : decode cX5_behindOne 195 = .ok (.goto 5, 3) := by decide +kernel
theorem dX5_behindOne_198 : decode cX5_behindOne 198 = .ok (.bipush 8, 2) := by decide +kernel
theorem dX5_behindOne_200 : decode cX5_behindOne 200 = .ok (.iconst 0, 1) := by decide +kernel
theorem dX5_behindOne_201 : decode cX5_behindOne 201 = .ok (.invokevirtual 192, 3) := by decide +kernel
theorem dX5_behindOne_204 : decode cX5_behindOne 204 = .ok (.aload_n 0, 1) := by decide +kernel
theorem dX5_behindOne_205 : decode cX5_behindOne 205 = .ok (.invokevirtual 203, 3) := by decide +kernel
theorem dX5_behindOne_208 : decode cX5_behindOne 208 = .ok (.aload_n 0, 1) := by decide +kernel
theorem dX5_behindOne_209 : decode cX5_behindOne 209 = .ok (.invokevirtual 200, 3) := by decide +kernel
theorem dX5_behindOne_212 : decode cX5_behindOne 212 = .ok (.iconst 0, 1) := by decide +kernel
theorem dX5_behindOne_213 : decode cX5_behindOne 213 = .ok (.ireturn, 1) := by decide +kernel
abbrev cX5_settle : ByteArray := prog_22_method_48_code
def yX5_settle : MethodName := ⟨RX5, "settle", "(I)V"⟩
theorem dX5_settle_0 : decode cX5_settle 0 = .ok (.aload_n 0, 1) := by decide +kernel
theorem dX5_settle_1 : decode cX5_settle 1 = .ok (.getfield 182, 3) := by decide +kernel
theorem dX5_settle_4 : decode cX5_settle 4 = .ok (.ifCond .le 61, 3) := by decide +kernel
theorem dX5_settle_7 : decode cX5_settle 7 = .ok (.aload_n 0, 1) := by decide +kernel
theorem dX5_settle_8 : decode cX5_settle 8 = .ok (.getfield 41, 3) := by decide +kernel
theorem dX5_settle_11 : decode cX5_settle 11 = .ok (.aload_n 0, 1) := by decide +kernel
theorem dX5_settle_12 : decode cX5_settle 12 = .ok (.getfield 182, 3) := by decide +kernel
theorem dX5_settle_15 : decode cX5_settle 15 = .ok (.iconst 1, 1) := by decide +kernel
theorem dX5_settle_16 : decode cX5_settle 16 = .ok (.isub, 1) := by decide +kernel
theorem dX5_settle_17 : decode cX5_settle 17 = .ok (.iaload, 1) := by decide +kernel
theorem dX5_settle_18 : decode cX5_settle 18 = .ok (.bipush 40, 2) := by decide +kernel
theorem dX5_settle_20 : decode cX5_settle 20 = .ok (.if_icmp .ge 45, 3) := by decide +kernel
theorem dX5_settle_23 : decode cX5_settle 23 = .ok (.aload_n 0, 1) := by decide +kernel
theorem dX5_settle_24 : decode cX5_settle 24 = .ok (.getfield 41, 3) := by decide +kernel
theorem dX5_settle_27 : decode cX5_settle 27 = .ok (.aload_n 0, 1) := by decide +kernel
theorem dX5_settle_28 : decode cX5_settle 28 = .ok (.getfield 182, 3) := by decide +kernel
theorem dX5_settle_31 : decode cX5_settle 31 = .ok (.iconst 1, 1) := by decide +kernel
theorem dX5_settle_32 : decode cX5_settle 32 = .ok (.isub, 1) := by decide +kernel
theorem dX5_settle_33 : decode cX5_settle 33 = .ok (.iaload, 1) := by decide +kernel
theorem dX5_settle_34 : decode cX5_settle 34 = .ok (.iload_n 1, 1) := by decide +kernel
theorem dX5_settle_35 : decode cX5_settle 35 = .ok (.if_icmp .lt 30, 3) := by decide +kernel
theorem dX5_settle_38 : decode cX5_settle 38 = .ok (.aload_n 0, 1) := by decide +kernel
theorem dX5_settle_39 : decode cX5_settle 39 = .ok (.dup, 1) := by decide +kernel
theorem dX5_settle_40 : decode cX5_settle 40 = .ok (.getfield 182, 3) := by decide +kernel
theorem dX5_settle_43 : decode cX5_settle 43 = .ok (.iconst 1, 1) := by decide +kernel
theorem dX5_settle_44 : decode cX5_settle 44 = .ok (.isub, 1) := by decide +kernel
theorem dX5_settle_45 : decode cX5_settle 45 = .ok (.putfield 182, 3) := by decide +kernel
theorem dX5_settle_48 : decode cX5_settle 48 = .ok (.aload_n 0, 1) := by decide +kernel
theorem dX5_settle_49 : decode cX5_settle 49 = .ok (.aload_n 0, 1) := by decide +kernel
theorem dX5_settle_50 : decode cX5_settle 50 = .ok (.getfield 41, 3) := by decide +kernel
theorem dX5_settle_53 : decode cX5_settle 53 = .ok (.aload_n 0, 1) := by decide +kernel
theorem dX5_settle_54 : decode cX5_settle 54 = .ok (.getfield 182, 3) := by decide +kernel
theorem dX5_settle_57 : decode cX5_settle 57 = .ok (.iaload, 1) := by decide +kernel
theorem dX5_settle_58 : decode cX5_settle 58 = .ok (.iconst 0, 1) := by decide +kernel
theorem dX5_settle_59 : decode cX5_settle 59 = .ok (.invokevirtual 192, 3) := by decide +kernel
theorem dX5_settle_62 : decode cX5_settle 62 = .ok (.goto (-62), 3) := by decide +kernel
theorem dX5_settle_65 : decode cX5_settle 65 = .ok (.return_, 1) := by decide +kernel
abbrev cX5_emit : ByteArray := prog_22_method_45_code
def yX5_emit : MethodName := ⟨RX5, "emit", "(II)V"⟩
theorem dX5_emit_0 : decode cX5_emit 0 = .ok (.aload_n 0, 1) := by decide +kernel
theorem dX5_emit_1 : decode cX5_emit 1 = .ok (.getfield 16, 3) := by decide +kernel
theorem dX5_emit_4 : decode cX5_emit 4 = .ok (.aload_n 0, 1) := by decide +kernel
theorem dX5_emit_5 : decode cX5_emit 5 = .ok (.getfield 176, 3) := by decide +kernel
theorem dX5_emit_8 : decode cX5_emit 8 = .ok (.bipush 80, 2) := by decide +kernel
theorem dX5_emit_10 : decode cX5_emit 10 = .ok (.iadd, 1) := by decide +kernel
theorem dX5_emit_11 : decode cX5_emit 11 = .ok (.iconst 2, 1) := by decide +kernel
theorem dX5_emit_12 : decode cX5_emit 12 = .ok (.aload_n 0, 1) := by decide +kernel
theorem dX5_emit_13 : decode cX5_emit 13 = .ok (.getfield 179, 3) := by decide +kernel
theorem dX5_emit_16 : decode cX5_emit 16 = .ok (.imul, 1) := by decide +kernel
theorem dX5_emit_17 : decode cX5_emit 17 = .ok (.iadd, 1) := by decide +kernel
theorem dX5_emit_18 : decode cX5_emit 18 = .ok (.iload_n 1, 1) := by decide +kernel
theorem dX5_emit_19 : decode cX5_emit 19 = .ok (.iastore, 1) := by decide +kernel
theorem dX5_emit_20 : decode cX5_emit 20 = .ok (.aload_n 0, 1) := by decide +kernel
theorem dX5_emit_21 : decode cX5_emit 21 = .ok (.getfield 16, 3) := by decide +kernel
theorem dX5_emit_24 : decode cX5_emit 24 = .ok (.aload_n 0, 1) := by decide +kernel
theorem dX5_emit_25 : decode cX5_emit 25 = .ok (.getfield 176, 3) := by decide +kernel
theorem dX5_emit_28 : decode cX5_emit 28 = .ok (.bipush 80, 2) := by decide +kernel
theorem dX5_emit_30 : decode cX5_emit 30 = .ok (.iadd, 1) := by decide +kernel
theorem dX5_emit_31 : decode cX5_emit 31 = .ok (.iconst 2, 1) := by decide +kernel
theorem dX5_emit_32 : decode cX5_emit 32 = .ok (.aload_n 0, 1) := by decide +kernel
theorem dX5_emit_33 : decode cX5_emit 33 = .ok (.getfield 179, 3) := by decide +kernel
theorem dX5_emit_36 : decode cX5_emit 36 = .ok (.imul, 1) := by decide +kernel
theorem dX5_emit_37 : decode cX5_emit 37 = .ok (.iadd, 1) := by decide +kernel
theorem dX5_emit_38 : decode cX5_emit 38 = .ok (.iconst 1, 1) := by decide +kernel
theorem dX5_emit_39 : decode cX5_emit 39 = .ok (.iadd, 1) := by decide +kernel
theorem dX5_emit_40 : decode cX5_emit 40 = .ok (.iload_n 2, 1) := by decide +kernel
theorem dX5_emit_41 : decode cX5_emit 41 = .ok (.iastore, 1) := by decide +kernel
theorem dX5_emit_42 : decode cX5_emit 42 = .ok (.aload_n 0, 1) := by decide +kernel
theorem dX5_emit_43 : decode cX5_emit 43 = .ok (.dup, 1) := by decide +kernel
theorem dX5_emit_44 : decode cX5_emit 44 = .ok (.getfield 179, 3) := by decide +kernel
theorem dX5_emit_47 : decode cX5_emit 47 = .ok (.iconst 1, 1) := by decide +kernel
theorem dX5_emit_48 : decode cX5_emit 48 = .ok (.iadd, 1) := by decide +kernel
theorem dX5_emit_49 : decode cX5_emit 49 = .ok (.putfield 179, 3) := by decide +kernel
theorem dX5_emit_52 : decode cX5_emit 52 = .ok (.return_, 1) := by decide +kernel
abbrev cX5_push : ByteArray := prog_22_method_46_code
def yX5_push : MethodName := ⟨RX5, "push", "(I)V"⟩
theorem dX5_push_0 : decode cX5_push 0 = .ok (.aload_n 0, 1) := by decide +kernel
theorem dX5_push_1 : decode cX5_push 1 = .ok (.getfield 41, 3) := by decide +kernel
theorem dX5_push_4 : decode cX5_push 4 = .ok (.aload_n 0, 1) := by decide +kernel
theorem dX5_push_5 : decode cX5_push 5 = .ok (.getfield 182, 3) := by decide +kernel
theorem dX5_push_8 : decode cX5_push 8 = .ok (.iload_n 1, 1) := by decide +kernel
theorem dX5_push_9 : decode cX5_push 9 = .ok (.iastore, 1) := by decide +kernel
theorem dX5_push_10 : decode cX5_push 10 = .ok (.aload_n 0, 1) := by decide +kernel
theorem dX5_push_11 : decode cX5_push 11 = .ok (.dup, 1) := by decide +kernel
theorem dX5_push_12 : decode cX5_push 12 = .ok (.getfield 182, 3) := by decide +kernel
theorem dX5_push_15 : decode cX5_push 15 = .ok (.iconst 1, 1) := by decide +kernel
theorem dX5_push_16 : decode cX5_push 16 = .ok (.iadd, 1) := by decide +kernel
theorem dX5_push_17 : decode cX5_push 17 = .ok (.putfield 182, 3) := by decide +kernel
theorem dX5_push_20 : decode cX5_push 20 = .ok (.return_, 1) := by decide +kernel
abbrev cX5_whole : ByteArray := prog_22_method_47_code
def yX5_whole : MethodName := ⟨RX5, "whole", "()V"⟩
theorem dX5_whole_0 : decode cX5_whole 0 = .ok (.aload_n 0, 1) := by decide +kernel
theorem dX5_whole_1 : decode cX5_whole 1 = .ok (.iconst 1, 1) := by decide +kernel
theorem dX5_whole_2 : decode cX5_whole 2 = .ok (.putfield 185, 3) := by decide +kernel
theorem dX5_whole_5 : decode cX5_whole 5 = .ok (.aload_n 0, 1) := by decide +kernel
theorem dX5_whole_6 : decode cX5_whole 6 = .ok (.getfield 182, 3) := by decide +kernel
theorem dX5_whole_9 : decode cX5_whole 9 = .ok (.ifCond .le 47, 3) := by decide +kernel
theorem dX5_whole_12 : decode cX5_whole 12 = .ok (.aload_n 0, 1) := by decide +kernel
theorem dX5_whole_13 : decode cX5_whole 13 = .ok (.getfield 41, 3) := by decide +kernel
theorem dX5_whole_16 : decode cX5_whole 16 = .ok (.aload_n 0, 1) := by decide +kernel
theorem dX5_whole_17 : decode cX5_whole 17 = .ok (.getfield 182, 3) := by decide +kernel
theorem dX5_whole_20 : decode cX5_whole 20 = .ok (.iconst 1, 1) := by decide +kernel
theorem dX5_whole_21 : decode cX5_whole 21 = .ok (.isub, 1) := by decide +kernel
theorem dX5_whole_22 : decode cX5_whole 22 = .ok (.iaload, 1) := by decide +kernel
theorem dX5_whole_23 : decode cX5_whole 23 = .ok (.iconst 2, 1) := by decide +kernel
theorem dX5_whole_24 : decode cX5_whole 24 = .ok (.if_icmp .ne 32, 3) := by decide +kernel
theorem dX5_whole_27 : decode cX5_whole 27 = .ok (.aload_n 0, 1) := by decide +kernel
theorem dX5_whole_28 : decode cX5_whole 28 = .ok (.dup, 1) := by decide +kernel
theorem dX5_whole_29 : decode cX5_whole 29 = .ok (.getfield 182, 3) := by decide +kernel
theorem dX5_whole_32 : decode cX5_whole 32 = .ok (.iconst 1, 1) := by decide +kernel
theorem dX5_whole_33 : decode cX5_whole 33 = .ok (.isub, 1) := by decide +kernel
theorem dX5_whole_34 : decode cX5_whole 34 = .ok (.putfield 182, 3) := by decide +kernel
theorem dX5_whole_37 : decode cX5_whole 37 = .ok (.aload_n 0, 1) := by decide +kernel
theorem dX5_whole_38 : decode cX5_whole 38 = .ok (.dup, 1) := by decide +kernel
theorem dX5_whole_39 : decode cX5_whole 39 = .ok (.getfield 189, 3) := by decide +kernel
theorem dX5_whole_42 : decode cX5_whole 42 = .ok (.iconst 1, 1) := by decide +kernel
theorem dX5_whole_43 : decode cX5_whole 43 = .ok (.isub, 1) := by decide +kernel
theorem dX5_whole_44 : decode cX5_whole 44 = .ok (.putfield 189, 3) := by decide +kernel
theorem dX5_whole_47 : decode cX5_whole 47 = .ok (.aload_n 0, 1) := by decide +kernel
theorem dX5_whole_48 : decode cX5_whole 48 = .ok (.iconst 2, 1) := by decide +kernel
theorem dX5_whole_49 : decode cX5_whole 49 = .ok (.iconst 0, 1) := by decide +kernel
theorem dX5_whole_50 : decode cX5_whole 50 = .ok (.invokevirtual 192, 3) := by decide +kernel
theorem dX5_whole_53 : decode cX5_whole 53 = .ok (.goto (-48), 3) := by decide +kernel
theorem dX5_whole_56 : decode cX5_whole 56 = .ok (.return_, 1) := by decide +kernel
abbrev cX5_beginOne : ByteArray := prog_22_method_51_code
def yX5_beginOne : MethodName := ⟨RX5, "beginOne", "()I"⟩
theorem dX5_beginOne_0 : decode cX5_beginOne 0 = .ok (.aload_n 0, 1) := by decide +kernel
theorem dX5_beginOne_1 : decode cX5_beginOne 1 = .ok (.getfield 151, 3) := by decide +kernel
theorem dX5_beginOne_4 : decode cX5_beginOne 4 = .ok (.iconst 1, 1) := by decide +kernel
theorem dX5_beginOne_5 : decode cX5_beginOne 5 = .ok (.if_icmp .ne 34, 3) := by decide +kernel
theorem dX5_beginOne_8 : decode cX5_beginOne 8 = .ok (.aload_n 0, 1) := by decide +kernel
theorem dX5_beginOne_9 : decode cX5_beginOne 9 = .ok (.getfield 157, 3) := by decide +kernel
theorem dX5_beginOne_12 : decode cX5_beginOne 12 = .ok (.sipush 9999, 3) := by decide +kernel
theorem dX5_beginOne_15 : decode cX5_beginOne 15 = .ok (.if_icmp .le 5, 3) := by decide +kernel
theorem dX5_beginOne_18 : decode cX5_beginOne 18 = .ok (.iconst 2, 1) := by decide +kernel
theorem dX5_beginOne_19 : decode cX5_beginOne 19 = .ok (.ireturn, 1) := by decide +kernel
theorem dX5_beginOne_20 : decode cX5_beginOne 20 = .ok (.aload_n 0, 1) := by decide +kernel
theorem dX5_beginOne_21 : decode cX5_beginOne 21 = .ok (.iconst 0, 1) := by decide +kernel
theorem dX5_beginOne_22 : decode cX5_beginOne 22 = .ok (.aload_n 0, 1) := by decide +kernel
theorem dX5_beginOne_23 : decode cX5_beginOne 23 = .ok (.getfield 157, 3) := by decide +kernel
theorem dX5_beginOne_26 : decode cX5_beginOne 26 = .ok (.invokevirtual 192, 3) := by decide +kernel
theorem dX5_beginOne_29 : decode cX5_beginOne 29 = .ok (.aload_n 0, 1) := by decide +kernel
theorem dX5_beginOne_30 : decode cX5_beginOne 30 = .ok (.invokevirtual 200, 3) := by decide +kernel
theorem dX5_beginOne_33 : decode cX5_beginOne 33 = .ok (.aload_n 0, 1) := by decide +kernel
theorem dX5_beginOne_34 : decode cX5_beginOne 34 = .ok (.invokevirtual 203, 3) := by decide +kernel
theorem dX5_beginOne_37 : decode cX5_beginOne 37 = .ok (.iconst 0, 1) := by decide +kernel
theorem dX5_beginOne_38 : decode cX5_beginOne 38 = .ok (.ireturn, 1) := by decide +kernel
theorem dX5_beginOne_39 : decode cX5_beginOne 39 = .ok (.aload_n 0, 1) := by decide +kernel
theorem dX5_beginOne_40 : decode cX5_beginOne 40 = .ok (.invokevirtual 206, 3) := by decide +kernel
theorem dX5_beginOne_43 : decode cX5_beginOne 43 = .ok (.ifCond .lt 38, 3) := by decide +kernel
theorem dX5_beginOne_46 : decode cX5_beginOne 46 = .ok (.aload_n 0, 1) := by decide +kernel
theorem dX5_beginOne_47 : decode cX5_beginOne 47 = .ok (.getfield 210, 3) := by decide +kernel
theorem dX5_beginOne_50 : decode cX5_beginOne 50 = .ok (.aload_n 0, 1) := by decide +kernel
theorem dX5_beginOne_51 : decode cX5_beginOne 51 = .ok (.invokevirtual 206, 3) := by decide +kernel
theorem dX5_beginOne_54 : decode cX5_beginOne 54 = .ok (.ishr, 1) := by decide +kernel
theorem dX5_beginOne_55 : decode cX5_beginOne 55 = .ok (.iconst 1, 1) := by decide +kernel
theorem dX5_beginOne_56 : decode cX5_beginOne 56 = .ok (.iand, 1) := by decide +kernel
theorem dX5_beginOne_57 : decode cX5_beginOne 57 = .ok (.ifCond .ne 5, 3) := by decide +kernel
theorem dX5_beginOne_60 : decode cX5_beginOne 60 = .ok (.iconst 5, 1) := by decide +kernel
theorem dX5_beginOne_61 : decode cX5_beginOne 61 = .ok (.ireturn, 1) := by decide +kernel
theorem dX5_beginOne_62 : decode cX5_beginOne 62 = .ok (.aload_n 0, 1) := by decide +kernel
theorem dX5_beginOne_63 : decode cX5_beginOne 63 = .ok (.iconst 1, 1) := by decide +kernel
theorem dX5_beginOne_64 : decode cX5_beginOne 64 = .ok (.aload_n 0, 1) := by decide +kernel
theorem dX5_beginOne_65 : decode cX5_beginOne 65 = .ok (.invokevirtual 206, 3) := by decide +kernel
theorem dX5_beginOne_68 : decode cX5_beginOne 68 = .ok (.invokevirtual 192, 3) := by decide +kernel
theorem dX5_beginOne_71 : decode cX5_beginOne 71 = .ok (.aload_n 0, 1) := by decide +kernel
theorem dX5_beginOne_72 : decode cX5_beginOne 72 = .ok (.invokevirtual 200, 3) := by decide +kernel
theorem dX5_beginOne_75 : decode cX5_beginOne 75 = .ok (.aload_n 0, 1) := by decide +kernel
theorem dX5_beginOne_76 : decode cX5_beginOne 76 = .ok (.invokevirtual 203, 3) := by decide +kernel
theorem dX5_beginOne_79 : decode cX5_beginOne 79 = .ok (.iconst 0, 1) := by decide +kernel
theorem dX5_beginOne_80 : decode cX5_beginOne 80 = .ok (.ireturn, 1) := by decide +kernel
theorem dX5_beginOne_81 : decode cX5_beginOne 81 = .ok (.aload_n 0, 1) := by decide +kernel
theorem dX5_beginOne_82 : decode cX5_beginOne 82 = .ok (.bipush 116, 2) := by decide +kernel
theorem dX5_beginOne_84 : decode cX5_beginOne 84 = .ok (.bipush 105, 2) := by decide +kernel
theorem dX5_beginOne_86 : decode cX5_beginOne 86 = .ok (.bipush 99, 2) := by decide +kernel
theorem dX5_beginOne_88 : decode cX5_beginOne 88 = .ok (.bipush 107, 2) := by decide +kernel
theorem dX5_beginOne_90 : decode cX5_beginOne 90 = .ok (.invokestatic 213, 3) := by decide +kernel
theorem dX5_beginOne_93 : decode cX5_beginOne 93 = .ok (.invokevirtual 217, 3) := by decide +kernel
theorem dX5_beginOne_96 : decode cX5_beginOne 96 = .ok (.ifCond .eq 20, 3) := by decide +kernel
theorem dX5_beginOne_99 : decode cX5_beginOne 99 = .ok (.aload_n 0, 1) := by decide +kernel
theorem dX5_beginOne_100 : decode cX5_beginOne 100 = .ok (.bipush 30, 2) := by decide +kernel
theorem dX5_beginOne_102 : decode cX5_beginOne 102 = .ok (.iconst 0, 1) := by decide +kernel
theorem dX5_beginOne_103 : decode cX5_beginOne 103 = .ok (.invokevirtual 192, 3) := by decide +kernel
theorem dX5_beginOne_106 : decode cX5_beginOne 106 = .ok (.aload_n 0, 1) := by decide +kernel
theorem dX5_beginOne_107 : decode cX5_beginOne 107 = .ok (.invokevirtual 200, 3) := by decide +kernel
theorem dX5_beginOne_110 : decode cX5_beginOne 110 = .ok (.aload_n 0, 1) := by decide +kernel
theorem dX5_beginOne_111 : decode cX5_beginOne 111 = .ok (.invokevirtual 203, 3) := by decide +kernel
theorem dX5_beginOne_114 : decode cX5_beginOne 114 = .ok (.iconst 0, 1) := by decide +kernel
theorem dX5_beginOne_115 : decode cX5_beginOne 115 = .ok (.ireturn, 1) := by decide +kernel
theorem dX5_beginOne_116 : decode cX5_beginOne 116 = .ok (.aload_n 0, 1) := by decide +kernel
theorem dX5_beginOne_117 : decode cX5_beginOne 117 = .ok (.bipush 108, 2) := by decide +kernel
theorem dX5_beginOne_119 : decode cX5_beginOne 119 = .ok (.bipush 101, 2) := by decide +kernel
theorem dX5_beginOne_121 : decode cX5_beginOne 121 = .ok (.bipush 110, 2) := by decide +kernel
theorem dX5_beginOne_123 : decode cX5_beginOne 123 = .ok (.bipush 115, 2) := by decide +kernel
theorem dX5_beginOne_125 : decode cX5_beginOne 125 = .ok (.invokestatic 213, 3) := by decide +kernel
theorem dX5_beginOne_128 : decode cX5_beginOne 128 = .ok (.invokevirtual 217, 3) := by decide +kernel
theorem dX5_beginOne_131 : decode cX5_beginOne 131 = .ok (.ifCond .ne 21, 3) := by decide +kernel
theorem dX5_beginOne_134 : decode cX5_beginOne 134 = .ok (.aload_n 0, 1) := by decide +kernel
theorem dX5_beginOne_135 : decode cX5_beginOne 135 = .ok (.bipush 112, 2) := by decide +kernel
theorem dX5_beginOne_137 : decode cX5_beginOne 137 = .ok (.bipush 97, 2) := by decide +kernel
theorem dX5_beginOne_139 : decode cX5_beginOne 139 = .ok (.bipush 105, 2) := by decide +kernel
theorem dX5_beginOne_141 : decode cX5_beginOne 141 = .ok (.bipush 114, 2) := by decide +kernel
theorem dX5_beginOne_143 : decode cX5_beginOne 143 = .ok (.invokestatic 213, 3) := by decide +kernel
theorem dX5_beginOne_146 : decode cX5_beginOne 146 = .ok (.invokevirtual 217, 3) := by decide +kernel
theorem dX5_beginOne_149 : decode cX5_beginOne 149 = .ok (.ifCond .eq 33, 3) := by decide +kernel
theorem dX5_beginOne_152 : decode cX5_beginOne 152 = .ok (.aload_n 0, 1) := by decide +kernel
theorem dX5_beginOne_153 : decode cX5_beginOne 153 = .ok (.aload_n 0, 1) := by decide +kernel
theorem dX5_beginOne_154 : decode cX5_beginOne 154 = .ok (.bipush 108, 2) := by decide +kernel
theorem dX5_beginOne_156 : decode cX5_beginOne 156 = .ok (.bipush 101, 2) := by decide +kernel
theorem dX5_beginOne_158 : decode cX5_beginOne 158 = .ok (.bipush 110, 2) := by decide +kernel
theorem dX5_beginOne_160 : decode cX5_beginOne 160 = .ok (.bipush 115, 2) := by decide +kernel
theorem dX5_beginOne_162 : decode cX5_beginOne 162 = .ok (.invokestatic 213, 3) := by decide +kernel
theorem dX5_beginOne_165 : decode cX5_beginOne 165 = .ok (.invokevirtual 217, 3) := by decide +kernel
theorem dX5_beginOne_168 : decode cX5_beginOne 168 = .ok (.ifCond .eq 8, 3) := by decide +kernel
theorem dX5_beginOne_171 : decode cX5_beginOne 171 = .ok (.bipush 31, 2) := by decide +kernel
theorem dX5_beginOne_173 : decode cX5_beginOne 173 = .ok (.goto 5, 3) := by decide +kernel
theorem dX5_beginOne_176 : decode cX5_beginOne 176 = .ok (.bipush 32, 2) := by decide +kernel
theorem dX5_beginOne_178 : decode cX5_beginOne 178 = .ok (.invokevirtual 221, 3) := by decide +kernel
theorem dX5_beginOne_181 : decode cX5_beginOne 181 = .ok (.ireturn, 1) := by decide +kernel
theorem dX5_beginOne_182 : decode cX5_beginOne 182 = .ok (.aload_n 0, 1) := by decide +kernel
theorem dX5_beginOne_183 : decode cX5_beginOne 183 = .ok (.bipush 109, 2) := by decide +kernel
theorem dX5_beginOne_185 : decode cX5_beginOne 185 = .ok (.bipush 105, 2) := by decide +kernel
theorem dX5_beginOne_187 : decode cX5_beginOne 187 = .ok (.bipush 110, 2) := by decide +kernel
theorem dX5_beginOne_189 : decode cX5_beginOne 189 = .ok (.invokestatic 168, 3) := by decide +kernel
theorem dX5_beginOne_192 : decode cX5_beginOne 192 = .ok (.invokevirtual 217, 3) := by decide +kernel
theorem dX5_beginOne_195 : decode cX5_beginOne 195 = .ok (.ifCond .eq 8, 3) := by decide +kernel
theorem dX5_beginOne_198 : decode cX5_beginOne 198 = .ok (.bipush 41, 2) := by decide +kernel
theorem dX5_beginOne_200 : decode cX5_beginOne 200 = .ok (.goto 52, 3) := by decide +kernel
theorem dX5_beginOne_203 : decode cX5_beginOne 203 = .ok (.aload_n 0, 1) := by decide +kernel
theorem dX5_beginOne_204 : decode cX5_beginOne 204 = .ok (.bipush 109, 2) := by decide +kernel
theorem dX5_beginOne_206 : decode cX5_beginOne 206 = .ok (.bipush 97, 2) := by decide +kernel
theorem dX5_beginOne_208 : decode cX5_beginOne 208 = .ok (.bipush 120, 2) := by decide +kernel
theorem dX5_beginOne_210 : decode cX5_beginOne 210 = .ok (.invokestatic 168, 3) := by decide +kernel
theorem dX5_beginOne_213 : decode cX5_beginOne 213 = .ok (.invokevirtual 217, 3) := by decide +kernel
theorem dX5_beginOne_216 : decode cX5_beginOne 216 = .ok (.ifCond .eq 8, 3) := by decide +kernel
theorem dX5_beginOne_219 : decode cX5_beginOne 219 = .ok (.bipush 42, 2) := by decide +kernel
theorem dX5_beginOne_221 : decode cX5_beginOne 221 = .ok (.goto 31, 3) := by decide +kernel
theorem dX5_beginOne_224 : decode cX5_beginOne 224 = .ok (.aload_n 0, 1) := by decide +kernel
theorem dX5_beginOne_225 : decode cX5_beginOne 225 = .ok (.getfield 151, 3) := by decide +kernel
theorem dX5_beginOne_228 : decode cX5_beginOne 228 = .ok (.bipush 40, 2) := by decide +kernel
theorem dX5_beginOne_230 : decode cX5_beginOne 230 = .ok (.if_icmp .ne 8, 3) := by decide +kernel
theorem dX5_beginOne_233 : decode cX5_beginOne 233 = .ok (.bipush 40, 2) := by decide +kernel
theorem dX5_beginOne_235 : decode cX5_beginOne 235 = .ok (.goto 17, 3) := by decide +kernel
theorem dX5_beginOne_238 : decode cX5_beginOne 238 = .ok (.aload_n 0, 1) := by decide +kernel
theorem dX5_beginOne_239 : decode cX5_beginOne 239 = .ok (.getfield 151, 3) := by decide +kernel
theorem dX5_beginOne_242 : decode cX5_beginOne 242 = .ok (.bipush 45, 2) := by decide +kernel
theorem dX5_beginOne_244 : decode cX5_beginOne 244 = .ok (.if_icmp .ne 7, 3) := by decide +kernel
theorem dX5_beginOne_247 : decode cX5_beginOne 247 = .ok (.iconst 2, 1) := by decide +kernel
theorem dX5_beginOne_248 : decode cX5_beginOne 248 = .ok (.goto 4, 3) := by decide +kernel
theorem dX5_beginOne_251 : decode cX5_beginOne 251 = .ok (.iconst 0, 1) := by decide +kernel
theorem dX5_beginOne_252 : decode cX5_beginOne 252 = .ok (.istore_n 1, 1) := by decide +kernel
theorem dX5_beginOne_253 : decode cX5_beginOne 253 = .ok (.iload_n 1, 1) := by decide +kernel
theorem dX5_beginOne_254 : decode cX5_beginOne 254 = .ok (.ifCond .ne 5, 3) := by decide +kernel
theorem dX5_beginOne_257 : decode cX5_beginOne 257 = .ok (.iconst 1, 1) := by decide +kernel
theorem dX5_beginOne_258 : decode cX5_beginOne 258 = .ok (.ireturn, 1) := by decide +kernel
theorem dX5_beginOne_259 : decode cX5_beginOne 259 = .ok (.iload_n 1, 1) := by decide +kernel
theorem dX5_beginOne_260 : decode cX5_beginOne 260 = .ok (.bipush 40, 2) := by decide +kernel
theorem dX5_beginOne_262 : decode cX5_beginOne 262 = .ok (.if_icmp .le 18, 3) := by decide +kernel
theorem dX5_beginOne_265 : decode cX5_beginOne 265 = .ok (.aload_n 0, 1) := by decide +kernel
theorem dX5_beginOne_266 : decode cX5_beginOne 266 = .ok (.invokevirtual 200, 3) := by decide +kernel
theorem dX5_beginOne_269 : decode cX5_beginOne 269 = .ok (.aload_n 0, 1) := by decide +kernel
theorem dX5_beginOne_270 : decode cX5_beginOne 270 = .ok (.getfield 151, 3) := by decide +kernel
theorem dX5_beginOne_273 : decode cX5_beginOne 273 = .ok (.bipush 40, 2) := by decide +kernel
theorem dX5_beginOne_275 : decode cX5_beginOne 275 = .ok (.if_icmp .eq 5, 3) := by decide +kernel
theorem dX5_beginOne_278 : decode cX5_beginOne 278 = .ok (.iconst 1, 1) := by decide +kernel
theorem dX5_beginOne_279 : decode cX5_beginOne 279 = .ok (.ireturn, 1) := by decide +kernel
theorem dX5_beginOne_280 : decode cX5_beginOne 280 = .ok (.aload_n 0, 1) := by decide +kernel
theorem dX5_beginOne_281 : decode cX5_beginOne 281 = .ok (.getfield 189, 3) := by decide +kernel
theorem dX5_beginOne_284 : decode cX5_beginOne 284 = .ok (.bipush 8, 2) := by decide +kernel
theorem dX5_beginOne_286 : decode cX5_beginOne 286 = .ok (.if_icmp .ne 5, 3) := by decide +kernel
theorem dX5_beginOne_289 : decode cX5_beginOne 289 = .ok (.iconst 3, 1) := by decide +kernel
theorem dX5_beginOne_290 : decode cX5_beginOne 290 = .ok (.ireturn, 1) := by decide +kernel
theorem dX5_beginOne_291 : decode cX5_beginOne 291 = .ok (.aload_n 0, 1) := by decide +kernel
theorem dX5_beginOne_292 : decode cX5_beginOne 292 = .ok (.dup, 1) := by decide +kernel
theorem dX5_beginOne_293 : decode cX5_beginOne 293 = .ok (.getfield 189, 3) := by decide +kernel
theorem dX5_beginOne_296 : decode cX5_beginOne 296 = .ok (.iconst 1, 1) := by decide +kernel
theorem dX5_beginOne_297 : decode cX5_beginOne 297 = .ok (.iadd, 1) := by decide +kernel
theorem dX5_beginOne_298 : decode cX5_beginOne 298 = .ok (.putfield 189, 3) := by decide +kernel
theorem dX5_beginOne_301 : decode cX5_beginOne 301 = .ok (.aload_n 0, 1) := by decide +kernel
theorem dX5_beginOne_302 : decode cX5_beginOne 302 = .ok (.iload_n 1, 1) := by decide +kernel
theorem dX5_beginOne_303 : decode cX5_beginOne 303 = .ok (.invokevirtual 224, 3) := by decide +kernel
theorem dX5_beginOne_306 : decode cX5_beginOne 306 = .ok (.aload_n 0, 1) := by decide +kernel
theorem dX5_beginOne_307 : decode cX5_beginOne 307 = .ok (.invokevirtual 200, 3) := by decide +kernel
theorem dX5_beginOne_310 : decode cX5_beginOne 310 = .ok (.iconst 0, 1) := by decide +kernel
theorem dX5_beginOne_311 : decode cX5_beginOne 311 = .ok (.ireturn, 1) := by decide +kernel
abbrev cX5_eye : ByteArray := prog_22_method_50_code
def yX5_eye : MethodName := ⟨RX5, "eye", "(I)I"⟩
theorem dX5_eye_0 : decode cX5_eye 0 = .ok (.aload_n 0, 1) := by decide +kernel
theorem dX5_eye_1 : decode cX5_eye 1 = .ok (.invokevirtual 200, 3) := by decide +kernel
theorem dX5_eye_4 : decode cX5_eye 4 = .ok (.aload_n 0, 1) := by decide +kernel
theorem dX5_eye_5 : decode cX5_eye 5 = .ok (.getfield 151, 3) := by decide +kernel
theorem dX5_eye_8 : decode cX5_eye 8 = .ok (.iconst 1, 1) := by decide +kernel
theorem dX5_eye_9 : decode cX5_eye 9 = .ok (.if_icmp .eq 5, 3) := by decide +kernel
theorem dX5_eye_12 : decode cX5_eye 12 = .ok (.iconst 1, 1) := by decide +kernel
theorem dX5_eye_13 : decode cX5_eye 13 = .ok (.ireturn, 1) := by decide +kernel
theorem dX5_eye_14 : decode cX5_eye 14 = .ok (.aload_n 0, 1) := by decide +kernel
theorem dX5_eye_15 : decode cX5_eye 15 = .ok (.getfield 157, 3) := by decide +kernel
theorem dX5_eye_18 : decode cX5_eye 18 = .ok (.iconst 0, 1) := by decide +kernel
theorem dX5_eye_19 : decode cX5_eye 19 = .ok (.bipush 15, 2) := by decide +kernel
theorem dX5_eye_21 : decode cX5_eye 21 = .ok (.invokestatic 71, 3) := by decide +kernel
theorem dX5_eye_24 : decode cX5_eye 24 = .ok (.ifCond .ne 5, 3) := by decide +kernel
theorem dX5_eye_27 : decode cX5_eye 27 = .ok (.iconst 2, 1) := by decide +kernel
theorem dX5_eye_28 : decode cX5_eye 28 = .ok (.ireturn, 1) := by decide +kernel
theorem dX5_eye_29 : decode cX5_eye 29 = .ok (.aload_n 0, 1) := by decide +kernel
theorem dX5_eye_30 : decode cX5_eye 30 = .ok (.iload_n 1, 1) := by decide +kernel
theorem dX5_eye_31 : decode cX5_eye 31 = .ok (.aload_n 0, 1) := by decide +kernel
theorem dX5_eye_32 : decode cX5_eye 32 = .ok (.getfield 157, 3) := by decide +kernel
theorem dX5_eye_35 : decode cX5_eye 35 = .ok (.invokevirtual 192, 3) := by decide +kernel
theorem dX5_eye_38 : decode cX5_eye 38 = .ok (.aload_n 0, 1) := by decide +kernel
theorem dX5_eye_39 : decode cX5_eye 39 = .ok (.invokevirtual 200, 3) := by decide +kernel
theorem dX5_eye_42 : decode cX5_eye 42 = .ok (.aload_n 0, 1) := by decide +kernel
theorem dX5_eye_43 : decode cX5_eye 43 = .ok (.invokevirtual 203, 3) := by decide +kernel
theorem dX5_eye_46 : decode cX5_eye 46 = .ok (.iconst 0, 1) := by decide +kernel
theorem dX5_eye_47 : decode cX5_eye 47 = .ok (.ireturn, 1) := by decide +kernel
abbrev cX5_compareOf : ByteArray := prog_22_method_56_code
def yX5_compareOf : MethodName := ⟨RX5, "compareOf", "()I"⟩
theorem dX5_compareOf_0 : decode cX5_compareOf 0 = .ok (.aload_n 0, 1) := by decide +kernel
theorem dX5_compareOf_1 : decode cX5_compareOf 1 = .ok (.getfield 151, 3) := by decide +kernel
theorem dX5_compareOf_4 : decode cX5_compareOf 4 = .ok (.bipush 60, 2) := by decide +kernel
theorem dX5_compareOf_6 : decode cX5_compareOf 6 = .ok (.if_icmp .ne 8, 3) := by decide +kernel
theorem dX5_compareOf_9 : decode cX5_compareOf 9 = .ok (.bipush 10, 2) := by decide +kernel
theorem dX5_compareOf_11 : decode cX5_compareOf 11 = .ok (.goto 72, 3) := by decide +kernel
theorem dX5_compareOf_14 : decode cX5_compareOf 14 = .ok (.aload_n 0, 1) := by decide +kernel
theorem dX5_compareOf_15 : decode cX5_compareOf 15 = .ok (.getfield 151, 3) := by decide +kernel
theorem dX5_compareOf_18 : decode cX5_compareOf 18 = .ok (.iconst 4, 1) := by decide +kernel
theorem dX5_compareOf_19 : decode cX5_compareOf 19 = .ok (.if_icmp .ne 8, 3) := by decide +kernel
theorem dX5_compareOf_22 : decode cX5_compareOf 22 = .ok (.bipush 11, 2) := by decide +kernel
theorem dX5_compareOf_24 : decode cX5_compareOf 24 = .ok (.goto 59, 3) := by decide +kernel
theorem dX5_compareOf_27 : decode cX5_compareOf 27 = .ok (.aload_n 0, 1) := by decide +kernel
theorem dX5_compareOf_28 : decode cX5_compareOf 28 = .ok (.getfield 151, 3) := by decide +kernel
theorem dX5_compareOf_31 : decode cX5_compareOf 31 = .ok (.bipush 62, 2) := by decide +kernel
theorem dX5_compareOf_33 : decode cX5_compareOf 33 = .ok (.if_icmp .ne 8, 3) := by decide +kernel
theorem dX5_compareOf_36 : decode cX5_compareOf 36 = .ok (.bipush 12, 2) := by decide +kernel
theorem dX5_compareOf_38 : decode cX5_compareOf 38 = .ok (.goto 45, 3) := by decide +kernel
theorem dX5_compareOf_41 : decode cX5_compareOf 41 = .ok (.aload_n 0, 1) := by decide +kernel
theorem dX5_compareOf_42 : decode cX5_compareOf 42 = .ok (.getfield 151, 3) := by decide +kernel
theorem dX5_compareOf_45 : decode cX5_compareOf 45 = .ok (.iconst 5, 1) := by decide +kernel
theorem dX5_compareOf_46 : decode cX5_compareOf 46 = .ok (.if_icmp .ne 8, 3) := by decide +kernel
theorem dX5_compareOf_49 : decode cX5_compareOf 49 = .ok (.bipush 13, 2) := by decide +kernel
theorem dX5_compareOf_51 : decode cX5_compareOf 51 = .ok (.goto 32, 3) := by decide +kernel
theorem dX5_compareOf_54 : decode cX5_compareOf 54 = .ok (.aload_n 0, 1) := by decide +kernel
theorem dX5_compareOf_55 : decode cX5_compareOf 55 = .ok (.getfield 151, 3) := by decide +kernel
theorem dX5_compareOf_58 : decode cX5_compareOf 58 = .ok (.bipush 61, 2) := by decide +kernel
theorem dX5_compareOf_60 : decode cX5_compareOf 60 = .ok (.if_icmp .ne 8, 3) := by decide +kernel
theorem dX5_compareOf_63 : decode cX5_compareOf 63 = .ok (.bipush 14, 2) := by decide +kernel
theorem dX5_compareOf_65 : decode cX5_compareOf 65 = .ok (.goto 18, 3) := by decide +kernel
theorem dX5_compareOf_68 : decode cX5_compareOf 68 = .ok (.aload_n 0, 1) := by decide +kernel
theorem dX5_compareOf_69 : decode cX5_compareOf 69 = .ok (.getfield 151, 3) := by decide +kernel
theorem dX5_compareOf_72 : decode cX5_compareOf 72 = .ok (.bipush 35, 2) := by decide +kernel
theorem dX5_compareOf_74 : decode cX5_compareOf 74 = .ok (.if_icmp .ne 8, 3) := by decide +kernel
theorem dX5_compareOf_77 : decode cX5_compareOf 77 = .ok (.bipush 15, 2) := by decide +kernel
theorem dX5_compareOf_79 : decode cX5_compareOf 79 = .ok (.goto 4, 3) := by decide +kernel
theorem dX5_compareOf_82 : decode cX5_compareOf 82 = .ok (.iconst (-1), 1) := by decide +kernel
theorem dX5_compareOf_83 : decode cX5_compareOf 83 = .ok (.ireturn, 1) := by decide +kernel
abbrev cX5_fault : ByteArray := prog_22_method_63_code
def yX5_fault : MethodName := ⟨RX5, "fault", "(I)I"⟩
theorem dX5_fault_0 : decode cX5_fault 0 = .ok (.iload_n 1, 1) := by decide +kernel
theorem dX5_fault_1 : decode cX5_fault 1 = .ok (.ifCond .ne 10, 3) := by decide +kernel
theorem dX5_fault_4 : decode cX5_fault 4 = .ok (.aload_n 0, 1) := by decide +kernel
theorem dX5_fault_5 : decode cX5_fault 5 = .ok (.getfield 34, 3) := by decide +kernel
theorem dX5_fault_8 : decode cX5_fault 8 = .ok (.goto 16, 3) := by decide +kernel
theorem dX5_fault_11 : decode cX5_fault 11 = .ok (.iload_n 1, 1) := by decide +kernel
theorem dX5_fault_12 : decode cX5_fault 12 = .ok (.iconst 1, 1) := by decide +kernel
theorem dX5_fault_13 : decode cX5_fault 13 = .ok (.if_icmp .ne 10, 3) := by decide +kernel
theorem dX5_fault_16 : decode cX5_fault 16 = .ok (.aload_n 0, 1) := by decide +kernel
theorem dX5_fault_17 : decode cX5_fault 17 = .ok (.getfield 38, 3) := by decide +kernel
theorem dX5_fault_20 : decode cX5_fault 20 = .ok (.goto 4, 3) := by decide +kernel
theorem dX5_fault_23 : decode cX5_fault 23 = .ok (.iconst (-1), 1) := by decide +kernel
theorem dX5_fault_24 : decode cX5_fault 24 = .ok (.ireturn, 1) := by decide +kernel
abbrev cX5_fly : ByteArray := prog_22_method_74_code
def yX5_fly : MethodName := ⟨RX5, "fly", "(IIIIII)I"⟩
theorem dX5_fly_0 : decode cX5_fly 0 = .ok (.aload_n 0, 1) := by decide +kernel
theorem dX5_fly_1 : decode cX5_fly 1 = .ok (.iload_n 1, 1) := by decide +kernel
theorem dX5_fly_2 : decode cX5_fly 2 = .ok (.invokevirtual 337, 3) := by decide +kernel
theorem dX5_fly_5 : decode cX5_fly 5 = .ok (.ifCond .eq 47, 3) := by decide +kernel
theorem dX5_fly_8 : decode cX5_fly 8 = .ok (.aload_n 0, 1) := by decide +kernel
theorem dX5_fly_9 : decode cX5_fly 9 = .ok (.iload_n 2, 1) := by decide +kernel
theorem dX5_fly_10 : decode cX5_fly 10 = .ok (.iload_n 3, 1) := by decide +kernel
theorem dX5_fly_11 : decode cX5_fly 11 = .ok (.invokevirtual 340, 3) := by decide +kernel
theorem dX5_fly_14 : decode cX5_fly 14 = .ok (.ifCond .eq 38, 3) := by decide +kernel
theorem dX5_fly_17 : decode cX5_fly 17 = .ok (.iload 4, 2) := by decide +kernel
theorem dX5_fly_19 : decode cX5_fly 19 = .ok (.invokestatic 111, 3) := by decide +kernel
theorem dX5_fly_22 : decode cX5_fly 22 = .ok (.ifCond .eq 30, 3) := by decide +kernel
theorem dX5_fly_25 : decode cX5_fly 25 = .ok (.iload 5, 2) := by decide +kernel
theorem dX5_fly_27 : decode cX5_fly 27 = .ok (.iconst 1, 1) := by decide +kernel
theorem dX5_fly_28 : decode cX5_fly 28 = .ok (.bipush 60, 2) := by decide +kernel
theorem dX5_fly_30 : decode cX5_fly 30 = .ok (.invokestatic 71, 3) := by decide +kernel
theorem dX5_fly_33 : decode cX5_fly 33 = .ok (.ifCond .eq 19, 3) := by decide +kernel
theorem dX5_fly_36 : decode cX5_fly 36 = .ok (.iload 6, 2) := by decide +kernel
theorem dX5_fly_38 : decode cX5_fly 38 = .ok (.ifCond .eq 16, 3) := by decide +kernel
theorem dX5_fly_41 : decode cX5_fly 41 = .ok (.iload 6, 2) := by decide +kernel
theorem dX5_fly_43 : decode cX5_fly 43 = .ok (.iconst 4, 1) := by decide +kernel
theorem dX5_fly_44 : decode cX5_fly 44 = .ok (.bipush 20, 2) := by decide +kernel
theorem dX5_fly_46 : decode cX5_fly 46 = .ok (.invokestatic 71, 3) := by decide +kernel
theorem dX5_fly_49 : decode cX5_fly 49 = .ok (.ifCond .ne 5, 3) := by decide +kernel
theorem dX5_fly_52 : decode cX5_fly 52 = .ok (.iconst (-1), 1) := by decide +kernel
theorem dX5_fly_53 : decode cX5_fly 53 = .ok (.ireturn, 1) := by decide +kernel
theorem dX5_fly_54 : decode cX5_fly 54 = .ok (.aload_n 0, 1) := by decide +kernel
theorem dX5_fly_55 : decode cX5_fly 55 = .ok (.iload 6, 2) := by decide +kernel
theorem dX5_fly_57 : decode cX5_fly 57 = .ok (.ifCond .ne 9, 3) := by decide +kernel
theorem dX5_fly_60 : decode cX5_fly 60 = .ok (.ldc2_w 343, 3) := by decide +kernel
theorem dX5_fly_63 : decode cX5_fly 63 = .ok (.goto 11, 3) := by decide +kernel
theorem dX5_fly_66 : decode cX5_fly 66 = .ok (.lconst 1, 1) := by decide +kernel
theorem dX5_fly_67 : decode cX5_fly 67 = .ok (.iload 6, 2) := by decide +kernel
theorem dX5_fly_69 : decode cX5_fly 69 = .ok (.iconst 1, 1) := by decide +kernel
theorem dX5_fly_70 : decode cX5_fly 70 = .ok (.isub, 1) := by decide +kernel
theorem dX5_fly_71 : decode cX5_fly 71 = .ok (.lshl, 1) := by decide +kernel
theorem dX5_fly_72 : decode cX5_fly 72 = .ok (.lconst 1, 1) := by decide +kernel
theorem dX5_fly_73 : decode cX5_fly 73 = .ok (.lsub, 1) := by decide +kernel
theorem dX5_fly_74 : decode cX5_fly 74 = .ok (.putfield 274, 3) := by decide +kernel
theorem dX5_fly_77 : decode cX5_fly 77 = .ok (.aload_n 0, 1) := by decide +kernel
theorem dX5_fly_78 : decode cX5_fly 78 = .ok (.iload_n 1, 1) := by decide +kernel
theorem dX5_fly_79 : decode cX5_fly 79 = .ok (.iload_n 2, 1) := by decide +kernel
theorem dX5_fly_80 : decode cX5_fly 80 = .ok (.iload_n 3, 1) := by decide +kernel
theorem dX5_fly_81 : decode cX5_fly 81 = .ok (.iload 4, 2) := by decide +kernel
theorem dX5_fly_83 : decode cX5_fly 83 = .ok (.iload 5, 2) := by decide +kernel
theorem dX5_fly_85 : decode cX5_fly 85 = .ok (.invokevirtual 345, 3) := by decide +kernel
theorem dX5_fly_88 : decode cX5_fly 88 = .ok (.aload_n 0, 1) := by decide +kernel
theorem dX5_fly_89 : decode cX5_fly 89 = .ok (.getfield 7, 3) := by decide +kernel
theorem dX5_fly_92 : decode cX5_fly 92 = .ok (.sipush 880, 3) := by decide +kernel
theorem dX5_fly_95 : decode cX5_fly 95 = .ok (.aload_n 0, 1) := by decide +kernel
theorem dX5_fly_96 : decode cX5_fly 96 = .ok (.getfield 323, 3) := by decide +kernel
theorem dX5_fly_99 : decode cX5_fly 99 = .ok (.iastore, 1) := by decide +kernel
theorem dX5_fly_100 : decode cX5_fly 100 = .ok (.aload_n 0, 1) := by decide +kernel
theorem dX5_fly_101 : decode cX5_fly 101 = .ok (.getfield 7, 3) := by decide +kernel
theorem dX5_fly_104 : decode cX5_fly 104 = .ok (.sipush 881, 3) := by decide +kernel
theorem dX5_fly_107 : decode cX5_fly 107 = .ok (.aload_n 0, 1) := by decide +kernel
theorem dX5_fly_108 : decode cX5_fly 108 = .ok (.getfield 314, 3) := by decide +kernel
theorem dX5_fly_111 : decode cX5_fly 111 = .ok (.iastore, 1) := by decide +kernel
theorem dX5_fly_112 : decode cX5_fly 112 = .ok (.aload_n 0, 1) := by decide +kernel
theorem dX5_fly_113 : decode cX5_fly 113 = .ok (.getfield 7, 3) := by decide +kernel
theorem dX5_fly_116 : decode cX5_fly 116 = .ok (.sipush 882, 3) := by decide +kernel
theorem dX5_fly_119 : decode cX5_fly 119 = .ok (.aload_n 0, 1) := by decide +kernel
theorem dX5_fly_120 : decode cX5_fly 120 = .ok (.getfield 317, 3) := by decide +kernel
theorem dX5_fly_123 : decode cX5_fly 123 = .ok (.iastore, 1) := by decide +kernel
theorem dX5_fly_124 : decode cX5_fly 124 = .ok (.aload_n 0, 1) := by decide +kernel
theorem dX5_fly_125 : decode cX5_fly 125 = .ok (.getfield 7, 3) := by decide +kernel
theorem dX5_fly_128 : decode cX5_fly 128 = .ok (.sipush 883, 3) := by decide +kernel
theorem dX5_fly_131 : decode cX5_fly 131 = .ok (.aload_n 0, 1) := by decide +kernel
theorem dX5_fly_132 : decode cX5_fly 132 = .ok (.getfield 320, 3) := by decide +kernel
theorem dX5_fly_135 : decode cX5_fly 135 = .ok (.iastore, 1) := by decide +kernel
theorem dX5_fly_136 : decode cX5_fly 136 = .ok (.aload_n 0, 1) := by decide +kernel
theorem dX5_fly_137 : decode cX5_fly 137 = .ok (.getfield 7, 3) := by decide +kernel
theorem dX5_fly_140 : decode cX5_fly 140 = .ok (.sipush 884, 3) := by decide +kernel
theorem dX5_fly_143 : decode cX5_fly 143 = .ok (.aload_n 0, 1) := by decide +kernel
theorem dX5_fly_144 : decode cX5_fly 144 = .ok (.getfield 326, 3) := by decide +kernel
theorem dX5_fly_147 : decode cX5_fly 147 = .ok (.ifCond .eq 7, 3) := by decide +kernel
theorem dX5_fly_150 : decode cX5_fly 150 = .ok (.iconst 1, 1) := by decide +kernel
theorem dX5_fly_151 : decode cX5_fly 151 = .ok (.goto 4, 3) := by decide +kernel
theorem dX5_fly_154 : decode cX5_fly 154 = .ok (.iconst 0, 1) := by decide +kernel
theorem dX5_fly_155 : decode cX5_fly 155 = .ok (.iastore, 1) := by decide +kernel
theorem dX5_fly_156 : decode cX5_fly 156 = .ok (.aload_n 0, 1) := by decide +kernel
theorem dX5_fly_157 : decode cX5_fly 157 = .ok (.getfield 7, 3) := by decide +kernel
theorem dX5_fly_160 : decode cX5_fly 160 = .ok (.sipush 885, 3) := by decide +kernel
theorem dX5_fly_163 : decode cX5_fly 163 = .ok (.aload_n 0, 1) := by decide +kernel
theorem dX5_fly_164 : decode cX5_fly 164 = .ok (.getfield 329, 3) := by decide +kernel
theorem dX5_fly_167 : decode cX5_fly 167 = .ok (.ifCond .eq 7, 3) := by decide +kernel
theorem dX5_fly_170 : decode cX5_fly 170 = .ok (.iconst 1, 1) := by decide +kernel
theorem dX5_fly_171 : decode cX5_fly 171 = .ok (.goto 4, 3) := by decide +kernel
theorem dX5_fly_174 : decode cX5_fly 174 = .ok (.iconst 0, 1) := by decide +kernel
theorem dX5_fly_175 : decode cX5_fly 175 = .ok (.iastore, 1) := by decide +kernel
theorem dX5_fly_176 : decode cX5_fly 176 = .ok (.aload_n 0, 1) := by decide +kernel
theorem dX5_fly_177 : decode cX5_fly 177 = .ok (.getfield 7, 3) := by decide +kernel
theorem dX5_fly_180 : decode cX5_fly 180 = .ok (.sipush 886, 3) := by decide +kernel
theorem dX5_fly_183 : decode cX5_fly 183 = .ok (.aload_n 0, 1) := by decide +kernel
theorem dX5_fly_184 : decode cX5_fly 184 = .ok (.getfield 277, 3) := by decide +kernel
theorem dX5_fly_187 : decode cX5_fly 187 = .ok (.iastore, 1) := by decide +kernel
theorem dX5_fly_188 : decode cX5_fly 188 = .ok (.aload_n 0, 1) := by decide +kernel
theorem dX5_fly_189 : decode cX5_fly 189 = .ok (.getfield 7, 3) := by decide +kernel
theorem dX5_fly_192 : decode cX5_fly 192 = .ok (.sipush 887, 3) := by decide +kernel
theorem dX5_fly_195 : decode cX5_fly 195 = .ok (.aload_n 0, 1) := by decide +kernel
theorem dX5_fly_196 : decode cX5_fly 196 = .ok (.getfield 7, 3) := by decide +kernel
theorem dX5_fly_199 : decode cX5_fly 199 = .ok (.iconst 1, 1) := by decide +kernel
theorem dX5_fly_200 : decode cX5_fly 200 = .ok (.iaload, 1) := by decide +kernel
theorem dX5_fly_201 : decode cX5_fly 201 = .ok (.iastore, 1) := by decide +kernel
theorem dX5_fly_202 : decode cX5_fly 202 = .ok (.aload_n 0, 1) := by decide +kernel
theorem dX5_fly_203 : decode cX5_fly 203 = .ok (.getfield 7, 3) := by decide +kernel
theorem dX5_fly_206 : decode cX5_fly 206 = .ok (.sipush 888, 3) := by decide +kernel
theorem dX5_fly_209 : decode cX5_fly 209 = .ok (.aload_n 0, 1) := by decide +kernel
theorem dX5_fly_210 : decode cX5_fly 210 = .ok (.getfield 7, 3) := by decide +kernel
theorem dX5_fly_213 : decode cX5_fly 213 = .ok (.iconst 2, 1) := by decide +kernel
theorem dX5_fly_214 : decode cX5_fly 214 = .ok (.iaload, 1) := by decide +kernel
theorem dX5_fly_215 : decode cX5_fly 215 = .ok (.iastore, 1) := by decide +kernel
theorem dX5_fly_216 : decode cX5_fly 216 = .ok (.iconst 0, 1) := by decide +kernel
theorem dX5_fly_217 : decode cX5_fly 217 = .ok (.istore 7, 2) := by decide +kernel
theorem dX5_fly_219 : decode cX5_fly 219 = .ok (.iload 7, 2) := by decide +kernel
theorem dX5_fly_221 : decode cX5_fly 221 = .ok (.bipush 38, 2) := by decide +kernel
theorem dX5_fly_223 : decode cX5_fly 223 = .ok (.aload_n 0, 1) := by decide +kernel
theorem dX5_fly_224 : decode cX5_fly 224 = .ok (.getfield 323, 3) := by decide +kernel
theorem dX5_fly_227 : decode cX5_fly 227 = .ok (.imul, 1) := by decide +kernel
theorem dX5_fly_228 : decode cX5_fly 228 = .ok (.if_icmp .ge 27, 3) := by decide +kernel
theorem dX5_fly_231 : decode cX5_fly 231 = .ok (.aload_n 0, 1) := by decide +kernel
theorem dX5_fly_232 : decode cX5_fly 232 = .ok (.getfield 7, 3) := by decide +kernel
theorem dX5_fly_235 : decode cX5_fly 235 = .ok (.sipush 890, 3) := by decide +kernel
theorem dX5_fly_238 : decode cX5_fly 238 = .ok (.iload 7, 2) := by decide +kernel
theorem dX5_fly_240 : decode cX5_fly 240 = .ok (.iadd, 1) := by decide +kernel
theorem dX5_fly_241 : decode cX5_fly 241 = .ok (.aload_n 0, 1) := by decide +kernel
theorem dX5_fly_242 : decode cX5_fly 242 = .ok (.getfield 44, 3) := by decide +kernel
theorem dX5_fly_245 : decode cX5_fly 245 = .ok (.iload 7, 2) := by decide +kernel
theorem dX5_fly_247 : decode cX5_fly 247 = .ok (.iaload, 1) := by decide +kernel
theorem dX5_fly_248 : decode cX5_fly 248 = .ok (.iastore, 1) := by decide +kernel
theorem dX5_fly_249 : decode cX5_fly 249 = .ok (.iinc 7 1, 3) := by decide +kernel
theorem dX5_fly_252 : decode cX5_fly 252 = .ok (.goto (-33), 3) := by decide +kernel
theorem dX5_fly_255 : decode cX5_fly 255 = .ok (.aload_n 0, 1) := by decide +kernel
theorem dX5_fly_256 : decode cX5_fly 256 = .ok (.getfield 323, 3) := by decide +kernel
theorem dX5_fly_259 : decode cX5_fly 259 = .ok (.ireturn, 1) := by decide +kernel
abbrev cX5_isRule : ByteArray := prog_22_method_73_code
def yX5_isRule : MethodName := ⟨RX5, "isRule", "(I)Z"⟩
theorem dX5_isRule_0 : decode cX5_isRule 0 = .ok (.iload_n 1, 1) := by decide +kernel
theorem dX5_isRule_1 : decode cX5_isRule 1 = .ok (.iconst 0, 1) := by decide +kernel
theorem dX5_isRule_2 : decode cX5_isRule 2 = .ok (.aload_n 0, 1) := by decide +kernel
theorem dX5_isRule_3 : decode cX5_isRule 3 = .ok (.getfield 7, 3) := by decide +kernel
theorem dX5_isRule_6 : decode cX5_isRule 6 = .ok (.iconst 3, 1) := by decide +kernel
theorem dX5_isRule_7 : decode cX5_isRule 7 = .ok (.iaload, 1) := by decide +kernel
theorem dX5_isRule_8 : decode cX5_isRule 8 = .ok (.iconst 1, 1) := by decide +kernel
theorem dX5_isRule_9 : decode cX5_isRule 9 = .ok (.isub, 1) := by decide +kernel
theorem dX5_isRule_10 : decode cX5_isRule 10 = .ok (.invokestatic 71, 3) := by decide +kernel
theorem dX5_isRule_13 : decode cX5_isRule 13 = .ok (.ireturn, 1) := by decide +kernel
abbrev cX5_isStart : ByteArray := prog_22_method_71_code
def yX5_isStart : MethodName := ⟨RX5, "isStart", "(II)Z"⟩
theorem dX5_isStart_0 : decode cX5_isStart 0 = .ok (.aload_n 0, 1) := by decide +kernel
theorem dX5_isStart_1 : decode cX5_isStart 1 = .ok (.iload_n 1, 1) := by decide +kernel
theorem dX5_isStart_2 : decode cX5_isStart 2 = .ok (.iload_n 2, 1) := by decide +kernel
theorem dX5_isStart_3 : decode cX5_isStart 3 = .ok (.invokevirtual 107, 3) := by decide +kernel
theorem dX5_isStart_6 : decode cX5_isStart 6 = .ok (.ifCond .eq 29, 3) := by decide +kernel
theorem dX5_isStart_9 : decode cX5_isStart 9 = .ok (.aload_n 0, 1) := by decide +kernel
theorem dX5_isStart_10 : decode cX5_isStart 10 = .ok (.iload_n 2, 1) := by decide +kernel
theorem dX5_isStart_11 : decode cX5_isStart 11 = .ok (.bipush 16, 2) := by decide +kernel
theorem dX5_isStart_13 : decode cX5_isStart 13 = .ok (.idiv, 1) := by decide +kernel
theorem dX5_isStart_14 : decode cX5_isStart 14 = .ok (.aload_n 0, 1) := by decide +kernel
theorem dX5_isStart_15 : decode cX5_isStart 15 = .ok (.getfield 61, 3) := by decide +kernel
theorem dX5_isStart_18 : decode cX5_isStart 18 = .ok (.imul, 1) := by decide +kernel
theorem dX5_isStart_19 : decode cX5_isStart 19 = .ok (.iload_n 1, 1) := by decide +kernel
theorem dX5_isStart_20 : decode cX5_isStart 20 = .ok (.bipush 16, 2) := by decide +kernel
theorem dX5_isStart_22 : decode cX5_isStart 22 = .ok (.idiv, 1) := by decide +kernel
theorem dX5_isStart_23 : decode cX5_isStart 23 = .ok (.iadd, 1) := by decide +kernel
theorem dX5_isStart_24 : decode cX5_isStart 24 = .ok (.iconst 0, 1) := by decide +kernel
theorem dX5_isStart_25 : decode cX5_isStart 25 = .ok (.invokevirtual 86, 3) := by decide +kernel
theorem dX5_isStart_28 : decode cX5_isStart 28 = .ok (.ifCond .ne 7, 3) := by decide +kernel
theorem dX5_isStart_31 : decode cX5_isStart 31 = .ok (.iconst 1, 1) := by decide +kernel
theorem dX5_isStart_32 : decode cX5_isStart 32 = .ok (.goto 4, 3) := by decide +kernel
theorem dX5_isStart_35 : decode cX5_isStart 35 = .ok (.iconst 0, 1) := by decide +kernel
theorem dX5_isStart_36 : decode cX5_isStart 36 = .ok (.ireturn, 1) := by decide +kernel
abbrev cX5_run : ByteArray := prog_22_method_72_code
def yX5_run : MethodName := ⟨RX5, "run", "(IIIII)V"⟩
theorem dX5_run_0 : decode cX5_run 0 = .ok (.aload_n 0, 1) := by decide +kernel
theorem dX5_run_1 : decode cX5_run 1 = .ok (.iconst 0, 1) := by decide +kernel
theorem dX5_run_2 : decode cX5_run 2 = .ok (.putfield 323, 3) := by decide +kernel
theorem dX5_run_5 : decode cX5_run 5 = .ok (.aload_n 0, 1) := by decide +kernel
theorem dX5_run_6 : decode cX5_run 6 = .ok (.iload_n 2, 1) := by decide +kernel
theorem dX5_run_7 : decode cX5_run 7 = .ok (.putfield 314, 3) := by decide +kernel
theorem dX5_run_10 : decode cX5_run 10 = .ok (.aload_n 0, 1) := by decide +kernel
theorem dX5_run_11 : decode cX5_run 11 = .ok (.iload_n 3, 1) := by decide +kernel
theorem dX5_run_12 : decode cX5_run 12 = .ok (.putfield 317, 3) := by decide +kernel
theorem dX5_run_15 : decode cX5_run 15 = .ok (.aload_n 0, 1) := by decide +kernel
theorem dX5_run_16 : decode cX5_run 16 = .ok (.iload 4, 2) := by decide +kernel
theorem dX5_run_18 : decode cX5_run 18 = .ok (.putfield 320, 3) := by decide +kernel
theorem dX5_run_21 : decode cX5_run 21 = .ok (.aload_n 0, 1) := by decide +kernel
theorem dX5_run_22 : decode cX5_run 22 = .ok (.iconst 0, 1) := by decide +kernel
theorem dX5_run_23 : decode cX5_run 23 = .ok (.putfield 326, 3) := by decide +kernel
theorem dX5_run_26 : decode cX5_run 26 = .ok (.aload_n 0, 1) := by decide +kernel
theorem dX5_run_27 : decode cX5_run 27 = .ok (.iconst 0, 1) := by decide +kernel
theorem dX5_run_28 : decode cX5_run 28 = .ok (.putfield 329, 3) := by decide +kernel
theorem dX5_run_31 : decode cX5_run 31 = .ok (.aload_n 0, 1) := by decide +kernel
theorem dX5_run_32 : decode cX5_run 32 = .ok (.iconst 0, 1) := by decide +kernel
theorem dX5_run_33 : decode cX5_run 33 = .ok (.putfield 277, 3) := by decide +kernel
theorem dX5_run_36 : decode cX5_run 36 = .ok (.aload_n 0, 1) := by decide +kernel
theorem dX5_run_37 : decode cX5_run 37 = .ok (.getfield 323, 3) := by decide +kernel
theorem dX5_run_40 : decode cX5_run 40 = .ok (.iload 5, 2) := by decide +kernel
theorem dX5_run_42 : decode cX5_run 42 = .ok (.if_icmp .ge 257, 3) := by decide +kernel
theorem dX5_run_45 : decode cX5_run 45 = .ok (.aload_n 0, 1) := by decide +kernel
theorem dX5_run_46 : decode cX5_run 46 = .ok (.getfield 326, 3) := by decide +kernel
theorem dX5_run_49 : decode cX5_run 49 = .ok (.ifCond .ne 250, 3) := by decide +kernel
theorem dX5_run_52 : decode cX5_run 52 = .ok (.aload_n 0, 1) := by decide +kernel
theorem dX5_run_53 : decode cX5_run 53 = .ok (.getfield 329, 3) := by decide +kernel
theorem dX5_run_56 : decode cX5_run 56 = .ok (.ifCond .ne 243, 3) := by decide +kernel
theorem dX5_run_59 : decode cX5_run 59 = .ok (.aload_n 0, 1) := by decide +kernel
theorem dX5_run_60 : decode cX5_run 60 = .ok (.aload_n 0, 1) := by decide +kernel
theorem dX5_run_61 : decode cX5_run 61 = .ok (.getfield 323, 3) := by decide +kernel
theorem dX5_run_64 : decode cX5_run 64 = .ok (.putfield 284, 3) := by decide +kernel
theorem dX5_run_67 : decode cX5_run 67 = .ok (.aload_n 0, 1) := by decide +kernel
theorem dX5_run_68 : decode cX5_run 68 = .ok (.invokevirtual 332, 3) := by decide +kernel
theorem dX5_run_71 : decode cX5_run 71 = .ok (.aload_n 0, 1) := by decide +kernel
theorem dX5_run_72 : decode cX5_run 72 = .ok (.aload_n 0, 1) := by decide +kernel
theorem dX5_run_73 : decode cX5_run 73 = .ok (.iload_n 1, 1) := by decide +kernel
theorem dX5_run_74 : decode cX5_run 74 = .ok (.invokevirtual 334, 3) := by decide +kernel
theorem dX5_run_77 : decode cX5_run 77 = .ok (.putfield 329, 3) := by decide +kernel
theorem dX5_run_80 : decode cX5_run 80 = .ok (.aload_n 0, 1) := by decide +kernel
theorem dX5_run_81 : decode cX5_run 81 = .ok (.getfield 329, 3) := by decide +kernel
theorem dX5_run_84 : decode cX5_run 84 = .ok (.ifCond .eq 4, 3) := by decide +kernel
theorem dX5_run_87 : decode cX5_run 87 = .ok (.return_, 1) := by decide +kernel
theorem dX5_run_88 : decode cX5_run 88 = .ok (.bipush 38, 2) := by decide +kernel
theorem dX5_run_90 : decode cX5_run 90 = .ok (.aload_n 0, 1) := by decide +kernel
theorem dX5_run_91 : decode cX5_run 91 = .ok (.getfield 284, 3) := by decide +kernel
theorem dX5_run_94 : decode cX5_run 94 = .ok (.imul, 1) := by decide +kernel
theorem dX5_run_95 : decode cX5_run 95 = .ok (.istore 6, 2) := by decide +kernel
theorem dX5_run_97 : decode cX5_run 97 = .ok (.aload_n 0, 1) := by decide +kernel
theorem dX5_run_98 : decode cX5_run 98 = .ok (.getfield 44, 3) := by decide +kernel
theorem dX5_run_101 : decode cX5_run 101 = .ok (.iload 6, 2) := by decide +kernel
theorem dX5_run_103 : decode cX5_run 103 = .ok (.aload_n 0, 1) := by decide +kernel
theorem dX5_run_104 : decode cX5_run 104 = .ok (.getfield 299, 3) := by decide +kernel
theorem dX5_run_107 : decode cX5_run 107 = .ok (.iastore, 1) := by decide +kernel
theorem dX5_run_108 : decode cX5_run 108 = .ok (.aload_n 0, 1) := by decide +kernel
theorem dX5_run_109 : decode cX5_run 109 = .ok (.getfield 44, 3) := by decide +kernel
theorem dX5_run_112 : decode cX5_run 112 = .ok (.iload 6, 2) := by decide +kernel
theorem dX5_run_114 : decode cX5_run 114 = .ok (.iconst 1, 1) := by decide +kernel
theorem dX5_run_115 : decode cX5_run 115 = .ok (.iadd, 1) := by decide +kernel
theorem dX5_run_116 : decode cX5_run 116 = .ok (.aload_n 0, 1) := by decide +kernel
theorem dX5_run_117 : decode cX5_run 117 = .ok (.getfield 302, 3) := by decide +kernel
theorem dX5_run_120 : decode cX5_run 120 = .ok (.iastore, 1) := by decide +kernel
theorem dX5_run_121 : decode cX5_run 121 = .ok (.aload_n 0, 1) := by decide +kernel
theorem dX5_run_122 : decode cX5_run 122 = .ok (.getfield 44, 3) := by decide +kernel
theorem dX5_run_125 : decode cX5_run 125 = .ok (.iload 6, 2) := by decide +kernel
theorem dX5_run_127 : decode cX5_run 127 = .ok (.iconst 2, 1) := by decide +kernel
theorem dX5_run_128 : decode cX5_run 128 = .ok (.iadd, 1) := by decide +kernel
theorem dX5_run_129 : decode cX5_run 129 = .ok (.aload_n 0, 1) := by decide +kernel
theorem dX5_run_130 : decode cX5_run 130 = .ok (.getfield 314, 3) := by decide +kernel
theorem dX5_run_133 : decode cX5_run 133 = .ok (.iastore, 1) := by decide +kernel
theorem dX5_run_134 : decode cX5_run 134 = .ok (.aload_n 0, 1) := by decide +kernel
theorem dX5_run_135 : decode cX5_run 135 = .ok (.getfield 44, 3) := by decide +kernel
theorem dX5_run_138 : decode cX5_run 138 = .ok (.iload 6, 2) := by decide +kernel
theorem dX5_run_140 : decode cX5_run 140 = .ok (.iconst 3, 1) := by decide +kernel
theorem dX5_run_141 : decode cX5_run 141 = .ok (.iadd, 1) := by decide +kernel
theorem dX5_run_142 : decode cX5_run 142 = .ok (.aload_n 0, 1) := by decide +kernel
theorem dX5_run_143 : decode cX5_run 143 = .ok (.getfield 317, 3) := by decide +kernel
theorem dX5_run_146 : decode cX5_run 146 = .ok (.iastore, 1) := by decide +kernel
theorem dX5_run_147 : decode cX5_run 147 = .ok (.aload_n 0, 1) := by decide +kernel
theorem dX5_run_148 : decode cX5_run 148 = .ok (.getfield 44, 3) := by decide +kernel
theorem dX5_run_151 : decode cX5_run 151 = .ok (.iload 6, 2) := by decide +kernel
theorem dX5_run_153 : decode cX5_run 153 = .ok (.iconst 4, 1) := by decide +kernel
theorem dX5_run_154 : decode cX5_run 154 = .ok (.iadd, 1) := by decide +kernel
theorem dX5_run_155 : decode cX5_run 155 = .ok (.aload_n 0, 1) := by decide +kernel
theorem dX5_run_156 : decode cX5_run 156 = .ok (.getfield 320, 3) := by decide +kernel
theorem dX5_run_159 : decode cX5_run 159 = .ok (.iastore, 1) := by decide +kernel
theorem dX5_run_160 : decode cX5_run 160 = .ok (.aload_n 0, 1) := by decide +kernel
theorem dX5_run_161 : decode cX5_run 161 = .ok (.aload_n 0, 1) := by decide +kernel
theorem dX5_run_162 : decode cX5_run 162 = .ok (.getfield 320, 3) := by decide +kernel
theorem dX5_run_165 : decode cX5_run 165 = .ok (.aload_n 0, 1) := by decide +kernel
theorem dX5_run_166 : decode cX5_run 166 = .ok (.getfield 299, 3) := by decide +kernel
theorem dX5_run_169 : decode cX5_run 169 = .ok (.iadd, 1) := by decide +kernel
theorem dX5_run_170 : decode cX5_run 170 = .ok (.bipush 64, 2) := by decide +kernel
theorem dX5_run_172 : decode cX5_run 172 = .ok (.iadd, 1) := by decide +kernel
theorem dX5_run_173 : decode cX5_run 173 = .ok (.bipush 64, 2) := by decide +kernel
theorem dX5_run_175 : decode cX5_run 175 = .ok (.irem, 1) := by decide +kernel
theorem dX5_run_176 : decode cX5_run 176 = .ok (.putfield 320, 3) := by decide +kernel
theorem dX5_run_179 : decode cX5_run 179 = .ok (.aload_n 0, 1) := by decide +kernel
theorem dX5_run_180 : decode cX5_run 180 = .ok (.dup, 1) := by decide +kernel
theorem dX5_run_181 : decode cX5_run 181 = .ok (.getfield 314, 3) := by decide +kernel
theorem dX5_run_184 : decode cX5_run 184 = .ok (.aload_n 0, 1) := by decide +kernel
theorem dX5_run_185 : decode cX5_run 185 = .ok (.getfield 302, 3) := by decide +kernel
theorem dX5_run_188 : decode cX5_run 188 = .ok (.aload_n 0, 1) := by decide +kernel
theorem dX5_run_189 : decode cX5_run 189 = .ok (.getfield 320, 3) := by decide +kernel
theorem dX5_run_192 : decode cX5_run 192 = .ok (.invokestatic 89, 3) := by decide +kernel
theorem dX5_run_195 : decode cX5_run 195 = .ok (.imul, 1) := by decide +kernel
theorem dX5_run_196 : decode cX5_run 196 = .ok (.bipush 16, 2) := by decide +kernel
theorem dX5_run_198 : decode cX5_run 198 = .ok (.invokestatic 93, 3) := by decide +kernel
theorem dX5_run_201 : decode cX5_run 201 = .ok (.iadd, 1) := by decide +kernel
theorem dX5_run_202 : decode cX5_run 202 = .ok (.putfield 314, 3) := by decide +kernel
theorem dX5_run_205 : decode cX5_run 205 = .ok (.aload_n 0, 1) := by decide +kernel
theorem dX5_run_206 : decode cX5_run 206 = .ok (.dup, 1) := by decide +kernel
theorem dX5_run_207 : decode cX5_run 207 = .ok (.getfield 317, 3) := by decide +kernel
theorem dX5_run_210 : decode cX5_run 210 = .ok (.aload_n 0, 1) := by decide +kernel
theorem dX5_run_211 : decode cX5_run 211 = .ok (.getfield 302, 3) := by decide +kernel
theorem dX5_run_214 : decode cX5_run 214 = .ok (.aload_n 0, 1) := by decide +kernel
theorem dX5_run_215 : decode cX5_run 215 = .ok (.getfield 320, 3) := by decide +kernel
theorem dX5_run_218 : decode cX5_run 218 = .ok (.invokestatic 96, 3) := by decide +kernel
theorem dX5_run_221 : decode cX5_run 221 = .ok (.imul, 1) := by decide +kernel
theorem dX5_run_222 : decode cX5_run 222 = .ok (.bipush 16, 2) := by decide +kernel
theorem dX5_run_224 : decode cX5_run 224 = .ok (.invokestatic 93, 3) := by decide +kernel
theorem dX5_run_227 : decode cX5_run 227 = .ok (.iadd, 1) := by decide +kernel
theorem dX5_run_228 : decode cX5_run 228 = .ok (.putfield 317, 3) := by decide +kernel
theorem dX5_run_231 : decode cX5_run 231 = .ok (.aload_n 0, 1) := by decide +kernel
theorem dX5_run_232 : decode cX5_run 232 = .ok (.dup, 1) := by decide +kernel
theorem dX5_run_233 : decode cX5_run 233 = .ok (.getfield 323, 3) := by decide +kernel
theorem dX5_run_236 : decode cX5_run 236 = .ok (.iconst 1, 1) := by decide +kernel
theorem dX5_run_237 : decode cX5_run 237 = .ok (.iadd, 1) := by decide +kernel
theorem dX5_run_238 : decode cX5_run 238 = .ok (.putfield 323, 3) := by decide +kernel
theorem dX5_run_241 : decode cX5_run 241 = .ok (.aload_n 0, 1) := by decide +kernel
theorem dX5_run_242 : decode cX5_run 242 = .ok (.aload_n 0, 1) := by decide +kernel
theorem dX5_run_243 : decode cX5_run 243 = .ok (.aload_n 0, 1) := by decide +kernel
theorem dX5_run_244 : decode cX5_run 244 = .ok (.getfield 314, 3) := by decide +kernel
theorem dX5_run_247 : decode cX5_run 247 = .ok (.aload_n 0, 1) := by decide +kernel
theorem dX5_run_248 : decode cX5_run 248 = .ok (.getfield 317, 3) := by decide +kernel
theorem dX5_run_251 : decode cX5_run 251 = .ok (.invokevirtual 107, 3) := by decide +kernel
theorem dX5_run_254 : decode cX5_run 254 = .ok (.ifCond .eq 34, 3) := by decide +kernel
theorem dX5_run_257 : decode cX5_run 257 = .ok (.aload_n 0, 1) := by decide +kernel
theorem dX5_run_258 : decode cX5_run 258 = .ok (.aload_n 0, 1) := by decide +kernel
theorem dX5_run_259 : decode cX5_run 259 = .ok (.getfield 317, 3) := by decide +kernel
theorem dX5_run_262 : decode cX5_run 262 = .ok (.bipush 16, 2) := by decide +kernel
theorem dX5_run_264 : decode cX5_run 264 = .ok (.idiv, 1) := by decide +kernel
theorem dX5_run_265 : decode cX5_run 265 = .ok (.aload_n 0, 1) := by decide +kernel
theorem dX5_run_266 : decode cX5_run 266 = .ok (.getfield 61, 3) := by decide +kernel
theorem dX5_run_269 : decode cX5_run 269 = .ok (.imul, 1) := by decide +kernel
theorem dX5_run_270 : decode cX5_run 270 = .ok (.aload_n 0, 1) := by decide +kernel
theorem dX5_run_271 : decode cX5_run 271 = .ok (.getfield 314, 3) := by decide +kernel
theorem dX5_run_274 : decode cX5_run 274 = .ok (.bipush 16, 2) := by decide +kernel
theorem dX5_run_276 : decode cX5_run 276 = .ok (.idiv, 1) := by decide +kernel
theorem dX5_run_277 : decode cX5_run 277 = .ok (.iadd, 1) := by decide +kernel
theorem dX5_run_278 : decode cX5_run 278 = .ok (.aload_n 0, 1) := by decide +kernel
theorem dX5_run_279 : decode cX5_run 279 = .ok (.getfield 323, 3) := by decide +kernel
theorem dX5_run_282 : decode cX5_run 282 = .ok (.invokevirtual 86, 3) := by decide +kernel
theorem dX5_run_285 : decode cX5_run 285 = .ok (.ifCond .le 7, 3) := by decide +kernel
theorem dX5_run_288 : decode cX5_run 288 = .ok (.iconst 1, 1) := by decide +kernel
theorem dX5_run_289 : decode cX5_run 289 = .ok (.goto 4, 3) := by decide +kernel
theorem dX5_run_292 : decode cX5_run 292 = .ok (.iconst 0, 1) := by decide +kernel
theorem dX5_run_293 : decode cX5_run 293 = .ok (.putfield 326, 3) := by decide +kernel
theorem dX5_run_296 : decode cX5_run 296 = .ok (.goto (-260), 3) := by decide +kernel
theorem dX5_run_299 : decode cX5_run 299 = .ok (.return_, 1) := by decide +kernel
abbrev cX5_see_2 : ByteArray := prog_22_method_70_code
def yX5_see_2 : MethodName := ⟨RX5, "see", "()V"⟩
theorem dX5_see_2_0 : decode cX5_see_2 0 = .ok (.bipush 38, 2) := by decide +kernel
theorem dX5_see_2_2 : decode cX5_see_2 2 = .ok (.aload_n 0, 1) := by decide +kernel
theorem dX5_see_2_3 : decode cX5_see_2 3 = .ok (.getfield 284, 3) := by decide +kernel
theorem dX5_see_2_6 : decode cX5_see_2 6 = .ok (.imul, 1) := by decide +kernel
theorem dX5_see_2_7 : decode cX5_see_2 7 = .ok (.istore_n 1, 1) := by decide +kernel
theorem dX5_see_2_8 : decode cX5_see_2 8 = .ok (.aload_n 0, 1) := by decide +kernel
theorem dX5_see_2_9 : decode cX5_see_2 9 = .ok (.aload_n 0, 1) := by decide +kernel
theorem dX5_see_2_10 : decode cX5_see_2 10 = .ok (.getfield 314, 3) := by decide +kernel
theorem dX5_see_2_13 : decode cX5_see_2 13 = .ok (.aload_n 0, 1) := by decide +kernel
theorem dX5_see_2_14 : decode cX5_see_2 14 = .ok (.getfield 317, 3) := by decide +kernel
theorem dX5_see_2_17 : decode cX5_see_2 17 = .ok (.aload_n 0, 1) := by decide +kernel
theorem dX5_see_2_18 : decode cX5_see_2 18 = .ok (.getfield 284, 3) := by decide +kernel
theorem dX5_see_2_21 : decode cX5_see_2 21 = .ok (.invokevirtual 124, 3) := by decide +kernel
theorem dX5_see_2_24 : decode cX5_see_2 24 = .ok (.iconst 0, 1) := by decide +kernel
theorem dX5_see_2_25 : decode cX5_see_2 25 = .ok (.istore_n 2, 1) := by decide +kernel
theorem dX5_see_2_26 : decode cX5_see_2 26 = .ok (.iload_n 2, 1) := by decide +kernel
theorem dX5_see_2_27 : decode cX5_see_2 27 = .ok (.aload_n 0, 1) := by decide +kernel
theorem dX5_see_2_28 : decode cX5_see_2 28 = .ok (.getfield 7, 3) := by decide +kernel
theorem dX5_see_2_31 : decode cX5_see_2 31 = .ok (.iconst 1, 1) := by decide +kernel
theorem dX5_see_2_32 : decode cX5_see_2 32 = .ok (.iaload, 1) := by decide +kernel
theorem dX5_see_2_33 : decode cX5_see_2 33 = .ok (.if_icmp .ge 28, 3) := by decide +kernel
theorem dX5_see_2_36 : decode cX5_see_2 36 = .ok (.aload_n 0, 1) := by decide +kernel
theorem dX5_see_2_37 : decode cX5_see_2 37 = .ok (.getfield 44, 3) := by decide +kernel
theorem dX5_see_2_40 : decode cX5_see_2 40 = .ok (.iload_n 1, 1) := by decide +kernel
theorem dX5_see_2_41 : decode cX5_see_2 41 = .ok (.iconst 5, 1) := by decide +kernel
theorem dX5_see_2_42 : decode cX5_see_2 42 = .ok (.iadd, 1) := by decide +kernel
theorem dX5_see_2_43 : decode cX5_see_2 43 = .ok (.iload_n 2, 1) := by decide +kernel
theorem dX5_see_2_44 : decode cX5_see_2 44 = .ok (.iadd, 1) := by decide +kernel
theorem dX5_see_2_45 : decode cX5_see_2 45 = .ok (.aload_n 0, 1) := by decide +kernel
theorem dX5_see_2_46 : decode cX5_see_2 46 = .ok (.iload_n 2, 1) := by decide +kernel
theorem dX5_see_2_47 : decode cX5_see_2 47 = .ok (.aload_n 0, 1) := by decide +kernel
theorem dX5_see_2_48 : decode cX5_see_2 48 = .ok (.getfield 320, 3) := by decide +kernel
theorem dX5_see_2_51 : decode cX5_see_2 51 = .ok (.invokevirtual 127, 3) := by decide +kernel
theorem dX5_see_2_54 : decode cX5_see_2 54 = .ok (.iastore, 1) := by decide +kernel
theorem dX5_see_2_55 : decode cX5_see_2 55 = .ok (.iinc 2 1, 3) := by decide +kernel
theorem dX5_see_2_58 : decode cX5_see_2 58 = .ok (.goto (-32), 3) := by decide +kernel
theorem dX5_see_2_61 : decode cX5_see_2 61 = .ok (.iconst 0, 1) := by decide +kernel
theorem dX5_see_2_62 : decode cX5_see_2 62 = .ok (.istore_n 2, 1) := by decide +kernel
theorem dX5_see_2_63 : decode cX5_see_2 63 = .ok (.iload_n 2, 1) := by decide +kernel
theorem dX5_see_2_64 : decode cX5_see_2 64 = .ok (.aload_n 0, 1) := by decide +kernel
theorem dX5_see_2_65 : decode cX5_see_2 65 = .ok (.getfield 7, 3) := by decide +kernel
theorem dX5_see_2_68 : decode cX5_see_2 68 = .ok (.iconst 2, 1) := by decide +kernel
theorem dX5_see_2_69 : decode cX5_see_2 69 = .ok (.iaload, 1) := by decide +kernel
theorem dX5_see_2_70 : decode cX5_see_2 70 = .ok (.if_icmp .ge 129, 3) := by decide +kernel
theorem dX5_see_2_73 : decode cX5_see_2 73 = .ok (.sipush 660, 3) := by decide +kernel
theorem dX5_see_2_76 : decode cX5_see_2 76 = .ok (.iconst 3, 1) := by decide +kernel
theorem dX5_see_2_77 : decode cX5_see_2 77 = .ok (.iload_n 2, 1) := by decide +kernel
theorem dX5_see_2_78 : decode cX5_see_2 78 = .ok (.imul, 1) := by decide +kernel
theorem dX5_see_2_79 : decode cX5_see_2 79 = .ok (.iadd, 1) := by decide +kernel
theorem dX5_see_2_80 : decode cX5_see_2 80 = .ok (.istore_n 3, 1) := by decide +kernel
theorem dX5_see_2_81 : decode cX5_see_2 81 = .ok (.iload_n 1, 1) := by decide +kernel
theorem dX5_see_2_82 : decode cX5_see_2 82 = .ok (.bipush 38, 2) := by decide +kernel
theorem dX5_see_2_84 : decode cX5_see_2 84 = .ok (.aload_n 0, 1) := by decide +kernel
theorem dX5_see_2_85 : decode cX5_see_2 85 = .ok (.getfield 7, 3) := by decide +kernel
theorem dX5_see_2_88 : decode cX5_see_2 88 = .ok (.iload_n 3, 1) := by decide +kernel
theorem dX5_see_2_89 : decode cX5_see_2 89 = .ok (.iconst 2, 1) := by decide +kernel
theorem dX5_see_2_90 : decode cX5_see_2 90 = .ok (.iadd, 1) := by decide +kernel
theorem dX5_see_2_91 : decode cX5_see_2 91 = .ok (.iaload, 1) := by decide +kernel
theorem dX5_see_2_92 : decode cX5_see_2 92 = .ok (.imul, 1) := by decide +kernel
theorem dX5_see_2_93 : decode cX5_see_2 93 = .ok (.isub, 1) := by decide +kernel
theorem dX5_see_2_94 : decode cX5_see_2 94 = .ok (.iconst 5, 1) := by decide +kernel
theorem dX5_see_2_95 : decode cX5_see_2 95 = .ok (.iadd, 1) := by decide +kernel
theorem dX5_see_2_96 : decode cX5_see_2 96 = .ok (.istore 4, 2) := by decide +kernel
theorem dX5_see_2_98 : decode cX5_see_2 98 = .ok (.aload_n 0, 1) := by decide +kernel
theorem dX5_see_2_99 : decode cX5_see_2 99 = .ok (.getfield 44, 3) := by decide +kernel
theorem dX5_see_2_102 : decode cX5_see_2 102 = .ok (.iload_n 1, 1) := by decide +kernel
theorem dX5_see_2_103 : decode cX5_see_2 103 = .ok (.bipush 21, 2) := by decide +kernel
theorem dX5_see_2_105 : decode cX5_see_2 105 = .ok (.iadd, 1) := by decide +kernel
theorem dX5_see_2_106 : decode cX5_see_2 106 = .ok (.iload_n 2, 1) := by decide +kernel
theorem dX5_see_2_107 : decode cX5_see_2 107 = .ok (.iadd, 1) := by decide +kernel
theorem dX5_see_2_108 : decode cX5_see_2 108 = .ok (.aload_n 0, 1) := by decide +kernel
theorem dX5_see_2_109 : decode cX5_see_2 109 = .ok (.getfield 284, 3) := by decide +kernel
theorem dX5_see_2_112 : decode cX5_see_2 112 = .ok (.aload_n 0, 1) := by decide +kernel
theorem dX5_see_2_113 : decode cX5_see_2 113 = .ok (.getfield 7, 3) := by decide +kernel
theorem dX5_see_2_116 : decode cX5_see_2 116 = .ok (.iload_n 3, 1) := by decide +kernel
theorem dX5_see_2_117 : decode cX5_see_2 117 = .ok (.iconst 2, 1) := by decide +kernel
theorem dX5_see_2_118 : decode cX5_see_2 118 = .ok (.iadd, 1) := by decide +kernel
theorem dX5_see_2_119 : decode cX5_see_2 119 = .ok (.iaload, 1) := by decide +kernel
theorem dX5_see_2_120 : decode cX5_see_2 120 = .ok (.if_icmp .ge 7, 3) := by decide +kernel
theorem dX5_see_2_123 : decode cX5_see_2 123 = .ok (.iconst 0, 1) := by decide +kernel
theorem dX5_see_2_124 : decode cX5_see_2 124 = .ok (.goto 68, 3) := by decide +kernel
theorem dX5_see_2_127 : decode cX5_see_2 127 = .ok (.aload_n 0, 1) := by decide +kernel
theorem dX5_see_2_128 : decode cX5_see_2 128 = .ok (.getfield 44, 3) := by decide +kernel
theorem dX5_see_2_131 : decode cX5_see_2 131 = .ok (.iload 4, 2) := by decide +kernel
theorem dX5_see_2_133 : decode cX5_see_2 133 = .ok (.aload_n 0, 1) := by decide +kernel
theorem dX5_see_2_134 : decode cX5_see_2 134 = .ok (.getfield 7, 3) := by decide +kernel
theorem dX5_see_2_137 : decode cX5_see_2 137 = .ok (.iload_n 3, 1) := by decide +kernel
theorem dX5_see_2_138 : decode cX5_see_2 138 = .ok (.iaload, 1) := by decide +kernel
theorem dX5_see_2_139 : decode cX5_see_2 139 = .ok (.iadd, 1) := by decide +kernel
theorem dX5_see_2_140 : decode cX5_see_2 140 = .ok (.iaload, 1) := by decide +kernel
theorem dX5_see_2_141 : decode cX5_see_2 141 = .ok (.aload_n 0, 1) := by decide +kernel
theorem dX5_see_2_142 : decode cX5_see_2 142 = .ok (.getfield 44, 3) := by decide +kernel
theorem dX5_see_2_145 : decode cX5_see_2 145 = .ok (.iload_n 1, 1) := by decide +kernel
theorem dX5_see_2_146 : decode cX5_see_2 146 = .ok (.iconst 5, 1) := by decide +kernel
theorem dX5_see_2_147 : decode cX5_see_2 147 = .ok (.iadd, 1) := by decide +kernel
theorem dX5_see_2_148 : decode cX5_see_2 148 = .ok (.aload_n 0, 1) := by decide +kernel
theorem dX5_see_2_149 : decode cX5_see_2 149 = .ok (.getfield 7, 3) := by decide +kernel
theorem dX5_see_2_152 : decode cX5_see_2 152 = .ok (.iload_n 3, 1) := by decide +kernel
theorem dX5_see_2_153 : decode cX5_see_2 153 = .ok (.iconst 1, 1) := by decide +kernel
theorem dX5_see_2_154 : decode cX5_see_2 154 = .ok (.iadd, 1) := by decide +kernel
theorem dX5_see_2_155 : decode cX5_see_2 155 = .ok (.iaload, 1) := by decide +kernel
theorem dX5_see_2_156 : decode cX5_see_2 156 = .ok (.iadd, 1) := by decide +kernel
theorem dX5_see_2_157 : decode cX5_see_2 157 = .ok (.iaload, 1) := by decide +kernel
theorem dX5_see_2_158 : decode cX5_see_2 158 = .ok (.imul, 1) := by decide +kernel
theorem dX5_see_2_159 : decode cX5_see_2 159 = .ok (.aload_n 0, 1) := by decide +kernel
theorem dX5_see_2_160 : decode cX5_see_2 160 = .ok (.getfield 44, 3) := by decide +kernel
theorem dX5_see_2_163 : decode cX5_see_2 163 = .ok (.iload_n 1, 1) := by decide +kernel
theorem dX5_see_2_164 : decode cX5_see_2 164 = .ok (.iconst 5, 1) := by decide +kernel
theorem dX5_see_2_165 : decode cX5_see_2 165 = .ok (.iadd, 1) := by decide +kernel
theorem dX5_see_2_166 : decode cX5_see_2 166 = .ok (.aload_n 0, 1) := by decide +kernel
theorem dX5_see_2_167 : decode cX5_see_2 167 = .ok (.getfield 7, 3) := by decide +kernel
theorem dX5_see_2_170 : decode cX5_see_2 170 = .ok (.iload_n 3, 1) := by decide +kernel
theorem dX5_see_2_171 : decode cX5_see_2 171 = .ok (.iaload, 1) := by decide +kernel
theorem dX5_see_2_172 : decode cX5_see_2 172 = .ok (.iadd, 1) := by decide +kernel
theorem dX5_see_2_173 : decode cX5_see_2 173 = .ok (.iaload, 1) := by decide +kernel
theorem dX5_see_2_174 : decode cX5_see_2 174 = .ok (.aload_n 0, 1) := by decide +kernel
theorem dX5_see_2_175 : decode cX5_see_2 175 = .ok (.getfield 44, 3) := by decide +kernel
theorem dX5_see_2_178 : decode cX5_see_2 178 = .ok (.iload 4, 2) := by decide +kernel
theorem dX5_see_2_180 : decode cX5_see_2 180 = .ok (.aload_n 0, 1) := by decide +kernel
theorem dX5_see_2_181 : decode cX5_see_2 181 = .ok (.getfield 7, 3) := by decide +kernel
theorem dX5_see_2_184 : decode cX5_see_2 184 = .ok (.iload_n 3, 1) := by decide +kernel
theorem dX5_see_2_185 : decode cX5_see_2 185 = .ok (.iconst 1, 1) := by decide +kernel
theorem dX5_see_2_186 : decode cX5_see_2 186 = .ok (.iadd, 1) := by decide +kernel
theorem dX5_see_2_187 : decode cX5_see_2 187 = .ok (.iaload, 1) := by decide +kernel
theorem dX5_see_2_188 : decode cX5_see_2 188 = .ok (.iadd, 1) := by decide +kernel
theorem dX5_see_2_189 : decode cX5_see_2 189 = .ok (.iaload, 1) := by decide +kernel
theorem dX5_see_2_190 : decode cX5_see_2 190 = .ok (.imul, 1) := by decide +kernel
theorem dX5_see_2_191 : decode cX5_see_2 191 = .ok (.isub, 1) := by decide +kernel
theorem dX5_see_2_192 : decode cX5_see_2 192 = .ok (.iastore, 1) := by decide +kernel
theorem dX5_see_2_193 : decode cX5_see_2 193 = .ok (.iinc 2 1, 3) := by decide +kernel
theorem dX5_see_2_196 : decode cX5_see_2 196 = .ok (.goto (-133), 3) := by decide +kernel
theorem dX5_see_2_199 : decode cX5_see_2 199 = .ok (.return_, 1) := by decide +kernel
abbrev cX5_think : ByteArray := prog_22_method_69_code
def yX5_think : MethodName := ⟨RX5, "think", "(I)Z"⟩
theorem dX5_think_0 : decode cX5_think 0 = .ok (.sipush 800, 3) := by decide +kernel
theorem dX5_think_3 : decode cX5_think 3 = .ok (.iload_n 1, 1) := by decide +kernel
theorem dX5_think_4 : decode cX5_think 4 = .ok (.imul, 1) := by decide +kernel
theorem dX5_think_5 : decode cX5_think 5 = .ok (.istore_n 2, 1) := by decide +kernel
theorem dX5_think_6 : decode cX5_think 6 = .ok (.iconst 0, 1) := by decide +kernel
theorem dX5_think_7 : decode cX5_think 7 = .ok (.istore_n 3, 1) := by decide +kernel
theorem dX5_think_8 : decode cX5_think 8 = .ok (.aload_n 0, 1) := by decide +kernel
theorem dX5_think_9 : decode cX5_think 9 = .ok (.iconst 0, 1) := by decide +kernel
theorem dX5_think_10 : decode cX5_think 10 = .ok (.putfield 299, 3) := by decide +kernel
theorem dX5_think_13 : decode cX5_think 13 = .ok (.aload_n 0, 1) := by decide +kernel
theorem dX5_think_14 : decode cX5_think 14 = .ok (.iconst 0, 1) := by decide +kernel
theorem dX5_think_15 : decode cX5_think 15 = .ok (.putfield 302, 3) := by decide +kernel
theorem dX5_think_18 : decode cX5_think 18 = .ok (.iconst 0, 1) := by decide +kernel
theorem dX5_think_19 : decode cX5_think 19 = .ok (.istore 4, 2) := by decide +kernel
theorem dX5_think_21 : decode cX5_think 21 = .ok (.iload 4, 2) := by decide +kernel
theorem dX5_think_23 : decode cX5_think 23 = .ok (.aload_n 0, 1) := by decide +kernel
theorem dX5_think_24 : decode cX5_think 24 = .ok (.getfield 16, 3) := by decide +kernel
theorem dX5_think_27 : decode cX5_think 27 = .ok (.iload_n 2, 1) := by decide +kernel
theorem dX5_think_28 : decode cX5_think 28 = .ok (.iaload, 1) := by decide +kernel
theorem dX5_think_29 : decode cX5_think 29 = .ok (.if_icmp .ge 208, 3) := by decide +kernel
theorem dX5_think_32 : decode cX5_think 32 = .ok (.iload_n 2, 1) := by decide +kernel
theorem dX5_think_33 : decode cX5_think 33 = .ok (.iconst 1, 1) := by decide +kernel
theorem dX5_think_34 : decode cX5_think 34 = .ok (.iadd, 1) := by decide +kernel
theorem dX5_think_35 : decode cX5_think 35 = .ok (.iconst 4, 1) := by decide +kernel
theorem dX5_think_36 : decode cX5_think 36 = .ok (.iload 4, 2) := by decide +kernel
theorem dX5_think_38 : decode cX5_think 38 = .ok (.imul, 1) := by decide +kernel
theorem dX5_think_39 : decode cX5_think 39 = .ok (.iadd, 1) := by decide +kernel
theorem dX5_think_40 : decode cX5_think 40 = .ok (.istore 5, 2) := by decide +kernel
theorem dX5_think_42 : decode cX5_think 42 = .ok (.aload_n 0, 1) := by decide +kernel
theorem dX5_think_43 : decode cX5_think 43 = .ok (.iload_n 2, 1) := by decide +kernel
theorem dX5_think_44 : decode cX5_think 44 = .ok (.bipush 80, 2) := by decide +kernel
theorem dX5_think_46 : decode cX5_think 46 = .ok (.iadd, 1) := by decide +kernel
theorem dX5_think_47 : decode cX5_think 47 = .ok (.aload_n 0, 1) := by decide +kernel
theorem dX5_think_48 : decode cX5_think 48 = .ok (.getfield 16, 3) := by decide +kernel
theorem dX5_think_51 : decode cX5_think 51 = .ok (.iload 5, 2) := by decide +kernel
theorem dX5_think_53 : decode cX5_think 53 = .ok (.iconst 2, 1) := by decide +kernel
theorem dX5_think_54 : decode cX5_think 54 = .ok (.iadd, 1) := by decide +kernel
theorem dX5_think_55 : decode cX5_think 55 = .ok (.iaload, 1) := by decide +kernel
theorem dX5_think_56 : decode cX5_think 56 = .ok (.aload_n 0, 1) := by decide +kernel
theorem dX5_think_57 : decode cX5_think 57 = .ok (.getfield 16, 3) := by decide +kernel
theorem dX5_think_60 : decode cX5_think 60 = .ok (.iload 5, 2) := by decide +kernel
theorem dX5_think_62 : decode cX5_think 62 = .ok (.iconst 3, 1) := by decide +kernel
theorem dX5_think_63 : decode cX5_think 63 = .ok (.iadd, 1) := by decide +kernel
theorem dX5_think_64 : decode cX5_think 64 = .ok (.iaload, 1) := by decide +kernel
theorem dX5_think_65 : decode cX5_think 65 = .ok (.invokevirtual 305, 3) := by decide +kernel
theorem dX5_think_68 : decode cX5_think 68 = .ok (.aload_n 0, 1) := by decide +kernel
theorem dX5_think_69 : decode cX5_think 69 = .ok (.getfield 16, 3) := by decide +kernel
theorem dX5_think_72 : decode cX5_think 72 = .ok (.iload 5, 2) := by decide +kernel
theorem dX5_think_74 : decode cX5_think 74 = .ok (.iaload, 1) := by decide +kernel
theorem dX5_think_75 : decode cX5_think 75 = .ok (.iconst 1, 1) := by decide +kernel
theorem dX5_think_76 : decode cX5_think 76 = .ok (.if_icmp .ne 24, 3) := by decide +kernel
theorem dX5_think_79 : decode cX5_think 79 = .ok (.aload_n 0, 1) := by decide +kernel
theorem dX5_think_80 : decode cX5_think 80 = .ok (.getfield 47, 3) := by decide +kernel
theorem dX5_think_83 : decode cX5_think 83 = .ok (.aload_n 0, 1) := by decide +kernel
theorem dX5_think_84 : decode cX5_think 84 = .ok (.getfield 16, 3) := by decide +kernel
theorem dX5_think_87 : decode cX5_think 87 = .ok (.iload 5, 2) := by decide +kernel
theorem dX5_think_89 : decode cX5_think 89 = .ok (.iconst 1, 1) := by decide +kernel
theorem dX5_think_90 : decode cX5_think 90 = .ok (.iadd, 1) := by decide +kernel
theorem dX5_think_91 : decode cX5_think 91 = .ok (.iaload, 1) := by decide +kernel
theorem dX5_think_92 : decode cX5_think 92 = .ok (.aload_n 0, 1) := by decide +kernel
theorem dX5_think_93 : decode cX5_think 93 = .ok (.getfield 50, 3) := by decide +kernel
theorem dX5_think_96 : decode cX5_think 96 = .ok (.iconst 0, 1) := by decide +kernel
theorem dX5_think_97 : decode cX5_think 97 = .ok (.laload, 1) := by decide +kernel
theorem dX5_think_98 : decode cX5_think 98 = .ok (.l2i, 1) := by decide +kernel
theorem dX5_think_99 : decode cX5_think 99 = .ok (.iastore, 1) := by decide +kernel
theorem dX5_think_100 : decode cX5_think 100 = .ok (.aload_n 0, 1) := by decide +kernel
theorem dX5_think_101 : decode cX5_think 101 = .ok (.getfield 16, 3) := by decide +kernel
theorem dX5_think_104 : decode cX5_think 104 = .ok (.iload 5, 2) := by decide +kernel
theorem dX5_think_106 : decode cX5_think 106 = .ok (.iaload, 1) := by decide +kernel
theorem dX5_think_107 : decode cX5_think 107 = .ok (.iconst 2, 1) := by decide +kernel
theorem dX5_think_108 : decode cX5_think 108 = .ok (.if_icmp .ne 50, 3) := by decide +kernel
theorem dX5_think_111 : decode cX5_think 111 = .ok (.aload_n 0, 1) := by decide +kernel
theorem dX5_think_112 : decode cX5_think 112 = .ok (.aload_n 0, 1) := by decide +kernel
theorem dX5_think_113 : decode cX5_think 113 = .ok (.getfield 50, 3) := by decide +kernel
theorem dX5_think_116 : decode cX5_think 116 = .ok (.iconst 0, 1) := by decide +kernel
theorem dX5_think_117 : decode cX5_think 117 = .ok (.laload, 1) := by decide +kernel
theorem dX5_think_118 : decode cX5_think 118 = .ok (.ldc2_w 308, 3) := by decide +kernel
theorem dX5_think_121 : decode cX5_think 121 = .ok (.lcmp, 1) := by decide +kernel
theorem dX5_think_122 : decode cX5_think 122 = .ok (.ifCond .ge 8, 3) := by decide +kernel
theorem dX5_think_125 : decode cX5_think 125 = .ok (.bipush (-8), 2) := by decide +kernel
theorem dX5_think_127 : decode cX5_think 127 = .ok (.goto 28, 3) := by decide +kernel
theorem dX5_think_130 : decode cX5_think 130 = .ok (.aload_n 0, 1) := by decide +kernel
theorem dX5_think_131 : decode cX5_think 131 = .ok (.getfield 50, 3) := by decide +kernel
theorem dX5_think_134 : decode cX5_think 134 = .ok (.iconst 0, 1) := by decide +kernel
theorem dX5_think_135 : decode cX5_think 135 = .ok (.laload, 1) := by decide +kernel
theorem dX5_think_136 : decode cX5_think 136 = .ok (.ldc2_w 310, 3) := by decide +kernel
theorem dX5_think_139 : decode cX5_think 139 = .ok (.lcmp, 1) := by decide +kernel
theorem dX5_think_140 : decode cX5_think 140 = .ok (.ifCond .le 8, 3) := by decide +kernel
theorem dX5_think_143 : decode cX5_think 143 = .ok (.bipush 8, 2) := by decide +kernel
theorem dX5_think_145 : decode cX5_think 145 = .ok (.goto 10, 3) := by decide +kernel
theorem dX5_think_148 : decode cX5_think 148 = .ok (.aload_n 0, 1) := by decide +kernel
theorem dX5_think_149 : decode cX5_think 149 = .ok (.getfield 50, 3) := by decide +kernel
theorem dX5_think_152 : decode cX5_think 152 = .ok (.iconst 0, 1) := by decide +kernel
theorem dX5_think_153 : decode cX5_think 153 = .ok (.laload, 1) := by decide +kernel
theorem dX5_think_154 : decode cX5_think 154 = .ok (.l2i, 1) := by decide +kernel
theorem dX5_think_155 : decode cX5_think 155 = .ok (.putfield 299, 3) := by decide +kernel
theorem dX5_think_158 : decode cX5_think 158 = .ok (.aload_n 0, 1) := by decide +kernel
theorem dX5_think_159 : decode cX5_think 159 = .ok (.getfield 16, 3) := by decide +kernel
theorem dX5_think_162 : decode cX5_think 162 = .ok (.iload 5, 2) := by decide +kernel
theorem dX5_think_164 : decode cX5_think 164 = .ok (.iaload, 1) := by decide +kernel
theorem dX5_think_165 : decode cX5_think 165 = .ok (.iconst 3, 1) := by decide +kernel
theorem dX5_think_166 : decode cX5_think 166 = .ok (.if_icmp .ne 47, 3) := by decide +kernel
theorem dX5_think_169 : decode cX5_think 169 = .ok (.aload_n 0, 1) := by decide +kernel
theorem dX5_think_170 : decode cX5_think 170 = .ok (.aload_n 0, 1) := by decide +kernel
theorem dX5_think_171 : decode cX5_think 171 = .ok (.getfield 50, 3) := by decide +kernel
theorem dX5_think_174 : decode cX5_think 174 = .ok (.iconst 0, 1) := by decide +kernel
theorem dX5_think_175 : decode cX5_think 175 = .ok (.laload, 1) := by decide +kernel
theorem dX5_think_176 : decode cX5_think 176 = .ok (.lconst 0, 1) := by decide +kernel
theorem dX5_think_177 : decode cX5_think 177 = .ok (.lcmp, 1) := by decide +kernel
theorem dX5_think_178 : decode cX5_think 178 = .ok (.ifCond .ge 7, 3) := by decide +kernel
theorem dX5_think_181 : decode cX5_think 181 = .ok (.iconst 0, 1) := by decide +kernel
theorem dX5_think_182 : decode cX5_think 182 = .ok (.goto 28, 3) := by decide +kernel
theorem dX5_think_185 : decode cX5_think 185 = .ok (.aload_n 0, 1) := by decide +kernel
theorem dX5_think_186 : decode cX5_think 186 = .ok (.getfield 50, 3) := by decide +kernel
theorem dX5_think_189 : decode cX5_think 189 = .ok (.iconst 0, 1) := by decide +kernel
theorem dX5_think_190 : decode cX5_think 190 = .ok (.laload, 1) := by decide +kernel
theorem dX5_think_191 : decode cX5_think 191 = .ok (.ldc2_w 312, 3) := by decide +kernel
theorem dX5_think_194 : decode cX5_think 194 = .ok (.lcmp, 1) := by decide +kernel
theorem dX5_think_195 : decode cX5_think 195 = .ok (.ifCond .le 8, 3) := by decide +kernel
theorem dX5_think_198 : decode cX5_think 198 = .ok (.bipush 16, 2) := by decide +kernel
theorem dX5_think_200 : decode cX5_think 200 = .ok (.goto 10, 3) := by decide +kernel
theorem dX5_think_203 : decode cX5_think 203 = .ok (.aload_n 0, 1) := by decide +kernel
theorem dX5_think_204 : decode cX5_think 204 = .ok (.getfield 50, 3) := by decide +kernel
theorem dX5_think_207 : decode cX5_think 207 = .ok (.iconst 0, 1) := by decide +kernel
theorem dX5_think_208 : decode cX5_think 208 = .ok (.laload, 1) := by decide +kernel
theorem dX5_think_209 : decode cX5_think 209 = .ok (.l2i, 1) := by decide +kernel
theorem dX5_think_210 : decode cX5_think 210 = .ok (.putfield 302, 3) := by decide +kernel
theorem dX5_think_213 : decode cX5_think 213 = .ok (.aload_n 0, 1) := by decide +kernel
theorem dX5_think_214 : decode cX5_think 214 = .ok (.getfield 16, 3) := by decide +kernel
theorem dX5_think_217 : decode cX5_think 217 = .ok (.iload 5, 2) := by decide +kernel
theorem dX5_think_219 : decode cX5_think 219 = .ok (.iaload, 1) := by decide +kernel
theorem dX5_think_220 : decode cX5_think 220 = .ok (.iconst 4, 1) := by decide +kernel
theorem dX5_think_221 : decode cX5_think 221 = .ok (.if_icmp .ne 10, 3) := by decide +kernel
theorem dX5_think_224 : decode cX5_think 224 = .ok (.aload_n 0, 1) := by decide +kernel
theorem dX5_think_225 : decode cX5_think 225 = .ok (.getfield 54, 3) := by decide +kernel
theorem dX5_think_228 : decode cX5_think 228 = .ok (.iconst 0, 1) := by decide +kernel
theorem dX5_think_229 : decode cX5_think 229 = .ok (.baload, 1) := by decide +kernel
theorem dX5_think_230 : decode cX5_think 230 = .ok (.istore_n 3, 1) := by decide +kernel
theorem dX5_think_231 : decode cX5_think 231 = .ok (.iinc 4 1, 3) := by decide +kernel
theorem dX5_think_234 : decode cX5_think 234 = .ok (.goto (-213), 3) := by decide +kernel
theorem dX5_think_237 : decode cX5_think 237 = .ok (.iload_n 3, 1) := by decide +kernel
theorem dX5_think_238 : decode cX5_think 238 = .ok (.ireturn, 1) := by decide +kernel
abbrev cX5_work : ByteArray := prog_22_method_68_code
def yX5_work : MethodName := ⟨RX5, "work", "(III)V"⟩
theorem dX5_work_0 : decode cX5_work 0 = .ok (.iconst 0, 1) := by decide +kernel
theorem dX5_work_1 : decode cX5_work 1 = .ok (.istore 4, 2) := by decide +kernel
theorem dX5_work_3 : decode cX5_work 3 = .ok (.iconst 0, 1) := by decide +kernel
theorem dX5_work_4 : decode cX5_work 4 = .ok (.istore 5, 2) := by decide +kernel
theorem dX5_work_6 : decode cX5_work 6 = .ok (.iload_n 2, 1) := by decide +kernel
theorem dX5_work_7 : decode cX5_work 7 = .ok (.istore 6, 2) := by decide +kernel
theorem dX5_work_9 : decode cX5_work 9 = .ok (.iload 6, 2) := by decide +kernel
theorem dX5_work_11 : decode cX5_work 11 = .ok (.iload_n 3, 1) := by decide +kernel
theorem dX5_work_12 : decode cX5_work 12 = .ok (.if_icmp .ge 303, 3) := by decide +kernel
theorem dX5_work_15 : decode cX5_work 15 = .ok (.aload_n 0, 1) := by decide +kernel
theorem dX5_work_16 : decode cX5_work 16 = .ok (.getfield 16, 3) := by decide +kernel
theorem dX5_work_19 : decode cX5_work 19 = .ok (.iload_n 1, 1) := by decide +kernel
theorem dX5_work_20 : decode cX5_work 20 = .ok (.iconst 2, 1) := by decide +kernel
theorem dX5_work_21 : decode cX5_work 21 = .ok (.iload 6, 2) := by decide +kernel
theorem dX5_work_23 : decode cX5_work 23 = .ok (.imul, 1) := by decide +kernel
theorem dX5_work_24 : decode cX5_work 24 = .ok (.iadd, 1) := by decide +kernel
theorem dX5_work_25 : decode cX5_work 25 = .ok (.iaload, 1) := by decide +kernel
theorem dX5_work_26 : decode cX5_work 26 = .ok (.istore 7, 2) := by decide +kernel
theorem dX5_work_28 : decode cX5_work 28 = .ok (.aload_n 0, 1) := by decide +kernel
theorem dX5_work_29 : decode cX5_work 29 = .ok (.getfield 16, 3) := by decide +kernel
theorem dX5_work_32 : decode cX5_work 32 = .ok (.iload_n 1, 1) := by decide +kernel
theorem dX5_work_33 : decode cX5_work 33 = .ok (.iconst 2, 1) := by decide +kernel
theorem dX5_work_34 : decode cX5_work 34 = .ok (.iload 6, 2) := by decide +kernel
theorem dX5_work_36 : decode cX5_work 36 = .ok (.imul, 1) := by decide +kernel
theorem dX5_work_37 : decode cX5_work 37 = .ok (.iadd, 1) := by decide +kernel
theorem dX5_work_38 : decode cX5_work 38 = .ok (.iconst 1, 1) := by decide +kernel
theorem dX5_work_39 : decode cX5_work 39 = .ok (.iadd, 1) := by decide +kernel
theorem dX5_work_40 : decode cX5_work 40 = .ok (.iaload, 1) := by decide +kernel
theorem dX5_work_41 : decode cX5_work 41 = .ok (.istore 8, 2) := by decide +kernel
theorem dX5_work_43 : decode cX5_work 43 = .ok (.iload 7, 2) := by decide +kernel
theorem dX5_work_45 : decode cX5_work 45 = .ok (.iconst 1, 1) := by decide +kernel
theorem dX5_work_46 : decode cX5_work 46 = .ok (.if_icmp .le 10, 3) := by decide +kernel
theorem dX5_work_49 : decode cX5_work 49 = .ok (.iload 7, 2) := by decide +kernel
theorem dX5_work_51 : decode cX5_work 51 = .ok (.bipush 30, 2) := by decide +kernel
theorem dX5_work_53 : decode cX5_work 53 = .ok (.if_icmp .lt 28, 3) := by decide +kernel
theorem dX5_work_56 : decode cX5_work 56 = .ok (.aload_n 0, 1) := by decide +kernel
theorem dX5_work_57 : decode cX5_work 57 = .ok (.getfield 50, 3) := by decide +kernel
theorem dX5_work_60 : decode cX5_work 60 = .ok (.iload 4, 2) := by decide +kernel
theorem dX5_work_62 : decode cX5_work 62 = .ok (.aload_n 0, 1) := by decide +kernel
theorem dX5_work_63 : decode cX5_work 63 = .ok (.aload_n 0, 1) := by decide +kernel
theorem dX5_work_64 : decode cX5_work 64 = .ok (.iload 7, 2) := by decide +kernel
theorem dX5_work_66 : decode cX5_work 66 = .ok (.iload 8, 2) := by decide +kernel
theorem dX5_work_68 : decode cX5_work 68 = .ok (.invokevirtual 287, 3) := by decide +kernel
theorem dX5_work_71 : decode cX5_work 71 = .ok (.invokevirtual 280, 3) := by decide +kernel
theorem dX5_work_74 : decode cX5_work 74 = .ok (.lastore, 1) := by decide +kernel
theorem dX5_work_75 : decode cX5_work 75 = .ok (.iinc 4 1, 3) := by decide +kernel
theorem dX5_work_78 : decode cX5_work 78 = .ok (.goto 231, 3) := by decide +kernel
theorem dX5_work_81 : decode cX5_work 81 = .ok (.iload 7, 2) := by decide +kernel
theorem dX5_work_83 : decode cX5_work 83 = .ok (.iconst 2, 1) := by decide +kernel
theorem dX5_work_84 : decode cX5_work 84 = .ok (.if_icmp .ne 25, 3) := by decide +kernel
theorem dX5_work_87 : decode cX5_work 87 = .ok (.aload_n 0, 1) := by decide +kernel
theorem dX5_work_88 : decode cX5_work 88 = .ok (.getfield 50, 3) := by decide +kernel
theorem dX5_work_91 : decode cX5_work 91 = .ok (.iload 4, 2) := by decide +kernel
theorem dX5_work_93 : decode cX5_work 93 = .ok (.iconst 1, 1) := by decide +kernel
theorem dX5_work_94 : decode cX5_work 94 = .ok (.isub, 1) := by decide +kernel
theorem dX5_work_95 : decode cX5_work 95 = .ok (.aload_n 0, 1) := by decide +kernel
theorem dX5_work_96 : decode cX5_work 96 = .ok (.getfield 50, 3) := by decide +kernel
theorem dX5_work_99 : decode cX5_work 99 = .ok (.iload 4, 2) := by decide +kernel
theorem dX5_work_101 : decode cX5_work 101 = .ok (.iconst 1, 1) := by decide +kernel
theorem dX5_work_102 : decode cX5_work 102 = .ok (.isub, 1) := by decide +kernel
theorem dX5_work_103 : decode cX5_work 103 = .ok (.laload, 1) := by decide +kernel
theorem dX5_work_104 : decode cX5_work 104 = .ok (.lneg, 1) := by decide +kernel
theorem dX5_work_105 : decode cX5_work 105 = .ok (.lastore, 1) := by decide +kernel
theorem dX5_work_106 : decode cX5_work 106 = .ok (.goto 203, 3) := by decide +kernel
theorem dX5_work_109 : decode cX5_work 109 = .ok (.iload 7, 2) := by decide +kernel
theorem dX5_work_111 : decode cX5_work 111 = .ok (.bipush 10, 2) := by decide +kernel
theorem dX5_work_113 : decode cX5_work 113 = .ok (.if_icmp .ge 40, 3) := by decide +kernel
theorem dX5_work_116 : decode cX5_work 116 = .ok (.iinc 4 (-1), 3) := by decide +kernel
theorem dX5_work_119 : decode cX5_work 119 = .ok (.aload_n 0, 1) := by decide +kernel
theorem dX5_work_120 : decode cX5_work 120 = .ok (.getfield 50, 3) := by decide +kernel
theorem dX5_work_123 : decode cX5_work 123 = .ok (.iload 4, 2) := by decide +kernel
theorem dX5_work_125 : decode cX5_work 125 = .ok (.iconst 1, 1) := by decide +kernel
theorem dX5_work_126 : decode cX5_work 126 = .ok (.isub, 1) := by decide +kernel
theorem dX5_work_127 : decode cX5_work 127 = .ok (.aload_n 0, 1) := by decide +kernel
theorem dX5_work_128 : decode cX5_work 128 = .ok (.iload 7, 2) := by decide +kernel
theorem dX5_work_130 : decode cX5_work 130 = .ok (.aload_n 0, 1) := by decide +kernel
theorem dX5_work_131 : decode cX5_work 131 = .ok (.getfield 50, 3) := by decide +kernel
theorem dX5_work_134 : decode cX5_work 134 = .ok (.iload 4, 2) := by decide +kernel
theorem dX5_work_136 : decode cX5_work 136 = .ok (.iconst 1, 1) := by decide +kernel
theorem dX5_work_137 : decode cX5_work 137 = .ok (.isub, 1) := by decide +kernel
theorem dX5_work_138 : decode cX5_work 138 = .ok (.laload, 1) := by decide +kernel
theorem dX5_work_139 : decode cX5_work 139 = .ok (.aload_n 0, 1) := by decide +kernel
theorem dX5_work_140 : decode cX5_work 140 = .ok (.getfield 50, 3) := by decide +kernel
theorem dX5_work_143 : decode cX5_work 143 = .ok (.iload 4, 2) := by decide +kernel
theorem dX5_work_145 : decode cX5_work 145 = .ok (.laload, 1) := by decide +kernel
theorem dX5_work_146 : decode cX5_work 146 = .ok (.invokevirtual 291, 3) := by decide +kernel
theorem dX5_work_149 : decode cX5_work 149 = .ok (.lastore, 1) := by decide +kernel
theorem dX5_work_150 : decode cX5_work 150 = .ok (.goto 159, 3) := by decide +kernel
theorem dX5_work_153 : decode cX5_work 153 = .ok (.iload 7, 2) := by decide +kernel
theorem dX5_work_155 : decode cX5_work 155 = .ok (.bipush 20, 2) := by decide +kernel
theorem dX5_work_157 : decode cX5_work 157 = .ok (.if_icmp .ge 40, 3) := by decide +kernel
theorem dX5_work_160 : decode cX5_work 160 = .ok (.iinc 4 (-2), 3) := by decide +kernel
theorem dX5_work_163 : decode cX5_work 163 = .ok (.aload_n 0, 1) := by decide +kernel
theorem dX5_work_164 : decode cX5_work 164 = .ok (.getfield 54, 3) := by decide +kernel
theorem dX5_work_167 : decode cX5_work 167 = .ok (.iload 5, 2) := by decide +kernel
theorem dX5_work_169 : decode cX5_work 169 = .ok (.iload 7, 2) := by decide +kernel
theorem dX5_work_171 : decode cX5_work 171 = .ok (.aload_n 0, 1) := by decide +kernel
theorem dX5_work_172 : decode cX5_work 172 = .ok (.getfield 50, 3) := by decide +kernel
theorem dX5_work_175 : decode cX5_work 175 = .ok (.iload 4, 2) := by decide +kernel
theorem dX5_work_177 : decode cX5_work 177 = .ok (.laload, 1) := by decide +kernel
theorem dX5_work_178 : decode cX5_work 178 = .ok (.aload_n 0, 1) := by decide +kernel
theorem dX5_work_179 : decode cX5_work 179 = .ok (.getfield 50, 3) := by decide +kernel
theorem dX5_work_182 : decode cX5_work 182 = .ok (.iload 4, 2) := by decide +kernel
theorem dX5_work_184 : decode cX5_work 184 = .ok (.iconst 1, 1) := by decide +kernel
theorem dX5_work_185 : decode cX5_work 185 = .ok (.iadd, 1) := by decide +kernel
theorem dX5_work_186 : decode cX5_work 186 = .ok (.laload, 1) := by decide +kernel
theorem dX5_work_187 : decode cX5_work 187 = .ok (.invokestatic 295, 3) := by decide +kernel
theorem dX5_work_190 : decode cX5_work 190 = .ok (.bastore, 1) := by decide +kernel
theorem dX5_work_191 : decode cX5_work 191 = .ok (.iinc 5 1, 3) := by decide +kernel
theorem dX5_work_194 : decode cX5_work 194 = .ok (.goto 115, 3) := by decide +kernel
theorem dX5_work_197 : decode cX5_work 197 = .ok (.iload 7, 2) := by decide +kernel
theorem dX5_work_199 : decode cX5_work 199 = .ok (.bipush 20, 2) := by decide +kernel
theorem dX5_work_201 : decode cX5_work 201 = .ok (.if_icmp .ne 32, 3) := by decide +kernel
theorem dX5_work_204 : decode cX5_work 204 = .ok (.aload_n 0, 1) := by decide +kernel
theorem dX5_work_205 : decode cX5_work 205 = .ok (.getfield 54, 3) := by decide +kernel
theorem dX5_work_208 : decode cX5_work 208 = .ok (.iload 5, 2) := by decide +kernel
theorem dX5_work_210 : decode cX5_work 210 = .ok (.iconst 1, 1) := by decide +kernel
theorem dX5_work_211 : decode cX5_work 211 = .ok (.isub, 1) := by decide +kernel
theorem dX5_work_212 : decode cX5_work 212 = .ok (.aload_n 0, 1) := by decide +kernel
theorem dX5_work_213 : decode cX5_work 213 = .ok (.getfield 54, 3) := by decide +kernel
theorem dX5_work_216 : decode cX5_work 216 = .ok (.iload 5, 2) := by decide +kernel
theorem dX5_work_218 : decode cX5_work 218 = .ok (.iconst 1, 1) := by decide +kernel
theorem dX5_work_219 : decode cX5_work 219 = .ok (.isub, 1) := by decide +kernel
theorem dX5_work_220 : decode cX5_work 220 = .ok (.baload, 1) := by decide +kernel
theorem dX5_work_221 : decode cX5_work 221 = .ok (.ifCond .ne 7, 3) := by decide +kernel
theorem dX5_work_224 : decode cX5_work 224 = .ok (.iconst 1, 1) := by decide +kernel
theorem dX5_work_225 : decode cX5_work 225 = .ok (.goto 4, 3) := by decide +kernel
theorem dX5_work_228 : decode cX5_work 228 = .ok (.iconst 0, 1) := by decide +kernel
theorem dX5_work_229 : decode cX5_work 229 = .ok (.bastore, 1) := by decide +kernel
theorem dX5_work_230 : decode cX5_work 230 = .ok (.goto 79, 3) := by decide +kernel
theorem dX5_work_233 : decode cX5_work 233 = .ok (.iinc 5 (-1), 3) := by decide +kernel
theorem dX5_work_236 : decode cX5_work 236 = .ok (.aload_n 0, 1) := by decide +kernel
theorem dX5_work_237 : decode cX5_work 237 = .ok (.getfield 54, 3) := by decide +kernel
theorem dX5_work_240 : decode cX5_work 240 = .ok (.iload 5, 2) := by decide +kernel
theorem dX5_work_242 : decode cX5_work 242 = .ok (.iconst 1, 1) := by decide +kernel
theorem dX5_work_243 : decode cX5_work 243 = .ok (.isub, 1) := by decide +kernel
theorem dX5_work_244 : decode cX5_work 244 = .ok (.iload 7, 2) := by decide +kernel
theorem dX5_work_246 : decode cX5_work 246 = .ok (.bipush 21, 2) := by decide +kernel
theorem dX5_work_248 : decode cX5_work 248 = .ok (.if_icmp .ne 33, 3) := by decide +kernel
theorem dX5_work_251 : decode cX5_work 251 = .ok (.aload_n 0, 1) := by decide +kernel
theorem dX5_work_252 : decode cX5_work 252 = .ok (.getfield 54, 3) := by decide +kernel
theorem dX5_work_255 : decode cX5_work 255 = .ok (.iload 5, 2) := by decide +kernel
theorem dX5_work_257 : decode cX5_work 257 = .ok (.iconst 1, 1) := by decide +kernel
theorem dX5_work_258 : decode cX5_work 258 = .ok (.isub, 1) := by decide +kernel
theorem dX5_work_259 : decode cX5_work 259 = .ok (.baload, 1) := by decide +kernel
theorem dX5_work_260 : decode cX5_work 260 = .ok (.ifCond .eq 17, 3) := by decide +kernel
theorem dX5_work_263 : decode cX5_work 263 = .ok (.aload_n 0, 1) := by decide +kernel
theorem dX5_work_264 : decode cX5_work 264 = .ok (.getfield 54, 3) := by decide +kernel
theorem dX5_work_267 : decode cX5_work 267 = .ok (.iload 5, 2) := by decide +kernel
theorem dX5_work_269 : decode cX5_work 269 = .ok (.baload, 1) := by decide +kernel
theorem dX5_work_270 : decode cX5_work 270 = .ok (.ifCond .eq 7, 3) := by decide +kernel
theorem dX5_work_273 : decode cX5_work 273 = .ok (.iconst 1, 1) := by decide +kernel
theorem dX5_work_274 : decode cX5_work 274 = .ok (.goto 34, 3) := by decide +kernel
theorem dX5_work_277 : decode cX5_work 277 = .ok (.iconst 0, 1) := by decide +kernel
theorem dX5_work_278 : decode cX5_work 278 = .ok (.goto 30, 3) := by decide +kernel
theorem dX5_work_281 : decode cX5_work 281 = .ok (.aload_n 0, 1) := by decide +kernel
theorem dX5_work_282 : decode cX5_work 282 = .ok (.getfield 54, 3) := by decide +kernel
theorem dX5_work_285 : decode cX5_work 285 = .ok (.iload 5, 2) := by decide +kernel
theorem dX5_work_287 : decode cX5_work 287 = .ok (.iconst 1, 1) := by decide +kernel
theorem dX5_work_288 : decode cX5_work 288 = .ok (.isub, 1) := by decide +kernel
theorem dX5_work_289 : decode cX5_work 289 = .ok (.baload, 1) := by decide +kernel
theorem dX5_work_290 : decode cX5_work 290 = .ok (.ifCond .ne 13, 3) := by decide +kernel
theorem dX5_work_293 : decode cX5_work 293 = .ok (.aload_n 0, 1) := by decide +kernel
theorem dX5_work_294 : decode cX5_work 294 = .ok (.getfield 54, 3) := by decide +kernel
theorem dX5_work_297 : decode cX5_work 297 = .ok (.iload 5, 2) := by decide +kernel
theorem dX5_work_299 : decode cX5_work 299 = .ok (.baload, 1) := by decide +kernel
theorem dX5_work_300 : decode cX5_work 300 = .ok (.ifCond .eq 7, 3) := by decide +kernel
theorem dX5_work_303 : decode cX5_work 303 = .ok (.iconst 1, 1) := by decide +kernel
theorem dX5_work_304 : decode cX5_work 304 = .ok (.goto 4, 3) := by decide +kernel
theorem dX5_work_307 : decode cX5_work 307 = .ok (.iconst 0, 1) := by decide +kernel
theorem dX5_work_308 : decode cX5_work 308 = .ok (.bastore, 1) := by decide +kernel
theorem dX5_work_309 : decode cX5_work 309 = .ok (.iinc 6 1, 3) := by decide +kernel
theorem dX5_work_312 : decode cX5_work 312 = .ok (.goto (-303), 3) := by decide +kernel
theorem dX5_work_315 : decode cX5_work 315 = .ok (.return_, 1) := by decide +kernel
abbrev cX5_valueOf : ByteArray := prog_22_method_67_code
def yX5_valueOf : MethodName := ⟨RX5, "valueOf", "(II)J"⟩
theorem dX5_valueOf_0 : decode cX5_valueOf 0 = .ok (.iload_n 1, 1) := by decide +kernel
theorem dX5_valueOf_1 : decode cX5_valueOf 1 = .ok (.lookupswitch 92 #[(0, 43), (1, 46), (30, 54), (31, 60)], 43) := by decide +kernel
theorem dX5_valueOf_44 : decode cX5_valueOf 44 = .ok (.iload_n 2, 1) := by decide +kernel
theorem dX5_valueOf_45 : decode cX5_valueOf 45 = .ok (.i2l, 1) := by decide +kernel
theorem dX5_valueOf_46 : decode cX5_valueOf 46 = .ok (.lreturn, 1) := by decide +kernel
theorem dX5_valueOf_47 : decode cX5_valueOf 47 = .ok (.aload_n 0, 1) := by decide +kernel
theorem dX5_valueOf_48 : decode cX5_valueOf 48 = .ok (.getfield 47, 3) := by decide +kernel
theorem dX5_valueOf_51 : decode cX5_valueOf 51 = .ok (.iload_n 2, 1) := by decide +kernel
theorem dX5_valueOf_52 : decode cX5_valueOf 52 = .ok (.iaload, 1) := by decide +kernel
theorem dX5_valueOf_53 : decode cX5_valueOf 53 = .ok (.i2l, 1) := by decide +kernel
theorem dX5_valueOf_54 : decode cX5_valueOf 54 = .ok (.lreturn, 1) := by decide +kernel
theorem dX5_valueOf_55 : decode cX5_valueOf 55 = .ok (.aload_n 0, 1) := by decide +kernel
theorem dX5_valueOf_56 : decode cX5_valueOf 56 = .ok (.getfield 284, 3) := by decide +kernel
theorem dX5_valueOf_59 : decode cX5_valueOf 59 = .ok (.i2l, 1) := by decide +kernel
theorem dX5_valueOf_60 : decode cX5_valueOf 60 = .ok (.lreturn, 1) := by decide +kernel
theorem dX5_valueOf_61 : decode cX5_valueOf 61 = .ok (.iload_n 2, 1) := by decide +kernel
theorem dX5_valueOf_62 : decode cX5_valueOf 62 = .ok (.aload_n 0, 1) := by decide +kernel
theorem dX5_valueOf_63 : decode cX5_valueOf 63 = .ok (.getfield 7, 3) := by decide +kernel
theorem dX5_valueOf_66 : decode cX5_valueOf 66 = .ok (.iconst 1, 1) := by decide +kernel
theorem dX5_valueOf_67 : decode cX5_valueOf 67 = .ok (.iaload, 1) := by decide +kernel
theorem dX5_valueOf_68 : decode cX5_valueOf 68 = .ok (.if_icmp .ge 23, 3) := by decide +kernel
theorem dX5_valueOf_71 : decode cX5_valueOf 71 = .ok (.aload_n 0, 1) := by decide +kernel
theorem dX5_valueOf_72 : decode cX5_valueOf 72 = .ok (.getfield 44, 3) := by decide +kernel
theorem dX5_valueOf_75 : decode cX5_valueOf 75 = .ok (.bipush 38, 2) := by decide +kernel
theorem dX5_valueOf_77 : decode cX5_valueOf 77 = .ok (.aload_n 0, 1) := by decide +kernel
theorem dX5_valueOf_78 : decode cX5_valueOf 78 = .ok (.getfield 284, 3) := by decide +kernel
theorem dX5_valueOf_81 : decode cX5_valueOf 81 = .ok (.imul, 1) := by decide +kernel
theorem dX5_valueOf_82 : decode cX5_valueOf 82 = .ok (.iconst 5, 1) := by decide +kernel
theorem dX5_valueOf_83 : decode cX5_valueOf 83 = .ok (.iadd, 1) := by decide +kernel
theorem dX5_valueOf_84 : decode cX5_valueOf 84 = .ok (.iload_n 2, 1) := by decide +kernel
theorem dX5_valueOf_85 : decode cX5_valueOf 85 = .ok (.iadd, 1) := by decide +kernel
theorem dX5_valueOf_86 : decode cX5_valueOf 86 = .ok (.iaload, 1) := by decide +kernel
theorem dX5_valueOf_87 : decode cX5_valueOf 87 = .ok (.i2l, 1) := by decide +kernel
theorem dX5_valueOf_88 : decode cX5_valueOf 88 = .ok (.goto 4, 3) := by decide +kernel
theorem dX5_valueOf_91 : decode cX5_valueOf 91 = .ok (.lconst 0, 1) := by decide +kernel
theorem dX5_valueOf_92 : decode cX5_valueOf 92 = .ok (.lreturn, 1) := by decide +kernel
theorem dX5_valueOf_93 : decode cX5_valueOf 93 = .ok (.iload_n 2, 1) := by decide +kernel
theorem dX5_valueOf_94 : decode cX5_valueOf 94 = .ok (.aload_n 0, 1) := by decide +kernel
theorem dX5_valueOf_95 : decode cX5_valueOf 95 = .ok (.getfield 7, 3) := by decide +kernel
theorem dX5_valueOf_98 : decode cX5_valueOf 98 = .ok (.iconst 2, 1) := by decide +kernel
theorem dX5_valueOf_99 : decode cX5_valueOf 99 = .ok (.iaload, 1) := by decide +kernel
theorem dX5_valueOf_100 : decode cX5_valueOf 100 = .ok (.if_icmp .ge 24, 3) := by decide +kernel
theorem dX5_valueOf_103 : decode cX5_valueOf 103 = .ok (.aload_n 0, 1) := by decide +kernel
theorem dX5_valueOf_104 : decode cX5_valueOf 104 = .ok (.getfield 44, 3) := by decide +kernel
theorem dX5_valueOf_107 : decode cX5_valueOf 107 = .ok (.bipush 38, 2) := by decide +kernel
theorem dX5_valueOf_109 : decode cX5_valueOf 109 = .ok (.aload_n 0, 1) := by decide +kernel
theorem dX5_valueOf_110 : decode cX5_valueOf 110 = .ok (.getfield 284, 3) := by decide +kernel
theorem dX5_valueOf_113 : decode cX5_valueOf 113 = .ok (.imul, 1) := by decide +kernel
theorem dX5_valueOf_114 : decode cX5_valueOf 114 = .ok (.bipush 21, 2) := by decide +kernel
theorem dX5_valueOf_116 : decode cX5_valueOf 116 = .ok (.iadd, 1) := by decide +kernel
theorem dX5_valueOf_117 : decode cX5_valueOf 117 = .ok (.iload_n 2, 1) := by decide +kernel
theorem dX5_valueOf_118 : decode cX5_valueOf 118 = .ok (.iadd, 1) := by decide +kernel
theorem dX5_valueOf_119 : decode cX5_valueOf 119 = .ok (.iaload, 1) := by decide +kernel
theorem dX5_valueOf_120 : decode cX5_valueOf 120 = .ok (.i2l, 1) := by decide +kernel
theorem dX5_valueOf_121 : decode cX5_valueOf 121 = .ok (.goto 4, 3) := by decide +kernel
theorem dX5_valueOf_124 : decode cX5_valueOf 124 = .ok (.lconst 0, 1) := by decide +kernel
theorem dX5_valueOf_125 : decode cX5_valueOf 125 = .ok (.lreturn, 1) := by decide +kernel
abbrev cX5_bring : ByteArray := prog_22_method_64_code
def yX5_bring : MethodName := ⟨RX5, "bring", "(J)J"⟩
theorem dX5_bring_0 : decode cX5_bring 0 = .ok (.lload_n 1, 1) := by decide +kernel
theorem dX5_bring_1 : decode cX5_bring 1 = .ok (.aload_n 0, 1) := by decide +kernel
theorem dX5_bring_2 : decode cX5_bring 2 = .ok (.getfield 274, 3) := by decide +kernel
theorem dX5_bring_5 : decode cX5_bring 5 = .ok (.lcmp, 1) := by decide +kernel
theorem dX5_bring_6 : decode cX5_bring 6 = .ok (.ifCond .gt 13, 3) := by decide +kernel
theorem dX5_bring_9 : decode cX5_bring 9 = .ok (.lload_n 1, 1) := by decide +kernel
theorem dX5_bring_10 : decode cX5_bring 10 = .ok (.aload_n 0, 1) := by decide +kernel
theorem dX5_bring_11 : decode cX5_bring 11 = .ok (.getfield 274, 3) := by decide +kernel
theorem dX5_bring_14 : decode cX5_bring 14 = .ok (.lneg, 1) := by decide +kernel
theorem dX5_bring_15 : decode cX5_bring 15 = .ok (.lcmp, 1) := by decide +kernel
theorem dX5_bring_16 : decode cX5_bring 16 = .ok (.ifCond .ge 13, 3) := by decide +kernel
theorem dX5_bring_19 : decode cX5_bring 19 = .ok (.aload_n 0, 1) := by decide +kernel
theorem dX5_bring_20 : decode cX5_bring 20 = .ok (.dup, 1) := by decide +kernel
theorem dX5_bring_21 : decode cX5_bring 21 = .ok (.getfield 277, 3) := by decide +kernel
theorem dX5_bring_24 : decode cX5_bring 24 = .ok (.iconst 1, 1) := by decide +kernel
theorem dX5_bring_25 : decode cX5_bring 25 = .ok (.iadd, 1) := by decide +kernel
theorem dX5_bring_26 : decode cX5_bring 26 = .ok (.putfield 277, 3) := by decide +kernel
theorem dX5_bring_29 : decode cX5_bring 29 = .ok (.lload_n 1, 1) := by decide +kernel
theorem dX5_bring_30 : decode cX5_bring 30 = .ok (.aload_n 0, 1) := by decide +kernel
theorem dX5_bring_31 : decode cX5_bring 31 = .ok (.getfield 274, 3) := by decide +kernel
theorem dX5_bring_34 : decode cX5_bring 34 = .ok (.lcmp, 1) := by decide +kernel
theorem dX5_bring_35 : decode cX5_bring 35 = .ok (.ifCond .le 10, 3) := by decide +kernel
theorem dX5_bring_38 : decode cX5_bring 38 = .ok (.aload_n 0, 1) := by decide +kernel
theorem dX5_bring_39 : decode cX5_bring 39 = .ok (.getfield 274, 3) := by decide +kernel
theorem dX5_bring_42 : decode cX5_bring 42 = .ok (.goto 22, 3) := by decide +kernel
theorem dX5_bring_45 : decode cX5_bring 45 = .ok (.lload_n 1, 1) := by decide +kernel
theorem dX5_bring_46 : decode cX5_bring 46 = .ok (.aload_n 0, 1) := by decide +kernel
theorem dX5_bring_47 : decode cX5_bring 47 = .ok (.getfield 274, 3) := by decide +kernel
theorem dX5_bring_50 : decode cX5_bring 50 = .ok (.lneg, 1) := by decide +kernel
theorem dX5_bring_51 : decode cX5_bring 51 = .ok (.lcmp, 1) := by decide +kernel
theorem dX5_bring_52 : decode cX5_bring 52 = .ok (.ifCond .ge 11, 3) := by decide +kernel
theorem dX5_bring_55 : decode cX5_bring 55 = .ok (.aload_n 0, 1) := by decide +kernel
theorem dX5_bring_56 : decode cX5_bring 56 = .ok (.getfield 274, 3) := by decide +kernel
theorem dX5_bring_59 : decode cX5_bring 59 = .ok (.lneg, 1) := by decide +kernel
theorem dX5_bring_60 : decode cX5_bring 60 = .ok (.goto 4, 3) := by decide +kernel
theorem dX5_bring_63 : decode cX5_bring 63 = .ok (.lload_n 1, 1) := by decide +kernel
theorem dX5_bring_64 : decode cX5_bring 64 = .ok (.lreturn, 1) := by decide +kernel
abbrev cX5_two : ByteArray := prog_22_method_65_code
def yX5_two : MethodName := ⟨RX5, "two", "(IJJ)J"⟩
theorem dX5_two_0 : decode cX5_two 0 = .ok (.iload_n 1, 1) := by decide +kernel
theorem dX5_two_1 : decode cX5_two 1 = .ok (.tableswitch 96 3 7 #[35, 44, 53, 62, 82], 35) := by decide +kernel
theorem dX5_two_36 : decode cX5_two 36 = .ok (.aload_n 0, 1) := by decide +kernel
theorem dX5_two_37 : decode cX5_two 37 = .ok (.lload_n 2, 1) := by decide +kernel
theorem dX5_two_38 : decode cX5_two 38 = .ok (.lload 4, 2) := by decide +kernel
theorem dX5_two_40 : decode cX5_two 40 = .ok (.ladd, 1) := by decide +kernel
theorem dX5_two_41 : decode cX5_two 41 = .ok (.invokevirtual 280, 3) := by decide +kernel
theorem dX5_two_44 : decode cX5_two 44 = .ok (.lreturn, 1) := by decide +kernel
theorem dX5_two_45 : decode cX5_two 45 = .ok (.aload_n 0, 1) := by decide +kernel
theorem dX5_two_46 : decode cX5_two 46 = .ok (.lload_n 2, 1) := by decide +kernel
theorem dX5_two_47 : decode cX5_two 47 = .ok (.lload 4, 2) := by decide +kernel
theorem dX5_two_49 : decode cX5_two 49 = .ok (.lsub, 1) := by decide +kernel
theorem dX5_two_50 : decode cX5_two 50 = .ok (.invokevirtual 280, 3) := by decide +kernel
theorem dX5_two_53 : decode cX5_two 53 = .ok (.lreturn, 1) := by decide +kernel
theorem dX5_two_54 : decode cX5_two 54 = .ok (.aload_n 0, 1) := by decide +kernel
theorem dX5_two_55 : decode cX5_two 55 = .ok (.lload_n 2, 1) := by decide +kernel
theorem dX5_two_56 : decode cX5_two 56 = .ok (.lload 4, 2) := by decide +kernel
theorem dX5_two_58 : decode cX5_two 58 = .ok (.lmul, 1) := by decide +kernel
theorem dX5_two_59 : decode cX5_two 59 = .ok (.invokevirtual 280, 3) := by decide +kernel
theorem dX5_two_62 : decode cX5_two 62 = .ok (.lreturn, 1) := by decide +kernel
theorem dX5_two_63 : decode cX5_two 63 = .ok (.lload 4, 2) := by decide +kernel
theorem dX5_two_65 : decode cX5_two 65 = .ok (.lconst 0, 1) := by decide +kernel
theorem dX5_two_66 : decode cX5_two 66 = .ok (.lcmp, 1) := by decide +kernel
theorem dX5_two_67 : decode cX5_two 67 = .ok (.ifCond .ne 7, 3) := by decide +kernel
theorem dX5_two_70 : decode cX5_two 70 = .ok (.lconst 0, 1) := by decide +kernel
theorem dX5_two_71 : decode cX5_two 71 = .ok (.goto 11, 3) := by decide +kernel
theorem dX5_two_74 : decode cX5_two 74 = .ok (.aload_n 0, 1) := by decide +kernel
theorem dX5_two_75 : decode cX5_two 75 = .ok (.lload_n 2, 1) := by decide +kernel
theorem dX5_two_76 : decode cX5_two 76 = .ok (.lload 4, 2) := by decide +kernel
theorem dX5_two_78 : decode cX5_two 78 = .ok (.ldiv, 1) := by decide +kernel
theorem dX5_two_79 : decode cX5_two 79 = .ok (.invokevirtual 280, 3) := by decide +kernel
theorem dX5_two_82 : decode cX5_two 82 = .ok (.lreturn, 1) := by decide +kernel
theorem dX5_two_83 : decode cX5_two 83 = .ok (.lload_n 2, 1) := by decide +kernel
theorem dX5_two_84 : decode cX5_two 84 = .ok (.lload 4, 2) := by decide +kernel
theorem dX5_two_86 : decode cX5_two 86 = .ok (.lcmp, 1) := by decide +kernel
theorem dX5_two_87 : decode cX5_two 87 = .ok (.ifCond .ge 7, 3) := by decide +kernel
theorem dX5_two_90 : decode cX5_two 90 = .ok (.lload_n 2, 1) := by decide +kernel
theorem dX5_two_91 : decode cX5_two 91 = .ok (.goto 5, 3) := by decide +kernel
theorem dX5_two_94 : decode cX5_two 94 = .ok (.lload 4, 2) := by decide +kernel
theorem dX5_two_96 : decode cX5_two 96 = .ok (.lreturn, 1) := by decide +kernel
theorem dX5_two_97 : decode cX5_two 97 = .ok (.lload_n 2, 1) := by decide +kernel
theorem dX5_two_98 : decode cX5_two 98 = .ok (.lload 4, 2) := by decide +kernel
theorem dX5_two_100 : decode cX5_two 100 = .ok (.lcmp, 1) := by decide +kernel
theorem dX5_two_101 : decode cX5_two 101 = .ok (.ifCond .le 7, 3) := by decide +kernel
theorem dX5_two_104 : decode cX5_two 104 = .ok (.lload_n 2, 1) := by decide +kernel
theorem dX5_two_105 : decode cX5_two 105 = .ok (.goto 5, 3) := by decide +kernel
theorem dX5_two_108 : decode cX5_two 108 = .ok (.lload 4, 2) := by decide +kernel
theorem dX5_two_110 : decode cX5_two 110 = .ok (.lreturn, 1) := by decide +kernel
abbrev cX5_isAsked : ByteArray := prog_22_method_66_code
def yX5_isAsked : MethodName := ⟨RX5, "isAsked", "(IJJ)Z"⟩
theorem dX5_isAsked_0 : decode cX5_isAsked 0 = .ok (.iload_n 0, 1) := by decide +kernel
theorem dX5_isAsked_1 : decode cX5_isAsked 1 = .ok (.bipush 10, 2) := by decide +kernel
theorem dX5_isAsked_3 : decode cX5_isAsked 3 = .ok (.if_icmp .ne 17, 3) := by decide +kernel
theorem dX5_isAsked_6 : decode cX5_isAsked 6 = .ok (.lload_n 1, 1) := by decide +kernel
theorem dX5_isAsked_7 : decode cX5_isAsked 7 = .ok (.lload_n 3, 1) := by decide +kernel
theorem dX5_isAsked_8 : decode cX5_isAsked 8 = .ok (.lcmp, 1) := by decide +kernel
theorem dX5_isAsked_9 : decode cX5_isAsked 9 = .ok (.ifCond .ge 7, 3) := by decide +kernel
theorem dX5_isAsked_12 : decode cX5_isAsked 12 = .ok (.iconst 1, 1) := by decide +kernel
theorem dX5_isAsked_13 : decode cX5_isAsked 13 = .ok (.goto 98, 3) := by decide +kernel
theorem dX5_isAsked_16 : decode cX5_isAsked 16 = .ok (.iconst 0, 1) := by decide +kernel
theorem dX5_isAsked_17 : decode cX5_isAsked 17 = .ok (.goto 94, 3) := by decide +kernel
theorem dX5_isAsked_20 : decode cX5_isAsked 20 = .ok (.iload_n 0, 1) := by decide +kernel
theorem dX5_isAsked_21 : decode cX5_isAsked 21 = .ok (.bipush 11, 2) := by decide +kernel
theorem dX5_isAsked_23 : decode cX5_isAsked 23 = .ok (.if_icmp .ne 17, 3) := by decide +kernel
theorem dX5_isAsked_26 : decode cX5_isAsked 26 = .ok (.lload_n 1, 1) := by decide +kernel
theorem dX5_isAsked_27 : decode cX5_isAsked 27 = .ok (.lload_n 3, 1) := by decide +kernel
theorem dX5_isAsked_28 : decode cX5_isAsked 28 = .ok (.lcmp, 1) := by decide +kernel
theorem dX5_isAsked_29 : decode cX5_isAsked 29 = .ok (.ifCond .gt 7, 3) := by decide +kernel
theorem dX5_isAsked_32 : decode cX5_isAsked 32 = .ok (.iconst 1, 1) := by decide +kernel
theorem dX5_isAsked_33 : decode cX5_isAsked 33 = .ok (.goto 78, 3) := by decide +kernel
theorem dX5_isAsked_36 : decode cX5_isAsked 36 = .ok (.iconst 0, 1) := by decide +kernel
theorem dX5_isAsked_37 : decode cX5_isAsked 37 = .ok (.goto 74, 3) := by decide +kernel
theorem dX5_isAsked_40 : decode cX5_isAsked 40 = .ok (.iload_n 0, 1) := by decide +kernel
theorem dX5_isAsked_41 : decode cX5_isAsked 41 = .ok (.bipush 12, 2) := by decide +kernel
theorem dX5_isAsked_43 : decode cX5_isAsked 43 = .ok (.if_icmp .ne 17, 3) := by decide +kernel
theorem dX5_isAsked_46 : decode cX5_isAsked 46 = .ok (.lload_n 1, 1) := by decide +kernel
theorem dX5_isAsked_47 : decode cX5_isAsked 47 = .ok (.lload_n 3, 1) := by decide +kernel
theorem dX5_isAsked_48 : decode cX5_isAsked 48 = .ok (.lcmp, 1) := by decide +kernel
theorem dX5_isAsked_49 : decode cX5_isAsked 49 = .ok (.ifCond .le 7, 3) := by decide +kernel
theorem dX5_isAsked_52 : decode cX5_isAsked 52 = .ok (.iconst 1, 1) := by decide +kernel
theorem dX5_isAsked_53 : decode cX5_isAsked 53 = .ok (.goto 58, 3) := by decide +kernel
theorem dX5_isAsked_56 : decode cX5_isAsked 56 = .ok (.iconst 0, 1) := by decide +kernel
theorem dX5_isAsked_57 : decode cX5_isAsked 57 = .ok (.goto 54, 3) := by decide +kernel
theorem dX5_isAsked_60 : decode cX5_isAsked 60 = .ok (.iload_n 0, 1) := by decide +kernel
theorem dX5_isAsked_61 : decode cX5_isAsked 61 = .ok (.bipush 13, 2) := by decide +kernel
theorem dX5_isAsked_63 : decode cX5_isAsked 63 = .ok (.if_icmp .ne 17, 3) := by decide +kernel
theorem dX5_isAsked_66 : decode cX5_isAsked 66 = .ok (.lload_n 1, 1) := by decide +kernel
theorem dX5_isAsked_67 : decode cX5_isAsked 67 = .ok (.lload_n 3, 1) := by decide +kernel
theorem dX5_isAsked_68 : decode cX5_isAsked 68 = .ok (.lcmp, 1) := by decide +kernel
theorem dX5_isAsked_69 : decode cX5_isAsked 69 = .ok (.ifCond .lt 7, 3) := by decide +kernel
theorem dX5_isAsked_72 : decode cX5_isAsked 72 = .ok (.iconst 1, 1) := by decide +kernel
theorem dX5_isAsked_73 : decode cX5_isAsked 73 = .ok (.goto 38, 3) := by decide +kernel
theorem dX5_isAsked_76 : decode cX5_isAsked 76 = .ok (.iconst 0, 1) := by decide +kernel
theorem dX5_isAsked_77 : decode cX5_isAsked 77 = .ok (.goto 34, 3) := by decide +kernel
theorem dX5_isAsked_80 : decode cX5_isAsked 80 = .ok (.iload_n 0, 1) := by decide +kernel
theorem dX5_isAsked_81 : decode cX5_isAsked 81 = .ok (.bipush 14, 2) := by decide +kernel
theorem dX5_isAsked_83 : decode cX5_isAsked 83 = .ok (.if_icmp .ne 17, 3) := by decide +kernel
theorem dX5_isAsked_86 : decode cX5_isAsked 86 = .ok (.lload_n 1, 1) := by decide +kernel
theorem dX5_isAsked_87 : decode cX5_isAsked 87 = .ok (.lload_n 3, 1) := by decide +kernel
theorem dX5_isAsked_88 : decode cX5_isAsked 88 = .ok (.lcmp, 1) := by decide +kernel
theorem dX5_isAsked_89 : decode cX5_isAsked 89 = .ok (.ifCond .ne 7, 3) := by decide +kernel
theorem dX5_isAsked_92 : decode cX5_isAsked 92 = .ok (.iconst 1, 1) := by decide +kernel
theorem dX5_isAsked_93 : decode cX5_isAsked 93 = .ok (.goto 18, 3) := by decide +kernel
theorem dX5_isAsked_96 : decode cX5_isAsked 96 = .ok (.iconst 0, 1) := by decide +kernel
theorem dX5_isAsked_97 : decode cX5_isAsked 97 = .ok (.goto 14, 3) := by decide +kernel
theorem dX5_isAsked_100 : decode cX5_isAsked 100 = .ok (.lload_n 1, 1) := by decide +kernel
theorem dX5_isAsked_101 : decode cX5_isAsked 101 = .ok (.lload_n 3, 1) := by decide +kernel
theorem dX5_isAsked_102 : decode cX5_isAsked 102 = .ok (.lcmp, 1) := by decide +kernel
theorem dX5_isAsked_103 : decode cX5_isAsked 103 = .ok (.ifCond .eq 7, 3) := by decide +kernel
theorem dX5_isAsked_106 : decode cX5_isAsked 106 = .ok (.iconst 1, 1) := by decide +kernel
theorem dX5_isAsked_107 : decode cX5_isAsked 107 = .ok (.goto 4, 3) := by decide +kernel
theorem dX5_isAsked_110 : decode cX5_isAsked 110 = .ok (.iconst 0, 1) := by decide +kernel
theorem dX5_isAsked_111 : decode cX5_isAsked 111 = .ok (.ireturn, 1) := by decide +kernel
abbrev cX5_flown : ByteArray := prog_22_method_75_code
def yX5_flown : MethodName := ⟨RX5, "flown", "(I)I"⟩
theorem dX5_flown_0 : decode cX5_flown 0 = .ok (.aload_n 0, 1) := by decide +kernel
theorem dX5_flown_1 : decode cX5_flown 1 = .ok (.getfield 7, 3) := by decide +kernel
theorem dX5_flown_4 : decode cX5_flown 4 = .ok (.sipush 880, 3) := by decide +kernel
theorem dX5_flown_7 : decode cX5_flown 7 = .ok (.iaload, 1) := by decide +kernel
theorem dX5_flown_8 : decode cX5_flown 8 = .ok (.ifCond .lt 25, 3) := by decide +kernel
theorem dX5_flown_11 : decode cX5_flown 11 = .ok (.iload_n 1, 1) := by decide +kernel
theorem dX5_flown_12 : decode cX5_flown 12 = .ok (.iconst 0, 1) := by decide +kernel
theorem dX5_flown_13 : decode cX5_flown 13 = .ok (.iconst 5, 1) := by decide +kernel
theorem dX5_flown_14 : decode cX5_flown 14 = .ok (.invokestatic 71, 3) := by decide +kernel
theorem dX5_flown_17 : decode cX5_flown 17 = .ok (.ifCond .eq 16, 3) := by decide +kernel
theorem dX5_flown_20 : decode cX5_flown 20 = .ok (.aload_n 0, 1) := by decide +kernel
theorem dX5_flown_21 : decode cX5_flown 21 = .ok (.getfield 7, 3) := by decide +kernel
theorem dX5_flown_24 : decode cX5_flown 24 = .ok (.sipush 881, 3) := by decide +kernel
theorem dX5_flown_27 : decode cX5_flown 27 = .ok (.iload_n 1, 1) := by decide +kernel
theorem dX5_flown_28 : decode cX5_flown 28 = .ok (.iadd, 1) := by decide +kernel
theorem dX5_flown_29 : decode cX5_flown 29 = .ok (.iaload, 1) := by decide +kernel
theorem dX5_flown_30 : decode cX5_flown 30 = .ok (.goto 4, 3) := by decide +kernel
theorem dX5_flown_33 : decode cX5_flown 33 = .ok (.iconst (-1), 1) := by decide +kernel
theorem dX5_flown_34 : decode cX5_flown 34 = .ok (.ireturn, 1) := by decide +kernel
abbrev cX5_tick : ByteArray := prog_22_method_76_code
def yX5_tick : MethodName := ⟨RX5, "tick", "(II)I"⟩
theorem dX5_tick_0 : decode cX5_tick 0 = .ok (.iload_n 1, 1) := by decide +kernel
theorem dX5_tick_1 : decode cX5_tick 1 = .ok (.iconst 0, 1) := by decide +kernel
theorem dX5_tick_2 : decode cX5_tick 2 = .ok (.aload_n 0, 1) := by decide +kernel
theorem dX5_tick_3 : decode cX5_tick 3 = .ok (.getfield 7, 3) := by decide +kernel
theorem dX5_tick_6 : decode cX5_tick 6 = .ok (.sipush 880, 3) := by decide +kernel
theorem dX5_tick_9 : decode cX5_tick 9 = .ok (.iaload, 1) := by decide +kernel
theorem dX5_tick_10 : decode cX5_tick 10 = .ok (.iconst 1, 1) := by decide +kernel
theorem dX5_tick_11 : decode cX5_tick 11 = .ok (.isub, 1) := by decide +kernel
theorem dX5_tick_12 : decode cX5_tick 12 = .ok (.invokestatic 71, 3) := by decide +kernel
theorem dX5_tick_15 : decode cX5_tick 15 = .ok (.ifCond .ne 7, 3) := by decide +kernel
theorem dX5_tick_18 : decode cX5_tick 18 = .ok (.ldc_w 349, 3) := by decide +kernel
theorem dX5_tick_21 : decode cX5_tick 21 = .ok (.ireturn, 1) := by decide +kernel
theorem dX5_tick_22 : decode cX5_tick 22 = .ok (.sipush 890, 3) := by decide +kernel
theorem dX5_tick_25 : decode cX5_tick 25 = .ok (.bipush 38, 2) := by decide +kernel
theorem dX5_tick_27 : decode cX5_tick 27 = .ok (.iload_n 1, 1) := by decide +kernel
theorem dX5_tick_28 : decode cX5_tick 28 = .ok (.imul, 1) := by decide +kernel
theorem dX5_tick_29 : decode cX5_tick 29 = .ok (.iadd, 1) := by decide +kernel
theorem dX5_tick_30 : decode cX5_tick 30 = .ok (.istore_n 3, 1) := by decide +kernel
theorem dX5_tick_31 : decode cX5_tick 31 = .ok (.iload_n 2, 1) := by decide +kernel
theorem dX5_tick_32 : decode cX5_tick 32 = .ok (.iconst 0, 1) := by decide +kernel
theorem dX5_tick_33 : decode cX5_tick 33 = .ok (.iconst 4, 1) := by decide +kernel
theorem dX5_tick_34 : decode cX5_tick 34 = .ok (.invokestatic 71, 3) := by decide +kernel
theorem dX5_tick_37 : decode cX5_tick 37 = .ok (.ifCond .eq 12, 3) := by decide +kernel
theorem dX5_tick_40 : decode cX5_tick 40 = .ok (.aload_n 0, 1) := by decide +kernel
theorem dX5_tick_41 : decode cX5_tick 41 = .ok (.getfield 7, 3) := by decide +kernel
theorem dX5_tick_44 : decode cX5_tick 44 = .ok (.iload_n 3, 1) := by decide +kernel
theorem dX5_tick_45 : decode cX5_tick 45 = .ok (.iload_n 2, 1) := by decide +kernel
theorem dX5_tick_46 : decode cX5_tick 46 = .ok (.iadd, 1) := by decide +kernel
theorem dX5_tick_47 : decode cX5_tick 47 = .ok (.iaload, 1) := by decide +kernel
theorem dX5_tick_48 : decode cX5_tick 48 = .ok (.ireturn, 1) := by decide +kernel
theorem dX5_tick_49 : decode cX5_tick 49 = .ok (.iload_n 2, 1) := by decide +kernel
theorem dX5_tick_50 : decode cX5_tick 50 = .ok (.bipush 100, 2) := by decide +kernel
theorem dX5_tick_52 : decode cX5_tick 52 = .ok (.if_icmp .lt 32, 3) := by decide +kernel
theorem dX5_tick_55 : decode cX5_tick 55 = .ok (.iload_n 2, 1) := by decide +kernel
theorem dX5_tick_56 : decode cX5_tick 56 = .ok (.bipush 100, 2) := by decide +kernel
theorem dX5_tick_58 : decode cX5_tick 58 = .ok (.aload_n 0, 1) := by decide +kernel
theorem dX5_tick_59 : decode cX5_tick 59 = .ok (.getfield 7, 3) := by decide +kernel
theorem dX5_tick_62 : decode cX5_tick 62 = .ok (.sipush 887, 3) := by decide +kernel
theorem dX5_tick_65 : decode cX5_tick 65 = .ok (.iaload, 1) := by decide +kernel
theorem dX5_tick_66 : decode cX5_tick 66 = .ok (.iadd, 1) := by decide +kernel
theorem dX5_tick_67 : decode cX5_tick 67 = .ok (.if_icmp .ge 17, 3) := by decide +kernel
theorem dX5_tick_70 : decode cX5_tick 70 = .ok (.aload_n 0, 1) := by decide +kernel
theorem dX5_tick_71 : decode cX5_tick 71 = .ok (.getfield 7, 3) := by decide +kernel
theorem dX5_tick_74 : decode cX5_tick 74 = .ok (.iload_n 3, 1) := by decide +kernel
theorem dX5_tick_75 : decode cX5_tick 75 = .ok (.iconst 5, 1) := by decide +kernel
theorem dX5_tick_76 : decode cX5_tick 76 = .ok (.iadd, 1) := by decide +kernel
theorem dX5_tick_77 : decode cX5_tick 77 = .ok (.iload_n 2, 1) := by decide +kernel
theorem dX5_tick_78 : decode cX5_tick 78 = .ok (.iadd, 1) := by decide +kernel
theorem dX5_tick_79 : decode cX5_tick 79 = .ok (.bipush 100, 2) := by decide +kernel
theorem dX5_tick_81 : decode cX5_tick 81 = .ok (.isub, 1) := by decide +kernel
theorem dX5_tick_82 : decode cX5_tick 82 = .ok (.iaload, 1) := by decide +kernel
theorem dX5_tick_83 : decode cX5_tick 83 = .ok (.ireturn, 1) := by decide +kernel
theorem dX5_tick_84 : decode cX5_tick 84 = .ok (.iload_n 2, 1) := by decide +kernel
theorem dX5_tick_85 : decode cX5_tick 85 = .ok (.sipush 200, 3) := by decide +kernel
theorem dX5_tick_88 : decode cX5_tick 88 = .ok (.if_icmp .lt 37, 3) := by decide +kernel
theorem dX5_tick_91 : decode cX5_tick 91 = .ok (.iload_n 2, 1) := by decide +kernel
theorem dX5_tick_92 : decode cX5_tick 92 = .ok (.sipush 200, 3) := by decide +kernel
theorem dX5_tick_95 : decode cX5_tick 95 = .ok (.aload_n 0, 1) := by decide +kernel
theorem dX5_tick_96 : decode cX5_tick 96 = .ok (.getfield 7, 3) := by decide +kernel
theorem dX5_tick_99 : decode cX5_tick 99 = .ok (.sipush 888, 3) := by decide +kernel
theorem dX5_tick_102 : decode cX5_tick 102 = .ok (.iaload, 1) := by decide +kernel
theorem dX5_tick_103 : decode cX5_tick 103 = .ok (.iadd, 1) := by decide +kernel
theorem dX5_tick_104 : decode cX5_tick 104 = .ok (.if_icmp .ge 21, 3) := by decide +kernel
theorem dX5_tick_107 : decode cX5_tick 107 = .ok (.aload_n 0, 1) := by decide +kernel
theorem dX5_tick_108 : decode cX5_tick 108 = .ok (.getfield 7, 3) := by decide +kernel
theorem dX5_tick_111 : decode cX5_tick 111 = .ok (.iload_n 3, 1) := by decide +kernel
theorem dX5_tick_112 : decode cX5_tick 112 = .ok (.bipush 21, 2) := by decide +kernel
theorem dX5_tick_114 : decode cX5_tick 114 = .ok (.iadd, 1) := by decide +kernel
theorem dX5_tick_115 : decode cX5_tick 115 = .ok (.iload_n 2, 1) := by decide +kernel
theorem dX5_tick_116 : decode cX5_tick 116 = .ok (.iadd, 1) := by decide +kernel
theorem dX5_tick_117 : decode cX5_tick 117 = .ok (.sipush 200, 3) := by decide +kernel
theorem dX5_tick_120 : decode cX5_tick 120 = .ok (.isub, 1) := by decide +kernel
theorem dX5_tick_121 : decode cX5_tick 121 = .ok (.iaload, 1) := by decide +kernel
theorem dX5_tick_122 : decode cX5_tick 122 = .ok (.goto 6, 3) := by decide +kernel
theorem dX5_tick_125 : decode cX5_tick 125 = .ok (.ldc_w 349, 3) := by decide +kernel
theorem dX5_tick_128 : decode cX5_tick 128 = .ok (.ireturn, 1) := by decide +kernel
abbrev cX5_safe : ByteArray := prog_22_method_77_code
def yX5_safe : MethodName := ⟨RX5, "safe", "(IIIIIIII)I"⟩
theorem dX5_safe_0 : decode cX5_safe 0 = .ok (.aload_n 0, 1) := by decide +kernel
theorem dX5_safe_1 : decode cX5_safe 1 = .ok (.iload_n 1, 1) := by decide +kernel
theorem dX5_safe_2 : decode cX5_safe 2 = .ok (.invokevirtual 337, 3) := by decide +kernel
theorem dX5_safe_5 : decode cX5_safe 5 = .ok (.ifCond .eq 72, 3) := by decide +kernel
theorem dX5_safe_8 : decode cX5_safe 8 = .ok (.aload_n 0, 1) := by decide +kernel
theorem dX5_safe_9 : decode cX5_safe 9 = .ok (.iload_n 2, 1) := by decide +kernel
theorem dX5_safe_10 : decode cX5_safe 10 = .ok (.iload 4, 2) := by decide +kernel
theorem dX5_safe_12 : decode cX5_safe 12 = .ok (.invokevirtual 107, 3) := by decide +kernel
theorem dX5_safe_15 : decode cX5_safe 15 = .ok (.ifCond .eq 62, 3) := by decide +kernel
theorem dX5_safe_18 : decode cX5_safe 18 = .ok (.aload_n 0, 1) := by decide +kernel
theorem dX5_safe_19 : decode cX5_safe 19 = .ok (.iload_n 3, 1) := by decide +kernel
theorem dX5_safe_20 : decode cX5_safe 20 = .ok (.iload 4, 2) := by decide +kernel
theorem dX5_safe_22 : decode cX5_safe 22 = .ok (.invokevirtual 107, 3) := by decide +kernel
theorem dX5_safe_25 : decode cX5_safe 25 = .ok (.ifCond .eq 52, 3) := by decide +kernel
theorem dX5_safe_28 : decode cX5_safe 28 = .ok (.iload_n 2, 1) := by decide +kernel
theorem dX5_safe_29 : decode cX5_safe 29 = .ok (.iload_n 3, 1) := by decide +kernel
theorem dX5_safe_30 : decode cX5_safe 30 = .ok (.if_icmp .gt 47, 3) := by decide +kernel
theorem dX5_safe_33 : decode cX5_safe 33 = .ok (.iload 5, 2) := by decide +kernel
theorem dX5_safe_35 : decode cX5_safe 35 = .ok (.invokestatic 111, 3) := by decide +kernel
theorem dX5_safe_38 : decode cX5_safe 38 = .ok (.ifCond .eq 39, 3) := by decide +kernel
theorem dX5_safe_41 : decode cX5_safe 41 = .ok (.iload 6, 2) := by decide +kernel
theorem dX5_safe_43 : decode cX5_safe 43 = .ok (.invokestatic 111, 3) := by decide +kernel
theorem dX5_safe_46 : decode cX5_safe 46 = .ok (.ifCond .eq 31, 3) := by decide +kernel
theorem dX5_safe_49 : decode cX5_safe 49 = .ok (.iload 5, 2) := by decide +kernel
theorem dX5_safe_51 : decode cX5_safe 51 = .ok (.iload 6, 2) := by decide +kernel
theorem dX5_safe_53 : decode cX5_safe 53 = .ok (.if_icmp .gt 24, 3) := by decide +kernel
theorem dX5_safe_56 : decode cX5_safe 56 = .ok (.iload 7, 2) := by decide +kernel
theorem dX5_safe_58 : decode cX5_safe 58 = .ok (.iconst 1, 1) := by decide +kernel
theorem dX5_safe_59 : decode cX5_safe 59 = .ok (.bipush 60, 2) := by decide +kernel
theorem dX5_safe_61 : decode cX5_safe 61 = .ok (.invokestatic 71, 3) := by decide +kernel
theorem dX5_safe_64 : decode cX5_safe 64 = .ok (.ifCond .eq 13, 3) := by decide +kernel
theorem dX5_safe_67 : decode cX5_safe 67 = .ok (.iload 8, 2) := by decide +kernel
theorem dX5_safe_69 : decode cX5_safe 69 = .ok (.iconst 0, 1) := by decide +kernel
theorem dX5_safe_70 : decode cX5_safe 70 = .ok (.iconst 1, 1) := by decide +kernel
theorem dX5_safe_71 : decode cX5_safe 71 = .ok (.invokestatic 71, 3) := by decide +kernel
theorem dX5_safe_74 : decode cX5_safe 74 = .ok (.ifCond .ne 5, 3) := by decide +kernel
theorem dX5_safe_77 : decode cX5_safe 77 = .ok (.iconst (-1), 1) := by decide +kernel
theorem dX5_safe_78 : decode cX5_safe 78 = .ok (.ireturn, 1) := by decide +kernel
theorem dX5_safe_79 : decode cX5_safe 79 = .ok (.iload_n 3, 1) := by decide +kernel
theorem dX5_safe_80 : decode cX5_safe 80 = .ok (.iload_n 2, 1) := by decide +kernel
theorem dX5_safe_81 : decode cX5_safe 81 = .ok (.isub, 1) := by decide +kernel
theorem dX5_safe_82 : decode cX5_safe 82 = .ok (.bipush 16, 2) := by decide +kernel
theorem dX5_safe_84 : decode cX5_safe 84 = .ok (.idiv, 1) := by decide +kernel
theorem dX5_safe_85 : decode cX5_safe 85 = .ok (.iconst 1, 1) := by decide +kernel
theorem dX5_safe_86 : decode cX5_safe 86 = .ok (.iadd, 1) := by decide +kernel
theorem dX5_safe_87 : decode cX5_safe 87 = .ok (.iload 6, 2) := by decide +kernel
theorem dX5_safe_89 : decode cX5_safe 89 = .ok (.iload 5, 2) := by decide +kernel
theorem dX5_safe_91 : decode cX5_safe 91 = .ok (.isub, 1) := by decide +kernel
theorem dX5_safe_92 : decode cX5_safe 92 = .ok (.iconst 1, 1) := by decide +kernel
theorem dX5_safe_93 : decode cX5_safe 93 = .ok (.iadd, 1) := by decide +kernel
theorem dX5_safe_94 : decode cX5_safe 94 = .ok (.imul, 1) := by decide +kernel
theorem dX5_safe_95 : decode cX5_safe 95 = .ok (.bipush 64, 2) := by decide +kernel
theorem dX5_safe_97 : decode cX5_safe 97 = .ok (.if_icmp .le 5, 3) := by decide +kernel
theorem dX5_safe_100 : decode cX5_safe 100 = .ok (.iconst (-1), 1) := by decide +kernel
theorem dX5_safe_101 : decode cX5_safe 101 = .ok (.ireturn, 1) := by decide +kernel
theorem dX5_safe_102 : decode cX5_safe 102 = .ok (.aload_n 0, 1) := by decide +kernel
theorem dX5_safe_103 : decode cX5_safe 103 = .ok (.ldc2_w 343, 3) := by decide +kernel
theorem dX5_safe_106 : decode cX5_safe 106 = .ok (.putfield 274, 3) := by decide +kernel
theorem dX5_safe_109 : decode cX5_safe 109 = .ok (.iload_n 2, 1) := by decide +kernel
theorem dX5_safe_110 : decode cX5_safe 110 = .ok (.istore 9, 2) := by decide +kernel
theorem dX5_safe_112 : decode cX5_safe 112 = .ok (.iload 9, 2) := by decide +kernel
theorem dX5_safe_114 : decode cX5_safe 114 = .ok (.iload_n 3, 1) := by decide +kernel
theorem dX5_safe_115 : decode cX5_safe 115 = .ok (.if_icmp .gt 70, 3) := by decide +kernel
theorem dX5_safe_118 : decode cX5_safe 118 = .ok (.iload 5, 2) := by decide +kernel
theorem dX5_safe_120 : decode cX5_safe 120 = .ok (.istore 10, 2) := by decide +kernel
theorem dX5_safe_122 : decode cX5_safe 122 = .ok (.iload 10, 2) := by decide +kernel
theorem dX5_safe_124 : decode cX5_safe 124 = .ok (.iload 6, 2) := by decide +kernel
theorem dX5_safe_126 : decode cX5_safe 126 = .ok (.if_icmp .gt 53, 3) := by decide +kernel
theorem dX5_safe_129 : decode cX5_safe 129 = .ok (.aload_n 0, 1) := by decide +kernel
theorem dX5_safe_130 : decode cX5_safe 130 = .ok (.iload 9, 2) := by decide +kernel
theorem dX5_safe_132 : decode cX5_safe 132 = .ok (.iload 4, 2) := by decide +kernel
theorem dX5_safe_134 : decode cX5_safe 134 = .ok (.invokevirtual 340, 3) := by decide +kernel
theorem dX5_safe_137 : decode cX5_safe 137 = .ok (.ifCond .eq 42, 3) := by decide +kernel
theorem dX5_safe_140 : decode cX5_safe 140 = .ok (.aload_n 0, 1) := by decide +kernel
theorem dX5_safe_141 : decode cX5_safe 141 = .ok (.iload_n 1, 1) := by decide +kernel
theorem dX5_safe_142 : decode cX5_safe 142 = .ok (.iload 9, 2) := by decide +kernel
theorem dX5_safe_144 : decode cX5_safe 144 = .ok (.iload 4, 2) := by decide +kernel
theorem dX5_safe_146 : decode cX5_safe 146 = .ok (.iload 10, 2) := by decide +kernel
theorem dX5_safe_148 : decode cX5_safe 148 = .ok (.iload 7, 2) := by decide +kernel
theorem dX5_safe_150 : decode cX5_safe 150 = .ok (.invokevirtual 345, 3) := by decide +kernel
theorem dX5_safe_153 : decode cX5_safe 153 = .ok (.aload_n 0, 1) := by decide +kernel
theorem dX5_safe_154 : decode cX5_safe 154 = .ok (.getfield 326, 3) := by decide +kernel
theorem dX5_safe_157 : decode cX5_safe 157 = .ok (.ifCond .eq 16, 3) := by decide +kernel
theorem dX5_safe_160 : decode cX5_safe 160 = .ok (.iload 8, 2) := by decide +kernel
theorem dX5_safe_162 : decode cX5_safe 162 = .ok (.ifCond .ne 8, 3) := by decide +kernel
theorem dX5_safe_165 : decode cX5_safe 165 = .ok (.iload 9, 2) := by decide +kernel
theorem dX5_safe_167 : decode cX5_safe 167 = .ok (.goto 5, 3) := by decide +kernel
theorem dX5_safe_170 : decode cX5_safe 170 = .ok (.iload 10, 2) := by decide +kernel
theorem dX5_safe_172 : decode cX5_safe 172 = .ok (.ireturn, 1) := by decide +kernel
theorem dX5_safe_173 : decode cX5_safe 173 = .ok (.iinc 10 1, 3) := by decide +kernel
theorem dX5_safe_176 : decode cX5_safe 176 = .ok (.goto (-54), 3) := by decide +kernel
theorem dX5_safe_179 : decode cX5_safe 179 = .ok (.iinc 9 16, 3) := by decide +kernel
theorem dX5_safe_182 : decode cX5_safe 182 = .ok (.goto (-70), 3) := by decide +kernel
theorem dX5_safe_185 : decode cX5_safe 185 = .ok (.iconst (-1), 1) := by decide +kernel
theorem dX5_safe_186 : decode cX5_safe 186 = .ok (.ireturn, 1) := by decide +kernel
abbrev cX5_read : ByteArray := prog_22_method_78_code
def yX5_read : MethodName := ⟨RX5, "read", "(III)I"⟩
theorem dX5_read_0 : decode cX5_read 0 = .ok (.aload_n 0, 1) := by decide +kernel
theorem dX5_read_1 : decode cX5_read 1 = .ok (.iload_n 1, 1) := by decide +kernel
theorem dX5_read_2 : decode cX5_read 2 = .ok (.iload_n 2, 1) := by decide +kernel
theorem dX5_read_3 : decode cX5_read 3 = .ok (.invokevirtual 107, 3) := by decide +kernel
theorem dX5_read_6 : decode cX5_read 6 = .ok (.ifCond .eq 21, 3) := by decide +kernel
theorem dX5_read_9 : decode cX5_read 9 = .ok (.iload_n 3, 1) := by decide +kernel
theorem dX5_read_10 : decode cX5_read 10 = .ok (.invokestatic 111, 3) := by decide +kernel
theorem dX5_read_13 : decode cX5_read 13 = .ok (.ifCond .eq 14, 3) := by decide +kernel
theorem dX5_read_16 : decode cX5_read 16 = .ok (.aload_n 0, 1) := by decide +kernel
theorem dX5_read_17 : decode cX5_read 17 = .ok (.getfield 7, 3) := by decide +kernel
theorem dX5_read_20 : decode cX5_read 20 = .ok (.iconst 4, 1) := by decide +kernel
theorem dX5_read_21 : decode cX5_read 21 = .ok (.iaload, 1) := by decide +kernel
theorem dX5_read_22 : decode cX5_read 22 = .ok (.bipush 6, 2) := by decide +kernel
theorem dX5_read_24 : decode cX5_read 24 = .ok (.if_icmp .ne 5, 3) := by decide +kernel
theorem dX5_read_27 : decode cX5_read 27 = .ok (.iconst (-1), 1) := by decide +kernel
theorem dX5_read_28 : decode cX5_read 28 = .ok (.ireturn, 1) := by decide +kernel
theorem dX5_read_29 : decode cX5_read 29 = .ok (.sipush 720, 3) := by decide +kernel
theorem dX5_read_32 : decode cX5_read 32 = .ok (.bipush 24, 2) := by decide +kernel
theorem dX5_read_34 : decode cX5_read 34 = .ok (.aload_n 0, 1) := by decide +kernel
theorem dX5_read_35 : decode cX5_read 35 = .ok (.getfield 7, 3) := by decide +kernel
theorem dX5_read_38 : decode cX5_read 38 = .ok (.iconst 4, 1) := by decide +kernel
theorem dX5_read_39 : decode cX5_read 39 = .ok (.iaload, 1) := by decide +kernel
theorem dX5_read_40 : decode cX5_read 40 = .ok (.imul, 1) := by decide +kernel
theorem dX5_read_41 : decode cX5_read 41 = .ok (.iadd, 1) := by decide +kernel
theorem dX5_read_42 : decode cX5_read 42 = .ok (.istore 4, 2) := by decide +kernel
theorem dX5_read_44 : decode cX5_read 44 = .ok (.aload_n 0, 1) := by decide +kernel
theorem dX5_read_45 : decode cX5_read 45 = .ok (.getfield 7, 3) := by decide +kernel
theorem dX5_read_48 : decode cX5_read 48 = .ok (.iload 4, 2) := by decide +kernel
theorem dX5_read_50 : decode cX5_read 50 = .ok (.iload_n 1, 1) := by decide +kernel
theorem dX5_read_51 : decode cX5_read 51 = .ok (.iastore, 1) := by decide +kernel
theorem dX5_read_52 : decode cX5_read 52 = .ok (.aload_n 0, 1) := by decide +kernel
theorem dX5_read_53 : decode cX5_read 53 = .ok (.getfield 7, 3) := by decide +kernel
theorem dX5_read_56 : decode cX5_read 56 = .ok (.iload 4, 2) := by decide +kernel
theorem dX5_read_58 : decode cX5_read 58 = .ok (.iconst 1, 1) := by decide +kernel
theorem dX5_read_59 : decode cX5_read 59 = .ok (.iadd, 1) := by decide +kernel
theorem dX5_read_60 : decode cX5_read 60 = .ok (.iload_n 2, 1) := by decide +kernel
theorem dX5_read_61 : decode cX5_read 61 = .ok (.iastore, 1) := by decide +kernel
theorem dX5_read_62 : decode cX5_read 62 = .ok (.aload_n 0, 1) := by decide +kernel
theorem dX5_read_63 : decode cX5_read 63 = .ok (.getfield 7, 3) := by decide +kernel
theorem dX5_read_66 : decode cX5_read 66 = .ok (.iload 4, 2) := by decide +kernel
theorem dX5_read_68 : decode cX5_read 68 = .ok (.iconst 2, 1) := by decide +kernel
theorem dX5_read_69 : decode cX5_read 69 = .ok (.iadd, 1) := by decide +kernel
theorem dX5_read_70 : decode cX5_read 70 = .ok (.iload_n 3, 1) := by decide +kernel
theorem dX5_read_71 : decode cX5_read 71 = .ok (.iastore, 1) := by decide +kernel
theorem dX5_read_72 : decode cX5_read 72 = .ok (.aload_n 0, 1) := by decide +kernel
theorem dX5_read_73 : decode cX5_read 73 = .ok (.getfield 7, 3) := by decide +kernel
theorem dX5_read_76 : decode cX5_read 76 = .ok (.iload 4, 2) := by decide +kernel
theorem dX5_read_78 : decode cX5_read 78 = .ok (.iconst 3, 1) := by decide +kernel
theorem dX5_read_79 : decode cX5_read 79 = .ok (.iadd, 1) := by decide +kernel
theorem dX5_read_80 : decode cX5_read 80 = .ok (.iconst 0, 1) := by decide +kernel
theorem dX5_read_81 : decode cX5_read 81 = .ok (.iastore, 1) := by decide +kernel
theorem dX5_read_82 : decode cX5_read 82 = .ok (.aload_n 0, 1) := by decide +kernel
theorem dX5_read_83 : decode cX5_read 83 = .ok (.getfield 7, 3) := by decide +kernel
theorem dX5_read_86 : decode cX5_read 86 = .ok (.iconst 4, 1) := by decide +kernel
theorem dX5_read_87 : decode cX5_read 87 = .ok (.dup2, 1) := by decide +kernel
theorem dX5_read_88 : decode cX5_read 88 = .ok (.iaload, 1) := by decide +kernel
theorem dX5_read_89 : decode cX5_read 89 = .ok (.iconst 1, 1) := by decide +kernel
theorem dX5_read_90 : decode cX5_read 90 = .ok (.iadd, 1) := by decide +kernel
theorem dX5_read_91 : decode cX5_read 91 = .ok (.iastore, 1) := by decide +kernel
theorem dX5_read_92 : decode cX5_read 92 = .ok (.aload_n 0, 1) := by decide +kernel
theorem dX5_read_93 : decode cX5_read 93 = .ok (.getfield 7, 3) := by decide +kernel
theorem dX5_read_96 : decode cX5_read 96 = .ok (.iconst 4, 1) := by decide +kernel
theorem dX5_read_97 : decode cX5_read 97 = .ok (.iaload, 1) := by decide +kernel
theorem dX5_read_98 : decode cX5_read 98 = .ok (.iconst 1, 1) := by decide +kernel
theorem dX5_read_99 : decode cX5_read 99 = .ok (.isub, 1) := by decide +kernel
theorem dX5_read_100 : decode cX5_read 100 = .ok (.ireturn, 1) := by decide +kernel
abbrev cX5_turned : ByteArray := prog_22_method_79_code
def yX5_turned : MethodName := ⟨RX5, "turned", "(II)I"⟩
theorem dX5_turned_0 : decode cX5_turned 0 = .ok (.iload_n 1, 1) := by decide +kernel
theorem dX5_turned_1 : decode cX5_turned 1 = .ok (.iconst 0, 1) := by decide +kernel
theorem dX5_turned_2 : decode cX5_turned 2 = .ok (.aload_n 0, 1) := by decide +kernel
theorem dX5_turned_3 : decode cX5_turned 3 = .ok (.getfield 7, 3) := by decide +kernel
theorem dX5_turned_6 : decode cX5_turned 6 = .ok (.iconst 4, 1) := by decide +kernel
theorem dX5_turned_7 : decode cX5_turned 7 = .ok (.iaload, 1) := by decide +kernel
theorem dX5_turned_8 : decode cX5_turned 8 = .ok (.iconst 1, 1) := by decide +kernel
theorem dX5_turned_9 : decode cX5_turned 9 = .ok (.isub, 1) := by decide +kernel
theorem dX5_turned_10 : decode cX5_turned 10 = .ok (.invokestatic 71, 3) := by decide +kernel
theorem dX5_turned_13 : decode cX5_turned 13 = .ok (.ifCond .eq 14, 3) := by decide +kernel
theorem dX5_turned_16 : decode cX5_turned 16 = .ok (.iload_n 2, 1) := by decide +kernel
theorem dX5_turned_17 : decode cX5_turned 17 = .ok (.bipush (-8), 2) := by decide +kernel
theorem dX5_turned_19 : decode cX5_turned 19 = .ok (.bipush 8, 2) := by decide +kernel
theorem dX5_turned_21 : decode cX5_turned 21 = .ok (.invokestatic 71, 3) := by decide +kernel
theorem dX5_turned_24 : decode cX5_turned 24 = .ok (.ifCond .ne 5, 3) := by decide +kernel
theorem dX5_turned_27 : decode cX5_turned 27 = .ok (.iconst (-1), 1) := by decide +kernel
theorem dX5_turned_28 : decode cX5_turned 28 = .ok (.ireturn, 1) := by decide +kernel
theorem dX5_turned_29 : decode cX5_turned 29 = .ok (.sipush 720, 3) := by decide +kernel
theorem dX5_turned_32 : decode cX5_turned 32 = .ok (.bipush 24, 2) := by decide +kernel
theorem dX5_turned_34 : decode cX5_turned 34 = .ok (.iload_n 1, 1) := by decide +kernel
theorem dX5_turned_35 : decode cX5_turned 35 = .ok (.imul, 1) := by decide +kernel
theorem dX5_turned_36 : decode cX5_turned 36 = .ok (.iadd, 1) := by decide +kernel
theorem dX5_turned_37 : decode cX5_turned 37 = .ok (.istore_n 3, 1) := by decide +kernel
theorem dX5_turned_38 : decode cX5_turned 38 = .ok (.aload_n 0, 1) := by decide +kernel
theorem dX5_turned_39 : decode cX5_turned 39 = .ok (.getfield 7, 3) := by decide +kernel
theorem dX5_turned_42 : decode cX5_turned 42 = .ok (.iload_n 3, 1) := by decide +kernel
theorem dX5_turned_43 : decode cX5_turned 43 = .ok (.iconst 3, 1) := by decide +kernel
theorem dX5_turned_44 : decode cX5_turned 44 = .ok (.iadd, 1) := by decide +kernel
theorem dX5_turned_45 : decode cX5_turned 45 = .ok (.iaload, 1) := by decide +kernel
theorem dX5_turned_46 : decode cX5_turned 46 = .ok (.bipush 20, 2) := by decide +kernel
theorem dX5_turned_48 : decode cX5_turned 48 = .ok (.if_icmp .ne 5, 3) := by decide +kernel
theorem dX5_turned_51 : decode cX5_turned 51 = .ok (.iconst (-1), 1) := by decide +kernel
theorem dX5_turned_52 : decode cX5_turned 52 = .ok (.ireturn, 1) := by decide +kernel
theorem dX5_turned_53 : decode cX5_turned 53 = .ok (.aload_n 0, 1) := by decide +kernel
theorem dX5_turned_54 : decode cX5_turned 54 = .ok (.getfield 7, 3) := by decide +kernel
theorem dX5_turned_57 : decode cX5_turned 57 = .ok (.iload_n 3, 1) := by decide +kernel
theorem dX5_turned_58 : decode cX5_turned 58 = .ok (.iconst 4, 1) := by decide +kernel
theorem dX5_turned_59 : decode cX5_turned 59 = .ok (.iadd, 1) := by decide +kernel
theorem dX5_turned_60 : decode cX5_turned 60 = .ok (.aload_n 0, 1) := by decide +kernel
theorem dX5_turned_61 : decode cX5_turned 61 = .ok (.getfield 7, 3) := by decide +kernel
theorem dX5_turned_64 : decode cX5_turned 64 = .ok (.iload_n 3, 1) := by decide +kernel
theorem dX5_turned_65 : decode cX5_turned 65 = .ok (.iconst 3, 1) := by decide +kernel
theorem dX5_turned_66 : decode cX5_turned 66 = .ok (.iadd, 1) := by decide +kernel
theorem dX5_turned_67 : decode cX5_turned 67 = .ok (.iaload, 1) := by decide +kernel
theorem dX5_turned_68 : decode cX5_turned 68 = .ok (.iadd, 1) := by decide +kernel
theorem dX5_turned_69 : decode cX5_turned 69 = .ok (.iload_n 2, 1) := by decide +kernel
theorem dX5_turned_70 : decode cX5_turned 70 = .ok (.iastore, 1) := by decide +kernel
theorem dX5_turned_71 : decode cX5_turned 71 = .ok (.aload_n 0, 1) := by decide +kernel
theorem dX5_turned_72 : decode cX5_turned 72 = .ok (.getfield 7, 3) := by decide +kernel
theorem dX5_turned_75 : decode cX5_turned 75 = .ok (.iload_n 3, 1) := by decide +kernel
theorem dX5_turned_76 : decode cX5_turned 76 = .ok (.iconst 3, 1) := by decide +kernel
theorem dX5_turned_77 : decode cX5_turned 77 = .ok (.iadd, 1) := by decide +kernel
theorem dX5_turned_78 : decode cX5_turned 78 = .ok (.dup2, 1) := by decide +kernel
theorem dX5_turned_79 : decode cX5_turned 79 = .ok (.iaload, 1) := by decide +kernel
theorem dX5_turned_80 : decode cX5_turned 80 = .ok (.iconst 1, 1) := by decide +kernel
theorem dX5_turned_81 : decode cX5_turned 81 = .ok (.iadd, 1) := by decide +kernel
theorem dX5_turned_82 : decode cX5_turned 82 = .ok (.iastore, 1) := by decide +kernel
theorem dX5_turned_83 : decode cX5_turned 83 = .ok (.aload_n 0, 1) := by decide +kernel
theorem dX5_turned_84 : decode cX5_turned 84 = .ok (.getfield 7, 3) := by decide +kernel
theorem dX5_turned_87 : decode cX5_turned 87 = .ok (.iload_n 3, 1) := by decide +kernel
theorem dX5_turned_88 : decode cX5_turned 88 = .ok (.iconst 3, 1) := by decide +kernel
theorem dX5_turned_89 : decode cX5_turned 89 = .ok (.iadd, 1) := by decide +kernel
theorem dX5_turned_90 : decode cX5_turned 90 = .ok (.iaload, 1) := by decide +kernel
theorem dX5_turned_91 : decode cX5_turned 91 = .ok (.ireturn, 1) := by decide +kernel
abbrev cX5_kept : ByteArray := prog_22_method_81_code
def yX5_kept : MethodName := ⟨RX5, "kept", "(I)I"⟩
theorem dX5_kept_0 : decode cX5_kept 0 = .ok (.iload_n 1, 1) := by decide +kernel
theorem dX5_kept_1 : decode cX5_kept 1 = .ok (.iconst (-1), 1) := by decide +kernel
theorem dX5_kept_2 : decode cX5_kept 2 = .ok (.if_icmp .eq 29, 3) := by decide +kernel
theorem dX5_kept_5 : decode cX5_kept 5 = .ok (.aload_n 0, 1) := by decide +kernel
theorem dX5_kept_6 : decode cX5_kept 6 = .ok (.iload_n 1, 1) := by decide +kernel
theorem dX5_kept_7 : decode cX5_kept 7 = .ok (.invokevirtual 337, 3) := by decide +kernel
theorem dX5_kept_10 : decode cX5_kept 10 = .ok (.ifCond .eq 19, 3) := by decide +kernel
theorem dX5_kept_13 : decode cX5_kept 13 = .ok (.aload_n 0, 1) := by decide +kernel
theorem dX5_kept_14 : decode cX5_kept 14 = .ok (.iload_n 1, 1) := by decide +kernel
theorem dX5_kept_15 : decode cX5_kept 15 = .ok (.invokevirtual 350, 3) := by decide +kernel
theorem dX5_kept_18 : decode cX5_kept 18 = .ok (.ifCond .eq 7, 3) := by decide +kernel
theorem dX5_kept_21 : decode cX5_kept 21 = .ok (.iconst 1, 1) := by decide +kernel
theorem dX5_kept_22 : decode cX5_kept 22 = .ok (.goto 8, 3) := by decide +kernel
theorem dX5_kept_25 : decode cX5_kept 25 = .ok (.iconst 0, 1) := by decide +kernel
theorem dX5_kept_26 : decode cX5_kept 26 = .ok (.goto 4, 3) := by decide +kernel
theorem dX5_kept_29 : decode cX5_kept 29 = .ok (.iconst (-1), 1) := by decide +kernel
theorem dX5_kept_30 : decode cX5_kept 30 = .ok (.ireturn, 1) := by decide +kernel
theorem dX5_kept_31 : decode cX5_kept 31 = .ok (.iconst 0, 1) := by decide +kernel
theorem dX5_kept_32 : decode cX5_kept 32 = .ok (.istore_n 2, 1) := by decide +kernel
theorem dX5_kept_33 : decode cX5_kept 33 = .ok (.iconst 0, 1) := by decide +kernel
theorem dX5_kept_34 : decode cX5_kept 34 = .ok (.istore_n 3, 1) := by decide +kernel
theorem dX5_kept_35 : decode cX5_kept 35 = .ok (.iload_n 3, 1) := by decide +kernel
theorem dX5_kept_36 : decode cX5_kept 36 = .ok (.aload_n 0, 1) := by decide +kernel
theorem dX5_kept_37 : decode cX5_kept 37 = .ok (.getfield 7, 3) := by decide +kernel
theorem dX5_kept_40 : decode cX5_kept 40 = .ok (.iconst 3, 1) := by decide +kernel
theorem dX5_kept_41 : decode cX5_kept 41 = .ok (.iaload, 1) := by decide +kernel
theorem dX5_kept_42 : decode cX5_kept 42 = .ok (.if_icmp .ge 25, 3) := by decide +kernel
theorem dX5_kept_45 : decode cX5_kept 45 = .ok (.iload_n 2, 1) := by decide +kernel
theorem dX5_kept_46 : decode cX5_kept 46 = .ok (.aload_n 0, 1) := by decide +kernel
theorem dX5_kept_47 : decode cX5_kept 47 = .ok (.iload_n 3, 1) := by decide +kernel
theorem dX5_kept_48 : decode cX5_kept 48 = .ok (.invokevirtual 350, 3) := by decide +kernel
theorem dX5_kept_51 : decode cX5_kept 51 = .ok (.ifCond .eq 7, 3) := by decide +kernel
theorem dX5_kept_54 : decode cX5_kept 54 = .ok (.iconst 1, 1) := by decide +kernel
theorem dX5_kept_55 : decode cX5_kept 55 = .ok (.goto 4, 3) := by decide +kernel
theorem dX5_kept_58 : decode cX5_kept 58 = .ok (.iconst 0, 1) := by decide +kernel
theorem dX5_kept_59 : decode cX5_kept 59 = .ok (.iadd, 1) := by decide +kernel
theorem dX5_kept_60 : decode cX5_kept 60 = .ok (.istore_n 2, 1) := by decide +kernel
theorem dX5_kept_61 : decode cX5_kept 61 = .ok (.iinc 3 1, 3) := by decide +kernel
theorem dX5_kept_64 : decode cX5_kept 64 = .ok (.goto (-29), 3) := by decide +kernel
theorem dX5_kept_67 : decode cX5_kept 67 = .ok (.iload_n 2, 1) := by decide +kernel
theorem dX5_kept_68 : decode cX5_kept 68 = .ok (.ireturn, 1) := by decide +kernel
abbrev cX5_isKept : ByteArray := prog_22_method_80_code
def yX5_isKept : MethodName := ⟨RX5, "isKept", "(I)Z"⟩
theorem dX5_isKept_0 : decode cX5_isKept 0 = .ok (.aload_n 0, 1) := by decide +kernel
theorem dX5_isKept_1 : decode cX5_isKept 1 = .ok (.ldc2_w 343, 3) := by decide +kernel
theorem dX5_isKept_4 : decode cX5_isKept 4 = .ok (.putfield 274, 3) := by decide +kernel
theorem dX5_isKept_7 : decode cX5_isKept 7 = .ok (.iconst 0, 1) := by decide +kernel
theorem dX5_isKept_8 : decode cX5_isKept 8 = .ok (.istore_n 2, 1) := by decide +kernel
theorem dX5_isKept_9 : decode cX5_isKept 9 = .ok (.iload_n 2, 1) := by decide +kernel
theorem dX5_isKept_10 : decode cX5_isKept 10 = .ok (.aload_n 0, 1) := by decide +kernel
theorem dX5_isKept_11 : decode cX5_isKept 11 = .ok (.getfield 7, 3) := by decide +kernel
theorem dX5_isKept_14 : decode cX5_isKept 14 = .ok (.iconst 4, 1) := by decide +kernel
theorem dX5_isKept_15 : decode cX5_isKept 15 = .ok (.iaload, 1) := by decide +kernel
theorem dX5_isKept_16 : decode cX5_isKept 16 = .ok (.if_icmp .ge 137, 3) := by decide +kernel
theorem dX5_isKept_19 : decode cX5_isKept 19 = .ok (.sipush 720, 3) := by decide +kernel
theorem dX5_isKept_22 : decode cX5_isKept 22 = .ok (.bipush 24, 2) := by decide +kernel
theorem dX5_isKept_24 : decode cX5_isKept 24 = .ok (.iload_n 2, 1) := by decide +kernel
theorem dX5_isKept_25 : decode cX5_isKept 25 = .ok (.imul, 1) := by decide +kernel
theorem dX5_isKept_26 : decode cX5_isKept 26 = .ok (.iadd, 1) := by decide +kernel
theorem dX5_isKept_27 : decode cX5_isKept 27 = .ok (.istore_n 3, 1) := by decide +kernel
theorem dX5_isKept_28 : decode cX5_isKept 28 = .ok (.aload_n 0, 1) := by decide +kernel
theorem dX5_isKept_29 : decode cX5_isKept 29 = .ok (.aload_n 0, 1) := by decide +kernel
theorem dX5_isKept_30 : decode cX5_isKept 30 = .ok (.getfield 7, 3) := by decide +kernel
theorem dX5_isKept_33 : decode cX5_isKept 33 = .ok (.iload_n 3, 1) := by decide +kernel
theorem dX5_isKept_34 : decode cX5_isKept 34 = .ok (.iaload, 1) := by decide +kernel
theorem dX5_isKept_35 : decode cX5_isKept 35 = .ok (.aload_n 0, 1) := by decide +kernel
theorem dX5_isKept_36 : decode cX5_isKept 36 = .ok (.getfield 7, 3) := by decide +kernel
theorem dX5_isKept_39 : decode cX5_isKept 39 = .ok (.iload_n 3, 1) := by decide +kernel
theorem dX5_isKept_40 : decode cX5_isKept 40 = .ok (.iconst 1, 1) := by decide +kernel
theorem dX5_isKept_41 : decode cX5_isKept 41 = .ok (.iadd, 1) := by decide +kernel
theorem dX5_isKept_42 : decode cX5_isKept 42 = .ok (.iaload, 1) := by decide +kernel
theorem dX5_isKept_43 : decode cX5_isKept 43 = .ok (.invokevirtual 340, 3) := by decide +kernel
theorem dX5_isKept_46 : decode cX5_isKept 46 = .ok (.ifCond .ne 5, 3) := by decide +kernel
theorem dX5_isKept_49 : decode cX5_isKept 49 = .ok (.iconst 0, 1) := by decide +kernel
theorem dX5_isKept_50 : decode cX5_isKept 50 = .ok (.ireturn, 1) := by decide +kernel
theorem dX5_isKept_51 : decode cX5_isKept 51 = .ok (.aload_n 0, 1) := by decide +kernel
theorem dX5_isKept_52 : decode cX5_isKept 52 = .ok (.iload_n 1, 1) := by decide +kernel
theorem dX5_isKept_53 : decode cX5_isKept 53 = .ok (.aload_n 0, 1) := by decide +kernel
theorem dX5_isKept_54 : decode cX5_isKept 54 = .ok (.getfield 7, 3) := by decide +kernel
theorem dX5_isKept_57 : decode cX5_isKept 57 = .ok (.iload_n 3, 1) := by decide +kernel
theorem dX5_isKept_58 : decode cX5_isKept 58 = .ok (.iaload, 1) := by decide +kernel
theorem dX5_isKept_59 : decode cX5_isKept 59 = .ok (.aload_n 0, 1) := by decide +kernel
theorem dX5_isKept_60 : decode cX5_isKept 60 = .ok (.getfield 7, 3) := by decide +kernel
theorem dX5_isKept_63 : decode cX5_isKept 63 = .ok (.iload_n 3, 1) := by decide +kernel
theorem dX5_isKept_64 : decode cX5_isKept 64 = .ok (.iconst 1, 1) := by decide +kernel
theorem dX5_isKept_65 : decode cX5_isKept 65 = .ok (.iadd, 1) := by decide +kernel
theorem dX5_isKept_66 : decode cX5_isKept 66 = .ok (.iaload, 1) := by decide +kernel
theorem dX5_isKept_67 : decode cX5_isKept 67 = .ok (.aload_n 0, 1) := by decide +kernel
theorem dX5_isKept_68 : decode cX5_isKept 68 = .ok (.getfield 7, 3) := by decide +kernel
theorem dX5_isKept_71 : decode cX5_isKept 71 = .ok (.iload_n 3, 1) := by decide +kernel
theorem dX5_isKept_72 : decode cX5_isKept 72 = .ok (.iconst 2, 1) := by decide +kernel
theorem dX5_isKept_73 : decode cX5_isKept 73 = .ok (.iadd, 1) := by decide +kernel
theorem dX5_isKept_74 : decode cX5_isKept 74 = .ok (.iaload, 1) := by decide +kernel
theorem dX5_isKept_75 : decode cX5_isKept 75 = .ok (.aload_n 0, 1) := by decide +kernel
theorem dX5_isKept_76 : decode cX5_isKept 76 = .ok (.getfield 7, 3) := by decide +kernel
theorem dX5_isKept_79 : decode cX5_isKept 79 = .ok (.iload_n 3, 1) := by decide +kernel
theorem dX5_isKept_80 : decode cX5_isKept 80 = .ok (.iconst 3, 1) := by decide +kernel
theorem dX5_isKept_81 : decode cX5_isKept 81 = .ok (.iadd, 1) := by decide +kernel
theorem dX5_isKept_82 : decode cX5_isKept 82 = .ok (.iaload, 1) := by decide +kernel
theorem dX5_isKept_83 : decode cX5_isKept 83 = .ok (.invokevirtual 345, 3) := by decide +kernel
theorem dX5_isKept_86 : decode cX5_isKept 86 = .ok (.aload_n 0, 1) := by decide +kernel
theorem dX5_isKept_87 : decode cX5_isKept 87 = .ok (.getfield 323, 3) := by decide +kernel
theorem dX5_isKept_90 : decode cX5_isKept 90 = .ok (.aload_n 0, 1) := by decide +kernel
theorem dX5_isKept_91 : decode cX5_isKept 91 = .ok (.getfield 7, 3) := by decide +kernel
theorem dX5_isKept_94 : decode cX5_isKept 94 = .ok (.iload_n 3, 1) := by decide +kernel
theorem dX5_isKept_95 : decode cX5_isKept 95 = .ok (.iconst 3, 1) := by decide +kernel
theorem dX5_isKept_96 : decode cX5_isKept 96 = .ok (.iadd, 1) := by decide +kernel
theorem dX5_isKept_97 : decode cX5_isKept 97 = .ok (.iaload, 1) := by decide +kernel
theorem dX5_isKept_98 : decode cX5_isKept 98 = .ok (.if_icmp .ge 5, 3) := by decide +kernel
theorem dX5_isKept_101 : decode cX5_isKept 101 = .ok (.iconst 0, 1) := by decide +kernel
theorem dX5_isKept_102 : decode cX5_isKept 102 = .ok (.ireturn, 1) := by decide +kernel
theorem dX5_isKept_103 : decode cX5_isKept 103 = .ok (.iconst 0, 1) := by decide +kernel
theorem dX5_isKept_104 : decode cX5_isKept 104 = .ok (.istore 4, 2) := by decide +kernel
theorem dX5_isKept_106 : decode cX5_isKept 106 = .ok (.iload 4, 2) := by decide +kernel
theorem dX5_isKept_108 : decode cX5_isKept 108 = .ok (.aload_n 0, 1) := by decide +kernel
theorem dX5_isKept_109 : decode cX5_isKept 109 = .ok (.getfield 323, 3) := by decide +kernel
theorem dX5_isKept_112 : decode cX5_isKept 112 = .ok (.if_icmp .ge 35, 3) := by decide +kernel
theorem dX5_isKept_115 : decode cX5_isKept 115 = .ok (.aload_n 0, 1) := by decide +kernel
theorem dX5_isKept_116 : decode cX5_isKept 116 = .ok (.getfield 44, 3) := by decide +kernel
theorem dX5_isKept_119 : decode cX5_isKept 119 = .ok (.bipush 38, 2) := by decide +kernel
theorem dX5_isKept_121 : decode cX5_isKept 121 = .ok (.iload 4, 2) := by decide +kernel
theorem dX5_isKept_123 : decode cX5_isKept 123 = .ok (.imul, 1) := by decide +kernel
theorem dX5_isKept_124 : decode cX5_isKept 124 = .ok (.iaload, 1) := by decide +kernel
theorem dX5_isKept_125 : decode cX5_isKept 125 = .ok (.aload_n 0, 1) := by decide +kernel
theorem dX5_isKept_126 : decode cX5_isKept 126 = .ok (.getfield 7, 3) := by decide +kernel
theorem dX5_isKept_129 : decode cX5_isKept 129 = .ok (.iload_n 3, 1) := by decide +kernel
theorem dX5_isKept_130 : decode cX5_isKept 130 = .ok (.iconst 4, 1) := by decide +kernel
theorem dX5_isKept_131 : decode cX5_isKept 131 = .ok (.iadd, 1) := by decide +kernel
theorem dX5_isKept_132 : decode cX5_isKept 132 = .ok (.iload 4, 2) := by decide +kernel
theorem dX5_isKept_134 : decode cX5_isKept 134 = .ok (.iadd, 1) := by decide +kernel
theorem dX5_isKept_135 : decode cX5_isKept 135 = .ok (.iaload, 1) := by decide +kernel
theorem dX5_isKept_136 : decode cX5_isKept 136 = .ok (.if_icmp .eq 5, 3) := by decide +kernel
theorem dX5_isKept_139 : decode cX5_isKept 139 = .ok (.iconst 0, 1) := by decide +kernel
theorem dX5_isKept_140 : decode cX5_isKept 140 = .ok (.ireturn, 1) := by decide +kernel
theorem dX5_isKept_141 : decode cX5_isKept 141 = .ok (.iinc 4 1, 3) := by decide +kernel
theorem dX5_isKept_144 : decode cX5_isKept 144 = .ok (.goto (-38), 3) := by decide +kernel
theorem dX5_isKept_147 : decode cX5_isKept 147 = .ok (.iinc 2 1, 3) := by decide +kernel
theorem dX5_isKept_150 : decode cX5_isKept 150 = .ok (.goto (-141), 3) := by decide +kernel
theorem dX5_isKept_153 : decode cX5_isKept 153 = .ok (.iconst 1, 1) := by decide +kernel
theorem dX5_isKept_154 : decode cX5_isKept 154 = .ok (.ireturn, 1) := by decide +kernel
abbrev cX5_parts : ByteArray := prog_22_method_83_code
def yX5_parts : MethodName := ⟨RX5, "parts", "(II)I"⟩
theorem dX5_parts_0 : decode cX5_parts 0 = .ok (.iload_n 1, 1) := by decide +kernel
theorem dX5_parts_1 : decode cX5_parts 1 = .ok (.iconst 0, 1) := by decide +kernel
theorem dX5_parts_2 : decode cX5_parts 2 = .ok (.aload_n 0, 1) := by decide +kernel
theorem dX5_parts_3 : decode cX5_parts 3 = .ok (.getfield 64, 3) := by decide +kernel
theorem dX5_parts_6 : decode cX5_parts 6 = .ok (.iconst 1, 1) := by decide +kernel
theorem dX5_parts_7 : decode cX5_parts 7 = .ok (.isub, 1) := by decide +kernel
theorem dX5_parts_8 : decode cX5_parts 8 = .ok (.invokestatic 71, 3) := by decide +kernel
theorem dX5_parts_11 : decode cX5_parts 11 = .ok (.ifCond .eq 12, 3) := by decide +kernel
theorem dX5_parts_14 : decode cX5_parts 14 = .ok (.iload_n 2, 1) := by decide +kernel
theorem dX5_parts_15 : decode cX5_parts 15 = .ok (.iconst 0, 1) := by decide +kernel
theorem dX5_parts_16 : decode cX5_parts 16 = .ok (.iconst 2, 1) := by decide +kernel
theorem dX5_parts_17 : decode cX5_parts 17 = .ok (.invokestatic 71, 3) := by decide +kernel
theorem dX5_parts_20 : decode cX5_parts 20 = .ok (.ifCond .ne 5, 3) := by decide +kernel
theorem dX5_parts_23 : decode cX5_parts 23 = .ok (.iconst (-1), 1) := by decide +kernel
theorem dX5_parts_24 : decode cX5_parts 24 = .ok (.ireturn, 1) := by decide +kernel
theorem dX5_parts_25 : decode cX5_parts 25 = .ok (.iconst 0, 1) := by decide +kernel
theorem dX5_parts_26 : decode cX5_parts 26 = .ok (.istore_n 3, 1) := by decide +kernel
theorem dX5_parts_27 : decode cX5_parts 27 = .ok (.iload_n 3, 1) := by decide +kernel
theorem dX5_parts_28 : decode cX5_parts 28 = .ok (.aload_n 0, 1) := by decide +kernel
theorem dX5_parts_29 : decode cX5_parts 29 = .ok (.getfield 7, 3) := by decide +kernel
theorem dX5_parts_32 : decode cX5_parts 32 = .ok (.iconst 3, 1) := by decide +kernel
theorem dX5_parts_33 : decode cX5_parts 33 = .ok (.iaload, 1) := by decide +kernel
theorem dX5_parts_34 : decode cX5_parts 34 = .ok (.if_icmp .ge 20, 3) := by decide +kernel
theorem dX5_parts_37 : decode cX5_parts 37 = .ok (.aload_n 0, 1) := by decide +kernel
theorem dX5_parts_38 : decode cX5_parts 38 = .ok (.getfield 58, 3) := by decide +kernel
theorem dX5_parts_41 : decode cX5_parts 41 = .ok (.iload_n 3, 1) := by decide +kernel
theorem dX5_parts_42 : decode cX5_parts 42 = .ok (.aload_n 0, 1) := by decide +kernel
theorem dX5_parts_43 : decode cX5_parts 43 = .ok (.iload_n 3, 1) := by decide +kernel
theorem dX5_parts_44 : decode cX5_parts 44 = .ok (.invokevirtual 350, 3) := by decide +kernel
theorem dX5_parts_47 : decode cX5_parts 47 = .ok (.bastore, 1) := by decide +kernel
theorem dX5_parts_48 : decode cX5_parts 48 = .ok (.iinc 3 1, 3) := by decide +kernel
theorem dX5_parts_51 : decode cX5_parts 51 = .ok (.goto (-24), 3) := by decide +kernel
theorem dX5_parts_54 : decode cX5_parts 54 = .ok (.aload_n 0, 1) := by decide +kernel
theorem dX5_parts_55 : decode cX5_parts 55 = .ok (.ldc2_w 343, 3) := by decide +kernel
theorem dX5_parts_58 : decode cX5_parts 58 = .ok (.putfield 274, 3) := by decide +kernel
theorem dX5_parts_61 : decode cX5_parts 61 = .ok (.iconst 1, 1) := by decide +kernel
theorem dX5_parts_62 : decode cX5_parts 62 = .ok (.istore_n 3, 1) := by decide +kernel
theorem dX5_parts_63 : decode cX5_parts 63 = .ok (.iconst (-1), 1) := by decide +kernel
theorem dX5_parts_64 : decode cX5_parts 64 = .ok (.istore 4, 2) := by decide +kernel
theorem dX5_parts_66 : decode cX5_parts 66 = .ok (.iconst (-1), 1) := by decide +kernel
theorem dX5_parts_67 : decode cX5_parts 67 = .ok (.istore 5, 2) := by decide +kernel
theorem dX5_parts_69 : decode cX5_parts 69 = .ok (.iconst 0, 1) := by decide +kernel
theorem dX5_parts_70 : decode cX5_parts 70 = .ok (.istore 6, 2) := by decide +kernel
theorem dX5_parts_72 : decode cX5_parts 72 = .ok (.iload 6, 2) := by decide +kernel
theorem dX5_parts_74 : decode cX5_parts 74 = .ok (.aload_n 0, 1) := by decide +kernel
theorem dX5_parts_75 : decode cX5_parts 75 = .ok (.getfield 61, 3) := by decide +kernel
theorem dX5_parts_78 : decode cX5_parts 78 = .ok (.if_icmp .ge 96, 3) := by decide +kernel
theorem dX5_parts_81 : decode cX5_parts 81 = .ok (.iconst 0, 1) := by decide +kernel
theorem dX5_parts_82 : decode cX5_parts 82 = .ok (.istore 7, 2) := by decide +kernel
theorem dX5_parts_84 : decode cX5_parts 84 = .ok (.iload 7, 2) := by decide +kernel
theorem dX5_parts_86 : decode cX5_parts 86 = .ok (.bipush 64, 2) := by decide +kernel
theorem dX5_parts_88 : decode cX5_parts 88 = .ok (.if_icmp .ge 80, 3) := by decide +kernel
theorem dX5_parts_91 : decode cX5_parts 91 = .ok (.aload_n 0, 1) := by decide +kernel
theorem dX5_parts_92 : decode cX5_parts 92 = .ok (.bipush 16, 2) := by decide +kernel
theorem dX5_parts_94 : decode cX5_parts 94 = .ok (.iload 6, 2) := by decide +kernel
theorem dX5_parts_96 : decode cX5_parts 96 = .ok (.imul, 1) := by decide +kernel
theorem dX5_parts_97 : decode cX5_parts 97 = .ok (.bipush 8, 2) := by decide +kernel
theorem dX5_parts_99 : decode cX5_parts 99 = .ok (.iadd, 1) := by decide +kernel
theorem dX5_parts_100 : decode cX5_parts 100 = .ok (.bipush 16, 2) := by decide +kernel
theorem dX5_parts_102 : decode cX5_parts 102 = .ok (.iload_n 1, 1) := by decide +kernel
theorem dX5_parts_103 : decode cX5_parts 103 = .ok (.imul, 1) := by decide +kernel
theorem dX5_parts_104 : decode cX5_parts 104 = .ok (.bipush 8, 2) := by decide +kernel
theorem dX5_parts_106 : decode cX5_parts 106 = .ok (.iadd, 1) := by decide +kernel
theorem dX5_parts_107 : decode cX5_parts 107 = .ok (.invokevirtual 340, 3) := by decide +kernel
theorem dX5_parts_110 : decode cX5_parts 110 = .ok (.ifCond .eq 58, 3) := by decide +kernel
theorem dX5_parts_113 : decode cX5_parts 113 = .ok (.aload_n 0, 1) := by decide +kernel
theorem dX5_parts_114 : decode cX5_parts 114 = .ok (.bipush 16, 2) := by decide +kernel
theorem dX5_parts_116 : decode cX5_parts 116 = .ok (.iload 6, 2) := by decide +kernel
theorem dX5_parts_118 : decode cX5_parts 118 = .ok (.imul, 1) := by decide +kernel
theorem dX5_parts_119 : decode cX5_parts 119 = .ok (.bipush 8, 2) := by decide +kernel
theorem dX5_parts_121 : decode cX5_parts 121 = .ok (.iadd, 1) := by decide +kernel
theorem dX5_parts_122 : decode cX5_parts 122 = .ok (.bipush 16, 2) := by decide +kernel
theorem dX5_parts_124 : decode cX5_parts 124 = .ok (.iload_n 1, 1) := by decide +kernel
theorem dX5_parts_125 : decode cX5_parts 125 = .ok (.imul, 1) := by decide +kernel
theorem dX5_parts_126 : decode cX5_parts 126 = .ok (.bipush 8, 2) := by decide +kernel
theorem dX5_parts_128 : decode cX5_parts 128 = .ok (.iadd, 1) := by decide +kernel
theorem dX5_parts_129 : decode cX5_parts 129 = .ok (.iload 7, 2) := by decide +kernel
theorem dX5_parts_131 : decode cX5_parts 131 = .ok (.invokevirtual 353, 3) := by decide +kernel
theorem dX5_parts_134 : decode cX5_parts 134 = .ok (.istore 8, 2) := by decide +kernel
theorem dX5_parts_136 : decode cX5_parts 136 = .ok (.iload 8, 2) := by decide +kernel
theorem dX5_parts_138 : decode cX5_parts 138 = .ok (.iload_n 3, 1) := by decide +kernel
theorem dX5_parts_139 : decode cX5_parts 139 = .ok (.if_icmp .gt 6, 3) := by decide +kernel
theorem dX5_parts_142 : decode cX5_parts 142 = .ok (.goto 20, 3) := by decide +kernel
theorem dX5_parts_145 : decode cX5_parts 145 = .ok (.iload 8, 2) := by decide +kernel
theorem dX5_parts_147 : decode cX5_parts 147 = .ok (.istore_n 3, 1) := by decide +kernel
theorem dX5_parts_148 : decode cX5_parts 148 = .ok (.bipush 16, 2) := by decide +kernel
theorem dX5_parts_150 : decode cX5_parts 150 = .ok (.iload 6, 2) := by decide +kernel
theorem dX5_parts_152 : decode cX5_parts 152 = .ok (.imul, 1) := by decide +kernel
theorem dX5_parts_153 : decode cX5_parts 153 = .ok (.bipush 8, 2) := by decide +kernel
theorem dX5_parts_155 : decode cX5_parts 155 = .ok (.iadd, 1) := by decide +kernel
theorem dX5_parts_156 : decode cX5_parts 156 = .ok (.istore 4, 2) := by decide +kernel
theorem dX5_parts_158 : decode cX5_parts 158 = .ok (.iload 7, 2) := by decide +kernel
theorem dX5_parts_160 : decode cX5_parts 160 = .ok (.istore 5, 2) := by decide +kernel
theorem dX5_parts_162 : decode cX5_parts 162 = .ok (.iinc 7 8, 3) := by decide +kernel
theorem dX5_parts_165 : decode cX5_parts 165 = .ok (.goto (-81), 3) := by decide +kernel
theorem dX5_parts_168 : decode cX5_parts 168 = .ok (.iinc 6 1, 3) := by decide +kernel
theorem dX5_parts_171 : decode cX5_parts 171 = .ok (.goto (-99), 3) := by decide +kernel
theorem dX5_parts_174 : decode cX5_parts 174 = .ok (.iload 4, 2) := by decide +kernel
theorem dX5_parts_176 : decode cX5_parts 176 = .ok (.ifCond .ge 7, 3) := by decide +kernel
theorem dX5_parts_179 : decode cX5_parts 179 = .ok (.iconst (-1), 1) := by decide +kernel
theorem dX5_parts_180 : decode cX5_parts 180 = .ok (.goto 23, 3) := by decide +kernel
theorem dX5_parts_183 : decode cX5_parts 183 = .ok (.iload_n 2, 1) := by decide +kernel
theorem dX5_parts_184 : decode cX5_parts 184 = .ok (.ifCond .ne 8, 3) := by decide +kernel
theorem dX5_parts_187 : decode cX5_parts 187 = .ok (.iload 4, 2) := by decide +kernel
theorem dX5_parts_189 : decode cX5_parts 189 = .ok (.goto 14, 3) := by decide +kernel
theorem dX5_parts_192 : decode cX5_parts 192 = .ok (.iload_n 2, 1) := by decide +kernel
theorem dX5_parts_193 : decode cX5_parts 193 = .ok (.iconst 1, 1) := by decide +kernel
theorem dX5_parts_194 : decode cX5_parts 194 = .ok (.if_icmp .ne 8, 3) := by decide +kernel
theorem dX5_parts_197 : decode cX5_parts 197 = .ok (.iload 5, 2) := by decide +kernel
theorem dX5_parts_199 : decode cX5_parts 199 = .ok (.goto 4, 3) := by decide +kernel
theorem dX5_parts_202 : decode cX5_parts 202 = .ok (.iload_n 3, 1) := by decide +kernel
theorem dX5_parts_203 : decode cX5_parts 203 = .ok (.ireturn, 1) := by decide +kernel
abbrev cX5_unlike : ByteArray := prog_22_method_82_code
def yX5_unlike : MethodName := ⟨RX5, "unlike", "(III)I"⟩
theorem dX5_unlike_0 : decode cX5_unlike 0 = .ok (.iconst 0, 1) := by decide +kernel
theorem dX5_unlike_1 : decode cX5_unlike 1 = .ok (.istore 4, 2) := by decide +kernel
theorem dX5_unlike_3 : decode cX5_unlike 3 = .ok (.iconst 0, 1) := by decide +kernel
theorem dX5_unlike_4 : decode cX5_unlike 4 = .ok (.istore 5, 2) := by decide +kernel
theorem dX5_unlike_6 : decode cX5_unlike 6 = .ok (.iconst 0, 1) := by decide +kernel
theorem dX5_unlike_7 : decode cX5_unlike 7 = .ok (.istore 6, 2) := by decide +kernel
theorem dX5_unlike_9 : decode cX5_unlike 9 = .ok (.iload 6, 2) := by decide +kernel
theorem dX5_unlike_11 : decode cX5_unlike 11 = .ok (.aload_n 0, 1) := by decide +kernel
theorem dX5_unlike_12 : decode cX5_unlike 12 = .ok (.getfield 7, 3) := by decide +kernel
theorem dX5_unlike_15 : decode cX5_unlike 15 = .ok (.iconst 3, 1) := by decide +kernel
theorem dX5_unlike_16 : decode cX5_unlike 16 = .ok (.iaload, 1) := by decide +kernel
theorem dX5_unlike_17 : decode cX5_unlike 17 = .ok (.if_icmp .ge 79, 3) := by decide +kernel
theorem dX5_unlike_20 : decode cX5_unlike 20 = .ok (.aload_n 0, 1) := by decide +kernel
theorem dX5_unlike_21 : decode cX5_unlike 21 = .ok (.getfield 58, 3) := by decide +kernel
theorem dX5_unlike_24 : decode cX5_unlike 24 = .ok (.iload 6, 2) := by decide +kernel
theorem dX5_unlike_26 : decode cX5_unlike 26 = .ok (.baload, 1) := by decide +kernel
theorem dX5_unlike_27 : decode cX5_unlike 27 = .ok (.ifCond .ne 6, 3) := by decide +kernel
theorem dX5_unlike_30 : decode cX5_unlike 30 = .ok (.goto 60, 3) := by decide +kernel
theorem dX5_unlike_33 : decode cX5_unlike 33 = .ok (.aload_n 0, 1) := by decide +kernel
theorem dX5_unlike_34 : decode cX5_unlike 34 = .ok (.iload 6, 2) := by decide +kernel
theorem dX5_unlike_36 : decode cX5_unlike 36 = .ok (.iload_n 1, 1) := by decide +kernel
theorem dX5_unlike_37 : decode cX5_unlike 37 = .ok (.iload_n 2, 1) := by decide +kernel
theorem dX5_unlike_38 : decode cX5_unlike 38 = .ok (.iload_n 3, 1) := by decide +kernel
theorem dX5_unlike_39 : decode cX5_unlike 39 = .ok (.iconst 1, 1) := by decide +kernel
theorem dX5_unlike_40 : decode cX5_unlike 40 = .ok (.invokevirtual 345, 3) := by decide +kernel
theorem dX5_unlike_43 : decode cX5_unlike 43 = .ok (.aload_n 0, 1) := by decide +kernel
theorem dX5_unlike_44 : decode cX5_unlike 44 = .ok (.getfield 329, 3) := by decide +kernel
theorem dX5_unlike_47 : decode cX5_unlike 47 = .ok (.ifCond .eq 7, 3) := by decide +kernel
theorem dX5_unlike_50 : decode cX5_unlike 50 = .ok (.iconst 0, 1) := by decide +kernel
theorem dX5_unlike_51 : decode cX5_unlike 51 = .ok (.goto 9, 3) := by decide +kernel
theorem dX5_unlike_54 : decode cX5_unlike 54 = .ok (.aload_n 0, 1) := by decide +kernel
theorem dX5_unlike_55 : decode cX5_unlike 55 = .ok (.getfield 44, 3) := by decide +kernel
theorem dX5_unlike_58 : decode cX5_unlike 58 = .ok (.iconst 0, 1) := by decide +kernel
theorem dX5_unlike_59 : decode cX5_unlike 59 = .ok (.iaload, 1) := by decide +kernel
theorem dX5_unlike_60 : decode cX5_unlike 60 = .ok (.istore 7, 2) := by decide +kernel
theorem dX5_unlike_62 : decode cX5_unlike 62 = .ok (.iload 4, 2) := by decide +kernel
theorem dX5_unlike_64 : decode cX5_unlike 64 = .ok (.iload 7, 2) := by decide +kernel
theorem dX5_unlike_66 : decode cX5_unlike 66 = .ok (.bipush 8, 2) := by decide +kernel
theorem dX5_unlike_68 : decode cX5_unlike 68 = .ok (.iadd, 1) := by decide +kernel
theorem dX5_unlike_69 : decode cX5_unlike 69 = .ok (.ishr, 1) := by decide +kernel
theorem dX5_unlike_70 : decode cX5_unlike 70 = .ok (.iconst 1, 1) := by decide +kernel
theorem dX5_unlike_71 : decode cX5_unlike 71 = .ok (.iand, 1) := by decide +kernel
theorem dX5_unlike_72 : decode cX5_unlike 72 = .ok (.ifCond .ne 6, 3) := by decide +kernel
theorem dX5_unlike_75 : decode cX5_unlike 75 = .ok (.iinc 5 1, 3) := by decide +kernel
theorem dX5_unlike_78 : decode cX5_unlike 78 = .ok (.iload 4, 2) := by decide +kernel
theorem dX5_unlike_80 : decode cX5_unlike 80 = .ok (.iconst 1, 1) := by decide +kernel
theorem dX5_unlike_81 : decode cX5_unlike 81 = .ok (.iload 7, 2) := by decide +kernel
theorem dX5_unlike_83 : decode cX5_unlike 83 = .ok (.bipush 8, 2) := by decide +kernel
theorem dX5_unlike_85 : decode cX5_unlike 85 = .ok (.iadd, 1) := by decide +kernel
theorem dX5_unlike_86 : decode cX5_unlike 86 = .ok (.ishl, 1) := by decide +kernel
theorem dX5_unlike_87 : decode cX5_unlike 87 = .ok (.ior, 1) := by decide +kernel
theorem dX5_unlike_88 : decode cX5_unlike 88 = .ok (.istore 4, 2) := by decide +kernel
theorem dX5_unlike_90 : decode cX5_unlike 90 = .ok (.iinc 6 1, 3) := by decide +kernel
theorem dX5_unlike_93 : decode cX5_unlike 93 = .ok (.goto (-84), 3) := by decide +kernel
theorem dX5_unlike_96 : decode cX5_unlike 96 = .ok (.iload 5, 2) := by decide +kernel
theorem dX5_unlike_98 : decode cX5_unlike 98 = .ok (.ireturn, 1) := by decide +kernel
abbrev cX5_image : ByteArray := prog_22_method_84_code
def yX5_image : MethodName := ⟨RX5, "image", "()I"⟩
theorem dX5_image_0 : decode cX5_image 0 = .ok (.aload_n 0, 1) := by decide +kernel
theorem dX5_image_1 : decode cX5_image 1 = .ok (.getfield 7, 3) := by decide +kernel
theorem dX5_image_4 : decode cX5_image 4 = .ok (.aload_n 0, 1) := by decide +kernel
theorem dX5_image_5 : decode cX5_image 5 = .ok (.getfield 13, 3) := by decide +kernel
theorem dX5_image_8 : decode cX5_image 8 = .ok (.invokestatic 67, 3) := by decide +kernel
theorem dX5_image_11 : decode cX5_image 11 = .ok (.aload_n 0, 1) := by decide +kernel
theorem dX5_image_12 : decode cX5_image 12 = .ok (.getfield 7, 3) := by decide +kernel
theorem dX5_image_15 : decode cX5_image 15 = .ok (.iconst 3, 1) := by decide +kernel
theorem dX5_image_16 : decode cX5_image 16 = .ok (.iaload, 1) := by decide +kernel
theorem dX5_image_17 : decode cX5_image 17 = .ok (.ireturn, 1) := by decide +kernel
abbrev cX5_back : ByteArray := prog_22_method_85_code
def yX5_back : MethodName := ⟨RX5, "back", "()I"⟩
theorem dX5_back_0 : decode cX5_back 0 = .ok (.aload_n 0, 1) := by decide +kernel
theorem dX5_back_1 : decode cX5_back 1 = .ok (.getfield 13, 3) := by decide +kernel
theorem dX5_back_4 : decode cX5_back 4 = .ok (.aload_n 0, 1) := by decide +kernel
theorem dX5_back_5 : decode cX5_back 5 = .ok (.getfield 7, 3) := by decide +kernel
theorem dX5_back_8 : decode cX5_back 8 = .ok (.invokestatic 67, 3) := by decide +kernel
theorem dX5_back_11 : decode cX5_back 11 = .ok (.aload_n 0, 1) := by decide +kernel
theorem dX5_back_12 : decode cX5_back 12 = .ok (.getfield 7, 3) := by decide +kernel
theorem dX5_back_15 : decode cX5_back 15 = .ok (.iconst 3, 1) := by decide +kernel
theorem dX5_back_16 : decode cX5_back 16 = .ok (.iaload, 1) := by decide +kernel
theorem dX5_back_17 : decode cX5_back 17 = .ok (.ireturn, 1) := by decide +kernel
abbrev cX5_about : ByteArray := prog_22_method_86_code
def yX5_about : MethodName := ⟨RX5, "about", "(I)I"⟩
theorem dX5_about_0 : decode cX5_about 0 = .ok (.iload_n 1, 1) := by decide +kernel
theorem dX5_about_1 : decode cX5_about 1 = .ok (.tableswitch 146 0 8 #[51, 56, 61, 68, 75, 82, 89, 96, 101], 51) := by decide +kernel
theorem dX5_about_52 : decode cX5_about 52 = .ok (.aload_n 0, 1) := by decide +kernel
theorem dX5_about_53 : decode cX5_about 53 = .ok (.getfield 61, 3) := by decide +kernel
theorem dX5_about_56 : decode cX5_about 56 = .ok (.ireturn, 1) := by decide +kernel
theorem dX5_about_57 : decode cX5_about 57 = .ok (.aload_n 0, 1) := by decide +kernel
theorem dX5_about_58 : decode cX5_about 58 = .ok (.getfield 64, 3) := by decide +kernel
theorem dX5_about_61 : decode cX5_about 61 = .ok (.ireturn, 1) := by decide +kernel
theorem dX5_about_62 : decode cX5_about 62 = .ok (.aload_n 0, 1) := by decide +kernel
theorem dX5_about_63 : decode cX5_about 63 = .ok (.getfield 7, 3) := by decide +kernel
theorem dX5_about_66 : decode cX5_about 66 = .ok (.iconst 0, 1) := by decide +kernel
theorem dX5_about_67 : decode cX5_about 67 = .ok (.iaload, 1) := by decide +kernel
theorem dX5_about_68 : decode cX5_about 68 = .ok (.ireturn, 1) := by decide +kernel
theorem dX5_about_69 : decode cX5_about 69 = .ok (.aload_n 0, 1) := by decide +kernel
theorem dX5_about_70 : decode cX5_about 70 = .ok (.getfield 7, 3) := by decide +kernel
theorem dX5_about_73 : decode cX5_about 73 = .ok (.iconst 1, 1) := by decide +kernel
theorem dX5_about_74 : decode cX5_about 74 = .ok (.iaload, 1) := by decide +kernel
theorem dX5_about_75 : decode cX5_about 75 = .ok (.ireturn, 1) := by decide +kernel
theorem dX5_about_76 : decode cX5_about 76 = .ok (.aload_n 0, 1) := by decide +kernel
theorem dX5_about_77 : decode cX5_about 77 = .ok (.getfield 7, 3) := by decide +kernel
theorem dX5_about_80 : decode cX5_about 80 = .ok (.iconst 2, 1) := by decide +kernel
theorem dX5_about_81 : decode cX5_about 81 = .ok (.iaload, 1) := by decide +kernel
theorem dX5_about_82 : decode cX5_about 82 = .ok (.ireturn, 1) := by decide +kernel
theorem dX5_about_83 : decode cX5_about 83 = .ok (.aload_n 0, 1) := by decide +kernel
theorem dX5_about_84 : decode cX5_about 84 = .ok (.getfield 7, 3) := by decide +kernel
theorem dX5_about_87 : decode cX5_about 87 = .ok (.iconst 3, 1) := by decide +kernel
theorem dX5_about_88 : decode cX5_about 88 = .ok (.iaload, 1) := by decide +kernel
theorem dX5_about_89 : decode cX5_about 89 = .ok (.ireturn, 1) := by decide +kernel
theorem dX5_about_90 : decode cX5_about 90 = .ok (.aload_n 0, 1) := by decide +kernel
theorem dX5_about_91 : decode cX5_about 91 = .ok (.getfield 7, 3) := by decide +kernel
theorem dX5_about_94 : decode cX5_about 94 = .ok (.iconst 4, 1) := by decide +kernel
theorem dX5_about_95 : decode cX5_about 95 = .ok (.iaload, 1) := by decide +kernel
theorem dX5_about_96 : decode cX5_about 96 = .ok (.ireturn, 1) := by decide +kernel
theorem dX5_about_97 : decode cX5_about 97 = .ok (.aload_n 0, 1) := by decide +kernel
theorem dX5_about_98 : decode cX5_about 98 = .ok (.getfield 136, 3) := by decide +kernel
theorem dX5_about_101 : decode cX5_about 101 = .ok (.ireturn, 1) := by decide +kernel
theorem dX5_about_102 : decode cX5_about 102 = .ok (.iconst 0, 1) := by decide +kernel
theorem dX5_about_103 : decode cX5_about 103 = .ok (.istore_n 2, 1) := by decide +kernel
theorem dX5_about_104 : decode cX5_about 104 = .ok (.iconst 0, 1) := by decide +kernel
theorem dX5_about_105 : decode cX5_about 105 = .ok (.istore_n 3, 1) := by decide +kernel
theorem dX5_about_106 : decode cX5_about 106 = .ok (.iload_n 3, 1) := by decide +kernel
theorem dX5_about_107 : decode cX5_about 107 = .ok (.aload_n 0, 1) := by decide +kernel
theorem dX5_about_108 : decode cX5_about 108 = .ok (.getfield 61, 3) := by decide +kernel
theorem dX5_about_111 : decode cX5_about 111 = .ok (.aload_n 0, 1) := by decide +kernel
theorem dX5_about_112 : decode cX5_about 112 = .ok (.getfield 64, 3) := by decide +kernel
theorem dX5_about_115 : decode cX5_about 115 = .ok (.imul, 1) := by decide +kernel
theorem dX5_about_116 : decode cX5_about 116 = .ok (.if_icmp .ge 29, 3) := by decide +kernel
theorem dX5_about_119 : decode cX5_about 119 = .ok (.iload_n 2, 1) := by decide +kernel
theorem dX5_about_120 : decode cX5_about 120 = .ok (.aload_n 0, 1) := by decide +kernel
theorem dX5_about_121 : decode cX5_about 121 = .ok (.getfield 7, 3) := by decide +kernel
theorem dX5_about_124 : decode cX5_about 124 = .ok (.bipush 10, 2) := by decide +kernel
theorem dX5_about_126 : decode cX5_about 126 = .ok (.iload_n 3, 1) := by decide +kernel
theorem dX5_about_127 : decode cX5_about 127 = .ok (.iadd, 1) := by decide +kernel
theorem dX5_about_128 : decode cX5_about 128 = .ok (.iaload, 1) := by decide +kernel
theorem dX5_about_129 : decode cX5_about 129 = .ok (.ifCond .le 7, 3) := by decide +kernel
theorem dX5_about_132 : decode cX5_about 132 = .ok (.iconst 1, 1) := by decide +kernel
theorem dX5_about_133 : decode cX5_about 133 = .ok (.goto 4, 3) := by decide +kernel
theorem dX5_about_136 : decode cX5_about 136 = .ok (.iconst 0, 1) := by decide +kernel
theorem dX5_about_137 : decode cX5_about 137 = .ok (.iadd, 1) := by decide +kernel
theorem dX5_about_138 : decode cX5_about 138 = .ok (.istore_n 2, 1) := by decide +kernel
theorem dX5_about_139 : decode cX5_about 139 = .ok (.iinc 3 1, 3) := by decide +kernel
theorem dX5_about_142 : decode cX5_about 142 = .ok (.goto (-36), 3) := by decide +kernel
theorem dX5_about_145 : decode cX5_about 145 = .ok (.iload_n 2, 1) := by decide +kernel
theorem dX5_about_146 : decode cX5_about 146 = .ok (.ireturn, 1) := by decide +kernel
theorem dX5_about_147 : decode cX5_about 147 = .ok (.iconst (-1), 1) := by decide +kernel
theorem dX5_about_148 : decode cX5_about 148 = .ok (.ireturn, 1) := by decide +kernel
theorem q93 : (Jvm.Cond.initialized "ManyEyesModel") ∈ lw_all := lw_g (lw_at lw_m1 14 rfl) rfl
theorem q365 : (Jvm.Cond.selects "ManyEyesModel" ({ cls := "java/lang/Object", name := "getClass", desc := "()Ljava/lang/Class;" } : Jvm.MethodName) ({ cls := "java/lang/Object", name := "getClass", desc := "()Ljava/lang/Class;" } : Jvm.MethodName)) ∈ lw_all := lw_g (lw_at lw_m2 46 rfl) rfl
theorem q1166 : (Jvm.Cond.instantiable "ManyEyesModel" (43 : Nat)) ∈ lw_all := lw_g (lw_at lw_m5 127 rfl) rfl
theorem q1168 : (Jvm.Cond.instanceMethod ({ cls := "ManyEyesModel", name := "<init>", desc := "(II)V" } : Jvm.MethodName)) ∈ lw_all := lw_g (lw_at lw_m5 129 rfl) rfl
theorem q1169 : (Jvm.Cond.code ({ cls := "ManyEyesModel", name := "<init>", desc := "(II)V" } : Jvm.MethodName) prog_22_method_1_code (3 : Nat) (Option.none : Option Jvm.ClassFile.FieldType)) ∈ lw_all := lw_g (lw_at lw_m5 130 rfl) rfl
theorem q1170 : (Jvm.Cond.methodLink "ManyEyesModel" (1 : Nat) ({ cls := "java/lang/Object", name := "<init>", desc := "()V" } : Jvm.MethodName)) ∈ lw_all := lw_g (lw_at lw_m5 131 rfl) rfl
theorem q1171 : (Jvm.Cond.methodLink "ManyEyesModel" (67 : Nat) ({ cls := "ManyEyesModel", name := "copy", desc := "([I[I)V" } : Jvm.MethodName)) ∈ lw_all := lw_g (lw_at lw_m5 132 rfl) rfl
theorem q1172 : (Jvm.Cond.static ({ cls := "ManyEyesModel", name := "copy", desc := "([I[I)V" } : Jvm.MethodName)) ∈ lw_all := lw_g (lw_at lw_m5 133 rfl) rfl
theorem q1173 : (Jvm.Cond.code ({ cls := "ManyEyesModel", name := "copy", desc := "([I[I)V" } : Jvm.MethodName) prog_22_method_2_code (3 : Nat) (Option.none : Option Jvm.ClassFile.FieldType)) ∈ lw_all := lw_g (lw_at lw_m5 134 rfl) rfl
theorem q1174 : (Jvm.Cond.fieldLink "ManyEyesModel" (61 : Nat) "ManyEyesModel" "w" "I") ∈ lw_all := lw_g (lw_at lw_m5 135 rfl) rfl
theorem q1175 : (Jvm.Cond.fieldLink "ManyEyesModel" (64 : Nat) "ManyEyesModel" "h" "I") ∈ lw_all := lw_g (lw_at lw_m5 136 rfl) rfl
theorem q1176 : (Jvm.Cond.fieldLink "ManyEyesModel" (7 : Nat) "ManyEyesModel" "a" "[I") ∈ lw_all := lw_g (lw_at lw_m5 137 rfl) rfl
theorem q1177 : (Jvm.Cond.fieldLink "ManyEyesModel" (13 : Nat) "ManyEyesModel" "image" "[I") ∈ lw_all := lw_g (lw_at lw_m5 138 rfl) rfl
theorem q1178 : (Jvm.Cond.fieldLink "ManyEyesModel" (16 : Nat) "ManyEyesModel" "texts" "[I") ∈ lw_all := lw_g (lw_at lw_m5 139 rfl) rfl
theorem q1179 : (Jvm.Cond.fieldLink "ManyEyesModel" (19 : Nat) "ManyEyesModel" "board" "[I") ∈ lw_all := lw_g (lw_at lw_m5 140 rfl) rfl
theorem q1180 : (Jvm.Cond.fieldLink "ManyEyesModel" (22 : Nat) "ManyEyesModel" "taken" "[I") ∈ lw_all := lw_g (lw_at lw_m5 141 rfl) rfl
theorem q1181 : (Jvm.Cond.fieldLink "ManyEyesModel" (25 : Nat) "ManyEyesModel" "fars" "[I") ∈ lw_all := lw_g (lw_at lw_m5 142 rfl) rfl
theorem q1182 : (Jvm.Cond.fieldLink "ManyEyesModel" (28 : Nat) "ManyEyesModel" "before" "[I") ∈ lw_all := lw_g (lw_at lw_m5 143 rfl) rfl
theorem q1183 : (Jvm.Cond.fieldLink "ManyEyesModel" (31 : Nat) "ManyEyesModel" "tape" "[I") ∈ lw_all := lw_g (lw_at lw_m5 144 rfl) rfl
theorem q1184 : (Jvm.Cond.fieldLink "ManyEyesModel" (136 : Nat) "ManyEyesModel" "taped" "I") ∈ lw_all := lw_g (lw_at lw_m5 145 rfl) rfl
theorem q1185 : (Jvm.Cond.fieldLink "ManyEyesModel" (34 : Nat) "ManyEyesModel" "fault" "I") ∈ lw_all := lw_g (lw_at lw_m5 146 rfl) rfl
theorem q1186 : (Jvm.Cond.fieldLink "ManyEyesModel" (38 : Nat) "ManyEyesModel" "faultPlace" "I") ∈ lw_all := lw_g (lw_at lw_m5 147 rfl) rfl
theorem q1187 : (Jvm.Cond.fieldLink "ManyEyesModel" (142 : Nat) "ManyEyesModel" "at" "I") ∈ lw_all := lw_g (lw_at lw_m5 148 rfl) rfl
theorem q1188 : (Jvm.Cond.fieldLink "ManyEyesModel" (148 : Nat) "ManyEyesModel" "place" "I") ∈ lw_all := lw_g (lw_at lw_m5 149 rfl) rfl
theorem q1189 : (Jvm.Cond.fieldLink "ManyEyesModel" (151 : Nat) "ManyEyesModel" "token" "I") ∈ lw_all := lw_g (lw_at lw_m5 150 rfl) rfl
theorem q1190 : (Jvm.Cond.fieldLink "ManyEyesModel" (157 : Nat) "ManyEyesModel" "number" "I") ∈ lw_all := lw_g (lw_at lw_m5 151 rfl) rfl
theorem q1191 : (Jvm.Cond.fieldLink "ManyEyesModel" (164 : Nat) "ManyEyesModel" "word" "J") ∈ lw_all := lw_g (lw_at lw_m5 152 rfl) rfl
theorem q1192 : (Jvm.Cond.fieldLink "ManyEyesModel" (176 : Nat) "ManyEyesModel" "text0" "I") ∈ lw_all := lw_g (lw_at lw_m5 153 rfl) rfl
theorem q1193 : (Jvm.Cond.fieldLink "ManyEyesModel" (262 : Nat) "ManyEyesModel" "clauses" "I") ∈ lw_all := lw_g (lw_at lw_m5 154 rfl) rfl
theorem q1194 : (Jvm.Cond.fieldLink "ManyEyesModel" (179 : Nat) "ManyEyesModel" "written" "I") ∈ lw_all := lw_g (lw_at lw_m5 155 rfl) rfl
theorem q1195 : (Jvm.Cond.fieldLink "ManyEyesModel" (259 : Nat) "ManyEyesModel" "came" "I") ∈ lw_all := lw_g (lw_at lw_m5 156 rfl) rfl
theorem q1196 : (Jvm.Cond.fieldLink "ManyEyesModel" (210 : Nat) "ManyEyesModel" "letters" "I") ∈ lw_all := lw_g (lw_at lw_m5 157 rfl) rfl
theorem q1197 : (Jvm.Cond.fieldLink "ManyEyesModel" (41 : Nat) "ManyEyesModel" "pile" "[I") ∈ lw_all := lw_g (lw_at lw_m5 158 rfl) rfl
theorem q1198 : (Jvm.Cond.fieldLink "ManyEyesModel" (182 : Nat) "ManyEyesModel" "piled" "I") ∈ lw_all := lw_g (lw_at lw_m5 159 rfl) rfl
theorem q1199 : (Jvm.Cond.fieldLink "ManyEyesModel" (189 : Nat) "ManyEyesModel" "opens" "I") ∈ lw_all := lw_g (lw_at lw_m5 160 rfl) rfl
theorem q1200 : (Jvm.Cond.fieldLink "ManyEyesModel" (185 : Nat) "ManyEyesModel" "isWhole" "Z") ∈ lw_all := lw_g (lw_at lw_m5 161 rfl) rfl
theorem q1201 : (Jvm.Cond.fieldLink "ManyEyesModel" (274 : Nat) "ManyEyesModel" "bound" "J") ∈ lw_all := lw_g (lw_at lw_m5 162 rfl) rfl
theorem q1202 : (Jvm.Cond.fieldLink "ManyEyesModel" (277 : Nat) "ManyEyesModel" "over" "I") ∈ lw_all := lw_g (lw_at lw_m5 163 rfl) rfl
theorem q1203 : (Jvm.Cond.fieldLink "ManyEyesModel" (323 : Nat) "ManyEyesModel" "ticks" "I") ∈ lw_all := lw_g (lw_at lw_m5 164 rfl) rfl
theorem q1204 : (Jvm.Cond.fieldLink "ManyEyesModel" (314 : Nat) "ManyEyesModel" "atX" "I") ∈ lw_all := lw_g (lw_at lw_m5 165 rfl) rfl
theorem q1205 : (Jvm.Cond.fieldLink "ManyEyesModel" (317 : Nat) "ManyEyesModel" "atY" "I") ∈ lw_all := lw_g (lw_at lw_m5 166 rfl) rfl
theorem q1206 : (Jvm.Cond.fieldLink "ManyEyesModel" (320 : Nat) "ManyEyesModel" "heading" "I") ∈ lw_all := lw_g (lw_at lw_m5 167 rfl) rfl
theorem q1207 : (Jvm.Cond.fieldLink "ManyEyesModel" (326 : Nat) "ManyEyesModel" "hit" "Z") ∈ lw_all := lw_g (lw_at lw_m5 168 rfl) rfl
theorem q1208 : (Jvm.Cond.fieldLink "ManyEyesModel" (329 : Nat) "ManyEyesModel" "rested" "Z") ∈ lw_all := lw_g (lw_at lw_m5 169 rfl) rfl
theorem q1209 : (Jvm.Cond.fieldLink "ManyEyesModel" (44 : Nat) "ManyEyesModel" "rows" "[I") ∈ lw_all := lw_g (lw_at lw_m5 170 rfl) rfl
theorem q1210 : (Jvm.Cond.fieldLink "ManyEyesModel" (47 : Nat) "ManyEyesModel" "told" "[I") ∈ lw_all := lw_g (lw_at lw_m5 171 rfl) rfl
theorem q1211 : (Jvm.Cond.fieldLink "ManyEyesModel" (50 : Nat) "ManyEyesModel" "values" "[J") ∈ lw_all := lw_g (lw_at lw_m5 172 rfl) rfl
theorem q1212 : (Jvm.Cond.fieldLink "ManyEyesModel" (54 : Nat) "ManyEyesModel" "truth" "[Z") ∈ lw_all := lw_g (lw_at lw_m5 173 rfl) rfl
theorem q1213 : (Jvm.Cond.fieldLink "ManyEyesModel" (284 : Nat) "ManyEyesModel" "now" "I") ∈ lw_all := lw_g (lw_at lw_m5 174 rfl) rfl
theorem q1214 : (Jvm.Cond.fieldLink "ManyEyesModel" (299 : Nat) "ManyEyesModel" "turn" "I") ∈ lw_all := lw_g (lw_at lw_m5 175 rfl) rfl
theorem q1215 : (Jvm.Cond.fieldLink "ManyEyesModel" (302 : Nat) "ManyEyesModel" "go" "I") ∈ lw_all := lw_g (lw_at lw_m5 176 rfl) rfl
theorem q1216 : (Jvm.Cond.fieldLink "ManyEyesModel" (58 : Nat) "ManyEyesModel" "keeps" "[Z") ∈ lw_all := lw_g (lw_at lw_m5 177 rfl) rfl
theorem q1217 : (Jvm.Cond.laysFinal "ManyEyesModel" "ManyEyesModel" "w" "I") ∈ lw_all := lw_g (lw_at lw_m5 178 rfl) rfl
theorem q1218 : (Jvm.Cond.soleField "ManyEyesModel" "w") ∈ lw_all := lw_g (lw_at lw_m5 179 rfl) rfl
theorem q1219 : (Jvm.Cond.laysFinal "ManyEyesModel" "ManyEyesModel" "h" "I") ∈ lw_all := lw_g (lw_at lw_m5 180 rfl) rfl
theorem q1220 : (Jvm.Cond.soleField "ManyEyesModel" "h") ∈ lw_all := lw_g (lw_at lw_m5 181 rfl) rfl
theorem q1221 : (Jvm.Cond.laysFinal "ManyEyesModel" "ManyEyesModel" "a" "[I") ∈ lw_all := lw_g (lw_at lw_m5 182 rfl) rfl
theorem q1222 : (Jvm.Cond.soleField "ManyEyesModel" "a") ∈ lw_all := lw_g (lw_at lw_m5 183 rfl) rfl
theorem q1223 : (Jvm.Cond.laysFinal "ManyEyesModel" "ManyEyesModel" "image" "[I") ∈ lw_all := lw_g (lw_at lw_m5 184 rfl) rfl
theorem q1224 : (Jvm.Cond.soleField "ManyEyesModel" "image") ∈ lw_all := lw_g (lw_at lw_m5 185 rfl) rfl
theorem q1225 : (Jvm.Cond.laysFinal "ManyEyesModel" "ManyEyesModel" "texts" "[I") ∈ lw_all := lw_g (lw_at lw_m5 186 rfl) rfl
theorem q1226 : (Jvm.Cond.soleField "ManyEyesModel" "texts") ∈ lw_all := lw_g (lw_at lw_m5 187 rfl) rfl
theorem q1227 : (Jvm.Cond.laysFinal "ManyEyesModel" "ManyEyesModel" "board" "[I") ∈ lw_all := lw_g (lw_at lw_m5 188 rfl) rfl
theorem q1228 : (Jvm.Cond.soleField "ManyEyesModel" "board") ∈ lw_all := lw_g (lw_at lw_m5 189 rfl) rfl
theorem q1229 : (Jvm.Cond.laysFinal "ManyEyesModel" "ManyEyesModel" "taken" "[I") ∈ lw_all := lw_g (lw_at lw_m5 190 rfl) rfl
theorem q1230 : (Jvm.Cond.soleField "ManyEyesModel" "taken") ∈ lw_all := lw_g (lw_at lw_m5 191 rfl) rfl
theorem q1231 : (Jvm.Cond.laysFinal "ManyEyesModel" "ManyEyesModel" "fars" "[I") ∈ lw_all := lw_g (lw_at lw_m5 192 rfl) rfl
theorem q1232 : (Jvm.Cond.soleField "ManyEyesModel" "fars") ∈ lw_all := lw_g (lw_at lw_m5 193 rfl) rfl
theorem q1233 : (Jvm.Cond.laysFinal "ManyEyesModel" "ManyEyesModel" "before" "[I") ∈ lw_all := lw_g (lw_at lw_m5 194 rfl) rfl
theorem q1234 : (Jvm.Cond.soleField "ManyEyesModel" "before") ∈ lw_all := lw_g (lw_at lw_m5 195 rfl) rfl
theorem q1235 : (Jvm.Cond.laysFinal "ManyEyesModel" "ManyEyesModel" "tape" "[I") ∈ lw_all := lw_g (lw_at lw_m5 196 rfl) rfl
theorem q1236 : (Jvm.Cond.soleField "ManyEyesModel" "tape") ∈ lw_all := lw_g (lw_at lw_m5 197 rfl) rfl
theorem q1237 : (Jvm.Cond.lays "ManyEyesModel" "ManyEyesModel" "taped" "I") ∈ lw_all := lw_g (lw_at lw_m5 198 rfl) rfl
theorem q1238 : (Jvm.Cond.soleField "ManyEyesModel" "taped") ∈ lw_all := lw_g (lw_at lw_m5 199 rfl) rfl
theorem q1239 : (Jvm.Cond.lays "ManyEyesModel" "ManyEyesModel" "fault" "I") ∈ lw_all := lw_g (lw_at lw_m5 200 rfl) rfl
theorem q1240 : (Jvm.Cond.soleField "ManyEyesModel" "fault") ∈ lw_all := lw_g (lw_at lw_m5 201 rfl) rfl
theorem q1241 : (Jvm.Cond.lays "ManyEyesModel" "ManyEyesModel" "faultPlace" "I") ∈ lw_all := lw_g (lw_at lw_m5 202 rfl) rfl
theorem q1242 : (Jvm.Cond.soleField "ManyEyesModel" "faultPlace") ∈ lw_all := lw_g (lw_at lw_m5 203 rfl) rfl
theorem q1243 : (Jvm.Cond.lays "ManyEyesModel" "ManyEyesModel" "at" "I") ∈ lw_all := lw_g (lw_at lw_m5 204 rfl) rfl
theorem q1244 : (Jvm.Cond.soleField "ManyEyesModel" "at") ∈ lw_all := lw_g (lw_at lw_m5 205 rfl) rfl
theorem q1245 : (Jvm.Cond.lays "ManyEyesModel" "ManyEyesModel" "place" "I") ∈ lw_all := lw_g (lw_at lw_m5 206 rfl) rfl
theorem q1246 : (Jvm.Cond.soleField "ManyEyesModel" "place") ∈ lw_all := lw_g (lw_at lw_m5 207 rfl) rfl
theorem q1247 : (Jvm.Cond.lays "ManyEyesModel" "ManyEyesModel" "token" "I") ∈ lw_all := lw_g (lw_at lw_m5 208 rfl) rfl
theorem q1248 : (Jvm.Cond.soleField "ManyEyesModel" "token") ∈ lw_all := lw_g (lw_at lw_m5 209 rfl) rfl
theorem q1249 : (Jvm.Cond.lays "ManyEyesModel" "ManyEyesModel" "number" "I") ∈ lw_all := lw_g (lw_at lw_m5 210 rfl) rfl
theorem q1250 : (Jvm.Cond.soleField "ManyEyesModel" "number") ∈ lw_all := lw_g (lw_at lw_m5 211 rfl) rfl
theorem q1251 : (Jvm.Cond.lays "ManyEyesModel" "ManyEyesModel" "word" "J") ∈ lw_all := lw_g (lw_at lw_m5 212 rfl) rfl
theorem q1252 : (Jvm.Cond.soleField "ManyEyesModel" "word") ∈ lw_all := lw_g (lw_at lw_m5 213 rfl) rfl
theorem q1253 : (Jvm.Cond.lays "ManyEyesModel" "ManyEyesModel" "text0" "I") ∈ lw_all := lw_g (lw_at lw_m5 214 rfl) rfl
theorem q1254 : (Jvm.Cond.soleField "ManyEyesModel" "text0") ∈ lw_all := lw_g (lw_at lw_m5 215 rfl) rfl
theorem q1255 : (Jvm.Cond.lays "ManyEyesModel" "ManyEyesModel" "clauses" "I") ∈ lw_all := lw_g (lw_at lw_m5 216 rfl) rfl
theorem q1256 : (Jvm.Cond.soleField "ManyEyesModel" "clauses") ∈ lw_all := lw_g (lw_at lw_m5 217 rfl) rfl
theorem q1257 : (Jvm.Cond.lays "ManyEyesModel" "ManyEyesModel" "written" "I") ∈ lw_all := lw_g (lw_at lw_m5 218 rfl) rfl
theorem q1258 : (Jvm.Cond.soleField "ManyEyesModel" "written") ∈ lw_all := lw_g (lw_at lw_m5 219 rfl) rfl
theorem q1259 : (Jvm.Cond.lays "ManyEyesModel" "ManyEyesModel" "came" "I") ∈ lw_all := lw_g (lw_at lw_m5 220 rfl) rfl
theorem q1260 : (Jvm.Cond.soleField "ManyEyesModel" "came") ∈ lw_all := lw_g (lw_at lw_m5 221 rfl) rfl
theorem q1261 : (Jvm.Cond.lays "ManyEyesModel" "ManyEyesModel" "letters" "I") ∈ lw_all := lw_g (lw_at lw_m5 222 rfl) rfl
theorem q1262 : (Jvm.Cond.soleField "ManyEyesModel" "letters") ∈ lw_all := lw_g (lw_at lw_m5 223 rfl) rfl
theorem q1263 : (Jvm.Cond.laysFinal "ManyEyesModel" "ManyEyesModel" "pile" "[I") ∈ lw_all := lw_g (lw_at lw_m5 224 rfl) rfl
theorem q1264 : (Jvm.Cond.soleField "ManyEyesModel" "pile") ∈ lw_all := lw_g (lw_at lw_m5 225 rfl) rfl
theorem q1265 : (Jvm.Cond.lays "ManyEyesModel" "ManyEyesModel" "piled" "I") ∈ lw_all := lw_g (lw_at lw_m5 226 rfl) rfl
theorem q1266 : (Jvm.Cond.soleField "ManyEyesModel" "piled") ∈ lw_all := lw_g (lw_at lw_m5 227 rfl) rfl
theorem q1267 : (Jvm.Cond.lays "ManyEyesModel" "ManyEyesModel" "opens" "I") ∈ lw_all := lw_g (lw_at lw_m5 228 rfl) rfl
theorem q1268 : (Jvm.Cond.soleField "ManyEyesModel" "opens") ∈ lw_all := lw_g (lw_at lw_m5 229 rfl) rfl
theorem q1269 : (Jvm.Cond.lays "ManyEyesModel" "ManyEyesModel" "isWhole" "Z") ∈ lw_all := lw_g (lw_at lw_m5 230 rfl) rfl
theorem q1270 : (Jvm.Cond.soleField "ManyEyesModel" "isWhole") ∈ lw_all := lw_g (lw_at lw_m5 231 rfl) rfl
theorem q1271 : (Jvm.Cond.lays "ManyEyesModel" "ManyEyesModel" "bound" "J") ∈ lw_all := lw_g (lw_at lw_m5 232 rfl) rfl
theorem q1272 : (Jvm.Cond.soleField "ManyEyesModel" "bound") ∈ lw_all := lw_g (lw_at lw_m5 233 rfl) rfl
theorem q1273 : (Jvm.Cond.lays "ManyEyesModel" "ManyEyesModel" "over" "I") ∈ lw_all := lw_g (lw_at lw_m5 234 rfl) rfl
theorem q1274 : (Jvm.Cond.soleField "ManyEyesModel" "over") ∈ lw_all := lw_g (lw_at lw_m5 235 rfl) rfl
theorem q1275 : (Jvm.Cond.lays "ManyEyesModel" "ManyEyesModel" "ticks" "I") ∈ lw_all := lw_g (lw_at lw_m5 236 rfl) rfl
theorem q1276 : (Jvm.Cond.soleField "ManyEyesModel" "ticks") ∈ lw_all := lw_g (lw_at lw_m5 237 rfl) rfl
theorem q1277 : (Jvm.Cond.lays "ManyEyesModel" "ManyEyesModel" "atX" "I") ∈ lw_all := lw_g (lw_at lw_m5 238 rfl) rfl
theorem q1278 : (Jvm.Cond.soleField "ManyEyesModel" "atX") ∈ lw_all := lw_g (lw_at lw_m5 239 rfl) rfl
theorem q1279 : (Jvm.Cond.lays "ManyEyesModel" "ManyEyesModel" "atY" "I") ∈ lw_all := lw_g (lw_at lw_m6 0 rfl) rfl
theorem q1280 : (Jvm.Cond.soleField "ManyEyesModel" "atY") ∈ lw_all := lw_g (lw_at lw_m6 1 rfl) rfl
theorem q1281 : (Jvm.Cond.lays "ManyEyesModel" "ManyEyesModel" "heading" "I") ∈ lw_all := lw_g (lw_at lw_m6 2 rfl) rfl
theorem q1282 : (Jvm.Cond.soleField "ManyEyesModel" "heading") ∈ lw_all := lw_g (lw_at lw_m6 3 rfl) rfl
theorem q1283 : (Jvm.Cond.lays "ManyEyesModel" "ManyEyesModel" "hit" "Z") ∈ lw_all := lw_g (lw_at lw_m6 4 rfl) rfl
theorem q1284 : (Jvm.Cond.soleField "ManyEyesModel" "hit") ∈ lw_all := lw_g (lw_at lw_m6 5 rfl) rfl
theorem q1285 : (Jvm.Cond.lays "ManyEyesModel" "ManyEyesModel" "rested" "Z") ∈ lw_all := lw_g (lw_at lw_m6 6 rfl) rfl
theorem q1286 : (Jvm.Cond.soleField "ManyEyesModel" "rested") ∈ lw_all := lw_g (lw_at lw_m6 7 rfl) rfl
theorem q1287 : (Jvm.Cond.laysFinal "ManyEyesModel" "ManyEyesModel" "rows" "[I") ∈ lw_all := lw_g (lw_at lw_m6 8 rfl) rfl
theorem q1288 : (Jvm.Cond.soleField "ManyEyesModel" "rows") ∈ lw_all := lw_g (lw_at lw_m6 9 rfl) rfl
theorem q1289 : (Jvm.Cond.laysFinal "ManyEyesModel" "ManyEyesModel" "told" "[I") ∈ lw_all := lw_g (lw_at lw_m6 10 rfl) rfl
theorem q1290 : (Jvm.Cond.soleField "ManyEyesModel" "told") ∈ lw_all := lw_g (lw_at lw_m6 11 rfl) rfl
theorem q1291 : (Jvm.Cond.laysFinal "ManyEyesModel" "ManyEyesModel" "values" "[J") ∈ lw_all := lw_g (lw_at lw_m6 12 rfl) rfl
theorem q1292 : (Jvm.Cond.soleField "ManyEyesModel" "values") ∈ lw_all := lw_g (lw_at lw_m6 13 rfl) rfl
theorem q1293 : (Jvm.Cond.laysFinal "ManyEyesModel" "ManyEyesModel" "truth" "[Z") ∈ lw_all := lw_g (lw_at lw_m6 14 rfl) rfl
theorem q1294 : (Jvm.Cond.soleField "ManyEyesModel" "truth") ∈ lw_all := lw_g (lw_at lw_m6 15 rfl) rfl
theorem q1295 : (Jvm.Cond.lays "ManyEyesModel" "ManyEyesModel" "now" "I") ∈ lw_all := lw_g (lw_at lw_m6 16 rfl) rfl
theorem q1296 : (Jvm.Cond.soleField "ManyEyesModel" "now") ∈ lw_all := lw_g (lw_at lw_m6 17 rfl) rfl
theorem q1297 : (Jvm.Cond.lays "ManyEyesModel" "ManyEyesModel" "turn" "I") ∈ lw_all := lw_g (lw_at lw_m6 18 rfl) rfl
theorem q1298 : (Jvm.Cond.soleField "ManyEyesModel" "turn") ∈ lw_all := lw_g (lw_at lw_m6 19 rfl) rfl
theorem q1299 : (Jvm.Cond.lays "ManyEyesModel" "ManyEyesModel" "go" "I") ∈ lw_all := lw_g (lw_at lw_m6 20 rfl) rfl
theorem q1300 : (Jvm.Cond.soleField "ManyEyesModel" "go") ∈ lw_all := lw_g (lw_at lw_m6 21 rfl) rfl
theorem q1301 : (Jvm.Cond.laysFinal "ManyEyesModel" "ManyEyesModel" "keeps" "[Z") ∈ lw_all := lw_g (lw_at lw_m6 22 rfl) rfl
theorem q1302 : (Jvm.Cond.soleField "ManyEyesModel" "keeps") ∈ lw_all := lw_g (lw_at lw_m6 23 rfl) rfl
theorem q1303 : (Jvm.Cond.superclass "ManyEyesModel" "java/lang/Object") ∈ lw_all := lw_g (lw_at lw_m6 24 rfl) rfl
theorem q1305 : (Jvm.Cond.instanceMethod ({ cls := "ManyEyesModel", name := "mark", desc := "(II)Z" } : Jvm.MethodName)) ∈ lw_all := lw_g (lw_at lw_m6 26 rfl) rfl
theorem q1306 : (Jvm.Cond.selects "ManyEyesModel" ({ cls := "ManyEyesModel", name := "mark", desc := "(II)Z" } : Jvm.MethodName) ({ cls := "ManyEyesModel", name := "mark", desc := "(II)Z" } : Jvm.MethodName)) ∈ lw_all := lw_g (lw_at lw_m6 27 rfl) rfl
theorem q1307 : (Jvm.Cond.code ({ cls := "ManyEyesModel", name := "mark", desc := "(II)Z" } : Jvm.MethodName) prog_22_method_10_code (3 : Nat) (Option.some Jvm.ClassFile.FieldType.boolean)) ∈ lw_all := lw_g (lw_at lw_m6 28 rfl) rfl
theorem q1308 : (Jvm.Cond.methodLink "ManyEyesModel" (75 : Nat) ({ cls := "ManyEyesModel", name := "isCell", desc := "(I)Z" } : Jvm.MethodName)) ∈ lw_all := lw_g (lw_at lw_m6 29 rfl) rfl
theorem q1309 : (Jvm.Cond.privateMethod ({ cls := "ManyEyesModel", name := "isCell", desc := "(I)Z" } : Jvm.MethodName)) ∈ lw_tbl := lw_at lw_m6 30 rfl
theorem q1310 : (Jvm.Cond.instanceMethod ({ cls := "ManyEyesModel", name := "isCell", desc := "(I)Z" } : Jvm.MethodName)) ∈ lw_all := lw_g (lw_at lw_m6 31 rfl) rfl
theorem q1311 : (Jvm.Cond.code ({ cls := "ManyEyesModel", name := "isCell", desc := "(I)Z" } : Jvm.MethodName) prog_22_method_4_code (2 : Nat) (Option.some Jvm.ClassFile.FieldType.boolean)) ∈ lw_all := lw_g (lw_at lw_m6 32 rfl) rfl
theorem q1312 : (Jvm.Cond.methodLink "ManyEyesModel" (71 : Nat) ({ cls := "ManyEyesModel", name := "isIn", desc := "(III)Z" } : Jvm.MethodName)) ∈ lw_all := lw_g (lw_at lw_m6 33 rfl) rfl
theorem q1313 : (Jvm.Cond.static ({ cls := "ManyEyesModel", name := "isIn", desc := "(III)Z" } : Jvm.MethodName)) ∈ lw_all := lw_g (lw_at lw_m6 34 rfl) rfl
theorem q1314 : (Jvm.Cond.code ({ cls := "ManyEyesModel", name := "isIn", desc := "(III)Z" } : Jvm.MethodName) prog_22_method_3_code (3 : Nat) (Option.some Jvm.ClassFile.FieldType.boolean)) ∈ lw_all := lw_g (lw_at lw_m6 35 rfl) rfl
theorem q1316 : (Jvm.Cond.instanceMethod ({ cls := "ManyEyesModel", name := "body", desc := "(IIII)I" } : Jvm.MethodName)) ∈ lw_all := lw_g (lw_at lw_m6 37 rfl) rfl
theorem q1317 : (Jvm.Cond.selects "ManyEyesModel" ({ cls := "ManyEyesModel", name := "body", desc := "(IIII)I" } : Jvm.MethodName) ({ cls := "ManyEyesModel", name := "body", desc := "(IIII)I" } : Jvm.MethodName)) ∈ lw_all := lw_g (lw_at lw_m6 38 rfl) rfl
theorem q1318 : (Jvm.Cond.code ({ cls := "ManyEyesModel", name := "body", desc := "(IIII)I" } : Jvm.MethodName) prog_22_method_11_code (6 : Nat) (Option.some Jvm.ClassFile.FieldType.int)) ∈ lw_all := lw_g (lw_at lw_m6 39 rfl) rfl
theorem q1320 : (Jvm.Cond.instanceMethod ({ cls := "ManyEyesModel", name := "markOf", desc := "(II)I" } : Jvm.MethodName)) ∈ lw_all := lw_g (lw_at lw_m6 41 rfl) rfl
theorem q1321 : (Jvm.Cond.selects "ManyEyesModel" ({ cls := "ManyEyesModel", name := "markOf", desc := "(II)I" } : Jvm.MethodName) ({ cls := "ManyEyesModel", name := "markOf", desc := "(II)I" } : Jvm.MethodName)) ∈ lw_all := lw_g (lw_at lw_m6 42 rfl) rfl
theorem q1322 : (Jvm.Cond.code ({ cls := "ManyEyesModel", name := "markOf", desc := "(II)I" } : Jvm.MethodName) prog_22_method_14_code (3 : Nat) (Option.some Jvm.ClassFile.FieldType.int)) ∈ lw_all := lw_g (lw_at lw_m6 43 rfl) rfl
theorem q1323 : (Jvm.Cond.methodLink "ManyEyesModel" (83 : Nat) ({ cls := "ManyEyesModel", name := "isTick", desc := "(I)Z" } : Jvm.MethodName)) ∈ lw_all := lw_g (lw_at lw_m6 44 rfl) rfl
theorem q1324 : (Jvm.Cond.static ({ cls := "ManyEyesModel", name := "isTick", desc := "(I)Z" } : Jvm.MethodName)) ∈ lw_all := lw_g (lw_at lw_m6 45 rfl) rfl
theorem q1325 : (Jvm.Cond.code ({ cls := "ManyEyesModel", name := "isTick", desc := "(I)Z" } : Jvm.MethodName) prog_22_method_6_code (1 : Nat) (Option.some Jvm.ClassFile.FieldType.boolean)) ∈ lw_all := lw_g (lw_at lw_m6 46 rfl) rfl
theorem q1326 : (Jvm.Cond.methodLink "ManyEyesModel" (86 : Nat) ({ cls := "ManyEyesModel", name := "markAt", desc := "(II)I" } : Jvm.MethodName)) ∈ lw_all := lw_g (lw_at lw_m6 47 rfl) rfl
theorem q1327 : (Jvm.Cond.privateMethod ({ cls := "ManyEyesModel", name := "markAt", desc := "(II)I" } : Jvm.MethodName)) ∈ lw_tbl := lw_at lw_m6 48 rfl
theorem q1328 : (Jvm.Cond.instanceMethod ({ cls := "ManyEyesModel", name := "markAt", desc := "(II)I" } : Jvm.MethodName)) ∈ lw_all := lw_g (lw_at lw_m6 49 rfl) rfl
theorem q1329 : (Jvm.Cond.code ({ cls := "ManyEyesModel", name := "markAt", desc := "(II)I" } : Jvm.MethodName) prog_22_method_13_code (4 : Nat) (Option.some Jvm.ClassFile.FieldType.int)) ∈ lw_all := lw_g (lw_at lw_m6 50 rfl) rfl
theorem q1330 : (Jvm.Cond.methodLink "ManyEyesModel" (79 : Nat) ({ cls := "ManyEyesModel", name := "bodyAt", desc := "(II)I" } : Jvm.MethodName)) ∈ lw_all := lw_g (lw_at lw_m6 51 rfl) rfl
theorem q1331 : (Jvm.Cond.privateMethod ({ cls := "ManyEyesModel", name := "bodyAt", desc := "(II)I" } : Jvm.MethodName)) ∈ lw_tbl := lw_at lw_m6 52 rfl
theorem q1332 : (Jvm.Cond.instanceMethod ({ cls := "ManyEyesModel", name := "bodyAt", desc := "(II)I" } : Jvm.MethodName)) ∈ lw_all := lw_g (lw_at lw_m6 53 rfl) rfl
theorem q1333 : (Jvm.Cond.code ({ cls := "ManyEyesModel", name := "bodyAt", desc := "(II)I" } : Jvm.MethodName) prog_22_method_12_code (5 : Nat) (Option.some Jvm.ClassFile.FieldType.int)) ∈ lw_all := lw_g (lw_at lw_m6 54 rfl) rfl
theorem q1335 : (Jvm.Cond.instanceMethod ({ cls := "ManyEyesModel", name := "ray", desc := "(IIIIZ)I" } : Jvm.MethodName)) ∈ lw_all := lw_g (lw_at lw_m6 56 rfl) rfl
theorem q1336 : (Jvm.Cond.selects "ManyEyesModel" ({ cls := "ManyEyesModel", name := "ray", desc := "(IIIIZ)I" } : Jvm.MethodName) ({ cls := "ManyEyesModel", name := "ray", desc := "(IIIIZ)I" } : Jvm.MethodName)) ∈ lw_all := lw_g (lw_at lw_m6 57 rfl) rfl
theorem q1337 : (Jvm.Cond.code ({ cls := "ManyEyesModel", name := "ray", desc := "(IIIIZ)I" } : Jvm.MethodName) prog_22_method_20_code (6 : Nat) (Option.some Jvm.ClassFile.FieldType.int)) ∈ lw_all := lw_g (lw_at lw_m6 58 rfl) rfl
theorem q1338 : (Jvm.Cond.methodLink "ManyEyesModel" (107 : Nat) ({ cls := "ManyEyesModel", name := "isPlace", desc := "(II)Z" } : Jvm.MethodName)) ∈ lw_all := lw_g (lw_at lw_m6 59 rfl) rfl
theorem q1339 : (Jvm.Cond.privateMethod ({ cls := "ManyEyesModel", name := "isPlace", desc := "(II)Z" } : Jvm.MethodName)) ∈ lw_tbl := lw_at lw_m6 60 rfl
theorem q1340 : (Jvm.Cond.instanceMethod ({ cls := "ManyEyesModel", name := "isPlace", desc := "(II)Z" } : Jvm.MethodName)) ∈ lw_all := lw_g (lw_at lw_m6 61 rfl) rfl
theorem q1341 : (Jvm.Cond.code ({ cls := "ManyEyesModel", name := "isPlace", desc := "(II)Z" } : Jvm.MethodName) prog_22_method_7_code (3 : Nat) (Option.some Jvm.ClassFile.FieldType.boolean)) ∈ lw_all := lw_g (lw_at lw_m6 62 rfl) rfl
theorem q1342 : (Jvm.Cond.methodLink "ManyEyesModel" (111 : Nat) ({ cls := "ManyEyesModel", name := "isSide", desc := "(I)Z" } : Jvm.MethodName)) ∈ lw_all := lw_g (lw_at lw_m6 63 rfl) rfl
theorem q1343 : (Jvm.Cond.static ({ cls := "ManyEyesModel", name := "isSide", desc := "(I)Z" } : Jvm.MethodName)) ∈ lw_all := lw_g (lw_at lw_m6 64 rfl) rfl
theorem q1344 : (Jvm.Cond.code ({ cls := "ManyEyesModel", name := "isSide", desc := "(I)Z" } : Jvm.MethodName) prog_22_method_5_code (1 : Nat) (Option.some Jvm.ClassFile.FieldType.boolean)) ∈ lw_all := lw_g (lw_at lw_m6 65 rfl) rfl
theorem q1345 : (Jvm.Cond.methodLink "ManyEyesModel" (99 : Nat) ({ cls := "ManyEyesModel", name := "lay", desc := "(I)V" } : Jvm.MethodName)) ∈ lw_all := lw_g (lw_at lw_m6 66 rfl) rfl
theorem q1346 : (Jvm.Cond.privateMethod ({ cls := "ManyEyesModel", name := "lay", desc := "(I)V" } : Jvm.MethodName)) ∈ lw_tbl := lw_at lw_m6 67 rfl
theorem q1347 : (Jvm.Cond.instanceMethod ({ cls := "ManyEyesModel", name := "lay", desc := "(I)V" } : Jvm.MethodName)) ∈ lw_all := lw_g (lw_at lw_m6 68 rfl) rfl
theorem q1348 : (Jvm.Cond.code ({ cls := "ManyEyesModel", name := "lay", desc := "(I)V" } : Jvm.MethodName) prog_22_method_15_code (3 : Nat) (Option.none : Option Jvm.ClassFile.FieldType)) ∈ lw_all := lw_g (lw_at lw_m6 69 rfl) rfl
theorem q1349 : (Jvm.Cond.methodLink "ManyEyesModel" (103 : Nat) ({ cls := "ManyEyesModel", name := "shoot", desc := "(III)V" } : Jvm.MethodName)) ∈ lw_all := lw_g (lw_at lw_m6 70 rfl) rfl
theorem q1350 : (Jvm.Cond.privateMethod ({ cls := "ManyEyesModel", name := "shoot", desc := "(III)V" } : Jvm.MethodName)) ∈ lw_tbl := lw_at lw_m6 71 rfl
theorem q1351 : (Jvm.Cond.instanceMethod ({ cls := "ManyEyesModel", name := "shoot", desc := "(III)V" } : Jvm.MethodName)) ∈ lw_all := lw_g (lw_at lw_m6 72 rfl) rfl
theorem q1352 : (Jvm.Cond.code ({ cls := "ManyEyesModel", name := "shoot", desc := "(III)V" } : Jvm.MethodName) prog_22_method_18_code (7 : Nat) (Option.none : Option Jvm.ClassFile.FieldType)) ∈ lw_all := lw_g (lw_at lw_m6 73 rfl) rfl
theorem q1353 : (Jvm.Cond.methodLink "ManyEyesModel" (89 : Nat) ({ cls := "ManyEyesModel", name := "wayX", desc := "(I)I" } : Jvm.MethodName)) ∈ lw_all := lw_g (lw_at lw_m6 74 rfl) rfl
theorem q1354 : (Jvm.Cond.static ({ cls := "ManyEyesModel", name := "wayX", desc := "(I)I" } : Jvm.MethodName)) ∈ lw_all := lw_g (lw_at lw_m6 75 rfl) rfl
theorem q1355 : (Jvm.Cond.code ({ cls := "ManyEyesModel", name := "wayX", desc := "(I)I" } : Jvm.MethodName) prog_22_method_16_code (3 : Nat) (Option.some Jvm.ClassFile.FieldType.int)) ∈ lw_all := lw_g (lw_at lw_m6 76 rfl) rfl
theorem q1356 : (Jvm.Cond.methodLink "ManyEyesModel" (93 : Nat) ({ cls := "ManyEyesModel", name := "floor", desc := "(II)I" } : Jvm.MethodName)) ∈ lw_all := lw_g (lw_at lw_m6 77 rfl) rfl
theorem q1357 : (Jvm.Cond.static ({ cls := "ManyEyesModel", name := "floor", desc := "(II)I" } : Jvm.MethodName)) ∈ lw_all := lw_g (lw_at lw_m6 78 rfl) rfl
theorem q1358 : (Jvm.Cond.code ({ cls := "ManyEyesModel", name := "floor", desc := "(II)I" } : Jvm.MethodName) prog_22_method_9_code (2 : Nat) (Option.some Jvm.ClassFile.FieldType.int)) ∈ lw_all := lw_g (lw_at lw_m6 79 rfl) rfl
theorem q1359 : (Jvm.Cond.methodLink "ManyEyesModel" (96 : Nat) ({ cls := "ManyEyesModel", name := "wayY", desc := "(I)I" } : Jvm.MethodName)) ∈ lw_all := lw_g (lw_at lw_m6 80 rfl) rfl
theorem q1360 : (Jvm.Cond.static ({ cls := "ManyEyesModel", name := "wayY", desc := "(I)I" } : Jvm.MethodName)) ∈ lw_all := lw_g (lw_at lw_m6 81 rfl) rfl
theorem q1361 : (Jvm.Cond.code ({ cls := "ManyEyesModel", name := "wayY", desc := "(I)I" } : Jvm.MethodName) prog_22_method_17_code (3 : Nat) (Option.some Jvm.ClassFile.FieldType.int)) ∈ lw_all := lw_g (lw_at lw_m6 82 rfl) rfl
theorem q1363 : (Jvm.Cond.instanceMethod ({ cls := "ManyEyesModel", name := "lens", desc := "(II)I" } : Jvm.MethodName)) ∈ lw_all := lw_g (lw_at lw_m6 84 rfl) rfl
theorem q1364 : (Jvm.Cond.selects "ManyEyesModel" ({ cls := "ManyEyesModel", name := "lens", desc := "(II)I" } : Jvm.MethodName) ({ cls := "ManyEyesModel", name := "lens", desc := "(II)I" } : Jvm.MethodName)) ∈ lw_all := lw_g (lw_at lw_m6 85 rfl) rfl
theorem q1365 : (Jvm.Cond.code ({ cls := "ManyEyesModel", name := "lens", desc := "(II)I" } : Jvm.MethodName) prog_22_method_21_code (3 : Nat) (Option.some Jvm.ClassFile.FieldType.int)) ∈ lw_all := lw_g (lw_at lw_m6 86 rfl) rfl
theorem q1367 : (Jvm.Cond.instanceMethod ({ cls := "ManyEyesModel", name := "pair", desc := "(III)I" } : Jvm.MethodName)) ∈ lw_all := lw_g (lw_at lw_m6 88 rfl) rfl
theorem q1368 : (Jvm.Cond.selects "ManyEyesModel" ({ cls := "ManyEyesModel", name := "pair", desc := "(III)I" } : Jvm.MethodName) ({ cls := "ManyEyesModel", name := "pair", desc := "(III)I" } : Jvm.MethodName)) ∈ lw_all := lw_g (lw_at lw_m6 89 rfl) rfl
theorem q1369 : (Jvm.Cond.code ({ cls := "ManyEyesModel", name := "pair", desc := "(III)I" } : Jvm.MethodName) prog_22_method_23_code (5 : Nat) (Option.some Jvm.ClassFile.FieldType.int)) ∈ lw_all := lw_g (lw_at lw_m6 90 rfl) rfl
theorem q1370 : (Jvm.Cond.methodLink "ManyEyesModel" (114 : Nat) ({ cls := "ManyEyesModel", name := "isLens", desc := "(I)Z" } : Jvm.MethodName)) ∈ lw_all := lw_g (lw_at lw_m6 91 rfl) rfl
theorem q1371 : (Jvm.Cond.privateMethod ({ cls := "ManyEyesModel", name := "isLens", desc := "(I)Z" } : Jvm.MethodName)) ∈ lw_tbl := lw_at lw_m6 92 rfl
theorem q1372 : (Jvm.Cond.instanceMethod ({ cls := "ManyEyesModel", name := "isLens", desc := "(I)Z" } : Jvm.MethodName)) ∈ lw_all := lw_g (lw_at lw_m6 93 rfl) rfl
theorem q1373 : (Jvm.Cond.code ({ cls := "ManyEyesModel", name := "isLens", desc := "(I)Z" } : Jvm.MethodName) prog_22_method_22_code (2 : Nat) (Option.some Jvm.ClassFile.FieldType.boolean)) ∈ lw_all := lw_g (lw_at lw_m6 94 rfl) rfl
theorem q1375 : (Jvm.Cond.instanceMethod ({ cls := "ManyEyesModel", name := "take", desc := "(IIIII)I" } : Jvm.MethodName)) ∈ lw_all := lw_g (lw_at lw_m6 96 rfl) rfl
theorem q1376 : (Jvm.Cond.selects "ManyEyesModel" ({ cls := "ManyEyesModel", name := "take", desc := "(IIIII)I" } : Jvm.MethodName) ({ cls := "ManyEyesModel", name := "take", desc := "(IIIII)I" } : Jvm.MethodName)) ∈ lw_all := lw_g (lw_at lw_m6 97 rfl) rfl
theorem q1377 : (Jvm.Cond.code ({ cls := "ManyEyesModel", name := "take", desc := "(IIIII)I" } : Jvm.MethodName) prog_22_method_26_code (6 : Nat) (Option.some Jvm.ClassFile.FieldType.int)) ∈ lw_all := lw_g (lw_at lw_m6 98 rfl) rfl
theorem q1378 : (Jvm.Cond.methodLink "ManyEyesModel" (124 : Nat) ({ cls := "ManyEyesModel", name := "look", desc := "(III)V" } : Jvm.MethodName)) ∈ lw_all := lw_g (lw_at lw_m6 99 rfl) rfl
theorem q1379 : (Jvm.Cond.privateMethod ({ cls := "ManyEyesModel", name := "look", desc := "(III)V" } : Jvm.MethodName)) ∈ lw_tbl := lw_at lw_m6 100 rfl
theorem q1380 : (Jvm.Cond.instanceMethod ({ cls := "ManyEyesModel", name := "look", desc := "(III)V" } : Jvm.MethodName)) ∈ lw_all := lw_g (lw_at lw_m6 101 rfl) rfl
theorem q1381 : (Jvm.Cond.code ({ cls := "ManyEyesModel", name := "look", desc := "(III)V" } : Jvm.MethodName) prog_22_method_19_code (5 : Nat) (Option.none : Option Jvm.ClassFile.FieldType)) ∈ lw_all := lw_g (lw_at lw_m6 102 rfl) rfl
theorem q1382 : (Jvm.Cond.methodLink "ManyEyesModel" (127 : Nat) ({ cls := "ManyEyesModel", name := "lensTake", desc := "(II)I" } : Jvm.MethodName)) ∈ lw_all := lw_g (lw_at lw_m6 103 rfl) rfl
theorem q1383 : (Jvm.Cond.privateMethod ({ cls := "ManyEyesModel", name := "lensTake", desc := "(II)I" } : Jvm.MethodName)) ∈ lw_tbl := lw_at lw_m6 104 rfl
theorem q1384 : (Jvm.Cond.instanceMethod ({ cls := "ManyEyesModel", name := "lensTake", desc := "(II)I" } : Jvm.MethodName)) ∈ lw_all := lw_g (lw_at lw_m6 105 rfl) rfl
theorem q1385 : (Jvm.Cond.code ({ cls := "ManyEyesModel", name := "lensTake", desc := "(II)I" } : Jvm.MethodName) prog_22_method_25_code (3 : Nat) (Option.some Jvm.ClassFile.FieldType.int)) ∈ lw_all := lw_g (lw_at lw_m6 106 rfl) rfl
theorem q1386 : (Jvm.Cond.methodLink "ManyEyesModel" (120 : Nat) ({ cls := "ManyEyesModel", name := "takeOf", desc := "(III)I" } : Jvm.MethodName)) ∈ lw_all := lw_g (lw_at lw_m6 107 rfl) rfl
theorem q1387 : (Jvm.Cond.privateMethod ({ cls := "ManyEyesModel", name := "takeOf", desc := "(III)I" } : Jvm.MethodName)) ∈ lw_tbl := lw_at lw_m6 108 rfl
theorem q1388 : (Jvm.Cond.instanceMethod ({ cls := "ManyEyesModel", name := "takeOf", desc := "(III)I" } : Jvm.MethodName)) ∈ lw_all := lw_g (lw_at lw_m6 109 rfl) rfl
theorem q1389 : (Jvm.Cond.code ({ cls := "ManyEyesModel", name := "takeOf", desc := "(III)I" } : Jvm.MethodName) prog_22_method_24_code (6 : Nat) (Option.some Jvm.ClassFile.FieldType.int)) ∈ lw_all := lw_g (lw_at lw_m6 110 rfl) rfl
theorem q1390 : (Jvm.Cond.methodLink "ManyEyesModel" (117 : Nat) ({ cls := "ManyEyesModel", name := "abs", desc := "(I)I" } : Jvm.MethodName)) ∈ lw_all := lw_g (lw_at lw_m6 111 rfl) rfl
theorem q1391 : (Jvm.Cond.static ({ cls := "ManyEyesModel", name := "abs", desc := "(I)I" } : Jvm.MethodName)) ∈ lw_all := lw_g (lw_at lw_m6 112 rfl) rfl
theorem q1392 : (Jvm.Cond.code ({ cls := "ManyEyesModel", name := "abs", desc := "(I)I" } : Jvm.MethodName) prog_22_method_8_code (1 : Nat) (Option.some Jvm.ClassFile.FieldType.int)) ∈ lw_all := lw_g (lw_at lw_m6 113 rfl) rfl
theorem q1394 : (Jvm.Cond.instanceMethod ({ cls := "ManyEyesModel", name := "covered", desc := "(I)I" } : Jvm.MethodName)) ∈ lw_all := lw_g (lw_at lw_m6 115 rfl) rfl
theorem q1395 : (Jvm.Cond.selects "ManyEyesModel" ({ cls := "ManyEyesModel", name := "covered", desc := "(I)I" } : Jvm.MethodName) ({ cls := "ManyEyesModel", name := "covered", desc := "(I)I" } : Jvm.MethodName)) ∈ lw_all := lw_g (lw_at lw_m6 116 rfl) rfl
theorem q1396 : (Jvm.Cond.code ({ cls := "ManyEyesModel", name := "covered", desc := "(I)I" } : Jvm.MethodName) prog_22_method_29_code (4 : Nat) (Option.some Jvm.ClassFile.FieldType.int)) ∈ lw_all := lw_g (lw_at lw_m6 117 rfl) rfl
theorem q1397 : (Jvm.Cond.methodLink "ManyEyesModel" (133 : Nat) ({ cls := "ManyEyesModel", name := "coverOf", desc := "(I)I" } : Jvm.MethodName)) ∈ lw_all := lw_g (lw_at lw_m6 118 rfl) rfl
theorem q1398 : (Jvm.Cond.privateMethod ({ cls := "ManyEyesModel", name := "coverOf", desc := "(I)I" } : Jvm.MethodName)) ∈ lw_tbl := lw_at lw_m6 119 rfl
theorem q1399 : (Jvm.Cond.instanceMethod ({ cls := "ManyEyesModel", name := "coverOf", desc := "(I)I" } : Jvm.MethodName)) ∈ lw_all := lw_g (lw_at lw_m6 120 rfl) rfl
theorem q1400 : (Jvm.Cond.code ({ cls := "ManyEyesModel", name := "coverOf", desc := "(I)I" } : Jvm.MethodName) prog_22_method_28_code (4 : Nat) (Option.some Jvm.ClassFile.FieldType.int)) ∈ lw_all := lw_g (lw_at lw_m6 121 rfl) rfl
theorem q1401 : (Jvm.Cond.methodLink "ManyEyesModel" (130 : Nat) ({ cls := "ManyEyesModel", name := "apart", desc := "(II)I" } : Jvm.MethodName)) ∈ lw_all := lw_g (lw_at lw_m6 122 rfl) rfl
theorem q1402 : (Jvm.Cond.privateMethod ({ cls := "ManyEyesModel", name := "apart", desc := "(II)I" } : Jvm.MethodName)) ∈ lw_tbl := lw_at lw_m6 123 rfl
theorem q1403 : (Jvm.Cond.instanceMethod ({ cls := "ManyEyesModel", name := "apart", desc := "(II)I" } : Jvm.MethodName)) ∈ lw_all := lw_g (lw_at lw_m6 124 rfl) rfl
theorem q1404 : (Jvm.Cond.code ({ cls := "ManyEyesModel", name := "apart", desc := "(II)I" } : Jvm.MethodName) prog_22_method_27_code (4 : Nat) (Option.some Jvm.ClassFile.FieldType.int)) ∈ lw_all := lw_g (lw_at lw_m6 125 rfl) rfl
theorem q1406 : (Jvm.Cond.instanceMethod ({ cls := "ManyEyesModel", name := "ends", desc := "(IIIIZ)I" } : Jvm.MethodName)) ∈ lw_all := lw_g (lw_at lw_m6 127 rfl) rfl
theorem q1407 : (Jvm.Cond.selects "ManyEyesModel" ({ cls := "ManyEyesModel", name := "ends", desc := "(IIIIZ)I" } : Jvm.MethodName) ({ cls := "ManyEyesModel", name := "ends", desc := "(IIIIZ)I" } : Jvm.MethodName)) ∈ lw_all := lw_g (lw_at lw_m6 128 rfl) rfl
theorem q1408 : (Jvm.Cond.code ({ cls := "ManyEyesModel", name := "ends", desc := "(IIIIZ)I" } : Jvm.MethodName) prog_22_method_30_code (15 : Nat) (Option.some Jvm.ClassFile.FieldType.int)) ∈ lw_all := lw_g (lw_at lw_m6 129 rfl) rfl
theorem q1410 : (Jvm.Cond.instanceMethod ({ cls := "ManyEyesModel", name := "width", desc := "(IIIII)I" } : Jvm.MethodName)) ∈ lw_all := lw_g (lw_at lw_m6 131 rfl) rfl
theorem q1411 : (Jvm.Cond.selects "ManyEyesModel" ({ cls := "ManyEyesModel", name := "width", desc := "(IIIII)I" } : Jvm.MethodName) ({ cls := "ManyEyesModel", name := "width", desc := "(IIIII)I" } : Jvm.MethodName)) ∈ lw_all := lw_g (lw_at lw_m6 132 rfl) rfl
theorem q1412 : (Jvm.Cond.code ({ cls := "ManyEyesModel", name := "width", desc := "(IIIII)I" } : Jvm.MethodName) prog_22_method_31_code (10 : Nat) (Option.some Jvm.ClassFile.FieldType.int)) ∈ lw_all := lw_g (lw_at lw_m6 133 rfl) rfl
theorem q1414 : (Jvm.Cond.instanceMethod ({ cls := "ManyEyesModel", name := "same", desc := "(IIIIII)I" } : Jvm.MethodName)) ∈ lw_all := lw_g (lw_at lw_m6 135 rfl) rfl
theorem q1415 : (Jvm.Cond.selects "ManyEyesModel" ({ cls := "ManyEyesModel", name := "same", desc := "(IIIIII)I" } : Jvm.MethodName) ({ cls := "ManyEyesModel", name := "same", desc := "(IIIIII)I" } : Jvm.MethodName)) ∈ lw_all := lw_g (lw_at lw_m6 136 rfl) rfl
theorem q1416 : (Jvm.Cond.code ({ cls := "ManyEyesModel", name := "same", desc := "(IIIIII)I" } : Jvm.MethodName) prog_22_method_32_code (12 : Nat) (Option.some Jvm.ClassFile.FieldType.int)) ∈ lw_all := lw_g (lw_at lw_m6 137 rfl) rfl
theorem q1418 : (Jvm.Cond.instanceMethod ({ cls := "ManyEyesModel", name := "feed", desc := "(IIIII)I" } : Jvm.MethodName)) ∈ lw_all := lw_g (lw_at lw_m6 139 rfl) rfl
theorem q1419 : (Jvm.Cond.selects "ManyEyesModel" ({ cls := "ManyEyesModel", name := "feed", desc := "(IIIII)I" } : Jvm.MethodName) ({ cls := "ManyEyesModel", name := "feed", desc := "(IIIII)I" } : Jvm.MethodName)) ∈ lw_all := lw_g (lw_at lw_m6 140 rfl) rfl
theorem q1420 : (Jvm.Cond.code ({ cls := "ManyEyesModel", name := "feed", desc := "(IIIII)I" } : Jvm.MethodName) prog_22_method_34_code (6 : Nat) (Option.some Jvm.ClassFile.FieldType.int)) ∈ lw_all := lw_g (lw_at lw_m6 141 rfl) rfl
theorem q1421 : (Jvm.Cond.methodLink "ManyEyesModel" (139 : Nat) ({ cls := "ManyEyesModel", name := "four", desc := "(I)V" } : Jvm.MethodName)) ∈ lw_all := lw_g (lw_at lw_m6 142 rfl) rfl
theorem q1422 : (Jvm.Cond.privateMethod ({ cls := "ManyEyesModel", name := "four", desc := "(I)V" } : Jvm.MethodName)) ∈ lw_tbl := lw_at lw_m6 143 rfl
theorem q1423 : (Jvm.Cond.instanceMethod ({ cls := "ManyEyesModel", name := "four", desc := "(I)V" } : Jvm.MethodName)) ∈ lw_all := lw_g (lw_at lw_m6 144 rfl) rfl
theorem q1424 : (Jvm.Cond.code ({ cls := "ManyEyesModel", name := "four", desc := "(I)V" } : Jvm.MethodName) prog_22_method_33_code (3 : Nat) (Option.none : Option Jvm.ClassFile.FieldType)) ∈ lw_all := lw_g (lw_at lw_m6 145 rfl) rfl
theorem q1426 : (Jvm.Cond.instanceMethod ({ cls := "ManyEyesModel", name := "end", desc := "(I)I" } : Jvm.MethodName)) ∈ lw_all := lw_g (lw_at lw_m6 147 rfl) rfl
theorem q1427 : (Jvm.Cond.selects "ManyEyesModel" ({ cls := "ManyEyesModel", name := "end", desc := "(I)I" } : Jvm.MethodName) ({ cls := "ManyEyesModel", name := "end", desc := "(I)I" } : Jvm.MethodName)) ∈ lw_all := lw_g (lw_at lw_m6 148 rfl) rfl
theorem q1428 : (Jvm.Cond.code ({ cls := "ManyEyesModel", name := "end", desc := "(I)I" } : Jvm.MethodName) prog_22_method_35_code (2 : Nat) (Option.some Jvm.ClassFile.FieldType.int)) ∈ lw_all := lw_g (lw_at lw_m6 149 rfl) rfl
theorem q1430 : (Jvm.Cond.instanceMethod ({ cls := "ManyEyesModel", name := "rule", desc := "()I" } : Jvm.MethodName)) ∈ lw_all := lw_g (lw_at lw_m6 151 rfl) rfl
theorem q1431 : (Jvm.Cond.selects "ManyEyesModel" ({ cls := "ManyEyesModel", name := "rule", desc := "()I" } : Jvm.MethodName) ({ cls := "ManyEyesModel", name := "rule", desc := "()I" } : Jvm.MethodName)) ∈ lw_all := lw_g (lw_at lw_m6 152 rfl) rfl
theorem q1432 : (Jvm.Cond.code ({ cls := "ManyEyesModel", name := "rule", desc := "()I" } : Jvm.MethodName) prog_22_method_62_code (1 : Nat) (Option.some Jvm.ClassFile.FieldType.int)) ∈ lw_all := lw_g (lw_at lw_m6 153 rfl) rfl
theorem q1433 : (Jvm.Cond.methodLink "ManyEyesModel" (271 : Nat) ({ cls := "ManyEyesModel", name := "readText", desc := "()I" } : Jvm.MethodName)) ∈ lw_all := lw_g (lw_at lw_m6 154 rfl) rfl
theorem q1434 : (Jvm.Cond.privateMethod ({ cls := "ManyEyesModel", name := "readText", desc := "()I" } : Jvm.MethodName)) ∈ lw_tbl := lw_at lw_m6 155 rfl
theorem q1435 : (Jvm.Cond.instanceMethod ({ cls := "ManyEyesModel", name := "readText", desc := "()I" } : Jvm.MethodName)) ∈ lw_all := lw_g (lw_at lw_m6 156 rfl) rfl
theorem q1436 : (Jvm.Cond.code ({ cls := "ManyEyesModel", name := "readText", desc := "()I" } : Jvm.MethodName) prog_22_method_61_code (2 : Nat) (Option.some Jvm.ClassFile.FieldType.int)) ∈ lw_all := lw_g (lw_at lw_m6 157 rfl) rfl
theorem q1437 : (Jvm.Cond.methodLink "ManyEyesModel" (200 : Nat) ({ cls := "ManyEyesModel", name := "nextToken", desc := "()V" } : Jvm.MethodName)) ∈ lw_all := lw_g (lw_at lw_m6 158 rfl) rfl
theorem q1438 : (Jvm.Cond.privateMethod ({ cls := "ManyEyesModel", name := "nextToken", desc := "()V" } : Jvm.MethodName)) ∈ lw_tbl := lw_at lw_m6 159 rfl
theorem q1439 : (Jvm.Cond.instanceMethod ({ cls := "ManyEyesModel", name := "nextToken", desc := "()V" } : Jvm.MethodName)) ∈ lw_all := lw_g (lw_at lw_m6 160 rfl) rfl
theorem q1440 : (Jvm.Cond.code ({ cls := "ManyEyesModel", name := "nextToken", desc := "()V" } : Jvm.MethodName) prog_22_method_39_code (3 : Nat) (Option.none : Option Jvm.ClassFile.FieldType)) ∈ lw_all := lw_g (lw_at lw_m6 161 rfl) rfl
theorem q1441 : (Jvm.Cond.methodLink "ManyEyesModel" (145 : Nat) ({ cls := "ManyEyesModel", name := "see", desc := "(I)I" } : Jvm.MethodName)) ∈ lw_all := lw_g (lw_at lw_m6 162 rfl) rfl
theorem q1442 : (Jvm.Cond.privateMethod ({ cls := "ManyEyesModel", name := "see", desc := "(I)I" } : Jvm.MethodName)) ∈ lw_tbl := lw_at lw_m6 163 rfl
theorem q1443 : (Jvm.Cond.instanceMethod ({ cls := "ManyEyesModel", name := "see", desc := "(I)I" } : Jvm.MethodName)) ∈ lw_all := lw_g (lw_at lw_m6 164 rfl) rfl
theorem q1444 : (Jvm.Cond.code ({ cls := "ManyEyesModel", name := "see", desc := "(I)I" } : Jvm.MethodName) prog_22_method_36_code (2 : Nat) (Option.some Jvm.ClassFile.FieldType.int)) ∈ lw_all := lw_g (lw_at lw_m6 165 rfl) rfl
theorem q1445 : (Jvm.Cond.methodLink "ManyEyesModel" (154 : Nat) ({ cls := "ManyEyesModel", name := "isDigit", desc := "(I)Z" } : Jvm.MethodName)) ∈ lw_all := lw_g (lw_at lw_m6 166 rfl) rfl
theorem q1446 : (Jvm.Cond.static ({ cls := "ManyEyesModel", name := "isDigit", desc := "(I)Z" } : Jvm.MethodName)) ∈ lw_all := lw_g (lw_at lw_m6 167 rfl) rfl
theorem q1447 : (Jvm.Cond.code ({ cls := "ManyEyesModel", name := "isDigit", desc := "(I)Z" } : Jvm.MethodName) prog_22_method_38_code (1 : Nat) (Option.some Jvm.ClassFile.FieldType.boolean)) ∈ lw_all := lw_g (lw_at lw_m6 168 rfl) rfl
theorem q1448 : (Jvm.Cond.constant "ManyEyesModel" (160 : Nat) (100000 : Int32)) ∈ lw_all := lw_g (lw_at lw_m6 169 rfl) rfl
theorem q1449 : (Jvm.Cond.methodLink "ManyEyesModel" (161 : Nat) ({ cls := "ManyEyesModel", name := "isLetter", desc := "(I)Z" } : Jvm.MethodName)) ∈ lw_all := lw_g (lw_at lw_m6 170 rfl) rfl
theorem q1450 : (Jvm.Cond.static ({ cls := "ManyEyesModel", name := "isLetter", desc := "(I)Z" } : Jvm.MethodName)) ∈ lw_all := lw_g (lw_at lw_m6 171 rfl) rfl
theorem q1451 : (Jvm.Cond.code ({ cls := "ManyEyesModel", name := "isLetter", desc := "(I)Z" } : Jvm.MethodName) prog_22_method_37_code (1 : Nat) (Option.some Jvm.ClassFile.FieldType.boolean)) ∈ lw_all := lw_g (lw_at lw_m6 172 rfl) rfl
theorem q1452 : (Jvm.Cond.methodLink "ManyEyesModel" (268 : Nat) ({ cls := "ManyEyesModel", name := "clause", desc := "()I" } : Jvm.MethodName)) ∈ lw_all := lw_g (lw_at lw_m6 173 rfl) rfl
theorem q1453 : (Jvm.Cond.privateMethod ({ cls := "ManyEyesModel", name := "clause", desc := "()I" } : Jvm.MethodName)) ∈ lw_tbl := lw_at lw_m6 174 rfl
theorem q1454 : (Jvm.Cond.instanceMethod ({ cls := "ManyEyesModel", name := "clause", desc := "()I" } : Jvm.MethodName)) ∈ lw_all := lw_g (lw_at lw_m6 175 rfl) rfl
theorem q1455 : (Jvm.Cond.code ({ cls := "ManyEyesModel", name := "clause", desc := "()I" } : Jvm.MethodName) prog_22_method_60_code (5 : Nat) (Option.some Jvm.ClassFile.FieldType.int)) ∈ lw_all := lw_g (lw_at lw_m6 176 rfl) rfl
theorem q1456 : (Jvm.Cond.methodLink "ManyEyesModel" (256 : Nat) ({ cls := "ManyEyesModel", name := "sortOf", desc := "()I" } : Jvm.MethodName)) ∈ lw_all := lw_g (lw_at lw_m6 177 rfl) rfl
theorem q1457 : (Jvm.Cond.privateMethod ({ cls := "ManyEyesModel", name := "sortOf", desc := "()I" } : Jvm.MethodName)) ∈ lw_tbl := lw_at lw_m6 178 rfl
theorem q1458 : (Jvm.Cond.instanceMethod ({ cls := "ManyEyesModel", name := "sortOf", desc := "()I" } : Jvm.MethodName)) ∈ lw_all := lw_g (lw_at lw_m6 179 rfl) rfl
theorem q1459 : (Jvm.Cond.code ({ cls := "ManyEyesModel", name := "sortOf", desc := "()I" } : Jvm.MethodName) prog_22_method_59_code (1 : Nat) (Option.some Jvm.ClassFile.FieldType.int)) ∈ lw_all := lw_g (lw_at lw_m6 180 rfl) rfl
theorem q1460 : (Jvm.Cond.methodLink "ManyEyesModel" (168 : Nat) ({ cls := "ManyEyesModel", name := "w3", desc := "(III)J" } : Jvm.MethodName)) ∈ lw_all := lw_g (lw_at lw_m6 181 rfl) rfl
theorem q1461 : (Jvm.Cond.static ({ cls := "ManyEyesModel", name := "w3", desc := "(III)J" } : Jvm.MethodName)) ∈ lw_all := lw_g (lw_at lw_m6 182 rfl) rfl
theorem q1462 : (Jvm.Cond.code ({ cls := "ManyEyesModel", name := "w3", desc := "(III)J" } : Jvm.MethodName) prog_22_method_40_code (3 : Nat) (Option.some Jvm.ClassFile.FieldType.long)) ∈ lw_all := lw_g (lw_at lw_m6 183 rfl) rfl
theorem q1463 : (Jvm.Cond.methodLink "ManyEyesModel" (213 : Nat) ({ cls := "ManyEyesModel", name := "w4", desc := "(IIII)J" } : Jvm.MethodName)) ∈ lw_all := lw_g (lw_at lw_m6 184 rfl) rfl
theorem q1464 : (Jvm.Cond.static ({ cls := "ManyEyesModel", name := "w4", desc := "(IIII)J" } : Jvm.MethodName)) ∈ lw_all := lw_g (lw_at lw_m6 185 rfl) rfl
theorem q1465 : (Jvm.Cond.code ({ cls := "ManyEyesModel", name := "w4", desc := "(IIII)J" } : Jvm.MethodName) prog_22_method_42_code (4 : Nat) (Option.some Jvm.ClassFile.FieldType.long)) ∈ lw_all := lw_g (lw_at lw_m6 186 rfl) rfl
theorem q1466 : (Jvm.Cond.constantLong "ManyEyesModel" (254 : Nat) (26479 : Int64)) ∈ lw_all := lw_g (lw_at lw_m6 187 rfl) rfl
theorem q1467 : (Jvm.Cond.methodLink "ManyEyesModel" (206 : Nat) ({ cls := "ManyEyesModel", name := "letterOf", desc := "()I" } : Jvm.MethodName)) ∈ lw_all := lw_g (lw_at lw_m6 188 rfl) rfl
theorem q1468 : (Jvm.Cond.privateMethod ({ cls := "ManyEyesModel", name := "letterOf", desc := "()I" } : Jvm.MethodName)) ∈ lw_tbl := lw_at lw_m6 189 rfl
theorem q1469 : (Jvm.Cond.instanceMethod ({ cls := "ManyEyesModel", name := "letterOf", desc := "()I" } : Jvm.MethodName)) ∈ lw_all := lw_g (lw_at lw_m6 190 rfl) rfl
theorem q1470 : (Jvm.Cond.code ({ cls := "ManyEyesModel", name := "letterOf", desc := "()I" } : Jvm.MethodName) prog_22_method_49_code (1 : Nat) (Option.some Jvm.ClassFile.FieldType.int)) ∈ lw_all := lw_g (lw_at lw_m6 191 rfl) rfl
theorem q1471 : (Jvm.Cond.constantLong "ManyEyesModel" (196 : Nat) (65 : Int64)) ∈ lw_all := lw_g (lw_at lw_m6 192 rfl) rfl
theorem q1472 : (Jvm.Cond.constantLong "ManyEyesModel" (198 : Nat) (72 : Int64)) ∈ lw_all := lw_g (lw_at lw_m6 193 rfl) rfl
theorem q1473 : (Jvm.Cond.methodLink "ManyEyesModel" (265 : Nat) ({ cls := "ManyEyesModel", name := "either", desc := "()I" } : Jvm.MethodName)) ∈ lw_all := lw_g (lw_at lw_m6 194 rfl) rfl
theorem q1474 : (Jvm.Cond.privateMethod ({ cls := "ManyEyesModel", name := "either", desc := "()I" } : Jvm.MethodName)) ∈ lw_tbl := lw_at lw_m6 195 rfl
theorem q1475 : (Jvm.Cond.instanceMethod ({ cls := "ManyEyesModel", name := "either", desc := "()I" } : Jvm.MethodName)) ∈ lw_all := lw_g (lw_at lw_m6 196 rfl) rfl
theorem q1476 : (Jvm.Cond.code ({ cls := "ManyEyesModel", name := "either", desc := "()I" } : Jvm.MethodName) prog_22_method_58_code (6 : Nat) (Option.some Jvm.ClassFile.FieldType.int)) ∈ lw_all := lw_g (lw_at lw_m6 197 rfl) rfl
theorem q1477 : (Jvm.Cond.methodLink "ManyEyesModel" (249 : Nat) ({ cls := "ManyEyesModel", name := "ask", desc := "()I" } : Jvm.MethodName)) ∈ lw_all := lw_g (lw_at lw_m6 198 rfl) rfl
theorem q1478 : (Jvm.Cond.privateMethod ({ cls := "ManyEyesModel", name := "ask", desc := "()I" } : Jvm.MethodName)) ∈ lw_tbl := lw_at lw_m6 199 rfl
theorem q1479 : (Jvm.Cond.instanceMethod ({ cls := "ManyEyesModel", name := "ask", desc := "()I" } : Jvm.MethodName)) ∈ lw_all := lw_g (lw_at lw_m6 200 rfl) rfl
theorem q1480 : (Jvm.Cond.code ({ cls := "ManyEyesModel", name := "ask", desc := "()I" } : Jvm.MethodName) prog_22_method_57_code (5 : Nat) (Option.some Jvm.ClassFile.FieldType.int)) ∈ lw_all := lw_g (lw_at lw_m6 201 rfl) rfl
theorem q1481 : (Jvm.Cond.methodLink "ManyEyesModel" (217 : Nat) ({ cls := "ManyEyesModel", name := "isWord", desc := "(J)Z" } : Jvm.MethodName)) ∈ lw_all := lw_g (lw_at lw_m6 202 rfl) rfl
theorem q1482 : (Jvm.Cond.privateMethod ({ cls := "ManyEyesModel", name := "isWord", desc := "(J)Z" } : Jvm.MethodName)) ∈ lw_tbl := lw_at lw_m6 203 rfl
theorem q1483 : (Jvm.Cond.instanceMethod ({ cls := "ManyEyesModel", name := "isWord", desc := "(J)Z" } : Jvm.MethodName)) ∈ lw_all := lw_g (lw_at lw_m6 204 rfl) rfl
theorem q1484 : (Jvm.Cond.code ({ cls := "ManyEyesModel", name := "isWord", desc := "(J)Z" } : Jvm.MethodName) prog_22_method_44_code (3 : Nat) (Option.some Jvm.ClassFile.FieldType.boolean)) ∈ lw_all := lw_g (lw_at lw_m6 205 rfl) rfl
theorem q1485 : (Jvm.Cond.methodLink "ManyEyesModel" (243 : Nat) ({ cls := "ManyEyesModel", name := "summed", desc := "()I" } : Jvm.MethodName)) ∈ lw_all := lw_g (lw_at lw_m6 206 rfl) rfl
theorem q1486 : (Jvm.Cond.privateMethod ({ cls := "ManyEyesModel", name := "summed", desc := "()I" } : Jvm.MethodName)) ∈ lw_tbl := lw_at lw_m6 207 rfl
theorem q1487 : (Jvm.Cond.instanceMethod ({ cls := "ManyEyesModel", name := "summed", desc := "()I" } : Jvm.MethodName)) ∈ lw_all := lw_g (lw_at lw_m6 208 rfl) rfl
theorem q1488 : (Jvm.Cond.code ({ cls := "ManyEyesModel", name := "summed", desc := "()I" } : Jvm.MethodName) prog_22_method_55_code (2 : Nat) (Option.some Jvm.ClassFile.FieldType.int)) ∈ lw_all := lw_g (lw_at lw_m6 209 rfl) rfl
theorem q1489 : (Jvm.Cond.methodLink "ManyEyesModel" (234 : Nat) ({ cls := "ManyEyesModel", name := "goesOn", desc := "()Z" } : Jvm.MethodName)) ∈ lw_all := lw_g (lw_at lw_m6 210 rfl) rfl
theorem q1490 : (Jvm.Cond.privateMethod ({ cls := "ManyEyesModel", name := "goesOn", desc := "()Z" } : Jvm.MethodName)) ∈ lw_tbl := lw_at lw_m6 211 rfl
theorem q1491 : (Jvm.Cond.instanceMethod ({ cls := "ManyEyesModel", name := "goesOn", desc := "()Z" } : Jvm.MethodName)) ∈ lw_all := lw_g (lw_at lw_m6 212 rfl) rfl
theorem q1492 : (Jvm.Cond.code ({ cls := "ManyEyesModel", name := "goesOn", desc := "()Z" } : Jvm.MethodName) prog_22_method_53_code (1 : Nat) (Option.some Jvm.ClassFile.FieldType.boolean)) ∈ lw_all := lw_g (lw_at lw_m6 213 rfl) rfl
theorem q1493 : (Jvm.Cond.methodLink "ManyEyesModel" (227 : Nat) ({ cls := "ManyEyesModel", name := "hasParen", desc := "()Z" } : Jvm.MethodName)) ∈ lw_all := lw_g (lw_at lw_m6 214 rfl) rfl
theorem q1494 : (Jvm.Cond.privateMethod ({ cls := "ManyEyesModel", name := "hasParen", desc := "()Z" } : Jvm.MethodName)) ∈ lw_tbl := lw_at lw_m6 215 rfl
theorem q1495 : (Jvm.Cond.instanceMethod ({ cls := "ManyEyesModel", name := "hasParen", desc := "()Z" } : Jvm.MethodName)) ∈ lw_all := lw_g (lw_at lw_m6 216 rfl) rfl
theorem q1496 : (Jvm.Cond.code ({ cls := "ManyEyesModel", name := "hasParen", desc := "()Z" } : Jvm.MethodName) prog_22_method_52_code (2 : Nat) (Option.some Jvm.ClassFile.FieldType.boolean)) ∈ lw_all := lw_g (lw_at lw_m6 217 rfl) rfl
theorem q1497 : (Jvm.Cond.methodLink "ManyEyesModel" (237 : Nat) ({ cls := "ManyEyesModel", name := "behindOne", desc := "()I" } : Jvm.MethodName)) ∈ lw_all := lw_g (lw_at lw_m6 218 rfl) rfl
theorem q1498 : (Jvm.Cond.privateMethod ({ cls := "ManyEyesModel", name := "behindOne", desc := "()I" } : Jvm.MethodName)) ∈ lw_tbl := lw_at lw_m6 219 rfl
theorem q1499 : (Jvm.Cond.instanceMethod ({ cls := "ManyEyesModel", name := "behindOne", desc := "()I" } : Jvm.MethodName)) ∈ lw_all := lw_g (lw_at lw_m6 220 rfl) rfl
theorem q1500 : (Jvm.Cond.code ({ cls := "ManyEyesModel", name := "behindOne", desc := "()I" } : Jvm.MethodName) prog_22_method_54_code (3 : Nat) (Option.some Jvm.ClassFile.FieldType.int)) ∈ lw_all := lw_g (lw_at lw_m6 221 rfl) rfl
theorem q1501 : (Jvm.Cond.methodLink "ManyEyesModel" (231 : Nat) ({ cls := "ManyEyesModel", name := "settle", desc := "(I)V" } : Jvm.MethodName)) ∈ lw_all := lw_g (lw_at lw_m6 222 rfl) rfl
theorem q1502 : (Jvm.Cond.privateMethod ({ cls := "ManyEyesModel", name := "settle", desc := "(I)V" } : Jvm.MethodName)) ∈ lw_tbl := lw_at lw_m6 223 rfl
theorem q1503 : (Jvm.Cond.instanceMethod ({ cls := "ManyEyesModel", name := "settle", desc := "(I)V" } : Jvm.MethodName)) ∈ lw_all := lw_g (lw_at lw_m6 224 rfl) rfl
theorem q1504 : (Jvm.Cond.code ({ cls := "ManyEyesModel", name := "settle", desc := "(I)V" } : Jvm.MethodName) prog_22_method_48_code (2 : Nat) (Option.none : Option Jvm.ClassFile.FieldType)) ∈ lw_all := lw_g (lw_at lw_m6 225 rfl) rfl
theorem q1505 : (Jvm.Cond.methodLink "ManyEyesModel" (192 : Nat) ({ cls := "ManyEyesModel", name := "emit", desc := "(II)V" } : Jvm.MethodName)) ∈ lw_all := lw_g (lw_at lw_m6 226 rfl) rfl
theorem q1506 : (Jvm.Cond.privateMethod ({ cls := "ManyEyesModel", name := "emit", desc := "(II)V" } : Jvm.MethodName)) ∈ lw_tbl := lw_at lw_m6 227 rfl
theorem q1507 : (Jvm.Cond.instanceMethod ({ cls := "ManyEyesModel", name := "emit", desc := "(II)V" } : Jvm.MethodName)) ∈ lw_all := lw_g (lw_at lw_m6 228 rfl) rfl
theorem q1508 : (Jvm.Cond.code ({ cls := "ManyEyesModel", name := "emit", desc := "(II)V" } : Jvm.MethodName) prog_22_method_45_code (3 : Nat) (Option.none : Option Jvm.ClassFile.FieldType)) ∈ lw_all := lw_g (lw_at lw_m6 229 rfl) rfl
theorem q1509 : (Jvm.Cond.methodLink "ManyEyesModel" (224 : Nat) ({ cls := "ManyEyesModel", name := "push", desc := "(I)V" } : Jvm.MethodName)) ∈ lw_all := lw_g (lw_at lw_m6 230 rfl) rfl
theorem q1510 : (Jvm.Cond.privateMethod ({ cls := "ManyEyesModel", name := "push", desc := "(I)V" } : Jvm.MethodName)) ∈ lw_tbl := lw_at lw_m6 231 rfl
theorem q1511 : (Jvm.Cond.instanceMethod ({ cls := "ManyEyesModel", name := "push", desc := "(I)V" } : Jvm.MethodName)) ∈ lw_all := lw_g (lw_at lw_m6 232 rfl) rfl
theorem q1512 : (Jvm.Cond.code ({ cls := "ManyEyesModel", name := "push", desc := "(I)V" } : Jvm.MethodName) prog_22_method_46_code (2 : Nat) (Option.none : Option Jvm.ClassFile.FieldType)) ∈ lw_all := lw_g (lw_at lw_m6 233 rfl) rfl
theorem q1513 : (Jvm.Cond.methodLink "ManyEyesModel" (203 : Nat) ({ cls := "ManyEyesModel", name := "whole", desc := "()V" } : Jvm.MethodName)) ∈ lw_all := lw_g (lw_at lw_m6 234 rfl) rfl
theorem q1514 : (Jvm.Cond.privateMethod ({ cls := "ManyEyesModel", name := "whole", desc := "()V" } : Jvm.MethodName)) ∈ lw_tbl := lw_at lw_m6 235 rfl
theorem q1515 : (Jvm.Cond.instanceMethod ({ cls := "ManyEyesModel", name := "whole", desc := "()V" } : Jvm.MethodName)) ∈ lw_all := lw_g (lw_at lw_m6 236 rfl) rfl
theorem q1516 : (Jvm.Cond.code ({ cls := "ManyEyesModel", name := "whole", desc := "()V" } : Jvm.MethodName) prog_22_method_47_code (1 : Nat) (Option.none : Option Jvm.ClassFile.FieldType)) ∈ lw_all := lw_g (lw_at lw_m6 237 rfl) rfl
theorem q1517 : (Jvm.Cond.methodLink "ManyEyesModel" (240 : Nat) ({ cls := "ManyEyesModel", name := "beginOne", desc := "()I" } : Jvm.MethodName)) ∈ lw_all := lw_g (lw_at lw_m6 238 rfl) rfl
theorem q1518 : (Jvm.Cond.privateMethod ({ cls := "ManyEyesModel", name := "beginOne", desc := "()I" } : Jvm.MethodName)) ∈ lw_tbl := lw_at lw_m6 239 rfl
theorem q1519 : (Jvm.Cond.instanceMethod ({ cls := "ManyEyesModel", name := "beginOne", desc := "()I" } : Jvm.MethodName)) ∈ lw_all := lw_g (lw_at lw_m7 0 rfl) rfl
theorem q1520 : (Jvm.Cond.code ({ cls := "ManyEyesModel", name := "beginOne", desc := "()I" } : Jvm.MethodName) prog_22_method_51_code (2 : Nat) (Option.some Jvm.ClassFile.FieldType.int)) ∈ lw_all := lw_g (lw_at lw_m7 1 rfl) rfl
theorem q1521 : (Jvm.Cond.methodLink "ManyEyesModel" (221 : Nat) ({ cls := "ManyEyesModel", name := "eye", desc := "(I)I" } : Jvm.MethodName)) ∈ lw_all := lw_g (lw_at lw_m7 2 rfl) rfl
theorem q1522 : (Jvm.Cond.privateMethod ({ cls := "ManyEyesModel", name := "eye", desc := "(I)I" } : Jvm.MethodName)) ∈ lw_tbl := lw_at lw_m7 3 rfl
theorem q1523 : (Jvm.Cond.instanceMethod ({ cls := "ManyEyesModel", name := "eye", desc := "(I)I" } : Jvm.MethodName)) ∈ lw_all := lw_g (lw_at lw_m7 4 rfl) rfl
theorem q1524 : (Jvm.Cond.code ({ cls := "ManyEyesModel", name := "eye", desc := "(I)I" } : Jvm.MethodName) prog_22_method_50_code (2 : Nat) (Option.some Jvm.ClassFile.FieldType.int)) ∈ lw_all := lw_g (lw_at lw_m7 5 rfl) rfl
theorem q1525 : (Jvm.Cond.methodLink "ManyEyesModel" (246 : Nat) ({ cls := "ManyEyesModel", name := "compareOf", desc := "()I" } : Jvm.MethodName)) ∈ lw_all := lw_g (lw_at lw_m7 6 rfl) rfl
theorem q1526 : (Jvm.Cond.privateMethod ({ cls := "ManyEyesModel", name := "compareOf", desc := "()I" } : Jvm.MethodName)) ∈ lw_tbl := lw_at lw_m7 7 rfl
theorem q1527 : (Jvm.Cond.instanceMethod ({ cls := "ManyEyesModel", name := "compareOf", desc := "()I" } : Jvm.MethodName)) ∈ lw_all := lw_g (lw_at lw_m7 8 rfl) rfl
theorem q1528 : (Jvm.Cond.code ({ cls := "ManyEyesModel", name := "compareOf", desc := "()I" } : Jvm.MethodName) prog_22_method_56_code (1 : Nat) (Option.some Jvm.ClassFile.FieldType.int)) ∈ lw_all := lw_g (lw_at lw_m7 9 rfl) rfl
theorem q1529 : (Jvm.Cond.constantLong "ManyEyesModel" (252 : Nat) (28530 : Int64)) ∈ lw_all := lw_g (lw_at lw_m7 10 rfl) rfl
theorem q1531 : (Jvm.Cond.instanceMethod ({ cls := "ManyEyesModel", name := "fault", desc := "(I)I" } : Jvm.MethodName)) ∈ lw_all := lw_g (lw_at lw_m7 12 rfl) rfl
theorem q1532 : (Jvm.Cond.selects "ManyEyesModel" ({ cls := "ManyEyesModel", name := "fault", desc := "(I)I" } : Jvm.MethodName) ({ cls := "ManyEyesModel", name := "fault", desc := "(I)I" } : Jvm.MethodName)) ∈ lw_all := lw_g (lw_at lw_m7 13 rfl) rfl
theorem q1533 : (Jvm.Cond.code ({ cls := "ManyEyesModel", name := "fault", desc := "(I)I" } : Jvm.MethodName) prog_22_method_63_code (2 : Nat) (Option.some Jvm.ClassFile.FieldType.int)) ∈ lw_all := lw_g (lw_at lw_m7 14 rfl) rfl
theorem q1535 : (Jvm.Cond.instanceMethod ({ cls := "ManyEyesModel", name := "fly", desc := "(IIIIII)I" } : Jvm.MethodName)) ∈ lw_all := lw_g (lw_at lw_m7 16 rfl) rfl
theorem q1536 : (Jvm.Cond.selects "ManyEyesModel" ({ cls := "ManyEyesModel", name := "fly", desc := "(IIIIII)I" } : Jvm.MethodName) ({ cls := "ManyEyesModel", name := "fly", desc := "(IIIIII)I" } : Jvm.MethodName)) ∈ lw_all := lw_g (lw_at lw_m7 17 rfl) rfl
theorem q1537 : (Jvm.Cond.code ({ cls := "ManyEyesModel", name := "fly", desc := "(IIIIII)I" } : Jvm.MethodName) prog_22_method_74_code (8 : Nat) (Option.some Jvm.ClassFile.FieldType.int)) ∈ lw_all := lw_g (lw_at lw_m7 18 rfl) rfl
theorem q1538 : (Jvm.Cond.methodLink "ManyEyesModel" (337 : Nat) ({ cls := "ManyEyesModel", name := "isRule", desc := "(I)Z" } : Jvm.MethodName)) ∈ lw_all := lw_g (lw_at lw_m7 19 rfl) rfl
theorem q1539 : (Jvm.Cond.privateMethod ({ cls := "ManyEyesModel", name := "isRule", desc := "(I)Z" } : Jvm.MethodName)) ∈ lw_tbl := lw_at lw_m7 20 rfl
theorem q1540 : (Jvm.Cond.instanceMethod ({ cls := "ManyEyesModel", name := "isRule", desc := "(I)Z" } : Jvm.MethodName)) ∈ lw_all := lw_g (lw_at lw_m7 21 rfl) rfl
theorem q1541 : (Jvm.Cond.code ({ cls := "ManyEyesModel", name := "isRule", desc := "(I)Z" } : Jvm.MethodName) prog_22_method_73_code (2 : Nat) (Option.some Jvm.ClassFile.FieldType.boolean)) ∈ lw_all := lw_g (lw_at lw_m7 22 rfl) rfl
theorem q1542 : (Jvm.Cond.methodLink "ManyEyesModel" (340 : Nat) ({ cls := "ManyEyesModel", name := "isStart", desc := "(II)Z" } : Jvm.MethodName)) ∈ lw_all := lw_g (lw_at lw_m7 23 rfl) rfl
theorem q1543 : (Jvm.Cond.privateMethod ({ cls := "ManyEyesModel", name := "isStart", desc := "(II)Z" } : Jvm.MethodName)) ∈ lw_tbl := lw_at lw_m7 24 rfl
theorem q1544 : (Jvm.Cond.instanceMethod ({ cls := "ManyEyesModel", name := "isStart", desc := "(II)Z" } : Jvm.MethodName)) ∈ lw_all := lw_g (lw_at lw_m7 25 rfl) rfl
theorem q1545 : (Jvm.Cond.code ({ cls := "ManyEyesModel", name := "isStart", desc := "(II)Z" } : Jvm.MethodName) prog_22_method_71_code (3 : Nat) (Option.some Jvm.ClassFile.FieldType.boolean)) ∈ lw_all := lw_g (lw_at lw_m7 26 rfl) rfl
theorem q1546 : (Jvm.Cond.constantLong "ManyEyesModel" (343 : Nat) (1000000 : Int64)) ∈ lw_all := lw_g (lw_at lw_m7 27 rfl) rfl
theorem q1547 : (Jvm.Cond.methodLink "ManyEyesModel" (345 : Nat) ({ cls := "ManyEyesModel", name := "run", desc := "(IIIII)V" } : Jvm.MethodName)) ∈ lw_all := lw_g (lw_at lw_m7 28 rfl) rfl
theorem q1548 : (Jvm.Cond.privateMethod ({ cls := "ManyEyesModel", name := "run", desc := "(IIIII)V" } : Jvm.MethodName)) ∈ lw_tbl := lw_at lw_m7 29 rfl
theorem q1549 : (Jvm.Cond.instanceMethod ({ cls := "ManyEyesModel", name := "run", desc := "(IIIII)V" } : Jvm.MethodName)) ∈ lw_all := lw_g (lw_at lw_m7 30 rfl) rfl
theorem q1550 : (Jvm.Cond.code ({ cls := "ManyEyesModel", name := "run", desc := "(IIIII)V" } : Jvm.MethodName) prog_22_method_72_code (7 : Nat) (Option.none : Option Jvm.ClassFile.FieldType)) ∈ lw_all := lw_g (lw_at lw_m7 31 rfl) rfl
theorem q1551 : (Jvm.Cond.methodLink "ManyEyesModel" (332 : Nat) ({ cls := "ManyEyesModel", name := "see", desc := "()V" } : Jvm.MethodName)) ∈ lw_all := lw_g (lw_at lw_m7 32 rfl) rfl
theorem q1552 : (Jvm.Cond.privateMethod ({ cls := "ManyEyesModel", name := "see", desc := "()V" } : Jvm.MethodName)) ∈ lw_tbl := lw_at lw_m7 33 rfl
theorem q1553 : (Jvm.Cond.instanceMethod ({ cls := "ManyEyesModel", name := "see", desc := "()V" } : Jvm.MethodName)) ∈ lw_all := lw_g (lw_at lw_m7 34 rfl) rfl
theorem q1554 : (Jvm.Cond.code ({ cls := "ManyEyesModel", name := "see", desc := "()V" } : Jvm.MethodName) prog_22_method_70_code (5 : Nat) (Option.none : Option Jvm.ClassFile.FieldType)) ∈ lw_all := lw_g (lw_at lw_m7 35 rfl) rfl
theorem q1555 : (Jvm.Cond.methodLink "ManyEyesModel" (334 : Nat) ({ cls := "ManyEyesModel", name := "think", desc := "(I)Z" } : Jvm.MethodName)) ∈ lw_all := lw_g (lw_at lw_m7 36 rfl) rfl
theorem q1556 : (Jvm.Cond.privateMethod ({ cls := "ManyEyesModel", name := "think", desc := "(I)Z" } : Jvm.MethodName)) ∈ lw_tbl := lw_at lw_m7 37 rfl
theorem q1557 : (Jvm.Cond.instanceMethod ({ cls := "ManyEyesModel", name := "think", desc := "(I)Z" } : Jvm.MethodName)) ∈ lw_all := lw_g (lw_at lw_m7 38 rfl) rfl
theorem q1558 : (Jvm.Cond.code ({ cls := "ManyEyesModel", name := "think", desc := "(I)Z" } : Jvm.MethodName) prog_22_method_69_code (6 : Nat) (Option.some Jvm.ClassFile.FieldType.boolean)) ∈ lw_all := lw_g (lw_at lw_m7 39 rfl) rfl
theorem q1559 : (Jvm.Cond.methodLink "ManyEyesModel" (305 : Nat) ({ cls := "ManyEyesModel", name := "work", desc := "(III)V" } : Jvm.MethodName)) ∈ lw_all := lw_g (lw_at lw_m7 40 rfl) rfl
theorem q1560 : (Jvm.Cond.privateMethod ({ cls := "ManyEyesModel", name := "work", desc := "(III)V" } : Jvm.MethodName)) ∈ lw_tbl := lw_at lw_m7 41 rfl
theorem q1561 : (Jvm.Cond.instanceMethod ({ cls := "ManyEyesModel", name := "work", desc := "(III)V" } : Jvm.MethodName)) ∈ lw_all := lw_g (lw_at lw_m7 42 rfl) rfl
theorem q1562 : (Jvm.Cond.code ({ cls := "ManyEyesModel", name := "work", desc := "(III)V" } : Jvm.MethodName) prog_22_method_68_code (9 : Nat) (Option.none : Option Jvm.ClassFile.FieldType)) ∈ lw_all := lw_g (lw_at lw_m7 43 rfl) rfl
theorem q1563 : (Jvm.Cond.methodLink "ManyEyesModel" (287 : Nat) ({ cls := "ManyEyesModel", name := "valueOf", desc := "(II)J" } : Jvm.MethodName)) ∈ lw_all := lw_g (lw_at lw_m7 44 rfl) rfl
theorem q1564 : (Jvm.Cond.privateMethod ({ cls := "ManyEyesModel", name := "valueOf", desc := "(II)J" } : Jvm.MethodName)) ∈ lw_tbl := lw_at lw_m7 45 rfl
theorem q1565 : (Jvm.Cond.instanceMethod ({ cls := "ManyEyesModel", name := "valueOf", desc := "(II)J" } : Jvm.MethodName)) ∈ lw_all := lw_g (lw_at lw_m7 46 rfl) rfl
theorem q1566 : (Jvm.Cond.code ({ cls := "ManyEyesModel", name := "valueOf", desc := "(II)J" } : Jvm.MethodName) prog_22_method_67_code (3 : Nat) (Option.some Jvm.ClassFile.FieldType.long)) ∈ lw_all := lw_g (lw_at lw_m7 47 rfl) rfl
theorem q1567 : (Jvm.Cond.methodLink "ManyEyesModel" (280 : Nat) ({ cls := "ManyEyesModel", name := "bring", desc := "(J)J" } : Jvm.MethodName)) ∈ lw_all := lw_g (lw_at lw_m7 48 rfl) rfl
theorem q1568 : (Jvm.Cond.privateMethod ({ cls := "ManyEyesModel", name := "bring", desc := "(J)J" } : Jvm.MethodName)) ∈ lw_tbl := lw_at lw_m7 49 rfl
theorem q1569 : (Jvm.Cond.instanceMethod ({ cls := "ManyEyesModel", name := "bring", desc := "(J)J" } : Jvm.MethodName)) ∈ lw_all := lw_g (lw_at lw_m7 50 rfl) rfl
theorem q1570 : (Jvm.Cond.code ({ cls := "ManyEyesModel", name := "bring", desc := "(J)J" } : Jvm.MethodName) prog_22_method_64_code (3 : Nat) (Option.some Jvm.ClassFile.FieldType.long)) ∈ lw_all := lw_g (lw_at lw_m7 51 rfl) rfl
theorem q1571 : (Jvm.Cond.methodLink "ManyEyesModel" (291 : Nat) ({ cls := "ManyEyesModel", name := "two", desc := "(IJJ)J" } : Jvm.MethodName)) ∈ lw_all := lw_g (lw_at lw_m7 52 rfl) rfl
theorem q1572 : (Jvm.Cond.privateMethod ({ cls := "ManyEyesModel", name := "two", desc := "(IJJ)J" } : Jvm.MethodName)) ∈ lw_tbl := lw_at lw_m7 53 rfl
theorem q1573 : (Jvm.Cond.instanceMethod ({ cls := "ManyEyesModel", name := "two", desc := "(IJJ)J" } : Jvm.MethodName)) ∈ lw_all := lw_g (lw_at lw_m7 54 rfl) rfl
theorem q1574 : (Jvm.Cond.code ({ cls := "ManyEyesModel", name := "two", desc := "(IJJ)J" } : Jvm.MethodName) prog_22_method_65_code (6 : Nat) (Option.some Jvm.ClassFile.FieldType.long)) ∈ lw_all := lw_g (lw_at lw_m7 55 rfl) rfl
theorem q1575 : (Jvm.Cond.methodLink "ManyEyesModel" (295 : Nat) ({ cls := "ManyEyesModel", name := "isAsked", desc := "(IJJ)Z" } : Jvm.MethodName)) ∈ lw_all := lw_g (lw_at lw_m7 56 rfl) rfl
theorem q1576 : (Jvm.Cond.static ({ cls := "ManyEyesModel", name := "isAsked", desc := "(IJJ)Z" } : Jvm.MethodName)) ∈ lw_all := lw_g (lw_at lw_m7 57 rfl) rfl
theorem q1577 : (Jvm.Cond.code ({ cls := "ManyEyesModel", name := "isAsked", desc := "(IJJ)Z" } : Jvm.MethodName) prog_22_method_66_code (5 : Nat) (Option.some Jvm.ClassFile.FieldType.boolean)) ∈ lw_all := lw_g (lw_at lw_m7 58 rfl) rfl
theorem q1578 : (Jvm.Cond.constantLong "ManyEyesModel" (308 : Nat) (-8 : Int64)) ∈ lw_all := lw_g (lw_at lw_m7 59 rfl) rfl
theorem q1579 : (Jvm.Cond.constantLong "ManyEyesModel" (310 : Nat) (8 : Int64)) ∈ lw_all := lw_g (lw_at lw_m7 60 rfl) rfl
theorem q1580 : (Jvm.Cond.constantLong "ManyEyesModel" (312 : Nat) (16 : Int64)) ∈ lw_all := lw_g (lw_at lw_m7 61 rfl) rfl
theorem q1582 : (Jvm.Cond.instanceMethod ({ cls := "ManyEyesModel", name := "flown", desc := "(I)I" } : Jvm.MethodName)) ∈ lw_all := lw_g (lw_at lw_m7 63 rfl) rfl
theorem q1583 : (Jvm.Cond.selects "ManyEyesModel" ({ cls := "ManyEyesModel", name := "flown", desc := "(I)I" } : Jvm.MethodName) ({ cls := "ManyEyesModel", name := "flown", desc := "(I)I" } : Jvm.MethodName)) ∈ lw_all := lw_g (lw_at lw_m7 64 rfl) rfl
theorem q1584 : (Jvm.Cond.code ({ cls := "ManyEyesModel", name := "flown", desc := "(I)I" } : Jvm.MethodName) prog_22_method_75_code (2 : Nat) (Option.some Jvm.ClassFile.FieldType.int)) ∈ lw_all := lw_g (lw_at lw_m7 65 rfl) rfl
theorem q1586 : (Jvm.Cond.instanceMethod ({ cls := "ManyEyesModel", name := "tick", desc := "(II)I" } : Jvm.MethodName)) ∈ lw_all := lw_g (lw_at lw_m7 67 rfl) rfl
theorem q1587 : (Jvm.Cond.selects "ManyEyesModel" ({ cls := "ManyEyesModel", name := "tick", desc := "(II)I" } : Jvm.MethodName) ({ cls := "ManyEyesModel", name := "tick", desc := "(II)I" } : Jvm.MethodName)) ∈ lw_all := lw_g (lw_at lw_m7 68 rfl) rfl
theorem q1588 : (Jvm.Cond.code ({ cls := "ManyEyesModel", name := "tick", desc := "(II)I" } : Jvm.MethodName) prog_22_method_76_code (4 : Nat) (Option.some Jvm.ClassFile.FieldType.int)) ∈ lw_all := lw_g (lw_at lw_m7 69 rfl) rfl
theorem q1589 : (Jvm.Cond.constant "ManyEyesModel" (349 : Nat) (-10000000 : Int32)) ∈ lw_all := lw_g (lw_at lw_m7 70 rfl) rfl
theorem q1591 : (Jvm.Cond.instanceMethod ({ cls := "ManyEyesModel", name := "safe", desc := "(IIIIIIII)I" } : Jvm.MethodName)) ∈ lw_all := lw_g (lw_at lw_m7 72 rfl) rfl
theorem q1592 : (Jvm.Cond.selects "ManyEyesModel" ({ cls := "ManyEyesModel", name := "safe", desc := "(IIIIIIII)I" } : Jvm.MethodName) ({ cls := "ManyEyesModel", name := "safe", desc := "(IIIIIIII)I" } : Jvm.MethodName)) ∈ lw_all := lw_g (lw_at lw_m7 73 rfl) rfl
theorem q1593 : (Jvm.Cond.code ({ cls := "ManyEyesModel", name := "safe", desc := "(IIIIIIII)I" } : Jvm.MethodName) prog_22_method_77_code (11 : Nat) (Option.some Jvm.ClassFile.FieldType.int)) ∈ lw_all := lw_g (lw_at lw_m7 74 rfl) rfl
theorem q1595 : (Jvm.Cond.instanceMethod ({ cls := "ManyEyesModel", name := "read", desc := "(III)I" } : Jvm.MethodName)) ∈ lw_all := lw_g (lw_at lw_m7 76 rfl) rfl
theorem q1596 : (Jvm.Cond.selects "ManyEyesModel" ({ cls := "ManyEyesModel", name := "read", desc := "(III)I" } : Jvm.MethodName) ({ cls := "ManyEyesModel", name := "read", desc := "(III)I" } : Jvm.MethodName)) ∈ lw_all := lw_g (lw_at lw_m7 77 rfl) rfl
theorem q1597 : (Jvm.Cond.code ({ cls := "ManyEyesModel", name := "read", desc := "(III)I" } : Jvm.MethodName) prog_22_method_78_code (5 : Nat) (Option.some Jvm.ClassFile.FieldType.int)) ∈ lw_all := lw_g (lw_at lw_m7 78 rfl) rfl
theorem q1599 : (Jvm.Cond.instanceMethod ({ cls := "ManyEyesModel", name := "turned", desc := "(II)I" } : Jvm.MethodName)) ∈ lw_all := lw_g (lw_at lw_m7 80 rfl) rfl
theorem q1600 : (Jvm.Cond.selects "ManyEyesModel" ({ cls := "ManyEyesModel", name := "turned", desc := "(II)I" } : Jvm.MethodName) ({ cls := "ManyEyesModel", name := "turned", desc := "(II)I" } : Jvm.MethodName)) ∈ lw_all := lw_g (lw_at lw_m7 81 rfl) rfl
theorem q1601 : (Jvm.Cond.code ({ cls := "ManyEyesModel", name := "turned", desc := "(II)I" } : Jvm.MethodName) prog_22_method_79_code (4 : Nat) (Option.some Jvm.ClassFile.FieldType.int)) ∈ lw_all := lw_g (lw_at lw_m7 82 rfl) rfl
theorem q1603 : (Jvm.Cond.instanceMethod ({ cls := "ManyEyesModel", name := "kept", desc := "(I)I" } : Jvm.MethodName)) ∈ lw_all := lw_g (lw_at lw_m7 84 rfl) rfl
theorem q1604 : (Jvm.Cond.selects "ManyEyesModel" ({ cls := "ManyEyesModel", name := "kept", desc := "(I)I" } : Jvm.MethodName) ({ cls := "ManyEyesModel", name := "kept", desc := "(I)I" } : Jvm.MethodName)) ∈ lw_all := lw_g (lw_at lw_m7 85 rfl) rfl
theorem q1605 : (Jvm.Cond.code ({ cls := "ManyEyesModel", name := "kept", desc := "(I)I" } : Jvm.MethodName) prog_22_method_81_code (4 : Nat) (Option.some Jvm.ClassFile.FieldType.int)) ∈ lw_all := lw_g (lw_at lw_m7 86 rfl) rfl
theorem q1606 : (Jvm.Cond.methodLink "ManyEyesModel" (350 : Nat) ({ cls := "ManyEyesModel", name := "isKept", desc := "(I)Z" } : Jvm.MethodName)) ∈ lw_all := lw_g (lw_at lw_m7 87 rfl) rfl
theorem q1607 : (Jvm.Cond.privateMethod ({ cls := "ManyEyesModel", name := "isKept", desc := "(I)Z" } : Jvm.MethodName)) ∈ lw_tbl := lw_at lw_m7 88 rfl
theorem q1608 : (Jvm.Cond.instanceMethod ({ cls := "ManyEyesModel", name := "isKept", desc := "(I)Z" } : Jvm.MethodName)) ∈ lw_all := lw_g (lw_at lw_m7 89 rfl) rfl
theorem q1609 : (Jvm.Cond.code ({ cls := "ManyEyesModel", name := "isKept", desc := "(I)Z" } : Jvm.MethodName) prog_22_method_80_code (5 : Nat) (Option.some Jvm.ClassFile.FieldType.boolean)) ∈ lw_all := lw_g (lw_at lw_m7 90 rfl) rfl
theorem q1611 : (Jvm.Cond.instanceMethod ({ cls := "ManyEyesModel", name := "parts", desc := "(II)I" } : Jvm.MethodName)) ∈ lw_all := lw_g (lw_at lw_m7 92 rfl) rfl
theorem q1612 : (Jvm.Cond.selects "ManyEyesModel" ({ cls := "ManyEyesModel", name := "parts", desc := "(II)I" } : Jvm.MethodName) ({ cls := "ManyEyesModel", name := "parts", desc := "(II)I" } : Jvm.MethodName)) ∈ lw_all := lw_g (lw_at lw_m7 93 rfl) rfl
theorem q1613 : (Jvm.Cond.code ({ cls := "ManyEyesModel", name := "parts", desc := "(II)I" } : Jvm.MethodName) prog_22_method_83_code (9 : Nat) (Option.some Jvm.ClassFile.FieldType.int)) ∈ lw_all := lw_g (lw_at lw_m7 94 rfl) rfl
theorem q1614 : (Jvm.Cond.methodLink "ManyEyesModel" (353 : Nat) ({ cls := "ManyEyesModel", name := "unlike", desc := "(III)I" } : Jvm.MethodName)) ∈ lw_all := lw_g (lw_at lw_m7 95 rfl) rfl
theorem q1615 : (Jvm.Cond.privateMethod ({ cls := "ManyEyesModel", name := "unlike", desc := "(III)I" } : Jvm.MethodName)) ∈ lw_tbl := lw_at lw_m7 96 rfl
theorem q1616 : (Jvm.Cond.instanceMethod ({ cls := "ManyEyesModel", name := "unlike", desc := "(III)I" } : Jvm.MethodName)) ∈ lw_all := lw_g (lw_at lw_m7 97 rfl) rfl
theorem q1617 : (Jvm.Cond.code ({ cls := "ManyEyesModel", name := "unlike", desc := "(III)I" } : Jvm.MethodName) prog_22_method_82_code (8 : Nat) (Option.some Jvm.ClassFile.FieldType.int)) ∈ lw_all := lw_g (lw_at lw_m7 98 rfl) rfl
theorem q1619 : (Jvm.Cond.instanceMethod ({ cls := "ManyEyesModel", name := "image", desc := "()I" } : Jvm.MethodName)) ∈ lw_all := lw_g (lw_at lw_m7 100 rfl) rfl
theorem q1620 : (Jvm.Cond.selects "ManyEyesModel" ({ cls := "ManyEyesModel", name := "image", desc := "()I" } : Jvm.MethodName) ({ cls := "ManyEyesModel", name := "image", desc := "()I" } : Jvm.MethodName)) ∈ lw_all := lw_g (lw_at lw_m7 101 rfl) rfl
theorem q1621 : (Jvm.Cond.code ({ cls := "ManyEyesModel", name := "image", desc := "()I" } : Jvm.MethodName) prog_22_method_84_code (1 : Nat) (Option.some Jvm.ClassFile.FieldType.int)) ∈ lw_all := lw_g (lw_at lw_m7 102 rfl) rfl
theorem q1623 : (Jvm.Cond.instanceMethod ({ cls := "ManyEyesModel", name := "back", desc := "()I" } : Jvm.MethodName)) ∈ lw_all := lw_g (lw_at lw_m7 104 rfl) rfl
theorem q1624 : (Jvm.Cond.selects "ManyEyesModel" ({ cls := "ManyEyesModel", name := "back", desc := "()I" } : Jvm.MethodName) ({ cls := "ManyEyesModel", name := "back", desc := "()I" } : Jvm.MethodName)) ∈ lw_all := lw_g (lw_at lw_m7 105 rfl) rfl
theorem q1625 : (Jvm.Cond.code ({ cls := "ManyEyesModel", name := "back", desc := "()I" } : Jvm.MethodName) prog_22_method_85_code (1 : Nat) (Option.some Jvm.ClassFile.FieldType.int)) ∈ lw_all := lw_g (lw_at lw_m7 106 rfl) rfl
theorem q1627 : (Jvm.Cond.instanceMethod ({ cls := "ManyEyesModel", name := "about", desc := "(I)I" } : Jvm.MethodName)) ∈ lw_all := lw_g (lw_at lw_m7 108 rfl) rfl
theorem q1628 : (Jvm.Cond.selects "ManyEyesModel" ({ cls := "ManyEyesModel", name := "about", desc := "(I)I" } : Jvm.MethodName) ({ cls := "ManyEyesModel", name := "about", desc := "(I)I" } : Jvm.MethodName)) ∈ lw_all := lw_g (lw_at lw_m7 109 rfl) rfl
theorem q1629 : (Jvm.Cond.code ({ cls := "ManyEyesModel", name := "about", desc := "(I)I" } : Jvm.MethodName) prog_22_method_86_code (4 : Nat) (Option.some Jvm.ClassFile.FieldType.int)) ∈ lw_all := lw_g (lw_at lw_m7 110 rfl) rfl
theorem q1636 : (Jvm.Cond.castable "ManyEyesModel" "java/lang/Object") ∈ lw_tbl := lw_at lw_m7 117 rfl
theorem in_X5 : ∀ w ∈ wsX50, w ∈ lw_all := lw_in wsX50 [1217, 1219, 1221, 1223, 1225, 1227, 1229, 1231, 1233, 1235, 1237, 1239, 1241, 1243, 1245, 1247, 1249, 1251, 1253, 1255, 1257, 1259, 1261, 1263, 1265, 1267, 1269, 1271, 1273, 1275, 1277, 1279, 1281, 1283, 1285, 1287, 1289, 1291, 1293, 1295, 1297, 1299, 1301] (by decide +kernel) (by decide +kernel)
