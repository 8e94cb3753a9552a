set_option maxRecDepth 100000
/-! ManyEyes$Tokens -/
set_option maxRecDepth 100000
def RX6 : String := "ManyEyes$Tokens"
def TX6 : u_T := fun k => match k with
  | 0 => ("ManyEyes$Tokens", "text", "[B", true)
  | 1 => ("ManyEyes$Tokens", "size", "I", true)
  | 2 => ("ManyEyes$Tokens", "told", "[Z", true)
  | 3 => ("ManyEyes$Tokens", "twice", "[Z", true)
  | 4 => ("ManyEyes$Tokens", "at", "I", false)
  | 5 => ("ManyEyes$Tokens", "token", "I", false)
  | 6 => ("ManyEyes$Tokens", "sort", "I", false)
  | 7 => ("ManyEyes$Tokens", "number", "I", false)
  | _ => ("ManyEyes$Tokens", "open", "I", false)
def tyX6 : Nat → FieldType := fun k => match k with
  | 0 => .array .byte
  | 1 => .int
  | 2 => .array .boolean
  | 3 => .array .boolean
  | 4 => .int
  | 5 => .int
  | 6 => .int
  | 7 => .int
  | _ => .int
abbrev wsX60 : List Cond := u_ws RX6 TX6 9
theorem nmX6 : ∀ a, a < 9 → ∀ b, b < 9 → a ≠ b → (TX6 a).2.1 ≠ (TX6 b).2.1 := by decide +kernel
theorem tyX6_ok : ∀ k, k < 9 → parseFieldDescriptor (TX6 k).2.2.1 = some (tyX6 k) := by decide +kernel
abbrev cX6_init : ByteArray := prog_19_method_1_code
def yX6_init : MethodName := ⟨RX6, "<init>", "([BI)V"⟩
theorem dX6_init_0 : decode cX6_init 0 = .ok (.aload_n 0, 1) := by decide +kernel
theorem dX6_init_1 : decode cX6_init 1 = .ok (.invokespecial 3, 3) := by decide +kernel
theorem dX6_init_4 : decode cX6_init 4 = .ok (.aload_n 0, 1) := by decide +kernel
theorem dX6_init_5 : decode cX6_init 5 = .ok (.bipush 8, 2) := by decide +kernel
theorem dX6_init_7 : decode cX6_init 7 = .ok (.newarray .boolean, 2) := by decide +kernel
theorem dX6_init_9 : decode cX6_init 9 = .ok (.putfield 9, 3) := by decide +kernel
theorem dX6_init_12 : decode cX6_init 12 = .ok (.aload_n 0, 1) := by decide +kernel
theorem dX6_init_13 : decode cX6_init 13 = .ok (.iconst 4, 1) := by decide +kernel
theorem dX6_init_14 : decode cX6_init 14 = .ok (.newarray .boolean, 2) := by decide +kernel
theorem dX6_init_16 : decode cX6_init 16 = .ok (.putfield 15, 3) := by decide +kernel
theorem dX6_init_19 : decode cX6_init 19 = .ok (.aload_n 0, 1) := by decide +kernel
theorem dX6_init_20 : decode cX6_init 20 = .ok (.aload_n 1, 1) := by decide +kernel
theorem dX6_init_21 : decode cX6_init 21 = .ok (.putfield 18, 3) := by decide +kernel
theorem dX6_init_24 : decode cX6_init 24 = .ok (.aload_n 0, 1) := by decide +kernel
theorem dX6_init_25 : decode cX6_init 25 = .ok (.iload_n 2, 1) := by decide +kernel
theorem dX6_init_26 : decode cX6_init 26 = .ok (.putfield 22, 3) := by decide +kernel
theorem dX6_init_29 : decode cX6_init 29 = .ok (.return_, 1) := by decide +kernel
abbrev cX6_read : ByteArray := prog_19_method_10_code
def yX6_read : MethodName := ⟨RX6, "read", "()Ljava/util/ArrayList;"⟩
theorem dX6_read_0 : decode cX6_read 0 = .ok (.new 87, 3) := by decide +kernel
theorem dX6_read_3 : decode cX6_read 3 = .ok (.dup, 1) := by decide +kernel
theorem dX6_read_4 : decode cX6_read 4 = .ok (.invokespecial 89, 3) := by decide +kernel
theorem dX6_read_7 : decode cX6_read 7 = .ok (.astore_n 1, 1) := by decide +kernel
theorem dX6_read_8 : decode cX6_read 8 = .ok (.aload_n 0, 1) := by decide +kernel
theorem dX6_read_9 : decode cX6_read 9 = .ok (.invokevirtual 81, 3) := by decide +kernel
theorem dX6_read_12 : decode cX6_read 12 = .ok (.aload_n 0, 1) := by decide +kernel
theorem dX6_read_13 : decode cX6_read 13 = .ok (.getfield 32, 3) := by decide +kernel
theorem dX6_read_16 : decode cX6_read 16 = .ok (.sipush 301, 3) := by decide +kernel
theorem dX6_read_19 : decode cX6_read 19 = .ok (.if_icmp .eq 189, 3) := by decide +kernel
theorem dX6_read_22 : decode cX6_read 22 = .ok (.aload_n 0, 1) := by decide +kernel
theorem dX6_read_23 : decode cX6_read 23 = .ok (.getfield 32, 3) := by decide +kernel
theorem dX6_read_26 : decode cX6_read 26 = .ok (.sipush 200, 3) := by decide +kernel
theorem dX6_read_29 : decode cX6_read 29 = .ok (.if_icmp .lt 13, 3) := by decide +kernel
theorem dX6_read_32 : decode cX6_read 32 = .ok (.aload_n 0, 1) := by decide +kernel
theorem dX6_read_33 : decode cX6_read 33 = .ok (.getfield 32, 3) := by decide +kernel
theorem dX6_read_36 : decode cX6_read 36 = .ok (.sipush 203, 3) := by decide +kernel
theorem dX6_read_39 : decode cX6_read 39 = .ok (.if_icmp .le 9, 3) := by decide +kernel
theorem dX6_read_42 : decode cX6_read 42 = .ok (.aload_n 0, 1) := by decide +kernel
theorem dX6_read_43 : decode cX6_read 43 = .ok (.iconst 1, 1) := by decide +kernel
theorem dX6_read_44 : decode cX6_read 44 = .ok (.invokevirtual 77, 3) := by decide +kernel
theorem dX6_read_47 : decode cX6_read 47 = .ok (.athrow, 1) := by decide +kernel
theorem dX6_read_48 : decode cX6_read 48 = .ok (.aload_n 0, 1) := by decide +kernel
theorem dX6_read_49 : decode cX6_read 49 = .ok (.getfield 32, 3) := by decide +kernel
theorem dX6_read_52 : decode cX6_read 52 = .ok (.sipush 200, 3) := by decide +kernel
theorem dX6_read_55 : decode cX6_read 55 = .ok (.if_icmp .eq 25, 3) := by decide +kernel
theorem dX6_read_58 : decode cX6_read 58 = .ok (.aload_n 0, 1) := by decide +kernel
theorem dX6_read_59 : decode cX6_read 59 = .ok (.getfield 15, 3) := by decide +kernel
theorem dX6_read_62 : decode cX6_read 62 = .ok (.aload_n 0, 1) := by decide +kernel
theorem dX6_read_63 : decode cX6_read 63 = .ok (.getfield 32, 3) := by decide +kernel
theorem dX6_read_66 : decode cX6_read 66 = .ok (.sipush 200, 3) := by decide +kernel
theorem dX6_read_69 : decode cX6_read 69 = .ok (.isub, 1) := by decide +kernel
theorem dX6_read_70 : decode cX6_read 70 = .ok (.baload, 1) := by decide +kernel
theorem dX6_read_71 : decode cX6_read 71 = .ok (.ifCond .eq 9, 3) := by decide +kernel
theorem dX6_read_74 : decode cX6_read 74 = .ok (.aload_n 0, 1) := by decide +kernel
theorem dX6_read_75 : decode cX6_read 75 = .ok (.iconst 4, 1) := by decide +kernel
theorem dX6_read_76 : decode cX6_read 76 = .ok (.invokevirtual 77, 3) := by decide +kernel
theorem dX6_read_79 : decode cX6_read 79 = .ok (.athrow, 1) := by decide +kernel
theorem dX6_read_80 : decode cX6_read 80 = .ok (.aload_n 1, 1) := by decide +kernel
theorem dX6_read_81 : decode cX6_read 81 = .ok (.invokevirtual 90, 3) := by decide +kernel
theorem dX6_read_84 : decode cX6_read 84 = .ok (.bipush 10, 2) := by decide +kernel
theorem dX6_read_86 : decode cX6_read 86 = .ok (.if_icmp .ne 10, 3) := by decide +kernel
theorem dX6_read_89 : decode cX6_read 89 = .ok (.aload_n 0, 1) := by decide +kernel
theorem dX6_read_90 : decode cX6_read 90 = .ok (.bipush 6, 2) := by decide +kernel
theorem dX6_read_92 : decode cX6_read 92 = .ok (.invokevirtual 77, 3) := by decide +kernel
theorem dX6_read_95 : decode cX6_read 95 = .ok (.athrow, 1) := by decide +kernel
theorem dX6_read_96 : decode cX6_read 96 = .ok (.aload_n 0, 1) := by decide +kernel
theorem dX6_read_97 : decode cX6_read 97 = .ok (.getfield 15, 3) := by decide +kernel
theorem dX6_read_100 : decode cX6_read 100 = .ok (.aload_n 0, 1) := by decide +kernel
theorem dX6_read_101 : decode cX6_read 101 = .ok (.getfield 32, 3) := by decide +kernel
theorem dX6_read_104 : decode cX6_read 104 = .ok (.sipush 200, 3) := by decide +kernel
theorem dX6_read_107 : decode cX6_read 107 = .ok (.isub, 1) := by decide +kernel
theorem dX6_read_108 : decode cX6_read 108 = .ok (.iconst 1, 1) := by decide +kernel
theorem dX6_read_109 : decode cX6_read 109 = .ok (.bastore, 1) := by decide +kernel
theorem dX6_read_110 : decode cX6_read 110 = .ok (.new 92, 3) := by decide +kernel
theorem dX6_read_113 : decode cX6_read 113 = .ok (.dup, 1) := by decide +kernel
theorem dX6_read_114 : decode cX6_read 114 = .ok (.aload_n 0, 1) := by decide +kernel
theorem dX6_read_115 : decode cX6_read 115 = .ok (.getfield 32, 3) := by decide +kernel
theorem dX6_read_118 : decode cX6_read 118 = .ok (.invokespecial 94, 3) := by decide +kernel
theorem dX6_read_121 : decode cX6_read 121 = .ok (.astore_n 2, 1) := by decide +kernel
theorem dX6_read_122 : decode cX6_read 122 = .ok (.aload_n 0, 1) := by decide +kernel
theorem dX6_read_123 : decode cX6_read 123 = .ok (.invokevirtual 81, 3) := by decide +kernel
theorem dX6_read_126 : decode cX6_read 126 = .ok (.aload_n 2, 1) := by decide +kernel
theorem dX6_read_127 : decode cX6_read 127 = .ok (.getfield 97, 3) := by decide +kernel
theorem dX6_read_130 : decode cX6_read 130 = .ok (.sipush 200, 3) := by decide +kernel
theorem dX6_read_133 : decode cX6_read 133 = .ok (.if_icmp .ne 11, 3) := by decide +kernel
theorem dX6_read_136 : decode cX6_read 136 = .ok (.aload_n 2, 1) := by decide +kernel
theorem dX6_read_137 : decode cX6_read 137 = .ok (.aload_n 0, 1) := by decide +kernel
theorem dX6_read_138 : decode cX6_read 138 = .ok (.invokevirtual 98, 3) := by decide +kernel
theorem dX6_read_141 : decode cX6_read 141 = .ok (.putfield 101, 3) := by decide +kernel
theorem dX6_read_144 : decode cX6_read 144 = .ok (.aload_n 2, 1) := by decide +kernel
theorem dX6_read_145 : decode cX6_read 145 = .ok (.getfield 97, 3) := by decide +kernel
theorem dX6_read_148 : decode cX6_read 148 = .ok (.sipush 203, 3) := by decide +kernel
theorem dX6_read_151 : decode cX6_read 151 = .ok (.if_icmp .ne 14, 3) := by decide +kernel
theorem dX6_read_154 : decode cX6_read 154 = .ok (.aload_n 2, 1) := by decide +kernel
theorem dX6_read_155 : decode cX6_read 155 = .ok (.aload_n 0, 1) := by decide +kernel
theorem dX6_read_156 : decode cX6_read 156 = .ok (.invokevirtual 103, 3) := by decide +kernel
theorem dX6_read_159 : decode cX6_read 159 = .ok (.putfield 107, 3) := by decide +kernel
theorem dX6_read_162 : decode cX6_read 162 = .ok (.goto 11, 3) := by decide +kernel
theorem dX6_read_165 : decode cX6_read 165 = .ok (.aload_n 2, 1) := by decide +kernel
theorem dX6_read_166 : decode cX6_read 166 = .ok (.aload_n 0, 1) := by decide +kernel
theorem dX6_read_167 : decode cX6_read 167 = .ok (.invokevirtual 111, 3) := by decide +kernel
theorem dX6_read_170 : decode cX6_read 170 = .ok (.putfield 115, 3) := by decide +kernel
theorem dX6_read_173 : decode cX6_read 173 = .ok (.aload_n 0, 1) := by decide +kernel
theorem dX6_read_174 : decode cX6_read 174 = .ok (.bipush 59, 2) := by decide +kernel
theorem dX6_read_176 : decode cX6_read 176 = .ok (.invokevirtual 118, 3) := by decide +kernel
theorem dX6_read_179 : decode cX6_read 179 = .ok (.aload_n 2, 1) := by decide +kernel
theorem dX6_read_180 : decode cX6_read 180 = .ok (.getfield 97, 3) := by decide +kernel
theorem dX6_read_183 : decode cX6_read 183 = .ok (.sipush 200, 3) := by decide +kernel
theorem dX6_read_186 : decode cX6_read 186 = .ok (.if_icmp .ne 13, 3) := by decide +kernel
theorem dX6_read_189 : decode cX6_read 189 = .ok (.aload_n 0, 1) := by decide +kernel
theorem dX6_read_190 : decode cX6_read 190 = .ok (.getfield 9, 3) := by decide +kernel
theorem dX6_read_193 : decode cX6_read 193 = .ok (.aload_n 2, 1) := by decide +kernel
theorem dX6_read_194 : decode cX6_read 194 = .ok (.getfield 101, 3) := by decide +kernel
theorem dX6_read_197 : decode cX6_read 197 = .ok (.iconst 1, 1) := by decide +kernel
theorem dX6_read_198 : decode cX6_read 198 = .ok (.bastore, 1) := by decide +kernel
theorem dX6_read_199 : decode cX6_read 199 = .ok (.aload_n 1, 1) := by decide +kernel
theorem dX6_read_200 : decode cX6_read 200 = .ok (.aload_n 2, 1) := by decide +kernel
theorem dX6_read_201 : decode cX6_read 201 = .ok (.invokevirtual 121, 3) := by decide +kernel
theorem dX6_read_204 : decode cX6_read 204 = .ok (.pop, 1) := by decide +kernel
theorem dX6_read_205 : decode cX6_read 205 = .ok (.goto (-193), 3) := by decide +kernel
theorem dX6_read_208 : decode cX6_read 208 = .ok (.aload_n 1, 1) := by decide +kernel
theorem dX6_read_209 : decode cX6_read 209 = .ok (.areturn, 1) := by decide +kernel
abbrev cX6_next : ByteArray := prog_19_method_4_code
def yX6_next : MethodName := ⟨RX6, "next", "()V"⟩
theorem dX6_next_0 : decode cX6_next 0 = .ok (.aload_n 0, 1) := by decide +kernel
theorem dX6_next_1 : decode cX6_next 1 = .ok (.getfield 26, 3) := by decide +kernel
theorem dX6_next_4 : decode cX6_next 4 = .ok (.aload_n 0, 1) := by decide +kernel
theorem dX6_next_5 : decode cX6_next 5 = .ok (.getfield 22, 3) := by decide +kernel
theorem dX6_next_8 : decode cX6_next 8 = .ok (.if_icmp .ge 44, 3) := by decide +kernel
theorem dX6_next_11 : decode cX6_next 11 = .ok (.aload_n 0, 1) := by decide +kernel
theorem dX6_next_12 : decode cX6_next 12 = .ok (.getfield 18, 3) := by decide +kernel
theorem dX6_next_15 : decode cX6_next 15 = .ok (.aload_n 0, 1) := by decide +kernel
theorem dX6_next_16 : decode cX6_next 16 = .ok (.getfield 26, 3) := by decide +kernel
theorem dX6_next_19 : decode cX6_next 19 = .ok (.baload, 1) := by decide +kernel
theorem dX6_next_20 : decode cX6_next 20 = .ok (.bipush 32, 2) := by decide +kernel
theorem dX6_next_22 : decode cX6_next 22 = .ok (.if_icmp .eq 17, 3) := by decide +kernel
theorem dX6_next_25 : decode cX6_next 25 = .ok (.aload_n 0, 1) := by decide +kernel
theorem dX6_next_26 : decode cX6_next 26 = .ok (.getfield 18, 3) := by decide +kernel
theorem dX6_next_29 : decode cX6_next 29 = .ok (.aload_n 0, 1) := by decide +kernel
theorem dX6_next_30 : decode cX6_next 30 = .ok (.getfield 26, 3) := by decide +kernel
theorem dX6_next_33 : decode cX6_next 33 = .ok (.baload, 1) := by decide +kernel
theorem dX6_next_34 : decode cX6_next 34 = .ok (.bipush 10, 2) := by decide +kernel
theorem dX6_next_36 : decode cX6_next 36 = .ok (.if_icmp .ne 16, 3) := by decide +kernel
theorem dX6_next_39 : decode cX6_next 39 = .ok (.aload_n 0, 1) := by decide +kernel
theorem dX6_next_40 : decode cX6_next 40 = .ok (.dup, 1) := by decide +kernel
theorem dX6_next_41 : decode cX6_next 41 = .ok (.getfield 26, 3) := by decide +kernel
theorem dX6_next_44 : decode cX6_next 44 = .ok (.iconst 1, 1) := by decide +kernel
theorem dX6_next_45 : decode cX6_next 45 = .ok (.iadd, 1) := by decide +kernel
theorem dX6_next_46 : decode cX6_next 46 = .ok (.putfield 26, 3) := by decide +kernel
theorem dX6_next_49 : decode cX6_next 49 = .ok (.goto (-49), 3) := by decide +kernel
theorem dX6_next_52 : decode cX6_next 52 = .ok (.aload_n 0, 1) := by decide +kernel
theorem dX6_next_53 : decode cX6_next 53 = .ok (.aload_n 0, 1) := by decide +kernel
theorem dX6_next_54 : decode cX6_next 54 = .ok (.getfield 26, 3) := by decide +kernel
theorem dX6_next_57 : decode cX6_next 57 = .ok (.putfield 29, 3) := by decide +kernel
theorem dX6_next_60 : decode cX6_next 60 = .ok (.aload_n 0, 1) := by decide +kernel
theorem dX6_next_61 : decode cX6_next 61 = .ok (.getfield 26, 3) := by decide +kernel
theorem dX6_next_64 : decode cX6_next 64 = .ok (.aload_n 0, 1) := by decide +kernel
theorem dX6_next_65 : decode cX6_next 65 = .ok (.getfield 22, 3) := by decide +kernel
theorem dX6_next_68 : decode cX6_next 68 = .ok (.if_icmp .ne 13, 3) := by decide +kernel
theorem dX6_next_71 : decode cX6_next 71 = .ok (.aload_n 0, 1) := by decide +kernel
theorem dX6_next_72 : decode cX6_next 72 = .ok (.sipush 301, 3) := by decide +kernel
theorem dX6_next_75 : decode cX6_next 75 = .ok (.putfield 32, 3) := by decide +kernel
theorem dX6_next_78 : decode cX6_next 78 = .ok (.goto 374, 3) := by decide +kernel
theorem dX6_next_81 : decode cX6_next 81 = .ok (.aload_n 0, 1) := by decide +kernel
theorem dX6_next_82 : decode cX6_next 82 = .ok (.getfield 18, 3) := by decide +kernel
theorem dX6_next_85 : decode cX6_next 85 = .ok (.aload_n 0, 1) := by decide +kernel
theorem dX6_next_86 : decode cX6_next 86 = .ok (.getfield 26, 3) := by decide +kernel
theorem dX6_next_89 : decode cX6_next 89 = .ok (.baload, 1) := by decide +kernel
theorem dX6_next_90 : decode cX6_next 90 = .ok (.invokestatic 35, 3) := by decide +kernel
theorem dX6_next_93 : decode cX6_next 93 = .ok (.ifCond .eq 139, 3) := by decide +kernel
theorem dX6_next_96 : decode cX6_next 96 = .ok (.aload_n 0, 1) := by decide +kernel
theorem dX6_next_97 : decode cX6_next 97 = .ok (.getfield 18, 3) := by decide +kernel
theorem dX6_next_100 : decode cX6_next 100 = .ok (.aload_n 0, 1) := by decide +kernel
theorem dX6_next_101 : decode cX6_next 101 = .ok (.getfield 26, 3) := by decide +kernel
theorem dX6_next_104 : decode cX6_next 104 = .ok (.baload, 1) := by decide +kernel
theorem dX6_next_105 : decode cX6_next 105 = .ok (.istore_n 1, 1) := by decide +kernel
theorem dX6_next_106 : decode cX6_next 106 = .ok (.aload_n 0, 1) := by decide +kernel
theorem dX6_next_107 : decode cX6_next 107 = .ok (.getfield 26, 3) := by decide +kernel
theorem dX6_next_110 : decode cX6_next 110 = .ok (.aload_n 0, 1) := by decide +kernel
theorem dX6_next_111 : decode cX6_next 111 = .ok (.getfield 22, 3) := by decide +kernel
theorem dX6_next_114 : decode cX6_next 114 = .ok (.if_icmp .ge 31, 3) := by decide +kernel
theorem dX6_next_117 : decode cX6_next 117 = .ok (.aload_n 0, 1) := by decide +kernel
theorem dX6_next_118 : decode cX6_next 118 = .ok (.getfield 18, 3) := by decide +kernel
theorem dX6_next_121 : decode cX6_next 121 = .ok (.aload_n 0, 1) := by decide +kernel
theorem dX6_next_122 : decode cX6_next 122 = .ok (.getfield 26, 3) := by decide +kernel
theorem dX6_next_125 : decode cX6_next 125 = .ok (.baload, 1) := by decide +kernel
theorem dX6_next_126 : decode cX6_next 126 = .ok (.invokestatic 35, 3) := by decide +kernel
theorem dX6_next_129 : decode cX6_next 129 = .ok (.ifCond .eq 16, 3) := by decide +kernel
theorem dX6_next_132 : decode cX6_next 132 = .ok (.aload_n 0, 1) := by decide +kernel
theorem dX6_next_133 : decode cX6_next 133 = .ok (.dup, 1) := by decide +kernel
theorem dX6_next_134 : decode cX6_next 134 = .ok (.getfield 26, 3) := by decide +kernel
theorem dX6_next_137 : decode cX6_next 137 = .ok (.iconst 1, 1) := by decide +kernel
theorem dX6_next_138 : decode cX6_next 138 = .ok (.iadd, 1) := by decide +kernel
theorem dX6_next_139 : decode cX6_next 139 = .ok (.putfield 26, 3) := by decide +kernel
theorem dX6_next_142 : decode cX6_next 142 = .ok (.goto (-36), 3) := by decide +kernel
theorem dX6_next_145 : decode cX6_next 145 = .ok (.aload_n 0, 1) := by decide +kernel
theorem dX6_next_146 : decode cX6_next 146 = .ok (.sipush 302, 3) := by decide +kernel
theorem dX6_next_149 : decode cX6_next 149 = .ok (.putfield 32, 3) := by decide +kernel
theorem dX6_next_152 : decode cX6_next 152 = .ok (.aload_n 0, 1) := by decide +kernel
theorem dX6_next_153 : decode cX6_next 153 = .ok (.getfield 26, 3) := by decide +kernel
theorem dX6_next_156 : decode cX6_next 156 = .ok (.aload_n 0, 1) := by decide +kernel
theorem dX6_next_157 : decode cX6_next 157 = .ok (.getfield 29, 3) := by decide +kernel
theorem dX6_next_160 : decode cX6_next 160 = .ok (.isub, 1) := by decide +kernel
theorem dX6_next_161 : decode cX6_next 161 = .ok (.iconst 1, 1) := by decide +kernel
theorem dX6_next_162 : decode cX6_next 162 = .ok (.if_icmp .ne 30, 3) := by decide +kernel
theorem dX6_next_165 : decode cX6_next 165 = .ok (.iload_n 1, 1) := by decide +kernel
theorem dX6_next_166 : decode cX6_next 166 = .ok (.bipush 65, 2) := by decide +kernel
theorem dX6_next_168 : decode cX6_next 168 = .ok (.if_icmp .lt 24, 3) := by decide +kernel
theorem dX6_next_171 : decode cX6_next 171 = .ok (.iload_n 1, 1) := by decide +kernel
theorem dX6_next_172 : decode cX6_next 172 = .ok (.bipush 73, 2) := by decide +kernel
theorem dX6_next_174 : decode cX6_next 174 = .ok (.if_icmp .ge 18, 3) := by decide +kernel
theorem dX6_next_177 : decode cX6_next 177 = .ok (.aload_n 0, 1) := by decide +kernel
theorem dX6_next_178 : decode cX6_next 178 = .ok (.sipush 305, 3) := by decide +kernel
theorem dX6_next_181 : decode cX6_next 181 = .ok (.putfield 32, 3) := by decide +kernel
theorem dX6_next_184 : decode cX6_next 184 = .ok (.aload_n 0, 1) := by decide +kernel
theorem dX6_next_185 : decode cX6_next 185 = .ok (.iload_n 1, 1) := by decide +kernel
theorem dX6_next_186 : decode cX6_next 186 = .ok (.bipush 65, 2) := by decide +kernel
theorem dX6_next_188 : decode cX6_next 188 = .ok (.isub, 1) := by decide +kernel
theorem dX6_next_189 : decode cX6_next 189 = .ok (.putfield 39, 3) := by decide +kernel
theorem dX6_next_192 : decode cX6_next 192 = .ok (.iconst 0, 1) := by decide +kernel
theorem dX6_next_193 : decode cX6_next 193 = .ok (.istore_n 2, 1) := by decide +kernel
theorem dX6_next_194 : decode cX6_next 194 = .ok (.iload_n 2, 1) := by decide +kernel
theorem dX6_next_195 : decode cX6_next 195 = .ok (.getstatic 42, 3) := by decide +kernel
theorem dX6_next_198 : decode cX6_next 198 = .ok (.arraylength, 1) := by decide +kernel
theorem dX6_next_199 : decode cX6_next 199 = .ok (.if_icmp .ge 30, 3) := by decide +kernel
theorem dX6_next_202 : decode cX6_next 202 = .ok (.aload_n 0, 1) := by decide +kernel
theorem dX6_next_203 : decode cX6_next 203 = .ok (.getstatic 42, 3) := by decide +kernel
theorem dX6_next_206 : decode cX6_next 206 = .ok (.iload_n 2, 1) := by decide +kernel
theorem dX6_next_207 : decode cX6_next 207 = .ok (.aaload, 1) := by decide +kernel
theorem dX6_next_208 : decode cX6_next 208 = .ok (.invokevirtual 46, 3) := by decide +kernel
theorem dX6_next_211 : decode cX6_next 211 = .ok (.ifCond .eq 12, 3) := by decide +kernel
theorem dX6_next_214 : decode cX6_next 214 = .ok (.aload_n 0, 1) := by decide +kernel
theorem dX6_next_215 : decode cX6_next 215 = .ok (.sipush 200, 3) := by decide +kernel
theorem dX6_next_218 : decode cX6_next 218 = .ok (.iload_n 2, 1) := by decide +kernel
theorem dX6_next_219 : decode cX6_next 219 = .ok (.iadd, 1) := by decide +kernel
theorem dX6_next_220 : decode cX6_next 220 = .ok (.putfield 32, 3) := by decide +kernel
theorem dX6_next_223 : decode cX6_next 223 = .ok (.iinc 2 1, 3) := by decide +kernel
theorem dX6_next_226 : decode cX6_next 226 = .ok (.goto (-32), 3) := by decide +kernel
theorem dX6_next_229 : decode cX6_next 229 = .ok (.goto 223, 3) := by decide +kernel
theorem dX6_next_232 : decode cX6_next 232 = .ok (.aload_n 0, 1) := by decide +kernel
theorem dX6_next_233 : decode cX6_next 233 = .ok (.getfield 18, 3) := by decide +kernel
theorem dX6_next_236 : decode cX6_next 236 = .ok (.aload_n 0, 1) := by decide +kernel
theorem dX6_next_237 : decode cX6_next 237 = .ok (.getfield 26, 3) := by decide +kernel
theorem dX6_next_240 : decode cX6_next 240 = .ok (.baload, 1) := by decide +kernel
theorem dX6_next_241 : decode cX6_next 241 = .ok (.invokestatic 50, 3) := by decide +kernel
theorem dX6_next_244 : decode cX6_next 244 = .ok (.ifCond .eq 83, 3) := by decide +kernel
theorem dX6_next_247 : decode cX6_next 247 = .ok (.aload_n 0, 1) := by decide +kernel
theorem dX6_next_248 : decode cX6_next 248 = .ok (.sipush 300, 3) := by decide +kernel
theorem dX6_next_251 : decode cX6_next 251 = .ok (.putfield 32, 3) := by decide +kernel
theorem dX6_next_254 : decode cX6_next 254 = .ok (.aload_n 0, 1) := by decide +kernel
theorem dX6_next_255 : decode cX6_next 255 = .ok (.iconst 0, 1) := by decide +kernel
theorem dX6_next_256 : decode cX6_next 256 = .ok (.putfield 39, 3) := by decide +kernel
theorem dX6_next_259 : decode cX6_next 259 = .ok (.aload_n 0, 1) := by decide +kernel
theorem dX6_next_260 : decode cX6_next 260 = .ok (.getfield 26, 3) := by decide +kernel
theorem dX6_next_263 : decode cX6_next 263 = .ok (.aload_n 0, 1) := by decide +kernel
theorem dX6_next_264 : decode cX6_next 264 = .ok (.getfield 22, 3) := by decide +kernel
theorem dX6_next_267 : decode cX6_next 267 = .ok (.if_icmp .ge 185, 3) := by decide +kernel
theorem dX6_next_270 : decode cX6_next 270 = .ok (.aload_n 0, 1) := by decide +kernel
theorem dX6_next_271 : decode cX6_next 271 = .ok (.getfield 18, 3) := by decide +kernel
theorem dX6_next_274 : decode cX6_next 274 = .ok (.aload_n 0, 1) := by decide +kernel
theorem dX6_next_275 : decode cX6_next 275 = .ok (.getfield 26, 3) := by decide +kernel
theorem dX6_next_278 : decode cX6_next 278 = .ok (.baload, 1) := by decide +kernel
theorem dX6_next_279 : decode cX6_next 279 = .ok (.invokestatic 50, 3) := by decide +kernel
theorem dX6_next_282 : decode cX6_next 282 = .ok (.ifCond .eq 170, 3) := by decide +kernel
theorem dX6_next_285 : decode cX6_next 285 = .ok (.aload_n 0, 1) := by decide +kernel
theorem dX6_next_286 : decode cX6_next 286 = .ok (.ldc 53, 2) := by decide +kernel
theorem dX6_next_288 : decode cX6_next 288 = .ok (.bipush 10, 2) := by decide +kernel
theorem dX6_next_290 : decode cX6_next 290 = .ok (.aload_n 0, 1) := by decide +kernel
theorem dX6_next_291 : decode cX6_next 291 = .ok (.getfield 39, 3) := by decide +kernel
theorem dX6_next_294 : decode cX6_next 294 = .ok (.imul, 1) := by decide +kernel
theorem dX6_next_295 : decode cX6_next 295 = .ok (.aload_n 0, 1) := by decide +kernel
theorem dX6_next_296 : decode cX6_next 296 = .ok (.getfield 18, 3) := by decide +kernel
theorem dX6_next_299 : decode cX6_next 299 = .ok (.aload_n 0, 1) := by decide +kernel
theorem dX6_next_300 : decode cX6_next 300 = .ok (.getfield 26, 3) := by decide +kernel
theorem dX6_next_303 : decode cX6_next 303 = .ok (.baload, 1) := by decide +kernel
theorem dX6_next_304 : decode cX6_next 304 = .ok (.iadd, 1) := by decide +kernel
theorem dX6_next_305 : decode cX6_next 305 = .ok (.bipush 48, 2) := by decide +kernel
theorem dX6_next_307 : decode cX6_next 307 = .ok (.isub, 1) := by decide +kernel
theorem dX6_next_308 : decode cX6_next 308 = .ok (.invokestatic 54, 3) := by decide +kernel
theorem dX6_next_311 : decode cX6_next 311 = .ok (.putfield 39, 3) := by decide +kernel
theorem dX6_next_314 : decode cX6_next 314 = .ok (.aload_n 0, 1) := by decide +kernel
theorem dX6_next_315 : decode cX6_next 315 = .ok (.dup, 1) := by decide +kernel
theorem dX6_next_316 : decode cX6_next 316 = .ok (.getfield 26, 3) := by decide +kernel
theorem dX6_next_319 : decode cX6_next 319 = .ok (.iconst 1, 1) := by decide +kernel
theorem dX6_next_320 : decode cX6_next 320 = .ok (.iadd, 1) := by decide +kernel
theorem dX6_next_321 : decode cX6_next 321 = .ok (.putfield 26, 3) := by decide +kernel
theorem dX6_next_324 : decode cX6_next 324 = .ok (.goto (-65), 3) := by decide +kernel
theorem dX6_next_327 : decode cX6_next 327 = .ok (.aload_n 0, 1) := by decide +kernel
theorem dX6_next_328 : decode cX6_next 328 = .ok (.getfield 18, 3) := by decide +kernel
theorem dX6_next_331 : decode cX6_next 331 = .ok (.aload_n 0, 1) := by decide +kernel
theorem dX6_next_332 : decode cX6_next 332 = .ok (.getfield 26, 3) := by decide +kernel
theorem dX6_next_335 : decode cX6_next 335 = .ok (.baload, 1) := by decide +kernel
theorem dX6_next_336 : decode cX6_next 336 = .ok (.istore_n 1, 1) := by decide +kernel
theorem dX6_next_337 : decode cX6_next 337 = .ok (.aload_n 0, 1) := by decide +kernel
theorem dX6_next_338 : decode cX6_next 338 = .ok (.dup, 1) := by decide +kernel
theorem dX6_next_339 : decode cX6_next 339 = .ok (.getfield 26, 3) := by decide +kernel
theorem dX6_next_342 : decode cX6_next 342 = .ok (.iconst 1, 1) := by decide +kernel
theorem dX6_next_343 : decode cX6_next 343 = .ok (.iadd, 1) := by decide +kernel
theorem dX6_next_344 : decode cX6_next 344 = .ok (.putfield 26, 3) := by decide +kernel
theorem dX6_next_347 : decode cX6_next 347 = .ok (.aload_n 0, 1) := by decide +kernel
theorem dX6_next_348 : decode cX6_next 348 = .ok (.sipush 302, 3) := by decide +kernel
theorem dX6_next_351 : decode cX6_next 351 = .ok (.putfield 32, 3) := by decide +kernel
theorem dX6_next_354 : decode cX6_next 354 = .ok (.iconst 0, 1) := by decide +kernel
theorem dX6_next_355 : decode cX6_next 355 = .ok (.istore_n 2, 1) := by decide +kernel
theorem dX6_next_356 : decode cX6_next 356 = .ok (.iload_n 2, 1) := by decide +kernel
theorem dX6_next_357 : decode cX6_next 357 = .ok (.ldc 60, 2) := by decide +kernel
theorem dX6_next_359 : decode cX6_next 359 = .ok (.invokevirtual 62, 3) := by decide +kernel
theorem dX6_next_362 : decode cX6_next 362 = .ok (.if_icmp .ge 24, 3) := by decide +kernel
theorem dX6_next_365 : decode cX6_next 365 = .ok (.ldc 60, 2) := by decide +kernel
theorem dX6_next_367 : decode cX6_next 367 = .ok (.iload_n 2, 1) := by decide +kernel
theorem dX6_next_368 : decode cX6_next 368 = .ok (.invokevirtual 68, 3) := by decide +kernel
theorem dX6_next_371 : decode cX6_next 371 = .ok (.iload_n 1, 1) := by decide +kernel
theorem dX6_next_372 : decode cX6_next 372 = .ok (.if_icmp .ne 8, 3) := by decide +kernel
theorem dX6_next_375 : decode cX6_next 375 = .ok (.aload_n 0, 1) := by decide +kernel
theorem dX6_next_376 : decode cX6_next 376 = .ok (.iload_n 1, 1) := by decide +kernel
theorem dX6_next_377 : decode cX6_next 377 = .ok (.putfield 32, 3) := by decide +kernel
theorem dX6_next_380 : decode cX6_next 380 = .ok (.iinc 2 1, 3) := by decide +kernel
theorem dX6_next_383 : decode cX6_next 383 = .ok (.goto (-27), 3) := by decide +kernel
theorem dX6_next_386 : decode cX6_next 386 = .ok (.iload_n 1, 1) := by decide +kernel
theorem dX6_next_387 : decode cX6_next 387 = .ok (.bipush 60, 2) := by decide +kernel
theorem dX6_next_389 : decode cX6_next 389 = .ok (.if_icmp .eq 9, 3) := by decide +kernel
theorem dX6_next_392 : decode cX6_next 392 = .ok (.iload_n 1, 1) := by decide +kernel
theorem dX6_next_393 : decode cX6_next 393 = .ok (.bipush 62, 2) := by decide +kernel
theorem dX6_next_395 : decode cX6_next 395 = .ok (.if_icmp .ne 57, 3) := by decide +kernel
theorem dX6_next_398 : decode cX6_next 398 = .ok (.aload_n 0, 1) := by decide +kernel
theorem dX6_next_399 : decode cX6_next 399 = .ok (.getfield 26, 3) := by decide +kernel
theorem dX6_next_402 : decode cX6_next 402 = .ok (.aload_n 0, 1) := by decide +kernel
theorem dX6_next_403 : decode cX6_next 403 = .ok (.getfield 22, 3) := by decide +kernel
theorem dX6_next_406 : decode cX6_next 406 = .ok (.if_icmp .ge 46, 3) := by decide +kernel
theorem dX6_next_409 : decode cX6_next 409 = .ok (.aload_n 0, 1) := by decide +kernel
theorem dX6_next_410 : decode cX6_next 410 = .ok (.getfield 18, 3) := by decide +kernel
theorem dX6_next_413 : decode cX6_next 413 = .ok (.aload_n 0, 1) := by decide +kernel
theorem dX6_next_414 : decode cX6_next 414 = .ok (.getfield 26, 3) := by decide +kernel
theorem dX6_next_417 : decode cX6_next 417 = .ok (.baload, 1) := by decide +kernel
theorem dX6_next_418 : decode cX6_next 418 = .ok (.bipush 61, 2) := by decide +kernel
theorem dX6_next_420 : decode cX6_next 420 = .ok (.if_icmp .ne 32, 3) := by decide +kernel
theorem dX6_next_423 : decode cX6_next 423 = .ok (.aload_n 0, 1) := by decide +kernel
theorem dX6_next_424 : decode cX6_next 424 = .ok (.iload_n 1, 1) := by decide +kernel
theorem dX6_next_425 : decode cX6_next 425 = .ok (.bipush 60, 2) := by decide +kernel
theorem dX6_next_427 : decode cX6_next 427 = .ok (.if_icmp .ne 9, 3) := by decide +kernel
theorem dX6_next_430 : decode cX6_next 430 = .ok (.sipush 303, 3) := by decide +kernel
theorem dX6_next_433 : decode cX6_next 433 = .ok (.goto 6, 3) := by decide +kernel
theorem dX6_next_436 : decode cX6_next 436 = .ok (.sipush 304, 3) := by decide +kernel
theorem dX6_next_439 : decode cX6_next 439 = .ok (.putfield 32, 3) := by decide +kernel
theorem dX6_next_442 : decode cX6_next 442 = .ok (.aload_n 0, 1) := by decide +kernel
theorem dX6_next_443 : decode cX6_next 443 = .ok (.dup, 1) := by decide +kernel
theorem dX6_next_444 : decode cX6_next 444 = .ok (.getfield 26, 3) := by decide +kernel
theorem dX6_next_447 : decode cX6_next 447 = .ok (.iconst 1, 1) := by decide +kernel
theorem dX6_next_448 : decode cX6_next 448 = .ok (.iadd, 1) := by decide +kernel
theorem dX6_next_449 : decode cX6_next 449 = .ok (.putfield 26, 3) := by decide +kernel
theorem dX6_next_452 : decode cX6_next 452 = .ok (.return_, 1) := by decide +kernel
abbrev cX6_isLetter : ByteArray := prog_19_method_2_code
def yX6_isLetter : MethodName := ⟨RX6, "isLetter", "(I)Z"⟩
theorem dX6_isLetter_0 : decode cX6_isLetter 0 = .ok (.iload_n 0, 1) := by decide +kernel
theorem dX6_isLetter_1 : decode cX6_isLetter 1 = .ok (.bipush 97, 2) := by decide +kernel
theorem dX6_isLetter_3 : decode cX6_isLetter 3 = .ok (.if_icmp .lt 9, 3) := by decide +kernel
theorem dX6_isLetter_6 : decode cX6_isLetter 6 = .ok (.iload_n 0, 1) := by decide +kernel
theorem dX6_isLetter_7 : decode cX6_isLetter 7 = .ok (.bipush 122, 2) := by decide +kernel
theorem dX6_isLetter_9 : decode cX6_isLetter 9 = .ok (.if_icmp .le 15, 3) := by decide +kernel
theorem dX6_isLetter_12 : decode cX6_isLetter 12 = .ok (.iload_n 0, 1) := by decide +kernel
theorem dX6_isLetter_13 : decode cX6_isLetter 13 = .ok (.bipush 65, 2) := by decide +kernel
theorem dX6_isLetter_15 : decode cX6_isLetter 15 = .ok (.if_icmp .lt 13, 3) := by decide +kernel
theorem dX6_isLetter_18 : decode cX6_isLetter 18 = .ok (.iload_n 0, 1) := by decide +kernel
theorem dX6_isLetter_19 : decode cX6_isLetter 19 = .ok (.bipush 90, 2) := by decide +kernel
theorem dX6_isLetter_21 : decode cX6_isLetter 21 = .ok (.if_icmp .gt 7, 3) := by decide +kernel
theorem dX6_isLetter_24 : decode cX6_isLetter 24 = .ok (.iconst 1, 1) := by decide +kernel
theorem dX6_isLetter_25 : decode cX6_isLetter 25 = .ok (.goto 4, 3) := by decide +kernel
theorem dX6_isLetter_28 : decode cX6_isLetter 28 = .ok (.iconst 0, 1) := by decide +kernel
theorem dX6_isLetter_29 : decode cX6_isLetter 29 = .ok (.ireturn, 1) := by decide +kernel
abbrev cX6_isWord : ByteArray := prog_19_method_5_code
def yX6_isWord : MethodName := ⟨RX6, "isWord", "(Ljava/lang/String;)Z"⟩
theorem dX6_isWord_0 : decode cX6_isWord 0 = .ok (.aload_n 0, 1) := by decide +kernel
theorem dX6_isWord_1 : decode cX6_isWord 1 = .ok (.getfield 26, 3) := by decide +kernel
theorem dX6_isWord_4 : decode cX6_isWord 4 = .ok (.aload_n 0, 1) := by decide +kernel
theorem dX6_isWord_5 : decode cX6_isWord 5 = .ok (.getfield 29, 3) := by decide +kernel
theorem dX6_isWord_8 : decode cX6_isWord 8 = .ok (.isub, 1) := by decide +kernel
theorem dX6_isWord_9 : decode cX6_isWord 9 = .ok (.aload_n 1, 1) := by decide +kernel
theorem dX6_isWord_10 : decode cX6_isWord 10 = .ok (.invokevirtual 62, 3) := by decide +kernel
theorem dX6_isWord_13 : decode cX6_isWord 13 = .ok (.if_icmp .eq 5, 3) := by decide +kernel
theorem dX6_isWord_16 : decode cX6_isWord 16 = .ok (.iconst 0, 1) := by decide +kernel
theorem dX6_isWord_17 : decode cX6_isWord 17 = .ok (.ireturn, 1) := by decide +kernel
theorem dX6_isWord_18 : decode cX6_isWord 18 = .ok (.iconst 0, 1) := by decide +kernel
theorem dX6_isWord_19 : decode cX6_isWord 19 = .ok (.istore_n 2, 1) := by decide +kernel
theorem dX6_isWord_20 : decode cX6_isWord 20 = .ok (.iload_n 2, 1) := by decide +kernel
theorem dX6_isWord_21 : decode cX6_isWord 21 = .ok (.aload_n 1, 1) := by decide +kernel
theorem dX6_isWord_22 : decode cX6_isWord 22 = .ok (.invokevirtual 62, 3) := by decide +kernel
theorem dX6_isWord_25 : decode cX6_isWord 25 = .ok (.if_icmp .ge 30, 3) := by decide +kernel
theorem dX6_isWord_28 : decode cX6_isWord 28 = .ok (.aload_n 0, 1) := by decide +kernel
theorem dX6_isWord_29 : decode cX6_isWord 29 = .ok (.getfield 18, 3) := by decide +kernel
theorem dX6_isWord_32 : decode cX6_isWord 32 = .ok (.aload_n 0, 1) := by decide +kernel
theorem dX6_isWord_33 : decode cX6_isWord 33 = .ok (.getfield 29, 3) := by decide +kernel
theorem dX6_isWord_36 : decode cX6_isWord 36 = .ok (.iload_n 2, 1) := by decide +kernel
theorem dX6_isWord_37 : decode cX6_isWord 37 = .ok (.iadd, 1) := by decide +kernel
theorem dX6_isWord_38 : decode cX6_isWord 38 = .ok (.baload, 1) := by decide +kernel
theorem dX6_isWord_39 : decode cX6_isWord 39 = .ok (.aload_n 1, 1) := by decide +kernel
theorem dX6_isWord_40 : decode cX6_isWord 40 = .ok (.iload_n 2, 1) := by decide +kernel
theorem dX6_isWord_41 : decode cX6_isWord 41 = .ok (.invokevirtual 68, 3) := by decide +kernel
theorem dX6_isWord_44 : decode cX6_isWord 44 = .ok (.if_icmp .eq 5, 3) := by decide +kernel
theorem dX6_isWord_47 : decode cX6_isWord 47 = .ok (.iconst 0, 1) := by decide +kernel
theorem dX6_isWord_48 : decode cX6_isWord 48 = .ok (.ireturn, 1) := by decide +kernel
theorem dX6_isWord_49 : decode cX6_isWord 49 = .ok (.iinc 2 1, 3) := by decide +kernel
theorem dX6_isWord_52 : decode cX6_isWord 52 = .ok (.goto (-32), 3) := by decide +kernel
theorem dX6_isWord_55 : decode cX6_isWord 55 = .ok (.iconst 1, 1) := by decide +kernel
theorem dX6_isWord_56 : decode cX6_isWord 56 = .ok (.ireturn, 1) := by decide +kernel
abbrev cX6_isDigit : ByteArray := prog_19_method_3_code
def yX6_isDigit : MethodName := ⟨RX6, "isDigit", "(I)Z"⟩
theorem dX6_isDigit_0 : decode cX6_isDigit 0 = .ok (.iload_n 0, 1) := by decide +kernel
theorem dX6_isDigit_1 : decode cX6_isDigit 1 = .ok (.bipush 48, 2) := by decide +kernel
theorem dX6_isDigit_3 : decode cX6_isDigit 3 = .ok (.if_icmp .lt 13, 3) := by decide +kernel
theorem dX6_isDigit_6 : decode cX6_isDigit 6 = .ok (.iload_n 0, 1) := by decide +kernel
theorem dX6_isDigit_7 : decode cX6_isDigit 7 = .ok (.bipush 57, 2) := by decide +kernel
theorem dX6_isDigit_9 : decode cX6_isDigit 9 = .ok (.if_icmp .gt 7, 3) := by decide +kernel
theorem dX6_isDigit_12 : decode cX6_isDigit 12 = .ok (.iconst 1, 1) := by decide +kernel
theorem dX6_isDigit_13 : decode cX6_isDigit 13 = .ok (.goto 4, 3) := by decide +kernel
theorem dX6_isDigit_16 : decode cX6_isDigit 16 = .ok (.iconst 0, 1) := by decide +kernel
theorem dX6_isDigit_17 : decode cX6_isDigit 17 = .ok (.ireturn, 1) := by decide +kernel
abbrev cX6_wrong : ByteArray := prog_19_method_6_code
def yX6_wrong : MethodName := ⟨RX6, "wrong", "(I)LManyEyes$Wrong;"⟩
theorem dX6_wrong_0 : decode cX6_wrong 0 = .ok (.new 72, 3) := by decide +kernel
theorem dX6_wrong_3 : decode cX6_wrong 3 = .ok (.dup, 1) := by decide +kernel
theorem dX6_wrong_4 : decode cX6_wrong 4 = .ok (.iload_n 1, 1) := by decide +kernel
theorem dX6_wrong_5 : decode cX6_wrong 5 = .ok (.aload_n 0, 1) := by decide +kernel
theorem dX6_wrong_6 : decode cX6_wrong 6 = .ok (.getfield 29, 3) := by decide +kernel
theorem dX6_wrong_9 : decode cX6_wrong 9 = .ok (.invokespecial 74, 3) := by decide +kernel
theorem dX6_wrong_12 : decode cX6_wrong 12 = .ok (.areturn, 1) := by decide +kernel
abbrev cX6_letter : ByteArray := prog_19_method_11_code
def yX6_letter : MethodName := ⟨RX6, "letter", "()I"⟩
theorem dX6_letter_0 : decode cX6_letter 0 = .ok (.aload_n 0, 1) := by decide +kernel
theorem dX6_letter_1 : decode cX6_letter 1 = .ok (.getfield 32, 3) := by decide +kernel
theorem dX6_letter_4 : decode cX6_letter 4 = .ok (.sipush 305, 3) := by decide +kernel
theorem dX6_letter_7 : decode cX6_letter 7 = .ok (.if_icmp .eq 9, 3) := by decide +kernel
theorem dX6_letter_10 : decode cX6_letter 10 = .ok (.aload_n 0, 1) := by decide +kernel
theorem dX6_letter_11 : decode cX6_letter 11 = .ok (.iconst 1, 1) := by decide +kernel
theorem dX6_letter_12 : decode cX6_letter 12 = .ok (.invokevirtual 77, 3) := by decide +kernel
theorem dX6_letter_15 : decode cX6_letter 15 = .ok (.athrow, 1) := by decide +kernel
theorem dX6_letter_16 : decode cX6_letter 16 = .ok (.aload_n 0, 1) := by decide +kernel
theorem dX6_letter_17 : decode cX6_letter 17 = .ok (.getfield 9, 3) := by decide +kernel
theorem dX6_letter_20 : decode cX6_letter 20 = .ok (.aload_n 0, 1) := by decide +kernel
theorem dX6_letter_21 : decode cX6_letter 21 = .ok (.getfield 39, 3) := by decide +kernel
theorem dX6_letter_24 : decode cX6_letter 24 = .ok (.baload, 1) := by decide +kernel
theorem dX6_letter_25 : decode cX6_letter 25 = .ok (.ifCond .eq 9, 3) := by decide +kernel
theorem dX6_letter_28 : decode cX6_letter 28 = .ok (.aload_n 0, 1) := by decide +kernel
theorem dX6_letter_29 : decode cX6_letter 29 = .ok (.iconst 4, 1) := by decide +kernel
theorem dX6_letter_30 : decode cX6_letter 30 = .ok (.invokevirtual 77, 3) := by decide +kernel
theorem dX6_letter_33 : decode cX6_letter 33 = .ok (.athrow, 1) := by decide +kernel
theorem dX6_letter_34 : decode cX6_letter 34 = .ok (.aload_n 0, 1) := by decide +kernel
theorem dX6_letter_35 : decode cX6_letter 35 = .ok (.getfield 39, 3) := by decide +kernel
theorem dX6_letter_38 : decode cX6_letter 38 = .ok (.istore_n 1, 1) := by decide +kernel
theorem dX6_letter_39 : decode cX6_letter 39 = .ok (.aload_n 0, 1) := by decide +kernel
theorem dX6_letter_40 : decode cX6_letter 40 = .ok (.invokevirtual 81, 3) := by decide +kernel
theorem dX6_letter_43 : decode cX6_letter 43 = .ok (.iload_n 1, 1) := by decide +kernel
theorem dX6_letter_44 : decode cX6_letter 44 = .ok (.ireturn, 1) := by decide +kernel
abbrev cX6_either : ByteArray := prog_19_method_12_code
def yX6_either : MethodName := ⟨RX6, "either", "()LManyEyes$Asked;"⟩
theorem dX6_either_0 : decode cX6_either 0 = .ok (.new 87, 3) := by decide +kernel
theorem dX6_either_3 : decode cX6_either 3 = .ok (.dup, 1) := by decide +kernel
theorem dX6_either_4 : decode cX6_either 4 = .ok (.invokespecial 89, 3) := by decide +kernel
theorem dX6_either_7 : decode cX6_either 7 = .ok (.astore_n 1, 1) := by decide +kernel
theorem dX6_either_8 : decode cX6_either 8 = .ok (.aload_n 1, 1) := by decide +kernel
theorem dX6_either_9 : decode cX6_either 9 = .ok (.aload_n 0, 1) := by decide +kernel
theorem dX6_either_10 : decode cX6_either 10 = .ok (.invokevirtual 125, 3) := by decide +kernel
theorem dX6_either_13 : decode cX6_either 13 = .ok (.invokevirtual 121, 3) := by decide +kernel
theorem dX6_either_16 : decode cX6_either 16 = .ok (.pop, 1) := by decide +kernel
theorem dX6_either_17 : decode cX6_either 17 = .ok (.aload_n 0, 1) := by decide +kernel
theorem dX6_either_18 : decode cX6_either 18 = .ok (.getfield 32, 3) := by decide +kernel
theorem dX6_either_21 : decode cX6_either 21 = .ok (.sipush 204, 3) := by decide +kernel
theorem dX6_either_24 : decode cX6_either 24 = .ok (.if_icmp .ne 19, 3) := by decide +kernel
theorem dX6_either_27 : decode cX6_either 27 = .ok (.aload_n 0, 1) := by decide +kernel
theorem dX6_either_28 : decode cX6_either 28 = .ok (.invokevirtual 81, 3) := by decide +kernel
theorem dX6_either_31 : decode cX6_either 31 = .ok (.aload_n 1, 1) := by decide +kernel
theorem dX6_either_32 : decode cX6_either 32 = .ok (.aload_n 0, 1) := by decide +kernel
theorem dX6_either_33 : decode cX6_either 33 = .ok (.invokevirtual 125, 3) := by decide +kernel
theorem dX6_either_36 : decode cX6_either 36 = .ok (.invokevirtual 121, 3) := by decide +kernel
theorem dX6_either_39 : decode cX6_either 39 = .ok (.pop, 1) := by decide +kernel
theorem dX6_either_40 : decode cX6_either 40 = .ok (.goto (-23), 3) := by decide +kernel
theorem dX6_either_43 : decode cX6_either 43 = .ok (.aload_n 1, 1) := by decide +kernel
theorem dX6_either_44 : decode cX6_either 44 = .ok (.invokevirtual 90, 3) := by decide +kernel
theorem dX6_either_47 : decode cX6_either 47 = .ok (.iconst 1, 1) := by decide +kernel
theorem dX6_either_48 : decode cX6_either 48 = .ok (.if_icmp .ne 14, 3) := by decide +kernel
theorem dX6_either_51 : decode cX6_either 51 = .ok (.aload_n 1, 1) := by decide +kernel
theorem dX6_either_52 : decode cX6_either 52 = .ok (.iconst 0, 1) := by decide +kernel
theorem dX6_either_53 : decode cX6_either 53 = .ok (.invokevirtual 128, 3) := by decide +kernel
theorem dX6_either_56 : decode cX6_either 56 = .ok (.checkcast 132, 3) := by decide +kernel
theorem dX6_either_59 : decode cX6_either 59 = .ok (.goto 12, 3) := by decide +kernel
theorem dX6_either_62 : decode cX6_either 62 = .ok (.new 134, 3) := by decide +kernel
theorem dX6_either_65 : decode cX6_either 65 = .ok (.dup, 1) := by decide +kernel
theorem dX6_either_66 : decode cX6_either 66 = .ok (.iconst 0, 1) := by decide +kernel
theorem dX6_either_67 : decode cX6_either 67 = .ok (.aload_n 1, 1) := by decide +kernel
theorem dX6_either_68 : decode cX6_either 68 = .ok (.invokespecial 136, 3) := by decide +kernel
theorem dX6_either_71 : decode cX6_either 71 = .ok (.areturn, 1) := by decide +kernel
abbrev cX6_both : ByteArray := prog_19_method_13_code
def yX6_both : MethodName := ⟨RX6, "both", "()LManyEyes$Asked;"⟩
theorem dX6_both_0 : decode cX6_both 0 = .ok (.new 87, 3) := by decide +kernel
theorem dX6_both_3 : decode cX6_both 3 = .ok (.dup, 1) := by decide +kernel
theorem dX6_both_4 : decode cX6_both 4 = .ok (.invokespecial 89, 3) := by decide +kernel
theorem dX6_both_7 : decode cX6_both 7 = .ok (.astore_n 1, 1) := by decide +kernel
theorem dX6_both_8 : decode cX6_both 8 = .ok (.aload_n 1, 1) := by decide +kernel
theorem dX6_both_9 : decode cX6_both 9 = .ok (.aload_n 0, 1) := by decide +kernel
theorem dX6_both_10 : decode cX6_both 10 = .ok (.invokevirtual 139, 3) := by decide +kernel
theorem dX6_both_13 : decode cX6_both 13 = .ok (.invokevirtual 121, 3) := by decide +kernel
theorem dX6_both_16 : decode cX6_both 16 = .ok (.pop, 1) := by decide +kernel
theorem dX6_both_17 : decode cX6_both 17 = .ok (.aload_n 0, 1) := by decide +kernel
theorem dX6_both_18 : decode cX6_both 18 = .ok (.getfield 32, 3) := by decide +kernel
theorem dX6_both_21 : decode cX6_both 21 = .ok (.sipush 205, 3) := by decide +kernel
theorem dX6_both_24 : decode cX6_both 24 = .ok (.if_icmp .ne 19, 3) := by decide +kernel
theorem dX6_both_27 : decode cX6_both 27 = .ok (.aload_n 0, 1) := by decide +kernel
theorem dX6_both_28 : decode cX6_both 28 = .ok (.invokevirtual 81, 3) := by decide +kernel
theorem dX6_both_31 : decode cX6_both 31 = .ok (.aload_n 1, 1) := by decide +kernel
theorem dX6_both_32 : decode cX6_both 32 = .ok (.aload_n 0, 1) := by decide +kernel
theorem dX6_both_33 : decode cX6_both 33 = .ok (.invokevirtual 139, 3) := by decide +kernel
theorem dX6_both_36 : decode cX6_both 36 = .ok (.invokevirtual 121, 3) := by decide +kernel
theorem dX6_both_39 : decode cX6_both 39 = .ok (.pop, 1) := by decide +kernel
theorem dX6_both_40 : decode cX6_both 40 = .ok (.goto (-23), 3) := by decide +kernel
theorem dX6_both_43 : decode cX6_both 43 = .ok (.aload_n 1, 1) := by decide +kernel
theorem dX6_both_44 : decode cX6_both 44 = .ok (.invokevirtual 90, 3) := by decide +kernel
theorem dX6_both_47 : decode cX6_both 47 = .ok (.iconst 1, 1) := by decide +kernel
theorem dX6_both_48 : decode cX6_both 48 = .ok (.if_icmp .ne 14, 3) := by decide +kernel
theorem dX6_both_51 : decode cX6_both 51 = .ok (.aload_n 1, 1) := by decide +kernel
theorem dX6_both_52 : decode cX6_both 52 = .ok (.iconst 0, 1) := by decide +kernel
theorem dX6_both_53 : decode cX6_both 53 = .ok (.invokevirtual 128, 3) := by decide +kernel
theorem dX6_both_56 : decode cX6_both 56 = .ok (.checkcast 132, 3) := by decide +kernel
theorem dX6_both_59 : decode cX6_both 59 = .ok (.goto 12, 3) := by decide +kernel
theorem dX6_both_62 : decode cX6_both 62 = .ok (.new 134, 3) := by decide +kernel
theorem dX6_both_65 : decode cX6_both 65 = .ok (.dup, 1) := by decide +kernel
theorem dX6_both_66 : decode cX6_both 66 = .ok (.iconst 1, 1) := by decide +kernel
theorem dX6_both_67 : decode cX6_both 67 = .ok (.aload_n 1, 1) := by decide +kernel
theorem dX6_both_68 : decode cX6_both 68 = .ok (.invokespecial 136, 3) := by decide +kernel
theorem dX6_both_71 : decode cX6_both 71 = .ok (.areturn, 1) := by decide +kernel
abbrev cX6_ask : ByteArray := prog_19_method_14_code
def yX6_ask : MethodName := ⟨RX6, "ask", "()LManyEyes$Asked;"⟩
theorem dX6_ask_0 : decode cX6_ask 0 = .ok (.aload_n 0, 1) := by decide +kernel
theorem dX6_ask_1 : decode cX6_ask 1 = .ok (.getfield 32, 3) := by decide +kernel
theorem dX6_ask_4 : decode cX6_ask 4 = .ok (.sipush 206, 3) := by decide +kernel
theorem dX6_ask_7 : decode cX6_ask 7 = .ok (.if_icmp .ne 31, 3) := by decide +kernel
theorem dX6_ask_10 : decode cX6_ask 10 = .ok (.aload_n 0, 1) := by decide +kernel
theorem dX6_ask_11 : decode cX6_ask 11 = .ok (.invokevirtual 142, 3) := by decide +kernel
theorem dX6_ask_14 : decode cX6_ask 14 = .ok (.new 145, 3) := by decide +kernel
theorem dX6_ask_17 : decode cX6_ask 17 = .ok (.dup, 1) := by decide +kernel
theorem dX6_ask_18 : decode cX6_ask 18 = .ok (.aload_n 0, 1) := by decide +kernel
theorem dX6_ask_19 : decode cX6_ask 19 = .ok (.invokevirtual 139, 3) := by decide +kernel
theorem dX6_ask_22 : decode cX6_ask 22 = .ok (.invokespecial 147, 3) := by decide +kernel
theorem dX6_ask_25 : decode cX6_ask 25 = .ok (.astore_n 1, 1) := by decide +kernel
theorem dX6_ask_26 : decode cX6_ask 26 = .ok (.aload_n 0, 1) := by decide +kernel
theorem dX6_ask_27 : decode cX6_ask 27 = .ok (.dup, 1) := by decide +kernel
theorem dX6_ask_28 : decode cX6_ask 28 = .ok (.getfield 84, 3) := by decide +kernel
theorem dX6_ask_31 : decode cX6_ask 31 = .ok (.iconst 1, 1) := by decide +kernel
theorem dX6_ask_32 : decode cX6_ask 32 = .ok (.isub, 1) := by decide +kernel
theorem dX6_ask_33 : decode cX6_ask 33 = .ok (.putfield 84, 3) := by decide +kernel
theorem dX6_ask_36 : decode cX6_ask 36 = .ok (.aload_n 1, 1) := by decide +kernel
theorem dX6_ask_37 : decode cX6_ask 37 = .ok (.areturn, 1) := by decide +kernel
theorem dX6_ask_38 : decode cX6_ask 38 = .ok (.aload_n 0, 1) := by decide +kernel
theorem dX6_ask_39 : decode cX6_ask 39 = .ok (.invokevirtual 111, 3) := by decide +kernel
theorem dX6_ask_42 : decode cX6_ask 42 = .ok (.astore_n 1, 1) := by decide +kernel
theorem dX6_ask_43 : decode cX6_ask 43 = .ok (.aload_n 0, 1) := by decide +kernel
theorem dX6_ask_44 : decode cX6_ask 44 = .ok (.getfield 32, 3) := by decide +kernel
theorem dX6_ask_47 : decode cX6_ask 47 = .ok (.istore_n 2, 1) := by decide +kernel
theorem dX6_ask_48 : decode cX6_ask 48 = .ok (.iload_n 2, 1) := by decide +kernel
theorem dX6_ask_49 : decode cX6_ask 49 = .ok (.bipush 60, 2) := by decide +kernel
theorem dX6_ask_51 : decode cX6_ask 51 = .ok (.if_icmp .eq 41, 3) := by decide +kernel
theorem dX6_ask_54 : decode cX6_ask 54 = .ok (.iload_n 2, 1) := by decide +kernel
theorem dX6_ask_55 : decode cX6_ask 55 = .ok (.bipush 62, 2) := by decide +kernel
theorem dX6_ask_57 : decode cX6_ask 57 = .ok (.if_icmp .eq 35, 3) := by decide +kernel
theorem dX6_ask_60 : decode cX6_ask 60 = .ok (.iload_n 2, 1) := by decide +kernel
theorem dX6_ask_61 : decode cX6_ask 61 = .ok (.bipush 61, 2) := by decide +kernel
theorem dX6_ask_63 : decode cX6_ask 63 = .ok (.if_icmp .eq 29, 3) := by decide +kernel
theorem dX6_ask_66 : decode cX6_ask 66 = .ok (.iload_n 2, 1) := by decide +kernel
theorem dX6_ask_67 : decode cX6_ask 67 = .ok (.bipush 35, 2) := by decide +kernel
theorem dX6_ask_69 : decode cX6_ask 69 = .ok (.if_icmp .eq 23, 3) := by decide +kernel
theorem dX6_ask_72 : decode cX6_ask 72 = .ok (.iload_n 2, 1) := by decide +kernel
theorem dX6_ask_73 : decode cX6_ask 73 = .ok (.sipush 303, 3) := by decide +kernel
theorem dX6_ask_76 : decode cX6_ask 76 = .ok (.if_icmp .eq 16, 3) := by decide +kernel
theorem dX6_ask_79 : decode cX6_ask 79 = .ok (.iload_n 2, 1) := by decide +kernel
theorem dX6_ask_80 : decode cX6_ask 80 = .ok (.sipush 304, 3) := by decide +kernel
theorem dX6_ask_83 : decode cX6_ask 83 = .ok (.if_icmp .eq 9, 3) := by decide +kernel
theorem dX6_ask_86 : decode cX6_ask 86 = .ok (.aload_n 0, 1) := by decide +kernel
theorem dX6_ask_87 : decode cX6_ask 87 = .ok (.iconst 1, 1) := by decide +kernel
theorem dX6_ask_88 : decode cX6_ask 88 = .ok (.invokevirtual 77, 3) := by decide +kernel
theorem dX6_ask_91 : decode cX6_ask 91 = .ok (.athrow, 1) := by decide +kernel
theorem dX6_ask_92 : decode cX6_ask 92 = .ok (.aload_n 0, 1) := by decide +kernel
theorem dX6_ask_93 : decode cX6_ask 93 = .ok (.invokevirtual 81, 3) := by decide +kernel
theorem dX6_ask_96 : decode cX6_ask 96 = .ok (.new 150, 3) := by decide +kernel
theorem dX6_ask_99 : decode cX6_ask 99 = .ok (.dup, 1) := by decide +kernel
theorem dX6_ask_100 : decode cX6_ask 100 = .ok (.iload_n 2, 1) := by decide +kernel
theorem dX6_ask_101 : decode cX6_ask 101 = .ok (.aload_n 1, 1) := by decide +kernel
theorem dX6_ask_102 : decode cX6_ask 102 = .ok (.aload_n 0, 1) := by decide +kernel
theorem dX6_ask_103 : decode cX6_ask 103 = .ok (.invokevirtual 111, 3) := by decide +kernel
theorem dX6_ask_106 : decode cX6_ask 106 = .ok (.invokespecial 152, 3) := by decide +kernel
theorem dX6_ask_109 : decode cX6_ask 109 = .ok (.areturn, 1) := by decide +kernel
abbrev cX6_opens : ByteArray := prog_19_method_9_code
def yX6_opens : MethodName := ⟨RX6, "opens", "()V"⟩
theorem dX6_opens_0 : decode cX6_opens 0 = .ok (.aload_n 0, 1) := by decide +kernel
theorem dX6_opens_1 : decode cX6_opens 1 = .ok (.getfield 84, 3) := by decide +kernel
theorem dX6_opens_4 : decode cX6_opens 4 = .ok (.bipush 8, 2) := by decide +kernel
theorem dX6_opens_6 : decode cX6_opens 6 = .ok (.if_icmp .ne 9, 3) := by decide +kernel
theorem dX6_opens_9 : decode cX6_opens 9 = .ok (.aload_n 0, 1) := by decide +kernel
theorem dX6_opens_10 : decode cX6_opens 10 = .ok (.iconst 3, 1) := by decide +kernel
theorem dX6_opens_11 : decode cX6_opens 11 = .ok (.invokevirtual 77, 3) := by decide +kernel
theorem dX6_opens_14 : decode cX6_opens 14 = .ok (.athrow, 1) := by decide +kernel
theorem dX6_opens_15 : decode cX6_opens 15 = .ok (.aload_n 0, 1) := by decide +kernel
theorem dX6_opens_16 : decode cX6_opens 16 = .ok (.dup, 1) := by decide +kernel
theorem dX6_opens_17 : decode cX6_opens 17 = .ok (.getfield 84, 3) := by decide +kernel
theorem dX6_opens_20 : decode cX6_opens 20 = .ok (.iconst 1, 1) := by decide +kernel
theorem dX6_opens_21 : decode cX6_opens 21 = .ok (.iadd, 1) := by decide +kernel
theorem dX6_opens_22 : decode cX6_opens 22 = .ok (.putfield 84, 3) := by decide +kernel
theorem dX6_opens_25 : decode cX6_opens 25 = .ok (.aload_n 0, 1) := by decide +kernel
theorem dX6_opens_26 : decode cX6_opens 26 = .ok (.invokevirtual 81, 3) := by decide +kernel
theorem dX6_opens_29 : decode cX6_opens 29 = .ok (.return_, 1) := by decide +kernel
abbrev cX6_sum : ByteArray := prog_19_method_15_code
def yX6_sum : MethodName := ⟨RX6, "sum", "()LManyEyes$Sum;"⟩
theorem dX6_sum_0 : decode cX6_sum 0 = .ok (.new 155, 3) := by decide +kernel
theorem dX6_sum_3 : decode cX6_sum 3 = .ok (.dup, 1) := by decide +kernel
theorem dX6_sum_4 : decode cX6_sum 4 = .ok (.aload_n 0, 1) := by decide +kernel
theorem dX6_sum_5 : decode cX6_sum 5 = .ok (.invokevirtual 157, 3) := by decide +kernel
theorem dX6_sum_8 : decode cX6_sum 8 = .ok (.invokespecial 160, 3) := by decide +kernel
theorem dX6_sum_11 : decode cX6_sum 11 = .ok (.astore_n 1, 1) := by decide +kernel
theorem dX6_sum_12 : decode cX6_sum 12 = .ok (.aload_n 0, 1) := by decide +kernel
theorem dX6_sum_13 : decode cX6_sum 13 = .ok (.getfield 32, 3) := by decide +kernel
theorem dX6_sum_16 : decode cX6_sum 16 = .ok (.bipush 43, 2) := by decide +kernel
theorem dX6_sum_18 : decode cX6_sum 18 = .ok (.if_icmp .eq 12, 3) := by decide +kernel
theorem dX6_sum_21 : decode cX6_sum 21 = .ok (.aload_n 0, 1) := by decide +kernel
theorem dX6_sum_22 : decode cX6_sum 22 = .ok (.getfield 32, 3) := by decide +kernel
theorem dX6_sum_25 : decode cX6_sum 25 = .ok (.bipush 45, 2) := by decide +kernel
theorem dX6_sum_27 : decode cX6_sum 27 = .ok (.if_icmp .ne 24, 3) := by decide +kernel
theorem dX6_sum_30 : decode cX6_sum 30 = .ok (.aload_n 0, 1) := by decide +kernel
theorem dX6_sum_31 : decode cX6_sum 31 = .ok (.getfield 32, 3) := by decide +kernel
theorem dX6_sum_34 : decode cX6_sum 34 = .ok (.istore_n 2, 1) := by decide +kernel
theorem dX6_sum_35 : decode cX6_sum 35 = .ok (.aload_n 0, 1) := by decide +kernel
theorem dX6_sum_36 : decode cX6_sum 36 = .ok (.invokevirtual 81, 3) := by decide +kernel
theorem dX6_sum_39 : decode cX6_sum 39 = .ok (.aload_n 1, 1) := by decide +kernel
theorem dX6_sum_40 : decode cX6_sum 40 = .ok (.iload_n 2, 1) := by decide +kernel
theorem dX6_sum_41 : decode cX6_sum 41 = .ok (.aload_n 0, 1) := by decide +kernel
theorem dX6_sum_42 : decode cX6_sum 42 = .ok (.invokevirtual 157, 3) := by decide +kernel
theorem dX6_sum_45 : decode cX6_sum 45 = .ok (.invokevirtual 163, 3) := by decide +kernel
theorem dX6_sum_48 : decode cX6_sum 48 = .ok (.goto (-36), 3) := by decide +kernel
theorem dX6_sum_51 : decode cX6_sum 51 = .ok (.aload_n 1, 1) := by decide +kernel
theorem dX6_sum_52 : decode cX6_sum 52 = .ok (.invokevirtual 166, 3) := by decide +kernel
theorem dX6_sum_55 : decode cX6_sum 55 = .ok (.areturn, 1) := by decide +kernel
abbrev cX6_product : ByteArray := prog_19_method_16_code
def yX6_product : MethodName := ⟨RX6, "product", "()LManyEyes$Sum;"⟩
theorem dX6_product_0 : decode cX6_product 0 = .ok (.new 155, 3) := by decide +kernel
theorem dX6_product_3 : decode cX6_product 3 = .ok (.dup, 1) := by decide +kernel
theorem dX6_product_4 : decode cX6_product 4 = .ok (.aload_n 0, 1) := by decide +kernel
theorem dX6_product_5 : decode cX6_product 5 = .ok (.invokevirtual 169, 3) := by decide +kernel
theorem dX6_product_8 : decode cX6_product 8 = .ok (.invokespecial 160, 3) := by decide +kernel
theorem dX6_product_11 : decode cX6_product 11 = .ok (.astore_n 1, 1) := by decide +kernel
theorem dX6_product_12 : decode cX6_product 12 = .ok (.aload_n 0, 1) := by decide +kernel
theorem dX6_product_13 : decode cX6_product 13 = .ok (.getfield 32, 3) := by decide +kernel
theorem dX6_product_16 : decode cX6_product 16 = .ok (.bipush 42, 2) := by decide +kernel
theorem dX6_product_18 : decode cX6_product 18 = .ok (.if_icmp .eq 12, 3) := by decide +kernel
theorem dX6_product_21 : decode cX6_product 21 = .ok (.aload_n 0, 1) := by decide +kernel
theorem dX6_product_22 : decode cX6_product 22 = .ok (.getfield 32, 3) := by decide +kernel
theorem dX6_product_25 : decode cX6_product 25 = .ok (.bipush 47, 2) := by decide +kernel
theorem dX6_product_27 : decode cX6_product 27 = .ok (.if_icmp .ne 24, 3) := by decide +kernel
theorem dX6_product_30 : decode cX6_product 30 = .ok (.aload_n 0, 1) := by decide +kernel
theorem dX6_product_31 : decode cX6_product 31 = .ok (.getfield 32, 3) := by decide +kernel
theorem dX6_product_34 : decode cX6_product 34 = .ok (.istore_n 2, 1) := by decide +kernel
theorem dX6_product_35 : decode cX6_product 35 = .ok (.aload_n 0, 1) := by decide +kernel
theorem dX6_product_36 : decode cX6_product 36 = .ok (.invokevirtual 81, 3) := by decide +kernel
theorem dX6_product_39 : decode cX6_product 39 = .ok (.aload_n 1, 1) := by decide +kernel
theorem dX6_product_40 : decode cX6_product 40 = .ok (.iload_n 2, 1) := by decide +kernel
theorem dX6_product_41 : decode cX6_product 41 = .ok (.aload_n 0, 1) := by decide +kernel
theorem dX6_product_42 : decode cX6_product 42 = .ok (.invokevirtual 169, 3) := by decide +kernel
theorem dX6_product_45 : decode cX6_product 45 = .ok (.invokevirtual 163, 3) := by decide +kernel
theorem dX6_product_48 : decode cX6_product 48 = .ok (.goto (-36), 3) := by decide +kernel
theorem dX6_product_51 : decode cX6_product 51 = .ok (.aload_n 1, 1) := by decide +kernel
theorem dX6_product_52 : decode cX6_product 52 = .ok (.invokevirtual 166, 3) := by decide +kernel
theorem dX6_product_55 : decode cX6_product 55 = .ok (.areturn, 1) := by decide +kernel
abbrev cX6_one : ByteArray := prog_19_method_17_code
def yX6_one : MethodName := ⟨RX6, "one", "()LManyEyes$Sum;"⟩
theorem dX6_one_0 : decode cX6_one 0 = .ok (.aload_n 0, 1) := by decide +kernel
theorem dX6_one_1 : decode cX6_one 1 = .ok (.getfield 32, 3) := by decide +kernel
theorem dX6_one_4 : decode cX6_one 4 = .ok (.istore_n 1, 1) := by decide +kernel
theorem dX6_one_5 : decode cX6_one 5 = .ok (.iload_n 1, 1) := by decide +kernel
theorem dX6_one_6 : decode cX6_one 6 = .ok (.sipush 300, 3) := by decide +kernel
theorem dX6_one_9 : decode cX6_one 9 = .ok (.if_icmp .ne 19, 3) := by decide +kernel
theorem dX6_one_12 : decode cX6_one 12 = .ok (.new 172, 3) := by decide +kernel
theorem dX6_one_15 : decode cX6_one 15 = .ok (.dup, 1) := by decide +kernel
theorem dX6_one_16 : decode cX6_one 16 = .ok (.aload_n 0, 1) := by decide +kernel
theorem dX6_one_17 : decode cX6_one 17 = .ok (.iconst 0, 1) := by decide +kernel
theorem dX6_one_18 : decode cX6_one 18 = .ok (.sipush 9999, 3) := by decide +kernel
theorem dX6_one_21 : decode cX6_one 21 = .ok (.invokevirtual 174, 3) := by decide +kernel
theorem dX6_one_24 : decode cX6_one 24 = .ok (.invokespecial 176, 3) := by decide +kernel
theorem dX6_one_27 : decode cX6_one 27 = .ok (.areturn, 1) := by decide +kernel
theorem dX6_one_28 : decode cX6_one 28 = .ok (.iload_n 1, 1) := by decide +kernel
theorem dX6_one_29 : decode cX6_one 29 = .ok (.sipush 305, 3) := by decide +kernel
theorem dX6_one_32 : decode cX6_one 32 = .ok (.if_icmp .ne 39, 3) := by decide +kernel
theorem dX6_one_35 : decode cX6_one 35 = .ok (.aload_n 0, 1) := by decide +kernel
theorem dX6_one_36 : decode cX6_one 36 = .ok (.getfield 9, 3) := by decide +kernel
theorem dX6_one_39 : decode cX6_one 39 = .ok (.aload_n 0, 1) := by decide +kernel
theorem dX6_one_40 : decode cX6_one 40 = .ok (.getfield 39, 3) := by decide +kernel
theorem dX6_one_43 : decode cX6_one 43 = .ok (.baload, 1) := by decide +kernel
theorem dX6_one_44 : decode cX6_one 44 = .ok (.ifCond .ne 9, 3) := by decide +kernel
theorem dX6_one_47 : decode cX6_one 47 = .ok (.aload_n 0, 1) := by decide +kernel
theorem dX6_one_48 : decode cX6_one 48 = .ok (.iconst 5, 1) := by decide +kernel
theorem dX6_one_49 : decode cX6_one 49 = .ok (.invokevirtual 77, 3) := by decide +kernel
theorem dX6_one_52 : decode cX6_one 52 = .ok (.athrow, 1) := by decide +kernel
theorem dX6_one_53 : decode cX6_one 53 = .ok (.new 177, 3) := by decide +kernel
theorem dX6_one_56 : decode cX6_one 56 = .ok (.dup, 1) := by decide +kernel
theorem dX6_one_57 : decode cX6_one 57 = .ok (.aload_n 0, 1) := by decide +kernel
theorem dX6_one_58 : decode cX6_one 58 = .ok (.getfield 39, 3) := by decide +kernel
theorem dX6_one_61 : decode cX6_one 61 = .ok (.invokespecial 179, 3) := by decide +kernel
theorem dX6_one_64 : decode cX6_one 64 = .ok (.astore_n 2, 1) := by decide +kernel
theorem dX6_one_65 : decode cX6_one 65 = .ok (.aload_n 0, 1) := by decide +kernel
theorem dX6_one_66 : decode cX6_one 66 = .ok (.invokevirtual 81, 3) := by decide +kernel
theorem dX6_one_69 : decode cX6_one 69 = .ok (.aload_n 2, 1) := by decide +kernel
theorem dX6_one_70 : decode cX6_one 70 = .ok (.areturn, 1) := by decide +kernel
theorem dX6_one_71 : decode cX6_one 71 = .ok (.iload_n 1, 1) := by decide +kernel
theorem dX6_one_72 : decode cX6_one 72 = .ok (.sipush 207, 3) := by decide +kernel
theorem dX6_one_75 : decode cX6_one 75 = .ok (.if_icmp .eq 10, 3) := by decide +kernel
theorem dX6_one_78 : decode cX6_one 78 = .ok (.iload_n 1, 1) := by decide +kernel
theorem dX6_one_79 : decode cX6_one 79 = .ok (.sipush 208, 3) := by decide +kernel
theorem dX6_one_82 : decode cX6_one 82 = .ok (.if_icmp .ne 46, 3) := by decide +kernel
theorem dX6_one_85 : decode cX6_one 85 = .ok (.aload_n 0, 1) := by decide +kernel
theorem dX6_one_86 : decode cX6_one 86 = .ok (.invokevirtual 81, 3) := by decide +kernel
theorem dX6_one_89 : decode cX6_one 89 = .ok (.iload_n 1, 1) := by decide +kernel
theorem dX6_one_90 : decode cX6_one 90 = .ok (.sipush 207, 3) := by decide +kernel
theorem dX6_one_93 : decode cX6_one 93 = .ok (.if_icmp .ne 20, 3) := by decide +kernel
theorem dX6_one_96 : decode cX6_one 96 = .ok (.new 180, 3) := by decide +kernel
theorem dX6_one_99 : decode cX6_one 99 = .ok (.dup, 1) := by decide +kernel
theorem dX6_one_100 : decode cX6_one 100 = .ok (.aload_n 0, 1) := by decide +kernel
theorem dX6_one_101 : decode cX6_one 101 = .ok (.iconst 0, 1) := by decide +kernel
theorem dX6_one_102 : decode cX6_one 102 = .ok (.bipush 15, 2) := by decide +kernel
theorem dX6_one_104 : decode cX6_one 104 = .ok (.invokevirtual 174, 3) := by decide +kernel
theorem dX6_one_107 : decode cX6_one 107 = .ok (.invokespecial 182, 3) := by decide +kernel
theorem dX6_one_110 : decode cX6_one 110 = .ok (.goto 17, 3) := by decide +kernel
theorem dX6_one_113 : decode cX6_one 113 = .ok (.new 183, 3) := by decide +kernel
theorem dX6_one_116 : decode cX6_one 116 = .ok (.dup, 1) := by decide +kernel
theorem dX6_one_117 : decode cX6_one 117 = .ok (.aload_n 0, 1) := by decide +kernel
theorem dX6_one_118 : decode cX6_one 118 = .ok (.iconst 0, 1) := by decide +kernel
theorem dX6_one_119 : decode cX6_one 119 = .ok (.bipush 15, 2) := by decide +kernel
theorem dX6_one_121 : decode cX6_one 121 = .ok (.invokevirtual 174, 3) := by decide +kernel
theorem dX6_one_124 : decode cX6_one 124 = .ok (.invokespecial 185, 3) := by decide +kernel
theorem dX6_one_127 : decode cX6_one 127 = .ok (.areturn, 1) := by decide +kernel
theorem dX6_one_128 : decode cX6_one 128 = .ok (.iload_n 1, 1) := by decide +kernel
theorem dX6_one_129 : decode cX6_one 129 = .ok (.sipush 209, 3) := by decide +kernel
theorem dX6_one_132 : decode cX6_one 132 = .ok (.if_icmp .ne 15, 3) := by decide +kernel
theorem dX6_one_135 : decode cX6_one 135 = .ok (.aload_n 0, 1) := by decide +kernel
theorem dX6_one_136 : decode cX6_one 136 = .ok (.invokevirtual 81, 3) := by decide +kernel
theorem dX6_one_139 : decode cX6_one 139 = .ok (.new 186, 3) := by decide +kernel
theorem dX6_one_142 : decode cX6_one 142 = .ok (.dup, 1) := by decide +kernel
theorem dX6_one_143 : decode cX6_one 143 = .ok (.invokespecial 188, 3) := by decide +kernel
theorem dX6_one_146 : decode cX6_one 146 = .ok (.areturn, 1) := by decide +kernel
theorem dX6_one_147 : decode cX6_one 147 = .ok (.iload_n 1, 1) := by decide +kernel
theorem dX6_one_148 : decode cX6_one 148 = .ok (.bipush 40, 2) := by decide +kernel
theorem dX6_one_150 : decode cX6_one 150 = .ok (.if_icmp .ne 21, 3) := by decide +kernel
theorem dX6_one_153 : decode cX6_one 153 = .ok (.aload_n 0, 1) := by decide +kernel
theorem dX6_one_154 : decode cX6_one 154 = .ok (.invokevirtual 142, 3) := by decide +kernel
theorem dX6_one_157 : decode cX6_one 157 = .ok (.aload_n 0, 1) := by decide +kernel
theorem dX6_one_158 : decode cX6_one 158 = .ok (.invokevirtual 111, 3) := by decide +kernel
theorem dX6_one_161 : decode cX6_one 161 = .ok (.astore_n 2, 1) := by decide +kernel
theorem dX6_one_162 : decode cX6_one 162 = .ok (.aload_n 0, 1) := by decide +kernel
theorem dX6_one_163 : decode cX6_one 163 = .ok (.bipush 41, 2) := by decide +kernel
theorem dX6_one_165 : decode cX6_one 165 = .ok (.invokevirtual 118, 3) := by decide +kernel
theorem dX6_one_168 : decode cX6_one 168 = .ok (.goto 116, 3) := by decide +kernel
theorem dX6_one_171 : decode cX6_one 171 = .ok (.iload_n 1, 1) := by decide +kernel
theorem dX6_one_172 : decode cX6_one 172 = .ok (.bipush 45, 2) := by decide +kernel
theorem dX6_one_174 : decode cX6_one 174 = .ok (.if_icmp .ne 22, 3) := by decide +kernel
theorem dX6_one_177 : decode cX6_one 177 = .ok (.aload_n 0, 1) := by decide +kernel
theorem dX6_one_178 : decode cX6_one 178 = .ok (.invokevirtual 142, 3) := by decide +kernel
theorem dX6_one_181 : decode cX6_one 181 = .ok (.new 189, 3) := by decide +kernel
theorem dX6_one_184 : decode cX6_one 184 = .ok (.dup, 1) := by decide +kernel
theorem dX6_one_185 : decode cX6_one 185 = .ok (.aload_n 0, 1) := by decide +kernel
theorem dX6_one_186 : decode cX6_one 186 = .ok (.invokevirtual 169, 3) := by decide +kernel
theorem dX6_one_189 : decode cX6_one 189 = .ok (.invokespecial 191, 3) := by decide +kernel
theorem dX6_one_192 : decode cX6_one 192 = .ok (.astore_n 2, 1) := by decide +kernel
theorem dX6_one_193 : decode cX6_one 193 = .ok (.goto 91, 3) := by decide +kernel
theorem dX6_one_196 : decode cX6_one 196 = .ok (.iload_n 1, 1) := by decide +kernel
theorem dX6_one_197 : decode cX6_one 197 = .ok (.sipush 210, 3) := by decide +kernel
theorem dX6_one_200 : decode cX6_one 200 = .ok (.if_icmp .eq 10, 3) := by decide +kernel
theorem dX6_one_203 : decode cX6_one 203 = .ok (.iload_n 1, 1) := by decide +kernel
theorem dX6_one_204 : decode cX6_one 204 = .ok (.sipush 211, 3) := by decide +kernel
theorem dX6_one_207 : decode cX6_one 207 = .ok (.if_icmp .ne 71, 3) := by decide +kernel
theorem dX6_one_210 : decode cX6_one 210 = .ok (.aload_n 0, 1) := by decide +kernel
theorem dX6_one_211 : decode cX6_one 211 = .ok (.invokevirtual 81, 3) := by decide +kernel
theorem dX6_one_214 : decode cX6_one 214 = .ok (.aload_n 0, 1) := by decide +kernel
theorem dX6_one_215 : decode cX6_one 215 = .ok (.getfield 32, 3) := by decide +kernel
theorem dX6_one_218 : decode cX6_one 218 = .ok (.bipush 40, 2) := by decide +kernel
theorem dX6_one_220 : decode cX6_one 220 = .ok (.if_icmp .eq 9, 3) := by decide +kernel
theorem dX6_one_223 : decode cX6_one 223 = .ok (.aload_n 0, 1) := by decide +kernel
theorem dX6_one_224 : decode cX6_one 224 = .ok (.iconst 1, 1) := by decide +kernel
theorem dX6_one_225 : decode cX6_one 225 = .ok (.invokevirtual 77, 3) := by decide +kernel
theorem dX6_one_228 : decode cX6_one 228 = .ok (.athrow, 1) := by decide +kernel
theorem dX6_one_229 : decode cX6_one 229 = .ok (.aload_n 0, 1) := by decide +kernel
theorem dX6_one_230 : decode cX6_one 230 = .ok (.invokevirtual 142, 3) := by decide +kernel
theorem dX6_one_233 : decode cX6_one 233 = .ok (.aload_n 0, 1) := by decide +kernel
theorem dX6_one_234 : decode cX6_one 234 = .ok (.invokevirtual 111, 3) := by decide +kernel
theorem dX6_one_237 : decode cX6_one 237 = .ok (.astore_n 3, 1) := by decide +kernel
theorem dX6_one_238 : decode cX6_one 238 = .ok (.aload_n 0, 1) := by decide +kernel
theorem dX6_one_239 : decode cX6_one 239 = .ok (.bipush 44, 2) := by decide +kernel
theorem dX6_one_241 : decode cX6_one 241 = .ok (.invokevirtual 118, 3) := by decide +kernel
theorem dX6_one_244 : decode cX6_one 244 = .ok (.new 192, 3) := by decide +kernel
theorem dX6_one_247 : decode cX6_one 247 = .ok (.dup, 1) := by decide +kernel
theorem dX6_one_248 : decode cX6_one 248 = .ok (.iload_n 1, 1) := by decide +kernel
theorem dX6_one_249 : decode cX6_one 249 = .ok (.sipush 211, 3) := by decide +kernel
theorem dX6_one_252 : decode cX6_one 252 = .ok (.if_icmp .ne 7, 3) := by decide +kernel
theorem dX6_one_255 : decode cX6_one 255 = .ok (.iconst 1, 1) := by decide +kernel
theorem dX6_one_256 : decode cX6_one 256 = .ok (.goto 4, 3) := by decide +kernel
theorem dX6_one_259 : decode cX6_one 259 = .ok (.iconst 0, 1) := by decide +kernel
theorem dX6_one_260 : decode cX6_one 260 = .ok (.aload_n 3, 1) := by decide +kernel
theorem dX6_one_261 : decode cX6_one 261 = .ok (.aload_n 0, 1) := by decide +kernel
theorem dX6_one_262 : decode cX6_one 262 = .ok (.invokevirtual 111, 3) := by decide +kernel
theorem dX6_one_265 : decode cX6_one 265 = .ok (.invokespecial 194, 3) := by decide +kernel
theorem dX6_one_268 : decode cX6_one 268 = .ok (.astore_n 2, 1) := by decide +kernel
theorem dX6_one_269 : decode cX6_one 269 = .ok (.aload_n 0, 1) := by decide +kernel
theorem dX6_one_270 : decode cX6_one 270 = .ok (.bipush 41, 2) := by decide +kernel
theorem dX6_one_272 : decode cX6_one 272 = .ok (.invokevirtual 118, 3) := by decide +kernel
theorem dX6_one_275 : decode cX6_one 275 = .ok (.goto 9, 3) := by decide +kernel
theorem dX6_one_278 : decode cX6_one 278 = .ok (.aload_n 0, 1) := by decide +kernel
theorem dX6_one_279 : decode cX6_one 279 = .ok (.iconst 1, 1) := by decide +kernel
theorem dX6_one_280 : decode cX6_one 280 = .ok (.invokevirtual 77, 3) := by decide +kernel
theorem dX6_one_283 : decode cX6_one 283 = .ok (.athrow, 1) := by decide +kernel
theorem dX6_one_284 : decode cX6_one 284 = .ok (.aload_n 0, 1) := by decide +kernel
theorem dX6_one_285 : decode cX6_one 285 = .ok (.dup, 1) := by decide +kernel
theorem dX6_one_286 : decode cX6_one 286 = .ok (.getfield 84, 3) := by decide +kernel
theorem dX6_one_289 : decode cX6_one 289 = .ok (.iconst 1, 1) := by decide +kernel
theorem dX6_one_290 : decode cX6_one 290 = .ok (.isub, 1) := by decide +kernel
theorem dX6_one_291 : decode cX6_one 291 = .ok (.putfield 84, 3) := by decide +kernel
theorem dX6_one_294 : decode cX6_one 294 = .ok (.aload_n 2, 1) := by decide +kernel
theorem dX6_one_295 : decode cX6_one 295 = .ok (.areturn, 1) := by decide +kernel
abbrev cX6_number : ByteArray := prog_19_method_8_code
def yX6_number : MethodName := ⟨RX6, "number", "(II)I"⟩
theorem dX6_number_0 : decode cX6_number 0 = .ok (.aload_n 0, 1) := by decide +kernel
theorem dX6_number_1 : decode cX6_number 1 = .ok (.getfield 32, 3) := by decide +kernel
theorem dX6_number_4 : decode cX6_number 4 = .ok (.sipush 300, 3) := by decide +kernel
theorem dX6_number_7 : decode cX6_number 7 = .ok (.if_icmp .eq 9, 3) := by decide +kernel
theorem dX6_number_10 : decode cX6_number 10 = .ok (.aload_n 0, 1) := by decide +kernel
theorem dX6_number_11 : decode cX6_number 11 = .ok (.iconst 1, 1) := by decide +kernel
theorem dX6_number_12 : decode cX6_number 12 = .ok (.invokevirtual 77, 3) := by decide +kernel
theorem dX6_number_15 : decode cX6_number 15 = .ok (.athrow, 1) := by decide +kernel
theorem dX6_number_16 : decode cX6_number 16 = .ok (.aload_n 0, 1) := by decide +kernel
theorem dX6_number_17 : decode cX6_number 17 = .ok (.getfield 39, 3) := by decide +kernel
theorem dX6_number_20 : decode cX6_number 20 = .ok (.iload_n 1, 1) := by decide +kernel
theorem dX6_number_21 : decode cX6_number 21 = .ok (.if_icmp .lt 11, 3) := by decide +kernel
theorem dX6_number_24 : decode cX6_number 24 = .ok (.aload_n 0, 1) := by decide +kernel
theorem dX6_number_25 : decode cX6_number 25 = .ok (.getfield 39, 3) := by decide +kernel
theorem dX6_number_28 : decode cX6_number 28 = .ok (.iload_n 2, 1) := by decide +kernel
theorem dX6_number_29 : decode cX6_number 29 = .ok (.if_icmp .le 9, 3) := by decide +kernel
theorem dX6_number_32 : decode cX6_number 32 = .ok (.aload_n 0, 1) := by decide +kernel
theorem dX6_number_33 : decode cX6_number 33 = .ok (.iconst 2, 1) := by decide +kernel
theorem dX6_number_34 : decode cX6_number 34 = .ok (.invokevirtual 77, 3) := by decide +kernel
theorem dX6_number_37 : decode cX6_number 37 = .ok (.athrow, 1) := by decide +kernel
theorem dX6_number_38 : decode cX6_number 38 = .ok (.aload_n 0, 1) := by decide +kernel
theorem dX6_number_39 : decode cX6_number 39 = .ok (.getfield 39, 3) := by decide +kernel
theorem dX6_number_42 : decode cX6_number 42 = .ok (.istore_n 3, 1) := by decide +kernel
theorem dX6_number_43 : decode cX6_number 43 = .ok (.aload_n 0, 1) := by decide +kernel
theorem dX6_number_44 : decode cX6_number 44 = .ok (.invokevirtual 81, 3) := by decide +kernel
theorem dX6_number_47 : decode cX6_number 47 = .ok (.iload_n 3, 1) := by decide +kernel
theorem dX6_number_48 : decode cX6_number 48 = .ok (.ireturn, 1) := by decide +kernel
abbrev cX6_want : ByteArray := prog_19_method_7_code
def yX6_want : MethodName := ⟨RX6, "want", "(I)V"⟩
theorem dX6_want_0 : decode cX6_want 0 = .ok (.aload_n 0, 1) := by decide +kernel
theorem dX6_want_1 : decode cX6_want 1 = .ok (.getfield 32, 3) := by decide +kernel
theorem dX6_want_4 : decode cX6_want 4 = .ok (.iload_n 1, 1) := by decide +kernel
theorem dX6_want_5 : decode cX6_want 5 = .ok (.if_icmp .eq 9, 3) := by decide +kernel
theorem dX6_want_8 : decode cX6_want 8 = .ok (.aload_n 0, 1) := by decide +kernel
theorem dX6_want_9 : decode cX6_want 9 = .ok (.iconst 1, 1) := by decide +kernel
theorem dX6_want_10 : decode cX6_want 10 = .ok (.invokevirtual 77, 3) := by decide +kernel
theorem dX6_want_13 : decode cX6_want 13 = .ok (.athrow, 1) := by decide +kernel
theorem dX6_want_14 : decode cX6_want 14 = .ok (.aload_n 0, 1) := by decide +kernel
theorem dX6_want_15 : decode cX6_want 15 = .ok (.invokevirtual 81, 3) := by decide +kernel
theorem dX6_want_18 : decode cX6_want 18 = .ok (.return_, 1) := by decide +kernel
theorem q94 : (Jvm.Cond.initialized "ManyEyes$Tokens") ∈ lw_all := lw_g (lw_at lw_m1 15 rfl) rfl
theorem q363 : (Jvm.Cond.selects "ManyEyes$Tokens" ({ cls := "java/lang/Object", name := "getClass", desc := "()Ljava/lang/Class;" } : Jvm.MethodName) ({ cls := "java/lang/Object", name := "getClass", desc := "()Ljava/lang/Class;" } : Jvm.MethodName)) ∈ lw_all := lw_g (lw_at lw_m2 44 rfl) rfl
theorem q543 : (Jvm.Cond.instantiable "ManyEyes$Tokens" (9 : Nat)) ∈ lw_all := lw_g (lw_at lw_m2 224 rfl) rfl
theorem q545 : (Jvm.Cond.instanceMethod ({ cls := "ManyEyes$Tokens", name := "<init>", desc := "([BI)V" } : Jvm.MethodName)) ∈ lw_all := lw_g (lw_at lw_m2 226 rfl) rfl
theorem q546 : (Jvm.Cond.code ({ cls := "ManyEyes$Tokens", name := "<init>", desc := "([BI)V" } : Jvm.MethodName) prog_19_method_1_code (3 : Nat) (Option.none : Option Jvm.ClassFile.FieldType)) ∈ lw_all := lw_g (lw_at lw_m2 227 rfl) rfl
theorem q547 : (Jvm.Cond.methodLink "ManyEyes$Tokens" (3 : Nat) ({ cls := "java/lang/Object", name := "<init>", desc := "()V" } : Jvm.MethodName)) ∈ lw_all := lw_g (lw_at lw_m2 228 rfl) rfl
theorem q548 : (Jvm.Cond.fieldLink "ManyEyes$Tokens" (18 : Nat) "ManyEyes$Tokens" "text" "[B") ∈ lw_all := lw_g (lw_at lw_m2 229 rfl) rfl
theorem q549 : (Jvm.Cond.fieldLink "ManyEyes$Tokens" (22 : Nat) "ManyEyes$Tokens" "size" "I") ∈ lw_all := lw_g (lw_at lw_m2 230 rfl) rfl
theorem q550 : (Jvm.Cond.fieldLink "ManyEyes$Tokens" (9 : Nat) "ManyEyes$Tokens" "told" "[Z") ∈ lw_all := lw_g (lw_at lw_m2 231 rfl) rfl
theorem q551 : (Jvm.Cond.fieldLink "ManyEyes$Tokens" (15 : Nat) "ManyEyes$Tokens" "twice" "[Z") ∈ lw_all := lw_g (lw_at lw_m2 232 rfl) rfl
theorem q552 : (Jvm.Cond.fieldLink "ManyEyes$Tokens" (26 : Nat) "ManyEyes$Tokens" "at" "I") ∈ lw_all := lw_g (lw_at lw_m2 233 rfl) rfl
theorem q553 : (Jvm.Cond.fieldLink "ManyEyes$Tokens" (29 : Nat) "ManyEyes$Tokens" "token" "I") ∈ lw_all := lw_g (lw_at lw_m2 234 rfl) rfl
theorem q554 : (Jvm.Cond.fieldLink "ManyEyes$Tokens" (32 : Nat) "ManyEyes$Tokens" "sort" "I") ∈ lw_all := lw_g (lw_at lw_m2 235 rfl) rfl
theorem q555 : (Jvm.Cond.fieldLink "ManyEyes$Tokens" (39 : Nat) "ManyEyes$Tokens" "number" "I") ∈ lw_all := lw_g (lw_at lw_m2 236 rfl) rfl
theorem q556 : (Jvm.Cond.fieldLink "ManyEyes$Tokens" (84 : Nat) "ManyEyes$Tokens" "open" "I") ∈ lw_all := lw_g (lw_at lw_m2 237 rfl) rfl
theorem q557 : (Jvm.Cond.laysFinal "ManyEyes$Tokens" "ManyEyes$Tokens" "text" "[B") ∈ lw_all := lw_g (lw_at lw_m2 238 rfl) rfl
theorem q558 : (Jvm.Cond.soleField "ManyEyes$Tokens" "text") ∈ lw_all := lw_g (lw_at lw_m2 239 rfl) rfl
theorem q559 : (Jvm.Cond.laysFinal "ManyEyes$Tokens" "ManyEyes$Tokens" "size" "I") ∈ lw_all := lw_g (lw_at lw_m3 0 rfl) rfl
theorem q560 : (Jvm.Cond.soleField "ManyEyes$Tokens" "size") ∈ lw_all := lw_g (lw_at lw_m3 1 rfl) rfl
theorem q561 : (Jvm.Cond.laysFinal "ManyEyes$Tokens" "ManyEyes$Tokens" "told" "[Z") ∈ lw_all := lw_g (lw_at lw_m3 2 rfl) rfl
theorem q562 : (Jvm.Cond.soleField "ManyEyes$Tokens" "told") ∈ lw_all := lw_g (lw_at lw_m3 3 rfl) rfl
theorem q563 : (Jvm.Cond.laysFinal "ManyEyes$Tokens" "ManyEyes$Tokens" "twice" "[Z") ∈ lw_all := lw_g (lw_at lw_m3 4 rfl) rfl
theorem q564 : (Jvm.Cond.soleField "ManyEyes$Tokens" "twice") ∈ lw_all := lw_g (lw_at lw_m3 5 rfl) rfl
theorem q565 : (Jvm.Cond.lays "ManyEyes$Tokens" "ManyEyes$Tokens" "at" "I") ∈ lw_all := lw_g (lw_at lw_m3 6 rfl) rfl
theorem q566 : (Jvm.Cond.soleField "ManyEyes$Tokens" "at") ∈ lw_all := lw_g (lw_at lw_m3 7 rfl) rfl
theorem q567 : (Jvm.Cond.lays "ManyEyes$Tokens" "ManyEyes$Tokens" "token" "I") ∈ lw_all := lw_g (lw_at lw_m3 8 rfl) rfl
theorem q568 : (Jvm.Cond.soleField "ManyEyes$Tokens" "token") ∈ lw_all := lw_g (lw_at lw_m3 9 rfl) rfl
theorem q569 : (Jvm.Cond.lays "ManyEyes$Tokens" "ManyEyes$Tokens" "sort" "I") ∈ lw_all := lw_g (lw_at lw_m3 10 rfl) rfl
theorem q570 : (Jvm.Cond.soleField "ManyEyes$Tokens" "sort") ∈ lw_all := lw_g (lw_at lw_m3 11 rfl) rfl
theorem q571 : (Jvm.Cond.lays "ManyEyes$Tokens" "ManyEyes$Tokens" "number" "I") ∈ lw_all := lw_g (lw_at lw_m3 12 rfl) rfl
theorem q572 : (Jvm.Cond.soleField "ManyEyes$Tokens" "number") ∈ lw_all := lw_g (lw_at lw_m3 13 rfl) rfl
theorem q573 : (Jvm.Cond.lays "ManyEyes$Tokens" "ManyEyes$Tokens" "open" "I") ∈ lw_all := lw_g (lw_at lw_m3 14 rfl) rfl
theorem q574 : (Jvm.Cond.soleField "ManyEyes$Tokens" "open") ∈ lw_all := lw_g (lw_at lw_m3 15 rfl) rfl
theorem q575 : (Jvm.Cond.superclass "ManyEyes$Tokens" "java/lang/Object") ∈ lw_all := lw_g (lw_at lw_m3 16 rfl) rfl
theorem q578 : (Jvm.Cond.instanceMethod ({ cls := "ManyEyes$Tokens", name := "read", desc := "()Ljava/util/ArrayList;" } : Jvm.MethodName)) ∈ lw_all := lw_g (lw_at lw_m3 19 rfl) rfl
theorem q579 : (Jvm.Cond.selects "ManyEyes$Tokens" ({ cls := "ManyEyes$Tokens", name := "read", desc := "()Ljava/util/ArrayList;" } : Jvm.MethodName) ({ cls := "ManyEyes$Tokens", name := "read", desc := "()Ljava/util/ArrayList;" } : Jvm.MethodName)) ∈ lw_all := lw_g (lw_at lw_m3 20 rfl) rfl
theorem q580 : (Jvm.Cond.code ({ cls := "ManyEyes$Tokens", name := "read", desc := "()Ljava/util/ArrayList;" } : Jvm.MethodName) prog_19_method_10_code (3 : Nat) (Option.some (Jvm.ClassFile.FieldType.object "java/util/ArrayList"))) ∈ lw_all := lw_g (lw_at lw_m3 21 rfl) rfl
theorem q581 : (Jvm.Cond.classLink "ManyEyes$Tokens" (87 : Nat) "java/util/ArrayList") ∈ lw_all := lw_g (lw_at lw_m3 22 rfl) rfl
theorem q582 : (Jvm.Cond.methodLink "ManyEyes$Tokens" (89 : Nat) ({ cls := "java/util/ArrayList", name := "<init>", desc := "()V" } : Jvm.MethodName)) ∈ lw_all := lw_g (lw_at lw_m3 23 rfl) rfl
theorem q583 : (Jvm.Cond.methodLink "ManyEyes$Tokens" (81 : Nat) ({ cls := "ManyEyes$Tokens", name := "next", desc := "()V" } : Jvm.MethodName)) ∈ lw_all := lw_g (lw_at lw_m3 24 rfl) rfl
theorem q584 : (Jvm.Cond.privateMethod ({ cls := "ManyEyes$Tokens", name := "next", desc := "()V" } : Jvm.MethodName)) ∈ lw_tbl := lw_at lw_m3 25 rfl
theorem q585 : (Jvm.Cond.instanceMethod ({ cls := "ManyEyes$Tokens", name := "next", desc := "()V" } : Jvm.MethodName)) ∈ lw_all := lw_g (lw_at lw_m3 26 rfl) rfl
theorem q586 : (Jvm.Cond.code ({ cls := "ManyEyes$Tokens", name := "next", desc := "()V" } : Jvm.MethodName) prog_19_method_4_code (3 : Nat) (Option.none : Option Jvm.ClassFile.FieldType)) ∈ lw_all := lw_g (lw_at lw_m3 27 rfl) rfl
theorem q587 : (Jvm.Cond.methodLink "ManyEyes$Tokens" (35 : Nat) ({ cls := "ManyEyes$Tokens", name := "isLetter", desc := "(I)Z" } : Jvm.MethodName)) ∈ lw_all := lw_g (lw_at lw_m3 28 rfl) rfl
theorem q588 : (Jvm.Cond.static ({ cls := "ManyEyes$Tokens", name := "isLetter", desc := "(I)Z" } : Jvm.MethodName)) ∈ lw_all := lw_g (lw_at lw_m3 29 rfl) rfl
theorem q589 : (Jvm.Cond.code ({ cls := "ManyEyes$Tokens", name := "isLetter", desc := "(I)Z" } : Jvm.MethodName) prog_19_method_2_code (1 : Nat) (Option.some Jvm.ClassFile.FieldType.boolean)) ∈ lw_all := lw_g (lw_at lw_m3 30 rfl) rfl
theorem q590 : (Jvm.Cond.fieldLink "ManyEyes$Tokens" (42 : Nat) "ManyEyes$Tokens" "WORDS" "[Ljava/lang/String;") ∈ lw_all := lw_g (lw_at lw_m3 31 rfl) rfl
theorem q591 : (Jvm.Cond.laysStatic "ManyEyes$Tokens" "WORDS" "[Ljava/lang/String;") ∈ lw_tbl := lw_at lw_m3 32 rfl
theorem q592 : (Jvm.Cond.methodLink "ManyEyes$Tokens" (46 : Nat) ({ cls := "ManyEyes$Tokens", name := "isWord", desc := "(Ljava/lang/String;)Z" } : Jvm.MethodName)) ∈ lw_all := lw_g (lw_at lw_m3 33 rfl) rfl
theorem q593 : (Jvm.Cond.privateMethod ({ cls := "ManyEyes$Tokens", name := "isWord", desc := "(Ljava/lang/String;)Z" } : Jvm.MethodName)) ∈ lw_tbl := lw_at lw_m3 34 rfl
theorem q594 : (Jvm.Cond.instanceMethod ({ cls := "ManyEyes$Tokens", name := "isWord", desc := "(Ljava/lang/String;)Z" } : Jvm.MethodName)) ∈ lw_all := lw_g (lw_at lw_m3 35 rfl) rfl
theorem q595 : (Jvm.Cond.code ({ cls := "ManyEyes$Tokens", name := "isWord", desc := "(Ljava/lang/String;)Z" } : Jvm.MethodName) prog_19_method_5_code (3 : Nat) (Option.some Jvm.ClassFile.FieldType.boolean)) ∈ lw_all := lw_g (lw_at lw_m3 36 rfl) rfl
theorem q596 : (Jvm.Cond.methodLink "ManyEyes$Tokens" (62 : Nat) ({ cls := "java/lang/String", name := "length", desc := "()I" } : Jvm.MethodName)) ∈ lw_all := lw_g (lw_at lw_m3 37 rfl) rfl
theorem q606 : (Jvm.Cond.methodLink "ManyEyes$Tokens" (68 : Nat) ({ cls := "java/lang/String", name := "charAt", desc := "(I)C" } : Jvm.MethodName)) ∈ lw_all := lw_g (lw_at lw_m3 47 rfl) rfl
theorem q642 : (Jvm.Cond.methodLink "ManyEyes$Tokens" (50 : Nat) ({ cls := "ManyEyes$Tokens", name := "isDigit", desc := "(I)Z" } : Jvm.MethodName)) ∈ lw_all := lw_g (lw_at lw_m3 83 rfl) rfl
theorem q643 : (Jvm.Cond.static ({ cls := "ManyEyes$Tokens", name := "isDigit", desc := "(I)Z" } : Jvm.MethodName)) ∈ lw_all := lw_g (lw_at lw_m3 84 rfl) rfl
theorem q644 : (Jvm.Cond.code ({ cls := "ManyEyes$Tokens", name := "isDigit", desc := "(I)Z" } : Jvm.MethodName) prog_19_method_3_code (1 : Nat) (Option.some Jvm.ClassFile.FieldType.boolean)) ∈ lw_all := lw_g (lw_at lw_m3 85 rfl) rfl
theorem q645 : (Jvm.Cond.constant "ManyEyes$Tokens" (53 : Nat) (99999 : Int32)) ∈ lw_all := lw_g (lw_at lw_m3 86 rfl) rfl
theorem q646 : (Jvm.Cond.methodLink "ManyEyes$Tokens" (54 : Nat) ({ cls := "java/lang/Math", name := "min", desc := "(II)I" } : Jvm.MethodName)) ∈ lw_all := lw_g (lw_at lw_m3 87 rfl) rfl
theorem q647 : (Jvm.Cond.stringRef "ManyEyes$Tokens" (60 : Nat) "<>=#+-*/(),;") ∈ lw_tbl := lw_at lw_m3 88 rfl
theorem q648 : (Jvm.Cond.methodLink "ManyEyes$Tokens" (77 : Nat) ({ cls := "ManyEyes$Tokens", name := "wrong", desc := "(I)LManyEyes$Wrong;" } : Jvm.MethodName)) ∈ lw_all := lw_g (lw_at lw_m3 89 rfl) rfl
theorem q649 : (Jvm.Cond.privateMethod ({ cls := "ManyEyes$Tokens", name := "wrong", desc := "(I)LManyEyes$Wrong;" } : Jvm.MethodName)) ∈ lw_tbl := lw_at lw_m3 90 rfl
theorem q650 : (Jvm.Cond.instanceMethod ({ cls := "ManyEyes$Tokens", name := "wrong", desc := "(I)LManyEyes$Wrong;" } : Jvm.MethodName)) ∈ lw_all := lw_g (lw_at lw_m3 91 rfl) rfl
theorem q651 : (Jvm.Cond.code ({ cls := "ManyEyes$Tokens", name := "wrong", desc := "(I)LManyEyes$Wrong;" } : Jvm.MethodName) prog_19_method_6_code (2 : Nat) (Option.some (Jvm.ClassFile.FieldType.object "ManyEyes$Wrong"))) ∈ lw_all := lw_g (lw_at lw_m3 92 rfl) rfl
theorem q652 : (Jvm.Cond.classLink "ManyEyes$Tokens" (72 : Nat) "ManyEyes$Wrong") ∈ lw_all := lw_g (lw_at lw_m3 93 rfl) rfl
theorem q689 : (Jvm.Cond.methodLink "ManyEyes$Tokens" (74 : Nat) ({ cls := "ManyEyes$Wrong", name := "<init>", desc := "(II)V" } : Jvm.MethodName)) ∈ lw_all := lw_g (lw_at lw_m3 130 rfl) rfl
theorem q716 : (Jvm.Cond.methodLink "ManyEyes$Tokens" (90 : Nat) ({ cls := "java/util/ArrayList", name := "size", desc := "()I" } : Jvm.MethodName)) ∈ lw_all := lw_g (lw_at lw_m3 157 rfl) rfl
theorem q717 : (Jvm.Cond.classLink "ManyEyes$Tokens" (92 : Nat) "ManyEyes$Clause") ∈ lw_all := lw_g (lw_at lw_m3 158 rfl) rfl
theorem q719 : (Jvm.Cond.methodLink "ManyEyes$Tokens" (94 : Nat) ({ cls := "ManyEyes$Clause", name := "<init>", desc := "(I)V" } : Jvm.MethodName)) ∈ lw_all := lw_g (lw_at lw_m3 160 rfl) rfl
theorem q724 : (Jvm.Cond.fieldLink "ManyEyes$Tokens" (97 : Nat) "ManyEyes$Clause" "sort" "I") ∈ lw_all := lw_g (lw_at lw_m3 165 rfl) rfl
theorem q726 : (Jvm.Cond.fieldLink "ManyEyes$Tokens" (101 : Nat) "ManyEyes$Clause" "letter" "I") ∈ lw_all := lw_g (lw_at lw_m3 167 rfl) rfl
theorem q728 : (Jvm.Cond.fieldLink "ManyEyes$Tokens" (115 : Nat) "ManyEyes$Clause" "sum" "LManyEyes$Sum;") ∈ lw_all := lw_g (lw_at lw_m3 169 rfl) rfl
theorem q730 : (Jvm.Cond.fieldLink "ManyEyes$Tokens" (107 : Nat) "ManyEyes$Clause" "asked" "LManyEyes$Asked;") ∈ lw_all := lw_g (lw_at lw_m3 171 rfl) rfl
theorem q741 : (Jvm.Cond.methodLink "ManyEyes$Tokens" (98 : Nat) ({ cls := "ManyEyes$Tokens", name := "letter", desc := "()I" } : Jvm.MethodName)) ∈ lw_all := lw_g (lw_at lw_m3 182 rfl) rfl
theorem q742 : (Jvm.Cond.privateMethod ({ cls := "ManyEyes$Tokens", name := "letter", desc := "()I" } : Jvm.MethodName)) ∈ lw_tbl := lw_at lw_m3 183 rfl
theorem q743 : (Jvm.Cond.instanceMethod ({ cls := "ManyEyes$Tokens", name := "letter", desc := "()I" } : Jvm.MethodName)) ∈ lw_all := lw_g (lw_at lw_m3 184 rfl) rfl
theorem q744 : (Jvm.Cond.code ({ cls := "ManyEyes$Tokens", name := "letter", desc := "()I" } : Jvm.MethodName) prog_19_method_11_code (2 : Nat) (Option.some Jvm.ClassFile.FieldType.int)) ∈ lw_all := lw_g (lw_at lw_m3 185 rfl) rfl
theorem q745 : (Jvm.Cond.methodLink "ManyEyes$Tokens" (103 : Nat) ({ cls := "ManyEyes$Tokens", name := "either", desc := "()LManyEyes$Asked;" } : Jvm.MethodName)) ∈ lw_all := lw_g (lw_at lw_m3 186 rfl) rfl
theorem q746 : (Jvm.Cond.privateMethod ({ cls := "ManyEyes$Tokens", name := "either", desc := "()LManyEyes$Asked;" } : Jvm.MethodName)) ∈ lw_tbl := lw_at lw_m3 187 rfl
theorem q747 : (Jvm.Cond.instanceMethod ({ cls := "ManyEyes$Tokens", name := "either", desc := "()LManyEyes$Asked;" } : Jvm.MethodName)) ∈ lw_all := lw_g (lw_at lw_m3 188 rfl) rfl
theorem q748 : (Jvm.Cond.code ({ cls := "ManyEyes$Tokens", name := "either", desc := "()LManyEyes$Asked;" } : Jvm.MethodName) prog_19_method_12_code (2 : Nat) (Option.some (Jvm.ClassFile.FieldType.object "ManyEyes$Asked"))) ∈ lw_all := lw_g (lw_at lw_m3 189 rfl) rfl
theorem q749 : (Jvm.Cond.methodLink "ManyEyes$Tokens" (125 : Nat) ({ cls := "ManyEyes$Tokens", name := "both", desc := "()LManyEyes$Asked;" } : Jvm.MethodName)) ∈ lw_all := lw_g (lw_at lw_m3 190 rfl) rfl
theorem q750 : (Jvm.Cond.privateMethod ({ cls := "ManyEyes$Tokens", name := "both", desc := "()LManyEyes$Asked;" } : Jvm.MethodName)) ∈ lw_tbl := lw_at lw_m3 191 rfl
theorem q751 : (Jvm.Cond.instanceMethod ({ cls := "ManyEyes$Tokens", name := "both", desc := "()LManyEyes$Asked;" } : Jvm.MethodName)) ∈ lw_all := lw_g (lw_at lw_m3 192 rfl) rfl
theorem q752 : (Jvm.Cond.code ({ cls := "ManyEyes$Tokens", name := "both", desc := "()LManyEyes$Asked;" } : Jvm.MethodName) prog_19_method_13_code (2 : Nat) (Option.some (Jvm.ClassFile.FieldType.object "ManyEyes$Asked"))) ∈ lw_all := lw_g (lw_at lw_m3 193 rfl) rfl
theorem q753 : (Jvm.Cond.methodLink "ManyEyes$Tokens" (139 : Nat) ({ cls := "ManyEyes$Tokens", name := "ask", desc := "()LManyEyes$Asked;" } : Jvm.MethodName)) ∈ lw_all := lw_g (lw_at lw_m3 194 rfl) rfl
theorem q754 : (Jvm.Cond.privateMethod ({ cls := "ManyEyes$Tokens", name := "ask", desc := "()LManyEyes$Asked;" } : Jvm.MethodName)) ∈ lw_tbl := lw_at lw_m3 195 rfl
theorem q755 : (Jvm.Cond.instanceMethod ({ cls := "ManyEyes$Tokens", name := "ask", desc := "()LManyEyes$Asked;" } : Jvm.MethodName)) ∈ lw_all := lw_g (lw_at lw_m3 196 rfl) rfl
theorem q756 : (Jvm.Cond.code ({ cls := "ManyEyes$Tokens", name := "ask", desc := "()LManyEyes$Asked;" } : Jvm.MethodName) prog_19_method_14_code (3 : Nat) (Option.some (Jvm.ClassFile.FieldType.object "ManyEyes$Asked"))) ∈ lw_all := lw_g (lw_at lw_m3 197 rfl) rfl
theorem q757 : (Jvm.Cond.methodLink "ManyEyes$Tokens" (142 : Nat) ({ cls := "ManyEyes$Tokens", name := "opens", desc := "()V" } : Jvm.MethodName)) ∈ lw_all := lw_g (lw_at lw_m3 198 rfl) rfl
theorem q758 : (Jvm.Cond.privateMethod ({ cls := "ManyEyes$Tokens", name := "opens", desc := "()V" } : Jvm.MethodName)) ∈ lw_tbl := lw_at lw_m3 199 rfl
theorem q759 : (Jvm.Cond.instanceMethod ({ cls := "ManyEyes$Tokens", name := "opens", desc := "()V" } : Jvm.MethodName)) ∈ lw_all := lw_g (lw_at lw_m3 200 rfl) rfl
theorem q760 : (Jvm.Cond.code ({ cls := "ManyEyes$Tokens", name := "opens", desc := "()V" } : Jvm.MethodName) prog_19_method_9_code (1 : Nat) (Option.none : Option Jvm.ClassFile.FieldType)) ∈ lw_all := lw_g (lw_at lw_m3 201 rfl) rfl
theorem q761 : (Jvm.Cond.classLink "ManyEyes$Tokens" (145 : Nat) "ManyEyes$Not") ∈ lw_all := lw_g (lw_at lw_m3 202 rfl) rfl
theorem q763 : (Jvm.Cond.methodLinkNest "ManyEyes$Tokens" (147 : Nat) ({ cls := "ManyEyes$Not", name := "<init>", desc := "(LManyEyes$Asked;)V" } : Jvm.MethodName) "ManyEyes") ∈ lw_tbl := lw_at lw_m3 204 rfl
theorem q774 : (Jvm.Cond.methodLink "ManyEyes$Tokens" (111 : Nat) ({ cls := "ManyEyes$Tokens", name := "sum", desc := "()LManyEyes$Sum;" } : Jvm.MethodName)) ∈ lw_all := lw_g (lw_at lw_m3 215 rfl) rfl
theorem q775 : (Jvm.Cond.privateMethod ({ cls := "ManyEyes$Tokens", name := "sum", desc := "()LManyEyes$Sum;" } : Jvm.MethodName)) ∈ lw_tbl := lw_at lw_m3 216 rfl
theorem q776 : (Jvm.Cond.instanceMethod ({ cls := "ManyEyes$Tokens", name := "sum", desc := "()LManyEyes$Sum;" } : Jvm.MethodName)) ∈ lw_all := lw_g (lw_at lw_m3 217 rfl) rfl
theorem q777 : (Jvm.Cond.code ({ cls := "ManyEyes$Tokens", name := "sum", desc := "()LManyEyes$Sum;" } : Jvm.MethodName) prog_19_method_15_code (3 : Nat) (Option.some (Jvm.ClassFile.FieldType.object "ManyEyes$Sum"))) ∈ lw_all := lw_g (lw_at lw_m3 218 rfl) rfl
theorem q778 : (Jvm.Cond.classLink "ManyEyes$Tokens" (155 : Nat) "ManyEyes$Chain") ∈ lw_all := lw_g (lw_at lw_m3 219 rfl) rfl
theorem q780 : (Jvm.Cond.methodLink "ManyEyes$Tokens" (157 : Nat) ({ cls := "ManyEyes$Tokens", name := "product", desc := "()LManyEyes$Sum;" } : Jvm.MethodName)) ∈ lw_all := lw_g (lw_at lw_m3 221 rfl) rfl
theorem q781 : (Jvm.Cond.privateMethod ({ cls := "ManyEyes$Tokens", name := "product", desc := "()LManyEyes$Sum;" } : Jvm.MethodName)) ∈ lw_tbl := lw_at lw_m3 222 rfl
theorem q782 : (Jvm.Cond.instanceMethod ({ cls := "ManyEyes$Tokens", name := "product", desc := "()LManyEyes$Sum;" } : Jvm.MethodName)) ∈ lw_all := lw_g (lw_at lw_m3 223 rfl) rfl
theorem q783 : (Jvm.Cond.code ({ cls := "ManyEyes$Tokens", name := "product", desc := "()LManyEyes$Sum;" } : Jvm.MethodName) prog_19_method_16_code (3 : Nat) (Option.some (Jvm.ClassFile.FieldType.object "ManyEyes$Sum"))) ∈ lw_all := lw_g (lw_at lw_m3 224 rfl) rfl
theorem q784 : (Jvm.Cond.methodLink "ManyEyes$Tokens" (169 : Nat) ({ cls := "ManyEyes$Tokens", name := "one", desc := "()LManyEyes$Sum;" } : Jvm.MethodName)) ∈ lw_all := lw_g (lw_at lw_m3 225 rfl) rfl
theorem q785 : (Jvm.Cond.privateMethod ({ cls := "ManyEyes$Tokens", name := "one", desc := "()LManyEyes$Sum;" } : Jvm.MethodName)) ∈ lw_tbl := lw_at lw_m3 226 rfl
theorem q786 : (Jvm.Cond.instanceMethod ({ cls := "ManyEyes$Tokens", name := "one", desc := "()LManyEyes$Sum;" } : Jvm.MethodName)) ∈ lw_all := lw_g (lw_at lw_m3 227 rfl) rfl
theorem q787 : (Jvm.Cond.code ({ cls := "ManyEyes$Tokens", name := "one", desc := "()LManyEyes$Sum;" } : Jvm.MethodName) prog_19_method_17_code (4 : Nat) (Option.some (Jvm.ClassFile.FieldType.object "ManyEyes$Sum"))) ∈ lw_all := lw_g (lw_at lw_m3 228 rfl) rfl
theorem q788 : (Jvm.Cond.classLink "ManyEyes$Tokens" (172 : Nat) "ManyEyes$Plain") ∈ lw_all := lw_g (lw_at lw_m3 229 rfl) rfl
theorem q790 : (Jvm.Cond.methodLink "ManyEyes$Tokens" (174 : Nat) ({ cls := "ManyEyes$Tokens", name := "number", desc := "(II)I" } : Jvm.MethodName)) ∈ lw_all := lw_g (lw_at lw_m3 231 rfl) rfl
theorem q791 : (Jvm.Cond.privateMethod ({ cls := "ManyEyes$Tokens", name := "number", desc := "(II)I" } : Jvm.MethodName)) ∈ lw_tbl := lw_at lw_m3 232 rfl
theorem q792 : (Jvm.Cond.instanceMethod ({ cls := "ManyEyes$Tokens", name := "number", desc := "(II)I" } : Jvm.MethodName)) ∈ lw_all := lw_g (lw_at lw_m3 233 rfl) rfl
theorem q793 : (Jvm.Cond.code ({ cls := "ManyEyes$Tokens", name := "number", desc := "(II)I" } : Jvm.MethodName) prog_19_method_8_code (4 : Nat) (Option.some Jvm.ClassFile.FieldType.int)) ∈ lw_all := lw_g (lw_at lw_m3 234 rfl) rfl
theorem q794 : (Jvm.Cond.methodLinkNest "ManyEyes$Tokens" (176 : Nat) ({ cls := "ManyEyes$Plain", name := "<init>", desc := "(I)V" } : Jvm.MethodName) "ManyEyes") ∈ lw_tbl := lw_at lw_m3 235 rfl
theorem q802 : (Jvm.Cond.classLink "ManyEyes$Tokens" (177 : Nat) "ManyEyes$Letter") ∈ lw_all := lw_g (lw_at lw_m4 3 rfl) rfl
theorem q804 : (Jvm.Cond.methodLinkNest "ManyEyes$Tokens" (179 : Nat) ({ cls := "ManyEyes$Letter", name := "<init>", desc := "(I)V" } : Jvm.MethodName) "ManyEyes") ∈ lw_tbl := lw_at lw_m4 5 rfl
theorem q812 : (Jvm.Cond.classLink "ManyEyes$Tokens" (180 : Nat) "ManyEyes$Lens") ∈ lw_all := lw_g (lw_at lw_m4 13 rfl) rfl
theorem q814 : (Jvm.Cond.methodLinkNest "ManyEyes$Tokens" (182 : Nat) ({ cls := "ManyEyes$Lens", name := "<init>", desc := "(I)V" } : Jvm.MethodName) "ManyEyes") ∈ lw_tbl := lw_at lw_m4 15 rfl
theorem q822 : (Jvm.Cond.classLink "ManyEyes$Tokens" (183 : Nat) "ManyEyes$Paired") ∈ lw_all := lw_g (lw_at lw_m4 23 rfl) rfl
theorem q824 : (Jvm.Cond.methodLinkNest "ManyEyes$Tokens" (185 : Nat) ({ cls := "ManyEyes$Paired", name := "<init>", desc := "(I)V" } : Jvm.MethodName) "ManyEyes") ∈ lw_tbl := lw_at lw_m4 25 rfl
theorem q832 : (Jvm.Cond.classLink "ManyEyes$Tokens" (186 : Nat) "ManyEyes$Tick") ∈ lw_all := lw_g (lw_at lw_m4 33 rfl) rfl
theorem q834 : (Jvm.Cond.methodLinkNest "ManyEyes$Tokens" (188 : Nat) ({ cls := "ManyEyes$Tick", name := "<init>", desc := "()V" } : Jvm.MethodName) "ManyEyes") ∈ lw_tbl := lw_at lw_m4 35 rfl
theorem q839 : (Jvm.Cond.methodLink "ManyEyes$Tokens" (118 : Nat) ({ cls := "ManyEyes$Tokens", name := "want", desc := "(I)V" } : Jvm.MethodName)) ∈ lw_all := lw_g (lw_at lw_m4 40 rfl) rfl
theorem q840 : (Jvm.Cond.privateMethod ({ cls := "ManyEyes$Tokens", name := "want", desc := "(I)V" } : Jvm.MethodName)) ∈ lw_tbl := lw_at lw_m4 41 rfl
theorem q841 : (Jvm.Cond.instanceMethod ({ cls := "ManyEyes$Tokens", name := "want", desc := "(I)V" } : Jvm.MethodName)) ∈ lw_all := lw_g (lw_at lw_m4 42 rfl) rfl
theorem q842 : (Jvm.Cond.code ({ cls := "ManyEyes$Tokens", name := "want", desc := "(I)V" } : Jvm.MethodName) prog_19_method_7_code (2 : Nat) (Option.none : Option Jvm.ClassFile.FieldType)) ∈ lw_all := lw_g (lw_at lw_m4 43 rfl) rfl
theorem q843 : (Jvm.Cond.classLink "ManyEyes$Tokens" (189 : Nat) "ManyEyes$Minus") ∈ lw_all := lw_g (lw_at lw_m4 44 rfl) rfl
theorem q845 : (Jvm.Cond.methodLinkNest "ManyEyes$Tokens" (191 : Nat) ({ cls := "ManyEyes$Minus", name := "<init>", desc := "(LManyEyes$Sum;)V" } : Jvm.MethodName) "ManyEyes") ∈ lw_tbl := lw_at lw_m4 46 rfl
theorem q853 : (Jvm.Cond.classLink "ManyEyes$Tokens" (192 : Nat) "ManyEyes$Least") ∈ lw_all := lw_g (lw_at lw_m4 54 rfl) rfl
theorem q855 : (Jvm.Cond.methodLinkNest "ManyEyes$Tokens" (194 : Nat) ({ cls := "ManyEyes$Least", name := "<init>", desc := "(ZLManyEyes$Sum;LManyEyes$Sum;)V" } : Jvm.MethodName) "ManyEyes") ∈ lw_tbl := lw_at lw_m4 56 rfl
theorem q869 : (Jvm.Cond.methodLink "ManyEyes$Tokens" (160 : Nat) ({ cls := "ManyEyes$Chain", name := "<init>", desc := "(LManyEyes$Sum;)V" } : Jvm.MethodName)) ∈ lw_all := lw_g (lw_at lw_m4 70 rfl) rfl
theorem q885 : (Jvm.Cond.methodLink "ManyEyes$Tokens" (163 : Nat) ({ cls := "ManyEyes$Chain", name := "add", desc := "(ILManyEyes$Sum;)V" } : Jvm.MethodName)) ∈ lw_all := lw_g (lw_at lw_m4 86 rfl) rfl
theorem q910 : (Jvm.Cond.methodLink "ManyEyes$Tokens" (166 : Nat) ({ cls := "ManyEyes$Chain", name := "itself", desc := "()LManyEyes$Sum;" } : Jvm.MethodName)) ∈ lw_all := lw_g (lw_at lw_m4 111 rfl) rfl
theorem q918 : (Jvm.Cond.classLink "ManyEyes$Tokens" (150 : Nat) "ManyEyes$Compared") ∈ lw_all := lw_g (lw_at lw_m4 119 rfl) rfl
theorem q920 : (Jvm.Cond.methodLinkNest "ManyEyes$Tokens" (152 : Nat) ({ cls := "ManyEyes$Compared", name := "<init>", desc := "(ILManyEyes$Sum;LManyEyes$Sum;)V" } : Jvm.MethodName) "ManyEyes") ∈ lw_tbl := lw_at lw_m4 121 rfl
theorem q934 : (Jvm.Cond.methodLink "ManyEyes$Tokens" (121 : Nat) ({ cls := "java/util/ArrayList", name := "add", desc := "(Ljava/lang/Object;)Z" } : Jvm.MethodName)) ∈ lw_all := lw_g (lw_at lw_m4 135 rfl) rfl
theorem q935 : (Jvm.Cond.methodLink "ManyEyes$Tokens" (128 : Nat) ({ cls := "java/util/ArrayList", name := "get", desc := "(I)Ljava/lang/Object;" } : Jvm.MethodName)) ∈ lw_all := lw_g (lw_at lw_m4 136 rfl) rfl
theorem q936 : (Jvm.Cond.classLink "ManyEyes$Tokens" (132 : Nat) "ManyEyes$Asked") ∈ lw_all := lw_g (lw_at lw_m4 137 rfl) rfl
theorem q937 : (Jvm.Cond.classLink "ManyEyes$Tokens" (134 : Nat) "ManyEyes$All") ∈ lw_all := lw_g (lw_at lw_m4 138 rfl) rfl
theorem q939 : (Jvm.Cond.methodLinkNest "ManyEyes$Tokens" (136 : Nat) ({ cls := "ManyEyes$All", name := "<init>", desc := "(ZLjava/util/ArrayList;)V" } : Jvm.MethodName) "ManyEyes") ∈ lw_tbl := lw_at lw_m4 140 rfl
theorem q1637 : (Jvm.Cond.castable "ManyEyes$Tokens" "java/lang/Object") ∈ lw_tbl := lw_at lw_m7 118 rfl
theorem q1665 : (Jvm.Cond.stringRef "ManyEyes$Tokens" (197 : Nat) "let") ∈ lw_tbl := lw_at lw_m7 146 rfl
theorem q1666 : (Jvm.Cond.stringRef "ManyEyes$Tokens" (199 : Nat) "turn") ∈ lw_tbl := lw_at lw_m7 147 rfl
theorem q1667 : (Jvm.Cond.stringRef "ManyEyes$Tokens" (201 : Nat) "go") ∈ lw_tbl := lw_at lw_m7 148 rfl
theorem q1668 : (Jvm.Cond.stringRef "ManyEyes$Tokens" (203 : Nat) "rest") ∈ lw_tbl := lw_at lw_m7 149 rfl
theorem q1669 : (Jvm.Cond.stringRef "ManyEyes$Tokens" (205 : Nat) "or") ∈ lw_tbl := lw_at lw_m7 150 rfl
theorem q1670 : (Jvm.Cond.stringRef "ManyEyes$Tokens" (207 : Nat) "and") ∈ lw_tbl := lw_at lw_m7 151 rfl
theorem q1671 : (Jvm.Cond.stringRef "ManyEyes$Tokens" (209 : Nat) "not") ∈ lw_tbl := lw_at lw_m7 152 rfl
theorem q1672 : (Jvm.Cond.stringRef "ManyEyes$Tokens" (211 : Nat) "lens") ∈ lw_tbl := lw_at lw_m7 153 rfl
theorem q1673 : (Jvm.Cond.stringRef "ManyEyes$Tokens" (213 : Nat) "pair") ∈ lw_tbl := lw_at lw_m7 154 rfl
theorem q1674 : (Jvm.Cond.stringRef "ManyEyes$Tokens" (215 : Nat) "tick") ∈ lw_tbl := lw_at lw_m7 155 rfl
theorem q1675 : (Jvm.Cond.stringRef "ManyEyes$Tokens" (217 : Nat) "min") ∈ lw_tbl := lw_at lw_m7 156 rfl
theorem q1676 : (Jvm.Cond.stringRef "ManyEyes$Tokens" (218 : Nat) "max") ∈ lw_tbl := lw_at lw_m7 157 rfl
theorem in_X6 : ∀ w ∈ wsX60, w ∈ lw_all := lw_in wsX60 [557, 559, 561, 563, 565, 567, 569, 571, 573] (by decide +kernel) (by decide +kernel)
