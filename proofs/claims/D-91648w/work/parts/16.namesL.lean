set_option maxRecDepth 100000
/-! ManyEyesLaw -/
set_option maxRecDepth 100000
def RX0 : String := "ManyEyesLaw"
abbrev cX0_cell : ByteArray := method_2_code
def yX0_cell : MethodName := ⟨RX0, "cell", "([II)I"⟩
theorem dX0_cell_0 : decode cX0_cell 0 = .ok (.iload_n 1, 1) := by decide +kernel
theorem dX0_cell_1 : decode cX0_cell 1 = .ok (.aload_n 0, 1) := by decide +kernel
theorem dX0_cell_2 : decode cX0_cell 2 = .ok (.arraylength, 1) := by decide +kernel
theorem dX0_cell_3 : decode cX0_cell 3 = .ok (.if_icmp .ge 9, 3) := by decide +kernel
theorem dX0_cell_6 : decode cX0_cell 6 = .ok (.aload_n 0, 1) := by decide +kernel
theorem dX0_cell_7 : decode cX0_cell 7 = .ok (.iload_n 1, 1) := by decide +kernel
theorem dX0_cell_8 : decode cX0_cell 8 = .ok (.iaload, 1) := by decide +kernel
theorem dX0_cell_9 : decode cX0_cell 9 = .ok (.goto 4, 3) := by decide +kernel
theorem dX0_cell_12 : decode cX0_cell 12 = .ok (.iconst 0, 1) := by decide +kernel
theorem dX0_cell_13 : decode cX0_cell 13 = .ok (.ireturn, 1) := by decide +kernel
theorem q79 : (Jvm.Cond.initialized "ManyEyesLaw") ∈ lw_all := lw_g (lw_at lw_m1 0 rfl) rfl
theorem q117 : (Jvm.Cond.classLink "ManyEyesLaw" (7 : Nat) "ManyEyes") ∈ lw_all := lw_g (lw_at lw_m1 38 rfl) rfl
theorem q119 : (Jvm.Cond.methodLink "ManyEyesLaw" (15 : Nat) ({ cls := "ManyEyes", name := "<init>", desc := "(II)V" } : Jvm.MethodName)) ∈ lw_all := lw_g (lw_at lw_m1 40 rfl) rfl
theorem q416 : (Jvm.Cond.methodLink "ManyEyesLaw" (21 : Nat) ({ cls := "ManyEyes", name := "mark", desc := "(II)Z" } : Jvm.MethodName)) ∈ lw_all := lw_g (lw_at lw_m2 97 rfl) rfl
theorem q427 : (Jvm.Cond.methodLink "ManyEyesLaw" (26 : Nat) ({ cls := "ManyEyes", name := "body", desc := "(IIII)I" } : Jvm.MethodName)) ∈ lw_all := lw_g (lw_at lw_m2 108 rfl) rfl
theorem q439 : (Jvm.Cond.methodLink "ManyEyesLaw" (31 : Nat) ({ cls := "ManyEyes", name := "markOf", desc := "(II)I" } : Jvm.MethodName)) ∈ lw_all := lw_g (lw_at lw_m2 120 rfl) rfl
theorem q447 : (Jvm.Cond.methodLink "ManyEyesLaw" (45 : Nat) ({ cls := "ManyEyes", name := "ray", desc := "(IIIIZ)I" } : Jvm.MethodName)) ∈ lw_all := lw_g (lw_at lw_m2 128 rfl) rfl
theorem q471 : (Jvm.Cond.methodLink "ManyEyesLaw" (36 : Nat) ({ cls := "ManyEyes", name := "lens", desc := "(II)I" } : Jvm.MethodName)) ∈ lw_all := lw_g (lw_at lw_m2 152 rfl) rfl
theorem q475 : (Jvm.Cond.methodLink "ManyEyesLaw" (50 : Nat) ({ cls := "ManyEyes", name := "take", desc := "(IIIII)I" } : Jvm.MethodName)) ∈ lw_all := lw_g (lw_at lw_m2 156 rfl) rfl
theorem q497 : (Jvm.Cond.methodLink "ManyEyesLaw" (40 : Nat) ({ cls := "ManyEyes", name := "pair", desc := "(III)I" } : Jvm.MethodName)) ∈ lw_all := lw_g (lw_at lw_m2 178 rfl) rfl
theorem q501 : (Jvm.Cond.methodLink "ManyEyesLaw" (55 : Nat) ({ cls := "ManyEyes", name := "covered", desc := "(I)I" } : Jvm.MethodName)) ∈ lw_all := lw_g (lw_at lw_m2 182 rfl) rfl
theorem q513 : (Jvm.Cond.methodLink "ManyEyesLaw" (60 : Nat) ({ cls := "ManyEyes", name := "ends", desc := "(IIIIZ)I" } : Jvm.MethodName)) ∈ lw_all := lw_g (lw_at lw_m2 194 rfl) rfl
theorem q517 : (Jvm.Cond.methodLink "ManyEyesLaw" (64 : Nat) ({ cls := "ManyEyes", name := "width", desc := "(IIIII)I" } : Jvm.MethodName)) ∈ lw_all := lw_g (lw_at lw_m2 198 rfl) rfl
theorem q521 : (Jvm.Cond.methodLink "ManyEyesLaw" (68 : Nat) ({ cls := "ManyEyes", name := "same", desc := "(IIIIII)I" } : Jvm.MethodName)) ∈ lw_all := lw_g (lw_at lw_m2 202 rfl) rfl
theorem q525 : (Jvm.Cond.methodLink "ManyEyesLaw" (73 : Nat) ({ cls := "ManyEyes", name := "feed", desc := "(IIIII)I" } : Jvm.MethodName)) ∈ lw_all := lw_g (lw_at lw_m2 206 rfl) rfl
theorem q533 : (Jvm.Cond.methodLink "ManyEyesLaw" (77 : Nat) ({ cls := "ManyEyes", name := "end", desc := "(I)I" } : Jvm.MethodName)) ∈ lw_all := lw_g (lw_at lw_m2 214 rfl) rfl
theorem q537 : (Jvm.Cond.methodLink "ManyEyesLaw" (81 : Nat) ({ cls := "ManyEyes", name := "rule", desc := "()I" } : Jvm.MethodName)) ∈ lw_all := lw_g (lw_at lw_m2 218 rfl) rfl
theorem q951 : (Jvm.Cond.methodLink "ManyEyesLaw" (86 : Nat) ({ cls := "ManyEyes", name := "fault", desc := "(I)I" } : Jvm.MethodName)) ∈ lw_all := lw_g (lw_at lw_m4 152 rfl) rfl
theorem q955 : (Jvm.Cond.methodLink "ManyEyesLaw" (90 : Nat) ({ cls := "ManyEyes", name := "fly", desc := "(IIIIII)I" } : Jvm.MethodName)) ∈ lw_all := lw_g (lw_at lw_m4 156 rfl) rfl
theorem q1103 : (Jvm.Cond.methodLink "ManyEyesLaw" (94 : Nat) ({ cls := "ManyEyes", name := "flown", desc := "(I)I" } : Jvm.MethodName)) ∈ lw_all := lw_g (lw_at lw_m5 64 rfl) rfl
theorem q1107 : (Jvm.Cond.methodLink "ManyEyesLaw" (98 : Nat) ({ cls := "ManyEyes", name := "tick", desc := "(II)I" } : Jvm.MethodName)) ∈ lw_all := lw_g (lw_at lw_m5 68 rfl) rfl
theorem q1112 : (Jvm.Cond.methodLink "ManyEyesLaw" (102 : Nat) ({ cls := "ManyEyes", name := "safe", desc := "(IIIIIIII)I" } : Jvm.MethodName)) ∈ lw_all := lw_g (lw_at lw_m5 73 rfl) rfl
theorem q1116 : (Jvm.Cond.methodLink "ManyEyesLaw" (107 : Nat) ({ cls := "ManyEyes", name := "read", desc := "(III)I" } : Jvm.MethodName)) ∈ lw_all := lw_g (lw_at lw_m5 77 rfl) rfl
theorem q1120 : (Jvm.Cond.methodLink "ManyEyesLaw" (111 : Nat) ({ cls := "ManyEyes", name := "turned", desc := "(II)I" } : Jvm.MethodName)) ∈ lw_all := lw_g (lw_at lw_m5 81 rfl) rfl
theorem q1124 : (Jvm.Cond.methodLink "ManyEyesLaw" (115 : Nat) ({ cls := "ManyEyes", name := "kept", desc := "(I)I" } : Jvm.MethodName)) ∈ lw_all := lw_g (lw_at lw_m5 85 rfl) rfl
theorem q1142 : (Jvm.Cond.methodLink "ManyEyesLaw" (119 : Nat) ({ cls := "ManyEyes", name := "parts", desc := "(II)I" } : Jvm.MethodName)) ∈ lw_all := lw_g (lw_at lw_m5 103 rfl) rfl
theorem q1150 : (Jvm.Cond.methodLink "ManyEyesLaw" (123 : Nat) ({ cls := "ManyEyes", name := "image", desc := "()I" } : Jvm.MethodName)) ∈ lw_all := lw_g (lw_at lw_m5 111 rfl) rfl
theorem q1154 : (Jvm.Cond.methodLink "ManyEyesLaw" (127 : Nat) ({ cls := "ManyEyes", name := "back", desc := "()I" } : Jvm.MethodName)) ∈ lw_all := lw_g (lw_at lw_m5 115 rfl) rfl
theorem q1158 : (Jvm.Cond.methodLink "ManyEyesLaw" (131 : Nat) ({ cls := "ManyEyes", name := "about", desc := "(I)I" } : Jvm.MethodName)) ∈ lw_all := lw_g (lw_at lw_m5 119 rfl) rfl
theorem q1162 : (Jvm.Cond.methodLink "ManyEyesLaw" (9 : Nat) ({ cls := "ManyEyesLaw", name := "cell", desc := "([II)I" } : Jvm.MethodName)) ∈ lw_all := lw_g (lw_at lw_m5 123 rfl) rfl
theorem q1163 : (Jvm.Cond.static ({ cls := "ManyEyesLaw", name := "cell", desc := "([II)I" } : Jvm.MethodName)) ∈ lw_all := lw_g (lw_at lw_m5 124 rfl) rfl
theorem q1164 : (Jvm.Cond.code ({ cls := "ManyEyesLaw", name := "cell", desc := "([II)I" } : Jvm.MethodName) method_2_code (2 : Nat) (Option.some Jvm.ClassFile.FieldType.int)) ∈ lw_all := lw_g (lw_at lw_m5 125 rfl) rfl
theorem q1165 : (Jvm.Cond.classLink "ManyEyesLaw" (18 : Nat) "ManyEyesModel") ∈ lw_all := lw_g (lw_at lw_m5 126 rfl) rfl
theorem q1167 : (Jvm.Cond.methodLink "ManyEyesLaw" (20 : Nat) ({ cls := "ManyEyesModel", name := "<init>", desc := "(II)V" } : Jvm.MethodName)) ∈ lw_all := lw_g (lw_at lw_m5 128 rfl) rfl
theorem q1304 : (Jvm.Cond.methodLink "ManyEyesLaw" (25 : Nat) ({ cls := "ManyEyesModel", name := "mark", desc := "(II)Z" } : Jvm.MethodName)) ∈ lw_all := lw_g (lw_at lw_m6 25 rfl) rfl
theorem q1315 : (Jvm.Cond.methodLink "ManyEyesLaw" (30 : Nat) ({ cls := "ManyEyesModel", name := "body", desc := "(IIII)I" } : Jvm.MethodName)) ∈ lw_all := lw_g (lw_at lw_m6 36 rfl) rfl
theorem q1319 : (Jvm.Cond.methodLink "ManyEyesLaw" (35 : Nat) ({ cls := "ManyEyesModel", name := "markOf", desc := "(II)I" } : Jvm.MethodName)) ∈ lw_all := lw_g (lw_at lw_m6 40 rfl) rfl
theorem q1334 : (Jvm.Cond.methodLink "ManyEyesLaw" (49 : Nat) ({ cls := "ManyEyesModel", name := "ray", desc := "(IIIIZ)I" } : Jvm.MethodName)) ∈ lw_all := lw_g (lw_at lw_m6 55 rfl) rfl
theorem q1362 : (Jvm.Cond.methodLink "ManyEyesLaw" (39 : Nat) ({ cls := "ManyEyesModel", name := "lens", desc := "(II)I" } : Jvm.MethodName)) ∈ lw_all := lw_g (lw_at lw_m6 83 rfl) rfl
theorem q1366 : (Jvm.Cond.methodLink "ManyEyesLaw" (44 : Nat) ({ cls := "ManyEyesModel", name := "pair", desc := "(III)I" } : Jvm.MethodName)) ∈ lw_all := lw_g (lw_at lw_m6 87 rfl) rfl
theorem q1374 : (Jvm.Cond.methodLink "ManyEyesLaw" (54 : Nat) ({ cls := "ManyEyesModel", name := "take", desc := "(IIIII)I" } : Jvm.MethodName)) ∈ lw_all := lw_g (lw_at lw_m6 95 rfl) rfl
theorem q1393 : (Jvm.Cond.methodLink "ManyEyesLaw" (59 : Nat) ({ cls := "ManyEyesModel", name := "covered", desc := "(I)I" } : Jvm.MethodName)) ∈ lw_all := lw_g (lw_at lw_m6 114 rfl) rfl
theorem q1405 : (Jvm.Cond.methodLink "ManyEyesLaw" (63 : Nat) ({ cls := "ManyEyesModel", name := "ends", desc := "(IIIIZ)I" } : Jvm.MethodName)) ∈ lw_all := lw_g (lw_at lw_m6 126 rfl) rfl
theorem q1409 : (Jvm.Cond.methodLink "ManyEyesLaw" (67 : Nat) ({ cls := "ManyEyesModel", name := "width", desc := "(IIIII)I" } : Jvm.MethodName)) ∈ lw_all := lw_g (lw_at lw_m6 130 rfl) rfl
theorem q1413 : (Jvm.Cond.methodLink "ManyEyesLaw" (72 : Nat) ({ cls := "ManyEyesModel", name := "same", desc := "(IIIIII)I" } : Jvm.MethodName)) ∈ lw_all := lw_g (lw_at lw_m6 134 rfl) rfl
theorem q1417 : (Jvm.Cond.methodLink "ManyEyesLaw" (76 : Nat) ({ cls := "ManyEyesModel", name := "feed", desc := "(IIIII)I" } : Jvm.MethodName)) ∈ lw_all := lw_g (lw_at lw_m6 138 rfl) rfl
theorem q1425 : (Jvm.Cond.methodLink "ManyEyesLaw" (80 : Nat) ({ cls := "ManyEyesModel", name := "end", desc := "(I)I" } : Jvm.MethodName)) ∈ lw_all := lw_g (lw_at lw_m6 146 rfl) rfl
theorem q1429 : (Jvm.Cond.methodLink "ManyEyesLaw" (85 : Nat) ({ cls := "ManyEyesModel", name := "rule", desc := "()I" } : Jvm.MethodName)) ∈ lw_all := lw_g (lw_at lw_m6 150 rfl) rfl
theorem q1530 : (Jvm.Cond.methodLink "ManyEyesLaw" (89 : Nat) ({ cls := "ManyEyesModel", name := "fault", desc := "(I)I" } : Jvm.MethodName)) ∈ lw_all := lw_g (lw_at lw_m7 11 rfl) rfl
theorem q1534 : (Jvm.Cond.methodLink "ManyEyesLaw" (93 : Nat) ({ cls := "ManyEyesModel", name := "fly", desc := "(IIIIII)I" } : Jvm.MethodName)) ∈ lw_all := lw_g (lw_at lw_m7 15 rfl) rfl
theorem q1581 : (Jvm.Cond.methodLink "ManyEyesLaw" (97 : Nat) ({ cls := "ManyEyesModel", name := "flown", desc := "(I)I" } : Jvm.MethodName)) ∈ lw_all := lw_g (lw_at lw_m7 62 rfl) rfl
theorem q1585 : (Jvm.Cond.methodLink "ManyEyesLaw" (101 : Nat) ({ cls := "ManyEyesModel", name := "tick", desc := "(II)I" } : Jvm.MethodName)) ∈ lw_all := lw_g (lw_at lw_m7 66 rfl) rfl
theorem q1590 : (Jvm.Cond.methodLink "ManyEyesLaw" (106 : Nat) ({ cls := "ManyEyesModel", name := "safe", desc := "(IIIIIIII)I" } : Jvm.MethodName)) ∈ lw_all := lw_g (lw_at lw_m7 71 rfl) rfl
theorem q1594 : (Jvm.Cond.methodLink "ManyEyesLaw" (110 : Nat) ({ cls := "ManyEyesModel", name := "read", desc := "(III)I" } : Jvm.MethodName)) ∈ lw_all := lw_g (lw_at lw_m7 75 rfl) rfl
theorem q1598 : (Jvm.Cond.methodLink "ManyEyesLaw" (114 : Nat) ({ cls := "ManyEyesModel", name := "turned", desc := "(II)I" } : Jvm.MethodName)) ∈ lw_all := lw_g (lw_at lw_m7 79 rfl) rfl
theorem q1602 : (Jvm.Cond.methodLink "ManyEyesLaw" (118 : Nat) ({ cls := "ManyEyesModel", name := "kept", desc := "(I)I" } : Jvm.MethodName)) ∈ lw_all := lw_g (lw_at lw_m7 83 rfl) rfl
theorem q1610 : (Jvm.Cond.methodLink "ManyEyesLaw" (122 : Nat) ({ cls := "ManyEyesModel", name := "parts", desc := "(II)I" } : Jvm.MethodName)) ∈ lw_all := lw_g (lw_at lw_m7 91 rfl) rfl
theorem q1618 : (Jvm.Cond.methodLink "ManyEyesLaw" (126 : Nat) ({ cls := "ManyEyesModel", name := "image", desc := "()I" } : Jvm.MethodName)) ∈ lw_all := lw_g (lw_at lw_m7 99 rfl) rfl
theorem q1622 : (Jvm.Cond.methodLink "ManyEyesLaw" (130 : Nat) ({ cls := "ManyEyesModel", name := "back", desc := "()I" } : Jvm.MethodName)) ∈ lw_all := lw_g (lw_at lw_m7 103 rfl) rfl
theorem q1626 : (Jvm.Cond.methodLink "ManyEyesLaw" (134 : Nat) ({ cls := "ManyEyesModel", name := "about", desc := "(I)I" } : Jvm.MethodName)) ∈ lw_all := lw_g (lw_at lw_m7 107 rfl) rfl

/-! the law's own entry -/
set_option maxRecDepth 100000
abbrev cL_law : ByteArray := code
theorem dL_law_0 : decode cL_law 0 = .ok (.new 7, 3) := by decide +kernel
theorem dL_law_3 : decode cL_law 3 = .ok (.dup, 1) := by decide +kernel
theorem dL_law_4 : decode cL_law 4 = .ok (.aload_n 0, 1) := by decide +kernel
theorem dL_law_5 : decode cL_law 5 = .ok (.iconst 0, 1) := by decide +kernel
theorem dL_law_6 : decode cL_law 6 = .ok (.invokestatic 9, 3) := by decide +kernel
theorem dL_law_9 : decode cL_law 9 = .ok (.aload_n 0, 1) := by decide +kernel
theorem dL_law_10 : decode cL_law 10 = .ok (.iconst 1, 1) := by decide +kernel
theorem dL_law_11 : decode cL_law 11 = .ok (.invokestatic 9, 3) := by decide +kernel
theorem dL_law_14 : decode cL_law 14 = .ok (.invokespecial 15, 3) := by decide +kernel
theorem dL_law_17 : decode cL_law 17 = .ok (.astore_n 1, 1) := by decide +kernel
theorem dL_law_18 : decode cL_law 18 = .ok (.new 18, 3) := by decide +kernel
theorem dL_law_21 : decode cL_law 21 = .ok (.dup, 1) := by decide +kernel
theorem dL_law_22 : decode cL_law 22 = .ok (.aload_n 0, 1) := by decide +kernel
theorem dL_law_23 : decode cL_law 23 = .ok (.iconst 0, 1) := by decide +kernel
theorem dL_law_24 : decode cL_law 24 = .ok (.invokestatic 9, 3) := by decide +kernel
theorem dL_law_27 : decode cL_law 27 = .ok (.aload_n 0, 1) := by decide +kernel
theorem dL_law_28 : decode cL_law 28 = .ok (.iconst 1, 1) := by decide +kernel
theorem dL_law_29 : decode cL_law 29 = .ok (.invokestatic 9, 3) := by decide +kernel
theorem dL_law_32 : decode cL_law 32 = .ok (.invokespecial 20, 3) := by decide +kernel
theorem dL_law_35 : decode cL_law 35 = .ok (.astore_n 2, 1) := by decide +kernel
theorem dL_law_36 : decode cL_law 36 = .ok (.iconst 2, 1) := by decide +kernel
theorem dL_law_37 : decode cL_law 37 = .ok (.istore_n 3, 1) := by decide +kernel
theorem dL_law_38 : decode cL_law 38 = .ok (.iload_n 3, 1) := by decide +kernel
theorem dL_law_39 : decode cL_law 39 = .ok (.aload_n 0, 1) := by decide +kernel
theorem dL_law_40 : decode cL_law 40 = .ok (.arraylength, 1) := by decide +kernel
theorem dL_law_41 : decode cL_law 41 = .ok (.bipush 9, 2) := by decide +kernel
theorem dL_law_43 : decode cL_law 43 = .ok (.isub, 1) := by decide +kernel
theorem dL_law_44 : decode cL_law 44 = .ok (.if_icmp .gt 1244, 3) := by decide +kernel
theorem dL_law_47 : decode cL_law 47 = .ok (.aload_n 0, 1) := by decide +kernel
theorem dL_law_48 : decode cL_law 48 = .ok (.iload_n 3, 1) := by decide +kernel
theorem dL_law_49 : decode cL_law 49 = .ok (.iaload, 1) := by decide +kernel
theorem dL_law_50 : decode cL_law 50 = .ok (.bipush 31, 2) := by decide +kernel
theorem dL_law_52 : decode cL_law 52 = .ok (.iand, 1) := by decide +kernel
theorem dL_law_53 : decode cL_law 53 = .ok (.tableswitch 1229 0 25 #[119, 152, 205, 238, 271, 314, 393, 456, 479, 558, 621, 696, 759, 782, 795, 818, 893, 916, 949, 1048, 1091, 1124, 1147, 1180, 1193, 1206], 119) := by decide +kernel
theorem dL_law_172 : decode cL_law 172 = .ok (.aload_n 1, 1) := by decide +kernel
theorem dL_law_173 : decode cL_law 173 = .ok (.aload_n 0, 1) := by decide +kernel
theorem dL_law_174 : decode cL_law 174 = .ok (.iload_n 3, 1) := by decide +kernel
theorem dL_law_175 : decode cL_law 175 = .ok (.iconst 1, 1) := by decide +kernel
theorem dL_law_176 : decode cL_law 176 = .ok (.iadd, 1) := by decide +kernel
theorem dL_law_177 : decode cL_law 177 = .ok (.iaload, 1) := by decide +kernel
theorem dL_law_178 : decode cL_law 178 = .ok (.aload_n 0, 1) := by decide +kernel
theorem dL_law_179 : decode cL_law 179 = .ok (.iload_n 3, 1) := by decide +kernel
theorem dL_law_180 : decode cL_law 180 = .ok (.iconst 2, 1) := by decide +kernel
theorem dL_law_181 : decode cL_law 181 = .ok (.iadd, 1) := by decide +kernel
theorem dL_law_182 : decode cL_law 182 = .ok (.iaload, 1) := by decide +kernel
theorem dL_law_183 : decode cL_law 183 = .ok (.invokevirtual 21, 3) := by decide +kernel
theorem dL_law_186 : decode cL_law 186 = .ok (.aload_n 2, 1) := by decide +kernel
theorem dL_law_187 : decode cL_law 187 = .ok (.aload_n 0, 1) := by decide +kernel
theorem dL_law_188 : decode cL_law 188 = .ok (.iload_n 3, 1) := by decide +kernel
theorem dL_law_189 : decode cL_law 189 = .ok (.iconst 1, 1) := by decide +kernel
theorem dL_law_190 : decode cL_law 190 = .ok (.iadd, 1) := by decide +kernel
theorem dL_law_191 : decode cL_law 191 = .ok (.iaload, 1) := by decide +kernel
theorem dL_law_192 : decode cL_law 192 = .ok (.aload_n 0, 1) := by decide +kernel
theorem dL_law_193 : decode cL_law 193 = .ok (.iload_n 3, 1) := by decide +kernel
theorem dL_law_194 : decode cL_law 194 = .ok (.iconst 2, 1) := by decide +kernel
theorem dL_law_195 : decode cL_law 195 = .ok (.iadd, 1) := by decide +kernel
theorem dL_law_196 : decode cL_law 196 = .ok (.iaload, 1) := by decide +kernel
theorem dL_law_197 : decode cL_law 197 = .ok (.invokevirtual 25, 3) := by decide +kernel
theorem dL_law_200 : decode cL_law 200 = .ok (.if_icmp .eq 1082, 3) := by decide +kernel
theorem dL_law_203 : decode cL_law 203 = .ok (.iconst 0, 1) := by decide +kernel
theorem dL_law_204 : decode cL_law 204 = .ok (.ireturn, 1) := by decide +kernel
theorem dL_law_205 : decode cL_law 205 = .ok (.aload_n 1, 1) := by decide +kernel
theorem dL_law_206 : decode cL_law 206 = .ok (.aload_n 0, 1) := by decide +kernel
theorem dL_law_207 : decode cL_law 207 = .ok (.iload_n 3, 1) := by decide +kernel
theorem dL_law_208 : decode cL_law 208 = .ok (.iconst 1, 1) := by decide +kernel
theorem dL_law_209 : decode cL_law 209 = .ok (.iadd, 1) := by decide +kernel
theorem dL_law_210 : decode cL_law 210 = .ok (.iaload, 1) := by decide +kernel
theorem dL_law_211 : decode cL_law 211 = .ok (.aload_n 0, 1) := by decide +kernel
theorem dL_law_212 : decode cL_law 212 = .ok (.iload_n 3, 1) := by decide +kernel
theorem dL_law_213 : decode cL_law 213 = .ok (.iconst 2, 1) := by decide +kernel
theorem dL_law_214 : decode cL_law 214 = .ok (.iadd, 1) := by decide +kernel
theorem dL_law_215 : decode cL_law 215 = .ok (.iaload, 1) := by decide +kernel
theorem dL_law_216 : decode cL_law 216 = .ok (.aload_n 0, 1) := by decide +kernel
theorem dL_law_217 : decode cL_law 217 = .ok (.iload_n 3, 1) := by decide +kernel
theorem dL_law_218 : decode cL_law 218 = .ok (.iconst 3, 1) := by decide +kernel
theorem dL_law_219 : decode cL_law 219 = .ok (.iadd, 1) := by decide +kernel
theorem dL_law_220 : decode cL_law 220 = .ok (.iaload, 1) := by decide +kernel
theorem dL_law_221 : decode cL_law 221 = .ok (.aload_n 0, 1) := by decide +kernel
theorem dL_law_222 : decode cL_law 222 = .ok (.iload_n 3, 1) := by decide +kernel
theorem dL_law_223 : decode cL_law 223 = .ok (.iconst 4, 1) := by decide +kernel
theorem dL_law_224 : decode cL_law 224 = .ok (.iadd, 1) := by decide +kernel
theorem dL_law_225 : decode cL_law 225 = .ok (.iaload, 1) := by decide +kernel
theorem dL_law_226 : decode cL_law 226 = .ok (.invokevirtual 26, 3) := by decide +kernel
theorem dL_law_229 : decode cL_law 229 = .ok (.aload_n 2, 1) := by decide +kernel
theorem dL_law_230 : decode cL_law 230 = .ok (.aload_n 0, 1) := by decide +kernel
theorem dL_law_231 : decode cL_law 231 = .ok (.iload_n 3, 1) := by decide +kernel
theorem dL_law_232 : decode cL_law 232 = .ok (.iconst 1, 1) := by decide +kernel
theorem dL_law_233 : decode cL_law 233 = .ok (.iadd, 1) := by decide +kernel
theorem dL_law_234 : decode cL_law 234 = .ok (.iaload, 1) := by decide +kernel
theorem dL_law_235 : decode cL_law 235 = .ok (.aload_n 0, 1) := by decide +kernel
theorem dL_law_236 : decode cL_law 236 = .ok (.iload_n 3, 1) := by decide +kernel
theorem dL_law_237 : decode cL_law 237 = .ok (.iconst 2, 1) := by decide +kernel
theorem dL_law_238 : decode cL_law 238 = .ok (.iadd, 1) := by decide +kernel
theorem dL_law_239 : decode cL_law 239 = .ok (.iaload, 1) := by decide +kernel
theorem dL_law_240 : decode cL_law 240 = .ok (.aload_n 0, 1) := by decide +kernel
theorem dL_law_241 : decode cL_law 241 = .ok (.iload_n 3, 1) := by decide +kernel
theorem dL_law_242 : decode cL_law 242 = .ok (.iconst 3, 1) := by decide +kernel
theorem dL_law_243 : decode cL_law 243 = .ok (.iadd, 1) := by decide +kernel
theorem dL_law_244 : decode cL_law 244 = .ok (.iaload, 1) := by decide +kernel
theorem dL_law_245 : decode cL_law 245 = .ok (.aload_n 0, 1) := by decide +kernel
theorem dL_law_246 : decode cL_law 246 = .ok (.iload_n 3, 1) := by decide +kernel
theorem dL_law_247 : decode cL_law 247 = .ok (.iconst 4, 1) := by decide +kernel
theorem dL_law_248 : decode cL_law 248 = .ok (.iadd, 1) := by decide +kernel
theorem dL_law_249 : decode cL_law 249 = .ok (.iaload, 1) := by decide +kernel
theorem dL_law_250 : decode cL_law 250 = .ok (.invokevirtual 30, 3) := by decide +kernel
theorem dL_law_253 : decode cL_law 253 = .ok (.if_icmp .eq 1029, 3) := by decide +kernel
theorem dL_law_256 : decode cL_law 256 = .ok (.iconst 0, 1) := by decide +kernel
theorem dL_law_257 : decode cL_law 257 = .ok (.ireturn, 1) := by decide +kernel
theorem dL_law_258 : decode cL_law 258 = .ok (.aload_n 1, 1) := by decide +kernel
theorem dL_law_259 : decode cL_law 259 = .ok (.aload_n 0, 1) := by decide +kernel
theorem dL_law_260 : decode cL_law 260 = .ok (.iload_n 3, 1) := by decide +kernel
theorem dL_law_261 : decode cL_law 261 = .ok (.iconst 1, 1) := by decide +kernel
theorem dL_law_262 : decode cL_law 262 = .ok (.iadd, 1) := by decide +kernel
theorem dL_law_263 : decode cL_law 263 = .ok (.iaload, 1) := by decide +kernel
theorem dL_law_264 : decode cL_law 264 = .ok (.aload_n 0, 1) := by decide +kernel
theorem dL_law_265 : decode cL_law 265 = .ok (.iload_n 3, 1) := by decide +kernel
theorem dL_law_266 : decode cL_law 266 = .ok (.iconst 2, 1) := by decide +kernel
theorem dL_law_267 : decode cL_law 267 = .ok (.iadd, 1) := by decide +kernel
theorem dL_law_268 : decode cL_law 268 = .ok (.iaload, 1) := by decide +kernel
theorem dL_law_269 : decode cL_law 269 = .ok (.invokevirtual 31, 3) := by decide +kernel
theorem dL_law_272 : decode cL_law 272 = .ok (.aload_n 2, 1) := by decide +kernel
theorem dL_law_273 : decode cL_law 273 = .ok (.aload_n 0, 1) := by decide +kernel
theorem dL_law_274 : decode cL_law 274 = .ok (.iload_n 3, 1) := by decide +kernel
theorem dL_law_275 : decode cL_law 275 = .ok (.iconst 1, 1) := by decide +kernel
theorem dL_law_276 : decode cL_law 276 = .ok (.iadd, 1) := by decide +kernel
theorem dL_law_277 : decode cL_law 277 = .ok (.iaload, 1) := by decide +kernel
theorem dL_law_278 : decode cL_law 278 = .ok (.aload_n 0, 1) := by decide +kernel
theorem dL_law_279 : decode cL_law 279 = .ok (.iload_n 3, 1) := by decide +kernel
theorem dL_law_280 : decode cL_law 280 = .ok (.iconst 2, 1) := by decide +kernel
theorem dL_law_281 : decode cL_law 281 = .ok (.iadd, 1) := by decide +kernel
theorem dL_law_282 : decode cL_law 282 = .ok (.iaload, 1) := by decide +kernel
theorem dL_law_283 : decode cL_law 283 = .ok (.invokevirtual 35, 3) := by decide +kernel
theorem dL_law_286 : decode cL_law 286 = .ok (.if_icmp .eq 996, 3) := by decide +kernel
theorem dL_law_289 : decode cL_law 289 = .ok (.iconst 0, 1) := by decide +kernel
theorem dL_law_290 : decode cL_law 290 = .ok (.ireturn, 1) := by decide +kernel
theorem dL_law_291 : decode cL_law 291 = .ok (.aload_n 1, 1) := by decide +kernel
theorem dL_law_292 : decode cL_law 292 = .ok (.aload_n 0, 1) := by decide +kernel
theorem dL_law_293 : decode cL_law 293 = .ok (.iload_n 3, 1) := by decide +kernel
theorem dL_law_294 : decode cL_law 294 = .ok (.iconst 1, 1) := by decide +kernel
theorem dL_law_295 : decode cL_law 295 = .ok (.iadd, 1) := by decide +kernel
theorem dL_law_296 : decode cL_law 296 = .ok (.iaload, 1) := by decide +kernel
theorem dL_law_297 : decode cL_law 297 = .ok (.aload_n 0, 1) := by decide +kernel
theorem dL_law_298 : decode cL_law 298 = .ok (.iload_n 3, 1) := by decide +kernel
theorem dL_law_299 : decode cL_law 299 = .ok (.iconst 2, 1) := by decide +kernel
theorem dL_law_300 : decode cL_law 300 = .ok (.iadd, 1) := by decide +kernel
theorem dL_law_301 : decode cL_law 301 = .ok (.iaload, 1) := by decide +kernel
theorem dL_law_302 : decode cL_law 302 = .ok (.invokevirtual 36, 3) := by decide +kernel
theorem dL_law_305 : decode cL_law 305 = .ok (.aload_n 2, 1) := by decide +kernel
theorem dL_law_306 : decode cL_law 306 = .ok (.aload_n 0, 1) := by decide +kernel
theorem dL_law_307 : decode cL_law 307 = .ok (.iload_n 3, 1) := by decide +kernel
theorem dL_law_308 : decode cL_law 308 = .ok (.iconst 1, 1) := by decide +kernel
theorem dL_law_309 : decode cL_law 309 = .ok (.iadd, 1) := by decide +kernel
theorem dL_law_310 : decode cL_law 310 = .ok (.iaload, 1) := by decide +kernel
theorem dL_law_311 : decode cL_law 311 = .ok (.aload_n 0, 1) := by decide +kernel
theorem dL_law_312 : decode cL_law 312 = .ok (.iload_n 3, 1) := by decide +kernel
theorem dL_law_313 : decode cL_law 313 = .ok (.iconst 2, 1) := by decide +kernel
theorem dL_law_314 : decode cL_law 314 = .ok (.iadd, 1) := by decide +kernel
theorem dL_law_315 : decode cL_law 315 = .ok (.iaload, 1) := by decide +kernel
theorem dL_law_316 : decode cL_law 316 = .ok (.invokevirtual 39, 3) := by decide +kernel
theorem dL_law_319 : decode cL_law 319 = .ok (.if_icmp .eq 963, 3) := by decide +kernel
theorem dL_law_322 : decode cL_law 322 = .ok (.iconst 0, 1) := by decide +kernel
theorem dL_law_323 : decode cL_law 323 = .ok (.ireturn, 1) := by decide +kernel
theorem dL_law_324 : decode cL_law 324 = .ok (.aload_n 1, 1) := by decide +kernel
theorem dL_law_325 : decode cL_law 325 = .ok (.aload_n 0, 1) := by decide +kernel
theorem dL_law_326 : decode cL_law 326 = .ok (.iload_n 3, 1) := by decide +kernel
theorem dL_law_327 : decode cL_law 327 = .ok (.iconst 1, 1) := by decide +kernel
theorem dL_law_328 : decode cL_law 328 = .ok (.iadd, 1) := by decide +kernel
theorem dL_law_329 : decode cL_law 329 = .ok (.iaload, 1) := by decide +kernel
theorem dL_law_330 : decode cL_law 330 = .ok (.aload_n 0, 1) := by decide +kernel
theorem dL_law_331 : decode cL_law 331 = .ok (.iload_n 3, 1) := by decide +kernel
theorem dL_law_332 : decode cL_law 332 = .ok (.iconst 2, 1) := by decide +kernel
theorem dL_law_333 : decode cL_law 333 = .ok (.iadd, 1) := by decide +kernel
theorem dL_law_334 : decode cL_law 334 = .ok (.iaload, 1) := by decide +kernel
theorem dL_law_335 : decode cL_law 335 = .ok (.aload_n 0, 1) := by decide +kernel
theorem dL_law_336 : decode cL_law 336 = .ok (.iload_n 3, 1) := by decide +kernel
theorem dL_law_337 : decode cL_law 337 = .ok (.iconst 3, 1) := by decide +kernel
theorem dL_law_338 : decode cL_law 338 = .ok (.iadd, 1) := by decide +kernel
theorem dL_law_339 : decode cL_law 339 = .ok (.iaload, 1) := by decide +kernel
theorem dL_law_340 : decode cL_law 340 = .ok (.invokevirtual 40, 3) := by decide +kernel
theorem dL_law_343 : decode cL_law 343 = .ok (.aload_n 2, 1) := by decide +kernel
theorem dL_law_344 : decode cL_law 344 = .ok (.aload_n 0, 1) := by decide +kernel
theorem dL_law_345 : decode cL_law 345 = .ok (.iload_n 3, 1) := by decide +kernel
theorem dL_law_346 : decode cL_law 346 = .ok (.iconst 1, 1) := by decide +kernel
theorem dL_law_347 : decode cL_law 347 = .ok (.iadd, 1) := by decide +kernel
theorem dL_law_348 : decode cL_law 348 = .ok (.iaload, 1) := by decide +kernel
theorem dL_law_349 : decode cL_law 349 = .ok (.aload_n 0, 1) := by decide +kernel
theorem dL_law_350 : decode cL_law 350 = .ok (.iload_n 3, 1) := by decide +kernel
theorem dL_law_351 : decode cL_law 351 = .ok (.iconst 2, 1) := by decide +kernel
theorem dL_law_352 : decode cL_law 352 = .ok (.iadd, 1) := by decide +kernel
theorem dL_law_353 : decode cL_law 353 = .ok (.iaload, 1) := by decide +kernel
theorem dL_law_354 : decode cL_law 354 = .ok (.aload_n 0, 1) := by decide +kernel
theorem dL_law_355 : decode cL_law 355 = .ok (.iload_n 3, 1) := by decide +kernel
theorem dL_law_356 : decode cL_law 356 = .ok (.iconst 3, 1) := by decide +kernel
theorem dL_law_357 : decode cL_law 357 = .ok (.iadd, 1) := by decide +kernel
theorem dL_law_358 : decode cL_law 358 = .ok (.iaload, 1) := by decide +kernel
theorem dL_law_359 : decode cL_law 359 = .ok (.invokevirtual 44, 3) := by decide +kernel
theorem dL_law_362 : decode cL_law 362 = .ok (.if_icmp .eq 920, 3) := by decide +kernel
theorem dL_law_365 : decode cL_law 365 = .ok (.iconst 0, 1) := by decide +kernel
theorem dL_law_366 : decode cL_law 366 = .ok (.ireturn, 1) := by decide +kernel
theorem dL_law_367 : decode cL_law 367 = .ok (.aload_n 1, 1) := by decide +kernel
theorem dL_law_368 : decode cL_law 368 = .ok (.aload_n 0, 1) := by decide +kernel
theorem dL_law_369 : decode cL_law 369 = .ok (.iload_n 3, 1) := by decide +kernel
theorem dL_law_370 : decode cL_law 370 = .ok (.iconst 1, 1) := by decide +kernel
theorem dL_law_371 : decode cL_law 371 = .ok (.iadd, 1) := by decide +kernel
theorem dL_law_372 : decode cL_law 372 = .ok (.iaload, 1) := by decide +kernel
theorem dL_law_373 : decode cL_law 373 = .ok (.aload_n 0, 1) := by decide +kernel
theorem dL_law_374 : decode cL_law 374 = .ok (.iload_n 3, 1) := by decide +kernel
theorem dL_law_375 : decode cL_law 375 = .ok (.iconst 2, 1) := by decide +kernel
theorem dL_law_376 : decode cL_law 376 = .ok (.iadd, 1) := by decide +kernel
theorem dL_law_377 : decode cL_law 377 = .ok (.iaload, 1) := by decide +kernel
theorem dL_law_378 : decode cL_law 378 = .ok (.aload_n 0, 1) := by decide +kernel
theorem dL_law_379 : decode cL_law 379 = .ok (.iload_n 3, 1) := by decide +kernel
theorem dL_law_380 : decode cL_law 380 = .ok (.iconst 3, 1) := by decide +kernel
theorem dL_law_381 : decode cL_law 381 = .ok (.iadd, 1) := by decide +kernel
theorem dL_law_382 : decode cL_law 382 = .ok (.iaload, 1) := by decide +kernel
theorem dL_law_383 : decode cL_law 383 = .ok (.aload_n 0, 1) := by decide +kernel
theorem dL_law_384 : decode cL_law 384 = .ok (.iload_n 3, 1) := by decide +kernel
theorem dL_law_385 : decode cL_law 385 = .ok (.iconst 4, 1) := by decide +kernel
theorem dL_law_386 : decode cL_law 386 = .ok (.iadd, 1) := by decide +kernel
theorem dL_law_387 : decode cL_law 387 = .ok (.iaload, 1) := by decide +kernel
theorem dL_law_388 : decode cL_law 388 = .ok (.aload_n 0, 1) := by decide +kernel
theorem dL_law_389 : decode cL_law 389 = .ok (.iload_n 3, 1) := by decide +kernel
theorem dL_law_390 : decode cL_law 390 = .ok (.iconst 5, 1) := by decide +kernel
theorem dL_law_391 : decode cL_law 391 = .ok (.iadd, 1) := by decide +kernel
theorem dL_law_392 : decode cL_law 392 = .ok (.iaload, 1) := by decide +kernel
theorem dL_law_393 : decode cL_law 393 = .ok (.ifCond .eq 7, 3) := by decide +kernel
theorem dL_law_396 : decode cL_law 396 = .ok (.iconst 1, 1) := by decide +kernel
theorem dL_law_397 : decode cL_law 397 = .ok (.goto 4, 3) := by decide +kernel
theorem dL_law_400 : decode cL_law 400 = .ok (.iconst 0, 1) := by decide +kernel
theorem dL_law_401 : decode cL_law 401 = .ok (.invokevirtual 45, 3) := by decide +kernel
theorem dL_law_404 : decode cL_law 404 = .ok (.aload_n 2, 1) := by decide +kernel
theorem dL_law_405 : decode cL_law 405 = .ok (.aload_n 0, 1) := by decide +kernel
theorem dL_law_406 : decode cL_law 406 = .ok (.iload_n 3, 1) := by decide +kernel
theorem dL_law_407 : decode cL_law 407 = .ok (.iconst 1, 1) := by decide +kernel
theorem dL_law_408 : decode cL_law 408 = .ok (.iadd, 1) := by decide +kernel
theorem dL_law_409 : decode cL_law 409 = .ok (.iaload, 1) := by decide +kernel
theorem dL_law_410 : decode cL_law 410 = .ok (.aload_n 0, 1) := by decide +kernel
theorem dL_law_411 : decode cL_law 411 = .ok (.iload_n 3, 1) := by decide +kernel
theorem dL_law_412 : decode cL_law 412 = .ok (.iconst 2, 1) := by decide +kernel
theorem dL_law_413 : decode cL_law 413 = .ok (.iadd, 1) := by decide +kernel
theorem dL_law_414 : decode cL_law 414 = .ok (.iaload, 1) := by decide +kernel
theorem dL_law_415 : decode cL_law 415 = .ok (.aload_n 0, 1) := by decide +kernel
theorem dL_law_416 : decode cL_law 416 = .ok (.iload_n 3, 1) := by decide +kernel
theorem dL_law_417 : decode cL_law 417 = .ok (.iconst 3, 1) := by decide +kernel
theorem dL_law_418 : decode cL_law 418 = .ok (.iadd, 1) := by decide +kernel
theorem dL_law_419 : decode cL_law 419 = .ok (.iaload, 1) := by decide +kernel
theorem dL_law_420 : decode cL_law 420 = .ok (.aload_n 0, 1) := by decide +kernel
theorem dL_law_421 : decode cL_law 421 = .ok (.iload_n 3, 1) := by decide +kernel
theorem dL_law_422 : decode cL_law 422 = .ok (.iconst 4, 1) := by decide +kernel
theorem dL_law_423 : decode cL_law 423 = .ok (.iadd, 1) := by decide +kernel
theorem dL_law_424 : decode cL_law 424 = .ok (.iaload, 1) := by decide +kernel
theorem dL_law_425 : decode cL_law 425 = .ok (.aload_n 0, 1) := by decide +kernel
theorem dL_law_426 : decode cL_law 426 = .ok (.iload_n 3, 1) := by decide +kernel
theorem dL_law_427 : decode cL_law 427 = .ok (.iconst 5, 1) := by decide +kernel
theorem dL_law_428 : decode cL_law 428 = .ok (.iadd, 1) := by decide +kernel
theorem dL_law_429 : decode cL_law 429 = .ok (.iaload, 1) := by decide +kernel
theorem dL_law_430 : decode cL_law 430 = .ok (.ifCond .eq 7, 3) := by decide +kernel
theorem dL_law_433 : decode cL_law 433 = .ok (.iconst 1, 1) := by decide +kernel
theorem dL_law_434 : decode cL_law 434 = .ok (.goto 4, 3) := by decide +kernel
theorem dL_law_437 : decode cL_law 437 = .ok (.iconst 0, 1) := by decide +kernel
theorem dL_law_438 : decode cL_law 438 = .ok (.invokevirtual 49, 3) := by decide +kernel
theorem dL_law_441 : decode cL_law 441 = .ok (.if_icmp .eq 841, 3) := by decide +kernel
theorem dL_law_444 : decode cL_law 444 = .ok (.iconst 0, 1) := by decide +kernel
theorem dL_law_445 : decode cL_law 445 = .ok (.ireturn, 1) := by decide +kernel
theorem dL_law_446 : decode cL_law 446 = .ok (.aload_n 1, 1) := by decide +kernel
theorem dL_law_447 : decode cL_law 447 = .ok (.aload_n 0, 1) := by decide +kernel
theorem dL_law_448 : decode cL_law 448 = .ok (.iload_n 3, 1) := by decide +kernel
theorem dL_law_449 : decode cL_law 449 = .ok (.iconst 1, 1) := by decide +kernel
theorem dL_law_450 : decode cL_law 450 = .ok (.iadd, 1) := by decide +kernel
theorem dL_law_451 : decode cL_law 451 = .ok (.iaload, 1) := by decide +kernel
theorem dL_law_452 : decode cL_law 452 = .ok (.aload_n 0, 1) := by decide +kernel
theorem dL_law_453 : decode cL_law 453 = .ok (.iload_n 3, 1) := by decide +kernel
theorem dL_law_454 : decode cL_law 454 = .ok (.iconst 2, 1) := by decide +kernel
theorem dL_law_455 : decode cL_law 455 = .ok (.iadd, 1) := by decide +kernel
theorem dL_law_456 : decode cL_law 456 = .ok (.iaload, 1) := by decide +kernel
theorem dL_law_457 : decode cL_law 457 = .ok (.aload_n 0, 1) := by decide +kernel
theorem dL_law_458 : decode cL_law 458 = .ok (.iload_n 3, 1) := by decide +kernel
theorem dL_law_459 : decode cL_law 459 = .ok (.iconst 3, 1) := by decide +kernel
theorem dL_law_460 : decode cL_law 460 = .ok (.iadd, 1) := by decide +kernel
theorem dL_law_461 : decode cL_law 461 = .ok (.iaload, 1) := by decide +kernel
theorem dL_law_462 : decode cL_law 462 = .ok (.aload_n 0, 1) := by decide +kernel
theorem dL_law_463 : decode cL_law 463 = .ok (.iload_n 3, 1) := by decide +kernel
theorem dL_law_464 : decode cL_law 464 = .ok (.iconst 4, 1) := by decide +kernel
theorem dL_law_465 : decode cL_law 465 = .ok (.iadd, 1) := by decide +kernel
theorem dL_law_466 : decode cL_law 466 = .ok (.iaload, 1) := by decide +kernel
theorem dL_law_467 : decode cL_law 467 = .ok (.aload_n 0, 1) := by decide +kernel
theorem dL_law_468 : decode cL_law 468 = .ok (.iload_n 3, 1) := by decide +kernel
theorem dL_law_469 : decode cL_law 469 = .ok (.iconst 5, 1) := by decide +kernel
theorem dL_law_470 : decode cL_law 470 = .ok (.iadd, 1) := by decide +kernel
theorem dL_law_471 : decode cL_law 471 = .ok (.iaload, 1) := by decide +kernel
theorem dL_law_472 : decode cL_law 472 = .ok (.invokevirtual 50, 3) := by decide +kernel
theorem dL_law_475 : decode cL_law 475 = .ok (.aload_n 2, 1) := by decide +kernel
theorem dL_law_476 : decode cL_law 476 = .ok (.aload_n 0, 1) := by decide +kernel
theorem dL_law_477 : decode cL_law 477 = .ok (.iload_n 3, 1) := by decide +kernel
theorem dL_law_478 : decode cL_law 478 = .ok (.iconst 1, 1) := by decide +kernel
theorem dL_law_479 : decode cL_law 479 = .ok (.iadd, 1) := by decide +kernel
theorem dL_law_480 : decode cL_law 480 = .ok (.iaload, 1) := by decide +kernel
theorem dL_law_481 : decode cL_law 481 = .ok (.aload_n 0, 1) := by decide +kernel
theorem dL_law_482 : decode cL_law 482 = .ok (.iload_n 3, 1) := by decide +kernel
theorem dL_law_483 : decode cL_law 483 = .ok (.iconst 2, 1) := by decide +kernel
theorem dL_law_484 : decode cL_law 484 = .ok (.iadd, 1) := by decide +kernel
theorem dL_law_485 : decode cL_law 485 = .ok (.iaload, 1) := by decide +kernel
theorem dL_law_486 : decode cL_law 486 = .ok (.aload_n 0, 1) := by decide +kernel
theorem dL_law_487 : decode cL_law 487 = .ok (.iload_n 3, 1) := by decide +kernel
theorem dL_law_488 : decode cL_law 488 = .ok (.iconst 3, 1) := by decide +kernel
theorem dL_law_489 : decode cL_law 489 = .ok (.iadd, 1) := by decide +kernel
theorem dL_law_490 : decode cL_law 490 = .ok (.iaload, 1) := by decide +kernel
theorem dL_law_491 : decode cL_law 491 = .ok (.aload_n 0, 1) := by decide +kernel
theorem dL_law_492 : decode cL_law 492 = .ok (.iload_n 3, 1) := by decide +kernel
theorem dL_law_493 : decode cL_law 493 = .ok (.iconst 4, 1) := by decide +kernel
theorem dL_law_494 : decode cL_law 494 = .ok (.iadd, 1) := by decide +kernel
theorem dL_law_495 : decode cL_law 495 = .ok (.iaload, 1) := by decide +kernel
theorem dL_law_496 : decode cL_law 496 = .ok (.aload_n 0, 1) := by decide +kernel
theorem dL_law_497 : decode cL_law 497 = .ok (.iload_n 3, 1) := by decide +kernel
theorem dL_law_498 : decode cL_law 498 = .ok (.iconst 5, 1) := by decide +kernel
theorem dL_law_499 : decode cL_law 499 = .ok (.iadd, 1) := by decide +kernel
theorem dL_law_500 : decode cL_law 500 = .ok (.iaload, 1) := by decide +kernel
theorem dL_law_501 : decode cL_law 501 = .ok (.invokevirtual 54, 3) := by decide +kernel
theorem dL_law_504 : decode cL_law 504 = .ok (.if_icmp .eq 778, 3) := by decide +kernel
theorem dL_law_507 : decode cL_law 507 = .ok (.iconst 0, 1) := by decide +kernel
theorem dL_law_508 : decode cL_law 508 = .ok (.ireturn, 1) := by decide +kernel
theorem dL_law_509 : decode cL_law 509 = .ok (.aload_n 1, 1) := by decide +kernel
theorem dL_law_510 : decode cL_law 510 = .ok (.aload_n 0, 1) := by decide +kernel
theorem dL_law_511 : decode cL_law 511 = .ok (.iload_n 3, 1) := by decide +kernel
theorem dL_law_512 : decode cL_law 512 = .ok (.iconst 1, 1) := by decide +kernel
theorem dL_law_513 : decode cL_law 513 = .ok (.iadd, 1) := by decide +kernel
theorem dL_law_514 : decode cL_law 514 = .ok (.iaload, 1) := by decide +kernel
theorem dL_law_515 : decode cL_law 515 = .ok (.invokevirtual 55, 3) := by decide +kernel
theorem dL_law_518 : decode cL_law 518 = .ok (.aload_n 2, 1) := by decide +kernel
theorem dL_law_519 : decode cL_law 519 = .ok (.aload_n 0, 1) := by decide +kernel
theorem dL_law_520 : decode cL_law 520 = .ok (.iload_n 3, 1) := by decide +kernel
theorem dL_law_521 : decode cL_law 521 = .ok (.iconst 1, 1) := by decide +kernel
theorem dL_law_522 : decode cL_law 522 = .ok (.iadd, 1) := by decide +kernel
theorem dL_law_523 : decode cL_law 523 = .ok (.iaload, 1) := by decide +kernel
theorem dL_law_524 : decode cL_law 524 = .ok (.invokevirtual 59, 3) := by decide +kernel
theorem dL_law_527 : decode cL_law 527 = .ok (.if_icmp .eq 755, 3) := by decide +kernel
theorem dL_law_530 : decode cL_law 530 = .ok (.iconst 0, 1) := by decide +kernel
theorem dL_law_531 : decode cL_law 531 = .ok (.ireturn, 1) := by decide +kernel
theorem dL_law_532 : decode cL_law 532 = .ok (.aload_n 1, 1) := by decide +kernel
theorem dL_law_533 : decode cL_law 533 = .ok (.aload_n 0, 1) := by decide +kernel
theorem dL_law_534 : decode cL_law 534 = .ok (.iload_n 3, 1) := by decide +kernel
theorem dL_law_535 : decode cL_law 535 = .ok (.iconst 1, 1) := by decide +kernel
theorem dL_law_536 : decode cL_law 536 = .ok (.iadd, 1) := by decide +kernel
theorem dL_law_537 : decode cL_law 537 = .ok (.iaload, 1) := by decide +kernel
theorem dL_law_538 : decode cL_law 538 = .ok (.aload_n 0, 1) := by decide +kernel
theorem dL_law_539 : decode cL_law 539 = .ok (.iload_n 3, 1) := by decide +kernel
theorem dL_law_540 : decode cL_law 540 = .ok (.iconst 2, 1) := by decide +kernel
theorem dL_law_541 : decode cL_law 541 = .ok (.iadd, 1) := by decide +kernel
theorem dL_law_542 : decode cL_law 542 = .ok (.iaload, 1) := by decide +kernel
theorem dL_law_543 : decode cL_law 543 = .ok (.aload_n 0, 1) := by decide +kernel
theorem dL_law_544 : decode cL_law 544 = .ok (.iload_n 3, 1) := by decide +kernel
theorem dL_law_545 : decode cL_law 545 = .ok (.iconst 3, 1) := by decide +kernel
theorem dL_law_546 : decode cL_law 546 = .ok (.iadd, 1) := by decide +kernel
theorem dL_law_547 : decode cL_law 547 = .ok (.iaload, 1) := by decide +kernel
theorem dL_law_548 : decode cL_law 548 = .ok (.aload_n 0, 1) := by decide +kernel
theorem dL_law_549 : decode cL_law 549 = .ok (.iload_n 3, 1) := by decide +kernel
theorem dL_law_550 : decode cL_law 550 = .ok (.iconst 4, 1) := by decide +kernel
theorem dL_law_551 : decode cL_law 551 = .ok (.iadd, 1) := by decide +kernel
theorem dL_law_552 : decode cL_law 552 = .ok (.iaload, 1) := by decide +kernel
theorem dL_law_553 : decode cL_law 553 = .ok (.aload_n 0, 1) := by decide +kernel
theorem dL_law_554 : decode cL_law 554 = .ok (.iload_n 3, 1) := by decide +kernel
theorem dL_law_555 : decode cL_law 555 = .ok (.iconst 5, 1) := by decide +kernel
theorem dL_law_556 : decode cL_law 556 = .ok (.iadd, 1) := by decide +kernel
theorem dL_law_557 : decode cL_law 557 = .ok (.iaload, 1) := by decide +kernel
theorem dL_law_558 : decode cL_law 558 = .ok (.ifCond .eq 7, 3) := by decide +kernel
theorem dL_law_561 : decode cL_law 561 = .ok (.iconst 1, 1) := by decide +kernel
theorem dL_law_562 : decode cL_law 562 = .ok (.goto 4, 3) := by decide +kernel
theorem dL_law_565 : decode cL_law 565 = .ok (.iconst 0, 1) := by decide +kernel
theorem dL_law_566 : decode cL_law 566 = .ok (.invokevirtual 60, 3) := by decide +kernel
theorem dL_law_569 : decode cL_law 569 = .ok (.aload_n 2, 1) := by decide +kernel
theorem dL_law_570 : decode cL_law 570 = .ok (.aload_n 0, 1) := by decide +kernel
theorem dL_law_571 : decode cL_law 571 = .ok (.iload_n 3, 1) := by decide +kernel
theorem dL_law_572 : decode cL_law 572 = .ok (.iconst 1, 1) := by decide +kernel
theorem dL_law_573 : decode cL_law 573 = .ok (.iadd, 1) := by decide +kernel
theorem dL_law_574 : decode cL_law 574 = .ok (.iaload, 1) := by decide +kernel
theorem dL_law_575 : decode cL_law 575 = .ok (.aload_n 0, 1) := by decide +kernel
theorem dL_law_576 : decode cL_law 576 = .ok (.iload_n 3, 1) := by decide +kernel
theorem dL_law_577 : decode cL_law 577 = .ok (.iconst 2, 1) := by decide +kernel
theorem dL_law_578 : decode cL_law 578 = .ok (.iadd, 1) := by decide +kernel
theorem dL_law_579 : decode cL_law 579 = .ok (.iaload, 1) := by decide +kernel
theorem dL_law_580 : decode cL_law 580 = .ok (.aload_n 0, 1) := by decide +kernel
theorem dL_law_581 : decode cL_law 581 = .ok (.iload_n 3, 1) := by decide +kernel
theorem dL_law_582 : decode cL_law 582 = .ok (.iconst 3, 1) := by decide +kernel
theorem dL_law_583 : decode cL_law 583 = .ok (.iadd, 1) := by decide +kernel
theorem dL_law_584 : decode cL_law 584 = .ok (.iaload, 1) := by decide +kernel
theorem dL_law_585 : decode cL_law 585 = .ok (.aload_n 0, 1) := by decide +kernel
theorem dL_law_586 : decode cL_law 586 = .ok (.iload_n 3, 1) := by decide +kernel
theorem dL_law_587 : decode cL_law 587 = .ok (.iconst 4, 1) := by decide +kernel
theorem dL_law_588 : decode cL_law 588 = .ok (.iadd, 1) := by decide +kernel
theorem dL_law_589 : decode cL_law 589 = .ok (.iaload, 1) := by decide +kernel
theorem dL_law_590 : decode cL_law 590 = .ok (.aload_n 0, 1) := by decide +kernel
theorem dL_law_591 : decode cL_law 591 = .ok (.iload_n 3, 1) := by decide +kernel
theorem dL_law_592 : decode cL_law 592 = .ok (.iconst 5, 1) := by decide +kernel
theorem dL_law_593 : decode cL_law 593 = .ok (.iadd, 1) := by decide +kernel
theorem dL_law_594 : decode cL_law 594 = .ok (.iaload, 1) := by decide +kernel
theorem dL_law_595 : decode cL_law 595 = .ok (.ifCond .eq 7, 3) := by decide +kernel
theorem dL_law_598 : decode cL_law 598 = .ok (.iconst 1, 1) := by decide +kernel
theorem dL_law_599 : decode cL_law 599 = .ok (.goto 4, 3) := by decide +kernel
theorem dL_law_602 : decode cL_law 602 = .ok (.iconst 0, 1) := by decide +kernel
theorem dL_law_603 : decode cL_law 603 = .ok (.invokevirtual 63, 3) := by decide +kernel
theorem dL_law_606 : decode cL_law 606 = .ok (.if_icmp .eq 676, 3) := by decide +kernel
theorem dL_law_609 : decode cL_law 609 = .ok (.iconst 0, 1) := by decide +kernel
theorem dL_law_610 : decode cL_law 610 = .ok (.ireturn, 1) := by decide +kernel
theorem dL_law_611 : decode cL_law 611 = .ok (.aload_n 1, 1) := by decide +kernel
theorem dL_law_612 : decode cL_law 612 = .ok (.aload_n 0, 1) := by decide +kernel
theorem dL_law_613 : decode cL_law 613 = .ok (.iload_n 3, 1) := by decide +kernel
theorem dL_law_614 : decode cL_law 614 = .ok (.iconst 1, 1) := by decide +kernel
theorem dL_law_615 : decode cL_law 615 = .ok (.iadd, 1) := by decide +kernel
theorem dL_law_616 : decode cL_law 616 = .ok (.iaload, 1) := by decide +kernel
theorem dL_law_617 : decode cL_law 617 = .ok (.aload_n 0, 1) := by decide +kernel
theorem dL_law_618 : decode cL_law 618 = .ok (.iload_n 3, 1) := by decide +kernel
theorem dL_law_619 : decode cL_law 619 = .ok (.iconst 2, 1) := by decide +kernel
theorem dL_law_620 : decode cL_law 620 = .ok (.iadd, 1) := by decide +kernel
theorem dL_law_621 : decode cL_law 621 = .ok (.iaload, 1) := by decide +kernel
theorem dL_law_622 : decode cL_law 622 = .ok (.aload_n 0, 1) := by decide +kernel
theorem dL_law_623 : decode cL_law 623 = .ok (.iload_n 3, 1) := by decide +kernel
theorem dL_law_624 : decode cL_law 624 = .ok (.iconst 3, 1) := by decide +kernel
theorem dL_law_625 : decode cL_law 625 = .ok (.iadd, 1) := by decide +kernel
theorem dL_law_626 : decode cL_law 626 = .ok (.iaload, 1) := by decide +kernel
theorem dL_law_627 : decode cL_law 627 = .ok (.aload_n 0, 1) := by decide +kernel
theorem dL_law_628 : decode cL_law 628 = .ok (.iload_n 3, 1) := by decide +kernel
theorem dL_law_629 : decode cL_law 629 = .ok (.iconst 4, 1) := by decide +kernel
theorem dL_law_630 : decode cL_law 630 = .ok (.iadd, 1) := by decide +kernel
theorem dL_law_631 : decode cL_law 631 = .ok (.iaload, 1) := by decide +kernel
theorem dL_law_632 : decode cL_law 632 = .ok (.aload_n 0, 1) := by decide +kernel
theorem dL_law_633 : decode cL_law 633 = .ok (.iload_n 3, 1) := by decide +kernel
theorem dL_law_634 : decode cL_law 634 = .ok (.iconst 5, 1) := by decide +kernel
theorem dL_law_635 : decode cL_law 635 = .ok (.iadd, 1) := by decide +kernel
theorem dL_law_636 : decode cL_law 636 = .ok (.iaload, 1) := by decide +kernel
theorem dL_law_637 : decode cL_law 637 = .ok (.invokevirtual 64, 3) := by decide +kernel
theorem dL_law_640 : decode cL_law 640 = .ok (.aload_n 2, 1) := by decide +kernel
theorem dL_law_641 : decode cL_law 641 = .ok (.aload_n 0, 1) := by decide +kernel
theorem dL_law_642 : decode cL_law 642 = .ok (.iload_n 3, 1) := by decide +kernel
theorem dL_law_643 : decode cL_law 643 = .ok (.iconst 1, 1) := by decide +kernel
theorem dL_law_644 : decode cL_law 644 = .ok (.iadd, 1) := by decide +kernel
theorem dL_law_645 : decode cL_law 645 = .ok (.iaload, 1) := by decide +kernel
theorem dL_law_646 : decode cL_law 646 = .ok (.aload_n 0, 1) := by decide +kernel
theorem dL_law_647 : decode cL_law 647 = .ok (.iload_n 3, 1) := by decide +kernel
theorem dL_law_648 : decode cL_law 648 = .ok (.iconst 2, 1) := by decide +kernel
theorem dL_law_649 : decode cL_law 649 = .ok (.iadd, 1) := by decide +kernel
theorem dL_law_650 : decode cL_law 650 = .ok (.iaload, 1) := by decide +kernel
theorem dL_law_651 : decode cL_law 651 = .ok (.aload_n 0, 1) := by decide +kernel
theorem dL_law_652 : decode cL_law 652 = .ok (.iload_n 3, 1) := by decide +kernel
theorem dL_law_653 : decode cL_law 653 = .ok (.iconst 3, 1) := by decide +kernel
theorem dL_law_654 : decode cL_law 654 = .ok (.iadd, 1) := by decide +kernel
theorem dL_law_655 : decode cL_law 655 = .ok (.iaload, 1) := by decide +kernel
theorem dL_law_656 : decode cL_law 656 = .ok (.aload_n 0, 1) := by decide +kernel
theorem dL_law_657 : decode cL_law 657 = .ok (.iload_n 3, 1) := by decide +kernel
theorem dL_law_658 : decode cL_law 658 = .ok (.iconst 4, 1) := by decide +kernel
theorem dL_law_659 : decode cL_law 659 = .ok (.iadd, 1) := by decide +kernel
theorem dL_law_660 : decode cL_law 660 = .ok (.iaload, 1) := by decide +kernel
theorem dL_law_661 : decode cL_law 661 = .ok (.aload_n 0, 1) := by decide +kernel
theorem dL_law_662 : decode cL_law 662 = .ok (.iload_n 3, 1) := by decide +kernel
theorem dL_law_663 : decode cL_law 663 = .ok (.iconst 5, 1) := by decide +kernel
theorem dL_law_664 : decode cL_law 664 = .ok (.iadd, 1) := by decide +kernel
theorem dL_law_665 : decode cL_law 665 = .ok (.iaload, 1) := by decide +kernel
theorem dL_law_666 : decode cL_law 666 = .ok (.invokevirtual 67, 3) := by decide +kernel
theorem dL_law_669 : decode cL_law 669 = .ok (.if_icmp .eq 613, 3) := by decide +kernel
theorem dL_law_672 : decode cL_law 672 = .ok (.iconst 0, 1) := by decide +kernel
theorem dL_law_673 : decode cL_law 673 = .ok (.ireturn, 1) := by decide +kernel
theorem dL_law_674 : decode cL_law 674 = .ok (.aload_n 1, 1) := by decide +kernel
theorem dL_law_675 : decode cL_law 675 = .ok (.aload_n 0, 1) := by decide +kernel
theorem dL_law_676 : decode cL_law 676 = .ok (.iload_n 3, 1) := by decide +kernel
theorem dL_law_677 : decode cL_law 677 = .ok (.iconst 1, 1) := by decide +kernel
theorem dL_law_678 : decode cL_law 678 = .ok (.iadd, 1) := by decide +kernel
theorem dL_law_679 : decode cL_law 679 = .ok (.iaload, 1) := by decide +kernel
theorem dL_law_680 : decode cL_law 680 = .ok (.aload_n 0, 1) := by decide +kernel
theorem dL_law_681 : decode cL_law 681 = .ok (.iload_n 3, 1) := by decide +kernel
theorem dL_law_682 : decode cL_law 682 = .ok (.iconst 2, 1) := by decide +kernel
theorem dL_law_683 : decode cL_law 683 = .ok (.iadd, 1) := by decide +kernel
theorem dL_law_684 : decode cL_law 684 = .ok (.iaload, 1) := by decide +kernel
theorem dL_law_685 : decode cL_law 685 = .ok (.aload_n 0, 1) := by decide +kernel
theorem dL_law_686 : decode cL_law 686 = .ok (.iload_n 3, 1) := by decide +kernel
theorem dL_law_687 : decode cL_law 687 = .ok (.iconst 3, 1) := by decide +kernel
theorem dL_law_688 : decode cL_law 688 = .ok (.iadd, 1) := by decide +kernel
theorem dL_law_689 : decode cL_law 689 = .ok (.iaload, 1) := by decide +kernel
theorem dL_law_690 : decode cL_law 690 = .ok (.aload_n 0, 1) := by decide +kernel
theorem dL_law_691 : decode cL_law 691 = .ok (.iload_n 3, 1) := by decide +kernel
theorem dL_law_692 : decode cL_law 692 = .ok (.iconst 4, 1) := by decide +kernel
theorem dL_law_693 : decode cL_law 693 = .ok (.iadd, 1) := by decide +kernel
theorem dL_law_694 : decode cL_law 694 = .ok (.iaload, 1) := by decide +kernel
theorem dL_law_695 : decode cL_law 695 = .ok (.aload_n 0, 1) := by decide +kernel
theorem dL_law_696 : decode cL_law 696 = .ok (.iload_n 3, 1) := by decide +kernel
theorem dL_law_697 : decode cL_law 697 = .ok (.iconst 5, 1) := by decide +kernel
theorem dL_law_698 : decode cL_law 698 = .ok (.iadd, 1) := by decide +kernel
theorem dL_law_699 : decode cL_law 699 = .ok (.iaload, 1) := by decide +kernel
theorem dL_law_700 : decode cL_law 700 = .ok (.aload_n 0, 1) := by decide +kernel
theorem dL_law_701 : decode cL_law 701 = .ok (.iload_n 3, 1) := by decide +kernel
theorem dL_law_702 : decode cL_law 702 = .ok (.bipush 6, 2) := by decide +kernel
theorem dL_law_704 : decode cL_law 704 = .ok (.iadd, 1) := by decide +kernel
theorem dL_law_705 : decode cL_law 705 = .ok (.iaload, 1) := by decide +kernel
theorem dL_law_706 : decode cL_law 706 = .ok (.invokevirtual 68, 3) := by decide +kernel
theorem dL_law_709 : decode cL_law 709 = .ok (.aload_n 2, 1) := by decide +kernel
theorem dL_law_710 : decode cL_law 710 = .ok (.aload_n 0, 1) := by decide +kernel
theorem dL_law_711 : decode cL_law 711 = .ok (.iload_n 3, 1) := by decide +kernel
theorem dL_law_712 : decode cL_law 712 = .ok (.iconst 1, 1) := by decide +kernel
theorem dL_law_713 : decode cL_law 713 = .ok (.iadd, 1) := by decide +kernel
theorem dL_law_714 : decode cL_law 714 = .ok (.iaload, 1) := by decide +kernel
theorem dL_law_715 : decode cL_law 715 = .ok (.aload_n 0, 1) := by decide +kernel
theorem dL_law_716 : decode cL_law 716 = .ok (.iload_n 3, 1) := by decide +kernel
theorem dL_law_717 : decode cL_law 717 = .ok (.iconst 2, 1) := by decide +kernel
theorem dL_law_718 : decode cL_law 718 = .ok (.iadd, 1) := by decide +kernel
theorem dL_law_719 : decode cL_law 719 = .ok (.iaload, 1) := by decide +kernel
theorem dL_law_720 : decode cL_law 720 = .ok (.aload_n 0, 1) := by decide +kernel
theorem dL_law_721 : decode cL_law 721 = .ok (.iload_n 3, 1) := by decide +kernel
theorem dL_law_722 : decode cL_law 722 = .ok (.iconst 3, 1) := by decide +kernel
theorem dL_law_723 : decode cL_law 723 = .ok (.iadd, 1) := by decide +kernel
theorem dL_law_724 : decode cL_law 724 = .ok (.iaload, 1) := by decide +kernel
theorem dL_law_725 : decode cL_law 725 = .ok (.aload_n 0, 1) := by decide +kernel
theorem dL_law_726 : decode cL_law 726 = .ok (.iload_n 3, 1) := by decide +kernel
theorem dL_law_727 : decode cL_law 727 = .ok (.iconst 4, 1) := by decide +kernel
theorem dL_law_728 : decode cL_law 728 = .ok (.iadd, 1) := by decide +kernel
theorem dL_law_729 : decode cL_law 729 = .ok (.iaload, 1) := by decide +kernel
theorem dL_law_730 : decode cL_law 730 = .ok (.aload_n 0, 1) := by decide +kernel
theorem dL_law_731 : decode cL_law 731 = .ok (.iload_n 3, 1) := by decide +kernel
theorem dL_law_732 : decode cL_law 732 = .ok (.iconst 5, 1) := by decide +kernel
theorem dL_law_733 : decode cL_law 733 = .ok (.iadd, 1) := by decide +kernel
theorem dL_law_734 : decode cL_law 734 = .ok (.iaload, 1) := by decide +kernel
theorem dL_law_735 : decode cL_law 735 = .ok (.aload_n 0, 1) := by decide +kernel
theorem dL_law_736 : decode cL_law 736 = .ok (.iload_n 3, 1) := by decide +kernel
theorem dL_law_737 : decode cL_law 737 = .ok (.bipush 6, 2) := by decide +kernel
theorem dL_law_739 : decode cL_law 739 = .ok (.iadd, 1) := by decide +kernel
theorem dL_law_740 : decode cL_law 740 = .ok (.iaload, 1) := by decide +kernel
theorem dL_law_741 : decode cL_law 741 = .ok (.invokevirtual 72, 3) := by decide +kernel
theorem dL_law_744 : decode cL_law 744 = .ok (.if_icmp .eq 538, 3) := by decide +kernel
theorem dL_law_747 : decode cL_law 747 = .ok (.iconst 0, 1) := by decide +kernel
theorem dL_law_748 : decode cL_law 748 = .ok (.ireturn, 1) := by decide +kernel
theorem dL_law_749 : decode cL_law 749 = .ok (.aload_n 1, 1) := by decide +kernel
theorem dL_law_750 : decode cL_law 750 = .ok (.aload_n 0, 1) := by decide +kernel
theorem dL_law_751 : decode cL_law 751 = .ok (.iload_n 3, 1) := by decide +kernel
theorem dL_law_752 : decode cL_law 752 = .ok (.iconst 1, 1) := by decide +kernel
theorem dL_law_753 : decode cL_law 753 = .ok (.iadd, 1) := by decide +kernel
theorem dL_law_754 : decode cL_law 754 = .ok (.iaload, 1) := by decide +kernel
theorem dL_law_755 : decode cL_law 755 = .ok (.aload_n 0, 1) := by decide +kernel
theorem dL_law_756 : decode cL_law 756 = .ok (.iload_n 3, 1) := by decide +kernel
theorem dL_law_757 : decode cL_law 757 = .ok (.iconst 2, 1) := by decide +kernel
theorem dL_law_758 : decode cL_law 758 = .ok (.iadd, 1) := by decide +kernel
theorem dL_law_759 : decode cL_law 759 = .ok (.iaload, 1) := by decide +kernel
theorem dL_law_760 : decode cL_law 760 = .ok (.aload_n 0, 1) := by decide +kernel
theorem dL_law_761 : decode cL_law 761 = .ok (.iload_n 3, 1) := by decide +kernel
theorem dL_law_762 : decode cL_law 762 = .ok (.iconst 3, 1) := by decide +kernel
theorem dL_law_763 : decode cL_law 763 = .ok (.iadd, 1) := by decide +kernel
theorem dL_law_764 : decode cL_law 764 = .ok (.iaload, 1) := by decide +kernel
theorem dL_law_765 : decode cL_law 765 = .ok (.aload_n 0, 1) := by decide +kernel
theorem dL_law_766 : decode cL_law 766 = .ok (.iload_n 3, 1) := by decide +kernel
theorem dL_law_767 : decode cL_law 767 = .ok (.iconst 4, 1) := by decide +kernel
theorem dL_law_768 : decode cL_law 768 = .ok (.iadd, 1) := by decide +kernel
theorem dL_law_769 : decode cL_law 769 = .ok (.iaload, 1) := by decide +kernel
theorem dL_law_770 : decode cL_law 770 = .ok (.aload_n 0, 1) := by decide +kernel
theorem dL_law_771 : decode cL_law 771 = .ok (.iload_n 3, 1) := by decide +kernel
theorem dL_law_772 : decode cL_law 772 = .ok (.iconst 5, 1) := by decide +kernel
theorem dL_law_773 : decode cL_law 773 = .ok (.iadd, 1) := by decide +kernel
theorem dL_law_774 : decode cL_law 774 = .ok (.iaload, 1) := by decide +kernel
theorem dL_law_775 : decode cL_law 775 = .ok (.invokevirtual 73, 3) := by decide +kernel
theorem dL_law_778 : decode cL_law 778 = .ok (.aload_n 2, 1) := by decide +kernel
theorem dL_law_779 : decode cL_law 779 = .ok (.aload_n 0, 1) := by decide +kernel
theorem dL_law_780 : decode cL_law 780 = .ok (.iload_n 3, 1) := by decide +kernel
theorem dL_law_781 : decode cL_law 781 = .ok (.iconst 1, 1) := by decide +kernel
theorem dL_law_782 : decode cL_law 782 = .ok (.iadd, 1) := by decide +kernel
theorem dL_law_783 : decode cL_law 783 = .ok (.iaload, 1) := by decide +kernel
theorem dL_law_784 : decode cL_law 784 = .ok (.aload_n 0, 1) := by decide +kernel
theorem dL_law_785 : decode cL_law 785 = .ok (.iload_n 3, 1) := by decide +kernel
theorem dL_law_786 : decode cL_law 786 = .ok (.iconst 2, 1) := by decide +kernel
theorem dL_law_787 : decode cL_law 787 = .ok (.iadd, 1) := by decide +kernel
theorem dL_law_788 : decode cL_law 788 = .ok (.iaload, 1) := by decide +kernel
theorem dL_law_789 : decode cL_law 789 = .ok (.aload_n 0, 1) := by decide +kernel
theorem dL_law_790 : decode cL_law 790 = .ok (.iload_n 3, 1) := by decide +kernel
theorem dL_law_791 : decode cL_law 791 = .ok (.iconst 3, 1) := by decide +kernel
theorem dL_law_792 : decode cL_law 792 = .ok (.iadd, 1) := by decide +kernel
theorem dL_law_793 : decode cL_law 793 = .ok (.iaload, 1) := by decide +kernel
theorem dL_law_794 : decode cL_law 794 = .ok (.aload_n 0, 1) := by decide +kernel
theorem dL_law_795 : decode cL_law 795 = .ok (.iload_n 3, 1) := by decide +kernel
theorem dL_law_796 : decode cL_law 796 = .ok (.iconst 4, 1) := by decide +kernel
theorem dL_law_797 : decode cL_law 797 = .ok (.iadd, 1) := by decide +kernel
theorem dL_law_798 : decode cL_law 798 = .ok (.iaload, 1) := by decide +kernel
theorem dL_law_799 : decode cL_law 799 = .ok (.aload_n 0, 1) := by decide +kernel
theorem dL_law_800 : decode cL_law 800 = .ok (.iload_n 3, 1) := by decide +kernel
theorem dL_law_801 : decode cL_law 801 = .ok (.iconst 5, 1) := by decide +kernel
theorem dL_law_802 : decode cL_law 802 = .ok (.iadd, 1) := by decide +kernel
theorem dL_law_803 : decode cL_law 803 = .ok (.iaload, 1) := by decide +kernel
theorem dL_law_804 : decode cL_law 804 = .ok (.invokevirtual 76, 3) := by decide +kernel
theorem dL_law_807 : decode cL_law 807 = .ok (.if_icmp .eq 475, 3) := by decide +kernel
theorem dL_law_810 : decode cL_law 810 = .ok (.iconst 0, 1) := by decide +kernel
theorem dL_law_811 : decode cL_law 811 = .ok (.ireturn, 1) := by decide +kernel
theorem dL_law_812 : decode cL_law 812 = .ok (.aload_n 1, 1) := by decide +kernel
theorem dL_law_813 : decode cL_law 813 = .ok (.aload_n 0, 1) := by decide +kernel
theorem dL_law_814 : decode cL_law 814 = .ok (.iload_n 3, 1) := by decide +kernel
theorem dL_law_815 : decode cL_law 815 = .ok (.iconst 1, 1) := by decide +kernel
theorem dL_law_816 : decode cL_law 816 = .ok (.iadd, 1) := by decide +kernel
theorem dL_law_817 : decode cL_law 817 = .ok (.iaload, 1) := by decide +kernel
theorem dL_law_818 : decode cL_law 818 = .ok (.invokevirtual 77, 3) := by decide +kernel
theorem dL_law_821 : decode cL_law 821 = .ok (.aload_n 2, 1) := by decide +kernel
theorem dL_law_822 : decode cL_law 822 = .ok (.aload_n 0, 1) := by decide +kernel
theorem dL_law_823 : decode cL_law 823 = .ok (.iload_n 3, 1) := by decide +kernel
theorem dL_law_824 : decode cL_law 824 = .ok (.iconst 1, 1) := by decide +kernel
theorem dL_law_825 : decode cL_law 825 = .ok (.iadd, 1) := by decide +kernel
theorem dL_law_826 : decode cL_law 826 = .ok (.iaload, 1) := by decide +kernel
theorem dL_law_827 : decode cL_law 827 = .ok (.invokevirtual 80, 3) := by decide +kernel
theorem dL_law_830 : decode cL_law 830 = .ok (.if_icmp .eq 452, 3) := by decide +kernel
theorem dL_law_833 : decode cL_law 833 = .ok (.iconst 0, 1) := by decide +kernel
theorem dL_law_834 : decode cL_law 834 = .ok (.ireturn, 1) := by decide +kernel
theorem dL_law_835 : decode cL_law 835 = .ok (.aload_n 1, 1) := by decide +kernel
theorem dL_law_836 : decode cL_law 836 = .ok (.invokevirtual 81, 3) := by decide +kernel
theorem dL_law_839 : decode cL_law 839 = .ok (.aload_n 2, 1) := by decide +kernel
theorem dL_law_840 : decode cL_law 840 = .ok (.invokevirtual 85, 3) := by decide +kernel
theorem dL_law_843 : decode cL_law 843 = .ok (.if_icmp .eq 439, 3) := by decide +kernel
theorem dL_law_846 : decode cL_law 846 = .ok (.iconst 0, 1) := by decide +kernel
theorem dL_law_847 : decode cL_law 847 = .ok (.ireturn, 1) := by decide +kernel
theorem dL_law_848 : decode cL_law 848 = .ok (.aload_n 1, 1) := by decide +kernel
theorem dL_law_849 : decode cL_law 849 = .ok (.aload_n 0, 1) := by decide +kernel
theorem dL_law_850 : decode cL_law 850 = .ok (.iload_n 3, 1) := by decide +kernel
theorem dL_law_851 : decode cL_law 851 = .ok (.iconst 1, 1) := by decide +kernel
theorem dL_law_852 : decode cL_law 852 = .ok (.iadd, 1) := by decide +kernel
theorem dL_law_853 : decode cL_law 853 = .ok (.iaload, 1) := by decide +kernel
theorem dL_law_854 : decode cL_law 854 = .ok (.invokevirtual 86, 3) := by decide +kernel
theorem dL_law_857 : decode cL_law 857 = .ok (.aload_n 2, 1) := by decide +kernel
theorem dL_law_858 : decode cL_law 858 = .ok (.aload_n 0, 1) := by decide +kernel
theorem dL_law_859 : decode cL_law 859 = .ok (.iload_n 3, 1) := by decide +kernel
theorem dL_law_860 : decode cL_law 860 = .ok (.iconst 1, 1) := by decide +kernel
theorem dL_law_861 : decode cL_law 861 = .ok (.iadd, 1) := by decide +kernel
theorem dL_law_862 : decode cL_law 862 = .ok (.iaload, 1) := by decide +kernel
theorem dL_law_863 : decode cL_law 863 = .ok (.invokevirtual 89, 3) := by decide +kernel
theorem dL_law_866 : decode cL_law 866 = .ok (.if_icmp .eq 416, 3) := by decide +kernel
theorem dL_law_869 : decode cL_law 869 = .ok (.iconst 0, 1) := by decide +kernel
theorem dL_law_870 : decode cL_law 870 = .ok (.ireturn, 1) := by decide +kernel
theorem dL_law_871 : decode cL_law 871 = .ok (.aload_n 1, 1) := by decide +kernel
theorem dL_law_872 : decode cL_law 872 = .ok (.aload_n 0, 1) := by decide +kernel
theorem dL_law_873 : decode cL_law 873 = .ok (.iload_n 3, 1) := by decide +kernel
theorem dL_law_874 : decode cL_law 874 = .ok (.iconst 1, 1) := by decide +kernel
theorem dL_law_875 : decode cL_law 875 = .ok (.iadd, 1) := by decide +kernel
theorem dL_law_876 : decode cL_law 876 = .ok (.iaload, 1) := by decide +kernel
theorem dL_law_877 : decode cL_law 877 = .ok (.aload_n 0, 1) := by decide +kernel
theorem dL_law_878 : decode cL_law 878 = .ok (.iload_n 3, 1) := by decide +kernel
theorem dL_law_879 : decode cL_law 879 = .ok (.iconst 2, 1) := by decide +kernel
theorem dL_law_880 : decode cL_law 880 = .ok (.iadd, 1) := by decide +kernel
theorem dL_law_881 : decode cL_law 881 = .ok (.iaload, 1) := by decide +kernel
theorem dL_law_882 : decode cL_law 882 = .ok (.aload_n 0, 1) := by decide +kernel
theorem dL_law_883 : decode cL_law 883 = .ok (.iload_n 3, 1) := by decide +kernel
theorem dL_law_884 : decode cL_law 884 = .ok (.iconst 3, 1) := by decide +kernel
theorem dL_law_885 : decode cL_law 885 = .ok (.iadd, 1) := by decide +kernel
theorem dL_law_886 : decode cL_law 886 = .ok (.iaload, 1) := by decide +kernel
theorem dL_law_887 : decode cL_law 887 = .ok (.aload_n 0, 1) := by decide +kernel
theorem dL_law_888 : decode cL_law 888 = .ok (.iload_n 3, 1) := by decide +kernel
theorem dL_law_889 : decode cL_law 889 = .ok (.iconst 4, 1) := by decide +kernel
theorem dL_law_890 : decode cL_law 890 = .ok (.iadd, 1) := by decide +kernel
theorem dL_law_891 : decode cL_law 891 = .ok (.iaload, 1) := by decide +kernel
theorem dL_law_892 : decode cL_law 892 = .ok (.aload_n 0, 1) := by decide +kernel
theorem dL_law_893 : decode cL_law 893 = .ok (.iload_n 3, 1) := by decide +kernel
theorem dL_law_894 : decode cL_law 894 = .ok (.iconst 5, 1) := by decide +kernel
theorem dL_law_895 : decode cL_law 895 = .ok (.iadd, 1) := by decide +kernel
theorem dL_law_896 : decode cL_law 896 = .ok (.iaload, 1) := by decide +kernel
theorem dL_law_897 : decode cL_law 897 = .ok (.aload_n 0, 1) := by decide +kernel
theorem dL_law_898 : decode cL_law 898 = .ok (.iload_n 3, 1) := by decide +kernel
theorem dL_law_899 : decode cL_law 899 = .ok (.bipush 6, 2) := by decide +kernel
theorem dL_law_901 : decode cL_law 901 = .ok (.iadd, 1) := by decide +kernel
theorem dL_law_902 : decode cL_law 902 = .ok (.iaload, 1) := by decide +kernel
theorem dL_law_903 : decode cL_law 903 = .ok (.invokevirtual 90, 3) := by decide +kernel
theorem dL_law_906 : decode cL_law 906 = .ok (.aload_n 2, 1) := by decide +kernel
theorem dL_law_907 : decode cL_law 907 = .ok (.aload_n 0, 1) := by decide +kernel
theorem dL_law_908 : decode cL_law 908 = .ok (.iload_n 3, 1) := by decide +kernel
theorem dL_law_909 : decode cL_law 909 = .ok (.iconst 1, 1) := by decide +kernel
theorem dL_law_910 : decode cL_law 910 = .ok (.iadd, 1) := by decide +kernel
theorem dL_law_911 : decode cL_law 911 = .ok (.iaload, 1) := by decide +kernel
theorem dL_law_912 : decode cL_law 912 = .ok (.aload_n 0, 1) := by decide +kernel
theorem dL_law_913 : decode cL_law 913 = .ok (.iload_n 3, 1) := by decide +kernel
theorem dL_law_914 : decode cL_law 914 = .ok (.iconst 2, 1) := by decide +kernel
theorem dL_law_915 : decode cL_law 915 = .ok (.iadd, 1) := by decide +kernel
theorem dL_law_916 : decode cL_law 916 = .ok (.iaload, 1) := by decide +kernel
theorem dL_law_917 : decode cL_law 917 = .ok (.aload_n 0, 1) := by decide +kernel
theorem dL_law_918 : decode cL_law 918 = .ok (.iload_n 3, 1) := by decide +kernel
theorem dL_law_919 : decode cL_law 919 = .ok (.iconst 3, 1) := by decide +kernel
theorem dL_law_920 : decode cL_law 920 = .ok (.iadd, 1) := by decide +kernel
theorem dL_law_921 : decode cL_law 921 = .ok (.iaload, 1) := by decide +kernel
theorem dL_law_922 : decode cL_law 922 = .ok (.aload_n 0, 1) := by decide +kernel
theorem dL_law_923 : decode cL_law 923 = .ok (.iload_n 3, 1) := by decide +kernel
theorem dL_law_924 : decode cL_law 924 = .ok (.iconst 4, 1) := by decide +kernel
theorem dL_law_925 : decode cL_law 925 = .ok (.iadd, 1) := by decide +kernel
theorem dL_law_926 : decode cL_law 926 = .ok (.iaload, 1) := by decide +kernel
theorem dL_law_927 : decode cL_law 927 = .ok (.aload_n 0, 1) := by decide +kernel
theorem dL_law_928 : decode cL_law 928 = .ok (.iload_n 3, 1) := by decide +kernel
theorem dL_law_929 : decode cL_law 929 = .ok (.iconst 5, 1) := by decide +kernel
theorem dL_law_930 : decode cL_law 930 = .ok (.iadd, 1) := by decide +kernel
theorem dL_law_931 : decode cL_law 931 = .ok (.iaload, 1) := by decide +kernel
theorem dL_law_932 : decode cL_law 932 = .ok (.aload_n 0, 1) := by decide +kernel
theorem dL_law_933 : decode cL_law 933 = .ok (.iload_n 3, 1) := by decide +kernel
theorem dL_law_934 : decode cL_law 934 = .ok (.bipush 6, 2) := by decide +kernel
theorem dL_law_936 : decode cL_law 936 = .ok (.iadd, 1) := by decide +kernel
theorem dL_law_937 : decode cL_law 937 = .ok (.iaload, 1) := by decide +kernel
theorem dL_law_938 : decode cL_law 938 = .ok (.invokevirtual 93, 3) := by decide +kernel
theorem dL_law_941 : decode cL_law 941 = .ok (.if_icmp .eq 341, 3) := by decide +kernel
theorem dL_law_944 : decode cL_law 944 = .ok (.iconst 0, 1) := by decide +kernel
theorem dL_law_945 : decode cL_law 945 = .ok (.ireturn, 1) := by decide +kernel
theorem dL_law_946 : decode cL_law 946 = .ok (.aload_n 1, 1) := by decide +kernel
theorem dL_law_947 : decode cL_law 947 = .ok (.aload_n 0, 1) := by decide +kernel
theorem dL_law_948 : decode cL_law 948 = .ok (.iload_n 3, 1) := by decide +kernel
theorem dL_law_949 : decode cL_law 949 = .ok (.iconst 1, 1) := by decide +kernel
theorem dL_law_950 : decode cL_law 950 = .ok (.iadd, 1) := by decide +kernel
theorem dL_law_951 : decode cL_law 951 = .ok (.iaload, 1) := by decide +kernel
theorem dL_law_952 : decode cL_law 952 = .ok (.invokevirtual 94, 3) := by decide +kernel
theorem dL_law_955 : decode cL_law 955 = .ok (.aload_n 2, 1) := by decide +kernel
theorem dL_law_956 : decode cL_law 956 = .ok (.aload_n 0, 1) := by decide +kernel
theorem dL_law_957 : decode cL_law 957 = .ok (.iload_n 3, 1) := by decide +kernel
theorem dL_law_958 : decode cL_law 958 = .ok (.iconst 1, 1) := by decide +kernel
theorem dL_law_959 : decode cL_law 959 = .ok (.iadd, 1) := by decide +kernel
theorem dL_law_960 : decode cL_law 960 = .ok (.iaload, 1) := by decide +kernel
theorem dL_law_961 : decode cL_law 961 = .ok (.invokevirtual 97, 3) := by decide +kernel
theorem dL_law_964 : decode cL_law 964 = .ok (.if_icmp .eq 318, 3) := by decide +kernel
theorem dL_law_967 : decode cL_law 967 = .ok (.iconst 0, 1) := by decide +kernel
theorem dL_law_968 : decode cL_law 968 = .ok (.ireturn, 1) := by decide +kernel
theorem dL_law_969 : decode cL_law 969 = .ok (.aload_n 1, 1) := by decide +kernel
theorem dL_law_970 : decode cL_law 970 = .ok (.aload_n 0, 1) := by decide +kernel
theorem dL_law_971 : decode cL_law 971 = .ok (.iload_n 3, 1) := by decide +kernel
theorem dL_law_972 : decode cL_law 972 = .ok (.iconst 1, 1) := by decide +kernel
theorem dL_law_973 : decode cL_law 973 = .ok (.iadd, 1) := by decide +kernel
theorem dL_law_974 : decode cL_law 974 = .ok (.iaload, 1) := by decide +kernel
theorem dL_law_975 : decode cL_law 975 = .ok (.aload_n 0, 1) := by decide +kernel
theorem dL_law_976 : decode cL_law 976 = .ok (.iload_n 3, 1) := by decide +kernel
theorem dL_law_977 : decode cL_law 977 = .ok (.iconst 2, 1) := by decide +kernel
theorem dL_law_978 : decode cL_law 978 = .ok (.iadd, 1) := by decide +kernel
theorem dL_law_979 : decode cL_law 979 = .ok (.iaload, 1) := by decide +kernel
theorem dL_law_980 : decode cL_law 980 = .ok (.invokevirtual 98, 3) := by decide +kernel
theorem dL_law_983 : decode cL_law 983 = .ok (.aload_n 2, 1) := by decide +kernel
theorem dL_law_984 : decode cL_law 984 = .ok (.aload_n 0, 1) := by decide +kernel
theorem dL_law_985 : decode cL_law 985 = .ok (.iload_n 3, 1) := by decide +kernel
theorem dL_law_986 : decode cL_law 986 = .ok (.iconst 1, 1) := by decide +kernel
theorem dL_law_987 : decode cL_law 987 = .ok (.iadd, 1) := by decide +kernel
theorem dL_law_988 : decode cL_law 988 = .ok (.iaload, 1) := by decide +kernel
theorem dL_law_989 : decode cL_law 989 = .ok (.aload_n 0, 1) := by decide +kernel
theorem dL_law_990 : decode cL_law 990 = .ok (.iload_n 3, 1) := by decide +kernel
theorem dL_law_991 : decode cL_law 991 = .ok (.iconst 2, 1) := by decide +kernel
theorem dL_law_992 : decode cL_law 992 = .ok (.iadd, 1) := by decide +kernel
theorem dL_law_993 : decode cL_law 993 = .ok (.iaload, 1) := by decide +kernel
theorem dL_law_994 : decode cL_law 994 = .ok (.invokevirtual 101, 3) := by decide +kernel
theorem dL_law_997 : decode cL_law 997 = .ok (.if_icmp .eq 285, 3) := by decide +kernel
theorem dL_law_1000 : decode cL_law 1000 = .ok (.iconst 0, 1) := by decide +kernel
theorem dL_law_1001 : decode cL_law 1001 = .ok (.ireturn, 1) := by decide +kernel
theorem dL_law_1002 : decode cL_law 1002 = .ok (.aload_n 1, 1) := by decide +kernel
theorem dL_law_1003 : decode cL_law 1003 = .ok (.aload_n 0, 1) := by decide +kernel
theorem dL_law_1004 : decode cL_law 1004 = .ok (.iload_n 3, 1) := by decide +kernel
theorem dL_law_1005 : decode cL_law 1005 = .ok (.iconst 1, 1) := by decide +kernel
theorem dL_law_1006 : decode cL_law 1006 = .ok (.iadd, 1) := by decide +kernel
theorem dL_law_1007 : decode cL_law 1007 = .ok (.iaload, 1) := by decide +kernel
theorem dL_law_1008 : decode cL_law 1008 = .ok (.aload_n 0, 1) := by decide +kernel
theorem dL_law_1009 : decode cL_law 1009 = .ok (.iload_n 3, 1) := by decide +kernel
theorem dL_law_1010 : decode cL_law 1010 = .ok (.iconst 2, 1) := by decide +kernel
theorem dL_law_1011 : decode cL_law 1011 = .ok (.iadd, 1) := by decide +kernel
theorem dL_law_1012 : decode cL_law 1012 = .ok (.iaload, 1) := by decide +kernel
theorem dL_law_1013 : decode cL_law 1013 = .ok (.aload_n 0, 1) := by decide +kernel
theorem dL_law_1014 : decode cL_law 1014 = .ok (.iload_n 3, 1) := by decide +kernel
theorem dL_law_1015 : decode cL_law 1015 = .ok (.iconst 3, 1) := by decide +kernel
theorem dL_law_1016 : decode cL_law 1016 = .ok (.iadd, 1) := by decide +kernel
theorem dL_law_1017 : decode cL_law 1017 = .ok (.iaload, 1) := by decide +kernel
theorem dL_law_1018 : decode cL_law 1018 = .ok (.aload_n 0, 1) := by decide +kernel
theorem dL_law_1019 : decode cL_law 1019 = .ok (.iload_n 3, 1) := by decide +kernel
theorem dL_law_1020 : decode cL_law 1020 = .ok (.iconst 4, 1) := by decide +kernel
theorem dL_law_1021 : decode cL_law 1021 = .ok (.iadd, 1) := by decide +kernel
theorem dL_law_1022 : decode cL_law 1022 = .ok (.iaload, 1) := by decide +kernel
theorem dL_law_1023 : decode cL_law 1023 = .ok (.aload_n 0, 1) := by decide +kernel
theorem dL_law_1024 : decode cL_law 1024 = .ok (.iload_n 3, 1) := by decide +kernel
theorem dL_law_1025 : decode cL_law 1025 = .ok (.iconst 5, 1) := by decide +kernel
theorem dL_law_1026 : decode cL_law 1026 = .ok (.iadd, 1) := by decide +kernel
theorem dL_law_1027 : decode cL_law 1027 = .ok (.iaload, 1) := by decide +kernel
theorem dL_law_1028 : decode cL_law 1028 = .ok (.aload_n 0, 1) := by decide +kernel
theorem dL_law_1029 : decode cL_law 1029 = .ok (.iload_n 3, 1) := by decide +kernel
theorem dL_law_1030 : decode cL_law 1030 = .ok (.bipush 6, 2) := by decide +kernel
theorem dL_law_1032 : decode cL_law 1032 = .ok (.iadd, 1) := by decide +kernel
theorem dL_law_1033 : decode cL_law 1033 = .ok (.iaload, 1) := by decide +kernel
theorem dL_law_1034 : decode cL_law 1034 = .ok (.aload_n 0, 1) := by decide +kernel
theorem dL_law_1035 : decode cL_law 1035 = .ok (.iload_n 3, 1) := by decide +kernel
theorem dL_law_1036 : decode cL_law 1036 = .ok (.bipush 7, 2) := by decide +kernel
theorem dL_law_1038 : decode cL_law 1038 = .ok (.iadd, 1) := by decide +kernel
theorem dL_law_1039 : decode cL_law 1039 = .ok (.iaload, 1) := by decide +kernel
theorem dL_law_1040 : decode cL_law 1040 = .ok (.aload_n 0, 1) := by decide +kernel
theorem dL_law_1041 : decode cL_law 1041 = .ok (.iload_n 3, 1) := by decide +kernel
theorem dL_law_1042 : decode cL_law 1042 = .ok (.bipush 8, 2) := by decide +kernel
theorem dL_law_1044 : decode cL_law 1044 = .ok (.iadd, 1) := by decide +kernel
theorem dL_law_1045 : decode cL_law 1045 = .ok (.iaload, 1) := by decide +kernel
theorem dL_law_1046 : decode cL_law 1046 = .ok (.invokevirtual 102, 3) := by decide +kernel
theorem dL_law_1049 : decode cL_law 1049 = .ok (.aload_n 2, 1) := by decide +kernel
theorem dL_law_1050 : decode cL_law 1050 = .ok (.aload_n 0, 1) := by decide +kernel
theorem dL_law_1051 : decode cL_law 1051 = .ok (.iload_n 3, 1) := by decide +kernel
theorem dL_law_1052 : decode cL_law 1052 = .ok (.iconst 1, 1) := by decide +kernel
theorem dL_law_1053 : decode cL_law 1053 = .ok (.iadd, 1) := by decide +kernel
theorem dL_law_1054 : decode cL_law 1054 = .ok (.iaload, 1) := by decide +kernel
theorem dL_law_1055 : decode cL_law 1055 = .ok (.aload_n 0, 1) := by decide +kernel
theorem dL_law_1056 : decode cL_law 1056 = .ok (.iload_n 3, 1) := by decide +kernel
theorem dL_law_1057 : decode cL_law 1057 = .ok (.iconst 2, 1) := by decide +kernel
theorem dL_law_1058 : decode cL_law 1058 = .ok (.iadd, 1) := by decide +kernel
theorem dL_law_1059 : decode cL_law 1059 = .ok (.iaload, 1) := by decide +kernel
theorem dL_law_1060 : decode cL_law 1060 = .ok (.aload_n 0, 1) := by decide +kernel
theorem dL_law_1061 : decode cL_law 1061 = .ok (.iload_n 3, 1) := by decide +kernel
theorem dL_law_1062 : decode cL_law 1062 = .ok (.iconst 3, 1) := by decide +kernel
theorem dL_law_1063 : decode cL_law 1063 = .ok (.iadd, 1) := by decide +kernel
theorem dL_law_1064 : decode cL_law 1064 = .ok (.iaload, 1) := by decide +kernel
theorem dL_law_1065 : decode cL_law 1065 = .ok (.aload_n 0, 1) := by decide +kernel
theorem dL_law_1066 : decode cL_law 1066 = .ok (.iload_n 3, 1) := by decide +kernel
theorem dL_law_1067 : decode cL_law 1067 = .ok (.iconst 4, 1) := by decide +kernel
theorem dL_law_1068 : decode cL_law 1068 = .ok (.iadd, 1) := by decide +kernel
theorem dL_law_1069 : decode cL_law 1069 = .ok (.iaload, 1) := by decide +kernel
theorem dL_law_1070 : decode cL_law 1070 = .ok (.aload_n 0, 1) := by decide +kernel
theorem dL_law_1071 : decode cL_law 1071 = .ok (.iload_n 3, 1) := by decide +kernel
theorem dL_law_1072 : decode cL_law 1072 = .ok (.iconst 5, 1) := by decide +kernel
theorem dL_law_1073 : decode cL_law 1073 = .ok (.iadd, 1) := by decide +kernel
theorem dL_law_1074 : decode cL_law 1074 = .ok (.iaload, 1) := by decide +kernel
theorem dL_law_1075 : decode cL_law 1075 = .ok (.aload_n 0, 1) := by decide +kernel
theorem dL_law_1076 : decode cL_law 1076 = .ok (.iload_n 3, 1) := by decide +kernel
theorem dL_law_1077 : decode cL_law 1077 = .ok (.bipush 6, 2) := by decide +kernel
theorem dL_law_1079 : decode cL_law 1079 = .ok (.iadd, 1) := by decide +kernel
theorem dL_law_1080 : decode cL_law 1080 = .ok (.iaload, 1) := by decide +kernel
theorem dL_law_1081 : decode cL_law 1081 = .ok (.aload_n 0, 1) := by decide +kernel
theorem dL_law_1082 : decode cL_law 1082 = .ok (.iload_n 3, 1) := by decide +kernel
theorem dL_law_1083 : decode cL_law 1083 = .ok (.bipush 7, 2) := by decide +kernel
theorem dL_law_1085 : decode cL_law 1085 = .ok (.iadd, 1) := by decide +kernel
theorem dL_law_1086 : decode cL_law 1086 = .ok (.iaload, 1) := by decide +kernel
theorem dL_law_1087 : decode cL_law 1087 = .ok (.aload_n 0, 1) := by decide +kernel
theorem dL_law_1088 : decode cL_law 1088 = .ok (.iload_n 3, 1) := by decide +kernel
theorem dL_law_1089 : decode cL_law 1089 = .ok (.bipush 8, 2) := by decide +kernel
theorem dL_law_1091 : decode cL_law 1091 = .ok (.iadd, 1) := by decide +kernel
theorem dL_law_1092 : decode cL_law 1092 = .ok (.iaload, 1) := by decide +kernel
theorem dL_law_1093 : decode cL_law 1093 = .ok (.invokevirtual 106, 3) := by decide +kernel
theorem dL_law_1096 : decode cL_law 1096 = .ok (.if_icmp .eq 186, 3) := by decide +kernel
theorem dL_law_1099 : decode cL_law 1099 = .ok (.iconst 0, 1) := by decide +kernel
theorem dL_law_1100 : decode cL_law 1100 = .ok (.ireturn, 1) := by decide +kernel
theorem dL_law_1101 : decode cL_law 1101 = .ok (.aload_n 1, 1) := by decide +kernel
theorem dL_law_1102 : decode cL_law 1102 = .ok (.aload_n 0, 1) := by decide +kernel
theorem dL_law_1103 : decode cL_law 1103 = .ok (.iload_n 3, 1) := by decide +kernel
theorem dL_law_1104 : decode cL_law 1104 = .ok (.iconst 1, 1) := by decide +kernel
theorem dL_law_1105 : decode cL_law 1105 = .ok (.iadd, 1) := by decide +kernel
theorem dL_law_1106 : decode cL_law 1106 = .ok (.iaload, 1) := by decide +kernel
theorem dL_law_1107 : decode cL_law 1107 = .ok (.aload_n 0, 1) := by decide +kernel
theorem dL_law_1108 : decode cL_law 1108 = .ok (.iload_n 3, 1) := by decide +kernel
theorem dL_law_1109 : decode cL_law 1109 = .ok (.iconst 2, 1) := by decide +kernel
theorem dL_law_1110 : decode cL_law 1110 = .ok (.iadd, 1) := by decide +kernel
theorem dL_law_1111 : decode cL_law 1111 = .ok (.iaload, 1) := by decide +kernel
theorem dL_law_1112 : decode cL_law 1112 = .ok (.aload_n 0, 1) := by decide +kernel
theorem dL_law_1113 : decode cL_law 1113 = .ok (.iload_n 3, 1) := by decide +kernel
theorem dL_law_1114 : decode cL_law 1114 = .ok (.iconst 3, 1) := by decide +kernel
theorem dL_law_1115 : decode cL_law 1115 = .ok (.iadd, 1) := by decide +kernel
theorem dL_law_1116 : decode cL_law 1116 = .ok (.iaload, 1) := by decide +kernel
theorem dL_law_1117 : decode cL_law 1117 = .ok (.invokevirtual 107, 3) := by decide +kernel
theorem dL_law_1120 : decode cL_law 1120 = .ok (.aload_n 2, 1) := by decide +kernel
theorem dL_law_1121 : decode cL_law 1121 = .ok (.aload_n 0, 1) := by decide +kernel
theorem dL_law_1122 : decode cL_law 1122 = .ok (.iload_n 3, 1) := by decide +kernel
theorem dL_law_1123 : decode cL_law 1123 = .ok (.iconst 1, 1) := by decide +kernel
theorem dL_law_1124 : decode cL_law 1124 = .ok (.iadd, 1) := by decide +kernel
theorem dL_law_1125 : decode cL_law 1125 = .ok (.iaload, 1) := by decide +kernel
theorem dL_law_1126 : decode cL_law 1126 = .ok (.aload_n 0, 1) := by decide +kernel
theorem dL_law_1127 : decode cL_law 1127 = .ok (.iload_n 3, 1) := by decide +kernel
theorem dL_law_1128 : decode cL_law 1128 = .ok (.iconst 2, 1) := by decide +kernel
theorem dL_law_1129 : decode cL_law 1129 = .ok (.iadd, 1) := by decide +kernel
theorem dL_law_1130 : decode cL_law 1130 = .ok (.iaload, 1) := by decide +kernel
theorem dL_law_1131 : decode cL_law 1131 = .ok (.aload_n 0, 1) := by decide +kernel
theorem dL_law_1132 : decode cL_law 1132 = .ok (.iload_n 3, 1) := by decide +kernel
theorem dL_law_1133 : decode cL_law 1133 = .ok (.iconst 3, 1) := by decide +kernel
theorem dL_law_1134 : decode cL_law 1134 = .ok (.iadd, 1) := by decide +kernel
theorem dL_law_1135 : decode cL_law 1135 = .ok (.iaload, 1) := by decide +kernel
theorem dL_law_1136 : decode cL_law 1136 = .ok (.invokevirtual 110, 3) := by decide +kernel
theorem dL_law_1139 : decode cL_law 1139 = .ok (.if_icmp .eq 143, 3) := by decide +kernel
theorem dL_law_1142 : decode cL_law 1142 = .ok (.iconst 0, 1) := by decide +kernel
theorem dL_law_1143 : decode cL_law 1143 = .ok (.ireturn, 1) := by decide +kernel
theorem dL_law_1144 : decode cL_law 1144 = .ok (.aload_n 1, 1) := by decide +kernel
theorem dL_law_1145 : decode cL_law 1145 = .ok (.aload_n 0, 1) := by decide +kernel
theorem dL_law_1146 : decode cL_law 1146 = .ok (.iload_n 3, 1) := by decide +kernel
theorem dL_law_1147 : decode cL_law 1147 = .ok (.iconst 1, 1) := by decide +kernel
theorem dL_law_1148 : decode cL_law 1148 = .ok (.iadd, 1) := by decide +kernel
theorem dL_law_1149 : decode cL_law 1149 = .ok (.iaload, 1) := by decide +kernel
theorem dL_law_1150 : decode cL_law 1150 = .ok (.aload_n 0, 1) := by decide +kernel
theorem dL_law_1151 : decode cL_law 1151 = .ok (.iload_n 3, 1) := by decide +kernel
theorem dL_law_1152 : decode cL_law 1152 = .ok (.iconst 2, 1) := by decide +kernel
theorem dL_law_1153 : decode cL_law 1153 = .ok (.iadd, 1) := by decide +kernel
theorem dL_law_1154 : decode cL_law 1154 = .ok (.iaload, 1) := by decide +kernel
theorem dL_law_1155 : decode cL_law 1155 = .ok (.invokevirtual 111, 3) := by decide +kernel
theorem dL_law_1158 : decode cL_law 1158 = .ok (.aload_n 2, 1) := by decide +kernel
theorem dL_law_1159 : decode cL_law 1159 = .ok (.aload_n 0, 1) := by decide +kernel
theorem dL_law_1160 : decode cL_law 1160 = .ok (.iload_n 3, 1) := by decide +kernel
theorem dL_law_1161 : decode cL_law 1161 = .ok (.iconst 1, 1) := by decide +kernel
theorem dL_law_1162 : decode cL_law 1162 = .ok (.iadd, 1) := by decide +kernel
theorem dL_law_1163 : decode cL_law 1163 = .ok (.iaload, 1) := by decide +kernel
theorem dL_law_1164 : decode cL_law 1164 = .ok (.aload_n 0, 1) := by decide +kernel
theorem dL_law_1165 : decode cL_law 1165 = .ok (.iload_n 3, 1) := by decide +kernel
theorem dL_law_1166 : decode cL_law 1166 = .ok (.iconst 2, 1) := by decide +kernel
theorem dL_law_1167 : decode cL_law 1167 = .ok (.iadd, 1) := by decide +kernel
theorem dL_law_1168 : decode cL_law 1168 = .ok (.iaload, 1) := by decide +kernel
theorem dL_law_1169 : decode cL_law 1169 = .ok (.invokevirtual 114, 3) := by decide +kernel
theorem dL_law_1172 : decode cL_law 1172 = .ok (.if_icmp .eq 110, 3) := by decide +kernel
theorem dL_law_1175 : decode cL_law 1175 = .ok (.iconst 0, 1) := by decide +kernel
theorem dL_law_1176 : decode cL_law 1176 = .ok (.ireturn, 1) := by decide +kernel
theorem dL_law_1177 : decode cL_law 1177 = .ok (.aload_n 1, 1) := by decide +kernel
theorem dL_law_1178 : decode cL_law 1178 = .ok (.aload_n 0, 1) := by decide +kernel
theorem dL_law_1179 : decode cL_law 1179 = .ok (.iload_n 3, 1) := by decide +kernel
theorem dL_law_1180 : decode cL_law 1180 = .ok (.iconst 1, 1) := by decide +kernel
theorem dL_law_1181 : decode cL_law 1181 = .ok (.iadd, 1) := by decide +kernel
theorem dL_law_1182 : decode cL_law 1182 = .ok (.iaload, 1) := by decide +kernel
theorem dL_law_1183 : decode cL_law 1183 = .ok (.invokevirtual 115, 3) := by decide +kernel
theorem dL_law_1186 : decode cL_law 1186 = .ok (.aload_n 2, 1) := by decide +kernel
theorem dL_law_1187 : decode cL_law 1187 = .ok (.aload_n 0, 1) := by decide +kernel
theorem dL_law_1188 : decode cL_law 1188 = .ok (.iload_n 3, 1) := by decide +kernel
theorem dL_law_1189 : decode cL_law 1189 = .ok (.iconst 1, 1) := by decide +kernel
theorem dL_law_1190 : decode cL_law 1190 = .ok (.iadd, 1) := by decide +kernel
theorem dL_law_1191 : decode cL_law 1191 = .ok (.iaload, 1) := by decide +kernel
theorem dL_law_1192 : decode cL_law 1192 = .ok (.invokevirtual 118, 3) := by decide +kernel
theorem dL_law_1195 : decode cL_law 1195 = .ok (.if_icmp .eq 87, 3) := by decide +kernel
theorem dL_law_1198 : decode cL_law 1198 = .ok (.iconst 0, 1) := by decide +kernel
theorem dL_law_1199 : decode cL_law 1199 = .ok (.ireturn, 1) := by decide +kernel
theorem dL_law_1200 : decode cL_law 1200 = .ok (.aload_n 1, 1) := by decide +kernel
theorem dL_law_1201 : decode cL_law 1201 = .ok (.aload_n 0, 1) := by decide +kernel
theorem dL_law_1202 : decode cL_law 1202 = .ok (.iload_n 3, 1) := by decide +kernel
theorem dL_law_1203 : decode cL_law 1203 = .ok (.iconst 1, 1) := by decide +kernel
theorem dL_law_1204 : decode cL_law 1204 = .ok (.iadd, 1) := by decide +kernel
theorem dL_law_1205 : decode cL_law 1205 = .ok (.iaload, 1) := by decide +kernel
theorem dL_law_1206 : decode cL_law 1206 = .ok (.aload_n 0, 1) := by decide +kernel
theorem dL_law_1207 : decode cL_law 1207 = .ok (.iload_n 3, 1) := by decide +kernel
theorem dL_law_1208 : decode cL_law 1208 = .ok (.iconst 2, 1) := by decide +kernel
theorem dL_law_1209 : decode cL_law 1209 = .ok (.iadd, 1) := by decide +kernel
theorem dL_law_1210 : decode cL_law 1210 = .ok (.iaload, 1) := by decide +kernel
theorem dL_law_1211 : decode cL_law 1211 = .ok (.invokevirtual 119, 3) := by decide +kernel
theorem dL_law_1214 : decode cL_law 1214 = .ok (.aload_n 2, 1) := by decide +kernel
theorem dL_law_1215 : decode cL_law 1215 = .ok (.aload_n 0, 1) := by decide +kernel
theorem dL_law_1216 : decode cL_law 1216 = .ok (.iload_n 3, 1) := by decide +kernel
theorem dL_law_1217 : decode cL_law 1217 = .ok (.iconst 1, 1) := by decide +kernel
theorem dL_law_1218 : decode cL_law 1218 = .ok (.iadd, 1) := by decide +kernel
theorem dL_law_1219 : decode cL_law 1219 = .ok (.iaload, 1) := by decide +kernel
theorem dL_law_1220 : decode cL_law 1220 = .ok (.aload_n 0, 1) := by decide +kernel
theorem dL_law_1221 : decode cL_law 1221 = .ok (.iload_n 3, 1) := by decide +kernel
theorem dL_law_1222 : decode cL_law 1222 = .ok (.iconst 2, 1) := by decide +kernel
theorem dL_law_1223 : decode cL_law 1223 = .ok (.iadd, 1) := by decide +kernel
theorem dL_law_1224 : decode cL_law 1224 = .ok (.iaload, 1) := by decide +kernel
theorem dL_law_1225 : decode cL_law 1225 = .ok (.invokevirtual 122, 3) := by decide +kernel
theorem dL_law_1228 : decode cL_law 1228 = .ok (.if_icmp .eq 54, 3) := by decide +kernel
theorem dL_law_1231 : decode cL_law 1231 = .ok (.iconst 0, 1) := by decide +kernel
theorem dL_law_1232 : decode cL_law 1232 = .ok (.ireturn, 1) := by decide +kernel
theorem dL_law_1233 : decode cL_law 1233 = .ok (.aload_n 1, 1) := by decide +kernel
theorem dL_law_1234 : decode cL_law 1234 = .ok (.invokevirtual 123, 3) := by decide +kernel
theorem dL_law_1237 : decode cL_law 1237 = .ok (.aload_n 2, 1) := by decide +kernel
theorem dL_law_1238 : decode cL_law 1238 = .ok (.invokevirtual 126, 3) := by decide +kernel
theorem dL_law_1241 : decode cL_law 1241 = .ok (.if_icmp .eq 41, 3) := by decide +kernel
theorem dL_law_1244 : decode cL_law 1244 = .ok (.iconst 0, 1) := by decide +kernel
theorem dL_law_1245 : decode cL_law 1245 = .ok (.ireturn, 1) := by decide +kernel
theorem dL_law_1246 : decode cL_law 1246 = .ok (.aload_n 1, 1) := by decide +kernel
theorem dL_law_1247 : decode cL_law 1247 = .ok (.invokevirtual 127, 3) := by decide +kernel
theorem dL_law_1250 : decode cL_law 1250 = .ok (.aload_n 2, 1) := by decide +kernel
theorem dL_law_1251 : decode cL_law 1251 = .ok (.invokevirtual 130, 3) := by decide +kernel
theorem dL_law_1254 : decode cL_law 1254 = .ok (.if_icmp .eq 28, 3) := by decide +kernel
theorem dL_law_1257 : decode cL_law 1257 = .ok (.iconst 0, 1) := by decide +kernel
theorem dL_law_1258 : decode cL_law 1258 = .ok (.ireturn, 1) := by decide +kernel
theorem dL_law_1259 : decode cL_law 1259 = .ok (.aload_n 1, 1) := by decide +kernel
theorem dL_law_1260 : decode cL_law 1260 = .ok (.aload_n 0, 1) := by decide +kernel
theorem dL_law_1261 : decode cL_law 1261 = .ok (.iload_n 3, 1) := by decide +kernel
theorem dL_law_1262 : decode cL_law 1262 = .ok (.iconst 1, 1) := by decide +kernel
theorem dL_law_1263 : decode cL_law 1263 = .ok (.iadd, 1) := by decide +kernel
theorem dL_law_1264 : decode cL_law 1264 = .ok (.iaload, 1) := by decide +kernel
theorem dL_law_1265 : decode cL_law 1265 = .ok (.invokevirtual 131, 3) := by decide +kernel
theorem dL_law_1268 : decode cL_law 1268 = .ok (.aload_n 2, 1) := by decide +kernel
theorem dL_law_1269 : decode cL_law 1269 = .ok (.aload_n 0, 1) := by decide +kernel
theorem dL_law_1270 : decode cL_law 1270 = .ok (.iload_n 3, 1) := by decide +kernel
theorem dL_law_1271 : decode cL_law 1271 = .ok (.iconst 1, 1) := by decide +kernel
theorem dL_law_1272 : decode cL_law 1272 = .ok (.iadd, 1) := by decide +kernel
theorem dL_law_1273 : decode cL_law 1273 = .ok (.iaload, 1) := by decide +kernel
theorem dL_law_1274 : decode cL_law 1274 = .ok (.invokevirtual 134, 3) := by decide +kernel
theorem dL_law_1277 : decode cL_law 1277 = .ok (.if_icmp .eq 5, 3) := by decide +kernel
theorem dL_law_1280 : decode cL_law 1280 = .ok (.iconst 0, 1) := by decide +kernel
theorem dL_law_1281 : decode cL_law 1281 = .ok (.ireturn, 1) := by decide +kernel
theorem dL_law_1282 : decode cL_law 1282 = .ok (.iinc 3 9, 3) := by decide +kernel
theorem dL_law_1285 : decode cL_law 1285 = .ok (.goto (-1247), 3) := by decide +kernel
theorem dL_law_1288 : decode cL_law 1288 = .ok (.iconst 1, 1) := by decide +kernel
theorem dL_law_1289 : decode cL_law 1289 = .ok (.ireturn, 1) := by decide +kernel
