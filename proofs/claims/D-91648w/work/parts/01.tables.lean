-- ===== PART A: goes FIRST, ahead of the names: the tables' words, and 'selects' of the private methods out of them =====
/-- a private method of a class that the tables say can be made, by its rows of tables_1 -/
def lw_okq (q : MethodName × Nat) : Prop := (q.1.cls ≠ "java/lang/invoke/MethodHandle" ∧ q.1.cls ≠ "java/lang/invoke/VarHandle") ∧ Cond.instantiable q.1.cls q.2 ∈ tables_1 ∧ Cond.privateMethod q.1 ∈ tables_1 ∧ Cond.instanceMethod q.1 ∈ tables_1
set_option maxRecDepth 100000
theorem lw_t1 {w : Cond} (h : w ∈ tables_1_1) : w ∈ tables_1 := List.mem_append_left _ h
theorem lw_t2 {w : Cond} (h : w ∈ tables_1_2) : w ∈ tables_1 := List.mem_append_right _ (List.mem_append_left _ h)
theorem lw_t3 {w : Cond} (h : w ∈ tables_1_3) : w ∈ tables_1 := List.mem_append_right _ (List.mem_append_right _ (List.mem_append_left _ h))
theorem lw_t4 {w : Cond} (h : w ∈ tables_1_4) : w ∈ tables_1 := List.mem_append_right _ (List.mem_append_right _ (List.mem_append_right _ (List.mem_append_left _ h)))
theorem lw_t5 {w : Cond} (h : w ∈ tables_1_5) : w ∈ tables_1 := List.mem_append_right _ (List.mem_append_right _ (List.mem_append_right _ (List.mem_append_right _ (List.mem_append_left _ h))))
theorem lw_t6 {w : Cond} (h : w ∈ tables_1_6) : w ∈ tables_1 := List.mem_append_right _ (List.mem_append_right _ (List.mem_append_right _ (List.mem_append_right _ (List.mem_append_right _ (List.mem_append_left _ h)))))
theorem lw_t7 {w : Cond} (h : w ∈ tables_1_7) : w ∈ tables_1 := List.mem_append_right _ (List.mem_append_right _ (List.mem_append_right _ (List.mem_append_right _ (List.mem_append_right _ (List.mem_append_right _ h)))))
theorem lw_p0 : lw_okq (⟨"java/util/ArrayList", "add", "(Ljava/lang/Object;[Ljava/lang/Object;I)V"⟩, 3) := ⟨⟨by decide +kernel, by decide +kernel⟩, lw_t1 (List.mem_of_getElem? (i := 55) rfl), lw_t2 (List.mem_of_getElem? (i := 3) rfl), lw_t2 (List.mem_of_getElem? (i := 4) rfl)⟩
theorem lw_p1 : lw_okq (⟨"java/util/ArrayList", "grow", "()[Ljava/lang/Object;"⟩, 3) := ⟨⟨by decide +kernel, by decide +kernel⟩, lw_t1 (List.mem_of_getElem? (i := 55) rfl), lw_t2 (List.mem_of_getElem? (i := 7) rfl), lw_t2 (List.mem_of_getElem? (i := 8) rfl)⟩
theorem lw_p2 : lw_okq (⟨"java/util/ArrayList", "grow", "(I)[Ljava/lang/Object;"⟩, 3) := ⟨⟨by decide +kernel, by decide +kernel⟩, lw_t1 (List.mem_of_getElem? (i := 55) rfl), lw_t2 (List.mem_of_getElem? (i := 11) rfl), lw_t2 (List.mem_of_getElem? (i := 12) rfl)⟩
theorem lw_p3 : lw_okq (⟨"ManyEyes", "isCell", "(I)Z"⟩, 12) := ⟨⟨by decide +kernel, by decide +kernel⟩, lw_t1 (List.mem_of_getElem? (i := 39) rfl), lw_t2 (List.mem_of_getElem? (i := 102) rfl), lw_t2 (List.mem_of_getElem? (i := 103) rfl)⟩
theorem lw_p4 : lw_okq (⟨"ManyEyes", "adds", "(I[I[I)I"⟩, 12) := ⟨⟨by decide +kernel, by decide +kernel⟩, lw_t1 (List.mem_of_getElem? (i := 39) rfl), lw_t2 (List.mem_of_getElem? (i := 116) rfl), lw_t2 (List.mem_of_getElem? (i := 117) rfl)⟩
theorem lw_p5 : lw_okq (⟨"ManyEyes", "lays", "(I)V"⟩, 12) := ⟨⟨by decide +kernel, by decide +kernel⟩, lw_t1 (List.mem_of_getElem? (i := 39) rfl), lw_t2 (List.mem_of_getElem? (i := 125) rfl), lw_t2 (List.mem_of_getElem? (i := 126) rfl)⟩
theorem lw_p6 : lw_okq (⟨"ManyEyes", "isPlace", "(II)Z"⟩, 12) := ⟨⟨by decide +kernel, by decide +kernel⟩, lw_t1 (List.mem_of_getElem? (i := 39) rfl), lw_t2 (List.mem_of_getElem? (i := 133) rfl), lw_t2 (List.mem_of_getElem? (i := 134) rfl)⟩
theorem lw_p7 : lw_okq (⟨"ManyEyes", "rayOf", "(III)I"⟩, 12) := ⟨⟨by decide +kernel, by decide +kernel⟩, lw_t1 (List.mem_of_getElem? (i := 39) rfl), lw_t2 (List.mem_of_getElem? (i := 140) rfl), lw_t2 (List.mem_of_getElem? (i := 141) rfl)⟩
theorem lw_p8 : lw_okq (⟨"ManyEyes", "isOne", "(II)Z"⟩, 12) := ⟨⟨by decide +kernel, by decide +kernel⟩, lw_t1 (List.mem_of_getElem? (i := 39) rfl), lw_t2 (List.mem_of_getElem? (i := 161) rfl), lw_t2 (List.mem_of_getElem? (i := 162) rfl)⟩
theorem lw_p9 : lw_okq (⟨"ManyEyes", "takeOf", "(IIII)I"⟩, 12) := ⟨⟨by decide +kernel, by decide +kernel⟩, lw_t1 (List.mem_of_getElem? (i := 39) rfl), lw_t2 (List.mem_of_getElem? (i := 165) rfl), lw_t2 (List.mem_of_getElem? (i := 166) rfl)⟩
theorem lw_p10 : lw_okq (⟨"ManyEyes", "takeOf", "(IIIII)I"⟩, 12) := ⟨⟨by decide +kernel, by decide +kernel⟩, lw_t1 (List.mem_of_getElem? (i := 39) rfl), lw_t2 (List.mem_of_getElem? (i := 169) rfl), lw_t2 (List.mem_of_getElem? (i := 170) rfl)⟩
theorem lw_p11 : lw_okq (⟨"ManyEyes", "coveredBy", "(I)I"⟩, 12) := ⟨⟨by decide +kernel, by decide +kernel⟩, lw_t1 (List.mem_of_getElem? (i := 39) rfl), lw_t2 (List.mem_of_getElem? (i := 187) rfl), lw_t2 (List.mem_of_getElem? (i := 188) rfl)⟩
theorem lw_p12 : lw_okq (⟨"ManyEyes", "weight", "(II)I"⟩, 12) := ⟨⟨by decide +kernel, by decide +kernel⟩, lw_t1 (List.mem_of_getElem? (i := 39) rfl), lw_t2 (List.mem_of_getElem? (i := 191) rfl), lw_t2 (List.mem_of_getElem? (i := 192) rfl)⟩
theorem lw_p13 : lw_okq (⟨"ManyEyes", "put", "(I)V"⟩, 12) := ⟨⟨by decide +kernel, by decide +kernel⟩, lw_t1 (List.mem_of_getElem? (i := 39) rfl), lw_t2 (List.mem_of_getElem? (i := 211) rfl), lw_t2 (List.mem_of_getElem? (i := 212) rfl)⟩
theorem lw_p14 : lw_okq (⟨"ManyEyes$Tokens", "next", "()V"⟩, 9) := ⟨⟨by decide +kernel, by decide +kernel⟩, lw_t2 (List.mem_of_getElem? (i := 224) rfl), lw_t3 (List.mem_of_getElem? (i := 25) rfl), lw_t3 (List.mem_of_getElem? (i := 26) rfl)⟩
theorem lw_p15 : lw_okq (⟨"ManyEyes$Tokens", "isWord", "(Ljava/lang/String;)Z"⟩, 9) := ⟨⟨by decide +kernel, by decide +kernel⟩, lw_t2 (List.mem_of_getElem? (i := 224) rfl), lw_t3 (List.mem_of_getElem? (i := 34) rfl), lw_t3 (List.mem_of_getElem? (i := 35) rfl)⟩
def lw_privs_1 : List (MethodName × Nat) := [(⟨"java/util/ArrayList", "add", "(Ljava/lang/Object;[Ljava/lang/Object;I)V"⟩, 3), (⟨"java/util/ArrayList", "grow", "()[Ljava/lang/Object;"⟩, 3), (⟨"java/util/ArrayList", "grow", "(I)[Ljava/lang/Object;"⟩, 3), (⟨"ManyEyes", "isCell", "(I)Z"⟩, 12), (⟨"ManyEyes", "adds", "(I[I[I)I"⟩, 12), (⟨"ManyEyes", "lays", "(I)V"⟩, 12), (⟨"ManyEyes", "isPlace", "(II)Z"⟩, 12), (⟨"ManyEyes", "rayOf", "(III)I"⟩, 12), (⟨"ManyEyes", "isOne", "(II)Z"⟩, 12), (⟨"ManyEyes", "takeOf", "(IIII)I"⟩, 12), (⟨"ManyEyes", "takeOf", "(IIIII)I"⟩, 12), (⟨"ManyEyes", "coveredBy", "(I)I"⟩, 12), (⟨"ManyEyes", "weight", "(II)I"⟩, 12), (⟨"ManyEyes", "put", "(I)V"⟩, 12), (⟨"ManyEyes$Tokens", "next", "()V"⟩, 9), (⟨"ManyEyes$Tokens", "isWord", "(Ljava/lang/String;)Z"⟩, 9)]
theorem lw_r1 : ∀ q ∈ lw_privs_1, lw_okq q := List.forall_mem_cons.mpr ⟨lw_p0, List.forall_mem_cons.mpr ⟨lw_p1, List.forall_mem_cons.mpr ⟨lw_p2, List.forall_mem_cons.mpr ⟨lw_p3, List.forall_mem_cons.mpr ⟨lw_p4, List.forall_mem_cons.mpr ⟨lw_p5, List.forall_mem_cons.mpr ⟨lw_p6, List.forall_mem_cons.mpr ⟨lw_p7, List.forall_mem_cons.mpr ⟨lw_p8, List.forall_mem_cons.mpr ⟨lw_p9, List.forall_mem_cons.mpr ⟨lw_p10, List.forall_mem_cons.mpr ⟨lw_p11, List.forall_mem_cons.mpr ⟨lw_p12, List.forall_mem_cons.mpr ⟨lw_p13, List.forall_mem_cons.mpr ⟨lw_p14, List.forall_mem_cons.mpr ⟨lw_p15, fun _ h => absurd h List.not_mem_nil⟩⟩⟩⟩⟩⟩⟩⟩⟩⟩⟩⟩⟩⟩⟩⟩
theorem lw_p16 : lw_okq (⟨"ManyEyes$Tokens", "wrong", "(I)LManyEyes$Wrong;"⟩, 9) := ⟨⟨by decide +kernel, by decide +kernel⟩, lw_t2 (List.mem_of_getElem? (i := 224) rfl), lw_t3 (List.mem_of_getElem? (i := 90) rfl), lw_t3 (List.mem_of_getElem? (i := 91) rfl)⟩
theorem lw_p17 : lw_okq (⟨"java/lang/Throwable", "fillInStackTrace", "(I)Ljava/lang/Throwable;"⟩, 6) := ⟨⟨by decide +kernel, by decide +kernel⟩, lw_t3 (List.mem_of_getElem? (i := 128) rfl), lw_t3 (List.mem_of_getElem? (i := 126) rfl), lw_t3 (List.mem_of_getElem? (i := 127) rfl)⟩
theorem lw_p18 : lw_okq (⟨"ManyEyes$Tokens", "letter", "()I"⟩, 9) := ⟨⟨by decide +kernel, by decide +kernel⟩, lw_t2 (List.mem_of_getElem? (i := 224) rfl), lw_t3 (List.mem_of_getElem? (i := 183) rfl), lw_t3 (List.mem_of_getElem? (i := 184) rfl)⟩
theorem lw_p19 : lw_okq (⟨"ManyEyes$Tokens", "either", "()LManyEyes$Asked;"⟩, 9) := ⟨⟨by decide +kernel, by decide +kernel⟩, lw_t2 (List.mem_of_getElem? (i := 224) rfl), lw_t3 (List.mem_of_getElem? (i := 187) rfl), lw_t3 (List.mem_of_getElem? (i := 188) rfl)⟩
theorem lw_p20 : lw_okq (⟨"ManyEyes$Tokens", "both", "()LManyEyes$Asked;"⟩, 9) := ⟨⟨by decide +kernel, by decide +kernel⟩, lw_t2 (List.mem_of_getElem? (i := 224) rfl), lw_t3 (List.mem_of_getElem? (i := 191) rfl), lw_t3 (List.mem_of_getElem? (i := 192) rfl)⟩
theorem lw_p21 : lw_okq (⟨"ManyEyes$Tokens", "ask", "()LManyEyes$Asked;"⟩, 9) := ⟨⟨by decide +kernel, by decide +kernel⟩, lw_t2 (List.mem_of_getElem? (i := 224) rfl), lw_t3 (List.mem_of_getElem? (i := 195) rfl), lw_t3 (List.mem_of_getElem? (i := 196) rfl)⟩
theorem lw_p22 : lw_okq (⟨"ManyEyes$Tokens", "opens", "()V"⟩, 9) := ⟨⟨by decide +kernel, by decide +kernel⟩, lw_t2 (List.mem_of_getElem? (i := 224) rfl), lw_t3 (List.mem_of_getElem? (i := 199) rfl), lw_t3 (List.mem_of_getElem? (i := 200) rfl)⟩
theorem lw_p23 : lw_okq (⟨"ManyEyes$Tokens", "sum", "()LManyEyes$Sum;"⟩, 9) := ⟨⟨by decide +kernel, by decide +kernel⟩, lw_t2 (List.mem_of_getElem? (i := 224) rfl), lw_t3 (List.mem_of_getElem? (i := 216) rfl), lw_t3 (List.mem_of_getElem? (i := 217) rfl)⟩
theorem lw_p24 : lw_okq (⟨"ManyEyes$Tokens", "product", "()LManyEyes$Sum;"⟩, 9) := ⟨⟨by decide +kernel, by decide +kernel⟩, lw_t2 (List.mem_of_getElem? (i := 224) rfl), lw_t3 (List.mem_of_getElem? (i := 222) rfl), lw_t3 (List.mem_of_getElem? (i := 223) rfl)⟩
theorem lw_p25 : lw_okq (⟨"ManyEyes$Tokens", "one", "()LManyEyes$Sum;"⟩, 9) := ⟨⟨by decide +kernel, by decide +kernel⟩, lw_t2 (List.mem_of_getElem? (i := 224) rfl), lw_t3 (List.mem_of_getElem? (i := 226) rfl), lw_t3 (List.mem_of_getElem? (i := 227) rfl)⟩
theorem lw_p26 : lw_okq (⟨"ManyEyes$Tokens", "number", "(II)I"⟩, 9) := ⟨⟨by decide +kernel, by decide +kernel⟩, lw_t2 (List.mem_of_getElem? (i := 224) rfl), lw_t3 (List.mem_of_getElem? (i := 232) rfl), lw_t3 (List.mem_of_getElem? (i := 233) rfl)⟩
theorem lw_p27 : lw_okq (⟨"ManyEyes$Tokens", "want", "(I)V"⟩, 9) := ⟨⟨by decide +kernel, by decide +kernel⟩, lw_t2 (List.mem_of_getElem? (i := 224) rfl), lw_t4 (List.mem_of_getElem? (i := 41) rfl), lw_t4 (List.mem_of_getElem? (i := 42) rfl)⟩
theorem lw_p28 : lw_okq (⟨"ManyEyes", "isStart", "(III)Z"⟩, 12) := ⟨⟨by decide +kernel, by decide +kernel⟩, lw_t1 (List.mem_of_getElem? (i := 39) rfl), lw_t4 (List.mem_of_getElem? (i := 164) rfl), lw_t4 (List.mem_of_getElem? (i := 165) rfl)⟩
theorem lw_p29 : lw_okq (⟨"ManyEyes", "isEmpty", "(II)Z"⟩, 12) := ⟨⟨by decide +kernel, by decide +kernel⟩, lw_t1 (List.mem_of_getElem? (i := 39) rfl), lw_t4 (List.mem_of_getElem? (i := 168) rfl), lw_t4 (List.mem_of_getElem? (i := 169) rfl)⟩
theorem lw_p30 : lw_okq (⟨"ManyEyes", "flies", "(IIIIII)V"⟩, 12) := ⟨⟨by decide +kernel, by decide +kernel⟩, lw_t1 (List.mem_of_getElem? (i := 39) rfl), lw_t4 (List.mem_of_getElem? (i := 172) rfl), lw_t4 (List.mem_of_getElem? (i := 173) rfl)⟩
theorem lw_p31 : lw_okq (⟨"ManyEyes", "goes", "(I)V"⟩, 12) := ⟨⟨by decide +kernel, by decide +kernel⟩, lw_t1 (List.mem_of_getElem? (i := 39) rfl), lw_t4 (List.mem_of_getElem? (i := 177) rfl), lw_t4 (List.mem_of_getElem? (i := 178) rfl)⟩
def lw_privs_2 : List (MethodName × Nat) := [(⟨"ManyEyes$Tokens", "wrong", "(I)LManyEyes$Wrong;"⟩, 9), (⟨"java/lang/Throwable", "fillInStackTrace", "(I)Ljava/lang/Throwable;"⟩, 6), (⟨"ManyEyes$Tokens", "letter", "()I"⟩, 9), (⟨"ManyEyes$Tokens", "either", "()LManyEyes$Asked;"⟩, 9), (⟨"ManyEyes$Tokens", "both", "()LManyEyes$Asked;"⟩, 9), (⟨"ManyEyes$Tokens", "ask", "()LManyEyes$Asked;"⟩, 9), (⟨"ManyEyes$Tokens", "opens", "()V"⟩, 9), (⟨"ManyEyes$Tokens", "sum", "()LManyEyes$Sum;"⟩, 9), (⟨"ManyEyes$Tokens", "product", "()LManyEyes$Sum;"⟩, 9), (⟨"ManyEyes$Tokens", "one", "()LManyEyes$Sum;"⟩, 9), (⟨"ManyEyes$Tokens", "number", "(II)I"⟩, 9), (⟨"ManyEyes$Tokens", "want", "(I)V"⟩, 9), (⟨"ManyEyes", "isStart", "(III)Z"⟩, 12), (⟨"ManyEyes", "isEmpty", "(II)Z"⟩, 12), (⟨"ManyEyes", "flies", "(IIIIII)V"⟩, 12), (⟨"ManyEyes", "goes", "(I)V"⟩, 12)]
theorem lw_r2 : ∀ q ∈ lw_privs_2, lw_okq q := List.forall_mem_cons.mpr ⟨lw_p16, List.forall_mem_cons.mpr ⟨lw_p17, List.forall_mem_cons.mpr ⟨lw_p18, List.forall_mem_cons.mpr ⟨lw_p19, List.forall_mem_cons.mpr ⟨lw_p20, List.forall_mem_cons.mpr ⟨lw_p21, List.forall_mem_cons.mpr ⟨lw_p22, List.forall_mem_cons.mpr ⟨lw_p23, List.forall_mem_cons.mpr ⟨lw_p24, List.forall_mem_cons.mpr ⟨lw_p25, List.forall_mem_cons.mpr ⟨lw_p26, List.forall_mem_cons.mpr ⟨lw_p27, List.forall_mem_cons.mpr ⟨lw_p28, List.forall_mem_cons.mpr ⟨lw_p29, List.forall_mem_cons.mpr ⟨lw_p30, List.forall_mem_cons.mpr ⟨lw_p31, fun _ h => absurd h List.not_mem_nil⟩⟩⟩⟩⟩⟩⟩⟩⟩⟩⟩⟩⟩⟩⟩⟩
theorem lw_p32 : lw_okq (⟨"ManyEyes", "keeps", "()I"⟩, 12) := ⟨⟨by decide +kernel, by decide +kernel⟩, lw_t1 (List.mem_of_getElem? (i := 39) rfl), lw_t5 (List.mem_of_getElem? (i := 90) rfl), lw_t5 (List.mem_of_getElem? (i := 91) rfl)⟩
theorem lw_p33 : lw_okq (⟨"ManyEyes", "isKept", "(I)Z"⟩, 12) := ⟨⟨by decide +kernel, by decide +kernel⟩, lw_t1 (List.mem_of_getElem? (i := 39) rfl), lw_t5 (List.mem_of_getElem? (i := 94) rfl), lw_t5 (List.mem_of_getElem? (i := 95) rfl)⟩
theorem lw_p34 : lw_okq (⟨"ManyEyes", "unlike", "(IIII)I"⟩, 12) := ⟨⟨by decide +kernel, by decide +kernel⟩, lw_t1 (List.mem_of_getElem? (i := 39) rfl), lw_t5 (List.mem_of_getElem? (i := 108) rfl), lw_t5 (List.mem_of_getElem? (i := 109) rfl)⟩
theorem lw_p35 : lw_okq (⟨"ManyEyesModel", "isCell", "(I)Z"⟩, 43) := ⟨⟨by decide +kernel, by decide +kernel⟩, lw_t5 (List.mem_of_getElem? (i := 127) rfl), lw_t6 (List.mem_of_getElem? (i := 30) rfl), lw_t6 (List.mem_of_getElem? (i := 31) rfl)⟩
theorem lw_p36 : lw_okq (⟨"ManyEyesModel", "markAt", "(II)I"⟩, 43) := ⟨⟨by decide +kernel, by decide +kernel⟩, lw_t5 (List.mem_of_getElem? (i := 127) rfl), lw_t6 (List.mem_of_getElem? (i := 48) rfl), lw_t6 (List.mem_of_getElem? (i := 49) rfl)⟩
theorem lw_p37 : lw_okq (⟨"ManyEyesModel", "bodyAt", "(II)I"⟩, 43) := ⟨⟨by decide +kernel, by decide +kernel⟩, lw_t5 (List.mem_of_getElem? (i := 127) rfl), lw_t6 (List.mem_of_getElem? (i := 52) rfl), lw_t6 (List.mem_of_getElem? (i := 53) rfl)⟩
theorem lw_p38 : lw_okq (⟨"ManyEyesModel", "isPlace", "(II)Z"⟩, 43) := ⟨⟨by decide +kernel, by decide +kernel⟩, lw_t5 (List.mem_of_getElem? (i := 127) rfl), lw_t6 (List.mem_of_getElem? (i := 60) rfl), lw_t6 (List.mem_of_getElem? (i := 61) rfl)⟩
theorem lw_p39 : lw_okq (⟨"ManyEyesModel", "lay", "(I)V"⟩, 43) := ⟨⟨by decide +kernel, by decide +kernel⟩, lw_t5 (List.mem_of_getElem? (i := 127) rfl), lw_t6 (List.mem_of_getElem? (i := 67) rfl), lw_t6 (List.mem_of_getElem? (i := 68) rfl)⟩
theorem lw_p40 : lw_okq (⟨"ManyEyesModel", "shoot", "(III)V"⟩, 43) := ⟨⟨by decide +kernel, by decide +kernel⟩, lw_t5 (List.mem_of_getElem? (i := 127) rfl), lw_t6 (List.mem_of_getElem? (i := 71) rfl), lw_t6 (List.mem_of_getElem? (i := 72) rfl)⟩
theorem lw_p41 : lw_okq (⟨"ManyEyesModel", "isLens", "(I)Z"⟩, 43) := ⟨⟨by decide +kernel, by decide +kernel⟩, lw_t5 (List.mem_of_getElem? (i := 127) rfl), lw_t6 (List.mem_of_getElem? (i := 92) rfl), lw_t6 (List.mem_of_getElem? (i := 93) rfl)⟩
theorem lw_p42 : lw_okq (⟨"ManyEyesModel", "look", "(III)V"⟩, 43) := ⟨⟨by decide +kernel, by decide +kernel⟩, lw_t5 (List.mem_of_getElem? (i := 127) rfl), lw_t6 (List.mem_of_getElem? (i := 100) rfl), lw_t6 (List.mem_of_getElem? (i := 101) rfl)⟩
theorem lw_p43 : lw_okq (⟨"ManyEyesModel", "lensTake", "(II)I"⟩, 43) := ⟨⟨by decide +kernel, by decide +kernel⟩, lw_t5 (List.mem_of_getElem? (i := 127) rfl), lw_t6 (List.mem_of_getElem? (i := 104) rfl), lw_t6 (List.mem_of_getElem? (i := 105) rfl)⟩
theorem lw_p44 : lw_okq (⟨"ManyEyesModel", "takeOf", "(III)I"⟩, 43) := ⟨⟨by decide +kernel, by decide +kernel⟩, lw_t5 (List.mem_of_getElem? (i := 127) rfl), lw_t6 (List.mem_of_getElem? (i := 108) rfl), lw_t6 (List.mem_of_getElem? (i := 109) rfl)⟩
theorem lw_p45 : lw_okq (⟨"ManyEyesModel", "coverOf", "(I)I"⟩, 43) := ⟨⟨by decide +kernel, by decide +kernel⟩, lw_t5 (List.mem_of_getElem? (i := 127) rfl), lw_t6 (List.mem_of_getElem? (i := 119) rfl), lw_t6 (List.mem_of_getElem? (i := 120) rfl)⟩
theorem lw_p46 : lw_okq (⟨"ManyEyesModel", "apart", "(II)I"⟩, 43) := ⟨⟨by decide +kernel, by decide +kernel⟩, lw_t5 (List.mem_of_getElem? (i := 127) rfl), lw_t6 (List.mem_of_getElem? (i := 123) rfl), lw_t6 (List.mem_of_getElem? (i := 124) rfl)⟩
theorem lw_p47 : lw_okq (⟨"ManyEyesModel", "four", "(I)V"⟩, 43) := ⟨⟨by decide +kernel, by decide +kernel⟩, lw_t5 (List.mem_of_getElem? (i := 127) rfl), lw_t6 (List.mem_of_getElem? (i := 143) rfl), lw_t6 (List.mem_of_getElem? (i := 144) rfl)⟩
def lw_privs_3 : List (MethodName × Nat) := [(⟨"ManyEyes", "keeps", "()I"⟩, 12), (⟨"ManyEyes", "isKept", "(I)Z"⟩, 12), (⟨"ManyEyes", "unlike", "(IIII)I"⟩, 12), (⟨"ManyEyesModel", "isCell", "(I)Z"⟩, 43), (⟨"ManyEyesModel", "markAt", "(II)I"⟩, 43), (⟨"ManyEyesModel", "bodyAt", "(II)I"⟩, 43), (⟨"ManyEyesModel", "isPlace", "(II)Z"⟩, 43), (⟨"ManyEyesModel", "lay", "(I)V"⟩, 43), (⟨"ManyEyesModel", "shoot", "(III)V"⟩, 43), (⟨"ManyEyesModel", "isLens", "(I)Z"⟩, 43), (⟨"ManyEyesModel", "look", "(III)V"⟩, 43), (⟨"ManyEyesModel", "lensTake", "(II)I"⟩, 43), (⟨"ManyEyesModel", "takeOf", "(III)I"⟩, 43), (⟨"ManyEyesModel", "coverOf", "(I)I"⟩, 43), (⟨"ManyEyesModel", "apart", "(II)I"⟩, 43), (⟨"ManyEyesModel", "four", "(I)V"⟩, 43)]
theorem lw_r3 : ∀ q ∈ lw_privs_3, lw_okq q := List.forall_mem_cons.mpr ⟨lw_p32, List.forall_mem_cons.mpr ⟨lw_p33, List.forall_mem_cons.mpr ⟨lw_p34, List.forall_mem_cons.mpr ⟨lw_p35, List.forall_mem_cons.mpr ⟨lw_p36, List.forall_mem_cons.mpr ⟨lw_p37, List.forall_mem_cons.mpr ⟨lw_p38, List.forall_mem_cons.mpr ⟨lw_p39, List.forall_mem_cons.mpr ⟨lw_p40, List.forall_mem_cons.mpr ⟨lw_p41, List.forall_mem_cons.mpr ⟨lw_p42, List.forall_mem_cons.mpr ⟨lw_p43, List.forall_mem_cons.mpr ⟨lw_p44, List.forall_mem_cons.mpr ⟨lw_p45, List.forall_mem_cons.mpr ⟨lw_p46, List.forall_mem_cons.mpr ⟨lw_p47, fun _ h => absurd h List.not_mem_nil⟩⟩⟩⟩⟩⟩⟩⟩⟩⟩⟩⟩⟩⟩⟩⟩
theorem lw_p48 : lw_okq (⟨"ManyEyesModel", "readText", "()I"⟩, 43) := ⟨⟨by decide +kernel, by decide +kernel⟩, lw_t5 (List.mem_of_getElem? (i := 127) rfl), lw_t6 (List.mem_of_getElem? (i := 155) rfl), lw_t6 (List.mem_of_getElem? (i := 156) rfl)⟩
theorem lw_p49 : lw_okq (⟨"ManyEyesModel", "nextToken", "()V"⟩, 43) := ⟨⟨by decide +kernel, by decide +kernel⟩, lw_t5 (List.mem_of_getElem? (i := 127) rfl), lw_t6 (List.mem_of_getElem? (i := 159) rfl), lw_t6 (List.mem_of_getElem? (i := 160) rfl)⟩
theorem lw_p50 : lw_okq (⟨"ManyEyesModel", "see", "(I)I"⟩, 43) := ⟨⟨by decide +kernel, by decide +kernel⟩, lw_t5 (List.mem_of_getElem? (i := 127) rfl), lw_t6 (List.mem_of_getElem? (i := 163) rfl), lw_t6 (List.mem_of_getElem? (i := 164) rfl)⟩
theorem lw_p51 : lw_okq (⟨"ManyEyesModel", "clause", "()I"⟩, 43) := ⟨⟨by decide +kernel, by decide +kernel⟩, lw_t5 (List.mem_of_getElem? (i := 127) rfl), lw_t6 (List.mem_of_getElem? (i := 174) rfl), lw_t6 (List.mem_of_getElem? (i := 175) rfl)⟩
theorem lw_p52 : lw_okq (⟨"ManyEyesModel", "sortOf", "()I"⟩, 43) := ⟨⟨by decide +kernel, by decide +kernel⟩, lw_t5 (List.mem_of_getElem? (i := 127) rfl), lw_t6 (List.mem_of_getElem? (i := 178) rfl), lw_t6 (List.mem_of_getElem? (i := 179) rfl)⟩
theorem lw_p53 : lw_okq (⟨"ManyEyesModel", "letterOf", "()I"⟩, 43) := ⟨⟨by decide +kernel, by decide +kernel⟩, lw_t5 (List.mem_of_getElem? (i := 127) rfl), lw_t6 (List.mem_of_getElem? (i := 189) rfl), lw_t6 (List.mem_of_getElem? (i := 190) rfl)⟩
theorem lw_p54 : lw_okq (⟨"ManyEyesModel", "either", "()I"⟩, 43) := ⟨⟨by decide +kernel, by decide +kernel⟩, lw_t5 (List.mem_of_getElem? (i := 127) rfl), lw_t6 (List.mem_of_getElem? (i := 195) rfl), lw_t6 (List.mem_of_getElem? (i := 196) rfl)⟩
theorem lw_p55 : lw_okq (⟨"ManyEyesModel", "ask", "()I"⟩, 43) := ⟨⟨by decide +kernel, by decide +kernel⟩, lw_t5 (List.mem_of_getElem? (i := 127) rfl), lw_t6 (List.mem_of_getElem? (i := 199) rfl), lw_t6 (List.mem_of_getElem? (i := 200) rfl)⟩
theorem lw_p56 : lw_okq (⟨"ManyEyesModel", "isWord", "(J)Z"⟩, 43) := ⟨⟨by decide +kernel, by decide +kernel⟩, lw_t5 (List.mem_of_getElem? (i := 127) rfl), lw_t6 (List.mem_of_getElem? (i := 203) rfl), lw_t6 (List.mem_of_getElem? (i := 204) rfl)⟩
theorem lw_p57 : lw_okq (⟨"ManyEyesModel", "summed", "()I"⟩, 43) := ⟨⟨by decide +kernel, by decide +kernel⟩, lw_t5 (List.mem_of_getElem? (i := 127) rfl), lw_t6 (List.mem_of_getElem? (i := 207) rfl), lw_t6 (List.mem_of_getElem? (i := 208) rfl)⟩
theorem lw_p58 : lw_okq (⟨"ManyEyesModel", "goesOn", "()Z"⟩, 43) := ⟨⟨by decide +kernel, by decide +kernel⟩, lw_t5 (List.mem_of_getElem? (i := 127) rfl), lw_t6 (List.mem_of_getElem? (i := 211) rfl), lw_t6 (List.mem_of_getElem? (i := 212) rfl)⟩
theorem lw_p59 : lw_okq (⟨"ManyEyesModel", "hasParen", "()Z"⟩, 43) := ⟨⟨by decide +kernel, by decide +kernel⟩, lw_t5 (List.mem_of_getElem? (i := 127) rfl), lw_t6 (List.mem_of_getElem? (i := 215) rfl), lw_t6 (List.mem_of_getElem? (i := 216) rfl)⟩
theorem lw_p60 : lw_okq (⟨"ManyEyesModel", "behindOne", "()I"⟩, 43) := ⟨⟨by decide +kernel, by decide +kernel⟩, lw_t5 (List.mem_of_getElem? (i := 127) rfl), lw_t6 (List.mem_of_getElem? (i := 219) rfl), lw_t6 (List.mem_of_getElem? (i := 220) rfl)⟩
theorem lw_p61 : lw_okq (⟨"ManyEyesModel", "settle", "(I)V"⟩, 43) := ⟨⟨by decide +kernel, by decide +kernel⟩, lw_t5 (List.mem_of_getElem? (i := 127) rfl), lw_t6 (List.mem_of_getElem? (i := 223) rfl), lw_t6 (List.mem_of_getElem? (i := 224) rfl)⟩
theorem lw_p62 : lw_okq (⟨"ManyEyesModel", "emit", "(II)V"⟩, 43) := ⟨⟨by decide +kernel, by decide +kernel⟩, lw_t5 (List.mem_of_getElem? (i := 127) rfl), lw_t6 (List.mem_of_getElem? (i := 227) rfl), lw_t6 (List.mem_of_getElem? (i := 228) rfl)⟩
theorem lw_p63 : lw_okq (⟨"ManyEyesModel", "push", "(I)V"⟩, 43) := ⟨⟨by decide +kernel, by decide +kernel⟩, lw_t5 (List.mem_of_getElem? (i := 127) rfl), lw_t6 (List.mem_of_getElem? (i := 231) rfl), lw_t6 (List.mem_of_getElem? (i := 232) rfl)⟩
def lw_privs_4 : List (MethodName × Nat) := [(⟨"ManyEyesModel", "readText", "()I"⟩, 43), (⟨"ManyEyesModel", "nextToken", "()V"⟩, 43), (⟨"ManyEyesModel", "see", "(I)I"⟩, 43), (⟨"ManyEyesModel", "clause", "()I"⟩, 43), (⟨"ManyEyesModel", "sortOf", "()I"⟩, 43), (⟨"ManyEyesModel", "letterOf", "()I"⟩, 43), (⟨"ManyEyesModel", "either", "()I"⟩, 43), (⟨"ManyEyesModel", "ask", "()I"⟩, 43), (⟨"ManyEyesModel", "isWord", "(J)Z"⟩, 43), (⟨"ManyEyesModel", "summed", "()I"⟩, 43), (⟨"ManyEyesModel", "goesOn", "()Z"⟩, 43), (⟨"ManyEyesModel", "hasParen", "()Z"⟩, 43), (⟨"ManyEyesModel", "behindOne", "()I"⟩, 43), (⟨"ManyEyesModel", "settle", "(I)V"⟩, 43), (⟨"ManyEyesModel", "emit", "(II)V"⟩, 43), (⟨"ManyEyesModel", "push", "(I)V"⟩, 43)]
theorem lw_r4 : ∀ q ∈ lw_privs_4, lw_okq q := List.forall_mem_cons.mpr ⟨lw_p48, List.forall_mem_cons.mpr ⟨lw_p49, List.forall_mem_cons.mpr ⟨lw_p50, List.forall_mem_cons.mpr ⟨lw_p51, List.forall_mem_cons.mpr ⟨lw_p52, List.forall_mem_cons.mpr ⟨lw_p53, List.forall_mem_cons.mpr ⟨lw_p54, List.forall_mem_cons.mpr ⟨lw_p55, List.forall_mem_cons.mpr ⟨lw_p56, List.forall_mem_cons.mpr ⟨lw_p57, List.forall_mem_cons.mpr ⟨lw_p58, List.forall_mem_cons.mpr ⟨lw_p59, List.forall_mem_cons.mpr ⟨lw_p60, List.forall_mem_cons.mpr ⟨lw_p61, List.forall_mem_cons.mpr ⟨lw_p62, List.forall_mem_cons.mpr ⟨lw_p63, fun _ h => absurd h List.not_mem_nil⟩⟩⟩⟩⟩⟩⟩⟩⟩⟩⟩⟩⟩⟩⟩⟩
theorem lw_p64 : lw_okq (⟨"ManyEyesModel", "whole", "()V"⟩, 43) := ⟨⟨by decide +kernel, by decide +kernel⟩, lw_t5 (List.mem_of_getElem? (i := 127) rfl), lw_t6 (List.mem_of_getElem? (i := 235) rfl), lw_t6 (List.mem_of_getElem? (i := 236) rfl)⟩
theorem lw_p65 : lw_okq (⟨"ManyEyesModel", "beginOne", "()I"⟩, 43) := ⟨⟨by decide +kernel, by decide +kernel⟩, lw_t5 (List.mem_of_getElem? (i := 127) rfl), lw_t6 (List.mem_of_getElem? (i := 239) rfl), lw_t7 (List.mem_of_getElem? (i := 0) rfl)⟩
theorem lw_p66 : lw_okq (⟨"ManyEyesModel", "eye", "(I)I"⟩, 43) := ⟨⟨by decide +kernel, by decide +kernel⟩, lw_t5 (List.mem_of_getElem? (i := 127) rfl), lw_t7 (List.mem_of_getElem? (i := 3) rfl), lw_t7 (List.mem_of_getElem? (i := 4) rfl)⟩
theorem lw_p67 : lw_okq (⟨"ManyEyesModel", "compareOf", "()I"⟩, 43) := ⟨⟨by decide +kernel, by decide +kernel⟩, lw_t5 (List.mem_of_getElem? (i := 127) rfl), lw_t7 (List.mem_of_getElem? (i := 7) rfl), lw_t7 (List.mem_of_getElem? (i := 8) rfl)⟩
theorem lw_p68 : lw_okq (⟨"ManyEyesModel", "isRule", "(I)Z"⟩, 43) := ⟨⟨by decide +kernel, by decide +kernel⟩, lw_t5 (List.mem_of_getElem? (i := 127) rfl), lw_t7 (List.mem_of_getElem? (i := 20) rfl), lw_t7 (List.mem_of_getElem? (i := 21) rfl)⟩
theorem lw_p69 : lw_okq (⟨"ManyEyesModel", "isStart", "(II)Z"⟩, 43) := ⟨⟨by decide +kernel, by decide +kernel⟩, lw_t5 (List.mem_of_getElem? (i := 127) rfl), lw_t7 (List.mem_of_getElem? (i := 24) rfl), lw_t7 (List.mem_of_getElem? (i := 25) rfl)⟩
theorem lw_p70 : lw_okq (⟨"ManyEyesModel", "run", "(IIIII)V"⟩, 43) := ⟨⟨by decide +kernel, by decide +kernel⟩, lw_t5 (List.mem_of_getElem? (i := 127) rfl), lw_t7 (List.mem_of_getElem? (i := 29) rfl), lw_t7 (List.mem_of_getElem? (i := 30) rfl)⟩
theorem lw_p71 : lw_okq (⟨"ManyEyesModel", "see", "()V"⟩, 43) := ⟨⟨by decide +kernel, by decide +kernel⟩, lw_t5 (List.mem_of_getElem? (i := 127) rfl), lw_t7 (List.mem_of_getElem? (i := 33) rfl), lw_t7 (List.mem_of_getElem? (i := 34) rfl)⟩
theorem lw_p72 : lw_okq (⟨"ManyEyesModel", "think", "(I)Z"⟩, 43) := ⟨⟨by decide +kernel, by decide +kernel⟩, lw_t5 (List.mem_of_getElem? (i := 127) rfl), lw_t7 (List.mem_of_getElem? (i := 37) rfl), lw_t7 (List.mem_of_getElem? (i := 38) rfl)⟩
theorem lw_p73 : lw_okq (⟨"ManyEyesModel", "work", "(III)V"⟩, 43) := ⟨⟨by decide +kernel, by decide +kernel⟩, lw_t5 (List.mem_of_getElem? (i := 127) rfl), lw_t7 (List.mem_of_getElem? (i := 41) rfl), lw_t7 (List.mem_of_getElem? (i := 42) rfl)⟩
theorem lw_p74 : lw_okq (⟨"ManyEyesModel", "valueOf", "(II)J"⟩, 43) := ⟨⟨by decide +kernel, by decide +kernel⟩, lw_t5 (List.mem_of_getElem? (i := 127) rfl), lw_t7 (List.mem_of_getElem? (i := 45) rfl), lw_t7 (List.mem_of_getElem? (i := 46) rfl)⟩
theorem lw_p75 : lw_okq (⟨"ManyEyesModel", "bring", "(J)J"⟩, 43) := ⟨⟨by decide +kernel, by decide +kernel⟩, lw_t5 (List.mem_of_getElem? (i := 127) rfl), lw_t7 (List.mem_of_getElem? (i := 49) rfl), lw_t7 (List.mem_of_getElem? (i := 50) rfl)⟩
theorem lw_p76 : lw_okq (⟨"ManyEyesModel", "two", "(IJJ)J"⟩, 43) := ⟨⟨by decide +kernel, by decide +kernel⟩, lw_t5 (List.mem_of_getElem? (i := 127) rfl), lw_t7 (List.mem_of_getElem? (i := 53) rfl), lw_t7 (List.mem_of_getElem? (i := 54) rfl)⟩
theorem lw_p77 : lw_okq (⟨"ManyEyesModel", "isKept", "(I)Z"⟩, 43) := ⟨⟨by decide +kernel, by decide +kernel⟩, lw_t5 (List.mem_of_getElem? (i := 127) rfl), lw_t7 (List.mem_of_getElem? (i := 88) rfl), lw_t7 (List.mem_of_getElem? (i := 89) rfl)⟩
theorem lw_p78 : lw_okq (⟨"ManyEyesModel", "unlike", "(III)I"⟩, 43) := ⟨⟨by decide +kernel, by decide +kernel⟩, lw_t5 (List.mem_of_getElem? (i := 127) rfl), lw_t7 (List.mem_of_getElem? (i := 96) rfl), lw_t7 (List.mem_of_getElem? (i := 97) rfl)⟩
def lw_privs_5 : List (MethodName × Nat) := [(⟨"ManyEyesModel", "whole", "()V"⟩, 43), (⟨"ManyEyesModel", "beginOne", "()I"⟩, 43), (⟨"ManyEyesModel", "eye", "(I)I"⟩, 43), (⟨"ManyEyesModel", "compareOf", "()I"⟩, 43), (⟨"ManyEyesModel", "isRule", "(I)Z"⟩, 43), (⟨"ManyEyesModel", "isStart", "(II)Z"⟩, 43), (⟨"ManyEyesModel", "run", "(IIIII)V"⟩, 43), (⟨"ManyEyesModel", "see", "()V"⟩, 43), (⟨"ManyEyesModel", "think", "(I)Z"⟩, 43), (⟨"ManyEyesModel", "work", "(III)V"⟩, 43), (⟨"ManyEyesModel", "valueOf", "(II)J"⟩, 43), (⟨"ManyEyesModel", "bring", "(J)J"⟩, 43), (⟨"ManyEyesModel", "two", "(IJJ)J"⟩, 43), (⟨"ManyEyesModel", "isKept", "(I)Z"⟩, 43), (⟨"ManyEyesModel", "unlike", "(III)I"⟩, 43)]
theorem lw_r5 : ∀ q ∈ lw_privs_5, lw_okq q := List.forall_mem_cons.mpr ⟨lw_p64, List.forall_mem_cons.mpr ⟨lw_p65, List.forall_mem_cons.mpr ⟨lw_p66, List.forall_mem_cons.mpr ⟨lw_p67, List.forall_mem_cons.mpr ⟨lw_p68, List.forall_mem_cons.mpr ⟨lw_p69, List.forall_mem_cons.mpr ⟨lw_p70, List.forall_mem_cons.mpr ⟨lw_p71, List.forall_mem_cons.mpr ⟨lw_p72, List.forall_mem_cons.mpr ⟨lw_p73, List.forall_mem_cons.mpr ⟨lw_p74, List.forall_mem_cons.mpr ⟨lw_p75, List.forall_mem_cons.mpr ⟨lw_p76, List.forall_mem_cons.mpr ⟨lw_p77, List.forall_mem_cons.mpr ⟨lw_p78, fun _ h => absurd h List.not_mem_nil⟩⟩⟩⟩⟩⟩⟩⟩⟩⟩⟩⟩⟩⟩⟩
def lw_privs : List (MethodName × Nat) := lw_privs_1 ++ (lw_privs_2 ++ (lw_privs_3 ++ (lw_privs_4 ++ (lw_privs_5))))
def lw_tbl : List Cond := k2_sels lw_privs ++ tables_1
theorem lw_privs_ok : ∀ q ∈ lw_privs, lw_okq q := by
  show ∀ q ∈ lw_privs_1 ++ (lw_privs_2 ++ (lw_privs_3 ++ (lw_privs_4 ++ (lw_privs_5)))), lw_okq q
  exact List.forall_mem_append.mpr ⟨lw_r1, List.forall_mem_append.mpr ⟨lw_r2, List.forall_mem_append.mpr ⟨lw_r3, List.forall_mem_append.mpr ⟨lw_r4, lw_r5⟩⟩⟩⟩
-- ===== ONE list of words for every method: the tables' words that hold all through a run =====
def lw_all : List Cond := lw_tbl.filter goodWord
/-- a word of the tables by its place: claim/WORDS.tsv -/
theorem lw_w {w : Cond} (i : Nat) (h : lw_tbl[i]? = some w) (g : goodWord w = true) : w ∈ lw_all := List.mem_filter.mpr ⟨List.mem_of_getElem? h, g⟩
theorem lw_all_tbl {w : Cond} (h : w ∈ lw_all) : w ∈ lw_tbl := (List.mem_filter.mp h).1
theorem lw_self : GoodIn lw_all lw_all := fun w h => ⟨h, good_of_word (List.mem_filter.mp h).2⟩
/-- a class's field words, by their places -/
theorem lw_in (ws : List Cond) (ps : List Nat) (hp : ws = ps.filterMap (fun i => lw_tbl[i]?)) (hg : ws.all goodWord = true) : ∀ w ∈ ws, w ∈ lw_all := by
  intro w h
  have h1 := List.all_eq_true.mp hg w h
  rw [hp] at h
  obtain ⟨i, -, hi⟩ := List.mem_filterMap.mp h
  exact lw_w i hi h1
/-- the words of a contract for the method y with code b, L locals, answer r -/
abbrev ws_ (y : MethodName) (b : ByteArray) (L : Nat) (r : Option FieldType) : List Cond := Cond.code y b L r :: lw_all
theorem lw_meth {y : MethodName} {b : ByteArray} {L : Nat} {r : Option FieldType} (h : Cond.code y b L r ∈ lw_all) : GoodIn lw_all (ws_ y b L r) := by
  intro w hw
  rcases List.mem_cons.mp hw with e | e
  · rw [e]
    exact lw_self _ h
  · exact lw_self _ e
theorem lw_app {a c : List Cond} (ha : ∀ w ∈ a, w ∈ lw_all) (hc : GoodIn lw_all c) : GoodIn lw_all (a ++ c) := by
  intro w hw
  rcases List.mem_append.mp hw with e | e
  · exact lw_self w (ha w e)
  · exact hc w e
/-- what a call through an object asks: cwV n hts (lw_V ..) -/
theorem lw_V {own : String} {idx : Nat} {C : String} {y : MethodName} {b : ByteArray} {L : Nat} {r : Option FieldType} (h1 : Cond.methodLink own idx y ∈ lw_all) (h2 : Cond.instanceMethod y ∈ lw_all) (h3 : Cond.selects C y y ∈ lw_all) (h4 : Cond.initialized C ∈ lw_all) (h5 : Cond.code y b L r ∈ lw_all) : GoodIn lw_all (wsV own idx C y (ws_ y b L r)) := by
  refine lw_app ?_ (lw_meth h5)
  intro w hw
  simp only [List.mem_cons, List.not_mem_nil, or_false] at hw
  rcases hw with e | e | e | e
  · rw [e]; exact h1
  · rw [e]; exact h2
  · rw [e]; exact h3
  · rw [e]; exact h4
/-- what a static call asks: va_cwS n hts (lw_S ..) -/
theorem lw_S {own : String} {idx : Nat} {y : MethodName} {b : ByteArray} {L : Nat} {r : Option FieldType} (h1 : Cond.methodLink own idx y ∈ lw_all) (h2 : Cond.static y ∈ lw_all) (h3 : Cond.initialized y.cls ∈ lw_all) (h4 : Cond.code y b L r ∈ lw_all) : GoodIn lw_all (va_wsS own idx y (ws_ y b L r)) := by
  refine lw_app ?_ (lw_meth h4)
  intro w hw
  simp only [List.mem_cons, List.not_mem_nil, or_false] at hw
  rcases hw with e | e | e
  · rw [e]; exact h1
  · rw [e]; exact h2
  · rw [e]; exact h3
/-- the words of a contract for a method WITH HANDLERS (hh: its table) -/
abbrev wsW_ (y : MethodName) (b : ByteArray) (L : Nat) (r : Option FieldType) (hh : List (Nat × Nat × Nat × Nat)) : List Cond := Cond.codeWith y b L r hh :: lw_all
theorem lw_methW {y : MethodName} {b : ByteArray} {L : Nat} {r : Option FieldType} {hh : List (Nat × Nat × Nat × Nat)} (h : Cond.codeWith y b L r hh ∈ lw_all) : GoodIn lw_all (wsW_ y b L r hh) := by
  intro w hw
  rcases List.mem_cons.mp hw with e | e
  · rw [e]
    exact lw_self _ h
  · exact lw_self _ e
/-- any list of words by their places (lw_in), good -/
theorem lw_good {ws : List Cond} (h : ∀ w ∈ ws, w ∈ lw_all) : GoodIn lw_all ws := fun w hw => lw_self w (h w hw)
/-- what a call of a method with handlers asks: vx_cwVW n hts (lw_VW ..), vx_cwSW n hts (lw_SW ..) -/
theorem lw_VW {own : String} {idx : Nat} {C : String} {y : MethodName} {b : ByteArray} {L : Nat} {r : Option FieldType} {hh : List (Nat × Nat × Nat × Nat)} (h1 : Cond.methodLink own idx y ∈ lw_all) (h2 : Cond.instanceMethod y ∈ lw_all) (h3 : Cond.selects C y y ∈ lw_all) (h4 : Cond.initialized C ∈ lw_all) (h5 : Cond.codeWith y b L r hh ∈ lw_all) : GoodIn lw_all (wsV own idx C y (wsW_ y b L r hh)) := by
  refine lw_app ?_ (lw_methW h5)
  intro w hw
  simp only [List.mem_cons, List.not_mem_nil, or_false] at hw
  rcases hw with e | e | e | e
  · rw [e]; exact h1
  · rw [e]; exact h2
  · rw [e]; exact h3
  · rw [e]; exact h4
theorem lw_SW {own : String} {idx : Nat} {y : MethodName} {b : ByteArray} {L : Nat} {r : Option FieldType} {hh : List (Nat × Nat × Nat × Nat)} (h1 : Cond.methodLink own idx y ∈ lw_all) (h2 : Cond.static y ∈ lw_all) (h3 : Cond.initialized y.cls ∈ lw_all) (h4 : Cond.codeWith y b L r hh ∈ lw_all) : GoodIn lw_all (va_wsS own idx y (wsW_ y b L r hh)) := by
  refine lw_app ?_ (lw_methW h4)
  intro w hw
  simp only [List.mem_cons, List.not_mem_nil, or_false] at hw
  rcases hw with e | e | e
  · rw [e]; exact h1
  · rw [e]; exact h2
  · rw [e]; exact h3
/-- a word by its place in its run of the tables -/
theorem lw_at {r : List Cond} (hr : ∀ w ∈ r, w ∈ lw_tbl) {w : Cond} (i : Nat) (h : r[i]? = some w) : w ∈ lw_tbl := hr w (List.mem_of_getElem? h)
theorem lw_g {w : Cond} (h : w ∈ lw_tbl) (g : goodWord w = true) : w ∈ lw_all := List.mem_filter.mpr ⟨h, g⟩
theorem lw_ms : ∀ w ∈ k2_sels lw_privs, w ∈ lw_tbl := fun w h => show w ∈ k2_sels lw_privs ++ tables_1 from List.mem_append_left _ h
theorem lw_m1 : ∀ w ∈ tables_1_1, w ∈ lw_tbl := fun w h => show w ∈ k2_sels lw_privs ++ tables_1 from List.mem_append_right (k2_sels lw_privs) (show w ∈ tables_1 from List.mem_append_left _ h)
theorem lw_m2 : ∀ w ∈ tables_1_2, w ∈ lw_tbl := fun w h => show w ∈ k2_sels lw_privs ++ tables_1 from List.mem_append_right (k2_sels lw_privs) (show w ∈ tables_1 from List.mem_append_right _ (List.mem_append_left _ h))
theorem lw_m3 : ∀ w ∈ tables_1_3, w ∈ lw_tbl := fun w h => show w ∈ k2_sels lw_privs ++ tables_1 from List.mem_append_right (k2_sels lw_privs) (show w ∈ tables_1 from List.mem_append_right _ (List.mem_append_right _ (List.mem_append_left _ h)))
theorem lw_m4 : ∀ w ∈ tables_1_4, w ∈ lw_tbl := fun w h => show w ∈ k2_sels lw_privs ++ tables_1 from List.mem_append_right (k2_sels lw_privs) (show w ∈ tables_1 from List.mem_append_right _ (List.mem_append_right _ (List.mem_append_right _ (List.mem_append_left _ h))))
theorem lw_m5 : ∀ w ∈ tables_1_5, w ∈ lw_tbl := fun w h => show w ∈ k2_sels lw_privs ++ tables_1 from List.mem_append_right (k2_sels lw_privs) (show w ∈ tables_1 from List.mem_append_right _ (List.mem_append_right _ (List.mem_append_right _ (List.mem_append_right _ (List.mem_append_left _ h)))))
theorem lw_m6 : ∀ w ∈ tables_1_6, w ∈ lw_tbl := fun w h => show w ∈ k2_sels lw_privs ++ tables_1 from List.mem_append_right (k2_sels lw_privs) (show w ∈ tables_1 from List.mem_append_right _ (List.mem_append_right _ (List.mem_append_right _ (List.mem_append_right _ (List.mem_append_right _ (List.mem_append_left _ h))))))
theorem lw_m7 : ∀ w ∈ tables_1_7, w ∈ lw_tbl := fun w h => show w ∈ k2_sels lw_privs ++ tables_1 from List.mem_append_right (k2_sels lw_privs) (show w ∈ tables_1 from List.mem_append_right _ (List.mem_append_right _ (List.mem_append_right _ (List.mem_append_right _ (List.mem_append_right _ (List.mem_append_right _ h))))))
theorem qs0 : (Cond.selects "java/util/ArrayList" ⟨"java/util/ArrayList", "add", "(Ljava/lang/Object;[Ljava/lang/Object;I)V"⟩ ⟨"java/util/ArrayList", "add", "(Ljava/lang/Object;[Ljava/lang/Object;I)V"⟩) ∈ lw_all := lw_g (lw_at lw_ms 0 rfl) rfl
theorem qs1 : (Cond.selects "java/util/ArrayList" ⟨"java/util/ArrayList", "grow", "()[Ljava/lang/Object;"⟩ ⟨"java/util/ArrayList", "grow", "()[Ljava/lang/Object;"⟩) ∈ lw_all := lw_g (lw_at lw_ms 1 rfl) rfl
theorem qs2 : (Cond.selects "java/util/ArrayList" ⟨"java/util/ArrayList", "grow", "(I)[Ljava/lang/Object;"⟩ ⟨"java/util/ArrayList", "grow", "(I)[Ljava/lang/Object;"⟩) ∈ lw_all := lw_g (lw_at lw_ms 2 rfl) rfl
theorem qs3 : (Cond.selects "ManyEyes" ⟨"ManyEyes", "isCell", "(I)Z"⟩ ⟨"ManyEyes", "isCell", "(I)Z"⟩) ∈ lw_all := lw_g (lw_at lw_ms 3 rfl) rfl
theorem qs4 : (Cond.selects "ManyEyes" ⟨"ManyEyes", "adds", "(I[I[I)I"⟩ ⟨"ManyEyes", "adds", "(I[I[I)I"⟩) ∈ lw_all := lw_g (lw_at lw_ms 4 rfl) rfl
theorem qs5 : (Cond.selects "ManyEyes" ⟨"ManyEyes", "lays", "(I)V"⟩ ⟨"ManyEyes", "lays", "(I)V"⟩) ∈ lw_all := lw_g (lw_at lw_ms 5 rfl) rfl
theorem qs6 : (Cond.selects "ManyEyes" ⟨"ManyEyes", "isPlace", "(II)Z"⟩ ⟨"ManyEyes", "isPlace", "(II)Z"⟩) ∈ lw_all := lw_g (lw_at lw_ms 6 rfl) rfl
theorem qs7 : (Cond.selects "ManyEyes" ⟨"ManyEyes", "rayOf", "(III)I"⟩ ⟨"ManyEyes", "rayOf", "(III)I"⟩) ∈ lw_all := lw_g (lw_at lw_ms 7 rfl) rfl
theorem qs8 : (Cond.selects "ManyEyes" ⟨"ManyEyes", "isOne", "(II)Z"⟩ ⟨"ManyEyes", "isOne", "(II)Z"⟩) ∈ lw_all := lw_g (lw_at lw_ms 8 rfl) rfl
theorem qs9 : (Cond.selects "ManyEyes" ⟨"ManyEyes", "takeOf", "(IIII)I"⟩ ⟨"ManyEyes", "takeOf", "(IIII)I"⟩) ∈ lw_all := lw_g (lw_at lw_ms 9 rfl) rfl
theorem qs10 : (Cond.selects "ManyEyes" ⟨"ManyEyes", "takeOf", "(IIIII)I"⟩ ⟨"ManyEyes", "takeOf", "(IIIII)I"⟩) ∈ lw_all := lw_g (lw_at lw_ms 10 rfl) rfl
theorem qs11 : (Cond.selects "ManyEyes" ⟨"ManyEyes", "coveredBy", "(I)I"⟩ ⟨"ManyEyes", "coveredBy", "(I)I"⟩) ∈ lw_all := lw_g (lw_at lw_ms 11 rfl) rfl
theorem qs12 : (Cond.selects "ManyEyes" ⟨"ManyEyes", "weight", "(II)I"⟩ ⟨"ManyEyes", "weight", "(II)I"⟩) ∈ lw_all := lw_g (lw_at lw_ms 12 rfl) rfl
theorem qs13 : (Cond.selects "ManyEyes" ⟨"ManyEyes", "put", "(I)V"⟩ ⟨"ManyEyes", "put", "(I)V"⟩) ∈ lw_all := lw_g (lw_at lw_ms 13 rfl) rfl
theorem qs14 : (Cond.selects "ManyEyes$Tokens" ⟨"ManyEyes$Tokens", "next", "()V"⟩ ⟨"ManyEyes$Tokens", "next", "()V"⟩) ∈ lw_all := lw_g (lw_at lw_ms 14 rfl) rfl
theorem qs15 : (Cond.selects "ManyEyes$Tokens" ⟨"ManyEyes$Tokens", "isWord", "(Ljava/lang/String;)Z"⟩ ⟨"ManyEyes$Tokens", "isWord", "(Ljava/lang/String;)Z"⟩) ∈ lw_all := lw_g (lw_at lw_ms 15 rfl) rfl
theorem qs16 : (Cond.selects "ManyEyes$Tokens" ⟨"ManyEyes$Tokens", "wrong", "(I)LManyEyes$Wrong;"⟩ ⟨"ManyEyes$Tokens", "wrong", "(I)LManyEyes$Wrong;"⟩) ∈ lw_all := lw_g (lw_at lw_ms 16 rfl) rfl
theorem qs17 : (Cond.selects "java/lang/Throwable" ⟨"java/lang/Throwable", "fillInStackTrace", "(I)Ljava/lang/Throwable;"⟩ ⟨"java/lang/Throwable", "fillInStackTrace", "(I)Ljava/lang/Throwable;"⟩) ∈ lw_all := lw_g (lw_at lw_ms 17 rfl) rfl
theorem qs18 : (Cond.selects "ManyEyes$Tokens" ⟨"ManyEyes$Tokens", "letter", "()I"⟩ ⟨"ManyEyes$Tokens", "letter", "()I"⟩) ∈ lw_all := lw_g (lw_at lw_ms 18 rfl) rfl
theorem qs19 : (Cond.selects "ManyEyes$Tokens" ⟨"ManyEyes$Tokens", "either", "()LManyEyes$Asked;"⟩ ⟨"ManyEyes$Tokens", "either", "()LManyEyes$Asked;"⟩) ∈ lw_all := lw_g (lw_at lw_ms 19 rfl) rfl
theorem qs20 : (Cond.selects "ManyEyes$Tokens" ⟨"ManyEyes$Tokens", "both", "()LManyEyes$Asked;"⟩ ⟨"ManyEyes$Tokens", "both", "()LManyEyes$Asked;"⟩) ∈ lw_all := lw_g (lw_at lw_ms 20 rfl) rfl
theorem qs21 : (Cond.selects "ManyEyes$Tokens" ⟨"ManyEyes$Tokens", "ask", "()LManyEyes$Asked;"⟩ ⟨"ManyEyes$Tokens", "ask", "()LManyEyes$Asked;"⟩) ∈ lw_all := lw_g (lw_at lw_ms 21 rfl) rfl
theorem qs22 : (Cond.selects "ManyEyes$Tokens" ⟨"ManyEyes$Tokens", "opens", "()V"⟩ ⟨"ManyEyes$Tokens", "opens", "()V"⟩) ∈ lw_all := lw_g (lw_at lw_ms 22 rfl) rfl
theorem qs23 : (Cond.selects "ManyEyes$Tokens" ⟨"ManyEyes$Tokens", "sum", "()LManyEyes$Sum;"⟩ ⟨"ManyEyes$Tokens", "sum", "()LManyEyes$Sum;"⟩) ∈ lw_all := lw_g (lw_at lw_ms 23 rfl) rfl
theorem qs24 : (Cond.selects "ManyEyes$Tokens" ⟨"ManyEyes$Tokens", "product", "()LManyEyes$Sum;"⟩ ⟨"ManyEyes$Tokens", "product", "()LManyEyes$Sum;"⟩) ∈ lw_all := lw_g (lw_at lw_ms 24 rfl) rfl
theorem qs25 : (Cond.selects "ManyEyes$Tokens" ⟨"ManyEyes$Tokens", "one", "()LManyEyes$Sum;"⟩ ⟨"ManyEyes$Tokens", "one", "()LManyEyes$Sum;"⟩) ∈ lw_all := lw_g (lw_at lw_ms 25 rfl) rfl
theorem qs26 : (Cond.selects "ManyEyes$Tokens" ⟨"ManyEyes$Tokens", "number", "(II)I"⟩ ⟨"ManyEyes$Tokens", "number", "(II)I"⟩) ∈ lw_all := lw_g (lw_at lw_ms 26 rfl) rfl
theorem qs27 : (Cond.selects "ManyEyes$Tokens" ⟨"ManyEyes$Tokens", "want", "(I)V"⟩ ⟨"ManyEyes$Tokens", "want", "(I)V"⟩) ∈ lw_all := lw_g (lw_at lw_ms 27 rfl) rfl
theorem qs28 : (Cond.selects "ManyEyes" ⟨"ManyEyes", "isStart", "(III)Z"⟩ ⟨"ManyEyes", "isStart", "(III)Z"⟩) ∈ lw_all := lw_g (lw_at lw_ms 28 rfl) rfl
theorem qs29 : (Cond.selects "ManyEyes" ⟨"ManyEyes", "isEmpty", "(II)Z"⟩ ⟨"ManyEyes", "isEmpty", "(II)Z"⟩) ∈ lw_all := lw_g (lw_at lw_ms 29 rfl) rfl
theorem qs30 : (Cond.selects "ManyEyes" ⟨"ManyEyes", "flies", "(IIIIII)V"⟩ ⟨"ManyEyes", "flies", "(IIIIII)V"⟩) ∈ lw_all := lw_g (lw_at lw_ms 30 rfl) rfl
theorem qs31 : (Cond.selects "ManyEyes" ⟨"ManyEyes", "goes", "(I)V"⟩ ⟨"ManyEyes", "goes", "(I)V"⟩) ∈ lw_all := lw_g (lw_at lw_ms 31 rfl) rfl
theorem qs32 : (Cond.selects "ManyEyes" ⟨"ManyEyes", "keeps", "()I"⟩ ⟨"ManyEyes", "keeps", "()I"⟩) ∈ lw_all := lw_g (lw_at lw_ms 32 rfl) rfl
theorem qs33 : (Cond.selects "ManyEyes" ⟨"ManyEyes", "isKept", "(I)Z"⟩ ⟨"ManyEyes", "isKept", "(I)Z"⟩) ∈ lw_all := lw_g (lw_at lw_ms 33 rfl) rfl
theorem qs34 : (Cond.selects "ManyEyes" ⟨"ManyEyes", "unlike", "(IIII)I"⟩ ⟨"ManyEyes", "unlike", "(IIII)I"⟩) ∈ lw_all := lw_g (lw_at lw_ms 34 rfl) rfl
theorem qs35 : (Cond.selects "ManyEyesModel" ⟨"ManyEyesModel", "isCell", "(I)Z"⟩ ⟨"ManyEyesModel", "isCell", "(I)Z"⟩) ∈ lw_all := lw_g (lw_at lw_ms 35 rfl) rfl
theorem qs36 : (Cond.selects "ManyEyesModel" ⟨"ManyEyesModel", "markAt", "(II)I"⟩ ⟨"ManyEyesModel", "markAt", "(II)I"⟩) ∈ lw_all := lw_g (lw_at lw_ms 36 rfl) rfl
theorem qs37 : (Cond.selects "ManyEyesModel" ⟨"ManyEyesModel", "bodyAt", "(II)I"⟩ ⟨"ManyEyesModel", "bodyAt", "(II)I"⟩) ∈ lw_all := lw_g (lw_at lw_ms 37 rfl) rfl
theorem qs38 : (Cond.selects "ManyEyesModel" ⟨"ManyEyesModel", "isPlace", "(II)Z"⟩ ⟨"ManyEyesModel", "isPlace", "(II)Z"⟩) ∈ lw_all := lw_g (lw_at lw_ms 38 rfl) rfl
theorem qs39 : (Cond.selects "ManyEyesModel" ⟨"ManyEyesModel", "lay", "(I)V"⟩ ⟨"ManyEyesModel", "lay", "(I)V"⟩) ∈ lw_all := lw_g (lw_at lw_ms 39 rfl) rfl
theorem qs40 : (Cond.selects "ManyEyesModel" ⟨"ManyEyesModel", "shoot", "(III)V"⟩ ⟨"ManyEyesModel", "shoot", "(III)V"⟩) ∈ lw_all := lw_g (lw_at lw_ms 40 rfl) rfl
theorem qs41 : (Cond.selects "ManyEyesModel" ⟨"ManyEyesModel", "isLens", "(I)Z"⟩ ⟨"ManyEyesModel", "isLens", "(I)Z"⟩) ∈ lw_all := lw_g (lw_at lw_ms 41 rfl) rfl
theorem qs42 : (Cond.selects "ManyEyesModel" ⟨"ManyEyesModel", "look", "(III)V"⟩ ⟨"ManyEyesModel", "look", "(III)V"⟩) ∈ lw_all := lw_g (lw_at lw_ms 42 rfl) rfl
theorem qs43 : (Cond.selects "ManyEyesModel" ⟨"ManyEyesModel", "lensTake", "(II)I"⟩ ⟨"ManyEyesModel", "lensTake", "(II)I"⟩) ∈ lw_all := lw_g (lw_at lw_ms 43 rfl) rfl
theorem qs44 : (Cond.selects "ManyEyesModel" ⟨"ManyEyesModel", "takeOf", "(III)I"⟩ ⟨"ManyEyesModel", "takeOf", "(III)I"⟩) ∈ lw_all := lw_g (lw_at lw_ms 44 rfl) rfl
theorem qs45 : (Cond.selects "ManyEyesModel" ⟨"ManyEyesModel", "coverOf", "(I)I"⟩ ⟨"ManyEyesModel", "coverOf", "(I)I"⟩) ∈ lw_all := lw_g (lw_at lw_ms 45 rfl) rfl
theorem qs46 : (Cond.selects "ManyEyesModel" ⟨"ManyEyesModel", "apart", "(II)I"⟩ ⟨"ManyEyesModel", "apart", "(II)I"⟩) ∈ lw_all := lw_g (lw_at lw_ms 46 rfl) rfl
theorem qs47 : (Cond.selects "ManyEyesModel" ⟨"ManyEyesModel", "four", "(I)V"⟩ ⟨"ManyEyesModel", "four", "(I)V"⟩) ∈ lw_all := lw_g (lw_at lw_ms 47 rfl) rfl
theorem qs48 : (Cond.selects "ManyEyesModel" ⟨"ManyEyesModel", "readText", "()I"⟩ ⟨"ManyEyesModel", "readText", "()I"⟩) ∈ lw_all := lw_g (lw_at lw_ms 48 rfl) rfl
theorem qs49 : (Cond.selects "ManyEyesModel" ⟨"ManyEyesModel", "nextToken", "()V"⟩ ⟨"ManyEyesModel", "nextToken", "()V"⟩) ∈ lw_all := lw_g (lw_at lw_ms 49 rfl) rfl
theorem qs50 : (Cond.selects "ManyEyesModel" ⟨"ManyEyesModel", "see", "(I)I"⟩ ⟨"ManyEyesModel", "see", "(I)I"⟩) ∈ lw_all := lw_g (lw_at lw_ms 50 rfl) rfl
theorem qs51 : (Cond.selects "ManyEyesModel" ⟨"ManyEyesModel", "clause", "()I"⟩ ⟨"ManyEyesModel", "clause", "()I"⟩) ∈ lw_all := lw_g (lw_at lw_ms 51 rfl) rfl
theorem qs52 : (Cond.selects "ManyEyesModel" ⟨"ManyEyesModel", "sortOf", "()I"⟩ ⟨"ManyEyesModel", "sortOf", "()I"⟩) ∈ lw_all := lw_g (lw_at lw_ms 52 rfl) rfl
theorem qs53 : (Cond.selects "ManyEyesModel" ⟨"ManyEyesModel", "letterOf", "()I"⟩ ⟨"ManyEyesModel", "letterOf", "()I"⟩) ∈ lw_all := lw_g (lw_at lw_ms 53 rfl) rfl
theorem qs54 : (Cond.selects "ManyEyesModel" ⟨"ManyEyesModel", "either", "()I"⟩ ⟨"ManyEyesModel", "either", "()I"⟩) ∈ lw_all := lw_g (lw_at lw_ms 54 rfl) rfl
theorem qs55 : (Cond.selects "ManyEyesModel" ⟨"ManyEyesModel", "ask", "()I"⟩ ⟨"ManyEyesModel", "ask", "()I"⟩) ∈ lw_all := lw_g (lw_at lw_ms 55 rfl) rfl
theorem qs56 : (Cond.selects "ManyEyesModel" ⟨"ManyEyesModel", "isWord", "(J)Z"⟩ ⟨"ManyEyesModel", "isWord", "(J)Z"⟩) ∈ lw_all := lw_g (lw_at lw_ms 56 rfl) rfl
theorem qs57 : (Cond.selects "ManyEyesModel" ⟨"ManyEyesModel", "summed", "()I"⟩ ⟨"ManyEyesModel", "summed", "()I"⟩) ∈ lw_all := lw_g (lw_at lw_ms 57 rfl) rfl
theorem qs58 : (Cond.selects "ManyEyesModel" ⟨"ManyEyesModel", "goesOn", "()Z"⟩ ⟨"ManyEyesModel", "goesOn", "()Z"⟩) ∈ lw_all := lw_g (lw_at lw_ms 58 rfl) rfl
theorem qs59 : (Cond.selects "ManyEyesModel" ⟨"ManyEyesModel", "hasParen", "()Z"⟩ ⟨"ManyEyesModel", "hasParen", "()Z"⟩) ∈ lw_all := lw_g (lw_at lw_ms 59 rfl) rfl
theorem qs60 : (Cond.selects "ManyEyesModel" ⟨"ManyEyesModel", "behindOne", "()I"⟩ ⟨"ManyEyesModel", "behindOne", "()I"⟩) ∈ lw_all := lw_g (lw_at lw_ms 60 rfl) rfl
theorem qs61 : (Cond.selects "ManyEyesModel" ⟨"ManyEyesModel", "settle", "(I)V"⟩ ⟨"ManyEyesModel", "settle", "(I)V"⟩) ∈ lw_all := lw_g (lw_at lw_ms 61 rfl) rfl
theorem qs62 : (Cond.selects "ManyEyesModel" ⟨"ManyEyesModel", "emit", "(II)V"⟩ ⟨"ManyEyesModel", "emit", "(II)V"⟩) ∈ lw_all := lw_g (lw_at lw_ms 62 rfl) rfl
theorem qs63 : (Cond.selects "ManyEyesModel" ⟨"ManyEyesModel", "push", "(I)V"⟩ ⟨"ManyEyesModel", "push", "(I)V"⟩) ∈ lw_all := lw_g (lw_at lw_ms 63 rfl) rfl
theorem qs64 : (Cond.selects "ManyEyesModel" ⟨"ManyEyesModel", "whole", "()V"⟩ ⟨"ManyEyesModel", "whole", "()V"⟩) ∈ lw_all := lw_g (lw_at lw_ms 64 rfl) rfl
theorem qs65 : (Cond.selects "ManyEyesModel" ⟨"ManyEyesModel", "beginOne", "()I"⟩ ⟨"ManyEyesModel", "beginOne", "()I"⟩) ∈ lw_all := lw_g (lw_at lw_ms 65 rfl) rfl
theorem qs66 : (Cond.selects "ManyEyesModel" ⟨"ManyEyesModel", "eye", "(I)I"⟩ ⟨"ManyEyesModel", "eye", "(I)I"⟩) ∈ lw_all := lw_g (lw_at lw_ms 66 rfl) rfl
theorem qs67 : (Cond.selects "ManyEyesModel" ⟨"ManyEyesModel", "compareOf", "()I"⟩ ⟨"ManyEyesModel", "compareOf", "()I"⟩) ∈ lw_all := lw_g (lw_at lw_ms 67 rfl) rfl
theorem qs68 : (Cond.selects "ManyEyesModel" ⟨"ManyEyesModel", "isRule", "(I)Z"⟩ ⟨"ManyEyesModel", "isRule", "(I)Z"⟩) ∈ lw_all := lw_g (lw_at lw_ms 68 rfl) rfl
theorem qs69 : (Cond.selects "ManyEyesModel" ⟨"ManyEyesModel", "isStart", "(II)Z"⟩ ⟨"ManyEyesModel", "isStart", "(II)Z"⟩) ∈ lw_all := lw_g (lw_at lw_ms 69 rfl) rfl
theorem qs70 : (Cond.selects "ManyEyesModel" ⟨"ManyEyesModel", "run", "(IIIII)V"⟩ ⟨"ManyEyesModel", "run", "(IIIII)V"⟩) ∈ lw_all := lw_g (lw_at lw_ms 70 rfl) rfl
theorem qs71 : (Cond.selects "ManyEyesModel" ⟨"ManyEyesModel", "see", "()V"⟩ ⟨"ManyEyesModel", "see", "()V"⟩) ∈ lw_all := lw_g (lw_at lw_ms 71 rfl) rfl
theorem qs72 : (Cond.selects "ManyEyesModel" ⟨"ManyEyesModel", "think", "(I)Z"⟩ ⟨"ManyEyesModel", "think", "(I)Z"⟩) ∈ lw_all := lw_g (lw_at lw_ms 72 rfl) rfl
theorem qs73 : (Cond.selects "ManyEyesModel" ⟨"ManyEyesModel", "work", "(III)V"⟩ ⟨"ManyEyesModel", "work", "(III)V"⟩) ∈ lw_all := lw_g (lw_at lw_ms 73 rfl) rfl
theorem qs74 : (Cond.selects "ManyEyesModel" ⟨"ManyEyesModel", "valueOf", "(II)J"⟩ ⟨"ManyEyesModel", "valueOf", "(II)J"⟩) ∈ lw_all := lw_g (lw_at lw_ms 74 rfl) rfl
theorem qs75 : (Cond.selects "ManyEyesModel" ⟨"ManyEyesModel", "bring", "(J)J"⟩ ⟨"ManyEyesModel", "bring", "(J)J"⟩) ∈ lw_all := lw_g (lw_at lw_ms 75 rfl) rfl
theorem qs76 : (Cond.selects "ManyEyesModel" ⟨"ManyEyesModel", "two", "(IJJ)J"⟩ ⟨"ManyEyesModel", "two", "(IJJ)J"⟩) ∈ lw_all := lw_g (lw_at lw_ms 76 rfl) rfl
theorem qs77 : (Cond.selects "ManyEyesModel" ⟨"ManyEyesModel", "isKept", "(I)Z"⟩ ⟨"ManyEyesModel", "isKept", "(I)Z"⟩) ∈ lw_all := lw_g (lw_at lw_ms 77 rfl) rfl
theorem qs78 : (Cond.selects "ManyEyesModel" ⟨"ManyEyesModel", "unlike", "(III)I"⟩ ⟨"ManyEyesModel", "unlike", "(III)I"⟩) ∈ lw_all := lw_g (lw_at lw_ms 78 rfl) rfl
