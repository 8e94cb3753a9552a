/-! the law's 26 cases (printed by law.py) -/
set_option maxRecDepth 100000
theorem RO2.turn {Z : hZ} {hC : Nat} {A : Nat → Prop} {L : List Nat} {k ed : Nat} {rs : List (List tCl)} {LI : List Nat} {kI edI : Nat} {rsI : List (List tCl)} {H : Heap} (h : RO2 Z hC A L k ed rs LI kI edI rsI H) : RO2 Z hC A LI kI edI rsI L k ed rs H := by
  obtain ⟨h1, h2, h3, h4, h5, h6, ⟨h7, h8⟩, h9, h10⟩ := h
  exact ⟨h2, h1, fun a b e => h3 b a e.symm, h5, h4, h6, ⟨h9, h10⟩, h7, h8⟩
theorem RO.ge {Z : hZ} {hC : Nat} {A : Nat → Prop} {L : List Nat} {k ed : Nat} {rs : List (List tCl)} {H : Heap} (h : RO Z hC A L k ed rs H) (h10 : 10 ≤ k) : Z.b ≤ ed := by
  rcases h.2.1 with w | w
  · have := w.1; omega
  · exact w.2.2.2.1
theorem beX_le (k i : Nat) : beX k i ≤ 1 := by
  unfold beX
  by_cases h : k = 0 ∧ i ≠ 0
  · rw [if_pos h]; omega
  · rw [if_neg h]; omega
theorem acs_le {Z : hZ} {hC : Nat} {A : Nat → Prop} {L : List Nat} {k ed : Nat} {rs : List (List tCl)} {H : Heap} (h : RO Z hC A L k ed rs H) (h7 : rs.length ≤ 7) : acc L k ≤ 1 ∧ acs L k ≤ 10 := by
  have hl := h.2.2.2.1
  unfold acc acs
  by_cases q : L.length = k
  · rw [if_pos q, if_pos q]
    refine ⟨by omega, ?_⟩
    rcases h.2.1.cap.1 with w | w
    · rw [w]; decide
    · omega
  · rw [if_neg q, if_neg q]; exact ⟨by omega, by omega⟩
theorem BU.rule {S S' : yS} {n cells slots k0 m0 d d' : Nat} (h : BU S n cells slots) (h1 : 0 ≤ S.1 5 ∧ S.1 5 ≤ 300) (h2 : S'.1 5 = 0) (hd : d ≤ k0 + 4) (hd' : d' ≤ m0 + 31) (hk : (k0 : Int) ≤ 60 * S.1 5 + 80) (hm : (m0 : Int) ≤ 140 * S.1 5 + 260) : BU S' (n + 1) (cells + d) (slots + d') := by
  obtain ⟨a, b⟩ := h
  refine ⟨?_, by omega⟩
  rw [h2]
  omega
theorem law_0 {p : Program} {l : Launch} {e : Env} {s : State} {m : MethodId} {args : Array Value} {below : List Frame} {meth : Method} {c : Code} {H : Heap} {locs : List Loc} {cells slots : Nat} {Q : State → Prop} {ls : Array Slot} {Z : hZ} {DC DM : va_G} {dA : Nat → ClassId} {hC hM : Nat} {A : Nat → Prop} {L : List Nat} {k ed : Nat} {rs : List (List tCl)} {LI : List Nat} {kI edI : Nat} {rsI : List (List tCl)} {S : yS} {Sm : xS} {b Ls n : Nat} {xs : Nat → Int32} {i : Int} (X : lCx p c s m args Z DC DM dA) (hX : va_X b Ls xs s s.heap) (hbl : b < s.heap.size) (hl : lv_has ls 4 [(0, .ref b), (1, .ref hC), (2, .ref hM), (3, .int (zi i))]) (hi : 2 ≤ i ∧ i + 9 ≤ (Ls : Int)) (hL : Ls ≤ 578) (hb0 : s.heap.size ≤ hC) (hn : n ≤ 63) (hW : LW Z DC DM dA hC hM A L k ed rs LI kI edI rsI S Sm H) (hJ : JJ S Sm ed rs edI rsI) (hS : va_S (lA s) s.heap H locs) (hB : BU S n cells slots) (kk : lNext p l e s m args below meth c Q ls Z DC DM dA hC hM (n + 1)) : W p l e room_1 s m args below meth c H locs cells slots Q (F0 m 172 ls []) := by
  have hx := X.1.1.1
  have hb := X.1.1.2.1
  have hbM : s.heap.size ≤ hM := by have := hW.2.2.2.1; omega
  have ht := hJ.tp
  have hFc : ∀ x, cA hC x → ¬ mA hM x := fun x h => cA_mA hW.2.2.2.1 h
  obtain ⟨r, S', Sm', h1, h2, hR, hk⟩ : ∃ r S' Sm', C_mark S (sj xs (i + 1)) (sj xs (i + 2)) = some (r, S') ∧ M_mark Sm (sj xs (i + 1)) (sj xs (i + 2)) = some (r, Sm') ∧ RC S' Sm' ∧ kR S S' Sm Sm' := op_mark hJ.1.1 (sj_r _ _) (sj_r _ _)
  have hJ' : JJ S' Sm' ed rs edI rsI := hJ.kR hR hk
  have hfit : cells + 0 ≤ room_1.cells ∧ slots + 0 ≤ room_1.slots := hB.fit ht hn (by omega) (by omega)
  refine lv_aload_n hx hb dL_law_172 rfl (lv_at hl 1 rfl) ?_
  refine la_c (k := 1) X hX hbl hS hl ⟨by omega, by omega⟩ hL dL_law_173 dL_law_174 dL_law_175 dL_law_176 dL_law_177 ?_
  refine la_c (k := 2) X hX hbl hS hl ⟨by omega, by omega⟩ hL dL_law_178 dL_law_179 dL_law_180 dL_law_181 dL_law_182 ?_
  refine lc_i (r := (bz r)) (As := [.int (zi (sj xs (i + 1))), .int (zi (sj xs (i + 2)))]) X hW.1 hS hb0 (wC_mark l DC dA hC S _ _ h1) (lw_V q416 q417 q418 q80 q419) (show hdV yX1_mark "ManyEyes" 2 by decide +kernel) ⟨rfl, rfl⟩ ⟨Nat.le_of_ble_eq_true rfl, Nat.le_of_ble_eq_true rfl⟩ hfit hl.1 dL_law_183 rfl (fun H1 locs1 hP1 f1 hS1 => ?_)
  refine lv_aload_n hx hb dL_law_186 rfl (lv_at hl 2 rfl) ?_
  refine la_c (k := 1) X hX hbl hS1 hl ⟨by omega, by omega⟩ hL dL_law_187 dL_law_188 dL_law_189 dL_law_190 dL_law_191 ?_
  refine la_c (k := 2) X hX hbl hS1 hl ⟨by omega, by omega⟩ hL dL_law_192 dL_law_193 dL_law_194 dL_law_195 dL_law_196 ?_
  refine lc_m (r := (bz r)) (As := [.int (zi (sj xs (i + 1))), .int (zi (sj xs (i + 2)))]) (rest := [.int (zi (bz r))]) X (mP_keep hW.2.2.1 hFc f1) hS1 hbM (wM_mark l DM dA hM Sm _ _ h2) (lw_V q1304 q1305 q1306 q93 q1307) (show hdV yX5_mark "ManyEyesModel" 2 by decide +kernel) ⟨rfl, rfl⟩ ⟨Nat.le_of_ble_eq_true rfl, Nat.le_of_ble_eq_true rfl⟩ ⟨hfit.1, hfit.2⟩ hl.1 (Nat.le_of_ble_eq_true rfl) dL_law_197 rfl (fun H2 locs2 hP2 f2 hS2 => ?_)
  refine lv_icmp_eq (tgt := 1282) hx hb dL_law_200 (by decide) (fun _ => ?_) (fun q => absurd rfl q)
  exact kk A L k ed rs LI kI edI rsI _ _ H2 locs2 cells slots (LW.go X.1.2.1 X.2 hP1 (hW.2.1.keepC f1) (mP_keep hW.2.2.1 hFc f1) hW.2.2.2.1 hW.2.2.2.2 hP2 f2) hJ' hS2 (hB.next0 ht.1 hJ'.tp.2)
theorem law_1 {p : Program} {l : Launch} {e : Env} {s : State} {m : MethodId} {args : Array Value} {below : List Frame} {meth : Method} {c : Code} {H : Heap} {locs : List Loc} {cells slots : Nat} {Q : State → Prop} {ls : Array Slot} {Z : hZ} {DC DM : va_G} {dA : Nat → ClassId} {hC hM : Nat} {A : Nat → Prop} {L : List Nat} {k ed : Nat} {rs : List (List tCl)} {LI : List Nat} {kI edI : Nat} {rsI : List (List tCl)} {S : yS} {Sm : xS} {b Ls n : Nat} {xs : Nat → Int32} {i : Int} (X : lCx p c s m args Z DC DM dA) (hX : va_X b Ls xs s s.heap) (hbl : b < s.heap.size) (hl : lv_has ls 4 [(0, .ref b), (1, .ref hC), (2, .ref hM), (3, .int (zi i))]) (hi : 2 ≤ i ∧ i + 9 ≤ (Ls : Int)) (hL : Ls ≤ 578) (hb0 : s.heap.size ≤ hC) (hn : n ≤ 63) (hW : LW Z DC DM dA hC hM A L k ed rs LI kI edI rsI S Sm H) (hJ : JJ S Sm ed rs edI rsI) (hS : va_S (lA s) s.heap H locs) (hB : BU S n cells slots) (kk : lNext p l e s m args below meth c Q ls Z DC DM dA hC hM (n + 1)) : W p l e room_1 s m args below meth c H locs cells slots Q (F0 m 205 ls []) := by
  have hx := X.1.1.1
  have hb := X.1.1.2.1
  have hbM : s.heap.size ≤ hM := by have := hW.2.2.2.1; omega
  have ht := hJ.tp
  have hFc : ∀ x, cA hC x → ¬ mA hM x := fun x h => cA_mA hW.2.2.2.1 h
  obtain ⟨r, S', Sm', h1, h2, hR, hk⟩ : ∃ r S' Sm', C_body S (sj xs (i + 1)) (sj xs (i + 2)) (sj xs (i + 3)) (sj xs (i + 4)) = some (r, S') ∧ M_body Sm (sj xs (i + 1)) (sj xs (i + 2)) (sj xs (i + 3)) (sj xs (i + 4)) = some (r, Sm') ∧ RC S' Sm' ∧ kR S S' Sm Sm' := op_body hJ.1.1 (sj_r _ _) (sj_r _ _) (sj_r _ _) (sj_r _ _)
  have hJ' : JJ S' Sm' ed rs edI rsI := hJ.kR hR hk
  have hfit : cells + 0 ≤ room_1.cells ∧ slots + 0 ≤ room_1.slots := hB.fit ht hn (by omega) (by omega)
  have hfit1 : cells + 1 ≤ room_1.cells ∧ slots + 4 ≤ room_1.slots := hB.fit ht hn (by omega) (by omega)
  refine lv_aload_n hx hb dL_law_205 rfl (lv_at hl 1 rfl) ?_
  refine la_c (k := 1) X hX hbl hS hl ⟨by omega, by omega⟩ hL dL_law_206 dL_law_207 dL_law_208 dL_law_209 dL_law_210 ?_
  refine la_c (k := 2) X hX hbl hS hl ⟨by omega, by omega⟩ hL dL_law_211 dL_law_212 dL_law_213 dL_law_214 dL_law_215 ?_
  refine la_c (k := 3) X hX hbl hS hl ⟨by omega, by omega⟩ hL dL_law_216 dL_law_217 dL_law_218 dL_law_219 dL_law_220 ?_
  refine la_c (k := 4) X hX hbl hS hl ⟨by omega, by omega⟩ hL dL_law_221 dL_law_222 dL_law_223 dL_law_224 dL_law_225 ?_
  refine lc_A (r := r) (As := [.int (zi (sj xs (i + 1))), .int (zi (sj xs (i + 2))), .int (zi (sj xs (i + 3))), .int (zi (sj xs (i + 4)))]) X hW.1 hS hb0 (wC_body l DC dA hC H.size S _ _ _ _ h1) (lw_V q427 q428 q429 q80 q430) (show hdV yX1_body "ManyEyes" 4 by decide +kernel) ⟨rfl, rfl⟩ ⟨Nat.le_of_ble_eq_true rfl, Nat.le_of_ble_eq_true rfl⟩ hfit1 hl.1 dL_law_226 rfl (fun H1 locs1 hP1 f1 hS1 => ?_)
  refine lv_aload_n hx hb dL_law_229 rfl (lv_at hl 2 rfl) ?_
  refine la_c (k := 1) X hX hbl hS1 hl ⟨by omega, by omega⟩ hL dL_law_230 dL_law_231 dL_law_232 dL_law_233 dL_law_234 ?_
  refine la_c (k := 2) X hX hbl hS1 hl ⟨by omega, by omega⟩ hL dL_law_235 dL_law_236 dL_law_237 dL_law_238 dL_law_239 ?_
  refine la_c (k := 3) X hX hbl hS1 hl ⟨by omega, by omega⟩ hL dL_law_240 dL_law_241 dL_law_242 dL_law_243 dL_law_244 ?_
  refine la_c (k := 4) X hX hbl hS1 hl ⟨by omega, by omega⟩ hL dL_law_245 dL_law_246 dL_law_247 dL_law_248 dL_law_249 ?_
  refine lc_m (r := r) (As := [.int (zi (sj xs (i + 1))), .int (zi (sj xs (i + 2))), .int (zi (sj xs (i + 3))), .int (zi (sj xs (i + 4)))]) (rest := [.int (zi r)]) X (mP_keep hW.2.2.1 hFc f1) hS1 hbM (wM_body l DM dA hM Sm _ _ _ _ h2) (lw_V q1315 q1316 q1317 q93 q1318) (show hdV yX5_body "ManyEyesModel" 4 by decide +kernel) ⟨rfl, rfl⟩ ⟨Nat.le_of_ble_eq_true rfl, Nat.le_of_ble_eq_true rfl⟩ hfit1 hl.1 (Nat.le_of_ble_eq_true rfl) dL_law_250 rfl (fun H2 locs2 hP2 f2 hS2 => ?_)
  refine lv_icmp_eq (tgt := 1282) hx hb dL_law_253 (by decide) (fun _ => ?_) (fun q => absurd rfl q)
  exact kk A L k ed rs LI kI edI rsI _ _ H2 locs2 _ _ (LW.go X.1.2.1 X.2 hP1 (hW.2.1.keepC f1) (mP_keep hW.2.2.1 hFc f1) hW.2.2.2.1 hW.2.2.2.2 hP2 f2) hJ' hS2 (hB.next ht.1 hJ'.tp.2 (by omega) (by omega))
theorem law_2 {p : Program} {l : Launch} {e : Env} {s : State} {m : MethodId} {args : Array Value} {below : List Frame} {meth : Method} {c : Code} {H : Heap} {locs : List Loc} {cells slots : Nat} {Q : State → Prop} {ls : Array Slot} {Z : hZ} {DC DM : va_G} {dA : Nat → ClassId} {hC hM : Nat} {A : Nat → Prop} {L : List Nat} {k ed : Nat} {rs : List (List tCl)} {LI : List Nat} {kI edI : Nat} {rsI : List (List tCl)} {S : yS} {Sm : xS} {b Ls n : Nat} {xs : Nat → Int32} {i : Int} (X : lCx p c s m args Z DC DM dA) (hX : va_X b Ls xs s s.heap) (hbl : b < s.heap.size) (hl : lv_has ls 4 [(0, .ref b), (1, .ref hC), (2, .ref hM), (3, .int (zi i))]) (hi : 2 ≤ i ∧ i + 9 ≤ (Ls : Int)) (hL : Ls ≤ 578) (hb0 : s.heap.size ≤ hC) (hn : n ≤ 63) (hW : LW Z DC DM dA hC hM A L k ed rs LI kI edI rsI S Sm H) (hJ : JJ S Sm ed rs edI rsI) (hS : va_S (lA s) s.heap H locs) (hB : BU S n cells slots) (kk : lNext p l e s m args below meth c Q ls Z DC DM dA hC hM (n + 1)) : W p l e room_1 s m args below meth c H locs cells slots Q (F0 m 258 ls []) := by
  have hx := X.1.1.1
  have hb := X.1.1.2.1
  have hbM : s.heap.size ≤ hM := by have := hW.2.2.2.1; omega
  have ht := hJ.tp
  have hFc : ∀ x, cA hC x → ¬ mA hM x := fun x h => cA_mA hW.2.2.2.1 h
  obtain ⟨r, S', h1, h2, hs⟩ : ∃ r S', C_markOf S (sj xs (i + 1)) (sj xs (i + 2)) = some (r, S') ∧ M_markOf Sm (sj xs (i + 1)) (sj xs (i + 2)) = some r ∧ sc S S' := op_markOf hJ.1.1 (sj_r _ _) (sj_r _ _)
  have hJ' : JJ S' Sm ed rs edI rsI := hJ.kR (hJ.1.1.sc hs (scM.rf Sm)).1 (hJ.1.1.sc hs (scM.rf Sm)).2
  have hfit : cells + 0 ≤ room_1.cells ∧ slots + 0 ≤ room_1.slots := hB.fit ht hn (by omega) (by omega)
  refine lv_aload_n hx hb dL_law_258 rfl (lv_at hl 1 rfl) ?_
  refine la_c (k := 1) X hX hbl hS hl ⟨by omega, by omega⟩ hL dL_law_259 dL_law_260 dL_law_261 dL_law_262 dL_law_263 ?_
  refine la_c (k := 2) X hX hbl hS hl ⟨by omega, by omega⟩ hL dL_law_264 dL_law_265 dL_law_266 dL_law_267 dL_law_268 ?_
  refine lc_i (r := r) (As := [.int (zi (sj xs (i + 1))), .int (zi (sj xs (i + 2)))]) X hW.1 hS hb0 (wC_markOf l DC dA hC S _ _ h1) (lw_V q439 q440 q441 q80 q442) (show hdV yX1_markOf "ManyEyes" 2 by decide +kernel) ⟨rfl, rfl⟩ ⟨Nat.le_of_ble_eq_true rfl, Nat.le_of_ble_eq_true rfl⟩ hfit hl.1 dL_law_269 rfl (fun H1 locs1 hP1 f1 hS1 => ?_)
  refine lv_aload_n hx hb dL_law_272 rfl (lv_at hl 2 rfl) ?_
  refine la_c (k := 1) X hX hbl hS1 hl ⟨by omega, by omega⟩ hL dL_law_273 dL_law_274 dL_law_275 dL_law_276 dL_law_277 ?_
  refine la_c (k := 2) X hX hbl hS1 hl ⟨by omega, by omega⟩ hL dL_law_278 dL_law_279 dL_law_280 dL_law_281 dL_law_282 ?_
  refine lc_m (r := r) (As := [.int (zi (sj xs (i + 1))), .int (zi (sj xs (i + 2)))]) (rest := [.int (zi r)]) X (mP_keep hW.2.2.1 hFc f1) hS1 hbM (wM_markOf l DM dA hM Sm _ _ h2) (lw_V q1319 q1320 q1321 q93 q1322) (show hdV yX5_markOf "ManyEyesModel" 2 by decide +kernel) ⟨rfl, rfl⟩ ⟨Nat.le_of_ble_eq_true rfl, Nat.le_of_ble_eq_true rfl⟩ ⟨hfit.1, hfit.2⟩ hl.1 (Nat.le_of_ble_eq_true rfl) dL_law_283 rfl (fun H2 locs2 hP2 f2 hS2 => ?_)
  refine lv_icmp_eq (tgt := 1282) hx hb dL_law_286 (by decide) (fun _ => ?_) (fun q => absurd rfl q)
  exact kk A L k ed rs LI kI edI rsI _ _ H2 locs2 cells slots (LW.go X.1.2.1 X.2 hP1 (hW.2.1.keepC f1) (mP_keep hW.2.2.1 hFc f1) hW.2.2.2.1 hW.2.2.2.2 hP2 f2) hJ' hS2 (hB.next0 ht.1 hJ'.tp.2)
theorem law_3 {p : Program} {l : Launch} {e : Env} {s : State} {m : MethodId} {args : Array Value} {below : List Frame} {meth : Method} {c : Code} {H : Heap} {locs : List Loc} {cells slots : Nat} {Q : State → Prop} {ls : Array Slot} {Z : hZ} {DC DM : va_G} {dA : Nat → ClassId} {hC hM : Nat} {A : Nat → Prop} {L : List Nat} {k ed : Nat} {rs : List (List tCl)} {LI : List Nat} {kI edI : Nat} {rsI : List (List tCl)} {S : yS} {Sm : xS} {b Ls n : Nat} {xs : Nat → Int32} {i : Int} (X : lCx p c s m args Z DC DM dA) (hX : va_X b Ls xs s s.heap) (hbl : b < s.heap.size) (hl : lv_has ls 4 [(0, .ref b), (1, .ref hC), (2, .ref hM), (3, .int (zi i))]) (hi : 2 ≤ i ∧ i + 9 ≤ (Ls : Int)) (hL : Ls ≤ 578) (hb0 : s.heap.size ≤ hC) (hn : n ≤ 63) (hW : LW Z DC DM dA hC hM A L k ed rs LI kI edI rsI S Sm H) (hJ : JJ S Sm ed rs edI rsI) (hS : va_S (lA s) s.heap H locs) (hB : BU S n cells slots) (kk : lNext p l e s m args below meth c Q ls Z DC DM dA hC hM (n + 1)) : W p l e room_1 s m args below meth c H locs cells slots Q (F0 m 291 ls []) := by
  have hx := X.1.1.1
  have hb := X.1.1.2.1
  have hbM : s.heap.size ≤ hM := by have := hW.2.2.2.1; omega
  have ht := hJ.tp
  have hFc : ∀ x, cA hC x → ¬ mA hM x := fun x h => cA_mA hW.2.2.2.1 h
  obtain ⟨r, S', Sm', h1, h2, hR, hk⟩ : ∃ r S' Sm', C_lens S (sj xs (i + 1)) (sj xs (i + 2)) = some (r, S') ∧ M_lens Sm (sj xs (i + 1)) (sj xs (i + 2)) = some (r, Sm') ∧ RC S' Sm' ∧ kR S S' Sm Sm' := op_lens hJ.1.1 (sj_r _ _) (sj_r _ _)
  have hJ' : JJ S' Sm' ed rs edI rsI := hJ.kR hR hk
  have hfit : cells + 0 ≤ room_1.cells ∧ slots + 0 ≤ room_1.slots := hB.fit ht hn (by omega) (by omega)
  have hfit1 : cells + 1 ≤ room_1.cells ∧ slots + 2 ≤ room_1.slots := hB.fit ht hn (by omega) (by omega)
  refine lv_aload_n hx hb dL_law_291 rfl (lv_at hl 1 rfl) ?_
  refine la_c (k := 1) X hX hbl hS hl ⟨by omega, by omega⟩ hL dL_law_292 dL_law_293 dL_law_294 dL_law_295 dL_law_296 ?_
  refine la_c (k := 2) X hX hbl hS hl ⟨by omega, by omega⟩ hL dL_law_297 dL_law_298 dL_law_299 dL_law_300 dL_law_301 ?_
  refine lc_A (r := r) (As := [.int (zi (sj xs (i + 1))), .int (zi (sj xs (i + 2)))]) X hW.1 hS hb0 (wC_lens l DC dA hC H.size S _ _ h1) (lw_V q471 q472 q473 q80 q474) (show hdV yX1_lens "ManyEyes" 2 by decide +kernel) ⟨rfl, rfl⟩ ⟨Nat.le_of_ble_eq_true rfl, Nat.le_of_ble_eq_true rfl⟩ hfit1 hl.1 dL_law_302 rfl (fun H1 locs1 hP1 f1 hS1 => ?_)
  refine lv_aload_n hx hb dL_law_305 rfl (lv_at hl 2 rfl) ?_
  refine la_c (k := 1) X hX hbl hS1 hl ⟨by omega, by omega⟩ hL dL_law_306 dL_law_307 dL_law_308 dL_law_309 dL_law_310 ?_
  refine la_c (k := 2) X hX hbl hS1 hl ⟨by omega, by omega⟩ hL dL_law_311 dL_law_312 dL_law_313 dL_law_314 dL_law_315 ?_
  refine lc_m (r := r) (As := [.int (zi (sj xs (i + 1))), .int (zi (sj xs (i + 2)))]) (rest := [.int (zi r)]) X (mP_keep hW.2.2.1 hFc f1) hS1 hbM (wM_lens l DM dA hM Sm _ _ h2) (lw_V q1362 q1363 q1364 q93 q1365) (show hdV yX5_lens "ManyEyesModel" 2 by decide +kernel) ⟨rfl, rfl⟩ ⟨Nat.le_of_ble_eq_true rfl, Nat.le_of_ble_eq_true rfl⟩ hfit1 hl.1 (Nat.le_of_ble_eq_true rfl) dL_law_316 rfl (fun H2 locs2 hP2 f2 hS2 => ?_)
  refine lv_icmp_eq (tgt := 1282) hx hb dL_law_319 (by decide) (fun _ => ?_) (fun q => absurd rfl q)
  exact kk A L k ed rs LI kI edI rsI _ _ H2 locs2 _ _ (LW.go X.1.2.1 X.2 hP1 (hW.2.1.keepC f1) (mP_keep hW.2.2.1 hFc f1) hW.2.2.2.1 hW.2.2.2.2 hP2 f2) hJ' hS2 (hB.next ht.1 hJ'.tp.2 (by omega) (by omega))
theorem law_4 {p : Program} {l : Launch} {e : Env} {s : State} {m : MethodId} {args : Array Value} {below : List Frame} {meth : Method} {c : Code} {H : Heap} {locs : List Loc} {cells slots : Nat} {Q : State → Prop} {ls : Array Slot} {Z : hZ} {DC DM : va_G} {dA : Nat → ClassId} {hC hM : Nat} {A : Nat → Prop} {L : List Nat} {k ed : Nat} {rs : List (List tCl)} {LI : List Nat} {kI edI : Nat} {rsI : List (List tCl)} {S : yS} {Sm : xS} {b Ls n : Nat} {xs : Nat → Int32} {i : Int} (X : lCx p c s m args Z DC DM dA) (hX : va_X b Ls xs s s.heap) (hbl : b < s.heap.size) (hl : lv_has ls 4 [(0, .ref b), (1, .ref hC), (2, .ref hM), (3, .int (zi i))]) (hi : 2 ≤ i ∧ i + 9 ≤ (Ls : Int)) (hL : Ls ≤ 578) (hb0 : s.heap.size ≤ hC) (hn : n ≤ 63) (hW : LW Z DC DM dA hC hM A L k ed rs LI kI edI rsI S Sm H) (hJ : JJ S Sm ed rs edI rsI) (hS : va_S (lA s) s.heap H locs) (hB : BU S n cells slots) (kk : lNext p l e s m args below meth c Q ls Z DC DM dA hC hM (n + 1)) : W p l e room_1 s m args below meth c H locs cells slots Q (F0 m 324 ls []) := by
  have hx := X.1.1.1
  have hb := X.1.1.2.1
  have hbM : s.heap.size ≤ hM := by have := hW.2.2.2.1; omega
  have ht := hJ.tp
  have hFc : ∀ x, cA hC x → ¬ mA hM x := fun x h => cA_mA hW.2.2.2.1 h
  obtain ⟨r, S', Sm', h1, h2, hR, hk⟩ : ∃ r S' Sm', C_pair S (sj xs (i + 1)) (sj xs (i + 2)) (sj xs (i + 3)) = some (r, S') ∧ M_pair Sm (sj xs (i + 1)) (sj xs (i + 2)) (sj xs (i + 3)) = some (r, Sm') ∧ RC S' Sm' ∧ kR S S' Sm Sm' := op_pair hJ.1.1 (sj_r _ _) (sj_r _ _) (sj_r _ _)
  have hJ' : JJ S' Sm' ed rs edI rsI := hJ.kR hR hk
  have hfit : cells + 0 ≤ room_1.cells ∧ slots + 0 ≤ room_1.slots := hB.fit ht hn (by omega) (by omega)
  have hfit1 : cells + 1 ≤ room_1.cells ∧ slots + 3 ≤ room_1.slots := hB.fit ht hn (by omega) (by omega)
  refine lv_aload_n hx hb dL_law_324 rfl (lv_at hl 1 rfl) ?_
  refine la_c (k := 1) X hX hbl hS hl ⟨by omega, by omega⟩ hL dL_law_325 dL_law_326 dL_law_327 dL_law_328 dL_law_329 ?_
  refine la_c (k := 2) X hX hbl hS hl ⟨by omega, by omega⟩ hL dL_law_330 dL_law_331 dL_law_332 dL_law_333 dL_law_334 ?_
  refine la_c (k := 3) X hX hbl hS hl ⟨by omega, by omega⟩ hL dL_law_335 dL_law_336 dL_law_337 dL_law_338 dL_law_339 ?_
  refine lc_A (r := r) (As := [.int (zi (sj xs (i + 1))), .int (zi (sj xs (i + 2))), .int (zi (sj xs (i + 3)))]) X hW.1 hS hb0 (wC_pair l DC dA hC H.size S _ _ _ h1) (lw_V q497 q498 q499 q80 q500) (show hdV yX1_pair "ManyEyes" 3 by decide +kernel) ⟨rfl, rfl⟩ ⟨Nat.le_of_ble_eq_true rfl, Nat.le_of_ble_eq_true rfl⟩ hfit1 hl.1 dL_law_340 rfl (fun H1 locs1 hP1 f1 hS1 => ?_)
  refine lv_aload_n hx hb dL_law_343 rfl (lv_at hl 2 rfl) ?_
  refine la_c (k := 1) X hX hbl hS1 hl ⟨by omega, by omega⟩ hL dL_law_344 dL_law_345 dL_law_346 dL_law_347 dL_law_348 ?_
  refine la_c (k := 2) X hX hbl hS1 hl ⟨by omega, by omega⟩ hL dL_law_349 dL_law_350 dL_law_351 dL_law_352 dL_law_353 ?_
  refine la_c (k := 3) X hX hbl hS1 hl ⟨by omega, by omega⟩ hL dL_law_354 dL_law_355 dL_law_356 dL_law_357 dL_law_358 ?_
  refine lc_m (r := r) (As := [.int (zi (sj xs (i + 1))), .int (zi (sj xs (i + 2))), .int (zi (sj xs (i + 3)))]) (rest := [.int (zi r)]) X (mP_keep hW.2.2.1 hFc f1) hS1 hbM (wM_pair l DM dA hM Sm _ _ _ h2) (lw_V q1366 q1367 q1368 q93 q1369) (show hdV yX5_pair "ManyEyesModel" 3 by decide +kernel) ⟨rfl, rfl⟩ ⟨Nat.le_of_ble_eq_true rfl, Nat.le_of_ble_eq_true rfl⟩ hfit1 hl.1 (Nat.le_of_ble_eq_true rfl) dL_law_359 rfl (fun H2 locs2 hP2 f2 hS2 => ?_)
  refine lv_icmp_eq (tgt := 1282) hx hb dL_law_362 (by decide) (fun _ => ?_) (fun q => absurd rfl q)
  exact kk A L k ed rs LI kI edI rsI _ _ H2 locs2 _ _ (LW.go X.1.2.1 X.2 hP1 (hW.2.1.keepC f1) (mP_keep hW.2.2.1 hFc f1) hW.2.2.2.1 hW.2.2.2.2 hP2 f2) hJ' hS2 (hB.next ht.1 hJ'.tp.2 (by omega) (by omega))
theorem law_5 {p : Program} {l : Launch} {e : Env} {s : State} {m : MethodId} {args : Array Value} {below : List Frame} {meth : Method} {c : Code} {H : Heap} {locs : List Loc} {cells slots : Nat} {Q : State → Prop} {ls : Array Slot} {Z : hZ} {DC DM : va_G} {dA : Nat → ClassId} {hC hM : Nat} {A : Nat → Prop} {L : List Nat} {k ed : Nat} {rs : List (List tCl)} {LI : List Nat} {kI edI : Nat} {rsI : List (List tCl)} {S : yS} {Sm : xS} {b Ls n : Nat} {xs : Nat → Int32} {i : Int} (X : lCx p c s m args Z DC DM dA) (hX : va_X b Ls xs s s.heap) (hbl : b < s.heap.size) (hl : lv_has ls 4 [(0, .ref b), (1, .ref hC), (2, .ref hM), (3, .int (zi i))]) (hi : 2 ≤ i ∧ i + 9 ≤ (Ls : Int)) (hL : Ls ≤ 578) (hb0 : s.heap.size ≤ hC) (hn : n ≤ 63) (hW : LW Z DC DM dA hC hM A L k ed rs LI kI edI rsI S Sm H) (hJ : JJ S Sm ed rs edI rsI) (hS : va_S (lA s) s.heap H locs) (hB : BU S n cells slots) (kk : lNext p l e s m args below meth c Q ls Z DC DM dA hC hM (n + 1)) : W p l e room_1 s m args below meth c H locs cells slots Q (F0 m 367 ls []) := by
  have hx := X.1.1.1
  have hb := X.1.1.2.1
  have hbM : s.heap.size ≤ hM := by have := hW.2.2.2.1; omega
  have ht := hJ.tp
  have hFc : ∀ x, cA hC x → ¬ mA hM x := fun x h => cA_mA hW.2.2.2.1 h
  obtain ⟨r, S', Sm', h1, h2, hs, hm⟩ : ∃ r S' Sm', C_ray S (sj xs (i + 1)) (sj xs (i + 2)) (sj xs (i + 3)) (sj xs (i + 4)) (nz (sj xs (i + 5))) = some (r, S') ∧ M_ray Sm (sj xs (i + 1)) (sj xs (i + 2)) (sj xs (i + 3)) (sj xs (i + 4)) (nz (sj xs (i + 5))) = some (r, Sm') ∧ sc S S' ∧ scM Sm Sm' := op_ray hJ.1.1 (sj_r _ _) (sj_r _ _) (sj_r _ _) (sj_r _ _) (nz_r _)
  have hJ' : JJ S' Sm' ed rs edI rsI := hJ.kR (hJ.1.1.sc hs hm).1 (hJ.1.1.sc hs hm).2
  have hfit : cells + 0 ≤ room_1.cells ∧ slots + 0 ≤ room_1.slots := hB.fit ht hn (by omega) (by omega)
  refine lv_aload_n hx hb dL_law_367 rfl (lv_at hl 1 rfl) ?_
  refine la_c (k := 1) X hX hbl hS hl ⟨by omega, by omega⟩ hL dL_law_368 dL_law_369 dL_law_370 dL_law_371 dL_law_372 ?_
  refine la_c (k := 2) X hX hbl hS hl ⟨by omega, by omega⟩ hL dL_law_373 dL_law_374 dL_law_375 dL_law_376 dL_law_377 ?_
  refine la_c (k := 3) X hX hbl hS hl ⟨by omega, by omega⟩ hL dL_law_378 dL_law_379 dL_law_380 dL_law_381 dL_law_382 ?_
  refine la_c (k := 4) X hX hbl hS hl ⟨by omega, by omega⟩ hL dL_law_383 dL_law_384 dL_law_385 dL_law_386 dL_law_387 ?_
  refine la_c (k := 5) X hX hbl hS hl ⟨by omega, by omega⟩ hL dL_law_388 dL_law_389 dL_law_390 dL_law_391 dL_law_392 ?_
  refine la_z X (sj_r _ _) dL_law_393 dL_law_396 dL_law_397 dL_law_400 ?_
  refine lc_i (r := r) (As := [.int (zi (sj xs (i + 1))), .int (zi (sj xs (i + 2))), .int (zi (sj xs (i + 3))), .int (zi (sj xs (i + 4))), .int (zi (nz (sj xs (i + 5))))]) X hW.1 hS hb0 (wC_ray l DC dA hC S _ _ _ _ _ h1) (lw_V q447 q448 q449 q80 q450) (show hdV yX1_ray "ManyEyes" 5 by decide +kernel) ⟨rfl, rfl⟩ ⟨Nat.le_of_ble_eq_true rfl, Nat.le_of_ble_eq_true rfl⟩ hfit hl.1 dL_law_401 rfl (fun H1 locs1 hP1 f1 hS1 => ?_)
  refine lv_aload_n hx hb dL_law_404 rfl (lv_at hl 2 rfl) ?_
  refine la_c (k := 1) X hX hbl hS1 hl ⟨by omega, by omega⟩ hL dL_law_405 dL_law_406 dL_law_407 dL_law_408 dL_law_409 ?_
  refine la_c (k := 2) X hX hbl hS1 hl ⟨by omega, by omega⟩ hL dL_law_410 dL_law_411 dL_law_412 dL_law_413 dL_law_414 ?_
  refine la_c (k := 3) X hX hbl hS1 hl ⟨by omega, by omega⟩ hL dL_law_415 dL_law_416 dL_law_417 dL_law_418 dL_law_419 ?_
  refine la_c (k := 4) X hX hbl hS1 hl ⟨by omega, by omega⟩ hL dL_law_420 dL_law_421 dL_law_422 dL_law_423 dL_law_424 ?_
  refine la_c (k := 5) X hX hbl hS1 hl ⟨by omega, by omega⟩ hL dL_law_425 dL_law_426 dL_law_427 dL_law_428 dL_law_429 ?_
  refine la_z X (sj_r _ _) dL_law_430 dL_law_433 dL_law_434 dL_law_437 ?_
  refine lc_m (r := r) (As := [.int (zi (sj xs (i + 1))), .int (zi (sj xs (i + 2))), .int (zi (sj xs (i + 3))), .int (zi (sj xs (i + 4))), .int (zi (nz (sj xs (i + 5))))]) (rest := [.int (zi r)]) X (mP_keep hW.2.2.1 hFc f1) hS1 hbM (wM_ray l DM dA hM Sm _ _ _ _ _ h2) (lw_V q1334 q1335 q1336 q93 q1337) (show hdV yX5_ray "ManyEyesModel" 5 by decide +kernel) ⟨rfl, rfl⟩ ⟨Nat.le_of_ble_eq_true rfl, Nat.le_of_ble_eq_true rfl⟩ ⟨hfit.1, hfit.2⟩ hl.1 (Nat.le_of_ble_eq_true rfl) dL_law_438 rfl (fun H2 locs2 hP2 f2 hS2 => ?_)
  refine lv_icmp_eq (tgt := 1282) hx hb dL_law_441 (by decide) (fun _ => ?_) (fun q => absurd rfl q)
  exact kk A L k ed rs LI kI edI rsI _ _ H2 locs2 cells slots (LW.go X.1.2.1 X.2 hP1 (hW.2.1.keepC f1) (mP_keep hW.2.2.1 hFc f1) hW.2.2.2.1 hW.2.2.2.2 hP2 f2) hJ' hS2 (hB.next0 ht.1 hJ'.tp.2)
theorem law_6 {p : Program} {l : Launch} {e : Env} {s : State} {m : MethodId} {args : Array Value} {below : List Frame} {meth : Method} {c : Code} {H : Heap} {locs : List Loc} {cells slots : Nat} {Q : State → Prop} {ls : Array Slot} {Z : hZ} {DC DM : va_G} {dA : Nat → ClassId} {hC hM : Nat} {A : Nat → Prop} {L : List Nat} {k ed : Nat} {rs : List (List tCl)} {LI : List Nat} {kI edI : Nat} {rsI : List (List tCl)} {S : yS} {Sm : xS} {b Ls n : Nat} {xs : Nat → Int32} {i : Int} (X : lCx p c s m args Z DC DM dA) (hX : va_X b Ls xs s s.heap) (hbl : b < s.heap.size) (hl : lv_has ls 4 [(0, .ref b), (1, .ref hC), (2, .ref hM), (3, .int (zi i))]) (hi : 2 ≤ i ∧ i + 9 ≤ (Ls : Int)) (hL : Ls ≤ 578) (hb0 : s.heap.size ≤ hC) (hn : n ≤ 63) (hW : LW Z DC DM dA hC hM A L k ed rs LI kI edI rsI S Sm H) (hJ : JJ S Sm ed rs edI rsI) (hS : va_S (lA s) s.heap H locs) (hB : BU S n cells slots) (kk : lNext p l e s m args below meth c Q ls Z DC DM dA hC hM (n + 1)) : W p l e room_1 s m args below meth c H locs cells slots Q (F0 m 446 ls []) := by
  have hx := X.1.1.1
  have hb := X.1.1.2.1
  have hbM : s.heap.size ≤ hM := by have := hW.2.2.2.1; omega
  have ht := hJ.tp
  have hFc : ∀ x, cA hC x → ¬ mA hM x := fun x h => cA_mA hW.2.2.2.1 h
  obtain ⟨r, S', Sm', h1, h2, hs, hm⟩ : ∃ r S' Sm', C_take S (sj xs (i + 1)) (sj xs (i + 2)) (sj xs (i + 3)) (sj xs (i + 4)) (sj xs (i + 5)) = some (r, S') ∧ M_take Sm (sj xs (i + 1)) (sj xs (i + 2)) (sj xs (i + 3)) (sj xs (i + 4)) (sj xs (i + 5)) = some (r, Sm') ∧ sc S S' ∧ scM Sm Sm' := op_take hJ.1.1 (sj_r _ _) (sj_r _ _) (sj_r _ _) (sj_r _ _) (sj_r _ _)
  have hJ' : JJ S' Sm' ed rs edI rsI := hJ.kR (hJ.1.1.sc hs hm).1 (hJ.1.1.sc hs hm).2
  have hfit : cells + 0 ≤ room_1.cells ∧ slots + 0 ≤ room_1.slots := hB.fit ht hn (by omega) (by omega)
  refine lv_aload_n hx hb dL_law_446 rfl (lv_at hl 1 rfl) ?_
  refine la_c (k := 1) X hX hbl hS hl ⟨by omega, by omega⟩ hL dL_law_447 dL_law_448 dL_law_449 dL_law_450 dL_law_451 ?_
  refine la_c (k := 2) X hX hbl hS hl ⟨by omega, by omega⟩ hL dL_law_452 dL_law_453 dL_law_454 dL_law_455 dL_law_456 ?_
  refine la_c (k := 3) X hX hbl hS hl ⟨by omega, by omega⟩ hL dL_law_457 dL_law_458 dL_law_459 dL_law_460 dL_law_461 ?_
  refine la_c (k := 4) X hX hbl hS hl ⟨by omega, by omega⟩ hL dL_law_462 dL_law_463 dL_law_464 dL_law_465 dL_law_466 ?_
  refine la_c (k := 5) X hX hbl hS hl ⟨by omega, by omega⟩ hL dL_law_467 dL_law_468 dL_law_469 dL_law_470 dL_law_471 ?_
  refine lc_i (r := r) (As := [.int (zi (sj xs (i + 1))), .int (zi (sj xs (i + 2))), .int (zi (sj xs (i + 3))), .int (zi (sj xs (i + 4))), .int (zi (sj xs (i + 5)))]) X hW.1 hS hb0 (wC_take l DC dA hC S _ _ _ _ _ h1) (lw_V q475 q476 q477 q80 q478) (show hdV yX1_take "ManyEyes" 5 by decide +kernel) ⟨rfl, rfl⟩ ⟨Nat.le_of_ble_eq_true rfl, Nat.le_of_ble_eq_true rfl⟩ hfit hl.1 dL_law_472 rfl (fun H1 locs1 hP1 f1 hS1 => ?_)
  refine lv_aload_n hx hb dL_law_475 rfl (lv_at hl 2 rfl) ?_
  refine la_c (k := 1) X hX hbl hS1 hl ⟨by omega, by omega⟩ hL dL_law_476 dL_law_477 dL_law_478 dL_law_479 dL_law_480 ?_
  refine la_c (k := 2) X hX hbl hS1 hl ⟨by omega, by omega⟩ hL dL_law_481 dL_law_482 dL_law_483 dL_law_484 dL_law_485 ?_
  refine la_c (k := 3) X hX hbl hS1 hl ⟨by omega, by omega⟩ hL dL_law_486 dL_law_487 dL_law_488 dL_law_489 dL_law_490 ?_
  refine la_c (k := 4) X hX hbl hS1 hl ⟨by omega, by omega⟩ hL dL_law_491 dL_law_492 dL_law_493 dL_law_494 dL_law_495 ?_
  refine la_c (k := 5) X hX hbl hS1 hl ⟨by omega, by omega⟩ hL dL_law_496 dL_law_497 dL_law_498 dL_law_499 dL_law_500 ?_
  refine lc_m (r := r) (As := [.int (zi (sj xs (i + 1))), .int (zi (sj xs (i + 2))), .int (zi (sj xs (i + 3))), .int (zi (sj xs (i + 4))), .int (zi (sj xs (i + 5)))]) (rest := [.int (zi r)]) X (mP_keep hW.2.2.1 hFc f1) hS1 hbM (wM_take l DM dA hM Sm _ _ _ _ _ h2) (lw_V q1374 q1375 q1376 q93 q1377) (show hdV yX5_take "ManyEyesModel" 5 by decide +kernel) ⟨rfl, rfl⟩ ⟨Nat.le_of_ble_eq_true rfl, Nat.le_of_ble_eq_true rfl⟩ ⟨hfit.1, hfit.2⟩ hl.1 (Nat.le_of_ble_eq_true rfl) dL_law_501 rfl (fun H2 locs2 hP2 f2 hS2 => ?_)
  refine lv_icmp_eq (tgt := 1282) hx hb dL_law_504 (by decide) (fun _ => ?_) (fun q => absurd rfl q)
  exact kk A L k ed rs LI kI edI rsI _ _ H2 locs2 cells slots (LW.go X.1.2.1 X.2 hP1 (hW.2.1.keepC f1) (mP_keep hW.2.2.1 hFc f1) hW.2.2.2.1 hW.2.2.2.2 hP2 f2) hJ' hS2 (hB.next0 ht.1 hJ'.tp.2)
theorem law_7 {p : Program} {l : Launch} {e : Env} {s : State} {m : MethodId} {args : Array Value} {below : List Frame} {meth : Method} {c : Code} {H : Heap} {locs : List Loc} {cells slots : Nat} {Q : State → Prop} {ls : Array Slot} {Z : hZ} {DC DM : va_G} {dA : Nat → ClassId} {hC hM : Nat} {A : Nat → Prop} {L : List Nat} {k ed : Nat} {rs : List (List tCl)} {LI : List Nat} {kI edI : Nat} {rsI : List (List tCl)} {S : yS} {Sm : xS} {b Ls n : Nat} {xs : Nat → Int32} {i : Int} (X : lCx p c s m args Z DC DM dA) (hX : va_X b Ls xs s s.heap) (hbl : b < s.heap.size) (hl : lv_has ls 4 [(0, .ref b), (1, .ref hC), (2, .ref hM), (3, .int (zi i))]) (hi : 2 ≤ i ∧ i + 9 ≤ (Ls : Int)) (hL : Ls ≤ 578) (hb0 : s.heap.size ≤ hC) (hn : n ≤ 63) (hW : LW Z DC DM dA hC hM A L k ed rs LI kI edI rsI S Sm H) (hJ : JJ S Sm ed rs edI rsI) (hS : va_S (lA s) s.heap H locs) (hB : BU S n cells slots) (kk : lNext p l e s m args below meth c Q ls Z DC DM dA hC hM (n + 1)) : W p l e room_1 s m args below meth c H locs cells slots Q (F0 m 509 ls []) := by
  have hx := X.1.1.1
  have hb := X.1.1.2.1
  have hbM : s.heap.size ≤ hM := by have := hW.2.2.2.1; omega
  have ht := hJ.tp
  have hFc : ∀ x, cA hC x → ¬ mA hM x := fun x h => cA_mA hW.2.2.2.1 h
  obtain ⟨r, h1, h2⟩ : ∃ r, C_covered S (sj xs (i + 1)) = some r ∧ M_covered Sm (sj xs (i + 1)) = some r := op_covered hJ.1.1 (sj_r _ _)
  have hJ' : JJ S Sm ed rs edI rsI := hJ
  have hfit : cells + 0 ≤ room_1.cells ∧ slots + 0 ≤ room_1.slots := hB.fit ht hn (by omega) (by omega)
  refine lv_aload_n hx hb dL_law_509 rfl (lv_at hl 1 rfl) ?_
  refine la_c (k := 1) X hX hbl hS hl ⟨by omega, by omega⟩ hL dL_law_510 dL_law_511 dL_law_512 dL_law_513 dL_law_514 ?_
  refine lc_i (r := r) (As := [.int (zi (sj xs (i + 1)))]) X hW.1 hS hb0 (wC_covered l DC dA hC S _ h1) (lw_V q501 q502 q503 q80 q504) (show hdV yX1_covered "ManyEyes" 1 by decide +kernel) ⟨rfl, rfl⟩ ⟨Nat.le_of_ble_eq_true rfl, Nat.le_of_ble_eq_true rfl⟩ hfit hl.1 dL_law_515 rfl (fun H1 locs1 hP1 f1 hS1 => ?_)
  refine lv_aload_n hx hb dL_law_518 rfl (lv_at hl 2 rfl) ?_
  refine la_c (k := 1) X hX hbl hS1 hl ⟨by omega, by omega⟩ hL dL_law_519 dL_law_520 dL_law_521 dL_law_522 dL_law_523 ?_
  refine lc_m (r := r) (As := [.int (zi (sj xs (i + 1)))]) (rest := [.int (zi r)]) X (mP_keep hW.2.2.1 hFc f1) hS1 hbM (wM_covered l DM dA hM Sm _ h2) (lw_V q1393 q1394 q1395 q93 q1396) (show hdV yX5_covered "ManyEyesModel" 1 by decide +kernel) ⟨rfl, rfl⟩ ⟨Nat.le_of_ble_eq_true rfl, Nat.le_of_ble_eq_true rfl⟩ ⟨hfit.1, hfit.2⟩ hl.1 (Nat.le_of_ble_eq_true rfl) dL_law_524 rfl (fun H2 locs2 hP2 f2 hS2 => ?_)
  refine lv_icmp_eq (tgt := 1282) hx hb dL_law_527 (by decide) (fun _ => ?_) (fun q => absurd rfl q)
  exact kk A L k ed rs LI kI edI rsI _ _ H2 locs2 cells slots (LW.go X.1.2.1 X.2 hP1 (hW.2.1.keepC f1) (mP_keep hW.2.2.1 hFc f1) hW.2.2.2.1 hW.2.2.2.2 hP2 f2) hJ' hS2 (hB.next0 ht.1 hJ'.tp.2)
theorem law_8 {p : Program} {l : Launch} {e : Env} {s : State} {m : MethodId} {args : Array Value} {below : List Frame} {meth : Method} {c : Code} {H : Heap} {locs : List Loc} {cells slots : Nat} {Q : State → Prop} {ls : Array Slot} {Z : hZ} {DC DM : va_G} {dA : Nat → ClassId} {hC hM : Nat} {A : Nat → Prop} {L : List Nat} {k ed : Nat} {rs : List (List tCl)} {LI : List Nat} {kI edI : Nat} {rsI : List (List tCl)} {S : yS} {Sm : xS} {b Ls n : Nat} {xs : Nat → Int32} {i : Int} (X : lCx p c s m args Z DC DM dA) (hX : va_X b Ls xs s s.heap) (hbl : b < s.heap.size) (hl : lv_has ls 4 [(0, .ref b), (1, .ref hC), (2, .ref hM), (3, .int (zi i))]) (hi : 2 ≤ i ∧ i + 9 ≤ (Ls : Int)) (hL : Ls ≤ 578) (hb0 : s.heap.size ≤ hC) (hn : n ≤ 63) (hW : LW Z DC DM dA hC hM A L k ed rs LI kI edI rsI S Sm H) (hJ : JJ S Sm ed rs edI rsI) (hS : va_S (lA s) s.heap H locs) (hB : BU S n cells slots) (kk : lNext p l e s m args below meth c Q ls Z DC DM dA hC hM (n + 1)) : W p l e room_1 s m args below meth c H locs cells slots Q (F0 m 532 ls []) := by
  have hx := X.1.1.1
  have hb := X.1.1.2.1
  have hbM : s.heap.size ≤ hM := by have := hW.2.2.2.1; omega
  have ht := hJ.tp
  have hFc : ∀ x, cA hC x → ¬ mA hM x := fun x h => cA_mA hW.2.2.2.1 h
  obtain ⟨r, S', Sm', h1, h2, hs, hm⟩ : ∃ r S' Sm', C_ends S (sj xs (i + 1)) (sj xs (i + 2)) (sj xs (i + 3)) (sj xs (i + 4)) (nz (sj xs (i + 5))) = some (r, S') ∧ M_ends Sm (sj xs (i + 1)) (sj xs (i + 2)) (sj xs (i + 3)) (sj xs (i + 4)) (nz (sj xs (i + 5))) = some (r, Sm') ∧ sc S S' ∧ scM Sm Sm' := op_ends hJ.1.1 (sj_r _ _) (sj_r _ _) (sj_r _ _) (sj_r _ _) (nz_r _)
  have hJ' : JJ S' Sm' ed rs edI rsI := hJ.kR (hJ.1.1.sc hs hm).1 (hJ.1.1.sc hs hm).2
  have hfit : cells + 0 ≤ room_1.cells ∧ slots + 0 ≤ room_1.slots := hB.fit ht hn (by omega) (by omega)
  refine lv_aload_n hx hb dL_law_532 rfl (lv_at hl 1 rfl) ?_
  refine la_c (k := 1) X hX hbl hS hl ⟨by omega, by omega⟩ hL dL_law_533 dL_law_534 dL_law_535 dL_law_536 dL_law_537 ?_
  refine la_c (k := 2) X hX hbl hS hl ⟨by omega, by omega⟩ hL dL_law_538 dL_law_539 dL_law_540 dL_law_541 dL_law_542 ?_
  refine la_c (k := 3) X hX hbl hS hl ⟨by omega, by omega⟩ hL dL_law_543 dL_law_544 dL_law_545 dL_law_546 dL_law_547 ?_
  refine la_c (k := 4) X hX hbl hS hl ⟨by omega, by omega⟩ hL dL_law_548 dL_law_549 dL_law_550 dL_law_551 dL_law_552 ?_
  refine la_c (k := 5) X hX hbl hS hl ⟨by omega, by omega⟩ hL dL_law_553 dL_law_554 dL_law_555 dL_law_556 dL_law_557 ?_
  refine la_z X (sj_r _ _) dL_law_558 dL_law_561 dL_law_562 dL_law_565 ?_
  refine lc_i (r := r) (As := [.int (zi (sj xs (i + 1))), .int (zi (sj xs (i + 2))), .int (zi (sj xs (i + 3))), .int (zi (sj xs (i + 4))), .int (zi (nz (sj xs (i + 5))))]) X hW.1 hS hb0 (wC_ends l DC dA hC S _ _ _ _ _ h1) (lw_V q513 q514 q515 q80 q516) (show hdV yX1_ends "ManyEyes" 5 by decide +kernel) ⟨rfl, rfl⟩ ⟨Nat.le_of_ble_eq_true rfl, Nat.le_of_ble_eq_true rfl⟩ hfit hl.1 dL_law_566 rfl (fun H1 locs1 hP1 f1 hS1 => ?_)
  refine lv_aload_n hx hb dL_law_569 rfl (lv_at hl 2 rfl) ?_
  refine la_c (k := 1) X hX hbl hS1 hl ⟨by omega, by omega⟩ hL dL_law_570 dL_law_571 dL_law_572 dL_law_573 dL_law_574 ?_
  refine la_c (k := 2) X hX hbl hS1 hl ⟨by omega, by omega⟩ hL dL_law_575 dL_law_576 dL_law_577 dL_law_578 dL_law_579 ?_
  refine la_c (k := 3) X hX hbl hS1 hl ⟨by omega, by omega⟩ hL dL_law_580 dL_law_581 dL_law_582 dL_law_583 dL_law_584 ?_
  refine la_c (k := 4) X hX hbl hS1 hl ⟨by omega, by omega⟩ hL dL_law_585 dL_law_586 dL_law_587 dL_law_588 dL_law_589 ?_
  refine la_c (k := 5) X hX hbl hS1 hl ⟨by omega, by omega⟩ hL dL_law_590 dL_law_591 dL_law_592 dL_law_593 dL_law_594 ?_
  refine la_z X (sj_r _ _) dL_law_595 dL_law_598 dL_law_599 dL_law_602 ?_
  refine lc_m (r := r) (As := [.int (zi (sj xs (i + 1))), .int (zi (sj xs (i + 2))), .int (zi (sj xs (i + 3))), .int (zi (sj xs (i + 4))), .int (zi (nz (sj xs (i + 5))))]) (rest := [.int (zi r)]) X (mP_keep hW.2.2.1 hFc f1) hS1 hbM (wM_ends l DM dA hM Sm _ _ _ _ _ h2) (lw_V q1405 q1406 q1407 q93 q1408) (show hdV yX5_ends "ManyEyesModel" 5 by decide +kernel) ⟨rfl, rfl⟩ ⟨Nat.le_of_ble_eq_true rfl, Nat.le_of_ble_eq_true rfl⟩ ⟨hfit.1, hfit.2⟩ hl.1 (Nat.le_of_ble_eq_true rfl) dL_law_603 rfl (fun H2 locs2 hP2 f2 hS2 => ?_)
  refine lv_icmp_eq (tgt := 1282) hx hb dL_law_606 (by decide) (fun _ => ?_) (fun q => absurd rfl q)
  exact kk A L k ed rs LI kI edI rsI _ _ H2 locs2 cells slots (LW.go X.1.2.1 X.2 hP1 (hW.2.1.keepC f1) (mP_keep hW.2.2.1 hFc f1) hW.2.2.2.1 hW.2.2.2.2 hP2 f2) hJ' hS2 (hB.next0 ht.1 hJ'.tp.2)
theorem law_9 {p : Program} {l : Launch} {e : Env} {s : State} {m : MethodId} {args : Array Value} {below : List Frame} {meth : Method} {c : Code} {H : Heap} {locs : List Loc} {cells slots : Nat} {Q : State → Prop} {ls : Array Slot} {Z : hZ} {DC DM : va_G} {dA : Nat → ClassId} {hC hM : Nat} {A : Nat → Prop} {L : List Nat} {k ed : Nat} {rs : List (List tCl)} {LI : List Nat} {kI edI : Nat} {rsI : List (List tCl)} {S : yS} {Sm : xS} {b Ls n : Nat} {xs : Nat → Int32} {i : Int} (X : lCx p c s m args Z DC DM dA) (hX : va_X b Ls xs s s.heap) (hbl : b < s.heap.size) (hl : lv_has ls 4 [(0, .ref b), (1, .ref hC), (2, .ref hM), (3, .int (zi i))]) (hi : 2 ≤ i ∧ i + 9 ≤ (Ls : Int)) (hL : Ls ≤ 578) (hb0 : s.heap.size ≤ hC) (hn : n ≤ 63) (hW : LW Z DC DM dA hC hM A L k ed rs LI kI edI rsI S Sm H) (hJ : JJ S Sm ed rs edI rsI) (hS : va_S (lA s) s.heap H locs) (hB : BU S n cells slots) (kk : lNext p l e s m args below meth c Q ls Z DC DM dA hC hM (n + 1)) : W p l e room_1 s m args below meth c H locs cells slots Q (F0 m 611 ls []) := by
  have hx := X.1.1.1
  have hb := X.1.1.2.1
  have hbM : s.heap.size ≤ hM := by have := hW.2.2.2.1; omega
  have ht := hJ.tp
  have hFc : ∀ x, cA hC x → ¬ mA hM x := fun x h => cA_mA hW.2.2.2.1 h
  obtain ⟨r, S', Sm', h1, h2, hs, hm⟩ : ∃ r S' Sm', C_width S (sj xs (i + 1)) (sj xs (i + 2)) (sj xs (i + 3)) (sj xs (i + 4)) (sj xs (i + 5)) = some (r, S') ∧ M_width Sm (sj xs (i + 1)) (sj xs (i + 2)) (sj xs (i + 3)) (sj xs (i + 4)) (sj xs (i + 5)) = some (r, Sm') ∧ sc S S' ∧ scM Sm Sm' := op_width hJ.1.1 (sj_r _ _) (sj_r _ _) (sj_r _ _) (sj_r _ _) (sj_r _ _)
  have hJ' : JJ S' Sm' ed rs edI rsI := hJ.kR (hJ.1.1.sc hs hm).1 (hJ.1.1.sc hs hm).2
  have hfit : cells + 0 ≤ room_1.cells ∧ slots + 0 ≤ room_1.slots := hB.fit ht hn (by omega) (by omega)
  refine lv_aload_n hx hb dL_law_611 rfl (lv_at hl 1 rfl) ?_
  refine la_c (k := 1) X hX hbl hS hl ⟨by omega, by omega⟩ hL dL_law_612 dL_law_613 dL_law_614 dL_law_615 dL_law_616 ?_
  refine la_c (k := 2) X hX hbl hS hl ⟨by omega, by omega⟩ hL dL_law_617 dL_law_618 dL_law_619 dL_law_620 dL_law_621 ?_
  refine la_c (k := 3) X hX hbl hS hl ⟨by omega, by omega⟩ hL dL_law_622 dL_law_623 dL_law_624 dL_law_625 dL_law_626 ?_
  refine la_c (k := 4) X hX hbl hS hl ⟨by omega, by omega⟩ hL dL_law_627 dL_law_628 dL_law_629 dL_law_630 dL_law_631 ?_
  refine la_c (k := 5) X hX hbl hS hl ⟨by omega, by omega⟩ hL dL_law_632 dL_law_633 dL_law_634 dL_law_635 dL_law_636 ?_
  refine lc_i (r := r) (As := [.int (zi (sj xs (i + 1))), .int (zi (sj xs (i + 2))), .int (zi (sj xs (i + 3))), .int (zi (sj xs (i + 4))), .int (zi (sj xs (i + 5)))]) X hW.1 hS hb0 (wC_width l DC dA hC S _ _ _ _ _ h1) (lw_V q517 q518 q519 q80 q520) (show hdV yX1_width "ManyEyes" 5 by decide +kernel) ⟨rfl, rfl⟩ ⟨Nat.le_of_ble_eq_true rfl, Nat.le_of_ble_eq_true rfl⟩ hfit hl.1 dL_law_637 rfl (fun H1 locs1 hP1 f1 hS1 => ?_)
  refine lv_aload_n hx hb dL_law_640 rfl (lv_at hl 2 rfl) ?_
  refine la_c (k := 1) X hX hbl hS1 hl ⟨by omega, by omega⟩ hL dL_law_641 dL_law_642 dL_law_643 dL_law_644 dL_law_645 ?_
  refine la_c (k := 2) X hX hbl hS1 hl ⟨by omega, by omega⟩ hL dL_law_646 dL_law_647 dL_law_648 dL_law_649 dL_law_650 ?_
  refine la_c (k := 3) X hX hbl hS1 hl ⟨by omega, by omega⟩ hL dL_law_651 dL_law_652 dL_law_653 dL_law_654 dL_law_655 ?_
  refine la_c (k := 4) X hX hbl hS1 hl ⟨by omega, by omega⟩ hL dL_law_656 dL_law_657 dL_law_658 dL_law_659 dL_law_660 ?_
  refine la_c (k := 5) X hX hbl hS1 hl ⟨by omega, by omega⟩ hL dL_law_661 dL_law_662 dL_law_663 dL_law_664 dL_law_665 ?_
  refine lc_m (r := r) (As := [.int (zi (sj xs (i + 1))), .int (zi (sj xs (i + 2))), .int (zi (sj xs (i + 3))), .int (zi (sj xs (i + 4))), .int (zi (sj xs (i + 5)))]) (rest := [.int (zi r)]) X (mP_keep hW.2.2.1 hFc f1) hS1 hbM (wM_width l DM dA hM Sm _ _ _ _ _ h2) (lw_V q1409 q1410 q1411 q93 q1412) (show hdV yX5_width "ManyEyesModel" 5 by decide +kernel) ⟨rfl, rfl⟩ ⟨Nat.le_of_ble_eq_true rfl, Nat.le_of_ble_eq_true rfl⟩ ⟨hfit.1, hfit.2⟩ hl.1 (Nat.le_of_ble_eq_true rfl) dL_law_666 rfl (fun H2 locs2 hP2 f2 hS2 => ?_)
  refine lv_icmp_eq (tgt := 1282) hx hb dL_law_669 (by decide) (fun _ => ?_) (fun q => absurd rfl q)
  exact kk A L k ed rs LI kI edI rsI _ _ H2 locs2 cells slots (LW.go X.1.2.1 X.2 hP1 (hW.2.1.keepC f1) (mP_keep hW.2.2.1 hFc f1) hW.2.2.2.1 hW.2.2.2.2 hP2 f2) hJ' hS2 (hB.next0 ht.1 hJ'.tp.2)
theorem law_10 {p : Program} {l : Launch} {e : Env} {s : State} {m : MethodId} {args : Array Value} {below : List Frame} {meth : Method} {c : Code} {H : Heap} {locs : List Loc} {cells slots : Nat} {Q : State → Prop} {ls : Array Slot} {Z : hZ} {DC DM : va_G} {dA : Nat → ClassId} {hC hM : Nat} {A : Nat → Prop} {L : List Nat} {k ed : Nat} {rs : List (List tCl)} {LI : List Nat} {kI edI : Nat} {rsI : List (List tCl)} {S : yS} {Sm : xS} {b Ls n : Nat} {xs : Nat → Int32} {i : Int} (X : lCx p c s m args Z DC DM dA) (hX : va_X b Ls xs s s.heap) (hbl : b < s.heap.size) (hl : lv_has ls 4 [(0, .ref b), (1, .ref hC), (2, .ref hM), (3, .int (zi i))]) (hi : 2 ≤ i ∧ i + 9 ≤ (Ls : Int)) (hL : Ls ≤ 578) (hb0 : s.heap.size ≤ hC) (hn : n ≤ 63) (hW : LW Z DC DM dA hC hM A L k ed rs LI kI edI rsI S Sm H) (hJ : JJ S Sm ed rs edI rsI) (hS : va_S (lA s) s.heap H locs) (hB : BU S n cells slots) (kk : lNext p l e s m args below meth c Q ls Z DC DM dA hC hM (n + 1)) : W p l e room_1 s m args below meth c H locs cells slots Q (F0 m 674 ls []) := by
  have hx := X.1.1.1
  have hb := X.1.1.2.1
  have hbM : s.heap.size ≤ hM := by have := hW.2.2.2.1; omega
  have ht := hJ.tp
  have hFc : ∀ x, cA hC x → ¬ mA hM x := fun x h => cA_mA hW.2.2.2.1 h
  obtain ⟨r, S', Sm', h1, h2, hs, hm⟩ : ∃ r S' Sm', C_same S (sj xs (i + 1)) (sj xs (i + 2)) (sj xs (i + 3)) (sj xs (i + 4)) (sj xs (i + 5)) (sj xs (i + 6)) = some (r, S') ∧ M_same Sm (sj xs (i + 1)) (sj xs (i + 2)) (sj xs (i + 3)) (sj xs (i + 4)) (sj xs (i + 5)) (sj xs (i + 6)) = some (r, Sm') ∧ sc S S' ∧ scM Sm Sm' := op_same hJ.1.1 (sj_r _ _) (sj_r _ _) (sj_r _ _) (sj_r _ _) (sj_r _ _) (sj_r _ _)
  have hJ' : JJ S' Sm' ed rs edI rsI := hJ.kR (hJ.1.1.sc hs hm).1 (hJ.1.1.sc hs hm).2
  have hfit : cells + 0 ≤ room_1.cells ∧ slots + 0 ≤ room_1.slots := hB.fit ht hn (by omega) (by omega)
  refine lv_aload_n hx hb dL_law_674 rfl (lv_at hl 1 rfl) ?_
  refine la_c (k := 1) X hX hbl hS hl ⟨by omega, by omega⟩ hL dL_law_675 dL_law_676 dL_law_677 dL_law_678 dL_law_679 ?_
  refine la_c (k := 2) X hX hbl hS hl ⟨by omega, by omega⟩ hL dL_law_680 dL_law_681 dL_law_682 dL_law_683 dL_law_684 ?_
  refine la_c (k := 3) X hX hbl hS hl ⟨by omega, by omega⟩ hL dL_law_685 dL_law_686 dL_law_687 dL_law_688 dL_law_689 ?_
  refine la_c (k := 4) X hX hbl hS hl ⟨by omega, by omega⟩ hL dL_law_690 dL_law_691 dL_law_692 dL_law_693 dL_law_694 ?_
  refine la_c (k := 5) X hX hbl hS hl ⟨by omega, by omega⟩ hL dL_law_695 dL_law_696 dL_law_697 dL_law_698 dL_law_699 ?_
  refine la_b (k := 6) X hX hbl hS hl ⟨by omega, by omega⟩ hL (by decide) dL_law_700 dL_law_701 dL_law_702 dL_law_704 dL_law_705 ?_
  refine lc_i (r := r) (As := [.int (zi (sj xs (i + 1))), .int (zi (sj xs (i + 2))), .int (zi (sj xs (i + 3))), .int (zi (sj xs (i + 4))), .int (zi (sj xs (i + 5))), .int (zi (sj xs (i + 6)))]) X hW.1 hS hb0 (wC_same l DC dA hC S _ _ _ _ _ _ h1) (lw_V q521 q522 q523 q80 q524) (show hdV yX1_same "ManyEyes" 6 by decide +kernel) ⟨rfl, rfl⟩ ⟨Nat.le_of_ble_eq_true rfl, Nat.le_of_ble_eq_true rfl⟩ hfit hl.1 dL_law_706 rfl (fun H1 locs1 hP1 f1 hS1 => ?_)
  refine lv_aload_n hx hb dL_law_709 rfl (lv_at hl 2 rfl) ?_
  refine la_c (k := 1) X hX hbl hS1 hl ⟨by omega, by omega⟩ hL dL_law_710 dL_law_711 dL_law_712 dL_law_713 dL_law_714 ?_
  refine la_c (k := 2) X hX hbl hS1 hl ⟨by omega, by omega⟩ hL dL_law_715 dL_law_716 dL_law_717 dL_law_718 dL_law_719 ?_
  refine la_c (k := 3) X hX hbl hS1 hl ⟨by omega, by omega⟩ hL dL_law_720 dL_law_721 dL_law_722 dL_law_723 dL_law_724 ?_
  refine la_c (k := 4) X hX hbl hS1 hl ⟨by omega, by omega⟩ hL dL_law_725 dL_law_726 dL_law_727 dL_law_728 dL_law_729 ?_
  refine la_c (k := 5) X hX hbl hS1 hl ⟨by omega, by omega⟩ hL dL_law_730 dL_law_731 dL_law_732 dL_law_733 dL_law_734 ?_
  refine la_b (k := 6) X hX hbl hS1 hl ⟨by omega, by omega⟩ hL (by decide) dL_law_735 dL_law_736 dL_law_737 dL_law_739 dL_law_740 ?_
  refine lc_m (r := r) (As := [.int (zi (sj xs (i + 1))), .int (zi (sj xs (i + 2))), .int (zi (sj xs (i + 3))), .int (zi (sj xs (i + 4))), .int (zi (sj xs (i + 5))), .int (zi (sj xs (i + 6)))]) (rest := [.int (zi r)]) X (mP_keep hW.2.2.1 hFc f1) hS1 hbM (wM_same l DM dA hM Sm _ _ _ _ _ _ h2) (lw_V q1413 q1414 q1415 q93 q1416) (show hdV yX5_same "ManyEyesModel" 6 by decide +kernel) ⟨rfl, rfl⟩ ⟨Nat.le_of_ble_eq_true rfl, Nat.le_of_ble_eq_true rfl⟩ ⟨hfit.1, hfit.2⟩ hl.1 (Nat.le_of_ble_eq_true rfl) dL_law_741 rfl (fun H2 locs2 hP2 f2 hS2 => ?_)
  refine lv_icmp_eq (tgt := 1282) hx hb dL_law_744 (by decide) (fun _ => ?_) (fun q => absurd rfl q)
  exact kk A L k ed rs LI kI edI rsI _ _ H2 locs2 cells slots (LW.go X.1.2.1 X.2 hP1 (hW.2.1.keepC f1) (mP_keep hW.2.2.1 hFc f1) hW.2.2.2.1 hW.2.2.2.2 hP2 f2) hJ' hS2 (hB.next0 ht.1 hJ'.tp.2)
theorem law_11 {p : Program} {l : Launch} {e : Env} {s : State} {m : MethodId} {args : Array Value} {below : List Frame} {meth : Method} {c : Code} {H : Heap} {locs : List Loc} {cells slots : Nat} {Q : State → Prop} {ls : Array Slot} {Z : hZ} {DC DM : va_G} {dA : Nat → ClassId} {hC hM : Nat} {A : Nat → Prop} {L : List Nat} {k ed : Nat} {rs : List (List tCl)} {LI : List Nat} {kI edI : Nat} {rsI : List (List tCl)} {S : yS} {Sm : xS} {b Ls n : Nat} {xs : Nat → Int32} {i : Int} (X : lCx p c s m args Z DC DM dA) (hX : va_X b Ls xs s s.heap) (hbl : b < s.heap.size) (hl : lv_has ls 4 [(0, .ref b), (1, .ref hC), (2, .ref hM), (3, .int (zi i))]) (hi : 2 ≤ i ∧ i + 9 ≤ (Ls : Int)) (hL : Ls ≤ 578) (hb0 : s.heap.size ≤ hC) (hn : n ≤ 63) (hW : LW Z DC DM dA hC hM A L k ed rs LI kI edI rsI S Sm H) (hJ : JJ S Sm ed rs edI rsI) (hS : va_S (lA s) s.heap H locs) (hB : BU S n cells slots) (kk : lNext p l e s m args below meth c Q ls Z DC DM dA hC hM (n + 1)) : W p l e room_1 s m args below meth c H locs cells slots Q (F0 m 749 ls []) := by
  have hx := X.1.1.1
  have hb := X.1.1.2.1
  have hbM : s.heap.size ≤ hM := by have := hW.2.2.2.1; omega
  have ht := hJ.tp
  have hFc : ∀ x, cA hC x → ¬ mA hM x := fun x h => cA_mA hW.2.2.2.1 h
  obtain ⟨r, S', Sm', h1, h2, hR, hk⟩ : ∃ r S' Sm', C_feed S (sj xs (i + 1)) (sj xs (i + 2)) (sj xs (i + 3)) (sj xs (i + 4)) (sj xs (i + 5)) = some (r, S') ∧ M_feed Sm (sj xs (i + 1)) (sj xs (i + 2)) (sj xs (i + 3)) (sj xs (i + 4)) (sj xs (i + 5)) = some (r, Sm') ∧ RC S' Sm' ∧ kR S S' Sm Sm' := op_feed hJ.1.1 (sj_r _ _) (sj_r _ _) (sj_r _ _) (sj_r _ _) (sj_r _ _)
  have hJ' : JJ S' Sm' ed rs edI rsI := hJ.kR hR hk
  have hfit : cells + 0 ≤ room_1.cells ∧ slots + 0 ≤ room_1.slots := hB.fit ht hn (by omega) (by omega)
  refine lv_aload_n hx hb dL_law_749 rfl (lv_at hl 1 rfl) ?_
  refine la_c (k := 1) X hX hbl hS hl ⟨by omega, by omega⟩ hL dL_law_750 dL_law_751 dL_law_752 dL_law_753 dL_law_754 ?_
  refine la_c (k := 2) X hX hbl hS hl ⟨by omega, by omega⟩ hL dL_law_755 dL_law_756 dL_law_757 dL_law_758 dL_law_759 ?_
  refine la_c (k := 3) X hX hbl hS hl ⟨by omega, by omega⟩ hL dL_law_760 dL_law_761 dL_law_762 dL_law_763 dL_law_764 ?_
  refine la_c (k := 4) X hX hbl hS hl ⟨by omega, by omega⟩ hL dL_law_765 dL_law_766 dL_law_767 dL_law_768 dL_law_769 ?_
  refine la_c (k := 5) X hX hbl hS hl ⟨by omega, by omega⟩ hL dL_law_770 dL_law_771 dL_law_772 dL_law_773 dL_law_774 ?_
  refine lc_i (r := r) (As := [.int (zi (sj xs (i + 1))), .int (zi (sj xs (i + 2))), .int (zi (sj xs (i + 3))), .int (zi (sj xs (i + 4))), .int (zi (sj xs (i + 5)))]) X hW.1 hS hb0 (wC_feed l DC dA hC S _ _ _ _ _ h1) (lw_V q525 q526 q527 q80 q528) (show hdV yX1_feed "ManyEyes" 5 by decide +kernel) ⟨rfl, rfl⟩ ⟨Nat.le_of_ble_eq_true rfl, Nat.le_of_ble_eq_true rfl⟩ hfit hl.1 dL_law_775 rfl (fun H1 locs1 hP1 f1 hS1 => ?_)
  refine lv_aload_n hx hb dL_law_778 rfl (lv_at hl 2 rfl) ?_
  refine la_c (k := 1) X hX hbl hS1 hl ⟨by omega, by omega⟩ hL dL_law_779 dL_law_780 dL_law_781 dL_law_782 dL_law_783 ?_
  refine la_c (k := 2) X hX hbl hS1 hl ⟨by omega, by omega⟩ hL dL_law_784 dL_law_785 dL_law_786 dL_law_787 dL_law_788 ?_
  refine la_c (k := 3) X hX hbl hS1 hl ⟨by omega, by omega⟩ hL dL_law_789 dL_law_790 dL_law_791 dL_law_792 dL_law_793 ?_
  refine la_c (k := 4) X hX hbl hS1 hl ⟨by omega, by omega⟩ hL dL_law_794 dL_law_795 dL_law_796 dL_law_797 dL_law_798 ?_
  refine la_c (k := 5) X hX hbl hS1 hl ⟨by omega, by omega⟩ hL dL_law_799 dL_law_800 dL_law_801 dL_law_802 dL_law_803 ?_
  refine lc_m (r := r) (As := [.int (zi (sj xs (i + 1))), .int (zi (sj xs (i + 2))), .int (zi (sj xs (i + 3))), .int (zi (sj xs (i + 4))), .int (zi (sj xs (i + 5)))]) (rest := [.int (zi r)]) X (mP_keep hW.2.2.1 hFc f1) hS1 hbM (wM_feed l DM dA hM Sm _ _ _ _ _ h2) (lw_V q1417 q1418 q1419 q93 q1420) (show hdV yX5_feed "ManyEyesModel" 5 by decide +kernel) ⟨rfl, rfl⟩ ⟨Nat.le_of_ble_eq_true rfl, Nat.le_of_ble_eq_true rfl⟩ ⟨hfit.1, hfit.2⟩ hl.1 (Nat.le_of_ble_eq_true rfl) dL_law_804 rfl (fun H2 locs2 hP2 f2 hS2 => ?_)
  refine lv_icmp_eq (tgt := 1282) hx hb dL_law_807 (by decide) (fun _ => ?_) (fun q => absurd rfl q)
  exact kk A L k ed rs LI kI edI rsI _ _ H2 locs2 cells slots (LW.go X.1.2.1 X.2 hP1 (hW.2.1.keepC f1) (mP_keep hW.2.2.1 hFc f1) hW.2.2.2.1 hW.2.2.2.2 hP2 f2) hJ' hS2 (hB.next0 ht.1 hJ'.tp.2)
theorem law_12 {p : Program} {l : Launch} {e : Env} {s : State} {m : MethodId} {args : Array Value} {below : List Frame} {meth : Method} {c : Code} {H : Heap} {locs : List Loc} {cells slots : Nat} {Q : State → Prop} {ls : Array Slot} {Z : hZ} {DC DM : va_G} {dA : Nat → ClassId} {hC hM : Nat} {A : Nat → Prop} {L : List Nat} {k ed : Nat} {rs : List (List tCl)} {LI : List Nat} {kI edI : Nat} {rsI : List (List tCl)} {S : yS} {Sm : xS} {b Ls n : Nat} {xs : Nat → Int32} {i : Int} (X : lCx p c s m args Z DC DM dA) (hX : va_X b Ls xs s s.heap) (hbl : b < s.heap.size) (hl : lv_has ls 4 [(0, .ref b), (1, .ref hC), (2, .ref hM), (3, .int (zi i))]) (hi : 2 ≤ i ∧ i + 9 ≤ (Ls : Int)) (hL : Ls ≤ 578) (hb0 : s.heap.size ≤ hC) (hn : n ≤ 63) (hW : LW Z DC DM dA hC hM A L k ed rs LI kI edI rsI S Sm H) (hJ : JJ S Sm ed rs edI rsI) (hS : va_S (lA s) s.heap H locs) (hB : BU S n cells slots) (kk : lNext p l e s m args below meth c Q ls Z DC DM dA hC hM (n + 1)) : W p l e room_1 s m args below meth c H locs cells slots Q (F0 m 812 ls []) := by
  have hx := X.1.1.1
  have hb := X.1.1.2.1
  have hbM : s.heap.size ≤ hM := by have := hW.2.2.2.1; omega
  have ht := hJ.tp
  have hFc : ∀ x, cA hC x → ¬ mA hM x := fun x h => cA_mA hW.2.2.2.1 h
  obtain ⟨r, S', Sm', h1, h2, hR, hk⟩ : ∃ r S' Sm', C_end S (sj xs (i + 1)) = some (r, S') ∧ M_end Sm (sj xs (i + 1)) = some (r, Sm') ∧ RC S' Sm' ∧ kR S S' Sm Sm' := op_end hJ.1.1 (sj_r _ _)
  have hJ' : JJ S' Sm' ed rs edI rsI := hJ.kR hR hk
  have hfit : cells + 0 ≤ room_1.cells ∧ slots + 0 ≤ room_1.slots := hB.fit ht hn (by omega) (by omega)
  refine lv_aload_n hx hb dL_law_812 rfl (lv_at hl 1 rfl) ?_
  refine la_c (k := 1) X hX hbl hS hl ⟨by omega, by omega⟩ hL dL_law_813 dL_law_814 dL_law_815 dL_law_816 dL_law_817 ?_
  refine lc_i (r := r) (As := [.int (zi (sj xs (i + 1)))]) X hW.1 hS hb0 (wC_end l DC dA hC S _ h1) (lw_V q533 q534 q535 q80 q536) (show hdV yX1_end "ManyEyes" 1 by decide +kernel) ⟨rfl, rfl⟩ ⟨Nat.le_of_ble_eq_true rfl, Nat.le_of_ble_eq_true rfl⟩ hfit hl.1 dL_law_818 rfl (fun H1 locs1 hP1 f1 hS1 => ?_)
  refine lv_aload_n hx hb dL_law_821 rfl (lv_at hl 2 rfl) ?_
  refine la_c (k := 1) X hX hbl hS1 hl ⟨by omega, by omega⟩ hL dL_law_822 dL_law_823 dL_law_824 dL_law_825 dL_law_826 ?_
  refine lc_m (r := r) (As := [.int (zi (sj xs (i + 1)))]) (rest := [.int (zi r)]) X (mP_keep hW.2.2.1 hFc f1) hS1 hbM (wM_end l DM dA hM Sm _ h2) (lw_V q1425 q1426 q1427 q93 q1428) (show hdV yX5_end "ManyEyesModel" 1 by decide +kernel) ⟨rfl, rfl⟩ ⟨Nat.le_of_ble_eq_true rfl, Nat.le_of_ble_eq_true rfl⟩ ⟨hfit.1, hfit.2⟩ hl.1 (Nat.le_of_ble_eq_true rfl) dL_law_827 rfl (fun H2 locs2 hP2 f2 hS2 => ?_)
  refine lv_icmp_eq (tgt := 1282) hx hb dL_law_830 (by decide) (fun _ => ?_) (fun q => absurd rfl q)
  exact kk A L k ed rs LI kI edI rsI _ _ H2 locs2 cells slots (LW.go X.1.2.1 X.2 hP1 (hW.2.1.keepC f1) (mP_keep hW.2.2.1 hFc f1) hW.2.2.2.1 hW.2.2.2.2 hP2 f2) hJ' hS2 (hB.next0 ht.1 hJ'.tp.2)
theorem law_13 {p : Program} {l : Launch} {e : Env} {s : State} {m : MethodId} {args : Array Value} {below : List Frame} {meth : Method} {c : Code} {H : Heap} {locs : List Loc} {cells slots : Nat} {Q : State → Prop} {ls : Array Slot} {Z : hZ} {DC DM : va_G} {dA : Nat → ClassId} {hC hM : Nat} {A : Nat → Prop} {L : List Nat} {k ed : Nat} {rs : List (List tCl)} {LI : List Nat} {kI edI : Nat} {rsI : List (List tCl)} {S : yS} {Sm : xS} {b Ls n : Nat} {xs : Nat → Int32} {i : Int} (htr : l.stackTraces = false) (X : lCx p c s m args Z DC DM dA) (hZb : Z.b = s.heap.size) (hX : va_X b Ls xs s s.heap) (hbl : b < s.heap.size) (hl : lv_has ls 4 [(0, .ref b), (1, .ref hC), (2, .ref hM), (3, .int (zi i))]) (hi : 2 ≤ i ∧ i + 9 ≤ (Ls : Int)) (hL : Ls ≤ 578) (hb0 : s.heap.size ≤ hC) (hn : n ≤ 63) (hW : LW Z DC DM dA hC hM A L k ed rs LI kI edI rsI S Sm H) (hJ : JJ S Sm ed rs edI rsI) (hS : va_S (lA s) s.heap H locs) (hB : BU S n cells slots) (kk : lNext p l e s m args below meth c Q ls Z DC DM dA hC hM (n + 1)) : W p l e room_1 s m args below meth c H locs cells slots Q (F0 m 835 ls []) := by
  have hx := X.1.1.1
  have hb := X.1.1.2.1
  have hbM : s.heap.size ≤ hM := by have := hW.2.2.2.1; omega
  have ht := hJ.tp
  have hFc : ∀ x, cA hC x → ¬ mA hM x := fun x h => cA_mA hW.2.2.2.1 h
  have hfit : cells + 0 ≤ room_1.cells ∧ slots + 0 ≤ room_1.slots := hB.fit ht hn (by omega) (by omega)
  have hg : S.1 41 = (ed : Int) ∧ S.1 42 = (rs.length : Int) := ⟨hJ.1.2.1.1, hJ.1.2.1.2.1⟩
  have hO := hW.2.1.1
  have hr8 := hW.2.1.2.2.2.2.2.2.1.1
  have hrc := va_recv X.1.2.2 hW.1 (ci := 0) (q0 := 0) rfl (cw_at (by decide))
  refine lv_aload_n hx hb dL_law_835 rfl (lv_at hl 1 rfl) ?_
  by_cases h8 : rs.length = 8
  · obtain ⟨h1, h2⟩ := op_rule8 hJ h8
    refine gcVW (As := []) (rest := []) (b := hC) (C := "ManyEyes") (F := F0_) X.1 hS (fun _ h => h.elim) (wC_rule8 l Z DC dA hC S H.size h1) hW.1 (fun _ h => h.elim) hrc q537 q538 q539 q80 q540 (by decide +kernel) (by decide +kernel) ⟨rfl, rfl⟩ ⟨Nat.le_of_ble_eq_true rfl, Nat.le_of_ble_eq_true rfl⟩ hfit hl.1 (Nat.le_of_ble_eq_true rfl) dL_law_836 rfl (fun v H1 locs1 hv f0 hS1 => ?_)
    obtain ⟨rfl, hP1⟩ := hv
    have f1 : hFr (cA hC) H H1 := ⟨f0.1, fun x h1 _ => f0.2 x h1 id⟩
    refine lv_aload_n hx hb dL_law_839 rfl (lv_at hl 2 rfl) ?_
    refine lc_m (r := (-1)) (As := []) (rest := [.int (zi (-1))]) X (mP_keep hW.2.2.1 hFc f1) hS1 hbM (wM_rule l DM dA hM Sm h2) (lw_V q1429 q1430 q1431 q93 q1432) (show hdV yX5_rule "ManyEyesModel" 0 by decide +kernel) ⟨rfl, rfl⟩ ⟨Nat.le_of_ble_eq_true rfl, Nat.le_of_ble_eq_true rfl⟩ ⟨hfit.1, hfit.2⟩ hl.1 (Nat.le_of_ble_eq_true rfl) dL_law_840 rfl (fun H2 locs2 hP2 f2 hS2 => ?_)
    refine lv_icmp_eq (tgt := 1282) hx hb dL_law_843 (by decide) (fun _ => ?_) (fun q => absurd rfl q)
    exact kk A L k ed rs LI kI edI rsI _ _ H2 locs2 _ _ (LW.go X.1.2.1 X.2 hP1 (hW.2.1.keepC f1) (mP_keep hW.2.2.1 hFc f1) hW.2.2.2.1 hW.2.2.2.2 hP2 f2) hJ hS2 (hB.next0 ht.1 ht.2)
  · obtain ⟨g8, g32, x, S0, k0, m0, hrd, hk0, hm0, hcase⟩ := op_rule hJ (by omega)
    have hac := acs_le hO (by omega)
    have hF1 : ∀ x, beF hC k ed x → ¬ mA hM x := fun x h => h.elim (hFc x) (fun w => by rw [w.2]; exact ed_off X.1.2.1 X.2 hW.2.2.1 hO.2.1 w.1)
    have hF2 : ∀ x, beF hC k ed x → lA s x := fun x h => Or.inr (h.elim (fun w => Nat.le_trans hb0 w.1) (fun w => by rw [w.2]; exact Nat.le_trans (Nat.le_of_eq hZb.symm) (hO.ge w.1)))
    have hx1 : ruX (x, S0, k0, m0) L k ≤ k0 + 4 := by unfold ruX; have := hac.1; show 3 + k0 + acc L k ≤ k0 + 4; omega
    have hx2 : ruS (x, S0, k0, m0) L k ≤ m0 + 31 := by unfold ruS; have := hac.2; show 21 + m0 + acs L k ≤ m0 + 31; omega
    have hfit1 : cells + ruX (x, S0, k0, m0) L k ≤ room_1.cells ∧ slots + ruS (x, S0, k0, m0) L k ≤ room_1.slots := hB.fit ht hn (by omega) (by omega)
    refine gcVW (As := []) (rest := []) (b := hC) (C := "ManyEyes") (F := F0_) X.1 hS (fun _ h => h.elim) (wC_rule l htr Z DC dA hC A L k ed rs LI kI edI rsI S H.size g8 g32 hrd hg (by omega)) ⟨hW.1, hW.2.1⟩ hF2 hrc q537 q538 q539 q80 q540 (by decide +kernel) (by decide +kernel) ⟨rfl, rfl⟩ ⟨Nat.le_of_ble_eq_true rfl, Nat.le_of_ble_eq_true rfl⟩ hfit1 hl.1 (Nat.le_of_ble_eq_true rfl) dL_law_836 rfl (fun v H1 locs1 hv f1 hS1 => ?_)
    rcases hv with ⟨f, pl, e1, rfl, hP1, hR1⟩ | ⟨cs, a1, A1, ed1, m1, e1, rfl, hP1, hR1, hA1⟩
    · rcases hcase with ⟨f', pl', Sm', e2, h2, hJ'⟩ | ⟨cs', Sm', e2, -⟩
      · obtain ⟨rfl, rfl⟩ : f' = f ∧ pl' = pl := by have := Sum.inr.inj (e2.symm.trans e1); exact ⟨congrArg Prod.fst this, congrArg Prod.snd this⟩
        refine lv_aload_n hx hb dL_law_839 rfl (lv_at hl 2 rfl) ?_
        refine lc_m (r := (-1)) (As := []) (rest := [.int (zi (-1))]) X (mP_keep hW.2.2.1 hF1 f1) hS1 hbM (wM_rule l DM dA hM Sm h2) (lw_V q1429 q1430 q1431 q93 q1432) (show hdV yX5_rule "ManyEyesModel" 0 by decide +kernel) ⟨rfl, rfl⟩ ⟨Nat.le_of_ble_eq_true rfl, Nat.le_of_ble_eq_true rfl⟩ hfit1 hl.1 (Nat.le_of_ble_eq_true rfl) dL_law_840 rfl (fun H2 locs2 hP2 f2 hS2 => ?_)
        refine lv_icmp_eq (tgt := 1282) hx hb dL_law_843 (by decide) (fun _ => ?_) (fun q => absurd rfl q)
        exact kk A L k ed rs LI kI edI rsI _ _ H2 locs2 _ _ (LW.go X.1.2.1 X.2 hP1 hR1 (mP_keep hW.2.2.1 hF1 f1) hW.2.2.2.1 hW.2.2.2.2 hP2 f2) hJ' hS2 (hB.rule ht rfl hx1 hx2 hk0 hm0)
      · exact absurd (e2.symm.trans e1) (by intro h; cases h)
    · rcases hcase with ⟨f', pl', Sm', e2, -⟩ | ⟨cs', Sm', e2, h2, -, hJ'⟩
      · exact absurd (e2.symm.trans e1) (by intro h; cases h)
      · obtain rfl : cs' = cs := Sum.inl.inj (e2.symm.trans e1)
        have hA2 : ∀ x, A1 x → ¬ mA hM x := fun x hx' => (hA1 x hx').elim (hW.2.2.2.2 x) (fun w z => by have := va_at_lt (hW.2.2.1 14 _ rfl); have := z.2; omega)
        refine lv_aload_n hx hb dL_law_839 rfl (lv_at hl 2 rfl) ?_
        refine lc_m (r := (S.2 2 3 + 1 - 1)) (As := []) (rest := [.int (zi (S.2 2 3 + 1 - 1))]) X (mP_keep hW.2.2.1 hF1 f1) hS1 hbM (wM_rule l DM dA hM Sm h2) (lw_V q1429 q1430 q1431 q93 q1432) (show hdV yX5_rule "ManyEyesModel" 0 by decide +kernel) ⟨rfl, rfl⟩ ⟨Nat.le_of_ble_eq_true rfl, Nat.le_of_ble_eq_true rfl⟩ hfit1 hl.1 (Nat.le_of_ble_eq_true rfl) dL_law_840 rfl (fun H2 locs2 hP2 f2 hS2 => ?_)
        refine lv_icmp_eq (tgt := 1282) hx hb dL_law_843 (by decide) (fun _ => ?_) (fun q => absurd rfl q)
        exact kk A1 (L ++ [a1]) (ncap L k) ed1 (rs ++ [cs']) LI kI edI rsI _ _ H2 locs2 _ _ (LW.go X.1.2.1 X.2 hP1 hR1 (mP_keep hW.2.2.1 hF1 f1) hW.2.2.2.1 hA2 hP2 f2) (hJ' m1 ed1) hS2 (hB.rule ht rfl hx1 hx2 hk0 hm0)
theorem law_14 {p : Program} {l : Launch} {e : Env} {s : State} {m : MethodId} {args : Array Value} {below : List Frame} {meth : Method} {c : Code} {H : Heap} {locs : List Loc} {cells slots : Nat} {Q : State → Prop} {ls : Array Slot} {Z : hZ} {DC DM : va_G} {dA : Nat → ClassId} {hC hM : Nat} {A : Nat → Prop} {L : List Nat} {k ed : Nat} {rs : List (List tCl)} {LI : List Nat} {kI edI : Nat} {rsI : List (List tCl)} {S : yS} {Sm : xS} {b Ls n : Nat} {xs : Nat → Int32} {i : Int} (X : lCx p c s m args Z DC DM dA) (hX : va_X b Ls xs s s.heap) (hbl : b < s.heap.size) (hl : lv_has ls 4 [(0, .ref b), (1, .ref hC), (2, .ref hM), (3, .int (zi i))]) (hi : 2 ≤ i ∧ i + 9 ≤ (Ls : Int)) (hL : Ls ≤ 578) (hb0 : s.heap.size ≤ hC) (hn : n ≤ 63) (hW : LW Z DC DM dA hC hM A L k ed rs LI kI edI rsI S Sm H) (hJ : JJ S Sm ed rs edI rsI) (hS : va_S (lA s) s.heap H locs) (hB : BU S n cells slots) (kk : lNext p l e s m args below meth c Q ls Z DC DM dA hC hM (n + 1)) : W p l e room_1 s m args below meth c H locs cells slots Q (F0 m 848 ls []) := by
  have hx := X.1.1.1
  have hb := X.1.1.2.1
  have hbM : s.heap.size ≤ hM := by have := hW.2.2.2.1; omega
  have ht := hJ.tp
  have hFc : ∀ x, cA hC x → ¬ mA hM x := fun x h => cA_mA hW.2.2.2.1 h
  obtain ⟨r, h1, h2⟩ : ∃ r, C_fault S (sj xs (i + 1)) = some r ∧ M_fault Sm (sj xs (i + 1)) = some r := op_fault hJ.1.1 (sj_r _ _)
  have hJ' : JJ S Sm ed rs edI rsI := hJ
  have hfit : cells + 0 ≤ room_1.cells ∧ slots + 0 ≤ room_1.slots := hB.fit ht hn (by omega) (by omega)
  refine lv_aload_n hx hb dL_law_848 rfl (lv_at hl 1 rfl) ?_
  refine la_c (k := 1) X hX hbl hS hl ⟨by omega, by omega⟩ hL dL_law_849 dL_law_850 dL_law_851 dL_law_852 dL_law_853 ?_
  refine lc_i (r := r) (As := [.int (zi (sj xs (i + 1)))]) X hW.1 hS hb0 (wC_fault l DC dA hC S _ h1) (lw_V q951 q952 q953 q80 q954) (show hdV yX1_fault "ManyEyes" 1 by decide +kernel) ⟨rfl, rfl⟩ ⟨Nat.le_of_ble_eq_true rfl, Nat.le_of_ble_eq_true rfl⟩ hfit hl.1 dL_law_854 rfl (fun H1 locs1 hP1 f1 hS1 => ?_)
  refine lv_aload_n hx hb dL_law_857 rfl (lv_at hl 2 rfl) ?_
  refine la_c (k := 1) X hX hbl hS1 hl ⟨by omega, by omega⟩ hL dL_law_858 dL_law_859 dL_law_860 dL_law_861 dL_law_862 ?_
  refine lc_m (r := r) (As := [.int (zi (sj xs (i + 1)))]) (rest := [.int (zi r)]) X (mP_keep hW.2.2.1 hFc f1) hS1 hbM (wM_fault l DM dA hM Sm _ h2) (lw_V q1530 q1531 q1532 q93 q1533) (show hdV yX5_fault "ManyEyesModel" 1 by decide +kernel) ⟨rfl, rfl⟩ ⟨Nat.le_of_ble_eq_true rfl, Nat.le_of_ble_eq_true rfl⟩ ⟨hfit.1, hfit.2⟩ hl.1 (Nat.le_of_ble_eq_true rfl) dL_law_863 rfl (fun H2 locs2 hP2 f2 hS2 => ?_)
  refine lv_icmp_eq (tgt := 1282) hx hb dL_law_866 (by decide) (fun _ => ?_) (fun q => absurd rfl q)
  exact kk A L k ed rs LI kI edI rsI _ _ H2 locs2 cells slots (LW.go X.1.2.1 X.2 hP1 (hW.2.1.keepC f1) (mP_keep hW.2.2.1 hFc f1) hW.2.2.2.1 hW.2.2.2.2 hP2 f2) hJ' hS2 (hB.next0 ht.1 hJ'.tp.2)
theorem law_15 {p : Program} {l : Launch} {e : Env} {s : State} {m : MethodId} {args : Array Value} {below : List Frame} {meth : Method} {c : Code} {H : Heap} {locs : List Loc} {cells slots : Nat} {Q : State → Prop} {ls : Array Slot} {Z : hZ} {DC DM : va_G} {dA : Nat → ClassId} {hC hM : Nat} {A : Nat → Prop} {L : List Nat} {k ed : Nat} {rs : List (List tCl)} {LI : List Nat} {kI edI : Nat} {rsI : List (List tCl)} {S : yS} {Sm : xS} {b Ls n : Nat} {xs : Nat → Int32} {i : Int} (X : lCx p c s m args Z DC DM dA) (hX : va_X b Ls xs s s.heap) (hbl : b < s.heap.size) (hl : lv_has ls 4 [(0, .ref b), (1, .ref hC), (2, .ref hM), (3, .int (zi i))]) (hi : 2 ≤ i ∧ i + 9 ≤ (Ls : Int)) (hL : Ls ≤ 578) (hb0 : s.heap.size ≤ hC) (hn : n ≤ 63) (hW : LW Z DC DM dA hC hM A L k ed rs LI kI edI rsI S Sm H) (hJ : JJ S Sm ed rs edI rsI) (hS : va_S (lA s) s.heap H locs) (hB : BU S n cells slots) (kk : lNext p l e s m args below meth c Q ls Z DC DM dA hC hM (n + 1)) : W p l e room_1 s m args below meth c H locs cells slots Q (F0 m 871 ls []) := by
  have hx := X.1.1.1
  have hb := X.1.1.2.1
  have hbM : s.heap.size ≤ hM := by have := hW.2.2.2.1; omega
  have ht := hJ.tp
  have hFc : ∀ x, cA hC x → ¬ mA hM x := fun x h => cA_mA hW.2.2.2.1 h
  obtain ⟨r, S', Sm', h1, h2, hR, hl', hk⟩ : ∃ r S' Sm', C_fly ed rs S (sj xs (i + 1)) (sj xs (i + 2)) (sj xs (i + 3)) (sj xs (i + 4)) (sj xs (i + 5)) (sj xs (i + 6)) = some (r, S') ∧ M_fly Sm (sj xs (i + 1)) (sj xs (i + 2)) (sj xs (i + 3)) (sj xs (i + 4)) (sj xs (i + 5)) (sj xs (i + 6)) = some (r, Sm') ∧ RC S' Sm' ∧ LtR S' Sm' ∧ kF S S' Sm Sm' := op_fly hJ.1.1 hJ.1.2.1 hJ.1.2.2 (sj_r _ _) (sj_r _ _) (sj_r _ _) (sj_r _ _) (sj_r _ _) (sj_r _ _)
  have hJ' : JJ S' Sm' ed rs edI rsI := hJ.kF hR hl' hk
  have hfit : cells + 0 ≤ room_1.cells ∧ slots + 0 ≤ room_1.slots := hB.fit ht hn (by omega) (by omega)
  refine lv_aload_n hx hb dL_law_871 rfl (lv_at hl 1 rfl) ?_
  refine la_c (k := 1) X hX hbl hS hl ⟨by omega, by omega⟩ hL dL_law_872 dL_law_873 dL_law_874 dL_law_875 dL_law_876 ?_
  refine la_c (k := 2) X hX hbl hS hl ⟨by omega, by omega⟩ hL dL_law_877 dL_law_878 dL_law_879 dL_law_880 dL_law_881 ?_
  refine la_c (k := 3) X hX hbl hS hl ⟨by omega, by omega⟩ hL dL_law_882 dL_law_883 dL_law_884 dL_law_885 dL_law_886 ?_
  refine la_c (k := 4) X hX hbl hS hl ⟨by omega, by omega⟩ hL dL_law_887 dL_law_888 dL_law_889 dL_law_890 dL_law_891 ?_
  refine la_c (k := 5) X hX hbl hS hl ⟨by omega, by omega⟩ hL dL_law_892 dL_law_893 dL_law_894 dL_law_895 dL_law_896 ?_
  refine la_b (k := 6) X hX hbl hS hl ⟨by omega, by omega⟩ hL (by decide) dL_law_897 dL_law_898 dL_law_899 dL_law_901 dL_law_902 ?_
  refine gcV (As := [.int (zi (sj xs (i + 1))), .int (zi (sj xs (i + 2))), .int (zi (sj xs (i + 3))), .int (zi (sj xs (i + 4))), .int (zi (sj xs (i + 5))), .int (zi (sj xs (i + 6)))]) (rest := []) (b := hC) (C := "ManyEyes") (F := F0_) X.1 hS (fun _ h => h.elim) (wC_fly l Z DC dA hC A L k ed rs S _ _ _ _ _ _ H.size h1) ⟨hW.1, hW.2.1.1⟩ (fun x h => Or.inr (Nat.le_trans hb0 h.1)) (va_recv X.1.2.2 hW.1 (ci := 0) (q0 := 0) rfl (cw_at (by decide))) (lw_V q955 q956 q957 q80 q958) (show hdV yX1_fly "ManyEyes" 6 by decide +kernel) ⟨rfl, rfl⟩ ⟨Nat.le_of_ble_eq_true rfl, Nat.le_of_ble_eq_true rfl⟩ hfit hl.1 (Nat.le_of_ble_eq_true rfl) dL_law_903 rfl (fun v H1 locs1 hv f1 hS1 => ?_)
  obtain ⟨rfl, hP1⟩ := hv
  refine lv_aload_n hx hb dL_law_906 rfl (lv_at hl 2 rfl) ?_
  refine la_c (k := 1) X hX hbl hS1 hl ⟨by omega, by omega⟩ hL dL_law_907 dL_law_908 dL_law_909 dL_law_910 dL_law_911 ?_
  refine la_c (k := 2) X hX hbl hS1 hl ⟨by omega, by omega⟩ hL dL_law_912 dL_law_913 dL_law_914 dL_law_915 dL_law_916 ?_
  refine la_c (k := 3) X hX hbl hS1 hl ⟨by omega, by omega⟩ hL dL_law_917 dL_law_918 dL_law_919 dL_law_920 dL_law_921 ?_
  refine la_c (k := 4) X hX hbl hS1 hl ⟨by omega, by omega⟩ hL dL_law_922 dL_law_923 dL_law_924 dL_law_925 dL_law_926 ?_
  refine la_c (k := 5) X hX hbl hS1 hl ⟨by omega, by omega⟩ hL dL_law_927 dL_law_928 dL_law_929 dL_law_930 dL_law_931 ?_
  refine la_b (k := 6) X hX hbl hS1 hl ⟨by omega, by omega⟩ hL (by decide) dL_law_932 dL_law_933 dL_law_934 dL_law_936 dL_law_937 ?_
  refine lc_m (r := r) (As := [.int (zi (sj xs (i + 1))), .int (zi (sj xs (i + 2))), .int (zi (sj xs (i + 3))), .int (zi (sj xs (i + 4))), .int (zi (sj xs (i + 5))), .int (zi (sj xs (i + 6)))]) (rest := [.int (zi r)]) X (mP_keep hW.2.2.1 hFc f1) hS1 hbM (wM_fly l DM dA hM Sm _ _ _ _ _ _ h2) (lw_V q1534 q1535 q1536 q93 q1537) (show hdV yX5_fly "ManyEyesModel" 6 by decide +kernel) ⟨rfl, rfl⟩ ⟨Nat.le_of_ble_eq_true rfl, Nat.le_of_ble_eq_true rfl⟩ ⟨hfit.1, hfit.2⟩ hl.1 (Nat.le_of_ble_eq_true rfl) dL_law_938 rfl (fun H2 locs2 hP2 f2 hS2 => ?_)
  refine lv_icmp_eq (tgt := 1282) hx hb dL_law_941 (by decide) (fun _ => ?_) (fun q => absurd rfl q)
  exact kk A L k ed rs LI kI edI rsI _ _ H2 locs2 _ _ (LW.go X.1.2.1 X.2 hP1 (hW.2.1.keepC f1) (mP_keep hW.2.2.1 hFc f1) hW.2.2.2.1 hW.2.2.2.2 hP2 f2) hJ' hS2 (hB.next0 ht.1 hJ'.tp.2)
theorem law_16 {p : Program} {l : Launch} {e : Env} {s : State} {m : MethodId} {args : Array Value} {below : List Frame} {meth : Method} {c : Code} {H : Heap} {locs : List Loc} {cells slots : Nat} {Q : State → Prop} {ls : Array Slot} {Z : hZ} {DC DM : va_G} {dA : Nat → ClassId} {hC hM : Nat} {A : Nat → Prop} {L : List Nat} {k ed : Nat} {rs : List (List tCl)} {LI : List Nat} {kI edI : Nat} {rsI : List (List tCl)} {S : yS} {Sm : xS} {b Ls n : Nat} {xs : Nat → Int32} {i : Int} (X : lCx p c s m args Z DC DM dA) (hX : va_X b Ls xs s s.heap) (hbl : b < s.heap.size) (hl : lv_has ls 4 [(0, .ref b), (1, .ref hC), (2, .ref hM), (3, .int (zi i))]) (hi : 2 ≤ i ∧ i + 9 ≤ (Ls : Int)) (hL : Ls ≤ 578) (hb0 : s.heap.size ≤ hC) (hn : n ≤ 63) (hW : LW Z DC DM dA hC hM A L k ed rs LI kI edI rsI S Sm H) (hJ : JJ S Sm ed rs edI rsI) (hS : va_S (lA s) s.heap H locs) (hB : BU S n cells slots) (kk : lNext p l e s m args below meth c Q ls Z DC DM dA hC hM (n + 1)) : W p l e room_1 s m args below meth c H locs cells slots Q (F0 m 946 ls []) := by
  have hx := X.1.1.1
  have hb := X.1.1.2.1
  have hbM : s.heap.size ≤ hM := by have := hW.2.2.2.1; omega
  have ht := hJ.tp
  have hFc : ∀ x, cA hC x → ¬ mA hM x := fun x h => cA_mA hW.2.2.2.1 h
  obtain ⟨r, h1, h2⟩ : ∃ r, C_flown S (sj xs (i + 1)) = some r ∧ M_flown Sm (sj xs (i + 1)) = some r := op_flown hJ.1.1 (sj_r _ _)
  have hJ' : JJ S Sm ed rs edI rsI := hJ
  have hfit : cells + 0 ≤ room_1.cells ∧ slots + 0 ≤ room_1.slots := hB.fit ht hn (by omega) (by omega)
  refine lv_aload_n hx hb dL_law_946 rfl (lv_at hl 1 rfl) ?_
  refine la_c (k := 1) X hX hbl hS hl ⟨by omega, by omega⟩ hL dL_law_947 dL_law_948 dL_law_949 dL_law_950 dL_law_951 ?_
  refine lc_i (r := r) (As := [.int (zi (sj xs (i + 1)))]) X hW.1 hS hb0 (wC_flown l DC dA hC S _ h1) (lw_V q1103 q1104 q1105 q80 q1106) (show hdV yX1_flown "ManyEyes" 1 by decide +kernel) ⟨rfl, rfl⟩ ⟨Nat.le_of_ble_eq_true rfl, Nat.le_of_ble_eq_true rfl⟩ hfit hl.1 dL_law_952 rfl (fun H1 locs1 hP1 f1 hS1 => ?_)
  refine lv_aload_n hx hb dL_law_955 rfl (lv_at hl 2 rfl) ?_
  refine la_c (k := 1) X hX hbl hS1 hl ⟨by omega, by omega⟩ hL dL_law_956 dL_law_957 dL_law_958 dL_law_959 dL_law_960 ?_
  refine lc_m (r := r) (As := [.int (zi (sj xs (i + 1)))]) (rest := [.int (zi r)]) X (mP_keep hW.2.2.1 hFc f1) hS1 hbM (wM_flown l DM dA hM Sm _ h2) (lw_V q1581 q1582 q1583 q93 q1584) (show hdV yX5_flown "ManyEyesModel" 1 by decide +kernel) ⟨rfl, rfl⟩ ⟨Nat.le_of_ble_eq_true rfl, Nat.le_of_ble_eq_true rfl⟩ ⟨hfit.1, hfit.2⟩ hl.1 (Nat.le_of_ble_eq_true rfl) dL_law_961 rfl (fun H2 locs2 hP2 f2 hS2 => ?_)
  refine lv_icmp_eq (tgt := 1282) hx hb dL_law_964 (by decide) (fun _ => ?_) (fun q => absurd rfl q)
  exact kk A L k ed rs LI kI edI rsI _ _ H2 locs2 cells slots (LW.go X.1.2.1 X.2 hP1 (hW.2.1.keepC f1) (mP_keep hW.2.2.1 hFc f1) hW.2.2.2.1 hW.2.2.2.2 hP2 f2) hJ' hS2 (hB.next0 ht.1 hJ'.tp.2)
theorem law_17 {p : Program} {l : Launch} {e : Env} {s : State} {m : MethodId} {args : Array Value} {below : List Frame} {meth : Method} {c : Code} {H : Heap} {locs : List Loc} {cells slots : Nat} {Q : State → Prop} {ls : Array Slot} {Z : hZ} {DC DM : va_G} {dA : Nat → ClassId} {hC hM : Nat} {A : Nat → Prop} {L : List Nat} {k ed : Nat} {rs : List (List tCl)} {LI : List Nat} {kI edI : Nat} {rsI : List (List tCl)} {S : yS} {Sm : xS} {b Ls n : Nat} {xs : Nat → Int32} {i : Int} (X : lCx p c s m args Z DC DM dA) (hX : va_X b Ls xs s s.heap) (hbl : b < s.heap.size) (hl : lv_has ls 4 [(0, .ref b), (1, .ref hC), (2, .ref hM), (3, .int (zi i))]) (hi : 2 ≤ i ∧ i + 9 ≤ (Ls : Int)) (hL : Ls ≤ 578) (hb0 : s.heap.size ≤ hC) (hn : n ≤ 63) (hW : LW Z DC DM dA hC hM A L k ed rs LI kI edI rsI S Sm H) (hJ : JJ S Sm ed rs edI rsI) (hS : va_S (lA s) s.heap H locs) (hB : BU S n cells slots) (kk : lNext p l e s m args below meth c Q ls Z DC DM dA hC hM (n + 1)) : W p l e room_1 s m args below meth c H locs cells slots Q (F0 m 969 ls []) := by
  have hx := X.1.1.1
  have hb := X.1.1.2.1
  have hbM : s.heap.size ≤ hM := by have := hW.2.2.2.1; omega
  have ht := hJ.tp
  have hFc : ∀ x, cA hC x → ¬ mA hM x := fun x h => cA_mA hW.2.2.2.1 h
  obtain ⟨r, h1, h2⟩ : ∃ r, C_tick S (sj xs (i + 1)) (sj xs (i + 2)) = some r ∧ M_tick Sm (sj xs (i + 1)) (sj xs (i + 2)) = some r := op_tick hJ.1.1 (sj_r _ _) (sj_r _ _)
  have hJ' : JJ S Sm ed rs edI rsI := hJ
  have hfit : cells + 0 ≤ room_1.cells ∧ slots + 0 ≤ room_1.slots := hB.fit ht hn (by omega) (by omega)
  refine lv_aload_n hx hb dL_law_969 rfl (lv_at hl 1 rfl) ?_
  refine la_c (k := 1) X hX hbl hS hl ⟨by omega, by omega⟩ hL dL_law_970 dL_law_971 dL_law_972 dL_law_973 dL_law_974 ?_
  refine la_c (k := 2) X hX hbl hS hl ⟨by omega, by omega⟩ hL dL_law_975 dL_law_976 dL_law_977 dL_law_978 dL_law_979 ?_
  refine lc_i (r := r) (As := [.int (zi (sj xs (i + 1))), .int (zi (sj xs (i + 2)))]) X hW.1 hS hb0 (wC_tick l DC dA hC S _ _ h1) (lw_V q1107 q1108 q1109 q80 q1110) (show hdV yX1_tick "ManyEyes" 2 by decide +kernel) ⟨rfl, rfl⟩ ⟨Nat.le_of_ble_eq_true rfl, Nat.le_of_ble_eq_true rfl⟩ hfit hl.1 dL_law_980 rfl (fun H1 locs1 hP1 f1 hS1 => ?_)
  refine lv_aload_n hx hb dL_law_983 rfl (lv_at hl 2 rfl) ?_
  refine la_c (k := 1) X hX hbl hS1 hl ⟨by omega, by omega⟩ hL dL_law_984 dL_law_985 dL_law_986 dL_law_987 dL_law_988 ?_
  refine la_c (k := 2) X hX hbl hS1 hl ⟨by omega, by omega⟩ hL dL_law_989 dL_law_990 dL_law_991 dL_law_992 dL_law_993 ?_
  refine lc_m (r := r) (As := [.int (zi (sj xs (i + 1))), .int (zi (sj xs (i + 2)))]) (rest := [.int (zi r)]) X (mP_keep hW.2.2.1 hFc f1) hS1 hbM (wM_tick l DM dA hM Sm _ _ h2) (lw_V q1585 q1586 q1587 q93 q1588) (show hdV yX5_tick "ManyEyesModel" 2 by decide +kernel) ⟨rfl, rfl⟩ ⟨Nat.le_of_ble_eq_true rfl, Nat.le_of_ble_eq_true rfl⟩ ⟨hfit.1, hfit.2⟩ hl.1 (Nat.le_of_ble_eq_true rfl) dL_law_994 rfl (fun H2 locs2 hP2 f2 hS2 => ?_)
  refine lv_icmp_eq (tgt := 1282) hx hb dL_law_997 (by decide) (fun _ => ?_) (fun q => absurd rfl q)
  exact kk A L k ed rs LI kI edI rsI _ _ H2 locs2 cells slots (LW.go X.1.2.1 X.2 hP1 (hW.2.1.keepC f1) (mP_keep hW.2.2.1 hFc f1) hW.2.2.2.1 hW.2.2.2.2 hP2 f2) hJ' hS2 (hB.next0 ht.1 hJ'.tp.2)
theorem law_18 {p : Program} {l : Launch} {e : Env} {s : State} {m : MethodId} {args : Array Value} {below : List Frame} {meth : Method} {c : Code} {H : Heap} {locs : List Loc} {cells slots : Nat} {Q : State → Prop} {ls : Array Slot} {Z : hZ} {DC DM : va_G} {dA : Nat → ClassId} {hC hM : Nat} {A : Nat → Prop} {L : List Nat} {k ed : Nat} {rs : List (List tCl)} {LI : List Nat} {kI edI : Nat} {rsI : List (List tCl)} {S : yS} {Sm : xS} {b Ls n : Nat} {xs : Nat → Int32} {i : Int} (X : lCx p c s m args Z DC DM dA) (hX : va_X b Ls xs s s.heap) (hbl : b < s.heap.size) (hl : lv_has ls 4 [(0, .ref b), (1, .ref hC), (2, .ref hM), (3, .int (zi i))]) (hi : 2 ≤ i ∧ i + 9 ≤ (Ls : Int)) (hL : Ls ≤ 578) (hb0 : s.heap.size ≤ hC) (hn : n ≤ 63) (hW : LW Z DC DM dA hC hM A L k ed rs LI kI edI rsI S Sm H) (hJ : JJ S Sm ed rs edI rsI) (hS : va_S (lA s) s.heap H locs) (hB : BU S n cells slots) (kk : lNext p l e s m args below meth c Q ls Z DC DM dA hC hM (n + 1)) : W p l e room_1 s m args below meth c H locs cells slots Q (F0 m 1002 ls []) := by
  have hx := X.1.1.1
  have hb := X.1.1.2.1
  have hbM : s.heap.size ≤ hM := by have := hW.2.2.2.1; omega
  have ht := hJ.tp
  have hFc : ∀ x, cA hC x → ¬ mA hM x := fun x h => cA_mA hW.2.2.2.1 h
  obtain ⟨r, S', Sm', h1, h2, hR, hl', hk⟩ : ∃ r S' Sm', C_safe ed rs S (sj xs (i + 1)) (sj xs (i + 2)) (sj xs (i + 3)) (sj xs (i + 4)) (sj xs (i + 5)) (sj xs (i + 6)) (sj xs (i + 7)) (sj xs (i + 8)) = some (r, S') ∧ M_safe Sm (sj xs (i + 1)) (sj xs (i + 2)) (sj xs (i + 3)) (sj xs (i + 4)) (sj xs (i + 5)) (sj xs (i + 6)) (sj xs (i + 7)) (sj xs (i + 8)) = some (r, Sm') ∧ RC S' Sm' ∧ LtR S' Sm' ∧ kF S S' Sm Sm' := op_safe hJ.1 (sj_r _ _) (sj_r _ _) (sj_r _ _) (sj_r _ _) (sj_r _ _) (sj_r _ _) (sj_r _ _) (sj_r _ _)
  have hJ' : JJ S' Sm' ed rs edI rsI := hJ.kF hR hl' hk
  have hfit : cells + 0 ≤ room_1.cells ∧ slots + 0 ≤ room_1.slots := hB.fit ht hn (by omega) (by omega)
  refine lv_aload_n hx hb dL_law_1002 rfl (lv_at hl 1 rfl) ?_
  refine la_c (k := 1) X hX hbl hS hl ⟨by omega, by omega⟩ hL dL_law_1003 dL_law_1004 dL_law_1005 dL_law_1006 dL_law_1007 ?_
  refine la_c (k := 2) X hX hbl hS hl ⟨by omega, by omega⟩ hL dL_law_1008 dL_law_1009 dL_law_1010 dL_law_1011 dL_law_1012 ?_
  refine la_c (k := 3) X hX hbl hS hl ⟨by omega, by omega⟩ hL dL_law_1013 dL_law_1014 dL_law_1015 dL_law_1016 dL_law_1017 ?_
  refine la_c (k := 4) X hX hbl hS hl ⟨by omega, by omega⟩ hL dL_law_1018 dL_law_1019 dL_law_1020 dL_law_1021 dL_law_1022 ?_
  refine la_c (k := 5) X hX hbl hS hl ⟨by omega, by omega⟩ hL dL_law_1023 dL_law_1024 dL_law_1025 dL_law_1026 dL_law_1027 ?_
  refine la_b (k := 6) X hX hbl hS hl ⟨by omega, by omega⟩ hL (by decide) dL_law_1028 dL_law_1029 dL_law_1030 dL_law_1032 dL_law_1033 ?_
  refine la_b (k := 7) X hX hbl hS hl ⟨by omega, by omega⟩ hL (by decide) dL_law_1034 dL_law_1035 dL_law_1036 dL_law_1038 dL_law_1039 ?_
  refine la_b (k := 8) X hX hbl hS hl ⟨by omega, by omega⟩ hL (by decide) dL_law_1040 dL_law_1041 dL_law_1042 dL_law_1044 dL_law_1045 ?_
  refine gcV (As := [.int (zi (sj xs (i + 1))), .int (zi (sj xs (i + 2))), .int (zi (sj xs (i + 3))), .int (zi (sj xs (i + 4))), .int (zi (sj xs (i + 5))), .int (zi (sj xs (i + 6))), .int (zi (sj xs (i + 7))), .int (zi (sj xs (i + 8)))]) (rest := []) (b := hC) (C := "ManyEyes") (F := F0_) X.1 hS (fun _ h => h.elim) (wC_safe l Z DC dA hC A L k ed rs S _ _ _ _ _ _ _ _ H.size h1) ⟨hW.1, hW.2.1.1⟩ (fun x h => Or.inr (Nat.le_trans hb0 h.1)) (va_recv X.1.2.2 hW.1 (ci := 0) (q0 := 0) rfl (cw_at (by decide))) (lw_V q1112 q1113 q1114 q80 q1115) (show hdV yX1_safe "ManyEyes" 8 by decide +kernel) ⟨rfl, rfl⟩ ⟨Nat.le_of_ble_eq_true rfl, Nat.le_of_ble_eq_true rfl⟩ hfit hl.1 (Nat.le_of_ble_eq_true rfl) dL_law_1046 rfl (fun v H1 locs1 hv f1 hS1 => ?_)
  obtain ⟨rfl, hP1⟩ := hv
  refine lv_aload_n hx hb dL_law_1049 rfl (lv_at hl 2 rfl) ?_
  refine la_c (k := 1) X hX hbl hS1 hl ⟨by omega, by omega⟩ hL dL_law_1050 dL_law_1051 dL_law_1052 dL_law_1053 dL_law_1054 ?_
  refine la_c (k := 2) X hX hbl hS1 hl ⟨by omega, by omega⟩ hL dL_law_1055 dL_law_1056 dL_law_1057 dL_law_1058 dL_law_1059 ?_
  refine la_c (k := 3) X hX hbl hS1 hl ⟨by omega, by omega⟩ hL dL_law_1060 dL_law_1061 dL_law_1062 dL_law_1063 dL_law_1064 ?_
  refine la_c (k := 4) X hX hbl hS1 hl ⟨by omega, by omega⟩ hL dL_law_1065 dL_law_1066 dL_law_1067 dL_law_1068 dL_law_1069 ?_
  refine la_c (k := 5) X hX hbl hS1 hl ⟨by omega, by omega⟩ hL dL_law_1070 dL_law_1071 dL_law_1072 dL_law_1073 dL_law_1074 ?_
  refine la_b (k := 6) X hX hbl hS1 hl ⟨by omega, by omega⟩ hL (by decide) dL_law_1075 dL_law_1076 dL_law_1077 dL_law_1079 dL_law_1080 ?_
  refine la_b (k := 7) X hX hbl hS1 hl ⟨by omega, by omega⟩ hL (by decide) dL_law_1081 dL_law_1082 dL_law_1083 dL_law_1085 dL_law_1086 ?_
  refine la_b (k := 8) X hX hbl hS1 hl ⟨by omega, by omega⟩ hL (by decide) dL_law_1087 dL_law_1088 dL_law_1089 dL_law_1091 dL_law_1092 ?_
  refine lc_m (r := r) (As := [.int (zi (sj xs (i + 1))), .int (zi (sj xs (i + 2))), .int (zi (sj xs (i + 3))), .int (zi (sj xs (i + 4))), .int (zi (sj xs (i + 5))), .int (zi (sj xs (i + 6))), .int (zi (sj xs (i + 7))), .int (zi (sj xs (i + 8)))]) (rest := [.int (zi r)]) X (mP_keep hW.2.2.1 hFc f1) hS1 hbM (wM_safe l DM dA hM Sm _ _ _ _ _ _ _ _ h2) (lw_V q1590 q1591 q1592 q93 q1593) (show hdV yX5_safe "ManyEyesModel" 8 by decide +kernel) ⟨rfl, rfl⟩ ⟨Nat.le_of_ble_eq_true rfl, Nat.le_of_ble_eq_true rfl⟩ ⟨hfit.1, hfit.2⟩ hl.1 (Nat.le_of_ble_eq_true rfl) dL_law_1093 rfl (fun H2 locs2 hP2 f2 hS2 => ?_)
  refine lv_icmp_eq (tgt := 1282) hx hb dL_law_1096 (by decide) (fun _ => ?_) (fun q => absurd rfl q)
  exact kk A L k ed rs LI kI edI rsI _ _ H2 locs2 _ _ (LW.go X.1.2.1 X.2 hP1 (hW.2.1.keepC f1) (mP_keep hW.2.2.1 hFc f1) hW.2.2.2.1 hW.2.2.2.2 hP2 f2) hJ' hS2 (hB.next0 ht.1 hJ'.tp.2)
theorem law_19 {p : Program} {l : Launch} {e : Env} {s : State} {m : MethodId} {args : Array Value} {below : List Frame} {meth : Method} {c : Code} {H : Heap} {locs : List Loc} {cells slots : Nat} {Q : State → Prop} {ls : Array Slot} {Z : hZ} {DC DM : va_G} {dA : Nat → ClassId} {hC hM : Nat} {A : Nat → Prop} {L : List Nat} {k ed : Nat} {rs : List (List tCl)} {LI : List Nat} {kI edI : Nat} {rsI : List (List tCl)} {S : yS} {Sm : xS} {b Ls n : Nat} {xs : Nat → Int32} {i : Int} (X : lCx p c s m args Z DC DM dA) (hX : va_X b Ls xs s s.heap) (hbl : b < s.heap.size) (hl : lv_has ls 4 [(0, .ref b), (1, .ref hC), (2, .ref hM), (3, .int (zi i))]) (hi : 2 ≤ i ∧ i + 9 ≤ (Ls : Int)) (hL : Ls ≤ 578) (hb0 : s.heap.size ≤ hC) (hn : n ≤ 63) (hW : LW Z DC DM dA hC hM A L k ed rs LI kI edI rsI S Sm H) (hJ : JJ S Sm ed rs edI rsI) (hS : va_S (lA s) s.heap H locs) (hB : BU S n cells slots) (kk : lNext p l e s m args below meth c Q ls Z DC DM dA hC hM (n + 1)) : W p l e room_1 s m args below meth c H locs cells slots Q (F0 m 1101 ls []) := by
  have hx := X.1.1.1
  have hb := X.1.1.2.1
  have hbM : s.heap.size ≤ hM := by have := hW.2.2.2.1; omega
  have ht := hJ.tp
  have hFc : ∀ x, cA hC x → ¬ mA hM x := fun x h => cA_mA hW.2.2.2.1 h
  obtain ⟨r, S', Sm', h1, h2, hR, hk⟩ : ∃ r S' Sm', C_read S (sj xs (i + 1)) (sj xs (i + 2)) (sj xs (i + 3)) = some (r, S') ∧ M_read Sm (sj xs (i + 1)) (sj xs (i + 2)) (sj xs (i + 3)) = some (r, Sm') ∧ RC S' Sm' ∧ kR S S' Sm Sm' := op_read hJ.1.1 (sj_r _ _) (sj_r _ _) (sj_r _ _)
  have hJ' : JJ S' Sm' ed rs edI rsI := hJ.kR hR hk
  have hfit : cells + 0 ≤ room_1.cells ∧ slots + 0 ≤ room_1.slots := hB.fit ht hn (by omega) (by omega)
  have hfit1 : cells + 1 ≤ room_1.cells ∧ slots + 4 ≤ room_1.slots := hB.fit ht hn (by omega) (by omega)
  refine lv_aload_n hx hb dL_law_1101 rfl (lv_at hl 1 rfl) ?_
  refine la_c (k := 1) X hX hbl hS hl ⟨by omega, by omega⟩ hL dL_law_1102 dL_law_1103 dL_law_1104 dL_law_1105 dL_law_1106 ?_
  refine la_c (k := 2) X hX hbl hS hl ⟨by omega, by omega⟩ hL dL_law_1107 dL_law_1108 dL_law_1109 dL_law_1110 dL_law_1111 ?_
  refine la_c (k := 3) X hX hbl hS hl ⟨by omega, by omega⟩ hL dL_law_1112 dL_law_1113 dL_law_1114 dL_law_1115 dL_law_1116 ?_
  refine lc_A (r := r) (As := [.int (zi (sj xs (i + 1))), .int (zi (sj xs (i + 2))), .int (zi (sj xs (i + 3)))]) X hW.1 hS hb0 (wC_read l DC dA hC H.size S _ _ _ h1) (lw_V q1116 q1117 q1118 q80 q1119) (show hdV yX1_read "ManyEyes" 3 by decide +kernel) ⟨rfl, rfl⟩ ⟨Nat.le_of_ble_eq_true rfl, Nat.le_of_ble_eq_true rfl⟩ hfit1 hl.1 dL_law_1117 rfl (fun H1 locs1 hP1 f1 hS1 => ?_)
  refine lv_aload_n hx hb dL_law_1120 rfl (lv_at hl 2 rfl) ?_
  refine la_c (k := 1) X hX hbl hS1 hl ⟨by omega, by omega⟩ hL dL_law_1121 dL_law_1122 dL_law_1123 dL_law_1124 dL_law_1125 ?_
  refine la_c (k := 2) X hX hbl hS1 hl ⟨by omega, by omega⟩ hL dL_law_1126 dL_law_1127 dL_law_1128 dL_law_1129 dL_law_1130 ?_
  refine la_c (k := 3) X hX hbl hS1 hl ⟨by omega, by omega⟩ hL dL_law_1131 dL_law_1132 dL_law_1133 dL_law_1134 dL_law_1135 ?_
  refine lc_m (r := r) (As := [.int (zi (sj xs (i + 1))), .int (zi (sj xs (i + 2))), .int (zi (sj xs (i + 3)))]) (rest := [.int (zi r)]) X (mP_keep hW.2.2.1 hFc f1) hS1 hbM (wM_read l DM dA hM Sm _ _ _ h2) (lw_V q1594 q1595 q1596 q93 q1597) (show hdV yX5_read "ManyEyesModel" 3 by decide +kernel) ⟨rfl, rfl⟩ ⟨Nat.le_of_ble_eq_true rfl, Nat.le_of_ble_eq_true rfl⟩ hfit1 hl.1 (Nat.le_of_ble_eq_true rfl) dL_law_1136 rfl (fun H2 locs2 hP2 f2 hS2 => ?_)
  refine lv_icmp_eq (tgt := 1282) hx hb dL_law_1139 (by decide) (fun _ => ?_) (fun q => absurd rfl q)
  exact kk A L k ed rs LI kI edI rsI _ _ H2 locs2 _ _ (LW.go X.1.2.1 X.2 hP1 (hW.2.1.keepC f1) (mP_keep hW.2.2.1 hFc f1) hW.2.2.2.1 hW.2.2.2.2 hP2 f2) hJ' hS2 (hB.next ht.1 hJ'.tp.2 (by omega) (by omega))
theorem law_20 {p : Program} {l : Launch} {e : Env} {s : State} {m : MethodId} {args : Array Value} {below : List Frame} {meth : Method} {c : Code} {H : Heap} {locs : List Loc} {cells slots : Nat} {Q : State → Prop} {ls : Array Slot} {Z : hZ} {DC DM : va_G} {dA : Nat → ClassId} {hC hM : Nat} {A : Nat → Prop} {L : List Nat} {k ed : Nat} {rs : List (List tCl)} {LI : List Nat} {kI edI : Nat} {rsI : List (List tCl)} {S : yS} {Sm : xS} {b Ls n : Nat} {xs : Nat → Int32} {i : Int} (X : lCx p c s m args Z DC DM dA) (hX : va_X b Ls xs s s.heap) (hbl : b < s.heap.size) (hl : lv_has ls 4 [(0, .ref b), (1, .ref hC), (2, .ref hM), (3, .int (zi i))]) (hi : 2 ≤ i ∧ i + 9 ≤ (Ls : Int)) (hL : Ls ≤ 578) (hb0 : s.heap.size ≤ hC) (hn : n ≤ 63) (hW : LW Z DC DM dA hC hM A L k ed rs LI kI edI rsI S Sm H) (hJ : JJ S Sm ed rs edI rsI) (hS : va_S (lA s) s.heap H locs) (hB : BU S n cells slots) (kk : lNext p l e s m args below meth c Q ls Z DC DM dA hC hM (n + 1)) : W p l e room_1 s m args below meth c H locs cells slots Q (F0 m 1144 ls []) := by
  have hx := X.1.1.1
  have hb := X.1.1.2.1
  have hbM : s.heap.size ≤ hM := by have := hW.2.2.2.1; omega
  have ht := hJ.tp
  have hFc : ∀ x, cA hC x → ¬ mA hM x := fun x h => cA_mA hW.2.2.2.1 h
  obtain ⟨r, S', Sm', h1, h2, hR, hk⟩ : ∃ r S' Sm', C_turned S (sj xs (i + 1)) (sj xs (i + 2)) = some (r, S') ∧ M_turned Sm (sj xs (i + 1)) (sj xs (i + 2)) = some (r, Sm') ∧ RC S' Sm' ∧ kR S S' Sm Sm' := op_turned hJ.1.1 (sj_r _ _) (sj_r _ _)
  have hJ' : JJ S' Sm' ed rs edI rsI := hJ.kR hR hk
  have hfit : cells + 0 ≤ room_1.cells ∧ slots + 0 ≤ room_1.slots := hB.fit ht hn (by omega) (by omega)
  refine lv_aload_n hx hb dL_law_1144 rfl (lv_at hl 1 rfl) ?_
  refine la_c (k := 1) X hX hbl hS hl ⟨by omega, by omega⟩ hL dL_law_1145 dL_law_1146 dL_law_1147 dL_law_1148 dL_law_1149 ?_
  refine la_c (k := 2) X hX hbl hS hl ⟨by omega, by omega⟩ hL dL_law_1150 dL_law_1151 dL_law_1152 dL_law_1153 dL_law_1154 ?_
  refine lc_i (r := r) (As := [.int (zi (sj xs (i + 1))), .int (zi (sj xs (i + 2)))]) X hW.1 hS hb0 (wC_turned l DC dA hC S _ _ h1) (lw_V q1120 q1121 q1122 q80 q1123) (show hdV yX1_turned "ManyEyes" 2 by decide +kernel) ⟨rfl, rfl⟩ ⟨Nat.le_of_ble_eq_true rfl, Nat.le_of_ble_eq_true rfl⟩ hfit hl.1 dL_law_1155 rfl (fun H1 locs1 hP1 f1 hS1 => ?_)
  refine lv_aload_n hx hb dL_law_1158 rfl (lv_at hl 2 rfl) ?_
  refine la_c (k := 1) X hX hbl hS1 hl ⟨by omega, by omega⟩ hL dL_law_1159 dL_law_1160 dL_law_1161 dL_law_1162 dL_law_1163 ?_
  refine la_c (k := 2) X hX hbl hS1 hl ⟨by omega, by omega⟩ hL dL_law_1164 dL_law_1165 dL_law_1166 dL_law_1167 dL_law_1168 ?_
  refine lc_m (r := r) (As := [.int (zi (sj xs (i + 1))), .int (zi (sj xs (i + 2)))]) (rest := [.int (zi r)]) X (mP_keep hW.2.2.1 hFc f1) hS1 hbM (wM_turned l DM dA hM Sm _ _ h2) (lw_V q1598 q1599 q1600 q93 q1601) (show hdV yX5_turned "ManyEyesModel" 2 by decide +kernel) ⟨rfl, rfl⟩ ⟨Nat.le_of_ble_eq_true rfl, Nat.le_of_ble_eq_true rfl⟩ ⟨hfit.1, hfit.2⟩ hl.1 (Nat.le_of_ble_eq_true rfl) dL_law_1169 rfl (fun H2 locs2 hP2 f2 hS2 => ?_)
  refine lv_icmp_eq (tgt := 1282) hx hb dL_law_1172 (by decide) (fun _ => ?_) (fun q => absurd rfl q)
  exact kk A L k ed rs LI kI edI rsI _ _ H2 locs2 cells slots (LW.go X.1.2.1 X.2 hP1 (hW.2.1.keepC f1) (mP_keep hW.2.2.1 hFc f1) hW.2.2.2.1 hW.2.2.2.2 hP2 f2) hJ' hS2 (hB.next0 ht.1 hJ'.tp.2)
theorem law_21 {p : Program} {l : Launch} {e : Env} {s : State} {m : MethodId} {args : Array Value} {below : List Frame} {meth : Method} {c : Code} {H : Heap} {locs : List Loc} {cells slots : Nat} {Q : State → Prop} {ls : Array Slot} {Z : hZ} {DC DM : va_G} {dA : Nat → ClassId} {hC hM : Nat} {A : Nat → Prop} {L : List Nat} {k ed : Nat} {rs : List (List tCl)} {LI : List Nat} {kI edI : Nat} {rsI : List (List tCl)} {S : yS} {Sm : xS} {b Ls n : Nat} {xs : Nat → Int32} {i : Int} (X : lCx p c s m args Z DC DM dA) (hX : va_X b Ls xs s s.heap) (hbl : b < s.heap.size) (hl : lv_has ls 4 [(0, .ref b), (1, .ref hC), (2, .ref hM), (3, .int (zi i))]) (hi : 2 ≤ i ∧ i + 9 ≤ (Ls : Int)) (hL : Ls ≤ 578) (hb0 : s.heap.size ≤ hC) (hn : n ≤ 63) (hW : LW Z DC DM dA hC hM A L k ed rs LI kI edI rsI S Sm H) (hJ : JJ S Sm ed rs edI rsI) (hS : va_S (lA s) s.heap H locs) (hB : BU S n cells slots) (kk : lNext p l e s m args below meth c Q ls Z DC DM dA hC hM (n + 1)) : W p l e room_1 s m args below meth c H locs cells slots Q (F0 m 1177 ls []) := by
  have hx := X.1.1.1
  have hb := X.1.1.2.1
  have hbM : s.heap.size ≤ hM := by have := hW.2.2.2.1; omega
  have ht := hJ.tp
  have hFc : ∀ x, cA hC x → ¬ mA hM x := fun x h => cA_mA hW.2.2.2.1 h
  obtain ⟨r, S', Sm', h1, h2, hR, hl', hk⟩ : ∃ r S' Sm', C_kept ed rs S (sj xs (i + 1)) = some (r, S') ∧ M_kept Sm (sj xs (i + 1)) = some (r, Sm') ∧ RC S' Sm' ∧ LtR S' Sm' ∧ kF S S' Sm Sm' := op_kept hJ.1 (sj_r _ _)
  have hJ' : JJ S' Sm' ed rs edI rsI := hJ.kF hR hl' hk
  have hfit : cells + 0 ≤ room_1.cells ∧ slots + 0 ≤ room_1.slots := hB.fit ht hn (by omega) (by omega)
  refine lv_aload_n hx hb dL_law_1177 rfl (lv_at hl 1 rfl) ?_
  refine la_c (k := 1) X hX hbl hS hl ⟨by omega, by omega⟩ hL dL_law_1178 dL_law_1179 dL_law_1180 dL_law_1181 dL_law_1182 ?_
  refine gcV (As := [.int (zi (sj xs (i + 1)))]) (rest := []) (b := hC) (C := "ManyEyes") (F := F0_) X.1 hS (fun _ h => h.elim) (wC_kept l Z DC dA hC A L k ed rs S _ H.size h1) ⟨hW.1, hW.2.1.1⟩ (fun x h => Or.inr (Nat.le_trans hb0 h.1)) (va_recv X.1.2.2 hW.1 (ci := 0) (q0 := 0) rfl (cw_at (by decide))) (lw_V q1124 q1125 q1126 q80 q1127) (show hdV yX1_kept "ManyEyes" 1 by decide +kernel) ⟨rfl, rfl⟩ ⟨Nat.le_of_ble_eq_true rfl, Nat.le_of_ble_eq_true rfl⟩ hfit hl.1 (Nat.le_of_ble_eq_true rfl) dL_law_1183 rfl (fun v H1 locs1 hv f1 hS1 => ?_)
  obtain ⟨rfl, hP1⟩ := hv
  refine lv_aload_n hx hb dL_law_1186 rfl (lv_at hl 2 rfl) ?_
  refine la_c (k := 1) X hX hbl hS1 hl ⟨by omega, by omega⟩ hL dL_law_1187 dL_law_1188 dL_law_1189 dL_law_1190 dL_law_1191 ?_
  refine lc_m (r := r) (As := [.int (zi (sj xs (i + 1)))]) (rest := [.int (zi r)]) X (mP_keep hW.2.2.1 hFc f1) hS1 hbM (wM_kept l DM dA hM Sm _ h2) (lw_V q1602 q1603 q1604 q93 q1605) (show hdV yX5_kept "ManyEyesModel" 1 by decide +kernel) ⟨rfl, rfl⟩ ⟨Nat.le_of_ble_eq_true rfl, Nat.le_of_ble_eq_true rfl⟩ ⟨hfit.1, hfit.2⟩ hl.1 (Nat.le_of_ble_eq_true rfl) dL_law_1192 rfl (fun H2 locs2 hP2 f2 hS2 => ?_)
  refine lv_icmp_eq (tgt := 1282) hx hb dL_law_1195 (by decide) (fun _ => ?_) (fun q => absurd rfl q)
  exact kk A L k ed rs LI kI edI rsI _ _ H2 locs2 _ _ (LW.go X.1.2.1 X.2 hP1 (hW.2.1.keepC f1) (mP_keep hW.2.2.1 hFc f1) hW.2.2.2.1 hW.2.2.2.2 hP2 f2) hJ' hS2 (hB.next0 ht.1 hJ'.tp.2)
theorem law_22 {p : Program} {l : Launch} {e : Env} {s : State} {m : MethodId} {args : Array Value} {below : List Frame} {meth : Method} {c : Code} {H : Heap} {locs : List Loc} {cells slots : Nat} {Q : State → Prop} {ls : Array Slot} {Z : hZ} {DC DM : va_G} {dA : Nat → ClassId} {hC hM : Nat} {A : Nat → Prop} {L : List Nat} {k ed : Nat} {rs : List (List tCl)} {LI : List Nat} {kI edI : Nat} {rsI : List (List tCl)} {S : yS} {Sm : xS} {b Ls n : Nat} {xs : Nat → Int32} {i : Int} (X : lCx p c s m args Z DC DM dA) (hX : va_X b Ls xs s s.heap) (hbl : b < s.heap.size) (hl : lv_has ls 4 [(0, .ref b), (1, .ref hC), (2, .ref hM), (3, .int (zi i))]) (hi : 2 ≤ i ∧ i + 9 ≤ (Ls : Int)) (hL : Ls ≤ 578) (hb0 : s.heap.size ≤ hC) (hn : n ≤ 63) (hW : LW Z DC DM dA hC hM A L k ed rs LI kI edI rsI S Sm H) (hJ : JJ S Sm ed rs edI rsI) (hS : va_S (lA s) s.heap H locs) (hB : BU S n cells slots) (kk : lNext p l e s m args below meth c Q ls Z DC DM dA hC hM (n + 1)) : W p l e room_1 s m args below meth c H locs cells slots Q (F0 m 1200 ls []) := by
  have hx := X.1.1.1
  have hb := X.1.1.2.1
  have hbM : s.heap.size ≤ hM := by have := hW.2.2.2.1; omega
  have ht := hJ.tp
  have hFc : ∀ x, cA hC x → ¬ mA hM x := fun x h => cA_mA hW.2.2.2.1 h
  obtain ⟨r, S', Sm', h1, h2, hR, hl', hk⟩ : ∃ r S' Sm', C_parts ed rs S (sj xs (i + 1)) (sj xs (i + 2)) = some (r, S') ∧ M_parts Sm (sj xs (i + 1)) (sj xs (i + 2)) = some (r, Sm') ∧ RC S' Sm' ∧ LtR S' Sm' ∧ kF S S' Sm Sm' := op_parts hJ.1 (sj_r _ _) (sj_r _ _)
  have hJ' : JJ S' Sm' ed rs edI rsI := hJ.kF hR hl' hk
  have hfit : cells + 0 ≤ room_1.cells ∧ slots + 0 ≤ room_1.slots := hB.fit ht hn (by omega) (by omega)
  refine lv_aload_n hx hb dL_law_1200 rfl (lv_at hl 1 rfl) ?_
  refine la_c (k := 1) X hX hbl hS hl ⟨by omega, by omega⟩ hL dL_law_1201 dL_law_1202 dL_law_1203 dL_law_1204 dL_law_1205 ?_
  refine la_c (k := 2) X hX hbl hS hl ⟨by omega, by omega⟩ hL dL_law_1206 dL_law_1207 dL_law_1208 dL_law_1209 dL_law_1210 ?_
  refine gcV (As := [.int (zi (sj xs (i + 1))), .int (zi (sj xs (i + 2)))]) (rest := []) (b := hC) (C := "ManyEyes") (F := F0_) X.1 hS (fun _ h => h.elim) (wC_parts l Z DC dA hC A L k ed rs S _ _ H.size h1) ⟨hW.1, hW.2.1.1⟩ (fun x h => Or.inr (Nat.le_trans hb0 h.1)) (va_recv X.1.2.2 hW.1 (ci := 0) (q0 := 0) rfl (cw_at (by decide))) (lw_V q1142 q1143 q1144 q80 q1145) (show hdV yX1_parts "ManyEyes" 2 by decide +kernel) ⟨rfl, rfl⟩ ⟨Nat.le_of_ble_eq_true rfl, Nat.le_of_ble_eq_true rfl⟩ hfit hl.1 (Nat.le_of_ble_eq_true rfl) dL_law_1211 rfl (fun v H1 locs1 hv f1 hS1 => ?_)
  obtain ⟨rfl, hP1⟩ := hv
  refine lv_aload_n hx hb dL_law_1214 rfl (lv_at hl 2 rfl) ?_
  refine la_c (k := 1) X hX hbl hS1 hl ⟨by omega, by omega⟩ hL dL_law_1215 dL_law_1216 dL_law_1217 dL_law_1218 dL_law_1219 ?_
  refine la_c (k := 2) X hX hbl hS1 hl ⟨by omega, by omega⟩ hL dL_law_1220 dL_law_1221 dL_law_1222 dL_law_1223 dL_law_1224 ?_
  refine lc_m (r := r) (As := [.int (zi (sj xs (i + 1))), .int (zi (sj xs (i + 2)))]) (rest := [.int (zi r)]) X (mP_keep hW.2.2.1 hFc f1) hS1 hbM (wM_parts l DM dA hM Sm _ _ h2) (lw_V q1610 q1611 q1612 q93 q1613) (show hdV yX5_parts "ManyEyesModel" 2 by decide +kernel) ⟨rfl, rfl⟩ ⟨Nat.le_of_ble_eq_true rfl, Nat.le_of_ble_eq_true rfl⟩ ⟨hfit.1, hfit.2⟩ hl.1 (Nat.le_of_ble_eq_true rfl) dL_law_1225 rfl (fun H2 locs2 hP2 f2 hS2 => ?_)
  refine lv_icmp_eq (tgt := 1282) hx hb dL_law_1228 (by decide) (fun _ => ?_) (fun q => absurd rfl q)
  exact kk A L k ed rs LI kI edI rsI _ _ H2 locs2 _ _ (LW.go X.1.2.1 X.2 hP1 (hW.2.1.keepC f1) (mP_keep hW.2.2.1 hFc f1) hW.2.2.2.1 hW.2.2.2.2 hP2 f2) hJ' hS2 (hB.next0 ht.1 hJ'.tp.2)
theorem law_23 {p : Program} {l : Launch} {e : Env} {s : State} {m : MethodId} {args : Array Value} {below : List Frame} {meth : Method} {c : Code} {H : Heap} {locs : List Loc} {cells slots : Nat} {Q : State → Prop} {ls : Array Slot} {Z : hZ} {DC DM : va_G} {dA : Nat → ClassId} {hC hM : Nat} {A : Nat → Prop} {L : List Nat} {k ed : Nat} {rs : List (List tCl)} {LI : List Nat} {kI edI : Nat} {rsI : List (List tCl)} {S : yS} {Sm : xS} {b Ls n : Nat} {xs : Nat → Int32} {i : Int} (X : lCx p c s m args Z DC DM dA) (hZb : Z.b = s.heap.size) (hX : va_X b Ls xs s s.heap) (hbl : b < s.heap.size) (hl : lv_has ls 4 [(0, .ref b), (1, .ref hC), (2, .ref hM), (3, .int (zi i))]) (hi : 2 ≤ i ∧ i + 9 ≤ (Ls : Int)) (hL : Ls ≤ 578) (hb0 : s.heap.size ≤ hC) (hn : n ≤ 63) (hW : LW Z DC DM dA hC hM A L k ed rs LI kI edI rsI S Sm H) (hJ : JJ S Sm ed rs edI rsI) (hS : va_S (lA s) s.heap H locs) (hB : BU S n cells slots) (kk : lNext p l e s m args below meth c Q ls Z DC DM dA hC hM (n + 1)) : W p l e room_1 s m args below meth c H locs cells slots Q (F0 m 1233 ls []) := by
  have hx := X.1.1.1
  have hb := X.1.1.2.1
  have hbM : s.heap.size ≤ hM := by have := hW.2.2.2.1; omega
  have ht := hJ.tp
  have hFc : ∀ x, cA hC x → ¬ mA hM x := fun x h => cA_mA hW.2.2.2.1 h
  have hfit : cells + 0 ≤ room_1.cells ∧ slots + 0 ≤ room_1.slots := hB.fit ht hn (by omega) (by omega)
  obtain ⟨S1, Sm', h1, h2, -, hJ'⟩ := op_image hJ
  have hg : S.1 41 = (ed : Int) ∧ S.1 42 = (rs.length : Int) := ⟨hJ.1.2.1.1, hJ.1.2.1.2.1⟩
  have hgI : S.1 51 = (edI : Int) ∧ S.1 52 = (rsI.length : Int) := ⟨hJ.2.1.1, hJ.2.1.2.1⟩
  have hO := hW.2.1.2.1
  have hbe := beX_le kI rs.length
  have hF1 : ∀ x, beF hC kI edI x → ¬ mA hM x := fun x h => h.elim (hFc x) (fun w => by rw [w.2]; exact ed_off X.1.2.1 X.2 hW.2.2.1 hO.2.1 w.1)
  have hF2 : ∀ x, beF hC kI edI x → lA s x := fun x h => Or.inr (h.elim (fun w => Nat.le_trans hb0 w.1) (fun w => by rw [w.2]; exact Nat.le_trans (Nat.le_of_eq hZb.symm) (hO.ge w.1)))
  have hfit1 : cells + beX kI rs.length ≤ room_1.cells ∧ slots + 10 * beX kI rs.length ≤ room_1.slots := hB.fit ht hn (by omega) (by omega)
  refine lv_aload_n hx hb dL_law_1233 rfl (lv_at hl 1 rfl) ?_
  refine gcV (As := []) (rest := []) (b := hC) (C := "ManyEyes") (F := F0_) X.1 hS (fun _ h => h.elim) (wC_image l Z DC dA hC A L k ed rs LI kI edI rsI S H.size h1 hg hgI) ⟨hW.1, hW.2.1⟩ hF2 (va_recv X.1.2.2 hW.1 (ci := 0) (q0 := 0) rfl (cw_at (by decide))) (lw_V q1150 q1151 q1152 q80 q1153) (show hdV yX1_image "ManyEyes" 0 by decide +kernel) ⟨rfl, rfl⟩ ⟨Nat.le_of_ble_eq_true rfl, Nat.le_of_ble_eq_true rfl⟩ hfit1 hl.1 (Nat.le_of_ble_eq_true rfl) dL_law_1234 rfl (fun v H1 locs1 hv f1 hS1 => ?_)
  obtain ⟨rfl, m1, ed', hP1, hR1⟩ := hv
  refine lv_aload_n hx hb dL_law_1237 rfl (lv_at hl 2 rfl) ?_
  refine lc_m (r := (S1.2 2 3)) (As := []) (rest := [.int (zi (S1.2 2 3))]) X (mP_keep hW.2.2.1 hF1 f1) hS1 hbM (wM_image l DM dA hM Sm h2) (lw_V q1618 q1619 q1620 q93 q1621) (show hdV yX5_image "ManyEyesModel" 0 by decide +kernel) ⟨rfl, rfl⟩ ⟨Nat.le_of_ble_eq_true rfl, Nat.le_of_ble_eq_true rfl⟩ hfit1 hl.1 (Nat.le_of_ble_eq_true rfl) dL_law_1238 rfl (fun H2 locs2 hP2 f2 hS2 => ?_)
  refine lv_icmp_eq (tgt := 1282) hx hb dL_law_1241 (by decide) (fun _ => ?_) (fun q => absurd rfl q)
  have hJ2 := hJ' m1 ed'
  exact kk A L k ed rs L (beC kI rs.length) ed' rs _ _ H2 locs2 _ _ (LW.go X.1.2.1 X.2 hP1 hR1 (mP_keep hW.2.2.1 hF1 f1) hW.2.2.2.1 hW.2.2.2.2 hP2 f2) hJ2 hS2 (hB.next ht.1 hJ2.tp.2 (by omega) (by omega))
theorem law_24 {p : Program} {l : Launch} {e : Env} {s : State} {m : MethodId} {args : Array Value} {below : List Frame} {meth : Method} {c : Code} {H : Heap} {locs : List Loc} {cells slots : Nat} {Q : State → Prop} {ls : Array Slot} {Z : hZ} {DC DM : va_G} {dA : Nat → ClassId} {hC hM : Nat} {A : Nat → Prop} {L : List Nat} {k ed : Nat} {rs : List (List tCl)} {LI : List Nat} {kI edI : Nat} {rsI : List (List tCl)} {S : yS} {Sm : xS} {b Ls n : Nat} {xs : Nat → Int32} {i : Int} (X : lCx p c s m args Z DC DM dA) (hZb : Z.b = s.heap.size) (hX : va_X b Ls xs s s.heap) (hbl : b < s.heap.size) (hl : lv_has ls 4 [(0, .ref b), (1, .ref hC), (2, .ref hM), (3, .int (zi i))]) (hi : 2 ≤ i ∧ i + 9 ≤ (Ls : Int)) (hL : Ls ≤ 578) (hb0 : s.heap.size ≤ hC) (hn : n ≤ 63) (hW : LW Z DC DM dA hC hM A L k ed rs LI kI edI rsI S Sm H) (hJ : JJ S Sm ed rs edI rsI) (hS : va_S (lA s) s.heap H locs) (hB : BU S n cells slots) (kk : lNext p l e s m args below meth c Q ls Z DC DM dA hC hM (n + 1)) : W p l e room_1 s m args below meth c H locs cells slots Q (F0 m 1246 ls []) := by
  have hx := X.1.1.1
  have hb := X.1.1.2.1
  have hbM : s.heap.size ≤ hM := by have := hW.2.2.2.1; omega
  have ht := hJ.tp
  have hFc : ∀ x, cA hC x → ¬ mA hM x := fun x h => cA_mA hW.2.2.2.1 h
  have hfit : cells + 0 ≤ room_1.cells ∧ slots + 0 ≤ room_1.slots := hB.fit ht hn (by omega) (by omega)
  obtain ⟨S1, Sm', h1, h2, -, hJ'⟩ := op_back hJ
  have hg : S.1 41 = (ed : Int) ∧ S.1 42 = (rs.length : Int) := ⟨hJ.1.2.1.1, hJ.1.2.1.2.1⟩
  have hgI : S.1 51 = (edI : Int) ∧ S.1 52 = (rsI.length : Int) := ⟨hJ.2.1.1, hJ.2.1.2.1⟩
  have hO := hW.2.1.1
  have hbe := beX_le k rsI.length
  have hF1 : ∀ x, beF hC k ed x → ¬ mA hM x := fun x h => h.elim (hFc x) (fun w => by rw [w.2]; exact ed_off X.1.2.1 X.2 hW.2.2.1 hO.2.1 w.1)
  have hF2 : ∀ x, beF hC k ed x → lA s x := fun x h => Or.inr (h.elim (fun w => Nat.le_trans hb0 w.1) (fun w => by rw [w.2]; exact Nat.le_trans (Nat.le_of_eq hZb.symm) (hO.ge w.1)))
  have hfit1 : cells + beX k rsI.length ≤ room_1.cells ∧ slots + 10 * beX k rsI.length ≤ room_1.slots := hB.fit ht hn (by omega) (by omega)
  refine lv_aload_n hx hb dL_law_1246 rfl (lv_at hl 1 rfl) ?_
  refine gcV (As := []) (rest := []) (b := hC) (C := "ManyEyes") (F := F0_) X.1 hS (fun _ h => h.elim) (wC_back l Z DC dA hC A LI kI edI rsI L k ed rs S H.size h1 hgI hg) ⟨hW.1, hW.2.1.turn⟩ hF2 (va_recv X.1.2.2 hW.1 (ci := 0) (q0 := 0) rfl (cw_at (by decide))) (lw_V q1154 q1155 q1156 q80 q1157) (show hdV yX1_back "ManyEyes" 0 by decide +kernel) ⟨rfl, rfl⟩ ⟨Nat.le_of_ble_eq_true rfl, Nat.le_of_ble_eq_true rfl⟩ hfit1 hl.1 (Nat.le_of_ble_eq_true rfl) dL_law_1247 rfl (fun v H1 locs1 hv f1 hS1 => ?_)
  obtain ⟨rfl, m1, ed', hP1, hR1⟩ := hv
  refine lv_aload_n hx hb dL_law_1250 rfl (lv_at hl 2 rfl) ?_
  refine lc_m (r := (S1.2 2 3)) (As := []) (rest := [.int (zi (S1.2 2 3))]) X (mP_keep hW.2.2.1 hF1 f1) hS1 hbM (wM_back l DM dA hM Sm h2) (lw_V q1622 q1623 q1624 q93 q1625) (show hdV yX5_back "ManyEyesModel" 0 by decide +kernel) ⟨rfl, rfl⟩ ⟨Nat.le_of_ble_eq_true rfl, Nat.le_of_ble_eq_true rfl⟩ hfit1 hl.1 (Nat.le_of_ble_eq_true rfl) dL_law_1251 rfl (fun H2 locs2 hP2 f2 hS2 => ?_)
  refine lv_icmp_eq (tgt := 1282) hx hb dL_law_1254 (by decide) (fun _ => ?_) (fun q => absurd rfl q)
  have hJ2 := hJ' m1 ed'
  exact kk A LI (beC k rsI.length) ed' rsI LI kI edI rsI _ _ H2 locs2 _ _ (LW.go X.1.2.1 X.2 hP1 hR1.turn (mP_keep hW.2.2.1 hF1 f1) hW.2.2.2.1 hW.2.2.2.2 hP2 f2) hJ2 hS2 (hB.next ht.1 hJ2.tp.2 (by omega) (by omega))
theorem law_25 {p : Program} {l : Launch} {e : Env} {s : State} {m : MethodId} {args : Array Value} {below : List Frame} {meth : Method} {c : Code} {H : Heap} {locs : List Loc} {cells slots : Nat} {Q : State → Prop} {ls : Array Slot} {Z : hZ} {DC DM : va_G} {dA : Nat → ClassId} {hC hM : Nat} {A : Nat → Prop} {L : List Nat} {k ed : Nat} {rs : List (List tCl)} {LI : List Nat} {kI edI : Nat} {rsI : List (List tCl)} {S : yS} {Sm : xS} {b Ls n : Nat} {xs : Nat → Int32} {i : Int} (X : lCx p c s m args Z DC DM dA) (hX : va_X b Ls xs s s.heap) (hbl : b < s.heap.size) (hl : lv_has ls 4 [(0, .ref b), (1, .ref hC), (2, .ref hM), (3, .int (zi i))]) (hi : 2 ≤ i ∧ i + 9 ≤ (Ls : Int)) (hL : Ls ≤ 578) (hb0 : s.heap.size ≤ hC) (hn : n ≤ 63) (hW : LW Z DC DM dA hC hM A L k ed rs LI kI edI rsI S Sm H) (hJ : JJ S Sm ed rs edI rsI) (hS : va_S (lA s) s.heap H locs) (hB : BU S n cells slots) (kk : lNext p l e s m args below meth c Q ls Z DC DM dA hC hM (n + 1)) : W p l e room_1 s m args below meth c H locs cells slots Q (F0 m 1259 ls []) := by
  have hx := X.1.1.1
  have hb := X.1.1.2.1
  have hbM : s.heap.size ≤ hM := by have := hW.2.2.2.1; omega
  have ht := hJ.tp
  have hFc : ∀ x, cA hC x → ¬ mA hM x := fun x h => cA_mA hW.2.2.2.1 h
  obtain ⟨r, h1, h2⟩ : ∃ r, C_about S (sj xs (i + 1)) = some r ∧ M_about Sm (sj xs (i + 1)) = some r := op_about hJ.1.1 (sj_r _ _)
  have hJ' : JJ S Sm ed rs edI rsI := hJ
  have hfit : cells + 0 ≤ room_1.cells ∧ slots + 0 ≤ room_1.slots := hB.fit ht hn (by omega) (by omega)
  refine lv_aload_n hx hb dL_law_1259 rfl (lv_at hl 1 rfl) ?_
  refine la_c (k := 1) X hX hbl hS hl ⟨by omega, by omega⟩ hL dL_law_1260 dL_law_1261 dL_law_1262 dL_law_1263 dL_law_1264 ?_
  refine lc_i (r := r) (As := [.int (zi (sj xs (i + 1)))]) X hW.1 hS hb0 (wC_about l DC dA hC S _ h1) (lw_V q1158 q1159 q1160 q80 q1161) (show hdV yX1_about "ManyEyes" 1 by decide +kernel) ⟨rfl, rfl⟩ ⟨Nat.le_of_ble_eq_true rfl, Nat.le_of_ble_eq_true rfl⟩ hfit hl.1 dL_law_1265 rfl (fun H1 locs1 hP1 f1 hS1 => ?_)
  refine lv_aload_n hx hb dL_law_1268 rfl (lv_at hl 2 rfl) ?_
  refine la_c (k := 1) X hX hbl hS1 hl ⟨by omega, by omega⟩ hL dL_law_1269 dL_law_1270 dL_law_1271 dL_law_1272 dL_law_1273 ?_
  refine lc_m (r := r) (As := [.int (zi (sj xs (i + 1)))]) (rest := [.int (zi r)]) X (mP_keep hW.2.2.1 hFc f1) hS1 hbM (wM_about l DM dA hM Sm _ h2) (lw_V q1626 q1627 q1628 q93 q1629) (show hdV yX5_about "ManyEyesModel" 1 by decide +kernel) ⟨rfl, rfl⟩ ⟨Nat.le_of_ble_eq_true rfl, Nat.le_of_ble_eq_true rfl⟩ ⟨hfit.1, hfit.2⟩ hl.1 (Nat.le_of_ble_eq_true rfl) dL_law_1274 rfl (fun H2 locs2 hP2 f2 hS2 => ?_)
  refine lv_icmp_eq (tgt := 1282) hx hb dL_law_1277 (by decide) (fun _ => ?_) (fun q => absurd rfl q)
  exact kk A L k ed rs LI kI edI rsI _ _ H2 locs2 cells slots (LW.go X.1.2.1 X.2 hP1 (hW.2.1.keepC f1) (mP_keep hW.2.2.1 hFc f1) hW.2.2.2.1 hW.2.2.2.2 hP2 f2) hJ' hS2 (hB.next0 ht.1 hJ'.tp.2)
