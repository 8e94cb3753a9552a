/-! the world of a Tokens object at q, with its two arrays; its text is the array at t. Numbers: S.1 1 size, 4 at, 5 token, 6 sort, 7 number, 8 open; arrays: S.2 0 text, 1 told, 2 twice -/
set_option maxRecDepth 100000
def tk_fs (q t : Nat) (S : yS) : List Value := [.ref t, .int (zi (S.1 1)), .ref (q + 1), .ref (q + 2), .int (zi (S.1 4)), .int (zi (S.1 5)), .int (zi (S.1 6)), .int (zi (S.1 7)), .int (zi (S.1 8))]
def TKW (Z : hZ) (q t : Nat) (S : yS) (H : Heap) : Prop := va_at Z.D tcl (q, .inr (0, tk_fs q t S)) H ∧ va_at Z.D tcl (q + 1, .inl (Z.d 0, 8, .inl (fun j => zi (S.2 1 j)))) H ∧ va_at Z.D tcl (q + 2, .inl (Z.d 0, 4, .inl (fun j => zi (S.2 2 j)))) H ∧ va_at Z.D tcl (t, .inl (Z.d 1, 300, .inl (fun j => zi (S.2 0 j)))) H ∧ Z.b ≤ q ∧ t ≠ q ∧ t ≠ q + 1 ∧ t ≠ q + 2
def tF (q : Nat) : Nat → Prop := fun a => a = q ∨ a = q + 1 ∨ a = q + 2
def TKX (Z : hZ) (q t : Nat) (S : yS) (s : State) (H : Heap) (locs : List Loc) : Prop := TKW Z q t S H ∧ va_S (hA (tF q) s.heap.size) s.heap H locs
theorem TKW.keep {Z : hZ} {q t : Nat} {S : yS} {H H1 : Heap} (h : TKW Z q t S H) (hk : ∀ a, a < H.size → H1[a]? = H[a]?) : TKW Z q t S H1 :=
  ⟨va_at_keep h.1 (hk _ (va_at_lt h.1)), va_at_keep h.2.1 (hk _ (va_at_lt h.2.1)), va_at_keep h.2.2.1 (hk _ (va_at_lt h.2.2.1)), va_at_keep h.2.2.2.1 (hk _ (va_at_lt h.2.2.2.1)), h.2.2.2.2⟩
theorem TKW.F {Z : hZ} {q t : Nat} {S : yS} {H : Heap} (h : TKW Z q t S H) : ∀ a, tF q a → Z.b ≤ a := by
  intro a ha
  have h1 := h.2.2.2.2.1
  rcases ha with rfl | rfl | rfl <;> omega
theorem tf_text : hCl tcl lw_all 0 0 "ManyEyes$Tokens" "text" "[B" := ⟨TX6, 9, RX6, rfl, in_X6, by decide, rfl, rfl, rfl⟩
theorem tf_size : hCl tcl lw_all 0 1 "ManyEyes$Tokens" "size" "I" := ⟨TX6, 9, RX6, rfl, in_X6, by decide, rfl, rfl, rfl⟩
theorem tf_told : hCl tcl lw_all 0 2 "ManyEyes$Tokens" "told" "[Z" := ⟨TX6, 9, RX6, rfl, in_X6, by decide, rfl, rfl, rfl⟩
theorem tf_twice : hCl tcl lw_all 0 3 "ManyEyes$Tokens" "twice" "[Z" := ⟨TX6, 9, RX6, rfl, in_X6, by decide, rfl, rfl, rfl⟩
theorem tf_at : hCl tcl lw_all 0 4 "ManyEyes$Tokens" "at" "I" := ⟨TX6, 9, RX6, rfl, in_X6, by decide, rfl, rfl, rfl⟩
theorem tf_token : hCl tcl lw_all 0 5 "ManyEyes$Tokens" "token" "I" := ⟨TX6, 9, RX6, rfl, in_X6, by decide, rfl, rfl, rfl⟩
theorem tf_sort : hCl tcl lw_all 0 6 "ManyEyes$Tokens" "sort" "I" := ⟨TX6, 9, RX6, rfl, in_X6, by decide, rfl, rfl, rfl⟩
theorem tf_number : hCl tcl lw_all 0 7 "ManyEyes$Tokens" "number" "I" := ⟨TX6, 9, RX6, rfl, in_X6, by decide, rfl, rfl, rfl⟩
theorem tf_open : hCl tcl lw_all 0 8 "ManyEyes$Tokens" "open" "I" := ⟨TX6, 9, RX6, rfl, in_X6, by decide, rfl, rfl, rfl⟩
theorem tp_at (z : Int) : hPl tcl lw_all 0 4 "ManyEyes$Tokens" "at" "I" (.int (zi z)) false := ⟨TX6, 9, RX6, tyX6, rfl, in_X6, by decide, rfl, rfl, rfl, rfl, tyX6_ok, nmX6, rfl, rfl⟩
theorem tp_token (z : Int) : hPl tcl lw_all 0 5 "ManyEyes$Tokens" "token" "I" (.int (zi z)) false := ⟨TX6, 9, RX6, tyX6, rfl, in_X6, by decide, rfl, rfl, rfl, rfl, tyX6_ok, nmX6, rfl, rfl⟩
theorem tp_sort (z : Int) : hPl tcl lw_all 0 6 "ManyEyes$Tokens" "sort" "I" (.int (zi z)) false := ⟨TX6, 9, RX6, tyX6, rfl, in_X6, by decide, rfl, rfl, rfl, rfl, tyX6_ok, nmX6, rfl, rfl⟩
theorem tp_number (z : Int) : hPl tcl lw_all 0 7 "ManyEyes$Tokens" "number" "I" (.int (zi z)) false := ⟨TX6, 9, RX6, tyX6, rfl, in_X6, by decide, rfl, rfl, rfl, rfl, tyX6_ok, nmX6, rfl, rfl⟩
theorem tp_open (z : Int) : hPl tcl lw_all 0 8 "ManyEyes$Tokens" "open" "I" (.int (zi z)) false := ⟨TX6, 9, RX6, tyX6, rfl, in_X6, by decide, rfl, rfl, rfl, rfl, tyX6_ok, nmX6, rfl, rfl⟩
section TR
variable {p : Program} {l : Launch} {e : Env} {R : Room} {s : State} {m : MethodId} {args : Array Value} {below : List Frame} {meth : Method} {c : Code} {H : Heap} {locs : List Loc} {cells slots : Nat} {Q : State → Prop}
variable {cc : ByteArray} {pc nL : Nat} {ls : Array Slot} {rest : List Value} {Z : hZ} {q t : Nat} {S : yS} {own : String} {y : MethodName} {bytes : ByteArray} {maxL idx : Nat} {ret : Option FieldType} {rm : Room} {As st : List Value}
theorem tm_get (X : hCx own p c cc nL s m args Z) (hM : TKX Z q t S s H locs) {k : Nat} {nme dsc : String} {v : Value} (hf : hCl tcl lw_all 0 k "ManyEyes$Tokens" nme dsc) (hl : Cond.fieldLink own idx "ManyEyes$Tokens" nme dsc ∈ lw_all) (hv : (tk_fs q t S)[k]? = some v) (hdg : decode cc pc = .ok (.getfield idx, 3))
    (kk : W p l e R s m args below meth c H locs cells slots Q (F0 m (pc + 3) ls (v :: rest))) : W p l e R s m args below meth c H locs cells slots Q (F0 m pc ls (.ref q :: rest)) := h_get X.1 X.2.1 hM.1.1 hf hl hv hdg kk
theorem TKW.put {k : Nat} {z : Int} {H1 : Heap} (h : TKW Z q t S H) (hset : (tk_fs q t S).set k (.int (zi z)) = tk_fs q t (cfs S k z)) (h1 : va_at Z.D tcl (q, .inr (0, (tk_fs q t S).set k (.int (zi z)))) H1) (hk : ∀ a, a ≠ q → H1[a]? = H[a]?) : TKW Z q t (cfs S k z) H1 := by
  rw [hset] at h1
  exact ⟨h1, va_at_keep h.2.1 (hk _ (by omega)), va_at_keep h.2.2.1 (hk _ (by omega)), va_at_keep h.2.2.2.1 (hk _ h.2.2.2.2.2.1), h.2.2.2.2⟩
theorem tm_put (X : hCx own p c cc nL s m args Z) (hM : TKX Z q t S s H locs) {k : Nat} {nme dsc : String} {z : Int} (hf : hPl tcl lw_all 0 k "ManyEyes$Tokens" nme dsc (.int (zi z)) false) (hl : Cond.fieldLink own idx "ManyEyes$Tokens" nme dsc ∈ lw_all) (hset : (tk_fs q t S).set k (.int (zi z)) = tk_fs q t (cfs S k z)) (hdg : decode cc pc = .ok (.putfield idx, 3))
    (kk : ∀ (H1 : Heap) (locs1 : List Loc) (S2 : yS), S2 = cfs S k z → TKX Z q t S2 s H1 locs1 → W p l e R s m args below meth c H1 locs1 cells slots Q (F0 m (pc + 3) ls rest)) : W p l e R s m args below meth c H locs cells slots Q (F0 m pc ls (.int (zi z) :: .ref q :: rest)) := by
  obtain ⟨T, N, C0, ty, h1, h2, h3, h4⟩ := hf
  have hk9 : k < 9 := by
    have h0 : tcl[0]? = some (RX6, TX6, 9) := rfl
    rw [h0] at h1
    cases h1
    exact h3
  refine h_put X.1 X.2.1 hM.2 hM.1.1 ⟨T, N, C0, ty, h1, h2, h3, h4⟩ hl hk9 (Or.inl (Or.inl rfl)) hdg (fun H1 locs1 ha hq => ?_)
  exact kk H1 locs1 _ rfl ⟨hM.1.put hset ha hq.2.1, hq.2.2⟩
theorem tm_bald (X : hCx own p c cc nL s m args Z) (hM : TKX Z q t S s H locs) {i : Int} (g : 0 ≤ i ∧ i < 300) (hdg : decode cc pc = .ok (.baload, 1))
    (kk : W p l e R s m args below meth c H locs cells slots Q (F0 m (pc + 1) ls (.int (zi (S.2 0 i)) :: rest))) : W p l e R s m args below meth c H locs cells slots Q (F0 m pc ls (.int (zi i) :: .ref t :: rest)) := by
  refine va_bald X.1.1 X.1.2.1 X.2.1 (va_one hM.1.2.2.2.1) 0 1 rfl rfl (zi_in g (by decide)) hdg ?_
  show W p l e R s m args below meth c H locs cells slots Q (F0 m (pc + 1) ls (.int (zi (S.2 0 (((zi i).toNatClampNeg : Nat) : Int))) :: rest))
  rw [zi_cast ⟨g.1, by omega⟩]
  exact kk
theorem tk_Sb (X : hCx own p c cc nL s m args Z) (hM : TKX Z q t S s H locs) : va_S (gB Z.b) s.heap H locs := hM.2.mono (fun a ha => by
  rcases ha with ha | ha
  · exact hM.1.F a ha
  · exact Nat.le_trans X.2.2.2 ha)
theorem tm_words (X : hCx own p c cc nL s m args Z) (hM : TKX Z q t S s H locs) (hl : Cond.fieldLink own idx "ManyEyes$Tokens" "WORDS" "[Ljava/lang/String;" ∈ lw_all) (hdg : decode cc pc = .ok (.getstatic idx, 3))
    (kk : W p l e R s m args below meth c H locs cells slots Q (F0 m (pc + 3) ls (.ref Z.G.tW :: rest))) : W p l e R s m args below meth c H locs cells slots Q (F0 m pc ls rest) :=
  va_gets X.1.1 X.1.2.1 X.2.2.1.2.1.1 (tk_Sb X hM) X.1.2.2.2.1 (X.1.2.2.2.2 _ hl) (fun x h => h) hdg kk
theorem tm_wlen (X : hCx own p c cc nL s m args Z) (hM : TKX Z q t S s H locs) (hdg : decode cc pc = .ok (.arraylength, 1))
    (kk : W p l e R s m args below meth c H locs cells slots Q (F0 m (pc + 1) ls (.int (zi 12) :: rest))) : W p l e R s m args below meth c H locs cells slots Q (F0 m pc ls (.ref Z.G.tW :: rest)) :=
  va_tlen X.1.1 X.1.2.1 X.2.2.1.2.1.2 (tk_Sb X hM) (v := zi 12) (by decide) hdg kk
theorem tm_wald (X : hCx own p c cc nL s m args Z) (hM : TKX Z q t S s H locs) {i : Int} (g : 0 ≤ i ∧ i < 12) (hdg : decode cc pc = .ok (.aaload, 1))
    (kk : W p l e R s m args below meth c H locs cells slots Q (F0 m (pc + 1) ls (.ref (Z.G.adK (Int.toNat i)) :: rest))) : W p l e R s m args below meth c H locs cells slots Q (F0 m pc ls (.int (zi i) :: .ref Z.G.tW :: rest)) :=
  vb_tq X.1.1 X.1.2.1 X.2.2.1.2.1.2 (tk_Sb X hM) (zi_in (n := 12) g (by decide)) (by rw [zi_cl ⟨g.1, by omega⟩]) hdg kk
theorem tks_z (X : hCx own p c cc nL s m args Z) (hM : TKX Z q t S s H locs) {r : Bool} (met : ms_z l y bytes maxL ret rm As r) (hT : GoodIn lw_all (va_wsS own idx y (ws_ y bytes maxL ret))) (hd : y.cls ≠ "java/lang/invoke/MethodHandle" ∧ y.cls ≠ "java/lang/invoke/VarHandle" ∧ (parseMethodDescriptor y.desc).map (fun d => d.parameters.length) = some As.length) (hrm : rm.cells = 0 ∧ rm.slots = 0) (hR : rm.frames + 1 ≤ R.frames ∧ 8 + (maxL + 11) + rm.locals ≤ R.locals) (hcs : cells ≤ R.cells ∧ slots ≤ R.slots) (hls : ls.size = nL) (hro : (rest.map fun v => v.category).sum ≤ 8) (hdg : decode cc pc = .ok (.invokestatic idx, 3)) (hst : st = As.reverse ++ rest)
    (kk : ∀ (H1 : Heap) (locs1 : List Loc), TKX Z q t S s H1 locs1 → W p l e R s m args below meth c H1 locs1 cells slots Q (F0 m (pc + 3) ls (.int (zi (bz r)) :: rest))) : W p l e R s m args below meth c H locs cells slots Q (F0 m pc ls st) :=
  gcs_z X.1 hM.2 met hT hd hrm hR hcs hls hro hdg hst (fun H1 locs1 hk hS => kk H1 locs1 ⟨hM.1.keep hk, hS⟩)
theorem tks_i (X : hCx own p c cc nL s m args Z) (hM : TKX Z q t S s H locs) {r : Int} (met : ms_i l y bytes maxL ret rm As r) (hT : GoodIn lw_all (va_wsS own idx y (ws_ y bytes maxL ret))) (hd : y.cls ≠ "java/lang/invoke/MethodHandle" ∧ y.cls ≠ "java/lang/invoke/VarHandle" ∧ (parseMethodDescriptor y.desc).map (fun d => d.parameters.length) = some As.length) (hrm : rm.cells = 0 ∧ rm.slots = 0) (hR : rm.frames + 1 ≤ R.frames ∧ 8 + (maxL + 11) + rm.locals ≤ R.locals) (hcs : cells ≤ R.cells ∧ slots ≤ R.slots) (hls : ls.size = nL) (hro : (rest.map fun v => v.category).sum ≤ 8) (hdg : decode cc pc = .ok (.invokestatic idx, 3)) (hst : st = As.reverse ++ rest)
    (kk : ∀ (H1 : Heap) (locs1 : List Loc), TKX Z q t S s H1 locs1 → W p l e R s m args below meth c H1 locs1 cells slots Q (F0 m (pc + 3) ls (.int (zi r) :: rest))) : W p l e R s m args below meth c H locs cells slots Q (F0 m pc ls st) :=
  gcs_i X.1 hM.2 met hT hd hrm hR hcs hls hro hdg hst (fun H1 locs1 hk hS => kk H1 locs1 ⟨hM.1.keep hk, hS⟩)
theorem tk_A (X : hCx own p c cc nL s m args Z) (hM : TKX Z q t S s H locs) : ∀ a, hA (tF q) s.heap.size a → Z.b ≤ a := fun a ha => by
  rcases ha with ha | ha
  · exact hM.1.F a ha
  · exact Nat.le_trans X.2.2.2 ha
theorem tks_len (X : hCx own p c cc nL s m args Z) (hM : TKX Z q t S s H locs) {i : Nat} (hi : i < 13) (hT : GoodIn lw_all (wsV own idx "java/lang/String" yJ8_length (ws_ yJ8_length cJ8_length 1 (some .int)))) (hd : hdV yJ8_length "java/lang/String" 0) (hR : 2 + 1 ≤ R.frames ∧ 8 + (1 + 11) + 80 ≤ R.locals) (hls : ls.size = nL) (hro : (rest.map fun v => v.category).sum ≤ 8) (hdg : decode cc pc = .ok (.invokevirtual idx, 3))
    (kk : ∀ (H1 : Heap) (locs1 : List Loc), TKX Z q t S s H1 locs1 → W p l e R s m args below meth c H1 locs1 0 0 Q (F0 m (pc + 3) ls (.int (zi (gLn i)) :: rest))) : W p l e R s m args below meth c H locs 0 0 Q (F0 m pc ls (.ref (Z.G.adK i) :: rest)) :=
  gcgV (As := []) X.1 X.2.2.1 hM.2 (tk_A X hM) (w_slen l Z.G Z.b i hi) (vk_recv X.2.2.1.1 hi (tk_Sb X hM)) hT hd ⟨rfl, rfl⟩ hR ⟨Nat.zero_le _, Nat.zero_le _⟩ hls hro hdg rfl (fun H1 locs1 _ hk hS => kk H1 locs1 ⟨hM.1.keep hk, hS⟩)
theorem tks_cat (X : hCx own p c cc nL s m args Z) (hM : TKX Z q t S s H locs) {i : Nat} (hi : i < 13) {k : Int} (g : 0 ≤ k ∧ k < gLn i) (hT : GoodIn lw_all (wsV own idx "java/lang/String" yJ8_charAt (ws_ yJ8_charAt cJ8_charAt 2 (some .char)))) (hd : hdV yJ8_charAt "java/lang/String" 1) (hR : 4 + 1 ≤ R.frames ∧ 8 + (2 + 11) + 160 ≤ R.locals) (hls : ls.size = nL) (hro : (rest.map fun v => v.category).sum ≤ 8) (hdg : decode cc pc = .ok (.invokevirtual idx, 3))
    (kk : ∀ (H1 : Heap) (locs1 : List Loc), TKX Z q t S s H1 locs1 → W p l e R s m args below meth c H1 locs1 0 0 Q (F0 m (pc + 3) ls (.int (zi (gSg i k)) :: rest))) : W p l e R s m args below meth c H locs 0 0 Q (F0 m pc ls (.int (zi k) :: .ref (Z.G.adK i) :: rest)) :=
  gcgV (As := [.int (zi k)]) X.1 X.2.2.1 hM.2 (tk_A X hM) (w_cat l Z.G Z.b i hi k g) (vk_recv X.2.2.1.1 hi (tk_Sb X hM)) hT hd ⟨rfl, rfl⟩ hR ⟨Nat.zero_le _, Nat.zero_le _⟩ hls hro hdg rfl (fun H1 locs1 _ hk hS => kk H1 locs1 ⟨hM.1.keep hk, hS⟩)
theorem TKW.recv {H : Heap} (X : HE Z s) (h : TKW Z q t S H) : ∃ cell : Cell, H[q]? = some cell ∧ cell.vm.isStatics = false ∧ s.vm.findClass "ManyEyes$Tokens" = some cell.cls := va_recv X.1 (va_one h.1) (ci := 0) (q0 := 0) rfl rfl
theorem tkc_word (X : hCx own p c cc nL s m args Z) (hM : TKX Z q t S s H locs) {w : Nat} {r : Bool} (met : mH l y bytes maxL ret rm Z [.ref q, .ref w] H.size (TKW Z q t S) (fun v H => v = some (.int (zi (bz r))) ∧ TKW Z q t S H) (tF q) 0 0) (hT : GoodIn lw_all (wsV own idx "ManyEyes$Tokens" y (ws_ y bytes maxL ret))) (hd : hdV y "ManyEyes$Tokens" 1) (hrm : rm.cells = 0 ∧ rm.slots = 0) (hR : rm.frames + 1 ≤ R.frames ∧ 8 + (maxL + 11) + rm.locals ≤ R.locals) (hls : ls.size = nL) (hro : (rest.map fun v => v.category).sum ≤ 8) (hdg : decode cc pc = .ok (.invokevirtual idx, 3))
    (kk : ∀ (H1 : Heap) (locs1 : List Loc), TKX Z q t S s H1 locs1 → W p l e R s m args below meth c H1 locs1 0 0 Q (F0 m (pc + 3) ls (.int (zi (bz r)) :: rest))) : W p l e R s m args below meth c H locs 0 0 Q (F0 m pc ls (.ref w :: .ref q :: rest)) := by
  refine hcV (As := [.ref w]) X hM.2 hM.1.F met hM.1 (fun a h => Or.inl h) (hM.1.recv X.2) hT hd hrm hR ⟨Nat.zero_le _, Nat.zero_le _⟩ hls hro hdg rfl (fun v H1 locs1 hv _ hS => ?_)
  obtain ⟨rfl, h1⟩ := hv
  exact kk H1 locs1 ⟨h1, hS⟩
end TR
def T_isLetter_B12 (x0 : Int) : Option Bool := gd (r32 (x0)) (if x0 < 65 then (some (false)) else (gd (r32 (x0)) (if x0 ≤ 90 then (some (true)) else (some (false)))))
def T_isLetter (x0 : Int) : Option Bool := gd (r32 (x0)) (if x0 < 97 then (T_isLetter_B12 x0) else (gd (r32 (x0)) (if x0 ≤ 122 then (some (true)) else (T_isLetter_B12 x0))))
set_option maxHeartbeats 4000000 in
theorem wT_isLetter (l : Launch) (x0 : Int) {r : Bool} (hh : T_isLetter x0 = some r) : ms_z l yX6_isLetter cX6_isLetter 1 (some .boolean) ({ frames := 1, cells := 0, slots := 0, locals := 40 } : Room) [.int (zi x0)] r := by
  refine go_z (by decide +kernel) (Nat.le_of_ble_eq_true rfl) ?_
  intro p e s m args below meth c Q ls X hret hl hM
  have hx := X.1
  have hb := X.2.1
  have hown := X.2.2.2.1
  have hts := X.2.2.2.2
  have hB12 : ∀ (x0 : Int), T_isLetter_B12 x0 = some r → ∀ (H : Heap) (locs : List Loc) (ls : Array Slot), va_S (fun _ => False) s.heap H locs → lv_has ls 1 [(0, .int (zi (x0)))] → W p l e ({ frames := 1, cells := 0, slots := 0, locals := 40 } : Room) s m args below meth c H locs 0 0 Q (F0 m 12 ls []) := by
    intro x0  hh H locs ls hM hl
    unfold T_isLetter_B12 at hh
    refine lv_iload_n hx hb dX6_isLetter_12 rfl (lv_at hl 0 rfl) ?_
    refine lv_bipush (v := zi 65) hx hb dX6_isLetter_13 (by decide) ?_
    obtain ⟨g4, hh⟩ := gd_inv hh
    refine g_icmp_lt (tgt := 28) hx hb ⟨g4, by decide⟩ dX6_isLetter_15 (by decide) (fun c3 => ?_) (fun c3 => ?_)
    · replace hh := it_t c3 hh
      refine lv_iconst (v := zi 0) hx hb dX6_isLetter_28 rfl ?_
      refine W.eq (g2 := F0 m 29 ls [.int (zi (bz false))]) rfl ?_
      exact hret _ _ _ _ _ (rt0 hh) dX6_isLetter_29 hM
    · replace hh := it_f c3 hh
      refine lv_iload_n hx hb dX6_isLetter_18 rfl (lv_at hl 0 rfl) ?_
      refine lv_bipush (v := zi 90) hx hb dX6_isLetter_19 (by decide) ?_
      obtain ⟨g6, hh⟩ := gd_inv hh
      refine g_icmp_gt (tgt := 28) hx hb ⟨g6, by decide⟩ dX6_isLetter_21 (by decide) (fun c5 => ?_) (fun c5 => ?_)
      · replace hh := it_t c5 hh
        refine lv_iconst (v := zi 1) hx hb dX6_isLetter_24 rfl ?_
        refine lv_goto (tgt := 29) hx hb dX6_isLetter_25 (by decide) ?_
        refine W.eq (g2 := F0 m 29 ls [.int (zi (bz true))]) rfl ?_
        exact hret _ _ _ _ _ (rt0 hh) dX6_isLetter_29 hM
      · replace hh := it_f c5 hh
        refine lv_iconst (v := zi 0) hx hb dX6_isLetter_28 rfl ?_
        refine W.eq (g2 := F0 m 29 ls [.int (zi (bz false))]) rfl ?_
        exact hret _ _ _ _ _ (rt0 hh) dX6_isLetter_29 hM
  replace hl : lv_has ls 1 [(0, .int (zi (x0)))] := hl
  unfold T_isLetter at hh
  refine lv_iload_n hx hb dX6_isLetter_0 rfl (lv_at hl 0 rfl) ?_
  refine lv_bipush (v := zi 97) hx hb dX6_isLetter_1 (by decide) ?_
  obtain ⟨g2, hh⟩ := gd_inv hh
  refine g_icmp_lt (tgt := 12) hx hb ⟨g2, by decide⟩ dX6_isLetter_3 (by decide) (fun c1 => ?_) (fun c1 => ?_)
  · replace hh := it_t c1 hh
    exact hB12 x0 hh _ _ _ hM (lv_sub hl [0] rfl)
  · replace hh := it_f c1 hh
    refine lv_iload_n hx hb dX6_isLetter_6 rfl (lv_at hl 0 rfl) ?_
    refine lv_bipush (v := zi 122) hx hb dX6_isLetter_7 (by decide) ?_
    obtain ⟨g8, hh⟩ := gd_inv hh
    refine g_icmp_le (tgt := 24) hx hb ⟨g8, by decide⟩ dX6_isLetter_9 (by decide) (fun c7 => ?_) (fun c7 => ?_)
    · replace hh := it_t c7 hh
      refine lv_iconst (v := zi 1) hx hb dX6_isLetter_24 rfl ?_
      refine lv_goto (tgt := 29) hx hb dX6_isLetter_25 (by decide) ?_
      refine W.eq (g2 := F0 m 29 ls [.int (zi (bz true))]) rfl ?_
      exact hret _ _ _ _ _ (rt0 hh) dX6_isLetter_29 hM
    · replace hh := it_f c7 hh
      exact hB12 x0 hh _ _ _ hM (lv_sub hl [0] rfl)
def T_isDigit (x0 : Int) : Option Bool := gd (r32 (x0)) (if x0 < 48 then (some (false)) else (gd (r32 (x0)) (if x0 ≤ 57 then (some (true)) else (some (false)))))
set_option maxHeartbeats 4000000 in
theorem wT_isDigit (l : Launch) (x0 : Int) {r : Bool} (hh : T_isDigit x0 = some r) : ms_z l yX6_isDigit cX6_isDigit 1 (some .boolean) ({ frames := 1, cells := 0, slots := 0, locals := 40 } : Room) [.int (zi x0)] r := by
  refine go_z (by decide +kernel) (Nat.le_of_ble_eq_true rfl) ?_
  intro p e s m args below meth c Q ls X hret hl hM
  have hx := X.1
  have hb := X.2.1
  have hown := X.2.2.2.1
  have hts := X.2.2.2.2
  replace hl : lv_has ls 1 [(0, .int (zi (x0)))] := hl
  unfold T_isDigit at hh
  refine lv_iload_n hx hb dX6_isDigit_0 rfl (lv_at hl 0 rfl) ?_
  refine lv_bipush (v := zi 48) hx hb dX6_isDigit_1 (by decide) ?_
  obtain ⟨g2, hh⟩ := gd_inv hh
  refine g_icmp_lt (tgt := 16) hx hb ⟨g2, by decide⟩ dX6_isDigit_3 (by decide) (fun c1 => ?_) (fun c1 => ?_)
  · replace hh := it_t c1 hh
    refine lv_iconst (v := zi 0) hx hb dX6_isDigit_16 rfl ?_
    refine W.eq (g2 := F0 m 17 ls [.int (zi (bz false))]) rfl ?_
    exact hret _ _ _ _ _ (rt0 hh) dX6_isDigit_17 hM
  · replace hh := it_f c1 hh
    refine lv_iload_n hx hb dX6_isDigit_6 rfl (lv_at hl 0 rfl) ?_
    refine lv_bipush (v := zi 57) hx hb dX6_isDigit_7 (by decide) ?_
    obtain ⟨g4, hh⟩ := gd_inv hh
    refine g_icmp_gt (tgt := 16) hx hb ⟨g4, by decide⟩ dX6_isDigit_9 (by decide) (fun c3 => ?_) (fun c3 => ?_)
    · replace hh := it_t c3 hh
      refine lv_iconst (v := zi 1) hx hb dX6_isDigit_12 rfl ?_
      refine lv_goto (tgt := 17) hx hb dX6_isDigit_13 (by decide) ?_
      refine W.eq (g2 := F0 m 17 ls [.int (zi (bz true))]) rfl ?_
      exact hret _ _ _ _ _ (rt0 hh) dX6_isDigit_17 hM
    · replace hh := it_f c3 hh
      refine lv_iconst (v := zi 0) hx hb dX6_isDigit_16 rfl ?_
      refine W.eq (g2 := F0 m 17 ls [.int (zi (bz false))]) rfl ?_
      exact hret _ _ _ _ _ (rt0 hh) dX6_isDigit_17 hM
theorem cx_X6_62 : GoodIn lw_all (wsV "ManyEyes$Tokens" 62 "java/lang/String" yJ8_length (ws_ yJ8_length cJ8_length 1 (some .int))) ∧ yJ8_length.cls = "java/lang/String" ∧ yJ8_length.cls ≠ "java/lang/invoke/MethodHandle" ∧ yJ8_length.cls ≠ "java/lang/invoke/VarHandle" ∧ (parseMethodDescriptor yJ8_length.desc).map (fun d => d.parameters.length) = some 0 := ⟨lw_V q596 q597 q598 q95 q599, by decide +kernel⟩
theorem cx_X6_68 : GoodIn lw_all (wsV "ManyEyes$Tokens" 68 "java/lang/String" yJ8_charAt (ws_ yJ8_charAt cJ8_charAt 2 (some .char))) ∧ yJ8_charAt.cls = "java/lang/String" ∧ yJ8_charAt.cls ≠ "java/lang/invoke/MethodHandle" ∧ yJ8_charAt.cls ≠ "java/lang/invoke/VarHandle" ∧ (parseMethodDescriptor yJ8_charAt.desc).map (fun d => d.parameters.length) = some 1 := ⟨lw_V q606 q607 q608 q95 q609, by decide +kernel⟩
def T_isWord_b20 (S : yS) (x1 : Int) (K20 : Int → Option Bool) (x2 : Int) : Option Bool := gd (r32 (x2) ∧ r32 (gLn (Int.toNat x1))) (if x2 < (gLn (Int.toNat x1)) then (gd ((0 : Int) ≤ (S.1 5) + x2 ∧ ((S.1 5) + x2 : Int) < 300) (gd ((0 : Int) ≤ x2 ∧ (x2 : Int) < gLn (Int.toNat x1)) (gd (r32 (S.2 0 ((S.1 5) + x2)) ∧ r32 (gSg (Int.toNat x1) x2)) (if (S.2 0 ((S.1 5) + x2)) = (gSg (Int.toNat x1) x2) then (nm ((x2 + 1) : Int) (fun v9 => K20 v9)) else (some false))))) else (some true))
def T_isWord_L20 (S : yS) (x1 : Int) : Nat → Int → Option Bool
  | 0 => fun _ => none
  | n + 1 => fun x2 => T_isWord_b20 S x1 (T_isWord_L20 S x1 n) x2
def T_isWord (S : yS) (x1 : Int) : Option Bool := gd (r32 ((S.1 4) - (S.1 5)) ∧ r32 (gLn (Int.toNat x1))) (if ((S.1 4) - (S.1 5)) = (gLn (Int.toNat x1)) then (T_isWord_L20 S x1 FU (0 : Int)) else (some false))
set_option maxHeartbeats 4000000 in
theorem wT_isWord (l : Launch) (Z : hZ) (q t : Nat) (S : yS) (x1 : Int) (gv_x1 : (0 : Int) ≤ x1 ∧ x1 < 13) (n0 : Nat) {r : Bool} (hh : T_isWord S x1 = some r) : mH l yX6_isWord cX6_isWord 3 (some .boolean) ({ frames := 5, cells := 0, slots := 0, locals := 181 } : Room) Z [.ref q, .ref (Z.G.adK (Int.toNat x1))] n0 (TKW Z q t S) (fun v H => v = some (.int (zi (bz r))) ∧ TKW Z q t S H) (tF q) 0 0 := by
  refine goHi (by decide +kernel) (Nat.le_of_ble_eq_true rfl) (fun v _ h => by have h1 := Option.some.inj h.1; rw [h1]; cases r <;> rfl) ?_
  intro p e s m args below meth c Q ls X hret hl hP hn hS _
  subst hn
  have hM : TKX Z q t S s s.heap [] := ⟨hP, hS⟩
  have hx := X.1.1
  have hb := X.1.2.1
  have hown := X.1.2.2.2.1
  have hts := X.1.2.2.2.2
  have hL20 : ∀ (x1 : Int) (gv_x1 : (0 : Int) ≤ x1 ∧ x1 < 13) (n : Nat) (x2 : Int), T_isWord_L20 S x1 n x2 = some r → ∀ (H : Heap) (locs : List Loc) (ls : Array Slot), TKX Z q t S s H locs → lv_has ls 3 [(0, .ref (q)), (1, .ref (Z.G.adK (Int.toNat x1))), (2, .int (zi (x2)))] → W p l e ({ frames := 5, cells := 0, slots := 0, locals := 181 } : Room) s m args below meth c H locs 0 0 Q (F0 m 20 ls []) := by
    intro x1 gv_x1 n
    induction n with
    | zero => intro x2 hh; exact no_some hh
    | succ n ih =>
      intro x2 hh H locs ls hM hl
      replace hh : T_isWord_b20 S x1 (T_isWord_L20 S x1 n) x2 = some r := hh
      unfold T_isWord_b20 at hh
      have hK20 := ih
      refine lv_iload_n hx hb dX6_isWord_20 rfl (lv_at hl 2 rfl) ?_
      refine lv_aload_n hx hb dX6_isWord_21 rfl (lv_at hl 1 rfl) ?_
      refine tks_len (rest := [.int (zi (x2))]) (i := (Int.toNat x1)) X hM (by have := gv_x1; omega) cx_X6_62.1 cx_X6_62.2 ⟨Nat.le_of_ble_eq_true rfl, Nat.le_of_ble_eq_true rfl⟩ hl.1 (Nat.le_of_ble_eq_true rfl) dX6_isWord_22 (fun H locs hM => ?_)
      obtain ⟨g4, hh⟩ := gd_inv hh
      refine g_icmp_ge (tgt := 55) hx hb g4 dX6_isWord_25 (by decide) (fun c3 => ?_) (fun c3 => ?_)
      · replace hh := it_t c3 hh
        refine lv_aload_n hx hb dX6_isWord_28 rfl (lv_at hl 0 rfl) ?_
        refine tm_get X hM tf_text q548 rfl dX6_isWord_29 ?_
        refine lv_aload_n hx hb dX6_isWord_32 rfl (lv_at hl 0 rfl) ?_
        refine tm_get X hM tf_token q553 rfl dX6_isWord_33 ?_
        refine lv_iload_n hx hb dX6_isWord_36 rfl (lv_at hl 2 rfl) ?_
        refine g_iadd hx hb dX6_isWord_37 ?_
        obtain ⟨g5, hh⟩ := gd_inv hh
        refine tm_bald X hM g5 dX6_isWord_38 ?_
        refine lv_aload_n hx hb dX6_isWord_39 rfl (lv_at hl 1 rfl) ?_
        refine lv_iload_n hx hb dX6_isWord_40 rfl (lv_at hl 2 rfl) ?_
        obtain ⟨g6, hh⟩ := gd_inv hh
        refine tks_cat (rest := [.int (zi (S.2 0 ((S.1 5) + x2)))]) (i := (Int.toNat x1)) X hM (by have := gv_x1; omega) g6 cx_X6_68.1 cx_X6_68.2 ⟨Nat.le_of_ble_eq_true rfl, Nat.le_of_ble_eq_true rfl⟩ hl.1 (Nat.le_of_ble_eq_true rfl) dX6_isWord_41 (fun H locs hM => ?_)
        obtain ⟨g8, hh⟩ := gd_inv hh
        refine g_icmp_eq (tgt := 49) hx hb g8 dX6_isWord_44 (by decide) (fun c7 => ?_) (fun c7 => ?_)
        · replace hh := it_t c7 hh
          obtain ⟨v9, e10⟩ : ∃ z : Int, z = x2 + 1 := ⟨_, rfl⟩
          replace hh := nm_inv hh v9 e10
          refine lv_iinc (v := zi v9) (lv' := [(2, .int (zi (v9))), (0, .ref (q)), (1, .ref (Z.G.adK (Int.toNat x1)))]) hx hb dX6_isWord_49 hl (k := 2) rfl (by rw [e10]; exact zi_add _ _) (by decide) rfl (fun ls hl => ?_)
          refine lv_goto (tgt := 20) hx hb dX6_isWord_52 (by decide) ?_
          exact hK20 v9 hh _ _ _ hM (lv_sub hl [1, 2, 0] rfl)
        · replace hh := it_f c7 hh
          refine lv_iconst (v := zi 0) hx hb dX6_isWord_47 rfl ?_
          exact hret _ _ _ _ 0 dX6_isWord_48 ⟨by rw [← rt0 hh]; rfl, hM.1⟩ hM.2
      · replace hh := it_f c3 hh
        refine lv_iconst (v := zi 1) hx hb dX6_isWord_55 rfl ?_
        exact hret _ _ _ _ 1 dX6_isWord_56 ⟨by rw [← rt0 hh]; rfl, hM.1⟩ hM.2
  replace hl : lv_has ls 3 [(0, .ref (q)), (1, .ref (Z.G.adK (Int.toNat x1)))] := hl
  unfold T_isWord at hh
  refine lv_aload_n hx hb dX6_isWord_0 rfl (lv_at hl 0 rfl) ?_
  refine tm_get X hM tf_at q552 rfl dX6_isWord_1 ?_
  refine lv_aload_n hx hb dX6_isWord_4 rfl (lv_at hl 0 rfl) ?_
  refine tm_get X hM tf_token q553 rfl dX6_isWord_5 ?_
  refine g_isub hx hb dX6_isWord_8 ?_
  refine lv_aload_n hx hb dX6_isWord_9 rfl (lv_at hl 1 rfl) ?_
  refine tks_len (rest := [.int (zi ((S.1 4) - (S.1 5)))]) (i := (Int.toNat x1)) X hM (by have := gv_x1; omega) cx_X6_62.1 cx_X6_62.2 ⟨Nat.le_of_ble_eq_true rfl, Nat.le_of_ble_eq_true rfl⟩ hl.1 (Nat.le_of_ble_eq_true rfl) dX6_isWord_10 (fun H locs hM => ?_)
  obtain ⟨g2, hh⟩ := gd_inv hh
  refine g_icmp_eq (tgt := 18) hx hb g2 dX6_isWord_13 (by decide) (fun c1 => ?_) (fun c1 => ?_)
  · replace hh := it_t c1 hh
    refine lv_iconst (v := zi 0) hx hb dX6_isWord_18 rfl ?_
    refine lv_istore_n (lv' := [(2, .int (zi (0))), (0, .ref (q)), (1, .ref (Z.G.adK (Int.toNat x1)))]) hx hb dX6_isWord_19 rfl hl (by decide) rfl (fun ls hl => ?_)
    exact hL20 x1 gv_x1 FU (0 : Int) hh _ _ _ hM (lv_sub hl [1, 2, 0] rfl)
  · replace hh := it_f c1 hh
    refine lv_iconst (v := zi 0) hx hb dX6_isWord_16 rfl ?_
    exact hret _ _ _ _ 0 dX6_isWord_17 ⟨by rw [← rt0 hh]; rfl, hM.1⟩ hM.2
theorem cx_X6_35 : GoodIn lw_all (va_wsS "ManyEyes$Tokens" 35 yX6_isLetter (ws_ yX6_isLetter cX6_isLetter 1 (some .boolean))) ∧ yX6_isLetter.cls ≠ "java/lang/invoke/MethodHandle" ∧ yX6_isLetter.cls ≠ "java/lang/invoke/VarHandle" ∧ (parseMethodDescriptor yX6_isLetter.desc).map (fun d => d.parameters.length) = some 1 := ⟨lw_S q587 q588 q94 q589, by decide +kernel⟩
theorem cx_X6_46 : GoodIn lw_all (wsV "ManyEyes$Tokens" 46 "ManyEyes$Tokens" yX6_isWord (ws_ yX6_isWord cX6_isWord 3 (some .boolean))) ∧ yX6_isWord.cls = "ManyEyes$Tokens" ∧ yX6_isWord.cls ≠ "java/lang/invoke/MethodHandle" ∧ yX6_isWord.cls ≠ "java/lang/invoke/VarHandle" ∧ (parseMethodDescriptor yX6_isWord.desc).map (fun d => d.parameters.length) = some 1 := ⟨lw_V q592 q594 qs15 q94 q595, by decide +kernel⟩
theorem cx_X6_50 : GoodIn lw_all (va_wsS "ManyEyes$Tokens" 50 yX6_isDigit (ws_ yX6_isDigit cX6_isDigit 1 (some .boolean))) ∧ yX6_isDigit.cls ≠ "java/lang/invoke/MethodHandle" ∧ yX6_isDigit.cls ≠ "java/lang/invoke/VarHandle" ∧ (parseMethodDescriptor yX6_isDigit.desc).map (fun d => d.parameters.length) = some 1 := ⟨lw_S q642 q643 q94 q644, by decide +kernel⟩
theorem cx_X6_54 : GoodIn lw_all (va_wsS "ManyEyes$Tokens" 54 yJ3_min (ws_ yJ3_min cJ3_min 2 (some .int))) ∧ yJ3_min.cls ≠ "java/lang/invoke/MethodHandle" ∧ yJ3_min.cls ≠ "java/lang/invoke/VarHandle" ∧ (parseMethodDescriptor yJ3_min.desc).map (fun d => d.parameters.length) = some 2 := ⟨lw_S q646 q280 q87 q281, by decide +kernel⟩
def T_next_B39 (K0 : yS → Option yS) (S : yS) : Option yS := nm (cfs S 4 ((S.1 4) + 1)) (fun S6 => K0 S6)
def T_next_b194 (K194 : yS → Int → Option yS) (S : yS) (x2 : Int) : Option yS := gd (r32 (x2)) (if x2 < 12 then (gd ((0 : Int) ≤ x2 ∧ (x2 : Int) < 12) (bd (T_isWord S x2) (fun v41 => if v41 = true then (nm (cfs S 6 (200 + x2)) (fun S44 => nm ((x2 + 1) : Int) (fun v46 => K194 S44 v46))) else (nm ((x2 + 1) : Int) (fun v48 => K194 S v48))))) else (some S))
def T_next_L194 : Nat → yS → Int → Option yS
  | 0 => fun _ _ => none
  | n + 1 => fun S x2 => T_next_b194  (T_next_L194  n) S x2
def T_next_B192 (S : yS) : Option yS := T_next_L194 FU S (0 : Int)
def T_next_B145 (S : yS) (x1 : Int) : Option yS := nm (cfs S 6 (302)) (fun S32 => gd (r32 ((S32.1 4) - (S32.1 5))) (if ((S32.1 4) - (S32.1 5)) = 1 then (gd (r32 (x1)) (if x1 < 65 then (T_next_B192 S32) else (gd (r32 (x1)) (if x1 < 73 then (nm (cfs S32 6 (305)) (fun S52 => nm (cfs S52 7 (x1 - 65)) (fun S54 => T_next_B192 S54))) else (T_next_B192 S32))))) else (T_next_B192 S32)))
def T_next_b106 (x1 : Int) (K106 : yS → Option yS) (S : yS) : Option yS := gd (r32 (S.1 4) ∧ r32 (S.1 1)) (if (S.1 4) < (S.1 1) then (gd ((0 : Int) ≤ S.1 4 ∧ (S.1 4 : Int) < 300) (bd (T_isLetter (S.2 0 (S.1 4))) (fun v27 => if v27 = true then (nm (cfs S 4 ((S.1 4) + 1)) (fun S30 => K106 S30)) else (T_next_B145 S x1)))) else (T_next_B145 S x1))
def T_next_L106 (x1 : Int) : Nat → yS → Option yS
  | 0 => fun _ => none
  | n + 1 => fun S => T_next_b106 x1 (T_next_L106 x1 n) S
def T_next_b259 (K259 : yS → Option yS) (S : yS) : Option yS := gd (r32 (S.1 4) ∧ r32 (S.1 1)) (if (S.1 4) < (S.1 1) then (gd ((0 : Int) ≤ S.1 4 ∧ (S.1 4 : Int) < 300) (bd (T_isDigit (S.2 0 (S.1 4))) (fun v67 => if v67 = true then (gd ((0 : Int) ≤ S.1 4 ∧ (S.1 4 : Int) < 300) (bd (Ma_min (99999 : Int) (((10 * (S.1 7)) + (S.2 0 (S.1 4))) - 48)) (fun v71 => nm (cfs S 7 (v71)) (fun S73 => nm (cfs S73 4 ((S73.1 4) + 1)) (fun S75 => K259 S75))))) else (some S)))) else (some S))
def T_next_L259 : Nat → yS → Option yS
  | 0 => fun _ => none
  | n + 1 => fun S => T_next_b259  (T_next_L259  n) S
def T_next_B439 (S : yS) (t0 : Int) : Option yS := nm (cfs S 6 (t0)) (fun S104 => nm (cfs S104 4 ((S104.1 4) + 1)) (fun S106 => some S106))
def T_next_B398 (S : yS) (x1 : Int) : Option yS := gd (r32 (S.1 4) ∧ r32 (S.1 1)) (if (S.1 4) < (S.1 1) then (gd ((0 : Int) ≤ S.1 4 ∧ (S.1 4 : Int) < 300) (gd (r32 (S.2 0 (S.1 4))) (if (S.2 0 (S.1 4)) = 61 then (gd (r32 (x1)) (if x1 = 60 then (T_next_B439 S (303 : Int)) else (T_next_B439 S (304 : Int)))) else (some S)))) else (some S))
def T_next_b356 (x1 : Int) (K356 : yS → Int → Option yS) (S : yS) (x2 : Int) : Option yS := gd (r32 (x2) ∧ r32 (gLn 12)) (if x2 < (gLn 12) then (gd ((0 : Int) ≤ x2 ∧ (x2 : Int) < gLn 12) (gd (r32 (gSg 12 x2) ∧ r32 (x1)) (if (gSg 12 x2) = x1 then (nm (cfs S 6 (x1)) (fun S89 => nm ((x2 + 1) : Int) (fun v91 => K356 S89 v91))) else (nm ((x2 + 1) : Int) (fun v93 => K356 S v93))))) else (gd (r32 (x1)) (if x1 = 60 then (T_next_B398 S x1) else (gd (r32 (x1)) (if x1 = 62 then (T_next_B398 S x1) else (some S))))))
def T_next_L356 (x1 : Int) : Nat → yS → Int → Option yS
  | 0 => fun _ _ => none
  | n + 1 => fun S x2 => T_next_b356 x1 (T_next_L356 x1 n) S x2
def T_next_B52 (S : yS) : Option yS := nm (cfs S 5 (S.1 4)) (fun S11 => gd (r32 (S11.1 4) ∧ r32 (S11.1 1)) (if (S11.1 4) = (S11.1 1) then (nm (cfs S11 6 (301)) (fun S15 => some S15)) else (gd ((0 : Int) ≤ S11.1 4 ∧ (S11.1 4 : Int) < 300) (bd (T_isLetter (S11.2 0 (S11.1 4))) (fun v18 => if v18 = true then (gd ((0 : Int) ≤ S11.1 4 ∧ (S11.1 4 : Int) < 300) (nm (S11.2 0 (S11.1 4)) (fun v22 => T_next_L106 v22 FU S11))) else (gd ((0 : Int) ≤ S11.1 4 ∧ (S11.1 4 : Int) < 300) (bd (T_isDigit (S11.2 0 (S11.1 4))) (fun v57 => if v57 = true then (nm (cfs S11 6 (300)) (fun S60 => nm (cfs S60 7 (0)) (fun S62 => T_next_L259 FU S62))) else (gd ((0 : Int) ≤ S11.1 4 ∧ (S11.1 4 : Int) < 300) (nm (S11.2 0 (S11.1 4)) (fun v78 => nm (cfs S11 4 ((S11.1 4) + 1)) (fun S80 => nm (cfs S80 6 (302)) (fun S82 => T_next_L356 v78 FU S82 (0 : Int))))))))))))))
def T_next_b0 (K0 : yS → Option yS) (S : yS) : Option yS := gd (r32 (S.1 4) ∧ r32 (S.1 1)) (if (S.1 4) < (S.1 1) then (gd ((0 : Int) ≤ S.1 4 ∧ (S.1 4 : Int) < 300) (gd (r32 (S.2 0 (S.1 4))) (if (S.2 0 (S.1 4)) = 32 then (T_next_B39 K0 S) else (gd ((0 : Int) ≤ S.1 4 ∧ (S.1 4 : Int) < 300) (gd (r32 (S.2 0 (S.1 4))) (if (S.2 0 (S.1 4)) = 10 then (T_next_B39 K0 S) else (T_next_B52 S))))))) else (T_next_B52 S))
def T_next_L0 : Nat → yS → Option yS
  | 0 => fun _ => none
  | n + 1 => fun S => T_next_b0  (T_next_L0  n) S
def T_next (S : yS) : Option yS := T_next_L0 FU S
set_option maxHeartbeats 4000000 in
theorem wT_next (l : Launch) (Z : hZ) (q t : Nat) (S : yS) (n0 : Nat) {S1 : yS} (hh : T_next S = some S1) : mH l yX6_next cX6_next 3 none ({ frames := 6, cells := 0, slots := 0, locals := 203 } : Room) Z [.ref q] n0 (TKW Z q t S) (fun v H => v = none ∧ TKW Z q t S1 H) (tF q) 0 0 := by
  refine goHv (by decide +kernel) (Nat.le_of_ble_eq_true rfl) ?_
  intro p e s m args below meth c Q ls X hret hl hP hn hS _
  subst hn
  have hM : TKX Z q t S s s.heap [] := ⟨hP, hS⟩
  have hx := X.1.1
  have hb := X.1.2.1
  have hown := X.1.2.2.2.1
  have hts := X.1.2.2.2.2
  have hB39 : ∀ (K0 : yS → Option yS) (hK0 : (∀ (S : yS), K0 S = some S1 → ∀ (H : Heap) (locs : List Loc) (ls : Array Slot), TKX Z q t S s H locs → lv_has ls 3 [(0, .ref (q))] → W p l e ({ frames := 6, cells := 0, slots := 0, locals := 203 } : Room) s m args below meth c H locs 0 0 Q (F0 m 0 ls []))) (S : yS), T_next_B39 K0 S = some S1 → ∀ (H : Heap) (locs : List Loc) (ls : Array Slot), TKX Z q t S s H locs → lv_has ls 3 [(0, .ref (q))] → W p l e ({ frames := 6, cells := 0, slots := 0, locals := 203 } : Room) s m args below meth c H locs 0 0 Q (F0 m 39 ls []) := by
    intro  K0 hK0 S hh H locs ls hM hl
    unfold T_next_B39 at hh
    refine lv_aload_n hx hb dX6_next_39 rfl (lv_at hl 0 rfl) ?_
    refine lv_dup hx hb dX6_next_40 rfl ?_
    refine tm_get X hM tf_at q552 rfl dX6_next_41 ?_
    refine lv_iconst (v := zi 1) hx hb dX6_next_44 rfl ?_
    refine g_iadd hx hb dX6_next_45 ?_
    refine tm_put (z := (S.1 4) + 1) X hM (tp_at _) q552 rfl dX6_next_46 (fun H locs S6 e7 hM => ?_)
    replace hh := nm_inv hh S6 e7
    refine lv_goto (tgt := 0) hx hb dX6_next_49 (by decide) ?_
    exact hK0 S6 hh _ _ _ hM (lv_sub hl [0] rfl)
  have hL194 : ∀ (n : Nat) (S : yS) (x2 : Int), T_next_L194 n S x2 = some S1 → ∀ (H : Heap) (locs : List Loc) (ls : Array Slot), TKX Z q t S s H locs → lv_has ls 3 [(0, .ref (q)), (2, .int (zi (x2)))] → W p l e ({ frames := 6, cells := 0, slots := 0, locals := 203 } : Room) s m args below meth c H locs 0 0 Q (F0 m 194 ls []) := by
    intro   n
    induction n with
    | zero => intro S x2 hh; exact no_some hh
    | succ n ih =>
      intro S x2 hh H locs ls hM hl
      replace hh : T_next_b194 (T_next_L194 n) S x2 = some S1 := hh
      unfold T_next_b194 at hh
      have hK194 := ih
      refine lv_iload_n hx hb dX6_next_194 rfl (lv_at hl 1 rfl) ?_
      refine tm_words X hM q590 dX6_next_195 ?_
      refine tm_wlen X hM dX6_next_198 ?_
      obtain ⟨g39, hh⟩ := gd_inv hh
      refine g_icmp_ge (tgt := 229) hx hb ⟨g39, by decide⟩ dX6_next_199 (by decide) (fun c38 => ?_) (fun c38 => ?_)
      · replace hh := it_t c38 hh
        refine lv_aload_n hx hb dX6_next_202 rfl (lv_at hl 0 rfl) ?_
        refine tm_words X hM q590 dX6_next_203 ?_
        refine lv_iload_n hx hb dX6_next_206 rfl (lv_at hl 1 rfl) ?_
        obtain ⟨g40, hh⟩ := gd_inv hh
        refine tm_wald X hM g40 dX6_next_207 ?_
        obtain ⟨v41, k42, hh⟩ := bd_inv hh
        refine tkc_word (rest := []) X hM (wT_isWord l Z q t S x2 (by have := g40; omega) H.size k42) cx_X6_46.1 cx_X6_46.2 ⟨rfl, rfl⟩ ⟨Nat.le_of_ble_eq_true rfl, Nat.le_of_ble_eq_true rfl⟩ hl.1 (Nat.le_of_ble_eq_true rfl) dX6_next_208 (fun H locs hM => ?_)
        refine g_bif_eq (tgt := 223) hx hb dX6_next_211 (by decide) (fun c43 => ?_) (fun c43 => ?_)
        · replace hh := it_t c43 hh
          refine lv_aload_n hx hb dX6_next_214 rfl (lv_at hl 0 rfl) ?_
          refine lv_sipush (v := zi 200) hx hb dX6_next_215 (by decide) ?_
          refine lv_iload_n hx hb dX6_next_218 rfl (lv_at hl 1 rfl) ?_
          refine g_iadd hx hb dX6_next_219 ?_
          refine tm_put (z := 200 + x2) X hM (tp_sort _) q554 rfl dX6_next_220 (fun H locs S44 e45 hM => ?_)
          replace hh := nm_inv hh S44 e45
          obtain ⟨v46, e47⟩ : ∃ z : Int, z = x2 + 1 := ⟨_, rfl⟩
          replace hh := nm_inv hh v46 e47
          refine lv_iinc (v := zi v46) (lv' := [(2, .int (zi (v46))), (0, .ref (q))]) hx hb dX6_next_223 hl (k := 1) rfl (by rw [e47]; exact zi_add _ _) (by decide) rfl (fun ls hl => ?_)
          refine lv_goto (tgt := 194) hx hb dX6_next_226 (by decide) ?_
          exact hK194 S44 v46 hh _ _ _ hM (lv_sub hl [1, 0] rfl)
        · replace hh := it_f c43 hh
          obtain ⟨v48, e49⟩ : ∃ z : Int, z = x2 + 1 := ⟨_, rfl⟩
          replace hh := nm_inv hh v48 e49
          refine lv_iinc (v := zi v48) (lv' := [(2, .int (zi (v48))), (0, .ref (q))]) hx hb dX6_next_223 hl (k := 1) rfl (by rw [e49]; exact zi_add _ _) (by decide) rfl (fun ls hl => ?_)
          refine lv_goto (tgt := 194) hx hb dX6_next_226 (by decide) ?_
          exact hK194 S v48 hh _ _ _ hM (lv_sub hl [1, 0] rfl)
      · replace hh := it_f c38 hh
        refine lv_goto (tgt := 452) hx hb dX6_next_229 (by decide) ?_
        exact hret _ _ _ _ dX6_next_452 ⟨rfl, by rw [← rt0 hh]; exact hM.1⟩ hM.2
  have hB192 : ∀ (S : yS), T_next_B192 S = some S1 → ∀ (H : Heap) (locs : List Loc) (ls : Array Slot), TKX Z q t S s H locs → lv_has ls 3 [(0, .ref (q))] → W p l e ({ frames := 6, cells := 0, slots := 0, locals := 203 } : Room) s m args below meth c H locs 0 0 Q (F0 m 192 ls []) := by
    intro   S hh H locs ls hM hl
    unfold T_next_B192 at hh
    refine lv_iconst (v := zi 0) hx hb dX6_next_192 rfl ?_
    refine lv_istore_n (lv' := [(2, .int (zi (0))), (0, .ref (q))]) hx hb dX6_next_193 rfl hl (by decide) rfl (fun ls hl => ?_)
    exact hL194 FU S (0 : Int) hh _ _ _ hM (lv_sub hl [1, 0] rfl)
  have hB145 : ∀ (x1 : Int) (S : yS), T_next_B145 S x1 = some S1 → ∀ (H : Heap) (locs : List Loc) (ls : Array Slot), TKX Z q t S s H locs → lv_has ls 3 [(0, .ref (q)), (1, .int (zi (x1)))] → W p l e ({ frames := 6, cells := 0, slots := 0, locals := 203 } : Room) s m args below meth c H locs 0 0 Q (F0 m 145 ls []) := by
    intro x1  S hh H locs ls hM hl
    unfold T_next_B145 at hh
    refine lv_aload_n hx hb dX6_next_145 rfl (lv_at hl 0 rfl) ?_
    refine lv_sipush (v := zi 302) hx hb dX6_next_146 (by decide) ?_
    refine tm_put (z := 302) X hM (tp_sort _) q554 rfl dX6_next_149 (fun H locs S32 e33 hM => ?_)
    replace hh := nm_inv hh S32 e33
    refine lv_aload_n hx hb dX6_next_152 rfl (lv_at hl 0 rfl) ?_
    refine tm_get X hM tf_at q552 rfl dX6_next_153 ?_
    refine lv_aload_n hx hb dX6_next_156 rfl (lv_at hl 0 rfl) ?_
    refine tm_get X hM tf_token q553 rfl dX6_next_157 ?_
    refine g_isub hx hb dX6_next_160 ?_
    refine lv_iconst (v := zi 1) hx hb dX6_next_161 rfl ?_
    obtain ⟨g35, hh⟩ := gd_inv hh
    refine g_icmp_ne (tgt := 192) hx hb ⟨g35, by decide⟩ dX6_next_162 (by decide) (fun c34 => ?_) (fun c34 => ?_)
    · replace hh := it_t c34 hh
      refine lv_iload_n hx hb dX6_next_165 rfl (lv_at hl 1 rfl) ?_
      refine lv_bipush (v := zi 65) hx hb dX6_next_166 (by decide) ?_
      obtain ⟨g37, hh⟩ := gd_inv hh
      refine g_icmp_lt (tgt := 192) hx hb ⟨g37, by decide⟩ dX6_next_168 (by decide) (fun c36 => ?_) (fun c36 => ?_)
      · replace hh := it_t c36 hh
        exact hB192 S32 hh _ _ _ hM (lv_sub hl [0] rfl)
      · replace hh := it_f c36 hh
        refine lv_iload_n hx hb dX6_next_171 rfl (lv_at hl 1 rfl) ?_
        refine lv_bipush (v := zi 73) hx hb dX6_next_172 (by decide) ?_
        obtain ⟨g51, hh⟩ := gd_inv hh
        refine g_icmp_ge (tgt := 192) hx hb ⟨g51, by decide⟩ dX6_next_174 (by decide) (fun c50 => ?_) (fun c50 => ?_)
        · replace hh := it_t c50 hh
          refine lv_aload_n hx hb dX6_next_177 rfl (lv_at hl 0 rfl) ?_
          refine lv_sipush (v := zi 305) hx hb dX6_next_178 (by decide) ?_
          refine tm_put (z := 305) X hM (tp_sort _) q554 rfl dX6_next_181 (fun H locs S52 e53 hM => ?_)
          replace hh := nm_inv hh S52 e53
          refine lv_aload_n hx hb dX6_next_184 rfl (lv_at hl 0 rfl) ?_
          refine lv_iload_n hx hb dX6_next_185 rfl (lv_at hl 1 rfl) ?_
          refine lv_bipush (v := zi 65) hx hb dX6_next_186 (by decide) ?_
          refine g_isub hx hb dX6_next_188 ?_
          refine tm_put (z := x1 - 65) X hM (tp_number _) q555 rfl dX6_next_189 (fun H locs S54 e55 hM => ?_)
          replace hh := nm_inv hh S54 e55
          exact hB192 S54 hh _ _ _ hM (lv_sub hl [0] rfl)
        · replace hh := it_f c50 hh
          exact hB192 S32 hh _ _ _ hM (lv_sub hl [0] rfl)
    · replace hh := it_f c34 hh
      exact hB192 S32 hh _ _ _ hM (lv_sub hl [0] rfl)
  have hL106 : ∀ (x1 : Int) (n : Nat) (S : yS), T_next_L106 x1 n S = some S1 → ∀ (H : Heap) (locs : List Loc) (ls : Array Slot), TKX Z q t S s H locs → lv_has ls 3 [(0, .ref (q)), (1, .int (zi (x1)))] → W p l e ({ frames := 6, cells := 0, slots := 0, locals := 203 } : Room) s m args below meth c H locs 0 0 Q (F0 m 106 ls []) := by
    intro x1  n
    induction n with
    | zero => intro S hh; exact no_some hh
    | succ n ih =>
      intro S hh H locs ls hM hl
      replace hh : T_next_b106 x1 (T_next_L106 x1 n) S = some S1 := hh
      unfold T_next_b106 at hh
      have hK106 := ih
      refine lv_aload_n hx hb dX6_next_106 rfl (lv_at hl 0 rfl) ?_
      refine tm_get X hM tf_at q552 rfl dX6_next_107 ?_
      refine lv_aload_n hx hb dX6_next_110 rfl (lv_at hl 0 rfl) ?_
      refine tm_get X hM tf_size q549 rfl dX6_next_111 ?_
      obtain ⟨g25, hh⟩ := gd_inv hh
      refine g_icmp_ge (tgt := 145) hx hb g25 dX6_next_114 (by decide) (fun c24 => ?_) (fun c24 => ?_)
      · replace hh := it_t c24 hh
        refine lv_aload_n hx hb dX6_next_117 rfl (lv_at hl 0 rfl) ?_
        refine tm_get X hM tf_text q548 rfl dX6_next_118 ?_
        refine lv_aload_n hx hb dX6_next_121 rfl (lv_at hl 0 rfl) ?_
        refine tm_get X hM tf_at q552 rfl dX6_next_122 ?_
        obtain ⟨g26, hh⟩ := gd_inv hh
        refine tm_bald X hM g26 dX6_next_125 ?_
        obtain ⟨v27, k28, hh⟩ := bd_inv hh
        refine tks_z (rest := []) X hM (wT_isLetter l (S.2 0 (S.1 4)) k28) cx_X6_35.1 cx_X6_35.2 ⟨rfl, rfl⟩ ⟨Nat.le_of_ble_eq_true rfl, Nat.le_of_ble_eq_true rfl⟩ ⟨Nat.zero_le _, Nat.zero_le _⟩ hl.1 (Nat.le_of_ble_eq_true rfl) dX6_next_126 rfl (fun H locs hM => ?_)
        refine g_bif_eq (tgt := 145) hx hb dX6_next_129 (by decide) (fun c29 => ?_) (fun c29 => ?_)
        · replace hh := it_t c29 hh
          refine lv_aload_n hx hb dX6_next_132 rfl (lv_at hl 0 rfl) ?_
          refine lv_dup hx hb dX6_next_133 rfl ?_
          refine tm_get X hM tf_at q552 rfl dX6_next_134 ?_
          refine lv_iconst (v := zi 1) hx hb dX6_next_137 rfl ?_
          refine g_iadd hx hb dX6_next_138 ?_
          refine tm_put (z := (S.1 4) + 1) X hM (tp_at _) q552 rfl dX6_next_139 (fun H locs S30 e31 hM => ?_)
          replace hh := nm_inv hh S30 e31
          refine lv_goto (tgt := 106) hx hb dX6_next_142 (by decide) ?_
          exact hK106 S30 hh _ _ _ hM (lv_sub hl [0, 1] rfl)
        · replace hh := it_f c29 hh
          exact hB145 x1 S hh _ _ _ hM (lv_sub hl [0, 1] rfl)
      · replace hh := it_f c24 hh
        exact hB145 x1 S hh _ _ _ hM (lv_sub hl [0, 1] rfl)
  have hL259 : ∀ (n : Nat) (S : yS), T_next_L259 n S = some S1 → ∀ (H : Heap) (locs : List Loc) (ls : Array Slot), TKX Z q t S s H locs → lv_has ls 3 [(0, .ref (q))] → W p l e ({ frames := 6, cells := 0, slots := 0, locals := 203 } : Room) s m args below meth c H locs 0 0 Q (F0 m 259 ls []) := by
    intro   n
    induction n with
    | zero => intro S hh; exact no_some hh
    | succ n ih =>
      intro S hh H locs ls hM hl
      replace hh : T_next_b259 (T_next_L259 n) S = some S1 := hh
      unfold T_next_b259 at hh
      have hK259 := ih
      refine lv_aload_n hx hb dX6_next_259 rfl (lv_at hl 0 rfl) ?_
      refine tm_get X hM tf_at q552 rfl dX6_next_260 ?_
      refine lv_aload_n hx hb dX6_next_263 rfl (lv_at hl 0 rfl) ?_
      refine tm_get X hM tf_size q549 rfl dX6_next_264 ?_
      obtain ⟨g65, hh⟩ := gd_inv hh
      refine g_icmp_ge (tgt := 452) hx hb g65 dX6_next_267 (by decide) (fun c64 => ?_) (fun c64 => ?_)
      · replace hh := it_t c64 hh
        refine lv_aload_n hx hb dX6_next_270 rfl (lv_at hl 0 rfl) ?_
        refine tm_get X hM tf_text q548 rfl dX6_next_271 ?_
        refine lv_aload_n hx hb dX6_next_274 rfl (lv_at hl 0 rfl) ?_
        refine tm_get X hM tf_at q552 rfl dX6_next_275 ?_
        obtain ⟨g66, hh⟩ := gd_inv hh
        refine tm_bald X hM g66 dX6_next_278 ?_
        obtain ⟨v67, k68, hh⟩ := bd_inv hh
        refine tks_z (rest := []) X hM (wT_isDigit l (S.2 0 (S.1 4)) k68) cx_X6_50.1 cx_X6_50.2 ⟨rfl, rfl⟩ ⟨Nat.le_of_ble_eq_true rfl, Nat.le_of_ble_eq_true rfl⟩ ⟨Nat.zero_le _, Nat.zero_le _⟩ hl.1 (Nat.le_of_ble_eq_true rfl) dX6_next_279 rfl (fun H locs hM => ?_)
        refine g_bif_eq (tgt := 452) hx hb dX6_next_282 (by decide) (fun c69 => ?_) (fun c69 => ?_)
        · replace hh := it_t c69 hh
          refine lv_aload_n hx hb dX6_next_285 rfl (lv_at hl 0 rfl) ?_
          refine g_ldc (v := 99999) (z := 99999) hx hb (by decide) hown (hts _ q645) dX6_next_286 ?_
          refine lv_bipush (v := zi 10) hx hb dX6_next_288 (by decide) ?_
          refine lv_aload_n hx hb dX6_next_290 rfl (lv_at hl 0 rfl) ?_
          refine tm_get X hM tf_number q555 rfl dX6_next_291 ?_
          refine g_imul hx hb dX6_next_294 ?_
          refine lv_aload_n hx hb dX6_next_295 rfl (lv_at hl 0 rfl) ?_
          refine tm_get X hM tf_text q548 rfl dX6_next_296 ?_
          refine lv_aload_n hx hb dX6_next_299 rfl (lv_at hl 0 rfl) ?_
          refine tm_get X hM tf_at q552 rfl dX6_next_300 ?_
          obtain ⟨g70, hh⟩ := gd_inv hh
          refine tm_bald X hM g70 dX6_next_303 ?_
          refine g_iadd hx hb dX6_next_304 ?_
          refine lv_bipush (v := zi 48) hx hb dX6_next_305 (by decide) ?_
          refine g_isub hx hb dX6_next_307 ?_
          obtain ⟨v71, k72, hh⟩ := bd_inv hh
          refine tks_i (rest := [.ref (q)]) X hM (wMa_min l (99999 : Int) (((10 * (S.1 7)) + (S.2 0 (S.1 4))) - 48) k72) cx_X6_54.1 cx_X6_54.2 ⟨rfl, rfl⟩ ⟨Nat.le_of_ble_eq_true rfl, Nat.le_of_ble_eq_true rfl⟩ ⟨Nat.zero_le _, Nat.zero_le _⟩ hl.1 (Nat.le_of_ble_eq_true rfl) dX6_next_308 rfl (fun H locs hM => ?_)
          refine tm_put (z := v71) X hM (tp_number _) q555 rfl dX6_next_311 (fun H locs S73 e74 hM => ?_)
          replace hh := nm_inv hh S73 e74
          refine lv_aload_n hx hb dX6_next_314 rfl (lv_at hl 0 rfl) ?_
          refine lv_dup hx hb dX6_next_315 rfl ?_
          refine tm_get X hM tf_at q552 rfl dX6_next_316 ?_
          refine lv_iconst (v := zi 1) hx hb dX6_next_319 rfl ?_
          refine g_iadd hx hb dX6_next_320 ?_
          refine tm_put (z := (S73.1 4) + 1) X hM (tp_at _) q552 rfl dX6_next_321 (fun H locs S75 e76 hM => ?_)
          replace hh := nm_inv hh S75 e76
          refine lv_goto (tgt := 259) hx hb dX6_next_324 (by decide) ?_
          exact hK259 S75 hh _ _ _ hM (lv_sub hl [0] rfl)
        · replace hh := it_f c69 hh
          exact hret _ _ _ _ dX6_next_452 ⟨rfl, by rw [← rt0 hh]; exact hM.1⟩ hM.2
      · replace hh := it_f c64 hh
        exact hret _ _ _ _ dX6_next_452 ⟨rfl, by rw [← rt0 hh]; exact hM.1⟩ hM.2
  have hB439 : ∀ (t0 : Int) (S : yS), T_next_B439 S t0 = some S1 → ∀ (H : Heap) (locs : List Loc) (ls : Array Slot), TKX Z q t S s H locs → lv_has ls 3 [(0, .ref (q))] → W p l e ({ frames := 6, cells := 0, slots := 0, locals := 203 } : Room) s m args below meth c H locs 0 0 Q (F0 m 439 ls [.int (zi (t0)), .ref (q)]) := by
    intro t0  S hh H locs ls hM hl
    unfold T_next_B439 at hh
    refine tm_put (z := t0) X hM (tp_sort _) q554 rfl dX6_next_439 (fun H locs S104 e105 hM => ?_)
    replace hh := nm_inv hh S104 e105
    refine lv_aload_n hx hb dX6_next_442 rfl (lv_at hl 0 rfl) ?_
    refine lv_dup hx hb dX6_next_443 rfl ?_
    refine tm_get X hM tf_at q552 rfl dX6_next_444 ?_
    refine lv_iconst (v := zi 1) hx hb dX6_next_447 rfl ?_
    refine g_iadd hx hb dX6_next_448 ?_
    refine tm_put (z := (S104.1 4) + 1) X hM (tp_at _) q552 rfl dX6_next_449 (fun H locs S106 e107 hM => ?_)
    replace hh := nm_inv hh S106 e107
    exact hret _ _ _ _ dX6_next_452 ⟨rfl, by rw [← rt0 hh]; exact hM.1⟩ hM.2
  have hB398 : ∀ (x1 : Int) (S : yS), T_next_B398 S x1 = some S1 → ∀ (H : Heap) (locs : List Loc) (ls : Array Slot), TKX Z q t S s H locs → lv_has ls 3 [(0, .ref (q)), (1, .int (zi (x1)))] → W p l e ({ frames := 6, cells := 0, slots := 0, locals := 203 } : Room) s m args below meth c H locs 0 0 Q (F0 m 398 ls []) := by
    intro x1  S hh H locs ls hM hl
    unfold T_next_B398 at hh
    refine lv_aload_n hx hb dX6_next_398 rfl (lv_at hl 0 rfl) ?_
    refine tm_get X hM tf_at q552 rfl dX6_next_399 ?_
    refine lv_aload_n hx hb dX6_next_402 rfl (lv_at hl 0 rfl) ?_
    refine tm_get X hM tf_size q549 rfl dX6_next_403 ?_
    obtain ⟨g98, hh⟩ := gd_inv hh
    refine g_icmp_ge (tgt := 452) hx hb g98 dX6_next_406 (by decide) (fun c97 => ?_) (fun c97 => ?_)
    · replace hh := it_t c97 hh
      refine lv_aload_n hx hb dX6_next_409 rfl (lv_at hl 0 rfl) ?_
      refine tm_get X hM tf_text q548 rfl dX6_next_410 ?_
      refine lv_aload_n hx hb dX6_next_413 rfl (lv_at hl 0 rfl) ?_
      refine tm_get X hM tf_at q552 rfl dX6_next_414 ?_
      obtain ⟨g99, hh⟩ := gd_inv hh
      refine tm_bald X hM g99 dX6_next_417 ?_
      refine lv_bipush (v := zi 61) hx hb dX6_next_418 (by decide) ?_
      obtain ⟨g101, hh⟩ := gd_inv hh
      refine g_icmp_ne (tgt := 452) hx hb ⟨g101, by decide⟩ dX6_next_420 (by decide) (fun c100 => ?_) (fun c100 => ?_)
      · replace hh := it_t c100 hh
        refine lv_aload_n hx hb dX6_next_423 rfl (lv_at hl 0 rfl) ?_
        refine lv_iload_n hx hb dX6_next_424 rfl (lv_at hl 1 rfl) ?_
        refine lv_bipush (v := zi 60) hx hb dX6_next_425 (by decide) ?_
        obtain ⟨g103, hh⟩ := gd_inv hh
        refine g_icmp_ne (tgt := 436) hx hb ⟨g103, by decide⟩ dX6_next_427 (by decide) (fun c102 => ?_) (fun c102 => ?_)
        · replace hh := it_t c102 hh
          refine lv_sipush (v := zi 303) hx hb dX6_next_430 (by decide) ?_
          refine lv_goto (tgt := 439) hx hb dX6_next_433 (by decide) ?_
          exact hB439 (303 : Int) S hh _ _ _ hM (lv_sub hl [0] rfl)
        · replace hh := it_f c102 hh
          refine lv_sipush (v := zi 304) hx hb dX6_next_436 (by decide) ?_
          exact hB439 (304 : Int) S hh _ _ _ hM (lv_sub hl [0] rfl)
      · replace hh := it_f c100 hh
        exact hret _ _ _ _ dX6_next_452 ⟨rfl, by rw [← rt0 hh]; exact hM.1⟩ hM.2
    · replace hh := it_f c97 hh
      exact hret _ _ _ _ dX6_next_452 ⟨rfl, by rw [← rt0 hh]; exact hM.1⟩ hM.2
  have hL356 : ∀ (x1 : Int) (n : Nat) (S : yS) (x2 : Int), T_next_L356 x1 n S x2 = some S1 → ∀ (H : Heap) (locs : List Loc) (ls : Array Slot), TKX Z q t S s H locs → lv_has ls 3 [(0, .ref (q)), (1, .int (zi (x1))), (2, .int (zi (x2)))] → W p l e ({ frames := 6, cells := 0, slots := 0, locals := 203 } : Room) s m args below meth c H locs 0 0 Q (F0 m 356 ls []) := by
    intro x1  n
    induction n with
    | zero => intro S x2 hh; exact no_some hh
    | succ n ih =>
      intro S x2 hh H locs ls hM hl
      replace hh : T_next_b356 x1 (T_next_L356 x1 n) S x2 = some S1 := hh
      unfold T_next_b356 at hh
      have hK356 := ih
      refine lv_iload_n hx hb dX6_next_356 rfl (lv_at hl 2 rfl) ?_
      refine va_ldcS hx hb hown X.2.2.1.2.2.1 dX6_next_357 ?_
      refine tks_len (rest := [.int (zi (x2))]) (i := 12) X hM (by decide) cx_X6_62.1 cx_X6_62.2 ⟨Nat.le_of_ble_eq_true rfl, Nat.le_of_ble_eq_true rfl⟩ hl.1 (Nat.le_of_ble_eq_true rfl) dX6_next_359 (fun H locs hM => ?_)
      obtain ⟨g85, hh⟩ := gd_inv hh
      refine g_icmp_ge (tgt := 386) hx hb g85 dX6_next_362 (by decide) (fun c84 => ?_) (fun c84 => ?_)
      · replace hh := it_t c84 hh
        refine va_ldcS hx hb hown X.2.2.1.2.2.1 dX6_next_365 ?_
        refine lv_iload_n hx hb dX6_next_367 rfl (lv_at hl 2 rfl) ?_
        obtain ⟨g86, hh⟩ := gd_inv hh
        refine tks_cat (rest := []) (i := 12) X hM (by decide) g86 cx_X6_68.1 cx_X6_68.2 ⟨Nat.le_of_ble_eq_true rfl, Nat.le_of_ble_eq_true rfl⟩ hl.1 (Nat.le_of_ble_eq_true rfl) dX6_next_368 (fun H locs hM => ?_)
        refine lv_iload_n hx hb dX6_next_371 rfl (lv_at hl 1 rfl) ?_
        obtain ⟨g88, hh⟩ := gd_inv hh
        refine g_icmp_ne (tgt := 380) hx hb g88 dX6_next_372 (by decide) (fun c87 => ?_) (fun c87 => ?_)
        · replace hh := it_t c87 hh
          refine lv_aload_n hx hb dX6_next_375 rfl (lv_at hl 0 rfl) ?_
          refine lv_iload_n hx hb dX6_next_376 rfl (lv_at hl 1 rfl) ?_
          refine tm_put (z := x1) X hM (tp_sort _) q554 rfl dX6_next_377 (fun H locs S89 e90 hM => ?_)
          replace hh := nm_inv hh S89 e90
          obtain ⟨v91, e92⟩ : ∃ z : Int, z = x2 + 1 := ⟨_, rfl⟩
          replace hh := nm_inv hh v91 e92
          refine lv_iinc (v := zi v91) (lv' := [(2, .int (zi (v91))), (0, .ref (q)), (1, .int (zi (x1)))]) hx hb dX6_next_380 hl (k := 2) rfl (by rw [e92]; exact zi_add _ _) (by decide) rfl (fun ls hl => ?_)
          refine lv_goto (tgt := 356) hx hb dX6_next_383 (by decide) ?_
          exact hK356 S89 v91 hh _ _ _ hM (lv_sub hl [1, 2, 0] rfl)
        · replace hh := it_f c87 hh
          obtain ⟨v93, e94⟩ : ∃ z : Int, z = x2 + 1 := ⟨_, rfl⟩
          replace hh := nm_inv hh v93 e94
          refine lv_iinc (v := zi v93) (lv' := [(2, .int (zi (v93))), (0, .ref (q)), (1, .int (zi (x1)))]) hx hb dX6_next_380 hl (k := 2) rfl (by rw [e94]; exact zi_add _ _) (by decide) rfl (fun ls hl => ?_)
          refine lv_goto (tgt := 356) hx hb dX6_next_383 (by decide) ?_
          exact hK356 S v93 hh _ _ _ hM (lv_sub hl [1, 2, 0] rfl)
      · replace hh := it_f c84 hh
        refine lv_iload_n hx hb dX6_next_386 rfl (lv_at hl 1 rfl) ?_
        refine lv_bipush (v := zi 60) hx hb dX6_next_387 (by decide) ?_
        obtain ⟨g96, hh⟩ := gd_inv hh
        refine g_icmp_eq (tgt := 398) hx hb ⟨g96, by decide⟩ dX6_next_389 (by decide) (fun c95 => ?_) (fun c95 => ?_)
        · replace hh := it_t c95 hh
          exact hB398 x1 S hh _ _ _ hM (lv_sub hl [0, 1] rfl)
        · replace hh := it_f c95 hh
          refine lv_iload_n hx hb dX6_next_392 rfl (lv_at hl 1 rfl) ?_
          refine lv_bipush (v := zi 62) hx hb dX6_next_393 (by decide) ?_
          obtain ⟨g109, hh⟩ := gd_inv hh
          refine g_icmp_ne (tgt := 452) hx hb ⟨g109, by decide⟩ dX6_next_395 (by decide) (fun c108 => ?_) (fun c108 => ?_)
          · replace hh := it_t c108 hh
            exact hB398 x1 S hh _ _ _ hM (lv_sub hl [0, 1] rfl)
          · replace hh := it_f c108 hh
            exact hret _ _ _ _ dX6_next_452 ⟨rfl, by rw [← rt0 hh]; exact hM.1⟩ hM.2
  have hB52 : ∀ (S : yS), T_next_B52 S = some S1 → ∀ (H : Heap) (locs : List Loc) (ls : Array Slot), TKX Z q t S s H locs → lv_has ls 3 [(0, .ref (q))] → W p l e ({ frames := 6, cells := 0, slots := 0, locals := 203 } : Room) s m args below meth c H locs 0 0 Q (F0 m 52 ls []) := by
    intro   S hh H locs ls hM hl
    unfold T_next_B52 at hh
    refine lv_aload_n hx hb dX6_next_52 rfl (lv_at hl 0 rfl) ?_
    refine lv_aload_n hx hb dX6_next_53 rfl (lv_at hl 0 rfl) ?_
    refine tm_get X hM tf_at q552 rfl dX6_next_54 ?_
    refine tm_put (z := S.1 4) X hM (tp_token _) q553 rfl dX6_next_57 (fun H locs S11 e12 hM => ?_)
    replace hh := nm_inv hh S11 e12
    refine lv_aload_n hx hb dX6_next_60 rfl (lv_at hl 0 rfl) ?_
    refine tm_get X hM tf_at q552 rfl dX6_next_61 ?_
    refine lv_aload_n hx hb dX6_next_64 rfl (lv_at hl 0 rfl) ?_
    refine tm_get X hM tf_size q549 rfl dX6_next_65 ?_
    obtain ⟨g14, hh⟩ := gd_inv hh
    refine g_icmp_ne (tgt := 81) hx hb g14 dX6_next_68 (by decide) (fun c13 => ?_) (fun c13 => ?_)
    · replace hh := it_t c13 hh
      refine lv_aload_n hx hb dX6_next_71 rfl (lv_at hl 0 rfl) ?_
      refine lv_sipush (v := zi 301) hx hb dX6_next_72 (by decide) ?_
      refine tm_put (z := 301) X hM (tp_sort _) q554 rfl dX6_next_75 (fun H locs S15 e16 hM => ?_)
      replace hh := nm_inv hh S15 e16
      refine lv_goto (tgt := 452) hx hb dX6_next_78 (by decide) ?_
      exact hret _ _ _ _ dX6_next_452 ⟨rfl, by rw [← rt0 hh]; exact hM.1⟩ hM.2
    · replace hh := it_f c13 hh
      refine lv_aload_n hx hb dX6_next_81 rfl (lv_at hl 0 rfl) ?_
      refine tm_get X hM tf_text q548 rfl dX6_next_82 ?_
      refine lv_aload_n hx hb dX6_next_85 rfl (lv_at hl 0 rfl) ?_
      refine tm_get X hM tf_at q552 rfl dX6_next_86 ?_
      obtain ⟨g17, hh⟩ := gd_inv hh
      refine tm_bald X hM g17 dX6_next_89 ?_
      obtain ⟨v18, k19, hh⟩ := bd_inv hh
      refine tks_z (rest := []) X hM (wT_isLetter l (S11.2 0 (S11.1 4)) k19) cx_X6_35.1 cx_X6_35.2 ⟨rfl, rfl⟩ ⟨Nat.le_of_ble_eq_true rfl, Nat.le_of_ble_eq_true rfl⟩ ⟨Nat.zero_le _, Nat.zero_le _⟩ hl.1 (Nat.le_of_ble_eq_true rfl) dX6_next_90 rfl (fun H locs hM => ?_)
      refine g_bif_eq (tgt := 232) hx hb dX6_next_93 (by decide) (fun c20 => ?_) (fun c20 => ?_)
      · replace hh := it_t c20 hh
        refine lv_aload_n hx hb dX6_next_96 rfl (lv_at hl 0 rfl) ?_
        refine tm_get X hM tf_text q548 rfl dX6_next_97 ?_
        refine lv_aload_n hx hb dX6_next_100 rfl (lv_at hl 0 rfl) ?_
        refine tm_get X hM tf_at q552 rfl dX6_next_101 ?_
        obtain ⟨g21, hh⟩ := gd_inv hh
        refine tm_bald X hM g21 dX6_next_104 ?_
        refine g_nmi hx hb (fun v22 e23 => ?_)
        replace hh := nm_inv hh v22 e23
        refine lv_istore_n (lv' := [(1, .int (zi (v22))), (0, .ref (q))]) hx hb dX6_next_105 rfl hl (by decide) rfl (fun ls hl => ?_)
        exact hL106 v22 FU S11 hh _ _ _ hM (lv_sub hl [1, 0] rfl)
      · replace hh := it_f c20 hh
        refine lv_aload_n hx hb dX6_next_232 rfl (lv_at hl 0 rfl) ?_
        refine tm_get X hM tf_text q548 rfl dX6_next_233 ?_
        refine lv_aload_n hx hb dX6_next_236 rfl (lv_at hl 0 rfl) ?_
        refine tm_get X hM tf_at q552 rfl dX6_next_237 ?_
        obtain ⟨g56, hh⟩ := gd_inv hh
        refine tm_bald X hM g56 dX6_next_240 ?_
        obtain ⟨v57, k58, hh⟩ := bd_inv hh
        refine tks_z (rest := []) X hM (wT_isDigit l (S11.2 0 (S11.1 4)) k58) cx_X6_50.1 cx_X6_50.2 ⟨rfl, rfl⟩ ⟨Nat.le_of_ble_eq_true rfl, Nat.le_of_ble_eq_true rfl⟩ ⟨Nat.zero_le _, Nat.zero_le _⟩ hl.1 (Nat.le_of_ble_eq_true rfl) dX6_next_241 rfl (fun H locs hM => ?_)
        refine g_bif_eq (tgt := 327) hx hb dX6_next_244 (by decide) (fun c59 => ?_) (fun c59 => ?_)
        · replace hh := it_t c59 hh
          refine lv_aload_n hx hb dX6_next_247 rfl (lv_at hl 0 rfl) ?_
          refine lv_sipush (v := zi 300) hx hb dX6_next_248 (by decide) ?_
          refine tm_put (z := 300) X hM (tp_sort _) q554 rfl dX6_next_251 (fun H locs S60 e61 hM => ?_)
          replace hh := nm_inv hh S60 e61
          refine lv_aload_n hx hb dX6_next_254 rfl (lv_at hl 0 rfl) ?_
          refine lv_iconst (v := zi 0) hx hb dX6_next_255 rfl ?_
          refine tm_put (z := 0) X hM (tp_number _) q555 rfl dX6_next_256 (fun H locs S62 e63 hM => ?_)
          replace hh := nm_inv hh S62 e63
          exact hL259 FU S62 hh _ _ _ hM (lv_sub hl [0] rfl)
        · replace hh := it_f c59 hh
          refine lv_aload_n hx hb dX6_next_327 rfl (lv_at hl 0 rfl) ?_
          refine tm_get X hM tf_text q548 rfl dX6_next_328 ?_
          refine lv_aload_n hx hb dX6_next_331 rfl (lv_at hl 0 rfl) ?_
          refine tm_get X hM tf_at q552 rfl dX6_next_332 ?_
          obtain ⟨g77, hh⟩ := gd_inv hh
          refine tm_bald X hM g77 dX6_next_335 ?_
          refine g_nmi hx hb (fun v78 e79 => ?_)
          replace hh := nm_inv hh v78 e79
          refine lv_istore_n (lv' := [(1, .int (zi (v78))), (0, .ref (q))]) hx hb dX6_next_336 rfl hl (by decide) rfl (fun ls hl => ?_)
          refine lv_aload_n hx hb dX6_next_337 rfl (lv_at hl 1 rfl) ?_
          refine lv_dup hx hb dX6_next_338 rfl ?_
          refine tm_get X hM tf_at q552 rfl dX6_next_339 ?_
          refine lv_iconst (v := zi 1) hx hb dX6_next_342 rfl ?_
          refine g_iadd hx hb dX6_next_343 ?_
          refine tm_put (z := (S11.1 4) + 1) X hM (tp_at _) q552 rfl dX6_next_344 (fun H locs S80 e81 hM => ?_)
          replace hh := nm_inv hh S80 e81
          refine lv_aload_n hx hb dX6_next_347 rfl (lv_at hl 1 rfl) ?_
          refine lv_sipush (v := zi 302) hx hb dX6_next_348 (by decide) ?_
          refine tm_put (z := 302) X hM (tp_sort _) q554 rfl dX6_next_351 (fun H locs S82 e83 hM => ?_)
          replace hh := nm_inv hh S82 e83
          refine lv_iconst (v := zi 0) hx hb dX6_next_354 rfl ?_
          refine lv_istore_n (lv' := [(2, .int (zi (0))), (1, .int (zi (v78))), (0, .ref (q))]) hx hb dX6_next_355 rfl hl (by decide) rfl (fun ls hl => ?_)
          exact hL356 v78 FU S82 (0 : Int) hh _ _ _ hM (lv_sub hl [2, 1, 0] rfl)
  have hL0 : ∀ (n : Nat) (S : yS), T_next_L0 n S = some S1 → ∀ (H : Heap) (locs : List Loc) (ls : Array Slot), TKX Z q t S s H locs → lv_has ls 3 [(0, .ref (q))] → W p l e ({ frames := 6, cells := 0, slots := 0, locals := 203 } : Room) s m args below meth c H locs 0 0 Q (F0 m 0 ls []) := by
    intro   n
    induction n with
    | zero => intro S hh; exact no_some hh
    | succ n ih =>
      intro S hh H locs ls hM hl
      replace hh : T_next_b0 (T_next_L0 n) S = some S1 := hh
      unfold T_next_b0 at hh
      have hK0 := ih
      refine lv_aload_n hx hb dX6_next_0 rfl (lv_at hl 0 rfl) ?_
      refine tm_get X hM tf_at q552 rfl dX6_next_1 ?_
      refine lv_aload_n hx hb dX6_next_4 rfl (lv_at hl 0 rfl) ?_
      refine tm_get X hM tf_size q549 rfl dX6_next_5 ?_
      obtain ⟨g2, hh⟩ := gd_inv hh
      refine g_icmp_ge (tgt := 52) hx hb g2 dX6_next_8 (by decide) (fun c1 => ?_) (fun c1 => ?_)
      · replace hh := it_t c1 hh
        refine lv_aload_n hx hb dX6_next_11 rfl (lv_at hl 0 rfl) ?_
        refine tm_get X hM tf_text q548 rfl dX6_next_12 ?_
        refine lv_aload_n hx hb dX6_next_15 rfl (lv_at hl 0 rfl) ?_
        refine tm_get X hM tf_at q552 rfl dX6_next_16 ?_
        obtain ⟨g3, hh⟩ := gd_inv hh
        refine tm_bald X hM g3 dX6_next_19 ?_
        refine lv_bipush (v := zi 32) hx hb dX6_next_20 (by decide) ?_
        obtain ⟨g5, hh⟩ := gd_inv hh
        refine g_icmp_eq (tgt := 39) hx hb ⟨g5, by decide⟩ dX6_next_22 (by decide) (fun c4 => ?_) (fun c4 => ?_)
        · replace hh := it_t c4 hh
          exact hB39 _ hK0 S hh _ _ _ hM (lv_sub hl [0] rfl)
        · replace hh := it_f c4 hh
          refine lv_aload_n hx hb dX6_next_25 rfl (lv_at hl 0 rfl) ?_
          refine tm_get X hM tf_text q548 rfl dX6_next_26 ?_
          refine lv_aload_n hx hb dX6_next_29 rfl (lv_at hl 0 rfl) ?_
          refine tm_get X hM tf_at q552 rfl dX6_next_30 ?_
          obtain ⟨g8, hh⟩ := gd_inv hh
          refine tm_bald X hM g8 dX6_next_33 ?_
          refine lv_bipush (v := zi 10) hx hb dX6_next_34 (by decide) ?_
          obtain ⟨g10, hh⟩ := gd_inv hh
          refine g_icmp_ne (tgt := 52) hx hb ⟨g10, by decide⟩ dX6_next_36 (by decide) (fun c9 => ?_) (fun c9 => ?_)
          · replace hh := it_t c9 hh
            exact hB39 _ hK0 S hh _ _ _ hM (lv_sub hl [0] rfl)
          · replace hh := it_f c9 hh
            exact hB52 S hh _ _ _ hM (lv_sub hl [0] rfl)
      · replace hh := it_f c1 hh
        exact hB52 S hh _ _ _ hM (lv_sub hl [0] rfl)
  replace hl : lv_has ls 3 [(0, .ref (q))] := hl
  unfold T_next at hh
  exact hL0 FU S hh _ _ _ hM (lv_sub hl [0] rfl)
