/-! static methods of any class that touch no cell: their frame and their calls -/
set_option maxRecDepth 100000
abbrev gCx (own : String) (p : Program) (c : Code) (cc : ByteArray) (nL : Nat) (s : State) (m : MethodId) (args : Array Value) : Prop := CallFix p m c cc nL s args lw_all own
section GS
variable {p : Program} {l : Launch} {e : Env} {R : Room} {s : State} {m : MethodId} {args : Array Value} {below : List Frame} {meth : Method} {c : Code} {H : Heap} {locs : List Loc} {cells slots : Nat} {Q : State → Prop}
variable {cc : ByteArray} {pc nL : Nat} {ls : Array Slot} {rest : List Value}
variable {y : MethodName} {bytes : ByteArray} {maxL idx : Nat} {ret : Option FieldType} {rm : Room} {As st : List Value} {own : String} {A : Nat → Prop}
/-- behind the call the heap has its old cells as they were -/
theorem gcs_i (X : gCx own p c cc nL s m args) (hS : va_S A s.heap H locs) {r : Int} (met : ms_i l y bytes maxL ret rm As r) (hT : GoodIn lw_all (va_wsS own idx y (ws_ y bytes maxL ret))) (hd : y.cls ≠ "java/lang/invoke/MethodHandle" ∧ y.cls ≠ "java/lang/invoke/VarHandle" ∧ (parseMethodDescriptor y.desc).map (fun d => d.parameters.length) = some As.length) (hrm : rm.cells = 0 ∧ rm.slots = 0) (hR : rm.frames + 1 ≤ R.frames ∧ 8 + (maxL + 11) + rm.locals ≤ R.locals) (hcs : cells ≤ R.cells ∧ slots ≤ R.slots) (hls : ls.size = nL) (hro : (rest.map fun v => v.category).sum ≤ 8) (hdg : decode cc pc = .ok (.invokestatic idx, 3)) (hst : st = As.reverse ++ rest)
    (kk : ∀ (H1 : Heap) (locs1 : List Loc), (∀ q : Nat, q < H.size → H1[q]? = H[q]?) → va_S A s.heap H1 locs1 → W p l e R s m args below meth c H1 locs1 cells slots Q (F0 m (pc + 3) ls (.int (zi r) :: rest))) : W p l e R s m args below meth c H locs cells slots Q (F0 m pc ls st) := by
  subst hst
  refine va_calli (va_runS (As := As) (rest := rest) X met (va_cwS As.length X.2.2.2.2 hT rfl hrm.1 hrm.2 hd hR) ⟨fun a U g mk q => q, fun U hU hW => ⟨rfl, trivial⟩⟩ rfl rfl hls rfl (lv_room hro) hdg ⟨hcs.1, hcs.2⟩) hS (fun q _ hq => hq.elim) (fun q hq => hq.elim) (fun v u t H1 locs1 ht hvm hp hB hz hk hS => ?_)
  subst hp
  exact kk H1 locs1 (fun q hq => hk q hq (fun z => z)) hS
theorem gc0_i (X : gCx own p c cc nL s m args) (hM : va_S (fun _ => False) s.heap H locs) {r : Int} (met : ms_i l y bytes maxL ret rm As r) (hT : GoodIn lw_all (va_wsS own idx y (ws_ y bytes maxL ret))) (hd : y.cls ≠ "java/lang/invoke/MethodHandle" ∧ y.cls ≠ "java/lang/invoke/VarHandle" ∧ (parseMethodDescriptor y.desc).map (fun d => d.parameters.length) = some As.length) (hrm : rm.cells = 0 ∧ rm.slots = 0) (hR : rm.frames + 1 ≤ R.frames ∧ 8 + (maxL + 11) + rm.locals ≤ R.locals) (hcs : cells ≤ R.cells ∧ slots ≤ R.slots) (hls : ls.size = nL) (hro : (rest.map fun v => v.category).sum ≤ 8) (hdg : decode cc pc = .ok (.invokestatic idx, 3)) (hst : st = As.reverse ++ rest)
    (kk : ∀ (H1 : Heap) (locs1 : List Loc), va_S (fun _ => False) s.heap H1 locs1 → W p l e R s m args below meth c H1 locs1 cells slots Q (F0 m (pc + 3) ls (.int (zi r) :: rest))) : W p l e R s m args below meth c H locs cells slots Q (F0 m pc ls st) := gcs_i X hM met hT hd hrm hR hcs hls hro hdg hst (fun H1 locs1 _ h => kk H1 locs1 h)
/-- behind the call the heap has its old cells as they were -/
theorem gcs_z (X : gCx own p c cc nL s m args) (hS : va_S A s.heap H locs) {r : Bool} (met : ms_z l y bytes maxL ret rm As r) (hT : GoodIn lw_all (va_wsS own idx y (ws_ y bytes maxL ret))) (hd : y.cls ≠ "java/lang/invoke/MethodHandle" ∧ y.cls ≠ "java/lang/invoke/VarHandle" ∧ (parseMethodDescriptor y.desc).map (fun d => d.parameters.length) = some As.length) (hrm : rm.cells = 0 ∧ rm.slots = 0) (hR : rm.frames + 1 ≤ R.frames ∧ 8 + (maxL + 11) + rm.locals ≤ R.locals) (hcs : cells ≤ R.cells ∧ slots ≤ R.slots) (hls : ls.size = nL) (hro : (rest.map fun v => v.category).sum ≤ 8) (hdg : decode cc pc = .ok (.invokestatic idx, 3)) (hst : st = As.reverse ++ rest)
    (kk : ∀ (H1 : Heap) (locs1 : List Loc), (∀ q : Nat, q < H.size → H1[q]? = H[q]?) → va_S A s.heap H1 locs1 → W p l e R s m args below meth c H1 locs1 cells slots Q (F0 m (pc + 3) ls (.int (zi (bz r)) :: rest))) : W p l e R s m args below meth c H locs cells slots Q (F0 m pc ls st) := by
  subst hst
  refine va_calli (va_runS (As := As) (rest := rest) X met (va_cwS As.length X.2.2.2.2 hT rfl hrm.1 hrm.2 hd hR) ⟨fun a U g mk q => q, fun U hU hW => ⟨rfl, trivial⟩⟩ rfl rfl hls rfl (lv_room hro) hdg ⟨hcs.1, hcs.2⟩) hS (fun q _ hq => hq.elim) (fun q hq => hq.elim) (fun v u t H1 locs1 ht hvm hp hB hz hk hS => ?_)
  subst hp
  exact kk H1 locs1 (fun q hq => hk q hq (fun z => z)) hS
theorem gc0_z (X : gCx own p c cc nL s m args) (hM : va_S (fun _ => False) s.heap H locs) {r : Bool} (met : ms_z l y bytes maxL ret rm As r) (hT : GoodIn lw_all (va_wsS own idx y (ws_ y bytes maxL ret))) (hd : y.cls ≠ "java/lang/invoke/MethodHandle" ∧ y.cls ≠ "java/lang/invoke/VarHandle" ∧ (parseMethodDescriptor y.desc).map (fun d => d.parameters.length) = some As.length) (hrm : rm.cells = 0 ∧ rm.slots = 0) (hR : rm.frames + 1 ≤ R.frames ∧ 8 + (maxL + 11) + rm.locals ≤ R.locals) (hcs : cells ≤ R.cells ∧ slots ≤ R.slots) (hls : ls.size = nL) (hro : (rest.map fun v => v.category).sum ≤ 8) (hdg : decode cc pc = .ok (.invokestatic idx, 3)) (hst : st = As.reverse ++ rest)
    (kk : ∀ (H1 : Heap) (locs1 : List Loc), va_S (fun _ => False) s.heap H1 locs1 → W p l e R s m args below meth c H1 locs1 cells slots Q (F0 m (pc + 3) ls (.int (zi (bz r)) :: rest))) : W p l e R s m args below meth c H locs cells slots Q (F0 m pc ls st) := gcs_z X hM met hT hd hrm hR hcs hls hro hdg hst (fun H1 locs1 _ h => kk H1 locs1 h)
/-- behind the call the heap has its old cells as they were -/
theorem gcs_l (X : gCx own p c cc nL s m args) (hS : va_S A s.heap H locs) {r : Int} (met : ms_l l y bytes maxL ret rm As r) (hT : GoodIn lw_all (va_wsS own idx y (ws_ y bytes maxL ret))) (hd : y.cls ≠ "java/lang/invoke/MethodHandle" ∧ y.cls ≠ "java/lang/invoke/VarHandle" ∧ (parseMethodDescriptor y.desc).map (fun d => d.parameters.length) = some As.length) (hrm : rm.cells = 0 ∧ rm.slots = 0) (hR : rm.frames + 1 ≤ R.frames ∧ 8 + (maxL + 11) + rm.locals ≤ R.locals) (hcs : cells ≤ R.cells ∧ slots ≤ R.slots) (hls : ls.size = nL) (hro : (rest.map fun v => v.category).sum ≤ 8) (hdg : decode cc pc = .ok (.invokestatic idx, 3)) (hst : st = As.reverse ++ rest)
    (kk : ∀ (H1 : Heap) (locs1 : List Loc), (∀ q : Nat, q < H.size → H1[q]? = H[q]?) → va_S A s.heap H1 locs1 → W p l e R s m args below meth c H1 locs1 cells slots Q (F0 m (pc + 3) ls (.long (zl r) :: rest))) : W p l e R s m args below meth c H locs cells slots Q (F0 m pc ls st) := by
  subst hst
  refine va_calll (va_runS (As := As) (rest := rest) X met (va_cwS As.length X.2.2.2.2 hT rfl hrm.1 hrm.2 hd hR) ⟨fun a U g mk q => q, fun U hU hW => ⟨rfl, trivial⟩⟩ rfl rfl hls rfl (lv_room hro) hdg ⟨hcs.1, hcs.2⟩) hS (fun q _ hq => hq.elim) (fun q hq => hq.elim) (fun v u t H1 locs1 ht hvm hp hB hz hk hS => ?_)
  subst hp
  exact kk H1 locs1 (fun q hq => hk q hq (fun z => z)) hS
theorem gc0_l (X : gCx own p c cc nL s m args) (hM : va_S (fun _ => False) s.heap H locs) {r : Int} (met : ms_l l y bytes maxL ret rm As r) (hT : GoodIn lw_all (va_wsS own idx y (ws_ y bytes maxL ret))) (hd : y.cls ≠ "java/lang/invoke/MethodHandle" ∧ y.cls ≠ "java/lang/invoke/VarHandle" ∧ (parseMethodDescriptor y.desc).map (fun d => d.parameters.length) = some As.length) (hrm : rm.cells = 0 ∧ rm.slots = 0) (hR : rm.frames + 1 ≤ R.frames ∧ 8 + (maxL + 11) + rm.locals ≤ R.locals) (hcs : cells ≤ R.cells ∧ slots ≤ R.slots) (hls : ls.size = nL) (hro : (rest.map fun v => v.category).sum ≤ 8) (hdg : decode cc pc = .ok (.invokestatic idx, 3)) (hst : st = As.reverse ++ rest)
    (kk : ∀ (H1 : Heap) (locs1 : List Loc), va_S (fun _ => False) s.heap H1 locs1 → W p l e R s m args below meth c H1 locs1 cells slots Q (F0 m (pc + 3) ls (.long (zl r) :: rest))) : W p l e R s m args below meth c H locs cells slots Q (F0 m pc ls st) := gcs_l X hM met hT hd hrm hR hcs hls hro hdg hst (fun H1 locs1 _ h => kk H1 locs1 h)
end GS
theorem go_i {l : Launch} {y : MethodName} {cc : ByteArray} {nL : Nat} {rm : Room} {As : List Value} {r : Int} (hy : plainFor y = true) (hAs : (lg_sl As).length ≤ nL) (body : ∀ (p : Program) (e : Env) (s : State) (m : MethodId) (args : Array Value) (below : List Frame) (meth : Method) (c : Code) (Q : State → Prop) (ls : Array Slot), gCx y.cls p c cc nL s m args → (∀ (pc : Nat) (ls : Array Slot) (H : Heap) (locs : List Loc) (v : Int), v = r → decode cc pc = .ok (.ireturn, 1) → va_S (fun _ => False) s.heap H locs → W p l e rm s m args below meth c H locs 0 0 Q (F0 m pc ls [.int (zi v)])) → lv_has ls nL (lv_args 0 As) → va_S (fun _ => False) s.heap s.heap [] → W p l e rm s m args below meth c s.heap [] 0 0 Q (F0 m 0 ls [])) : ms_i l y cc nL (some .int) rm As r := by
  refine va_MetF (cc := cc) (maxL := nL) (ret := some .int) hy rfl ?_
  intro p e s m args below meth c s₁ B hml hv
  obtain ⟨rfl, -⟩ := hv
  have hx := B.exec
  have hb := B.bytes
  have hr := B.returns
  have hlocks := B.notSynchronized
  have hts := atoms_spec (ws := ws_ y cc nL (some .int)) B.pre
  have hts : ∀ w ∈ lw_all, w.before _ s = true := fun w h => hts w (List.mem_cons_of_mem _ h)
  have hown : s.vm.findClass y.cls = some m.cls := findClass_of_methodNamed B.named
  have hl := lv_entry As (n := nL) hAs
  rw [lg_entry_eq]
  generalize (lg_sl As ++ List.replicate (nL - (lg_sl As).length) Slot.unset).toArray = ls at hl ⊢
  refine body p e s m _ below meth c _ ls ⟨hx, hb, hml, hown, hts⟩ ?_ hl va_S.rf
  intro pc ls H locs v e1 hd hM
  subst e1
  exact W.iret hx hb hr (fun t ht hW => ⟨⟨_, (), rfl, rfl, trivial⟩, hM.F ht⟩) hM.2.2 hd
theorem go_z {l : Launch} {y : MethodName} {cc : ByteArray} {nL : Nat} {rm : Room} {As : List Value} {r : Bool} (hy : plainFor y = true) (hAs : (lg_sl As).length ≤ nL) (body : ∀ (p : Program) (e : Env) (s : State) (m : MethodId) (args : Array Value) (below : List Frame) (meth : Method) (c : Code) (Q : State → Prop) (ls : Array Slot), gCx y.cls p c cc nL s m args → (∀ (pc : Nat) (ls : Array Slot) (H : Heap) (locs : List Loc) (v : Bool), v = r → decode cc pc = .ok (.ireturn, 1) → va_S (fun _ => False) s.heap H locs → W p l e rm s m args below meth c H locs 0 0 Q (F0 m pc ls [.int (zi (bz v))])) → lv_has ls nL (lv_args 0 As) → va_S (fun _ => False) s.heap s.heap [] → W p l e rm s m args below meth c s.heap [] 0 0 Q (F0 m 0 ls [])) : ms_z l y cc nL (some .boolean) rm As r := by
  refine va_MetF (cc := cc) (maxL := nL) (ret := some .boolean) hy rfl ?_
  intro p e s m args below meth c s₁ B hml hv
  obtain ⟨rfl, -⟩ := hv
  have hx := B.exec
  have hb := B.bytes
  have hr := B.returns
  have hlocks := B.notSynchronized
  have hts := atoms_spec (ws := ws_ y cc nL (some .boolean)) B.pre
  have hts : ∀ w ∈ lw_all, w.before _ s = true := fun w h => hts w (List.mem_cons_of_mem _ h)
  have hown : s.vm.findClass y.cls = some m.cls := findClass_of_methodNamed B.named
  have hl := lv_entry As (n := nL) hAs
  rw [lg_entry_eq]
  generalize (lg_sl As ++ List.replicate (nL - (lg_sl As).length) Slot.unset).toArray = ls at hl ⊢
  refine body p e s m _ below meth c _ ls ⟨hx, hb, hml, hown, hts⟩ ?_ hl va_S.rf
  intro pc ls H locs v e1 hd hM
  subst e1
  exact W.zret hx hb hr (bz_nar _) (fun t ht hW => ⟨⟨_, (), rfl, rfl, trivial⟩, hM.F ht⟩) hM.2.2 hd
theorem go_l {l : Launch} {y : MethodName} {cc : ByteArray} {nL : Nat} {rm : Room} {As : List Value} {r : Int} (hy : plainFor y = true) (hAs : (lg_sl As).length ≤ nL) (body : ∀ (p : Program) (e : Env) (s : State) (m : MethodId) (args : Array Value) (below : List Frame) (meth : Method) (c : Code) (Q : State → Prop) (ls : Array Slot), gCx y.cls p c cc nL s m args → (∀ (pc : Nat) (ls : Array Slot) (H : Heap) (locs : List Loc) (v : Int), v = r → decode cc pc = .ok (.lreturn, 1) → va_S (fun _ => False) s.heap H locs → W p l e rm s m args below meth c H locs 0 0 Q (F0 m pc ls [.long (zl v)])) → lv_has ls nL (lv_args 0 As) → va_S (fun _ => False) s.heap s.heap [] → W p l e rm s m args below meth c s.heap [] 0 0 Q (F0 m 0 ls [])) : ms_l l y cc nL (some .long) rm As r := by
  refine va_MetF (cc := cc) (maxL := nL) (ret := some .long) hy rfl ?_
  intro p e s m args below meth c s₁ B hml hv
  obtain ⟨rfl, -⟩ := hv
  have hx := B.exec
  have hb := B.bytes
  have hr := B.returns
  have hlocks := B.notSynchronized
  have hts := atoms_spec (ws := ws_ y cc nL (some .long)) B.pre
  have hts : ∀ w ∈ lw_all, w.before _ s = true := fun w h => hts w (List.mem_cons_of_mem _ h)
  have hown : s.vm.findClass y.cls = some m.cls := findClass_of_methodNamed B.named
  have hl := lv_entry As (n := nL) hAs
  rw [lg_entry_eq]
  generalize (lg_sl As ++ List.replicate (nL - (lg_sl As).length) Slot.unset).toArray = ls at hl ⊢
  refine body p e s m _ below meth c _ ls ⟨hx, hb, hml, hown, hts⟩ ?_ hl va_S.rf
  intro pc ls H locs v e1 hd hM
  subst e1
  exact W.lret hx hb hr (fun t ht hW => ⟨⟨_, (), rfl, rfl, trivial⟩, hM.F ht⟩) hM.2.2 hd
