/-! what is read and never written: texts, the cache of small Integers, statics -/
set_option maxRecDepth 100000
theorem va_S.mono {A B : Nat → Prop} {H0 H : Heap} {locs : List Loc} (h : va_S A H0 H locs) (hAB : ∀ q, A q → B q) : va_S B H0 H locs := ⟨h.1, fun q h1 h2 => h.2.1 q h1 (fun z => h2 (hAB q z)), fun x hx => hAB _ (h.2.2 x hx)⟩
/-- a static field that is laid: its cell is not among A -/
def va_Ls (C n d : String) (A : Nat → Prop) (U : State) (H : Heap) : Prop := ∃ (c : ClassId) (k : Class) (i : Nat) (f : Field) (a : Nat) (cell : Cell), U.vm.findClass C = some c ∧ U.fieldFound? C n d = some (c, k, i, f) ∧ f.isStatic = true ∧ k.statics = some a ∧ H[a]? = some cell ∧ cell.vm.isStatics = true ∧ cell.cls = c ∧ f.slot < cell.slots.size ∧ k.staticTypes[f.slot]? = some f.type ∧ ¬ A a
theorem va_Ls.moved {C n d : String} {A : Nat → Prop} {u U : State} {H : Heap} (hvm : u.vm.Alike U.vm) (h : va_Ls C n d A u H) : va_Ls C n d A U H := by
  obtain ⟨c, k, i, f, a, cell, h0, h1, h2, h3, h4, h5, h6, h7, h8, h9⟩ := h
  obtain ⟨k', hi', he⟩ := State.fieldFound?_setVm hvm h1
  exact ⟨c, k', i, f, a, cell, by rw [hvm.findClass]; exact h0, hi', h2, by rw [he]; exact h3, h4, h5, h6, h7, by rw [he]; exact h8, h9⟩
theorem va_Ls.kept {C n d : String} {A : Nat → Prop} {U : State} {H H1 : Heap} (h : va_Ls C n d A U H) (hq : ∀ a : Nat, a < H.size → ¬ A a → H1[a]? = H[a]?) : va_Ls C n d A U H1 := by
  obtain ⟨c, k, i, f, a, cell, h0, h1, h2, h3, h4, h5, h6, h7, h8, h9⟩ := h
  exact ⟨c, k, i, f, a, cell, h0, h1, h2, h3, by rw [hq a (Array.getElem?_eq_some_iff.mp h4).1 h9]; exact h4, h5, h6, h7, h8, h9⟩
theorem va_Ls.word {C n d : String} {A : Nat → Prop} {U : State} {args : Array Value} (h : va_Ls C n d A U U.heap) : (Cond.laysStatic C n d).before args U = true := by
  obtain ⟨c, k, i, f, a, cell, h0, h1, h2, h3, h4, h5, h6, h7, h8, h9⟩ := h
  exact Cond.laysStatic_of h0 h1 h2 h3 h4 h5 h6 h7 h8
theorem va_Lsof {args : Array Value} {s : State} {C n d : String} {A : Nat → Prop} (hl : (Cond.laysStatic C n d).before args s = true) (hA : ∀ a : Nat, a < s.heap.size → ¬ A a) : va_Ls C n d A s s.heap := by
  obtain ⟨c, k, i, f, a, cell, h0, h1, h2, h3, h4, h5, h6, h7, h8⟩ := Cond.laysStatic_spec hl
  exact ⟨c, k, i, f, a, cell, h0, h1, h2, h3, h4, h5, h6, h7, h8, hA a (Array.getElem?_eq_some_iff.mp h4).1⟩
def gSumC : List String := ["ManyEyes$Plain", "ManyEyes$Letter", "ManyEyes$Lens", "ManyEyes$Paired", "ManyEyes$Tick", "ManyEyes$Minus", "ManyEyes$Least", "ManyEyes$Chain"]
def gAskC : List String := ["ManyEyes$Not", "ManyEyes$Compared", "ManyEyes$All"]
def xOf : MethodName := ⟨"ManyEyes$Sum", "of", "(LManyEyes$Now;)J"⟩
def xIs : MethodName := ⟨"ManyEyes$Asked", "is", "(LManyEyes$Now;)Z"⟩
def yOf (C : String) : MethodName := ⟨C, "of", "(LManyEyes$Now;)J"⟩
def yIs (C : String) : MethodName := ⟨C, "is", "(LManyEyes$Now;)Z"⟩
/-- what a call through an interface asks -/
def gFw (U : State) : Prop := (∀ C ∈ gSumC, va_Fw C xOf (yOf C) U) ∧ ∀ C ∈ gAskC, va_Fw C xIs (yIs C) U
theorem gFw.moved {u U : State} (hvm : u.vm.Alike U.vm) (h : gFw u) : gFw U := ⟨fun C hC => va_Fw.moved (by decide) hvm (h.1 C hC), fun C hC => va_Fw.moved (by decide) hvm (h.2 C hC)⟩
abbrev gP : Type := ((Nat → Nat) × (Nat → Nat) × (Nat → Nat)) × (Nat × Nat × Nat × Nat)
abbrev gP.adK (G : gP) : Nat → Nat := G.1.1
abbrev gP.adV (G : gP) : Nat → Nat := G.1.2.1
abbrev gP.ad (G : gP) : Nat → Nat := G.1.2.2
abbrev gP.tW (G : gP) : Nat := G.2.1
abbrev gP.eD (G : gP) : Nat := G.2.2.1
abbrev gP.mi (G : gP) : Nat := G.2.2.2.1
abbrev gP.tC (G : gP) : Nat := G.2.2.2.2
def gB (b0 : Nat) : Nat → Prop := fun a => b0 ≤ a
def gTx : List (List Nat) := [[108, 101, 116], [116, 117, 114, 110], [103, 111], [114, 101, 115, 116], [111, 114], [97, 110, 100], [110, 111, 116], [108, 101, 110, 115], [112, 97, 105, 114], [116, 105, 99, 107], [109, 105, 110], [109, 97, 120], [60, 62, 61, 35, 43, 45, 42, 47, 40, 41, 44, 59]]
def gLen : List Nat := [3, 4, 2, 4, 2, 3, 3, 4, 4, 4, 3, 3, 12]
def gByt : List (List Int32) := [[108, 101, 116], [116, 117, 114, 110], [103, 111], [114, 101, 115, 116], [111, 114], [97, 110, 100], [110, 111, 116], [108, 101, 110, 115], [112, 97, 105, 114], [116, 105, 99, 107], [109, 105, 110], [109, 97, 120], [60, 62, 61, 35, 43, 45, 42, 47, 40, 41, 44, 59]]
/-- the i-th text's k-th sign -/
def gSg (i : Nat) (k : Int) : Int := (((gTx.getD i []).getD k.toNat 0 : Nat) : Int)
def gLn (i : Nat) : Int := ((gLen.getD i 0 : Nat) : Int)
def GSh (G : gP) (b0 : Nat) (U : State) (H : Heap) : Prop :=
  vk_S 13 gLen gByt G.adK G.adV (gB b0) U H ∧
  (va_Z "ManyEyes$Tokens" "WORDS" "[Ljava/lang/String;" (.ref G.tW) (gB b0) U H ∧ va_T (.object "java/lang/String") G.tW 12 (fun j => .ref (G.adK j)) (gB b0) U H) ∧
  vk_R "ManyEyes$Tokens" 60 "<>=#+-*/(),;" (G.adK 12) U ∧
  va_Z "java/lang/String" "COMPACT_STRINGS" "Z" (.int 1) (gB b0) U H ∧
  va_Zq "jdk/internal/util/Preconditions" "SIOOBE_FORMATTER" "Ljava/util/function/BiFunction;" (gB b0) U H ∧
  (va_Z "java/util/ArrayList" "DEFAULTCAPACITY_EMPTY_ELEMENTDATA" "[Ljava/lang/Object;" (.ref G.eD) (gB b0) U H ∧ va_T (.object "java/lang/Object") G.eD 0 (fun _ => .null) (gB b0) U H) ∧
  (va_Z "java/lang/Integer$IntegerCache" "high" "I" (.int 127) (gB b0) U H ∧ va_Z "java/lang/Integer$IntegerCache" "cache" "[Ljava/lang/Integer;" (.ref G.tC) (gB b0) U H ∧ va_T (.object "java/lang/Integer") G.tC 256 (fun k => .ref (G.ad k)) (gB b0) U H ∧ vb_C G.ad (gB b0) U H) ∧
  (va_Zq "java/lang/Throwable" "UNASSIGNED_STACK" "[Ljava/lang/StackTraceElement;" (gB b0) U H ∧ va_Zq "java/lang/Throwable" "SUPPRESSED_SENTINEL" "Ljava/util/List;" (gB b0) U H ∧ va_Ls "java/lang/Throwable" "UNASSIGNED_STACK" "[Ljava/lang/StackTraceElement;" (gB b0) U H ∧ va_Ls "java/lang/Throwable" "SUPPRESSED_SENTINEL" "Ljava/util/List;" (gB b0) U H ∧ va_AO "java/lang/Object" U ∧ gFw U) ∧
  va_Mi "[Ljava/lang/Object;" G.mi U ∧ NWs U
def GS (G : gP) (b0 : Nat) (U : State) : Prop := GSh G b0 U U.heap
theorem GSh.go {G : gP} {b0 : Nat} {s U : State} {H H' : Heap} (h : GSh G b0 s H) (hW : s.WarmedH U.vm) (hq : ∀ a : Nat, a < H.size → ¬ gB b0 a → H'[a]? = H[a]?) : GSh G b0 U H' := by
  obtain ⟨h1, ⟨h2, h3⟩, h4, h5, h6, ⟨h7, h8⟩, ⟨h9, h10, h11, h12⟩, ⟨h13, h14, h17, h18, h19, h20⟩, h15, h16⟩ := h
  have a := hW.alike
  exact ⟨(h1.kept hq).moved a, ⟨(h2.kept hq).moved a, (h3.kept hq).moved a⟩, h4.warm hW, (h5.kept hq).moved a, (h6.kept hq).moved a, ⟨(h7.kept hq).moved a, (h8.kept hq).moved a⟩, ⟨(h9.kept hq).moved a, (h10.kept hq).moved a, (h11.kept hq).moved a, (h12.kept hq).moved a⟩, ⟨(h13.kept hq).moved a, (h14.kept hq).moved a, (h17.kept hq).moved a, (h18.kept hq).moved a, h19.moved a, h20.moved a⟩, h15.moved a, h16.warm hW⟩
theorem GS.at {G : gP} {b0 : Nat} {A : Nat → Prop} {s U : State} {H : Heap} {locs : List Loc} (h : GS G b0 s) (hS : va_S A s.heap H locs) (hA : ∀ q, A q → b0 ≤ q) (hU : U.heap = H) (hW : s.WarmedH U.vm) : GS G b0 U := by
  show GSh G b0 U U.heap
  rw [hU]
  exact GSh.go h hW (fun a h1 h2 => hS.2.1 a h1 (fun z => h2 (hA a z)))
theorem GS.blind {G : gP} {b0 : Nat} {U : State} {g : JFrame} {mk : MethodId} {a : Array Value} (h : GS G b0 U) : GS G b0 (U.calling g mk a) := by
  obtain ⟨h1, ⟨h2, h3⟩, h4, h5, h6, ⟨h7, h8⟩, ⟨h9, h10, h11, h12⟩, ⟨h13, h14, h17, h18, h19, h20⟩, h15, h16⟩ := h
  have a : U.vm.Alike (U.calling g mk a).vm := Vm.Alike.refl U.vm
  exact ⟨h1.moved a, ⟨h2.moved a, h3.moved a⟩, h4.same rfl, h5.moved a, h6.moved a, ⟨h7.moved a, h8.moved a⟩, ⟨h9.moved a, h10.moved a, h11.moved a, h12.moved a⟩, ⟨h13.moved a, h14.moved a, h17.moved a, h18.moved a, h19.moved a, h20.moved a⟩, h15.moved a, NWs.same (u := U) rfl h16⟩
theorem GS.NW {G : gP} {b0 : Nat} {U : State} (h : GS G b0 U) : NWs U := h.2.2.2.2.2.2.2.2.2
/-- a method that only reads -/
abbrev mg (l : Launch) (y : MethodName) (bytes : ByteArray) (maxL : Nat) (ret : Option FieldType) (rm : Room) (G : gP) (b0 : Nat) (As : List Value) (r : Int) : Prop := Met l y (ws_ y bytes maxL ret) rm (va_Pc As (GS G b0)) (va_Qi (fun (v : Int32) (_ : Unit) => v = zi r) (fun _ _ => True) (fun _ => False)) 0 0 (fun _ => False)
abbrev mgv (l : Launch) (y : MethodName) (bytes : ByteArray) (maxL : Nat) (rm : Room) (G : gP) (b0 : Nat) (As : List Value) : Prop := Met l y (ws_ y bytes maxL none) rm (va_Pc As (GS G b0)) (va_Qv (fun (_ : Unit) => True) (fun _ _ => True) (fun _ => False)) 0 0 (fun _ => False)
theorem rgo {l : Launch} {y : MethodName} {cc : ByteArray} {nL : Nat} {rm : Room} {As : List Value} {r : Int} {G : gP} {b0 : Nat} {ty : FieldType} (hy : plainFor y = true) (hAs : (lg_sl As).length ≤ nL) (hnar : narrow ty (.int (zi r)) = .int (zi r)) (body : ∀ (p : Program) (e : Env) (s : State) (m : MethodId) (args : Array Value) (below : List Frame) (meth : Method) (c : Code) (Q : State → Prop) (ls : Array Slot), gCx y.cls p c cc nL s m args → GS G b0 s → (∀ (pc : Nat) (ls : Array Slot) (H : Heap) (locs : List Loc) (v : Int), v = r → decode cc pc = .ok (.ireturn, 1) → va_S (fun _ => False) s.heap H locs → W p l e rm s m args below meth c H locs 0 0 Q (F0 m pc ls [.int (zi v)])) → lv_has ls nL (lv_args 0 As) → va_S (fun _ => False) s.heap s.heap [] → W p l e rm s m args below meth c s.heap [] 0 0 Q (F0 m 0 ls [])) : mg l y cc nL (some ty) rm G b0 As r := by
  refine va_MetF (cc := cc) (maxL := nL) (ret := some ty) hy rfl ?_
  intro p e s m args below meth c s₁ B hml hv
  obtain ⟨rfl, hG⟩ := hv
  have hx := B.exec
  have hb := B.bytes
  have hr := B.returns
  have hlocks := B.notSynchronized
  have hts := atoms_spec (ws := ws_ y cc nL (some ty)) B.pre
  have hts : ∀ w ∈ lw_all, w.before _ s = true := fun w h => hts w (List.mem_cons_of_mem _ h)
  have hown : s.vm.findClass y.cls = some m.cls := findClass_of_methodNamed B.named
  have hl := lv_entry As (n := nL) hAs
  rw [lg_entry_eq]
  generalize (lg_sl As ++ List.replicate (nL - (lg_sl As).length) Slot.unset).toArray = ls at hl ⊢
  refine body p e s m _ below meth c _ ls ⟨hx, hb, hml, hown, hts⟩ hG ?_ hl va_S.rf
  intro pc ls H locs v e1 hd hM
  subst e1
  exact W.zret hx hb hr hnar (fun t ht hW => ⟨⟨_, (), rfl, rfl, trivial⟩, hM.F ht⟩) hM.2.2 hd
theorem rgov {l : Launch} {y : MethodName} {cc : ByteArray} {nL : Nat} {rm : Room} {As : List Value} {G : gP} {b0 : Nat} (hy : plainFor y = true) (hAs : (lg_sl As).length ≤ nL) (body : ∀ (p : Program) (e : Env) (s : State) (m : MethodId) (args : Array Value) (below : List Frame) (meth : Method) (c : Code) (Q : State → Prop) (ls : Array Slot), gCx y.cls p c cc nL s m args → GS G b0 s → (∀ (pc : Nat) (ls : Array Slot) (H : Heap) (locs : List Loc), decode cc pc = .ok (.return_, 1) → va_S (fun _ => False) s.heap H locs → W p l e rm s m args below meth c H locs 0 0 Q (F0 m pc ls [])) → lv_has ls nL (lv_args 0 As) → va_S (fun _ => False) s.heap s.heap [] → W p l e rm s m args below meth c s.heap [] 0 0 Q (F0 m 0 ls [])) : mgv l y cc nL rm G b0 As := by
  refine va_MetF (cc := cc) (maxL := nL) (ret := none) hy rfl ?_
  intro p e s m args below meth c s₁ B hml hv
  obtain ⟨rfl, hG⟩ := hv
  have hx := B.exec
  have hb := B.bytes
  have hr := B.returns
  have hlocks := B.notSynchronized
  have hts := atoms_spec (ws := ws_ y cc nL none) B.pre
  have hts : ∀ w ∈ lw_all, w.before _ s = true := fun w h => hts w (List.mem_cons_of_mem _ h)
  have hown : s.vm.findClass y.cls = some m.cls := findClass_of_methodNamed B.named
  have hl := lv_entry As (n := nL) hAs
  rw [lg_entry_eq]
  generalize (lg_sl As ++ List.replicate (nL - (lg_sl As).length) Slot.unset).toArray = ls at hl ⊢
  refine body p e s m _ below meth c _ ls ⟨hx, hb, hml, hown, hts⟩ hG ?_ hl va_S.rf
  intro pc ls H locs hd hM
  exact W.vret hx hb hr (fun t ht hW => ⟨⟨(), rfl, trivial, trivial⟩, hM.F ht⟩) hM.2.2 hd
section GC
variable {p : Program} {l : Launch} {e : Env} {R : Room} {s : State} {m : MethodId} {args : Array Value} {below : List Frame} {meth : Method} {c : Code} {H : Heap} {locs : List Loc} {cells slots : Nat} {Q : State → Prop}
variable {cc : ByteArray} {pc nL : Nat} {ls : Array Slot} {rest : List Value}
variable {y : MethodName} {bytes : ByteArray} {maxL idx : Nat} {ret : Option FieldType} {rm : Room} {As st : List Value} {own : String} {A : Nat → Prop} {G : gP} {b0 : Nat}
theorem gcgS (X : gCx own p c cc nL s m args) (hG : GS G b0 s) (hS : va_S A s.heap H locs) (hA : ∀ q, A q → b0 ≤ q) {r : Int} (met : mg l y bytes maxL ret rm G b0 As r) (hT : GoodIn lw_all (va_wsS own idx y (ws_ y bytes maxL ret))) (hd : y.cls ≠ "java/lang/invoke/MethodHandle" ∧ y.cls ≠ "java/lang/invoke/VarHandle" ∧ (parseMethodDescriptor y.desc).map (fun d => d.parameters.length) = some As.length) (hrm : rm.cells = 0 ∧ rm.slots = 0) (hR : rm.frames + 1 ≤ R.frames ∧ 8 + (maxL + 11) + rm.locals ≤ R.locals) (hcs : cells ≤ R.cells ∧ slots ≤ R.slots) (hls : ls.size = nL) (hro : (rest.map fun v => v.category).sum ≤ 8) (hdg : decode cc pc = .ok (.invokestatic idx, 3)) (hst : st = As.reverse ++ rest)
    (kk : ∀ (H1 : Heap) (locs1 : List Loc), H.size ≤ H1.size → (∀ q : Nat, q < H.size → H1[q]? = H[q]?) → va_S A s.heap H1 locs1 → W p l e R s m args below meth c H1 locs1 cells slots Q (F0 m (pc + 3) ls (.int (zi r) :: rest))) : W p l e R s m args below meth c H locs cells slots Q (F0 m pc ls st) := by
  subst hst
  refine va_calli (va_runS (As := As) (rest := rest) X met (va_cwS As.length X.2.2.2.2 hT rfl hrm.1 hrm.2 hd hR) ⟨fun a U g mk q => ⟨q.1, q.2.blind⟩, fun U hU hW => ⟨rfl, hG.at hS hA hU hW⟩⟩ rfl rfl hls rfl (lv_room hro) hdg ⟨hcs.1, hcs.2⟩) hS (fun q _ hq => hq.elim) (fun q hq => hq.elim) (fun v u t H1 locs1 ht hvm hp hB hz hk hS => ?_)
  subst hp
  exact kk H1 locs1 hz (fun q hq => hk q hq (fun z => z)) hS
theorem gcgSv (X : gCx own p c cc nL s m args) (hG : GS G b0 s) (hS : va_S A s.heap H locs) (hA : ∀ q, A q → b0 ≤ q) (met : mgv l y bytes maxL rm G b0 As) (hT : GoodIn lw_all (va_wsS own idx y (ws_ y bytes maxL none))) (hd : y.cls ≠ "java/lang/invoke/MethodHandle" ∧ y.cls ≠ "java/lang/invoke/VarHandle" ∧ (parseMethodDescriptor y.desc).map (fun d => d.parameters.length) = some As.length) (hrm : rm.cells = 0 ∧ rm.slots = 0) (hR : rm.frames + 1 ≤ R.frames ∧ 8 + (maxL + 11) + rm.locals ≤ R.locals) (hcs : cells ≤ R.cells ∧ slots ≤ R.slots) (hls : ls.size = nL) (hro : (rest.map fun v => v.category).sum ≤ 8) (hdg : decode cc pc = .ok (.invokestatic idx, 3)) (hst : st = As.reverse ++ rest)
    (kk : ∀ (H1 : Heap) (locs1 : List Loc), H.size ≤ H1.size → (∀ q : Nat, q < H.size → H1[q]? = H[q]?) → va_S A s.heap H1 locs1 → W p l e R s m args below meth c H1 locs1 cells slots Q (F0 m (pc + 3) ls rest)) : W p l e R s m args below meth c H locs cells slots Q (F0 m pc ls st) := by
  subst hst
  refine va_callv (va_runS (As := As) (rest := rest) X met (va_cwS As.length X.2.2.2.2 hT rfl hrm.1 hrm.2 hd hR) ⟨fun a U g mk q => ⟨q.1, q.2.blind⟩, fun U hU hW => ⟨rfl, hG.at hS hA hU hW⟩⟩ rfl rfl hls rfl (lv_room hro) hdg ⟨hcs.1, hcs.2⟩) hS (fun q _ hq => hq.elim) (fun q hq => hq.elim) (fun u t H1 locs1 ht hvm hp hB hz hk hS => ?_)
  exact kk H1 locs1 hz (fun q hq => hk q hq (fun z => z)) hS
theorem gcgV (X : gCx own p c cc nL s m args) (hG : GS G b0 s) (hS : va_S A s.heap H locs) (hA : ∀ q, A q → b0 ≤ q) {r : Int} {b : Nat} {C : String} (met : mg l y bytes maxL ret rm G b0 (.ref b :: As) r) (hb : ∃ cell : Cell, H[b]? = some cell ∧ cell.vm.isStatics = false ∧ s.vm.findClass C = some cell.cls) (hT : GoodIn lw_all (wsV own idx C y (ws_ y bytes maxL ret))) (hd : y.cls = C ∧ y.cls ≠ "java/lang/invoke/MethodHandle" ∧ y.cls ≠ "java/lang/invoke/VarHandle" ∧ (parseMethodDescriptor y.desc).map (fun d => d.parameters.length) = some As.length) (hrm : rm.cells = 0 ∧ rm.slots = 0) (hR : rm.frames + 1 ≤ R.frames ∧ 8 + (maxL + 11) + rm.locals ≤ R.locals) (hcs : cells ≤ R.cells ∧ slots ≤ R.slots) (hls : ls.size = nL) (hro : (rest.map fun v => v.category).sum ≤ 8) (hdg : decode cc pc = .ok (.invokevirtual idx, 3)) (hst : st = As.reverse ++ .ref b :: rest)
    (kk : ∀ (H1 : Heap) (locs1 : List Loc), H.size ≤ H1.size → (∀ q : Nat, q < H.size → H1[q]? = H[q]?) → va_S A s.heap H1 locs1 → W p l e R s m args below meth c H1 locs1 cells slots Q (F0 m (pc + 3) ls (.int (zi r) :: rest))) : W p l e R s m args below meth c H locs cells slots Q (F0 m pc ls st) := by
  subst hst
  refine va_calli (va_runV (As := As) (rest := rest) X met (cwV As.length X.2.2.2.2 hT rfl hrm.1 hrm.2 hd hR) ⟨fun a U g mk q => ⟨q.1, q.2.blind⟩, hb, fun U hU hW => ⟨rfl, hG.at hS hA hU hW⟩⟩ rfl rfl hls rfl (lv_room hro) hdg ⟨hcs.1, hcs.2⟩) hS (fun q _ hq => hq.elim) (fun q hq => hq.elim) (fun v u t H1 locs1 ht hvm hp hB hz hk hS => ?_)
  subst hp
  exact kk H1 locs1 hz (fun q hq => hk q hq (fun z => z)) hS
end GC
