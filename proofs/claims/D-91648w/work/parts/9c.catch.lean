/-! methods with an exception table: the catch, the entry, the call -/
set_option maxRecDepth 100000
theorem fh_link {Q : Handler → Pre} {E : CtlPost} {e : Env} {d : Bool} {acts : List Action} {s : State} {f : JFrame} {a : Addr} {x : ExceptionTableEntry} {t : List ExceptionTableEntry} {c : ClassId} {cell : Cell} (hx : covers x f.pc = true) (h0 : x.catchType ≠ 0)
    (hl : s.vm.ClassLinks e.platform f.method.cls x.catchType c) (hcell : s.heap[a]? = some cell) (hobj : ∀ k, cell.vm ≠ .statics k) (hk : ∃ k, s.vm.classes[cell.cls]? = some k) (hc : ∃ k, s.vm.classes[c]? = some k) (hfit : s.vm.assignable cell.cls c = true) :
    wp (findHandler.go f a (x :: t)) Q E e d acts s ↔ Q (.found x.handlerPc) d acts (s.setVm (s.vm.noted f.method.cls x.catchType (.cls c))) := by
  simp only [covers] at hx
  obtain ⟨ha, ht⟩ := (resolveClass_links e.toSetting hl).op (op := VmOp.resolveClass f.method.cls x.catchType) rfl
  have hal : s.vm.Alike (s.vm.noted f.method.cls x.catchType (.cls c)) := (Vm.Alike.refl s.vm).noted _ _ _
  obtain ⟨k1, hk1⟩ := hk
  obtain ⟨k2, hk2⟩ := hc
  obtain ⟨k1', hk1', -⟩ := hal.2.2 _ _ hk1
  obtain ⟨k2', hk2', -⟩ := hal.2.2 _ _ hk2
  have hfit' : (s.vm.noted f.method.cls x.catchType (.cls c)).assignable cell.cls c = true := by rw [hal.assignable]; exact hfit
  simp [findHandler.go, hx, h0, ha, ht, hcell, hobj, hk1', hk2', hfit', VmOp.dirties, VmOp.acts]
theorem th_step {e : Env} {s : State} {a : Addr} {f : JFrame} {r : List Frame} {pc : Nat} {vm' : Vm} (hfind : ∀ (Q : Handler → Pre) (E : CtlPost) (d : Bool) (acts : List Action), wp (findHandler f a) Q E e d acts s ↔ Q (.found pc) d acts (s.setVm vm')) :
    (stepThrowing e s a (.java f :: r)).Is ((s.setVm vm').setFrames (.java { f with pc := pc, stack := [.ref a] } :: r)) [] := by
  simp only [stepThrowing, searchFrame, vmDo]
  generalize hr : Sem.go _ e false [] s = res
  obtain ⟨as, rfl, ha⟩ := Sem.eq_ok_of hr (a := Handler.found pc) (s' := s.setVm vm') (acts' := []) (by simp [hfind _ _ _ _])
  exact ⟨rfl, ha⟩
theorem th_steps {tb : Tables} {e : Env} {s target : State} {g : JFrame} {c : Code} {below : List Frame} {a : Addr} (h : At s g.method c below) {pc : Nat} {vm' : Vm}
    (hfind : ∀ (Q : Handler → Pre) (E : CtlPost) (d : Bool) (acts : List Action), wp (findHandler g a) Q E e d acts ((s.setTop g).pushFrame (.throwing a)) ↔ Q (.found pc) d acts (((s.setTop g).pushFrame (.throwing a)).setVm vm')) (hrest : Steps tb e below ((s.setVm vm').setTop { g with pc := pc, stack := [.ref a] }) target) :
    Steps tb e below ((s.setTop g).pushFrame (.throwing a)) target := by
  obtain ⟨hgo, hw⟩ := h.throwing a
  refine Steps.head hgo hw ?_
  rw [stepThread_throwing (frames_entered h.top _), (th_step (s := (s.setTop g).pushFrame (.throwing a)) hfind).1]
  obtain ⟨g₀, hg⟩ := Option.isSome_iff_exists.mp h.top
  obtain ⟨r, hr⟩ := State.topJava?_eq_some.mp hg
  have hr' : (s.setVm vm').frames = .java g₀ :: r := hr
  rw [State.setTop_of_frames _ hr'] at hrest
  rw [State.setTop_of_frames _ hr]
  have e1 : ((s.setFrames (.java g :: r)).pushFrame (.throwing a)).setVm vm' = ((s.setVm vm').setFrames (.java g :: r)).pushFrame (.throwing a) := rfl
  rw [e1, State.pushFrame, State.setFrames_setFrames, State.setFrames_setFrames]
  rw [hr]
  exact hrest
section CC
variable {p : Program} {l : Launch} {e : Env} {R : Room} {s : State} {m : MethodId} {args : Array Value} {below : List Frame} {meth : Method} {c : Code} {H : Heap} {locs : List Loc} {cells slots : Nat} {Q : State → Prop}
theorem WX.cold {pc : Nat} {ls : Array Slot} {st : List Value} {a : Nat} {x : ExceptionTableEntry} {rest : List ExceptionTableEntry} {own name : String} {cell : Cell} (hsplit : c.exceptionTable.toList = x :: rest) (hx : covers x pc = true) (h0 : x.catchType ≠ 0) (hown : s.vm.findClass own = some m.cls) (hlink : (Cond.classLink own x.catchType name).before args s = true) (hcell : H[a]? = some cell) (hobj : cell.vm.isStatics = false) (hcls : s.vm.findClass name = some cell.cls)
    (k : W p l e R s m args below meth c H locs cells slots Q (F0 m x.handlerPc ls [.ref a])) : WX p l e R s m args below meth c H locs cells slots Q (F0 m pc ls st) a := by
  intro T hT X
  have hpl : e.platform.magicAccessors = ({} : Platform).magicAccessors := by rw [X.admits.platform]
  obtain ⟨c', hc', hcl⟩ := Cond.classLink_spec hown hlink e.platform hpl
  cases hcls.symm.trans hc'
  have hcl0 := hcl
  obtain ⟨dk, _, _, kt, hd, _, _, _, _, hkt, _, hopen⟩ := hcl.here
  obtain ⟨kt', hkt', -⟩ := X.warmed.alike.2.2 _ _ hkt
  have hW' := X.warmed.noted hd hopen (State.rightAt_cls hcl0)
  obtain ⟨t, a1, b1⟩ := k (T.setVm (T.vm.noted m.cls x.catchType (.cls cell.cls))) hT (X.noted hW')
  refine ⟨t, th_steps (g := F0 m pc ls st) X.here ?_ a1, b1⟩
  intro Q E d acts
  have hm : ((T.setTop (F0 m pc ls st)).pushFrame (.throwing a)).vm.method? m = some meth := by rw [Stand.throwing_vm]; exact X.method'
  rw [W.findHandler_eq (f := F0 m pc ls st) hm X.code, hsplit]
  have e1 : ((T.setTop (F0 m pc ls st)).pushFrame (.throwing a)).vm = T.vm := Stand.throwing_vm _ _ _
  have := fh_link (Q := Q) (E := E) (e := e) (d := d) (acts := acts) (s := (T.setTop (F0 m pc ls st)).pushFrame (.throwing a)) (f := F0 m pc ls st) (a := a) (x := x) (t := rest) (c := cell.cls) (cell := cell) hx h0 (by rw [e1]; exact X.warmed.classLinks hcl0) (by rw [Stand.throwing_heap, hT]; exact hcell) (VmData.ne_statics_of hobj) ⟨kt', by rw [e1]; exact hkt'⟩ ⟨kt', by rw [e1]; exact hkt'⟩ (Vm.assignable_self _ _)
  rw [e1] at this
  exact this
end CC
/-! entry and call -/
abbrev mGW (l : Launch) (y : MethodName) (bytes : ByteArray) (maxL : Nat) (ret : Option FieldType) (hh : List (Nat × Nat × Nat × Nat)) (rm : Room) (Z : hZ) (DC : va_G) (dA : Nat → ClassId) (As : List Value) (n0 : Nat) (Pre : Heap → Prop) (Rr : Option Value → Heap → Prop) (F : Nat → Prop) (mc ms : Nat) : Prop := Met l y (wsW_ y bytes maxL ret hh) rm (fPc Z DC dA As n0 Pre) (QH Rr (hA F n0)) mc ms (hA F n0)
theorem goGWi {l : Launch} {y : MethodName} {cc : ByteArray} {nL : Nat} {hh : List (Nat × Nat × Nat × Nat)} {rm : Room} {Z : hZ} {DC : va_G} {dA : Nat → ClassId} {As : List Value} {n0 mc ms : Nat} {Pre : Heap → Prop} {Rr : Option Value → Heap → Prop} {F : Nat → Prop} (hy : plainName y.cls = true) (hAs : (lg_sl As).length ≤ nL) (body : ∀ (p : Program) (e : Env) (s : State) (m : MethodId) (args : Array Value) (below : List Frame) (meth : Method) (c : Code) (Q : State → Prop) (ls : Array Slot), fCx y.cls p c cc nL s m args Z DC dA → c.exceptionTable.toList.map (fun h => (h.startPc, h.endPc, h.handlerPc, h.catchType)) = hh → (∀ (pc : Nat) (ls : Array Slot) (H : Heap) (locs : List Loc) (v : Int), decode cc pc = .ok (.ireturn, 1) → Rr (some (.int (zi v))) H → va_S (hA F n0) s.heap H locs → W p l e rm s m args below meth c H locs mc ms Q (F0 m pc ls [.int (zi v)])) → lv_has ls nL (lv_args 0 As) → Pre s.heap → s.heap.size = n0 → va_S (hA F s.heap.size) s.heap s.heap [] → W p l e rm s m args below meth c s.heap [] 0 0 Q (F0 m 0 ls [])) : mGW l y cc nL (some .int) hh rm Z DC dA As n0 Pre Rr F mc ms := by
  refine va_MetW (cc := cc) (maxL := nL) (ret := some .int) (hh := hh) hy rfl ?_
  intro p e s m args below meth c s₁ B hml hv
  obtain ⟨rfl, hE, hK, hn, hP⟩ := hv
  have hx := B.exec
  have hb := B.bytes
  have hr := B.returns
  have hts := atoms_spec (ws := wsW_ y cc nL (some .int) hh) B.pre
  obtain ⟨m9, meth9, c9, hn9, hm9, hc9, -, -, htab, -⟩ := Cond.codeWith_spec (hts _ List.mem_cons_self)
  cases B.named.symm.trans hn9
  cases B.method.symm.trans hm9
  cases (Stand.of_body B).code.symm.trans hc9
  have hts : ∀ w ∈ lw_all, w.before _ s = true := fun w h => hts w (List.mem_cons_of_mem _ h)
  have hown : s.vm.findClass y.cls = some m.cls := findClass_of_methodNamed B.named
  have hl := lv_entry As (n := nL) hAs
  rw [lg_entry_eq]
  generalize (lg_sl As ++ List.replicate (nL - (lg_sl As).length) Slot.unset).toArray = ls at hl ⊢
  subst hn
  refine body p e s m _ below meth c _ ls ⟨⟨hx, hb, hml, hown, hts⟩, hE, hK⟩ htab ?_ hl hP rfl va_S.rf
  intro pc ls H locs v hd hR hM
  exact W.iret hx hb hr (fun t ht hW => ⟨⟨_, rfl, by rw [ht]; exact hR⟩, hM.F ht⟩) hM.2.2 hd
section CV
variable {p : Program} {l : Launch} {e : Env} {R : Room} {s : State} {m : MethodId} {args : Array Value} {below : List Frame} {meth : Method} {c : Code} {H : Heap} {locs : List Loc} {cells slots : Nat} {Q : State → Prop}
theorem runVW {cc bytes : ByteArray} {nL maxL mc ms index : Nat} {own C : String} {y : MethodName} {ret : Option FieldType} {hh : List (Nat × Nat × Nat × Nat)} {rm : Room} {Pc : Array Value → State → Prop} {Qc : Array Value → State → Outcome → State → Prop} {free : Addr → Prop} {b : Addr} {As rest : List Value} {g : JFrame} (S : CallFix p m c cc nL s args lw_all own) (hM : Met l y (wsW_ y bytes maxL ret hh) rm Pc Qc mc ms free)
    (hrm : rm.cells = mc ∧ rm.slots = ms) (hR : rm.frames + 1 ≤ R.frames ∧ 8 + (maxL + 11) + rm.locals ≤ R.locals) (q1 : Cond.methodLink own index y ∈ lw_all) (q2 : Cond.instanceMethod y ∈ lw_all) (q3 : Cond.selects C y y ∈ lw_all) (q4 : Cond.initialized y.cls ∈ lw_all) (q5 : Cond.codeWith y bytes maxL ret hh ∈ lw_all) (hy : y.cls ≠ "java/lang/invoke/MethodHandle" ∧ y.cls ≠ "java/lang/invoke/VarHandle") (hd : (parseMethodDescriptor y.desc).map (fun d => d.parameters.length) = some As.length) (hp : PreV s H C b Pc As)
    (hg : g.method = m) (hsize : g.locals.size = nL) (hstack : g.stack = As.reverse ++ .ref b :: rest) (hW : 2 * g.monitorRoom + (rest.map fun v => v.category).sum ≤ 8) (hdg : decode cc g.pc = .ok (.invokevirtual index, 3)) (hf : cells + mc ≤ R.cells ∧ slots + ms ≤ R.slots) :
    va_Run p l e R s m args below meth c H locs cells slots mc ms g rest (Qc (Value.ref b :: As).toArray) free := by
  obtain ⟨hx, hb, hml, ho, hts⟩ := S
  have hG : GoodIn lw_all (wsW_ y bytes maxL ret hh) := lw_methW q5
  have hK : Back l R p e below s args y 3 8 (PreOf R mc ms Pc) (PostOf Qc mc ms free) := va_backW (hh := hh) (bytes := bytes) (maxL := maxL) (ret := ret) hM hp.1 hrm.1 hrm.2 hR.1 hR.2 (pay_in hts hG) List.mem_cons_self (fun a' U hW => word_at hW (Or.inl (by first | rfl | simp [Cond.onTables, Cond.keeps, Cond.steady])) (hts _ q4))
  obtain ⟨-, ⟨cellB, hcB, hoB, hclB⟩, hPc⟩ := hp
  obtain ⟨mk, methM, hnamed, hmethM, hstM, habM⟩ := Cond.instanceMethod_spec (hts _ q2)
  obtain ⟨mk', methM', cM, hn', hmethM', -, -, -, -, -, -, hsigM⟩ := Cond.codeWith_spec (hts _ q5)
  cases hnamed.symm.trans hn'
  cases hmethM.symm.trans hmethM'
  obtain ⟨c2, r2, m2, w1, w2, w3, w4, kP, hkP, hkPi⟩ := Cond.selects_spec (hts _ q3)
  cases hclB.symm.trans w1
  cases (State.methodFound?_of_named hnamed hy).symm.trans w2
  cases hnamed.symm.trans w3
  intro T hT X
  have hselP : selectMethod e.platform s.vm cellB.cls mk = .method mk := by rw [Launch.admits_selectMethod X.admits]; exact w4
  have hlen : As.length = methM.sig.parameters.length := by
    rw [hsigM] at hd
    exact (Option.some.inj hd).symm
  obtain ⟨vm₁, X₁, hstep₁⟩ := X.invokevirtual hx ho (hts _ q1) hnamed hmethM hstM hkP hkPi hy (a := b) (cell := cellB) (by rw [hT]; exact hcB)
    (fun z h => by rw [h] at hoB; cases hoB) hselP hmethM habM hkP hkPi (g := g) hg (argsL := As) (rest := rest) hlen hstack (by rw [hb]; exact hdg)
  obtain ⟨v, ⟨U', l2, c2', s2⟩, X', ⟨g', mk2, t, L, e1, e2, hq, h1, hL, h2, h3⟩, hsteps⟩ := hK m meth c ⟨T.setVm vm₁, locs, cells, slots⟩ { g with stack := rest } (.invokevirtual index) mk (Value.ref b :: As).toArray X₁ hg (hsize.trans hml.symm) (by rw [hb]; exact hdg) hW (X₁.named hnamed) ⟨hf.1, hf.2, hPc (T.setVm vm₁) hT X₁.warmed⟩
  dsimp only [Pt.U, Pt.locs, Pt.cells, Pt.slots] at X' e1 e2 h1 h2 h3 hsteps
  subst h1; subst h2; subst h3
  exact ⟨v, (T.setVm vm₁).calling g' mk2 (Value.ref b :: As).toArray, t, U', L, hT, X', hL, e1, e2, hq, fun target h => hstep₁ _ fun acts => by rw [doInvoke_state]; exact hsteps.trans h⟩
end CV
