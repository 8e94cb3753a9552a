/-! Exception's constructor within Wrong's; Wrong -/
set_option maxRecDepth 100000
/-- a fresh cell of Wrong -/
def WrF (Z : hZ) (a : Nat) (H : Heap) : Prop := ∃ cell : Cell, H[a]? = some cell ∧ cell.cls = Z.D.1 1 ∧ cell.vm = .none ∧ cell.monitor.owner = none ∧ cell.monitor.count = 0 ∧ ∀ k, k < 8 → cell.slots[(Z.D.2 1) k]? = some (vp_V [.null, .null, .null, .null, .null, .int 0, .int 0, .int 0] k)
section EX
variable {p : Program} {l : Launch} {e : Env} {R : Room} {s : State} {m : MethodId} {args : Array Value} {below : List Frame} {meth : Method} {c : Code} {H : Heap} {locs : List Loc} {cells slots : Nat} {Q : State → Prop}
variable {cc : ByteArray} {pc nL : Nat} {ls : Array Slot} {rest : List Value} {Z : hZ} {F : Nat → Prop}
theorem w_thA (X : hCx "ManyEyes$Wrong" p c cc nL s m args Z) : ∀ w ∈ Bundle.throwableAtoms, w.before args s = true := by
  have h := X.1.2.2.2.2
  have g := X.2.2.1.2.2.2.2.2.2.2.1
  intro w hw
  simp only [Bundle.throwableAtoms, List.mem_cons, List.not_mem_nil, or_false] at hw
  rcases hw with rfl | rfl | rfl | rfl | rfl | rfl | rfl | rfl | rfl | rfl | rfl | rfl | rfl | rfl | rfl | rfl | rfl | rfl | rfl | rfl | rfl | rfl | rfl | rfl
  · exact h _ q98
  · exact h _ q672
  · exact h _ q681
  · exact h _ q683
  · exact h _ q686
  · exact h _ q688
  · exact h _ q673
  · exact h _ q674
  · exact h _ q123
  · exact h _ q124
  · exact h _ q675
  · exact h _ q680
  · exact h _ q684
  · exact h _ q701
  · exact h _ q662
  · exact h _ q702
  · exact h _ q664
  · exact h _ q703
  · exact h _ q666
  · exact h _ q676
  · exact va_Ls.word g.2.2.1
  · exact h _ q678
  · exact va_Ls.word g.2.2.2.1
  · exact h _ q668
theorem va_Zq.refV {C n d : String} {A : Nat → Prop} (h : va_Zq C n d A s s.heap) : ∃ (u : RefV), va_Z C n d u.v A s s.heap := by
  rcases h with h | ⟨t, h⟩
  · exact ⟨⟨.null, rfl⟩, h⟩
  · exact ⟨⟨.ref t, rfl⟩, h⟩
theorem w_fit {k : Nat} {v : Value} (X : hCx "ManyEyes$Wrong" p c cc nL s m args Z) (hk : k < 5) {cf fi : Nat} {kf : Class} {f : Field} (hi : s.fieldFound? (TX7 k).1 (TX7 k).2.1 (TX7 k).2.2.1 = some (cf, kf, fi, f)) (hn : narrow (tyX7 k) v = v) (hv : fits (tyX7 k) v = true) : s.fitsSlot (Z.D.1 1) .none f.slot v = true := by
  obtain ⟨hSl, hfc, kC, hkC, hkind⟩ := X.2.1.1 1 (RX7, TX7, 8) rfl
  exact (u_fits hfc hkC hkind (u_lays X.1.2.2.2.2 in_X7 (show k < 8 by omega)) hi (tyX7_ok k (by omega)) hn hv).2
theorem w_slot {k : Nat} (X : hCx "ManyEyes$Wrong" p c cc nL s m args Z) (hk : k < 8) {cf fi : Nat} {kf : Class} {f : Field} (hi : s.fieldFound? (TX7 k).1 (TX7 k).2.1 (TX7 k).2.2.1 = some (cf, kf, fi, f)) : f.slot = (Z.D.2 1) k := by
  obtain ⟨hSl, -⟩ := X.2.1.1 1 (RX7, TX7, 8) rfl
  obtain ⟨cf', kf', fi', f', hi', hsl⟩ := hSl k hk
  have h := hi.symm.trans hi'
  cases h
  exact hsl
set_option maxHeartbeats 1000000 in
theorem W.excInit (X : hCx "ManyEyes$Wrong" p c cc nL s m args Z) (hS : va_S (hA F s.heap.size) s.heap H locs) (hF : ∀ a, F a → Z.b ≤ a) (htr : l.stackTraces = false) {a : Nat} (hw : WrF Z a H) (ha : hA F s.heap.size a) (hdg : decode cc pc = .ok (.invokespecial 1, 3)) (hls : ls.size = nL)
    (hR : 3 < R.frames ∧ (rest.map fun v => v.category).sum + 54 ≤ R.locals)
    (kk : ∀ (H1 : Heap) (locs1 : List Loc) (u v : Value), va_at Z.D tcl (a, .inr (1, [.ref a, u, v, .null, .null, .int 0, .int 0, .int 0])) H1 → hq_ (hA F s.heap.size) s.heap H H1 locs1 a → W p l e R s m args below meth c H1 locs1 cells slots Q (F0 m (pc + 3) ls rest)) : W p l e R s m args below meth c H locs cells slots Q (F0 m pc ls (.ref a :: rest)) := by
  intro W0 hT Y0
  have hexec := X.1.1
  have hb := X.1.2.1
  have hml := X.1.2.2.1
  have hown := X.1.2.2.2.1
  have hts := X.1.2.2.2.2
  have howns : e.platform.frameOwnsMonitors = true := by rw [Y0.admits.platform]
  have hfin : e.platform.finalization = false := by rw [Y0.admits.platform]
  have hpl : e.platform.magicAccessors = ({} : Platform).magicAccessors := by rw [Y0.admits.platform]
  have htr' : e.platform.stackTraces = false := by rw [Y0.admits.platform]; exact htr
  obtain ⟨T, Zt, L, LZ, Y⟩ := ThrowableC.of_atoms (args := args) howns hfin hpl (w_thA X)
  have hdecl : (Cond.declares (Bundle.init0 Bundle.tN)).before args s = true := (X.2.2.1.NW _ q657 rfl).use rfl
  obtain ⟨P, LP, hPm, hPs⟩ := PassC.of_atoms (args := args) (s := s) hpl (X := "java/lang/Exception") (Y := Bundle.tN) (index := 1) (bytes := Bundle.five) (by decide) (by decide) Bundle.five_0 Bundle.five_1 Bundle.five_4 (by
    intro w hw
    simp only [Bundle.passAtoms, List.mem_cons, List.not_mem_nil, or_false] at hw
    rcases hw with rfl | rfl | rfl | rfl | rfl
    · exact hts _ q693
    · exact hts _ q694
    · exact hts _ q695
    · exact hts _ q673
    · exact hdecl)
  have hsup : P.sup = Zt.m T.toThrowableT := Option.some.inj (hPs.symm.trans Y.init0)
  obtain ⟨cell, hcell, hccls, hcvm, hmo, hmc, hslots⟩ := hw
  obtain ⟨hSl, hfc, kC, hkC, hkind⟩ := X.2.1.1 1 (RX7, TX7, 8) rfl
  have hfc : s.vm.findClass "ManyEyes$Wrong" = some (Z.D.1 1) := hfc
  have hsel0 : selectMethod e.platform s.vm cell.cls T.fill0 = .method T.fill0 := by
    obtain ⟨c2, r2, m2, q1, q2, q3, q4, -⟩ := Cond.selects_spec (hts _ q659)
    cases Option.some.inj (q1.symm.trans hfc)
    cases Option.some.inj (q2.symm.trans (State.methodFound?_of_named Y.fill0 (by decide)))
    cases Option.some.inj (q3.symm.trans Y.fill0)
    rw [Launch.admits_selectMethod Y0.admits, hccls]; exact q4
  have hselF : selectMethod e.platform s.vm cell.cls T.fill = .method T.fill := by
    obtain ⟨c2, r2, m2, q1, q2, q3, q4, -⟩ := Cond.selects_spec (hts _ q660)
    cases Option.some.inj (q1.symm.trans hfc)
    cases Option.some.inj (q2.symm.trans (State.methodFound?_of_named Y.fill (by decide)))
    cases Option.some.inj (q3.symm.trans Y.fill)
    rw [Launch.admits_selectMethod Y0.admits, hccls]; exact q4
  have g := X.2.2.1.2.2.2.2.2.2.2.1
  have hbad : ∀ x, hA F s.heap.size x → gB Z.b x := fun x hx => hx.elim (hF x) (fun w => Nat.le_trans X.2.2.2 w)
  obtain ⟨u0, cf1, kf1, fi1, f1, a1, cS1, u1, u2, u3, u4, u5, u6, u7, u8⟩ := g.1.refV
  obtain ⟨sen, cf2, kf2, fi2, f2, a2, cS2, v1, v2, v3, v4, v5, v6, v7, v8⟩ := g.2.1.refV
  have e1 := u1.symm.trans Y.unassigned
  have e2 := v1.symm.trans Y.sentinel
  simp only [Option.some.injEq, Prod.mk.injEq] at e1 e2
  obtain ⟨-, e1k, -, e1f⟩ := e1
  obtain ⟨-, e2k, -, e2f⟩ := e2
  subst e1k e1f e2f
  have ea1 : a1 = T.aS := Option.some.inj (u4.symm.trans L.statics)
  have ea2 : a2 = T.aS := Option.some.inj (v4.symm.trans (by rw [e2k]; exact L.statics))
  subst ea1
  rw [ea2] at v5 v8
  have ecS : cS1 = cS2 := Option.some.inj (u5.symm.trans v5)
  subst ecS
  have hcellS : W0.heap[T.aS]? = some cS1 := by
    rw [hT, hS.2.1 _ (Array.getElem?_eq_some_iff.mp u5).1 (fun z => u8 (hbad _ z))]; exact u5
  have hneS : T.aS ≠ a := fun z => u8 (hbad _ (by rw [z]; exact ha))
  have hsC := w_slot (k := 0) X (by decide) Y.cause
  have hsS := w_slot (k := 1) X (by decide) Y.stack
  have hsP := w_slot (k := 2) X (by decide) Y.supp
  have hap := va_apart (own := "ManyEyes$Wrong") hts in_X7 tyX7 tyX7_ok nmX7 X.2.1 (ci := 1) rfl
  obtain ⟨ci198, i198, fB, hk198, hg198, ha198, hsB, -, hnB, htB, hffB⟩ := Cond.ownField (t := .object "java/lang/Object") Y.found L.cls (by decide +kernel) (hts _ q671) (hts _ q670) e.platform hpl
  have hsBk := w_slot (k := 4) X (by decide) hffB
  have hlt : ∀ k, k < 8 → (Z.D.2 1) k < cell.slots.size := fun k hk => (Array.getElem?_eq_some_iff.mp (hslots k hk)).1
  have hcell0 : W0.heap[a]? = some cell := by rw [hT]; exact hcell
  obtain ⟨tm, methC, cdC, kC', vm₁, hnC, -, -, -, -, -, -, -, hW₁, st1⟩ := Steps.initCold (tb := p.tables) (e := e) (below := below) (s := s) (U := W0) Y0.here hexec Y0.warmed hpl hown (t := Bundle.init0 "java/lang/Exception") rfl rfl (by decide)
    (hts _ q692) (hts _ q693) (bytes := Bundle.five) (maxL := 1) (hts _ q694)
    (f := F0 m pc ls (.ref a :: rest)) rfl (a := a) (rest := rest) rfl (by rw [hb]; exact hdg)
  cases Option.some.inj (hnC.symm.trans hPm)
  have Y1 := Y0.noted hW₁
  have hskip : SkipFacts T e.platform s (fun u => u) u0 ((preparedCellV T.toThrowableT cell a u0 sen).withEntry (W0.setVm vm₁).cur) := by
    refine ⟨{ ci198 := ci198, i198 := i198, fBack := fB }, ⟨hk198, hg198, ha198, hsB⟩, ?_, fun _ _ => rfl⟩
    have h4 : cell.slots[(Z.D.2 1) 4]? = some .null := hslots 4 (by decide)
    have n0 := hap 0 4 (by decide) (by decide) (by decide)
    have n1 := hap 1 4 (by decide) (by decide) (by decide)
    have n2 := hap 2 4 (by decide) (by decide) (by decide)
    rw [← hsBk, ← hsC] at n0
    rw [← hsBk, ← hsS] at n1
    rw [← hsBk, ← hsP] at n2
    rw [← hsBk] at h4
    simpa [preparedCellV, Cell.setSlot, Cell.withEntry, Array.getElem?_setIfInBounds, n0, n1, n2] using h4
  obtain ⟨vm₂, Y2, st2⟩ := Y1.ctorPlainOffV hexec (g := F0 m pc ls rest) rfl (hls.trans hml.symm) T L Zt LZ [P]
    (fun P' hP => by rcases List.mem_cons.mp hP with rfl | hP; exact LP; cases hP) ⟨hsup, trivial⟩ (u0 := u0) (sen := sen) (self := a) (cell := cell) (cellS := cS1)
    hcell0 (fun _ => by rw [hcvm]; simp) (by rw [hcvm]; simp) hmo hmc hsel0 hselF hcellS hneS (fun z => by rw [z] at u6; cases u6) u7 v7
    ⟨by rw [hsC]; exact hlt 0 (by decide), by rw [hccls, hcvm]; exact w_fit (k := 0) X (by decide) Y.cause rfl rfl⟩ ⟨by rw [hsS]; exact hlt 1 (by decide), by rw [hccls, hcvm]; exact w_fit (k := 1) X (by decide) Y.stack (narrow_refV _ u0) (fits_refV_array _ u0)⟩ ⟨by rw [hsP]; exact hlt 2 (by decide), by rw [hccls, hcvm]; exact w_fit (k := 2) X (by decide) Y.supp (narrow_refV _ sen) (fits_refV_object _ sen)⟩ Y.objLocals hskip htr' [] (ig := .invokespecial 1) (len := 3) (by rw [hb]; exact hdg)
    (by simp; exact hR.1) (by show 2 * 0 + (rest.map fun v => v.category).sum + (13 * 1 + 41) ≤ R.locals; have := hR.2; omega)
  have hlt0 : a < ((W0.setVm vm₁).setVm vm₂).heap.size := (Array.getElem?_eq_some_iff.mp hcell0).1
  have hU := heapAt_setCell_self (s := (W0.setVm vm₁).setVm vm₂) ((preparedCellV T.toThrowableT cell a u0 sen).setSlot T.fStack.slot u0.v) hlt0
  have hoth : ∀ q : Nat, q ≠ a → (((W0.setVm vm₁).setVm vm₂).setCell a ((preparedCellV T.toThrowableT cell a u0 sen).setSlot T.fStack.slot u0.v)).heap[q]? = H[q]? := by
    intro q hq
    show (W0.heap.setIfInBounds a _)[q]? = _
    rw [Array.getElem?_setIfInBounds_ne (Ne.symm hq), hT]
  have hsz : (((W0.setVm vm₁).setVm vm₂).setCell a ((preparedCellV T.toThrowableT cell a u0 sen).setSlot T.fStack.slot u0.v)).heap.size = H.size := by
    show (W0.heap.setIfInBounds a _).size = _
    rw [Array.size_setIfInBounds, hT]
  have hsl : ∀ k, k < 8 → ((preparedCellV T.toThrowableT cell a u0 sen).setSlot T.fStack.slot u0.v).slots[(Z.D.2 1) k]? = some (vp_V [.ref a, u0.v, sen.v, .null, .null, .int 0, .int 0, .int 0] k) := by
    intro k hk
    have n01 := hap 0 1 (by decide) (by decide) (by decide)
    have n02 := hap 0 2 (by decide) (by decide) (by decide)
    have n12 := hap 1 2 (by decide) (by decide) (by decide)
    have hl0 := hlt 0 (by decide)
    have hl1 := hlt 1 (by decide)
    have hl2 := hlt 2 (by decide)
    rw [show ((preparedCellV T.toThrowableT cell a u0 sen).setSlot T.fStack.slot u0.v).slots = (((cell.slots.setIfInBounds T.fCause.slot (.ref a)).setIfInBounds T.fStack.slot u0.v).setIfInBounds T.fSupp.slot sen.v).setIfInBounds T.fStack.slot u0.v from rfl, hsC, hsS, hsP]
    by_cases h0 : k = 0
    · subst h0
      simp [Array.getElem?_setIfInBounds, n01, n02, Ne.symm n01, Ne.symm n02, hl0, vp_V]
    by_cases h1 : k = 1
    · subst h1
      simp [Array.getElem?_setIfInBounds, n01, n02, n12, hl1, vp_V]
    by_cases h2 : k = 2
    · subst h2
      simp [Array.getElem?_setIfInBounds, n12, Ne.symm n12, hl2, vp_V]
    · have m0 := hap 0 k (by decide) hk (by omega)
      have m1 := hap 1 k (by decide) hk (by omega)
      have m2 := hap 2 k (by decide) hk (by omega)
      have h8 := hslots k hk
      simp only [Array.getElem?_setIfInBounds, m0, m1, m2, if_false]
      rw [h8]
      have hv : ∀ k, k < 8 → k ≠ 0 → k ≠ 1 → k ≠ 2 → vp_V [.null, .null, .null, .null, .null, .int 0, .int 0, .int 0] k = vp_V [.ref a, u0.v, sen.v, .null, .null, .int 0, .int 0, .int 0] k := by
        intro k hk h0 h1 h2
        have : k = 3 ∨ k = 4 ∨ k = 5 ∨ k = 6 ∨ k = 7 := by omega
        rcases this with rfl | rfl | rfl | rfl | rfl <;> rfl
      rw [hv k hk h0 h1 h2]
  obtain ⟨t, a1, b1⟩ := kk _ _ u0.v sen.v ⟨(RX7, TX7, 8), rfl, _, hU, hccls, hcvm, hsl⟩ ⟨hsz, hoth, ⟨by rw [hsz]; exact hS.1, fun q h1 h2 => by rw [hoth q (fun z => h2 (by rw [z]; exact ha))]; exact hS.2.1 q h1 h2, fun x hx => by
    rcases List.mem_append.mp hx with h | h
    · exact hS.2.2 x h
    · have hb : x.base = a := by
        simp only [List.mem_cons, List.not_mem_nil, or_false] at h
        rcases h with rfl | rfl | rfl | rfl <;> rfl
      rw [hb]; exact ha⟩⟩ _ rfl Y2
  refine ⟨t, st1 _ (fun acts => ?_), b1⟩
  rw [doInvoke_state]
  exact st2 _ a1
end EX
