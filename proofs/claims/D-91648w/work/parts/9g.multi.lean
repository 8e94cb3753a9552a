/-! multianewarray of two dimensions, of int: out of the model -/
set_option maxRecDepth 100000
def mnO (cA : ClassId) (n h i : Nat) : Cell := arrV cA n (fun j => if j < i then .ref (h + 1 + j) else .null)
def mnR (cI : ClassId) (k : Nat) : Cell := arrV cI k (fun _ => .int 0)
def mnS (T : State) (cA cI : ClassId) (n k : Nat) : Nat → State
  | 0 => T.pushCell (mnO cA n T.heap.size 0)
  | i + 1 => ((mnS T cA cI n k i).pushCell (mnR cI k)).setCell T.heap.size (mnO cA n T.heap.size (i + 1))
theorem mnO_next (cA : ClassId) (n h i : Nat) : (mnO cA n h i).setSlot i (.ref (h + 1 + i)) = mnO cA n h (i + 1) := by
  unfold mnO
  rw [arrV_store]
  congr 1
  funext j
  unfold updV
  by_cases e : j = i
  · subst e
    rw [if_pos rfl, if_pos (by omega)]
  · rw [if_neg e]
    by_cases q : j < i
    · show (if j < i then _ else _) = _
      rw [if_pos q, if_pos (by omega)]
    · show (if j < i then _ else _) = _
      rw [if_neg q, if_neg (by omega)]
theorem mn_facts (T : State) (cA cI : ClassId) (n k : Nat) : ∀ i, (mnS T cA cI n k i).heap.size = T.heap.size + 1 + i ∧ (mnS T cA cI n k i).heap[T.heap.size]? = some (mnO cA n T.heap.size i) ∧ (mnS T cA cI n k i).vm = T.vm ∧ (mnS T cA cI n k i).slotsUsed = T.slotsUsed + n + i * k ∧ (∀ q, q < T.heap.size → (mnS T cA cI n k i).heap[q]? = T.heap[q]?) ∧ ∀ j, j < i → (mnS T cA cI n k i).heap[T.heap.size + 1 + j]? = some (mnR cI k) := by
  intro i
  induction i with
  | zero => exact ⟨by simp [mnS], by simp [mnS], rfl, by simp [mnS, mnO, arrV_size], fun q hq => State.heap_pushCell_of_lt _ _ hq, fun j hj => absurd hj (Nat.not_lt_zero _)⟩
  | succ i ih =>
    obtain ⟨a, b, d, u, o, r⟩ := ih
    have hlt : T.heap.size < (mnS T cA cI n k i).heap.size := by omega
    have hb' : ((mnS T cA cI n k i).pushCell (mnR cI k)).heap[T.heap.size]? = some (mnO cA n T.heap.size i) := by rw [State.heap_pushCell_of_lt (h := hlt)]; exact b
    refine ⟨?_, State.heap_setCell_self hb', by simp [mnS, d], ?_, fun q hq => ?_, fun j hj => ?_⟩
    · simp [mnS, State.setCell, a]; omega
    · simp [mnS, u, mnR, arrV_size, Nat.succ_mul]; omega
    · show (((mnS T cA cI n k i).pushCell (mnR cI k)).setCell T.heap.size _).heap[q]? = _
      rw [State.heap_setCell_other (Nat.ne_of_gt hq), State.heap_pushCell_of_lt (h := Nat.lt_trans hq hlt)]
      exact o q hq
    · show (((mnS T cA cI n k i).pushCell (mnR cI k)).setCell T.heap.size _).heap[T.heap.size + 1 + j]? = _
      rw [State.heap_setCell_other (show T.heap.size ≠ T.heap.size + 1 + j by omega)]
      by_cases e : j < i
      · have hq : T.heap.size + 1 + j < (mnS T cA cI n k i).heap.size := by omega
        rw [State.heap_pushCell_of_lt (h := hq)]
        exact r j e
      · have e : j = i := by omega
        subst e
        rw [← a]
        exact State.heap_pushCell_size _ _
theorem mn_top (T : State) (f : JFrame) (cA cI : ClassId) (n k : Nat) : ∀ i, mnS (T.setTop f) cA cI n k i = (mnS T cA cI n k i).setTop f := by
  intro i
  induction i with
  | zero => rfl
  | succ i ih => simp only [mnS, ih, State.heap_setTop, State.pushCell_setTop, State.setCell_setTop]
section MN
variable {E : CtlPost} {e : Env} {d : Bool} {acts : List Action} {s : State}
theorem mn_new {c comp : ClassId} {k : Class} {type : FieldType} {len : Nat} {x : Value} (hk : s.vm.classes[c]? = some k) (hkind : k.kind = .array comp type) (hlimit : ¬ len > e.platform.arrayLengthLimit) (hheap : ¬ len * componentBytes type > e.platform.maxHeapBytes) (hfit : fits type x = true) (hdef : x.isDefault = true) {Q : Addr → Pre} (h1 : s.heap.size < e.platform.maxCells) (h2 : s.slotsUsed + len ≤ e.platform.maxSlots)
    (hq : Q s.heap.size d acts (s.pushCell (arrV c len (fun _ => x)))) : wp (Jvm.newArray c len x) Q E e d acts s := by
  rw [← arrV_new] at hq
  have hfits : ∀ i v, (Array.replicate len x)[i]? = some v → s.fitsSlot c .none i v = true := by
    intro i v hv
    rw [Array.getElem?_replicate] at hv
    split at hv
    · cases hv
      simp [State.fitsSlot, State.slotType?, hk, hkind, hfit]
    · cases hv
  have hda : allocActs (Array.replicate len x) s.heap.size acts = acts := by
    unfold allocActs
    rw [if_pos]
    rw [Array.all_replicate]
    split <;> simp [hdef]
  simp only [Jvm.newArray, Jvm.arrayFits, wp_bind', W.ask, W.ite, hlimit, if_false, wp_pure', W.theClass, hk, hkind, hheap, W.alloc, W.stop, Option.some.injEq, exists_eq_left', Array.size_replicate, hda]
  rw [if_neg (by omega)]
  exact ⟨h1, h2, hfits, hq⟩
theorem mn_row {cI cc : ClassId} {kc : Class} {m : Int32} (hkc : s.vm.classes[cI]? = some kc) (hkind : kc.kind = .array cc .int) (hm : ¬ m < 0) (hl : ¬ m.toNatClampNeg > e.platform.arrayLengthLimit) (hh : ¬ m.toNatClampNeg * componentBytes .int > e.platform.maxHeapBytes) (h1 : s.heap.size < e.platform.maxCells) (h2 : s.slotsUsed + m.toNatClampNeg ≤ e.platform.maxSlots) {Q : Addr → Pre} (hq : Q s.heap.size d acts (s.pushCell (mnR cI m.toNatClampNeg))) : wp (multianewarray.make cI [m]) Q E e d acts s := by
  rw [multianewarray.make]
  simp only [wp_bind', W.ite, hm, if_false, wp_pure', W.theClass, hkc, hkind, Option.some.injEq, exists_eq_left']
  exact mn_new hkc hkind hl hh rfl rfl h1 h2 hq
theorem mn_make {cA cI cc : ClassId} {k kc : Class} {n m : Int32} (hk : s.vm.classes[cA]? = some k) (hkind : k.kind = .array cI (.array .int)) (hkc : s.vm.classes[cI]? = some kc) (hkindc : kc.kind = .array cc .int) (hn : ¬ n < 0) (hm : ¬ m < 0)
    (hl1 : ¬ n.toNatClampNeg > e.platform.arrayLengthLimit) (hh1 : ¬ n.toNatClampNeg * componentBytes (.array .int) > e.platform.maxHeapBytes) (hl2 : ¬ m.toNatClampNeg > e.platform.arrayLengthLimit) (hh2 : ¬ m.toNatClampNeg * componentBytes .int > e.platform.maxHeapBytes)
    (hc : s.heap.size + 1 + n.toNatClampNeg ≤ e.platform.maxCells) (hs : s.slotsUsed + n.toNatClampNeg + n.toNatClampNeg * m.toNatClampNeg ≤ e.platform.maxSlots)
    {Q : Addr → Pre} (hq : ∀ d' acts', Q s.heap.size d' acts' (mnS s cA cI n.toNatClampNeg m.toNatClampNeg n.toNatClampNeg)) : wp (multianewarray.make cA [n, m]) Q E e d acts s := by
  have hfind : ([m].find? (· < 0)) = none := by simp [hm]
  rw [multianewarray.make]
  simp only [wp_bind', W.ite, hn, if_false, wp_pure', W.theClass, hk, hkind, Option.some.injEq, exists_eq_left']
  refine mn_new hk hkind hl1 hh1 rfl rfl (by omega) (by have := Nat.zero_le (n.toNatClampNeg * m.toNatClampNeg); omega) ?_
  simp only [hfind]
  rw [ite_self, wp_bind', Std.Legacy.Range.forIn_eq_forIn_range', show ([:n.toNatClampNeg] : Std.Legacy.Range).size = n.toNatClampNeg by simp [Std.Legacy.Range.size]]
  show wp (forIn (List.range' 0 n.toNatClampNeg 1) PUnit.unit _) _ E e d acts _
  have e0 : s.pushCell (arrV cA n.toNatClampNeg fun _ => Value.null) = mnS s cA cI n.toNatClampNeg m.toNatClampNeg 0 := by
    show _ = s.pushCell (mnO cA n.toNatClampNeg s.heap.size 0)
    congr 1
  rw [e0]
  refine wp_forIn_inv (fun rest s' => ∃ i, i ≤ n.toNatClampNeg ∧ rest = List.range' i (n.toNatClampNeg - i) ∧ s' = mnS s cA cI n.toNatClampNeg m.toNatClampNeg i) _ _ ⟨0, Nat.zero_le _, rfl, rfl⟩ ?_ ?_
  · rintro x rest s' d' acts' Q' ⟨i, hi, hl, rfl⟩ hnext
    have hlt : i < n.toNatClampNeg := by
      rcases Nat.lt_or_ge i n.toNatClampNeg with h | h
      · exact h
      · rw [show n.toNatClampNeg - i = 0 by omega] at hl
        cases hl
    rw [show n.toNatClampNeg - i = (n.toNatClampNeg - (i + 1)) + 1 by omega, List.range'_succ] at hl
    obtain ⟨hx, hrest⟩ := List.cons.inj hl
    subst hx
    obtain ⟨f1, f2, f3, f4, -, -⟩ := mn_facts s cA cI n.toNatClampNeg m.toNatClampNeg x
    have hmul : x * m.toNatClampNeg + m.toNatClampNeg ≤ n.toNatClampNeg * m.toNatClampNeg := by
      have := Nat.mul_le_mul_right m.toNatClampNeg (show x + 1 ≤ n.toNatClampNeg from hlt)
      rw [Nat.succ_mul] at this
      exact this
    simp only [wp_bind']
    refine mn_row (by rw [f3]; exact hkc) hkindc hm hl2 hh2 (by rw [f1]; omega) (by rw [f4]; omega) ?_
    have hlt0 : s.heap.size < (mnS s cA cI n.toNatClampNeg m.toNatClampNeg x).heap.size := by rw [f1]; omega
    simp only [wp_bind', W.writeLoc, wp_pure']
    refine ⟨mnO cA n.toNatClampNeg s.heap.size x, by rw [State.heap_pushCell_of_lt (h := hlt0)]; exact f2, by unfold mnO arrV; simp, by unfold mnO; rw [arrV_size]; exact hlt, ?_, hnext _ _ _ ⟨x + 1, hlt, hrest, ?_⟩⟩
    · unfold mnO arrV
      simp [State.fitsSlot, State.slotType?, f3, hk, hkind, fits]
    · rw [f1, mnO_next]
      rfl
  · rintro s' d' acts' ⟨i, hi, hl, rfl⟩
    have hiN : i = n.toNatClampNeg := by
      rcases Nat.lt_or_ge i n.toNatClampNeg with h | h
      · rw [show n.toNatClampNeg - i = (n.toNatClampNeg - (i + 1)) + 1 by omega, List.range'_succ] at hl
        cases hl
      · omega
    subst hiN
    simp only [wp_pure']
    exact hq _ _
end MN
section MS
variable {p : Program} {l : Launch} {e : Env} {R : Room} {s : State} {m : MethodId} {args : Array Value} {below : List Frame} {meth : Method} {c : Code} {T : State} {H : Heap} {locs : List Loc} {cells slots : Nat} {Q : State → Prop}
theorem mn_stand (X : Stand p l e R s m args below meth c T locs cells slots) (cA cI : ClassId) (n k : Nat) : ∀ i, Stand p l e R s m args below meth c (mnS T cA cI n k i) (locs ++ (List.range i).map fun j => ⟨T.heap.size, j⟩) (cells + 1 + i) (slots + n + i * k) := by
  intro i
  induction i with
  | zero =>
    have h := X.pushed (mnO cA n T.heap.size 0)
    unfold mnO at h
    rw [arrV_size] at h
    simpa [mnS, mnO] using h
  | succ i ih =>
    obtain ⟨f1, f2, f3, f4, -, -⟩ := mn_facts T cA cI n k i
    have hlt0 : T.heap.size < (mnS T cA cI n k i).heap.size := by rw [f1]; omega
    have hcell : ((mnS T cA cI n k i).pushCell (mnR cI k)).heap[T.heap.size]? = some (mnO cA n T.heap.size i) := by rw [State.heap_pushCell_of_lt (h := hlt0)]; exact f2
    have h := (ih.pushed (mnR cI k)).stored hcell i (.ref (T.heap.size + 1 + i))
    have e1 : (mnR cI k).slots.size = k := by unfold mnR; exact arrV_size _ _ _
    rw [e1, mnO_next] at h
    have e2 : (locs ++ (List.range (i + 1)).map fun j => (⟨T.heap.size, j⟩ : Loc)) = (locs ++ (List.range i).map fun j => (⟨T.heap.size, j⟩ : Loc)) ++ [⟨T.heap.size, i⟩] := by simp [List.range_succ, List.append_assoc]
    have e3 : slots + n + (i + 1) * k = slots + n + i * k + k := by rw [Nat.succ_mul]; omega
    rw [e2, e3]
    exact h
/-- what the tables say of int[][]: its component is int[] -/
def AOI (cA cI : ClassId) (U : State) : Prop := (∃ k, U.vm.classes[cA]? = some k ∧ k.kind = .array cI (.array .int)) ∧ (∃ k cc, U.vm.classes[cI]? = some k ∧ k.kind = .array cc .int) ∧ U.vm.findClass "[[I" = some cA
theorem AOI.moved {cA cI : ClassId} {u U : State} (hvm : u.vm.Alike U.vm) (h : AOI cA cI u) : AOI cA cI U := by
  obtain ⟨⟨k, h1, h2⟩, ⟨k', cc, h3, h4⟩, h5⟩ := h
  obtain ⟨w, hw, he⟩ := hvm.2.2 _ _ h1
  obtain ⟨w', hw', he'⟩ := hvm.2.2 _ _ h3
  exact ⟨⟨w, hw, by rw [he]; exact h2⟩, ⟨w', cc, hw', by rw [he']; exact h4⟩, by rw [hvm.findClass]; exact h5⟩
theorem W.multi {cc : ByteArray} (hexec : p.tables.exec = Jvm.exec) (hb : c.code = cc) {own : String} {index : Nat} {cA cI : ClassId} (hown : s.vm.findClass own = some m.cls) (hclink : (Cond.classLink own index "[[I").before args s = true) (hAO : AOI cA cI s) {g : JFrame} (hg : g.method = m) (hdg : decode cc g.pc = .ok (.multianewarray index 2, 4)) {n k : Int32} {N K : Nat} {rest : List Value} (hstack : g.stack = .int k :: .int n :: rest)
    (hn : ¬ n < 0) (hk : ¬ k < 0) (eN : n.toNatClampNeg = N) (eK : k.toNatClampNeg = K) (hN : N ≤ 1000) (hK : K ≤ 1000) (hcells : cells + (1 + N) ≤ R.cells) (hslots : slots + (N + N * K) ≤ R.slots)
    (kk : ∀ (H1 : Heap), H1.size = H.size + 1 + N → H1[H.size]? = some (arrV cA N (fun j => if j < N then .ref (H.size + 1 + j) else .null)) → (∀ q, q < H.size → H1[q]? = H[q]?) → (∀ j, j < N → H1[H.size + 1 + j]? = some (arrV cI K (fun _ => .int 0))) → W p l e R s m args below meth c H1 (locs ++ (List.range N).map fun j => ⟨H.size, j⟩) (cells + 1 + N) (slots + N + N * K) Q { g with pc := g.pc + 4, stack := .ref H.size :: rest }) : W p l e R s m args below meth c H locs cells slots Q g := by
  subst hg eN eK
  intro T hT X
  subst hT hb
  have hpl : e.platform.magicAccessors = ({} : Platform).magicAccessors := by rw [X.admits.platform]
  obtain ⟨⟨kA, hkA, hkindA⟩, ⟨kC, cc, hkC, hkindC⟩, hname⟩ := hAO
  obtain ⟨c0, hfc0, hcl⟩ := Cond.classLink_spec hown hclink e.platform hpl
  cases hname.symm.trans hfc0
  obtain ⟨hg₁, hwarm₁, hready₁⟩ := State.classEntry (e := e) X.warmed hcl
  generalize T.vm.noted g.method.cls index (.cls cA) = vm₁ at hg₁ hwarm₁ hready₁
  have hal : s.vm.Alike vm₁ := hwarm₁.alike
  obtain ⟨kA₁, hkA₁, heA⟩ := hal.2.2 _ _ hkA
  obtain ⟨kC₁, hkC₁, heC⟩ := hal.2.2 _ _ hkC
  have X₁ := X.noted hwarm₁
  obtain ⟨hr1, hr2⟩ := X.roomAbove hcells hslots
  have XF := mn_stand X₁ cA cI n.toNatClampNeg k.toNatClampNeg n.toNatClampNeg
  obtain ⟨f1, f2, f3, f4, f5, f6⟩ := mn_facts (T.setVm vm₁) cA cI n.toNatClampNeg k.toNatClampNeg n.toNatClampNeg
  obtain ⟨t, a1, b1⟩ := kk _ f1 f2 f5 f6 _ rfl XF
  refine ⟨t, ?_, b1⟩
  have hl1 : ¬ n.toNatClampNeg > e.platform.arrayLengthLimit := by rw [Launch.admits_arrayLengthLimit X.admits]; omega
  have hh1 : ¬ n.toNatClampNeg * componentBytes (.array .int) > e.platform.maxHeapBytes := by
    rw [Launch.admits_maxHeapBytes X.admits]
    show ¬ n.toNatClampNeg * 4 > 536870912
    omega
  have hl2 : ¬ k.toNatClampNeg > e.platform.arrayLengthLimit := by rw [Launch.admits_arrayLengthLimit X.admits]; omega
  have hh2 : ¬ k.toNatClampNeg * componentBytes .int > e.platform.maxHeapBytes := by
    rw [Launch.admits_maxHeapBytes X.admits]
    show ¬ k.toNatClampNeg * 4 > 536870912
    omega
  jvm_step X.here [hexec, hdg]
  simp only [multianewarray.sem, wp_bind', W.resolveClassAt_links (State.method?_setTop g X.here.top) hg₁]
  rw [W.popN, if_neg (by decide)]
  refine ⟨g, State.topJava?_setTop' (s := T.setVm vm₁) g X.here.top, [.int n, .int k], rest, rfl, hstack, ?_⟩
  simp only [List.mapM_cons, List.mapM_nil, wp_bind', wp_pure']
  refine mn_make (k := kA₁) (kc := kC₁) (cI := cI) (cc := cc) hkA₁ (by rw [heA]; exact hkindA) hkC₁ (by rw [heC]; exact hkindC) hn hk hl1 hh1 hl2 hh2 (by show T.heap.size + 1 + _ ≤ _; omega) (by show T.slotsUsed + _ + _ ≤ _; omega) (fun d' acts' => ?_)
  have eS : ((T.setTop g).setVm vm₁).setTop { g with stack := rest } = (T.setVm vm₁).setTop { g with stack := rest } := by
    show ((T.setVm vm₁).setTop g).setTop _ = _
    rw [State.setTop_setTop]
  rw [eS, mn_top]
  simp only [wp_bind', W.mark, W.pushRef, State.topJava?_setTop' _ XF.here.top, Option.some.injEq, exists_eq_left', State.setTop_setTop, State.heap_setTop]
  intro acts
  simp [jvm, XF.here.top]
  exact a1
end MS
