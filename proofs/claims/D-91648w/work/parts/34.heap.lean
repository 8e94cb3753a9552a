/-! contracts of methods that make cells, read and write single ones: what they leave as it was -/
set_option maxRecDepth 100000
def TX15 : u_T := fun _ => ("", "", "", false)
abbrev tcl : List vw_C := [(RX6, TX6, 9), (RX7, TX7, 8), (RX8, TX8, 4), (RX9, TX9, 1), (RX10, TX10, 3), (RX11, TX11, 1), (RX12, TX12, 1), (RX13, TX13, 1), (RX14, TX14, 1), (RX15, TX15, 0), (RX16, TX16, 1), (RX17, TX17, 3), (RX18, TX18, 3), (RX19, TX19, 2), (RJ2, TJ2, 3), (RJ15, TJ15, 1), (RX4, TX4, 6)]
abbrev tty (d : Nat → ClassId) : List (ClassId × FieldType) := [(d 0, .boolean), (d 1, .byte), (d 2, .object "java/lang/Object"), (d 3, .int), (d 4, .long)]
theorem va_at_keep {D : va_G} {cl : List vw_C} {a : Nat} {x : va_E} {H H' : Heap} (h : va_at D cl (a, x) H) (hq : H'[a]? = H[a]?) : va_at D cl (a, x) H' := by
  cases x with
  | inl y =>
    show H'[a]? = _
    rw [hq]; exact h
  | inr y =>
    obtain ⟨r, g1, cell, q1, q2⟩ := h
    exact ⟨r, g1, cell, by rw [hq]; exact q1, q2⟩
theorem va_at_lt {D : va_G} {cl : List vw_C} {a : Nat} {x : va_E} {H : Heap} (h : va_at D cl (a, x) H) : a < H.size := by
  cases x with
  | inl y =>
    have h1 : H[a]? = _ := h
    exact (Array.getElem?_eq_some_iff.mp h1).1
  | inr y =>
    obtain ⟨r, g1, cell, q1, q2⟩ := h
    exact (Array.getElem?_eq_some_iff.mp q1).1
/-- what never changes: the classes, the arrays' classes, the texts and statics; from b on lies what is ours -/
abbrev hZ : Type := (va_G × (Nat → ClassId)) × gP × Nat
abbrev hZ.D (Z : hZ) : va_G := Z.1.1
abbrev hZ.d (Z : hZ) : Nat → ClassId := Z.1.2
abbrev hZ.G (Z : hZ) : gP := Z.2.1
abbrev hZ.b (Z : hZ) : Nat := Z.2.2
def HE (Z : hZ) (U : State) : Prop := va_K Z.D tcl (tty Z.d) U ∧ GS Z.G Z.b U ∧ Z.b ≤ U.heap.size
/-- the cells that may change: F, and all new ones -/
def hA (F : Nat → Prop) (n0 : Nat) : Nat → Prop := fun a => F a ∨ n0 ≤ a
def F0_ : Nat → Prop := fun _ => False
theorem HE.at {Z : hZ} {F : Nat → Prop} {s U : State} {H : Heap} {locs : List Loc} (h : HE Z s) (hS : va_S (hA F s.heap.size) s.heap H locs) (hF : ∀ a, F a → Z.b ≤ a) (hU : U.heap = H) (hW : s.WarmedH U.vm) : HE Z U :=
  ⟨va_K.moved hW.alike h.1, h.2.1.at hS (fun q hq => by rcases hq with hq | hq; exact hF q hq; exact Nat.le_trans h.2.2 hq) hU hW, by rw [hU]; exact Nat.le_trans h.2.2 hS.1⟩
theorem HE.blind {Z : hZ} {U : State} {g : JFrame} {mk : MethodId} {a : Array Value} (h : HE Z U) : HE Z (U.calling g mk a) := ⟨va_K.moved (Vm.Alike.refl U.vm) h.1, h.2.1.blind, h.2.2⟩
def QH (Rr : Option Value → Heap → Prop) (A : Nat → Prop) : Array Value → State → Outcome → State → Prop := fun _ st oc t => (∃ v, oc = .returned v ∧ Rr v t.heap) ∧ va_F A st t
def QX (Rr : Option Value → Heap → Prop) (Xx : Nat → Heap → Prop) (A : Nat → Prop) : Array Value → State → Outcome → State → Prop := QT (fun v t => Rr v t.heap) (fun x t => Xx x t.heap) A
abbrev hPc (Z : hZ) (As : List Value) (n0 : Nat) (Pre : Heap → Prop) : Array Value → State → Prop := va_Pc As (fun U => HE Z U ∧ U.heap.size = n0 ∧ Pre U.heap)
/-- a method that returns -/
abbrev mH (l : Launch) (y : MethodName) (bytes : ByteArray) (maxL : Nat) (ret : Option FieldType) (rm : Room) (Z : hZ) (As : List Value) (n0 : Nat) (Pre : Heap → Prop) (Rr : Option Value → Heap → Prop) (F : Nat → Prop) (mc ms : Nat) : Prop := Met l y (ws_ y bytes maxL ret) rm (hPc Z As n0 Pre) (QH Rr (hA F n0)) mc ms (hA F n0)
/-- a method that returns or throws -/
abbrev mX (l : Launch) (y : MethodName) (bytes : ByteArray) (maxL : Nat) (ret : Option FieldType) (rm : Room) (Z : hZ) (As : List Value) (n0 : Nat) (Pre : Heap → Prop) (Rr : Option Value → Heap → Prop) (Xx : Nat → Heap → Prop) (F : Nat → Prop) (mc ms : Nat) : Prop := MetT l y (ws_ y bytes maxL ret) rm (hPc Z As n0 Pre) (QX Rr Xx (hA F n0)) mc ms (hA F n0)
def hCx (own : String) (p : Program) (c : Code) (cc : ByteArray) (nL : Nat) (s : State) (m : MethodId) (args : Array Value) (Z : hZ) : Prop := CallFix p m c cc nL s args lw_all own ∧ HE Z s
theorem hPc_blind {Z : hZ} {As : List Value} {n0 : Nat} {Pre : Heap → Prop} : FrameBlind (hPc Z As n0 Pre) := fun a U g mk q => ⟨q.1, q.2.1.blind, q.2.2⟩
abbrev hFr (F : Nat → Prop) (H H1 : Heap) : Prop := H.size ≤ H1.size ∧ ∀ q : Nat, q < H.size → ¬ F q → H1[q]? = H[q]?
section HC
variable {p : Program} {l : Launch} {e : Env} {R : Room} {s : State} {m : MethodId} {args : Array Value} {below : List Frame} {meth : Method} {c : Code} {H : Heap} {locs : List Loc} {cells slots : Nat} {Q : State → Prop}
variable {cc : ByteArray} {pc nL : Nat} {ls : Array Slot} {rest : List Value}
variable {y : MethodName} {bytes : ByteArray} {maxL idx : Nat} {ret : Option FieldType} {rm : Room} {As st : List Value} {own : String} {F F1 : Nat → Prop} {Z : hZ} {Pre : Heap → Prop} {Rr : Option Value → Heap → Prop} {Xx : Nat → Heap → Prop} {mc ms : Nat}
theorem callH3 {st0 : List Value} {a : Array Value} {A0 A1 : Nat → Prop} {H0 : Heap} {free : Addr → Prop} (hr : va_Run p l e R s m args below meth c H locs cells slots mc ms (F0 m pc ls st0) rest (QH Rr A1 a) free) (hS : va_S A0 H0 H locs) (hA : ∀ q, q < H.size → A1 q → A0 q) (hf : ∀ q, free q → A0 q)
    (kk : ∀ (v : Option Value) (H1 : Heap) (locs1 : List Loc), Rr v H1 → H.size ≤ H1.size → (∀ q : Nat, q < H.size → ¬ A1 q → H1[q]? = H[q]?) → va_S A0 H0 H1 locs1 → W p l e R s m args below meth c H1 locs1 (cells + mc) (slots + ms) Q (F0 m (pc + 3) ls (v.toList ++ rest))) : W p l e R s m args below meth c H locs cells slots Q (F0 m pc ls st0) := by
  intro T hT X
  obtain ⟨v, st₀, t, T', L, h0, X', hL, e1, e2, ⟨⟨v', hv, hp⟩, hz, hk⟩, st⟩ := hr T hT X
  cases hv
  rw [h0] at hz hk
  obtain ⟨t2, a1, b1⟩ := kk v T'.heap (locs ++ L) (by rw [e1]; exact hp) (by rw [e1]; exact hz) (fun q h1 h2 => by rw [e1]; exact hk q h1 h2)
    ⟨Nat.le_trans hS.1 (by rw [e1]; exact hz), fun q h1 h2 => by rw [e1, hk q (Nat.lt_of_lt_of_le h1 hS.1) (fun z => h2 (hA q (Nat.lt_of_lt_of_le h1 hS.1) z))]; exact hS.2.1 q h1 h2, fun q hq => by
      rcases List.mem_append.mp hq with h | h
      · exact hS.2.2 q h
      · exact hf _ (hL q h)⟩ T' rfl X'
  exact ⟨t2, st t2 a1, b1⟩
theorem callH5 {st0 : List Value} {a : Array Value} {A0 A1 : Nat → Prop} {H0 : Heap} {free : Addr → Prop} (hr : va_Run5 p l e R s m args below meth c H locs cells slots mc ms (F0 m pc ls st0) rest (QH Rr A1 a) free) (hS : va_S A0 H0 H locs) (hA : ∀ q, q < H.size → A1 q → A0 q) (hf : ∀ q, free q → A0 q)
    (kk : ∀ (v : Option Value) (H1 : Heap) (locs1 : List Loc), Rr v H1 → H.size ≤ H1.size → (∀ q : Nat, q < H.size → ¬ A1 q → H1[q]? = H[q]?) → va_S A0 H0 H1 locs1 → W p l e R s m args below meth c H1 locs1 (cells + mc) (slots + ms) Q (F0 m (pc + 5) ls (v.toList ++ rest))) : W p l e R s m args below meth c H locs cells slots Q (F0 m pc ls st0) := by
  intro T hT X
  obtain ⟨v, st₀, t, T', L, h0, X', hL, e1, e2, ⟨⟨v', hv, hp⟩, hz, hk⟩, st⟩ := hr T hT X
  cases hv
  rw [h0] at hz hk
  obtain ⟨t2, a1, b1⟩ := kk v T'.heap (locs ++ L) (by rw [e1]; exact hp) (by rw [e1]; exact hz) (fun q h1 h2 => by rw [e1]; exact hk q h1 h2)
    ⟨Nat.le_trans hS.1 (by rw [e1]; exact hz), fun q h1 h2 => by rw [e1, hk q (Nat.lt_of_lt_of_le h1 hS.1) (fun z => h2 (hA q (Nat.lt_of_lt_of_le h1 hS.1) z))]; exact hS.2.1 q h1 h2, fun q hq => by
      rcases List.mem_append.mp hq with h | h
      · exact hS.2.2 q h
      · exact hf _ (hL q h)⟩ T' rfl X'
  exact ⟨t2, st t2 a1, b1⟩
theorem hcV (X : hCx own p c cc nL s m args Z) (hS : va_S (hA F s.heap.size) s.heap H locs) (hF : ∀ a, F a → Z.b ≤ a) {b : Nat} {C : String} (met : mH l y bytes maxL ret rm Z (.ref b :: As) H.size Pre Rr F1 mc ms) (hp : Pre H) (hF1 : ∀ a, F1 a → hA F s.heap.size a) (hb : ∃ cell : Cell, H[b]? = some cell ∧ cell.vm.isStatics = false ∧ s.vm.findClass C = some cell.cls) (hT : GoodIn lw_all (wsV own idx C y (ws_ y bytes maxL ret))) (hd : y.cls = C ∧ y.cls ≠ "java/lang/invoke/MethodHandle" ∧ y.cls ≠ "java/lang/invoke/VarHandle" ∧ (parseMethodDescriptor y.desc).map (fun d => d.parameters.length) = some As.length) (hrm : rm.cells = mc ∧ rm.slots = ms) (hR : rm.frames + 1 ≤ R.frames ∧ 8 + (maxL + 11) + rm.locals ≤ R.locals) (hcs : cells + mc ≤ R.cells ∧ slots + ms ≤ R.slots) (hls : ls.size = nL) (hro : (rest.map fun v => v.category).sum ≤ 8) (hdg : decode cc pc = .ok (.invokevirtual idx, 3)) (hst : st = As.reverse ++ .ref b :: rest)
    (kk : ∀ (v : Option Value) (H1 : Heap) (locs1 : List Loc), Rr v H1 → hFr F1 H H1 → va_S (hA F s.heap.size) s.heap H1 locs1 → W p l e R s m args below meth c H1 locs1 (cells + mc) (slots + ms) Q (F0 m (pc + 3) ls (v.toList ++ rest))) : W p l e R s m args below meth c H locs cells slots Q (F0 m pc ls st) := by
  subst hst
  exact callH3 (va_runV (As := As) (rest := rest) X.1 met (cwV As.length X.1.2.2.2.2 hT rfl hrm.1 hrm.2 hd hR) ⟨hPc_blind, hb, fun U hU hW => ⟨rfl, X.2.at hS hF hU hW, by rw [hU], by rw [hU]; exact hp⟩⟩ rfl rfl hls rfl (lv_room hro) hdg hcs) hS (fun q hq z => z.elim (hF1 q) (fun w => absurd w (Nat.not_le.mpr hq))) (fun q z => z.elim (hF1 q) (fun w => Or.inr (Nat.le_trans hS.1 w))) (fun v H1 locs1 hv hz hk hS => kk v H1 locs1 hv ⟨hz, fun q h1 h2 => hk q h1 (fun z => z.elim h2 (fun w => absurd w (Nat.not_le.mpr h1)))⟩ hS)
theorem hcS (X : hCx own p c cc nL s m args Z) (hS : va_S (hA F s.heap.size) s.heap H locs) (hF : ∀ a, F a → Z.b ≤ a)  (met : mH l y bytes maxL ret rm Z (As) H.size Pre Rr F1 mc ms) (hp : Pre H) (hF1 : ∀ a, F1 a → hA F s.heap.size a)  (hT : GoodIn lw_all (va_wsS own idx y (ws_ y bytes maxL ret))) (hd : y.cls ≠ "java/lang/invoke/MethodHandle" ∧ y.cls ≠ "java/lang/invoke/VarHandle" ∧ (parseMethodDescriptor y.desc).map (fun d => d.parameters.length) = some As.length) (hrm : rm.cells = mc ∧ rm.slots = ms) (hR : rm.frames + 1 ≤ R.frames ∧ 8 + (maxL + 11) + rm.locals ≤ R.locals) (hcs : cells + mc ≤ R.cells ∧ slots + ms ≤ R.slots) (hls : ls.size = nL) (hro : (rest.map fun v => v.category).sum ≤ 8) (hdg : decode cc pc = .ok (.invokestatic idx, 3)) (hst : st = As.reverse ++ rest)
    (kk : ∀ (v : Option Value) (H1 : Heap) (locs1 : List Loc), Rr v H1 → hFr F1 H H1 → va_S (hA F s.heap.size) s.heap H1 locs1 → W p l e R s m args below meth c H1 locs1 (cells + mc) (slots + ms) Q (F0 m (pc + 3) ls (v.toList ++ rest))) : W p l e R s m args below meth c H locs cells slots Q (F0 m pc ls st) := by
  subst hst
  exact callH3 (va_runS (As := As) (rest := rest) X.1 met (va_cwS As.length X.1.2.2.2.2 hT rfl hrm.1 hrm.2 hd hR) ⟨hPc_blind, fun U hU hW => ⟨rfl, X.2.at hS hF hU hW, by rw [hU], by rw [hU]; exact hp⟩⟩ rfl rfl hls rfl (lv_room hro) hdg hcs) hS (fun q hq z => z.elim (hF1 q) (fun w => absurd w (Nat.not_le.mpr hq))) (fun q z => z.elim (hF1 q) (fun w => Or.inr (Nat.le_trans hS.1 w))) (fun v H1 locs1 hv hz hk hS => kk v H1 locs1 hv ⟨hz, fun q h1 h2 => hk q h1 (fun z => z.elim h2 (fun w => absurd w (Nat.not_le.mpr h1)))⟩ hS)
theorem hcI (X : hCx own p c cc nL s m args Z) (hS : va_S (hA F s.heap.size) s.heap H locs) (hF : ∀ a, F a → Z.b ≤ a)  {b : Nat} (met : mH l y bytes maxL none rm Z (.ref b :: As) H.size Pre Rr F1 mc ms) (hp : Pre H) (hF1 : ∀ a, F1 a → hA F s.heap.size a)  (hcw : CallB R s args own idx y bytes maxL none (ws_ y bytes maxL none) rm mc ms As.length ∧ y.name = "<init>" ∧ (Cond.instanceMethod y).before args s = true)  (hrm : rm.cells = mc ∧ rm.slots = ms) (hR : rm.frames + 1 ≤ R.frames ∧ 8 + (maxL + 11) + rm.locals ≤ R.locals) (hcs : cells + mc ≤ R.cells ∧ slots + ms ≤ R.slots) (hls : ls.size = nL) (hro : (rest.map fun v => v.category).sum ≤ 8) (hdg : decode cc pc = .ok (.invokespecial idx, 3)) (hst : st = As.reverse ++ .ref b :: rest)
    (kk : ∀ (v : Option Value) (H1 : Heap) (locs1 : List Loc), Rr v H1 → hFr F1 H H1 → va_S (hA F s.heap.size) s.heap H1 locs1 → W p l e R s m args below meth c H1 locs1 (cells + mc) (slots + ms) Q (F0 m (pc + 3) ls (v.toList ++ rest))) : W p l e R s m args below meth c H locs cells slots Q (F0 m pc ls st) := by
  subst hst
  exact callH3 (va_runI (As := As) (rest := rest) X.1 met (hcw) ⟨hPc_blind, fun U hU hW => ⟨rfl, X.2.at hS hF hU hW, by rw [hU], by rw [hU]; exact hp⟩⟩ rfl rfl hls rfl (lv_room hro) hdg hcs) hS (fun q hq z => z.elim (hF1 q) (fun w => absurd w (Nat.not_le.mpr hq))) (fun q z => z.elim (hF1 q) (fun w => Or.inr (Nat.le_trans hS.1 w))) (fun v H1 locs1 hv hz hk hS => kk v H1 locs1 hv ⟨hz, fun q h1 h2 => hk q h1 (fun z => z.elim h2 (fun w => absurd w (Nat.not_le.mpr h1)))⟩ hS)
theorem hcIN (X : hCx own p c cc nL s m args Z) (hS : va_S (hA F s.heap.size) s.heap H locs) (hF : ∀ a, F a → Z.b ≤ a)  {b : Nat} {host : String} (met : mH l y bytes maxL none rm Z (.ref b :: As) H.size Pre Rr F1 mc ms) (hp : Pre H) (hF1 : ∀ a, F1 a → hA F s.heap.size a)  (hG : GoodIn lw_all (ws_ y bytes maxL none)) (hl : va_Nw (.methodLinkNest own idx y host) s) (hini : Cond.initialized y.cls ∈ lw_all) (hnm : y.name = "<init>") (hins : Cond.instanceMethod y ∈ lw_all) (hd : y.cls ≠ "java/lang/invoke/MethodHandle" ∧ y.cls ≠ "java/lang/invoke/VarHandle" ∧ (parseMethodDescriptor y.desc).map (fun d => d.parameters.length) = some As.length) (hrm : rm.cells = mc ∧ rm.slots = ms) (hR : rm.frames + 1 ≤ R.frames ∧ 8 + (maxL + 11) + rm.locals ≤ R.locals) (hcs : cells + mc ≤ R.cells ∧ slots + ms ≤ R.slots) (hls : ls.size = nL) (hro : (rest.map fun v => v.category).sum ≤ 8) (hdg : decode cc pc = .ok (.invokespecial idx, 3)) (hst : st = As.reverse ++ .ref b :: rest)
    (kk : ∀ (v : Option Value) (H1 : Heap) (locs1 : List Loc), Rr v H1 → hFr F1 H H1 → va_S (hA F s.heap.size) s.heap H1 locs1 → W p l e R s m args below meth c H1 locs1 (cells + mc) (slots + ms) Q (F0 m (pc + 3) ls (v.toList ++ rest))) : W p l e R s m args below meth c H locs cells slots Q (F0 m pc ls st) := by
  subst hst
  exact callH3 (va_runIN (As := As) (rest := rest) X.1 met ⟨va_cnB As.length X.1.2.2.2.2 hG rfl hrm.1 hrm.2 hl (X.1.2.2.2.2 _ hini) hd hR, hnm, X.1.2.2.2.2 _ hins⟩ ⟨hPc_blind, fun U hU hW => ⟨rfl, X.2.at hS hF hU hW, by rw [hU], by rw [hU]; exact hp⟩⟩ rfl rfl hls rfl (lv_room hro) hdg hcs) hS (fun q hq z => z.elim (hF1 q) (fun w => absurd w (Nat.not_le.mpr hq))) (fun q z => z.elim (hF1 q) (fun w => Or.inr (Nat.le_trans hS.1 w))) (fun v H1 locs1 hv hz hk hS => kk v H1 locs1 hv ⟨hz, fun q h1 h2 => hk q h1 (fun z => z.elim h2 (fun w => absurd w (Nat.not_le.mpr h1)))⟩ hS)
theorem hcX (X : hCx own p c cc nL s m args Z) (hS : va_S (hA F s.heap.size) s.heap H locs) (hF : ∀ a, F a → Z.b ≤ a) {b : Nat} {C : String} (met : mX l y bytes maxL ret rm Z (.ref b :: As) H.size Pre Rr Xx F1 mc ms) (hp : Pre H) (hF1 : ∀ a, F1 a → hA F s.heap.size a) (hb : ∃ cell : Cell, H[b]? = some cell ∧ cell.vm.isStatics = false ∧ s.vm.findClass C = some cell.cls) (hT : GoodIn lw_all (wsV own idx C y (ws_ y bytes maxL ret))) (hd : y.cls = C ∧ y.cls ≠ "java/lang/invoke/MethodHandle" ∧ y.cls ≠ "java/lang/invoke/VarHandle" ∧ (parseMethodDescriptor y.desc).map (fun d => d.parameters.length) = some As.length) (hrm : rm.cells = mc ∧ rm.slots = ms) (hR : rm.frames + 1 ≤ R.frames ∧ 8 + (maxL + 11) + rm.locals ≤ R.locals) (hcs : cells + mc ≤ R.cells ∧ slots + ms ≤ R.slots) (hls : ls.size = nL) (hro : (rest.map fun v => v.category).sum ≤ 8) (hdg : decode cc pc = .ok (.invokevirtual idx, 3)) (hst : st = As.reverse ++ .ref b :: rest)
    (kk : ∀ (v : Option Value) (H1 : Heap) (locs1 : List Loc), Rr v H1 → hFr F1 H H1 → va_S (hA F s.heap.size) s.heap H1 locs1 → W p l e R s m args below meth c H1 locs1 (cells + mc) (slots + ms) Q (F0 m (pc + 3) ls (v.toList ++ rest)))
    (kx : ∀ (x : Nat) (H1 : Heap) (locs1 : List Loc), Xx x H1 → hFr F1 H H1 → va_S (hA F s.heap.size) s.heap H1 locs1 → WX p l e R s m args below meth c H1 locs1 (cells + mc) (slots + ms) Q (F0 m pc ls rest) x) : W p l e R s m args below meth c H locs cells slots Q (F0 m pc ls st) := by
  subst hst
  have hK : ∀ (H1 : Heap), (∀ q : Nat, q < H.size → ¬ hA F1 H.size q → H1[q]? = H[q]?) → ∀ q : Nat, q < H.size → ¬ F1 q → H1[q]? = H[q]? := fun H1 hk q h1 h2 => hk q h1 (fun z => z.elim h2 (fun w => absurd w (Nat.not_le.mpr h1)))
  exact callT (runVT (As := As) (rest := rest) X.1 met (cwV As.length X.1.2.2.2.2 hT rfl hrm.1 hrm.2 hd hR) ⟨hPc_blind, hb, fun U hU hW => ⟨rfl, X.2.at hS hF hU hW, by rw [hU], by rw [hU]; exact hp⟩⟩ rfl rfl hls rfl (lv_room hro) hdg hcs) hS (fun q hq z => z.elim (hF1 q) (fun w => absurd w (Nat.not_le.mpr hq))) (fun q z => z.elim (hF1 q) (fun w => Or.inr (Nat.le_trans hS.1 w)))
    (fun v t H1 locs1 ht _ hv hz hk hS => kk v H1 locs1 (by rw [← ht]; exact hv) ⟨hz, hK H1 hk⟩ hS) (fun x t H1 locs1 ht _ hv hz hk hS => kx x H1 locs1 (by rw [← ht]; exact hv) ⟨hz, hK H1 hk⟩ hS)
end HC
theorem goHv {l : Launch} {y : MethodName} {cc : ByteArray} {nL : Nat} {rm : Room} {Z : hZ} {As : List Value} {n0 mc ms : Nat} {Pre : Heap → Prop} {Rr : Option Value → Heap → Prop} {F : Nat → Prop} (hy : plainFor y = true) (hAs : (lg_sl As).length ≤ nL) (body : ∀ (p : Program) (e : Env) (s : State) (m : MethodId) (args : Array Value) (below : List Frame) (meth : Method) (c : Code) (Q : State → Prop) (ls : Array Slot), hCx y.cls p c cc nL s m args Z → (∀ (pc : Nat) (ls : Array Slot) (H : Heap) (locs : List Loc), decode cc pc = .ok (.return_, 1) → Rr none H → va_S (hA F n0) s.heap H locs → W p l e rm s m args below meth c H locs mc ms Q (F0 m pc ls [])) → lv_has ls nL (lv_args 0 As) → Pre s.heap → s.heap.size = n0 → va_S (hA F s.heap.size) s.heap s.heap [] → (meth.name = y.name) → W p l e rm s m args below meth c s.heap [] 0 0 Q (F0 m 0 ls [])) : mH l y cc nL none rm Z As n0 Pre Rr F mc ms := by
  refine va_MetF (cc := cc) (maxL := nL) (ret := none) hy rfl ?_
  intro p e s m args below meth c s₁ B hml hv
  obtain ⟨rfl, hE, hn, hP⟩ := hv
  have hx := B.exec
  have hb := B.bytes
  have hr := B.returns
  have hlocks := B.notSynchronized
  have hts := atoms_spec (ws := ws_ y cc nL none) B.pre
  have hts : ∀ w ∈ lw_all, w.before _ s = true := fun w h => hts w (List.mem_cons_of_mem _ h)
  have hown : s.vm.findClass y.cls = some m.cls := findClass_of_methodNamed B.named
  have hl := lv_entry As (n := nL) hAs
  rw [lg_entry_eq]
  generalize (lg_sl As ++ List.replicate (nL - (lg_sl As).length) Slot.unset).toArray = ls at hl ⊢
  subst hn
  refine body p e s m _ below meth c _ ls ⟨⟨hx, hb, hml, hown, hts⟩, hE⟩ ?_ hl hP rfl va_S.rf (name_of_methodNamed B.named B.method).1
  · intro pc ls H locs hd hR hM
    skip
    exact W.vret hx hb hr (fun t ht hW => ⟨⟨_, rfl, by rw [ht]; exact hR⟩, hM.F ht⟩) hM.2.2 hd
theorem goHi {l : Launch} {y : MethodName} {cc : ByteArray} {nL : Nat} {rm : Room} {Z : hZ} {As : List Value} {n0 mc ms : Nat} {Pre : Heap → Prop} {Rr : Option Value → Heap → Prop} {F : Nat → Prop} {ty : FieldType} (hy : plainFor y = true) (hAs : (lg_sl As).length ≤ nL) (hnar : ∀ (v : Int) {H : Heap}, Rr (some (.int (zi v))) H → narrow ty (.int (zi v)) = .int (zi v)) (body : ∀ (p : Program) (e : Env) (s : State) (m : MethodId) (args : Array Value) (below : List Frame) (meth : Method) (c : Code) (Q : State → Prop) (ls : Array Slot), hCx y.cls p c cc nL s m args Z → (∀ (pc : Nat) (ls : Array Slot) (H : Heap) (locs : List Loc) (v : Int), decode cc pc = .ok (.ireturn, 1) → Rr (some (.int (zi v))) H → va_S (hA F n0) s.heap H locs → W p l e rm s m args below meth c H locs mc ms Q (F0 m pc ls [.int (zi v)])) → lv_has ls nL (lv_args 0 As) → Pre s.heap → s.heap.size = n0 → va_S (hA F s.heap.size) s.heap s.heap [] → (meth.name = y.name) → W p l e rm s m args below meth c s.heap [] 0 0 Q (F0 m 0 ls [])) : mH l y cc nL (some ty) rm Z As n0 Pre Rr F mc ms := by
  refine va_MetF (cc := cc) (maxL := nL) (ret := (some ty)) hy rfl ?_
  intro p e s m args below meth c s₁ B hml hv
  obtain ⟨rfl, hE, hn, hP⟩ := hv
  have hx := B.exec
  have hb := B.bytes
  have hr := B.returns
  have hlocks := B.notSynchronized
  have hts := atoms_spec (ws := ws_ y cc nL (some ty)) B.pre
  have hts : ∀ w ∈ lw_all, w.before _ s = true := fun w h => hts w (List.mem_cons_of_mem _ h)
  have hown : s.vm.findClass y.cls = some m.cls := findClass_of_methodNamed B.named
  have hl := lv_entry As (n := nL) hAs
  rw [lg_entry_eq]
  generalize (lg_sl As ++ List.replicate (nL - (lg_sl As).length) Slot.unset).toArray = ls at hl ⊢
  subst hn
  refine body p e s m _ below meth c _ ls ⟨⟨hx, hb, hml, hown, hts⟩, hE⟩ ?_ hl hP rfl va_S.rf (name_of_methodNamed B.named B.method).1
  · intro pc ls H locs v hd hR hM
    skip
    exact W.zret hx hb hr (hnar v hR) (fun t ht hW => ⟨⟨_, rfl, by rw [ht]; exact hR⟩, hM.F ht⟩) hM.2.2 hd
theorem goHr {l : Launch} {y : MethodName} {cc : ByteArray} {nL : Nat} {rm : Room} {Z : hZ} {As : List Value} {n0 mc ms : Nat} {Pre : Heap → Prop} {Rr : Option Value → Heap → Prop} {F : Nat → Prop} {ty : FieldType} (hy : plainFor y = true) (hAs : (lg_sl As).length ≤ nL) (hrt : (∃ n, ty = .object n) ∨ ∃ t, ty = .array t) (body : ∀ (p : Program) (e : Env) (s : State) (m : MethodId) (args : Array Value) (below : List Frame) (meth : Method) (c : Code) (Q : State → Prop) (ls : Array Slot), hCx y.cls p c cc nL s m args Z → (∀ (pc : Nat) (ls : Array Slot) (H : Heap) (locs : List Loc) (a : Nat), decode cc pc = .ok (.areturn, 1) → Rr (some (.ref a)) H → va_S (hA F n0) s.heap H locs → W p l e rm s m args below meth c H locs mc ms Q (F0 m pc ls [.ref a])) → lv_has ls nL (lv_args 0 As) → Pre s.heap → s.heap.size = n0 → va_S (hA F s.heap.size) s.heap s.heap [] → (meth.name = y.name) → W p l e rm s m args below meth c s.heap [] 0 0 Q (F0 m 0 ls [])) : mH l y cc nL (some ty) rm Z As n0 Pre Rr F mc ms := by
  refine va_MetF (cc := cc) (maxL := nL) (ret := (some ty)) hy rfl ?_
  intro p e s m args below meth c s₁ B hml hv
  obtain ⟨rfl, hE, hn, hP⟩ := hv
  have hx := B.exec
  have hb := B.bytes
  have hr := B.returns
  have hlocks := B.notSynchronized
  have hts := atoms_spec (ws := ws_ y cc nL (some ty)) B.pre
  have hts : ∀ w ∈ lw_all, w.before _ s = true := fun w h => hts w (List.mem_cons_of_mem _ h)
  have hown : s.vm.findClass y.cls = some m.cls := findClass_of_methodNamed B.named
  have hl := lv_entry As (n := nL) hAs
  rw [lg_entry_eq]
  generalize (lg_sl As ++ List.replicate (nL - (lg_sl As).length) Slot.unset).toArray = ls at hl ⊢
  subst hn
  refine body p e s m _ below meth c _ ls ⟨⟨hx, hb, hml, hown, hts⟩, hE⟩ ?_ hl hP rfl va_S.rf (name_of_methodNamed B.named B.method).1
  · intro pc ls H locs a hd hR hM
    skip
    exact W.aret hx hb hr hrt (Or.inr ⟨a, rfl⟩) (fun t ht hW => ⟨⟨_, rfl, by rw [ht]; exact hR⟩, hM.F ht⟩) hM.2.2 hd
theorem goHl {l : Launch} {y : MethodName} {cc : ByteArray} {nL : Nat} {rm : Room} {Z : hZ} {As : List Value} {n0 mc ms : Nat} {Pre : Heap → Prop} {Rr : Option Value → Heap → Prop} {F : Nat → Prop} (hy : plainFor y = true) (hAs : (lg_sl As).length ≤ nL) (body : ∀ (p : Program) (e : Env) (s : State) (m : MethodId) (args : Array Value) (below : List Frame) (meth : Method) (c : Code) (Q : State → Prop) (ls : Array Slot), hCx y.cls p c cc nL s m args Z → (∀ (pc : Nat) (ls : Array Slot) (H : Heap) (locs : List Loc) (v : Int), decode cc pc = .ok (.lreturn, 1) → Rr (some (.long (zl v))) H → va_S (hA F n0) s.heap H locs → W p l e rm s m args below meth c H locs mc ms Q (F0 m pc ls [.long (zl v)])) → lv_has ls nL (lv_args 0 As) → Pre s.heap → s.heap.size = n0 → va_S (hA F s.heap.size) s.heap s.heap [] → (meth.name = y.name) → W p l e rm s m args below meth c s.heap [] 0 0 Q (F0 m 0 ls [])) : mH l y cc nL (some .long) rm Z As n0 Pre Rr F mc ms := by
  refine va_MetF (cc := cc) (maxL := nL) (ret := (some .long)) hy rfl ?_
  intro p e s m args below meth c s₁ B hml hv
  obtain ⟨rfl, hE, hn, hP⟩ := hv
  have hx := B.exec
  have hb := B.bytes
  have hr := B.returns
  have hlocks := B.notSynchronized
  have hts := atoms_spec (ws := ws_ y cc nL (some .long)) B.pre
  have hts : ∀ w ∈ lw_all, w.before _ s = true := fun w h => hts w (List.mem_cons_of_mem _ h)
  have hown : s.vm.findClass y.cls = some m.cls := findClass_of_methodNamed B.named
  have hl := lv_entry As (n := nL) hAs
  rw [lg_entry_eq]
  generalize (lg_sl As ++ List.replicate (nL - (lg_sl As).length) Slot.unset).toArray = ls at hl ⊢
  subst hn
  refine body p e s m _ below meth c _ ls ⟨⟨hx, hb, hml, hown, hts⟩, hE⟩ ?_ hl hP rfl va_S.rf (name_of_methodNamed B.named B.method).1
  · intro pc ls H locs v hd hR hM
    skip
    exact W.lret hx hb hr (fun t ht hW => ⟨⟨_, rfl, by rw [ht]; exact hR⟩, hM.F ht⟩) hM.2.2 hd
theorem goXv {l : Launch} {y : MethodName} {cc : ByteArray} {nL : Nat} {rm : Room} {Z : hZ} {As : List Value} {n0 mc ms : Nat} {Pre : Heap → Prop} {Rr : Option Value → Heap → Prop} {Xx : Nat → Heap → Prop} {F : Nat → Prop} (hy : plainFor y = true) (hAs : (lg_sl As).length ≤ nL) (body : ∀ (p : Program) (e : Env) (s : State) (m : MethodId) (args : Array Value) (below : List Frame) (meth : Method) (c : Code) (Q : State → Prop) (ls : Array Slot), hCx y.cls p c cc nL s m args Z → (∀ (pc : Nat) (ls : Array Slot) (H : Heap) (locs : List Loc), decode cc pc = .ok (.return_, 1) → Rr none H → va_S (hA F n0) s.heap H locs → W p l e rm s m args below meth c H locs mc ms Q (F0 m pc ls [])) → (∀ (pc : Nat) (ls : Array Slot) (st : List Value) (H : Heap) (locs : List Loc) (x : Nat), Xx x H → va_S (hA F n0) s.heap H locs → WX p l e rm s m args below meth c H locs mc ms Q (F0 m pc ls st) x) → lv_has ls nL (lv_args 0 As) → Pre s.heap → s.heap.size = n0 → va_S (hA F s.heap.size) s.heap s.heap [] → (meth.name = y.name) → W p l e rm s m args below meth c s.heap [] 0 0 Q (F0 m 0 ls [])) : mX l y cc nL none rm Z As n0 Pre Rr Xx F mc ms := by
  refine MetT.ofW (cc := cc) (maxL := nL) (ret := none) hy rfl ?_
  intro p e s m args below meth c s₁ B hml hno hv
  obtain ⟨rfl, hE, hn, hP⟩ := hv
  have hx := B.exec
  have hb := B.bytes
  have hr := B.returns
  have hlocks := B.notSynchronized
  have hts := atoms_spec (ws := ws_ y cc nL none) B.pre
  have hts : ∀ w ∈ lw_all, w.before _ s = true := fun w h => hts w (List.mem_cons_of_mem _ h)
  have hown : s.vm.findClass y.cls = some m.cls := findClass_of_methodNamed B.named
  have hl := lv_entry As (n := nL) hAs
  rw [lg_entry_eq]
  generalize (lg_sl As ++ List.replicate (nL - (lg_sl As).length) Slot.unset).toArray = ls at hl ⊢
  subst hn
  refine body p e s m _ below meth c _ ls ⟨⟨hx, hb, hml, hown, hts⟩, hE⟩ ?_ ?_ hl hP rfl va_S.rf (name_of_methodNamed B.named B.method).1
  · intro pc ls H locs hd hR hM
    refine W.toT ?_
    exact W.vret hx hb hr (fun t ht hW => ⟨Or.inl ⟨_, rfl, by show Rr _ t.heap; rw [ht]; exact hR⟩, hM.F ht⟩) hM.2.2 hd
  · intro pc ls st H locs x hR hM
    exact WX.out hno hlocks (fun t ht hW => ⟨Or.inr ⟨x, rfl, by show Xx x t.heap; rw [ht]; exact hR⟩, hM.F ht⟩) hM.2.2
theorem goXi {l : Launch} {y : MethodName} {cc : ByteArray} {nL : Nat} {rm : Room} {Z : hZ} {As : List Value} {n0 mc ms : Nat} {Pre : Heap → Prop} {Rr : Option Value → Heap → Prop} {Xx : Nat → Heap → Prop} {F : Nat → Prop} {ty : FieldType} (hy : plainFor y = true) (hAs : (lg_sl As).length ≤ nL) (hnar : ∀ (v : Int) {H : Heap}, Rr (some (.int (zi v))) H → narrow ty (.int (zi v)) = .int (zi v)) (body : ∀ (p : Program) (e : Env) (s : State) (m : MethodId) (args : Array Value) (below : List Frame) (meth : Method) (c : Code) (Q : State → Prop) (ls : Array Slot), hCx y.cls p c cc nL s m args Z → (∀ (pc : Nat) (ls : Array Slot) (H : Heap) (locs : List Loc) (v : Int), decode cc pc = .ok (.ireturn, 1) → Rr (some (.int (zi v))) H → va_S (hA F n0) s.heap H locs → W p l e rm s m args below meth c H locs mc ms Q (F0 m pc ls [.int (zi v)])) → (∀ (pc : Nat) (ls : Array Slot) (st : List Value) (H : Heap) (locs : List Loc) (x : Nat), Xx x H → va_S (hA F n0) s.heap H locs → WX p l e rm s m args below meth c H locs mc ms Q (F0 m pc ls st) x) → lv_has ls nL (lv_args 0 As) → Pre s.heap → s.heap.size = n0 → va_S (hA F s.heap.size) s.heap s.heap [] → (meth.name = y.name) → W p l e rm s m args below meth c s.heap [] 0 0 Q (F0 m 0 ls [])) : mX l y cc nL (some ty) rm Z As n0 Pre Rr Xx F mc ms := by
  refine MetT.ofW (cc := cc) (maxL := nL) (ret := (some ty)) hy rfl ?_
  intro p e s m args below meth c s₁ B hml hno hv
  obtain ⟨rfl, hE, hn, hP⟩ := hv
  have hx := B.exec
  have hb := B.bytes
  have hr := B.returns
  have hlocks := B.notSynchronized
  have hts := atoms_spec (ws := ws_ y cc nL (some ty)) B.pre
  have hts : ∀ w ∈ lw_all, w.before _ s = true := fun w h => hts w (List.mem_cons_of_mem _ h)
  have hown : s.vm.findClass y.cls = some m.cls := findClass_of_methodNamed B.named
  have hl := lv_entry As (n := nL) hAs
  rw [lg_entry_eq]
  generalize (lg_sl As ++ List.replicate (nL - (lg_sl As).length) Slot.unset).toArray = ls at hl ⊢
  subst hn
  refine body p e s m _ below meth c _ ls ⟨⟨hx, hb, hml, hown, hts⟩, hE⟩ ?_ ?_ hl hP rfl va_S.rf (name_of_methodNamed B.named B.method).1
  · intro pc ls H locs v hd hR hM
    refine W.toT ?_
    exact W.zret hx hb hr (hnar v hR) (fun t ht hW => ⟨Or.inl ⟨_, rfl, by show Rr _ t.heap; rw [ht]; exact hR⟩, hM.F ht⟩) hM.2.2 hd
  · intro pc ls st H locs x hR hM
    exact WX.out hno hlocks (fun t ht hW => ⟨Or.inr ⟨x, rfl, by show Xx x t.heap; rw [ht]; exact hR⟩, hM.F ht⟩) hM.2.2
theorem goXr {l : Launch} {y : MethodName} {cc : ByteArray} {nL : Nat} {rm : Room} {Z : hZ} {As : List Value} {n0 mc ms : Nat} {Pre : Heap → Prop} {Rr : Option Value → Heap → Prop} {Xx : Nat → Heap → Prop} {F : Nat → Prop} {ty : FieldType} (hy : plainFor y = true) (hAs : (lg_sl As).length ≤ nL) (hrt : (∃ n, ty = .object n) ∨ ∃ t, ty = .array t) (body : ∀ (p : Program) (e : Env) (s : State) (m : MethodId) (args : Array Value) (below : List Frame) (meth : Method) (c : Code) (Q : State → Prop) (ls : Array Slot), hCx y.cls p c cc nL s m args Z → (∀ (pc : Nat) (ls : Array Slot) (H : Heap) (locs : List Loc) (a : Nat), decode cc pc = .ok (.areturn, 1) → Rr (some (.ref a)) H → va_S (hA F n0) s.heap H locs → W p l e rm s m args below meth c H locs mc ms Q (F0 m pc ls [.ref a])) → (∀ (pc : Nat) (ls : Array Slot) (st : List Value) (H : Heap) (locs : List Loc) (x : Nat), Xx x H → va_S (hA F n0) s.heap H locs → WX p l e rm s m args below meth c H locs mc ms Q (F0 m pc ls st) x) → lv_has ls nL (lv_args 0 As) → Pre s.heap → s.heap.size = n0 → va_S (hA F s.heap.size) s.heap s.heap [] → (meth.name = y.name) → W p l e rm s m args below meth c s.heap [] 0 0 Q (F0 m 0 ls [])) : mX l y cc nL (some ty) rm Z As n0 Pre Rr Xx F mc ms := by
  refine MetT.ofW (cc := cc) (maxL := nL) (ret := (some ty)) hy rfl ?_
  intro p e s m args below meth c s₁ B hml hno hv
  obtain ⟨rfl, hE, hn, hP⟩ := hv
  have hx := B.exec
  have hb := B.bytes
  have hr := B.returns
  have hlocks := B.notSynchronized
  have hts := atoms_spec (ws := ws_ y cc nL (some ty)) B.pre
  have hts : ∀ w ∈ lw_all, w.before _ s = true := fun w h => hts w (List.mem_cons_of_mem _ h)
  have hown : s.vm.findClass y.cls = some m.cls := findClass_of_methodNamed B.named
  have hl := lv_entry As (n := nL) hAs
  rw [lg_entry_eq]
  generalize (lg_sl As ++ List.replicate (nL - (lg_sl As).length) Slot.unset).toArray = ls at hl ⊢
  subst hn
  refine body p e s m _ below meth c _ ls ⟨⟨hx, hb, hml, hown, hts⟩, hE⟩ ?_ ?_ hl hP rfl va_S.rf (name_of_methodNamed B.named B.method).1
  · intro pc ls H locs a hd hR hM
    refine W.toT ?_
    exact W.aret hx hb hr hrt (Or.inr ⟨a, rfl⟩) (fun t ht hW => ⟨Or.inl ⟨_, rfl, by show Rr _ t.heap; rw [ht]; exact hR⟩, hM.F ht⟩) hM.2.2 hd
  · intro pc ls st H locs x hR hM
    exact WX.out hno hlocks (fun t ht hW => ⟨Or.inr ⟨x, rfl, by show Xx x t.heap; rw [ht]; exact hR⟩, hM.F ht⟩) hM.2.2
