/-! constructors of ManyEyes' world: cells made one behind the other, all nought -/
set_option maxRecDepth 100000
/-- a world of noughts, its lists empty -/
def zS (eD : Nat) : yS := (fun k => if k = 41 then (eD : Int) else if k = 51 then (eD : Int) else 0, fun _ _ => 0)
def ZP (DC : va_G) (dA : Nat → ClassId) (hC eD lo hi : Nat) (H : Heap) : Prop := ∀ q, lo ≤ q → q < hi → va_at DC ccl (hC + q, cC dA hC (zS eD) q) H
/-- the object under construction at hC + b, and what has been made behind it -/
def iS (DC : va_G) (dA : Nat → ClassId) (hC eD b ci : Nat) (fs : List Value) (q : Nat) (s : State) (H : Heap) (locs : List Loc) : Prop := va_at DC ccl (hC + b, .inr (ci, fs)) H ∧ ZP DC dA hC eD (b + 1) q H ∧ H.size = hC + q ∧ va_S (hA (fE (hC + b)) s.heap.size) s.heap H locs
abbrev iPc (Z : hZ) (DC : va_G) (dA : Nat → ClassId) (As : List Value) (n0 : Nat) (Pre : Heap → Prop) : Array Value → State → Prop := va_Pc As (fun U => HE Z U ∧ va_K DC ccl (cty dA) U ∧ AOI (dA 4) (dA 0) U ∧ U.heap.size = n0 ∧ Pre U.heap)
theorem iPc_blind {Z : hZ} {DC : va_G} {dA : Nat → ClassId} {As : List Value} {n0 : Nat} {Pre : Heap → Prop} : FrameBlind (iPc Z DC dA As n0 Pre) := fun a U g mk q => ⟨q.1, q.2.1.blind, va_K.moved (u := U) (U := U.calling g mk a) (Vm.Alike.refl U.vm) q.2.2.1, AOI.moved (u := U) (U := U.calling g mk a) (Vm.Alike.refl U.vm) q.2.2.2.1, q.2.2.2.2⟩
abbrev mIn (l : Launch) (y : MethodName) (bytes : ByteArray) (maxL : Nat) (rm : Room) (Z : hZ) (DC : va_G) (dA : Nat → ClassId) (As : List Value) (n0 : Nat) (Pre : Heap → Prop) (Rr : Option Value → Heap → Prop) (F : Nat → Prop) (mc ms : Nat) : Prop := Met l y (ws_ y bytes maxL none) rm (iPc Z DC dA As n0 Pre) (QH Rr (hA F n0)) mc ms (hA F n0)
theorem goI {l : Launch} {y : MethodName} {cc : ByteArray} {nL : Nat} {rm : Room} {Z : hZ} {DC : va_G} {dA : Nat → ClassId} {As : List Value} {n0 mc ms : Nat} {Pre : Heap → Prop} {Rr : Option Value → Heap → Prop} {F : Nat → Prop} (hy : plainFor y = true) (hAs : (lg_sl As).length ≤ nL) (body : ∀ (p : Program) (e : Env) (s : State) (m : MethodId) (args : Array Value) (below : List Frame) (meth : Method) (c : Code) (Q : State → Prop) (ls : Array Slot), fCx y.cls p c cc nL s m args Z DC dA → AOI (dA 4) (dA 0) s → (∀ (pc : Nat) (ls : Array Slot) (H : Heap) (locs : List Loc), decode cc pc = .ok (.return_, 1) → Rr none H → va_S (hA F n0) s.heap H locs → W p l e rm s m args below meth c H locs mc ms Q (F0 m pc ls [])) → lv_has ls nL (lv_args 0 As) → Pre s.heap → s.heap.size = n0 → va_S (hA F s.heap.size) s.heap s.heap [] → (meth.name = y.name) → W p l e rm s m args below meth c s.heap [] 0 0 Q (F0 m 0 ls [])) : mIn l y cc nL rm Z DC dA As n0 Pre Rr F mc ms := by
  refine va_MetF (cc := cc) (maxL := nL) (ret := none) hy rfl ?_
  intro p e s m args below meth c s₁ B hml hv
  obtain ⟨rfl, hE, hK, hAO, hn, hP⟩ := hv
  have hx := B.exec
  have hb := B.bytes
  have hr := B.returns
  have hts := atoms_spec (ws := ws_ y cc nL none) B.pre
  have hts : ∀ w ∈ lw_all, w.before _ s = true := fun w h => hts w (List.mem_cons_of_mem _ h)
  have hown : s.vm.findClass y.cls = some m.cls := findClass_of_methodNamed B.named
  have hl := lv_entry As (n := nL) hAs
  rw [lg_entry_eq]
  generalize (lg_sl As ++ List.replicate (nL - (lg_sl As).length) Slot.unset).toArray = ls at hl ⊢
  subst hn
  refine body p e s m _ below meth c _ ls ⟨⟨hx, hb, hml, hown, hts⟩, hE, hK⟩ hAO ?_ hl hP rfl va_S.rf (name_of_methodNamed B.named B.method).1
  intro pc ls H locs hd hR hM
  exact W.vret hx hb hr (fun t ht hW => ⟨⟨_, rfl, by rw [ht]; exact hR⟩, hM.F ht⟩) hM.2.2 hd
section ZR
variable {p : Program} {l : Launch} {e : Env} {R : Room} {s : State} {m : MethodId} {args : Array Value} {below : List Frame} {meth : Method} {c : Code} {H : Heap} {locs : List Loc} {cells slots : Nat} {Q : State → Prop}
variable {cc : ByteArray} {pc nL : Nat} {ls : Array Slot} {rest : List Value} {own : String} {Z : hZ} {DC : va_G} {dA : Nat → ClassId} {hC eD b ci q : Nat} {fs : List Value}
theorem iS.up (hI : iS DC dA hC eD b ci fs q s H locs) (hb : b < q) {q1 : Nat} {H1 : Heap} {locs1 : List Loc} (hq : q ≤ q1) (z1 : H1.size = hC + q1) (o1 : ∀ x, x < H.size → H1[x]? = H[x]?) (hn : ZP DC dA hC eD q q1 H1) (hl : ∀ y ∈ locs1, y ∈ locs ∨ H.size ≤ y.base) : iS DC dA hC eD b ci fs q1 s H1 locs1 := by
  obtain ⟨h1, h2, h3, h4⟩ := hI
  refine ⟨va_at_keep h1 (o1 _ (by omega)), fun x a c => ?_, z1, ⟨by have := h4.1; omega, fun x a c => (o1 x (by have := h4.1; omega)).trans (h4.2.1 x a c), fun y hy => ?_⟩⟩
  · by_cases h : x < q
    · exact va_at_keep (h2 x a h) (o1 _ (by omega))
    · exact hn x (by omega) c
  · rcases hl y hy with w | w
    · exact h4.2.2 y w
    · exact Or.inr (Nat.le_trans h4.1 w)
theorem z_new (X : fCx own p c cc nL s m args Z DC dA) (hI : iS DC dA hC eD b ci fs q s H locs) (hb : b < q) {at_ : ArrayType} {ty : FieldType} {n t0 : Nat} {v0 : (Nat → Int32) ⊕ (Nat → Int64) ⊕ (Nat → UInt32) ⊕ (Nat → UInt64) ⊕ (Nat → Option Nat)} (hty : newarray.typeOf at_ = ty) (harr : Cond.arrayClass ty ∈ lw_all) (ht : (cty dA)[t0]? = some (dA t0, ty)) (hno : va_RA s (dA t0) ty = (s.vm.findClass ("[" ++ ty.toString) = some (dA t0))) (hq : cC dA hC (zS eD) q = .inl (dA t0, n, v0)) (hv : vp_cell (dA t0) (n, v0) = arrV (dA t0) n (fun _ => defaultValue ty)) (hn : n < 100000) (hby : n * componentBytes ty ≤ 536870912) (hcs : cells + 1 ≤ R.cells ∧ slots + n ≤ R.slots) (hdg : decode cc pc = .ok (.newarray at_, 2))
    (kk : ∀ (H1 : Heap), iS DC dA hC eD b ci fs (q + 1) s H1 locs → W p l e R s m args below meth c H1 locs (cells + 1) (slots + n) Q (F0 m (pc + 2) ls (.ref (hC + q) :: rest))) : W p l e R s m args below meth c H locs cells slots Q (F0 m pc ls (.int (zi n) :: rest)) := by
  subst hty
  have hz : (zi (n : Int)).toNatClampNeg = n := by rw [zi_cl ⟨by omega, by omega⟩]; omega
  have hneg : ¬ zi (n : Int) < 0 := fun hh => by
    have := (zi_lt (a := (n : Int)) (b := 0) ⟨by omega, by omega⟩ (by decide)).mp hh
    omega
  refine va_newaK X.1.1 X.1.2.1 (atype := at_) (X.1.2.2.2.2 _ harr) rfl hdg rfl hneg hz hby hcs.1 hcs.2 hI.2.2.1 fun H1 cA e1 z1 o1 hAr hNm => ?_
  have h2 := (X.2.2.2 t0 _ ht).2
  rw [hno] at h2
  have hcA : cA = dA t0 := Option.some.inj (hNm.symm.trans h2)
  subst hcA
  refine kk H1 (hI.up hb (by omega) (by rw [z1]; omega) (fun x hx => o1 x (by rw [← hI.2.2.1]; exact hx)) (fun x a c => ?_) (fun y hy => Or.inl hy))
  have : x = q := by omega
  subst this
  rw [hq]
  show H1[hC + x]? = some (vp_cell _ _)
  rw [e1]
  exact congrArg some hv.symm
theorem z_int (X : fCx own p c cc nL s m args Z DC dA) (hI : iS DC dA hC eD b ci fs q s H locs) (hb : b < q) {n : Nat} (hq : cI q n) (hn : n < 100000) (hcs : cells + 1 ≤ R.cells ∧ slots + n ≤ R.slots) (hdg : decode cc pc = .ok (.newarray .int, 2))
    (kk : ∀ (H1 : Heap), iS DC dA hC eD b ci fs (q + 1) s H1 locs → W p l e R s m args below meth c H1 locs (cells + 1) (slots + n) Q (F0 m (pc + 2) ls (.ref (hC + q) :: rest))) : W p l e R s m args below meth c H locs cells slots Q (F0 m pc ls (.int (zi n) :: rest)) :=
  z_new (at_ := .int) (ty := .int) (t0 := 0) X hI hb rfl q159 rfl rfl (hq.cell dA hC (zS eD)) rfl hn (by show n * 4 ≤ _; omega) hcs hdg kk
theorem z_multi (X : fCx own p c cc nL s m args Z DC dA) (hAO : AOI (dA 4) (dA 0) s) (hI : iS DC dA hC eD b ci fs q s H locs) (hb : b < q) {n k idx : Nat} (hcl : Cond.classLink own idx "[[I" ∈ lw_all) (hq : cC dA hC (zS eD) q = .inl (dA 4, n, .inr (.inr (.inr (.inr (fun j => some (hC + (q + 1 + j)))))))) (hr : ∀ j, j < n → cI (q + 1 + j) k) (hn : n ≤ 1000) (hk : k ≤ 1000) (hcs : cells + (1 + n) ≤ R.cells ∧ slots + (n + n * k) ≤ R.slots) (hdg : decode cc pc = .ok (.multianewarray idx 2, 4))
    (kk : ∀ (H1 : Heap) (locs1 : List Loc), iS DC dA hC eD b ci fs (q + 1 + n) s H1 locs1 → W p l e R s m args below meth c H1 locs1 (cells + 1 + n) (slots + n + n * k) Q (F0 m (pc + 4) ls (.ref (hC + q) :: rest))) : W p l e R s m args below meth c H locs cells slots Q (F0 m pc ls (.int (zi k) :: .int (zi n) :: rest)) := by
  have hz : ∀ n : Nat, n ≤ 1000 → (zi (n : Int)).toNatClampNeg = n ∧ ¬ zi (n : Int) < 0 := fun n h => ⟨by rw [zi_cl ⟨by omega, by omega⟩]; omega, fun hh => by
    have := (zi_lt (a := (n : Int)) (b := 0) ⟨by omega, by omega⟩ (by decide)).mp hh
    omega⟩
  refine W.multi X.1.1 X.1.2.1 X.1.2.2.2.1 (X.1.2.2.2.2 _ hcl) hAO rfl hdg rfl (hz n hn).2 (hz k hk).2 (hz n hn).1 (hz k hk).1 hn hk hcs.1 hcs.2 (fun H1 z1 e1 o1 r1 => ?_)
  have hsz := hI.2.2.1
  rw [hsz]
  refine kk H1 _ (hI.up hb (by omega) (by omega) o1 (fun x a c => ?_) (fun y hy => ?_))
  · by_cases h : x = q
    · subst h
      rw [hq]
      show H1[hC + x]? = some (vp_cell (dA 4) (n, _))
      rw [← hsz, e1, vp_cell_q]
      unfold arrV
      congr 3
      funext j
      show (if j.val < n then Value.ref (H.size + 1 + j.val) else Value.null) = _
      rw [if_pos j.isLt, hsz]
      exact congrArg Value.ref (show hC + x + 1 + j.val = hC + (x + 1 + j.val) by omega)
    · have hj : x = q + 1 + (x - (q + 1)) := by omega
      have hr2 := hr (x - (q + 1)) (by omega)
      rw [← hj] at hr2
      rw [hr2.cell]
      show H1[hC + x]? = some (vp_cell (dA 0) (k, _))
      have := r1 (x - (q + 1)) (by omega)
      rw [show H.size + 1 + (x - (q + 1)) = hC + x by omega] at this
      rw [this, vp_cell_i]
      rfl
  · rcases List.mem_append.mp hy with w | w
    · exact Or.inl w
    · obtain ⟨j, -, rfl⟩ := List.mem_map.mp w
      exact Or.inr (Nat.le_of_eq hsz)
theorem z_put (X : fCx own p c cc nL s m args Z DC dA) (hI : iS DC dA hC eD b ci fs q s H locs) (hnm : meth.name = "<init>") {k idx : Nat} {nme dsc : String} {v : Value} {a : Nat} (ha : a = hC + b) (hf : hPl ccl lw_all ci k own nme dsc v true) (hl : Cond.fieldLink own idx own nme dsc ∈ lw_all) (hlen : k < fs.length) (hdg : decode cc pc = .ok (.putfield idx, 3))
    (kk : ∀ (H1 : Heap) (locs1 : List Loc), iS DC dA hC eD b ci (fs.set k v) q s H1 locs1 → W p l e R s m args below meth c H1 locs1 cells slots Q (F0 m (pc + 3) ls rest)) : W p l e R s m args below meth c H locs cells slots Q (F0 m pc ls (v :: .ref a :: rest)) := by
  subst ha
  refine h_putF X.1 X.2.2 hI.2.2.2 hI.1 hf hnm hl hlen (Or.inl rfl) hdg (fun H1 locs1 hat hq => ?_)
  exact kk H1 locs1 ⟨hat, fun x a c => va_at_keep (hI.2.1 x a c) (hq.2.1 _ (by omega)), hq.1.trans hI.2.2.1, hq.2.2⟩
theorem z_put0 (X : fCx own p c cc nL s m args Z DC dA) (hI : iS DC dA hC eD b ci fs q s H locs) {k idx : Nat} {C nme dsc : String} {v : Value} {a : Nat} (ha : a = hC + b) (hf : hPl ccl lw_all ci k C nme dsc v false) (hl : Cond.fieldLink own idx C nme dsc ∈ lw_all) (hlen : k < fs.length) (hdg : decode cc pc = .ok (.putfield idx, 3))
    (kk : ∀ (H1 : Heap) (locs1 : List Loc), iS DC dA hC eD b ci (fs.set k v) q s H1 locs1 → W p l e R s m args below meth c H1 locs1 cells slots Q (F0 m (pc + 3) ls rest)) : W p l e R s m args below meth c H locs cells slots Q (F0 m pc ls (v :: .ref a :: rest)) := by
  subst ha
  refine h_put X.1 X.2.2 hI.2.2.2 hI.1 hf hl hlen (Or.inl rfl) hdg (fun H1 locs1 hat hq => ?_)
  exact kk H1 locs1 ⟨hat, fun x a c => va_at_keep (hI.2.1 x a c) (hq.2.1 _ (by omega)), hq.1.trans hI.2.2.1, hq.2.2⟩
/-- a constructor of our own that makes cells, through a nest link -/
theorem z_call {y : MethodName} {bytes : ByteArray} {maxL idx mc ms : Nat} {rm : Room} {As : List Value} {Pre : Heap → Prop} {Rr : Option Value → Heap → Prop} {F F1 : Nat → Prop} {a : Nat} {host : String} {st : List Value} (X : fCx own p c cc nL s m args Z DC dA) (hAO : AOI (dA 4) (dA 0) s) (hS : va_S (hA F s.heap.size) s.heap H locs) (hF : ∀ a, F a → Z.b ≤ a) (met : mIn l y bytes maxL rm Z DC dA (.ref a :: As) H.size Pre Rr F1 mc ms) (hp : Pre H) (hF1 : ∀ a, F1 a → hA F s.heap.size a) (hG : GoodIn lw_all (ws_ y bytes maxL none)) (hl : va_Nw (.methodLinkNest own idx y host) s) (hini : Cond.initialized y.cls ∈ lw_all) (hnm : y.name = "<init>") (hins : Cond.instanceMethod y ∈ lw_all) (hd : y.cls ≠ "java/lang/invoke/MethodHandle" ∧ y.cls ≠ "java/lang/invoke/VarHandle" ∧ (parseMethodDescriptor y.desc).map (fun d => d.parameters.length) = some As.length) (hrm : rm.cells = mc ∧ rm.slots = ms) (hR : rm.frames + 1 ≤ R.frames ∧ 8 + (maxL + 11) + rm.locals ≤ R.locals) (hcs : cells + mc ≤ R.cells ∧ slots + ms ≤ R.slots) (hls : ls.size = nL) (hro : (rest.map fun v => v.category).sum ≤ 8) (hdg : decode cc pc = .ok (.invokespecial idx, 3)) (hst : st = As.reverse ++ .ref a :: rest)
    (kk : ∀ (v : Option Value) (H1 : Heap) (locs1 : List Loc), Rr v H1 → hFr F1 H H1 → va_S (hA F s.heap.size) s.heap H1 locs1 → W p l e R s m args below meth c H1 locs1 (cells + mc) (slots + ms) Q (F0 m (pc + 3) ls (v.toList ++ rest))) : W p l e R s m args below meth c H locs cells slots Q (F0 m pc ls st) := by
  subst hst
  exact callH3 (va_runIN (As := As) (rest := rest) X.1 met ⟨va_cnB As.length X.1.2.2.2.2 hG rfl hrm.1 hrm.2 hl (X.1.2.2.2.2 _ hini) hd hR, hnm, X.1.2.2.2.2 _ hins⟩ ⟨iPc_blind, fun U hU hW => ⟨rfl, X.2.1.at hS hF hU hW, va_K.moved hW.alike X.2.2, hAO.moved hW.alike, by rw [hU], by rw [hU]; exact hp⟩⟩ rfl rfl hls rfl (lv_room hro) hdg hcs) hS (fun q hq z => z.elim (hF1 q) (fun w => absurd w (Nat.not_le.mpr hq))) (fun q z => z.elim (hF1 q) (fun w => Or.inr (Nat.le_trans hS.1 w))) (fun v H1 locs1 hv hz hk hS => kk v H1 locs1 hv ⟨hz, fun q h1 h2 => hk q h1 (fun z => z.elim h2 (fun w => absurd w (Nat.not_le.mpr h1)))⟩ hS)
end ZR
