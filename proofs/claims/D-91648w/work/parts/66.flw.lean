/-! methods of ManyEyes that fly: its world, and the rules beside it -/
set_option maxRecDepth 100000
theorem E_held_S {S : yS} {v z : Int} {S1 : yS} (h : E_held S v = some (z, S1)) : S1 = cfs S 24 (S1.1 24) := by
  unfold E_held at h
  obtain ⟨g, h⟩ := gd_inv h
  by_cases c : v ≤ S.1 25 ∧ -(S.1 25) ≤ v
  · rw [if_pos c] at h
    cases Option.some.inj h
    unfold cfs
    refine Prod.ext (funext fun j => ?_) rfl
    show S.1 j = if j = 24 then S.1 24 else S.1 j
    by_cases q : j = 24
    · rw [if_pos q, q]
    · rw [if_neg q]
  · rw [if_neg c] at h
    cases Option.some.inj h
    rfl
theorem cfs_24 {S S1 S2 : yS} (h1 : S1 = cfs S 24 (S1.1 24)) (h2 : S2 = cfs S1 24 (S2.1 24)) : S2 = cfs S 24 (S2.1 24) := by
  have e : cfs S1 24 (S2.1 24) = cfs S 24 (S2.1 24) := by
    rw [h1]
    unfold cfs
    refine Prod.ext (funext fun j => ?_) rfl
    show (if j = 24 then S2.1 24 else (if j = 24 then _ else S.1 j)) = if j = 24 then S2.1 24 else S.1 j
    by_cases q : j = 24
    · rw [if_pos q, if_pos q]
    · rw [if_neg q, if_neg q, if_neg q]
  exact h2.trans e
theorem cfs_24r (S : yS) : S = cfs S 24 (S.1 24) := by
  unfold cfs
  refine Prod.ext (funext fun j => ?_) rfl
  show S.1 j = if j = 24 then S.1 24 else S.1 j
  by_cases q : j = 24
  · rw [if_pos q, q]
  · rw [if_neg q]
theorem pvH_S {st r : pS} {v : Int} (h : pvH st v = some r) : r.2.2 = cfs st.2.2 24 (r.2.2.1 24) := by
  obtain ⟨z, S1, h1, rfl⟩ := pvH_inv h
  exact E_held_S h1
theorem pv2_S {o x y : Int} {vs : List Int} {bs : List Bool} {S : yS} {r : pS} (h : pv2 o x y vs bs S = some r) : r.2.2 = cfs S 24 (r.2.2.1 24) := by
  unfold pv2 at h
  by_cases h3 : o = 3
  · rw [if_pos h3] at h; obtain ⟨-, h⟩ := gd_inv h; exact pvH_S h
  rw [if_neg h3] at h
  by_cases h4 : o = 4
  · rw [if_pos h4] at h; obtain ⟨-, h⟩ := gd_inv h; exact pvH_S h
  rw [if_neg h4] at h
  by_cases h5 : o = 5
  · rw [if_pos h5] at h; obtain ⟨-, h⟩ := gd_inv h; exact pvH_S h
  rw [if_neg h5] at h
  by_cases h6 : o = 6
  · rw [if_pos h6] at h; obtain ⟨-, h⟩ := gd_inv h
    by_cases c : y = 0
    · rw [if_pos c] at h; exact pvH_S h
    · rw [if_neg c] at h; exact pvH_S h
  rw [if_neg h6] at h
  by_cases h7 : o = 7
  · rw [if_pos h7] at h; obtain ⟨-, h⟩ := gd_inv h; cases Option.some.inj h; exact cfs_24r S
  rw [if_neg h7] at h
  by_cases h8 : o = 8
  · rw [if_pos h8] at h; obtain ⟨-, h⟩ := gd_inv h; cases Option.some.inj h; exact cfs_24r S
  rw [if_neg h8] at h
  obtain ⟨-, h⟩ := gd_inv h; cases Option.some.inj h; exact cfs_24r S
theorem pv1_S {o v : Int} {st r : pS} (h : pv1 o v st = some r) : r.2.2 = cfs st.2.2 24 (r.2.2.1 24) := by
  obtain ⟨vs, bs, S⟩ := st
  unfold pv1 at h
  by_cases h0 : o = 0
  · rw [if_pos h0] at h; obtain ⟨-, h⟩ := gd_inv h; exact pvH_S h
  rw [if_neg h0] at h
  by_cases h0 : o = 1
  · rw [if_pos h0] at h; obtain ⟨-, h⟩ := gd_inv h; exact pvH_S h
  rw [if_neg h0] at h
  by_cases h0 : o = 30
  · rw [if_pos h0] at h; obtain ⟨-, h⟩ := gd_inv h; exact pvH_S h
  rw [if_neg h0] at h
  by_cases h0 : o = 31
  · rw [if_pos h0] at h; obtain ⟨-, h⟩ := gd_inv h; obtain ⟨-, h⟩ := gd_inv h; exact pvH_S h
  rw [if_neg h0] at h
  by_cases h0 : o = 32
  · rw [if_pos h0] at h; obtain ⟨-, h⟩ := gd_inv h; obtain ⟨-, h⟩ := gd_inv h; exact pvH_S h
  rw [if_neg h0] at h
  by_cases h0 : o = 2
  · rw [if_pos h0] at h
    cases vs with
    | nil => cases h
    | cons x vs => cases Option.some.inj h; exact cfs_24r S
  rw [if_neg h0] at h
  by_cases h0 : o = 20
  · rw [if_pos h0] at h
    cases bs with
    | nil => cases h
    | cons x vs => cases Option.some.inj h; exact cfs_24r S
  rw [if_neg h0] at h
  by_cases h0 : o = 21
  · rw [if_pos h0] at h
    cases bs with
    | nil => cases h
    | cons x bs =>
      cases bs with
      | nil => cases h
      | cons y bs => cases Option.some.inj h; exact cfs_24r S
  rw [if_neg h0] at h
  by_cases h0 : o = 22
  · rw [if_pos h0] at h
    cases bs with
    | nil => cases h
    | cons x bs =>
      cases bs with
      | nil => cases h
      | cons y bs => cases Option.some.inj h; exact cfs_24r S
  rw [if_neg h0] at h
  cases vs with
  | nil => cases h
  | cons x vs =>
    cases vs with
    | nil => cases h
    | cons y vs => exact pv2_S h
/-- of ManyEyes' state the working of a sum changes one number alone -/
theorem pv_S : ∀ (code : tC) (st r : pS), pv code st = some r → r.2.2 = cfs st.2.2 24 (r.2.2.1 24)
  | [], st, r, h => by
    cases Option.some.inj h
    exact cfs_24r _
  | (o, v) :: c, st, r, h => by
    obtain ⟨s1, h1, h2⟩ := bd_inv h
    exact cfs_24 (pv1_S h1) (pv_S c s1 r h2)
/-- what holds in a frame that flies -/
abbrev fCx (own : String) (p : Program) (c : Code) (cc : ByteArray) (nL : Nat) (s : State) (m : MethodId) (args : Array Value) (Z : hZ) (DC : va_G) (dA : Nat → ClassId) : Prop := CallFix p m c cc nL s args lw_all own ∧ HE Z s ∧ va_K DC ccl (cty dA) s
theorem fcx_h {own : String} {p : Program} {c : Code} {cc : ByteArray} {nL : Nat} {s : State} {m : MethodId} {args : Array Value} {Z : hZ} {DC : va_G} {dA : Nat → ClassId} (X : fCx own p c cc nL s m args Z DC dA) : hCx own p c cc nL s m args Z := ⟨X.1, X.2.1⟩
theorem fcx_c {own : String} {p : Program} {c : Code} {cc : ByteArray} {nL : Nat} {s : State} {m : MethodId} {args : Array Value} {Z : hZ} {DC : va_G} {dA : Nat → ClassId} (X : fCx own p c cc nL s m args Z DC dA) : cCx own p c cc nL s m args DC dA := ⟨X.1, X.2.2, X.2.1.2.1.NW⟩
abbrev fPc (Z : hZ) (DC : va_G) (dA : Nat → ClassId) (As : List Value) (n0 : Nat) (Pre : Heap → Prop) : Array Value → State → Prop := va_Pc As (fun U => HE Z U ∧ va_K DC ccl (cty dA) U ∧ U.heap.size = n0 ∧ Pre U.heap)
abbrev fPre (Z : hZ) (DC : va_G) (dA : Nat → ClassId) (hC : Nat) (A : Nat → Prop) (L : List Nat) (k ed : Nat) (rs : List (List tCl)) (S : yS) : Heap → Prop := fun H => va_P DC ccl (cw dA hC S) H ∧ RO Z hC A L k ed rs H
abbrev mFl (l : Launch) (y : MethodName) (bytes : ByteArray) (maxL : Nat) (ret : Option FieldType) (rm : Room) (Z : hZ) (DC : va_G) (dA : Nat → ClassId) (hC : Nat) (As : List Value) (n0 : Nat) (Pre : Heap → Prop) (rv : Option Value) (S1 : yS) : Prop := Met l y (ws_ y bytes maxL ret) rm (fPc Z DC dA As n0 Pre) (QH (fun v H => v = rv ∧ va_P DC ccl (cw dA hC S1) H) (hA (cA hC) n0)) 0 0 (hA (cA hC) n0)
theorem fPc_blind {Z : hZ} {DC : va_G} {dA : Nat → ClassId} {As : List Value} {n0 : Nat} {Pre : Heap → Prop} : FrameBlind (fPc Z DC dA As n0 Pre) := fun a U g mk q => ⟨q.1, q.2.1.blind, va_K.moved (u := U) (U := U.calling g mk a) (Vm.Alike.refl U.vm) q.2.2.1, q.2.2.2⟩
section FC
variable {p : Program} {l : Launch} {e : Env} {R : Room} {s : State} {m : MethodId} {args : Array Value} {below : List Frame} {meth : Method} {c : Code} {H : Heap} {locs : List Loc} {cells slots : Nat} {Q : State → Prop}
variable {cc : ByteArray} {pc nL : Nat} {ls : Array Slot} {rest : List Value}
variable {y : MethodName} {bytes : ByteArray} {maxL idx count : Nat} {ret : Option FieldType} {rm : Room} {As st : List Value} {own : String} {Z : hZ} {DC : va_G} {dA : Nat → ClassId} {hC : Nat} {A : Nat → Prop} {L : List Nat} {k ed : Nat} {rs : List (List tCl)} {S S1 : yS} {rv : Option Value}
theorem RO.at (h : RO Z hC A L k ed rs s.heap) (hM : CX DC dA hC (hA (cA hC) s.heap.size) S s H locs) : RO Z hC A L k ed rs H := h.keep (fun x hx hc => hM.2.1.2.1 x hx (fun z => z.elim hc (fun w => absurd w (Nat.not_le.mpr hx))))
theorem cf_ (X : fCx "ManyEyes" p c cc nL s m args Z DC dA) (hM : CX DC dA hC (hA (cA hC) s.heap.size) S s H locs) (hO : RO Z hC A L k ed rs s.heap) (met : mFl l y bytes maxL ret rm Z DC dA hC (.ref hC :: As) H.size (fPre Z DC dA hC A L k ed rs S) rv S1) (hT : GoodIn lw_all (wsV "ManyEyes" idx "ManyEyes" y (ws_ y bytes maxL ret))) (hd : y.cls = "ManyEyes" ∧ y.cls ≠ "java/lang/invoke/MethodHandle" ∧ y.cls ≠ "java/lang/invoke/VarHandle" ∧ (parseMethodDescriptor y.desc).map (fun d => d.parameters.length) = some As.length) (hrm : rm.cells = 0 ∧ rm.slots = 0) (hR : rm.frames + 1 ≤ R.frames ∧ 8 + (maxL + 11) + rm.locals ≤ R.locals) (hcs : cells ≤ R.cells ∧ slots ≤ R.slots) (hls : ls.size = nL) (hro : (rest.map fun v => v.category).sum ≤ 8) (hdg : decode cc pc = .ok (.invokevirtual idx, 3)) (hst : st = As.reverse ++ .ref hC :: rest)
    (kk : ∀ (H1 : Heap) (locs1 : List Loc), CX DC dA hC (hA (cA hC) s.heap.size) S1 s H1 locs1 → W p l e R s m args below meth c H1 locs1 cells slots Q (F0 m (pc + 3) ls (rv.toList ++ rest))) : W p l e R s m args below meth c H locs cells slots Q (F0 m pc ls st) := by
  subst hst
  have hS := hM.2.1
  have hF : ∀ a, cA hC a → Z.b ≤ a := fun a h => Nat.le_trans hO.1 h.1
  refine callH3 (va_runV (As := As) (rest := rest) X.1 met (cwV As.length X.1.2.2.2.2 hT rfl hrm.1 hrm.2 hd hR) ⟨fPc_blind, va_recv X.2.2 hM.1 (ci := 0) (q0 := 0) rfl (cw_at (by decide)), fun U hU hW => ⟨rfl, X.2.1.at hS hF hU hW, va_K.moved hW.alike X.2.2, by rw [hU], by rw [hU]; exact ⟨hM.1, hO.at hM⟩⟩⟩ rfl rfl hls rfl (lv_room hro) hdg hcs) hS (fun q hq z => z.elim Or.inl (fun w => absurd w (Nat.not_le.mpr hq))) (fun q z => z.elim Or.inl (fun w => Or.inr (Nat.le_trans hS.1 w))) (fun v H1 locs1 hv hz hk hS => ?_)
  obtain ⟨rfl, hP⟩ := hv
  exact kk H1 locs1 ⟨hP, hS, hM.2.2⟩
/-- a value worked out: back in ManyEyes' world -/
theorem tf_of (X : fCx own p c cc nL s m args Z DC dA) (hM : CX DC dA hC (hA (cA hC) s.heap.size) S s H locs) (hO : RO Z hC A L k ed rs s.heap) {N a : Nat} {z : Int} (hE : EvP l Z (hC + 658) N H a z S1) (hS1 : S1 = cfs S 24 (S1.1 24)) (hl0 : Cond.methodLink own idx xOf ∈ lw_all) (hR : 7 + N ≤ R.frames ∧ 227 + 40 * N ≤ R.locals) (hls : ls.size = nL) (hro : (rest.map fun v => v.category).sum ≤ 8) (hdg : decode cc pc = .ok (.invokeinterface idx count, 5))
    (kk : ∀ (H1 : Heap) (locs1 : List Loc), CX DC dA hC (hA (cA hC) s.heap.size) S1 s H1 locs1 → W p l e R s m args below meth c H1 locs1 0 0 Q (F0 m (pc + 5) ls (.long (zl z) :: rest))) : W p l e R s m args below meth c H locs 0 0 Q (F0 m pc ls (.ref (hC + 658) :: .ref a :: rest)) := by
  obtain ⟨C, ci, fN, T, bytes, maxL, f, L, fs, h1, h2, h3, h4, h5, h6, h7, h8, h9, h10, h11⟩ := hE
  obtain ⟨-, hat⟩ := X.2.1.1.1 ci _ h1
  refine hcF (As := [.ref (hC + 658)]) (C := C) (F := cA hC) (fcx_h X) hM.2.1 (fun a h => Nat.le_trans hO.1 h.1) h11 rfl (fun a h => Or.inl (by have h : a = hC + 658 := h; exact ⟨by omega, by omega⟩)) (va_recv X.2.1.1 (va_one h2) (q0 := 0) h1 rfl) hat (lw_F hl0 h4 h5 h6 h7) (X.2.1.2.1.2.2.2.2.2.2.2.1.2.2.2.2.2.1 C h3) (show hdS xOf 1 by decide +kernel) ⟨rfl, rfl⟩ ⟨by show f + 1 ≤ R.frames; omega, by show 8 + (maxL + 11) + L ≤ R.locals; omega⟩ ⟨Nat.zero_le _, Nat.zero_le _⟩ hls hro hdg rfl (fun v H1 locs1 hv hfr hS => ?_)
  obtain ⟨rfl, hN⟩ := hv
  exact kk H1 locs1 ⟨lk_back X.2.2 X.2.1 hM.1 hN (fun x hx hne => hfr.2 x hx hne) hS1, hS, hM.2.2⟩
theorem tf_is (X : fCx own p c cc nL s m args Z DC dA) (hM : CX DC dA hC (hA (cA hC) s.heap.size) S s H locs) (hO : RO Z hC A L k ed rs s.heap) {N a : Nat} {v : Bool} (hE : AvP l Z (hC + 658) N H a v S1) (hS1 : S1 = cfs S 24 (S1.1 24)) (hl0 : Cond.methodLink own idx xIs ∈ lw_all) (hR : 7 + N ≤ R.frames ∧ 227 + 40 * N ≤ R.locals) (hls : ls.size = nL) (hro : (rest.map fun v => v.category).sum ≤ 8) (hdg : decode cc pc = .ok (.invokeinterface idx count, 5))
    (kk : ∀ (H1 : Heap) (locs1 : List Loc), CX DC dA hC (hA (cA hC) s.heap.size) S1 s H1 locs1 → W p l e R s m args below meth c H1 locs1 0 0 Q (F0 m (pc + 5) ls (.int (zi (bz v)) :: rest))) : W p l e R s m args below meth c H locs 0 0 Q (F0 m pc ls (.ref (hC + 658) :: .ref a :: rest)) := by
  obtain ⟨C, ci, fN, T, bytes, maxL, f, L, fs, h1, h2, h3, h4, h5, h6, h7, h8, h9, h10, h11⟩ := hE
  obtain ⟨-, hat⟩ := X.2.1.1.1 ci _ h1
  refine hcF (As := [.ref (hC + 658)]) (C := C) (F := cA hC) (fcx_h X) hM.2.1 (fun a h => Nat.le_trans hO.1 h.1) h11 rfl (fun a h => Or.inl (by have h : a = hC + 658 := h; exact ⟨by omega, by omega⟩)) (va_recv X.2.1.1 (va_one h2) (q0 := 0) h1 rfl) hat (lw_F hl0 h4 h5 h6 h7) (X.2.1.2.1.2.2.2.2.2.2.2.1.2.2.2.2.2.2 C h3) (show hdS xIs 1 by decide +kernel) ⟨rfl, rfl⟩ ⟨by show f + 1 ≤ R.frames; omega, by show 8 + (maxL + 11) + L ≤ R.locals; omega⟩ ⟨Nat.zero_le _, Nat.zero_le _⟩ hls hro hdg rfl (fun v H1 locs1 hv hfr hS => ?_)
  obtain ⟨rfl, hN⟩ := hv
  exact kk H1 locs1 ⟨lk_back X.2.2 X.2.1 hM.1 hN (fun x hx hne => hfr.2 x hx hne) hS1, hS, hM.2.2⟩
end FC
theorem goFv {l : Launch} {y : MethodName} {cc : ByteArray} {nL : Nat} {rm : Room} {Z : hZ} {DC : va_G} {dA : Nat → ClassId} {hC : Nat} {A : Nat → Prop} {L : List Nat} {k ed : Nat} {rs : List (List tCl)} {As : List Value} {n0 : Nat} {S S1 : yS} (hy : plainFor y = true) (hAs : (lg_sl As).length ≤ nL) (body : ∀ (p : Program) (e : Env) (s : State) (m : MethodId) (args : Array Value) (below : List Frame) (meth : Method) (c : Code) (Q : State → Prop) (ls : Array Slot), fCx y.cls p c cc nL s m args Z DC dA → (∀ (pc : Nat) (ls : Array Slot) (H : Heap) (locs : List Loc) (S2 : yS), S2 = S1 → decode cc pc = .ok (.return_, 1) → CX DC dA hC (hA (cA hC) s.heap.size) S2 s H locs → W p l e rm s m args below meth c H locs 0 0 Q (F0 m pc ls [])) → lv_has ls nL (lv_args 0 As) → CX DC dA hC (hA (cA hC) s.heap.size) S s s.heap [] → RO Z hC A L k ed rs s.heap → W p l e rm s m args below meth c s.heap [] 0 0 Q (F0 m 0 ls [])) : mFl l y cc nL none rm Z DC dA hC As n0 (fPre Z DC dA hC A L k ed rs S) none S1 := by
  refine va_MetF (cc := cc) (maxL := nL) (ret := none) hy rfl ?_
  intro p e s m args below meth c s₁ B hml hv
  obtain ⟨rfl, hE, hK, hn, hP, hO⟩ := hv
  have hx := B.exec
  have hb := B.bytes
  have hr := B.returns
  have hlocks := B.notSynchronized
  have hts := atoms_spec (ws := ws_ y cc nL none) B.pre
  have hts : ∀ w ∈ lw_all, w.before _ s = true := fun w h => hts w (List.mem_cons_of_mem _ h)
  have hown : s.vm.findClass y.cls = some m.cls := findClass_of_methodNamed B.named
  have hl := lv_entry As (n := nL) hAs
  rw [lg_entry_eq]
  generalize (lg_sl As ++ List.replicate (nL - (lg_sl As).length) Slot.unset).toArray = ls at hl ⊢
  subst hn
  refine body p e s m _ below meth c _ ls ⟨⟨hx, hb, hml, hown, hts⟩, hE, hK⟩ ?_ hl ⟨hP, va_S.rf, fun _ h => Or.inl h⟩ hO
  intro pc ls H locs S2 e2 hd hM
  subst e2
  exact W.vret hx hb hr (fun t ht hW => ⟨⟨_, rfl, rfl, by rw [ht]; exact hM.1⟩, hM.2.1.F ht⟩) hM.2.1.2.2 hd
theorem goFi {l : Launch} {y : MethodName} {cc : ByteArray} {nL : Nat} {rm : Room} {Z : hZ} {DC : va_G} {dA : Nat → ClassId} {hC : Nat} {A : Nat → Prop} {L : List Nat} {k ed : Nat} {rs : List (List tCl)} {As : List Value} {n0 : Nat} {S S1 : yS} {r : Int} (hy : plainFor y = true) (hAs : (lg_sl As).length ≤ nL) (body : ∀ (p : Program) (e : Env) (s : State) (m : MethodId) (args : Array Value) (below : List Frame) (meth : Method) (c : Code) (Q : State → Prop) (ls : Array Slot), fCx y.cls p c cc nL s m args Z DC dA → (∀ (pc : Nat) (ls : Array Slot) (H : Heap) (locs : List Loc) (v : Int) (S2 : yS), v = r → S2 = S1 → decode cc pc = .ok (.ireturn, 1) → CX DC dA hC (hA (cA hC) s.heap.size) S2 s H locs → W p l e rm s m args below meth c H locs 0 0 Q (F0 m pc ls [.int (zi v)])) → lv_has ls nL (lv_args 0 As) → CX DC dA hC (hA (cA hC) s.heap.size) S s s.heap [] → RO Z hC A L k ed rs s.heap → W p l e rm s m args below meth c s.heap [] 0 0 Q (F0 m 0 ls [])) : mFl l y cc nL (some .int) rm Z DC dA hC As n0 (fPre Z DC dA hC A L k ed rs S) (some (.int (zi r))) S1 := by
  refine va_MetF (cc := cc) (maxL := nL) (ret := (some .int)) hy rfl ?_
  intro p e s m args below meth c s₁ B hml hv
  obtain ⟨rfl, hE, hK, hn, hP, hO⟩ := hv
  have hx := B.exec
  have hb := B.bytes
  have hr := B.returns
  have hlocks := B.notSynchronized
  have hts := atoms_spec (ws := ws_ y cc nL (some .int)) B.pre
  have hts : ∀ w ∈ lw_all, w.before _ s = true := fun w h => hts w (List.mem_cons_of_mem _ h)
  have hown : s.vm.findClass y.cls = some m.cls := findClass_of_methodNamed B.named
  have hl := lv_entry As (n := nL) hAs
  rw [lg_entry_eq]
  generalize (lg_sl As ++ List.replicate (nL - (lg_sl As).length) Slot.unset).toArray = ls at hl ⊢
  subst hn
  refine body p e s m _ below meth c _ ls ⟨⟨hx, hb, hml, hown, hts⟩, hE, hK⟩ ?_ hl ⟨hP, va_S.rf, fun _ h => Or.inl h⟩ hO
  intro pc ls H locs v S2 e1 e2 hd hM
  subst e1
  subst e2
  exact W.iret hx hb hr (fun t ht hW => ⟨⟨_, rfl, rfl, by rw [ht]; exact hM.1⟩, hM.2.1.F ht⟩) hM.2.1.2.2 hd
theorem goFz {l : Launch} {y : MethodName} {cc : ByteArray} {nL : Nat} {rm : Room} {Z : hZ} {DC : va_G} {dA : Nat → ClassId} {hC : Nat} {A : Nat → Prop} {L : List Nat} {k ed : Nat} {rs : List (List tCl)} {As : List Value} {n0 : Nat} {S S1 : yS} {r : Bool} (hy : plainFor y = true) (hAs : (lg_sl As).length ≤ nL) (body : ∀ (p : Program) (e : Env) (s : State) (m : MethodId) (args : Array Value) (below : List Frame) (meth : Method) (c : Code) (Q : State → Prop) (ls : Array Slot), fCx y.cls p c cc nL s m args Z DC dA → (∀ (pc : Nat) (ls : Array Slot) (H : Heap) (locs : List Loc) (v : Bool) (S2 : yS), v = r → S2 = S1 → decode cc pc = .ok (.ireturn, 1) → CX DC dA hC (hA (cA hC) s.heap.size) S2 s H locs → W p l e rm s m args below meth c H locs 0 0 Q (F0 m pc ls [.int (zi (bz v))])) → lv_has ls nL (lv_args 0 As) → CX DC dA hC (hA (cA hC) s.heap.size) S s s.heap [] → RO Z hC A L k ed rs s.heap → W p l e rm s m args below meth c s.heap [] 0 0 Q (F0 m 0 ls [])) : mFl l y cc nL (some .boolean) rm Z DC dA hC As n0 (fPre Z DC dA hC A L k ed rs S) (some (.int (zi (bz r)))) S1 := by
  refine va_MetF (cc := cc) (maxL := nL) (ret := (some .boolean)) hy rfl ?_
  intro p e s m args below meth c s₁ B hml hv
  obtain ⟨rfl, hE, hK, hn, hP, hO⟩ := hv
  have hx := B.exec
  have hb := B.bytes
  have hr := B.returns
  have hlocks := B.notSynchronized
  have hts := atoms_spec (ws := ws_ y cc nL (some .boolean)) B.pre
  have hts : ∀ w ∈ lw_all, w.before _ s = true := fun w h => hts w (List.mem_cons_of_mem _ h)
  have hown : s.vm.findClass y.cls = some m.cls := findClass_of_methodNamed B.named
  have hl := lv_entry As (n := nL) hAs
  rw [lg_entry_eq]
  generalize (lg_sl As ++ List.replicate (nL - (lg_sl As).length) Slot.unset).toArray = ls at hl ⊢
  subst hn
  refine body p e s m _ below meth c _ ls ⟨⟨hx, hb, hml, hown, hts⟩, hE, hK⟩ ?_ hl ⟨hP, va_S.rf, fun _ h => Or.inl h⟩ hO
  intro pc ls H locs v S2 e1 e2 hd hM
  subst e1
  subst e2
  exact W.zret hx hb hr (bz_nar _) (fun t ht hW => ⟨⟨_, rfl, rfl, by rw [ht]; exact hM.1⟩, hM.2.1.F ht⟩) hM.2.1.2.2 hd
