/-! the constructor of ManyEyesModel -/
set_option maxRecDepth 100000
def zM : xS := (fun _ => 0, fun _ _ => 0)
/-- the object under construction at h, and its arrays made so far -/
def iM (DM : va_G) (dA : Nat → ClassId) (h : Nat) (fs : List Value) (q : Nat) (s : State) (H : Heap) (locs : List Loc) : Prop := va_at DM mcl (h, .inr (0, fs)) H ∧ (∀ k w, 1 ≤ k → k < q → (mo_ws dA h zM)[k]? = some w → va_at DM mcl w H) ∧ H.size = h + q ∧ va_S (mA h) s.heap H locs
abbrev jPc (DM : va_G) (dA : Nat → ClassId) (As : List Value) (n0 : Nat) (Pre : Heap → Prop) : Array Value → State → Prop := va_Pc As (fun U => va_K DM mcl (mty dA) U ∧ U.heap.size = n0 ∧ Pre U.heap)
theorem jPc_blind {DM : va_G} {dA : Nat → ClassId} {As : List Value} {n0 : Nat} {Pre : Heap → Prop} : FrameBlind (jPc DM dA As n0 Pre) := fun a U g mk q => ⟨q.1, va_K.moved (u := U) (U := U.calling g mk a) (Vm.Alike.refl U.vm) q.2.1, q.2.2⟩
abbrev mJn (l : Launch) (y : MethodName) (bytes : ByteArray) (maxL : Nat) (rm : Room) (DM : va_G) (dA : Nat → ClassId) (As : List Value) (n0 : Nat) (Pre : Heap → Prop) (Rr : Option Value → Heap → Prop) (F : Nat → Prop) (mc ms : Nat) : Prop := Met l y (ws_ y bytes maxL none) rm (jPc DM dA As n0 Pre) (QH Rr (hA F n0)) mc ms (hA F n0)
theorem goJ {l : Launch} {y : MethodName} {cc : ByteArray} {nL : Nat} {rm : Room} {DM : va_G} {dA : Nat → ClassId} {As : List Value} {n0 mc ms : Nat} {Pre : Heap → Prop} {Rr : Option Value → Heap → Prop} {F : Nat → Prop} (hy : plainFor y = true) (hyc : y.cls = RX5) (hAs : (lg_sl As).length ≤ nL) (body : ∀ (p : Program) (e : Env) (s : State) (m : MethodId) (args : Array Value) (below : List Frame) (meth : Method) (c : Code) (Q : State → Prop) (ls : Array Slot), mCx p c cc nL s m args DM dA → (∀ (pc : Nat) (ls : Array Slot) (H : Heap) (locs : List Loc), decode cc pc = .ok (.return_, 1) → Rr none H → va_S (hA F n0) s.heap H locs → W p l e rm s m args below meth c H locs mc ms Q (F0 m pc ls [])) → lv_has ls nL (lv_args 0 As) → Pre s.heap → s.heap.size = n0 → (meth.name = y.name) → W p l e rm s m args below meth c s.heap [] 0 0 Q (F0 m 0 ls [])) : mJn l y cc nL rm DM dA As n0 Pre Rr F mc ms := by
  refine va_MetF (cc := cc) (maxL := nL) (ret := none) hy rfl ?_
  intro p e s m args below meth c s₁ B hml hv
  obtain ⟨rfl, hK, hn, hP⟩ := hv
  have hx := B.exec
  have hb := B.bytes
  have hr := B.returns
  have hts := atoms_spec (ws := ws_ y cc nL none) B.pre
  have hts : ∀ w ∈ lw_all, w.before _ s = true := fun w h => hts w (List.mem_cons_of_mem _ h)
  have hown : s.vm.findClass y.cls = some m.cls := findClass_of_methodNamed B.named
  rw [hyc] at hown
  have hl := lv_entry As (n := nL) hAs
  rw [lg_entry_eq]
  generalize (lg_sl As ++ List.replicate (nL - (lg_sl As).length) Slot.unset).toArray = ls at hl ⊢
  subst hn
  refine body p e s m _ below meth c _ ls ⟨⟨hx, hb, hml, hown, hts⟩, hK⟩ ?_ hl hP rfl (name_of_methodNamed B.named B.method).1
  intro pc ls H locs hd hR hM
  exact W.vret hx hb hr (fun t ht hW => ⟨⟨_, rfl, by rw [ht]; exact hR⟩, hM.F ht⟩) hM.2.2 hd
section YR
variable {p : Program} {l : Launch} {e : Env} {R : Room} {s : State} {m : MethodId} {args : Array Value} {below : List Frame} {meth : Method} {c : Code} {H : Heap} {locs : List Loc} {cells slots : Nat} {Q : State → Prop}
variable {cc : ByteArray} {pc nL : Nat} {ls : Array Slot} {rest : List Value} {DM : va_G} {dA : Nat → ClassId} {h q : Nat} {fs : List Value}
theorem y_new (X : mCx p c cc nL s m args DM dA) (hI : iM DM dA h fs q s H locs) (hq1 : 1 ≤ q) {at_ : ArrayType} {ty : FieldType} {n t0 : Nat} {v0 : (Nat → Int32) ⊕ (Nat → Int64) ⊕ (Nat → UInt32) ⊕ (Nat → UInt64) ⊕ (Nat → Option Nat)} (hty : newarray.typeOf at_ = ty) (harr : Cond.arrayClass ty ∈ lw_all) (ht : (mty dA)[t0]? = some (dA t0, ty)) (hno : va_RA s (dA t0) ty = (s.vm.findClass ("[" ++ ty.toString) = some (dA t0))) (hq : (mo_ws dA h zM)[q]? = some (h + q, .inl (dA t0, n, v0))) (hv : vp_cell (dA t0) (n, v0) = arrV (dA t0) n (fun _ => defaultValue ty)) (hn : n < 100000) (hby : n * componentBytes ty ≤ 536870912) (hcs : cells + 1 ≤ R.cells ∧ slots + n ≤ R.slots) (hdg : decode cc pc = .ok (.newarray at_, 2))
    (kk : ∀ (H1 : Heap), iM DM dA h fs (q + 1) s H1 locs → W p l e R s m args below meth c H1 locs (cells + 1) (slots + n) Q (F0 m (pc + 2) ls (.ref (h + q) :: rest))) : W p l e R s m args below meth c H locs cells slots Q (F0 m pc ls (.int (zi n) :: rest)) := by
  subst hty
  have hz : (zi (n : Int)).toNatClampNeg = n := by rw [zi_cl ⟨by omega, by omega⟩]; omega
  have hneg : ¬ zi (n : Int) < 0 := fun hh => by
    have := (zi_lt (a := (n : Int)) (b := 0) ⟨by omega, by omega⟩ (by decide)).mp hh
    omega
  refine va_newaK X.1.1 X.1.2.1 (atype := at_) (X.1.2.2.2.2 _ harr) rfl hdg rfl hneg hz hby hcs.1 hcs.2 hI.2.2.1 fun H1 cA e1 z1 o1 hAr hNm => ?_
  have h2 := (X.2.2 t0 _ ht).2
  rw [hno] at h2
  have hcA : cA = dA t0 := Option.some.inj (hNm.symm.trans h2)
  subst hcA
  obtain ⟨i1, i2, i3, i4⟩ := hI
  refine kk H1 ⟨va_at_keep i1 (o1 _ (by omega)), fun k w a c hw => ?_, by omega, ⟨by have := i4.1; omega, fun x a c => (o1 x (by have := i4.1; omega)).trans (i4.2.1 x a c), i4.2.2⟩⟩
  by_cases hk : k = q
  · subst hk
    cases Option.some.inj (hw.symm.trans hq)
    show H1[h + k]? = some (vp_cell _ _)
    rw [e1]
    exact congrArg some hv.symm
  · have w1 := i2 k w a (by omega) hw
    exact va_at_keep w1 (o1 _ (by rw [← i3]; exact va_at_lt w1))
theorem y_put (X : mCx p c cc nL s m args DM dA) (hI : iM DM dA h fs q s H locs) (hnm : meth.name = "<init>") {k idx : Nat} {nme dsc : String} {v : Value} (hf : hPl mcl lw_all 0 k "ManyEyesModel" nme dsc v true) (hl : Cond.fieldLink "ManyEyesModel" idx "ManyEyesModel" nme dsc ∈ lw_all) (hlen : k < fs.length) (hdg : decode cc pc = .ok (.putfield idx, 3))
    (kk : ∀ (H1 : Heap) (locs1 : List Loc), iM DM dA h (fs.set k v) q s H1 locs1 → W p l e R s m args below meth c H1 locs1 cells slots Q (F0 m (pc + 3) ls rest)) : W p l e R s m args below meth c H locs cells slots Q (F0 m pc ls (v :: .ref h :: rest)) := by
  refine h_putF X.1 X.2 hI.2.2.2 hI.1 hf hnm hl hlen ⟨Nat.le_refl _, by omega⟩ hdg (fun H1 locs1 hat hq => ?_)
  refine kk H1 locs1 ⟨hat, fun k w a c hw => va_at_keep (hI.2.1 k w a c hw) (hq.2.1 _ ?_), hq.1.trans hI.2.2.1, hq.2.2⟩
  have := (mo_at hw).1
  omega
theorem y_put0 (X : mCx p c cc nL s m args DM dA) (hI : iM DM dA h fs q s H locs) {k idx : Nat} {nme dsc : String} {v : Value} (hf : hPl mcl lw_all 0 k "ManyEyesModel" nme dsc v false) (hl : Cond.fieldLink "ManyEyesModel" idx "ManyEyesModel" nme dsc ∈ lw_all) (hlen : k < fs.length) (hdg : decode cc pc = .ok (.putfield idx, 3))
    (kk : ∀ (H1 : Heap) (locs1 : List Loc), iM DM dA h (fs.set k v) q s H1 locs1 → W p l e R s m args below meth c H1 locs1 cells slots Q (F0 m (pc + 3) ls rest)) : W p l e R s m args below meth c H locs cells slots Q (F0 m pc ls (v :: .ref h :: rest)) := by
  refine h_put X.1 X.2 hI.2.2.2 hI.1 hf hl hlen ⟨Nat.le_refl _, by omega⟩ hdg (fun H1 locs1 hat hq => ?_)
  refine kk H1 locs1 ⟨hat, fun k w a c hw => va_at_keep (hI.2.1 k w a c hw) (hq.2.1 _ ?_), hq.1.trans hI.2.2.1, hq.2.2⟩
  have := (mo_at hw).1
  omega
end YR
/-- ManyEyesModel as it is made, ahead of copy(a, image) -/
def M0 (w h : Int) : xS := aset (fset (fset (fset (fset zM 11 (-1)) 12 (-1)) 0 w) 1 h) 2 880 (-1)
theorem yp_2 (z : Nat) : hPl mcl lw_all 0 2 "ManyEyesModel" "a" "[I" (.ref z) true := ⟨TX5, 43, RX5, tyX5, rfl, in_X5, by decide, rfl, rfl, rfl, rfl, tyX5_ok, nmX5, rfl, rfl⟩
theorem yp_3 (z : Nat) : hPl mcl lw_all 0 3 "ManyEyesModel" "image" "[I" (.ref z) true := ⟨TX5, 43, RX5, tyX5, rfl, in_X5, by decide, rfl, rfl, rfl, rfl, tyX5_ok, nmX5, rfl, rfl⟩
theorem yp_4 (z : Nat) : hPl mcl lw_all 0 4 "ManyEyesModel" "texts" "[I" (.ref z) true := ⟨TX5, 43, RX5, tyX5, rfl, in_X5, by decide, rfl, rfl, rfl, rfl, tyX5_ok, nmX5, rfl, rfl⟩
theorem yp_5 (z : Nat) : hPl mcl lw_all 0 5 "ManyEyesModel" "board" "[I" (.ref z) true := ⟨TX5, 43, RX5, tyX5, rfl, in_X5, by decide, rfl, rfl, rfl, rfl, tyX5_ok, nmX5, rfl, rfl⟩
theorem yp_6 (z : Nat) : hPl mcl lw_all 0 6 "ManyEyesModel" "taken" "[I" (.ref z) true := ⟨TX5, 43, RX5, tyX5, rfl, in_X5, by decide, rfl, rfl, rfl, rfl, tyX5_ok, nmX5, rfl, rfl⟩
theorem yp_7 (z : Nat) : hPl mcl lw_all 0 7 "ManyEyesModel" "fars" "[I" (.ref z) true := ⟨TX5, 43, RX5, tyX5, rfl, in_X5, by decide, rfl, rfl, rfl, rfl, tyX5_ok, nmX5, rfl, rfl⟩
theorem yp_8 (z : Nat) : hPl mcl lw_all 0 8 "ManyEyesModel" "before" "[I" (.ref z) true := ⟨TX5, 43, RX5, tyX5, rfl, in_X5, by decide, rfl, rfl, rfl, rfl, tyX5_ok, nmX5, rfl, rfl⟩
theorem yp_9 (z : Nat) : hPl mcl lw_all 0 9 "ManyEyesModel" "tape" "[I" (.ref z) true := ⟨TX5, 43, RX5, tyX5, rfl, in_X5, by decide, rfl, rfl, rfl, rfl, tyX5_ok, nmX5, rfl, rfl⟩
theorem yp_23 (z : Nat) : hPl mcl lw_all 0 23 "ManyEyesModel" "pile" "[I" (.ref z) true := ⟨TX5, 43, RX5, tyX5, rfl, in_X5, by decide, rfl, rfl, rfl, rfl, tyX5_ok, nmX5, rfl, rfl⟩
theorem yp_35 (z : Nat) : hPl mcl lw_all 0 35 "ManyEyesModel" "rows" "[I" (.ref z) true := ⟨TX5, 43, RX5, tyX5, rfl, in_X5, by decide, rfl, rfl, rfl, rfl, tyX5_ok, nmX5, rfl, rfl⟩
theorem yp_36 (z : Nat) : hPl mcl lw_all 0 36 "ManyEyesModel" "told" "[I" (.ref z) true := ⟨TX5, 43, RX5, tyX5, rfl, in_X5, by decide, rfl, rfl, rfl, rfl, tyX5_ok, nmX5, rfl, rfl⟩
theorem yp_37 (z : Nat) : hPl mcl lw_all 0 37 "ManyEyesModel" "values" "[J" (.ref z) true := ⟨TX5, 43, RX5, tyX5, rfl, in_X5, by decide, rfl, rfl, rfl, rfl, tyX5_ok, nmX5, rfl, rfl⟩
theorem yp_38 (z : Nat) : hPl mcl lw_all 0 38 "ManyEyesModel" "truth" "[Z" (.ref z) true := ⟨TX5, 43, RX5, tyX5, rfl, in_X5, by decide, rfl, rfl, rfl, rfl, tyX5_ok, nmX5, rfl, rfl⟩
theorem yp_42 (z : Nat) : hPl mcl lw_all 0 42 "ManyEyesModel" "keeps" "[Z" (.ref z) true := ⟨TX5, 43, RX5, tyX5, rfl, in_X5, by decide, rfl, rfl, rfl, rfl, tyX5_ok, nmX5, rfl, rfl⟩
theorem yp_11 (z : Int) : hPl mcl lw_all 0 11 "ManyEyesModel" "fault" "I" (.int (zi z)) false := ⟨TX5, 43, RX5, tyX5, rfl, in_X5, by decide, rfl, rfl, rfl, rfl, tyX5_ok, nmX5, rfl, rfl⟩
theorem yp_12 (z : Int) : hPl mcl lw_all 0 12 "ManyEyesModel" "faultPlace" "I" (.int (zi z)) false := ⟨TX5, 43, RX5, tyX5, rfl, in_X5, by decide, rfl, rfl, rfl, rfl, tyX5_ok, nmX5, rfl, rfl⟩
theorem yp_0 (z : Int) : hPl mcl lw_all 0 0 "ManyEyesModel" "w" "I" (.int (zi z)) true := ⟨TX5, 43, RX5, tyX5, rfl, in_X5, by decide, rfl, rfl, rfl, rfl, tyX5_ok, nmX5, rfl, rfl⟩
theorem yp_1 (z : Int) : hPl mcl lw_all 0 1 "ManyEyesModel" "h" "I" (.int (zi z)) true := ⟨TX5, 43, RX5, tyX5, rfl, in_X5, by decide, rfl, rfl, rfl, rfl, tyX5_ok, nmX5, rfl, rfl⟩
set_option maxHeartbeats 4000000 in
theorem wI_model (l : Launch) (DM : va_G) (dA : Nat → ClassId) (h : Nat) (x1 x2 : Int) (hx1 : r32 x1) (hx2 : r32 x2) : mJn l yX5_init cX5_init 3 ({ frames := 3, cells := 14, slots := 16876, locals := 80 } : Room) DM dA [.ref h, .int (zi x1), .int (zi x2)] (h + 1) (fun H => va_at DM mcl (h, .inr (0, [.int 0, .int 0, .null, .null, .null, .null, .null, .null, .null, .null, .int 0, .int 0, .int 0, .int 0, .int 0, .int 0, .int 0, .long 0, .int 0, .int 0, .int 0, .int 0, .int 0, .null, .int 0, .int 0, .int 0, .long 0, .int 0, .int 0, .int 0, .int 0, .int 0, .int 0, .int 0, .null, .null, .null, .null, .int 0, .int 0, .int 0, .null])) H) (fun v H => v = none ∧ ∃ S1 : xS, M_copy23 (M0 (clW x1) (clW x2)) = some S1 ∧ va_P DM mcl (mo_ws dA h S1) H) (fE h) 14 16876 := by
  refine goJ (by decide +kernel) rfl (Nat.le_of_ble_eq_true rfl) ?_
  intro p e s m args below meth c Q ls X hret hl hP hn hnm
  rw [← hn] at hret
  have hx := X.1.1
  have hb := X.1.2.1
  have hown := X.1.2.2.2.1
  have hts := X.1.2.2.2.2
  have hI : iM DM dA h [.int 0, .int 0, .null, .null, .null, .null, .null, .null, .null, .null, .int 0, .int 0, .int 0, .int 0, .int 0, .int 0, .int 0, .long 0, .int 0, .int 0, .int 0, .int 0, .int 0, .null, .int 0, .int 0, .int 0, .long 0, .int 0, .int 0, .int 0, .int 0, .int 0, .int 0, .int 0, .null, .null, .null, .null, .int 0, .int 0, .int 0, .null] 1 s s.heap [] := ⟨hP, fun k w a c => absurd c (by omega), hn, va_S.rf⟩
  replace hl : lv_has ls 3 [(0, .ref h), (1, .int (zi x1)), (2, .int (zi x2))] := hl
  refine lv_aload_n hx hb dX5_init_0 rfl (lv_at hl 0 rfl) ?_
  refine W.objInit hx hb hown (hts _ q1170) (hts _ q123) (hts _ q124) rfl (hl.1.trans X.1.2.2.1.symm) rfl dX5_init_1 (by decide) (Nat.le_of_ble_eq_true rfl) ?_
  refine lv_aload_n hx hb dX5_init_4 rfl (lv_at hl 0 rfl) ?_
  refine lv_sipush (v := zi ((3170 : Nat) : Int)) hx hb dX5_init_5 (by decide) ?_
  refine y_new (at_ := .int) (ty := .int) (t0 := 0) (n := 3170) X hI (by decide) rfl q159 rfl rfl rfl rfl (by decide) (by decide) ⟨Nat.le_of_ble_eq_true rfl, Nat.le_of_ble_eq_true rfl⟩ dX5_init_8 (fun H hI => ?_)
  refine y_put X hI hnm (yp_2 (h + 1)) q1176 (Nat.le_of_ble_eq_true rfl) dX5_init_10 (fun H locs hI => ?_)
  refine lv_aload_n hx hb dX5_init_13 rfl (lv_at hl 0 rfl) ?_
  refine lv_sipush (v := zi ((3170 : Nat) : Int)) hx hb dX5_init_14 (by decide) ?_
  refine y_new (at_ := .int) (ty := .int) (t0 := 0) (n := 3170) X hI (by decide) rfl q159 rfl rfl rfl rfl (by decide) (by decide) ⟨Nat.le_of_ble_eq_true rfl, Nat.le_of_ble_eq_true rfl⟩ dX5_init_17 (fun H hI => ?_)
  refine y_put X hI hnm (yp_3 (h + 2)) q1177 (Nat.le_of_ble_eq_true rfl) dX5_init_19 (fun H locs hI => ?_)
  refine lv_aload_n hx hb dX5_init_22 rfl (lv_at hl 0 rfl) ?_
  refine lv_sipush (v := zi ((6400 : Nat) : Int)) hx hb dX5_init_23 (by decide) ?_
  refine y_new (at_ := .int) (ty := .int) (t0 := 0) (n := 6400) X hI (by decide) rfl q159 rfl rfl rfl rfl (by decide) (by decide) ⟨Nat.le_of_ble_eq_true rfl, Nat.le_of_ble_eq_true rfl⟩ dX5_init_26 (fun H hI => ?_)
  refine y_put X hI hnm (yp_4 (h + 3)) q1178 (Nat.le_of_ble_eq_true rfl) dX5_init_28 (fun H locs hI => ?_)
  refine lv_aload_n hx hb dX5_init_31 rfl (lv_at hl 0 rfl) ?_
  refine lv_sipush (v := zi ((576 : Nat) : Int)) hx hb dX5_init_32 (by decide) ?_
  refine y_new (at_ := .int) (ty := .int) (t0 := 0) (n := 576) X hI (by decide) rfl q159 rfl rfl rfl rfl (by decide) (by decide) ⟨Nat.le_of_ble_eq_true rfl, Nat.le_of_ble_eq_true rfl⟩ dX5_init_35 (fun H hI => ?_)
  refine y_put X hI hnm (yp_5 (h + 4)) q1179 (Nat.le_of_ble_eq_true rfl) dX5_init_37 (fun H locs hI => ?_)
  refine lv_aload_n hx hb dX5_init_40 rfl (lv_at hl 0 rfl) ?_
  refine lv_bipush (v := zi ((64 : Nat) : Int)) hx hb dX5_init_41 (by decide) ?_
  refine y_new (at_ := .int) (ty := .int) (t0 := 0) (n := 64) X hI (by decide) rfl q159 rfl rfl rfl rfl (by decide) (by decide) ⟨Nat.le_of_ble_eq_true rfl, Nat.le_of_ble_eq_true rfl⟩ dX5_init_43 (fun H hI => ?_)
  refine y_put X hI hnm (yp_6 (h + 5)) q1180 (Nat.le_of_ble_eq_true rfl) dX5_init_45 (fun H locs hI => ?_)
  refine lv_aload_n hx hb dX5_init_48 rfl (lv_at hl 0 rfl) ?_
  refine lv_bipush (v := zi ((64 : Nat) : Int)) hx hb dX5_init_49 (by decide) ?_
  refine y_new (at_ := .int) (ty := .int) (t0 := 0) (n := 64) X hI (by decide) rfl q159 rfl rfl rfl rfl (by decide) (by decide) ⟨Nat.le_of_ble_eq_true rfl, Nat.le_of_ble_eq_true rfl⟩ dX5_init_51 (fun H hI => ?_)
  refine y_put X hI hnm (yp_7 (h + 6)) q1181 (Nat.le_of_ble_eq_true rfl) dX5_init_53 (fun H locs hI => ?_)
  refine lv_aload_n hx hb dX5_init_56 rfl (lv_at hl 0 rfl) ?_
  refine lv_bipush (v := zi ((16 : Nat) : Int)) hx hb dX5_init_57 (by decide) ?_
  refine y_new (at_ := .int) (ty := .int) (t0 := 0) (n := 16) X hI (by decide) rfl q159 rfl rfl rfl rfl (by decide) (by decide) ⟨Nat.le_of_ble_eq_true rfl, Nat.le_of_ble_eq_true rfl⟩ dX5_init_59 (fun H hI => ?_)
  refine y_put X hI hnm (yp_8 (h + 7)) q1182 (Nat.le_of_ble_eq_true rfl) dX5_init_61 (fun H locs hI => ?_)
  refine lv_aload_n hx hb dX5_init_64 rfl (lv_at hl 0 rfl) ?_
  refine lv_sipush (v := zi ((300 : Nat) : Int)) hx hb dX5_init_65 (by decide) ?_
  refine y_new (at_ := .int) (ty := .int) (t0 := 0) (n := 300) X hI (by decide) rfl q159 rfl rfl rfl rfl (by decide) (by decide) ⟨Nat.le_of_ble_eq_true rfl, Nat.le_of_ble_eq_true rfl⟩ dX5_init_68 (fun H hI => ?_)
  refine y_put X hI hnm (yp_9 (h + 8)) q1183 (Nat.le_of_ble_eq_true rfl) dX5_init_70 (fun H locs hI => ?_)
  refine lv_aload_n hx hb dX5_init_73 rfl (lv_at hl 0 rfl) ?_
  refine lv_iconst (v := zi (-1)) hx hb dX5_init_74 rfl ?_
  refine y_put0 X hI (yp_11 (-1)) q1185 (Nat.le_of_ble_eq_true rfl) dX5_init_75 (fun H locs hI => ?_)
  refine lv_aload_n hx hb dX5_init_78 rfl (lv_at hl 0 rfl) ?_
  refine lv_iconst (v := zi (-1)) hx hb dX5_init_79 rfl ?_
  refine y_put0 X hI (yp_12 (-1)) q1186 (Nat.le_of_ble_eq_true rfl) dX5_init_80 (fun H locs hI => ?_)
  refine lv_aload_n hx hb dX5_init_83 rfl (lv_at hl 0 rfl) ?_
  refine lv_sipush (v := zi ((160 : Nat) : Int)) hx hb dX5_init_84 (by decide) ?_
  refine y_new (at_ := .int) (ty := .int) (t0 := 0) (n := 160) X hI (by decide) rfl q159 rfl rfl rfl rfl (by decide) (by decide) ⟨Nat.le_of_ble_eq_true rfl, Nat.le_of_ble_eq_true rfl⟩ dX5_init_87 (fun H hI => ?_)
  refine y_put X hI hnm (yp_23 (h + 9)) q1197 (Nat.le_of_ble_eq_true rfl) dX5_init_89 (fun H locs hI => ?_)
  refine lv_aload_n hx hb dX5_init_92 rfl (lv_at hl 0 rfl) ?_
  refine lv_sipush (v := zi ((2280 : Nat) : Int)) hx hb dX5_init_93 (by decide) ?_
  refine y_new (at_ := .int) (ty := .int) (t0 := 0) (n := 2280) X hI (by decide) rfl q159 rfl rfl rfl rfl (by decide) (by decide) ⟨Nat.le_of_ble_eq_true rfl, Nat.le_of_ble_eq_true rfl⟩ dX5_init_96 (fun H hI => ?_)
  refine y_put X hI hnm (yp_35 (h + 10)) q1209 (Nat.le_of_ble_eq_true rfl) dX5_init_98 (fun H locs hI => ?_)
  refine lv_aload_n hx hb dX5_init_101 rfl (lv_at hl 0 rfl) ?_
  refine lv_bipush (v := zi ((8 : Nat) : Int)) hx hb dX5_init_102 (by decide) ?_
  refine y_new (at_ := .int) (ty := .int) (t0 := 0) (n := 8) X hI (by decide) rfl q159 rfl rfl rfl rfl (by decide) (by decide) ⟨Nat.le_of_ble_eq_true rfl, Nat.le_of_ble_eq_true rfl⟩ dX5_init_104 (fun H hI => ?_)
  refine y_put X hI hnm (yp_36 (h + 11)) q1210 (Nat.le_of_ble_eq_true rfl) dX5_init_106 (fun H locs hI => ?_)
  refine lv_aload_n hx hb dX5_init_109 rfl (lv_at hl 0 rfl) ?_
  refine lv_sipush (v := zi ((330 : Nat) : Int)) hx hb dX5_init_110 (by decide) ?_
  refine y_new (at_ := .long) (ty := .long) (t0 := 1) (n := 330) X hI (by decide) rfl q243 rfl rfl rfl rfl (by decide) (by decide) ⟨Nat.le_of_ble_eq_true rfl, Nat.le_of_ble_eq_true rfl⟩ dX5_init_113 (fun H hI => ?_)
  refine y_put X hI hnm (yp_37 (h + 12)) q1211 (Nat.le_of_ble_eq_true rfl) dX5_init_115 (fun H locs hI => ?_)
  refine lv_aload_n hx hb dX5_init_118 rfl (lv_at hl 0 rfl) ?_
  refine lv_sipush (v := zi ((330 : Nat) : Int)) hx hb dX5_init_119 (by decide) ?_
  refine y_new (at_ := .boolean) (ty := .boolean) (t0 := 2) (n := 330) X hI (by decide) rfl q576 rfl rfl rfl rfl (by decide) (by decide) ⟨Nat.le_of_ble_eq_true rfl, Nat.le_of_ble_eq_true rfl⟩ dX5_init_122 (fun H hI => ?_)
  refine y_put X hI hnm (yp_38 (h + 13)) q1212 (Nat.le_of_ble_eq_true rfl) dX5_init_124 (fun H locs hI => ?_)
  refine lv_aload_n hx hb dX5_init_127 rfl (lv_at hl 0 rfl) ?_
  refine lv_bipush (v := zi ((8 : Nat) : Int)) hx hb dX5_init_128 (by decide) ?_
  refine y_new (at_ := .boolean) (ty := .boolean) (t0 := 2) (n := 8) X hI (by decide) rfl q576 rfl rfl rfl rfl (by decide) (by decide) ⟨Nat.le_of_ble_eq_true rfl, Nat.le_of_ble_eq_true rfl⟩ dX5_init_130 (fun H hI => ?_)
  refine y_put X hI hnm (yp_42 (h + 14)) q1216 (Nat.le_of_ble_eq_true rfl) dX5_init_132 (fun H locs hI => ?_)
  have hI : iM DM dA h [.int 0, .int 0, .ref (h + 1), .ref (h + 2), .ref (h + 3), .ref (h + 4), .ref (h + 5), .ref (h + 6), .ref (h + 7), .ref (h + 8), .int 0, .int (zi (-1)), .int (zi (-1)), .int 0, .int 0, .int 0, .int 0, .long 0, .int 0, .int 0, .int 0, .int 0, .int 0, .ref (h + 9), .int 0, .int 0, .int 0, .long 0, .int 0, .int 0, .int 0, .int 0, .int 0, .int 0, .int 0, .ref (h + 10), .ref (h + 11), .ref (h + 12), .ref (h + 13), .int 0, .int 0, .int 0, .ref (h + 14)] 15 s H locs := hI
  have tailH : ∀ (H : Heap) (locs : List Loc), iM DM dA h ([.int 0, .int 0, .ref (h + 1), .ref (h + 2), .ref (h + 3), .ref (h + 4), .ref (h + 5), .ref (h + 6), .ref (h + 7), .ref (h + 8), .int 0, .int (zi (-1)), .int (zi (-1)), .int 0, .int 0, .int 0, .int 0, .long 0, .int 0, .int 0, .int 0, .int 0, .int 0, .ref (h + 9), .int 0, .int 0, .int 0, .long 0, .int 0, .int 0, .int 0, .int 0, .int 0, .int 0, .int 0, .ref (h + 10), .ref (h + 11), .ref (h + 12), .ref (h + 13), .int 0, .int 0, .int 0, .ref (h + 14)].set 0 (.int (zi (clW x1)))) 15 s H locs → W p l e ({ frames := 3, cells := 14, slots := 16876, locals := 80 } : Room) s m args below meth c H locs 14 16876 Q (F0 m 182 ls [.int (zi (clW x2)), .ref h]) := by
    intro H locs hI
    refine y_put X hI hnm (yp_1 (clW x2)) q1175 (Nat.le_of_ble_eq_true rfl) dX5_init_182 (fun H locs hI => ?_)
    have hM : MX DM dA h (fset (fset (fset (fset zM 11 (-1)) 12 (-1)) 0 (clW x1)) 1 (clW x2)) s H locs := by
      refine ⟨fun k w hw => ?_, hI.2.2.2⟩
      by_cases hk : k = 0
      · subst hk
        cases hw
        exact hI.1
      · refine hI.2.1 k w (by omega) (mo_at hw).2 ?_
        rw [← hw]
        obtain ⟨k, rfl⟩ : ∃ j, k = j + 1 := ⟨k - 1, by omega⟩
        rfl
    refine lv_aload_n hx hb dX5_init_185 rfl (lv_at hl 0 rfl) ?_
    refine mm_get X hM q1176 (mf_2 _ _) dX5_init_186 ?_
    refine lv_sipush (v := zi 880) hx hb dX5_init_189 (by decide) ?_
    refine lv_iconst (v := zi (-1)) hx hb dX5_init_192 rfl ?_
    refine mm_iast X hM (ma_2 _ _) (by decide) dX5_init_193 (fun H locs S2 e2 hM => ?_)
    have e2 : S2 = M0 (clW x1) (clW x2) := e2
    subst e2
    refine lv_aload_n hx hb dX5_init_194 rfl (lv_at hl 0 rfl) ?_
    refine mm_get X hM q1176 (mf_2 _ _) dX5_init_195 ?_
    refine lv_aload_n hx hb dX5_init_198 rfl (lv_at hl 0 rfl) ?_
    refine mm_get X hM q1177 (mf_3 _ _) dX5_init_199 ?_
    obtain ⟨S1, hS1, -⟩ := M_copy23_e (M0 (clW x1) (clW x2))
    refine mc_sv (rest := []) X hM (wM_copy23 l DM dA h (M0 (clW x1) (clW x2)) hS1) c5_copy.1 c5_copy.2 ⟨rfl, rfl⟩ ⟨Nat.le_of_ble_eq_true rfl, Nat.le_of_ble_eq_true rfl⟩ ⟨Nat.le_of_ble_eq_true rfl, Nat.le_of_ble_eq_true rfl⟩ hl.1 (Nat.le_of_ble_eq_true rfl) dX5_init_202 rfl (fun H locs hM => ?_)
    exact hret _ _ _ _ dX5_init_205 ⟨rfl, S1, hS1, hM.1⟩ (hM.2.mono (fun q hq => by
      by_cases e : q = h
      · exact Or.inl e
      · exact Or.inr (by have := hq.1; omega)))
  have tailW : ∀ (H : Heap) (locs : List Loc), iM DM dA h [.int 0, .int 0, .ref (h + 1), .ref (h + 2), .ref (h + 3), .ref (h + 4), .ref (h + 5), .ref (h + 6), .ref (h + 7), .ref (h + 8), .int 0, .int (zi (-1)), .int (zi (-1)), .int 0, .int 0, .int 0, .int 0, .long 0, .int 0, .int 0, .int 0, .int 0, .int 0, .ref (h + 9), .int 0, .int 0, .int 0, .long 0, .int 0, .int 0, .int 0, .int 0, .int 0, .int 0, .int 0, .ref (h + 10), .ref (h + 11), .ref (h + 12), .ref (h + 13), .int 0, .int 0, .int 0, .ref (h + 14)] 15 s H locs → W p l e ({ frames := 3, cells := 14, slots := 16876, locals := 80 } : Room) s m args below meth c H locs 14 16876 Q (F0 m 157 ls [.int (zi (clW x1)), .ref h]) := by
    intro H locs hI
    refine y_put X hI hnm (yp_0 (clW x1)) q1174 (Nat.le_of_ble_eq_true rfl) dX5_init_157 (fun H locs hI => ?_)
    have tailH := tailH H locs hI
    unfold clW at tailH
    refine lv_aload_n hx hb dX5_init_160 rfl (lv_at hl 0 rfl) ?_
    refine lv_iload_n hx hb dX5_init_161 rfl (lv_at hl 2 rfl) ?_
    refine lv_iconst (v := zi 4) hx hb dX5_init_162 rfl ?_
    refine g_icmp_ge (tgt := 170) hx hb ⟨hx2, by decide⟩ dX5_init_163 (by decide) (fun c1 => ?_) (fun c1 => ?_)
    · refine lv_iconst (v := zi 4) hx hb dX5_init_166 rfl ?_
      refine lv_goto (tgt := 182) hx hb dX5_init_167 (by decide) ?_
      rw [if_pos (show x2 < 4 by omega)] at tailH
      exact tailH
    · rw [if_neg (show ¬ x2 < 4 by omega)] at tailH
      refine lv_iload_n hx hb dX5_init_170 rfl (lv_at hl 2 rfl) ?_
      refine lv_bipush (v := zi 24) hx hb dX5_init_171 (by decide) ?_
      refine g_icmp_le (tgt := 181) hx hb ⟨hx2, by decide⟩ dX5_init_173 (by decide) (fun c2 => ?_) (fun c2 => ?_)
      · refine lv_iload_n hx hb dX5_init_181 rfl (lv_at hl 2 rfl) ?_
        rw [if_neg (show ¬ 24 < x2 by omega)] at tailH
        exact tailH
      · refine lv_bipush (v := zi 24) hx hb dX5_init_176 (by decide) ?_
        refine lv_goto (tgt := 182) hx hb dX5_init_178 (by decide) ?_
        rw [if_pos (show 24 < x2 by omega)] at tailH
        exact tailH
  have tailW := tailW H locs hI
  unfold clW at tailW
  have fin : W p l e ({ frames := 3, cells := 14, slots := 16876, locals := 80 } : Room) s m args below meth c H locs 14 16876 Q (F0 m 135 ls []) := by
    refine lv_aload_n hx hb dX5_init_135 rfl (lv_at hl 0 rfl) ?_
    refine lv_iload_n hx hb dX5_init_136 rfl (lv_at hl 1 rfl) ?_
    refine lv_iconst (v := zi 4) hx hb dX5_init_137 rfl ?_
    refine g_icmp_ge (tgt := 145) hx hb ⟨hx1, by decide⟩ dX5_init_138 (by decide) (fun c1 => ?_) (fun c1 => ?_)
    · refine lv_iconst (v := zi 4) hx hb dX5_init_141 rfl ?_
      refine lv_goto (tgt := 157) hx hb dX5_init_142 (by decide) ?_
      rw [if_pos (show x1 < 4 by omega)] at tailW
      exact tailW
    · rw [if_neg (show ¬ x1 < 4 by omega)] at tailW
      refine lv_iload_n hx hb dX5_init_145 rfl (lv_at hl 1 rfl) ?_
      refine lv_bipush (v := zi 24) hx hb dX5_init_146 (by decide) ?_
      refine g_icmp_le (tgt := 156) hx hb ⟨hx1, by decide⟩ dX5_init_148 (by decide) (fun c2 => ?_) (fun c2 => ?_)
      · refine lv_iload_n hx hb dX5_init_156 rfl (lv_at hl 1 rfl) ?_
        rw [if_neg (show ¬ 24 < x1 by omega)] at tailW
        exact tailW
      · refine lv_bipush (v := zi 24) hx hb dX5_init_151 (by decide) ?_
        refine lv_goto (tgt := 157) hx hb dX5_init_153 (by decide) ?_
        rw [if_pos (show 24 < x1 by omega)] at tailW
        exact tailW
  exact fin
