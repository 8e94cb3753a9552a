/-! ManyEyes' world with one int array beside it (the varargs of adds) -/
set_option maxRecDepth 100000
def tst (f : Int → Int) (i z : Int) : Int → Int := fun j => if j = i then z else f j
def tmpc (dA : Nat → ClassId) (q n : Nat) (f : Int → Int) : Nat × va_E := (q, .inl (dA 0, n, .inl (fun j => zi (f j))))
def cwT (dA : Nat → ClassId) (hC : Nat) (S : yS) (q n : Nat) (f : Int → Int) : va_W := cw dA hC S ++ [tmpc dA q n f]
theorem cw_len {dA : Nat → ClassId} {hC : Nat} {S : yS} : (cw dA hC S).length = 662 := by simp [cw]
theorem cwT_at {dA : Nat → ClassId} {hC : Nat} {S : yS} {q n : Nat} {f : Int → Int} {i : Nat} (hi : i < 662) : (cwT dA hC S q n f)[i]? = some (hC + i, cC dA hC S i) := by
  unfold cwT
  rw [List.getElem?_append_left (by rw [cw_len]; exact hi), cw_at hi]
theorem cwT_tmp {dA : Nat → ClassId} {hC : Nat} {S : yS} {q n : Nat} {f : Int → Int} : (cwT dA hC S q n f)[662]? = some (tmpc dA q n f) := by
  unfold cwT
  rw [List.getElem?_append_right (by rw [cw_len]; exact Nat.le_refl _), cw_len]
  rfl
theorem cwT_setT {dA : Nat → ClassId} {hC : Nat} {S : yS} {q n : Nat} {f g : Int → Int} : (cwT dA hC S q n f).set 662 (tmpc dA q n g) = cwT dA hC S q n g := by
  unfold cwT
  rw [List.set_append_right _ _ (by rw [cw_len]; exact Nat.le_refl _), cw_len]
  rfl
theorem cwT_set {dA : Nat → ClassId} {hC : Nat} {S S' : yS} {q n : Nat} {f : Int → Int} {i : Nat} {e : va_E} (hi : i < 662) (h : (cw dA hC S).set i (hC + i, e) = cw dA hC S') : (cwT dA hC S q n f).set i (hC + i, e) = cwT dA hC S' q n f := by
  unfold cwT
  rw [List.set_append_left _ _ (by rw [cw_len]; exact hi), h]
def CUT (DC : va_G) (dA : Nat → ClassId) (hC : Nat) (S : yS) (q n : Nat) (f : Int → Int) (U : State) : Prop := va_P DC ccl (cwT dA hC S q n f) U.heap ∧ va_D (fun _ => True) (cwT dA hC S q n f) ∧ va_K DC ccl (cty dA) U ∧ NWs U
def CXT (DC : va_G) (dA : Nat → ClassId) (hC : Nat) (A : Nat → Prop) (S : yS) (q n : Nat) (f : Int → Int) (s : State) (H : Heap) (locs : List Loc) : Prop := va_P DC ccl (cwT dA hC S q n f) H ∧ va_D A (cwT dA hC S q n f) ∧ va_S A s.heap H locs ∧ ∀ z, cA hC z → A z
theorem CXT.cx {DC : va_G} {dA : Nat → ClassId} {hC : Nat} {A : Nat → Prop} {S : yS} {q n : Nat} {f : Int → Int} {s : State} {H : Heap} {locs : List Loc} (h : CXT DC dA hC A S q n f s H locs) : CX DC dA hC A S s H locs := by
  refine ⟨fun k z hk => ?_, h.2.2.1, h.2.2.2⟩
  obtain ⟨h1, h2⟩ := cw_in hk
  subst h2
  exact h.1 k _ (cwT_at h1)
def cN (hC sz : Nat) : Nat → Prop := fun q => cA hC q ∨ sz ≤ q
def cT (hC q : Nat) : Nat → Prop := fun z => cA hC z ∨ z = q
section CTR
variable {p : Program} {l : Launch} {e : Env} {R : Room} {s : State} {m : MethodId} {args : Array Value} {below : List Frame} {meth : Method} {c : Code} {H : Heap} {locs : List Loc} {cells slots : Nat} {Q : State → Prop}
variable {cc : ByteArray} {pc nL : Nat} {ls : Array Slot} {rest : List Value} {DC : va_G} {dA : Nat → ClassId} {hC : Nat} {S : yS} {own : String} {A : Nat → Prop} {q n : Nat} {f : Int → Int}
theorem cm_newT (X : cCx own p c cc nL s m args DC dA) (hM : CX DC dA hC A S s H locs) (hA : ∀ z, s.heap.size ≤ z → A z) (hq : Cond.arrayClass .int ∈ lw_all) (hn : n < 1000000) (hcells : cells + 1 ≤ R.cells) (hslots : slots + n ≤ R.slots) (hdg : decode cc pc = .ok (.newarray .int, 2))
    (kk : ∀ (q : Nat) (H1 : Heap) (f : Int → Int), f = (fun _ => 0) → CXT DC dA hC A S q n f s H1 locs → W p l e R s m args below meth c H1 locs (cells + 1) (slots + n) Q (F0 m (pc + 2) ls (.ref q :: rest))) : W p l e R s m args below meth c H locs cells slots Q (F0 m pc ls (.int (zi n) :: rest)) := by
  have hz : (zi (n : Int)).toNatClampNeg = n := by rw [zi_cl ⟨by omega, by omega⟩]; omega
  have hneg : ¬ zi (n : Int) < 0 := fun hh => by
    have := (zi_lt (a := (n : Int)) (b := 0) ⟨by omega, by omega⟩ (by decide)).mp hh
    omega
  refine va_newa X.1.1 X.1.2.1 (atype := .int) (X.1.2.2.2.2 _ hq) rfl X.2.1 hM.1 (cw_DA hM.2.2) hM.2.1 hA (n := zi n) (N' := n) (a0 := (n, .inl (fun _ => 0))) (fun cA => rfl) hneg hz (by show n * 4 ≤ _; omega) hcells hslots hdg (fun q cA' H1 hK1 hP1 hD1 hS1 => ?_)
  have e1 : cA' = dA 0 := by
    have h1 := (hK1.2 5 (cA', .int) rfl).2
    have h2 := (X.2.1.2 0 (dA 0, .int) rfl).2
    exact Option.some.inj (h1.symm.trans h2)
  subst e1
  exact kk q H1 _ rfl ⟨hP1, hD1, hS1, hM.2.2⟩
theorem cm_iastT (X : cCx own p c cc nL s m args DC dA) (hM : CXT DC dA hC A S q n f s H locs) {i z : Int} (g : 0 ≤ i ∧ i < (n : Int)) (hn : n < 2147483648) (hdg : decode cc pc = .ok (.iastore, 1))
    (kk : ∀ (H1 : Heap) (locs1 : List Loc) (f2 : Int → Int), f2 = tst f i z → CXT DC dA hC A S q n f2 s H1 locs1 → W p l e R s m args below meth c H1 locs1 cells slots Q (F0 m (pc + 1) ls rest)) : W p l e R s m args below meth c H locs cells slots Q (F0 m pc ls (.int (zi z) :: .int (zi i) :: .ref q :: rest)) := by
  refine va_iast X.1.1 X.1.2.1 X.2.1 hM.1 hM.2.1 hM.2.2.1 662 0 cwT_tmp rfl (zi_in g hn) hdg (fun H1 locs1 hP hD hS => kk H1 locs1 _ rfl ?_)
  rw [zi_cl ⟨g.1, by omega⟩, updz f z g.1] at hP hD
  exact ⟨by rw [← cwT_setT (f := f)]; exact hP, by rw [← cwT_setT (f := f)]; exact hD, hS, hM.2.2.2⟩
theorem cm_alenT (X : cCx own p c cc nL s m args DC dA) (hM : CXT DC dA hC A S q n f s H locs) (hdg : decode cc pc = .ok (.arraylength, 1))
    (kk : W p l e R s m args below meth c H locs cells slots Q (F0 m (pc + 1) ls (.int (zi n) :: rest))) : W p l e R s m args below meth c H locs cells slots Q (F0 m pc ls (.ref q :: rest)) :=
  va_alen X.1.1 X.1.2.1 X.2.1 hM.1 662 0 cwT_tmp rfl (by show Int32.ofNat n = zi n; exact (Int32.ofInt_eq_ofNat).symm) hdg kk
/-- System.arraycopy of the whole of it into an int array of the world -/
def ccT (S : yS) (b n : Int) (f : Int → Int) : yS := (S.1, fun q => if q = b then (fun j => if 0 ≤ j ∧ j < n then f j else S.2 b j) else S.2 q)
theorem cm_copyT (X : cCx own p c cc nL s m args DC dA) (hM : CXT DC dA hC A S q n f s H locs) {q1 n1 : Nat} {z1 : Int} (h1 : cI q1 n1) (e1 : (q1 : Int) = z1) {a1 idx : Nat} (hq1 : a1 = hC + q1) (g : (n : Int) ≤ (n1 : Int))
    (hl : Cond.methodLink own idx arraycopyName ∈ lw_all) (hnat : Cond.native arraycopyName ∈ lw_all) (hstat : Cond.static arraycopyName ∈ lw_all) (hini : Cond.initialized "java/lang/System" ∈ lw_all) (hls : ls.size = nL) (hfr : 1 ≤ R.frames) (hlo : (rest.map fun v => v.category).sum + (nativeFrameWords "java/lang/System" "arraycopy" 5 + 11) ≤ R.locals) (hdg : decode cc pc = .ok (.invokestatic idx, 3))
    (kk : ∀ (H1 : Heap) (locs1 : List Loc) (S2 : yS), S2 = ccT S z1 n f → CX DC dA hC A S2 s H1 locs1 → W p l e R s m args below meth c H1 locs1 cells slots Q (F0 m (pc + 3) ls rest)) : W p l e R s m args below meth c H locs cells slots Q (F0 m pc ls (.int (zi n) :: .int (zi 0) :: .ref a1 :: .int (zi 0) :: .ref q :: rest)) := by
  subst hq1 e1
  have l1 := h1.2.2.2
  have c0 : (zi 0).toNatClampNeg = 0 := by decide
  have cn : (zi (n : Int)).toNatClampNeg = n := by rw [zi_cl ⟨by omega, by omega⟩]; omega
  have p0 : ¬ zi 0 < 0 := by decide
  have pn : ¬ zi (n : Int) < 0 := fun hh => by
    have := (zi_lt (a := (n : Int)) (b := 0) ⟨by omega, by omega⟩ (by decide)).mp hh
    omega
  refine va_copyi X.1.1 X.1.2.1 (by rw [hls]; exact X.1.2.2.1) X.1.2.2.2.1 (X.1.2.2.2.2 _ hl) (X.1.2.2.2.2 _ hnat) (X.1.2.2.2.2 _ hstat) (X.1.2.2.2.2 _ hini) X.2.1 hM.1 hM.2.1 hM.2.2.1 662 q1 0 0 cwT_tmp (by rw [cwT_at h1.1, h1.cell]) rfl rfl rfl p0 p0 pn (by rw [c0, cn]; omega) (by rw [c0, cn]; omega) (fun i _ => rfl) hfr hlo hdg (fun H1 locs1 hP hD hS => kk H1 locs1 _ rfl ?_)
  rw [c0, cn] at hP hD
  have e : (fun j : Nat => zi ((ccT S q1 n f).2 q1 j)) = va_cpy (fun j : Nat => zi (f j)) (fun j : Nat => zi (S.2 q1 j)) 0 0 n := by
    funext j
    show zi ((if (q1 : Int) = (q1 : Int) then (fun j : Int => if 0 ≤ j ∧ j < (n : Int) then f j else S.2 q1 j) else _) (j : Int)) = if 0 ≤ j ∧ j < 0 + n then zi (f ((0 + (j - 0) : Nat) : Int)) else zi (S.2 q1 j)
    rw [if_pos rfl]
    by_cases hj : (j : Int) < n
    · have b1 : (0 : Int) ≤ (j : Int) ∧ (j : Int) < (n : Int) := ⟨by omega, hj⟩
      have b2 : 0 ≤ j ∧ j < 0 + n := ⟨by omega, by omega⟩
      rw [if_pos b2]
      show zi (if 0 ≤ (j : Int) ∧ (j : Int) < (n : Int) then f j else S.2 q1 j) = _
      rw [if_pos b1, Nat.zero_add, Nat.sub_zero]
    · have b1 : ¬ ((0 : Int) ≤ (j : Int) ∧ (j : Int) < (n : Int)) := fun b => hj b.2
      have b2 : ¬ (0 ≤ j ∧ j < 0 + n) := by omega
      rw [if_neg b2]
      show zi (if 0 ≤ (j : Int) ∧ (j : Int) < (n : Int) then f j else S.2 q1 j) = _
      rw [if_neg b1]
  have es : (cwT dA hC S q n f).set q1 (hC + q1, .inl (dA 0, n1, .inl (va_cpy (fun j : Nat => zi (f j)) (fun j : Nat => zi (S.2 q1 j)) 0 0 n))) = cwT dA hC (ccT S q1 n f) q n f := by
    rw [← e]
    exact cwT_set h1.1 (cw_set (S := S) (S' := ccT S q1 n f) (i := q1) h1.1 (h1.cell dA hC (ccT S q1 n f)) (fun j _ hj => cC_congr rfl (by show (if (j : Int) = (q1 : Int) then _ else S.2 j) = _; rw [if_neg (by omega)])))
  rw [es] at hP hD
  exact CXT.cx (q := q) (n := n) (f := f) ⟨hP, hD, hS, hM.2.2.2⟩
end CTR
abbrev ctT_i (l : Launch) (y : MethodName) (bytes : ByteArray) (maxL : Nat) (ret : Option FieldType) (rm : Room) (DC : va_G) (dA : Nat → ClassId) (hC : Nat) (As : List Value) (S : yS) (q n : Nat) (f : Int → Int) (r : Int) (S1 : yS) : Prop := Met l y (ws_ y bytes maxL ret) rm (va_Pc As (CUT DC dA hC S q n f)) (va_Qi (fun (v : Int32) (u : yS) => v = zi r ∧ u = S1) (fun u t => CU DC dA hC u t) (cT hC q)) 0 0 (cT hC q)
theorem coT_i {l : Launch} {y : MethodName} {cc : ByteArray} {nL : Nat} {rm : Room} {DC : va_G} {dA : Nat → ClassId} {hC : Nat} {As : List Value} {S S1 : yS} {q n : Nat} {f : Int → Int} {r : Int} (hy : plainName y.cls = true) (hAs : (lg_sl As).length ≤ nL) (body : ∀ (p : Program) (e : Env) (s : State) (m : MethodId) (args : Array Value) (below : List Frame) (meth : Method) (c : Code) (Q : State → Prop) (ls : Array Slot), cCx y.cls p c cc nL s m args DC dA → (∀ (pc : Nat) (ls : Array Slot) (H : Heap) (locs : List Loc) (v : Int) (S2 : yS), v = r → S2 = S1 → decode cc pc = .ok (.ireturn, 1) → CX DC dA hC (cT hC q) S2 s H locs → W p l e rm s m args below meth c H locs 0 0 Q (F0 m pc ls [.int (zi v)])) → lv_has ls nL (lv_args 0 As) → CXT DC dA hC (cT hC q) S q n f s s.heap [] → W p l e rm s m args below meth c s.heap [] 0 0 Q (F0 m 0 ls [])) : ctT_i l y cc nL (some .int) rm DC dA hC As S q n f r S1 := by
  refine Met.ofW (cc := cc) (maxL := nL) (ret := (some .int)) hy rfl ?_
  intro p e s m args below meth c s₁ B hml hv
  obtain ⟨rfl, hP, hD, hK, hN⟩ := hv
  have hx := B.exec
  have hb := B.bytes
  have hr := B.returns
  have hlocks := B.notSynchronized
  have hts := atoms_spec (ws := ws_ y cc nL (some .int)) B.pre
  have hts : ∀ w ∈ lw_all, w.before _ s = true := fun w h => hts w (List.mem_cons_of_mem _ h)
  have hown : s.vm.findClass y.cls = some m.cls := findClass_of_methodNamed B.named
  have hl := lv_entry As (n := nL) hAs
  rw [lg_entry_eq]
  generalize (lg_sl As ++ List.replicate (nL - (lg_sl As).length) Slot.unset).toArray = ls at hl ⊢
  have hD2 : va_D (cT hC q) (cwT dA hC S q n f) := by
    refine ⟨hD.1, fun k z hk => ?_⟩
    by_cases h6 : k < 662
    · rw [cwT_at h6] at hk
      cases hk
      exact Or.inl ⟨by show hC ≤ hC + k; omega, by show hC + k < hC + 662; omega⟩
    · have hk2 := (List.getElem?_eq_some_iff.mp hk).1
      have h7 : k = 662 := by
        unfold cwT at hk2
        rw [List.length_append, cw_len] at hk2
        have : k < 663 := hk2
        omega
      subst h7
      rw [cwT_tmp] at hk
      cases hk
      exact Or.inr rfl
  refine body p e s m _ below meth c _ ls ⟨⟨hx, hb, hml, hown, hts⟩, hK, hN⟩ ?_ hl ⟨hP, hD2, va_S.rf, fun z hz => Or.inl hz⟩
  intro pc ls H locs v S2 e1 e2 hd hM
  subst e1 e2
  exact W.iret hx hb hr (fun t ht hW => ⟨⟨_, _, rfl, ⟨rfl, rfl⟩, by rw [ht]; exact hM.1, va_K.moved hW.alike hK, NWs.warm hW hN⟩, hM.2.1.F ht⟩) hM.2.1.2.2 hd
abbrev ctA_i (l : Launch) (y : MethodName) (bytes : ByteArray) (maxL : Nat) (ret : Option FieldType) (rm : Room) (DC : va_G) (dA : Nat → ClassId) (hC sz : Nat) (As : List Value) (S : yS) (r : Int) (S1 : yS) (mc ms : Nat) : Prop := Met l y (ws_ y bytes maxL ret) rm (va_Pc As (fun U => U.heap.size = sz ∧ CU DC dA hC S U)) (va_Qi (fun (v : Int32) (u : yS) => v = zi r ∧ u = S1) (fun u t => CU DC dA hC u t) (cN hC sz)) mc ms (cN hC sz)
theorem coA_i {l : Launch} {y : MethodName} {cc : ByteArray} {nL : Nat} {rm : Room} {DC : va_G} {dA : Nat → ClassId} {hC sz : Nat} {As : List Value} {S S1 : yS} {r : Int} {mc ms : Nat} (hy : plainName y.cls = true) (hAs : (lg_sl As).length ≤ nL) (body : ∀ (p : Program) (e : Env) (s : State) (m : MethodId) (args : Array Value) (below : List Frame) (meth : Method) (c : Code) (Q : State → Prop) (ls : Array Slot), cCx y.cls p c cc nL s m args DC dA → (∀ (pc : Nat) (ls : Array Slot) (H : Heap) (locs : List Loc) (v : Int) (S2 : yS), v = r → S2 = S1 → decode cc pc = .ok (.ireturn, 1) → CX DC dA hC (cN hC sz) S2 s H locs → W p l e rm s m args below meth c H locs mc ms Q (F0 m pc ls [.int (zi v)])) → lv_has ls nL (lv_args 0 As) → CX DC dA hC (cN hC sz) S s s.heap [] → (∀ z, s.heap.size ≤ z → cN hC sz z) → W p l e rm s m args below meth c s.heap [] 0 0 Q (F0 m 0 ls [])) : ctA_i l y cc nL (some .int) rm DC dA hC sz As S r S1 mc ms := by
  refine Met.ofW (cc := cc) (maxL := nL) (ret := (some .int)) hy rfl ?_
  intro p e s m args below meth c s₁ B hml hv
  obtain ⟨rfl, hsz, hP, hK, hN⟩ := hv
  subst hsz
  have hx := B.exec
  have hb := B.bytes
  have hr := B.returns
  have hlocks := B.notSynchronized
  have hts := atoms_spec (ws := ws_ y cc nL (some .int)) B.pre
  have hts : ∀ w ∈ lw_all, w.before _ s = true := fun w h => hts w (List.mem_cons_of_mem _ h)
  have hown : s.vm.findClass y.cls = some m.cls := findClass_of_methodNamed B.named
  have hl := lv_entry As (n := nL) hAs
  rw [lg_entry_eq]
  generalize (lg_sl As ++ List.replicate (nL - (lg_sl As).length) Slot.unset).toArray = ls at hl ⊢
  refine body p e s m _ below meth c _ ls ⟨⟨hx, hb, hml, hown, hts⟩, hK, hN⟩ ?_ hl ⟨hP, va_S.rf, fun _ h => Or.inl h⟩ (fun z h => Or.inr h)
  intro pc ls H locs v S2 e1 e2 hd hM
  subst e1 e2
  exact W.iret hx hb hr (fun t ht hW => ⟨⟨_, _, rfl, ⟨rfl, rfl⟩, by rw [ht]; exact hM.1, va_K.moved hW.alike hK, NWs.warm hW hN⟩, hM.2.1.F ht⟩) hM.2.1.2.2 hd
section CTC
variable {p : Program} {l : Launch} {e : Env} {R : Room} {s : State} {m : MethodId} {args : Array Value} {below : List Frame} {meth : Method} {c : Code} {H : Heap} {locs : List Loc} {cells slots : Nat} {Q : State → Prop}
variable {cc : ByteArray} {pc nL : Nat} {ls : Array Slot} {rest : List Value} {DC : va_G} {dA : Nat → ClassId} {hC : Nat} {S : yS} {A : Nat → Prop} {q n : Nat} {f : Int → Int}
variable {y : MethodName} {bytes : ByteArray} {maxL idx : Nat} {ret : Option FieldType} {rm : Room} {As st : List Value}
theorem cc_T (X : cCx "ManyEyes" p c cc nL s m args DC dA) (hM : CXT DC dA hC A S q n f s H locs) {r : Int} {S1 : yS} (met : ctT_i l y bytes maxL ret rm DC dA hC (.ref hC :: As) S q n f r S1) (hT : GoodIn lw_all (wsV "ManyEyes" idx "ManyEyes" y (ws_ y bytes maxL ret))) (hd : y.cls = "ManyEyes" ∧ y.cls ≠ "java/lang/invoke/MethodHandle" ∧ y.cls ≠ "java/lang/invoke/VarHandle" ∧ (parseMethodDescriptor y.desc).map (fun d => d.parameters.length) = some As.length) (hrm : rm.cells = 0 ∧ rm.slots = 0) (hR : rm.frames + 1 ≤ R.frames ∧ 8 + (maxL + 11) + rm.locals ≤ R.locals) (hcs : cells ≤ R.cells ∧ slots ≤ R.slots) (hls : ls.size = nL) (hro : (rest.map fun v => v.category).sum ≤ 8) (hdg : decode cc pc = .ok (.invokevirtual idx, 3)) (hst : st = As.reverse ++ .ref hC :: rest)
    (kk : ∀ (H1 : Heap) (locs1 : List Loc), CX DC dA hC A S1 s H1 locs1 → W p l e R s m args below meth c H1 locs1 cells slots Q (F0 m (pc + 3) ls (.int (zi r) :: rest))) : W p l e R s m args below meth c H locs cells slots Q (F0 m pc ls st) := by
  subst hst
  have hsub : ∀ z, cT hC q z → A z := fun z hz => by
    rcases hz with hz | rfl
    · exact hM.2.2.2 z hz
    · exact hM.2.1.2 662 _ cwT_tmp
  refine va_calli (va_runV (As := As) (rest := rest) X.1 met (cwV As.length X.1.2.2.2.2 hT rfl hrm.1 hrm.2 hd hR) ⟨fun a U g mk z => ⟨z.1, z.2.1, z.2.2.1, va_K.moved (u := U) (U := U.calling g mk a) (Vm.Alike.refl U.vm) z.2.2.2.1, NWs.same (u := U) (U := U.calling g mk a) rfl z.2.2.2.2⟩, va_recv X.2.1 hM.1 (ci := 0) (q0 := 0) rfl (cwT_at (by decide)), fun U hU hW => ⟨rfl, by rw [hU]; exact hM.1, hM.2.1.weaken (fun _ _ _ _ => trivial), va_K.moved hW.alike X.2.1, NWs.warm hW X.2.2⟩⟩ rfl rfl hls rfl (lv_room hro) hdg ⟨hcs.1, hcs.2⟩) hM.2.2.1 (fun z _ hz => hsub z hz) hsub (fun v u t H1 locs1 ht hvm hp hB hz hk hS => ?_)
  obtain ⟨rfl, rfl⟩ := hp
  exact kk H1 locs1 ⟨by rw [← ht]; exact hB.1, hS, hM.2.2.2⟩
end CTC
