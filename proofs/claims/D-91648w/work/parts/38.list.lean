/-! ArrayList -/
set_option maxRecDepth 100000
/-- a cell of one of our classes -/
def oAny (Z : hZ) (H : Heap) (v : Nat) : Prop := ∃ (cell : Cell) (ci : Nat), H[v]? = some cell ∧ cell.vm.isStatics = false ∧ ci < 16 ∧ cell.cls = Z.D.1 ci
theorem oAny.keep {Z : hZ} {H H1 : Heap} {v : Nat} (h : oAny Z H v) (hq : H1[v]? = H[v]?) : oAny Z H1 v := by
  obtain ⟨cell, ci, h1, h2⟩ := h
  exact ⟨cell, ci, by rw [hq]; exact h1, h2⟩
theorem oAny.lt {Z : hZ} {H : Heap} {v : Nat} (h : oAny Z H v) : v < H.size := by
  obtain ⟨cell, ci, h1, h2⟩ := h
  exact (Array.getElem?_eq_some_iff.mp h1).1
theorem oAny.of {Z : hZ} {H : Heap} {v ci : Nat} {fs : List Value} (h : va_at Z.D tcl (v, .inr (ci, fs)) H) (hc : ci < 16) : oAny Z H v := by
  obtain ⟨r, g1, cell, q1, q2, q3, q4⟩ := h
  exact ⟨cell, ci, q1, by rw [q3]; rfl, hc, q2⟩
theorem o_cast {Z : hZ} {s : State} (h : HE Z s) {ci : Nat} (hc : ci < 16) : (∃ kC : Class, s.vm.classes[Z.D.1 ci]? = some kC) ∧ ∀ comp : ClassId, s.vm.findClass "java/lang/Object" = some comp → s.vm.assignable (Z.D.1 ci) comp = true := by
  have hN := h.2.1.NW
  have hgo : ∀ (C : String) (T : u_T) (N : Nat), tcl[ci]? = some (C, T, N) → va_Nw (.castable C "java/lang/Object") s → (∃ kC : Class, s.vm.classes[Z.D.1 ci]? = some kC) ∧ ∀ comp : ClassId, s.vm.findClass "java/lang/Object" = some comp → s.vm.assignable (Z.D.1 ci) comp = true := by
    intro C T N h1 h2
    obtain ⟨-, hfc, kC, hkC, -⟩ := h.1.1 ci _ h1
    exact ⟨⟨kC, hkC⟩, fun comp hco => vb_asgC h2 comp _ hco hfc⟩
  have : ci = 0 ∨ ci = 1 ∨ ci = 2 ∨ ci = 3 ∨ ci = 4 ∨ ci = 5 ∨ ci = 6 ∨ ci = 7 ∨ ci = 8 ∨ ci = 9 ∨ ci = 10 ∨ ci = 11 ∨ ci = 12 ∨ ci = 13 ∨ ci = 14 ∨ ci = 15 := by omega
  rcases this with rfl | rfl | rfl | rfl | rfl | rfl | rfl | rfl | rfl | rfl | rfl | rfl | rfl | rfl | rfl | rfl
  · exact hgo _ _ _ rfl (hN _ q1637 rfl)
  · exact hgo _ _ _ rfl (hN _ q1638 rfl)
  · exact hgo _ _ _ rfl (hN _ q1639 rfl)
  · exact hgo _ _ _ rfl (hN _ q1640 rfl)
  · exact hgo _ _ _ rfl (hN _ q1641 rfl)
  · exact hgo _ _ _ rfl (hN _ q1642 rfl)
  · exact hgo _ _ _ rfl (hN _ q1643 rfl)
  · exact hgo _ _ _ rfl (hN _ q1644 rfl)
  · exact hgo _ _ _ rfl (hN _ q1645 rfl)
  · exact hgo _ _ _ rfl (hN _ q1646 rfl)
  · exact hgo _ _ _ rfl (hN _ q1647 rfl)
  · exact hgo _ _ _ rfl (hN _ q1648 rfl)
  · exact hgo _ _ _ rfl (hN _ q1650 rfl)
  · exact hgo _ _ _ rfl (hN _ q1651 rfl)
  · exact hgo _ _ _ rfl (hN _ q1633 rfl)
  · exact hgo _ _ _ rfl (hN _ q1649 rfl)
theorem oAny.any {Z : hZ} {s : State} {H : Heap} {v : Nat} (h : oAny Z H v) (hE : HE Z s) : va_Any "java/lang/Object" s H v := by
  obtain ⟨cell, ci, h1, h2, h3, h4⟩ := h
  have := o_cast hE h3
  exact ⟨cell, h1, h2, by rw [h4]; exact this.1, fun comp hc => by rw [h4]; exact this.2 comp hc⟩
/-- an Object[] of n cells at a -/
abbrev oArr (Z : hZ) (a n : Nat) (f : Nat → Option Nat) (H : Heap) : Prop := va_at Z.D tcl (a, .inl (Z.d 2, n, .inr (.inr (.inr (.inr f))))) H
section LR
variable {p : Program} {l : Launch} {e : Env} {R : Room} {s : State} {m : MethodId} {args : Array Value} {below : List Frame} {meth : Method} {c : Code} {H : Heap} {locs : List Loc} {cells slots : Nat} {Q : State → Prop}
variable {cc : ByteArray} {pc nL : Nat} {ls : Array Slot} {rest : List Value} {Z : hZ} {own : String} {F : Nat → Prop} {a idx : Nat}
theorem h_newq (X : hCx own p c cc nL s m args Z) (hS : va_S (hA F s.heap.size) s.heap H locs) {n : Int} (g : 0 ≤ n ∧ n < 100000) (hcl : Cond.classLink own idx "java/lang/Object" ∈ lw_all) (hcells : cells + 1 ≤ R.cells) (hslots : slots + n.toNat ≤ R.slots) (hdg : decode cc pc = .ok (.anewarray idx, 3))
    (kk : ∀ (H1 : Heap), oArr Z H.size n.toNat (fun _ => none) H1 → H1.size = H.size + 1 → (∀ q, q < H.size → H1[q]? = H[q]?) → va_S (hA F s.heap.size) s.heap H1 locs → W p l e R s m args below meth c H1 locs (cells + 1) (slots + n.toNat) Q (F0 m (pc + 3) ls (.ref H.size :: rest))) : W p l e R s m args below meth c H locs cells slots Q (F0 m pc ls (.int (zi n) :: rest)) := by
  have hcn : (zi n).toNatClampNeg = n.toNat := zi_cl ⟨g.1, by omega⟩
  have h0 : ¬ zi n < 0 := fun h => (zi_in (n := 100000) g (by decide)) (Or.inl h)
  refine W.anew X.1.1 X.1.2.1 X.1.2.2.2.1 (X.1.2.2.2.2 _ hcl) (va_AO.use X.2.2.1.2.2.2.2.2.2.2.1.2.2.2.2.1) rfl hdg rfl h0 (by rw [hcn]; omega) hcells (by rw [hcn]; exact hslots) fun cA kA comp f1 f2 f3 f4 => ?_
  obtain ⟨-, kA', comp', k1, k2, k3, k4⟩ := X.2.1.2 2 (Z.d 2, .object "java/lang/Object") rfl
  have hcA : cA = Z.d 2 := Option.some.inj (f1.symm.trans k4)
  subst hcA
  rw [hcn]
  generalize hH1 : H.push ({ cls := Z.d 2, slots := Array.replicate n.toNat .null, vm := .none } : Cell) = H1
  have z1 : H1.size = H.size + 1 := by rw [← hH1, Array.size_push]
  have e1 : H1[H.size]? = some (arrV (Z.d 2) n.toNat (fun _ => .null)) := by rw [← hH1, Array.getElem?_push_size, ← arrV_new]
  have o1 : ∀ q : Nat, q < H.size → H1[q]? = H[q]? := fun q hq => by rw [← hH1, Array.getElem?_push, if_neg (Nat.ne_of_lt hq)]
  refine kk H1 ?_ z1 o1 ⟨Nat.le_trans hS.1 (by omega), fun x h1 h2 => (o1 x (Nat.lt_of_lt_of_le h1 hS.1)).trans (hS.2.1 x h1 h2), hS.2.2⟩
  show H1[H.size]? = some (vp_cell _ _)
  rw [vp_cell_q]
  exact e1
theorem h_aald (X : hCx own p c cc nL s m args Z) {n : Nat} {f : Nat → Option Nat} (h : oArr Z a n f H) {i : Int} (g : 0 ≤ i ∧ i < (n : Int)) (hn : n < 2147483648) (hdg : decode cc pc = .ok (.aaload, 1))
    (kk : W p l e R s m args below meth c H locs cells slots Q (F0 m (pc + 1) ls (va_rf (f i.toNat) :: rest))) : W p l e R s m args below meth c H locs cells slots Q (F0 m pc ls (.int (zi i) :: .ref a :: rest)) := by
  refine va_aldq X.1.1 X.1.2.1 X.2.1 (va_one h) 0 2 rfl rfl (zi_in g hn) hdg ?_
  rw [zi_cl ⟨g.1, by omega⟩]
  exact kk
theorem h_aast (X : hCx own p c cc nL s m args Z) (hS : va_S (hA F s.heap.size) s.heap H locs) {n v : Nat} {f : Nat → Option Nat} (h : oArr Z a n f H) (hv : oAny Z H v) {i : Int} (g : 0 ≤ i ∧ i < (n : Int)) (hn : n < 2147483648) (ha : hA F s.heap.size a) (hdg : decode cc pc = .ok (.aastore, 1))
    (kk : ∀ (H1 : Heap) (locs1 : List Loc), oArr Z a n (va_up f i.toNat (some v)) H1 → hq_ (hA F s.heap.size) s.heap H H1 locs1 a → W p l e R s m args below meth c H1 locs1 cells slots Q (F0 m (pc + 1) ls rest)) : W p l e R s m args below meth c H locs cells slots Q (F0 m pc ls (.ref v :: .int (zi i) :: .ref a :: rest)) := by
  have hci : (zi i).toNatClampNeg = i.toNat := zi_cl ⟨g.1, by omega⟩
  have hin := zi_in g hn
  have hlt : (zi i).toNatClampNeg < n := Nat.not_le.mp fun q => hin (Or.inr q)
  have h0 : ¬ zi i < 0 := fun q => hin (Or.inl q)
  obtain ⟨cellV, g1, g3, ⟨kC, hkC⟩, hasg⟩ := hv.any X.2
  obtain ⟨kA, comp, k1, k2, k3, -⟩ := (X.2.1.2 2 (Z.d 2, .object "java/lang/Object") rfl).2
  obtain ⟨kE, hkE, -⟩ := Vm.findClass_spec k3
  refine W.aast X.1.1 X.1.2.1 h (fun q h => by cases h) (fun h => by cases h) k1 k2 rfl hkE ⟨h0, by show _ < (arrV _ _ _).slots.size; rw [arrV_size]; exact hlt⟩ g1 (fun q h => by rw [h] at g3; cases g3) hkC (hasg _ k3) rfl rfl hdg fun H1 e z oq => ?_
  refine kk H1 _ ?_ ⟨z, oq, hS.put z oq ha⟩
  show H1[a]? = some (vp_cell _ _)
  rw [e]
  rw [vp_cell_q, vp_cell_q, arrV_store, ← hci]
  congr 2
  funext q
  by_cases hq : q = (zi i).toNatClampNeg
  · subst hq
    simp [updV, va_up, va_rf]
  · simp [updV, va_up, hq]
theorem h_alen (X : hCx own p c cc nL s m args Z) {n : Nat} {f : Nat → Option Nat} (h : oArr Z a n f H) (hn : n < 2147483648) (hdg : decode cc pc = .ok (.arraylength, 1))
    (kk : W p l e R s m args below meth c H locs cells slots Q (F0 m (pc + 1) ls (.int (zi (n : Int)) :: rest))) : W p l e R s m args below meth c H locs cells slots Q (F0 m pc ls (.ref a :: rest)) :=
  va_alen X.1.1 X.1.2.1 X.2.1 (va_one h) 0 2 rfl rfl (v := zi (n : Int)) (by rfl) hdg kk
end LR
/-- a field that a class inherits, named through the heir -/
theorem h_getS {p : Program} {l : Launch} {e : Env} {R : Room} {s : State} {m : MethodId} {args : Array Value} {below : List Frame} {meth : Method} {c : Code} {H : Heap} {locs : List Loc} {cells slots : Nat} {Q : State → Prop} {cc : ByteArray} {pc nL : Nat} {ls : Array Slot} {rest : List Value} {Z : hZ} {own : String} {a idx : Nat} (X : hCx own p c cc nL s m args Z) {ci k : Nat} {fs : List Value} {C C1 nme dsc : String} {v : Value} (h : va_at Z.D tcl (a, .inr (ci, fs)) H) (hf : hCl tcl lw_all ci k C nme dsc) (hl : Cond.fieldLink own idx C1 nme dsc ∈ lw_all) (hs : Cond.sameField C1 C nme dsc ∈ lw_all) (hv : fs[k]? = some v) (hdg : decode cc pc = .ok (.getfield idx, 3))
    (kk : W p l e R s m args below meth c H locs cells slots Q (F0 m (pc + 3) ls (v :: rest))) : W p l e R s m args below meth c H locs cells slots Q (F0 m pc ls (.ref a :: rest)) := by
  obtain ⟨T, N, C0, h1, h2, h3, rfl, rfl, h5⟩ := hf
  exact va_get X.1.1 X.1.2.1 X.1.2.2.2.2 h2 X.1.2.2.2.1 X.2.1 (va_one h) 0 rfl h1 k h3 (X.1.2.2.2.2 _ hl) (fun x hx => by rw [h5] at hx; exact u_same (X.1.2.2.2.2 _ hs) x hx) hv hdg kk
theorem h_putS {p : Program} {l : Launch} {e : Env} {R : Room} {s : State} {m : MethodId} {args : Array Value} {below : List Frame} {meth : Method} {c : Code} {H H0 : Heap} {locs : List Loc} {cells slots : Nat} {Q : State → Prop} {cc : ByteArray} {pc nL : Nat} {ls : Array Slot} {rest : List Value} {Z : hZ} {own : String} {a idx : Nat} {A : Nat → Prop} (X : hCx own p c cc nL s m args Z) (hS0 : va_S A H0 H locs) {ci k : Nat} {fs : List Value} {C C1 nme dsc : String} {v : Value} (h : va_at Z.D tcl (a, .inr (ci, fs)) H) (hf : hPl tcl lw_all ci k C nme dsc v false) (hl : Cond.fieldLink own idx C1 nme dsc ∈ lw_all) (hsm : Cond.sameField C1 C nme dsc ∈ lw_all) (hlen : k < fs.length) (ha : A a) (hdg : decode cc pc = .ok (.putfield idx, 3))
    (kk : ∀ (H1 : Heap) (locs1 : List Loc), va_at Z.D tcl (a, .inr (ci, fs.set k v)) H1 → hq_ A H0 H H1 locs1 a → W p l e R s m args below meth c H1 locs1 cells slots Q (F0 m (pc + 3) ls rest)) : W p l e R s m args below meth c H locs cells slots Q (F0 m pc ls (v :: .ref a :: rest)) := by
  obtain ⟨T, N, C0, ty, h1, h2, h3, rfl, rfl, h5, h6, h7, h8, h9, h10⟩ := hf
  have hap := va_apart (own := own) X.1.2.2.2.2 h2 ty h7 h8 X.2.1 h1
  obtain ⟨r, g1, cell, q1, q2, q3, q4⟩ := h
  have hr : r = (C0, T, N) := Option.some.inj (g1.symm.trans h1)
  subst hr
  obtain ⟨hSl, hfc, kC, hkC, hkind⟩ := X.2.1.1 ci _ h1
  obtain ⟨cf, kf, fi, f, hi, hsl⟩ := hSl k h3
  have hlay := X.1.2.2.2.2 _ (h2 _ (u_in_lay h3))
  unfold u_lay at hlay
  rw [if_neg (by rw [h6]; decide)] at hlay
  have hst := (u_facts hfc hkC (u_lays X.1.2.2.2.2 h2 h3) hi).1
  have hs6 := u_store hfc hkC hkind hlay hi (h7 k h3) h9 h10
  refine W.putK X.1.1 X.1.2.1 (f := f) ⟨X.1.2.2.2.1, X.1.2.2.2.2 _ hl, ⟨_, _, _, u_same (X.1.2.2.2.2 _ hsm) _ (by rw [← h5]; exact hi)⟩, hst⟩ (by rw [q2]; exact hs6) q1 q3 (by rw [hsl]; exact k2_hasslot (q4 k h3)) rfl rfl hdg fun H' e1 e2 e3 => ?_
  rw [hsl] at e1 ⊢
  exact kk H' _ ⟨_, h1, t_OB.to (V := updV (vp_V fs) k v) ⟨_, e1, q2, q3, t_set q4 hap h3 v⟩ (fun j _ => vp_updV_set hlen v j)⟩ ⟨e2, e3, hS0.put e2 e3 ha⟩
theorem af_mod : hCl tcl lw_all 14 0 "java/util/AbstractList" "modCount" "I" := ⟨TJ2, 3, RJ2, rfl, in_J2, by decide, rfl, rfl, rfl⟩
theorem af_ed : hCl tcl lw_all 14 1 "java/util/ArrayList" "elementData" "[Ljava/lang/Object;" := ⟨TJ2, 3, RJ2, rfl, in_J2, by decide, rfl, rfl, rfl⟩
theorem af_size : hCl tcl lw_all 14 2 "java/util/ArrayList" "size" "I" := ⟨TJ2, 3, RJ2, rfl, in_J2, by decide, rfl, rfl, rfl⟩
theorem ap_mod (z : Int) : hPl tcl lw_all 14 0 "java/util/AbstractList" "modCount" "I" (.int (zi z)) false := ⟨TJ2, 3, RJ2, tyJ2, rfl, in_J2, by decide, rfl, rfl, rfl, rfl, tyJ2_ok, nmJ2, rfl, rfl⟩
theorem ap_ed (x : Nat) : hPl tcl lw_all 14 1 "java/util/ArrayList" "elementData" "[Ljava/lang/Object;" (.ref x) false := ⟨TJ2, 3, RJ2, tyJ2, rfl, in_J2, by decide, rfl, rfl, rfl, rfl, tyJ2_ok, nmJ2, rfl, rfl⟩
theorem ap_size (z : Int) : hPl tcl lw_all 14 2 "java/util/ArrayList" "size" "I" (.int (zi z)) false := ⟨TJ2, 3, RJ2, tyJ2, rfl, in_J2, by decide, rfl, rfl, rfl, rfl, tyJ2_ok, nmJ2, rfl, rfl⟩
abbrev fE (a : Nat) : Nat → Prop := fun x => x = a
theorem w_ac0 (l : Launch) (Z : hZ) (a n0 : Nat) : mH l yJ0_init cJ0_init 1 none (rmS 2 40) Z [.ref a] n0 (fun _ => True) (fun v _ => v = none) F0_ 0 0 := by
  refine goHv (by decide +kernel) (Nat.le_of_ble_eq_true rfl) ?_
  intro p e s m args below meth c Q ls X hret hl hP hn hS hnm
  subst hn
  replace hl : lv_has ls 1 [(0, .ref a)] := hl
  refine lv_aload_n X.1.1 X.1.2.1 dJ0_init_0 rfl (lv_at hl 0 rfl) ?_
  refine W.objInit X.1.1 X.1.2.1 X.1.2.2.2.1 (X.1.2.2.2.2 _ q144) (X.1.2.2.2.2 _ q123) (X.1.2.2.2.2 _ q124) rfl (hl.1.trans X.1.2.2.1.symm) rfl dJ0_init_1 (by decide) (Nat.le_of_ble_eq_true rfl) ?_
  exact hret _ _ _ _ dJ0_init_4 rfl hS
theorem w_al0 (l : Launch) (Z : hZ) (a n0 : Nat) (hb : Z.b ≤ a) (v0 v1 v2 : Value) : mH l yJ1_init cJ1_init 1 none (rmS 3 80) Z [.ref a] n0 (va_at Z.D tcl (a, .inr (14, [v0, v1, v2]))) (fun v H => v = none ∧ va_at Z.D tcl (a, .inr (14, [.int (zi 0), v1, v2])) H) (fE a) 0 0 := by
  refine goHv (by decide +kernel) (Nat.le_of_ble_eq_true rfl) ?_
  intro p e s m args below meth c Q ls X hret hl hP hn hS hnm
  subst hn
  have hx := X.1.1
  have hbb := X.1.2.1
  have hts := X.1.2.2.2.2
  replace hl : lv_has ls 1 [(0, .ref a)] := hl
  refine lv_aload_n hx hbb dJ1_init_0 rfl (lv_at hl 0 rfl) ?_
  refine hcI (As := []) (rest := []) (b := a) X hS (fun x h => by rw [h]; exact hb) (w_ac0 l Z a s.heap.size) trivial (fun x h => h.elim) (cwI 0 hts (lw_meth q143) rfl rfl rfl (hts _ q82) (hts _ q141) (hts _ q142) rfl (show hdS yJ0_init 0 by decide +kernel) ⟨by decide, by decide⟩) ⟨rfl, rfl⟩ ⟨by decide, by decide⟩ ⟨Nat.le_refl _, Nat.le_refl _⟩ hl.1 (Nat.le_of_ble_eq_true rfl) dJ1_init_1 rfl (fun v H locs hv hfr hS => ?_)
  subst hv
  have hP := va_at_keep hP (hfr.2 a (va_at_lt hP) (fun h => h))
  refine lv_aload_n hx hbb dJ1_init_4 rfl (lv_at hl 0 rfl) ?_
  refine lv_iconst (v := zi 0) hx hbb dJ1_init_5 rfl ?_
  refine h_put X.1 X.2.1 hS hP (ap_mod 0) q149 (Nat.le_of_ble_eq_true rfl) (Or.inl rfl) dJ1_init_6 (fun H locs hA hq => ?_)
  exact hret _ _ _ _ dJ1_init_9 ⟨rfl, hA⟩ hq.2.2
theorem gS_eD {Z : hZ} {s : State} (h : HE Z s) : va_Z "java/util/ArrayList" "DEFAULTCAPACITY_EMPTY_ELEMENTDATA" "[Ljava/lang/Object;" (.ref Z.G.eD) (gB Z.b) s s.heap ∧ va_T (.object "java/lang/Object") Z.G.eD 0 (fun _ => .null) (gB Z.b) s s.heap := h.2.1.2.2.2.2.2.1
theorem hA_b {Z : hZ} {s : State} {F : Nat → Prop} {H : Heap} {locs : List Loc} (h : HE Z s) (hF : ∀ a, F a → Z.b ≤ a) (hS : va_S (hA F s.heap.size) s.heap H locs) : va_S (gB Z.b) s.heap H locs := hS.mono (fun x hx => hx.elim (hF x) (fun w => Nat.le_trans h.2.2 w))
theorem w_alI (l : Launch) (Z : hZ) (a n0 : Nat) (hb : Z.b ≤ a) (v0 v1 v2 : Value) : mH l yJ2_init cJ2_init 1 none (rmS 4 120) Z [.ref a] n0 (va_at Z.D tcl (a, .inr (14, [v0, v1, v2]))) (fun v H => v = none ∧ va_at Z.D tcl (a, .inr (14, [.int (zi 0), .ref Z.G.eD, v2])) H) (fE a) 0 0 := by
  refine goHv (by decide +kernel) (Nat.le_of_ble_eq_true rfl) ?_
  intro p e s m args below meth c Q ls X hret hl hP hn hS hnm
  subst hn
  have hx := X.1.1
  have hbb := X.1.2.1
  have hts := X.1.2.2.2.2
  have hF : ∀ x, fE a x → Z.b ≤ x := fun x h => by rw [h]; exact hb
  replace hl : lv_has ls 1 [(0, .ref a)] := hl
  refine lv_aload_n hx hbb dJ2_init_0 rfl (lv_at hl 0 rfl) ?_
  refine hcI (As := []) (rest := []) (b := a) X hS hF (w_al0 l Z a s.heap.size hb v0 v1 v2) hP (fun x h => Or.inl h) (cwI 0 hts (lw_meth q140) rfl rfl rfl (hts _ q83) (hts _ q138) (hts _ q139) rfl (show hdS yJ1_init 0 by decide +kernel) ⟨by decide, by decide⟩) ⟨rfl, rfl⟩ ⟨by decide, by decide⟩ ⟨Nat.le_refl _, Nat.le_refl _⟩ hl.1 (Nat.le_of_ble_eq_true rfl) dJ2_init_1 rfl (fun v H locs hv hfr hS => ?_)
  obtain ⟨rfl, hP⟩ := hv
  refine lv_aload_n hx hbb dJ2_init_4 rfl (lv_at hl 0 rfl) ?_
  refine va_gets hx hbb (gS_eD X.2).1 (hA_b X.2 hF hS) X.1.2.2.2.1 (hts _ q145) (fun x h => h) dJ2_init_5 ?_
  refine h_put X.1 X.2.1 hS hP (ap_ed Z.G.eD) q147 (Nat.le_of_ble_eq_true rfl) (Or.inl rfl) dJ2_init_8 (fun H locs hA hq => ?_)
  exact hret _ _ _ _ dJ2_init_11 ⟨rfl, hA⟩ hq.2.2
theorem w_newLen (l : Launch) (c : Int) (g : 10 ≤ c ∧ c < 60000) : ms_i l yJ6_newLength cJ6_newLength 4 (some .int) (rmS 2 80) [.int (zi c), .int (zi 1), .int (zi (c / 2))] (c + c / 2) := by
  refine go_i (by decide +kernel) (Nat.le_of_ble_eq_true rfl) ?_
  intro p e s m args below meth cd Q ls X hret hl hM
  have hx := X.1
  have hb := X.2.1
  replace hl : lv_has ls 4 [(0, .int (zi c)), (1, .int (zi 1)), (2, .int (zi (c / 2)))] := hl
  refine lv_iload_n hx hb dJ6_newLength_0 rfl (lv_at hl 0 rfl) ?_
  refine lv_iload_n hx hb dJ6_newLength_1 rfl (lv_at hl 1 rfl) ?_
  refine lv_iload_n hx hb dJ6_newLength_2 rfl (lv_at hl 2 rfl) ?_
  have hm : Ma_max 1 (c / 2) = some (c / 2) := by
    unfold Ma_max
    rw [gd_pos (by unfold r32; omega)]
    first
      | rw [if_pos (by omega)]
      | rw [if_neg (by omega)]
  refine gc0_i (As := [.int (zi 1), .int (zi (c / 2))]) (rest := [.int (zi c)]) X hM (wMa_max l 1 (c / 2) hm) (lw_S q336 q283 q87 q284) (show hdS yJ3_max 2 by decide +kernel) ⟨rfl, rfl⟩ ⟨by decide, by decide⟩ ⟨Nat.le_refl _, Nat.le_refl _⟩ hl.1 (Nat.le_of_ble_eq_true rfl) dJ6_newLength_3 rfl (fun H locs hM => ?_)
  refine g_iadd hx hb dJ6_newLength_6 ?_
  refine lv_istore_n (lv' := [(3, .int (zi (c + c / 2))), (0, .int (zi c)), (1, .int (zi 1)), (2, .int (zi (c / 2)))]) hx hb dJ6_newLength_7 rfl hl (by decide) rfl (fun ls hl => ?_)
  refine lv_iconst (v := zi 0) hx hb dJ6_newLength_8 rfl ?_
  refine lv_iload_n hx hb dJ6_newLength_9 rfl (lv_at hl 0 rfl) ?_
  refine g_icmp_ge (tgt := 21) hx hb (show r32 0 ∧ r32 (c + c / 2) by unfold r32; omega) dJ6_newLength_10 (by decide) (fun c1 => ?_) (fun c1 => absurd c1 (by omega))
  refine lv_iload_n hx hb dJ6_newLength_13 rfl (lv_at hl 0 rfl) ?_
  refine g_ldc (v := 2147483639) (z := 2147483639) hx hb (by decide) X.2.2.2.1 (X.2.2.2.2 _ q337) dJ6_newLength_14 ?_
  refine g_icmp_gt (tgt := 21) hx hb (show r32 (c + c / 2) ∧ r32 2147483639 by unfold r32; omega) dJ6_newLength_16 (by decide) (fun c2 => ?_) (fun c2 => absurd c2 (by omega))
  refine lv_iload_n hx hb dJ6_newLength_19 rfl (lv_at hl 0 rfl) ?_
  exact hret _ _ _ _ _ rfl dJ6_newLength_20 hM
theorem gS_mi {Z : hZ} {s : State} (h : HE Z s) : va_Mi "[Ljava/lang/Object;" Z.G.mi s := h.2.1.2.2.2.2.2.2.2.2.1
theorem oA_cls {Z : hZ} {s : State} (h : HE Z s) : s.vm.findClass "[Ljava/lang/Object;" = some (Z.d 2) := by
  obtain ⟨-, kA', comp', k1, k2, k3, k4⟩ := h.1.2 2 (Z.d 2, .object "java/lang/Object") rfl
  exact k4
def cpF (f : Nat → Option Nat) (c : Nat) : Nat → Option Nat := fun j => if j < c then f j else none
set_option maxHeartbeats 1000000 in
theorem w_copy2 (l : Launch) (Z : hZ) (ed c : Nat) (n : Int) (f : Nat → Option Nat) (hb : Z.b ≤ ed) (g : (c : Int) ≤ n ∧ n < 100000) (n0 : Nat) : mH l yJ7_copyOf_2 cJ7_copyOf_2 4 (some (.array (.object "java/lang/Object"))) ({ frames := 3, cells := 1, slots := n.toNat, locals := 120 } : Room) Z [.ref ed, .int (zi n), .ref Z.G.mi] n0 (fun H => oArr Z ed c f H ∧ ∀ j y, j < c → f j = some y → oAny Z H y) (fun v H => v = some (.ref n0) ∧ oArr Z n0 n.toNat (cpF f c) H ∧ oArr Z ed c f H) (fE ed) 1 n.toNat := by
  refine goHr (by decide +kernel) (Nat.le_of_ble_eq_true rfl) (Or.inr ⟨_, rfl⟩) ?_
  intro p e s m args below meth cd Q ls X hret hl hP hn hS hnm
  subst hn
  have hx := X.1.1
  have hbb := X.1.2.1
  have hts := X.1.2.2.2.2
  have hown := X.1.2.2.2.1
  replace hl : lv_has ls 4 [(0, .ref ed), (1, .int (zi n)), (2, .ref Z.G.mi)] := hl
  refine lv_aload_n hx hbb dJ7_copyOf_2_0 rfl (lv_at hl 2 rfl) ?_
  refine va_ldcM hx hbb hown (hts _ q372) (gS_mi X.2) dJ7_copyOf_2_1 ?_
  refine lv_acmp_ne (rx := some Z.G.mi) (ry := some Z.G.mi) (tgt := 13) hx hbb dJ7_copyOf_2_3 (by decide) (fun c1 => absurd rfl c1) (fun c1 => ?_)
  refine lv_iload_n hx hbb dJ7_copyOf_2_6 rfl (lv_at hl 1 rfl) ?_
  refine h_newq X hS (show 0 ≤ n ∧ n < 100000 by omega) q374 (Nat.le_refl _) (by show 0 + n.toNat ≤ n.toNat; omega) dJ7_copyOf_2_7 (fun H1 hN z1 o1 hS => ?_)
  refine lv_goto (tgt := 24) hx hbb dJ7_copyOf_2_10 (by decide) ?_
  refine lv_astore_n (lv' := [(3, .ref s.heap.size), (0, .ref ed), (1, .int (zi n)), (2, .ref Z.G.mi)]) hx hbb dJ7_copyOf_2_24 rfl hl (by decide) rfl (fun ls hl => ?_)
  have hlt := va_at_lt hP.1
  have hE1 : oArr Z ed c f H1 := va_at_keep hP.1 (o1 ed hlt)
  refine lv_aload_n hx hbb dJ7_copyOf_2_25 rfl (lv_at hl 1 rfl) ?_
  refine lv_iconst (v := zi 0) hx hbb dJ7_copyOf_2_26 rfl ?_
  refine lv_aload_n hx hbb dJ7_copyOf_2_27 rfl (lv_at hl 0 rfl) ?_
  refine lv_iconst (v := zi 0) hx hbb dJ7_copyOf_2_28 rfl ?_
  refine lv_aload_n hx hbb dJ7_copyOf_2_29 rfl (lv_at hl 1 rfl) ?_
  refine h_alen X hE1 (by omega) dJ7_copyOf_2_30 ?_
  refine lv_iload_n hx hbb dJ7_copyOf_2_31 rfl (lv_at hl 2 rfl) ?_
  have hm : Ma_min (c : Int) n = some (c : Int) := by
    unfold Ma_min
    rw [gd_pos (by unfold r32; omega), if_pos g.1]
  refine gcs_i (As := [.int (zi (c : Int)), .int (zi n)]) (rest := [.int (zi 0), .ref s.heap.size, .int (zi 0), .ref ed]) X.1 hS (wMa_min l (c : Int) n hm) (lw_S q375 q280 q87 q281) (show hdS yJ3_min 2 by decide +kernel) ⟨rfl, rfl⟩ ⟨Nat.le_of_ble_eq_true rfl, Nat.le_of_ble_eq_true rfl⟩ ⟨Nat.le_refl _, by show 0 + n.toNat ≤ n.toNat; omega⟩ hl.1 (Nat.le_of_ble_eq_true rfl) dJ7_copyOf_2_32 rfl (fun H2 locs2 hk hS => ?_)
  have hE2 : oArr Z ed c f H2 := va_at_keep hE1 (hk ed (by omega))
  have hN2 : oArr Z s.heap.size n.toNat (fun _ => none) H2 := va_at_keep hN (hk s.heap.size (by omega))
  have hc0 : (zi (c : Int)).toNatClampNeg = c := by rw [zi_cl ⟨by omega, by omega⟩]; omega
  have hz0 : (zi 0).toNatClampNeg = 0 := by decide
  have hP2 : va_P Z.D tcl [(ed, .inl (Z.d 2, c, .inr (.inr (.inr (.inr f))))), (s.heap.size, .inl (Z.d 2, n.toNat, .inr (.inr (.inr (.inr (fun _ => none))))))] H2 := by
    intro k x hx
    have hz : k < 2 := (List.getElem?_eq_some_iff.mp hx).1
    have : k = 0 ∨ k = 1 := by omega
    rcases this with rfl | rfl <;> cases hx
    · exact hE2
    · exact hN2
  have hD2 : va_D (hA (fE ed) s.heap.size) [(ed, .inl (Z.d 2, c, .inr (.inr (.inr (.inr f))))), (s.heap.size, (.inl (Z.d 2, n.toNat, .inr (.inr (.inr (.inr (fun _ => none))))) : va_E))] := by
    refine ⟨fun i j x y hi hj hxy => ?_, fun k x hx => ?_⟩
    · have h1 : i < 2 := (List.getElem?_eq_some_iff.mp hi).1
      have h2 : j < 2 := (List.getElem?_eq_some_iff.mp hj).1
      have h3 : i = 0 ∨ i = 1 := by omega
      have h4 : j = 0 ∨ j = 1 := by omega
      rcases h3 with rfl | rfl <;> rcases h4 with rfl | rfl <;> first | rfl | (cases hi; cases hj; exact absurd hxy (by show ¬ (_ : Nat) = _; omega))
    · have h1 : k < 2 := (List.getElem?_eq_some_iff.mp hx).1
      have h3 : k = 0 ∨ k = 1 := by omega
      rcases h3 with rfl | rfl <;> cases hx
      · exact Or.inl rfl
      · exact Or.inr (Nat.le_refl _)
  refine va_copyM (rest := []) hx hbb (X.1.2.2.1.trans hl.1.symm) hown (hts _ q376) (hts _ q291) (hts _ q290) (hts _ q88) X.2.1 hP2 hD2 hS 0 1 2 2 rfl rfl rfl rfl (by decide) (by decide) (fun h => (zi_in (n := 100001) (i := (c : Int)) ⟨by omega, by omega⟩ (by decide)) (Or.inl h)) (by rw [hz0, hc0]; omega) (by rw [hz0, hc0]; omega) (fun i hi y hy => ?_) (Nat.le_of_ble_eq_true rfl) (Nat.le_of_ble_eq_true rfl) dJ7_copyOf_2_35 (fun H3 locs3 hP3 _ hS => ?_)
  · rw [hz0] at hy
    rw [hc0] at hi
    have ha := hP.2 i y hi (by rw [Nat.zero_add] at hy; exact hy)
    exact ((ha.keep (o1 y ha.lt)).keep (hk y (by have := ha.lt; omega))).any X.2
  · refine lv_aload_n hx hbb dJ7_copyOf_2_38 rfl (lv_at hl 0 rfl) ?_
    refine W.widen (k := 1) (n := n.toNat) (Nat.le_refl _) (by omega) ?_
    have h0 := hP3 0 _ rfl
    have h1 := hP3 1 _ rfl
    rw [hz0, hc0] at h1
    have e1 : va_cpy f (fun _ => none) 0 0 c = cpF f c := by
      funext k
      unfold va_cpy cpF
      by_cases hk : k < c
      · rw [if_pos ⟨Nat.zero_le _, by omega⟩, if_pos hk]
        congr 1; omega
      · rw [if_neg (by omega), if_neg hk]
    rw [e1] at h1
    exact hret _ _ _ _ _ dJ7_copyOf_2_39 ⟨rfl, h1, h0⟩ hS
