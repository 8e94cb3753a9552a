/-! records and clauses: their constructors, and how Tokens makes them -/
set_option maxRecDepth 100000
theorem w_rec0 (l : Launch) (Z : hZ) (a n0 : Nat) : mH l yJ13_init cJ13_init 1 none (rmS 2 40) Z [.ref a] n0 (fun _ => True) (fun v _ => v = none) F0_ 0 0 := by
  refine goHv (by decide +kernel) (Nat.le_of_ble_eq_true rfl) ?_
  intro p e s m args below meth c Q ls X hret hl hP hn hS hnm
  subst hn
  replace hl : lv_has ls 1 [(0, .ref a)] := hl
  refine lv_aload_n X.1.1 X.1.2.1 dJ13_init_0 rfl (lv_at hl 0 rfl) ?_
  refine W.objInit X.1.1 X.1.2.1 X.1.2.2.2.1 (X.1.2.2.2.2 _ q769) (X.1.2.2.2.2 _ q123) (X.1.2.2.2.2 _ q124) rfl (hl.1.trans X.1.2.2.1.symm) rfl dJ13_init_1 (by decide) (Nat.le_of_ble_eq_true rfl) ?_
  exact hret _ _ _ _ dJ13_init_4 rfl hS
theorem in_X15 : ∀ w ∈ u_ws RX15 TX15 0, w ∈ lw_all := fun w h => by simp [u_ws] at h
theorem np_X8_0 (z : Int) : hPl tcl lw_all 2 0 "ManyEyes$Clause" "sort" "I" (.int (zi z)) true := ⟨TX8, 4, RX8, tyX8, rfl, in_X8, by decide, rfl, rfl, rfl, rfl, tyX8_ok, nmX8, rfl, rfl⟩
theorem w_cX8 (l : Launch) (Z : hZ) (a : Nat) (hb : Z.b ≤ a) (x1 : Int) (n0 : Nat) : mH l yX8_init cX8_init 2 none (rmS 3 100) Z [.ref a, .int (zi x1)] n0 (va_at Z.D tcl (a, .inr (2, [.int 0, .int 0, .null, .null]))) (fun v H => v = none ∧ va_at Z.D tcl (a, .inr (2, [.int (zi x1), .int 0, .null, .null])) H) (fE a) 0 0 := by
  refine goHv (by decide +kernel) (Nat.le_of_ble_eq_true rfl) ?_
  intro p e s m args below meth c Q ls X hret hl hP hn hS hnm
  subst hn
  have hx := X.1.1
  have hbb := X.1.2.1
  have hts := X.1.2.2.2.2
  replace hl : lv_has ls 2 [(0, .ref a), (1, .int (zi x1))] := hl
  refine lv_aload_n hx hbb dX8_init_0 rfl (lv_at hl 0 rfl) ?_
  refine W.objInit hx hbb X.1.2.2.2.1 (hts _ q722) (hts _ q123) (hts _ q124) rfl (hl.1.trans X.1.2.2.1.symm) rfl dX8_init_1 (by decide) (Nat.le_of_ble_eq_true rfl) ?_
  refine lv_aload_n hx hbb dX8_init_4 rfl (lv_at hl 0 rfl) ?_
  refine lv_iload_n hx hbb dX8_init_5 rfl (lv_at hl 1 rfl) ?_
  refine h_putF X.1 X.2.1 hS hP (np_X8_0 x1) hnm q723 (Nat.le_of_ble_eq_true rfl) (Or.inl rfl) dX8_init_6 (fun H locs hP hq => ?_)
  exact hret _ _ _ _ dX8_init_9 ⟨rfl, hP⟩ hq.2.2
section NX8
variable {p : Program} {l : Launch} {e : Env} {R : Room} {s : State} {m : MethodId} {args : Array Value} {below : List Frame} {meth : Method} {c : Code} {H : Heap} {locs : List Loc} {cells slots : Nat} {Q : State → Prop} {cc : ByteArray} {pc nL : Nat} {ls : Array Slot} {rest : List Value} {Z : hZ} {F : Nat → Prop} {a : Nat}
theorem nw_X8 (X : hCx "ManyEyes$Tokens" p c cc nL s m args Z) (hS : va_S (hA F s.heap.size) s.heap H locs) (hcells : cells + 1 ≤ R.cells) (hslots : slots + 4 ≤ R.slots) (hdg : decode cc pc = .ok (.new 92, 3))
    (kk : ∀ (H1 : Heap), va_at Z.D tcl (H.size, .inr (2, [.int 0, .int 0, .null, .null])) H1 → H1.size = H.size + 1 → (∀ q, q < H.size → H1[q]? = H[q]?) → va_S (hA F s.heap.size) s.heap H1 locs → W p l e R s m args below meth c H1 locs (cells + 1) (slots + 4) Q (F0 m (pc + 3) ls (.ref H.size :: rest))) : W p l e R s m args below meth c H locs cells slots Q (F0 m pc ls rest) :=
  h_new X.1 X.2.1 hS (fun q h => Or.inr h) (ci := 2) rfl in_X8 tyX8 tyX8_ok q717 q718 q101 (fun k hk => by
    have hh : k = 0 ∨ k = 1 ∨ k = 2 ∨ k = 3 := by omega
    rcases hh with rfl | rfl | rfl | rfl <;> rfl) hcells hslots hdg kk
theorem ni_X8 (X : hCx "ManyEyes$Tokens" p c cc nL s m args Z) (hS : va_S (hA F s.heap.size) s.heap H locs) (hF : ∀ a, F a → Z.b ≤ a) (hb : Z.b ≤ a) {x1 : Int} (hP : va_at Z.D tcl (a, .inr (2, [.int 0, .int 0, .null, .null])) H) (ha : hA F s.heap.size a) (hR : 4 ≤ R.frames ∧ 130 ≤ R.locals) (hcs : cells ≤ R.cells ∧ slots ≤ R.slots) (hls : ls.size = nL) (hro : (rest.map fun v => v.category).sum ≤ 8) (hdg : decode cc pc = .ok (.invokespecial 94, 3))
    (kk : ∀ (H1 : Heap) (locs1 : List Loc), va_at Z.D tcl (a, .inr (2, [.int (zi x1), .int 0, .null, .null])) H1 → hFr (fE a) H H1 → va_S (hA F s.heap.size) s.heap H1 locs1 → W p l e R s m args below meth c H1 locs1 cells slots Q (F0 m (pc + 3) ls rest)) : W p l e R s m args below meth c H locs cells slots Q (F0 m pc ls (.int (zi x1) :: .ref a :: rest)) := by
  refine hcI (As := [.int (zi x1)]) (b := a) X hS hF (w_cX8 l Z a hb x1 H.size) hP (fun x h => by rw [h]; exact ha) (cwI 1 X.1.2.2.2.2 (lw_meth q721) rfl rfl rfl (X.1.2.2.2.2 _ q101) (X.1.2.2.2.2 _ q719) (X.1.2.2.2.2 _ q720) rfl (show hdS yX8_init 1 by decide +kernel) ⟨hR.1, by show 8 + (2 + 11) + 100 ≤ R.locals; have := hR.2; omega⟩) ⟨rfl, rfl⟩ ⟨hR.1, by show 8 + (2 + 11) + 100 ≤ R.locals; have := hR.2; omega⟩ hcs hls hro hdg rfl (fun v H1 locs1 hv hfr hS => ?_)
  obtain ⟨rfl, h1⟩ := hv
  exact kk H1 locs1 h1 hfr hS
end NX8
theorem np_X9_0 (z : Nat) : hPl tcl lw_all 3 0 "ManyEyes$Not" "x" "LManyEyes$Asked;" (.ref z) true := ⟨TX9, 1, RX9, tyX9, rfl, in_X9, by decide, rfl, rfl, rfl, rfl, tyX9_ok, nmX9, rfl, rfl⟩
theorem w_cX9 (l : Launch) (Z : hZ) (a : Nat) (hb : Z.b ≤ a) (x1 : Nat) (n0 : Nat) : mH l yX9_init cX9_init 2 none (rmS 3 100) Z [.ref a, .ref x1] n0 (va_at Z.D tcl (a, .inr (3, [.null]))) (fun v H => v = none ∧ va_at Z.D tcl (a, .inr (3, [.ref x1])) H) (fE a) 0 0 := by
  refine goHv (by decide +kernel) (Nat.le_of_ble_eq_true rfl) ?_
  intro p e s m args below meth c Q ls X hret hl hP hn hS hnm
  subst hn
  have hx := X.1.1
  have hbb := X.1.2.1
  have hts := X.1.2.2.2.2
  replace hl : lv_has ls 2 [(0, .ref a), (1, .ref x1)] := hl
  refine lv_aload_n hx hbb dX9_init_0 rfl (lv_at hl 0 rfl) ?_
  refine hcI (As := []) (rest := []) (b := a) X hS (fun x h => by rw [h]; exact hb) (w_rec0 l Z a s.heap.size) trivial (fun x h => h.elim) (cwI 0 hts (lw_meth q768) rfl rfl rfl (hts _ q102) (hts _ q766) (hts _ q767) rfl (show hdS yJ13_init 0 by decide +kernel) ⟨by decide, by decide⟩) ⟨rfl, rfl⟩ ⟨by decide, by decide⟩ ⟨Nat.le_refl _, Nat.le_refl _⟩ hl.1 (Nat.le_of_ble_eq_true rfl) dX9_init_1 rfl (fun v H locs hv hfr hS => ?_)
  subst hv
  have hP := va_at_keep hP (hfr.2 a (va_at_lt hP) (fun h => h))
  refine lv_aload_n hx hbb dX9_init_4 rfl (lv_at hl 0 rfl) ?_
  refine lv_aload_n hx hbb dX9_init_5 rfl (lv_at hl 1 rfl) ?_
  refine h_putF X.1 X.2.1 hS hP (np_X9_0 x1) hnm q770 (Nat.le_of_ble_eq_true rfl) (Or.inl rfl) dX9_init_6 (fun H locs hP hq => ?_)
  exact hret _ _ _ _ dX9_init_9 ⟨rfl, hP⟩ hq.2.2
section NX9
variable {p : Program} {l : Launch} {e : Env} {R : Room} {s : State} {m : MethodId} {args : Array Value} {below : List Frame} {meth : Method} {c : Code} {H : Heap} {locs : List Loc} {cells slots : Nat} {Q : State → Prop} {cc : ByteArray} {pc nL : Nat} {ls : Array Slot} {rest : List Value} {Z : hZ} {F : Nat → Prop} {a : Nat}
theorem nw_X9 (X : hCx "ManyEyes$Tokens" p c cc nL s m args Z) (hS : va_S (hA F s.heap.size) s.heap H locs) (hcells : cells + 1 ≤ R.cells) (hslots : slots + 1 ≤ R.slots) (hdg : decode cc pc = .ok (.new 145, 3))
    (kk : ∀ (H1 : Heap), va_at Z.D tcl (H.size, .inr (3, [.null])) H1 → H1.size = H.size + 1 → (∀ q, q < H.size → H1[q]? = H[q]?) → va_S (hA F s.heap.size) s.heap H1 locs → W p l e R s m args below meth c H1 locs (cells + 1) (slots + 1) Q (F0 m (pc + 3) ls (.ref H.size :: rest))) : W p l e R s m args below meth c H locs cells slots Q (F0 m pc ls rest) :=
  h_new X.1 X.2.1 hS (fun q h => Or.inr h) (ci := 3) rfl in_X9 tyX9 tyX9_ok q761 q762 q103 (fun k hk => by
    have hh : k = 0 := by omega
    subst hh; rfl) hcells hslots hdg kk
theorem ni_X9 (X : hCx "ManyEyes$Tokens" p c cc nL s m args Z) (hS : va_S (hA F s.heap.size) s.heap H locs) (hF : ∀ a, F a → Z.b ≤ a) (hb : Z.b ≤ a) {x1 : Nat} (hP : va_at Z.D tcl (a, .inr (3, [.null])) H) (ha : hA F s.heap.size a) (hR : 4 ≤ R.frames ∧ 130 ≤ R.locals) (hcs : cells ≤ R.cells ∧ slots ≤ R.slots) (hls : ls.size = nL) (hro : (rest.map fun v => v.category).sum ≤ 8) (hdg : decode cc pc = .ok (.invokespecial 147, 3))
    (kk : ∀ (H1 : Heap) (locs1 : List Loc), va_at Z.D tcl (a, .inr (3, [.ref x1])) H1 → hFr (fE a) H H1 → va_S (hA F s.heap.size) s.heap H1 locs1 → W p l e R s m args below meth c H1 locs1 cells slots Q (F0 m (pc + 3) ls rest)) : W p l e R s m args below meth c H locs cells slots Q (F0 m pc ls (.ref x1 :: .ref a :: rest)) := by
  refine hcIN (As := [.ref x1]) (b := a) X hS hF (w_cX9 l Z a hb x1 H.size) hP (fun x h => by rw [h]; exact ha) (lw_meth q765) (X.2.2.1.NW _ q763 rfl) q103 rfl q764 (show hdS yX9_init 1 by decide +kernel) ⟨rfl, rfl⟩ ⟨hR.1, by show 8 + (2 + 11) + 100 ≤ R.locals; have := hR.2; omega⟩ hcs hls hro hdg rfl (fun v H1 locs1 hv hfr hS => ?_)
  obtain ⟨rfl, h1⟩ := hv
  exact kk H1 locs1 h1 hfr hS
end NX9
theorem np_X11_0 (z : Int) : hPl tcl lw_all 5 0 "ManyEyes$Plain" "v" "I" (.int (zi z)) true := ⟨TX11, 1, RX11, tyX11, rfl, in_X11, by decide, rfl, rfl, rfl, rfl, tyX11_ok, nmX11, rfl, rfl⟩
theorem w_cX11 (l : Launch) (Z : hZ) (a : Nat) (hb : Z.b ≤ a) (x1 : Int) (n0 : Nat) : mH l yX11_init cX11_init 2 none (rmS 3 100) Z [.ref a, .int (zi x1)] n0 (va_at Z.D tcl (a, .inr (5, [.int 0]))) (fun v H => v = none ∧ va_at Z.D tcl (a, .inr (5, [.int (zi x1)])) H) (fE a) 0 0 := by
  refine goHv (by decide +kernel) (Nat.le_of_ble_eq_true rfl) ?_
  intro p e s m args below meth c Q ls X hret hl hP hn hS hnm
  subst hn
  have hx := X.1.1
  have hbb := X.1.2.1
  have hts := X.1.2.2.2.2
  replace hl : lv_has ls 2 [(0, .ref a), (1, .int (zi x1))] := hl
  refine lv_aload_n hx hbb dX11_init_0 rfl (lv_at hl 0 rfl) ?_
  refine hcI (As := []) (rest := []) (b := a) X hS (fun x h => by rw [h]; exact hb) (w_rec0 l Z a s.heap.size) trivial (fun x h => h.elim) (cwI 0 hts (lw_meth q768) rfl rfl rfl (hts _ q102) (hts _ q797) (hts _ q767) rfl (show hdS yJ13_init 0 by decide +kernel) ⟨by decide, by decide⟩) ⟨rfl, rfl⟩ ⟨by decide, by decide⟩ ⟨Nat.le_refl _, Nat.le_refl _⟩ hl.1 (Nat.le_of_ble_eq_true rfl) dX11_init_1 rfl (fun v H locs hv hfr hS => ?_)
  subst hv
  have hP := va_at_keep hP (hfr.2 a (va_at_lt hP) (fun h => h))
  refine lv_aload_n hx hbb dX11_init_4 rfl (lv_at hl 0 rfl) ?_
  refine lv_iload_n hx hbb dX11_init_5 rfl (lv_at hl 1 rfl) ?_
  refine h_putF X.1 X.2.1 hS hP (np_X11_0 x1) hnm q798 (Nat.le_of_ble_eq_true rfl) (Or.inl rfl) dX11_init_6 (fun H locs hP hq => ?_)
  exact hret _ _ _ _ dX11_init_9 ⟨rfl, hP⟩ hq.2.2
section NX11
variable {p : Program} {l : Launch} {e : Env} {R : Room} {s : State} {m : MethodId} {args : Array Value} {below : List Frame} {meth : Method} {c : Code} {H : Heap} {locs : List Loc} {cells slots : Nat} {Q : State → Prop} {cc : ByteArray} {pc nL : Nat} {ls : Array Slot} {rest : List Value} {Z : hZ} {F : Nat → Prop} {a : Nat}
theorem nw_X11 (X : hCx "ManyEyes$Tokens" p c cc nL s m args Z) (hS : va_S (hA F s.heap.size) s.heap H locs) (hcells : cells + 1 ≤ R.cells) (hslots : slots + 1 ≤ R.slots) (hdg : decode cc pc = .ok (.new 172, 3))
    (kk : ∀ (H1 : Heap), va_at Z.D tcl (H.size, .inr (5, [.int 0])) H1 → H1.size = H.size + 1 → (∀ q, q < H.size → H1[q]? = H[q]?) → va_S (hA F s.heap.size) s.heap H1 locs → W p l e R s m args below meth c H1 locs (cells + 1) (slots + 1) Q (F0 m (pc + 3) ls (.ref H.size :: rest))) : W p l e R s m args below meth c H locs cells slots Q (F0 m pc ls rest) :=
  h_new X.1 X.2.1 hS (fun q h => Or.inr h) (ci := 5) rfl in_X11 tyX11 tyX11_ok q788 q789 q105 (fun k hk => by
    have hh : k = 0 := by omega
    subst hh; rfl) hcells hslots hdg kk
theorem ni_X11 (X : hCx "ManyEyes$Tokens" p c cc nL s m args Z) (hS : va_S (hA F s.heap.size) s.heap H locs) (hF : ∀ a, F a → Z.b ≤ a) (hb : Z.b ≤ a) {x1 : Int} (hP : va_at Z.D tcl (a, .inr (5, [.int 0])) H) (ha : hA F s.heap.size a) (hR : 4 ≤ R.frames ∧ 130 ≤ R.locals) (hcs : cells ≤ R.cells ∧ slots ≤ R.slots) (hls : ls.size = nL) (hro : (rest.map fun v => v.category).sum ≤ 8) (hdg : decode cc pc = .ok (.invokespecial 176, 3))
    (kk : ∀ (H1 : Heap) (locs1 : List Loc), va_at Z.D tcl (a, .inr (5, [.int (zi x1)])) H1 → hFr (fE a) H H1 → va_S (hA F s.heap.size) s.heap H1 locs1 → W p l e R s m args below meth c H1 locs1 cells slots Q (F0 m (pc + 3) ls rest)) : W p l e R s m args below meth c H locs cells slots Q (F0 m pc ls (.int (zi x1) :: .ref a :: rest)) := by
  refine hcIN (As := [.int (zi x1)]) (b := a) X hS hF (w_cX11 l Z a hb x1 H.size) hP (fun x h => by rw [h]; exact ha) (lw_meth q796) (X.2.2.1.NW _ q794 rfl) q105 rfl q795 (show hdS yX11_init 1 by decide +kernel) ⟨rfl, rfl⟩ ⟨hR.1, by show 8 + (2 + 11) + 100 ≤ R.locals; have := hR.2; omega⟩ hcs hls hro hdg rfl (fun v H1 locs1 hv hfr hS => ?_)
  obtain ⟨rfl, h1⟩ := hv
  exact kk H1 locs1 h1 hfr hS
end NX11
theorem np_X12_0 (z : Int) : hPl tcl lw_all 6 0 "ManyEyes$Letter" "k" "I" (.int (zi z)) true := ⟨TX12, 1, RX12, tyX12, rfl, in_X12, by decide, rfl, rfl, rfl, rfl, tyX12_ok, nmX12, rfl, rfl⟩
theorem w_cX12 (l : Launch) (Z : hZ) (a : Nat) (hb : Z.b ≤ a) (x1 : Int) (n0 : Nat) : mH l yX12_init cX12_init 2 none (rmS 3 100) Z [.ref a, .int (zi x1)] n0 (va_at Z.D tcl (a, .inr (6, [.int 0]))) (fun v H => v = none ∧ va_at Z.D tcl (a, .inr (6, [.int (zi x1)])) H) (fE a) 0 0 := by
  refine goHv (by decide +kernel) (Nat.le_of_ble_eq_true rfl) ?_
  intro p e s m args below meth c Q ls X hret hl hP hn hS hnm
  subst hn
  have hx := X.1.1
  have hbb := X.1.2.1
  have hts := X.1.2.2.2.2
  replace hl : lv_has ls 2 [(0, .ref a), (1, .int (zi x1))] := hl
  refine lv_aload_n hx hbb dX12_init_0 rfl (lv_at hl 0 rfl) ?_
  refine hcI (As := []) (rest := []) (b := a) X hS (fun x h => by rw [h]; exact hb) (w_rec0 l Z a s.heap.size) trivial (fun x h => h.elim) (cwI 0 hts (lw_meth q768) rfl rfl rfl (hts _ q102) (hts _ q807) (hts _ q767) rfl (show hdS yJ13_init 0 by decide +kernel) ⟨by decide, by decide⟩) ⟨rfl, rfl⟩ ⟨by decide, by decide⟩ ⟨Nat.le_refl _, Nat.le_refl _⟩ hl.1 (Nat.le_of_ble_eq_true rfl) dX12_init_1 rfl (fun v H locs hv hfr hS => ?_)
  subst hv
  have hP := va_at_keep hP (hfr.2 a (va_at_lt hP) (fun h => h))
  refine lv_aload_n hx hbb dX12_init_4 rfl (lv_at hl 0 rfl) ?_
  refine lv_iload_n hx hbb dX12_init_5 rfl (lv_at hl 1 rfl) ?_
  refine h_putF X.1 X.2.1 hS hP (np_X12_0 x1) hnm q808 (Nat.le_of_ble_eq_true rfl) (Or.inl rfl) dX12_init_6 (fun H locs hP hq => ?_)
  exact hret _ _ _ _ dX12_init_9 ⟨rfl, hP⟩ hq.2.2
section NX12
variable {p : Program} {l : Launch} {e : Env} {R : Room} {s : State} {m : MethodId} {args : Array Value} {below : List Frame} {meth : Method} {c : Code} {H : Heap} {locs : List Loc} {cells slots : Nat} {Q : State → Prop} {cc : ByteArray} {pc nL : Nat} {ls : Array Slot} {rest : List Value} {Z : hZ} {F : Nat → Prop} {a : Nat}
theorem nw_X12 (X : hCx "ManyEyes$Tokens" p c cc nL s m args Z) (hS : va_S (hA F s.heap.size) s.heap H locs) (hcells : cells + 1 ≤ R.cells) (hslots : slots + 1 ≤ R.slots) (hdg : decode cc pc = .ok (.new 177, 3))
    (kk : ∀ (H1 : Heap), va_at Z.D tcl (H.size, .inr (6, [.int 0])) H1 → H1.size = H.size + 1 → (∀ q, q < H.size → H1[q]? = H[q]?) → va_S (hA F s.heap.size) s.heap H1 locs → W p l e R s m args below meth c H1 locs (cells + 1) (slots + 1) Q (F0 m (pc + 3) ls (.ref H.size :: rest))) : W p l e R s m args below meth c H locs cells slots Q (F0 m pc ls rest) :=
  h_new X.1 X.2.1 hS (fun q h => Or.inr h) (ci := 6) rfl in_X12 tyX12 tyX12_ok q802 q803 q106 (fun k hk => by
    have hh : k = 0 := by omega
    subst hh; rfl) hcells hslots hdg kk
theorem ni_X12 (X : hCx "ManyEyes$Tokens" p c cc nL s m args Z) (hS : va_S (hA F s.heap.size) s.heap H locs) (hF : ∀ a, F a → Z.b ≤ a) (hb : Z.b ≤ a) {x1 : Int} (hP : va_at Z.D tcl (a, .inr (6, [.int 0])) H) (ha : hA F s.heap.size a) (hR : 4 ≤ R.frames ∧ 130 ≤ R.locals) (hcs : cells ≤ R.cells ∧ slots ≤ R.slots) (hls : ls.size = nL) (hro : (rest.map fun v => v.category).sum ≤ 8) (hdg : decode cc pc = .ok (.invokespecial 179, 3))
    (kk : ∀ (H1 : Heap) (locs1 : List Loc), va_at Z.D tcl (a, .inr (6, [.int (zi x1)])) H1 → hFr (fE a) H H1 → va_S (hA F s.heap.size) s.heap H1 locs1 → W p l e R s m args below meth c H1 locs1 cells slots Q (F0 m (pc + 3) ls rest)) : W p l e R s m args below meth c H locs cells slots Q (F0 m pc ls (.int (zi x1) :: .ref a :: rest)) := by
  refine hcIN (As := [.int (zi x1)]) (b := a) X hS hF (w_cX12 l Z a hb x1 H.size) hP (fun x h => by rw [h]; exact ha) (lw_meth q806) (X.2.2.1.NW _ q804 rfl) q106 rfl q805 (show hdS yX12_init 1 by decide +kernel) ⟨rfl, rfl⟩ ⟨hR.1, by show 8 + (2 + 11) + 100 ≤ R.locals; have := hR.2; omega⟩ hcs hls hro hdg rfl (fun v H1 locs1 hv hfr hS => ?_)
  obtain ⟨rfl, h1⟩ := hv
  exact kk H1 locs1 h1 hfr hS
end NX12
theorem np_X13_0 (z : Int) : hPl tcl lw_all 7 0 "ManyEyes$Lens" "k" "I" (.int (zi z)) true := ⟨TX13, 1, RX13, tyX13, rfl, in_X13, by decide, rfl, rfl, rfl, rfl, tyX13_ok, nmX13, rfl, rfl⟩
theorem w_cX13 (l : Launch) (Z : hZ) (a : Nat) (hb : Z.b ≤ a) (x1 : Int) (n0 : Nat) : mH l yX13_init cX13_init 2 none (rmS 3 100) Z [.ref a, .int (zi x1)] n0 (va_at Z.D tcl (a, .inr (7, [.int 0]))) (fun v H => v = none ∧ va_at Z.D tcl (a, .inr (7, [.int (zi x1)])) H) (fE a) 0 0 := by
  refine goHv (by decide +kernel) (Nat.le_of_ble_eq_true rfl) ?_
  intro p e s m args below meth c Q ls X hret hl hP hn hS hnm
  subst hn
  have hx := X.1.1
  have hbb := X.1.2.1
  have hts := X.1.2.2.2.2
  replace hl : lv_has ls 2 [(0, .ref a), (1, .int (zi x1))] := hl
  refine lv_aload_n hx hbb dX13_init_0 rfl (lv_at hl 0 rfl) ?_
  refine hcI (As := []) (rest := []) (b := a) X hS (fun x h => by rw [h]; exact hb) (w_rec0 l Z a s.heap.size) trivial (fun x h => h.elim) (cwI 0 hts (lw_meth q768) rfl rfl rfl (hts _ q102) (hts _ q817) (hts _ q767) rfl (show hdS yJ13_init 0 by decide +kernel) ⟨by decide, by decide⟩) ⟨rfl, rfl⟩ ⟨by decide, by decide⟩ ⟨Nat.le_refl _, Nat.le_refl _⟩ hl.1 (Nat.le_of_ble_eq_true rfl) dX13_init_1 rfl (fun v H locs hv hfr hS => ?_)
  subst hv
  have hP := va_at_keep hP (hfr.2 a (va_at_lt hP) (fun h => h))
  refine lv_aload_n hx hbb dX13_init_4 rfl (lv_at hl 0 rfl) ?_
  refine lv_iload_n hx hbb dX13_init_5 rfl (lv_at hl 1 rfl) ?_
  refine h_putF X.1 X.2.1 hS hP (np_X13_0 x1) hnm q818 (Nat.le_of_ble_eq_true rfl) (Or.inl rfl) dX13_init_6 (fun H locs hP hq => ?_)
  exact hret _ _ _ _ dX13_init_9 ⟨rfl, hP⟩ hq.2.2
section NX13
variable {p : Program} {l : Launch} {e : Env} {R : Room} {s : State} {m : MethodId} {args : Array Value} {below : List Frame} {meth : Method} {c : Code} {H : Heap} {locs : List Loc} {cells slots : Nat} {Q : State → Prop} {cc : ByteArray} {pc nL : Nat} {ls : Array Slot} {rest : List Value} {Z : hZ} {F : Nat → Prop} {a : Nat}
theorem nw_X13 (X : hCx "ManyEyes$Tokens" p c cc nL s m args Z) (hS : va_S (hA F s.heap.size) s.heap H locs) (hcells : cells + 1 ≤ R.cells) (hslots : slots + 1 ≤ R.slots) (hdg : decode cc pc = .ok (.new 180, 3))
    (kk : ∀ (H1 : Heap), va_at Z.D tcl (H.size, .inr (7, [.int 0])) H1 → H1.size = H.size + 1 → (∀ q, q < H.size → H1[q]? = H[q]?) → va_S (hA F s.heap.size) s.heap H1 locs → W p l e R s m args below meth c H1 locs (cells + 1) (slots + 1) Q (F0 m (pc + 3) ls (.ref H.size :: rest))) : W p l e R s m args below meth c H locs cells slots Q (F0 m pc ls rest) :=
  h_new X.1 X.2.1 hS (fun q h => Or.inr h) (ci := 7) rfl in_X13 tyX13 tyX13_ok q812 q813 q107 (fun k hk => by
    have hh : k = 0 := by omega
    subst hh; rfl) hcells hslots hdg kk
theorem ni_X13 (X : hCx "ManyEyes$Tokens" p c cc nL s m args Z) (hS : va_S (hA F s.heap.size) s.heap H locs) (hF : ∀ a, F a → Z.b ≤ a) (hb : Z.b ≤ a) {x1 : Int} (hP : va_at Z.D tcl (a, .inr (7, [.int 0])) H) (ha : hA F s.heap.size a) (hR : 4 ≤ R.frames ∧ 130 ≤ R.locals) (hcs : cells ≤ R.cells ∧ slots ≤ R.slots) (hls : ls.size = nL) (hro : (rest.map fun v => v.category).sum ≤ 8) (hdg : decode cc pc = .ok (.invokespecial 182, 3))
    (kk : ∀ (H1 : Heap) (locs1 : List Loc), va_at Z.D tcl (a, .inr (7, [.int (zi x1)])) H1 → hFr (fE a) H H1 → va_S (hA F s.heap.size) s.heap H1 locs1 → W p l e R s m args below meth c H1 locs1 cells slots Q (F0 m (pc + 3) ls rest)) : W p l e R s m args below meth c H locs cells slots Q (F0 m pc ls (.int (zi x1) :: .ref a :: rest)) := by
  refine hcIN (As := [.int (zi x1)]) (b := a) X hS hF (w_cX13 l Z a hb x1 H.size) hP (fun x h => by rw [h]; exact ha) (lw_meth q816) (X.2.2.1.NW _ q814 rfl) q107 rfl q815 (show hdS yX13_init 1 by decide +kernel) ⟨rfl, rfl⟩ ⟨hR.1, by show 8 + (2 + 11) + 100 ≤ R.locals; have := hR.2; omega⟩ hcs hls hro hdg rfl (fun v H1 locs1 hv hfr hS => ?_)
  obtain ⟨rfl, h1⟩ := hv
  exact kk H1 locs1 h1 hfr hS
end NX13
theorem np_X14_0 (z : Int) : hPl tcl lw_all 8 0 "ManyEyes$Paired" "k" "I" (.int (zi z)) true := ⟨TX14, 1, RX14, tyX14, rfl, in_X14, by decide, rfl, rfl, rfl, rfl, tyX14_ok, nmX14, rfl, rfl⟩
theorem w_cX14 (l : Launch) (Z : hZ) (a : Nat) (hb : Z.b ≤ a) (x1 : Int) (n0 : Nat) : mH l yX14_init cX14_init 2 none (rmS 3 100) Z [.ref a, .int (zi x1)] n0 (va_at Z.D tcl (a, .inr (8, [.int 0]))) (fun v H => v = none ∧ va_at Z.D tcl (a, .inr (8, [.int (zi x1)])) H) (fE a) 0 0 := by
  refine goHv (by decide +kernel) (Nat.le_of_ble_eq_true rfl) ?_
  intro p e s m args below meth c Q ls X hret hl hP hn hS hnm
  subst hn
  have hx := X.1.1
  have hbb := X.1.2.1
  have hts := X.1.2.2.2.2
  replace hl : lv_has ls 2 [(0, .ref a), (1, .int (zi x1))] := hl
  refine lv_aload_n hx hbb dX14_init_0 rfl (lv_at hl 0 rfl) ?_
  refine hcI (As := []) (rest := []) (b := a) X hS (fun x h => by rw [h]; exact hb) (w_rec0 l Z a s.heap.size) trivial (fun x h => h.elim) (cwI 0 hts (lw_meth q768) rfl rfl rfl (hts _ q102) (hts _ q827) (hts _ q767) rfl (show hdS yJ13_init 0 by decide +kernel) ⟨by decide, by decide⟩) ⟨rfl, rfl⟩ ⟨by decide, by decide⟩ ⟨Nat.le_refl _, Nat.le_refl _⟩ hl.1 (Nat.le_of_ble_eq_true rfl) dX14_init_1 rfl (fun v H locs hv hfr hS => ?_)
  subst hv
  have hP := va_at_keep hP (hfr.2 a (va_at_lt hP) (fun h => h))
  refine lv_aload_n hx hbb dX14_init_4 rfl (lv_at hl 0 rfl) ?_
  refine lv_iload_n hx hbb dX14_init_5 rfl (lv_at hl 1 rfl) ?_
  refine h_putF X.1 X.2.1 hS hP (np_X14_0 x1) hnm q828 (Nat.le_of_ble_eq_true rfl) (Or.inl rfl) dX14_init_6 (fun H locs hP hq => ?_)
  exact hret _ _ _ _ dX14_init_9 ⟨rfl, hP⟩ hq.2.2
section NX14
variable {p : Program} {l : Launch} {e : Env} {R : Room} {s : State} {m : MethodId} {args : Array Value} {below : List Frame} {meth : Method} {c : Code} {H : Heap} {locs : List Loc} {cells slots : Nat} {Q : State → Prop} {cc : ByteArray} {pc nL : Nat} {ls : Array Slot} {rest : List Value} {Z : hZ} {F : Nat → Prop} {a : Nat}
theorem nw_X14 (X : hCx "ManyEyes$Tokens" p c cc nL s m args Z) (hS : va_S (hA F s.heap.size) s.heap H locs) (hcells : cells + 1 ≤ R.cells) (hslots : slots + 1 ≤ R.slots) (hdg : decode cc pc = .ok (.new 183, 3))
    (kk : ∀ (H1 : Heap), va_at Z.D tcl (H.size, .inr (8, [.int 0])) H1 → H1.size = H.size + 1 → (∀ q, q < H.size → H1[q]? = H[q]?) → va_S (hA F s.heap.size) s.heap H1 locs → W p l e R s m args below meth c H1 locs (cells + 1) (slots + 1) Q (F0 m (pc + 3) ls (.ref H.size :: rest))) : W p l e R s m args below meth c H locs cells slots Q (F0 m pc ls rest) :=
  h_new X.1 X.2.1 hS (fun q h => Or.inr h) (ci := 8) rfl in_X14 tyX14 tyX14_ok q822 q823 q108 (fun k hk => by
    have hh : k = 0 := by omega
    subst hh; rfl) hcells hslots hdg kk
theorem ni_X14 (X : hCx "ManyEyes$Tokens" p c cc nL s m args Z) (hS : va_S (hA F s.heap.size) s.heap H locs) (hF : ∀ a, F a → Z.b ≤ a) (hb : Z.b ≤ a) {x1 : Int} (hP : va_at Z.D tcl (a, .inr (8, [.int 0])) H) (ha : hA F s.heap.size a) (hR : 4 ≤ R.frames ∧ 130 ≤ R.locals) (hcs : cells ≤ R.cells ∧ slots ≤ R.slots) (hls : ls.size = nL) (hro : (rest.map fun v => v.category).sum ≤ 8) (hdg : decode cc pc = .ok (.invokespecial 185, 3))
    (kk : ∀ (H1 : Heap) (locs1 : List Loc), va_at Z.D tcl (a, .inr (8, [.int (zi x1)])) H1 → hFr (fE a) H H1 → va_S (hA F s.heap.size) s.heap H1 locs1 → W p l e R s m args below meth c H1 locs1 cells slots Q (F0 m (pc + 3) ls rest)) : W p l e R s m args below meth c H locs cells slots Q (F0 m pc ls (.int (zi x1) :: .ref a :: rest)) := by
  refine hcIN (As := [.int (zi x1)]) (b := a) X hS hF (w_cX14 l Z a hb x1 H.size) hP (fun x h => by rw [h]; exact ha) (lw_meth q826) (X.2.2.1.NW _ q824 rfl) q108 rfl q825 (show hdS yX14_init 1 by decide +kernel) ⟨rfl, rfl⟩ ⟨hR.1, by show 8 + (2 + 11) + 100 ≤ R.locals; have := hR.2; omega⟩ hcs hls hro hdg rfl (fun v H1 locs1 hv hfr hS => ?_)
  obtain ⟨rfl, h1⟩ := hv
  exact kk H1 locs1 h1 hfr hS
end NX14
theorem w_cX15 (l : Launch) (Z : hZ) (a : Nat) (hb : Z.b ≤ a) (n0 : Nat) : mH l yX15_init cX15_init 1 none (rmS 3 100) Z [.ref a] n0 (va_at Z.D tcl (a, .inr (9, []))) (fun v H => v = none ∧ va_at Z.D tcl (a, .inr (9, [])) H) (fE a) 0 0 := by
  refine goHv (by decide +kernel) (Nat.le_of_ble_eq_true rfl) ?_
  intro p e s m args below meth c Q ls X hret hl hP hn hS hnm
  subst hn
  have hx := X.1.1
  have hbb := X.1.2.1
  have hts := X.1.2.2.2.2
  replace hl : lv_has ls 1 [(0, .ref a)] := hl
  refine lv_aload_n hx hbb dX15_init_0 rfl (lv_at hl 0 rfl) ?_
  refine hcI (As := []) (rest := []) (b := a) X hS (fun x h => by rw [h]; exact hb) (w_rec0 l Z a s.heap.size) trivial (fun x h => h.elim) (cwI 0 hts (lw_meth q768) rfl rfl rfl (hts _ q102) (hts _ q837) (hts _ q767) rfl (show hdS yJ13_init 0 by decide +kernel) ⟨by decide, by decide⟩) ⟨rfl, rfl⟩ ⟨by decide, by decide⟩ ⟨Nat.le_refl _, Nat.le_refl _⟩ hl.1 (Nat.le_of_ble_eq_true rfl) dX15_init_1 rfl (fun v H locs hv hfr hS => ?_)
  subst hv
  have hP := va_at_keep hP (hfr.2 a (va_at_lt hP) (fun h => h))
  exact hret _ _ _ _ dX15_init_4 ⟨rfl, hP⟩ hS
section NX15
variable {p : Program} {l : Launch} {e : Env} {R : Room} {s : State} {m : MethodId} {args : Array Value} {below : List Frame} {meth : Method} {c : Code} {H : Heap} {locs : List Loc} {cells slots : Nat} {Q : State → Prop} {cc : ByteArray} {pc nL : Nat} {ls : Array Slot} {rest : List Value} {Z : hZ} {F : Nat → Prop} {a : Nat}
theorem nw_X15 (X : hCx "ManyEyes$Tokens" p c cc nL s m args Z) (hS : va_S (hA F s.heap.size) s.heap H locs) (hcells : cells + 1 ≤ R.cells) (hslots : slots + 0 ≤ R.slots) (hdg : decode cc pc = .ok (.new 186, 3))
    (kk : ∀ (H1 : Heap), va_at Z.D tcl (H.size, .inr (9, [])) H1 → H1.size = H.size + 1 → (∀ q, q < H.size → H1[q]? = H[q]?) → va_S (hA F s.heap.size) s.heap H1 locs → W p l e R s m args below meth c H1 locs (cells + 1) (slots + 0) Q (F0 m (pc + 3) ls (.ref H.size :: rest))) : W p l e R s m args below meth c H locs cells slots Q (F0 m pc ls rest) :=
  h_new X.1 X.2.1 hS (fun q h => Or.inr h) (ci := 9) rfl in_X15 (fun _ => .int) (fun k h => absurd h (Nat.not_lt_zero _)) q832 q833 q109 (fun k h => absurd h (Nat.not_lt_zero _)) hcells hslots hdg kk
theorem ni_X15 (X : hCx "ManyEyes$Tokens" p c cc nL s m args Z) (hS : va_S (hA F s.heap.size) s.heap H locs) (hF : ∀ a, F a → Z.b ≤ a) (hb : Z.b ≤ a) (hP : va_at Z.D tcl (a, .inr (9, [])) H) (ha : hA F s.heap.size a) (hR : 4 ≤ R.frames ∧ 130 ≤ R.locals) (hcs : cells ≤ R.cells ∧ slots ≤ R.slots) (hls : ls.size = nL) (hro : (rest.map fun v => v.category).sum ≤ 8) (hdg : decode cc pc = .ok (.invokespecial 188, 3))
    (kk : ∀ (H1 : Heap) (locs1 : List Loc), va_at Z.D tcl (a, .inr (9, [])) H1 → hFr (fE a) H H1 → va_S (hA F s.heap.size) s.heap H1 locs1 → W p l e R s m args below meth c H1 locs1 cells slots Q (F0 m (pc + 3) ls rest)) : W p l e R s m args below meth c H locs cells slots Q (F0 m pc ls (.ref a :: rest)) := by
  refine hcIN (As := []) (b := a) X hS hF (w_cX15 l Z a hb  H.size) hP (fun x h => by rw [h]; exact ha) (lw_meth q836) (X.2.2.1.NW _ q834 rfl) q109 rfl q835 (show hdS yX15_init 0 by decide +kernel) ⟨rfl, rfl⟩ ⟨hR.1, by show 8 + (1 + 11) + 100 ≤ R.locals; have := hR.2; omega⟩ hcs hls hro hdg rfl (fun v H1 locs1 hv hfr hS => ?_)
  obtain ⟨rfl, h1⟩ := hv
  exact kk H1 locs1 h1 hfr hS
end NX15
theorem np_X16_0 (z : Nat) : hPl tcl lw_all 10 0 "ManyEyes$Minus" "x" "LManyEyes$Sum;" (.ref z) true := ⟨TX16, 1, RX16, tyX16, rfl, in_X16, by decide, rfl, rfl, rfl, rfl, tyX16_ok, nmX16, rfl, rfl⟩
theorem w_cX16 (l : Launch) (Z : hZ) (a : Nat) (hb : Z.b ≤ a) (x1 : Nat) (n0 : Nat) : mH l yX16_init cX16_init 2 none (rmS 3 100) Z [.ref a, .ref x1] n0 (va_at Z.D tcl (a, .inr (10, [.null]))) (fun v H => v = none ∧ va_at Z.D tcl (a, .inr (10, [.ref x1])) H) (fE a) 0 0 := by
  refine goHv (by decide +kernel) (Nat.le_of_ble_eq_true rfl) ?_
  intro p e s m args below meth c Q ls X hret hl hP hn hS hnm
  subst hn
  have hx := X.1.1
  have hbb := X.1.2.1
  have hts := X.1.2.2.2.2
  replace hl : lv_has ls 2 [(0, .ref a), (1, .ref x1)] := hl
  refine lv_aload_n hx hbb dX16_init_0 rfl (lv_at hl 0 rfl) ?_
  refine hcI (As := []) (rest := []) (b := a) X hS (fun x h => by rw [h]; exact hb) (w_rec0 l Z a s.heap.size) trivial (fun x h => h.elim) (cwI 0 hts (lw_meth q768) rfl rfl rfl (hts _ q102) (hts _ q848) (hts _ q767) rfl (show hdS yJ13_init 0 by decide +kernel) ⟨by decide, by decide⟩) ⟨rfl, rfl⟩ ⟨by decide, by decide⟩ ⟨Nat.le_refl _, Nat.le_refl _⟩ hl.1 (Nat.le_of_ble_eq_true rfl) dX16_init_1 rfl (fun v H locs hv hfr hS => ?_)
  subst hv
  have hP := va_at_keep hP (hfr.2 a (va_at_lt hP) (fun h => h))
  refine lv_aload_n hx hbb dX16_init_4 rfl (lv_at hl 0 rfl) ?_
  refine lv_aload_n hx hbb dX16_init_5 rfl (lv_at hl 1 rfl) ?_
  refine h_putF X.1 X.2.1 hS hP (np_X16_0 x1) hnm q849 (Nat.le_of_ble_eq_true rfl) (Or.inl rfl) dX16_init_6 (fun H locs hP hq => ?_)
  exact hret _ _ _ _ dX16_init_9 ⟨rfl, hP⟩ hq.2.2
section NX16
variable {p : Program} {l : Launch} {e : Env} {R : Room} {s : State} {m : MethodId} {args : Array Value} {below : List Frame} {meth : Method} {c : Code} {H : Heap} {locs : List Loc} {cells slots : Nat} {Q : State → Prop} {cc : ByteArray} {pc nL : Nat} {ls : Array Slot} {rest : List Value} {Z : hZ} {F : Nat → Prop} {a : Nat}
theorem nw_X16 (X : hCx "ManyEyes$Tokens" p c cc nL s m args Z) (hS : va_S (hA F s.heap.size) s.heap H locs) (hcells : cells + 1 ≤ R.cells) (hslots : slots + 1 ≤ R.slots) (hdg : decode cc pc = .ok (.new 189, 3))
    (kk : ∀ (H1 : Heap), va_at Z.D tcl (H.size, .inr (10, [.null])) H1 → H1.size = H.size + 1 → (∀ q, q < H.size → H1[q]? = H[q]?) → va_S (hA F s.heap.size) s.heap H1 locs → W p l e R s m args below meth c H1 locs (cells + 1) (slots + 1) Q (F0 m (pc + 3) ls (.ref H.size :: rest))) : W p l e R s m args below meth c H locs cells slots Q (F0 m pc ls rest) :=
  h_new X.1 X.2.1 hS (fun q h => Or.inr h) (ci := 10) rfl in_X16 tyX16 tyX16_ok q843 q844 q110 (fun k hk => by
    have hh : k = 0 := by omega
    subst hh; rfl) hcells hslots hdg kk
theorem ni_X16 (X : hCx "ManyEyes$Tokens" p c cc nL s m args Z) (hS : va_S (hA F s.heap.size) s.heap H locs) (hF : ∀ a, F a → Z.b ≤ a) (hb : Z.b ≤ a) {x1 : Nat} (hP : va_at Z.D tcl (a, .inr (10, [.null])) H) (ha : hA F s.heap.size a) (hR : 4 ≤ R.frames ∧ 130 ≤ R.locals) (hcs : cells ≤ R.cells ∧ slots ≤ R.slots) (hls : ls.size = nL) (hro : (rest.map fun v => v.category).sum ≤ 8) (hdg : decode cc pc = .ok (.invokespecial 191, 3))
    (kk : ∀ (H1 : Heap) (locs1 : List Loc), va_at Z.D tcl (a, .inr (10, [.ref x1])) H1 → hFr (fE a) H H1 → va_S (hA F s.heap.size) s.heap H1 locs1 → W p l e R s m args below meth c H1 locs1 cells slots Q (F0 m (pc + 3) ls rest)) : W p l e R s m args below meth c H locs cells slots Q (F0 m pc ls (.ref x1 :: .ref a :: rest)) := by
  refine hcIN (As := [.ref x1]) (b := a) X hS hF (w_cX16 l Z a hb x1 H.size) hP (fun x h => by rw [h]; exact ha) (lw_meth q847) (X.2.2.1.NW _ q845 rfl) q110 rfl q846 (show hdS yX16_init 1 by decide +kernel) ⟨rfl, rfl⟩ ⟨hR.1, by show 8 + (2 + 11) + 100 ≤ R.locals; have := hR.2; omega⟩ hcs hls hro hdg rfl (fun v H1 locs1 hv hfr hS => ?_)
  obtain ⟨rfl, h1⟩ := hv
  exact kk H1 locs1 h1 hfr hS
end NX16
theorem np_X17_0 (z : Bool) : hPl tcl lw_all 11 0 "ManyEyes$Least" "most" "Z" (.int (zi (bz z))) true := ⟨TX17, 3, RX17, tyX17, rfl, in_X17, by decide, rfl, rfl, rfl, rfl, tyX17_ok, nmX17, by cases z <;> rfl, by cases z <;> rfl⟩
theorem np_X17_1 (z : Nat) : hPl tcl lw_all 11 1 "ManyEyes$Least" "a" "LManyEyes$Sum;" (.ref z) true := ⟨TX17, 3, RX17, tyX17, rfl, in_X17, by decide, rfl, rfl, rfl, rfl, tyX17_ok, nmX17, rfl, rfl⟩
theorem np_X17_2 (z : Nat) : hPl tcl lw_all 11 2 "ManyEyes$Least" "b" "LManyEyes$Sum;" (.ref z) true := ⟨TX17, 3, RX17, tyX17, rfl, in_X17, by decide, rfl, rfl, rfl, rfl, tyX17_ok, nmX17, rfl, rfl⟩
theorem w_cX17 (l : Launch) (Z : hZ) (a : Nat) (hb : Z.b ≤ a) (x1 : Bool) (x2 : Nat) (x3 : Nat) (n0 : Nat) : mH l yX17_init cX17_init 4 none (rmS 3 100) Z [.ref a, .int (zi (bz x1)), .ref x2, .ref x3] n0 (va_at Z.D tcl (a, .inr (11, [.int 0, .null, .null]))) (fun v H => v = none ∧ va_at Z.D tcl (a, .inr (11, [.int (zi (bz x1)), .ref x2, .ref x3])) H) (fE a) 0 0 := by
  refine goHv (by decide +kernel) (Nat.le_of_ble_eq_true rfl) ?_
  intro p e s m args below meth c Q ls X hret hl hP hn hS hnm
  subst hn
  have hx := X.1.1
  have hbb := X.1.2.1
  have hts := X.1.2.2.2.2
  replace hl : lv_has ls 4 [(0, .ref a), (1, .int (zi (bz x1))), (2, .ref x2), (3, .ref x3)] := hl
  refine lv_aload_n hx hbb dX17_init_0 rfl (lv_at hl 0 rfl) ?_
  refine hcI (As := []) (rest := []) (b := a) X hS (fun x h => by rw [h]; exact hb) (w_rec0 l Z a s.heap.size) trivial (fun x h => h.elim) (cwI 0 hts (lw_meth q768) rfl rfl rfl (hts _ q102) (hts _ q858) (hts _ q767) rfl (show hdS yJ13_init 0 by decide +kernel) ⟨by decide, by decide⟩) ⟨rfl, rfl⟩ ⟨by decide, by decide⟩ ⟨Nat.le_refl _, Nat.le_refl _⟩ hl.1 (Nat.le_of_ble_eq_true rfl) dX17_init_1 rfl (fun v H locs hv hfr hS => ?_)
  subst hv
  have hP := va_at_keep hP (hfr.2 a (va_at_lt hP) (fun h => h))
  refine lv_aload_n hx hbb dX17_init_4 rfl (lv_at hl 0 rfl) ?_
  refine lv_iload_n hx hbb dX17_init_5 rfl (lv_at hl 1 rfl) ?_
  refine h_putF X.1 X.2.1 hS hP (np_X17_0 x1) hnm q859 (Nat.le_of_ble_eq_true rfl) (Or.inl rfl) dX17_init_6 (fun H locs hP hq => ?_)
  refine lv_aload_n hx hbb dX17_init_9 rfl (lv_at hl 0 rfl) ?_
  refine lv_aload_n hx hbb dX17_init_10 rfl (lv_at hl 2 rfl) ?_
  refine h_putF X.1 X.2.1 hq.2.2 hP (np_X17_1 x2) hnm q860 (Nat.le_of_ble_eq_true rfl) (Or.inl rfl) dX17_init_11 (fun H locs hP hq => ?_)
  refine lv_aload_n hx hbb dX17_init_14 rfl (lv_at hl 0 rfl) ?_
  refine lv_aload_n hx hbb dX17_init_15 rfl (lv_at hl 3 rfl) ?_
  refine h_putF X.1 X.2.1 hq.2.2 hP (np_X17_2 x3) hnm q861 (Nat.le_of_ble_eq_true rfl) (Or.inl rfl) dX17_init_16 (fun H locs hP hq => ?_)
  exact hret _ _ _ _ dX17_init_19 ⟨rfl, hP⟩ hq.2.2
section NX17
variable {p : Program} {l : Launch} {e : Env} {R : Room} {s : State} {m : MethodId} {args : Array Value} {below : List Frame} {meth : Method} {c : Code} {H : Heap} {locs : List Loc} {cells slots : Nat} {Q : State → Prop} {cc : ByteArray} {pc nL : Nat} {ls : Array Slot} {rest : List Value} {Z : hZ} {F : Nat → Prop} {a : Nat}
theorem nw_X17 (X : hCx "ManyEyes$Tokens" p c cc nL s m args Z) (hS : va_S (hA F s.heap.size) s.heap H locs) (hcells : cells + 1 ≤ R.cells) (hslots : slots + 3 ≤ R.slots) (hdg : decode cc pc = .ok (.new 192, 3))
    (kk : ∀ (H1 : Heap), va_at Z.D tcl (H.size, .inr (11, [.int 0, .null, .null])) H1 → H1.size = H.size + 1 → (∀ q, q < H.size → H1[q]? = H[q]?) → va_S (hA F s.heap.size) s.heap H1 locs → W p l e R s m args below meth c H1 locs (cells + 1) (slots + 3) Q (F0 m (pc + 3) ls (.ref H.size :: rest))) : W p l e R s m args below meth c H locs cells slots Q (F0 m pc ls rest) :=
  h_new X.1 X.2.1 hS (fun q h => Or.inr h) (ci := 11) rfl in_X17 tyX17 tyX17_ok q853 q854 q111 (fun k hk => by
    have hh : k = 0 ∨ k = 1 ∨ k = 2 := by omega
    rcases hh with rfl | rfl | rfl <;> rfl) hcells hslots hdg kk
theorem ni_X17 (X : hCx "ManyEyes$Tokens" p c cc nL s m args Z) (hS : va_S (hA F s.heap.size) s.heap H locs) (hF : ∀ a, F a → Z.b ≤ a) (hb : Z.b ≤ a) {x1 : Bool} {x2 : Nat} {x3 : Nat} (hP : va_at Z.D tcl (a, .inr (11, [.int 0, .null, .null])) H) (ha : hA F s.heap.size a) (hR : 4 ≤ R.frames ∧ 130 ≤ R.locals) (hcs : cells ≤ R.cells ∧ slots ≤ R.slots) (hls : ls.size = nL) (hro : (rest.map fun v => v.category).sum ≤ 8) (hdg : decode cc pc = .ok (.invokespecial 194, 3))
    (kk : ∀ (H1 : Heap) (locs1 : List Loc), va_at Z.D tcl (a, .inr (11, [.int (zi (bz x1)), .ref x2, .ref x3])) H1 → hFr (fE a) H H1 → va_S (hA F s.heap.size) s.heap H1 locs1 → W p l e R s m args below meth c H1 locs1 cells slots Q (F0 m (pc + 3) ls rest)) : W p l e R s m args below meth c H locs cells slots Q (F0 m pc ls (.ref x3 :: .ref x2 :: .int (zi (bz x1)) :: .ref a :: rest)) := by
  refine hcIN (As := [.int (zi (bz x1)), .ref x2, .ref x3]) (b := a) X hS hF (w_cX17 l Z a hb x1 x2 x3 H.size) hP (fun x h => by rw [h]; exact ha) (lw_meth q857) (X.2.2.1.NW _ q855 rfl) q111 rfl q856 (show hdS yX17_init 3 by decide +kernel) ⟨rfl, rfl⟩ ⟨hR.1, by show 8 + (4 + 11) + 100 ≤ R.locals; have := hR.2; omega⟩ hcs hls hro hdg rfl (fun v H1 locs1 hv hfr hS => ?_)
  obtain ⟨rfl, h1⟩ := hv
  exact kk H1 locs1 h1 hfr hS
end NX17
theorem np_X18_0 (z : Int) : hPl tcl lw_all 12 0 "ManyEyes$Compared" "sign" "I" (.int (zi z)) true := ⟨TX18, 3, RX18, tyX18, rfl, in_X18, by decide, rfl, rfl, rfl, rfl, tyX18_ok, nmX18, rfl, rfl⟩
theorem np_X18_1 (z : Nat) : hPl tcl lw_all 12 1 "ManyEyes$Compared" "a" "LManyEyes$Sum;" (.ref z) true := ⟨TX18, 3, RX18, tyX18, rfl, in_X18, by decide, rfl, rfl, rfl, rfl, tyX18_ok, nmX18, rfl, rfl⟩
theorem np_X18_2 (z : Nat) : hPl tcl lw_all 12 2 "ManyEyes$Compared" "b" "LManyEyes$Sum;" (.ref z) true := ⟨TX18, 3, RX18, tyX18, rfl, in_X18, by decide, rfl, rfl, rfl, rfl, tyX18_ok, nmX18, rfl, rfl⟩
theorem w_cX18 (l : Launch) (Z : hZ) (a : Nat) (hb : Z.b ≤ a) (x1 : Int) (x2 : Nat) (x3 : Nat) (n0 : Nat) : mH l yX18_init cX18_init 4 none (rmS 3 100) Z [.ref a, .int (zi x1), .ref x2, .ref x3] n0 (va_at Z.D tcl (a, .inr (12, [.int 0, .null, .null]))) (fun v H => v = none ∧ va_at Z.D tcl (a, .inr (12, [.int (zi x1), .ref x2, .ref x3])) H) (fE a) 0 0 := by
  refine goHv (by decide +kernel) (Nat.le_of_ble_eq_true rfl) ?_
  intro p e s m args below meth c Q ls X hret hl hP hn hS hnm
  subst hn
  have hx := X.1.1
  have hbb := X.1.2.1
  have hts := X.1.2.2.2.2
  replace hl : lv_has ls 4 [(0, .ref a), (1, .int (zi x1)), (2, .ref x2), (3, .ref x3)] := hl
  refine lv_aload_n hx hbb dX18_init_0 rfl (lv_at hl 0 rfl) ?_
  refine hcI (As := []) (rest := []) (b := a) X hS (fun x h => by rw [h]; exact hb) (w_rec0 l Z a s.heap.size) trivial (fun x h => h.elim) (cwI 0 hts (lw_meth q768) rfl rfl rfl (hts _ q102) (hts _ q923) (hts _ q767) rfl (show hdS yJ13_init 0 by decide +kernel) ⟨by decide, by decide⟩) ⟨rfl, rfl⟩ ⟨by decide, by decide⟩ ⟨Nat.le_refl _, Nat.le_refl _⟩ hl.1 (Nat.le_of_ble_eq_true rfl) dX18_init_1 rfl (fun v H locs hv hfr hS => ?_)
  subst hv
  have hP := va_at_keep hP (hfr.2 a (va_at_lt hP) (fun h => h))
  refine lv_aload_n hx hbb dX18_init_4 rfl (lv_at hl 0 rfl) ?_
  refine lv_iload_n hx hbb dX18_init_5 rfl (lv_at hl 1 rfl) ?_
  refine h_putF X.1 X.2.1 hS hP (np_X18_0 x1) hnm q924 (Nat.le_of_ble_eq_true rfl) (Or.inl rfl) dX18_init_6 (fun H locs hP hq => ?_)
  refine lv_aload_n hx hbb dX18_init_9 rfl (lv_at hl 0 rfl) ?_
  refine lv_aload_n hx hbb dX18_init_10 rfl (lv_at hl 2 rfl) ?_
  refine h_putF X.1 X.2.1 hq.2.2 hP (np_X18_1 x2) hnm q925 (Nat.le_of_ble_eq_true rfl) (Or.inl rfl) dX18_init_11 (fun H locs hP hq => ?_)
  refine lv_aload_n hx hbb dX18_init_14 rfl (lv_at hl 0 rfl) ?_
  refine lv_aload_n hx hbb dX18_init_15 rfl (lv_at hl 3 rfl) ?_
  refine h_putF X.1 X.2.1 hq.2.2 hP (np_X18_2 x3) hnm q926 (Nat.le_of_ble_eq_true rfl) (Or.inl rfl) dX18_init_16 (fun H locs hP hq => ?_)
  exact hret _ _ _ _ dX18_init_19 ⟨rfl, hP⟩ hq.2.2
section NX18
variable {p : Program} {l : Launch} {e : Env} {R : Room} {s : State} {m : MethodId} {args : Array Value} {below : List Frame} {meth : Method} {c : Code} {H : Heap} {locs : List Loc} {cells slots : Nat} {Q : State → Prop} {cc : ByteArray} {pc nL : Nat} {ls : Array Slot} {rest : List Value} {Z : hZ} {F : Nat → Prop} {a : Nat}
theorem nw_X18 (X : hCx "ManyEyes$Tokens" p c cc nL s m args Z) (hS : va_S (hA F s.heap.size) s.heap H locs) (hcells : cells + 1 ≤ R.cells) (hslots : slots + 3 ≤ R.slots) (hdg : decode cc pc = .ok (.new 150, 3))
    (kk : ∀ (H1 : Heap), va_at Z.D tcl (H.size, .inr (12, [.int 0, .null, .null])) H1 → H1.size = H.size + 1 → (∀ q, q < H.size → H1[q]? = H[q]?) → va_S (hA F s.heap.size) s.heap H1 locs → W p l e R s m args below meth c H1 locs (cells + 1) (slots + 3) Q (F0 m (pc + 3) ls (.ref H.size :: rest))) : W p l e R s m args below meth c H locs cells slots Q (F0 m pc ls rest) :=
  h_new X.1 X.2.1 hS (fun q h => Or.inr h) (ci := 12) rfl in_X18 tyX18 tyX18_ok q918 q919 q115 (fun k hk => by
    have hh : k = 0 ∨ k = 1 ∨ k = 2 := by omega
    rcases hh with rfl | rfl | rfl <;> rfl) hcells hslots hdg kk
theorem ni_X18 (X : hCx "ManyEyes$Tokens" p c cc nL s m args Z) (hS : va_S (hA F s.heap.size) s.heap H locs) (hF : ∀ a, F a → Z.b ≤ a) (hb : Z.b ≤ a) {x1 : Int} {x2 : Nat} {x3 : Nat} (hP : va_at Z.D tcl (a, .inr (12, [.int 0, .null, .null])) H) (ha : hA F s.heap.size a) (hR : 4 ≤ R.frames ∧ 130 ≤ R.locals) (hcs : cells ≤ R.cells ∧ slots ≤ R.slots) (hls : ls.size = nL) (hro : (rest.map fun v => v.category).sum ≤ 8) (hdg : decode cc pc = .ok (.invokespecial 152, 3))
    (kk : ∀ (H1 : Heap) (locs1 : List Loc), va_at Z.D tcl (a, .inr (12, [.int (zi x1), .ref x2, .ref x3])) H1 → hFr (fE a) H H1 → va_S (hA F s.heap.size) s.heap H1 locs1 → W p l e R s m args below meth c H1 locs1 cells slots Q (F0 m (pc + 3) ls rest)) : W p l e R s m args below meth c H locs cells slots Q (F0 m pc ls (.ref x3 :: .ref x2 :: .int (zi x1) :: .ref a :: rest)) := by
  refine hcIN (As := [.int (zi x1), .ref x2, .ref x3]) (b := a) X hS hF (w_cX18 l Z a hb x1 x2 x3 H.size) hP (fun x h => by rw [h]; exact ha) (lw_meth q922) (X.2.2.1.NW _ q920 rfl) q115 rfl q921 (show hdS yX18_init 3 by decide +kernel) ⟨rfl, rfl⟩ ⟨hR.1, by show 8 + (4 + 11) + 100 ≤ R.locals; have := hR.2; omega⟩ hcs hls hro hdg rfl (fun v H1 locs1 hv hfr hS => ?_)
  obtain ⟨rfl, h1⟩ := hv
  exact kk H1 locs1 h1 hfr hS
end NX18
theorem np_X19_0 (z : Bool) : hPl tcl lw_all 13 0 "ManyEyes$All" "and" "Z" (.int (zi (bz z))) true := ⟨TX19, 2, RX19, tyX19, rfl, in_X19, by decide, rfl, rfl, rfl, rfl, tyX19_ok, nmX19, by cases z <;> rfl, by cases z <;> rfl⟩
theorem np_X19_1 (z : Nat) : hPl tcl lw_all 13 1 "ManyEyes$All" "of" "Ljava/util/ArrayList;" (.ref z) true := ⟨TX19, 2, RX19, tyX19, rfl, in_X19, by decide, rfl, rfl, rfl, rfl, tyX19_ok, nmX19, rfl, rfl⟩
theorem w_cX19 (l : Launch) (Z : hZ) (a : Nat) (hb : Z.b ≤ a) (x1 : Bool) (x2 : Nat) (n0 : Nat) : mH l yX19_init cX19_init 3 none (rmS 3 100) Z [.ref a, .int (zi (bz x1)), .ref x2] n0 (va_at Z.D tcl (a, .inr (13, [.int 0, .null]))) (fun v H => v = none ∧ va_at Z.D tcl (a, .inr (13, [.int (zi (bz x1)), .ref x2])) H) (fE a) 0 0 := by
  refine goHv (by decide +kernel) (Nat.le_of_ble_eq_true rfl) ?_
  intro p e s m args below meth c Q ls X hret hl hP hn hS hnm
  subst hn
  have hx := X.1.1
  have hbb := X.1.2.1
  have hts := X.1.2.2.2.2
  replace hl : lv_has ls 3 [(0, .ref a), (1, .int (zi (bz x1))), (2, .ref x2)] := hl
  refine lv_aload_n hx hbb dX19_init_0 rfl (lv_at hl 0 rfl) ?_
  refine hcI (As := []) (rest := []) (b := a) X hS (fun x h => by rw [h]; exact hb) (w_rec0 l Z a s.heap.size) trivial (fun x h => h.elim) (cwI 0 hts (lw_meth q768) rfl rfl rfl (hts _ q102) (hts _ q942) (hts _ q767) rfl (show hdS yJ13_init 0 by decide +kernel) ⟨by decide, by decide⟩) ⟨rfl, rfl⟩ ⟨by decide, by decide⟩ ⟨Nat.le_refl _, Nat.le_refl _⟩ hl.1 (Nat.le_of_ble_eq_true rfl) dX19_init_1 rfl (fun v H locs hv hfr hS => ?_)
  subst hv
  have hP := va_at_keep hP (hfr.2 a (va_at_lt hP) (fun h => h))
  refine lv_aload_n hx hbb dX19_init_4 rfl (lv_at hl 0 rfl) ?_
  refine lv_iload_n hx hbb dX19_init_5 rfl (lv_at hl 1 rfl) ?_
  refine h_putF X.1 X.2.1 hS hP (np_X19_0 x1) hnm q943 (Nat.le_of_ble_eq_true rfl) (Or.inl rfl) dX19_init_6 (fun H locs hP hq => ?_)
  refine lv_aload_n hx hbb dX19_init_9 rfl (lv_at hl 0 rfl) ?_
  refine lv_aload_n hx hbb dX19_init_10 rfl (lv_at hl 2 rfl) ?_
  refine h_putF X.1 X.2.1 hq.2.2 hP (np_X19_1 x2) hnm q944 (Nat.le_of_ble_eq_true rfl) (Or.inl rfl) dX19_init_11 (fun H locs hP hq => ?_)
  exact hret _ _ _ _ dX19_init_14 ⟨rfl, hP⟩ hq.2.2
section NX19
variable {p : Program} {l : Launch} {e : Env} {R : Room} {s : State} {m : MethodId} {args : Array Value} {below : List Frame} {meth : Method} {c : Code} {H : Heap} {locs : List Loc} {cells slots : Nat} {Q : State → Prop} {cc : ByteArray} {pc nL : Nat} {ls : Array Slot} {rest : List Value} {Z : hZ} {F : Nat → Prop} {a : Nat}
theorem nw_X19 (X : hCx "ManyEyes$Tokens" p c cc nL s m args Z) (hS : va_S (hA F s.heap.size) s.heap H locs) (hcells : cells + 1 ≤ R.cells) (hslots : slots + 2 ≤ R.slots) (hdg : decode cc pc = .ok (.new 134, 3))
    (kk : ∀ (H1 : Heap), va_at Z.D tcl (H.size, .inr (13, [.int 0, .null])) H1 → H1.size = H.size + 1 → (∀ q, q < H.size → H1[q]? = H[q]?) → va_S (hA F s.heap.size) s.heap H1 locs → W p l e R s m args below meth c H1 locs (cells + 1) (slots + 2) Q (F0 m (pc + 3) ls (.ref H.size :: rest))) : W p l e R s m args below meth c H locs cells slots Q (F0 m pc ls rest) :=
  h_new X.1 X.2.1 hS (fun q h => Or.inr h) (ci := 13) rfl in_X19 tyX19 tyX19_ok q937 q938 q116 (fun k hk => by
    have hh : k = 0 ∨ k = 1 := by omega
    rcases hh with rfl | rfl <;> rfl) hcells hslots hdg kk
theorem ni_X19 (X : hCx "ManyEyes$Tokens" p c cc nL s m args Z) (hS : va_S (hA F s.heap.size) s.heap H locs) (hF : ∀ a, F a → Z.b ≤ a) (hb : Z.b ≤ a) {x1 : Bool} {x2 : Nat} (hP : va_at Z.D tcl (a, .inr (13, [.int 0, .null])) H) (ha : hA F s.heap.size a) (hR : 4 ≤ R.frames ∧ 130 ≤ R.locals) (hcs : cells ≤ R.cells ∧ slots ≤ R.slots) (hls : ls.size = nL) (hro : (rest.map fun v => v.category).sum ≤ 8) (hdg : decode cc pc = .ok (.invokespecial 136, 3))
    (kk : ∀ (H1 : Heap) (locs1 : List Loc), va_at Z.D tcl (a, .inr (13, [.int (zi (bz x1)), .ref x2])) H1 → hFr (fE a) H H1 → va_S (hA F s.heap.size) s.heap H1 locs1 → W p l e R s m args below meth c H1 locs1 cells slots Q (F0 m (pc + 3) ls rest)) : W p l e R s m args below meth c H locs cells slots Q (F0 m pc ls (.ref x2 :: .int (zi (bz x1)) :: .ref a :: rest)) := by
  refine hcIN (As := [.int (zi (bz x1)), .ref x2]) (b := a) X hS hF (w_cX19 l Z a hb x1 x2 H.size) hP (fun x h => by rw [h]; exact ha) (lw_meth q941) (X.2.2.1.NW _ q939 rfl) q116 rfl q940 (show hdS yX19_init 2 by decide +kernel) ⟨rfl, rfl⟩ ⟨hR.1, by show 8 + (3 + 11) + 100 ≤ R.locals; have := hR.2; omega⟩ hcs hls hro hdg rfl (fun v H1 locs1 hv hfr hS => ?_)
  obtain ⟨rfl, h1⟩ := hv
  exact kk H1 locs1 h1 hfr hS
end NX19
