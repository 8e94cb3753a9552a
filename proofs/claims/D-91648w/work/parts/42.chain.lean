/-! Integer.valueOf of small numbers; Chain -/
set_option maxRecDepth 100000
theorem gS_int {Z : hZ} {s : State} (h : HE Z s) : va_Z "java/lang/Integer$IntegerCache" "high" "I" (.int 127) (gB Z.b) s s.heap ∧ va_Z "java/lang/Integer$IntegerCache" "cache" "[Ljava/lang/Integer;" (.ref Z.G.tC) (gB Z.b) s s.heap ∧ va_T (.object "java/lang/Integer") Z.G.tC 256 (fun k => .ref (Z.G.ad k)) (gB Z.b) s s.heap ∧ vb_C Z.G.ad (gB Z.b) s s.heap := h.2.1.2.2.2.2.2.2.1
theorem w_valOf (l : Launch) (Z : hZ) (z : Int) (g : -128 ≤ z ∧ z ≤ 127) (n0 : Nat) : mH l yJ15_valueOf cJ15_valueOf 1 (some (.object "java/lang/Integer")) (rmS 1 40) Z [.int (zi z)] n0 (fun _ => True) (fun v _ => v = some (.ref (Z.G.ad (z + 128).toNat))) F0_ 0 0 := by
  refine goHr (by decide +kernel) (Nat.le_of_ble_eq_true rfl) (Or.inl ⟨_, rfl⟩) ?_
  intro p e s m args below meth c Q ls X hret hl hP hn hS hnm
  subst hn
  have hx := X.1.1
  have hb := X.1.2.1
  have hSb : va_S (gB Z.b) s.heap s.heap [] := va_S.rf
  replace hl : lv_has ls 1 [(0, .int (zi z))] := hl
  refine lv_iload_n hx hb dJ15_valueOf_0 rfl (lv_at hl 0 rfl) ?_
  refine lv_bipush (v := zi (-128)) hx hb dJ15_valueOf_1 (by decide) ?_
  refine g_icmp_lt (tgt := 23) hx hb (show r32 z ∧ r32 (-128) by unfold r32; omega) dJ15_valueOf_3 (by decide) (fun c1 => absurd c1 (by omega)) (fun c1 => ?_)
  refine lv_iload_n hx hb dJ15_valueOf_6 rfl (lv_at hl 0 rfl) ?_
  refine va_gets hx hb (gS_int X.2).1 hSb X.1.2.2.2.1 (X.1.2.2.2.2 _ q892) (fun x h => h) dJ15_valueOf_7 ?_
  refine g_icmp_gt (b := 127) (tgt := 23) hx hb (show r32 z ∧ r32 127 by unfold r32; omega) dJ15_valueOf_10 (by decide) (fun c2 => ?_) (fun c2 => absurd g.2 c2)
  refine va_gets hx hb (gS_int X.2).2.1 hSb X.1.2.2.2.1 (X.1.2.2.2.2 _ q894) (fun x h => h) dJ15_valueOf_13 ?_
  refine lv_iload_n hx hb dJ15_valueOf_16 rfl (lv_at hl 0 rfl) ?_
  refine lv_sipush (v := zi 128) hx hb dJ15_valueOf_17 (by decide) ?_
  refine g_iadd hx hb dJ15_valueOf_20 ?_
  refine vb_tq hx hb (gS_int X.2).2.2.1 hSb (zi_in (n := 256) (i := z + 128) ⟨by omega, by omega⟩ (by decide)) (v := .ref (Z.G.ad (z + 128).toNat)) (by rw [zi_cl ⟨by omega, by omega⟩]) dJ15_valueOf_21 ?_
  exact hret _ _ _ _ _ dJ15_valueOf_22 rfl hS
theorem o_int {Z : hZ} {s : State} {H : Heap} {F : Nat → Prop} {locs : List Loc} (h : HE Z s) (hF : ∀ a, F a → Z.b ≤ a) (hS : va_S (hA F s.heap.size) s.heap H locs) {k : Nat} (hk : k < 256) : oAny Z H (Z.G.ad k) ∧ Z.G.ad k < Z.b := by
  obtain ⟨cell, h1, h2, h3, h4⟩ := ((gS_int h).2.2.2.1 k hk).kept (hA_b h hF hS).2.1
  obtain ⟨-, hfc, -⟩ := h.1.1 15 _ rfl
  have hfc : s.vm.findClass "java/lang/Integer" = some (Z.D.1 15) := hfc
  exact ⟨⟨cell, 15, h1, h2, by decide, Option.some.inj (h3.symm.trans hfc)⟩, Nat.not_le.mp h4⟩
theorem gS_eDlt {Z : hZ} {s : State} (h : HE Z s) : Z.G.eD < Z.b := Nat.not_le.mp (gS_eD h).2.out
/-- the chain's own cells -/
def cO_ (c am as cm em cs es : Nat) : Nat → Prop := fun x => x = c ∨ lF am cm em x ∨ lF as cs es x
/-- a chain at c: its first, and its lists am (sums) and as (signs) -/
def ChW (Z : hZ) (c f am as : Nat) (L1 L2 : List Nat) (cm em cs es : Nat) (H : Heap) : Prop := va_at Z.D tcl (c, .inr (4, [.ref f, .ref am, .ref as])) H ∧ Lst Z am L1 cm em H ∧ Lst Z as L2 cs es H ∧ Z.b ≤ c ∧ c ≠ am ∧ c ≠ as ∧ am ≠ as ∧ (10 ≤ cm → em ≠ c ∧ em ≠ as) ∧ (10 ≤ cs → es ≠ c ∧ es ≠ am) ∧ (10 ≤ cm → 10 ≤ cs → em ≠ es) ∧ (∀ y ∈ L1, ¬ cO_ c am as cm em cs es y) ∧ ∀ y ∈ L2, y < Z.b
theorem cf_first : hCl tcl lw_all 4 0 "ManyEyes$Chain" "first" "LManyEyes$Sum;" := ⟨TX10, 3, RX10, rfl, in_X10, by decide, rfl, rfl, rfl⟩
theorem cf_more : hCl tcl lw_all 4 1 "ManyEyes$Chain" "more" "Ljava/util/ArrayList;" := ⟨TX10, 3, RX10, rfl, in_X10, by decide, rfl, rfl, rfl⟩
theorem cf_signs : hCl tcl lw_all 4 2 "ManyEyes$Chain" "signs" "Ljava/util/ArrayList;" := ⟨TX10, 3, RX10, rfl, in_X10, by decide, rfl, rfl, rfl⟩
theorem cp_first (z : Nat) : hPl tcl lw_all 4 0 "ManyEyes$Chain" "first" "LManyEyes$Sum;" (.ref z) true := ⟨TX10, 3, RX10, tyX10, rfl, in_X10, by decide, rfl, rfl, rfl, rfl, tyX10_ok, nmX10, rfl, rfl⟩
theorem cp_more (z : Nat) : hPl tcl lw_all 4 1 "ManyEyes$Chain" "more" "Ljava/util/ArrayList;" (.ref z) true := ⟨TX10, 3, RX10, tyX10, rfl, in_X10, by decide, rfl, rfl, rfl, rfl, tyX10_ok, nmX10, rfl, rfl⟩
theorem cp_signs (z : Nat) : hPl tcl lw_all 4 2 "ManyEyes$Chain" "signs" "Ljava/util/ArrayList;" (.ref z) true := ⟨TX10, 3, RX10, tyX10, rfl, in_X10, by decide, rfl, rfl, rfl, rfl, tyX10_ok, nmX10, rfl, rfl⟩
theorem Lst.nil {Z : hZ} {s : State} {a : Nat} {H : Heap} (hE : HE Z s) (hb : Z.b ≤ a) (h : va_at Z.D tcl (a, .inr (14, [.int (zi 0), .ref Z.G.eD, .int 0])) H) : Lst Z a [] 0 Z.G.eD H :=
  ⟨hb, ⟨0, h⟩, Or.inl ⟨rfl, rfl, rfl⟩, by have := gS_eDlt hE; omega, fun y hy => by cases hy⟩
theorem fsJ2 : ∀ j, j < 3 → defaultValue (tyJ2 j) = vp_V [.int 0, .null, .int 0] j := by
  intro j hj
  have : j = 0 ∨ j = 1 ∨ j = 2 := by omega
  rcases this with rfl | rfl | rfl <;> rfl
set_option maxHeartbeats 1000000 in
theorem w_chI (l : Launch) (Z : hZ) (c f : Nat) (hb : Z.b ≤ c) (n0 : Nat) : mH l yX10_init cX10_init 2 none ({ frames := 6, cells := 2, slots := 6, locals := 200 } : Room) Z [.ref c, .ref f] n0 (va_at Z.D tcl (c, .inr (4, [.null, .null, .null]))) (fun v H => v = none ∧ ∃ am as, n0 ≤ am ∧ n0 ≤ as ∧ ChW Z c f am as [] [] 0 Z.G.eD 0 Z.G.eD H) (fE c) 2 6 := by
  refine goHv (by decide +kernel) (Nat.le_of_ble_eq_true rfl) ?_
  intro p e s m args below meth cd Q ls X hret hl hP hn hS hnm
  subst hn
  have hx := X.1.1
  have hbb := X.1.2.1
  have hts := X.1.2.2.2.2
  have hF : ∀ x, fE c x → Z.b ≤ x := fun x h => by rw [h]; exact hb
  have hcl := va_at_lt hP
  replace hl : lv_has ls 2 [(0, .ref c), (1, .ref f)] := hl
  refine lv_aload_n hx hbb dX10_init_0 rfl (lv_at hl 0 rfl) ?_
  refine W.objInit hx hbb X.1.2.2.2.1 (hts _ q872) (hts _ q123) (hts _ q124) rfl (hl.1.trans X.1.2.2.1.symm) rfl dX10_init_1 (by decide) (Nat.le_of_ble_eq_true rfl) ?_
  refine lv_aload_n hx hbb dX10_init_4 rfl (lv_at hl 0 rfl) ?_
  refine h_new X.1 X.2.1 hS (fun q h => Or.inr h) (ci := 14) rfl in_J2 tyJ2 tyJ2_ok q873 q134 q84 fsJ2 (Nat.le_of_ble_eq_true rfl) (Nat.le_of_ble_eq_true rfl) dX10_init_5 (fun H1 hN z1 o1 hS => ?_)
  refine lv_dup hx hbb dX10_init_8 rfl ?_
  refine hcI (As := []) (rest := [.ref s.heap.size, .ref c]) (b := s.heap.size) X hS hF (w_alI l Z s.heap.size H1.size X.2.2.2 _ _ _) hN (fun x h => Or.inr (by rw [h]; exact Nat.le_refl _)) (cwI 0 hts (lw_meth q137) rfl rfl rfl (hts _ q84) (hts _ q874) (hts _ q136) rfl (show hdS yJ2_init 0 by decide +kernel) ⟨Nat.le_of_ble_eq_true rfl, Nat.le_of_ble_eq_true rfl⟩) ⟨rfl, rfl⟩ ⟨Nat.le_of_ble_eq_true rfl, Nat.le_of_ble_eq_true rfl⟩ ⟨Nat.le_of_ble_eq_true rfl, Nat.le_of_ble_eq_true rfl⟩ hl.1 (Nat.le_of_ble_eq_true rfl) dX10_init_9 rfl (fun v H2 locs2 hv hfr hS => ?_)
  obtain ⟨rfl, hL1⟩ := hv
  have hP2 : va_at Z.D tcl (c, .inr (4, [.null, .null, .null])) H2 := va_at_keep (va_at_keep hP (o1 c hcl)) (hfr.2 c (by omega) (by show ¬ c = _; omega))
  refine h_putF X.1 X.2.1 hS hP2 (cp_more s.heap.size) hnm q876 (Nat.le_of_ble_eq_true rfl) (Or.inl rfl) dX10_init_12 (fun H3 locs3 hP3 hq3 => ?_)
  have hL3 := va_at_keep hL1 (hq3.2.1 s.heap.size (by omega))
  refine lv_aload_n hx hbb dX10_init_15 rfl (lv_at hl 0 rfl) ?_
  refine h_new X.1 X.2.1 hq3.2.2 (fun q h => Or.inr h) (ci := 14) rfl in_J2 tyJ2 tyJ2_ok q873 q134 q84 fsJ2 (Nat.le_of_ble_eq_true rfl) (Nat.le_of_ble_eq_true rfl) dX10_init_16 (fun H4 hN4 z4 o4 hS => ?_)
  have hsz3 : H3.size = H2.size := hq3.1
  have hsz2 := hfr.1
  refine lv_dup hx hbb dX10_init_19 rfl ?_
  refine hcI (As := []) (rest := [.ref H3.size, .ref c]) (b := H3.size) X hS hF (w_alI l Z H3.size H4.size (by have := X.2.2.2; omega) _ _ _) hN4 (fun x h => Or.inr (by rw [h]; omega)) (cwI 0 hts (lw_meth q137) rfl rfl rfl (hts _ q84) (hts _ q874) (hts _ q136) rfl (show hdS yJ2_init 0 by decide +kernel) ⟨Nat.le_of_ble_eq_true rfl, Nat.le_of_ble_eq_true rfl⟩) ⟨rfl, rfl⟩ ⟨Nat.le_of_ble_eq_true rfl, Nat.le_of_ble_eq_true rfl⟩ ⟨Nat.le_of_ble_eq_true rfl, Nat.le_of_ble_eq_true rfl⟩ hl.1 (Nat.le_of_ble_eq_true rfl) dX10_init_20 rfl (fun v H5 locs5 hv hfr5 hS => ?_)
  obtain ⟨rfl, hL2⟩ := hv
  have hP5 := va_at_keep (va_at_keep hP3 (o4 c (by omega))) (hfr5.2 c (by omega) (by show ¬ c = _; omega))
  have hL5 := va_at_keep (va_at_keep hL3 (o4 s.heap.size (by omega))) (hfr5.2 s.heap.size (by omega) (by show ¬ s.heap.size = _; omega))
  refine h_putF X.1 X.2.1 hS hP5 (cp_signs H3.size) hnm q877 (Nat.le_of_ble_eq_true rfl) (Or.inl rfl) dX10_init_23 (fun H6 locs6 hP6 hq6 => ?_)
  refine lv_aload_n hx hbb dX10_init_26 rfl (lv_at hl 0 rfl) ?_
  refine lv_aload_n hx hbb dX10_init_27 rfl (lv_at hl 1 rfl) ?_
  refine h_putF X.1 X.2.1 hq6.2.2 hP6 (cp_first f) hnm q875 (Nat.le_of_ble_eq_true rfl) (Or.inl rfl) dX10_init_28 (fun H7 locs7 hP7 hq7 => ?_)
  have hL7 := va_at_keep (va_at_keep hL5 (hq6.2.1 s.heap.size (by omega))) (hq7.2.1 s.heap.size (by omega))
  have hM7 := va_at_keep (va_at_keep hL2 (hq6.2.1 H3.size (by omega))) (hq7.2.1 H3.size (by omega))
  refine hret _ _ _ _ dX10_init_31 ⟨rfl, s.heap.size, H3.size, Nat.le_refl _, by omega, hP7, Lst.nil X.2 X.2.2.2 hL7, Lst.nil X.2 (by have := X.2.2.2; omega) hM7, hb, by omega, by omega, by omega, fun h => absurd h (by decide), fun h => absurd h (by decide), fun h => absurd h (by decide), fun y hy => (by cases hy), fun y hy => (by cases hy)⟩ hq7.2.2
abbrev chF (am as cm em cs es : Nat) : Nat → Prop := fun x => lF am cm em x ∨ lF as cs es x
theorem ChW.F {Z : hZ} {c f am as cm em cs es : Nat} {L1 L2 : List Nat} {H : Heap} (h : ChW Z c f am as L1 L2 cm em cs es H) : ∀ x, chF am as cm em cs es x → Z.b ≤ x := fun x hx => hx.elim (h.2.1.F x) (h.2.2.1.F x)
theorem ChW.recv {Z : hZ} {s : State} {c f am as cm em cs es : Nat} {L1 L2 : List Nat} {H : Heap} (X : HE Z s) (h : ChW Z c f am as L1 L2 cm em cs es H) : ∃ cell : Cell, H[c]? = some cell ∧ cell.vm.isStatics = false ∧ s.vm.findClass "ManyEyes$Chain" = some cell.cls := va_recv X.1 (va_one h.1) (ci := 4) (q0 := 0) rfl rfl
set_option maxHeartbeats 1000000 in
theorem w_chA (l : Launch) (Z : hZ) (c f am as cm em cs es x : Nat) (z : Int) (gz : -128 ≤ z ∧ z ≤ 127) (L1 L2 : List Nat) (hcm : cm < 40000) (hcs : cs < 40000) (hxo : ¬ cO_ c am as cm em cs es x) (n0 : Nat) : mH l yX10_add cX10_add 3 none ({ frames := 9, cells := acc L2 cs + acc L1 cm, slots := acs L2 cs + acs L1 cm, locals := 360 } : Room) Z [.ref c, .int (zi z), .ref x] n0 (fun H => ChW Z c f am as L1 L2 cm em cs es H ∧ oAny Z H x) (fun v H => v = none ∧ ∃ em' es', edN L1 cm em n0 em' ∧ edN L2 cs es n0 es' ∧ ChW Z c f am as (L1 ++ [x]) (L2 ++ [Z.G.ad (z + 128).toNat]) (ncap L1 cm) em' (ncap L2 cs) es' H) (chF am as cm em cs es) (acc L2 cs + acc L1 cm) (acs L2 cs + acs L1 cm) := by
  refine goHv (by decide +kernel) (Nat.le_of_ble_eq_true rfl) ?_
  intro p e s m args below meth cd Q ls X hret hl hP hn hS hnm
  subst hn
  obtain ⟨hP, hX⟩ := hP
  have hF := hP.F
  obtain ⟨h1, h2, h3, h4, h5, h6, h7, h8, h9, h10, h11, h12⟩ := hP
  have hx := X.1.1
  have hbb := X.1.2.1
  have hts := X.1.2.2.2.2
  have hn2 := h2.2.2.1
  have hcc2 : cm = 0 ∨ 10 ≤ cm := h2.2.2.1.elim (fun w => Or.inl w.1) (fun w => Or.inr w.1)
  have hcc3 : cs = 0 ∨ 10 ≤ cs := h3.2.2.1.elim (fun w => Or.inl w.1) (fun w => Or.inr w.1)
  obtain ⟨m2, h2a⟩ := h2.2.1
  obtain ⟨m3, h3a⟩ := h3.2.1
  have l1 := va_at_lt h1
  have l2 := va_at_lt h2a
  have l3 := va_at_lt h3a
  have lem : 10 ≤ cm → em < s.heap.size := fun w => h2.2.2.1.elim (fun v => by omega) (fun v => va_at_lt v.2.2.2.2)
  have les : 10 ≤ cs → es < s.heap.size := fun w => h3.2.2.1.elim (fun v => by omega) (fun v => va_at_lt v.2.2.2.2)
  replace hl : lv_has ls 3 [(0, .ref c), (1, .int (zi z)), (2, .ref x)] := hl
  refine lv_aload_n hx hbb dX10_add_0 rfl (lv_at hl 0 rfl) ?_
  refine h_get X.1 X.2.1 h1 cf_signs q877 rfl dX10_add_1 ?_
  refine lv_iload_n hx hbb dX10_add_4 rfl (lv_at hl 1 rfl) ?_
  refine hcS (As := [.int (zi z)]) (rest := [.ref as]) X hS hF (w_valOf l Z z gz s.heap.size) trivial (fun x h => h.elim) (lw_S q889 q890 q113 q891) (show hdS yJ15_valueOf 1 by decide +kernel) ⟨rfl, rfl⟩ ⟨Nat.le_of_ble_eq_true rfl, Nat.le_of_ble_eq_true rfl⟩ ⟨Nat.zero_le _, Nat.zero_le _⟩ hl.1 (Nat.le_of_ble_eq_true rfl) dX10_add_5 rfl (fun v H1 locs1 hv hfr1 hS1 => ?_)
  subst hv
  have k1 : ∀ q, q < s.heap.size → H1[q]? = s.heap[q]? := fun q hq => hfr1.2 q hq (fun w => w)
  have h3' := h3.keep (fun q _ hq => k1 q hq)
  obtain ⟨hoi, hib⟩ := o_int X.2 hF hS1 (k := (z + 128).toNat) (by omega)
  refine hcV (As := [.ref (Z.G.ad (z + 128).toNat)]) (rest := []) X hS1 hF (w_add l Z as cs es (Z.G.ad (z + 128).toNat) L2 hcs H1.size) ⟨h3', hoi⟩ (fun q h => Or.inl (Or.inr h)) (h3'.recv X.2) (lw_V q909 q318 q319 q84 q320) (show hdV yJ2_add "java/util/ArrayList" 1 by decide +kernel) ⟨rfl, rfl⟩ ⟨Nat.le_of_ble_eq_true rfl, Nat.le_of_ble_eq_true rfl⟩ ⟨by show 0 + 0 + acc L2 cs ≤ acc L2 cs + acc L1 cm; omega, by show 0 + 0 + acs L2 cs ≤ acs L2 cs + acs L1 cm; omega⟩ hl.1 (Nat.le_of_ble_eq_true rfl) dX10_add_8 rfl (fun v H2 locs2 hv hfr2 hS2 => ?_)
  obtain ⟨rfl, es', hes, h3N⟩ := hv
  have k2 : ∀ q, q < s.heap.size → ¬ lF as cs es q → H2[q]? = s.heap[q]? := fun q hq hf => (hfr2.2 q (Nat.lt_of_lt_of_le hq hfr1.1) hf).trans (k1 q hq)
  have nc : ¬ lF as cs es c := fun w => w.elim h6 (fun w => (h9 w.2).1 w.1.symm)
  have nm_ : ¬ lF as cs es am := fun w => w.elim h7 (fun w => (h9 w.2).2 w.1.symm)
  have ne_ : 10 ≤ cm → ¬ lF as cs es em := fun w0 w => w.elim (h8 w0).2 (fun w => h10 w0 w.2 w.1)
  have nL : ∀ y ∈ L1, ¬ lF as cs es y := fun y hy w => h11 y hy (Or.inr (Or.inr w))
  have nx : ¬ lF as cs es x := fun w => hxo (Or.inr (Or.inr w))
  have h1' := va_at_keep h1 (k2 c l1 nc)
  have h2' : Lst Z am L1 cm em H2 := h2.keep (fun q hq hql => by
    rcases hq with rfl | ⟨rfl, w⟩ | hq
    · exact k2 _ hql nm_
    · exact k2 _ hql (ne_ w)
    · exact k2 _ hql (nL q hq))
  have hX' := hX.keep (k2 x hX.lt nx)
  refine lv_pop hx hbb dX10_add_11 rfl ?_
  refine lv_aload_n hx hbb dX10_add_12 rfl (lv_at hl 0 rfl) ?_
  refine h_get X.1 X.2.1 h1' cf_more q876 rfl dX10_add_13 ?_
  refine lv_aload_n hx hbb dX10_add_16 rfl (lv_at hl 2 rfl) ?_
  refine hcV (As := [.ref x]) (rest := []) X hS2 hF (w_add l Z am cm em x L1 hcm H2.size) ⟨h2', hX'⟩ (fun q h => Or.inl (Or.inl h)) (h2'.recv X.2) (lw_V q909 q318 q319 q84 q320) (show hdV yJ2_add "java/util/ArrayList" 1 by decide +kernel) ⟨rfl, rfl⟩ ⟨Nat.le_of_ble_eq_true rfl, Nat.le_of_ble_eq_true rfl⟩ ⟨by show 0 + 0 + acc L2 cs + acc L1 cm ≤ acc L2 cs + acc L1 cm; omega, by show 0 + 0 + acs L2 cs + acs L1 cm ≤ acs L2 cs + acs L1 cm; omega⟩ hl.1 (Nat.le_of_ble_eq_true rfl) dX10_add_17 rfl (fun v H3 locs3 hv hfr3 hS3 => ?_)
  obtain ⟨rfl, em', hem, h2N⟩ := hv
  refine lv_pop hx hbb dX10_add_20 rfl ?_
  have z2 : s.heap.size ≤ H2.size := hS2.1
  have z1 : s.heap.size ≤ H1.size := hS1.1
  have z12 : H1.size ≤ H2.size := hfr2.1
  have hes' : s.heap.size ≤ es' ∨ es' = es ∧ L2.length ≠ cs := hes.elim (fun w => Or.inl (Nat.le_trans z1 w.2)) (fun w => Or.inr ⟨w.2, w.1⟩)
  have hem' : H2.size ≤ em' ∨ em' = em ∧ L1.length ≠ cm := hem.elim (fun w => Or.inl w.2) (fun w => Or.inr ⟨w.2, w.1⟩)
  have sz3 := h3.size_lt
  have sz2 := h2.size_lt
  have nes : L2.length ≠ cs → 10 ≤ cs := fun w => by omega
  have nem : L1.length ≠ cm → 10 ≤ cm := fun w => by omega
  have lesN : es' < H2.size := by
    rcases h3N.2.2.1 with w | w
    · exact absurd w.2.2 (by simp)
    · exact va_at_lt w.2.2.2.2
  have hne : es' ≠ am ∧ es' ≠ c := by
    rcases hes' with w | ⟨w, w2⟩
    · exact ⟨by omega, by omega⟩
    · exact ⟨by rw [w]; exact (h9 (nes w2)).2, by rw [w]; exact (h9 (nes w2)).1⟩
  have hme : em' ≠ as ∧ em' ≠ c := by
    rcases hem' with w | ⟨w, w2⟩
    · exact ⟨by omega, by omega⟩
    · exact ⟨by rw [w]; exact (h8 (nem w2)).2, by rw [w]; exact (h8 (nem w2)).1⟩
  have hmes : em' ≠ es' := by
    rcases hem' with w | ⟨w, w2⟩
    · omega
    · rw [w]
      have := lem (nem w2)
      rcases hes' with v | ⟨v, v2⟩
      · omega
      · rw [v]; exact h10 (nem w2) (nes v2)
  have k3 : ∀ q, q < H2.size → ¬ lF am cm em q → H3[q]? = H2[q]? := fun q hq hf => hfr3.2 q hq hf
  have q_as : ¬ lF am cm em as := fun w => w.elim (fun w => h7 w.symm) (fun w => (h8 w.2).2 w.1.symm)
  have q_es : ¬ lF am cm em es' := fun w => w.elim hne.1 (fun w => by
    rcases hes' with v | ⟨v, v2⟩
    · have := lem w.2; omega
    · rw [v] at w; exact h10 w.2 (nes v2) w.1.symm)
  have h3F : Lst Z as (L2 ++ [Z.G.ad (z + 128).toNat]) (ncap L2 cs) es' H3 := h3N.keep (fun q hq hql => by
    refine k3 q hql ?_
    rcases hq with rfl | ⟨rfl, w⟩ | hq
    · exact q_as
    · exact q_es
    · intro w
      have hqb : q < Z.b := by
        rcases List.mem_append.mp hq with v | v
        · exact h12 q v
        · rw [List.mem_singleton.mp v]; exact hib
      have := h2.F q w
      omega)
  have h1F := va_at_keep h1' (k3 c (by omega) (fun w => w.elim h5 (fun w => (h8 w.2).1 w.1.symm)))
  have own : ∀ y, y < s.heap.size → ¬ cO_ c am as cm em cs es y → ¬ cO_ c am as (ncap L1 cm) em' (ncap L2 cs) es' y := by
    intro y hy hno w
    rcases w with w | (w | w) | (w | w)
    · exact hno (Or.inl w)
    · exact hno (Or.inr (Or.inl (Or.inl w)))
    · rcases hem' with v | ⟨v, v2⟩
      · omega
      · exact hno (Or.inr (Or.inl (Or.inr ⟨by rw [w.1, v], nem v2⟩)))
    · exact hno (Or.inr (Or.inr (Or.inl w)))
    · rcases hes' with v | ⟨v, v2⟩
      · omega
      · exact hno (Or.inr (Or.inr (Or.inr ⟨by rw [w.1, v], nes v2⟩)))
  refine W.widen (k := acc L2 cs + acc L1 cm) (n := acs L2 cs + acs L1 cm) (by omega) (by omega) ?_
  refine hret _ _ _ _ dX10_add_21 ⟨rfl, em', es', hem.elim (fun w => Or.inl ⟨w.1, Nat.le_trans z2 w.2⟩) Or.inr, hes.elim (fun w => Or.inl ⟨w.1, Nat.le_trans z1 w.2⟩) Or.inr, h1F, h2N, h3F, h4, h5, h6, h7, fun _ => ⟨hme.2, hme.1⟩, fun _ => ⟨hne.2, hne.1⟩, fun _ _ => hmes, fun y hy => ?_, fun y hy => ?_⟩ hS3
  · rcases List.mem_append.mp hy with v | v
    · exact own y (h2.2.2.2.2 y v).lt (h11 y v)
    · rw [List.mem_singleton.mp v]; exact own x hX.lt hxo
  · rcases List.mem_append.mp hy with v | v
    · exact h12 y v
    · rw [List.mem_singleton.mp v]; exact hib
theorem w_chIt (l : Launch) (Z : hZ) (c f am as cm em cs es : Nat) (L1 L2 : List Nat) (n0 : Nat) : mH l yX10_itself cX10_itself 1 (some (.object "ManyEyes$Sum")) (rmS 2 80) Z [.ref c] n0 (ChW Z c f am as L1 L2 cm em cs es) (fun v _ => v = some (.ref (if L1 = [] then f else c))) F0_ 0 0 := by
  refine goHr (by decide +kernel) (Nat.le_of_ble_eq_true rfl) (Or.inl ⟨_, rfl⟩) ?_
  intro p e s m args below meth cd Q ls X hret hl hP hn hS hnm
  subst hn
  have hx := X.1.1
  have hbb := X.1.2.1
  replace hl : lv_has ls 1 [(0, .ref c)] := hl
  refine lv_aload_n hx hbb dX10_itself_0 rfl (lv_at hl 0 rfl) ?_
  refine h_get X.1 X.2.1 hP.1 cf_more q876 rfl dX10_itself_1 ?_
  refine hcV (As := []) (rest := []) X hS (fun x h => h.elim) (w_isE l Z am cm em L1 s.heap.size) hP.2.1 (fun x h => h.elim) (hP.2.1.recv X.2) (lw_V q914 q915 q916 q84 q917) (show hdV yJ2_isEmpty "java/util/ArrayList" 0 by decide +kernel) ⟨rfl, rfl⟩ ⟨by decide, by decide⟩ ⟨Nat.le_refl _, Nat.le_refl _⟩ hl.1 (Nat.le_of_ble_eq_true rfl) dX10_itself_4 rfl (fun v H locs hv hfr hS => ?_)
  subst hv
  have h1 := va_at_keep hP.1 (hfr.2 c (va_at_lt hP.1) (fun w => w))
  refine g_bif_eq (tgt := 17) hx hbb dX10_itself_7 (by decide) (fun c1 => ?_) (fun c1 => ?_)
  · have hL : L1 = [] := of_decide_eq_true c1
    refine lv_aload_n hx hbb dX10_itself_10 rfl (lv_at hl 0 rfl) ?_
    refine h_get X.1 X.2.1 h1 cf_first q875 rfl dX10_itself_11 ?_
    refine lv_goto (tgt := 18) hx hbb dX10_itself_14 (by decide) ?_
    exact hret _ _ _ _ _ dX10_itself_18 (by rw [if_pos hL]) hS
  · have hL : ¬ L1 = [] := fun w => c1 (decide_eq_true w)
    refine lv_aload_n hx hbb dX10_itself_17 rfl (lv_at hl 0 rfl) ?_
    exact hret _ _ _ _ _ dX10_itself_18 (by rw [if_neg hL]) hS
