/-! image and back -/
set_option maxRecDepth 100000
theorem goGi {l : Launch} {y : MethodName} {cc : ByteArray} {nL : Nat} {rm : Room} {Z : hZ} {DC : va_G} {dA : Nat → ClassId} {As : List Value} {n0 mc ms : Nat} {Pre : Heap → Prop} {Rr : Option Value → Heap → Prop} {F : Nat → Prop} (hy : plainFor y = true) (hAs : (lg_sl As).length ≤ nL) (body : ∀ (p : Program) (e : Env) (s : State) (m : MethodId) (args : Array Value) (below : List Frame) (meth : Method) (c : Code) (Q : State → Prop) (ls : Array Slot), fCx y.cls p c cc nL s m args Z DC dA → (∀ (pc : Nat) (ls : Array Slot) (H : Heap) (locs : List Loc) (v : Int), decode cc pc = .ok (.ireturn, 1) → Rr (some (.int (zi v))) H → va_S (hA F n0) s.heap H locs → W p l e rm s m args below meth c H locs mc ms Q (F0 m pc ls [.int (zi v)])) → lv_has ls nL (lv_args 0 As) → Pre s.heap → s.heap.size = n0 → va_S (hA F s.heap.size) s.heap s.heap [] → W p l e rm s m args below meth c s.heap [] 0 0 Q (F0 m 0 ls [])) : mG l y cc nL (some .int) rm Z DC dA As n0 Pre Rr F mc ms := by
  refine va_MetF (cc := cc) (maxL := nL) (ret := some .int) hy rfl ?_
  intro p e s m args below meth c s₁ B hml hv
  obtain ⟨rfl, hE, hK, hn, hP⟩ := hv
  have hx := B.exec
  have hb := B.bytes
  have hr := B.returns
  have hlocks := B.notSynchronized
  have hts := atoms_spec (ws := ws_ y cc nL (some .int)) B.pre
  have hts : ∀ w ∈ lw_all, w.before _ s = true := fun w h => hts w (List.mem_cons_of_mem _ h)
  have hown : s.vm.findClass y.cls = some m.cls := findClass_of_methodNamed B.named
  have hl := lv_entry As (n := nL) hAs
  rw [lg_entry_eq]
  generalize (lg_sl As ++ List.replicate (nL - (lg_sl As).length) Slot.unset).toArray = ls at hl ⊢
  subst hn
  refine body p e s m _ below meth c _ ls ⟨⟨hx, hb, hml, hown, hts⟩, hE, hK⟩ ?_ hl hP rfl va_S.rf
  intro pc ls H locs v hd hR hM
  exact W.iret hx hb hr (fun t ht hW => ⟨⟨_, rfl, by rw [ht]; exact hR⟩, hM.F ht⟩) hM.2.2 hd
theorem gcV {p : Program} {l : Launch} {e : Env} {R : Room} {s : State} {m : MethodId} {args : Array Value} {below : List Frame} {meth : Method} {c : Code} {H : Heap} {locs : List Loc} {cells slots : Nat} {Q : State → Prop} {cc : ByteArray} {pc nL : Nat} {ls : Array Slot} {rest st As : List Value} {y : MethodName} {bytes : ByteArray} {maxL idx mc ms : Nat} {ret : Option FieldType} {rm : Room} {own : String} {Z : hZ} {DC : va_G} {dA : Nat → ClassId} {Pre : Heap → Prop} {Rr : Option Value → Heap → Prop} {F F1 : Nat → Prop} (X : fCx own p c cc nL s m args Z DC dA) (hS : va_S (hA F s.heap.size) s.heap H locs) (hF : ∀ a, F a → Z.b ≤ a) {b : Nat} {C : String} (met : mG l y bytes maxL ret rm Z DC dA (.ref b :: As) H.size Pre Rr F1 mc ms) (hp : Pre H) (hF1 : ∀ a, F1 a → hA F s.heap.size a) (hb : ∃ cell : Cell, H[b]? = some cell ∧ cell.vm.isStatics = false ∧ s.vm.findClass C = some cell.cls) (hT : GoodIn lw_all (wsV own idx C y (ws_ y bytes maxL ret))) (hd : y.cls = C ∧ y.cls ≠ "java/lang/invoke/MethodHandle" ∧ y.cls ≠ "java/lang/invoke/VarHandle" ∧ (parseMethodDescriptor y.desc).map (fun d => d.parameters.length) = some As.length) (hrm : rm.cells = mc ∧ rm.slots = ms) (hR : rm.frames + 1 ≤ R.frames ∧ 8 + (maxL + 11) + rm.locals ≤ R.locals) (hcs : cells + mc ≤ R.cells ∧ slots + ms ≤ R.slots) (hls : ls.size = nL) (hro : (rest.map fun v => v.category).sum ≤ 8) (hdg : decode cc pc = .ok (.invokevirtual idx, 3)) (hst : st = As.reverse ++ .ref b :: rest)
    (kk : ∀ (v : Option Value) (H1 : Heap) (locs1 : List Loc), Rr v H1 → hFr F1 H H1 → va_S (hA F s.heap.size) s.heap H1 locs1 → W p l e R s m args below meth c H1 locs1 (cells + mc) (slots + ms) Q (F0 m (pc + 3) ls (v.toList ++ rest))) : W p l e R s m args below meth c H locs cells slots Q (F0 m pc ls st) := by
  subst hst
  exact callH3 (va_runV (As := As) (rest := rest) X.1 met (cwV As.length X.1.2.2.2.2 hT rfl hrm.1 hrm.2 hd hR) ⟨fPc_blind, hb, fun U hU hW => ⟨rfl, X.2.1.at hS hF hU hW, va_K.moved hW.alike X.2.2, by rw [hU], by rw [hU]; exact hp⟩⟩ rfl rfl hls rfl (lv_room hro) hdg hcs) hS (fun q hq z => z.elim (hF1 q) (fun w => absurd w (Nat.not_le.mpr hq))) (fun q z => z.elim (hF1 q) (fun w => Or.inr (Nat.le_trans hS.1 w))) (fun v H1 locs1 hv hz hk hS => kk v H1 locs1 hv ⟨hz, fun q h1 h2 => hk q h1 (fun z => z.elim h2 (fun w => absurd w (Nat.not_le.mpr h1)))⟩ hS)
theorem wC_image (l : Launch) (Z : hZ) (DC : va_G) (dA : Nat → ClassId) (hC : Nat) (A : Nat → Prop) (L : List Nat) (k ed : Nat) (rs : List (List tCl)) (LI : List Nat) (kI edI : Nat) (rsI : List (List tCl)) (S : yS) (n0 : Nat) {S1 : yS} (hh : C_beI S = some S1) (gS : S.1 41 = (ed : Int) ∧ S.1 42 = (rs.length : Int)) (gI : S.1 51 = (edI : Int) ∧ S.1 52 = (rsI.length : Int)) : mG l yX1_image cX1_image 1 (some .int) ({ frames := 10, cells := beX kI rs.length, slots := 10 * beX kI rs.length, locals := 390 } : Room) Z DC dA [.ref hC] n0 (fun H => va_P DC ccl (cw dA hC S) H ∧ RO2 Z hC A L k ed rs LI kI edI rsI H) (fun v H => v = some (.int (zi (S1.2 2 3))) ∧ ∃ (m : Int) (ed' : Nat), va_P DC ccl (cw dA hC (cf5 S1 m (ed' : Int) (rs.length : Int))) H ∧ RO2 Z hC A L k ed rs L (beC kI rs.length) ed' rs H) (beF hC kI edI) (beX kI rs.length) (10 * beX kI rs.length) := by
  refine goGi (by decide +kernel) (Nat.le_of_ble_eq_true rfl) ?_
  intro p e s m args below meth c Q ls X hret hl hP hn hS
  subst hn
  have XC := fcx_c X
  have hx := X.1.1
  have hb := X.1.2.1
  have hown := X.1.2.2.2.1
  have hts := X.1.2.2.2.2
  have hO := hP.2.1
  have hOI := hP.2.2.1
  have hFb : ∀ a, beF hC kI edI a → Z.b ≤ a := by
    intro a h
    rcases h with h | h
    · exact Nat.le_trans hO.1 h.1
    · rcases hOI.2.1 with w | w
      · omega
      · rw [h.2]; exact w.2.2.2.1
  have hM : CX DC dA hC (hA (beF hC kI edI) s.heap.size) S s s.heap [] := ⟨hP.1, hS, fun q h => Or.inl (Or.inl h)⟩
  replace hl : lv_has ls 1 [(0, .ref hC)] := hl
  refine lv_aload_n hx hb dX1_image_0 rfl (lv_at hl 0 rfl) ?_
  refine cm_get XC hM q380 (cf_0_1 _ _ _) rfl dX1_image_1 ?_
  refine lv_aload_n hx hb dX1_image_4 rfl (lv_at hl 0 rfl) ?_
  refine cm_get XC hM q379 (cf_0_0 _ _ _) rfl dX1_image_5 ?_
  refine gcV (As := [.ref (hC + 1)]) (rest := []) (b := hC + 236) (C := "ManyEyes$State") X hS hFb (w_beI l Z DC dA hC A L k ed rs LI kI edI rsI S s.heap.size hh gS gI) hP (fun a h => Or.inl h) (va_recv X.2.2 hM.1 (ci := 1) (q0 := 236) rfl (cw_at (by decide))) (lw_V q285 q286 q287 q81 q288) (show hdV yX2_be "ManyEyes$State" 1 by decide +kernel) ⟨rfl, rfl⟩ ⟨Nat.le_of_ble_eq_true rfl, Nat.le_of_ble_eq_true rfl⟩ ⟨show 0 + beX kI rs.length ≤ beX kI rs.length by omega, show 0 + 10 * beX kI rs.length ≤ 10 * beX kI rs.length by omega⟩ hl.1 (Nat.le_of_ble_eq_true rfl) dX1_image_8 rfl (fun v H1 locs1 hv hfr hS1 => ?_)
  obtain ⟨rfl, m1, ed1, hP1, hR1⟩ := hv
  have hM1 : CX DC dA hC (hA (beF hC kI edI) s.heap.size) (cf5 S1 m1 (ed1 : Int) (rs.length : Int)) s H1 locs1 := ⟨hP1, hS1, fun q h => Or.inl (Or.inl h)⟩
  refine lv_aload_n hx hb dX1_image_11 rfl (lv_at hl 0 rfl) ?_
  refine cm_get XC hM1 q379 (cf_0_0 _ _ _) rfl dX1_image_12 ?_
  refine cm_getN XC hM1 q161 (cf_1_0 _ _ _) rfl dX1_image_15 ?_
  refine lv_iconst (v := zi 3) hx hb dX1_image_18 rfl ?_
  refine cm_iald (qz := 2) XC hM1 ci_2 rfl rfl (by decide) dX1_image_19 ?_
  have hfin := hret 20 ls H1 locs1 (S1.2 2 3) dX1_image_20 ⟨rfl, m1, ed1, hP1, hR1⟩ hS1
  rw [Nat.zero_add, Nat.zero_add]
  exact hfin
theorem wC_back (l : Launch) (Z : hZ) (DC : va_G) (dA : Nat → ClassId) (hC : Nat) (A : Nat → Prop) (L : List Nat) (k ed : Nat) (rs : List (List tCl)) (LI : List Nat) (kI edI : Nat) (rsI : List (List tCl)) (S : yS) (n0 : Nat) {S1 : yS} (hh : C_beB S = some S1) (gS : S.1 51 = (ed : Int) ∧ S.1 52 = (rs.length : Int)) (gI : S.1 41 = (edI : Int) ∧ S.1 42 = (rsI.length : Int)) : mG l yX1_back cX1_back 1 (some .int) ({ frames := 10, cells := beX kI rs.length, slots := 10 * beX kI rs.length, locals := 390 } : Room) Z DC dA [.ref hC] n0 (fun H => va_P DC ccl (cw dA hC S) H ∧ RO2 Z hC A L k ed rs LI kI edI rsI H) (fun v H => v = some (.int (zi (S1.2 2 3))) ∧ ∃ (m : Int) (ed' : Nat), va_P DC ccl (cw dA hC (cf4 S1 m (ed' : Int) (rs.length : Int))) H ∧ RO2 Z hC A L k ed rs L (beC kI rs.length) ed' rs H) (beF hC kI edI) (beX kI rs.length) (10 * beX kI rs.length) := by
  refine goGi (by decide +kernel) (Nat.le_of_ble_eq_true rfl) ?_
  intro p e s m args below meth c Q ls X hret hl hP hn hS
  subst hn
  have XC := fcx_c X
  have hx := X.1.1
  have hb := X.1.2.1
  have hown := X.1.2.2.2.1
  have hts := X.1.2.2.2.2
  have hO := hP.2.1
  have hOI := hP.2.2.1
  have hFb : ∀ a, beF hC kI edI a → Z.b ≤ a := by
    intro a h
    rcases h with h | h
    · exact Nat.le_trans hO.1 h.1
    · rcases hOI.2.1 with w | w
      · omega
      · rw [h.2]; exact w.2.2.2.1
  have hM : CX DC dA hC (hA (beF hC kI edI) s.heap.size) S s s.heap [] := ⟨hP.1, hS, fun q h => Or.inl (Or.inl h)⟩
  replace hl : lv_has ls 1 [(0, .ref hC)] := hl
  refine lv_aload_n hx hb dX1_back_0 rfl (lv_at hl 0 rfl) ?_
  refine cm_get XC hM q379 (cf_0_0 _ _ _) rfl dX1_back_1 ?_
  refine lv_aload_n hx hb dX1_back_4 rfl (lv_at hl 0 rfl) ?_
  refine cm_get XC hM q380 (cf_0_1 _ _ _) rfl dX1_back_5 ?_
  refine gcV (As := [.ref (hC + 236)]) (rest := []) (b := hC + 1) (C := "ManyEyes$State") X hS hFb (w_beB l Z DC dA hC A L k ed rs LI kI edI rsI S s.heap.size hh gS gI) hP (fun a h => Or.inl h) (va_recv X.2.2 hM.1 (ci := 1) (q0 := 1) rfl (cw_at (by decide))) (lw_V q285 q286 q287 q81 q288) (show hdV yX2_be "ManyEyes$State" 1 by decide +kernel) ⟨rfl, rfl⟩ ⟨Nat.le_of_ble_eq_true rfl, Nat.le_of_ble_eq_true rfl⟩ ⟨show 0 + beX kI rs.length ≤ beX kI rs.length by omega, show 0 + 10 * beX kI rs.length ≤ 10 * beX kI rs.length by omega⟩ hl.1 (Nat.le_of_ble_eq_true rfl) dX1_back_8 rfl (fun v H1 locs1 hv hfr hS1 => ?_)
  obtain ⟨rfl, m1, ed1, hP1, hR1⟩ := hv
  have hM1 : CX DC dA hC (hA (beF hC kI edI) s.heap.size) (cf4 S1 m1 (ed1 : Int) (rs.length : Int)) s H1 locs1 := ⟨hP1, hS1, fun q h => Or.inl (Or.inl h)⟩
  refine lv_aload_n hx hb dX1_back_11 rfl (lv_at hl 0 rfl) ?_
  refine cm_get XC hM1 q379 (cf_0_0 _ _ _) rfl dX1_back_12 ?_
  refine cm_getN XC hM1 q161 (cf_1_0 _ _ _) rfl dX1_back_15 ?_
  refine lv_iconst (v := zi 3) hx hb dX1_back_18 rfl ?_
  refine cm_iald (qz := 2) XC hM1 ci_2 rfl rfl (by decide) dX1_back_19 ?_
  have hfin := hret 20 ls H1 locs1 (S1.2 2 3) dX1_back_20 ⟨rfl, m1, ed1, hP1, hR1⟩ hS1
  rw [Nat.zero_add, Nat.zero_add]
  exact hfin
