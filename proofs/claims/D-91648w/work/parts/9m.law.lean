/-! THE LAW: what holds in its frame; its calls -/
set_option maxRecDepth 100000
/-- the class of each of the model's cells has a name, and it isn't that of Object[] -/
theorem mo_cls {s : State} {DM : va_G} {dA : Nat → ClassId} {hM : Nat} {Sm : xS} {H : Heap} {x : Nat} (hK : va_K DM mcl (mty dA) s) (hP : va_P DM mcl (mo_ws dA hM Sm) H) (hx : mA hM x) : ∃ (cell : Cell) (N : String), H[x]? = some cell ∧ s.vm.findClass N = some cell.cls ∧ N ≠ "[" ++ (FieldType.object "java/lang/Object").toString := by
  obtain ⟨j, rfl⟩ : ∃ j, x = hM + j := ⟨x - hM, by have := hx.1; omega⟩
  have hj : j < 15 := by have := hx.2; omega
  have kI : s.vm.findClass ("[" ++ FieldType.int.toString) = some (dA 0) := (hK.2 0 (dA 0, .int) rfl).2
  have kJ : s.vm.findClass ("[" ++ FieldType.long.toString) = some (dA 1) := (hK.2 1 (dA 1, .long) rfl).2
  have kZ : s.vm.findClass ("[" ++ FieldType.boolean.toString) = some (dA 2) := (hK.2 2 (dA 2, .boolean) rfl).2
  have nI : "[" ++ FieldType.int.toString ≠ "[" ++ (FieldType.object "java/lang/Object").toString := by decide +kernel
  have nJ : "[" ++ FieldType.long.toString ≠ "[" ++ (FieldType.object "java/lang/Object").toString := by decide +kernel
  have nZ : "[" ++ FieldType.boolean.toString ≠ "[" ++ (FieldType.object "java/lang/Object").toString := by decide +kernel
  rcases (show j = 0 ∨ j = 1 ∨ j = 2 ∨ j = 3 ∨ j = 4 ∨ j = 5 ∨ j = 6 ∨ j = 7 ∨ j = 8 ∨ j = 9 ∨ j = 10 ∨ j = 11 ∨ j = 12 ∨ j = 13 ∨ j = 14 by omega) with rfl | rfl | rfl | rfl | rfl | rfl | rfl | rfl | rfl | rfl | rfl | rfl | rfl | rfl | rfl
  · obtain ⟨cell, h1, _, h3⟩ := va_recv hK hP (ci := 0) (q0 := 0) rfl rfl
    exact ⟨cell, _, h1, h3, by decide +kernel⟩
  · exact ⟨vp_cell _ _, _, hP 1 _ rfl, kI, nI⟩
  · exact ⟨vp_cell _ _, _, hP 2 _ rfl, kI, nI⟩
  · exact ⟨vp_cell _ _, _, hP 3 _ rfl, kI, nI⟩
  · exact ⟨vp_cell _ _, _, hP 4 _ rfl, kI, nI⟩
  · exact ⟨vp_cell _ _, _, hP 5 _ rfl, kI, nI⟩
  · exact ⟨vp_cell _ _, _, hP 6 _ rfl, kI, nI⟩
  · exact ⟨vp_cell _ _, _, hP 7 _ rfl, kI, nI⟩
  · exact ⟨vp_cell _ _, _, hP 8 _ rfl, kI, nI⟩
  · exact ⟨vp_cell _ _, _, hP 9 _ rfl, kI, nI⟩
  · exact ⟨vp_cell _ _, _, hP 10 _ rfl, kI, nI⟩
  · exact ⟨vp_cell _ _, _, hP 11 _ rfl, kI, nI⟩
  · exact ⟨vp_cell _ _, _, hP 12 _ rfl, kJ, nJ⟩
  · exact ⟨vp_cell _ _, _, hP 13 _ rfl, kZ, nZ⟩
  · exact ⟨vp_cell _ _, _, hP 14 _ rfl, kZ, nZ⟩
/-- a list's array is none of the model's cells -/
theorem ed_off {s : State} {Z : hZ} {DM : va_G} {dA : Nat → ClassId} {hM : Nat} {Sm : xS} {H : Heap} {L : List Nat} {k ed : Nat} (hE : HE Z s) (hK : va_K DM mcl (mty dA) s) (hP : va_P DM mcl (mo_ws dA hM Sm) H) (hL : LstA Z L k ed H) (h10 : 10 ≤ k) : ¬ mA hM ed := by
  intro hx
  obtain ⟨cell, N, h1, h2, h3⟩ := mo_cls hK hP hx
  rcases hL with w | ⟨-, -, -, -, h5⟩
  · have := w.1; omega
  · have h6 : H[ed]? = some (vp_cell (Z.d 2) (k, .inr (.inr (.inr (.inr (fun j => L[j]?)))))) := h5
    rw [Option.some.inj (h1.symm.trans h6)] at h2
    obtain ⟨kA, comp, -, -, -, hn⟩ := (hE.1.2 2 (Z.d 2, .object "java/lang/Object") rfl).2
    exact h3 (fc_inj h2 hn)
/-- what holds in the law's frame -/
abbrev lCx (p : Program) (c : Code) (s : State) (m : MethodId) (args : Array Value) (Z : hZ) (DC DM : va_G) (dA : Nat → ClassId) : Prop := fCx "ManyEyesLaw" p c cL_law 4 s m args Z DC dA ∧ va_K DM mcl (mty dA) s
abbrev lA (s : State) : Nat → Prop := hA F0_ s.heap.size
/-- both objects, and the rules -/
def LW (Z : hZ) (DC DM : va_G) (dA : Nat → ClassId) (hC hM : Nat) (A : Nat → Prop) (L : List Nat) (k ed : Nat) (rs : List (List tCl)) (LI : List Nat) (kI edI : Nat) (rsI : List (List tCl)) (S : yS) (Sm : xS) (H : Heap) : Prop := va_P DC ccl (cw dA hC S) H ∧ RO2 Z hC A L k ed rs LI kI edI rsI H ∧ va_P DM mcl (mo_ws dA hM Sm) H ∧ hC + 662 ≤ hM ∧ ∀ x, A x → ¬ mA hM x
/-- the room taken after n calls -/
def BU (S : yS) (n cells slots : Nat) : Prop := (cells : Int) + 30 * S.1 5 ≤ 10000 + 9100 * n ∧ slots ≤ 40000 + 42400 * n
theorem JJ.tp {S : yS} {Sm : xS} {ed : Nat} {rs : List (List tCl)} {edI : Nat} {rsI : List (List tCl)} (h : JJ S Sm ed rs edI rsI) : 0 ≤ S.1 5 ∧ S.1 5 ≤ 300 := by
  obtain ⟨t1, t2, -⟩ := h.1.1.2.2.2.2.2
  rw [t1]
  exact t2
theorem BU.next {S S' : yS} {n cells slots d d' : Nat} (h : BU S n cells slots) (h1 : 0 ≤ S.1 5) (h2 : S'.1 5 ≤ 300) (hd : d ≤ 100) (hd' : d' ≤ 42400) : BU S' (n + 1) (cells + d) (slots + d') := by
  obtain ⟨a, b⟩ := h
  refine ⟨?_, by omega⟩
  omega
theorem BU.next0 {S S' : yS} {n cells slots : Nat} (h : BU S n cells slots) (h1 : 0 ≤ S.1 5) (h2 : S'.1 5 ≤ 300) : BU S' (n + 1) cells slots := h.next (d := 0) (d' := 0) h1 h2 (by omega) (by omega)
theorem BU.fit {S : yS} {n cells slots : Nat} (h : BU S n cells slots) (h1 : 0 ≤ S.1 5 ∧ S.1 5 ≤ 300) (hn : n ≤ 63) {d d' : Nat} (hd : (d : Int) ≤ 60 * S.1 5 + 100) (hd' : d' ≤ 42400) : cells + d ≤ room_1.cells ∧ slots + d' ≤ room_1.slots := by
  obtain ⟨a, b⟩ := h
  show cells + d ≤ 601024 ∧ slots + d' ≤ 7293000
  refine ⟨?_, by omega⟩
  omega
theorem RO2.keepC {Z : hZ} {hC : Nat} {A : Nat → Prop} {L : List Nat} {k ed : Nat} {rs : List (List tCl)} {LI : List Nat} {kI edI : Nat} {rsI : List (List tCl)} {H H1 : Heap} (h : RO2 Z hC A L k ed rs LI kI edI rsI H) (f : hFr (cA hC) H H1) : RO2 Z hC A L k ed rs LI kI edI rsI H1 := by
  obtain ⟨h1, h2, h3, h4, h5, h6, h7⟩ := h
  exact ⟨h1.keep f.2, h2.keep f.2, h3, h4, h5, fun x hx => Nat.lt_of_lt_of_le (h6 x hx) f.1, h7⟩
theorem cA_mA {hC hM x : Nat} (h : hC + 662 ≤ hM) (hx : cA hC x) : ¬ mA hM x := by
  intro z
  have := hx.2
  have := z.1
  omega
theorem mP_keep {DM : va_G} {dA : Nat → ClassId} {hM : Nat} {Sm : xS} {H H1 : Heap} {F : Nat → Prop} (h : va_P DM mcl (mo_ws dA hM Sm) H) (hF : ∀ x, F x → ¬ mA hM x) (f : hFr F H H1) : va_P DM mcl (mo_ws dA hM Sm) H1 := h.kept (fun k q hq => f.2 q.1 (va_at_lt (h k q hq)) (fun z => hF _ z (mo_D.2 k q hq)))
/-- after a call of the model -/
theorem LW.go {s : State} {Z : hZ} {DC DM : va_G} {dA : Nat → ClassId} {hC hM : Nat} {A : Nat → Prop} {L : List Nat} {k ed : Nat} {rs : List (List tCl)} {LI : List Nat} {kI edI : Nat} {rsI : List (List tCl)} {S : yS} {Sm Sm1 : xS} {H1 H2 : Heap} (hE : HE Z s) (hK : va_K DM mcl (mty dA) s) (hP1 : va_P DC ccl (cw dA hC S) H1) (hR : RO2 Z hC A L k ed rs LI kI edI rsI H1) (hM1 : va_P DM mcl (mo_ws dA hM Sm) H1) (hle : hC + 662 ≤ hM) (hA : ∀ x, A x → ¬ mA hM x) (hP2 : va_P DM mcl (mo_ws dA hM Sm1) H2) (f : hFr (mA hM) H1 H2) : LW Z DC DM dA hC hM A L k ed rs LI kI edI rsI S Sm1 H2 := by
  obtain ⟨h1, h2, h3, h4, h5, h6, h7⟩ := hR
  have hb : Z.b ≤ hC := h1.1
  have lo : ∀ x, x < Z.b → ¬ mA hM x := fun x hx z => by have := z.1; omega
  refine ⟨hP1.kept (fun k q hq => ?_), ⟨h1.keep2 (fun x hx w => f.2 x hx ?_), h2.keep2 (fun x hx w => f.2 x hx ?_), h3, h4, h5, fun x hx => Nat.lt_of_lt_of_le (h6 x hx) f.1, h7⟩, hP2, hle, hA⟩
  · obtain ⟨hi, e⟩ := cw_in hq
    refine f.2 q.1 (va_at_lt (hP1 k q hq)) (cA_mA hle ?_)
    rw [e]
    exact ⟨Nat.le_add_right _ _, by show hC + k < hC + 662; omega⟩
  · rcases w with ⟨w1, rfl⟩ | w | w
    · exact ed_off hE hK hM1 h1.2.1 w1
    · exact hA x w
    · exact lo x w
  · rcases w with ⟨w1, rfl⟩ | w | w
    · exact ed_off hE hK hM1 h2.2.1 w1
    · exact hA x w
    · exact lo x w
/-- a number of the script -/
def sj (xs : Nat → Int32) (j : Int) : Int := (xs j.toNat).toInt
theorem sj_r (xs : Nat → Int32) (j : Int) : r32 (sj xs j) := zi_r _
/-- a number asked 'isn't it 0' -/
def nz (v : Int) : Int := if v = 0 then 0 else 1
theorem nz_r (v : Int) : r32 (nz v) := by
  unfold nz
  by_cases h : v = 0
  · rw [if_pos h]; decide
  · rw [if_neg h]; decide
section LC
variable {p : Program} {l : Launch} {e : Env} {R : Room} {s : State} {m : MethodId} {args : Array Value} {below : List Frame} {meth : Method} {c : Code} {H : Heap} {locs : List Loc} {cells slots : Nat} {Q : State → Prop}
variable {pc : Nat} {ls : Array Slot} {rest : List Value}
variable {y : MethodName} {bytes : ByteArray} {maxL idx : Nat} {ret : Option FieldType} {rm : Room} {As st : List Value} {Z : hZ} {DC DM : va_G} {dA : Nat → ClassId} {hC hM : Nat} {S S1 : yS} {Sm Sm1 : xS} {r : Int}
theorem lc_i (X : lCx p c s m args Z DC DM dA) (hP : va_P DC ccl (cw dA hC S) H) (hS : va_S (lA s) s.heap H locs) (hb0 : s.heap.size ≤ hC) (met : ct_i l y bytes maxL ret rm DC dA hC (.ref hC :: As) S r S1) (hT : GoodIn lw_all (wsV "ManyEyesLaw" idx "ManyEyes" y (ws_ y bytes maxL ret))) (hd : y.cls = "ManyEyes" ∧ y.cls ≠ "java/lang/invoke/MethodHandle" ∧ y.cls ≠ "java/lang/invoke/VarHandle" ∧ (parseMethodDescriptor y.desc).map (fun d => d.parameters.length) = some As.length) (hrm : rm.cells = 0 ∧ rm.slots = 0) (hR : rm.frames + 1 ≤ R.frames ∧ 8 + (maxL + 11) + rm.locals ≤ R.locals) (hcs : cells + 0 ≤ R.cells ∧ slots + 0 ≤ R.slots) (hls : ls.size = 4) (hdg : decode cL_law pc = .ok (.invokevirtual idx, 3)) (hst : st = As.reverse ++ .ref hC :: [])
    (kk : ∀ (H1 : Heap) (locs1 : List Loc), va_P DC ccl (cw dA hC S1) H1 → hFr (cA hC) H H1 → va_S (lA s) s.heap H1 locs1 → W p l e R s m args below meth c H1 locs1 cells slots Q (F0 m (pc + 3) ls [.int (zi r)])) : W p l e R s m args below meth c H locs cells slots Q (F0 m pc ls st) := by
  subst hst
  refine va_calli (va_runV (As := As) (rest := []) X.1.1 met (cwV As.length X.1.1.2.2.2.2 hT rfl hrm.1 hrm.2 hd hR) ⟨cu_blind, va_recv X.1.2.2 hP (ci := 0) (q0 := 0) rfl (cw_at (by decide)), fun U hU hW => ⟨rfl, cu_of (fcx_c X.1) hP hU hW⟩⟩ rfl rfl hls rfl (lv_room (Nat.zero_le _)) hdg ⟨hcs.1, hcs.2⟩) hS (fun q _ hq => Or.inr (Nat.le_trans hb0 hq.1)) (fun q hq => Or.inr (Nat.le_trans hb0 hq.1)) (fun v u t H1 locs1 ht hvm hp hB hz hk hS => ?_)
  obtain ⟨rfl, rfl⟩ := hp
  exact kk H1 locs1 (by rw [← ht]; exact hB.1) ⟨hz, hk⟩ hS
theorem lc_A {mc ms : Nat} (X : lCx p c s m args Z DC DM dA) (hP : va_P DC ccl (cw dA hC S) H) (hS : va_S (lA s) s.heap H locs) (hb0 : s.heap.size ≤ hC) (met : ctA_i l y bytes maxL ret rm DC dA hC H.size (.ref hC :: As) S r S1 mc ms) (hT : GoodIn lw_all (wsV "ManyEyesLaw" idx "ManyEyes" y (ws_ y bytes maxL ret))) (hd : y.cls = "ManyEyes" ∧ y.cls ≠ "java/lang/invoke/MethodHandle" ∧ y.cls ≠ "java/lang/invoke/VarHandle" ∧ (parseMethodDescriptor y.desc).map (fun d => d.parameters.length) = some As.length) (hrm : rm.cells = mc ∧ rm.slots = ms) (hR : rm.frames + 1 ≤ R.frames ∧ 8 + (maxL + 11) + rm.locals ≤ R.locals) (hcs : cells + mc ≤ R.cells ∧ slots + ms ≤ R.slots) (hls : ls.size = 4) (hdg : decode cL_law pc = .ok (.invokevirtual idx, 3)) (hst : st = As.reverse ++ .ref hC :: [])
    (kk : ∀ (H1 : Heap) (locs1 : List Loc), va_P DC ccl (cw dA hC S1) H1 → hFr (cA hC) H H1 → va_S (lA s) s.heap H1 locs1 → W p l e R s m args below meth c H1 locs1 (cells + mc) (slots + ms) Q (F0 m (pc + 3) ls [.int (zi r)])) : W p l e R s m args below meth c H locs cells slots Q (F0 m pc ls st) := by
  subst hst
  have hlA : ∀ q, cN hC H.size q → lA s q := fun q hq => hq.elim (fun w => Or.inr (Nat.le_trans hb0 w.1)) (fun w => Or.inr (Nat.le_trans hS.1 w))
  refine va_calli (va_runV (As := As) (rest := []) X.1.1 met (cwV As.length X.1.1.2.2.2.2 hT rfl hrm.1 hrm.2 hd hR) ⟨fun a U g mk q => ⟨q.1, q.2.1, q.2.2.1, va_K.moved (u := U) (U := U.calling g mk a) (Vm.Alike.refl U.vm) q.2.2.2.1, NWs.same (u := U) (U := U.calling g mk a) rfl q.2.2.2.2⟩, va_recv X.1.2.2 hP (ci := 0) (q0 := 0) rfl (cw_at (by decide)), fun U hU hW => ⟨rfl, by rw [hU], cu_of (fcx_c X.1) hP hU hW⟩⟩ rfl rfl hls rfl (lv_room (Nat.zero_le _)) hdg ⟨hcs.1, hcs.2⟩) hS (fun q _ hq => hlA q hq) (fun q hq => hlA q hq) (fun v u t H1 locs1 ht hvm hp hB hz hk hS => ?_)
  obtain ⟨rfl, rfl⟩ := hp
  exact kk H1 locs1 (by rw [← ht]; exact hB.1) ⟨hz, fun q h1 h2 => hk q h1 (fun w => w.elim h2 (fun w => absurd w (Nat.not_le.mpr h1)))⟩ hS
theorem lc_m (X : lCx p c s m args Z DC DM dA) (hP : va_P DM mcl (mo_ws dA hM Sm) H) (hS : va_S (lA s) s.heap H locs) (hb0 : s.heap.size ≤ hM) (met : mt_i l y bytes maxL ret rm DM dA hM As Sm r Sm1) (hT : GoodIn lw_all (wsV "ManyEyesLaw" idx "ManyEyesModel" y (ws_ y bytes maxL ret))) (hd : y.cls = "ManyEyesModel" ∧ y.cls ≠ "java/lang/invoke/MethodHandle" ∧ y.cls ≠ "java/lang/invoke/VarHandle" ∧ (parseMethodDescriptor y.desc).map (fun d => d.parameters.length) = some As.length) (hrm : rm.cells = 0 ∧ rm.slots = 0) (hR : rm.frames + 1 ≤ R.frames ∧ 8 + (maxL + 11) + rm.locals ≤ R.locals) (hcs : cells + 0 ≤ R.cells ∧ slots + 0 ≤ R.slots) (hls : ls.size = 4) (hro : (rest.map fun v => v.category).sum ≤ 8) (hdg : decode cL_law pc = .ok (.invokevirtual idx, 3)) (hst : st = As.reverse ++ .ref hM :: rest)
    (kk : ∀ (H1 : Heap) (locs1 : List Loc), va_P DM mcl (mo_ws dA hM Sm1) H1 → hFr (mA hM) H H1 → va_S (lA s) s.heap H1 locs1 → W p l e R s m args below meth c H1 locs1 cells slots Q (F0 m (pc + 3) ls (.int (zi r) :: rest))) : W p l e R s m args below meth c H locs cells slots Q (F0 m pc ls st) := by
  subst hst
  refine va_calli (va_runV (As := As) (rest := rest) X.1.1 met (cwV As.length X.1.1.2.2.2.2 hT rfl hrm.1 hrm.2 hd hR) (mu_pre X.2 hP) rfl rfl hls rfl (lv_room hro) hdg ⟨hcs.1, hcs.2⟩) hS (fun q _ hq => Or.inr (Nat.le_trans hb0 hq.1)) (fun q hq => Or.inr (Nat.le_trans hb0 hq.1)) (fun v u t H1 locs1 ht hvm hp hB hz hk hS => ?_)
  obtain ⟨rfl, rfl⟩ := hp
  exact kk H1 locs1 (by rw [← ht]; exact hB.1) ⟨hz, hk⟩ hS
theorem gcVW {own : String} {cc : ByteArray} {nL mc ms : Nat} {hh : List (Nat × Nat × Nat × Nat)} {Pre : Heap → Prop} {Rr : Option Value → Heap → Prop} {F F1 : Nat → Prop} (X : fCx own p c cc nL s m args Z DC dA) (hS : va_S (hA F s.heap.size) s.heap H locs) (hF : ∀ a, F a → Z.b ≤ a) {b : Nat} {C : String} (met : mGW l y bytes maxL ret hh rm Z DC dA (.ref b :: As) H.size Pre Rr F1 mc ms) (hp : Pre H) (hF1 : ∀ a, F1 a → hA F s.heap.size a) (hb : ∃ cell : Cell, H[b]? = some cell ∧ cell.vm.isStatics = false ∧ s.vm.findClass C = some cell.cls) (q1 : Cond.methodLink own idx y ∈ lw_all) (q2 : Cond.instanceMethod y ∈ lw_all) (q3 : Cond.selects C y y ∈ lw_all) (q4 : Cond.initialized y.cls ∈ lw_all) (q5 : Cond.codeWith y bytes maxL ret hh ∈ lw_all) (hy : y.cls ≠ "java/lang/invoke/MethodHandle" ∧ y.cls ≠ "java/lang/invoke/VarHandle") (hd : (parseMethodDescriptor y.desc).map (fun d => d.parameters.length) = some As.length) (hrm : rm.cells = mc ∧ rm.slots = ms) (hR : rm.frames + 1 ≤ R.frames ∧ 8 + (maxL + 11) + rm.locals ≤ R.locals) (hcs : cells + mc ≤ R.cells ∧ slots + ms ≤ R.slots) (hls : ls.size = nL) (hro : (rest.map fun v => v.category).sum ≤ 8) (hdg : decode cc pc = .ok (.invokevirtual idx, 3)) (hst : st = As.reverse ++ .ref b :: rest)
    (kk : ∀ (v : Option Value) (H1 : Heap) (locs1 : List Loc), Rr v H1 → hFr F1 H H1 → va_S (hA F s.heap.size) s.heap H1 locs1 → W p l e R s m args below meth c H1 locs1 (cells + mc) (slots + ms) Q (F0 m (pc + 3) ls (v.toList ++ rest))) : W p l e R s m args below meth c H locs cells slots Q (F0 m pc ls st) := by
  subst hst
  exact callH3 (runVW (As := As) (rest := rest) X.1 met hrm hR q1 q2 q3 q4 q5 hy hd ⟨fPc_blind, hb, fun U hU hW => ⟨rfl, X.2.1.at hS hF hU hW, va_K.moved hW.alike X.2.2, by rw [hU], by rw [hU]; exact hp⟩⟩ rfl hls rfl (lv_room hro) hdg hcs) hS (fun q hq z => z.elim (hF1 q) (fun w => absurd w (Nat.not_le.mpr hq))) (fun q z => z.elim (hF1 q) (fun w => Or.inr (Nat.le_trans hS.1 w))) (fun v H1 locs1 hv hz hk hS => kk v H1 locs1 hv ⟨hz, fun q h1 h2 => hk q h1 (fun z => z.elim h2 (fun w => absurd w (Nat.not_le.mpr h1)))⟩ hS)
variable {b Ls : Nat} {xs : Nat → Int32} {i k : Int}
theorem la_c (X : lCx p c s m args Z DC DM dA) (hX : va_X b Ls xs s s.heap) (hbl : b < s.heap.size) (hS : va_S (lA s) s.heap H locs) (hl : lv_has ls 4 [(0, .ref b), (1, .ref hC), (2, .ref hM), (3, .int (zi i))]) (hi : 0 ≤ i + k ∧ i + k < (Ls : Int)) (hL : Ls ≤ 578) (h0 : decode cL_law pc = .ok (.aload_n 0, 1)) (h1 : decode cL_law (pc + 1) = .ok (.iload_n 3, 1)) (h2 : decode cL_law (pc + 2) = .ok (.iconst k, 1)) (h3 : decode cL_law (pc + 3) = .ok (.iadd, 1)) (h4 : decode cL_law (pc + 4) = .ok (.iaload, 1)) (kk : W p l e R s m args below meth c H locs cells slots Q (F0 m (pc + 5) ls (.int (zi (sj xs (i + k))) :: rest))) : W p l e R s m args below meth c H locs cells slots Q (F0 m pc ls rest) := by
  have hx := X.1.1.1
  have hb := X.1.1.2.1
  refine lv_aload_n hx hb h0 rfl (lv_at hl 0 rfl) ?_
  refine lv_iload_n hx hb h1 rfl (lv_at hl 3 rfl) ?_
  refine lv_iconst (v := zi k) hx hb h2 rfl ?_
  refine g_iadd hx hb h3 ?_
  refine va_sld hx hb hX hbl (fun z => z.elim id (fun w => absurd w (Nat.not_le.mpr hbl))) hS (zi_in hi (by omega)) h4 ?_
  have e1 : xs (zi (i + k)).toNatClampNeg = zi (sj xs (i + k)) := by
    rw [zi_cl ⟨hi.1, by omega⟩]
    exact (zi_of _).symm
  rw [e1]
  exact kk
theorem la_b (X : lCx p c s m args Z DC DM dA) (hX : va_X b Ls xs s s.heap) (hbl : b < s.heap.size) (hS : va_S (lA s) s.heap H locs) (hl : lv_has ls 4 [(0, .ref b), (1, .ref hC), (2, .ref hM), (3, .int (zi i))]) (hi : 0 ≤ i + k ∧ i + k < (Ls : Int)) (hL : Ls ≤ 578) (hv : (Int8.ofInt k).toInt32 = zi k) (h0 : decode cL_law pc = .ok (.aload_n 0, 1)) (h1 : decode cL_law (pc + 1) = .ok (.iload_n 3, 1)) (h2 : decode cL_law (pc + 2) = .ok (.bipush k, 2)) (h3 : decode cL_law (pc + 4) = .ok (.iadd, 1)) (h4 : decode cL_law (pc + 5) = .ok (.iaload, 1)) (kk : W p l e R s m args below meth c H locs cells slots Q (F0 m (pc + 6) ls (.int (zi (sj xs (i + k))) :: rest))) : W p l e R s m args below meth c H locs cells slots Q (F0 m pc ls rest) := by
  have hx := X.1.1.1
  have hb := X.1.1.2.1
  refine lv_aload_n hx hb h0 rfl (lv_at hl 0 rfl) ?_
  refine lv_iload_n hx hb h1 rfl (lv_at hl 3 rfl) ?_
  refine lv_bipush (v := zi k) hx hb h2 hv ?_
  refine g_iadd hx hb h3 ?_
  refine va_sld hx hb hX hbl (fun z => z.elim id (fun w => absurd w (Nat.not_le.mpr hbl))) hS (zi_in hi (by omega)) h4 ?_
  have e1 : xs (zi (i + k)).toNatClampNeg = zi (sj xs (i + k)) := by
    rw [zi_cl ⟨hi.1, by omega⟩]
    exact (zi_of _).symm
  rw [e1]
  exact kk
theorem la_z (X : lCx p c s m args Z DC DM dA) {v : Int} (hv : r32 v) (h0 : decode cL_law pc = .ok (.ifCond .eq 7, 3)) (h1 : decode cL_law (pc + 3) = .ok (.iconst 1, 1)) (h2 : decode cL_law (pc + 4) = .ok (.goto 4, 3)) (h3 : decode cL_law (pc + 7) = .ok (.iconst 0, 1)) (kk : W p l e R s m args below meth c H locs cells slots Q (F0 m (pc + 8) ls (.int (zi (nz v)) :: rest))) : W p l e R s m args below meth c H locs cells slots Q (F0 m pc ls (.int (zi v) :: rest)) := by
  have hx := X.1.1.1
  have hb := X.1.1.2.1
  refine g_if_eq (tgt := pc + 7) hx hb hv h0 (by omega) (fun c1 => ?_) (fun c1 => ?_)
  · refine lv_iconst (v := zi 0) hx hb h3 rfl ?_
    have e1 : nz v = 0 := if_pos c1
    rw [e1] at kk
    exact kk
  · refine lv_iconst (v := zi 1) hx hb h1 rfl ?_
    refine lv_goto (tgt := pc + 8) hx hb h2 (by omega) ?_
    have e1 : nz v = 1 := if_neg c1
    rw [e1] at kk
    exact kk
end LC
/-- how the law goes on after a call -/
def lNext (p : Program) (l : Launch) (e : Env) (s : State) (m : MethodId) (args : Array Value) (below : List Frame) (meth : Method) (c : Code) (Q : State → Prop) (ls : Array Slot) (Z : hZ) (DC DM : va_G) (dA : Nat → ClassId) (hC hM n : Nat) : Prop := ∀ (A : Nat → Prop) (L : List Nat) (k ed : Nat) (rs : List (List tCl)) (LI : List Nat) (kI edI : Nat) (rsI : List (List tCl)) (S : yS) (Sm : xS) (H : Heap) (locs : List Loc) (cells slots : Nat), LW Z DC DM dA hC hM A L k ed rs LI kI edI rsI S Sm H → JJ S Sm ed rs edI rsI → va_S (lA s) s.heap H locs → BU S n cells slots → W p l e room_1 s m args below meth c H locs cells slots Q (F0 m 1282 ls [])
