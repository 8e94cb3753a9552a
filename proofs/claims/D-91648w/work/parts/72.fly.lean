set_option maxRecDepth 100000
theorem ccsN_v {p : Program} {l : Launch} {e : Env} {R : Room} {s : State} {m : MethodId} {args : Array Value} {below : List Frame} {meth : Method} {c : Code} {H : Heap} {locs : List Loc} {cells slots : Nat} {Q : State → Prop} {cc : ByteArray} {pc nL : Nat} {ls : Array Slot} {rest st As : List Value} {DC : va_G} {dA : Nat → ClassId} {hC : Nat} {S S1 : yS} {own host : String} {A : Nat → Prop} {y : MethodName} {bytes : ByteArray} {maxL idx : Nat} {rm : Room} (X : cCx own p c cc nL s m args DC dA) (hM : CX DC dA hC A S s H locs) (met : ct_v l y bytes maxL rm DC dA hC As S S1) (hlk : Cond.methodLinkNest own idx y host ∈ lw_tbl) (hst0 : Cond.static y ∈ lw_all) (hini : Cond.initialized y.cls ∈ lw_all) (hco : Cond.code y bytes maxL none ∈ lw_all) (hd : y.cls ≠ "java/lang/invoke/MethodHandle" ∧ y.cls ≠ "java/lang/invoke/VarHandle" ∧ (parseMethodDescriptor y.desc).map (fun d => d.parameters.length) = some As.length) (hrm : rm.cells = 0 ∧ rm.slots = 0) (hR : rm.frames + 1 ≤ R.frames ∧ 8 + (maxL + 11) + rm.locals ≤ R.locals) (hcs : cells ≤ R.cells ∧ slots ≤ R.slots) (hls : ls.size = nL) (hro : (rest.map fun v => v.category).sum ≤ 8) (hdg : decode cc pc = .ok (.invokestatic idx, 3)) (hst : st = As.reverse ++ rest)
    (kk : ∀ (H1 : Heap) (locs1 : List Loc), CX DC dA hC A S1 s H1 locs1 → W p l e R s m args below meth c H1 locs1 cells slots Q (F0 m (pc + 3) ls rest)) : W p l e R s m args below meth c H locs cells slots Q (F0 m pc ls st) := by
  subst hst
  have hts := X.1.2.2.2.2
  refine va_callv (va_runSN (As := As) (rest := rest) X.1 met ⟨va_cnB As.length hts (lw_meth hco) rfl hrm.1 hrm.2 (X.2.2 _ hlk rfl) (hts _ hini) hd hR, hts _ hst0, trivial⟩ ⟨cu_blind, fun U hU hW => ⟨rfl, cu_of X hM.1 hU hW⟩⟩ rfl rfl hls rfl (lv_room hro) hdg ⟨hcs.1, hcs.2⟩) hM.2.1 (fun q _ hq => hM.2.2 q hq) (fun q hq => hM.2.2 q hq) (fun u t H1 locs1 ht hvm hp hB hz hk hS => ?_)
  subst hp
  exact kk H1 locs1 ⟨by rw [← ht]; exact hB.1, hS, hM.2.2⟩
theorem cx_X1_285 : GoodIn lw_all (va_wsS "ManyEyes" 285 yX1_isBits (ws_ yX1_isBits cX1_isBits 1 (some .boolean))) ∧ yX1_isBits.cls ≠ "java/lang/invoke/MethodHandle" ∧ yX1_isBits.cls ≠ "java/lang/invoke/VarHandle" ∧ (parseMethodDescriptor yX1_isBits.desc).map (fun d => d.parameters.length) = some 1 := ⟨lw_S q959 q960 q80 q961, by decide +kernel⟩
def C_fly_B209 (ed : Nat) (rs : List (List tCl)) (S : yS) (t0 : Int) (t1 : Int) : Option (Int × yS) := gd ((0 : Int) ≤ t1 ∧ (t1 : Int) < 14) (nm (cas S 2 t1 t0) (fun S38 => nm (cas S38 2 (11 : Int) (S38.1 24)) (fun S40 => nm (cas S40 2 (12 : Int) (S40.2 2 1)) (fun S42 => nm (cas S42 2 (13 : Int) (S42.2 2 2)) (fun S44 => some ((S44.1 17 : Int), S44))))))
def C_fly_B186 (ed : Nat) (rs : List (List tCl)) (S : yS) (t0 : Int) (t1 : Int) : Option (Int × yS) := gd ((0 : Int) ≤ t1 ∧ (t1 : Int) < 14) (nm (cas S 2 t1 t0) (fun S33 => gd (r32 (S33.1 19)) (if (S33.1 19) = 0 then (C_fly_B209 ed rs S33 (0 : Int) (10 : Int)) else (C_fly_B209 ed rs S33 (1 : Int) (10 : Int)))))
def C_fly (ed : Nat) (rs : List (List tCl)) (S : yS) (x1 : Int) (x2 : Int) (x3 : Int) (x4 : Int) (x5 : Int) (x6 : Int) : Option (Int × yS) := bd (C_isOne S (3 : Int) x1) (fun v2 => if v2 = true then (bd (C_in x5 (1 : Int) (60 : Int)) (fun v4 => if v4 = true then (bd (C_isBits x6) (fun v7 => if v7 = true then (bd2 (C_isStart S x2 x3 x4) (fun v11 S12 => if v11 = true then (bd (C_flies ed rs S12 x1 x2 x3 x4 x5 x6) (fun S15 => bd (C_cp475_52 S15) (fun S16 => bd (C_cp536_113 S16) (fun S18 => bd (C_cp597_174 S18) (fun S20 => nm (cas S20 2 (5 : Int) (S20.1 17)) (fun S22 => nm (cas S22 2 (6 : Int) (S22.1 14)) (fun S24 => nm (cas S24 2 (7 : Int) (S24.1 15)) (fun S26 => nm (cas S26 2 (8 : Int) (S26.1 16)) (fun S28 => gd (r32 (S28.1 18)) (if (S28.1 18) = 0 then (C_fly_B186 ed rs S28 (0 : Int) (9 : Int)) else (C_fly_B186 ed rs S28 (1 : Int) (9 : Int)))))))))))) else (some (((-1) : Int), S12)))) else (some (((-1) : Int), S)))) else (some (((-1) : Int), S)))) else (some (((-1) : Int), S)))
set_option maxHeartbeats 4000000 in
theorem wC_fly (l : Launch) (Z : hZ) (DC : va_G) (dA : Nat → ClassId) (hC : Nat) (A : Nat → Prop) (L : List Nat) (k ed : Nat) (rs : List (List tCl)) (S : yS) (x1 x2 x3 x4 x5 x6 : Int) (n0 : Nat) {r : Int} {S1 : yS} (hh : C_fly ed rs S x1 x2 x3 x4 x5 x6 = some (r, S1)) : mFl l yX1_fly cX1_fly 8 (some .int) ({ frames := 62, cells := 0, slots := 0, locals := 2357 } : Room) Z DC dA hC [.ref hC, .int (zi x1), .int (zi x2), .int (zi x3), .int (zi x4), .int (zi x5), .int (zi x6)] n0 (fPre Z DC dA hC A L k ed rs S) (some (.int (zi r))) S1 := by
  refine goFi (by decide +kernel) (Nat.le_of_ble_eq_true rfl) ?_
  intro p e s m args below meth c Q ls Y hret hl hM hO
  have X := fcx_c Y
  have hx := Y.1.1
  have hb := Y.1.2.1
  have hown := Y.1.2.2.2.1
  have hts := Y.1.2.2.2.2
  have hB209 : ∀ (t0 : Int) (t1 : Int) (S : yS), C_fly_B209 ed rs S t0 t1 = some (r, S1) → ∀ (H : Heap) (locs : List Loc) (ls : Array Slot), CX DC dA hC (hA (cA hC) s.heap.size) S s H locs → lv_has ls 8 [(0, .ref (hC)), (7, .ref (hC + 474))] → W p l e ({ frames := 62, cells := 0, slots := 0, locals := 2357 } : Room) s m args below meth c H locs 0 0 Q (F0 m 209 ls [.int (zi (t0)), .int (zi (t1)), .ref (hC + (1 + 1))]) := by
    intro t0 t1  S hh H locs ls hM hl
    unfold C_fly_B209 at hh
    obtain ⟨g37, hh⟩ := gd_inv hh
    refine cm_iast (qz := 2) X hM ci_2 rfl rfl g37 dX1_fly_209 (fun H locs S38 e39 hM => ?_)
    replace hh := nm_inv hh S38 e39
    refine lv_aload_n hx hb dX1_fly_210 rfl (lv_at hl 0 rfl) ?_
    refine cm_get X hM q379 (cf_0_0 _ _ _) rfl dX1_fly_211 ?_
    refine cm_getN X hM q161 (cf_1_0 _ _ _) rfl dX1_fly_214 ?_
    refine lv_bipush (v := zi 11) hx hb dX1_fly_217 (by decide) ?_
    refine lv_aload hx hb dX1_fly_219 (lv_at hl 1 rfl) ?_
    refine cm_getN X hM q251 (cf_474_3 _ _ _) rfl dX1_fly_221 ?_
    refine cm_getN X hM q226 (cf_658_4 _ _ _) rfl dX1_fly_224 ?_
    refine cm_iast (qz := 2) X hM ci_2 rfl rfl (by decide) dX1_fly_227 (fun H locs S40 e41 hM => ?_)
    replace hh := nm_inv hh S40 e41
    refine lv_aload_n hx hb dX1_fly_228 rfl (lv_at hl 0 rfl) ?_
    refine cm_get X hM q379 (cf_0_0 _ _ _) rfl dX1_fly_229 ?_
    refine cm_getN X hM q161 (cf_1_0 _ _ _) rfl dX1_fly_232 ?_
    refine lv_bipush (v := zi 12) hx hb dX1_fly_235 (by decide) ?_
    refine lv_aload_n hx hb dX1_fly_237 rfl (lv_at hl 0 rfl) ?_
    refine cm_get X hM q379 (cf_0_0 _ _ _) rfl dX1_fly_238 ?_
    refine cm_getN X hM q161 (cf_1_0 _ _ _) rfl dX1_fly_241 ?_
    refine lv_iconst (v := zi 1) hx hb dX1_fly_244 rfl ?_
    refine cm_iald (qz := 2) X hM ci_2 rfl rfl (by decide) dX1_fly_245 ?_
    refine cm_iast (qz := 2) X hM ci_2 rfl rfl (by decide) dX1_fly_246 (fun H locs S42 e43 hM => ?_)
    replace hh := nm_inv hh S42 e43
    refine lv_aload_n hx hb dX1_fly_247 rfl (lv_at hl 0 rfl) ?_
    refine cm_get X hM q379 (cf_0_0 _ _ _) rfl dX1_fly_248 ?_
    refine cm_getN X hM q161 (cf_1_0 _ _ _) rfl dX1_fly_251 ?_
    refine lv_bipush (v := zi 13) hx hb dX1_fly_254 (by decide) ?_
    refine lv_aload_n hx hb dX1_fly_256 rfl (lv_at hl 0 rfl) ?_
    refine cm_get X hM q379 (cf_0_0 _ _ _) rfl dX1_fly_257 ?_
    refine cm_getN X hM q161 (cf_1_0 _ _ _) rfl dX1_fly_260 ?_
    refine lv_iconst (v := zi 2) hx hb dX1_fly_263 rfl ?_
    refine cm_iald (qz := 2) X hM ci_2 rfl rfl (by decide) dX1_fly_264 ?_
    refine cm_iast (qz := 2) X hM ci_2 rfl rfl (by decide) dX1_fly_265 (fun H locs S44 e45 hM => ?_)
    replace hh := nm_inv hh S44 e45
    refine lv_aload hx hb dX1_fly_266 (lv_at hl 1 rfl) ?_
    refine cm_getN X hM q255 (cf_474_7 _ _ _) rfl dX1_fly_268 ?_
    exact hret _ _ _ _ _ _ (rt1 hh) (rt2 hh) dX1_fly_271 hM
  have hB186 : ∀ (t0 : Int) (t1 : Int) (S : yS), C_fly_B186 ed rs S t0 t1 = some (r, S1) → ∀ (H : Heap) (locs : List Loc) (ls : Array Slot), CX DC dA hC (hA (cA hC) s.heap.size) S s H locs → lv_has ls 8 [(0, .ref (hC)), (7, .ref (hC + 474))] → W p l e ({ frames := 62, cells := 0, slots := 0, locals := 2357 } : Room) s m args below meth c H locs 0 0 Q (F0 m 186 ls [.int (zi (t0)), .int (zi (t1)), .ref (hC + (1 + 1))]) := by
    intro t0 t1  S hh H locs ls hM hl
    unfold C_fly_B186 at hh
    obtain ⟨g32, hh⟩ := gd_inv hh
    refine cm_iast (qz := 2) X hM ci_2 rfl rfl g32 dX1_fly_186 (fun H locs S33 e34 hM => ?_)
    replace hh := nm_inv hh S33 e34
    refine lv_aload_n hx hb dX1_fly_187 rfl (lv_at hl 0 rfl) ?_
    refine cm_get X hM q379 (cf_0_0 _ _ _) rfl dX1_fly_188 ?_
    refine cm_getN X hM q161 (cf_1_0 _ _ _) rfl dX1_fly_191 ?_
    refine lv_bipush (v := zi 10) hx hb dX1_fly_194 (by decide) ?_
    refine lv_aload hx hb dX1_fly_196 (lv_at hl 1 rfl) ?_
    refine cm_getN X hM q257 (cf_474_9 _ _ _) rfl dX1_fly_198 ?_
    obtain ⟨g36, hh⟩ := gd_inv hh
    refine g_if_eq (tgt := 208) hx hb g36 dX1_fly_201 (by decide) (fun c35 => ?_) (fun c35 => ?_)
    · replace hh := it_t c35 hh
      refine lv_iconst (v := zi 0) hx hb dX1_fly_208 rfl ?_
      exact hB209 (0 : Int) (10 : Int) S33 hh _ _ _ hM (lv_sub hl [0, 1] rfl)
    · replace hh := it_f c35 hh
      refine lv_iconst (v := zi 1) hx hb dX1_fly_204 rfl ?_
      refine lv_goto (tgt := 209) hx hb dX1_fly_205 (by decide) ?_
      exact hB209 (1 : Int) (10 : Int) S33 hh _ _ _ hM (lv_sub hl [0, 1] rfl)
  replace hl : lv_has ls 8 [(0, .ref (hC)), (1, .int (zi (x1))), (2, .int (zi (x2))), (3, .int (zi (x3))), (4, .int (zi (x4))), (5, .int (zi (x5))), (6, .int (zi (x6)))] := hl
  unfold C_fly at hh
  refine lv_aload_n hx hb dX1_fly_0 rfl (lv_at hl 0 rfl) ?_
  refine lv_iconst (v := zi 3) hx hb dX1_fly_1 rfl ?_
  refine lv_iload_n hx hb dX1_fly_2 rfl (lv_at hl 1 rfl) ?_
  obtain ⟨v2, k1, hh⟩ := bd_inv hh
  refine cc_z (rest := []) X hM (wC_isOne l DC dA hC S (3 : Int) x1 k1) cx_X1_135.1 cx_X1_135.2 ⟨rfl, rfl⟩ ⟨Nat.le_of_ble_eq_true rfl, Nat.le_of_ble_eq_true rfl⟩ ⟨Nat.zero_le _, Nat.zero_le _⟩ hl.1 (Nat.le_of_ble_eq_true rfl) dX1_fly_3 rfl (fun H locs hM => ?_)
  refine g_bif_eq (tgt := 39) hx hb dX1_fly_6 (by decide) (fun c3 => ?_) (fun c3 => ?_)
  · replace hh := it_t c3 hh
    refine lv_iload hx hb dX1_fly_9 (lv_at hl 5 rfl) ?_
    refine lv_iconst (v := zi 1) hx hb dX1_fly_11 rfl ?_
    refine lv_bipush (v := zi 60) hx hb dX1_fly_12 (by decide) ?_
    obtain ⟨v4, k5, hh⟩ := bd_inv hh
    refine ccs_z (rest := []) X hM (wC_in l x5 (1 : Int) (60 : Int) k5) cx_X1_66.1 cx_X1_66.2 ⟨rfl, rfl⟩ ⟨Nat.le_of_ble_eq_true rfl, Nat.le_of_ble_eq_true rfl⟩ ⟨Nat.zero_le _, Nat.zero_le _⟩ hl.1 (Nat.le_of_ble_eq_true rfl) dX1_fly_14 rfl (fun H locs hM => ?_)
    refine g_bif_eq (tgt := 39) hx hb dX1_fly_17 (by decide) (fun c6 => ?_) (fun c6 => ?_)
    · replace hh := it_t c6 hh
      refine lv_iload hx hb dX1_fly_20 (lv_at hl 6 rfl) ?_
      obtain ⟨v7, k8, hh⟩ := bd_inv hh
      refine ccs_z (rest := []) X hM (wC_isBits l x6 k8) cx_X1_285.1 cx_X1_285.2 ⟨rfl, rfl⟩ ⟨Nat.le_of_ble_eq_true rfl, Nat.le_of_ble_eq_true rfl⟩ ⟨Nat.zero_le _, Nat.zero_le _⟩ hl.1 (Nat.le_of_ble_eq_true rfl) dX1_fly_22 rfl (fun H locs hM => ?_)
      refine g_bif_eq (tgt := 39) hx hb dX1_fly_25 (by decide) (fun c9 => ?_) (fun c9 => ?_)
      · replace hh := it_t c9 hh
        refine lv_aload_n hx hb dX1_fly_28 rfl (lv_at hl 0 rfl) ?_
        refine lv_iload_n hx hb dX1_fly_29 rfl (lv_at hl 2 rfl) ?_
        refine lv_iload_n hx hb dX1_fly_30 rfl (lv_at hl 3 rfl) ?_
        refine lv_iload hx hb dX1_fly_31 (lv_at hl 4 rfl) ?_
        obtain ⟨v11, S12, k10, hh⟩ := bd2_inv hh
        refine cc_z (rest := []) X hM (wC_isStart l DC dA hC S x2 x3 x4 k10) cx_X1_288.1 cx_X1_288.2 ⟨rfl, rfl⟩ ⟨Nat.le_of_ble_eq_true rfl, Nat.le_of_ble_eq_true rfl⟩ ⟨Nat.zero_le _, Nat.zero_le _⟩ hl.1 (Nat.le_of_ble_eq_true rfl) dX1_fly_33 rfl (fun H locs hM => ?_)
        refine g_bif_ne (tgt := 41) hx hb dX1_fly_36 (by decide) (fun c13 => ?_) (fun c13 => ?_)
        · replace hh := it_t c13 hh
          refine lv_aload_n hx hb dX1_fly_41 rfl (lv_at hl 0 rfl) ?_
          refine lv_iload_n hx hb dX1_fly_42 rfl (lv_at hl 1 rfl) ?_
          refine lv_iload_n hx hb dX1_fly_43 rfl (lv_at hl 2 rfl) ?_
          refine lv_iload_n hx hb dX1_fly_44 rfl (lv_at hl 3 rfl) ?_
          refine lv_iload hx hb dX1_fly_45 (lv_at hl 4 rfl) ?_
          refine lv_iload hx hb dX1_fly_47 (lv_at hl 5 rfl) ?_
          refine lv_iload hx hb dX1_fly_49 (lv_at hl 6 rfl) ?_
          obtain ⟨S15, k14, hh⟩ := bd_inv hh
          refine cf_ (rest := []) Y hM hO (wC_flies l Z DC dA hC A L k ed rs S12 x1 x2 x3 x4 x5 x6 _ k14) cx_X1_291.1 cx_X1_291.2 ⟨rfl, rfl⟩ ⟨Nat.le_of_ble_eq_true rfl, Nat.le_of_ble_eq_true rfl⟩ ⟨Nat.zero_le _, Nat.zero_le _⟩ hl.1 (Nat.le_of_ble_eq_true rfl) dX1_fly_51 rfl (fun H locs hM => ?_)
          refine lv_aload_n hx hb dX1_fly_54 rfl (lv_at hl 0 rfl) ?_
          refine cm_get X hM q390 (cf_0_11 _ _ _) rfl dX1_fly_55 ?_
          refine lv_astore (lv' := [(7, .ref (hC + 474)), (0, .ref (hC)), (1, .int (zi (x1))), (2, .int (zi (x2))), (3, .int (zi (x3))), (4, .int (zi (x4))), (5, .int (zi (x5))), (6, .int (zi (x6)))]) hx hb dX1_fly_58 hl (by decide) rfl (fun ls hl => ?_)
          refine lv_aload hx hb dX1_fly_60 (lv_at hl 0 rfl) ?_
          refine cm_getN X hM q245 (cf_474_0 _ _ _) rfl dX1_fly_62 ?_
          refine lv_aload_n hx hb dX1_fly_65 rfl (lv_at hl 1 rfl) ?_
          refine cm_get X hM q379 (cf_0_0 _ _ _) rfl dX1_fly_66 ?_
          refine cm_getN X hM q173 (cf_1_6 _ _ _) rfl dX1_fly_69 ?_
          obtain ⟨S16, k17, hh⟩ := bd_inv hh
          refine ccsN_v (rest := []) X hM (wC_cp475_52 l DC dA hC S15 k17) q1102 q293 q81 q294 (show hdS yX2_copy 2 by decide +kernel) ⟨rfl, rfl⟩ ⟨Nat.le_of_ble_eq_true rfl, Nat.le_of_ble_eq_true rfl⟩ ⟨Nat.zero_le _, Nat.zero_le _⟩ hl.1 (Nat.le_of_ble_eq_true rfl) dX1_fly_72 rfl (fun H locs hM => ?_)
          refine lv_aload hx hb dX1_fly_75 (lv_at hl 0 rfl) ?_
          refine cm_getN X hM q247 (cf_474_1 _ _ _) rfl dX1_fly_77 ?_
          refine lv_aload_n hx hb dX1_fly_80 rfl (lv_at hl 1 rfl) ?_
          refine cm_get X hM q379 (cf_0_0 _ _ _) rfl dX1_fly_81 ?_
          refine cm_getN X hM q175 (cf_1_7 _ _ _) rfl dX1_fly_84 ?_
          obtain ⟨S18, k19, hh⟩ := bd_inv hh
          refine ccsN_v (rest := []) X hM (wC_cp536_113 l DC dA hC S16 k19) q1102 q293 q81 q294 (show hdS yX2_copy 2 by decide +kernel) ⟨rfl, rfl⟩ ⟨Nat.le_of_ble_eq_true rfl, Nat.le_of_ble_eq_true rfl⟩ ⟨Nat.zero_le _, Nat.zero_le _⟩ hl.1 (Nat.le_of_ble_eq_true rfl) dX1_fly_87 rfl (fun H locs hM => ?_)
          refine lv_aload hx hb dX1_fly_90 (lv_at hl 0 rfl) ?_
          refine cm_getN X hM q249 (cf_474_2 _ _ _) rfl dX1_fly_92 ?_
          refine lv_aload_n hx hb dX1_fly_95 rfl (lv_at hl 1 rfl) ?_
          refine cm_get X hM q379 (cf_0_0 _ _ _) rfl dX1_fly_96 ?_
          refine cm_getN X hM q177 (cf_1_8 _ _ _) rfl dX1_fly_99 ?_
          obtain ⟨S20, k21, hh⟩ := bd_inv hh
          refine ccsN_v (rest := []) X hM (wC_cp597_174 l DC dA hC S18 k21) q1102 q293 q81 q294 (show hdS yX2_copy 2 by decide +kernel) ⟨rfl, rfl⟩ ⟨Nat.le_of_ble_eq_true rfl, Nat.le_of_ble_eq_true rfl⟩ ⟨Nat.zero_le _, Nat.zero_le _⟩ hl.1 (Nat.le_of_ble_eq_true rfl) dX1_fly_102 rfl (fun H locs hM => ?_)
          refine lv_aload_n hx hb dX1_fly_105 rfl (lv_at hl 1 rfl) ?_
          refine cm_get X hM q379 (cf_0_0 _ _ _) rfl dX1_fly_106 ?_
          refine cm_getN X hM q161 (cf_1_0 _ _ _) rfl dX1_fly_109 ?_
          refine lv_iconst (v := zi 5) hx hb dX1_fly_112 rfl ?_
          refine lv_aload hx hb dX1_fly_113 (lv_at hl 0 rfl) ?_
          refine cm_getN X hM q255 (cf_474_7 _ _ _) rfl dX1_fly_115 ?_
          refine cm_iast (qz := 2) X hM ci_2 rfl rfl (by decide) dX1_fly_118 (fun H locs S22 e23 hM => ?_)
          replace hh := nm_inv hh S22 e23
          refine lv_aload_n hx hb dX1_fly_119 rfl (lv_at hl 1 rfl) ?_
          refine cm_get X hM q379 (cf_0_0 _ _ _) rfl dX1_fly_120 ?_
          refine cm_getN X hM q161 (cf_1_0 _ _ _) rfl dX1_fly_123 ?_
          refine lv_bipush (v := zi 6) hx hb dX1_fly_126 (by decide) ?_
          refine lv_aload hx hb dX1_fly_128 (lv_at hl 0 rfl) ?_
          refine cm_getN X hM q252 (cf_474_4 _ _ _) rfl dX1_fly_130 ?_
          refine cm_iast (qz := 2) X hM ci_2 rfl rfl (by decide) dX1_fly_133 (fun H locs S24 e25 hM => ?_)
          replace hh := nm_inv hh S24 e25
          refine lv_aload_n hx hb dX1_fly_134 rfl (lv_at hl 1 rfl) ?_
          refine cm_get X hM q379 (cf_0_0 _ _ _) rfl dX1_fly_135 ?_
          refine cm_getN X hM q161 (cf_1_0 _ _ _) rfl dX1_fly_138 ?_
          refine lv_bipush (v := zi 7) hx hb dX1_fly_141 (by decide) ?_
          refine lv_aload hx hb dX1_fly_143 (lv_at hl 0 rfl) ?_
          refine cm_getN X hM q253 (cf_474_5 _ _ _) rfl dX1_fly_145 ?_
          refine cm_iast (qz := 2) X hM ci_2 rfl rfl (by decide) dX1_fly_148 (fun H locs S26 e27 hM => ?_)
          replace hh := nm_inv hh S26 e27
          refine lv_aload_n hx hb dX1_fly_149 rfl (lv_at hl 1 rfl) ?_
          refine cm_get X hM q379 (cf_0_0 _ _ _) rfl dX1_fly_150 ?_
          refine cm_getN X hM q161 (cf_1_0 _ _ _) rfl dX1_fly_153 ?_
          refine lv_bipush (v := zi 8) hx hb dX1_fly_156 (by decide) ?_
          refine lv_aload hx hb dX1_fly_158 (lv_at hl 0 rfl) ?_
          refine cm_getN X hM q254 (cf_474_6 _ _ _) rfl dX1_fly_160 ?_
          refine cm_iast (qz := 2) X hM ci_2 rfl rfl (by decide) dX1_fly_163 (fun H locs S28 e29 hM => ?_)
          replace hh := nm_inv hh S28 e29
          refine lv_aload_n hx hb dX1_fly_164 rfl (lv_at hl 1 rfl) ?_
          refine cm_get X hM q379 (cf_0_0 _ _ _) rfl dX1_fly_165 ?_
          refine cm_getN X hM q161 (cf_1_0 _ _ _) rfl dX1_fly_168 ?_
          refine lv_bipush (v := zi 9) hx hb dX1_fly_171 (by decide) ?_
          refine lv_aload hx hb dX1_fly_173 (lv_at hl 0 rfl) ?_
          refine cm_getN X hM q256 (cf_474_8 _ _ _) rfl dX1_fly_175 ?_
          obtain ⟨g31, hh⟩ := gd_inv hh
          refine g_if_eq (tgt := 185) hx hb g31 dX1_fly_178 (by decide) (fun c30 => ?_) (fun c30 => ?_)
          · replace hh := it_t c30 hh
            refine lv_iconst (v := zi 0) hx hb dX1_fly_185 rfl ?_
            exact hB186 (0 : Int) (9 : Int) S28 hh _ _ _ hM (lv_sub hl [1, 0] rfl)
          · replace hh := it_f c30 hh
            refine lv_iconst (v := zi 1) hx hb dX1_fly_181 rfl ?_
            refine lv_goto (tgt := 186) hx hb dX1_fly_182 (by decide) ?_
            exact hB186 (1 : Int) (9 : Int) S28 hh _ _ _ hM (lv_sub hl [1, 0] rfl)
        · replace hh := it_f c13 hh
          refine lv_iconst (v := zi (-1)) hx hb dX1_fly_39 rfl ?_
          exact hret _ _ _ _ _ _ (rt1 hh) (rt2 hh) dX1_fly_40 hM
      · replace hh := it_f c9 hh
        refine lv_iconst (v := zi (-1)) hx hb dX1_fly_39 rfl ?_
        exact hret _ _ _ _ _ _ (rt1 hh) (rt2 hh) dX1_fly_40 hM
    · replace hh := it_f c6 hh
      refine lv_iconst (v := zi (-1)) hx hb dX1_fly_39 rfl ?_
      exact hret _ _ _ _ _ _ (rt1 hh) (rt2 hh) dX1_fly_40 hM
  · replace hh := it_f c3 hh
    refine lv_iconst (v := zi (-1)) hx hb dX1_fly_39 rfl ?_
    exact hret _ _ _ _ _ _ (rt1 hh) (rt2 hh) dX1_fly_40 hM
