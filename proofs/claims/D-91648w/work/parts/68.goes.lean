set_option maxRecDepth 100000
def C_goes_B171 (ed : Nat) (rs : List (List tCl)) (K68 : yS → Int → Option yS) (S : yS) (x1 : Int) (x3 : Int) (x4 : Int) (t0 : Int) (t1 : Int) : Option yS := gd ((0 : Int) ≤ t1 ∧ (t1 : Int) < 16) (nm (cas S (597 + 1 + x3) t1 t0) (fun S23 => nm ((x4 + 1) : Int) (fun v25 => K68 S23 v25)))
def C_goes_B224 (ed : Nat) (rs : List (List tCl)) (K181 : yS → Int → Option yS) (S : yS) (x1 : Int) (x3 : Int) (x4 : Int) (t0 : Int) (t1 : Int) : Option yS := gd ((0 : Int) ≤ t1 ∧ (t1 : Int) < 16) (nm (cas S 659 t1 t0) (fun S46 => nm ((x4 + 1) : Int) (fun v48 => K181 S46 v48)))
def C_goes_B277 (ed : Nat) (rs : List (List tCl)) (K234 : yS → Int → Option yS) (S : yS) (x1 : Int) (x3 : Int) (x4 : Int) (t0 : Int) (t1 : Int) : Option yS := gd ((0 : Int) ≤ t1 ∧ (t1 : Int) < 16) (nm (cas S 660 t1 t0) (fun S57 => nm ((x4 + 1) : Int) (fun v59 => K234 S57 v59)))
def C_goes_B645 (ed : Nat) (rs : List (List tCl)) (S : yS) (t0 : Int) : Option yS := gd ((t0 : Int) = 0 ∨ (t0 : Int) = 1) (nm (cfs S 18 (t0)) (fun S102 => some S102))
def C_goes_b234 (ed : Nat) (rs : List (List tCl)) (x1 : Int) (x3 : Int) (K234 : yS → Int → Option yS) (S : yS) (x4 : Int) : Option yS := gd (r32 (x4)) (if x4 < 16 then (gd (r32 (x4) ∧ r32 (S.2 2 2)) (if x4 < (S.2 2 2) then (gd ((0 : Int) ≤ x3 ∧ (x3 : Int) < 60) (gd ((0 : Int) ≤ x4 ∧ (x4 : Int) < 16) (C_goes_B277 ed rs K234 S x1 x3 x4 (S.2 (597 + 1 + x3) x4) x4))) else (C_goes_B277 ed rs K234 S x1 x3 x4 (0 : Int) x4))) else (nm (cfs S 23 (x3)) (fun S61 => bd2 (C_rl ed rs S61 x1) (fun t63 S64 => gd (r32 (S64.1 19)) (if (S64.1 19) = 0 then (gd ((0 : Int) ≤ x3 ∧ (x3 : Int) < 60) (nm (cas S64 (475 + 1 + x3) (0 : Int) (t63.1)) (fun S69 => nm (cas S69 (475 + 1 + x3) (1 : Int) (t63.2)) (fun S71 => nm (cas S71 (475 + 1 + x3) (2 : Int) (S71.1 14)) (fun S73 => nm (cas S73 (475 + 1 + x3) (3 : Int) (S73.1 15)) (fun S75 => nm (cas S75 (475 + 1 + x3) (4 : Int) (S75.1 16)) (fun S77 => nm (cfs S77 17 ((S77.1 17) + 1)) (fun S79 => bd (Ma_floorMod ((S79.1 16) + (t63.1)) (64 : Int)) (fun v81 => nm (cfs S79 16 (v81)) (fun S83 => bd (C_wayX (S83.1 16)) (fun v85 => bd (Ma_floorDiv ((t63.2) * v85) (16 : Int)) (fun v87 => nm (cfs S83 14 ((S83.1 14) + v87)) (fun S89 => bd (C_wayY (S89.1 16)) (fun v91 => bd (Ma_floorDiv ((t63.2) * v91) (16 : Int)) (fun v93 => nm (cfs S89 15 ((S89.1 15) + v93)) (fun S95 => bd (C_lays S95 (x3 + 1)) (fun S98 => bd (C_isEmpty S98 (S98.1 14) (S98.1 15)) (fun v100 => if v100 = true then (C_goes_B645 ed rs S98 (0 : Int)) else (C_goes_B645 ed rs S98 (1 : Int)))))))))))))))))))) else (some S64))))))
def C_goes_L234 (ed : Nat) (rs : List (List tCl)) (x1 : Int) (x3 : Int) : Nat → yS → Int → Option yS
  | 0 => fun _ _ => none
  | n + 1 => fun S x4 => C_goes_b234 ed rs x1 x3 (C_goes_L234 ed rs x1 x3 n) S x4
def C_goes_b181 (ed : Nat) (rs : List (List tCl)) (x1 : Int) (x3 : Int) (K181 : yS → Int → Option yS) (S : yS) (x4 : Int) : Option yS := gd (r32 (x4)) (if x4 < 16 then (gd (r32 (x4) ∧ r32 (S.2 2 1)) (if x4 < (S.2 2 1) then (gd ((0 : Int) ≤ x3 ∧ (x3 : Int) < 60) (gd ((0 : Int) ≤ x4 ∧ (x4 : Int) < 16) (C_goes_B224 ed rs K181 S x1 x3 x4 (S.2 (536 + 1 + x3) x4) x4))) else (C_goes_B224 ed rs K181 S x1 x3 x4 (0 : Int) x4))) else (C_goes_L234 ed rs x1 x3 FU S (0 : Int)))
def C_goes_L181 (ed : Nat) (rs : List (List tCl)) (x1 : Int) (x3 : Int) : Nat → yS → Int → Option yS
  | 0 => fun _ _ => none
  | n + 1 => fun S x4 => C_goes_b181 ed rs x1 x3 (C_goes_L181 ed rs x1 x3 n) S x4
def C_goes_b68 (ed : Nat) (rs : List (List tCl)) (x1 : Int) (x3 : Int) (K68 : yS → Int → Option yS) (S : yS) (x4 : Int) : Option yS := gd (r32 (x4) ∧ r32 (S.2 2 2)) (if x4 < (S.2 2 2) then (gd ((0 : Int) ≤ x4 ∧ (x4 : Int) < 16) (gd ((0 : Int) ≤ x3 ∧ (x3 : Int) < 60) (gd (r32 (x3) ∧ r32 (S.2 (28 + 1 + x4) 2)) (if x3 < (S.2 (28 + 1 + x4) 2) then (C_goes_B171 ed rs K68 S x1 x3 x4 (0 : Int) x4) else (nm (x3 - (S.2 (28 + 1 + x4) 2)) (fun v27 => gd ((0 : Int) ≤ v27 ∧ (v27 : Int) < 60) (gd ((0 : Int) ≤ S.2 (28 + 1 + x4) 0 ∧ (S.2 (28 + 1 + x4) 0 : Int) < 16) (gd ((0 : Int) ≤ x3 ∧ (x3 : Int) < 60) (gd ((0 : Int) ≤ S.2 (28 + 1 + x4) 1 ∧ (S.2 (28 + 1 + x4) 1 : Int) < 16) (gd ((0 : Int) ≤ x3 ∧ (x3 : Int) < 60) (gd ((0 : Int) ≤ S.2 (28 + 1 + x4) 0 ∧ (S.2 (28 + 1 + x4) 0 : Int) < 16) (nm (x3 - (S.2 (28 + 1 + x4) 2)) (fun v35 => gd ((0 : Int) ≤ v35 ∧ (v35 : Int) < 60) (gd ((0 : Int) ≤ S.2 (28 + 1 + x4) 1 ∧ (S.2 (28 + 1 + x4) 1 : Int) < 16) (C_goes_B171 ed rs K68 S x1 x3 x4 (((S.2 (536 + 1 + v27) (S.2 (28 + 1 + x4) 0)) * (S.2 (536 + 1 + x3) (S.2 (28 + 1 + x4) 1))) - ((S.2 (536 + 1 + x3) (S.2 (28 + 1 + x4) 0)) * (S.2 (536 + 1 + v35) (S.2 (28 + 1 + x4) 1)))) x4))))))))))))))) else (C_goes_L181 ed rs x1 x3 FU S (0 : Int)))
def C_goes_L68 (ed : Nat) (rs : List (List tCl)) (x1 : Int) (x3 : Int) : Nat → yS → Int → Option yS
  | 0 => fun _ _ => none
  | n + 1 => fun S x4 => C_goes_b68 ed rs x1 x3 (C_goes_L68 ed rs x1 x3 n) S x4
def C_goes_b18 (ed : Nat) (rs : List (List tCl)) (x1 : Int) (x3 : Int) (K18 : yS → Int → Option yS) (S : yS) (x4 : Int) : Option yS := gd (r32 (x4) ∧ r32 (S.2 2 1)) (if x4 < (S.2 2 1) then (gd ((0 : Int) ≤ x3 ∧ (x3 : Int) < 60) (bd2 (C_takeOf S x4 (S.1 14) (S.1 15) (S.1 16)) (fun v9 S10 => gd ((0 : Int) ≤ x4 ∧ (x4 : Int) < 16) (nm (cas S10 (536 + 1 + x3) x4 v9) (fun S12 => nm ((x4 + 1) : Int) (fun v14 => K18 S12 v14)))))) else (C_goes_L68 ed rs x1 x3 FU S (0 : Int)))
def C_goes_L18 (ed : Nat) (rs : List (List tCl)) (x1 : Int) (x3 : Int) : Nat → yS → Int → Option yS
  | 0 => fun _ _ => none
  | n + 1 => fun S x4 => C_goes_b18 ed rs x1 x3 (C_goes_L18 ed rs x1 x3 n) S x4
def C_goes (ed : Nat) (rs : List (List tCl)) (S : yS) (x1 : Int) : Option yS := nm (S.1 17) (fun v1 => bd (C_lays S v1) (fun S4 => C_goes_L18 ed rs x1 v1 FU S4 (0 : Int)))
set_option maxHeartbeats 4000000 in
theorem wC_goes (l : Launch) (Z : hZ) (DC : va_G) (dA : Nat → ClassId) (hC : Nat) (A : Nat → Prop) (L : List Nat) (k ed : Nat) (rs : List (List tCl)) (S : yS) (x1 : Int) (n0 : Nat) {S1 : yS} (hh : C_goes ed rs S x1 = some S1) : mFl l yX1_goes cX1_goes 11 none ({ frames := 60, cells := 0, slots := 0, locals := 2300 } : Room) Z DC dA hC [.ref hC, .int (zi x1)] n0 (fPre Z DC dA hC A L k ed rs S) none S1 := by
  refine goFv (by decide +kernel) (Nat.le_of_ble_eq_true rfl) ?_
  intro p e s m args below meth c Q ls Y hret hl hM hO
  have X := fcx_c Y
  have hx := Y.1.1
  have hb := Y.1.2.1
  have hown := Y.1.2.2.2.1
  have hts := Y.1.2.2.2.2
  have hB171 : ∀ (x1 : Int) (x3 : Int) (x4 : Int) (t0 : Int) (t1 : Int) (gv_x3 : (0 : Int) ≤ x3 ∧ x3 < 60) (K68 : yS → Int → Option yS) (hK68 : (∀ (S : yS) (x4 : Int), K68 S x4 = some S1 → ∀ (H : Heap) (locs : List Loc) (ls : Array Slot), CX DC dA hC (hA (cA hC) s.heap.size) S s H locs → lv_has ls 11 [(0, .ref (hC)), (1, .int (zi (x1))), (2, .ref (hC + 474)), (3, .int (zi (x3))), (4, .int (zi (x4)))] → W p l e ({ frames := 60, cells := 0, slots := 0, locals := 2300 } : Room) s m args below meth c H locs 0 0 Q (F0 m 68 ls []))) (S : yS), C_goes_B171 ed rs K68 S x1 x3 x4 t0 t1 = some S1 → ∀ (H : Heap) (locs : List Loc) (ls : Array Slot), CX DC dA hC (hA (cA hC) s.heap.size) S s H locs → lv_has ls 11 [(0, .ref (hC)), (1, .int (zi (x1))), (2, .ref (hC + 474)), (3, .int (zi (x3))), (4, .int (zi (x4)))] → W p l e ({ frames := 60, cells := 0, slots := 0, locals := 2300 } : Room) s m args below meth c H locs 0 0 Q (F0 m 171 ls [.int (zi (t0)), .int (zi (t1)), .ref (hC + (597 + 1 + Int.toNat x3))]) := by
    intro x1 x3 x4 t0 t1 gv_x3 K68 hK68 S hh H locs ls hM hl
    unfold C_goes_B171 at hh
    obtain ⟨g22, hh⟩ := gd_inv hh
    refine cm_iast (qz := (597 + 1 + x3)) X hM (cr_597 gv_x3) (by have := gv_x3.1; omega) rfl g22 dX1_goes_171 (fun H locs S23 e24 hM => ?_)
    replace hh := nm_inv hh S23 e24
    obtain ⟨v25, e26⟩ : ∃ z : Int, z = x4 + 1 := ⟨_, rfl⟩
    replace hh := nm_inv hh v25 e26
    refine lv_iinc (v := zi v25) (lv' := [(4, .int (zi (v25))), (0, .ref (hC)), (1, .int (zi (x1))), (2, .ref (hC + 474)), (3, .int (zi (x3)))]) hx hb dX1_goes_172 hl (k := 4) rfl (by rw [e26]; exact zi_add _ _) (by decide) rfl (fun ls hl => ?_)
    refine lv_goto (tgt := 68) hx hb dX1_goes_175 (by decide) ?_
    exact hK68 S23 v25 hh _ _ _ hM (lv_sub hl [1, 2, 3, 4, 0] rfl)
  have hB224 : ∀ (x1 : Int) (x3 : Int) (x4 : Int) (t0 : Int) (t1 : Int) (K181 : yS → Int → Option yS) (hK181 : (∀ (S : yS) (x4 : Int), K181 S x4 = some S1 → ∀ (H : Heap) (locs : List Loc) (ls : Array Slot), CX DC dA hC (hA (cA hC) s.heap.size) S s H locs → lv_has ls 11 [(0, .ref (hC)), (1, .int (zi (x1))), (2, .ref (hC + 474)), (3, .int (zi (x3))), (4, .int (zi (x4)))] → W p l e ({ frames := 60, cells := 0, slots := 0, locals := 2300 } : Room) s m args below meth c H locs 0 0 Q (F0 m 181 ls []))) (S : yS), C_goes_B224 ed rs K181 S x1 x3 x4 t0 t1 = some S1 → ∀ (H : Heap) (locs : List Loc) (ls : Array Slot), CX DC dA hC (hA (cA hC) s.heap.size) S s H locs → lv_has ls 11 [(0, .ref (hC)), (1, .int (zi (x1))), (2, .ref (hC + 474)), (3, .int (zi (x3))), (4, .int (zi (x4)))] → W p l e ({ frames := 60, cells := 0, slots := 0, locals := 2300 } : Room) s m args below meth c H locs 0 0 Q (F0 m 224 ls [.int (zi (t0)), .int (zi (t1)), .ref (hC + 659)]) := by
    intro x1 x3 x4 t0 t1 K181 hK181 S hh H locs ls hM hl
    unfold C_goes_B224 at hh
    obtain ⟨g45, hh⟩ := gd_inv hh
    refine cm_iast (qz := 659) X hM ci_659 rfl rfl g45 dX1_goes_224 (fun H locs S46 e47 hM => ?_)
    replace hh := nm_inv hh S46 e47
    obtain ⟨v48, e49⟩ : ∃ z : Int, z = x4 + 1 := ⟨_, rfl⟩
    replace hh := nm_inv hh v48 e49
    refine lv_iinc (v := zi v48) (lv' := [(4, .int (zi (v48))), (0, .ref (hC)), (1, .int (zi (x1))), (2, .ref (hC + 474)), (3, .int (zi (x3)))]) hx hb dX1_goes_225 hl (k := 4) rfl (by rw [e49]; exact zi_add _ _) (by decide) rfl (fun ls hl => ?_)
    refine lv_goto (tgt := 181) hx hb dX1_goes_228 (by decide) ?_
    exact hK181 S46 v48 hh _ _ _ hM (lv_sub hl [1, 2, 3, 4, 0] rfl)
  have hB277 : ∀ (x1 : Int) (x3 : Int) (x4 : Int) (t0 : Int) (t1 : Int) (K234 : yS → Int → Option yS) (hK234 : (∀ (S : yS) (x4 : Int), K234 S x4 = some S1 → ∀ (H : Heap) (locs : List Loc) (ls : Array Slot), CX DC dA hC (hA (cA hC) s.heap.size) S s H locs → lv_has ls 11 [(0, .ref (hC)), (1, .int (zi (x1))), (2, .ref (hC + 474)), (3, .int (zi (x3))), (4, .int (zi (x4)))] → W p l e ({ frames := 60, cells := 0, slots := 0, locals := 2300 } : Room) s m args below meth c H locs 0 0 Q (F0 m 234 ls []))) (S : yS), C_goes_B277 ed rs K234 S x1 x3 x4 t0 t1 = some S1 → ∀ (H : Heap) (locs : List Loc) (ls : Array Slot), CX DC dA hC (hA (cA hC) s.heap.size) S s H locs → lv_has ls 11 [(0, .ref (hC)), (1, .int (zi (x1))), (2, .ref (hC + 474)), (3, .int (zi (x3))), (4, .int (zi (x4)))] → W p l e ({ frames := 60, cells := 0, slots := 0, locals := 2300 } : Room) s m args below meth c H locs 0 0 Q (F0 m 277 ls [.int (zi (t0)), .int (zi (t1)), .ref (hC + 660)]) := by
    intro x1 x3 x4 t0 t1 K234 hK234 S hh H locs ls hM hl
    unfold C_goes_B277 at hh
    obtain ⟨g56, hh⟩ := gd_inv hh
    refine cm_iast (qz := 660) X hM ci_660 rfl rfl g56 dX1_goes_277 (fun H locs S57 e58 hM => ?_)
    replace hh := nm_inv hh S57 e58
    obtain ⟨v59, e60⟩ : ∃ z : Int, z = x4 + 1 := ⟨_, rfl⟩
    replace hh := nm_inv hh v59 e60
    refine lv_iinc (v := zi v59) (lv' := [(4, .int (zi (v59))), (0, .ref (hC)), (1, .int (zi (x1))), (2, .ref (hC + 474)), (3, .int (zi (x3)))]) hx hb dX1_goes_278 hl (k := 4) rfl (by rw [e60]; exact zi_add _ _) (by decide) rfl (fun ls hl => ?_)
    refine lv_goto (tgt := 234) hx hb dX1_goes_281 (by decide) ?_
    exact hK234 S57 v59 hh _ _ _ hM (lv_sub hl [1, 2, 3, 4, 0] rfl)
  have hB645 : ∀ (t0 : Int) (S : yS), C_goes_B645 ed rs S t0 = some S1 → ∀ (H : Heap) (locs : List Loc) (ls : Array Slot), CX DC dA hC (hA (cA hC) s.heap.size) S s H locs → lv_has ls 11 [] → W p l e ({ frames := 60, cells := 0, slots := 0, locals := 2300 } : Room) s m args below meth c H locs 0 0 Q (F0 m 645 ls [.int (zi (t0)), .ref (hC + 474)]) := by
    intro t0  S hh H locs ls hM hl
    unfold C_goes_B645 at hh
    obtain ⟨g104, hh⟩ := gd_inv hh
    refine cm_putN X hM q256 (cp_474_8 _ _ _ g104) rfl dX1_goes_645 (fun H locs S102 e103 hM => ?_)
    replace hh := nm_inv hh S102 e103
    exact hret _ _ _ _ _ (rt0 hh) dX1_goes_648 hM
  have hL234 : ∀ (x1 : Int) (x3 : Int) (n : Nat) (S : yS) (x4 : Int), C_goes_L234 ed rs x1 x3 n S x4 = some S1 → ∀ (H : Heap) (locs : List Loc) (ls : Array Slot), CX DC dA hC (hA (cA hC) s.heap.size) S s H locs → lv_has ls 11 [(0, .ref (hC)), (1, .int (zi (x1))), (2, .ref (hC + 474)), (3, .int (zi (x3))), (4, .int (zi (x4)))] → W p l e ({ frames := 60, cells := 0, slots := 0, locals := 2300 } : Room) s m args below meth c H locs 0 0 Q (F0 m 234 ls []) := by
    intro x1 x3  n
    induction n with
    | zero => intro S x4 hh; exact no_some hh
    | succ n ih =>
      intro S x4 hh H locs ls hM hl
      replace hh : C_goes_b234 ed rs x1 x3 (C_goes_L234 ed rs x1 x3 n) S x4 = some S1 := hh
      unfold C_goes_b234 at hh
      have hK234 := ih
      refine lv_iload hx hb dX1_goes_234 (lv_at hl 4 rfl) ?_
      refine lv_bipush (v := zi 16) hx hb dX1_goes_236 (by decide) ?_
      obtain ⟨g51, hh⟩ := gd_inv hh
      refine g_icmp_ge (tgt := 284) hx hb ⟨g51, by decide⟩ dX1_goes_238 (by decide) (fun c50 => ?_) (fun c50 => ?_)
      · replace hh := it_t c50 hh
        refine lv_aload_n hx hb dX1_goes_241 rfl (lv_at hl 2 rfl) ?_
        refine cm_getN X hM q251 (cf_474_3 _ _ _) rfl dX1_goes_242 ?_
        refine cm_getN X hM q219 (cf_658_1 _ _ _) rfl dX1_goes_245 ?_
        refine lv_iload hx hb dX1_goes_248 (lv_at hl 4 rfl) ?_
        refine lv_iload hx hb dX1_goes_250 (lv_at hl 4 rfl) ?_
        refine lv_aload_n hx hb dX1_goes_252 rfl (lv_at hl 0 rfl) ?_
        refine cm_get X hM q379 (cf_0_0 _ _ _) rfl dX1_goes_253 ?_
        refine cm_getN X hM q161 (cf_1_0 _ _ _) rfl dX1_goes_256 ?_
        refine lv_iconst (v := zi 2) hx hb dX1_goes_259 rfl ?_
        refine cm_iald (qz := 2) X hM ci_2 rfl rfl (by decide) dX1_goes_260 ?_
        obtain ⟨g53, hh⟩ := gd_inv hh
        refine g_icmp_ge (tgt := 276) hx hb g53 dX1_goes_261 (by decide) (fun c52 => ?_) (fun c52 => ?_)
        · replace hh := it_t c52 hh
          refine lv_aload_n hx hb dX1_goes_264 rfl (lv_at hl 2 rfl) ?_
          refine cm_getN X hM q249 (cf_474_2 _ _ _) rfl dX1_goes_265 ?_
          refine lv_iload_n hx hb dX1_goes_268 rfl (lv_at hl 3 rfl) ?_
          obtain ⟨g54, hh⟩ := gd_inv hh
          refine cm_aald X hM (by decide) rfl (by decide) rfl g54 dX1_goes_269 ?_
          refine lv_iload hx hb dX1_goes_270 (lv_at hl 4 rfl) ?_
          obtain ⟨g55, hh⟩ := gd_inv hh
          refine cm_iald (qz := (597 + 1 + x3)) X hM (cr_597 g54) (by have := g54.1; omega) rfl g55 dX1_goes_272 ?_
          refine lv_goto (tgt := 277) hx hb dX1_goes_273 (by decide) ?_
          exact hB277 x1 x3 x4 (S.2 (597 + 1 + x3) x4) x4 _ hK234 S hh _ _ _ hM (lv_sub hl [0, 1, 2, 3, 4] rfl)
        · replace hh := it_f c52 hh
          refine lv_iconst (v := zi 0) hx hb dX1_goes_276 rfl ?_
          exact hB277 x1 x3 x4 (0 : Int) x4 _ hK234 S hh _ _ _ hM (lv_sub hl [0, 1, 2, 3, 4] rfl)
      · replace hh := it_f c50 hh
        refine lv_aload_n hx hb dX1_goes_284 rfl (lv_at hl 2 rfl) ?_
        refine cm_getN X hM q251 (cf_474_3 _ _ _) rfl dX1_goes_285 ?_
        refine lv_iload_n hx hb dX1_goes_288 rfl (lv_at hl 3 rfl) ?_
        refine cm_putN X hM q224 (cp_658_3 _ _ _ _) rfl dX1_goes_289 (fun H locs S61 e62 hM => ?_)
        replace hh := nm_inv hh S61 e62
        refine lv_lconst (v := zl 0) hx hb dX1_goes_292 (by decide) ?_
        refine lv_lstore (lv' := [(4, .long (zl (0))), (0, .ref (hC)), (1, .int (zi (x1))), (2, .ref (hC + 474)), (3, .int (zi (x3)))]) hx hb dX1_goes_293 hl (by decide) rfl (fun ls hl => ?_)
        refine lv_lconst (v := zl 0) hx hb dX1_goes_295 (by decide) ?_
        refine lv_lstore (lv' := [(6, .long (zl (0))), (4, .long (zl (0))), (0, .ref (hC)), (1, .int (zi (x1))), (2, .ref (hC + 474)), (3, .int (zi (x3)))]) hx hb dX1_goes_296 hl (by decide) rfl (fun ls hl => ?_)
        obtain ⟨t63, S64, k65, hh⟩ := bd2_inv hh
        refine w_cls (t := x3) Y hM hO k65 ⟨by decide, by decide⟩ (lv_sub hl [0, 1, 5, 4, 2, 3] rfl) (fun H locs ls hM hl => ?_)
        refine lv_aload_n hx hb dX1_goes_486 rfl (lv_at hl 3 rfl) ?_
        refine cm_getN X hM q257 (cf_474_9 _ _ _) rfl dX1_goes_487 ?_
        obtain ⟨g67, hh⟩ := gd_inv hh
        refine g_if_eq (tgt := 494) hx hb g67 dX1_goes_490 (by decide) (fun c66 => ?_) (fun c66 => ?_)
        · replace hh := it_t c66 hh
          refine lv_aload_n hx hb dX1_goes_494 rfl (lv_at hl 3 rfl) ?_
          refine cm_getN X hM q245 (cf_474_0 _ _ _) rfl dX1_goes_495 ?_
          refine lv_iload_n hx hb dX1_goes_498 rfl (lv_at hl 2 rfl) ?_
          obtain ⟨g68, hh⟩ := gd_inv hh
          refine cm_aald X hM (by decide) rfl (by decide) rfl g68 dX1_goes_499 ?_
          refine lv_astore (lv' := [(9, .ref (hC + (475 + 1 + Int.toNat x3))), (6, .long (zl (t63.2))), (4, .long (zl (t63.1))), (3, .int (zi (x3))), (2, .ref (hC + 474)), (0, .ref (hC))]) hx hb dX1_goes_500 hl (by decide) rfl (fun ls hl => ?_)
          refine lv_aload hx hb dX1_goes_502 (lv_at hl 0 rfl) ?_
          refine lv_iconst (v := zi 0) hx hb dX1_goes_504 rfl ?_
          refine lv_lload hx hb dX1_goes_505 (lv_at hl 2 rfl) ?_
          refine g_l2i hx hb dX1_goes_507 ?_
          refine cm_iast (qz := (475 + 1 + x3)) X hM (cr_475 g68) (by have := g68.1; omega) rfl (by decide) dX1_goes_508 (fun H locs S69 e70 hM => ?_)
          replace hh := nm_inv hh S69 e70
          refine lv_aload hx hb dX1_goes_509 (lv_at hl 0 rfl) ?_
          refine lv_iconst (v := zi 1) hx hb dX1_goes_511 rfl ?_
          refine lv_lload hx hb dX1_goes_512 (lv_at hl 1 rfl) ?_
          refine g_l2i hx hb dX1_goes_514 ?_
          refine cm_iast (qz := (475 + 1 + x3)) X hM (cr_475 g68) (by have := g68.1; omega) rfl (by decide) dX1_goes_515 (fun H locs S71 e72 hM => ?_)
          replace hh := nm_inv hh S71 e72
          refine lv_aload hx hb dX1_goes_516 (lv_at hl 0 rfl) ?_
          refine lv_iconst (v := zi 2) hx hb dX1_goes_518 rfl ?_
          refine lv_aload_n hx hb dX1_goes_519 rfl (lv_at hl 4 rfl) ?_
          refine cm_getN X hM q252 (cf_474_4 _ _ _) rfl dX1_goes_520 ?_
          refine cm_iast (qz := (475 + 1 + x3)) X hM (cr_475 g68) (by have := g68.1; omega) rfl (by decide) dX1_goes_523 (fun H locs S73 e74 hM => ?_)
          replace hh := nm_inv hh S73 e74
          refine lv_aload hx hb dX1_goes_524 (lv_at hl 0 rfl) ?_
          refine lv_iconst (v := zi 3) hx hb dX1_goes_526 rfl ?_
          refine lv_aload_n hx hb dX1_goes_527 rfl (lv_at hl 4 rfl) ?_
          refine cm_getN X hM q253 (cf_474_5 _ _ _) rfl dX1_goes_528 ?_
          refine cm_iast (qz := (475 + 1 + x3)) X hM (cr_475 g68) (by have := g68.1; omega) rfl (by decide) dX1_goes_531 (fun H locs S75 e76 hM => ?_)
          replace hh := nm_inv hh S75 e76
          refine lv_aload hx hb dX1_goes_532 (lv_at hl 0 rfl) ?_
          refine lv_iconst (v := zi 4) hx hb dX1_goes_534 rfl ?_
          refine lv_aload_n hx hb dX1_goes_535 rfl (lv_at hl 4 rfl) ?_
          refine cm_getN X hM q254 (cf_474_6 _ _ _) rfl dX1_goes_536 ?_
          refine cm_iast (qz := (475 + 1 + x3)) X hM (cr_475 g68) (by have := g68.1; omega) rfl (by decide) dX1_goes_539 (fun H locs S77 e78 hM => ?_)
          replace hh := nm_inv hh S77 e78
          refine lv_aload_n hx hb dX1_goes_540 rfl (lv_at hl 4 rfl) ?_
          refine lv_dup hx hb dX1_goes_541 rfl ?_
          refine cm_getN X hM q255 (cf_474_7 _ _ _) rfl dX1_goes_542 ?_
          refine lv_iconst (v := zi 1) hx hb dX1_goes_545 rfl ?_
          refine g_iadd hx hb dX1_goes_546 ?_
          refine cm_putN X hM q255 (cp_474_7 _ _ _ _) rfl dX1_goes_547 (fun H locs S79 e80 hM => ?_)
          replace hh := nm_inv hh S79 e80
          refine lv_aload_n hx hb dX1_goes_550 rfl (lv_at hl 4 rfl) ?_
          refine lv_aload_n hx hb dX1_goes_551 rfl (lv_at hl 4 rfl) ?_
          refine cm_getN X hM q254 (cf_474_6 _ _ _) rfl dX1_goes_552 ?_
          refine lv_lload hx hb dX1_goes_555 (lv_at hl 2 rfl) ?_
          refine g_l2i hx hb dX1_goes_557 ?_
          refine g_iadd hx hb dX1_goes_558 ?_
          refine lv_bipush (v := zi 64) hx hb dX1_goes_559 (by decide) ?_
          obtain ⟨v81, k82, hh⟩ := bd_inv hh
          refine ccs_i (rest := [.ref (hC + 474)]) X hM (wMa_floorMod l ((S79.1 16) + (t63.1)) (64 : Int) k82) cx_X1_128.1 cx_X1_128.2 ⟨rfl, rfl⟩ ⟨Nat.le_of_ble_eq_true rfl, Nat.le_of_ble_eq_true rfl⟩ ⟨Nat.zero_le _, Nat.zero_le _⟩ hl.1 (Nat.le_of_ble_eq_true rfl) dX1_goes_561 rfl (fun H locs hM => ?_)
          refine cm_putN X hM q254 (cp_474_6 _ _ _ _) rfl dX1_goes_564 (fun H locs S83 e84 hM => ?_)
          replace hh := nm_inv hh S83 e84
          refine lv_aload_n hx hb dX1_goes_567 rfl (lv_at hl 4 rfl) ?_
          refine lv_dup hx hb dX1_goes_568 rfl ?_
          refine cm_getN X hM q252 (cf_474_4 _ _ _) rfl dX1_goes_569 ?_
          refine lv_lload hx hb dX1_goes_572 (lv_at hl 1 rfl) ?_
          refine g_l2i hx hb dX1_goes_574 ?_
          refine lv_aload_n hx hb dX1_goes_575 rfl (lv_at hl 4 rfl) ?_
          refine cm_getN X hM q254 (cf_474_6 _ _ _) rfl dX1_goes_576 ?_
          obtain ⟨v85, k86, hh⟩ := bd_inv hh
          refine ccs_i (rest := [.int (zi (t63.2)), .int (zi (S83.1 14)), .ref (hC + 474)]) X hM (wC_wayX l (S83.1 16) k86) cx_X1_98.1 cx_X1_98.2 ⟨rfl, rfl⟩ ⟨Nat.le_of_ble_eq_true rfl, Nat.le_of_ble_eq_true rfl⟩ ⟨Nat.zero_le _, Nat.zero_le _⟩ hl.1 (Nat.le_of_ble_eq_true rfl) dX1_goes_579 rfl (fun H locs hM => ?_)
          refine g_imul hx hb dX1_goes_582 ?_
          refine lv_bipush (v := zi 16) hx hb dX1_goes_583 (by decide) ?_
          obtain ⟨v87, k88, hh⟩ := bd_inv hh
          refine ccs_i (rest := [.int (zi (S83.1 14)), .ref (hC + 474)]) X hM (wMa_floorDiv l ((t63.2) * v85) (16 : Int) k88) cx_X1_108.1 cx_X1_108.2 ⟨rfl, rfl⟩ ⟨Nat.le_of_ble_eq_true rfl, Nat.le_of_ble_eq_true rfl⟩ ⟨Nat.zero_le _, Nat.zero_le _⟩ hl.1 (Nat.le_of_ble_eq_true rfl) dX1_goes_585 rfl (fun H locs hM => ?_)
          refine g_iadd hx hb dX1_goes_588 ?_
          refine cm_putN X hM q252 (cp_474_4 _ _ _ _) rfl dX1_goes_589 (fun H locs S89 e90 hM => ?_)
          replace hh := nm_inv hh S89 e90
          refine lv_aload_n hx hb dX1_goes_592 rfl (lv_at hl 4 rfl) ?_
          refine lv_dup hx hb dX1_goes_593 rfl ?_
          refine cm_getN X hM q253 (cf_474_5 _ _ _) rfl dX1_goes_594 ?_
          refine lv_lload hx hb dX1_goes_597 (lv_at hl 1 rfl) ?_
          refine g_l2i hx hb dX1_goes_599 ?_
          refine lv_aload_n hx hb dX1_goes_600 rfl (lv_at hl 4 rfl) ?_
          refine cm_getN X hM q254 (cf_474_6 _ _ _) rfl dX1_goes_601 ?_
          obtain ⟨v91, k92, hh⟩ := bd_inv hh
          refine ccs_i (rest := [.int (zi (t63.2)), .int (zi (S89.1 15)), .ref (hC + 474)]) X hM (wC_wayY l (S89.1 16) k92) cx_X1_102.1 cx_X1_102.2 ⟨rfl, rfl⟩ ⟨Nat.le_of_ble_eq_true rfl, Nat.le_of_ble_eq_true rfl⟩ ⟨Nat.zero_le _, Nat.zero_le _⟩ hl.1 (Nat.le_of_ble_eq_true rfl) dX1_goes_604 rfl (fun H locs hM => ?_)
          refine g_imul hx hb dX1_goes_607 ?_
          refine lv_bipush (v := zi 16) hx hb dX1_goes_608 (by decide) ?_
          obtain ⟨v93, k94, hh⟩ := bd_inv hh
          refine ccs_i (rest := [.int (zi (S89.1 15)), .ref (hC + 474)]) X hM (wMa_floorDiv l ((t63.2) * v91) (16 : Int) k94) cx_X1_108.1 cx_X1_108.2 ⟨rfl, rfl⟩ ⟨Nat.le_of_ble_eq_true rfl, Nat.le_of_ble_eq_true rfl⟩ ⟨Nat.zero_le _, Nat.zero_le _⟩ hl.1 (Nat.le_of_ble_eq_true rfl) dX1_goes_610 rfl (fun H locs hM => ?_)
          refine g_iadd hx hb dX1_goes_613 ?_
          refine cm_putN X hM q253 (cp_474_5 _ _ _ _) rfl dX1_goes_614 (fun H locs S95 e96 hM => ?_)
          replace hh := nm_inv hh S95 e96
          refine lv_aload_n hx hb dX1_goes_617 rfl (lv_at hl 5 rfl) ?_
          refine lv_iload_n hx hb dX1_goes_618 rfl (lv_at hl 3 rfl) ?_
          refine lv_iconst (v := zi 1) hx hb dX1_goes_619 rfl ?_
          refine g_iadd hx hb dX1_goes_620 ?_
          obtain ⟨S98, k97, hh⟩ := bd_inv hh
          refine cc_v (rest := []) X hM (wC_lays l DC dA hC S95 (x3 + 1) k97) cx_X1_94.1 cx_X1_94.2 ⟨rfl, rfl⟩ ⟨Nat.le_of_ble_eq_true rfl, Nat.le_of_ble_eq_true rfl⟩ ⟨Nat.zero_le _, Nat.zero_le _⟩ hl.1 (Nat.le_of_ble_eq_true rfl) dX1_goes_621 rfl (fun H locs hM => ?_)
          refine lv_aload_n hx hb dX1_goes_624 rfl (lv_at hl 4 rfl) ?_
          refine lv_aload_n hx hb dX1_goes_625 rfl (lv_at hl 5 rfl) ?_
          refine lv_aload_n hx hb dX1_goes_626 rfl (lv_at hl 4 rfl) ?_
          refine cm_getN X hM q252 (cf_474_4 _ _ _) rfl dX1_goes_627 ?_
          refine lv_aload_n hx hb dX1_goes_630 rfl (lv_at hl 4 rfl) ?_
          refine cm_getN X hM q253 (cf_474_5 _ _ _) rfl dX1_goes_631 ?_
          obtain ⟨v100, k99, hh⟩ := bd_inv hh
          refine cc_z (rest := [.ref (hC + 474)]) X hM (wC_isEmpty l DC dA hC S98 (S98.1 14) (S98.1 15) k99) cx_X1_181.1 cx_X1_181.2 ⟨rfl, rfl⟩ ⟨Nat.le_of_ble_eq_true rfl, Nat.le_of_ble_eq_true rfl⟩ ⟨Nat.zero_le _, Nat.zero_le _⟩ hl.1 (Nat.le_of_ble_eq_true rfl) dX1_goes_634 rfl (fun H locs hM => ?_)
          refine g_bif_ne (tgt := 644) hx hb dX1_goes_637 (by decide) (fun c101 => ?_) (fun c101 => ?_)
          · replace hh := it_t c101 hh
            refine lv_iconst (v := zi 0) hx hb dX1_goes_644 rfl ?_
            exact hB645 (0 : Int) S98 hh _ _ _ hM (lv_sub hl [] rfl)
          · replace hh := it_f c101 hh
            refine lv_iconst (v := zi 1) hx hb dX1_goes_640 rfl ?_
            refine lv_goto (tgt := 645) hx hb dX1_goes_641 (by decide) ?_
            exact hB645 (1 : Int) S98 hh _ _ _ hM (lv_sub hl [] rfl)
        · replace hh := it_f c66 hh
          exact hret _ _ _ _ _ (rt0 hh) dX1_goes_493 hM
  have hL181 : ∀ (x1 : Int) (x3 : Int) (n : Nat) (S : yS) (x4 : Int), C_goes_L181 ed rs x1 x3 n S x4 = some S1 → ∀ (H : Heap) (locs : List Loc) (ls : Array Slot), CX DC dA hC (hA (cA hC) s.heap.size) S s H locs → lv_has ls 11 [(0, .ref (hC)), (1, .int (zi (x1))), (2, .ref (hC + 474)), (3, .int (zi (x3))), (4, .int (zi (x4)))] → W p l e ({ frames := 60, cells := 0, slots := 0, locals := 2300 } : Room) s m args below meth c H locs 0 0 Q (F0 m 181 ls []) := by
    intro x1 x3  n
    induction n with
    | zero => intro S x4 hh; exact no_some hh
    | succ n ih =>
      intro S x4 hh H locs ls hM hl
      replace hh : C_goes_b181 ed rs x1 x3 (C_goes_L181 ed rs x1 x3 n) S x4 = some S1 := hh
      unfold C_goes_b181 at hh
      have hK181 := ih
      refine lv_iload hx hb dX1_goes_181 (lv_at hl 4 rfl) ?_
      refine lv_bipush (v := zi 16) hx hb dX1_goes_183 (by decide) ?_
      obtain ⟨g40, hh⟩ := gd_inv hh
      refine g_icmp_ge (tgt := 231) hx hb ⟨g40, by decide⟩ dX1_goes_185 (by decide) (fun c39 => ?_) (fun c39 => ?_)
      · replace hh := it_t c39 hh
        refine lv_aload_n hx hb dX1_goes_188 rfl (lv_at hl 2 rfl) ?_
        refine cm_getN X hM q251 (cf_474_3 _ _ _) rfl dX1_goes_189 ?_
        refine cm_getN X hM q216 (cf_658_0 _ _ _) rfl dX1_goes_192 ?_
        refine lv_iload hx hb dX1_goes_195 (lv_at hl 4 rfl) ?_
        refine lv_iload hx hb dX1_goes_197 (lv_at hl 4 rfl) ?_
        refine lv_aload_n hx hb dX1_goes_199 rfl (lv_at hl 0 rfl) ?_
        refine cm_get X hM q379 (cf_0_0 _ _ _) rfl dX1_goes_200 ?_
        refine cm_getN X hM q161 (cf_1_0 _ _ _) rfl dX1_goes_203 ?_
        refine lv_iconst (v := zi 1) hx hb dX1_goes_206 rfl ?_
        refine cm_iald (qz := 2) X hM ci_2 rfl rfl (by decide) dX1_goes_207 ?_
        obtain ⟨g42, hh⟩ := gd_inv hh
        refine g_icmp_ge (tgt := 223) hx hb g42 dX1_goes_208 (by decide) (fun c41 => ?_) (fun c41 => ?_)
        · replace hh := it_t c41 hh
          refine lv_aload_n hx hb dX1_goes_211 rfl (lv_at hl 2 rfl) ?_
          refine cm_getN X hM q247 (cf_474_1 _ _ _) rfl dX1_goes_212 ?_
          refine lv_iload_n hx hb dX1_goes_215 rfl (lv_at hl 3 rfl) ?_
          obtain ⟨g43, hh⟩ := gd_inv hh
          refine cm_aald X hM (by decide) rfl (by decide) rfl g43 dX1_goes_216 ?_
          refine lv_iload hx hb dX1_goes_217 (lv_at hl 4 rfl) ?_
          obtain ⟨g44, hh⟩ := gd_inv hh
          refine cm_iald (qz := (536 + 1 + x3)) X hM (cr_536 g43) (by have := g43.1; omega) rfl g44 dX1_goes_219 ?_
          refine lv_goto (tgt := 224) hx hb dX1_goes_220 (by decide) ?_
          exact hB224 x1 x3 x4 (S.2 (536 + 1 + x3) x4) x4 _ hK181 S hh _ _ _ hM (lv_sub hl [0, 1, 2, 3, 4] rfl)
        · replace hh := it_f c41 hh
          refine lv_iconst (v := zi 0) hx hb dX1_goes_223 rfl ?_
          exact hB224 x1 x3 x4 (0 : Int) x4 _ hK181 S hh _ _ _ hM (lv_sub hl [0, 1, 2, 3, 4] rfl)
      · replace hh := it_f c39 hh
        refine lv_iconst (v := zi 0) hx hb dX1_goes_231 rfl ?_
        refine lv_istore (lv' := [(4, .int (zi (0))), (0, .ref (hC)), (1, .int (zi (x1))), (2, .ref (hC + 474)), (3, .int (zi (x3)))]) hx hb dX1_goes_232 hl (by decide) rfl (fun ls hl => ?_)
        exact hL234 x1 x3 FU S (0 : Int) hh _ _ _ hM (lv_sub hl [1, 2, 3, 4, 0] rfl)
  have hL68 : ∀ (x1 : Int) (x3 : Int) (n : Nat) (S : yS) (x4 : Int), C_goes_L68 ed rs x1 x3 n S x4 = some S1 → ∀ (H : Heap) (locs : List Loc) (ls : Array Slot), CX DC dA hC (hA (cA hC) s.heap.size) S s H locs → lv_has ls 11 [(0, .ref (hC)), (1, .int (zi (x1))), (2, .ref (hC + 474)), (3, .int (zi (x3))), (4, .int (zi (x4)))] → W p l e ({ frames := 60, cells := 0, slots := 0, locals := 2300 } : Room) s m args below meth c H locs 0 0 Q (F0 m 68 ls []) := by
    intro x1 x3  n
    induction n with
    | zero => intro S x4 hh; exact no_some hh
    | succ n ih =>
      intro S x4 hh H locs ls hM hl
      replace hh : C_goes_b68 ed rs x1 x3 (C_goes_L68 ed rs x1 x3 n) S x4 = some S1 := hh
      unfold C_goes_b68 at hh
      have hK68 := ih
      refine lv_iload hx hb dX1_goes_68 (lv_at hl 4 rfl) ?_
      refine lv_aload_n hx hb dX1_goes_70 rfl (lv_at hl 0 rfl) ?_
      refine cm_get X hM q379 (cf_0_0 _ _ _) rfl dX1_goes_71 ?_
      refine cm_getN X hM q161 (cf_1_0 _ _ _) rfl dX1_goes_74 ?_
      refine lv_iconst (v := zi 2) hx hb dX1_goes_77 rfl ?_
      refine cm_iald (qz := 2) X hM ci_2 rfl rfl (by decide) dX1_goes_78 ?_
      obtain ⟨g17, hh⟩ := gd_inv hh
      refine g_icmp_ge (tgt := 178) hx hb g17 dX1_goes_79 (by decide) (fun c16 => ?_) (fun c16 => ?_)
      · replace hh := it_t c16 hh
        refine lv_aload_n hx hb dX1_goes_82 rfl (lv_at hl 0 rfl) ?_
        refine cm_get X hM q379 (cf_0_0 _ _ _) rfl dX1_goes_83 ?_
        refine cm_getN X hM q169 (cf_1_4 _ _ _) rfl dX1_goes_86 ?_
        refine lv_iload hx hb dX1_goes_89 (lv_at hl 4 rfl) ?_
        obtain ⟨g18, hh⟩ := gd_inv hh
        refine cm_aald X hM (by decide) rfl (by decide) rfl g18 dX1_goes_91 ?_
        refine lv_astore (lv' := [(5, .ref (hC + (28 + 1 + Int.toNat x4))), (0, .ref (hC)), (1, .int (zi (x1))), (2, .ref (hC + 474)), (3, .int (zi (x3))), (4, .int (zi (x4)))]) hx hb dX1_goes_92 hl (by decide) rfl (fun ls hl => ?_)
        refine lv_aload_n hx hb dX1_goes_94 rfl (lv_at hl 3 rfl) ?_
        refine cm_getN X hM q249 (cf_474_2 _ _ _) rfl dX1_goes_95 ?_
        refine lv_iload_n hx hb dX1_goes_98 rfl (lv_at hl 4 rfl) ?_
        obtain ⟨g19, hh⟩ := gd_inv hh
        refine cm_aald X hM (by decide) rfl (by decide) rfl g19 dX1_goes_99 ?_
        refine lv_iload hx hb dX1_goes_100 (lv_at hl 5 rfl) ?_
        refine lv_iload_n hx hb dX1_goes_102 rfl (lv_at hl 4 rfl) ?_
        refine lv_aload hx hb dX1_goes_103 (lv_at hl 0 rfl) ?_
        refine lv_iconst (v := zi 2) hx hb dX1_goes_105 rfl ?_
        refine cm_iald (qz := (28 + 1 + x4)) X hM (cr_28 g18) (by have := g18.1; omega) rfl (by decide) dX1_goes_106 ?_
        obtain ⟨g21, hh⟩ := gd_inv hh
        refine g_icmp_ge (tgt := 114) hx hb g21 dX1_goes_107 (by decide) (fun c20 => ?_) (fun c20 => ?_)
        · replace hh := it_t c20 hh
          refine lv_iconst (v := zi 0) hx hb dX1_goes_110 rfl ?_
          refine lv_goto (tgt := 171) hx hb dX1_goes_111 (by decide) ?_
          exact hB171 x1 x3 x4 (0 : Int) x4 g19 _ hK68 S hh _ _ _ hM (lv_sub hl [1, 2, 3, 4, 5] rfl)
        · replace hh := it_f c20 hh
          refine lv_aload_n hx hb dX1_goes_114 rfl (lv_at hl 3 rfl) ?_
          refine cm_getN X hM q247 (cf_474_1 _ _ _) rfl dX1_goes_115 ?_
          refine lv_iload_n hx hb dX1_goes_118 rfl (lv_at hl 4 rfl) ?_
          refine lv_aload hx hb dX1_goes_119 (lv_at hl 0 rfl) ?_
          refine lv_iconst (v := zi 2) hx hb dX1_goes_121 rfl ?_
          refine cm_iald (qz := (28 + 1 + x4)) X hM (cr_28 g18) (by have := g18.1; omega) rfl (by decide) dX1_goes_122 ?_
          refine g_isub hx hb dX1_goes_123 ?_
          refine g_nmi hx hb (fun v27 e28 => ?_)
          replace hh := nm_inv hh v27 e28
          obtain ⟨g29, hh⟩ := gd_inv hh
          refine cm_aald X hM (by decide) rfl (by decide) rfl g29 dX1_goes_124 ?_
          refine lv_aload hx hb dX1_goes_125 (lv_at hl 0 rfl) ?_
          refine lv_iconst (v := zi 0) hx hb dX1_goes_127 rfl ?_
          refine cm_iald (qz := (28 + 1 + x4)) X hM (cr_28 g18) (by have := g18.1; omega) rfl (by decide) dX1_goes_128 ?_
          obtain ⟨g30, hh⟩ := gd_inv hh
          refine cm_iald (qz := (536 + 1 + v27)) X hM (cr_536 g29) (by have := g29.1; omega) rfl g30 dX1_goes_129 ?_
          refine lv_aload_n hx hb dX1_goes_130 rfl (lv_at hl 3 rfl) ?_
          refine cm_getN X hM q247 (cf_474_1 _ _ _) rfl dX1_goes_131 ?_
          refine lv_iload_n hx hb dX1_goes_134 rfl (lv_at hl 4 rfl) ?_
          obtain ⟨g31, hh⟩ := gd_inv hh
          refine cm_aald X hM (by decide) rfl (by decide) rfl g31 dX1_goes_135 ?_
          refine lv_aload hx hb dX1_goes_136 (lv_at hl 0 rfl) ?_
          refine lv_iconst (v := zi 1) hx hb dX1_goes_138 rfl ?_
          refine cm_iald (qz := (28 + 1 + x4)) X hM (cr_28 g18) (by have := g18.1; omega) rfl (by decide) dX1_goes_139 ?_
          obtain ⟨g32, hh⟩ := gd_inv hh
          refine cm_iald (qz := (536 + 1 + x3)) X hM (cr_536 g31) (by have := g31.1; omega) rfl g32 dX1_goes_140 ?_
          refine g_imul hx hb dX1_goes_141 ?_
          refine lv_aload_n hx hb dX1_goes_142 rfl (lv_at hl 3 rfl) ?_
          refine cm_getN X hM q247 (cf_474_1 _ _ _) rfl dX1_goes_143 ?_
          refine lv_iload_n hx hb dX1_goes_146 rfl (lv_at hl 4 rfl) ?_
          obtain ⟨g33, hh⟩ := gd_inv hh
          refine cm_aald X hM (by decide) rfl (by decide) rfl g33 dX1_goes_147 ?_
          refine lv_aload hx hb dX1_goes_148 (lv_at hl 0 rfl) ?_
          refine lv_iconst (v := zi 0) hx hb dX1_goes_150 rfl ?_
          refine cm_iald (qz := (28 + 1 + x4)) X hM (cr_28 g18) (by have := g18.1; omega) rfl (by decide) dX1_goes_151 ?_
          obtain ⟨g34, hh⟩ := gd_inv hh
          refine cm_iald (qz := (536 + 1 + x3)) X hM (cr_536 g33) (by have := g33.1; omega) rfl g34 dX1_goes_152 ?_
          refine lv_aload_n hx hb dX1_goes_153 rfl (lv_at hl 3 rfl) ?_
          refine cm_getN X hM q247 (cf_474_1 _ _ _) rfl dX1_goes_154 ?_
          refine lv_iload_n hx hb dX1_goes_157 rfl (lv_at hl 4 rfl) ?_
          refine lv_aload hx hb dX1_goes_158 (lv_at hl 0 rfl) ?_
          refine lv_iconst (v := zi 2) hx hb dX1_goes_160 rfl ?_
          refine cm_iald (qz := (28 + 1 + x4)) X hM (cr_28 g18) (by have := g18.1; omega) rfl (by decide) dX1_goes_161 ?_
          refine g_isub hx hb dX1_goes_162 ?_
          refine g_nmi hx hb (fun v35 e36 => ?_)
          replace hh := nm_inv hh v35 e36
          obtain ⟨g37, hh⟩ := gd_inv hh
          refine cm_aald X hM (by decide) rfl (by decide) rfl g37 dX1_goes_163 ?_
          refine lv_aload hx hb dX1_goes_164 (lv_at hl 0 rfl) ?_
          refine lv_iconst (v := zi 1) hx hb dX1_goes_166 rfl ?_
          refine cm_iald (qz := (28 + 1 + x4)) X hM (cr_28 g18) (by have := g18.1; omega) rfl (by decide) dX1_goes_167 ?_
          obtain ⟨g38, hh⟩ := gd_inv hh
          refine cm_iald (qz := (536 + 1 + v35)) X hM (cr_536 g37) (by have := g37.1; omega) rfl g38 dX1_goes_168 ?_
          refine g_imul hx hb dX1_goes_169 ?_
          refine g_isub hx hb dX1_goes_170 ?_
          exact hB171 x1 x3 x4 (((S.2 (536 + 1 + v27) (S.2 (28 + 1 + x4) 0)) * (S.2 (536 + 1 + x3) (S.2 (28 + 1 + x4) 1))) - ((S.2 (536 + 1 + x3) (S.2 (28 + 1 + x4) 0)) * (S.2 (536 + 1 + v35) (S.2 (28 + 1 + x4) 1)))) x4 g19 _ hK68 S hh _ _ _ hM (lv_sub hl [1, 2, 3, 4, 5] rfl)
      · replace hh := it_f c16 hh
        refine lv_iconst (v := zi 0) hx hb dX1_goes_178 rfl ?_
        refine lv_istore (lv' := [(4, .int (zi (0))), (0, .ref (hC)), (1, .int (zi (x1))), (2, .ref (hC + 474)), (3, .int (zi (x3)))]) hx hb dX1_goes_179 hl (by decide) rfl (fun ls hl => ?_)
        exact hL181 x1 x3 FU S (0 : Int) hh _ _ _ hM (lv_sub hl [1, 2, 3, 4, 0] rfl)
  have hL18 : ∀ (x1 : Int) (x3 : Int) (n : Nat) (S : yS) (x4 : Int), C_goes_L18 ed rs x1 x3 n S x4 = some S1 → ∀ (H : Heap) (locs : List Loc) (ls : Array Slot), CX DC dA hC (hA (cA hC) s.heap.size) S s H locs → lv_has ls 11 [(0, .ref (hC)), (1, .int (zi (x1))), (2, .ref (hC + 474)), (3, .int (zi (x3))), (4, .int (zi (x4)))] → W p l e ({ frames := 60, cells := 0, slots := 0, locals := 2300 } : Room) s m args below meth c H locs 0 0 Q (F0 m 18 ls []) := by
    intro x1 x3  n
    induction n with
    | zero => intro S x4 hh; exact no_some hh
    | succ n ih =>
      intro S x4 hh H locs ls hM hl
      replace hh : C_goes_b18 ed rs x1 x3 (C_goes_L18 ed rs x1 x3 n) S x4 = some S1 := hh
      unfold C_goes_b18 at hh
      have hK18 := ih
      refine lv_iload hx hb dX1_goes_18 (lv_at hl 4 rfl) ?_
      refine lv_aload_n hx hb dX1_goes_20 rfl (lv_at hl 0 rfl) ?_
      refine cm_get X hM q379 (cf_0_0 _ _ _) rfl dX1_goes_21 ?_
      refine cm_getN X hM q161 (cf_1_0 _ _ _) rfl dX1_goes_24 ?_
      refine lv_iconst (v := zi 1) hx hb dX1_goes_27 rfl ?_
      refine cm_iald (qz := 2) X hM ci_2 rfl rfl (by decide) dX1_goes_28 ?_
      obtain ⟨g6, hh⟩ := gd_inv hh
      refine g_icmp_ge (tgt := 65) hx hb g6 dX1_goes_29 (by decide) (fun c5 => ?_) (fun c5 => ?_)
      · replace hh := it_t c5 hh
        refine lv_aload_n hx hb dX1_goes_32 rfl (lv_at hl 2 rfl) ?_
        refine cm_getN X hM q247 (cf_474_1 _ _ _) rfl dX1_goes_33 ?_
        refine lv_iload_n hx hb dX1_goes_36 rfl (lv_at hl 3 rfl) ?_
        obtain ⟨g7, hh⟩ := gd_inv hh
        refine cm_aald X hM (by decide) rfl (by decide) rfl g7 dX1_goes_37 ?_
        refine lv_iload hx hb dX1_goes_38 (lv_at hl 4 rfl) ?_
        refine lv_aload_n hx hb dX1_goes_40 rfl (lv_at hl 0 rfl) ?_
        refine lv_iload hx hb dX1_goes_41 (lv_at hl 4 rfl) ?_
        refine lv_aload_n hx hb dX1_goes_43 rfl (lv_at hl 2 rfl) ?_
        refine cm_getN X hM q252 (cf_474_4 _ _ _) rfl dX1_goes_44 ?_
        refine lv_aload_n hx hb dX1_goes_47 rfl (lv_at hl 2 rfl) ?_
        refine cm_getN X hM q253 (cf_474_5 _ _ _) rfl dX1_goes_48 ?_
        refine lv_aload_n hx hb dX1_goes_51 rfl (lv_at hl 2 rfl) ?_
        refine cm_getN X hM q254 (cf_474_6 _ _ _) rfl dX1_goes_52 ?_
        obtain ⟨v9, S10, k8, hh⟩ := bd2_inv hh
        refine cc_i (rest := [.int (zi (x4)), .ref (hC + (536 + 1 + Int.toNat x3))]) X hM (wC_takeOf l DC dA hC S x4 (S.1 14) (S.1 15) (S.1 16) k8) cx_X1_138.1 cx_X1_138.2 ⟨rfl, rfl⟩ ⟨Nat.le_of_ble_eq_true rfl, Nat.le_of_ble_eq_true rfl⟩ ⟨Nat.zero_le _, Nat.zero_le _⟩ hl.1 (Nat.le_of_ble_eq_true rfl) dX1_goes_55 rfl (fun H locs hM => ?_)
        obtain ⟨g11, hh⟩ := gd_inv hh
        refine cm_iast (qz := (536 + 1 + x3)) X hM (cr_536 g7) (by have := g7.1; omega) rfl g11 dX1_goes_58 (fun H locs S12 e13 hM => ?_)
        replace hh := nm_inv hh S12 e13
        obtain ⟨v14, e15⟩ : ∃ z : Int, z = x4 + 1 := ⟨_, rfl⟩
        replace hh := nm_inv hh v14 e15
        refine lv_iinc (v := zi v14) (lv' := [(4, .int (zi (v14))), (0, .ref (hC)), (1, .int (zi (x1))), (2, .ref (hC + 474)), (3, .int (zi (x3)))]) hx hb dX1_goes_59 hl (k := 4) rfl (by rw [e15]; exact zi_add _ _) (by decide) rfl (fun ls hl => ?_)
        refine lv_goto (tgt := 18) hx hb dX1_goes_62 (by decide) ?_
        exact hK18 S12 v14 hh _ _ _ hM (lv_sub hl [1, 2, 3, 4, 0] rfl)
      · replace hh := it_f c5 hh
        refine lv_iconst (v := zi 0) hx hb dX1_goes_65 rfl ?_
        refine lv_istore (lv' := [(4, .int (zi (0))), (0, .ref (hC)), (1, .int (zi (x1))), (2, .ref (hC + 474)), (3, .int (zi (x3)))]) hx hb dX1_goes_66 hl (by decide) rfl (fun ls hl => ?_)
        exact hL68 x1 x3 FU S (0 : Int) hh _ _ _ hM (lv_sub hl [1, 2, 3, 4, 0] rfl)
  replace hl : lv_has ls 11 [(0, .ref (hC)), (1, .int (zi (x1)))] := hl
  unfold C_goes at hh
  refine lv_aload_n hx hb dX1_goes_0 rfl (lv_at hl 0 rfl) ?_
  refine cm_get X hM q390 (cf_0_11 _ _ _) rfl dX1_goes_1 ?_
  refine lv_astore_n (lv' := [(2, .ref (hC + 474)), (0, .ref (hC)), (1, .int (zi (x1)))]) hx hb dX1_goes_4 rfl hl (by decide) rfl (fun ls hl => ?_)
  refine lv_aload_n hx hb dX1_goes_5 rfl (lv_at hl 0 rfl) ?_
  refine cm_getN X hM q255 (cf_474_7 _ _ _) rfl dX1_goes_6 ?_
  refine g_nmi hx hb (fun v1 e2 => ?_)
  replace hh := nm_inv hh v1 e2
  refine lv_istore_n (lv' := [(3, .int (zi (v1))), (2, .ref (hC + 474)), (0, .ref (hC)), (1, .int (zi (x1)))]) hx hb dX1_goes_9 rfl hl (by decide) rfl (fun ls hl => ?_)
  refine lv_aload_n hx hb dX1_goes_10 rfl (lv_at hl 2 rfl) ?_
  refine lv_iload_n hx hb dX1_goes_11 rfl (lv_at hl 0 rfl) ?_
  obtain ⟨S4, k3, hh⟩ := bd_inv hh
  refine cc_v (rest := []) X hM (wC_lays l DC dA hC S v1 k3) cx_X1_94.1 cx_X1_94.2 ⟨rfl, rfl⟩ ⟨Nat.le_of_ble_eq_true rfl, Nat.le_of_ble_eq_true rfl⟩ ⟨Nat.zero_le _, Nat.zero_le _⟩ hl.1 (Nat.le_of_ble_eq_true rfl) dX1_goes_12 rfl (fun H locs hM => ?_)
  refine lv_iconst (v := zi 0) hx hb dX1_goes_15 rfl ?_
  refine lv_istore (lv' := [(4, .int (zi (0))), (3, .int (zi (v1))), (2, .ref (hC + 474)), (0, .ref (hC)), (1, .int (zi (x1)))]) hx hb dX1_goes_16 hl (by decide) rfl (fun ls hl => ?_)
  exact hL18 x1 v1 FU S4 (0 : Int) hh _ _ _ hM (lv_sub hl [3, 4, 2, 1, 0] rfl)
theorem cx_X1_218 : GoodIn lw_all (wsV "ManyEyes" 218 "ManyEyes" yX1_goes (ws_ yX1_goes cX1_goes 11 none)) ∧ yX1_goes.cls = "ManyEyes" ∧ yX1_goes.cls ≠ "java/lang/invoke/MethodHandle" ∧ yX1_goes.cls ≠ "java/lang/invoke/VarHandle" ∧ (parseMethodDescriptor yX1_goes.desc).map (fun d => d.parameters.length) = some 1 := ⟨lw_V q975 q977 qs31 q80 q978, by decide +kernel⟩
def C_flies_b79 (ed : Nat) (rs : List (List tCl)) (x1 : Int) (x5 : Int) (K79 : yS → Option yS) (S : yS) : Option yS := gd (r32 (S.1 17) ∧ r32 (x5)) (if (S.1 17) < x5 then (gd (r32 (S.1 18)) (if (S.1 18) = 0 then (gd (r32 (S.1 19)) (if (S.1 19) = 0 then (bd (C_goes ed rs S x1) (fun S26 => K79 S26)) else (some S))) else (some S))) else (some S))
def C_flies_L79 (ed : Nat) (rs : List (List tCl)) (x1 : Int) (x5 : Int) : Nat → yS → Option yS
  | 0 => fun _ => none
  | n + 1 => fun S => C_flies_b79 ed rs x1 x5 (C_flies_L79 ed rs x1 x5 n) S
def C_flies_B76 (ed : Nat) (rs : List (List tCl)) (S : yS) (x1 : Int) (x5 : Int) (t0 : Int) : Option yS := nm (cfs S 25 (t0)) (fun S17 => C_flies_L79 ed rs x1 x5 FU S17)
def C_flies (ed : Nat) (rs : List (List tCl)) (S : yS) (x1 : Int) (x2 : Int) (x3 : Int) (x4 : Int) (x5 : Int) (x6 : Int) : Option yS := nm (cfs S 14 (x2)) (fun S1 => nm (cfs S1 15 (x3)) (fun S3 => nm (cfs S3 16 (x4)) (fun S5 => nm (cfs S5 17 (0)) (fun S7 => nm (cfs S7 18 (0)) (fun S9 => nm (cfs S9 19 (0)) (fun S11 => nm (cfs S11 24 (0)) (fun S13 => gd (r32 (x6)) (if x6 = 0 then (C_flies_B76 ed rs S13 x1 x5 (1000000 : Int)) else (gd ((0 : Int) ≤ 1 ∧ ((0 : Int) ≤ x6 - 1 ∧ (x6 - 1 : Int) ≤ 63) ∧ (1 : Int) * 2 ^ (Int.toNat (x6 - 1)) < 18446744073709551616) (C_flies_B76 ed rs S13 x1 x5 (((1 : Int) * 2 ^ (Int.toNat (x6 - 1))) - 1)))))))))))
set_option maxHeartbeats 4000000 in
theorem wC_flies (l : Launch) (Z : hZ) (DC : va_G) (dA : Nat → ClassId) (hC : Nat) (A : Nat → Prop) (L : List Nat) (k ed : Nat) (rs : List (List tCl)) (S : yS) (x1 x2 x3 x4 x5 x6 : Int) (n0 : Nat) {S1 : yS} (hh : C_flies ed rs S x1 x2 x3 x4 x5 x6 = some S1) : mFl l yX1_flies cX1_flies 8 none ({ frames := 61, cells := 0, slots := 0, locals := 2330 } : Room) Z DC dA hC [.ref hC, .int (zi x1), .int (zi x2), .int (zi x3), .int (zi x4), .int (zi x5), .int (zi x6)] n0 (fPre Z DC dA hC A L k ed rs S) none S1 := by
  refine goFv (by decide +kernel) (Nat.le_of_ble_eq_true rfl) ?_
  intro p e s m args below meth c Q ls Y hret hl hM hO
  have X := fcx_c Y
  have hx := Y.1.1
  have hb := Y.1.2.1
  have hown := Y.1.2.2.2.1
  have hts := Y.1.2.2.2.2
  have hL79 : ∀ (x1 : Int) (x5 : Int) (n : Nat) (S : yS), C_flies_L79 ed rs x1 x5 n S = some S1 → ∀ (H : Heap) (locs : List Loc) (ls : Array Slot), CX DC dA hC (hA (cA hC) s.heap.size) S s H locs → lv_has ls 8 [(0, .ref (hC)), (1, .int (zi (x1))), (5, .int (zi (x5))), (7, .ref (hC + 474))] → W p l e ({ frames := 61, cells := 0, slots := 0, locals := 2330 } : Room) s m args below meth c H locs 0 0 Q (F0 m 79 ls []) := by
    intro x1 x5  n
    induction n with
    | zero => intro S hh; exact no_some hh
    | succ n ih =>
      intro S hh H locs ls hM hl
      replace hh : C_flies_b79 ed rs x1 x5 (C_flies_L79 ed rs x1 x5 n) S = some S1 := hh
      unfold C_flies_b79 at hh
      have hK79 := ih
      refine lv_aload hx hb dX1_flies_79 (lv_at hl 3 rfl) ?_
      refine cm_getN X hM q255 (cf_474_7 _ _ _) rfl dX1_flies_81 ?_
      refine lv_iload hx hb dX1_flies_84 (lv_at hl 2 rfl) ?_
      obtain ⟨g20, hh⟩ := gd_inv hh
      refine g_icmp_ge (tgt := 113) hx hb g20 dX1_flies_86 (by decide) (fun c19 => ?_) (fun c19 => ?_)
      · replace hh := it_t c19 hh
        refine lv_aload hx hb dX1_flies_89 (lv_at hl 3 rfl) ?_
        refine cm_getN X hM q256 (cf_474_8 _ _ _) rfl dX1_flies_91 ?_
        obtain ⟨g22, hh⟩ := gd_inv hh
        refine g_if_ne (tgt := 113) hx hb g22 dX1_flies_94 (by decide) (fun c21 => ?_) (fun c21 => ?_)
        · replace hh := it_t c21 hh
          refine lv_aload hx hb dX1_flies_97 (lv_at hl 3 rfl) ?_
          refine cm_getN X hM q257 (cf_474_9 _ _ _) rfl dX1_flies_99 ?_
          obtain ⟨g24, hh⟩ := gd_inv hh
          refine g_if_ne (tgt := 113) hx hb g24 dX1_flies_102 (by decide) (fun c23 => ?_) (fun c23 => ?_)
          · replace hh := it_t c23 hh
            refine lv_aload_n hx hb dX1_flies_105 rfl (lv_at hl 0 rfl) ?_
            refine lv_iload_n hx hb dX1_flies_106 rfl (lv_at hl 1 rfl) ?_
            obtain ⟨S26, k25, hh⟩ := bd_inv hh
            refine cf_ (rest := []) Y hM hO (wC_goes l Z DC dA hC A L k ed rs S x1 H.size k25) cx_X1_218.1 cx_X1_218.2 ⟨rfl, rfl⟩ ⟨Nat.le_of_ble_eq_true rfl, Nat.le_of_ble_eq_true rfl⟩ ⟨Nat.zero_le _, Nat.zero_le _⟩ hl.1 (Nat.le_of_ble_eq_true rfl) dX1_flies_107 rfl (fun H locs hM => ?_)
            refine lv_goto (tgt := 79) hx hb dX1_flies_110 (by decide) ?_
            exact hK79 S26 hh _ _ _ hM (lv_sub hl [0, 1, 2, 3] rfl)
          · replace hh := it_f c23 hh
            exact hret _ _ _ _ _ (rt0 hh) dX1_flies_113 hM
        · replace hh := it_f c21 hh
          exact hret _ _ _ _ _ (rt0 hh) dX1_flies_113 hM
      · replace hh := it_f c19 hh
        exact hret _ _ _ _ _ (rt0 hh) dX1_flies_113 hM
  have hB76 : ∀ (x1 : Int) (x5 : Int) (t0 : Int) (S : yS), C_flies_B76 ed rs S x1 x5 t0 = some S1 → ∀ (H : Heap) (locs : List Loc) (ls : Array Slot), CX DC dA hC (hA (cA hC) s.heap.size) S s H locs → lv_has ls 8 [(0, .ref (hC)), (1, .int (zi (x1))), (5, .int (zi (x5))), (7, .ref (hC + 474))] → W p l e ({ frames := 61, cells := 0, slots := 0, locals := 2330 } : Room) s m args below meth c H locs 0 0 Q (F0 m 76 ls [.long (zl (t0)), .ref (hC + 658)]) := by
    intro x1 x5 t0  S hh H locs ls hM hl
    unfold C_flies_B76 at hh
    refine cm_putN X hM q228 (cp_658_5 _ _ _ _) rfl dX1_flies_76 (fun H locs S17 e18 hM => ?_)
    replace hh := nm_inv hh S17 e18
    exact hL79 x1 x5 FU S17 hh _ _ _ hM (lv_sub hl [0, 1, 2, 3] rfl)
  replace hl : lv_has ls 8 [(0, .ref (hC)), (1, .int (zi (x1))), (2, .int (zi (x2))), (3, .int (zi (x3))), (4, .int (zi (x4))), (5, .int (zi (x5))), (6, .int (zi (x6)))] := hl
  unfold C_flies at hh
  refine lv_aload_n hx hb dX1_flies_0 rfl (lv_at hl 0 rfl) ?_
  refine cm_get X hM q390 (cf_0_11 _ _ _) rfl dX1_flies_1 ?_
  refine lv_astore (lv' := [(7, .ref (hC + 474)), (0, .ref (hC)), (1, .int (zi (x1))), (2, .int (zi (x2))), (3, .int (zi (x3))), (4, .int (zi (x4))), (5, .int (zi (x5))), (6, .int (zi (x6)))]) hx hb dX1_flies_4 hl (by decide) rfl (fun ls hl => ?_)
  refine lv_aload hx hb dX1_flies_6 (lv_at hl 0 rfl) ?_
  refine lv_iload_n hx hb dX1_flies_8 rfl (lv_at hl 3 rfl) ?_
  refine cm_putN X hM q252 (cp_474_4 _ _ _ _) rfl dX1_flies_9 (fun H locs S1 e2 hM => ?_)
  replace hh := nm_inv hh S1 e2
  refine lv_aload hx hb dX1_flies_12 (lv_at hl 0 rfl) ?_
  refine lv_iload_n hx hb dX1_flies_14 rfl (lv_at hl 4 rfl) ?_
  refine cm_putN X hM q253 (cp_474_5 _ _ _ _) rfl dX1_flies_15 (fun H locs S3 e4 hM => ?_)
  replace hh := nm_inv hh S3 e4
  refine lv_aload hx hb dX1_flies_18 (lv_at hl 0 rfl) ?_
  refine lv_iload hx hb dX1_flies_20 (lv_at hl 5 rfl) ?_
  refine cm_putN X hM q254 (cp_474_6 _ _ _ _) rfl dX1_flies_22 (fun H locs S5 e6 hM => ?_)
  replace hh := nm_inv hh S5 e6
  refine lv_aload hx hb dX1_flies_25 (lv_at hl 0 rfl) ?_
  refine lv_iconst (v := zi 0) hx hb dX1_flies_27 rfl ?_
  refine cm_putN X hM q255 (cp_474_7 _ _ _ _) rfl dX1_flies_28 (fun H locs S7 e8 hM => ?_)
  replace hh := nm_inv hh S7 e8
  refine lv_aload hx hb dX1_flies_31 (lv_at hl 0 rfl) ?_
  refine lv_iconst (v := zi 0) hx hb dX1_flies_33 rfl ?_
  refine cm_putN X hM q256 (cp_474_8 _ _ _ (by decide)) rfl dX1_flies_34 (fun H locs S9 e10 hM => ?_)
  replace hh := nm_inv hh S9 e10
  refine lv_aload hx hb dX1_flies_37 (lv_at hl 0 rfl) ?_
  refine lv_iconst (v := zi 0) hx hb dX1_flies_39 rfl ?_
  refine cm_putN X hM q257 (cp_474_9 _ _ _ (by decide)) rfl dX1_flies_40 (fun H locs S11 e12 hM => ?_)
  replace hh := nm_inv hh S11 e12
  refine lv_aload hx hb dX1_flies_43 (lv_at hl 0 rfl) ?_
  refine cm_getN X hM q251 (cf_474_3 _ _ _) rfl dX1_flies_45 ?_
  refine lv_iconst (v := zi 0) hx hb dX1_flies_48 rfl ?_
  refine cm_putN X hM q226 (cp_658_4 _ _ _ _) rfl dX1_flies_49 (fun H locs S13 e14 hM => ?_)
  replace hh := nm_inv hh S13 e14
  refine lv_aload hx hb dX1_flies_52 (lv_at hl 0 rfl) ?_
  refine cm_getN X hM q251 (cf_474_3 _ _ _) rfl dX1_flies_54 ?_
  refine lv_iload hx hb dX1_flies_57 (lv_at hl 7 rfl) ?_
  obtain ⟨g16, hh⟩ := gd_inv hh
  refine g_if_ne (tgt := 68) hx hb g16 dX1_flies_59 (by decide) (fun c15 => ?_) (fun c15 => ?_)
  · replace hh := it_t c15 hh
    refine g_ldc2 (v := 1000000) (z := 1000000) hx hb (by decide) hown (hts _ q974) dX1_flies_62 ?_
    refine lv_goto (tgt := 76) hx hb dX1_flies_65 (by decide) ?_
    exact hB76 x1 x5 (1000000 : Int) S13 hh _ _ _ hM (lv_sub hl [1, 2, 6, 0] rfl)
  · replace hh := it_f c15 hh
    refine lv_lconst (v := zl 1) hx hb dX1_flies_68 (by decide) ?_
    refine lv_iload hx hb dX1_flies_69 (lv_at hl 7 rfl) ?_
    refine lv_iconst (v := zi 1) hx hb dX1_flies_71 rfl ?_
    refine g_isub hx hb dX1_flies_72 ?_
    obtain ⟨g27, hh⟩ := gd_inv hh
    refine g_lshl hx hb g27 dX1_flies_73 ?_
    refine lv_lconst (v := zl 1) hx hb dX1_flies_74 (by decide) ?_
    refine g_lsub hx hb dX1_flies_75 ?_
    exact hB76 x1 x5 (((1 : Int) * 2 ^ (Int.toNat (x6 - 1))) - 1) S13 hh _ _ _ hM (lv_sub hl [1, 2, 6, 0] rfl)
