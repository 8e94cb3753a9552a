set_option maxRecDepth 100000
def C_in (x0 : Int) (x1 : Int) (x2 : Int) : Option Bool := gd (r32 (x0) ∧ r32 (x1)) (if x0 < x1 then (some (false)) else (gd (r32 (x0) ∧ r32 (x2)) (if x0 ≤ x2 then (some (true)) else (some (false)))))
set_option maxHeartbeats 4000000 in
theorem wC_in (l : Launch) (x0 x1 x2 : Int) {r : Bool} (hh : C_in x0 x1 x2 = some r) : ms_z l yX1_in cX1_in 3 (some .boolean) ({ frames := 1, cells := 0, slots := 0, locals := 40 } : Room) [.int (zi x0), .int (zi x1), .int (zi x2)] r := by
  refine go_z (by decide +kernel) (Nat.le_of_ble_eq_true rfl) ?_
  intro p e s m args below meth c Q ls X hret hl hM
  have hx := X.1
  have hb := X.2.1
  have hown := X.2.2.2.1
  have hts := X.2.2.2.2
  replace hl : lv_has ls 3 [(0, .int (zi (x0))), (1, .int (zi (x1))), (2, .int (zi (x2)))] := hl
  unfold C_in at hh
  refine lv_iload_n hx hb dX1_in_0 rfl (lv_at hl 0 rfl) ?_
  refine lv_iload_n hx hb dX1_in_1 rfl (lv_at hl 1 rfl) ?_
  obtain ⟨g2, hh⟩ := gd_inv hh
  refine g_icmp_lt (tgt := 14) hx hb g2 dX1_in_2 (by decide) (fun c1 => ?_) (fun c1 => ?_)
  · replace hh := it_t c1 hh
    refine lv_iconst (v := zi 0) hx hb dX1_in_14 rfl ?_
    refine W.eq (g2 := F0 m 15 ls [.int (zi (bz false))]) rfl ?_
    exact hret _ _ _ _ _ (rt0 hh) dX1_in_15 hM
  · replace hh := it_f c1 hh
    refine lv_iload_n hx hb dX1_in_5 rfl (lv_at hl 0 rfl) ?_
    refine lv_iload_n hx hb dX1_in_6 rfl (lv_at hl 2 rfl) ?_
    obtain ⟨g4, hh⟩ := gd_inv hh
    refine g_icmp_gt (tgt := 14) hx hb g4 dX1_in_7 (by decide) (fun c3 => ?_) (fun c3 => ?_)
    · replace hh := it_t c3 hh
      refine lv_iconst (v := zi 1) hx hb dX1_in_10 rfl ?_
      refine lv_goto (tgt := 15) hx hb dX1_in_11 (by decide) ?_
      refine W.eq (g2 := F0 m 15 ls [.int (zi (bz true))]) rfl ?_
      exact hret _ _ _ _ _ (rt0 hh) dX1_in_15 hM
    · replace hh := it_f c3 hh
      refine lv_iconst (v := zi 0) hx hb dX1_in_14 rfl ?_
      refine W.eq (g2 := F0 m 15 ls [.int (zi (bz false))]) rfl ?_
      exact hret _ _ _ _ _ (rt0 hh) dX1_in_15 hM
theorem cx_X1_66 : GoodIn lw_all (va_wsS "ManyEyes" 66 yX1_in (ws_ yX1_in cX1_in 3 (some .boolean))) ∧ yX1_in.cls ≠ "java/lang/invoke/MethodHandle" ∧ yX1_in.cls ≠ "java/lang/invoke/VarHandle" ∧ (parseMethodDescriptor yX1_in.desc).map (fun d => d.parameters.length) = some 3 := ⟨lw_S q424 q425 q80 q426, by decide +kernel⟩
def C_isCell (S : yS) (x1 : Int) : Option Bool := bd (C_in x1 (0 : Int) (((S.1 2) * (S.1 3)) - 1)) (fun v1 => some (v1))
set_option maxHeartbeats 4000000 in
theorem wC_isCell (l : Launch) (DC : va_G) (dA : Nat → ClassId) (hC : Nat) (S : yS) (x1 : Int) {r : Bool} (hh : C_isCell S x1 = some r) : ct_z l yX1_isCell cX1_isCell 2 (some .boolean) ({ frames := 2, cells := 0, slots := 0, locals := 62 } : Room) DC dA hC [.ref hC, .int (zi x1)] S r S := by
  refine co_z (by decide) (Nat.le_of_ble_eq_true rfl) ?_
  intro p e s m args below meth c Q ls X hret hl hM
  have hx := X.1.1
  have hb := X.1.2.1
  have hown := X.1.2.2.2.1
  have hts := X.1.2.2.2.2
  replace hl : lv_has ls 2 [(0, .ref (hC)), (1, .int (zi (x1)))] := hl
  unfold C_isCell at hh
  refine lv_iload_n hx hb dX1_isCell_0 rfl (lv_at hl 1 rfl) ?_
  refine lv_iconst (v := zi 0) hx hb dX1_isCell_1 rfl ?_
  refine lv_aload_n hx hb dX1_isCell_2 rfl (lv_at hl 0 rfl) ?_
  refine cm_get X hM q381 (cf_0_2 _ _ _) rfl dX1_isCell_3 ?_
  refine lv_aload_n hx hb dX1_isCell_6 rfl (lv_at hl 0 rfl) ?_
  refine cm_get X hM q382 (cf_0_3 _ _ _) rfl dX1_isCell_7 ?_
  refine g_imul hx hb dX1_isCell_10 ?_
  refine lv_iconst (v := zi 1) hx hb dX1_isCell_11 rfl ?_
  refine g_isub hx hb dX1_isCell_12 ?_
  obtain ⟨v1, k2, hh⟩ := bd_inv hh
  refine ccs_z (rest := []) X hM (wC_in l x1 (0 : Int) (((S.1 2) * (S.1 3)) - 1) k2) cx_X1_66.1 cx_X1_66.2 ⟨rfl, rfl⟩ ⟨Nat.le_of_ble_eq_true rfl, Nat.le_of_ble_eq_true rfl⟩ ⟨Nat.zero_le _, Nat.zero_le _⟩ hl.1 (Nat.le_of_ble_eq_true rfl) dX1_isCell_13 rfl (fun H locs hM => ?_)
  exact hret _ _ _ _ _ _ (rt0 hh) rfl dX1_isCell_16 hM
theorem cx_X1_76 : GoodIn lw_all (wsV "ManyEyes" 76 "ManyEyes" yX1_isCell (ws_ yX1_isCell cX1_isCell 2 (some .boolean))) ∧ yX1_isCell.cls = "ManyEyes" ∧ yX1_isCell.cls ≠ "java/lang/invoke/MethodHandle" ∧ yX1_isCell.cls ≠ "java/lang/invoke/VarHandle" ∧ (parseMethodDescriptor yX1_isCell.desc).map (fun d => d.parameters.length) = some 1 := ⟨lw_V q420 q422 qs3 q80 q423, by decide +kernel⟩
def C_mark (S : yS) (x1 : Int) (x2 : Int) : Option (Bool × yS) := bd (C_isCell S x1) (fun v2 => if v2 = true then (bd (C_in x2 (0 : Int) (255 : Int)) (fun v4 => if v4 = true then (gd ((0 : Int) ≤ x1 ∧ (x1 : Int) < 576) (nm (cas S 3 x1 x2) (fun S8 => some (true, S8)))) else (some (false, S)))) else (some (false, S)))
set_option maxHeartbeats 4000000 in
theorem wC_mark (l : Launch) (DC : va_G) (dA : Nat → ClassId) (hC : Nat) (S : yS) (x1 x2 : Int) {r : Bool} {S1 : yS} (hh : C_mark S x1 x2 = some (r, S1)) : ct_z l yX1_mark cX1_mark 3 (some .boolean) ({ frames := 3, cells := 0, slots := 0, locals := 83 } : Room) DC dA hC [.ref hC, .int (zi x1), .int (zi x2)] S r S1 := by
  refine co_z (by decide) (Nat.le_of_ble_eq_true rfl) ?_
  intro p e s m args below meth c Q ls X hret hl hM
  have hx := X.1.1
  have hb := X.1.2.1
  have hown := X.1.2.2.2.1
  have hts := X.1.2.2.2.2
  replace hl : lv_has ls 3 [(0, .ref (hC)), (1, .int (zi (x1))), (2, .int (zi (x2)))] := hl
  unfold C_mark at hh
  refine lv_aload_n hx hb dX1_mark_0 rfl (lv_at hl 0 rfl) ?_
  refine lv_iload_n hx hb dX1_mark_1 rfl (lv_at hl 1 rfl) ?_
  obtain ⟨v2, k1, hh⟩ := bd_inv hh
  refine cc_z (rest := []) X hM (wC_isCell l DC dA hC S x1 k1) cx_X1_76.1 cx_X1_76.2 ⟨rfl, rfl⟩ ⟨Nat.le_of_ble_eq_true rfl, Nat.le_of_ble_eq_true rfl⟩ ⟨Nat.zero_le _, Nat.zero_le _⟩ hl.1 (Nat.le_of_ble_eq_true rfl) dX1_mark_2 rfl (fun H locs hM => ?_)
  refine g_bif_eq (tgt := 19) hx hb dX1_mark_5 (by decide) (fun c3 => ?_) (fun c3 => ?_)
  · replace hh := it_t c3 hh
    refine lv_iload_n hx hb dX1_mark_8 rfl (lv_at hl 2 rfl) ?_
    refine lv_iconst (v := zi 0) hx hb dX1_mark_9 rfl ?_
    refine lv_sipush (v := zi 255) hx hb dX1_mark_10 (by decide) ?_
    obtain ⟨v4, k5, hh⟩ := bd_inv hh
    refine ccs_z (rest := []) X hM (wC_in l x2 (0 : Int) (255 : Int) k5) cx_X1_66.1 cx_X1_66.2 ⟨rfl, rfl⟩ ⟨Nat.le_of_ble_eq_true rfl, Nat.le_of_ble_eq_true rfl⟩ ⟨Nat.zero_le _, Nat.zero_le _⟩ hl.1 (Nat.le_of_ble_eq_true rfl) dX1_mark_13 rfl (fun H locs hM => ?_)
    refine g_bif_ne (tgt := 21) hx hb dX1_mark_16 (by decide) (fun c6 => ?_) (fun c6 => ?_)
    · replace hh := it_t c6 hh
      refine lv_aload_n hx hb dX1_mark_21 rfl (lv_at hl 0 rfl) ?_
      refine cm_get X hM q379 (cf_0_0 _ _ _) rfl dX1_mark_22 ?_
      refine cm_getN X hM q163 (cf_1_1 _ _ _) rfl dX1_mark_25 ?_
      refine lv_iload_n hx hb dX1_mark_28 rfl (lv_at hl 1 rfl) ?_
      refine lv_iload_n hx hb dX1_mark_29 rfl (lv_at hl 2 rfl) ?_
      obtain ⟨g7, hh⟩ := gd_inv hh
      refine cm_iast (qz := 3) X hM ci_3 rfl rfl g7 dX1_mark_30 (fun H locs S8 e9 hM => ?_)
      replace hh := nm_inv hh S8 e9
      refine lv_iconst (v := zi 1) hx hb dX1_mark_31 rfl ?_
      refine W.eq (g2 := F0 m 32 ls [.int (zi (bz true))]) rfl ?_
      exact hret _ _ _ _ _ _ (rt1 hh) (rt2 hh) dX1_mark_32 hM
    · replace hh := it_f c6 hh
      refine lv_iconst (v := zi 0) hx hb dX1_mark_19 rfl ?_
      refine W.eq (g2 := F0 m 20 ls [.int (zi (bz false))]) rfl ?_
      exact hret _ _ _ _ _ _ (rt1 hh) (rt2 hh) dX1_mark_20 hM
  · replace hh := it_f c3 hh
    refine lv_iconst (v := zi 0) hx hb dX1_mark_19 rfl ?_
    refine W.eq (g2 := F0 m 20 ls [.int (zi (bz false))]) rfl ?_
    exact hret _ _ _ _ _ _ (rt1 hh) (rt2 hh) dX1_mark_20 hM
def C_isWay (x0 : Int) : Option Bool := bd (C_in x0 ((-2) : Int) (2 : Int)) (fun v1 => some (v1))
set_option maxHeartbeats 4000000 in
theorem wC_isWay (l : Launch) (x0 : Int) {r : Bool} (hh : C_isWay x0 = some r) : ms_z l yX1_isWay cX1_isWay 1 (some .boolean) ({ frames := 2, cells := 0, slots := 0, locals := 62 } : Room) [.int (zi x0)] r := by
  refine go_z (by decide +kernel) (Nat.le_of_ble_eq_true rfl) ?_
  intro p e s m args below meth c Q ls X hret hl hM
  have hx := X.1
  have hb := X.2.1
  have hown := X.2.2.2.1
  have hts := X.2.2.2.2
  replace hl : lv_has ls 1 [(0, .int (zi (x0)))] := hl
  unfold C_isWay at hh
  refine lv_iload_n hx hb dX1_isWay_0 rfl (lv_at hl 0 rfl) ?_
  refine lv_bipush (v := zi (-2)) hx hb dX1_isWay_1 (by decide) ?_
  refine lv_iconst (v := zi 2) hx hb dX1_isWay_3 rfl ?_
  obtain ⟨v1, k2, hh⟩ := bd_inv hh
  refine gc0_z (rest := []) X hM (wC_in l x0 ((-2) : Int) (2 : Int) k2) cx_X1_66.1 cx_X1_66.2 ⟨rfl, rfl⟩ ⟨Nat.le_of_ble_eq_true rfl, Nat.le_of_ble_eq_true rfl⟩ ⟨Nat.zero_le _, Nat.zero_le _⟩ hl.1 (Nat.le_of_ble_eq_true rfl) dX1_isWay_4 rfl (fun H locs hM => ?_)
  exact hret _ _ _ _ _ (rt0 hh) dX1_isWay_7 hM
def C_lays_b37 (x1 : Int) (K37 : yS → Int → Option yS) (S : yS) (x2 : Int) : Option yS := gd (r32 (x2)) (if x2 < 0 then (some S) else (gd ((0 : Int) ≤ x2 ∧ (x2 : Int) < 6) (gd (r32 (S.2 (4 + 1 + x2) 0) ∧ r32 (S.1 2) ∧ (S.1 2 : Int) ≠ 0) (nm ((Int.tmod (S.2 (4 + 1 + x2) 0) (S.1 2)) + (x1 * (S.2 (4 + 1 + x2) 1))) (fun v10 => gd (r32 (S.2 (4 + 1 + x2) 0) ∧ r32 (S.1 2) ∧ (S.1 2 : Int) ≠ 0) (nm ((Int.tdiv (S.2 (4 + 1 + x2) 0) (S.1 2)) + (x1 * (S.2 (4 + 1 + x2) 2))) (fun v13 => bd (C_in v10 (0 : Int) ((S.1 2) - 1)) (fun v15 => if v15 = true then (bd (C_in v13 (0 : Int) ((S.1 3) - 1)) (fun v18 => if v18 = true then (gd ((0 : Int) ≤ (v13 * (S.1 2)) + v10 ∧ ((v13 * (S.1 2)) + v10 : Int) < 576) (nm (cas S 472 ((v13 * (S.1 2)) + v10) (S.2 (4 + 1 + x2) 3)) (fun S22 => nm ((x2 + (-1)) : Int) (fun v24 => K37 S22 v24)))) else (nm ((x2 + (-1)) : Int) (fun v26 => K37 S v26)))) else (nm ((x2 + (-1)) : Int) (fun v28 => K37 S v28))))))))))
def C_lays_L37 (x1 : Int) : Nat → yS → Int → Option yS
  | 0 => fun _ _ => none
  | n + 1 => fun S x2 => C_lays_b37 x1 (C_lays_L37 x1 n) S x2
def C_lays (S : yS) (x1 : Int) : Option yS := gd ((0 : Int) ≤ (S.1 2) * (S.1 3) ∧ ((S.1 2) * (S.1 3) : Int) ≤ 576 ∧ ((S.1 2) * (S.1 3) : Int) ≤ 576) (nm (ccp S 3 472 ((S.1 2) * (S.1 3))) (fun S2 => nm ((S2.2 2 0) - 1) (fun v4 => C_lays_L37 x1 FU S2 v4)))
set_option maxHeartbeats 4000000 in
theorem wC_lays (l : Launch) (DC : va_G) (dA : Nat → ClassId) (hC : Nat) (S : yS) (x1 : Int) {S1 : yS} (hh : C_lays S x1 = some S1) : ct_v l yX1_lays cX1_lays 6 ({ frames := 2, cells := 0, slots := 0, locals := 62 } : Room) DC dA hC [.ref hC, .int (zi x1)] S S1 := by
  refine co_v (by decide) (Nat.le_of_ble_eq_true rfl) ?_
  intro p e s m args below meth c Q ls X hret hl hM
  have hx := X.1.1
  have hb := X.1.2.1
  have hown := X.1.2.2.2.1
  have hts := X.1.2.2.2.2
  have hL37 : ∀ (x1 : Int) (n : Nat) (S : yS) (x2 : Int), C_lays_L37 x1 n S x2 = some S1 → ∀ (H : Heap) (locs : List Loc) (ls : Array Slot), CX DC dA hC (cA hC) S s H locs → lv_has ls 6 [(0, .ref (hC)), (1, .int (zi (x1))), (2, .int (zi (x2)))] → W p l e ({ frames := 2, cells := 0, slots := 0, locals := 62 } : Room) s m args below meth c H locs 0 0 Q (F0 m 37 ls []) := by
    intro x1  n
    induction n with
    | zero => intro S x2 hh; exact no_some hh
    | succ n ih =>
      intro S x2 hh H locs ls hM hl
      replace hh : C_lays_b37 x1 (C_lays_L37 x1 n) S x2 = some S1 := hh
      unfold C_lays_b37 at hh
      have hK37 := ih
      refine lv_iload_n hx hb dX1_lays_37 rfl (lv_at hl 2 rfl) ?_
      obtain ⟨g7, hh⟩ := gd_inv hh
      refine g_if_lt (tgt := 137) hx hb g7 dX1_lays_38 (by decide) (fun c6 => ?_) (fun c6 => ?_)
      · replace hh := it_t c6 hh
        exact hret _ _ _ _ _ (rt0 hh) dX1_lays_137 hM
      · replace hh := it_f c6 hh
        refine lv_aload_n hx hb dX1_lays_41 rfl (lv_at hl 0 rfl) ?_
        refine cm_get X hM q379 (cf_0_0 _ _ _) rfl dX1_lays_42 ?_
        refine cm_getN X hM q165 (cf_1_2 _ _ _) rfl dX1_lays_45 ?_
        refine lv_iload_n hx hb dX1_lays_48 rfl (lv_at hl 2 rfl) ?_
        obtain ⟨g8, hh⟩ := gd_inv hh
        refine cm_aald X hM (by decide) rfl (by decide) rfl g8 dX1_lays_49 ?_
        refine lv_astore_n (lv' := [(3, .ref (hC + (4 + 1 + Int.toNat x2))), (0, .ref (hC)), (1, .int (zi (x1))), (2, .int (zi (x2)))]) hx hb dX1_lays_50 rfl hl (by decide) rfl (fun ls hl => ?_)
        refine lv_aload_n hx hb dX1_lays_51 rfl (lv_at hl 0 rfl) ?_
        refine lv_iconst (v := zi 0) hx hb dX1_lays_52 rfl ?_
        refine cm_iald (qz := (4 + 1 + x2)) X hM (cr_4 g8) (by have := g8.1; omega) rfl (by decide) dX1_lays_53 ?_
        refine lv_aload_n hx hb dX1_lays_54 rfl (lv_at hl 1 rfl) ?_
        refine cm_get X hM q381 (cf_0_2 _ _ _) rfl dX1_lays_55 ?_
        obtain ⟨g9, hh⟩ := gd_inv hh
        refine g_irem hx hb g9 dX1_lays_58 ?_
        refine lv_iload_n hx hb dX1_lays_59 rfl (lv_at hl 2 rfl) ?_
        refine lv_aload_n hx hb dX1_lays_60 rfl (lv_at hl 0 rfl) ?_
        refine lv_iconst (v := zi 1) hx hb dX1_lays_61 rfl ?_
        refine cm_iald (qz := (4 + 1 + x2)) X hM (cr_4 g8) (by have := g8.1; omega) rfl (by decide) dX1_lays_62 ?_
        refine g_imul hx hb dX1_lays_63 ?_
        refine g_iadd hx hb dX1_lays_64 ?_
        refine g_nmi hx hb (fun v10 e11 => ?_)
        replace hh := nm_inv hh v10 e11
        refine lv_istore (lv' := [(4, .int (zi (v10))), (3, .ref (hC + (4 + 1 + Int.toNat x2))), (0, .ref (hC)), (1, .int (zi (x1))), (2, .int (zi (x2)))]) hx hb dX1_lays_65 hl (by decide) rfl (fun ls hl => ?_)
        refine lv_aload_n hx hb dX1_lays_67 rfl (lv_at hl 1 rfl) ?_
        refine lv_iconst (v := zi 0) hx hb dX1_lays_68 rfl ?_
        refine cm_iald (qz := (4 + 1 + x2)) X hM (cr_4 g8) (by have := g8.1; omega) rfl (by decide) dX1_lays_69 ?_
        refine lv_aload_n hx hb dX1_lays_70 rfl (lv_at hl 2 rfl) ?_
        refine cm_get X hM q381 (cf_0_2 _ _ _) rfl dX1_lays_71 ?_
        obtain ⟨g12, hh⟩ := gd_inv hh
        refine g_idiv hx hb g12 dX1_lays_74 ?_
        refine lv_iload_n hx hb dX1_lays_75 rfl (lv_at hl 3 rfl) ?_
        refine lv_aload_n hx hb dX1_lays_76 rfl (lv_at hl 1 rfl) ?_
        refine lv_iconst (v := zi 2) hx hb dX1_lays_77 rfl ?_
        refine cm_iald (qz := (4 + 1 + x2)) X hM (cr_4 g8) (by have := g8.1; omega) rfl (by decide) dX1_lays_78 ?_
        refine g_imul hx hb dX1_lays_79 ?_
        refine g_iadd hx hb dX1_lays_80 ?_
        refine g_nmi hx hb (fun v13 e14 => ?_)
        replace hh := nm_inv hh v13 e14
        refine lv_istore (lv' := [(5, .int (zi (v13))), (4, .int (zi (v10))), (3, .ref (hC + (4 + 1 + Int.toNat x2))), (0, .ref (hC)), (1, .int (zi (x1))), (2, .int (zi (x2)))]) hx hb dX1_lays_81 hl (by decide) rfl (fun ls hl => ?_)
        refine lv_iload hx hb dX1_lays_83 (lv_at hl 1 rfl) ?_
        refine lv_iconst (v := zi 0) hx hb dX1_lays_85 rfl ?_
        refine lv_aload_n hx hb dX1_lays_86 rfl (lv_at hl 3 rfl) ?_
        refine cm_get X hM q381 (cf_0_2 _ _ _) rfl dX1_lays_87 ?_
        refine lv_iconst (v := zi 1) hx hb dX1_lays_90 rfl ?_
        refine g_isub hx hb dX1_lays_91 ?_
        obtain ⟨v15, k16, hh⟩ := bd_inv hh
        refine ccs_z (rest := []) X hM (wC_in l v10 (0 : Int) ((S.1 2) - 1) k16) cx_X1_66.1 cx_X1_66.2 ⟨rfl, rfl⟩ ⟨Nat.le_of_ble_eq_true rfl, Nat.le_of_ble_eq_true rfl⟩ ⟨Nat.zero_le _, Nat.zero_le _⟩ hl.1 (Nat.le_of_ble_eq_true rfl) dX1_lays_92 rfl (fun H locs hM => ?_)
        refine g_bif_eq (tgt := 131) hx hb dX1_lays_95 (by decide) (fun c17 => ?_) (fun c17 => ?_)
        · replace hh := it_t c17 hh
          refine lv_iload hx hb dX1_lays_98 (lv_at hl 0 rfl) ?_
          refine lv_iconst (v := zi 0) hx hb dX1_lays_100 rfl ?_
          refine lv_aload_n hx hb dX1_lays_101 rfl (lv_at hl 3 rfl) ?_
          refine cm_get X hM q382 (cf_0_3 _ _ _) rfl dX1_lays_102 ?_
          refine lv_iconst (v := zi 1) hx hb dX1_lays_105 rfl ?_
          refine g_isub hx hb dX1_lays_106 ?_
          obtain ⟨v18, k19, hh⟩ := bd_inv hh
          refine ccs_z (rest := []) X hM (wC_in l v13 (0 : Int) ((S.1 3) - 1) k19) cx_X1_66.1 cx_X1_66.2 ⟨rfl, rfl⟩ ⟨Nat.le_of_ble_eq_true rfl, Nat.le_of_ble_eq_true rfl⟩ ⟨Nat.zero_le _, Nat.zero_le _⟩ hl.1 (Nat.le_of_ble_eq_true rfl) dX1_lays_107 rfl (fun H locs hM => ?_)
          refine g_bif_eq (tgt := 131) hx hb dX1_lays_110 (by decide) (fun c20 => ?_) (fun c20 => ?_)
          · replace hh := it_t c20 hh
            refine lv_aload_n hx hb dX1_lays_113 rfl (lv_at hl 3 rfl) ?_
            refine cm_get X hM q387 (cf_0_8 _ _ _) rfl dX1_lays_114 ?_
            refine lv_iload hx hb dX1_lays_117 (lv_at hl 0 rfl) ?_
            refine lv_aload_n hx hb dX1_lays_119 rfl (lv_at hl 3 rfl) ?_
            refine cm_get X hM q381 (cf_0_2 _ _ _) rfl dX1_lays_120 ?_
            refine g_imul hx hb dX1_lays_123 ?_
            refine lv_iload hx hb dX1_lays_124 (lv_at hl 1 rfl) ?_
            refine g_iadd hx hb dX1_lays_126 ?_
            refine lv_aload_n hx hb dX1_lays_127 rfl (lv_at hl 2 rfl) ?_
            refine lv_iconst (v := zi 3) hx hb dX1_lays_128 rfl ?_
            refine cm_iald (qz := (4 + 1 + x2)) X hM (cr_4 g8) (by have := g8.1; omega) rfl (by decide) dX1_lays_129 ?_
            obtain ⟨g21, hh⟩ := gd_inv hh
            refine cm_iast (qz := 472) X hM ci_472 rfl rfl g21 dX1_lays_130 (fun H locs S22 e23 hM => ?_)
            replace hh := nm_inv hh S22 e23
            obtain ⟨v24, e25⟩ : ∃ z : Int, z = x2 + (-1) := ⟨_, rfl⟩
            replace hh := nm_inv hh v24 e25
            refine lv_iinc (v := zi v24) (lv' := [(2, .int (zi (v24))), (5, .int (zi (v13))), (4, .int (zi (v10))), (3, .ref (hC + (4 + 1 + Int.toNat x2))), (0, .ref (hC)), (1, .int (zi (x1)))]) hx hb dX1_lays_131 hl (k := 5) rfl (by rw [e25]; exact zi_add _ _) (by decide) rfl (fun ls hl => ?_)
            refine lv_goto (tgt := 37) hx hb dX1_lays_134 (by decide) ?_
            exact hK37 S22 v24 hh _ _ _ hM (lv_sub hl [4, 5, 0] rfl)
          · replace hh := it_f c20 hh
            obtain ⟨v26, e27⟩ : ∃ z : Int, z = x2 + (-1) := ⟨_, rfl⟩
            replace hh := nm_inv hh v26 e27
            refine lv_iinc (v := zi v26) (lv' := [(2, .int (zi (v26))), (5, .int (zi (v13))), (4, .int (zi (v10))), (3, .ref (hC + (4 + 1 + Int.toNat x2))), (0, .ref (hC)), (1, .int (zi (x1)))]) hx hb dX1_lays_131 hl (k := 5) rfl (by rw [e27]; exact zi_add _ _) (by decide) rfl (fun ls hl => ?_)
            refine lv_goto (tgt := 37) hx hb dX1_lays_134 (by decide) ?_
            exact hK37 S v26 hh _ _ _ hM (lv_sub hl [4, 5, 0] rfl)
        · replace hh := it_f c17 hh
          obtain ⟨v28, e29⟩ : ∃ z : Int, z = x2 + (-1) := ⟨_, rfl⟩
          replace hh := nm_inv hh v28 e29
          refine lv_iinc (v := zi v28) (lv' := [(2, .int (zi (v28))), (5, .int (zi (v13))), (4, .int (zi (v10))), (3, .ref (hC + (4 + 1 + Int.toNat x2))), (0, .ref (hC)), (1, .int (zi (x1)))]) hx hb dX1_lays_131 hl (k := 5) rfl (by rw [e29]; exact zi_add _ _) (by decide) rfl (fun ls hl => ?_)
          refine lv_goto (tgt := 37) hx hb dX1_lays_134 (by decide) ?_
          exact hK37 S v28 hh _ _ _ hM (lv_sub hl [4, 5, 0] rfl)
  replace hl : lv_has ls 6 [(0, .ref (hC)), (1, .int (zi (x1)))] := hl
  unfold C_lays at hh
  refine lv_aload_n hx hb dX1_lays_0 rfl (lv_at hl 0 rfl) ?_
  refine cm_get X hM q379 (cf_0_0 _ _ _) rfl dX1_lays_1 ?_
  refine cm_getN X hM q163 (cf_1_1 _ _ _) rfl dX1_lays_4 ?_
  refine lv_iconst (v := zi 0) hx hb dX1_lays_7 rfl ?_
  refine lv_aload_n hx hb dX1_lays_8 rfl (lv_at hl 0 rfl) ?_
  refine cm_get X hM q387 (cf_0_8 _ _ _) rfl dX1_lays_9 ?_
  refine lv_iconst (v := zi 0) hx hb dX1_lays_12 rfl ?_
  refine lv_aload_n hx hb dX1_lays_13 rfl (lv_at hl 0 rfl) ?_
  refine cm_get X hM q381 (cf_0_2 _ _ _) rfl dX1_lays_14 ?_
  refine lv_aload_n hx hb dX1_lays_17 rfl (lv_at hl 0 rfl) ?_
  refine cm_get X hM q382 (cf_0_3 _ _ _) rfl dX1_lays_18 ?_
  refine g_imul hx hb dX1_lays_21 ?_
  obtain ⟨g1, hh⟩ := gd_inv hh
  refine cm_copy (z0 := 3) (z1 := 472) (rest := []) X hM ci_3 ci_472 rfl rfl rfl rfl g1 q438 q291 q290 q88 hl.1 (Nat.le_of_ble_eq_true rfl) (Nat.le_of_ble_eq_true rfl) dX1_lays_22 (fun H locs S2 e3 hM => ?_)
  replace hh := nm_inv hh S2 e3
  refine lv_aload_n hx hb dX1_lays_25 rfl (lv_at hl 0 rfl) ?_
  refine cm_get X hM q379 (cf_0_0 _ _ _) rfl dX1_lays_26 ?_
  refine cm_getN X hM q161 (cf_1_0 _ _ _) rfl dX1_lays_29 ?_
  refine lv_iconst (v := zi 0) hx hb dX1_lays_32 rfl ?_
  refine cm_iald (qz := 2) X hM ci_2 rfl rfl (by decide) dX1_lays_33 ?_
  refine lv_iconst (v := zi 1) hx hb dX1_lays_34 rfl ?_
  refine g_isub hx hb dX1_lays_35 ?_
  refine g_nmi hx hb (fun v4 e5 => ?_)
  replace hh := nm_inv hh v4 e5
  refine lv_istore_n (lv' := [(2, .int (zi (v4))), (0, .ref (hC)), (1, .int (zi (x1)))]) hx hb dX1_lays_36 rfl hl (by decide) rfl (fun ls hl => ?_)
  exact hL37 x1 FU S2 v4 hh _ _ _ hM (lv_sub hl [1, 2, 0] rfl)
theorem cx_X1_94 : GoodIn lw_all (wsV "ManyEyes" 94 "ManyEyes" yX1_lays (ws_ yX1_lays cX1_lays 6 none)) ∧ yX1_lays.cls = "ManyEyes" ∧ yX1_lays.cls ≠ "java/lang/invoke/MethodHandle" ∧ yX1_lays.cls ≠ "java/lang/invoke/VarHandle" ∧ (parseMethodDescriptor yX1_lays.desc).map (fun d => d.parameters.length) = some 1 := ⟨lw_V q443 q445 qs5 q80 q446, by decide +kernel⟩
def C_markOf (S : yS) (x1 : Int) (x2 : Int) : Option (Int × yS) := bd (C_isCell S x1) (fun v2 => if v2 = true then (bd (C_in x2 (0 : Int) (999 : Int)) (fun v4 => if v4 = true then (bd (C_lays S x2) (fun S8 => gd ((0 : Int) ≤ x1 ∧ (x1 : Int) < 576) (some ((S8.2 472 x1 : Int), S8)))) else (some (((-1) : Int), S)))) else (some (((-1) : Int), S)))
set_option maxHeartbeats 4000000 in
theorem wC_markOf (l : Launch) (DC : va_G) (dA : Nat → ClassId) (hC : Nat) (S : yS) (x1 x2 : Int) {r : Int} {S1 : yS} (hh : C_markOf S x1 x2 = some (r, S1)) : ct_i l yX1_markOf cX1_markOf 3 (some .int) ({ frames := 3, cells := 0, slots := 0, locals := 87 } : Room) DC dA hC [.ref hC, .int (zi x1), .int (zi x2)] S r S1 := by
  refine co_i (by decide) (Nat.le_of_ble_eq_true rfl) ?_
  intro p e s m args below meth c Q ls X hret hl hM
  have hx := X.1.1
  have hb := X.1.2.1
  have hown := X.1.2.2.2.1
  have hts := X.1.2.2.2.2
  replace hl : lv_has ls 3 [(0, .ref (hC)), (1, .int (zi (x1))), (2, .int (zi (x2)))] := hl
  unfold C_markOf at hh
  refine lv_aload_n hx hb dX1_markOf_0 rfl (lv_at hl 0 rfl) ?_
  refine lv_iload_n hx hb dX1_markOf_1 rfl (lv_at hl 1 rfl) ?_
  obtain ⟨v2, k1, hh⟩ := bd_inv hh
  refine cc_z (rest := []) X hM (wC_isCell l DC dA hC S x1 k1) cx_X1_76.1 cx_X1_76.2 ⟨rfl, rfl⟩ ⟨Nat.le_of_ble_eq_true rfl, Nat.le_of_ble_eq_true rfl⟩ ⟨Nat.zero_le _, Nat.zero_le _⟩ hl.1 (Nat.le_of_ble_eq_true rfl) dX1_markOf_2 rfl (fun H locs hM => ?_)
  refine g_bif_eq (tgt := 19) hx hb dX1_markOf_5 (by decide) (fun c3 => ?_) (fun c3 => ?_)
  · replace hh := it_t c3 hh
    refine lv_iload_n hx hb dX1_markOf_8 rfl (lv_at hl 2 rfl) ?_
    refine lv_iconst (v := zi 0) hx hb dX1_markOf_9 rfl ?_
    refine lv_sipush (v := zi 999) hx hb dX1_markOf_10 (by decide) ?_
    obtain ⟨v4, k5, hh⟩ := bd_inv hh
    refine ccs_z (rest := []) X hM (wC_in l x2 (0 : Int) (999 : Int) k5) cx_X1_66.1 cx_X1_66.2 ⟨rfl, rfl⟩ ⟨Nat.le_of_ble_eq_true rfl, Nat.le_of_ble_eq_true rfl⟩ ⟨Nat.zero_le _, Nat.zero_le _⟩ hl.1 (Nat.le_of_ble_eq_true rfl) dX1_markOf_13 rfl (fun H locs hM => ?_)
    refine g_bif_ne (tgt := 21) hx hb dX1_markOf_16 (by decide) (fun c6 => ?_) (fun c6 => ?_)
    · replace hh := it_t c6 hh
      refine lv_aload_n hx hb dX1_markOf_21 rfl (lv_at hl 0 rfl) ?_
      refine lv_iload_n hx hb dX1_markOf_22 rfl (lv_at hl 2 rfl) ?_
      obtain ⟨S8, k7, hh⟩ := bd_inv hh
      refine cc_v (rest := []) X hM (wC_lays l DC dA hC S x2 k7) cx_X1_94.1 cx_X1_94.2 ⟨rfl, rfl⟩ ⟨Nat.le_of_ble_eq_true rfl, Nat.le_of_ble_eq_true rfl⟩ ⟨Nat.zero_le _, Nat.zero_le _⟩ hl.1 (Nat.le_of_ble_eq_true rfl) dX1_markOf_23 rfl (fun H locs hM => ?_)
      refine lv_aload_n hx hb dX1_markOf_26 rfl (lv_at hl 0 rfl) ?_
      refine cm_get X hM q387 (cf_0_8 _ _ _) rfl dX1_markOf_27 ?_
      refine lv_iload_n hx hb dX1_markOf_30 rfl (lv_at hl 1 rfl) ?_
      obtain ⟨g9, hh⟩ := gd_inv hh
      refine cm_iald (qz := 472) X hM ci_472 rfl rfl g9 dX1_markOf_31 ?_
      exact hret _ _ _ _ _ _ (rt1 hh) (rt2 hh) dX1_markOf_32 hM
    · replace hh := it_f c6 hh
      refine lv_iconst (v := zi (-1)) hx hb dX1_markOf_19 rfl ?_
      exact hret _ _ _ _ _ _ (rt1 hh) (rt2 hh) dX1_markOf_20 hM
  · replace hh := it_f c3 hh
    refine lv_iconst (v := zi (-1)) hx hb dX1_markOf_19 rfl ?_
    exact hret _ _ _ _ _ _ (rt1 hh) (rt2 hh) dX1_markOf_20 hM
def C_isPlace (S : yS) (x1 : Int) (x2 : Int) : Option Bool := bd (C_in x1 (0 : Int) ((16 * (S.1 2)) - 1)) (fun v1 => if v1 = true then (bd (C_in x2 (0 : Int) ((16 * (S.1 3)) - 1)) (fun v4 => if v4 = true then (some (true)) else (some (false)))) else (some (false)))
set_option maxHeartbeats 4000000 in
theorem wC_isPlace (l : Launch) (DC : va_G) (dA : Nat → ClassId) (hC : Nat) (S : yS) (x1 x2 : Int) {r : Bool} (hh : C_isPlace S x1 x2 = some r) : ct_z l yX1_isPlace cX1_isPlace 3 (some .boolean) ({ frames := 2, cells := 0, slots := 0, locals := 62 } : Room) DC dA hC [.ref hC, .int (zi x1), .int (zi x2)] S r S := by
  refine co_z (by decide) (Nat.le_of_ble_eq_true rfl) ?_
  intro p e s m args below meth c Q ls X hret hl hM
  have hx := X.1.1
  have hb := X.1.2.1
  have hown := X.1.2.2.2.1
  have hts := X.1.2.2.2.2
  replace hl : lv_has ls 3 [(0, .ref (hC)), (1, .int (zi (x1))), (2, .int (zi (x2)))] := hl
  unfold C_isPlace at hh
  refine lv_iload_n hx hb dX1_isPlace_0 rfl (lv_at hl 1 rfl) ?_
  refine lv_iconst (v := zi 0) hx hb dX1_isPlace_1 rfl ?_
  refine lv_bipush (v := zi 16) hx hb dX1_isPlace_2 (by decide) ?_
  refine lv_aload_n hx hb dX1_isPlace_4 rfl (lv_at hl 0 rfl) ?_
  refine cm_get X hM q381 (cf_0_2 _ _ _) rfl dX1_isPlace_5 ?_
  refine g_imul hx hb dX1_isPlace_8 ?_
  refine lv_iconst (v := zi 1) hx hb dX1_isPlace_9 rfl ?_
  refine g_isub hx hb dX1_isPlace_10 ?_
  obtain ⟨v1, k2, hh⟩ := bd_inv hh
  refine ccs_z (rest := []) X hM (wC_in l x1 (0 : Int) ((16 * (S.1 2)) - 1) k2) cx_X1_66.1 cx_X1_66.2 ⟨rfl, rfl⟩ ⟨Nat.le_of_ble_eq_true rfl, Nat.le_of_ble_eq_true rfl⟩ ⟨Nat.zero_le _, Nat.zero_le _⟩ hl.1 (Nat.le_of_ble_eq_true rfl) dX1_isPlace_11 rfl (fun H locs hM => ?_)
  refine g_bif_eq (tgt := 38) hx hb dX1_isPlace_14 (by decide) (fun c3 => ?_) (fun c3 => ?_)
  · replace hh := it_t c3 hh
    refine lv_iload_n hx hb dX1_isPlace_17 rfl (lv_at hl 2 rfl) ?_
    refine lv_iconst (v := zi 0) hx hb dX1_isPlace_18 rfl ?_
    refine lv_bipush (v := zi 16) hx hb dX1_isPlace_19 (by decide) ?_
    refine lv_aload_n hx hb dX1_isPlace_21 rfl (lv_at hl 0 rfl) ?_
    refine cm_get X hM q382 (cf_0_3 _ _ _) rfl dX1_isPlace_22 ?_
    refine g_imul hx hb dX1_isPlace_25 ?_
    refine lv_iconst (v := zi 1) hx hb dX1_isPlace_26 rfl ?_
    refine g_isub hx hb dX1_isPlace_27 ?_
    obtain ⟨v4, k5, hh⟩ := bd_inv hh
    refine ccs_z (rest := []) X hM (wC_in l x2 (0 : Int) ((16 * (S.1 3)) - 1) k5) cx_X1_66.1 cx_X1_66.2 ⟨rfl, rfl⟩ ⟨Nat.le_of_ble_eq_true rfl, Nat.le_of_ble_eq_true rfl⟩ ⟨Nat.zero_le _, Nat.zero_le _⟩ hl.1 (Nat.le_of_ble_eq_true rfl) dX1_isPlace_28 rfl (fun H locs hM => ?_)
    refine g_bif_eq (tgt := 38) hx hb dX1_isPlace_31 (by decide) (fun c6 => ?_) (fun c6 => ?_)
    · replace hh := it_t c6 hh
      refine lv_iconst (v := zi 1) hx hb dX1_isPlace_34 rfl ?_
      refine lv_goto (tgt := 39) hx hb dX1_isPlace_35 (by decide) ?_
      refine W.eq (g2 := F0 m 39 ls [.int (zi (bz true))]) rfl ?_
      exact hret _ _ _ _ _ _ (rt0 hh) rfl dX1_isPlace_39 hM
    · replace hh := it_f c6 hh
      refine lv_iconst (v := zi 0) hx hb dX1_isPlace_38 rfl ?_
      refine W.eq (g2 := F0 m 39 ls [.int (zi (bz false))]) rfl ?_
      exact hret _ _ _ _ _ _ (rt0 hh) rfl dX1_isPlace_39 hM
  · replace hh := it_f c3 hh
    refine lv_iconst (v := zi 0) hx hb dX1_isPlace_38 rfl ?_
    refine W.eq (g2 := F0 m 39 ls [.int (zi (bz false))]) rfl ?_
    exact hret _ _ _ _ _ _ (rt0 hh) rfl dX1_isPlace_39 hM
def C_isHead (x0 : Int) : Option Bool := bd (C_in x0 (0 : Int) (63 : Int)) (fun v1 => some (v1))
set_option maxHeartbeats 4000000 in
theorem wC_isHead (l : Launch) (x0 : Int) {r : Bool} (hh : C_isHead x0 = some r) : ms_z l yX1_isHead cX1_isHead 1 (some .boolean) ({ frames := 2, cells := 0, slots := 0, locals := 62 } : Room) [.int (zi x0)] r := by
  refine go_z (by decide +kernel) (Nat.le_of_ble_eq_true rfl) ?_
  intro p e s m args below meth c Q ls X hret hl hM
  have hx := X.1
  have hb := X.2.1
  have hown := X.2.2.2.1
  have hts := X.2.2.2.2
  replace hl : lv_has ls 1 [(0, .int (zi (x0)))] := hl
  unfold C_isHead at hh
  refine lv_iload_n hx hb dX1_isHead_0 rfl (lv_at hl 0 rfl) ?_
  refine lv_iconst (v := zi 0) hx hb dX1_isHead_1 rfl ?_
  refine lv_bipush (v := zi 63) hx hb dX1_isHead_2 (by decide) ?_
  obtain ⟨v1, k2, hh⟩ := bd_inv hh
  refine gc0_z (rest := []) X hM (wC_in l x0 (0 : Int) (63 : Int) k2) cx_X1_66.1 cx_X1_66.2 ⟨rfl, rfl⟩ ⟨Nat.le_of_ble_eq_true rfl, Nat.le_of_ble_eq_true rfl⟩ ⟨Nat.zero_le _, Nat.zero_le _⟩ hl.1 (Nat.le_of_ble_eq_true rfl) dX1_isHead_4 rfl (fun H locs hM => ?_)
  exact hret _ _ _ _ _ (rt0 hh) dX1_isHead_7 hM
def C_wayX (x0 : Int) : Option Int := gd (r32 (x0)) (nm ((2 * (Int.tmod x0 16)) - 16) (fun v2 => gd (r32 (x0)) (if x0 < 16 then (some ((16 : Int))) else (gd (r32 (x0)) (if x0 < 32 then (some ((-v2 : Int))) else (gd (r32 (x0)) (if x0 < 48 then (some (((-16) : Int))) else (some ((v2 : Int))))))))))
set_option maxHeartbeats 4000000 in
theorem wC_wayX (l : Launch) (x0 : Int) {r : Int} (hh : C_wayX x0 = some r) : ms_i l yX1_wayX cX1_wayX 2 (some .int) ({ frames := 1, cells := 0, slots := 0, locals := 40 } : Room) [.int (zi x0)] r := by
  refine go_i (by decide +kernel) (Nat.le_of_ble_eq_true rfl) ?_
  intro p e s m args below meth c Q ls X hret hl hM
  have hx := X.1
  have hb := X.2.1
  have hown := X.2.2.2.1
  have hts := X.2.2.2.2
  replace hl : lv_has ls 2 [(0, .int (zi (x0)))] := hl
  unfold C_wayX at hh
  refine lv_iconst (v := zi 2) hx hb dX1_wayX_0 rfl ?_
  refine lv_iload_n hx hb dX1_wayX_1 rfl (lv_at hl 0 rfl) ?_
  refine lv_bipush (v := zi 16) hx hb dX1_wayX_2 (by decide) ?_
  obtain ⟨g1, hh⟩ := gd_inv hh
  refine g_irem hx hb ⟨g1, by decide, by decide⟩ dX1_wayX_4 ?_
  refine g_imul hx hb dX1_wayX_5 ?_
  refine lv_bipush (v := zi 16) hx hb dX1_wayX_6 (by decide) ?_
  refine g_isub hx hb dX1_wayX_8 ?_
  refine g_nmi hx hb (fun v2 e3 => ?_)
  replace hh := nm_inv hh v2 e3
  refine lv_istore_n (lv' := [(1, .int (zi (v2))), (0, .int (zi (x0)))]) hx hb dX1_wayX_9 rfl hl (by decide) rfl (fun ls hl => ?_)
  refine lv_iload_n hx hb dX1_wayX_10 rfl (lv_at hl 1 rfl) ?_
  refine lv_bipush (v := zi 16) hx hb dX1_wayX_11 (by decide) ?_
  obtain ⟨g5, hh⟩ := gd_inv hh
  refine g_icmp_ge (tgt := 21) hx hb ⟨g5, by decide⟩ dX1_wayX_13 (by decide) (fun c4 => ?_) (fun c4 => ?_)
  · replace hh := it_t c4 hh
    refine lv_bipush (v := zi 16) hx hb dX1_wayX_16 (by decide) ?_
    refine lv_goto (tgt := 44) hx hb dX1_wayX_18 (by decide) ?_
    exact hret _ _ _ _ _ (rt0 hh) dX1_wayX_44 hM
  · replace hh := it_f c4 hh
    refine lv_iload_n hx hb dX1_wayX_21 rfl (lv_at hl 1 rfl) ?_
    refine lv_bipush (v := zi 32) hx hb dX1_wayX_22 (by decide) ?_
    obtain ⟨g7, hh⟩ := gd_inv hh
    refine g_icmp_ge (tgt := 32) hx hb ⟨g7, by decide⟩ dX1_wayX_24 (by decide) (fun c6 => ?_) (fun c6 => ?_)
    · replace hh := it_t c6 hh
      refine lv_iload_n hx hb dX1_wayX_27 rfl (lv_at hl 0 rfl) ?_
      refine g_ineg hx hb dX1_wayX_28 ?_
      refine lv_goto (tgt := 44) hx hb dX1_wayX_29 (by decide) ?_
      exact hret _ _ _ _ _ (rt0 hh) dX1_wayX_44 hM
    · replace hh := it_f c6 hh
      refine lv_iload_n hx hb dX1_wayX_32 rfl (lv_at hl 1 rfl) ?_
      refine lv_bipush (v := zi 48) hx hb dX1_wayX_33 (by decide) ?_
      obtain ⟨g9, hh⟩ := gd_inv hh
      refine g_icmp_ge (tgt := 43) hx hb ⟨g9, by decide⟩ dX1_wayX_35 (by decide) (fun c8 => ?_) (fun c8 => ?_)
      · replace hh := it_t c8 hh
        refine lv_bipush (v := zi (-16)) hx hb dX1_wayX_38 (by decide) ?_
        refine lv_goto (tgt := 44) hx hb dX1_wayX_40 (by decide) ?_
        exact hret _ _ _ _ _ (rt0 hh) dX1_wayX_44 hM
      · replace hh := it_f c8 hh
        refine lv_iload_n hx hb dX1_wayX_43 rfl (lv_at hl 0 rfl) ?_
        exact hret _ _ _ _ _ (rt0 hh) dX1_wayX_44 hM
def C_wayY (x0 : Int) : Option Int := gd (r32 (x0)) (nm ((2 * (Int.tmod x0 16)) - 16) (fun v2 => gd (r32 (x0)) (if x0 < 16 then (some ((v2 : Int))) else (gd (r32 (x0)) (if x0 < 32 then (some ((16 : Int))) else (gd (r32 (x0)) (if x0 < 48 then (some ((-v2 : Int))) else (some (((-16) : Int))))))))))
set_option maxHeartbeats 4000000 in
theorem wC_wayY (l : Launch) (x0 : Int) {r : Int} (hh : C_wayY x0 = some r) : ms_i l yX1_wayY cX1_wayY 2 (some .int) ({ frames := 1, cells := 0, slots := 0, locals := 40 } : Room) [.int (zi x0)] r := by
  refine go_i (by decide +kernel) (Nat.le_of_ble_eq_true rfl) ?_
  intro p e s m args below meth c Q ls X hret hl hM
  have hx := X.1
  have hb := X.2.1
  have hown := X.2.2.2.1
  have hts := X.2.2.2.2
  replace hl : lv_has ls 2 [(0, .int (zi (x0)))] := hl
  unfold C_wayY at hh
  refine lv_iconst (v := zi 2) hx hb dX1_wayY_0 rfl ?_
  refine lv_iload_n hx hb dX1_wayY_1 rfl (lv_at hl 0 rfl) ?_
  refine lv_bipush (v := zi 16) hx hb dX1_wayY_2 (by decide) ?_
  obtain ⟨g1, hh⟩ := gd_inv hh
  refine g_irem hx hb ⟨g1, by decide, by decide⟩ dX1_wayY_4 ?_
  refine g_imul hx hb dX1_wayY_5 ?_
  refine lv_bipush (v := zi 16) hx hb dX1_wayY_6 (by decide) ?_
  refine g_isub hx hb dX1_wayY_8 ?_
  refine g_nmi hx hb (fun v2 e3 => ?_)
  replace hh := nm_inv hh v2 e3
  refine lv_istore_n (lv' := [(1, .int (zi (v2))), (0, .int (zi (x0)))]) hx hb dX1_wayY_9 rfl hl (by decide) rfl (fun ls hl => ?_)
  refine lv_iload_n hx hb dX1_wayY_10 rfl (lv_at hl 1 rfl) ?_
  refine lv_bipush (v := zi 16) hx hb dX1_wayY_11 (by decide) ?_
  obtain ⟨g5, hh⟩ := gd_inv hh
  refine g_icmp_ge (tgt := 20) hx hb ⟨g5, by decide⟩ dX1_wayY_13 (by decide) (fun c4 => ?_) (fun c4 => ?_)
  · replace hh := it_t c4 hh
    refine lv_iload_n hx hb dX1_wayY_16 rfl (lv_at hl 0 rfl) ?_
    refine lv_goto (tgt := 44) hx hb dX1_wayY_17 (by decide) ?_
    exact hret _ _ _ _ _ (rt0 hh) dX1_wayY_44 hM
  · replace hh := it_f c4 hh
    refine lv_iload_n hx hb dX1_wayY_20 rfl (lv_at hl 1 rfl) ?_
    refine lv_bipush (v := zi 32) hx hb dX1_wayY_21 (by decide) ?_
    obtain ⟨g7, hh⟩ := gd_inv hh
    refine g_icmp_ge (tgt := 31) hx hb ⟨g7, by decide⟩ dX1_wayY_23 (by decide) (fun c6 => ?_) (fun c6 => ?_)
    · replace hh := it_t c6 hh
      refine lv_bipush (v := zi 16) hx hb dX1_wayY_26 (by decide) ?_
      refine lv_goto (tgt := 44) hx hb dX1_wayY_28 (by decide) ?_
      exact hret _ _ _ _ _ (rt0 hh) dX1_wayY_44 hM
    · replace hh := it_f c6 hh
      refine lv_iload_n hx hb dX1_wayY_31 rfl (lv_at hl 1 rfl) ?_
      refine lv_bipush (v := zi 48) hx hb dX1_wayY_32 (by decide) ?_
      obtain ⟨g9, hh⟩ := gd_inv hh
      refine g_icmp_ge (tgt := 42) hx hb ⟨g9, by decide⟩ dX1_wayY_34 (by decide) (fun c8 => ?_) (fun c8 => ?_)
      · replace hh := it_t c8 hh
        refine lv_iload_n hx hb dX1_wayY_37 rfl (lv_at hl 0 rfl) ?_
        refine g_ineg hx hb dX1_wayY_38 ?_
        refine lv_goto (tgt := 44) hx hb dX1_wayY_39 (by decide) ?_
        exact hret _ _ _ _ _ (rt0 hh) dX1_wayY_44 hM
      · replace hh := it_f c8 hh
        refine lv_bipush (v := zi (-16)) hx hb dX1_wayY_42 (by decide) ?_
        exact hret _ _ _ _ _ (rt0 hh) dX1_wayY_44 hM
theorem cx_X1_98 : GoodIn lw_all (va_wsS "ManyEyes" 98 yX1_wayX (ws_ yX1_wayX cX1_wayX 2 (some .int))) ∧ yX1_wayX.cls ≠ "java/lang/invoke/MethodHandle" ∧ yX1_wayX.cls ≠ "java/lang/invoke/VarHandle" ∧ (parseMethodDescriptor yX1_wayX.desc).map (fun d => d.parameters.length) = some 1 := ⟨lw_S q462 q463 q80 q464, by decide +kernel⟩
theorem cx_X1_102 : GoodIn lw_all (va_wsS "ManyEyes" 102 yX1_wayY (ws_ yX1_wayY cX1_wayY 2 (some .int))) ∧ yX1_wayY.cls ≠ "java/lang/invoke/MethodHandle" ∧ yX1_wayY.cls ≠ "java/lang/invoke/VarHandle" ∧ (parseMethodDescriptor yX1_wayY.desc).map (fun d => d.parameters.length) = some 1 := ⟨lw_S q465 q466 q80 q467, by decide +kernel⟩
theorem cx_X1_108 : GoodIn lw_all (va_wsS "ManyEyes" 108 yJ3_floorDiv (ws_ yJ3_floorDiv cJ3_floorDiv 3 (some .int))) ∧ yJ3_floorDiv.cls ≠ "java/lang/invoke/MethodHandle" ∧ yJ3_floorDiv.cls ≠ "java/lang/invoke/VarHandle" ∧ (parseMethodDescriptor yJ3_floorDiv.desc).map (fun d => d.parameters.length) = some 2 := ⟨lw_S q468 q469 q87 q470, by decide +kernel⟩
def C_rayOf_B138 (S : yS) : Option (Int × yS) := nm (cfs S 9 (41)) (fun S25 => some ((0 : Int), S25))
def C_rayOf_b17 (x1 : Int) (x2 : Int) (x4 : Int) (x5 : Int) (K17 : yS → Option (Int × yS)) (S : yS) : Option (Int × yS) := gd (r32 (S.1 9)) (if (S.1 9) ≤ 40 then (bd (Ma_floorDiv (x1 + ((S.1 9) * x4)) (16 : Int)) (fun v9 => bd (Ma_floorDiv (x2 + ((S.1 9) * x5)) (16 : Int)) (fun v11 => bd (C_in v9 (0 : Int) ((S.1 2) - 1)) (fun v13 => if v13 = true then (bd (C_in v11 (0 : Int) ((S.1 3) - 1)) (fun v16 => if v16 = true then (gd ((0 : Int) ≤ (v11 * (S.1 2)) + v9 ∧ ((v11 * (S.1 2)) + v9 : Int) < 576) (gd (r32 (S.2 472 ((v11 * (S.1 2)) + v9))) (if (S.2 472 ((v11 * (S.1 2)) + v9)) ≤ 0 then (nm (cfs S 9 ((S.1 9) + 1)) (fun S22 => K17 S22)) else (gd ((0 : Int) ≤ (v11 * (S.1 2)) + v9 ∧ ((v11 * (S.1 2)) + v9 : Int) < 576) (some ((S.2 472 ((v11 * (S.1 2)) + v9) : Int), S)))))) else (C_rayOf_B138 S))) else (C_rayOf_B138 S))))) else (C_rayOf_B138 S))
def C_rayOf_L17 (x1 : Int) (x2 : Int) (x4 : Int) (x5 : Int) : Nat → yS → Option (Int × yS)
  | 0 => fun _ => none
  | n + 1 => fun S => C_rayOf_b17 x1 x2 x4 x5 (C_rayOf_L17 x1 x2 x4 x5 n) S
def C_rayOf (S : yS) (x1 : Int) (x2 : Int) (x3 : Int) : Option (Int × yS) := bd (C_wayX x3) (fun v1 => bd (C_wayY x3) (fun v3 => nm (cfs S 9 (1)) (fun S5 => C_rayOf_L17 x1 x2 v1 v3 FU S5)))
set_option maxHeartbeats 4000000 in
theorem wC_rayOf (l : Launch) (DC : va_G) (dA : Nat → ClassId) (hC : Nat) (S : yS) (x1 x2 x3 : Int) {r : Int} {S1 : yS} (hh : C_rayOf S x1 x2 x3 = some (r, S1)) : ct_i l yX1_rayOf cX1_rayOf 8 (some .int) ({ frames := 2, cells := 0, slots := 0, locals := 62 } : Room) DC dA hC [.ref hC, .int (zi x1), .int (zi x2), .int (zi x3)] S r S1 := by
  refine co_i (by decide) (Nat.le_of_ble_eq_true rfl) ?_
  intro p e s m args below meth c Q ls X hret hl hM
  have hx := X.1.1
  have hb := X.1.2.1
  have hown := X.1.2.2.2.1
  have hts := X.1.2.2.2.2
  have hB138 : ∀ (S : yS), C_rayOf_B138 S = some (r, S1) → ∀ (H : Heap) (locs : List Loc) (ls : Array Slot), CX DC dA hC (cA hC) S s H locs → lv_has ls 8 [(0, .ref (hC))] → W p l e ({ frames := 2, cells := 0, slots := 0, locals := 62 } : Room) s m args below meth c H locs 0 0 Q (F0 m 138 ls []) := by
    intro   S hh H locs ls hM hl
    unfold C_rayOf_B138 at hh
    refine lv_aload_n hx hb dX1_rayOf_138 rfl (lv_at hl 0 rfl) ?_
    refine lv_bipush (v := zi 41) hx hb dX1_rayOf_139 (by decide) ?_
    refine cm_put X hM q388 (cp_0_9 _ _ _ _) rfl dX1_rayOf_141 (fun H locs S25 e26 hM => ?_)
    replace hh := nm_inv hh S25 e26
    refine lv_iconst (v := zi 0) hx hb dX1_rayOf_144 rfl ?_
    exact hret _ _ _ _ _ _ (rt1 hh) (rt2 hh) dX1_rayOf_145 hM
  have hL17 : ∀ (x1 : Int) (x2 : Int) (x4 : Int) (x5 : Int) (n : Nat) (S : yS), C_rayOf_L17 x1 x2 x4 x5 n S = some (r, S1) → ∀ (H : Heap) (locs : List Loc) (ls : Array Slot), CX DC dA hC (cA hC) S s H locs → lv_has ls 8 [(0, .ref (hC)), (1, .int (zi (x1))), (2, .int (zi (x2))), (4, .int (zi (x4))), (5, .int (zi (x5)))] → W p l e ({ frames := 2, cells := 0, slots := 0, locals := 62 } : Room) s m args below meth c H locs 0 0 Q (F0 m 17 ls []) := by
    intro x1 x2 x4 x5  n
    induction n with
    | zero => intro S hh; exact no_some hh
    | succ n ih =>
      intro S hh H locs ls hM hl
      replace hh : C_rayOf_b17 x1 x2 x4 x5 (C_rayOf_L17 x1 x2 x4 x5 n) S = some (r, S1) := hh
      unfold C_rayOf_b17 at hh
      have hK17 := ih
      refine lv_aload_n hx hb dX1_rayOf_17 rfl (lv_at hl 0 rfl) ?_
      refine cm_get X hM q388 (cf_0_9 _ _ _) rfl dX1_rayOf_18 ?_
      refine lv_bipush (v := zi 40) hx hb dX1_rayOf_21 (by decide) ?_
      obtain ⟨g8, hh⟩ := gd_inv hh
      refine g_icmp_gt (tgt := 138) hx hb ⟨g8, by decide⟩ dX1_rayOf_23 (by decide) (fun c7 => ?_) (fun c7 => ?_)
      · replace hh := it_t c7 hh
        refine lv_iload_n hx hb dX1_rayOf_26 rfl (lv_at hl 1 rfl) ?_
        refine lv_aload_n hx hb dX1_rayOf_27 rfl (lv_at hl 0 rfl) ?_
        refine cm_get X hM q388 (cf_0_9 _ _ _) rfl dX1_rayOf_28 ?_
        refine lv_iload hx hb dX1_rayOf_31 (lv_at hl 3 rfl) ?_
        refine g_imul hx hb dX1_rayOf_33 ?_
        refine g_iadd hx hb dX1_rayOf_34 ?_
        refine lv_bipush (v := zi 16) hx hb dX1_rayOf_35 (by decide) ?_
        obtain ⟨v9, k10, hh⟩ := bd_inv hh
        refine ccs_i (rest := []) X hM (wMa_floorDiv l (x1 + ((S.1 9) * x4)) (16 : Int) k10) cx_X1_108.1 cx_X1_108.2 ⟨rfl, rfl⟩ ⟨Nat.le_of_ble_eq_true rfl, Nat.le_of_ble_eq_true rfl⟩ ⟨Nat.zero_le _, Nat.zero_le _⟩ hl.1 (Nat.le_of_ble_eq_true rfl) dX1_rayOf_37 rfl (fun H locs hM => ?_)
        refine lv_istore (lv' := [(6, .int (zi (v9))), (0, .ref (hC)), (1, .int (zi (x1))), (2, .int (zi (x2))), (4, .int (zi (x4))), (5, .int (zi (x5)))]) hx hb dX1_rayOf_40 hl (by decide) rfl (fun ls hl => ?_)
        refine lv_iload_n hx hb dX1_rayOf_42 rfl (lv_at hl 3 rfl) ?_
        refine lv_aload_n hx hb dX1_rayOf_43 rfl (lv_at hl 1 rfl) ?_
        refine cm_get X hM q388 (cf_0_9 _ _ _) rfl dX1_rayOf_44 ?_
        refine lv_iload hx hb dX1_rayOf_47 (lv_at hl 5 rfl) ?_
        refine g_imul hx hb dX1_rayOf_49 ?_
        refine g_iadd hx hb dX1_rayOf_50 ?_
        refine lv_bipush (v := zi 16) hx hb dX1_rayOf_51 (by decide) ?_
        obtain ⟨v11, k12, hh⟩ := bd_inv hh
        refine ccs_i (rest := []) X hM (wMa_floorDiv l (x2 + ((S.1 9) * x5)) (16 : Int) k12) cx_X1_108.1 cx_X1_108.2 ⟨rfl, rfl⟩ ⟨Nat.le_of_ble_eq_true rfl, Nat.le_of_ble_eq_true rfl⟩ ⟨Nat.zero_le _, Nat.zero_le _⟩ hl.1 (Nat.le_of_ble_eq_true rfl) dX1_rayOf_53 rfl (fun H locs hM => ?_)
        refine lv_istore (lv' := [(7, .int (zi (v11))), (6, .int (zi (v9))), (0, .ref (hC)), (1, .int (zi (x1))), (2, .int (zi (x2))), (4, .int (zi (x4))), (5, .int (zi (x5)))]) hx hb dX1_rayOf_56 hl (by decide) rfl (fun ls hl => ?_)
        refine lv_iload hx hb dX1_rayOf_58 (lv_at hl 1 rfl) ?_
        refine lv_iconst (v := zi 0) hx hb dX1_rayOf_60 rfl ?_
        refine lv_aload_n hx hb dX1_rayOf_61 rfl (lv_at hl 2 rfl) ?_
        refine cm_get X hM q381 (cf_0_2 _ _ _) rfl dX1_rayOf_62 ?_
        refine lv_iconst (v := zi 1) hx hb dX1_rayOf_65 rfl ?_
        refine g_isub hx hb dX1_rayOf_66 ?_
        obtain ⟨v13, k14, hh⟩ := bd_inv hh
        refine ccs_z (rest := []) X hM (wC_in l v9 (0 : Int) ((S.1 2) - 1) k14) cx_X1_66.1 cx_X1_66.2 ⟨rfl, rfl⟩ ⟨Nat.le_of_ble_eq_true rfl, Nat.le_of_ble_eq_true rfl⟩ ⟨Nat.zero_le _, Nat.zero_le _⟩ hl.1 (Nat.le_of_ble_eq_true rfl) dX1_rayOf_67 rfl (fun H locs hM => ?_)
        refine g_bif_eq (tgt := 138) hx hb dX1_rayOf_70 (by decide) (fun c15 => ?_) (fun c15 => ?_)
        · replace hh := it_t c15 hh
          refine lv_iload hx hb dX1_rayOf_73 (lv_at hl 0 rfl) ?_
          refine lv_iconst (v := zi 0) hx hb dX1_rayOf_75 rfl ?_
          refine lv_aload_n hx hb dX1_rayOf_76 rfl (lv_at hl 2 rfl) ?_
          refine cm_get X hM q382 (cf_0_3 _ _ _) rfl dX1_rayOf_77 ?_
          refine lv_iconst (v := zi 1) hx hb dX1_rayOf_80 rfl ?_
          refine g_isub hx hb dX1_rayOf_81 ?_
          obtain ⟨v16, k17, hh⟩ := bd_inv hh
          refine ccs_z (rest := []) X hM (wC_in l v11 (0 : Int) ((S.1 3) - 1) k17) cx_X1_66.1 cx_X1_66.2 ⟨rfl, rfl⟩ ⟨Nat.le_of_ble_eq_true rfl, Nat.le_of_ble_eq_true rfl⟩ ⟨Nat.zero_le _, Nat.zero_le _⟩ hl.1 (Nat.le_of_ble_eq_true rfl) dX1_rayOf_82 rfl (fun H locs hM => ?_)
          refine g_bif_ne (tgt := 91) hx hb dX1_rayOf_85 (by decide) (fun c18 => ?_) (fun c18 => ?_)
          · replace hh := it_t c18 hh
            refine lv_aload_n hx hb dX1_rayOf_91 rfl (lv_at hl 2 rfl) ?_
            refine cm_get X hM q387 (cf_0_8 _ _ _) rfl dX1_rayOf_92 ?_
            refine lv_iload hx hb dX1_rayOf_95 (lv_at hl 0 rfl) ?_
            refine lv_aload_n hx hb dX1_rayOf_97 rfl (lv_at hl 2 rfl) ?_
            refine cm_get X hM q381 (cf_0_2 _ _ _) rfl dX1_rayOf_98 ?_
            refine g_imul hx hb dX1_rayOf_101 ?_
            refine lv_iload hx hb dX1_rayOf_102 (lv_at hl 1 rfl) ?_
            refine g_iadd hx hb dX1_rayOf_104 ?_
            obtain ⟨g19, hh⟩ := gd_inv hh
            refine cm_iald (qz := 472) X hM ci_472 rfl rfl g19 dX1_rayOf_105 ?_
            obtain ⟨g21, hh⟩ := gd_inv hh
            refine g_if_le (tgt := 125) hx hb g21 dX1_rayOf_106 (by decide) (fun c20 => ?_) (fun c20 => ?_)
            · replace hh := it_t c20 hh
              refine lv_aload_n hx hb dX1_rayOf_125 rfl (lv_at hl 2 rfl) ?_
              refine lv_dup hx hb dX1_rayOf_126 rfl ?_
              refine cm_get X hM q388 (cf_0_9 _ _ _) rfl dX1_rayOf_127 ?_
              refine lv_iconst (v := zi 1) hx hb dX1_rayOf_130 rfl ?_
              refine g_iadd hx hb dX1_rayOf_131 ?_
              refine cm_put X hM q388 (cp_0_9 _ _ _ _) rfl dX1_rayOf_132 (fun H locs S22 e23 hM => ?_)
              replace hh := nm_inv hh S22 e23
              refine lv_goto (tgt := 17) hx hb dX1_rayOf_135 (by decide) ?_
              exact hK17 S22 hh _ _ _ hM (lv_sub hl [2, 3, 4, 5, 6] rfl)
            · replace hh := it_f c20 hh
              refine lv_aload_n hx hb dX1_rayOf_109 rfl (lv_at hl 2 rfl) ?_
              refine cm_get X hM q387 (cf_0_8 _ _ _) rfl dX1_rayOf_110 ?_
              refine lv_iload hx hb dX1_rayOf_113 (lv_at hl 0 rfl) ?_
              refine lv_aload_n hx hb dX1_rayOf_115 rfl (lv_at hl 2 rfl) ?_
              refine cm_get X hM q381 (cf_0_2 _ _ _) rfl dX1_rayOf_116 ?_
              refine g_imul hx hb dX1_rayOf_119 ?_
              refine lv_iload hx hb dX1_rayOf_120 (lv_at hl 1 rfl) ?_
              refine g_iadd hx hb dX1_rayOf_122 ?_
              obtain ⟨g24, hh⟩ := gd_inv hh
              refine cm_iald (qz := 472) X hM ci_472 rfl rfl g24 dX1_rayOf_123 ?_
              exact hret _ _ _ _ _ _ (rt1 hh) (rt2 hh) dX1_rayOf_124 hM
          · replace hh := it_f c18 hh
            refine lv_goto (tgt := 138) hx hb dX1_rayOf_88 (by decide) ?_
            exact hB138 S hh _ _ _ hM (lv_sub hl [2] rfl)
        · replace hh := it_f c15 hh
          exact hB138 S hh _ _ _ hM (lv_sub hl [2] rfl)
      · replace hh := it_f c7 hh
        exact hB138 S hh _ _ _ hM (lv_sub hl [0] rfl)
  replace hl : lv_has ls 8 [(0, .ref (hC)), (1, .int (zi (x1))), (2, .int (zi (x2))), (3, .int (zi (x3)))] := hl
  unfold C_rayOf at hh
  refine lv_iload_n hx hb dX1_rayOf_0 rfl (lv_at hl 3 rfl) ?_
  obtain ⟨v1, k2, hh⟩ := bd_inv hh
  refine ccs_i (rest := []) X hM (wC_wayX l x3 k2) cx_X1_98.1 cx_X1_98.2 ⟨rfl, rfl⟩ ⟨Nat.le_of_ble_eq_true rfl, Nat.le_of_ble_eq_true rfl⟩ ⟨Nat.zero_le _, Nat.zero_le _⟩ hl.1 (Nat.le_of_ble_eq_true rfl) dX1_rayOf_1 rfl (fun H locs hM => ?_)
  refine lv_istore (lv' := [(4, .int (zi (v1))), (0, .ref (hC)), (1, .int (zi (x1))), (2, .int (zi (x2))), (3, .int (zi (x3)))]) hx hb dX1_rayOf_4 hl (by decide) rfl (fun ls hl => ?_)
  refine lv_iload_n hx hb dX1_rayOf_6 rfl (lv_at hl 4 rfl) ?_
  obtain ⟨v3, k4, hh⟩ := bd_inv hh
  refine ccs_i (rest := []) X hM (wC_wayY l x3 k4) cx_X1_102.1 cx_X1_102.2 ⟨rfl, rfl⟩ ⟨Nat.le_of_ble_eq_true rfl, Nat.le_of_ble_eq_true rfl⟩ ⟨Nat.zero_le _, Nat.zero_le _⟩ hl.1 (Nat.le_of_ble_eq_true rfl) dX1_rayOf_7 rfl (fun H locs hM => ?_)
  refine lv_istore (lv' := [(5, .int (zi (v3))), (4, .int (zi (v1))), (0, .ref (hC)), (1, .int (zi (x1))), (2, .int (zi (x2))), (3, .int (zi (x3)))]) hx hb dX1_rayOf_10 hl (by decide) rfl (fun ls hl => ?_)
  refine lv_aload_n hx hb dX1_rayOf_12 rfl (lv_at hl 2 rfl) ?_
  refine lv_iconst (v := zi 1) hx hb dX1_rayOf_13 rfl ?_
  refine cm_put X hM q388 (cp_0_9 _ _ _ _) rfl dX1_rayOf_14 (fun H locs S5 e6 hM => ?_)
  replace hh := nm_inv hh S5 e6
  exact hL17 x1 x2 v1 v3 FU S5 hh _ _ _ hM (lv_sub hl [2, 3, 4, 1, 0] rfl)
theorem cx_X1_111 : GoodIn lw_all (wsV "ManyEyes" 111 "ManyEyes" yX1_isPlace (ws_ yX1_isPlace cX1_isPlace 3 (some .boolean))) ∧ yX1_isPlace.cls = "ManyEyes" ∧ yX1_isPlace.cls ≠ "java/lang/invoke/MethodHandle" ∧ yX1_isPlace.cls ≠ "java/lang/invoke/VarHandle" ∧ (parseMethodDescriptor yX1_isPlace.desc).map (fun d => d.parameters.length) = some 2 := ⟨lw_V q451 q453 qs6 q80 q454, by decide +kernel⟩
theorem cx_X1_115 : GoodIn lw_all (va_wsS "ManyEyes" 115 yX1_isHead (ws_ yX1_isHead cX1_isHead 1 (some .boolean))) ∧ yX1_isHead.cls ≠ "java/lang/invoke/MethodHandle" ∧ yX1_isHead.cls ≠ "java/lang/invoke/VarHandle" ∧ (parseMethodDescriptor yX1_isHead.desc).map (fun d => d.parameters.length) = some 1 := ⟨lw_S q455 q456 q80 q457, by decide +kernel⟩
theorem cx_X1_118 : GoodIn lw_all (wsV "ManyEyes" 118 "ManyEyes" yX1_rayOf (ws_ yX1_rayOf cX1_rayOf 8 (some .int))) ∧ yX1_rayOf.cls = "ManyEyes" ∧ yX1_rayOf.cls ≠ "java/lang/invoke/MethodHandle" ∧ yX1_rayOf.cls ≠ "java/lang/invoke/VarHandle" ∧ (parseMethodDescriptor yX1_rayOf.desc).map (fun d => d.parameters.length) = some 3 := ⟨lw_V q458 q460 qs7 q80 q461, by decide +kernel⟩
def C_ray (S : yS) (x1 : Int) (x2 : Int) (x3 : Int) (x4 : Int) (x5 : Int) : Option (Int × yS) := bd (C_isPlace S x1 x2) (fun v2 => if v2 = true then (bd (C_isHead x3) (fun v4 => if v4 = true then (bd (C_in x4 (0 : Int) (999 : Int)) (fun v7 => if v7 = true then (bd (C_lays S x4) (fun S11 => bd2 (C_rayOf S11 x1 x2 x3) (fun v13 S14 => gd (r32 (x5)) (if x5 = 0 then (some ((v13 : Int), S14)) else (some ((S14.1 9 : Int), S14)))))) else (some (((-1) : Int), S)))) else (some (((-1) : Int), S)))) else (some (((-1) : Int), S)))
set_option maxHeartbeats 4000000 in
theorem wC_ray (l : Launch) (DC : va_G) (dA : Nat → ClassId) (hC : Nat) (S : yS) (x1 x2 x3 x4 x5 : Int) {r : Int} {S1 : yS} (hh : C_ray S x1 x2 x3 x4 x5 = some (r, S1)) : ct_i l yX1_ray cX1_ray 7 (some .int) ({ frames := 3, cells := 0, slots := 0, locals := 89 } : Room) DC dA hC [.ref hC, .int (zi x1), .int (zi x2), .int (zi x3), .int (zi x4), .int (zi x5)] S r S1 := by
  refine co_i (by decide) (Nat.le_of_ble_eq_true rfl) ?_
  intro p e s m args below meth c Q ls X hret hl hM
  have hx := X.1.1
  have hb := X.1.2.1
  have hown := X.1.2.2.2.1
  have hts := X.1.2.2.2.2
  replace hl : lv_has ls 7 [(0, .ref (hC)), (1, .int (zi (x1))), (2, .int (zi (x2))), (3, .int (zi (x3))), (4, .int (zi (x4))), (5, .int (zi (x5)))] := hl
  unfold C_ray at hh
  refine lv_aload_n hx hb dX1_ray_0 rfl (lv_at hl 0 rfl) ?_
  refine lv_iload_n hx hb dX1_ray_1 rfl (lv_at hl 1 rfl) ?_
  refine lv_iload_n hx hb dX1_ray_2 rfl (lv_at hl 2 rfl) ?_
  obtain ⟨v2, k1, hh⟩ := bd_inv hh
  refine cc_z (rest := []) X hM (wC_isPlace l DC dA hC S x1 x2 k1) cx_X1_111.1 cx_X1_111.2 ⟨rfl, rfl⟩ ⟨Nat.le_of_ble_eq_true rfl, Nat.le_of_ble_eq_true rfl⟩ ⟨Nat.zero_le _, Nat.zero_le _⟩ hl.1 (Nat.le_of_ble_eq_true rfl) dX1_ray_3 rfl (fun H locs hM => ?_)
  refine g_bif_eq (tgt := 28) hx hb dX1_ray_6 (by decide) (fun c3 => ?_) (fun c3 => ?_)
  · replace hh := it_t c3 hh
    refine lv_iload_n hx hb dX1_ray_9 rfl (lv_at hl 3 rfl) ?_
    obtain ⟨v4, k5, hh⟩ := bd_inv hh
    refine ccs_z (rest := []) X hM (wC_isHead l x3 k5) cx_X1_115.1 cx_X1_115.2 ⟨rfl, rfl⟩ ⟨Nat.le_of_ble_eq_true rfl, Nat.le_of_ble_eq_true rfl⟩ ⟨Nat.zero_le _, Nat.zero_le _⟩ hl.1 (Nat.le_of_ble_eq_true rfl) dX1_ray_10 rfl (fun H locs hM => ?_)
    refine g_bif_eq (tgt := 28) hx hb dX1_ray_13 (by decide) (fun c6 => ?_) (fun c6 => ?_)
    · replace hh := it_t c6 hh
      refine lv_iload hx hb dX1_ray_16 (lv_at hl 4 rfl) ?_
      refine lv_iconst (v := zi 0) hx hb dX1_ray_18 rfl ?_
      refine lv_sipush (v := zi 999) hx hb dX1_ray_19 (by decide) ?_
      obtain ⟨v7, k8, hh⟩ := bd_inv hh
      refine ccs_z (rest := []) X hM (wC_in l x4 (0 : Int) (999 : Int) k8) cx_X1_66.1 cx_X1_66.2 ⟨rfl, rfl⟩ ⟨Nat.le_of_ble_eq_true rfl, Nat.le_of_ble_eq_true rfl⟩ ⟨Nat.zero_le _, Nat.zero_le _⟩ hl.1 (Nat.le_of_ble_eq_true rfl) dX1_ray_22 rfl (fun H locs hM => ?_)
      refine g_bif_ne (tgt := 30) hx hb dX1_ray_25 (by decide) (fun c9 => ?_) (fun c9 => ?_)
      · replace hh := it_t c9 hh
        refine lv_aload_n hx hb dX1_ray_30 rfl (lv_at hl 0 rfl) ?_
        refine lv_iload hx hb dX1_ray_31 (lv_at hl 4 rfl) ?_
        obtain ⟨S11, k10, hh⟩ := bd_inv hh
        refine cc_v (rest := []) X hM (wC_lays l DC dA hC S x4 k10) cx_X1_94.1 cx_X1_94.2 ⟨rfl, rfl⟩ ⟨Nat.le_of_ble_eq_true rfl, Nat.le_of_ble_eq_true rfl⟩ ⟨Nat.zero_le _, Nat.zero_le _⟩ hl.1 (Nat.le_of_ble_eq_true rfl) dX1_ray_33 rfl (fun H locs hM => ?_)
        refine lv_aload_n hx hb dX1_ray_36 rfl (lv_at hl 0 rfl) ?_
        refine lv_iload_n hx hb dX1_ray_37 rfl (lv_at hl 1 rfl) ?_
        refine lv_iload_n hx hb dX1_ray_38 rfl (lv_at hl 2 rfl) ?_
        refine lv_iload_n hx hb dX1_ray_39 rfl (lv_at hl 3 rfl) ?_
        obtain ⟨v13, S14, k12, hh⟩ := bd2_inv hh
        refine cc_i (rest := []) X hM (wC_rayOf l DC dA hC S11 x1 x2 x3 k12) cx_X1_118.1 cx_X1_118.2 ⟨rfl, rfl⟩ ⟨Nat.le_of_ble_eq_true rfl, Nat.le_of_ble_eq_true rfl⟩ ⟨Nat.zero_le _, Nat.zero_le _⟩ hl.1 (Nat.le_of_ble_eq_true rfl) dX1_ray_40 rfl (fun H locs hM => ?_)
        refine lv_istore (lv' := [(6, .int (zi (v13))), (0, .ref (hC)), (1, .int (zi (x1))), (2, .int (zi (x2))), (3, .int (zi (x3))), (4, .int (zi (x4))), (5, .int (zi (x5)))]) hx hb dX1_ray_43 hl (by decide) rfl (fun ls hl => ?_)
        refine lv_iload hx hb dX1_ray_45 (lv_at hl 6 rfl) ?_
        obtain ⟨g16, hh⟩ := gd_inv hh
        refine g_if_eq (tgt := 57) hx hb g16 dX1_ray_47 (by decide) (fun c15 => ?_) (fun c15 => ?_)
        · replace hh := it_t c15 hh
          refine lv_iload hx hb dX1_ray_57 (lv_at hl 0 rfl) ?_
          exact hret _ _ _ _ _ _ (rt1 hh) (rt2 hh) dX1_ray_59 hM
        · replace hh := it_f c15 hh
          refine lv_aload_n hx hb dX1_ray_50 rfl (lv_at hl 1 rfl) ?_
          refine cm_get X hM q388 (cf_0_9 _ _ _) rfl dX1_ray_51 ?_
          refine lv_goto (tgt := 59) hx hb dX1_ray_54 (by decide) ?_
          exact hret _ _ _ _ _ _ (rt1 hh) (rt2 hh) dX1_ray_59 hM
      · replace hh := it_f c9 hh
        refine lv_iconst (v := zi (-1)) hx hb dX1_ray_28 rfl ?_
        exact hret _ _ _ _ _ _ (rt1 hh) (rt2 hh) dX1_ray_29 hM
    · replace hh := it_f c6 hh
      refine lv_iconst (v := zi (-1)) hx hb dX1_ray_28 rfl ?_
      exact hret _ _ _ _ _ _ (rt1 hh) (rt2 hh) dX1_ray_29 hM
  · replace hh := it_f c3 hh
    refine lv_iconst (v := zi (-1)) hx hb dX1_ray_28 rfl ?_
    exact hret _ _ _ _ _ _ (rt1 hh) (rt2 hh) dX1_ray_29 hM
def C_isOne (S : yS) (x1 : Int) (x2 : Int) : Option Bool := gd ((0 : Int) ≤ x1 ∧ (x1 : Int) < 14) (bd (C_in x2 (0 : Int) ((S.2 2 x1) - 1)) (fun v2 => some (v2)))
set_option maxHeartbeats 4000000 in
theorem wC_isOne (l : Launch) (DC : va_G) (dA : Nat → ClassId) (hC : Nat) (S : yS) (x1 x2 : Int) {r : Bool} (hh : C_isOne S x1 x2 = some r) : ct_z l yX1_isOne cX1_isOne 3 (some .boolean) ({ frames := 2, cells := 0, slots := 0, locals := 62 } : Room) DC dA hC [.ref hC, .int (zi x1), .int (zi x2)] S r S := by
  refine co_z (by decide) (Nat.le_of_ble_eq_true rfl) ?_
  intro p e s m args below meth c Q ls X hret hl hM
  have hx := X.1.1
  have hb := X.1.2.1
  have hown := X.1.2.2.2.1
  have hts := X.1.2.2.2.2
  replace hl : lv_has ls 3 [(0, .ref (hC)), (1, .int (zi (x1))), (2, .int (zi (x2)))] := hl
  unfold C_isOne at hh
  refine lv_iload_n hx hb dX1_isOne_0 rfl (lv_at hl 2 rfl) ?_
  refine lv_iconst (v := zi 0) hx hb dX1_isOne_1 rfl ?_
  refine lv_aload_n hx hb dX1_isOne_2 rfl (lv_at hl 0 rfl) ?_
  refine cm_get X hM q379 (cf_0_0 _ _ _) rfl dX1_isOne_3 ?_
  refine cm_getN X hM q161 (cf_1_0 _ _ _) rfl dX1_isOne_6 ?_
  refine lv_iload_n hx hb dX1_isOne_9 rfl (lv_at hl 1 rfl) ?_
  obtain ⟨g1, hh⟩ := gd_inv hh
  refine cm_iald (qz := 2) X hM ci_2 rfl rfl g1 dX1_isOne_10 ?_
  refine lv_iconst (v := zi 1) hx hb dX1_isOne_11 rfl ?_
  refine g_isub hx hb dX1_isOne_12 ?_
  obtain ⟨v2, k3, hh⟩ := bd_inv hh
  refine ccs_z (rest := []) X hM (wC_in l x2 (0 : Int) ((S.2 2 x1) - 1) k3) cx_X1_66.1 cx_X1_66.2 ⟨rfl, rfl⟩ ⟨Nat.le_of_ble_eq_true rfl, Nat.le_of_ble_eq_true rfl⟩ ⟨Nat.zero_le _, Nat.zero_le _⟩ hl.1 (Nat.le_of_ble_eq_true rfl) dX1_isOne_13 rfl (fun H locs hM => ?_)
  exact hret _ _ _ _ _ _ (rt0 hh) rfl dX1_isOne_16 hM
theorem cx_X1_125 : GoodIn lw_all (va_wsS "ManyEyes" 125 yJ3_abs (ws_ yJ3_abs cJ3_abs 1 (some .int))) ∧ yJ3_abs.cls ≠ "java/lang/invoke/MethodHandle" ∧ yJ3_abs.cls ≠ "java/lang/invoke/VarHandle" ∧ (parseMethodDescriptor yJ3_abs.desc).map (fun d => d.parameters.length) = some 1 := ⟨lw_S q491 q492 q87 q493, by decide +kernel⟩
theorem cx_X1_128 : GoodIn lw_all (va_wsS "ManyEyes" 128 yJ3_floorMod (ws_ yJ3_floorMod cJ3_floorMod 3 (some .int))) ∧ yJ3_floorMod.cls ≠ "java/lang/invoke/MethodHandle" ∧ yJ3_floorMod.cls ≠ "java/lang/invoke/VarHandle" ∧ (parseMethodDescriptor yJ3_floorMod.desc).map (fun d => d.parameters.length) = some 2 := ⟨lw_S q494 q495 q87 q496, by decide +kernel⟩
def C_takeOf_2_b7 (x1 : Int) (x2 : Int) (x3 : Int) (x4 : Int) (x5 : Int) (K7 : yS → Int → Int → Option (Int × yS)) (S : yS) (x6 : Int) (x7 : Int) : Option (Int × yS) := gd (r32 (x7) ∧ r32 (x2)) (if x7 ≤ x2 then (bd (Ma_abs x7) (fun v5 => bd (Ma_floorMod ((x5 + x1) + x7) (64 : Int)) (fun v7 => bd2 (C_rayOf S x3 x4 v7) (fun v10 S11 => nm (x6 + (((x2 + 1) - v5) * v10)) (fun v12 => nm ((x7 + 1) : Int) (fun v14 => K7 S11 v12 v14)))))) else (gd (r32 (x6) ∧ r32 ((x2 + 1) * (x2 + 1)) ∧ ((x2 + 1) * (x2 + 1) : Int) ≠ 0) (some ((Int.tdiv x6 ((x2 + 1) * (x2 + 1)) : Int), S))))
def C_takeOf_2_L7 (x1 : Int) (x2 : Int) (x3 : Int) (x4 : Int) (x5 : Int) : Nat → yS → Int → Int → Option (Int × yS)
  | 0 => fun _ _ _ => none
  | n + 1 => fun S x6 x7 => C_takeOf_2_b7 x1 x2 x3 x4 x5 (C_takeOf_2_L7 x1 x2 x3 x4 x5 n) S x6 x7
def C_takeOf_2 (S : yS) (x1 : Int) (x2 : Int) (x3 : Int) (x4 : Int) (x5 : Int) : Option (Int × yS) := nm (-x2) (fun v1 => C_takeOf_2_L7 x1 x2 x3 x4 x5 FU S (0 : Int) v1)
set_option maxHeartbeats 4000000 in
theorem wC_takeOf_2 (l : Launch) (DC : va_G) (dA : Nat → ClassId) (hC : Nat) (S : yS) (x1 x2 x3 x4 x5 : Int) {r : Int} {S1 : yS} (hh : C_takeOf_2 S x1 x2 x3 x4 x5 = some (r, S1)) : ct_i l yX1_takeOf_2 cX1_takeOf_2 8 (some .int) ({ frames := 3, cells := 0, slots := 0, locals := 89 } : Room) DC dA hC [.ref hC, .int (zi x1), .int (zi x2), .int (zi x3), .int (zi x4), .int (zi x5)] S r S1 := by
  refine co_i (by decide) (Nat.le_of_ble_eq_true rfl) ?_
  intro p e s m args below meth c Q ls X hret hl hM
  have hx := X.1.1
  have hb := X.1.2.1
  have hown := X.1.2.2.2.1
  have hts := X.1.2.2.2.2
  have hL7 : ∀ (x1 : Int) (x2 : Int) (x3 : Int) (x4 : Int) (x5 : Int) (n : Nat) (S : yS) (x6 : Int) (x7 : Int), C_takeOf_2_L7 x1 x2 x3 x4 x5 n S x6 x7 = some (r, S1) → ∀ (H : Heap) (locs : List Loc) (ls : Array Slot), CX DC dA hC (cA hC) S s H locs → lv_has ls 8 [(0, .ref (hC)), (1, .int (zi (x1))), (2, .int (zi (x2))), (3, .int (zi (x3))), (4, .int (zi (x4))), (5, .int (zi (x5))), (6, .int (zi (x6))), (7, .int (zi (x7)))] → W p l e ({ frames := 3, cells := 0, slots := 0, locals := 89 } : Room) s m args below meth c H locs 0 0 Q (F0 m 7 ls []) := by
    intro x1 x2 x3 x4 x5  n
    induction n with
    | zero => intro S x6 x7 hh; exact no_some hh
    | succ n ih =>
      intro S x6 x7 hh H locs ls hM hl
      replace hh : C_takeOf_2_b7 x1 x2 x3 x4 x5 (C_takeOf_2_L7 x1 x2 x3 x4 x5 n) S x6 x7 = some (r, S1) := hh
      unfold C_takeOf_2_b7 at hh
      have hK7 := ih
      refine lv_iload hx hb dX1_takeOf_2_7 (lv_at hl 7 rfl) ?_
      refine lv_iload_n hx hb dX1_takeOf_2_9 rfl (lv_at hl 2 rfl) ?_
      obtain ⟨g4, hh⟩ := gd_inv hh
      refine g_icmp_gt (tgt := 53) hx hb g4 dX1_takeOf_2_10 (by decide) (fun c3 => ?_) (fun c3 => ?_)
      · replace hh := it_t c3 hh
        refine lv_iload hx hb dX1_takeOf_2_13 (lv_at hl 6 rfl) ?_
        refine lv_iload_n hx hb dX1_takeOf_2_15 rfl (lv_at hl 2 rfl) ?_
        refine lv_iconst (v := zi 1) hx hb dX1_takeOf_2_16 rfl ?_
        refine g_iadd hx hb dX1_takeOf_2_17 ?_
        refine lv_iload hx hb dX1_takeOf_2_18 (lv_at hl 7 rfl) ?_
        obtain ⟨v5, k6, hh⟩ := bd_inv hh
        refine ccs_i (rest := [.int (zi (x2 + 1)), .int (zi (x6))]) X hM (wMa_abs l x7 k6) cx_X1_125.1 cx_X1_125.2 ⟨rfl, rfl⟩ ⟨Nat.le_of_ble_eq_true rfl, Nat.le_of_ble_eq_true rfl⟩ ⟨Nat.zero_le _, Nat.zero_le _⟩ hl.1 (Nat.le_of_ble_eq_true rfl) dX1_takeOf_2_20 rfl (fun H locs hM => ?_)
        refine g_isub hx hb dX1_takeOf_2_23 ?_
        refine lv_aload_n hx hb dX1_takeOf_2_24 rfl (lv_at hl 0 rfl) ?_
        refine lv_iload_n hx hb dX1_takeOf_2_25 rfl (lv_at hl 3 rfl) ?_
        refine lv_iload hx hb dX1_takeOf_2_26 (lv_at hl 4 rfl) ?_
        refine lv_iload hx hb dX1_takeOf_2_28 (lv_at hl 5 rfl) ?_
        refine lv_iload_n hx hb dX1_takeOf_2_30 rfl (lv_at hl 1 rfl) ?_
        refine g_iadd hx hb dX1_takeOf_2_31 ?_
        refine lv_iload hx hb dX1_takeOf_2_32 (lv_at hl 7 rfl) ?_
        refine g_iadd hx hb dX1_takeOf_2_34 ?_
        refine lv_bipush (v := zi 64) hx hb dX1_takeOf_2_35 (by decide) ?_
        obtain ⟨v7, k8, hh⟩ := bd_inv hh
        refine ccs_i (rest := [.int (zi (x4)), .int (zi (x3)), .ref (hC), .int (zi ((x2 + 1) - v5)), .int (zi (x6))]) X hM (wMa_floorMod l ((x5 + x1) + x7) (64 : Int) k8) cx_X1_128.1 cx_X1_128.2 ⟨rfl, rfl⟩ ⟨Nat.le_of_ble_eq_true rfl, Nat.le_of_ble_eq_true rfl⟩ ⟨Nat.zero_le _, Nat.zero_le _⟩ hl.1 (Nat.le_of_ble_eq_true rfl) dX1_takeOf_2_37 rfl (fun H locs hM => ?_)
        obtain ⟨v10, S11, k9, hh⟩ := bd2_inv hh
        refine cc_i (rest := [.int (zi ((x2 + 1) - v5)), .int (zi (x6))]) X hM (wC_rayOf l DC dA hC S x3 x4 v7 k9) cx_X1_118.1 cx_X1_118.2 ⟨rfl, rfl⟩ ⟨Nat.le_of_ble_eq_true rfl, Nat.le_of_ble_eq_true rfl⟩ ⟨Nat.zero_le _, Nat.zero_le _⟩ hl.1 (Nat.le_of_ble_eq_true rfl) dX1_takeOf_2_40 rfl (fun H locs hM => ?_)
        refine g_imul hx hb dX1_takeOf_2_43 ?_
        refine g_iadd hx hb dX1_takeOf_2_44 ?_
        refine g_nmi hx hb (fun v12 e13 => ?_)
        replace hh := nm_inv hh v12 e13
        refine lv_istore (lv' := [(6, .int (zi (v12))), (0, .ref (hC)), (1, .int (zi (x1))), (2, .int (zi (x2))), (3, .int (zi (x3))), (4, .int (zi (x4))), (5, .int (zi (x5))), (7, .int (zi (x7)))]) hx hb dX1_takeOf_2_45 hl (by decide) rfl (fun ls hl => ?_)
        obtain ⟨v14, e15⟩ : ∃ z : Int, z = x7 + 1 := ⟨_, rfl⟩
        replace hh := nm_inv hh v14 e15
        refine lv_iinc (v := zi v14) (lv' := [(7, .int (zi (v14))), (6, .int (zi (v12))), (0, .ref (hC)), (1, .int (zi (x1))), (2, .int (zi (x2))), (3, .int (zi (x3))), (4, .int (zi (x4))), (5, .int (zi (x5)))]) hx hb dX1_takeOf_2_47 hl (k := 7) rfl (by rw [e15]; exact zi_add _ _) (by decide) rfl (fun ls hl => ?_)
        refine lv_goto (tgt := 7) hx hb dX1_takeOf_2_50 (by decide) ?_
        exact hK7 S11 v12 v14 hh _ _ _ hM (lv_sub hl [2, 3, 4, 5, 6, 7, 1, 0] rfl)
      · replace hh := it_f c3 hh
        refine lv_iload hx hb dX1_takeOf_2_53 (lv_at hl 6 rfl) ?_
        refine lv_iload_n hx hb dX1_takeOf_2_55 rfl (lv_at hl 2 rfl) ?_
        refine lv_iconst (v := zi 1) hx hb dX1_takeOf_2_56 rfl ?_
        refine g_iadd hx hb dX1_takeOf_2_57 ?_
        refine lv_iload_n hx hb dX1_takeOf_2_58 rfl (lv_at hl 2 rfl) ?_
        refine lv_iconst (v := zi 1) hx hb dX1_takeOf_2_59 rfl ?_
        refine g_iadd hx hb dX1_takeOf_2_60 ?_
        refine g_imul hx hb dX1_takeOf_2_61 ?_
        obtain ⟨g16, hh⟩ := gd_inv hh
        refine g_idiv hx hb g16 dX1_takeOf_2_62 ?_
        exact hret _ _ _ _ _ _ (rt1 hh) (rt2 hh) dX1_takeOf_2_63 hM
  replace hl : lv_has ls 8 [(0, .ref (hC)), (1, .int (zi (x1))), (2, .int (zi (x2))), (3, .int (zi (x3))), (4, .int (zi (x4))), (5, .int (zi (x5)))] := hl
  unfold C_takeOf_2 at hh
  refine lv_iconst (v := zi 0) hx hb dX1_takeOf_2_0 rfl ?_
  refine lv_istore (lv' := [(6, .int (zi (0))), (0, .ref (hC)), (1, .int (zi (x1))), (2, .int (zi (x2))), (3, .int (zi (x3))), (4, .int (zi (x4))), (5, .int (zi (x5)))]) hx hb dX1_takeOf_2_1 hl (by decide) rfl (fun ls hl => ?_)
  refine lv_iload_n hx hb dX1_takeOf_2_3 rfl (lv_at hl 3 rfl) ?_
  refine g_ineg hx hb dX1_takeOf_2_4 ?_
  refine g_nmi hx hb (fun v1 e2 => ?_)
  replace hh := nm_inv hh v1 e2
  refine lv_istore (lv' := [(7, .int (zi (v1))), (6, .int (zi (0))), (0, .ref (hC)), (1, .int (zi (x1))), (2, .int (zi (x2))), (3, .int (zi (x3))), (4, .int (zi (x4))), (5, .int (zi (x5)))]) hx hb dX1_takeOf_2_5 hl (by decide) rfl (fun ls hl => ?_)
  exact hL7 x1 x2 x3 x4 x5 FU S (0 : Int) v1 hh _ _ _ hM (lv_sub hl [2, 3, 4, 5, 6, 7, 1, 0] rfl)
theorem cx_X1_131 : GoodIn lw_all (wsV "ManyEyes" 131 "ManyEyes" yX1_takeOf_2 (ws_ yX1_takeOf_2 cX1_takeOf_2 8 (some .int))) ∧ yX1_takeOf_2.cls = "ManyEyes" ∧ yX1_takeOf_2.cls ≠ "java/lang/invoke/MethodHandle" ∧ yX1_takeOf_2.cls ≠ "java/lang/invoke/VarHandle" ∧ (parseMethodDescriptor yX1_takeOf_2.desc).map (fun d => d.parameters.length) = some 5 := ⟨lw_V q487 q489 qs10 q80 q490, by decide +kernel⟩
def C_takeOf (S : yS) (x1 : Int) (x2 : Int) (x3 : Int) (x4 : Int) : Option (Int × yS) := gd ((0 : Int) ≤ x1 ∧ (x1 : Int) < 16) (gd ((0 : Int) ≤ x1 ∧ (x1 : Int) < 16) (bd2 (C_takeOf_2 S (S.2 (11 + 1 + x1) 0) (S.2 (11 + 1 + x1) 1) x2 x3 x4) (fun v4 S5 => some ((v4 : Int), S5))))
set_option maxHeartbeats 4000000 in
theorem wC_takeOf (l : Launch) (DC : va_G) (dA : Nat → ClassId) (hC : Nat) (S : yS) (x1 x2 x3 x4 : Int) {r : Int} {S1 : yS} (hh : C_takeOf S x1 x2 x3 x4 = some (r, S1)) : ct_i l yX1_takeOf cX1_takeOf 5 (some .int) ({ frames := 4, cells := 0, slots := 0, locals := 116 } : Room) DC dA hC [.ref hC, .int (zi x1), .int (zi x2), .int (zi x3), .int (zi x4)] S r S1 := by
  refine co_i (by decide) (Nat.le_of_ble_eq_true rfl) ?_
  intro p e s m args below meth c Q ls X hret hl hM
  have hx := X.1.1
  have hb := X.1.2.1
  have hown := X.1.2.2.2.1
  have hts := X.1.2.2.2.2
  replace hl : lv_has ls 5 [(0, .ref (hC)), (1, .int (zi (x1))), (2, .int (zi (x2))), (3, .int (zi (x3))), (4, .int (zi (x4)))] := hl
  unfold C_takeOf at hh
  refine lv_aload_n hx hb dX1_takeOf_0 rfl (lv_at hl 0 rfl) ?_
  refine lv_aload_n hx hb dX1_takeOf_1 rfl (lv_at hl 0 rfl) ?_
  refine cm_get X hM q379 (cf_0_0 _ _ _) rfl dX1_takeOf_2 ?_
  refine cm_getN X hM q167 (cf_1_3 _ _ _) rfl dX1_takeOf_5 ?_
  refine lv_iload_n hx hb dX1_takeOf_8 rfl (lv_at hl 1 rfl) ?_
  obtain ⟨g1, hh⟩ := gd_inv hh
  refine cm_aald X hM (by decide) rfl (by decide) rfl g1 dX1_takeOf_9 ?_
  refine lv_iconst (v := zi 0) hx hb dX1_takeOf_10 rfl ?_
  refine cm_iald (qz := (11 + 1 + x1)) X hM (cr_11 g1) (by have := g1.1; omega) rfl (by decide) dX1_takeOf_11 ?_
  refine lv_aload_n hx hb dX1_takeOf_12 rfl (lv_at hl 0 rfl) ?_
  refine cm_get X hM q379 (cf_0_0 _ _ _) rfl dX1_takeOf_13 ?_
  refine cm_getN X hM q167 (cf_1_3 _ _ _) rfl dX1_takeOf_16 ?_
  refine lv_iload_n hx hb dX1_takeOf_19 rfl (lv_at hl 1 rfl) ?_
  obtain ⟨g2, hh⟩ := gd_inv hh
  refine cm_aald X hM (by decide) rfl (by decide) rfl g2 dX1_takeOf_20 ?_
  refine lv_iconst (v := zi 1) hx hb dX1_takeOf_21 rfl ?_
  refine cm_iald (qz := (11 + 1 + x1)) X hM (cr_11 g2) (by have := g2.1; omega) rfl (by decide) dX1_takeOf_22 ?_
  refine lv_iload_n hx hb dX1_takeOf_23 rfl (lv_at hl 2 rfl) ?_
  refine lv_iload_n hx hb dX1_takeOf_24 rfl (lv_at hl 3 rfl) ?_
  refine lv_iload hx hb dX1_takeOf_25 (lv_at hl 4 rfl) ?_
  obtain ⟨v4, S5, k3, hh⟩ := bd2_inv hh
  refine cc_i (rest := []) X hM (wC_takeOf_2 l DC dA hC S (S.2 (11 + 1 + x1) 0) (S.2 (11 + 1 + x1) 1) x2 x3 x4 k3) cx_X1_131.1 cx_X1_131.2 ⟨rfl, rfl⟩ ⟨Nat.le_of_ble_eq_true rfl, Nat.le_of_ble_eq_true rfl⟩ ⟨Nat.zero_le _, Nat.zero_le _⟩ hl.1 (Nat.le_of_ble_eq_true rfl) dX1_takeOf_27 rfl (fun H locs hM => ?_)
  exact hret _ _ _ _ _ _ (rt1 hh) (rt2 hh) dX1_takeOf_30 hM
theorem cx_X1_135 : GoodIn lw_all (wsV "ManyEyes" 135 "ManyEyes" yX1_isOne (ws_ yX1_isOne cX1_isOne 3 (some .boolean))) ∧ yX1_isOne.cls = "ManyEyes" ∧ yX1_isOne.cls ≠ "java/lang/invoke/MethodHandle" ∧ yX1_isOne.cls ≠ "java/lang/invoke/VarHandle" ∧ (parseMethodDescriptor yX1_isOne.desc).map (fun d => d.parameters.length) = some 2 := ⟨lw_V q479 q481 qs8 q80 q482, by decide +kernel⟩
theorem cx_X1_138 : GoodIn lw_all (wsV "ManyEyes" 138 "ManyEyes" yX1_takeOf (ws_ yX1_takeOf cX1_takeOf 5 (some .int))) ∧ yX1_takeOf.cls = "ManyEyes" ∧ yX1_takeOf.cls ≠ "java/lang/invoke/MethodHandle" ∧ yX1_takeOf.cls ≠ "java/lang/invoke/VarHandle" ∧ (parseMethodDescriptor yX1_takeOf.desc).map (fun d => d.parameters.length) = some 4 := ⟨lw_V q483 q485 qs9 q80 q486, by decide +kernel⟩
def C_take (S : yS) (x1 : Int) (x2 : Int) (x3 : Int) (x4 : Int) (x5 : Int) : Option (Int × yS) := bd (C_isOne S (1 : Int) x1) (fun v2 => if v2 = true then (bd (C_isPlace S x2 x3) (fun v5 => if v5 = true then (bd (C_isHead x4) (fun v7 => if v7 = true then (bd (C_in x5 (0 : Int) (999 : Int)) (fun v10 => if v10 = true then (bd (C_lays S x5) (fun S14 => bd2 (C_takeOf S14 x1 x2 x3 x4) (fun v16 S17 => some ((v16 : Int), S17)))) else (some (((-1) : Int), S)))) else (some (((-1) : Int), S)))) else (some (((-1) : Int), S)))) else (some (((-1) : Int), S)))
set_option maxHeartbeats 4000000 in
theorem wC_take (l : Launch) (DC : va_G) (dA : Nat → ClassId) (hC : Nat) (S : yS) (x1 x2 x3 x4 x5 : Int) {r : Int} {S1 : yS} (hh : C_take S x1 x2 x3 x4 x5 = some (r, S1)) : ct_i l yX1_take cX1_take 6 (some .int) ({ frames := 5, cells := 0, slots := 0, locals := 140 } : Room) DC dA hC [.ref hC, .int (zi x1), .int (zi x2), .int (zi x3), .int (zi x4), .int (zi x5)] S r S1 := by
  refine co_i (by decide) (Nat.le_of_ble_eq_true rfl) ?_
  intro p e s m args below meth c Q ls X hret hl hM
  have hx := X.1.1
  have hb := X.1.2.1
  have hown := X.1.2.2.2.1
  have hts := X.1.2.2.2.2
  replace hl : lv_has ls 6 [(0, .ref (hC)), (1, .int (zi (x1))), (2, .int (zi (x2))), (3, .int (zi (x3))), (4, .int (zi (x4))), (5, .int (zi (x5)))] := hl
  unfold C_take at hh
  refine lv_aload_n hx hb dX1_take_0 rfl (lv_at hl 0 rfl) ?_
  refine lv_iconst (v := zi 1) hx hb dX1_take_1 rfl ?_
  refine lv_iload_n hx hb dX1_take_2 rfl (lv_at hl 1 rfl) ?_
  obtain ⟨v2, k1, hh⟩ := bd_inv hh
  refine cc_z (rest := []) X hM (wC_isOne l DC dA hC S (1 : Int) x1 k1) cx_X1_135.1 cx_X1_135.2 ⟨rfl, rfl⟩ ⟨Nat.le_of_ble_eq_true rfl, Nat.le_of_ble_eq_true rfl⟩ ⟨Nat.zero_le _, Nat.zero_le _⟩ hl.1 (Nat.le_of_ble_eq_true rfl) dX1_take_3 rfl (fun H locs hM => ?_)
  refine g_bif_eq (tgt := 38) hx hb dX1_take_6 (by decide) (fun c3 => ?_) (fun c3 => ?_)
  · replace hh := it_t c3 hh
    refine lv_aload_n hx hb dX1_take_9 rfl (lv_at hl 0 rfl) ?_
    refine lv_iload_n hx hb dX1_take_10 rfl (lv_at hl 2 rfl) ?_
    refine lv_iload_n hx hb dX1_take_11 rfl (lv_at hl 3 rfl) ?_
    obtain ⟨v5, k4, hh⟩ := bd_inv hh
    refine cc_z (rest := []) X hM (wC_isPlace l DC dA hC S x2 x3 k4) cx_X1_111.1 cx_X1_111.2 ⟨rfl, rfl⟩ ⟨Nat.le_of_ble_eq_true rfl, Nat.le_of_ble_eq_true rfl⟩ ⟨Nat.zero_le _, Nat.zero_le _⟩ hl.1 (Nat.le_of_ble_eq_true rfl) dX1_take_12 rfl (fun H locs hM => ?_)
    refine g_bif_eq (tgt := 38) hx hb dX1_take_15 (by decide) (fun c6 => ?_) (fun c6 => ?_)
    · replace hh := it_t c6 hh
      refine lv_iload hx hb dX1_take_18 (lv_at hl 4 rfl) ?_
      obtain ⟨v7, k8, hh⟩ := bd_inv hh
      refine ccs_z (rest := []) X hM (wC_isHead l x4 k8) cx_X1_115.1 cx_X1_115.2 ⟨rfl, rfl⟩ ⟨Nat.le_of_ble_eq_true rfl, Nat.le_of_ble_eq_true rfl⟩ ⟨Nat.zero_le _, Nat.zero_le _⟩ hl.1 (Nat.le_of_ble_eq_true rfl) dX1_take_20 rfl (fun H locs hM => ?_)
      refine g_bif_eq (tgt := 38) hx hb dX1_take_23 (by decide) (fun c9 => ?_) (fun c9 => ?_)
      · replace hh := it_t c9 hh
        refine lv_iload hx hb dX1_take_26 (lv_at hl 5 rfl) ?_
        refine lv_iconst (v := zi 0) hx hb dX1_take_28 rfl ?_
        refine lv_sipush (v := zi 999) hx hb dX1_take_29 (by decide) ?_
        obtain ⟨v10, k11, hh⟩ := bd_inv hh
        refine ccs_z (rest := []) X hM (wC_in l x5 (0 : Int) (999 : Int) k11) cx_X1_66.1 cx_X1_66.2 ⟨rfl, rfl⟩ ⟨Nat.le_of_ble_eq_true rfl, Nat.le_of_ble_eq_true rfl⟩ ⟨Nat.zero_le _, Nat.zero_le _⟩ hl.1 (Nat.le_of_ble_eq_true rfl) dX1_take_32 rfl (fun H locs hM => ?_)
        refine g_bif_ne (tgt := 40) hx hb dX1_take_35 (by decide) (fun c12 => ?_) (fun c12 => ?_)
        · replace hh := it_t c12 hh
          refine lv_aload_n hx hb dX1_take_40 rfl (lv_at hl 0 rfl) ?_
          refine lv_iload hx hb dX1_take_41 (lv_at hl 5 rfl) ?_
          obtain ⟨S14, k13, hh⟩ := bd_inv hh
          refine cc_v (rest := []) X hM (wC_lays l DC dA hC S x5 k13) cx_X1_94.1 cx_X1_94.2 ⟨rfl, rfl⟩ ⟨Nat.le_of_ble_eq_true rfl, Nat.le_of_ble_eq_true rfl⟩ ⟨Nat.zero_le _, Nat.zero_le _⟩ hl.1 (Nat.le_of_ble_eq_true rfl) dX1_take_43 rfl (fun H locs hM => ?_)
          refine lv_aload_n hx hb dX1_take_46 rfl (lv_at hl 0 rfl) ?_
          refine lv_iload_n hx hb dX1_take_47 rfl (lv_at hl 1 rfl) ?_
          refine lv_iload_n hx hb dX1_take_48 rfl (lv_at hl 2 rfl) ?_
          refine lv_iload_n hx hb dX1_take_49 rfl (lv_at hl 3 rfl) ?_
          refine lv_iload hx hb dX1_take_50 (lv_at hl 4 rfl) ?_
          obtain ⟨v16, S17, k15, hh⟩ := bd2_inv hh
          refine cc_i (rest := []) X hM (wC_takeOf l DC dA hC S14 x1 x2 x3 x4 k15) cx_X1_138.1 cx_X1_138.2 ⟨rfl, rfl⟩ ⟨Nat.le_of_ble_eq_true rfl, Nat.le_of_ble_eq_true rfl⟩ ⟨Nat.zero_le _, Nat.zero_le _⟩ hl.1 (Nat.le_of_ble_eq_true rfl) dX1_take_52 rfl (fun H locs hM => ?_)
          exact hret _ _ _ _ _ _ (rt1 hh) (rt2 hh) dX1_take_55 hM
        · replace hh := it_f c12 hh
          refine lv_iconst (v := zi (-1)) hx hb dX1_take_38 rfl ?_
          exact hret _ _ _ _ _ _ (rt1 hh) (rt2 hh) dX1_take_39 hM
      · replace hh := it_f c9 hh
        refine lv_iconst (v := zi (-1)) hx hb dX1_take_38 rfl ?_
        exact hret _ _ _ _ _ _ (rt1 hh) (rt2 hh) dX1_take_39 hM
    · replace hh := it_f c6 hh
      refine lv_iconst (v := zi (-1)) hx hb dX1_take_38 rfl ?_
      exact hret _ _ _ _ _ _ (rt1 hh) (rt2 hh) dX1_take_39 hM
  · replace hh := it_f c3 hh
    refine lv_iconst (v := zi (-1)) hx hb dX1_take_38 rfl ?_
    exact hret _ _ _ _ _ _ (rt1 hh) (rt2 hh) dX1_take_39 hM
theorem cx_X1_50 : GoodIn lw_all (va_wsS "ManyEyes" 50 yJ3_max (ws_ yJ3_max cJ3_max 2 (some .int))) ∧ yJ3_max.cls ≠ "java/lang/invoke/MethodHandle" ∧ yJ3_max.cls ≠ "java/lang/invoke/VarHandle" ∧ (parseMethodDescriptor yJ3_max.desc).map (fun d => d.parameters.length) = some 2 := ⟨lw_S q282 q283 q87 q284, by decide +kernel⟩
def C_weight (S : yS) (x1 : Int) (x2 : Int) : Option Int := gd ((0 : Int) ≤ x1 ∧ (x1 : Int) < 16) (bd (Ma_floorMod ((x2 - (S.2 (11 + 1 + x1) 0)) + 32) (64 : Int)) (fun v2 => nm (v2 - 32) (fun v4 => gd ((0 : Int) ≤ x1 ∧ (x1 : Int) < 16) (bd (Ma_abs v4) (fun v7 => bd (Ma_max (0 : Int) (((S.2 (11 + 1 + x1) 1) + 1) - v7)) (fun v9 => some ((v9 : Int))))))))
set_option maxHeartbeats 4000000 in
theorem wC_weight (l : Launch) (DC : va_G) (dA : Nat → ClassId) (hC : Nat) (S : yS) (x1 x2 : Int) {r : Int} (hh : C_weight S x1 x2 = some r) : ct_i l yX1_weight cX1_weight 4 (some .int) ({ frames := 2, cells := 0, slots := 0, locals := 62 } : Room) DC dA hC [.ref hC, .int (zi x1), .int (zi x2)] S r S := by
  refine co_i (by decide) (Nat.le_of_ble_eq_true rfl) ?_
  intro p e s m args below meth c Q ls X hret hl hM
  have hx := X.1.1
  have hb := X.1.2.1
  have hown := X.1.2.2.2.1
  have hts := X.1.2.2.2.2
  replace hl : lv_has ls 4 [(0, .ref (hC)), (1, .int (zi (x1))), (2, .int (zi (x2)))] := hl
  unfold C_weight at hh
  refine lv_iload_n hx hb dX1_weight_0 rfl (lv_at hl 2 rfl) ?_
  refine lv_aload_n hx hb dX1_weight_1 rfl (lv_at hl 0 rfl) ?_
  refine cm_get X hM q379 (cf_0_0 _ _ _) rfl dX1_weight_2 ?_
  refine cm_getN X hM q167 (cf_1_3 _ _ _) rfl dX1_weight_5 ?_
  refine lv_iload_n hx hb dX1_weight_8 rfl (lv_at hl 1 rfl) ?_
  obtain ⟨g1, hh⟩ := gd_inv hh
  refine cm_aald X hM (by decide) rfl (by decide) rfl g1 dX1_weight_9 ?_
  refine lv_iconst (v := zi 0) hx hb dX1_weight_10 rfl ?_
  refine cm_iald (qz := (11 + 1 + x1)) X hM (cr_11 g1) (by have := g1.1; omega) rfl (by decide) dX1_weight_11 ?_
  refine g_isub hx hb dX1_weight_12 ?_
  refine lv_bipush (v := zi 32) hx hb dX1_weight_13 (by decide) ?_
  refine g_iadd hx hb dX1_weight_15 ?_
  refine lv_bipush (v := zi 64) hx hb dX1_weight_16 (by decide) ?_
  obtain ⟨v2, k3, hh⟩ := bd_inv hh
  refine ccs_i (rest := []) X hM (wMa_floorMod l ((x2 - (S.2 (11 + 1 + x1) 0)) + 32) (64 : Int) k3) cx_X1_128.1 cx_X1_128.2 ⟨rfl, rfl⟩ ⟨Nat.le_of_ble_eq_true rfl, Nat.le_of_ble_eq_true rfl⟩ ⟨Nat.zero_le _, Nat.zero_le _⟩ hl.1 (Nat.le_of_ble_eq_true rfl) dX1_weight_18 rfl (fun H locs hM => ?_)
  refine lv_bipush (v := zi 32) hx hb dX1_weight_21 (by decide) ?_
  refine g_isub hx hb dX1_weight_23 ?_
  refine g_nmi hx hb (fun v4 e5 => ?_)
  replace hh := nm_inv hh v4 e5
  refine lv_istore_n (lv' := [(3, .int (zi (v4))), (0, .ref (hC)), (1, .int (zi (x1))), (2, .int (zi (x2)))]) hx hb dX1_weight_24 rfl hl (by decide) rfl (fun ls hl => ?_)
  refine lv_iconst (v := zi 0) hx hb dX1_weight_25 rfl ?_
  refine lv_aload_n hx hb dX1_weight_26 rfl (lv_at hl 1 rfl) ?_
  refine cm_get X hM q379 (cf_0_0 _ _ _) rfl dX1_weight_27 ?_
  refine cm_getN X hM q167 (cf_1_3 _ _ _) rfl dX1_weight_30 ?_
  refine lv_iload_n hx hb dX1_weight_33 rfl (lv_at hl 2 rfl) ?_
  obtain ⟨g6, hh⟩ := gd_inv hh
  refine cm_aald X hM (by decide) rfl (by decide) rfl g6 dX1_weight_34 ?_
  refine lv_iconst (v := zi 1) hx hb dX1_weight_35 rfl ?_
  refine cm_iald (qz := (11 + 1 + x1)) X hM (cr_11 g6) (by have := g6.1; omega) rfl (by decide) dX1_weight_36 ?_
  refine lv_iconst (v := zi 1) hx hb dX1_weight_37 rfl ?_
  refine g_iadd hx hb dX1_weight_38 ?_
  refine lv_iload_n hx hb dX1_weight_39 rfl (lv_at hl 0 rfl) ?_
  obtain ⟨v7, k8, hh⟩ := bd_inv hh
  refine ccs_i (rest := [.int (zi ((S.2 (11 + 1 + x1) 1) + 1)), .int (zi (0))]) X hM (wMa_abs l v4 k8) cx_X1_125.1 cx_X1_125.2 ⟨rfl, rfl⟩ ⟨Nat.le_of_ble_eq_true rfl, Nat.le_of_ble_eq_true rfl⟩ ⟨Nat.zero_le _, Nat.zero_le _⟩ hl.1 (Nat.le_of_ble_eq_true rfl) dX1_weight_40 rfl (fun H locs hM => ?_)
  refine g_isub hx hb dX1_weight_43 ?_
  obtain ⟨v9, k10, hh⟩ := bd_inv hh
  refine ccs_i (rest := []) X hM (wMa_max l (0 : Int) (((S.2 (11 + 1 + x1) 1) + 1) - v7) k10) cx_X1_50.1 cx_X1_50.2 ⟨rfl, rfl⟩ ⟨Nat.le_of_ble_eq_true rfl, Nat.le_of_ble_eq_true rfl⟩ ⟨Nat.zero_le _, Nat.zero_le _⟩ hl.1 (Nat.le_of_ble_eq_true rfl) dX1_weight_44 rfl (fun H locs hM => ?_)
  exact hret _ _ _ _ _ _ (rt0 hh) rfl dX1_weight_47 hM
theorem cx_X1_144 : GoodIn lw_all (wsV "ManyEyes" 144 "ManyEyes" yX1_weight (ws_ yX1_weight cX1_weight 4 (some .int))) ∧ yX1_weight.cls = "ManyEyes" ∧ yX1_weight.cls ≠ "java/lang/invoke/MethodHandle" ∧ yX1_weight.cls ≠ "java/lang/invoke/VarHandle" ∧ (parseMethodDescriptor yX1_weight.desc).map (fun d => d.parameters.length) = some 2 := ⟨lw_V q509 q511 qs12 q80 q512, by decide +kernel⟩
def C_coveredBy_B32 (K4 : Int → Int → Option Int) (S : yS) (x1 : Int) (x3 : Int) (t0 : Int) (t1 : Int) : Option Int := nm (t1 + t0) (fun v7 => nm ((x3 + 1) : Int) (fun v9 => K4 v7 v9))
def C_coveredBy_b4 (S : yS) (x1 : Int) (K4 : Int → Int → Option Int) (x2 : Int) (x3 : Int) : Option Int := gd (r32 (x3) ∧ r32 (S.2 2 1)) (if x3 < (S.2 2 1) then (bd (C_weight S x3 x1) (fun v4 => gd (r32 (v4)) (if v4 ≤ 0 then (C_coveredBy_B32 K4 S x1 x3 (0 : Int) x2) else (C_coveredBy_B32 K4 S x1 x3 (1 : Int) x2)))) else (some ((x2 : Int))))
def C_coveredBy_L4 (S : yS) (x1 : Int) : Nat → Int → Int → Option Int
  | 0 => fun _ _ => none
  | n + 1 => fun x2 x3 => C_coveredBy_b4 S x1 (C_coveredBy_L4 S x1 n) x2 x3
def C_coveredBy (S : yS) (x1 : Int) : Option Int := C_coveredBy_L4 S x1 FU (0 : Int) (0 : Int)
set_option maxHeartbeats 4000000 in
theorem wC_coveredBy (l : Launch) (DC : va_G) (dA : Nat → ClassId) (hC : Nat) (S : yS) (x1 : Int) {r : Int} (hh : C_coveredBy S x1 = some r) : ct_i l yX1_coveredBy cX1_coveredBy 4 (some .int) ({ frames := 3, cells := 0, slots := 0, locals := 85 } : Room) DC dA hC [.ref hC, .int (zi x1)] S r S := by
  refine co_i (by decide) (Nat.le_of_ble_eq_true rfl) ?_
  intro p e s m args below meth c Q ls X hret hl hM
  have hx := X.1.1
  have hb := X.1.2.1
  have hown := X.1.2.2.2.1
  have hts := X.1.2.2.2.2
  have hB32 : ∀ (x1 : Int) (x3 : Int) (t0 : Int) (t1 : Int) (K4 : Int → Int → Option Int) (hK4 : (∀ (x2 : Int) (x3 : Int), K4 x2 x3 = some r → ∀ (H : Heap) (locs : List Loc) (ls : Array Slot), CX DC dA hC (cA hC) S s H locs → lv_has ls 4 [(0, .ref (hC)), (1, .int (zi (x1))), (2, .int (zi (x2))), (3, .int (zi (x3)))] → W p l e ({ frames := 3, cells := 0, slots := 0, locals := 85 } : Room) s m args below meth c H locs 0 0 Q (F0 m 4 ls []))), C_coveredBy_B32 K4 S x1 x3 t0 t1 = some r → ∀ (H : Heap) (locs : List Loc) (ls : Array Slot), CX DC dA hC (cA hC) S s H locs → lv_has ls 4 [(0, .ref (hC)), (1, .int (zi (x1))), (3, .int (zi (x3)))] → W p l e ({ frames := 3, cells := 0, slots := 0, locals := 85 } : Room) s m args below meth c H locs 0 0 Q (F0 m 32 ls [.int (zi (t0)), .int (zi (t1))]) := by
    intro x1 x3 t0 t1 K4 hK4 hh H locs ls hM hl
    unfold C_coveredBy_B32 at hh
    refine g_iadd hx hb dX1_coveredBy_32 ?_
    refine g_nmi hx hb (fun v7 e8 => ?_)
    replace hh := nm_inv hh v7 e8
    refine lv_istore_n (lv' := [(2, .int (zi (v7))), (0, .ref (hC)), (1, .int (zi (x1))), (3, .int (zi (x3)))]) hx hb dX1_coveredBy_33 rfl hl (by decide) rfl (fun ls hl => ?_)
    obtain ⟨v9, e10⟩ : ∃ z : Int, z = x3 + 1 := ⟨_, rfl⟩
    replace hh := nm_inv hh v9 e10
    refine lv_iinc (v := zi v9) (lv' := [(3, .int (zi (v9))), (2, .int (zi (v7))), (0, .ref (hC)), (1, .int (zi (x1)))]) hx hb dX1_coveredBy_34 hl (k := 3) rfl (by rw [e10]; exact zi_add _ _) (by decide) rfl (fun ls hl => ?_)
    refine lv_goto (tgt := 4) hx hb dX1_coveredBy_37 (by decide) ?_
    exact hK4 v7 v9 hh _ _ _ hM (lv_sub hl [2, 3, 1, 0] rfl)
  have hL4 : ∀ (x1 : Int) (n : Nat) (x2 : Int) (x3 : Int), C_coveredBy_L4 S x1 n x2 x3 = some r → ∀ (H : Heap) (locs : List Loc) (ls : Array Slot), CX DC dA hC (cA hC) S s H locs → lv_has ls 4 [(0, .ref (hC)), (1, .int (zi (x1))), (2, .int (zi (x2))), (3, .int (zi (x3)))] → W p l e ({ frames := 3, cells := 0, slots := 0, locals := 85 } : Room) s m args below meth c H locs 0 0 Q (F0 m 4 ls []) := by
    intro x1  n
    induction n with
    | zero => intro x2 x3 hh; exact no_some hh
    | succ n ih =>
      intro x2 x3 hh H locs ls hM hl
      replace hh : C_coveredBy_b4 S x1 (C_coveredBy_L4 S x1 n) x2 x3 = some r := hh
      unfold C_coveredBy_b4 at hh
      have hK4 := ih
      refine lv_iload_n hx hb dX1_coveredBy_4 rfl (lv_at hl 3 rfl) ?_
      refine lv_aload_n hx hb dX1_coveredBy_5 rfl (lv_at hl 0 rfl) ?_
      refine cm_get X hM q379 (cf_0_0 _ _ _) rfl dX1_coveredBy_6 ?_
      refine cm_getN X hM q161 (cf_1_0 _ _ _) rfl dX1_coveredBy_9 ?_
      refine lv_iconst (v := zi 1) hx hb dX1_coveredBy_12 rfl ?_
      refine cm_iald (qz := 2) X hM ci_2 rfl rfl (by decide) dX1_coveredBy_13 ?_
      obtain ⟨g2, hh⟩ := gd_inv hh
      refine g_icmp_ge (tgt := 40) hx hb g2 dX1_coveredBy_14 (by decide) (fun c1 => ?_) (fun c1 => ?_)
      · replace hh := it_t c1 hh
        refine lv_iload_n hx hb dX1_coveredBy_17 rfl (lv_at hl 2 rfl) ?_
        refine lv_aload_n hx hb dX1_coveredBy_18 rfl (lv_at hl 0 rfl) ?_
        refine lv_iload_n hx hb dX1_coveredBy_19 rfl (lv_at hl 3 rfl) ?_
        refine lv_iload_n hx hb dX1_coveredBy_20 rfl (lv_at hl 1 rfl) ?_
        obtain ⟨v4, k3, hh⟩ := bd_inv hh
        refine cc_i (rest := [.int (zi (x2))]) X hM (wC_weight l DC dA hC S x3 x1 k3) cx_X1_144.1 cx_X1_144.2 ⟨rfl, rfl⟩ ⟨Nat.le_of_ble_eq_true rfl, Nat.le_of_ble_eq_true rfl⟩ ⟨Nat.zero_le _, Nat.zero_le _⟩ hl.1 (Nat.le_of_ble_eq_true rfl) dX1_coveredBy_21 rfl (fun H locs hM => ?_)
        obtain ⟨g6, hh⟩ := gd_inv hh
        refine g_if_le (tgt := 31) hx hb g6 dX1_coveredBy_24 (by decide) (fun c5 => ?_) (fun c5 => ?_)
        · replace hh := it_t c5 hh
          refine lv_iconst (v := zi 0) hx hb dX1_coveredBy_31 rfl ?_
          exact hB32 x1 x3 (0 : Int) x2 _ hK4 hh _ _ _ hM (lv_sub hl [0, 1, 3] rfl)
        · replace hh := it_f c5 hh
          refine lv_iconst (v := zi 1) hx hb dX1_coveredBy_27 rfl ?_
          refine lv_goto (tgt := 32) hx hb dX1_coveredBy_28 (by decide) ?_
          exact hB32 x1 x3 (1 : Int) x2 _ hK4 hh _ _ _ hM (lv_sub hl [0, 1, 3] rfl)
      · replace hh := it_f c1 hh
        refine lv_iload_n hx hb dX1_coveredBy_40 rfl (lv_at hl 2 rfl) ?_
        exact hret _ _ _ _ _ _ (rt0 hh) rfl dX1_coveredBy_41 hM
  replace hl : lv_has ls 4 [(0, .ref (hC)), (1, .int (zi (x1)))] := hl
  unfold C_coveredBy at hh
  refine lv_iconst (v := zi 0) hx hb dX1_coveredBy_0 rfl ?_
  refine lv_istore_n (lv' := [(2, .int (zi (0))), (0, .ref (hC)), (1, .int (zi (x1)))]) hx hb dX1_coveredBy_1 rfl hl (by decide) rfl (fun ls hl => ?_)
  refine lv_iconst (v := zi 0) hx hb dX1_coveredBy_2 rfl ?_
  refine lv_istore_n (lv' := [(3, .int (zi (0))), (2, .int (zi (0))), (0, .ref (hC)), (1, .int (zi (x1)))]) hx hb dX1_coveredBy_3 rfl hl (by decide) rfl (fun ls hl => ?_)
  exact hL4 x1 FU (0 : Int) (0 : Int) hh _ _ _ hM (lv_sub hl [2, 3, 1, 0] rfl)
theorem cx_X1_147 : GoodIn lw_all (wsV "ManyEyes" 147 "ManyEyes" yX1_coveredBy (ws_ yX1_coveredBy cX1_coveredBy 4 (some .int))) ∧ yX1_coveredBy.cls = "ManyEyes" ∧ yX1_coveredBy.cls ≠ "java/lang/invoke/MethodHandle" ∧ yX1_coveredBy.cls ≠ "java/lang/invoke/VarHandle" ∧ (parseMethodDescriptor yX1_coveredBy.desc).map (fun d => d.parameters.length) = some 1 := ⟨lw_V q505 q507 qs11 q80 q508, by decide +kernel⟩
def C_covered_B46 (K26 : Int → Int → Option Int) (S : yS) (x3 : Int) (t0 : Int) (t1 : Int) : Option Int := nm (t1 + t0) (fun v9 => nm ((x3 + 1) : Int) (fun v11 => K26 v9 v11))
def C_covered_b26 (S : yS) (K26 : Int → Int → Option Int) (x2 : Int) (x3 : Int) : Option Int := gd (r32 (x3)) (if x3 < 64 then (bd (C_coveredBy S x3) (fun v6 => gd (r32 (v6)) (if v6 = 0 then (C_covered_B46 K26 S x3 (1 : Int) x2) else (C_covered_B46 K26 S x3 (0 : Int) x2)))) else (some ((x2 : Int))))
def C_covered_L26 (S : yS) : Nat → Int → Int → Option Int
  | 0 => fun _ _ => none
  | n + 1 => fun x2 x3 => C_covered_b26 S (C_covered_L26 S n) x2 x3
def C_covered (S : yS) (x1 : Int) : Option Int := gd (r32 (x1)) (if x1 = (-1) then (C_covered_L26 S FU (0 : Int) (0 : Int)) else (bd (C_isHead x1) (fun v13 => if v13 = true then (bd (C_coveredBy S x1) (fun v17 => some ((v17 : Int)))) else (some (((-1) : Int))))))
set_option maxHeartbeats 4000000 in
theorem wC_covered (l : Launch) (DC : va_G) (dA : Nat → ClassId) (hC : Nat) (S : yS) (x1 : Int) {r : Int} (hh : C_covered S x1 = some r) : ct_i l yX1_covered cX1_covered 4 (some .int) ({ frames := 4, cells := 0, slots := 0, locals := 108 } : Room) DC dA hC [.ref hC, .int (zi x1)] S r S := by
  refine co_i (by decide) (Nat.le_of_ble_eq_true rfl) ?_
  intro p e s m args below meth c Q ls X hret hl hM
  have hx := X.1.1
  have hb := X.1.2.1
  have hown := X.1.2.2.2.1
  have hts := X.1.2.2.2.2
  have hB46 : ∀ (x3 : Int) (t0 : Int) (t1 : Int) (K26 : Int → Int → Option Int) (hK26 : (∀ (x2 : Int) (x3 : Int), K26 x2 x3 = some r → ∀ (H : Heap) (locs : List Loc) (ls : Array Slot), CX DC dA hC (cA hC) S s H locs → lv_has ls 4 [(0, .ref (hC)), (2, .int (zi (x2))), (3, .int (zi (x3)))] → W p l e ({ frames := 4, cells := 0, slots := 0, locals := 108 } : Room) s m args below meth c H locs 0 0 Q (F0 m 26 ls []))), C_covered_B46 K26 S x3 t0 t1 = some r → ∀ (H : Heap) (locs : List Loc) (ls : Array Slot), CX DC dA hC (cA hC) S s H locs → lv_has ls 4 [(0, .ref (hC)), (3, .int (zi (x3)))] → W p l e ({ frames := 4, cells := 0, slots := 0, locals := 108 } : Room) s m args below meth c H locs 0 0 Q (F0 m 46 ls [.int (zi (t0)), .int (zi (t1))]) := by
    intro x3 t0 t1 K26 hK26 hh H locs ls hM hl
    unfold C_covered_B46 at hh
    refine g_iadd hx hb dX1_covered_46 ?_
    refine g_nmi hx hb (fun v9 e10 => ?_)
    replace hh := nm_inv hh v9 e10
    refine lv_istore_n (lv' := [(2, .int (zi (v9))), (0, .ref (hC)), (3, .int (zi (x3)))]) hx hb dX1_covered_47 rfl hl (by decide) rfl (fun ls hl => ?_)
    obtain ⟨v11, e12⟩ : ∃ z : Int, z = x3 + 1 := ⟨_, rfl⟩
    replace hh := nm_inv hh v11 e12
    refine lv_iinc (v := zi v11) (lv' := [(3, .int (zi (v11))), (2, .int (zi (v9))), (0, .ref (hC))]) hx hb dX1_covered_48 hl (k := 2) rfl (by rw [e12]; exact zi_add _ _) (by decide) rfl (fun ls hl => ?_)
    refine lv_goto (tgt := 26) hx hb dX1_covered_51 (by decide) ?_
    exact hK26 v9 v11 hh _ _ _ hM (lv_sub hl [2, 1, 0] rfl)
  have hL26 : ∀ (n : Nat) (x2 : Int) (x3 : Int), C_covered_L26 S n x2 x3 = some r → ∀ (H : Heap) (locs : List Loc) (ls : Array Slot), CX DC dA hC (cA hC) S s H locs → lv_has ls 4 [(0, .ref (hC)), (2, .int (zi (x2))), (3, .int (zi (x3)))] → W p l e ({ frames := 4, cells := 0, slots := 0, locals := 108 } : Room) s m args below meth c H locs 0 0 Q (F0 m 26 ls []) := by
    intro   n
    induction n with
    | zero => intro x2 x3 hh; exact no_some hh
    | succ n ih =>
      intro x2 x3 hh H locs ls hM hl
      replace hh : C_covered_b26 S (C_covered_L26 S n) x2 x3 = some r := hh
      unfold C_covered_b26 at hh
      have hK26 := ih
      refine lv_iload_n hx hb dX1_covered_26 rfl (lv_at hl 2 rfl) ?_
      refine lv_bipush (v := zi 64) hx hb dX1_covered_27 (by decide) ?_
      obtain ⟨g4, hh⟩ := gd_inv hh
      refine g_icmp_ge (tgt := 54) hx hb ⟨g4, by decide⟩ dX1_covered_29 (by decide) (fun c3 => ?_) (fun c3 => ?_)
      · replace hh := it_t c3 hh
        refine lv_iload_n hx hb dX1_covered_32 rfl (lv_at hl 1 rfl) ?_
        refine lv_aload_n hx hb dX1_covered_33 rfl (lv_at hl 0 rfl) ?_
        refine lv_iload_n hx hb dX1_covered_34 rfl (lv_at hl 2 rfl) ?_
        obtain ⟨v6, k5, hh⟩ := bd_inv hh
        refine cc_i (rest := [.int (zi (x2))]) X hM (wC_coveredBy l DC dA hC S x3 k5) cx_X1_147.1 cx_X1_147.2 ⟨rfl, rfl⟩ ⟨Nat.le_of_ble_eq_true rfl, Nat.le_of_ble_eq_true rfl⟩ ⟨Nat.zero_le _, Nat.zero_le _⟩ hl.1 (Nat.le_of_ble_eq_true rfl) dX1_covered_35 rfl (fun H locs hM => ?_)
        obtain ⟨g8, hh⟩ := gd_inv hh
        refine g_if_ne (tgt := 45) hx hb g8 dX1_covered_38 (by decide) (fun c7 => ?_) (fun c7 => ?_)
        · replace hh := it_t c7 hh
          refine lv_iconst (v := zi 1) hx hb dX1_covered_41 rfl ?_
          refine lv_goto (tgt := 46) hx hb dX1_covered_42 (by decide) ?_
          exact hB46 x3 (1 : Int) x2 _ hK26 hh _ _ _ hM (lv_sub hl [0, 2] rfl)
        · replace hh := it_f c7 hh
          refine lv_iconst (v := zi 0) hx hb dX1_covered_45 rfl ?_
          exact hB46 x3 (0 : Int) x2 _ hK26 hh _ _ _ hM (lv_sub hl [0, 2] rfl)
      · replace hh := it_f c3 hh
        refine lv_iload_n hx hb dX1_covered_54 rfl (lv_at hl 1 rfl) ?_
        exact hret _ _ _ _ _ _ (rt0 hh) rfl dX1_covered_55 hM
  replace hl : lv_has ls 4 [(0, .ref (hC)), (1, .int (zi (x1)))] := hl
  unfold C_covered at hh
  refine lv_iload_n hx hb dX1_covered_0 rfl (lv_at hl 1 rfl) ?_
  refine lv_iconst (v := zi (-1)) hx hb dX1_covered_1 rfl ?_
  obtain ⟨g2, hh⟩ := gd_inv hh
  refine g_icmp_eq (tgt := 22) hx hb ⟨g2, by decide⟩ dX1_covered_2 (by decide) (fun c1 => ?_) (fun c1 => ?_)
  · replace hh := it_t c1 hh
    refine lv_iconst (v := zi 0) hx hb dX1_covered_22 rfl ?_
    refine lv_istore_n (lv' := [(2, .int (zi (0))), (0, .ref (hC)), (1, .int (zi (x1)))]) hx hb dX1_covered_23 rfl hl (by decide) rfl (fun ls hl => ?_)
    refine lv_iconst (v := zi 0) hx hb dX1_covered_24 rfl ?_
    refine lv_istore_n (lv' := [(3, .int (zi (0))), (2, .int (zi (0))), (0, .ref (hC)), (1, .int (zi (x1)))]) hx hb dX1_covered_25 rfl hl (by decide) rfl (fun ls hl => ?_)
    exact hL26 FU (0 : Int) (0 : Int) hh _ _ _ hM (lv_sub hl [2, 1, 0] rfl)
  · replace hh := it_f c1 hh
    refine lv_iload_n hx hb dX1_covered_5 rfl (lv_at hl 1 rfl) ?_
    obtain ⟨v13, k14, hh⟩ := bd_inv hh
    refine ccs_z (rest := []) X hM (wC_isHead l x1 k14) cx_X1_115.1 cx_X1_115.2 ⟨rfl, rfl⟩ ⟨Nat.le_of_ble_eq_true rfl, Nat.le_of_ble_eq_true rfl⟩ ⟨Nat.zero_le _, Nat.zero_le _⟩ hl.1 (Nat.le_of_ble_eq_true rfl) dX1_covered_6 rfl (fun H locs hM => ?_)
    refine g_bif_eq (tgt := 20) hx hb dX1_covered_9 (by decide) (fun c15 => ?_) (fun c15 => ?_)
    · replace hh := it_t c15 hh
      refine lv_aload_n hx hb dX1_covered_12 rfl (lv_at hl 0 rfl) ?_
      refine lv_iload_n hx hb dX1_covered_13 rfl (lv_at hl 1 rfl) ?_
      obtain ⟨v17, k16, hh⟩ := bd_inv hh
      refine cc_i (rest := []) X hM (wC_coveredBy l DC dA hC S x1 k16) cx_X1_147.1 cx_X1_147.2 ⟨rfl, rfl⟩ ⟨Nat.le_of_ble_eq_true rfl, Nat.le_of_ble_eq_true rfl⟩ ⟨Nat.zero_le _, Nat.zero_le _⟩ hl.1 (Nat.le_of_ble_eq_true rfl) dX1_covered_14 rfl (fun H locs hM => ?_)
      refine lv_goto (tgt := 21) hx hb dX1_covered_17 (by decide) ?_
      exact hret _ _ _ _ _ _ (rt0 hh) rfl dX1_covered_21 hM
    · replace hh := it_f c15 hh
      refine lv_iconst (v := zi (-1)) hx hb dX1_covered_20 rfl ?_
      exact hret _ _ _ _ _ _ (rt0 hh) rfl dX1_covered_21 hM
theorem cx_X1_44 : GoodIn lw_all (va_wsS "ManyEyes" 44 yJ3_min (ws_ yJ3_min cJ3_min 2 (some .int))) ∧ yJ3_min.cls ≠ "java/lang/invoke/MethodHandle" ∧ yJ3_min.cls ≠ "java/lang/invoke/VarHandle" ∧ (parseMethodDescriptor yJ3_min.desc).map (fun d => d.parameters.length) = some 2 := ⟨lw_S q279 q280 q87 q281, by decide +kernel⟩
def C_ends_b42 (x1 : Int) (x2 : Int) (x3 : Int) (x4 : Int) (x5 : Int) (K42 : yS → Int → Int → Int → Option (Int × yS)) (S : yS) (x6 : Int) (x7 : Int) (x8 : Int) : Option (Int × yS) := gd (r32 (x8) ∧ r32 (S.2 2 1)) (if x8 < (S.2 2 1) then (bd (C_weight S x8 x1) (fun v15 => gd (r32 (v15)) (if v15 = 0 then (nm ((x8 + 1) : Int) (fun v18 => K42 S x6 x7 v18)) else (gd ((0 : Int) ≤ x8 ∧ (x8 : Int) < 16) (gd ((0 : Int) ≤ x8 ∧ (x8 : Int) < 16) (nm (((S.2 (11 + 1 + x8) 1) + 1) * ((S.2 (11 + 1 + x8) 1) + 1)) (fun v22 => bd2 (C_takeOf S x8 x2 x3 x4) (fun v25 S26 => nm ((v25 * v22) - (255 * (v22 - v15))) (fun v27 => bd (Ma_floorDiv (-v27) v15) (fun v29 => bd (Ma_max x6 (-v29)) (fun v31 => gd (r32 (((v25 + 1) * v22) - 1) ∧ r32 (v15) ∧ (v15 : Int) ≠ 0) (bd (Ma_min x7 (Int.tdiv (((v25 + 1) * v22) - 1) v15)) (fun v34 => nm ((x8 + 1) : Int) (fun v36 => K42 S26 v31 v34 v36)))))))))))))) else (gd (r32 (x5)) (if x5 = 0 then (some ((x6 : Int), S)) else (some ((x7 : Int), S)))))
def C_ends_L42 (x1 : Int) (x2 : Int) (x3 : Int) (x4 : Int) (x5 : Int) : Nat → yS → Int → Int → Int → Option (Int × yS)
  | 0 => fun _ _ _ _ => none
  | n + 1 => fun S x6 x7 x8 => C_ends_b42 x1 x2 x3 x4 x5 (C_ends_L42 x1 x2 x3 x4 x5 n) S x6 x7 x8
def C_ends (S : yS) (x1 : Int) (x2 : Int) (x3 : Int) (x4 : Int) (x5 : Int) : Option (Int × yS) := bd (C_isHead x1) (fun v1 => if v1 = true then (bd (C_isPlace S x2 x3) (fun v5 => if v5 = true then (bd (C_isHead x4) (fun v7 => if v7 = true then (bd (C_lays S (0 : Int)) (fun S11 => C_ends_L42 x1 x2 x3 x4 x5 FU S11 (0 : Int) (255 : Int) (0 : Int))) else (some (((-1) : Int), S)))) else (some (((-1) : Int), S)))) else (some (((-1) : Int), S)))
set_option maxHeartbeats 4000000 in
theorem wC_ends (l : Launch) (DC : va_G) (dA : Nat → ClassId) (hC : Nat) (S : yS) (x1 x2 x3 x4 x5 : Int) {r : Int} {S1 : yS} (hh : C_ends S x1 x2 x3 x4 x5 = some (r, S1)) : ct_i l yX1_ends cX1_ends 13 (some .int) ({ frames := 5, cells := 0, slots := 0, locals := 140 } : Room) DC dA hC [.ref hC, .int (zi x1), .int (zi x2), .int (zi x3), .int (zi x4), .int (zi x5)] S r S1 := by
  refine co_i (by decide) (Nat.le_of_ble_eq_true rfl) ?_
  intro p e s m args below meth c Q ls X hret hl hM
  have hx := X.1.1
  have hb := X.1.2.1
  have hown := X.1.2.2.2.1
  have hts := X.1.2.2.2.2
  have hL42 : ∀ (x1 : Int) (x2 : Int) (x3 : Int) (x4 : Int) (x5 : Int) (n : Nat) (S : yS) (x6 : Int) (x7 : Int) (x8 : Int), C_ends_L42 x1 x2 x3 x4 x5 n S x6 x7 x8 = some (r, S1) → ∀ (H : Heap) (locs : List Loc) (ls : Array Slot), CX DC dA hC (cA hC) S s H locs → lv_has ls 13 [(0, .ref (hC)), (1, .int (zi (x1))), (2, .int (zi (x2))), (3, .int (zi (x3))), (4, .int (zi (x4))), (5, .int (zi (x5))), (6, .int (zi (x6))), (7, .int (zi (x7))), (8, .int (zi (x8)))] → W p l e ({ frames := 5, cells := 0, slots := 0, locals := 140 } : Room) s m args below meth c H locs 0 0 Q (F0 m 42 ls []) := by
    intro x1 x2 x3 x4 x5  n
    induction n with
    | zero => intro S x6 x7 x8 hh; exact no_some hh
    | succ n ih =>
      intro S x6 x7 x8 hh H locs ls hM hl
      replace hh : C_ends_b42 x1 x2 x3 x4 x5 (C_ends_L42 x1 x2 x3 x4 x5 n) S x6 x7 x8 = some (r, S1) := hh
      unfold C_ends_b42 at hh
      have hK42 := ih
      refine lv_iload hx hb dX1_ends_42 (lv_at hl 8 rfl) ?_
      refine lv_aload_n hx hb dX1_ends_44 rfl (lv_at hl 0 rfl) ?_
      refine cm_get X hM q379 (cf_0_0 _ _ _) rfl dX1_ends_45 ?_
      refine cm_getN X hM q161 (cf_1_0 _ _ _) rfl dX1_ends_48 ?_
      refine lv_iconst (v := zi 1) hx hb dX1_ends_51 rfl ?_
      refine cm_iald (qz := 2) X hM ci_2 rfl rfl (by decide) dX1_ends_52 ?_
      obtain ⟨g13, hh⟩ := gd_inv hh
      refine g_icmp_ge (tgt := 174) hx hb g13 dX1_ends_53 (by decide) (fun c12 => ?_) (fun c12 => ?_)
      · replace hh := it_t c12 hh
        refine lv_aload_n hx hb dX1_ends_56 rfl (lv_at hl 0 rfl) ?_
        refine lv_iload hx hb dX1_ends_57 (lv_at hl 8 rfl) ?_
        refine lv_iload_n hx hb dX1_ends_59 rfl (lv_at hl 1 rfl) ?_
        obtain ⟨v15, k14, hh⟩ := bd_inv hh
        refine cc_i (rest := []) X hM (wC_weight l DC dA hC S x8 x1 k14) cx_X1_144.1 cx_X1_144.2 ⟨rfl, rfl⟩ ⟨Nat.le_of_ble_eq_true rfl, Nat.le_of_ble_eq_true rfl⟩ ⟨Nat.zero_le _, Nat.zero_le _⟩ hl.1 (Nat.le_of_ble_eq_true rfl) dX1_ends_60 rfl (fun H locs hM => ?_)
        refine lv_istore (lv' := [(9, .int (zi (v15))), (0, .ref (hC)), (1, .int (zi (x1))), (2, .int (zi (x2))), (3, .int (zi (x3))), (4, .int (zi (x4))), (5, .int (zi (x5))), (6, .int (zi (x6))), (7, .int (zi (x7))), (8, .int (zi (x8)))]) hx hb dX1_ends_63 hl (by decide) rfl (fun ls hl => ?_)
        refine lv_iload hx hb dX1_ends_65 (lv_at hl 0 rfl) ?_
        obtain ⟨g17, hh⟩ := gd_inv hh
        refine g_if_ne (tgt := 73) hx hb g17 dX1_ends_67 (by decide) (fun c16 => ?_) (fun c16 => ?_)
        · replace hh := it_t c16 hh
          refine lv_goto (tgt := 168) hx hb dX1_ends_70 (by decide) ?_
          obtain ⟨v18, e19⟩ : ∃ z : Int, z = x8 + 1 := ⟨_, rfl⟩
          replace hh := nm_inv hh v18 e19
          refine lv_iinc (v := zi v18) (lv' := [(8, .int (zi (v18))), (9, .int (zi (v15))), (0, .ref (hC)), (1, .int (zi (x1))), (2, .int (zi (x2))), (3, .int (zi (x3))), (4, .int (zi (x4))), (5, .int (zi (x5))), (6, .int (zi (x6))), (7, .int (zi (x7)))]) hx hb dX1_ends_168 hl (k := 9) rfl (by rw [e19]; exact zi_add _ _) (by decide) rfl (fun ls hl => ?_)
          refine lv_goto (tgt := 42) hx hb dX1_ends_171 (by decide) ?_
          exact hK42 S x6 x7 v18 hh _ _ _ hM (lv_sub hl [2, 3, 4, 5, 6, 7, 8, 9, 0] rfl)
        · replace hh := it_f c16 hh
          refine lv_aload_n hx hb dX1_ends_73 rfl (lv_at hl 1 rfl) ?_
          refine cm_get X hM q379 (cf_0_0 _ _ _) rfl dX1_ends_74 ?_
          refine cm_getN X hM q167 (cf_1_3 _ _ _) rfl dX1_ends_77 ?_
          refine lv_iload hx hb dX1_ends_80 (lv_at hl 9 rfl) ?_
          obtain ⟨g20, hh⟩ := gd_inv hh
          refine cm_aald X hM (by decide) rfl (by decide) rfl g20 dX1_ends_82 ?_
          refine lv_iconst (v := zi 1) hx hb dX1_ends_83 rfl ?_
          refine cm_iald (qz := (11 + 1 + x8)) X hM (cr_11 g20) (by have := g20.1; omega) rfl (by decide) dX1_ends_84 ?_
          refine lv_iconst (v := zi 1) hx hb dX1_ends_85 rfl ?_
          refine g_iadd hx hb dX1_ends_86 ?_
          refine lv_aload_n hx hb dX1_ends_87 rfl (lv_at hl 1 rfl) ?_
          refine cm_get X hM q379 (cf_0_0 _ _ _) rfl dX1_ends_88 ?_
          refine cm_getN X hM q167 (cf_1_3 _ _ _) rfl dX1_ends_91 ?_
          refine lv_iload hx hb dX1_ends_94 (lv_at hl 9 rfl) ?_
          obtain ⟨g21, hh⟩ := gd_inv hh
          refine cm_aald X hM (by decide) rfl (by decide) rfl g21 dX1_ends_96 ?_
          refine lv_iconst (v := zi 1) hx hb dX1_ends_97 rfl ?_
          refine cm_iald (qz := (11 + 1 + x8)) X hM (cr_11 g21) (by have := g21.1; omega) rfl (by decide) dX1_ends_98 ?_
          refine lv_iconst (v := zi 1) hx hb dX1_ends_99 rfl ?_
          refine g_iadd hx hb dX1_ends_100 ?_
          refine g_imul hx hb dX1_ends_101 ?_
          refine g_nmi hx hb (fun v22 e23 => ?_)
          replace hh := nm_inv hh v22 e23
          refine lv_istore (lv' := [(10, .int (zi (v22))), (9, .int (zi (v15))), (0, .ref (hC)), (1, .int (zi (x1))), (2, .int (zi (x2))), (3, .int (zi (x3))), (4, .int (zi (x4))), (5, .int (zi (x5))), (6, .int (zi (x6))), (7, .int (zi (x7))), (8, .int (zi (x8)))]) hx hb dX1_ends_102 hl (by decide) rfl (fun ls hl => ?_)
          refine lv_aload_n hx hb dX1_ends_104 rfl (lv_at hl 2 rfl) ?_
          refine lv_iload hx hb dX1_ends_105 (lv_at hl 10 rfl) ?_
          refine lv_iload_n hx hb dX1_ends_107 rfl (lv_at hl 4 rfl) ?_
          refine lv_iload_n hx hb dX1_ends_108 rfl (lv_at hl 5 rfl) ?_
          refine lv_iload hx hb dX1_ends_109 (lv_at hl 6 rfl) ?_
          obtain ⟨v25, S26, k24, hh⟩ := bd2_inv hh
          refine cc_i (rest := []) X hM (wC_takeOf l DC dA hC S x8 x2 x3 x4 k24) cx_X1_138.1 cx_X1_138.2 ⟨rfl, rfl⟩ ⟨Nat.le_of_ble_eq_true rfl, Nat.le_of_ble_eq_true rfl⟩ ⟨Nat.zero_le _, Nat.zero_le _⟩ hl.1 (Nat.le_of_ble_eq_true rfl) dX1_ends_111 rfl (fun H locs hM => ?_)
          refine lv_istore (lv' := [(11, .int (zi (v25))), (10, .int (zi (v22))), (9, .int (zi (v15))), (0, .ref (hC)), (1, .int (zi (x1))), (2, .int (zi (x2))), (3, .int (zi (x3))), (4, .int (zi (x4))), (5, .int (zi (x5))), (6, .int (zi (x6))), (7, .int (zi (x7))), (8, .int (zi (x8)))]) hx hb dX1_ends_114 hl (by decide) rfl (fun ls hl => ?_)
          refine lv_iload hx hb dX1_ends_116 (lv_at hl 0 rfl) ?_
          refine lv_iload hx hb dX1_ends_118 (lv_at hl 1 rfl) ?_
          refine g_imul hx hb dX1_ends_120 ?_
          refine lv_sipush (v := zi 255) hx hb dX1_ends_121 (by decide) ?_
          refine lv_iload hx hb dX1_ends_124 (lv_at hl 1 rfl) ?_
          refine lv_iload hx hb dX1_ends_126 (lv_at hl 2 rfl) ?_
          refine g_isub hx hb dX1_ends_128 ?_
          refine g_imul hx hb dX1_ends_129 ?_
          refine g_isub hx hb dX1_ends_130 ?_
          refine g_nmi hx hb (fun v27 e28 => ?_)
          replace hh := nm_inv hh v27 e28
          refine lv_istore (lv' := [(12, .int (zi (v27))), (11, .int (zi (v25))), (10, .int (zi (v22))), (9, .int (zi (v15))), (0, .ref (hC)), (1, .int (zi (x1))), (2, .int (zi (x2))), (3, .int (zi (x3))), (4, .int (zi (x4))), (5, .int (zi (x5))), (6, .int (zi (x6))), (7, .int (zi (x7))), (8, .int (zi (x8)))]) hx hb dX1_ends_131 hl (by decide) rfl (fun ls hl => ?_)
          refine lv_iload hx hb dX1_ends_133 (lv_at hl 10 rfl) ?_
          refine lv_iload hx hb dX1_ends_135 (lv_at hl 0 rfl) ?_
          refine g_ineg hx hb dX1_ends_137 ?_
          refine lv_iload hx hb dX1_ends_138 (lv_at hl 3 rfl) ?_
          obtain ⟨v29, k30, hh⟩ := bd_inv hh
          refine ccs_i (rest := [.int (zi (x6))]) X hM (wMa_floorDiv l (-v27) v15 k30) cx_X1_108.1 cx_X1_108.2 ⟨rfl, rfl⟩ ⟨Nat.le_of_ble_eq_true rfl, Nat.le_of_ble_eq_true rfl⟩ ⟨Nat.zero_le _, Nat.zero_le _⟩ hl.1 (Nat.le_of_ble_eq_true rfl) dX1_ends_140 rfl (fun H locs hM => ?_)
          refine g_ineg hx hb dX1_ends_143 ?_
          obtain ⟨v31, k32, hh⟩ := bd_inv hh
          refine ccs_i (rest := []) X hM (wMa_max l x6 (-v29) k32) cx_X1_50.1 cx_X1_50.2 ⟨rfl, rfl⟩ ⟨Nat.le_of_ble_eq_true rfl, Nat.le_of_ble_eq_true rfl⟩ ⟨Nat.zero_le _, Nat.zero_le _⟩ hl.1 (Nat.le_of_ble_eq_true rfl) dX1_ends_144 rfl (fun H locs hM => ?_)
          refine lv_istore (lv' := [(6, .int (zi (v31))), (12, .int (zi (v27))), (11, .int (zi (v25))), (10, .int (zi (v22))), (9, .int (zi (v15))), (0, .ref (hC)), (1, .int (zi (x1))), (2, .int (zi (x2))), (3, .int (zi (x3))), (4, .int (zi (x4))), (5, .int (zi (x5))), (7, .int (zi (x7))), (8, .int (zi (x8)))]) hx hb dX1_ends_147 hl (by decide) rfl (fun ls hl => ?_)
          refine lv_iload hx hb dX1_ends_149 (lv_at hl 11 rfl) ?_
          refine lv_iload hx hb dX1_ends_151 (lv_at hl 2 rfl) ?_
          refine lv_iconst (v := zi 1) hx hb dX1_ends_153 rfl ?_
          refine g_iadd hx hb dX1_ends_154 ?_
          refine lv_iload hx hb dX1_ends_155 (lv_at hl 3 rfl) ?_
          refine g_imul hx hb dX1_ends_157 ?_
          refine lv_iconst (v := zi 1) hx hb dX1_ends_158 rfl ?_
          refine g_isub hx hb dX1_ends_159 ?_
          refine lv_iload hx hb dX1_ends_160 (lv_at hl 4 rfl) ?_
          obtain ⟨g33, hh⟩ := gd_inv hh
          refine g_idiv hx hb g33 dX1_ends_162 ?_
          obtain ⟨v34, k35, hh⟩ := bd_inv hh
          refine ccs_i (rest := []) X hM (wMa_min l x7 (Int.tdiv (((v25 + 1) * v22) - 1) v15) k35) cx_X1_44.1 cx_X1_44.2 ⟨rfl, rfl⟩ ⟨Nat.le_of_ble_eq_true rfl, Nat.le_of_ble_eq_true rfl⟩ ⟨Nat.zero_le _, Nat.zero_le _⟩ hl.1 (Nat.le_of_ble_eq_true rfl) dX1_ends_163 rfl (fun H locs hM => ?_)
          refine lv_istore (lv' := [(7, .int (zi (v34))), (6, .int (zi (v31))), (12, .int (zi (v27))), (11, .int (zi (v25))), (10, .int (zi (v22))), (9, .int (zi (v15))), (0, .ref (hC)), (1, .int (zi (x1))), (2, .int (zi (x2))), (3, .int (zi (x3))), (4, .int (zi (x4))), (5, .int (zi (x5))), (8, .int (zi (x8)))]) hx hb dX1_ends_166 hl (by decide) rfl (fun ls hl => ?_)
          obtain ⟨v36, e37⟩ : ∃ z : Int, z = x8 + 1 := ⟨_, rfl⟩
          replace hh := nm_inv hh v36 e37
          refine lv_iinc (v := zi v36) (lv' := [(8, .int (zi (v36))), (7, .int (zi (v34))), (6, .int (zi (v31))), (12, .int (zi (v27))), (11, .int (zi (v25))), (10, .int (zi (v22))), (9, .int (zi (v15))), (0, .ref (hC)), (1, .int (zi (x1))), (2, .int (zi (x2))), (3, .int (zi (x3))), (4, .int (zi (x4))), (5, .int (zi (x5)))]) hx hb dX1_ends_168 hl (k := 12) rfl (by rw [e37]; exact zi_add _ _) (by decide) rfl (fun ls hl => ?_)
          refine lv_goto (tgt := 42) hx hb dX1_ends_171 (by decide) ?_
          exact hK42 S26 v31 v34 v36 hh _ _ _ hM (lv_sub hl [7, 8, 9, 10, 11, 12, 2, 1, 0] rfl)
      · replace hh := it_f c12 hh
        refine lv_iload hx hb dX1_ends_174 (lv_at hl 5 rfl) ?_
        obtain ⟨g39, hh⟩ := gd_inv hh
        refine g_if_eq (tgt := 184) hx hb g39 dX1_ends_176 (by decide) (fun c38 => ?_) (fun c38 => ?_)
        · replace hh := it_t c38 hh
          refine lv_iload hx hb dX1_ends_184 (lv_at hl 6 rfl) ?_
          exact hret _ _ _ _ _ _ (rt1 hh) (rt2 hh) dX1_ends_186 hM
        · replace hh := it_f c38 hh
          refine lv_iload hx hb dX1_ends_179 (lv_at hl 7 rfl) ?_
          refine lv_goto (tgt := 186) hx hb dX1_ends_181 (by decide) ?_
          exact hret _ _ _ _ _ _ (rt1 hh) (rt2 hh) dX1_ends_186 hM
  replace hl : lv_has ls 13 [(0, .ref (hC)), (1, .int (zi (x1))), (2, .int (zi (x2))), (3, .int (zi (x3))), (4, .int (zi (x4))), (5, .int (zi (x5)))] := hl
  unfold C_ends at hh
  refine lv_iload_n hx hb dX1_ends_0 rfl (lv_at hl 1 rfl) ?_
  obtain ⟨v1, k2, hh⟩ := bd_inv hh
  refine ccs_z (rest := []) X hM (wC_isHead l x1 k2) cx_X1_115.1 cx_X1_115.2 ⟨rfl, rfl⟩ ⟨Nat.le_of_ble_eq_true rfl, Nat.le_of_ble_eq_true rfl⟩ ⟨Nat.zero_le _, Nat.zero_le _⟩ hl.1 (Nat.le_of_ble_eq_true rfl) dX1_ends_1 rfl (fun H locs hM => ?_)
  refine g_bif_eq (tgt := 24) hx hb dX1_ends_4 (by decide) (fun c3 => ?_) (fun c3 => ?_)
  · replace hh := it_t c3 hh
    refine lv_aload_n hx hb dX1_ends_7 rfl (lv_at hl 0 rfl) ?_
    refine lv_iload_n hx hb dX1_ends_8 rfl (lv_at hl 2 rfl) ?_
    refine lv_iload_n hx hb dX1_ends_9 rfl (lv_at hl 3 rfl) ?_
    obtain ⟨v5, k4, hh⟩ := bd_inv hh
    refine cc_z (rest := []) X hM (wC_isPlace l DC dA hC S x2 x3 k4) cx_X1_111.1 cx_X1_111.2 ⟨rfl, rfl⟩ ⟨Nat.le_of_ble_eq_true rfl, Nat.le_of_ble_eq_true rfl⟩ ⟨Nat.zero_le _, Nat.zero_le _⟩ hl.1 (Nat.le_of_ble_eq_true rfl) dX1_ends_10 rfl (fun H locs hM => ?_)
    refine g_bif_eq (tgt := 24) hx hb dX1_ends_13 (by decide) (fun c6 => ?_) (fun c6 => ?_)
    · replace hh := it_t c6 hh
      refine lv_iload hx hb dX1_ends_16 (lv_at hl 4 rfl) ?_
      obtain ⟨v7, k8, hh⟩ := bd_inv hh
      refine ccs_z (rest := []) X hM (wC_isHead l x4 k8) cx_X1_115.1 cx_X1_115.2 ⟨rfl, rfl⟩ ⟨Nat.le_of_ble_eq_true rfl, Nat.le_of_ble_eq_true rfl⟩ ⟨Nat.zero_le _, Nat.zero_le _⟩ hl.1 (Nat.le_of_ble_eq_true rfl) dX1_ends_18 rfl (fun H locs hM => ?_)
      refine g_bif_ne (tgt := 26) hx hb dX1_ends_21 (by decide) (fun c9 => ?_) (fun c9 => ?_)
      · replace hh := it_t c9 hh
        refine lv_aload_n hx hb dX1_ends_26 rfl (lv_at hl 0 rfl) ?_
        refine lv_iconst (v := zi 0) hx hb dX1_ends_27 rfl ?_
        obtain ⟨S11, k10, hh⟩ := bd_inv hh
        refine cc_v (rest := []) X hM (wC_lays l DC dA hC S (0 : Int) k10) cx_X1_94.1 cx_X1_94.2 ⟨rfl, rfl⟩ ⟨Nat.le_of_ble_eq_true rfl, Nat.le_of_ble_eq_true rfl⟩ ⟨Nat.zero_le _, Nat.zero_le _⟩ hl.1 (Nat.le_of_ble_eq_true rfl) dX1_ends_28 rfl (fun H locs hM => ?_)
        refine lv_iconst (v := zi 0) hx hb dX1_ends_31 rfl ?_
        refine lv_istore (lv' := [(6, .int (zi (0))), (0, .ref (hC)), (1, .int (zi (x1))), (2, .int (zi (x2))), (3, .int (zi (x3))), (4, .int (zi (x4))), (5, .int (zi (x5)))]) hx hb dX1_ends_32 hl (by decide) rfl (fun ls hl => ?_)
        refine lv_sipush (v := zi 255) hx hb dX1_ends_34 (by decide) ?_
        refine lv_istore (lv' := [(7, .int (zi (255))), (6, .int (zi (0))), (0, .ref (hC)), (1, .int (zi (x1))), (2, .int (zi (x2))), (3, .int (zi (x3))), (4, .int (zi (x4))), (5, .int (zi (x5)))]) hx hb dX1_ends_37 hl (by decide) rfl (fun ls hl => ?_)
        refine lv_iconst (v := zi 0) hx hb dX1_ends_39 rfl ?_
        refine lv_istore (lv' := [(8, .int (zi (0))), (7, .int (zi (255))), (6, .int (zi (0))), (0, .ref (hC)), (1, .int (zi (x1))), (2, .int (zi (x2))), (3, .int (zi (x3))), (4, .int (zi (x4))), (5, .int (zi (x5)))]) hx hb dX1_ends_40 hl (by decide) rfl (fun ls hl => ?_)
        exact hL42 x1 x2 x3 x4 x5 FU S11 (0 : Int) (255 : Int) (0 : Int) hh _ _ _ hM (lv_sub hl [3, 4, 5, 6, 7, 8, 2, 1, 0] rfl)
      · replace hh := it_f c9 hh
        refine lv_iconst (v := zi (-1)) hx hb dX1_ends_24 rfl ?_
        exact hret _ _ _ _ _ _ (rt1 hh) (rt2 hh) dX1_ends_25 hM
    · replace hh := it_f c6 hh
      refine lv_iconst (v := zi (-1)) hx hb dX1_ends_24 rfl ?_
      exact hret _ _ _ _ _ _ (rt1 hh) (rt2 hh) dX1_ends_25 hM
  · replace hh := it_f c3 hh
    refine lv_iconst (v := zi (-1)) hx hb dX1_ends_24 rfl ?_
    exact hret _ _ _ _ _ _ (rt1 hh) (rt2 hh) dX1_ends_25 hM
def C_width_b48 (x1 : Int) (x2 : Int) (x3 : Int) (x4 : Int) (x5 : Int) (K48 : yS → Int → Int → Int → Option (Int × yS)) (S : yS) (x6 : Int) (x7 : Int) (x8 : Int) : Option (Int × yS) := gd (r32 (x8)) (if x8 ≤ 7 then (bd2 (C_takeOf_2 S x1 x8 x3 x4 x5) (fun v18 S19 => bd2 (C_takeOf_2 S19 x2 x8 x3 x4 x5) (fun v21 S22 => bd (Ma_abs (v18 - v21)) (fun v23 => gd (r32 (v23) ∧ r32 (x7)) (if v23 ≤ x7 then (nm ((x8 + 1) : Int) (fun v27 => K48 S22 x6 x7 v27)) else (nm ((x8 + 1) : Int) (fun v29 => K48 S22 x8 v23 v29))))))) else (some ((x6 : Int), S)))
def C_width_L48 (x1 : Int) (x2 : Int) (x3 : Int) (x4 : Int) (x5 : Int) : Nat → yS → Int → Int → Int → Option (Int × yS)
  | 0 => fun _ _ _ _ => none
  | n + 1 => fun S x6 x7 x8 => C_width_b48 x1 x2 x3 x4 x5 (C_width_L48 x1 x2 x3 x4 x5 n) S x6 x7 x8
def C_width (S : yS) (x1 : Int) (x2 : Int) (x3 : Int) (x4 : Int) (x5 : Int) : Option (Int × yS) := bd (C_isHead x1) (fun v1 => if v1 = true then (bd (C_isHead x2) (fun v4 => if v4 = true then (bd (C_isPlace S x3 x4) (fun v8 => if v8 = true then (bd (C_isHead x5) (fun v10 => if v10 = true then (bd (C_lays S (0 : Int)) (fun S14 => C_width_L48 x1 x2 x3 x4 x5 FU S14 ((-1) : Int) ((-1) : Int) (0 : Int))) else (some (((-1) : Int), S)))) else (some (((-1) : Int), S)))) else (some (((-1) : Int), S)))) else (some (((-1) : Int), S)))
set_option maxHeartbeats 4000000 in
theorem wC_width (l : Launch) (DC : va_G) (dA : Nat → ClassId) (hC : Nat) (S : yS) (x1 x2 x3 x4 x5 : Int) {r : Int} {S1 : yS} (hh : C_width S x1 x2 x3 x4 x5 = some (r, S1)) : ct_i l yX1_width cX1_width 10 (some .int) ({ frames := 4, cells := 0, slots := 0, locals := 116 } : Room) DC dA hC [.ref hC, .int (zi x1), .int (zi x2), .int (zi x3), .int (zi x4), .int (zi x5)] S r S1 := by
  refine co_i (by decide) (Nat.le_of_ble_eq_true rfl) ?_
  intro p e s m args below meth c Q ls X hret hl hM
  have hx := X.1.1
  have hb := X.1.2.1
  have hown := X.1.2.2.2.1
  have hts := X.1.2.2.2.2
  have hL48 : ∀ (x1 : Int) (x2 : Int) (x3 : Int) (x4 : Int) (x5 : Int) (n : Nat) (S : yS) (x6 : Int) (x7 : Int) (x8 : Int), C_width_L48 x1 x2 x3 x4 x5 n S x6 x7 x8 = some (r, S1) → ∀ (H : Heap) (locs : List Loc) (ls : Array Slot), CX DC dA hC (cA hC) S s H locs → lv_has ls 10 [(0, .ref (hC)), (1, .int (zi (x1))), (2, .int (zi (x2))), (3, .int (zi (x3))), (4, .int (zi (x4))), (5, .int (zi (x5))), (6, .int (zi (x6))), (7, .int (zi (x7))), (8, .int (zi (x8)))] → W p l e ({ frames := 4, cells := 0, slots := 0, locals := 116 } : Room) s m args below meth c H locs 0 0 Q (F0 m 48 ls []) := by
    intro x1 x2 x3 x4 x5  n
    induction n with
    | zero => intro S x6 x7 x8 hh; exact no_some hh
    | succ n ih =>
      intro S x6 x7 x8 hh H locs ls hM hl
      replace hh : C_width_b48 x1 x2 x3 x4 x5 (C_width_L48 x1 x2 x3 x4 x5 n) S x6 x7 x8 = some (r, S1) := hh
      unfold C_width_b48 at hh
      have hK48 := ih
      refine lv_iload hx hb dX1_width_48 (lv_at hl 8 rfl) ?_
      refine lv_bipush (v := zi 7) hx hb dX1_width_50 (by decide) ?_
      obtain ⟨g16, hh⟩ := gd_inv hh
      refine g_icmp_gt (tgt := 109) hx hb ⟨g16, by decide⟩ dX1_width_52 (by decide) (fun c15 => ?_) (fun c15 => ?_)
      · replace hh := it_t c15 hh
        refine lv_aload_n hx hb dX1_width_55 rfl (lv_at hl 0 rfl) ?_
        refine lv_iload_n hx hb dX1_width_56 rfl (lv_at hl 1 rfl) ?_
        refine lv_iload hx hb dX1_width_57 (lv_at hl 8 rfl) ?_
        refine lv_iload_n hx hb dX1_width_59 rfl (lv_at hl 3 rfl) ?_
        refine lv_iload hx hb dX1_width_60 (lv_at hl 4 rfl) ?_
        refine lv_iload hx hb dX1_width_62 (lv_at hl 5 rfl) ?_
        obtain ⟨v18, S19, k17, hh⟩ := bd2_inv hh
        refine cc_i (rest := []) X hM (wC_takeOf_2 l DC dA hC S x1 x8 x3 x4 x5 k17) cx_X1_131.1 cx_X1_131.2 ⟨rfl, rfl⟩ ⟨Nat.le_of_ble_eq_true rfl, Nat.le_of_ble_eq_true rfl⟩ ⟨Nat.zero_le _, Nat.zero_le _⟩ hl.1 (Nat.le_of_ble_eq_true rfl) dX1_width_64 rfl (fun H locs hM => ?_)
        refine lv_aload_n hx hb dX1_width_67 rfl (lv_at hl 0 rfl) ?_
        refine lv_iload_n hx hb dX1_width_68 rfl (lv_at hl 2 rfl) ?_
        refine lv_iload hx hb dX1_width_69 (lv_at hl 8 rfl) ?_
        refine lv_iload_n hx hb dX1_width_71 rfl (lv_at hl 3 rfl) ?_
        refine lv_iload hx hb dX1_width_72 (lv_at hl 4 rfl) ?_
        refine lv_iload hx hb dX1_width_74 (lv_at hl 5 rfl) ?_
        obtain ⟨v21, S22, k20, hh⟩ := bd2_inv hh
        refine cc_i (rest := [.int (zi (v18))]) X hM (wC_takeOf_2 l DC dA hC S19 x2 x8 x3 x4 x5 k20) cx_X1_131.1 cx_X1_131.2 ⟨rfl, rfl⟩ ⟨Nat.le_of_ble_eq_true rfl, Nat.le_of_ble_eq_true rfl⟩ ⟨Nat.zero_le _, Nat.zero_le _⟩ hl.1 (Nat.le_of_ble_eq_true rfl) dX1_width_76 rfl (fun H locs hM => ?_)
        refine g_isub hx hb dX1_width_79 ?_
        obtain ⟨v23, k24, hh⟩ := bd_inv hh
        refine ccs_i (rest := []) X hM (wMa_abs l (v18 - v21) k24) cx_X1_125.1 cx_X1_125.2 ⟨rfl, rfl⟩ ⟨Nat.le_of_ble_eq_true rfl, Nat.le_of_ble_eq_true rfl⟩ ⟨Nat.zero_le _, Nat.zero_le _⟩ hl.1 (Nat.le_of_ble_eq_true rfl) dX1_width_80 rfl (fun H locs hM => ?_)
        refine lv_istore (lv' := [(9, .int (zi (v23))), (0, .ref (hC)), (1, .int (zi (x1))), (2, .int (zi (x2))), (3, .int (zi (x3))), (4, .int (zi (x4))), (5, .int (zi (x5))), (6, .int (zi (x6))), (7, .int (zi (x7))), (8, .int (zi (x8)))]) hx hb dX1_width_83 hl (by decide) rfl (fun ls hl => ?_)
        refine lv_iload hx hb dX1_width_85 (lv_at hl 0 rfl) ?_
        refine lv_iload hx hb dX1_width_87 (lv_at hl 8 rfl) ?_
        obtain ⟨g26, hh⟩ := gd_inv hh
        refine g_icmp_gt (tgt := 95) hx hb g26 dX1_width_89 (by decide) (fun c25 => ?_) (fun c25 => ?_)
        · replace hh := it_t c25 hh
          refine lv_goto (tgt := 103) hx hb dX1_width_92 (by decide) ?_
          obtain ⟨v27, e28⟩ : ∃ z : Int, z = x8 + 1 := ⟨_, rfl⟩
          replace hh := nm_inv hh v27 e28
          refine lv_iinc (v := zi v27) (lv' := [(8, .int (zi (v27))), (9, .int (zi (v23))), (0, .ref (hC)), (1, .int (zi (x1))), (2, .int (zi (x2))), (3, .int (zi (x3))), (4, .int (zi (x4))), (5, .int (zi (x5))), (6, .int (zi (x6))), (7, .int (zi (x7)))]) hx hb dX1_width_103 hl (k := 9) rfl (by rw [e28]; exact zi_add _ _) (by decide) rfl (fun ls hl => ?_)
          refine lv_goto (tgt := 48) hx hb dX1_width_106 (by decide) ?_
          exact hK48 S22 x6 x7 v27 hh _ _ _ hM (lv_sub hl [2, 3, 4, 5, 6, 7, 8, 9, 0] rfl)
        · replace hh := it_f c25 hh
          refine lv_iload hx hb dX1_width_95 (lv_at hl 0 rfl) ?_
          refine lv_istore (lv' := [(7, .int (zi (v23))), (9, .int (zi (v23))), (0, .ref (hC)), (1, .int (zi (x1))), (2, .int (zi (x2))), (3, .int (zi (x3))), (4, .int (zi (x4))), (5, .int (zi (x5))), (6, .int (zi (x6))), (8, .int (zi (x8)))]) hx hb dX1_width_97 hl (by decide) rfl (fun ls hl => ?_)
          refine lv_iload hx hb dX1_width_99 (lv_at hl 9 rfl) ?_
          refine lv_istore (lv' := [(6, .int (zi (x8))), (7, .int (zi (v23))), (9, .int (zi (v23))), (0, .ref (hC)), (1, .int (zi (x1))), (2, .int (zi (x2))), (3, .int (zi (x3))), (4, .int (zi (x4))), (5, .int (zi (x5))), (8, .int (zi (x8)))]) hx hb dX1_width_101 hl (by decide) rfl (fun ls hl => ?_)
          obtain ⟨v29, e30⟩ : ∃ z : Int, z = x8 + 1 := ⟨_, rfl⟩
          replace hh := nm_inv hh v29 e30
          refine lv_iinc (v := zi v29) (lv' := [(8, .int (zi (v29))), (6, .int (zi (x8))), (7, .int (zi (v23))), (9, .int (zi (v23))), (0, .ref (hC)), (1, .int (zi (x1))), (2, .int (zi (x2))), (3, .int (zi (x3))), (4, .int (zi (x4))), (5, .int (zi (x5)))]) hx hb dX1_width_103 hl (k := 9) rfl (by rw [e30]; exact zi_add _ _) (by decide) rfl (fun ls hl => ?_)
          refine lv_goto (tgt := 48) hx hb dX1_width_106 (by decide) ?_
          exact hK48 S22 x8 v23 v29 hh _ _ _ hM (lv_sub hl [4, 5, 6, 7, 8, 9, 1, 2, 0] rfl)
      · replace hh := it_f c15 hh
        refine lv_iload hx hb dX1_width_109 (lv_at hl 6 rfl) ?_
        exact hret _ _ _ _ _ _ (rt1 hh) (rt2 hh) dX1_width_111 hM
  replace hl : lv_has ls 10 [(0, .ref (hC)), (1, .int (zi (x1))), (2, .int (zi (x2))), (3, .int (zi (x3))), (4, .int (zi (x4))), (5, .int (zi (x5)))] := hl
  unfold C_width at hh
  refine lv_iload_n hx hb dX1_width_0 rfl (lv_at hl 1 rfl) ?_
  obtain ⟨v1, k2, hh⟩ := bd_inv hh
  refine ccs_z (rest := []) X hM (wC_isHead l x1 k2) cx_X1_115.1 cx_X1_115.2 ⟨rfl, rfl⟩ ⟨Nat.le_of_ble_eq_true rfl, Nat.le_of_ble_eq_true rfl⟩ ⟨Nat.zero_le _, Nat.zero_le _⟩ hl.1 (Nat.le_of_ble_eq_true rfl) dX1_width_1 rfl (fun H locs hM => ?_)
  refine g_bif_eq (tgt := 32) hx hb dX1_width_4 (by decide) (fun c3 => ?_) (fun c3 => ?_)
  · replace hh := it_t c3 hh
    refine lv_iload_n hx hb dX1_width_7 rfl (lv_at hl 2 rfl) ?_
    obtain ⟨v4, k5, hh⟩ := bd_inv hh
    refine ccs_z (rest := []) X hM (wC_isHead l x2 k5) cx_X1_115.1 cx_X1_115.2 ⟨rfl, rfl⟩ ⟨Nat.le_of_ble_eq_true rfl, Nat.le_of_ble_eq_true rfl⟩ ⟨Nat.zero_le _, Nat.zero_le _⟩ hl.1 (Nat.le_of_ble_eq_true rfl) dX1_width_8 rfl (fun H locs hM => ?_)
    refine g_bif_eq (tgt := 32) hx hb dX1_width_11 (by decide) (fun c6 => ?_) (fun c6 => ?_)
    · replace hh := it_t c6 hh
      refine lv_aload_n hx hb dX1_width_14 rfl (lv_at hl 0 rfl) ?_
      refine lv_iload_n hx hb dX1_width_15 rfl (lv_at hl 3 rfl) ?_
      refine lv_iload hx hb dX1_width_16 (lv_at hl 4 rfl) ?_
      obtain ⟨v8, k7, hh⟩ := bd_inv hh
      refine cc_z (rest := []) X hM (wC_isPlace l DC dA hC S x3 x4 k7) cx_X1_111.1 cx_X1_111.2 ⟨rfl, rfl⟩ ⟨Nat.le_of_ble_eq_true rfl, Nat.le_of_ble_eq_true rfl⟩ ⟨Nat.zero_le _, Nat.zero_le _⟩ hl.1 (Nat.le_of_ble_eq_true rfl) dX1_width_18 rfl (fun H locs hM => ?_)
      refine g_bif_eq (tgt := 32) hx hb dX1_width_21 (by decide) (fun c9 => ?_) (fun c9 => ?_)
      · replace hh := it_t c9 hh
        refine lv_iload hx hb dX1_width_24 (lv_at hl 5 rfl) ?_
        obtain ⟨v10, k11, hh⟩ := bd_inv hh
        refine ccs_z (rest := []) X hM (wC_isHead l x5 k11) cx_X1_115.1 cx_X1_115.2 ⟨rfl, rfl⟩ ⟨Nat.le_of_ble_eq_true rfl, Nat.le_of_ble_eq_true rfl⟩ ⟨Nat.zero_le _, Nat.zero_le _⟩ hl.1 (Nat.le_of_ble_eq_true rfl) dX1_width_26 rfl (fun H locs hM => ?_)
        refine g_bif_ne (tgt := 34) hx hb dX1_width_29 (by decide) (fun c12 => ?_) (fun c12 => ?_)
        · replace hh := it_t c12 hh
          refine lv_aload_n hx hb dX1_width_34 rfl (lv_at hl 0 rfl) ?_
          refine lv_iconst (v := zi 0) hx hb dX1_width_35 rfl ?_
          obtain ⟨S14, k13, hh⟩ := bd_inv hh
          refine cc_v (rest := []) X hM (wC_lays l DC dA hC S (0 : Int) k13) cx_X1_94.1 cx_X1_94.2 ⟨rfl, rfl⟩ ⟨Nat.le_of_ble_eq_true rfl, Nat.le_of_ble_eq_true rfl⟩ ⟨Nat.zero_le _, Nat.zero_le _⟩ hl.1 (Nat.le_of_ble_eq_true rfl) dX1_width_36 rfl (fun H locs hM => ?_)
          refine lv_iconst (v := zi (-1)) hx hb dX1_width_39 rfl ?_
          refine lv_istore (lv' := [(6, .int (zi ((-1)))), (0, .ref (hC)), (1, .int (zi (x1))), (2, .int (zi (x2))), (3, .int (zi (x3))), (4, .int (zi (x4))), (5, .int (zi (x5)))]) hx hb dX1_width_40 hl (by decide) rfl (fun ls hl => ?_)
          refine lv_iconst (v := zi (-1)) hx hb dX1_width_42 rfl ?_
          refine lv_istore (lv' := [(7, .int (zi ((-1)))), (6, .int (zi ((-1)))), (0, .ref (hC)), (1, .int (zi (x1))), (2, .int (zi (x2))), (3, .int (zi (x3))), (4, .int (zi (x4))), (5, .int (zi (x5)))]) hx hb dX1_width_43 hl (by decide) rfl (fun ls hl => ?_)
          refine lv_iconst (v := zi 0) hx hb dX1_width_45 rfl ?_
          refine lv_istore (lv' := [(8, .int (zi (0))), (7, .int (zi ((-1)))), (6, .int (zi ((-1)))), (0, .ref (hC)), (1, .int (zi (x1))), (2, .int (zi (x2))), (3, .int (zi (x3))), (4, .int (zi (x4))), (5, .int (zi (x5)))]) hx hb dX1_width_46 hl (by decide) rfl (fun ls hl => ?_)
          exact hL48 x1 x2 x3 x4 x5 FU S14 ((-1) : Int) ((-1) : Int) (0 : Int) hh _ _ _ hM (lv_sub hl [3, 4, 5, 6, 7, 8, 2, 1, 0] rfl)
        · replace hh := it_f c12 hh
          refine lv_iconst (v := zi (-1)) hx hb dX1_width_32 rfl ?_
          exact hret _ _ _ _ _ _ (rt1 hh) (rt2 hh) dX1_width_33 hM
      · replace hh := it_f c9 hh
        refine lv_iconst (v := zi (-1)) hx hb dX1_width_32 rfl ?_
        exact hret _ _ _ _ _ _ (rt1 hh) (rt2 hh) dX1_width_33 hM
    · replace hh := it_f c6 hh
      refine lv_iconst (v := zi (-1)) hx hb dX1_width_32 rfl ?_
      exact hret _ _ _ _ _ _ (rt1 hh) (rt2 hh) dX1_width_33 hM
  · replace hh := it_f c3 hh
    refine lv_iconst (v := zi (-1)) hx hb dX1_width_32 rfl ?_
    exact hret _ _ _ _ _ _ (rt1 hh) (rt2 hh) dX1_width_33 hM
def C_same_b202 (x4 : Int) (x5 : Int) (x6 : Int) (K202 : yS → Int → Option (Int × yS)) (S : yS) (x11 : Int) : Option (Int × yS) := gd (r32 (x11) ∧ r32 (S.2 2 1)) (if x11 < (S.2 2 1) then (gd ((0 : Int) ≤ x11 ∧ (x11 : Int) < 16) (bd2 (C_takeOf S x11 x4 x5 x6) (fun v53 S54 => gd (r32 (S.2 473 x11) ∧ r32 (v53)) (if (S.2 473 x11) = v53 then (nm ((x11 + 1) : Int) (fun v57 => K202 S54 v57)) else (some ((0 : Int), S54)))))) else (some ((1 : Int), S)))
def C_same_L202 (x4 : Int) (x5 : Int) (x6 : Int) : Nat → yS → Int → Option (Int × yS)
  | 0 => fun _ _ => none
  | n + 1 => fun S x11 => C_same_b202 x4 x5 x6 (C_same_L202 x4 x5 x6 n) S x11
def C_same_b129 (x1 : Int) (x4 : Int) (x5 : Int) (x6 : Int) (x8 : Int) (x9 : Int) (K129 : yS → Int → Option (Int × yS)) (S : yS) (x10 : Int) : Option (Int × yS) := gd (r32 (x10) ∧ r32 (S.2 2 1)) (if x10 < (S.2 2 1) then (bd2 (C_takeOf S x10 x4 x5 x6) (fun v34 S35 => gd ((0 : Int) ≤ x10 ∧ (x10 : Int) < 16) (nm (cas S35 473 x10 v34) (fun S37 => nm ((x10 + 1) : Int) (fun v39 => K129 S37 v39))))) else (nm (S.2 (4 + 1 + x1) 0) (fun v41 => nm (cas S (4 + 1 + x1) (0 : Int) ((x9 * (S.1 2)) + x8)) (fun S43 => bd (C_lays S43 (0 : Int)) (fun S46 => nm (cas S46 (4 + 1 + x1) (0 : Int) v41) (fun S47 => C_same_L202 x4 x5 x6 FU S47 (0 : Int)))))))
def C_same_L129 (x1 : Int) (x4 : Int) (x5 : Int) (x6 : Int) (x8 : Int) (x9 : Int) : Nat → yS → Int → Option (Int × yS)
  | 0 => fun _ _ => none
  | n + 1 => fun S x10 => C_same_b129 x1 x4 x5 x6 x8 x9 (C_same_L129 x1 x4 x5 x6 x8 x9 n) S x10
def C_same (S : yS) (x1 : Int) (x2 : Int) (x3 : Int) (x4 : Int) (x5 : Int) (x6 : Int) : Option (Int × yS) := bd (C_isOne S (0 : Int) x1) (fun v2 => if v2 = true then (bd (C_isPlace S x4 x5) (fun v5 => if v5 = true then (bd (C_isHead x6) (fun v7 => if v7 = true then (bd (C_in x2 ((-24) : Int) (24 : Int)) (fun v10 => if v10 = true then (bd (C_in x3 ((-24) : Int) (24 : Int)) (fun v13 => if v13 = true then (gd ((0 : Int) ≤ x1 ∧ (x1 : Int) < 6) (gd (r32 (S.2 (4 + 1 + x1) 0) ∧ r32 (S.1 2) ∧ (S.1 2 : Int) ≠ 0) (nm ((Int.tmod (S.2 (4 + 1 + x1) 0) (S.1 2)) + x2) (fun v18 => gd (r32 (S.2 (4 + 1 + x1) 0) ∧ r32 (S.1 2) ∧ (S.1 2 : Int) ≠ 0) (nm ((Int.tdiv (S.2 (4 + 1 + x1) 0) (S.1 2)) + x3) (fun v21 => bd (C_in v18 (0 : Int) ((S.1 2) - 1)) (fun v23 => if v23 = true then (bd (C_in v21 (0 : Int) ((S.1 3) - 1)) (fun v26 => if v26 = true then (bd (C_lays S (0 : Int)) (fun S30 => C_same_L129 x1 x4 x5 x6 v18 v21 FU S30 (0 : Int))) else (some (((-1) : Int), S)))) else (some (((-1) : Int), S))))))))) else (some (((-1) : Int), S)))) else (some (((-1) : Int), S)))) else (some (((-1) : Int), S)))) else (some (((-1) : Int), S)))) else (some (((-1) : Int), S)))
set_option maxHeartbeats 4000000 in
theorem wC_same (l : Launch) (DC : va_G) (dA : Nat → ClassId) (hC : Nat) (S : yS) (x1 x2 x3 x4 x5 x6 : Int) {r : Int} {S1 : yS} (hh : C_same S x1 x2 x3 x4 x5 x6 = some (r, S1)) : ct_i l yX1_same cX1_same 12 (some .int) ({ frames := 5, cells := 0, slots := 0, locals := 140 } : Room) DC dA hC [.ref hC, .int (zi x1), .int (zi x2), .int (zi x3), .int (zi x4), .int (zi x5), .int (zi x6)] S r S1 := by
  refine co_i (by decide) (Nat.le_of_ble_eq_true rfl) ?_
  intro p e s m args below meth c Q ls X hret hl hM
  have hx := X.1.1
  have hb := X.1.2.1
  have hown := X.1.2.2.2.1
  have hts := X.1.2.2.2.2
  have hL202 : ∀ (x4 : Int) (x5 : Int) (x6 : Int) (n : Nat) (S : yS) (x11 : Int), C_same_L202 x4 x5 x6 n S x11 = some (r, S1) → ∀ (H : Heap) (locs : List Loc) (ls : Array Slot), CX DC dA hC (cA hC) S s H locs → lv_has ls 12 [(0, .ref (hC)), (4, .int (zi (x4))), (5, .int (zi (x5))), (6, .int (zi (x6))), (11, .int (zi (x11)))] → W p l e ({ frames := 5, cells := 0, slots := 0, locals := 140 } : Room) s m args below meth c H locs 0 0 Q (F0 m 202 ls []) := by
    intro x4 x5 x6  n
    induction n with
    | zero => intro S x11 hh; exact no_some hh
    | succ n ih =>
      intro S x11 hh H locs ls hM hl
      replace hh : C_same_b202 x4 x5 x6 (C_same_L202 x4 x5 x6 n) S x11 = some (r, S1) := hh
      unfold C_same_b202 at hh
      have hK202 := ih
      refine lv_iload hx hb dX1_same_202 (lv_at hl 4 rfl) ?_
      refine lv_aload_n hx hb dX1_same_204 rfl (lv_at hl 0 rfl) ?_
      refine cm_get X hM q379 (cf_0_0 _ _ _) rfl dX1_same_205 ?_
      refine cm_getN X hM q161 (cf_1_0 _ _ _) rfl dX1_same_208 ?_
      refine lv_iconst (v := zi 1) hx hb dX1_same_211 rfl ?_
      refine cm_iald (qz := 2) X hM ci_2 rfl rfl (by decide) dX1_same_212 ?_
      obtain ⟨g50, hh⟩ := gd_inv hh
      refine g_icmp_ge (tgt := 246) hx hb g50 dX1_same_213 (by decide) (fun c49 => ?_) (fun c49 => ?_)
      · replace hh := it_t c49 hh
        refine lv_aload_n hx hb dX1_same_216 rfl (lv_at hl 0 rfl) ?_
        refine cm_get X hM q389 (cf_0_10 _ _ _) rfl dX1_same_217 ?_
        refine lv_iload hx hb dX1_same_220 (lv_at hl 4 rfl) ?_
        obtain ⟨g51, hh⟩ := gd_inv hh
        refine cm_iald (qz := 473) X hM ci_473 rfl rfl g51 dX1_same_222 ?_
        refine lv_aload_n hx hb dX1_same_223 rfl (lv_at hl 0 rfl) ?_
        refine lv_iload hx hb dX1_same_224 (lv_at hl 4 rfl) ?_
        refine lv_iload hx hb dX1_same_226 (lv_at hl 1 rfl) ?_
        refine lv_iload hx hb dX1_same_228 (lv_at hl 2 rfl) ?_
        refine lv_iload hx hb dX1_same_230 (lv_at hl 3 rfl) ?_
        obtain ⟨v53, S54, k52, hh⟩ := bd2_inv hh
        refine cc_i (rest := [.int (zi (S.2 473 x11))]) X hM (wC_takeOf l DC dA hC S x11 x4 x5 x6 k52) cx_X1_138.1 cx_X1_138.2 ⟨rfl, rfl⟩ ⟨Nat.le_of_ble_eq_true rfl, Nat.le_of_ble_eq_true rfl⟩ ⟨Nat.zero_le _, Nat.zero_le _⟩ hl.1 (Nat.le_of_ble_eq_true rfl) dX1_same_232 rfl (fun H locs hM => ?_)
        obtain ⟨g56, hh⟩ := gd_inv hh
        refine g_icmp_eq (tgt := 240) hx hb g56 dX1_same_235 (by decide) (fun c55 => ?_) (fun c55 => ?_)
        · replace hh := it_t c55 hh
          obtain ⟨v57, e58⟩ : ∃ z : Int, z = x11 + 1 := ⟨_, rfl⟩
          replace hh := nm_inv hh v57 e58
          refine lv_iinc (v := zi v57) (lv' := [(11, .int (zi (v57))), (0, .ref (hC)), (4, .int (zi (x4))), (5, .int (zi (x5))), (6, .int (zi (x6)))]) hx hb dX1_same_240 hl (k := 4) rfl (by rw [e58]; exact zi_add _ _) (by decide) rfl (fun ls hl => ?_)
          refine lv_goto (tgt := 202) hx hb dX1_same_243 (by decide) ?_
          exact hK202 S54 v57 hh _ _ _ hM (lv_sub hl [1, 2, 3, 4, 0] rfl)
        · replace hh := it_f c55 hh
          refine lv_iconst (v := zi 0) hx hb dX1_same_238 rfl ?_
          exact hret _ _ _ _ _ _ (rt1 hh) (rt2 hh) dX1_same_239 hM
      · replace hh := it_f c49 hh
        refine lv_iconst (v := zi 1) hx hb dX1_same_246 rfl ?_
        exact hret _ _ _ _ _ _ (rt1 hh) (rt2 hh) dX1_same_247 hM
  have hL129 : ∀ (x1 : Int) (x4 : Int) (x5 : Int) (x6 : Int) (x8 : Int) (x9 : Int) (gv_x1 : (0 : Int) ≤ x1 ∧ x1 < 6) (n : Nat) (S : yS) (x10 : Int), C_same_L129 x1 x4 x5 x6 x8 x9 n S x10 = some (r, S1) → ∀ (H : Heap) (locs : List Loc) (ls : Array Slot), CX DC dA hC (cA hC) S s H locs → lv_has ls 12 [(0, .ref (hC)), (4, .int (zi (x4))), (5, .int (zi (x5))), (6, .int (zi (x6))), (7, .ref (hC + (4 + 1 + Int.toNat x1))), (8, .int (zi (x8))), (9, .int (zi (x9))), (10, .int (zi (x10)))] → W p l e ({ frames := 5, cells := 0, slots := 0, locals := 140 } : Room) s m args below meth c H locs 0 0 Q (F0 m 129 ls []) := by
    intro x1 x4 x5 x6 x8 x9 gv_x1 n
    induction n with
    | zero => intro S x10 hh; exact no_some hh
    | succ n ih =>
      intro S x10 hh H locs ls hM hl
      replace hh : C_same_b129 x1 x4 x5 x6 x8 x9 (C_same_L129 x1 x4 x5 x6 x8 x9 n) S x10 = some (r, S1) := hh
      unfold C_same_b129 at hh
      have hK129 := ih
      refine lv_iload hx hb dX1_same_129 (lv_at hl 7 rfl) ?_
      refine lv_aload_n hx hb dX1_same_131 rfl (lv_at hl 0 rfl) ?_
      refine cm_get X hM q379 (cf_0_0 _ _ _) rfl dX1_same_132 ?_
      refine cm_getN X hM q161 (cf_1_0 _ _ _) rfl dX1_same_135 ?_
      refine lv_iconst (v := zi 1) hx hb dX1_same_138 rfl ?_
      refine cm_iald (qz := 2) X hM ci_2 rfl rfl (by decide) dX1_same_139 ?_
      obtain ⟨g32, hh⟩ := gd_inv hh
      refine g_icmp_ge (tgt := 168) hx hb g32 dX1_same_140 (by decide) (fun c31 => ?_) (fun c31 => ?_)
      · replace hh := it_t c31 hh
        refine lv_aload_n hx hb dX1_same_143 rfl (lv_at hl 0 rfl) ?_
        refine cm_get X hM q389 (cf_0_10 _ _ _) rfl dX1_same_144 ?_
        refine lv_iload hx hb dX1_same_147 (lv_at hl 7 rfl) ?_
        refine lv_aload_n hx hb dX1_same_149 rfl (lv_at hl 0 rfl) ?_
        refine lv_iload hx hb dX1_same_150 (lv_at hl 7 rfl) ?_
        refine lv_iload hx hb dX1_same_152 (lv_at hl 1 rfl) ?_
        refine lv_iload hx hb dX1_same_154 (lv_at hl 2 rfl) ?_
        refine lv_iload hx hb dX1_same_156 (lv_at hl 3 rfl) ?_
        obtain ⟨v34, S35, k33, hh⟩ := bd2_inv hh
        refine cc_i (rest := [.int (zi (x10)), .ref (hC + 473)]) X hM (wC_takeOf l DC dA hC S x10 x4 x5 x6 k33) cx_X1_138.1 cx_X1_138.2 ⟨rfl, rfl⟩ ⟨Nat.le_of_ble_eq_true rfl, Nat.le_of_ble_eq_true rfl⟩ ⟨Nat.zero_le _, Nat.zero_le _⟩ hl.1 (Nat.le_of_ble_eq_true rfl) dX1_same_158 rfl (fun H locs hM => ?_)
        obtain ⟨g36, hh⟩ := gd_inv hh
        refine cm_iast (qz := 473) X hM ci_473 rfl rfl g36 dX1_same_161 (fun H locs S37 e38 hM => ?_)
        replace hh := nm_inv hh S37 e38
        obtain ⟨v39, e40⟩ : ∃ z : Int, z = x10 + 1 := ⟨_, rfl⟩
        replace hh := nm_inv hh v39 e40
        refine lv_iinc (v := zi v39) (lv' := [(10, .int (zi (v39))), (0, .ref (hC)), (4, .int (zi (x4))), (5, .int (zi (x5))), (6, .int (zi (x6))), (7, .ref (hC + (4 + 1 + Int.toNat x1))), (8, .int (zi (x8))), (9, .int (zi (x9)))]) hx hb dX1_same_162 hl (k := 7) rfl (by rw [e40]; exact zi_add _ _) (by decide) rfl (fun ls hl => ?_)
        refine lv_goto (tgt := 129) hx hb dX1_same_165 (by decide) ?_
        exact hK129 S37 v39 hh _ _ _ hM (lv_sub hl [1, 2, 3, 4, 5, 6, 7, 0] rfl)
      · replace hh := it_f c31 hh
        refine lv_aload hx hb dX1_same_168 (lv_at hl 4 rfl) ?_
        refine lv_iconst (v := zi 0) hx hb dX1_same_170 rfl ?_
        refine cm_iald (qz := (4 + 1 + x1)) X hM (cr_4 gv_x1) (by have := gv_x1.1; omega) rfl (by decide) dX1_same_171 ?_
        refine g_nmi hx hb (fun v41 e42 => ?_)
        replace hh := nm_inv hh v41 e42
        refine lv_istore (lv' := [(10, .int (zi (v41))), (0, .ref (hC)), (4, .int (zi (x4))), (5, .int (zi (x5))), (6, .int (zi (x6))), (7, .ref (hC + (4 + 1 + Int.toNat x1))), (8, .int (zi (x8))), (9, .int (zi (x9)))]) hx hb dX1_same_172 hl (by decide) rfl (fun ls hl => ?_)
        refine lv_aload hx hb dX1_same_174 (lv_at hl 5 rfl) ?_
        refine lv_iconst (v := zi 0) hx hb dX1_same_176 rfl ?_
        refine lv_iload hx hb dX1_same_177 (lv_at hl 7 rfl) ?_
        refine lv_aload_n hx hb dX1_same_179 rfl (lv_at hl 1 rfl) ?_
        refine cm_get X hM q381 (cf_0_2 _ _ _) rfl dX1_same_180 ?_
        refine g_imul hx hb dX1_same_183 ?_
        refine lv_iload hx hb dX1_same_184 (lv_at hl 6 rfl) ?_
        refine g_iadd hx hb dX1_same_186 ?_
        refine cm_iast (qz := (4 + 1 + x1)) X hM (cr_4 gv_x1) (by have := gv_x1.1; omega) rfl (by decide) dX1_same_187 (fun H locs S43 e44 hM => ?_)
        replace hh := nm_inv hh S43 e44
        refine lv_aload_n hx hb dX1_same_188 rfl (lv_at hl 1 rfl) ?_
        refine lv_iconst (v := zi 0) hx hb dX1_same_189 rfl ?_
        obtain ⟨S46, k45, hh⟩ := bd_inv hh
        refine cc_v (rest := []) X hM (wC_lays l DC dA hC S43 (0 : Int) k45) cx_X1_94.1 cx_X1_94.2 ⟨rfl, rfl⟩ ⟨Nat.le_of_ble_eq_true rfl, Nat.le_of_ble_eq_true rfl⟩ ⟨Nat.zero_le _, Nat.zero_le _⟩ hl.1 (Nat.le_of_ble_eq_true rfl) dX1_same_190 rfl (fun H locs hM => ?_)
        refine lv_aload hx hb dX1_same_193 (lv_at hl 5 rfl) ?_
        refine lv_iconst (v := zi 0) hx hb dX1_same_195 rfl ?_
        refine lv_iload hx hb dX1_same_196 (lv_at hl 0 rfl) ?_
        refine cm_iast (qz := (4 + 1 + x1)) X hM (cr_4 gv_x1) (by have := gv_x1.1; omega) rfl (by decide) dX1_same_198 (fun H locs S47 e48 hM => ?_)
        replace hh := nm_inv hh S47 e48
        refine lv_iconst (v := zi 0) hx hb dX1_same_199 rfl ?_
        refine lv_istore (lv' := [(11, .int (zi (0))), (10, .int (zi (v41))), (0, .ref (hC)), (4, .int (zi (x4))), (5, .int (zi (x5))), (6, .int (zi (x6))), (7, .ref (hC + (4 + 1 + Int.toNat x1))), (8, .int (zi (x8))), (9, .int (zi (x9)))]) hx hb dX1_same_200 hl (by decide) rfl (fun ls hl => ?_)
        exact hL202 x4 x5 x6 FU S47 (0 : Int) hh _ _ _ hM (lv_sub hl [2, 3, 4, 5, 0] rfl)
  replace hl : lv_has ls 12 [(0, .ref (hC)), (1, .int (zi (x1))), (2, .int (zi (x2))), (3, .int (zi (x3))), (4, .int (zi (x4))), (5, .int (zi (x5))), (6, .int (zi (x6)))] := hl
  unfold C_same at hh
  refine lv_aload_n hx hb dX1_same_0 rfl (lv_at hl 0 rfl) ?_
  refine lv_iconst (v := zi 0) hx hb dX1_same_1 rfl ?_
  refine lv_iload_n hx hb dX1_same_2 rfl (lv_at hl 1 rfl) ?_
  obtain ⟨v2, k1, hh⟩ := bd_inv hh
  refine cc_z (rest := []) X hM (wC_isOne l DC dA hC S (0 : Int) x1 k1) cx_X1_135.1 cx_X1_135.2 ⟨rfl, rfl⟩ ⟨Nat.le_of_ble_eq_true rfl, Nat.le_of_ble_eq_true rfl⟩ ⟨Nat.zero_le _, Nat.zero_le _⟩ hl.1 (Nat.le_of_ble_eq_true rfl) dX1_same_3 rfl (fun H locs hM => ?_)
  refine g_bif_eq (tgt := 50) hx hb dX1_same_6 (by decide) (fun c3 => ?_) (fun c3 => ?_)
  · replace hh := it_t c3 hh
    refine lv_aload_n hx hb dX1_same_9 rfl (lv_at hl 0 rfl) ?_
    refine lv_iload hx hb dX1_same_10 (lv_at hl 4 rfl) ?_
    refine lv_iload hx hb dX1_same_12 (lv_at hl 5 rfl) ?_
    obtain ⟨v5, k4, hh⟩ := bd_inv hh
    refine cc_z (rest := []) X hM (wC_isPlace l DC dA hC S x4 x5 k4) cx_X1_111.1 cx_X1_111.2 ⟨rfl, rfl⟩ ⟨Nat.le_of_ble_eq_true rfl, Nat.le_of_ble_eq_true rfl⟩ ⟨Nat.zero_le _, Nat.zero_le _⟩ hl.1 (Nat.le_of_ble_eq_true rfl) dX1_same_14 rfl (fun H locs hM => ?_)
    refine g_bif_eq (tgt := 50) hx hb dX1_same_17 (by decide) (fun c6 => ?_) (fun c6 => ?_)
    · replace hh := it_t c6 hh
      refine lv_iload hx hb dX1_same_20 (lv_at hl 6 rfl) ?_
      obtain ⟨v7, k8, hh⟩ := bd_inv hh
      refine ccs_z (rest := []) X hM (wC_isHead l x6 k8) cx_X1_115.1 cx_X1_115.2 ⟨rfl, rfl⟩ ⟨Nat.le_of_ble_eq_true rfl, Nat.le_of_ble_eq_true rfl⟩ ⟨Nat.zero_le _, Nat.zero_le _⟩ hl.1 (Nat.le_of_ble_eq_true rfl) dX1_same_22 rfl (fun H locs hM => ?_)
      refine g_bif_eq (tgt := 50) hx hb dX1_same_25 (by decide) (fun c9 => ?_) (fun c9 => ?_)
      · replace hh := it_t c9 hh
        refine lv_iload_n hx hb dX1_same_28 rfl (lv_at hl 2 rfl) ?_
        refine lv_bipush (v := zi (-24)) hx hb dX1_same_29 (by decide) ?_
        refine lv_bipush (v := zi 24) hx hb dX1_same_31 (by decide) ?_
        obtain ⟨v10, k11, hh⟩ := bd_inv hh
        refine ccs_z (rest := []) X hM (wC_in l x2 ((-24) : Int) (24 : Int) k11) cx_X1_66.1 cx_X1_66.2 ⟨rfl, rfl⟩ ⟨Nat.le_of_ble_eq_true rfl, Nat.le_of_ble_eq_true rfl⟩ ⟨Nat.zero_le _, Nat.zero_le _⟩ hl.1 (Nat.le_of_ble_eq_true rfl) dX1_same_33 rfl (fun H locs hM => ?_)
        refine g_bif_eq (tgt := 50) hx hb dX1_same_36 (by decide) (fun c12 => ?_) (fun c12 => ?_)
        · replace hh := it_t c12 hh
          refine lv_iload_n hx hb dX1_same_39 rfl (lv_at hl 3 rfl) ?_
          refine lv_bipush (v := zi (-24)) hx hb dX1_same_40 (by decide) ?_
          refine lv_bipush (v := zi 24) hx hb dX1_same_42 (by decide) ?_
          obtain ⟨v13, k14, hh⟩ := bd_inv hh
          refine ccs_z (rest := []) X hM (wC_in l x3 ((-24) : Int) (24 : Int) k14) cx_X1_66.1 cx_X1_66.2 ⟨rfl, rfl⟩ ⟨Nat.le_of_ble_eq_true rfl, Nat.le_of_ble_eq_true rfl⟩ ⟨Nat.zero_le _, Nat.zero_le _⟩ hl.1 (Nat.le_of_ble_eq_true rfl) dX1_same_44 rfl (fun H locs hM => ?_)
          refine g_bif_ne (tgt := 52) hx hb dX1_same_47 (by decide) (fun c15 => ?_) (fun c15 => ?_)
          · replace hh := it_t c15 hh
            refine lv_aload_n hx hb dX1_same_52 rfl (lv_at hl 0 rfl) ?_
            refine cm_get X hM q379 (cf_0_0 _ _ _) rfl dX1_same_53 ?_
            refine cm_getN X hM q165 (cf_1_2 _ _ _) rfl dX1_same_56 ?_
            refine lv_iload_n hx hb dX1_same_59 rfl (lv_at hl 1 rfl) ?_
            obtain ⟨g16, hh⟩ := gd_inv hh
            refine cm_aald X hM (by decide) rfl (by decide) rfl g16 dX1_same_60 ?_
            refine lv_astore (lv' := [(7, .ref (hC + (4 + 1 + Int.toNat x1))), (0, .ref (hC)), (1, .int (zi (x1))), (2, .int (zi (x2))), (3, .int (zi (x3))), (4, .int (zi (x4))), (5, .int (zi (x5))), (6, .int (zi (x6)))]) hx hb dX1_same_61 hl (by decide) rfl (fun ls hl => ?_)
            refine lv_aload hx hb dX1_same_63 (lv_at hl 0 rfl) ?_
            refine lv_iconst (v := zi 0) hx hb dX1_same_65 rfl ?_
            refine cm_iald (qz := (4 + 1 + x1)) X hM (cr_4 g16) (by have := g16.1; omega) rfl (by decide) dX1_same_66 ?_
            refine lv_aload_n hx hb dX1_same_67 rfl (lv_at hl 1 rfl) ?_
            refine cm_get X hM q381 (cf_0_2 _ _ _) rfl dX1_same_68 ?_
            obtain ⟨g17, hh⟩ := gd_inv hh
            refine g_irem hx hb g17 dX1_same_71 ?_
            refine lv_iload_n hx hb dX1_same_72 rfl (lv_at hl 3 rfl) ?_
            refine g_iadd hx hb dX1_same_73 ?_
            refine g_nmi hx hb (fun v18 e19 => ?_)
            replace hh := nm_inv hh v18 e19
            refine lv_istore (lv' := [(8, .int (zi (v18))), (7, .ref (hC + (4 + 1 + Int.toNat x1))), (0, .ref (hC)), (1, .int (zi (x1))), (2, .int (zi (x2))), (3, .int (zi (x3))), (4, .int (zi (x4))), (5, .int (zi (x5))), (6, .int (zi (x6)))]) hx hb dX1_same_74 hl (by decide) rfl (fun ls hl => ?_)
            refine lv_aload hx hb dX1_same_76 (lv_at hl 1 rfl) ?_
            refine lv_iconst (v := zi 0) hx hb dX1_same_78 rfl ?_
            refine cm_iald (qz := (4 + 1 + x1)) X hM (cr_4 g16) (by have := g16.1; omega) rfl (by decide) dX1_same_79 ?_
            refine lv_aload_n hx hb dX1_same_80 rfl (lv_at hl 2 rfl) ?_
            refine cm_get X hM q381 (cf_0_2 _ _ _) rfl dX1_same_81 ?_
            obtain ⟨g20, hh⟩ := gd_inv hh
            refine g_idiv hx hb g20 dX1_same_84 ?_
            refine lv_iload_n hx hb dX1_same_85 rfl (lv_at hl 5 rfl) ?_
            refine g_iadd hx hb dX1_same_86 ?_
            refine g_nmi hx hb (fun v21 e22 => ?_)
            replace hh := nm_inv hh v21 e22
            refine lv_istore (lv' := [(9, .int (zi (v21))), (8, .int (zi (v18))), (7, .ref (hC + (4 + 1 + Int.toNat x1))), (0, .ref (hC)), (1, .int (zi (x1))), (2, .int (zi (x2))), (3, .int (zi (x3))), (4, .int (zi (x4))), (5, .int (zi (x5))), (6, .int (zi (x6)))]) hx hb dX1_same_87 hl (by decide) rfl (fun ls hl => ?_)
            refine lv_iload hx hb dX1_same_89 (lv_at hl 1 rfl) ?_
            refine lv_iconst (v := zi 0) hx hb dX1_same_91 rfl ?_
            refine lv_aload_n hx hb dX1_same_92 rfl (lv_at hl 3 rfl) ?_
            refine cm_get X hM q381 (cf_0_2 _ _ _) rfl dX1_same_93 ?_
            refine lv_iconst (v := zi 1) hx hb dX1_same_96 rfl ?_
            refine g_isub hx hb dX1_same_97 ?_
            obtain ⟨v23, k24, hh⟩ := bd_inv hh
            refine ccs_z (rest := []) X hM (wC_in l v18 (0 : Int) ((S.1 2) - 1) k24) cx_X1_66.1 cx_X1_66.2 ⟨rfl, rfl⟩ ⟨Nat.le_of_ble_eq_true rfl, Nat.le_of_ble_eq_true rfl⟩ ⟨Nat.zero_le _, Nat.zero_le _⟩ hl.1 (Nat.le_of_ble_eq_true rfl) dX1_same_98 rfl (fun H locs hM => ?_)
            refine g_bif_eq (tgt := 119) hx hb dX1_same_101 (by decide) (fun c25 => ?_) (fun c25 => ?_)
            · replace hh := it_t c25 hh
              refine lv_iload hx hb dX1_same_104 (lv_at hl 0 rfl) ?_
              refine lv_iconst (v := zi 0) hx hb dX1_same_106 rfl ?_
              refine lv_aload_n hx hb dX1_same_107 rfl (lv_at hl 3 rfl) ?_
              refine cm_get X hM q382 (cf_0_3 _ _ _) rfl dX1_same_108 ?_
              refine lv_iconst (v := zi 1) hx hb dX1_same_111 rfl ?_
              refine g_isub hx hb dX1_same_112 ?_
              obtain ⟨v26, k27, hh⟩ := bd_inv hh
              refine ccs_z (rest := []) X hM (wC_in l v21 (0 : Int) ((S.1 3) - 1) k27) cx_X1_66.1 cx_X1_66.2 ⟨rfl, rfl⟩ ⟨Nat.le_of_ble_eq_true rfl, Nat.le_of_ble_eq_true rfl⟩ ⟨Nat.zero_le _, Nat.zero_le _⟩ hl.1 (Nat.le_of_ble_eq_true rfl) dX1_same_113 rfl (fun H locs hM => ?_)
              refine g_bif_ne (tgt := 121) hx hb dX1_same_116 (by decide) (fun c28 => ?_) (fun c28 => ?_)
              · replace hh := it_t c28 hh
                refine lv_aload_n hx hb dX1_same_121 rfl (lv_at hl 3 rfl) ?_
                refine lv_iconst (v := zi 0) hx hb dX1_same_122 rfl ?_
                obtain ⟨S30, k29, hh⟩ := bd_inv hh
                refine cc_v (rest := []) X hM (wC_lays l DC dA hC S (0 : Int) k29) cx_X1_94.1 cx_X1_94.2 ⟨rfl, rfl⟩ ⟨Nat.le_of_ble_eq_true rfl, Nat.le_of_ble_eq_true rfl⟩ ⟨Nat.zero_le _, Nat.zero_le _⟩ hl.1 (Nat.le_of_ble_eq_true rfl) dX1_same_123 rfl (fun H locs hM => ?_)
                refine lv_iconst (v := zi 0) hx hb dX1_same_126 rfl ?_
                refine lv_istore (lv' := [(10, .int (zi (0))), (9, .int (zi (v21))), (8, .int (zi (v18))), (7, .ref (hC + (4 + 1 + Int.toNat x1))), (0, .ref (hC)), (1, .int (zi (x1))), (2, .int (zi (x2))), (3, .int (zi (x3))), (4, .int (zi (x4))), (5, .int (zi (x5))), (6, .int (zi (x6)))]) hx hb dX1_same_127 hl (by decide) rfl (fun ls hl => ?_)
                exact hL129 x1 x4 x5 x6 v18 v21 g16 FU S30 (0 : Int) hh _ _ _ hM (lv_sub hl [4, 8, 9, 10, 3, 2, 1, 0] rfl)
              · replace hh := it_f c28 hh
                refine lv_iconst (v := zi (-1)) hx hb dX1_same_119 rfl ?_
                exact hret _ _ _ _ _ _ (rt1 hh) (rt2 hh) dX1_same_120 hM
            · replace hh := it_f c25 hh
              refine lv_iconst (v := zi (-1)) hx hb dX1_same_119 rfl ?_
              exact hret _ _ _ _ _ _ (rt1 hh) (rt2 hh) dX1_same_120 hM
          · replace hh := it_f c15 hh
            refine lv_iconst (v := zi (-1)) hx hb dX1_same_50 rfl ?_
            exact hret _ _ _ _ _ _ (rt1 hh) (rt2 hh) dX1_same_51 hM
        · replace hh := it_f c12 hh
          refine lv_iconst (v := zi (-1)) hx hb dX1_same_50 rfl ?_
          exact hret _ _ _ _ _ _ (rt1 hh) (rt2 hh) dX1_same_51 hM
      · replace hh := it_f c9 hh
        refine lv_iconst (v := zi (-1)) hx hb dX1_same_50 rfl ?_
        exact hret _ _ _ _ _ _ (rt1 hh) (rt2 hh) dX1_same_51 hM
    · replace hh := it_f c6 hh
      refine lv_iconst (v := zi (-1)) hx hb dX1_same_50 rfl ?_
      exact hret _ _ _ _ _ _ (rt1 hh) (rt2 hh) dX1_same_51 hM
  · replace hh := it_f c3 hh
    refine lv_iconst (v := zi (-1)) hx hb dX1_same_50 rfl ?_
    exact hret _ _ _ _ _ _ (rt1 hh) (rt2 hh) dX1_same_51 hM
def C_put_b3 (x1 : Int) (K3 : yS → Int → Option yS) (S : yS) (x2 : Int) : Option yS := gd (r32 (x2)) (if x2 < 0 then (some S) else (gd (r32 (x1) ∧ (0 : Int) ≤ x2 ∧ (x2 : Int) ≤ 31) (gd ((0 : Int) ≤ S.1 5 ∧ (S.1 5 : Int) < 300) (gd ((-128 : Int) ≤ Int.bmod (x1 / 2 ^ (Int.toNat x2)) 256 ∧ (Int.bmod (x1 / 2 ^ (Int.toNat x2)) 256 : Int) ≤ 127) (nm (cas S 471 (S.1 5) (Int.bmod (x1 / 2 ^ (Int.toNat x2)) 256)) (fun S6 => nm (cfs S6 5 ((S6.1 5) + 1)) (fun S8 => nm ((x2 + (-8)) : Int) (fun v10 => K3 S8 v10))))))))
def C_put_L3 (x1 : Int) : Nat → yS → Int → Option yS
  | 0 => fun _ _ => none
  | n + 1 => fun S x2 => C_put_b3 x1 (C_put_L3 x1 n) S x2
def C_put (S : yS) (x1 : Int) : Option yS := C_put_L3 x1 FU S (24 : Int)
set_option maxHeartbeats 4000000 in
theorem wC_put (l : Launch) (DC : va_G) (dA : Nat → ClassId) (hC : Nat) (S : yS) (x1 : Int) {S1 : yS} (hh : C_put S x1 = some S1) : ct_v l yX1_put cX1_put 3 ({ frames := 1, cells := 0, slots := 0, locals := 40 } : Room) DC dA hC [.ref hC, .int (zi x1)] S S1 := by
  refine co_v (by decide) (Nat.le_of_ble_eq_true rfl) ?_
  intro p e s m args below meth c Q ls X hret hl hM
  have hx := X.1.1
  have hb := X.1.2.1
  have hown := X.1.2.2.2.1
  have hts := X.1.2.2.2.2
  have hL3 : ∀ (x1 : Int) (n : Nat) (S : yS) (x2 : Int), C_put_L3 x1 n S x2 = some S1 → ∀ (H : Heap) (locs : List Loc) (ls : Array Slot), CX DC dA hC (cA hC) S s H locs → lv_has ls 3 [(0, .ref (hC)), (1, .int (zi (x1))), (2, .int (zi (x2)))] → W p l e ({ frames := 1, cells := 0, slots := 0, locals := 40 } : Room) s m args below meth c H locs 0 0 Q (F0 m 3 ls []) := by
    intro x1  n
    induction n with
    | zero => intro S x2 hh; exact no_some hh
    | succ n ih =>
      intro S x2 hh H locs ls hM hl
      replace hh : C_put_b3 x1 (C_put_L3 x1 n) S x2 = some S1 := hh
      unfold C_put_b3 at hh
      have hK3 := ih
      refine lv_iload_n hx hb dX1_put_3 rfl (lv_at hl 2 rfl) ?_
      obtain ⟨g2, hh⟩ := gd_inv hh
      refine g_if_lt (tgt := 36) hx hb g2 dX1_put_4 (by decide) (fun c1 => ?_) (fun c1 => ?_)
      · replace hh := it_t c1 hh
        exact hret _ _ _ _ _ (rt0 hh) dX1_put_36 hM
      · replace hh := it_f c1 hh
        refine lv_aload_n hx hb dX1_put_7 rfl (lv_at hl 0 rfl) ?_
        refine cm_get X hM q383 (cf_0_4 _ _ _) rfl dX1_put_8 ?_
        refine lv_aload_n hx hb dX1_put_11 rfl (lv_at hl 0 rfl) ?_
        refine cm_get X hM q384 (cf_0_5 _ _ _) rfl dX1_put_12 ?_
        refine lv_iload_n hx hb dX1_put_15 rfl (lv_at hl 1 rfl) ?_
        refine lv_iload_n hx hb dX1_put_16 rfl (lv_at hl 2 rfl) ?_
        obtain ⟨g3, hh⟩ := gd_inv hh
        refine g_ishr hx hb g3 dX1_put_17 ?_
        refine g_i2b hx hb dX1_put_18 ?_
        obtain ⟨g4, hh⟩ := gd_inv hh
        obtain ⟨g5, hh⟩ := gd_inv hh
        refine cm_bast X hM rfl g4 g5 dX1_put_19 (fun H locs S6 e7 hM => ?_)
        replace hh := nm_inv hh S6 e7
        refine lv_aload_n hx hb dX1_put_20 rfl (lv_at hl 0 rfl) ?_
        refine lv_dup hx hb dX1_put_21 rfl ?_
        refine cm_get X hM q384 (cf_0_5 _ _ _) rfl dX1_put_22 ?_
        refine lv_iconst (v := zi 1) hx hb dX1_put_25 rfl ?_
        refine g_iadd hx hb dX1_put_26 ?_
        refine cm_put X hM q384 (cp_0_5 _ _ _ _) rfl dX1_put_27 (fun H locs S8 e9 hM => ?_)
        replace hh := nm_inv hh S8 e9
        obtain ⟨v10, e11⟩ : ∃ z : Int, z = x2 + (-8) := ⟨_, rfl⟩
        replace hh := nm_inv hh v10 e11
        refine lv_iinc (v := zi v10) (lv' := [(2, .int (zi (v10))), (0, .ref (hC)), (1, .int (zi (x1)))]) hx hb dX1_put_30 hl (k := 2) rfl (by rw [e11]; exact zi_add _ _) (by decide) rfl (fun ls hl => ?_)
        refine lv_goto (tgt := 3) hx hb dX1_put_33 (by decide) ?_
        exact hK3 S8 v10 hh _ _ _ hM (lv_sub hl [1, 2, 0] rfl)
  replace hl : lv_has ls 3 [(0, .ref (hC)), (1, .int (zi (x1)))] := hl
  unfold C_put at hh
  refine lv_bipush (v := zi 24) hx hb dX1_put_0 (by decide) ?_
  refine lv_istore_n (lv' := [(2, .int (zi (24))), (0, .ref (hC)), (1, .int (zi (x1)))]) hx hb dX1_put_2 rfl hl (by decide) rfl (fun ls hl => ?_)
  exact hL3 x1 FU S (24 : Int) hh _ _ _ hM (lv_sub hl [1, 2, 0] rfl)
theorem cx_X1_153 : GoodIn lw_all (wsV "ManyEyes" 153 "ManyEyes" yX1_put (ws_ yX1_put cX1_put 3 none)) ∧ yX1_put.cls = "ManyEyes" ∧ yX1_put.cls ≠ "java/lang/invoke/MethodHandle" ∧ yX1_put.cls ≠ "java/lang/invoke/VarHandle" ∧ (parseMethodDescriptor yX1_put.desc).map (fun d => d.parameters.length) = some 1 := ⟨lw_V q529 q531 qs13 q80 q532, by decide +kernel⟩
def C_feed (S : yS) (x1 : Int) (x2 : Int) (x3 : Int) (x4 : Int) (x5 : Int) : Option (Int × yS) := gd (r32 ((S.1 5) + 20)) (if ((S.1 5) + 20) ≤ 300 then (bd (C_put S x1) (fun S4 => bd (C_put S4 x2) (fun S6 => bd (C_put S6 x3) (fun S8 => bd (C_put S8 x4) (fun S10 => bd (C_put S10 x5) (fun S12 => some ((S12.1 5 : Int), S12))))))) else (some (((-1) : Int), S)))
set_option maxHeartbeats 4000000 in
theorem wC_feed (l : Launch) (DC : va_G) (dA : Nat → ClassId) (hC : Nat) (S : yS) (x1 x2 x3 x4 x5 : Int) {r : Int} {S1 : yS} (hh : C_feed S x1 x2 x3 x4 x5 = some (r, S1)) : ct_i l yX1_feed cX1_feed 6 (some .int) ({ frames := 2, cells := 0, slots := 0, locals := 62 } : Room) DC dA hC [.ref hC, .int (zi x1), .int (zi x2), .int (zi x3), .int (zi x4), .int (zi x5)] S r S1 := by
  refine co_i (by decide) (Nat.le_of_ble_eq_true rfl) ?_
  intro p e s m args below meth c Q ls X hret hl hM
  have hx := X.1.1
  have hb := X.1.2.1
  have hown := X.1.2.2.2.1
  have hts := X.1.2.2.2.2
  replace hl : lv_has ls 6 [(0, .ref (hC)), (1, .int (zi (x1))), (2, .int (zi (x2))), (3, .int (zi (x3))), (4, .int (zi (x4))), (5, .int (zi (x5)))] := hl
  unfold C_feed at hh
  refine lv_aload_n hx hb dX1_feed_0 rfl (lv_at hl 0 rfl) ?_
  refine cm_get X hM q384 (cf_0_5 _ _ _) rfl dX1_feed_1 ?_
  refine lv_bipush (v := zi 20) hx hb dX1_feed_4 (by decide) ?_
  refine g_iadd hx hb dX1_feed_6 ?_
  refine lv_sipush (v := zi 300) hx hb dX1_feed_7 (by decide) ?_
  obtain ⟨g2, hh⟩ := gd_inv hh
  refine g_icmp_le (tgt := 15) hx hb ⟨g2, by decide⟩ dX1_feed_10 (by decide) (fun c1 => ?_) (fun c1 => ?_)
  · replace hh := it_t c1 hh
    refine lv_aload_n hx hb dX1_feed_15 rfl (lv_at hl 0 rfl) ?_
    refine lv_iload_n hx hb dX1_feed_16 rfl (lv_at hl 1 rfl) ?_
    obtain ⟨S4, k3, hh⟩ := bd_inv hh
    refine cc_v (rest := []) X hM (wC_put l DC dA hC S x1 k3) cx_X1_153.1 cx_X1_153.2 ⟨rfl, rfl⟩ ⟨Nat.le_of_ble_eq_true rfl, Nat.le_of_ble_eq_true rfl⟩ ⟨Nat.zero_le _, Nat.zero_le _⟩ hl.1 (Nat.le_of_ble_eq_true rfl) dX1_feed_17 rfl (fun H locs hM => ?_)
    refine lv_aload_n hx hb dX1_feed_20 rfl (lv_at hl 0 rfl) ?_
    refine lv_iload_n hx hb dX1_feed_21 rfl (lv_at hl 2 rfl) ?_
    obtain ⟨S6, k5, hh⟩ := bd_inv hh
    refine cc_v (rest := []) X hM (wC_put l DC dA hC S4 x2 k5) cx_X1_153.1 cx_X1_153.2 ⟨rfl, rfl⟩ ⟨Nat.le_of_ble_eq_true rfl, Nat.le_of_ble_eq_true rfl⟩ ⟨Nat.zero_le _, Nat.zero_le _⟩ hl.1 (Nat.le_of_ble_eq_true rfl) dX1_feed_22 rfl (fun H locs hM => ?_)
    refine lv_aload_n hx hb dX1_feed_25 rfl (lv_at hl 0 rfl) ?_
    refine lv_iload_n hx hb dX1_feed_26 rfl (lv_at hl 3 rfl) ?_
    obtain ⟨S8, k7, hh⟩ := bd_inv hh
    refine cc_v (rest := []) X hM (wC_put l DC dA hC S6 x3 k7) cx_X1_153.1 cx_X1_153.2 ⟨rfl, rfl⟩ ⟨Nat.le_of_ble_eq_true rfl, Nat.le_of_ble_eq_true rfl⟩ ⟨Nat.zero_le _, Nat.zero_le _⟩ hl.1 (Nat.le_of_ble_eq_true rfl) dX1_feed_27 rfl (fun H locs hM => ?_)
    refine lv_aload_n hx hb dX1_feed_30 rfl (lv_at hl 0 rfl) ?_
    refine lv_iload hx hb dX1_feed_31 (lv_at hl 4 rfl) ?_
    obtain ⟨S10, k9, hh⟩ := bd_inv hh
    refine cc_v (rest := []) X hM (wC_put l DC dA hC S8 x4 k9) cx_X1_153.1 cx_X1_153.2 ⟨rfl, rfl⟩ ⟨Nat.le_of_ble_eq_true rfl, Nat.le_of_ble_eq_true rfl⟩ ⟨Nat.zero_le _, Nat.zero_le _⟩ hl.1 (Nat.le_of_ble_eq_true rfl) dX1_feed_33 rfl (fun H locs hM => ?_)
    refine lv_aload_n hx hb dX1_feed_36 rfl (lv_at hl 0 rfl) ?_
    refine lv_iload hx hb dX1_feed_37 (lv_at hl 5 rfl) ?_
    obtain ⟨S12, k11, hh⟩ := bd_inv hh
    refine cc_v (rest := []) X hM (wC_put l DC dA hC S10 x5 k11) cx_X1_153.1 cx_X1_153.2 ⟨rfl, rfl⟩ ⟨Nat.le_of_ble_eq_true rfl, Nat.le_of_ble_eq_true rfl⟩ ⟨Nat.zero_le _, Nat.zero_le _⟩ hl.1 (Nat.le_of_ble_eq_true rfl) dX1_feed_39 rfl (fun H locs hM => ?_)
    refine lv_aload_n hx hb dX1_feed_42 rfl (lv_at hl 0 rfl) ?_
    refine cm_get X hM q384 (cf_0_5 _ _ _) rfl dX1_feed_43 ?_
    exact hret _ _ _ _ _ _ (rt1 hh) (rt2 hh) dX1_feed_46 hM
  · replace hh := it_f c1 hh
    refine lv_iconst (v := zi (-1)) hx hb dX1_feed_13 rfl ?_
    exact hret _ _ _ _ _ _ (rt1 hh) (rt2 hh) dX1_feed_14 hM
def C_end (S : yS) (x1 : Int) : Option (Int × yS) := bd (C_in x1 (0 : Int) (S.1 5)) (fun v1 => if v1 = true then (nm (cfs S 5 (x1)) (fun S4 => some ((x1 : Int), S4))) else (some (((-1) : Int), S)))
set_option maxHeartbeats 4000000 in
theorem wC_end (l : Launch) (DC : va_G) (dA : Nat → ClassId) (hC : Nat) (S : yS) (x1 : Int) {r : Int} {S1 : yS} (hh : C_end S x1 = some (r, S1)) : ct_i l yX1_end cX1_end 2 (some .int) ({ frames := 2, cells := 0, slots := 0, locals := 62 } : Room) DC dA hC [.ref hC, .int (zi x1)] S r S1 := by
  refine co_i (by decide) (Nat.le_of_ble_eq_true rfl) ?_
  intro p e s m args below meth c Q ls X hret hl hM
  have hx := X.1.1
  have hb := X.1.2.1
  have hown := X.1.2.2.2.1
  have hts := X.1.2.2.2.2
  replace hl : lv_has ls 2 [(0, .ref (hC)), (1, .int (zi (x1)))] := hl
  unfold C_end at hh
  refine lv_iload_n hx hb dX1_end_0 rfl (lv_at hl 1 rfl) ?_
  refine lv_iconst (v := zi 0) hx hb dX1_end_1 rfl ?_
  refine lv_aload_n hx hb dX1_end_2 rfl (lv_at hl 0 rfl) ?_
  refine cm_get X hM q384 (cf_0_5 _ _ _) rfl dX1_end_3 ?_
  obtain ⟨v1, k2, hh⟩ := bd_inv hh
  refine ccs_z (rest := []) X hM (wC_in l x1 (0 : Int) (S.1 5) k2) cx_X1_66.1 cx_X1_66.2 ⟨rfl, rfl⟩ ⟨Nat.le_of_ble_eq_true rfl, Nat.le_of_ble_eq_true rfl⟩ ⟨Nat.zero_le _, Nat.zero_le _⟩ hl.1 (Nat.le_of_ble_eq_true rfl) dX1_end_6 rfl (fun H locs hM => ?_)
  refine g_bif_ne (tgt := 14) hx hb dX1_end_9 (by decide) (fun c3 => ?_) (fun c3 => ?_)
  · replace hh := it_t c3 hh
    refine lv_aload_n hx hb dX1_end_14 rfl (lv_at hl 0 rfl) ?_
    refine lv_iload_n hx hb dX1_end_15 rfl (lv_at hl 1 rfl) ?_
    refine cm_put X hM q384 (cp_0_5 _ _ _ _) rfl dX1_end_16 (fun H locs S4 e5 hM => ?_)
    replace hh := nm_inv hh S4 e5
    refine lv_iload_n hx hb dX1_end_19 rfl (lv_at hl 1 rfl) ?_
    exact hret _ _ _ _ _ _ (rt1 hh) (rt2 hh) dX1_end_20 hM
  · replace hh := it_f c3 hh
    refine lv_iconst (v := zi (-1)) hx hb dX1_end_12 rfl ?_
    exact hret _ _ _ _ _ _ (rt1 hh) (rt2 hh) dX1_end_13 hM
def C_fault (S : yS) (x1 : Int) : Option Int := gd (r32 (x1)) (if x1 = 0 then (some ((S.1 6 : Int))) else (gd (r32 (x1)) (if x1 = 1 then (some ((S.1 7 : Int))) else (some (((-1) : Int))))))
set_option maxHeartbeats 4000000 in
theorem wC_fault (l : Launch) (DC : va_G) (dA : Nat → ClassId) (hC : Nat) (S : yS) (x1 : Int) {r : Int} (hh : C_fault S x1 = some r) : ct_i l yX1_fault cX1_fault 2 (some .int) ({ frames := 1, cells := 0, slots := 0, locals := 40 } : Room) DC dA hC [.ref hC, .int (zi x1)] S r S := by
  refine co_i (by decide) (Nat.le_of_ble_eq_true rfl) ?_
  intro p e s m args below meth c Q ls X hret hl hM
  have hx := X.1.1
  have hb := X.1.2.1
  have hown := X.1.2.2.2.1
  have hts := X.1.2.2.2.2
  replace hl : lv_has ls 2 [(0, .ref (hC)), (1, .int (zi (x1)))] := hl
  unfold C_fault at hh
  refine lv_iload_n hx hb dX1_fault_0 rfl (lv_at hl 1 rfl) ?_
  obtain ⟨g2, hh⟩ := gd_inv hh
  refine g_if_ne (tgt := 11) hx hb g2 dX1_fault_1 (by decide) (fun c1 => ?_) (fun c1 => ?_)
  · replace hh := it_t c1 hh
    refine lv_aload_n hx hb dX1_fault_4 rfl (lv_at hl 0 rfl) ?_
    refine cm_get X hM q385 (cf_0_6 _ _ _) rfl dX1_fault_5 ?_
    refine lv_goto (tgt := 24) hx hb dX1_fault_8 (by decide) ?_
    exact hret _ _ _ _ _ _ (rt0 hh) rfl dX1_fault_24 hM
  · replace hh := it_f c1 hh
    refine lv_iload_n hx hb dX1_fault_11 rfl (lv_at hl 1 rfl) ?_
    refine lv_iconst (v := zi 1) hx hb dX1_fault_12 rfl ?_
    obtain ⟨g4, hh⟩ := gd_inv hh
    refine g_icmp_ne (tgt := 23) hx hb ⟨g4, by decide⟩ dX1_fault_13 (by decide) (fun c3 => ?_) (fun c3 => ?_)
    · replace hh := it_t c3 hh
      refine lv_aload_n hx hb dX1_fault_16 rfl (lv_at hl 0 rfl) ?_
      refine cm_get X hM q386 (cf_0_7 _ _ _) rfl dX1_fault_17 ?_
      refine lv_goto (tgt := 24) hx hb dX1_fault_20 (by decide) ?_
      exact hret _ _ _ _ _ _ (rt0 hh) rfl dX1_fault_24 hM
    · replace hh := it_f c3 hh
      refine lv_iconst (v := zi (-1)) hx hb dX1_fault_23 rfl ?_
      exact hret _ _ _ _ _ _ (rt0 hh) rfl dX1_fault_24 hM
def C_isBits (x0 : Int) : Option Bool := gd (r32 (x0)) (if x0 = 0 then (some (true)) else (bd (C_in x0 (4 : Int) (20 : Int)) (fun v3 => if v3 = true then (some (true)) else (some (false)))))
set_option maxHeartbeats 4000000 in
theorem wC_isBits (l : Launch) (x0 : Int) {r : Bool} (hh : C_isBits x0 = some r) : ms_z l yX1_isBits cX1_isBits 1 (some .boolean) ({ frames := 2, cells := 0, slots := 0, locals := 62 } : Room) [.int (zi x0)] r := by
  refine go_z (by decide +kernel) (Nat.le_of_ble_eq_true rfl) ?_
  intro p e s m args below meth c Q ls X hret hl hM
  have hx := X.1
  have hb := X.2.1
  have hown := X.2.2.2.1
  have hts := X.2.2.2.2
  replace hl : lv_has ls 1 [(0, .int (zi (x0)))] := hl
  unfold C_isBits at hh
  refine lv_iload_n hx hb dX1_isBits_0 rfl (lv_at hl 0 rfl) ?_
  obtain ⟨g2, hh⟩ := gd_inv hh
  refine g_if_eq (tgt := 14) hx hb g2 dX1_isBits_1 (by decide) (fun c1 => ?_) (fun c1 => ?_)
  · replace hh := it_t c1 hh
    refine lv_iconst (v := zi 1) hx hb dX1_isBits_14 rfl ?_
    refine lv_goto (tgt := 19) hx hb dX1_isBits_15 (by decide) ?_
    refine W.eq (g2 := F0 m 19 ls [.int (zi (bz true))]) rfl ?_
    exact hret _ _ _ _ _ (rt0 hh) dX1_isBits_19 hM
  · replace hh := it_f c1 hh
    refine lv_iload_n hx hb dX1_isBits_4 rfl (lv_at hl 0 rfl) ?_
    refine lv_iconst (v := zi 4) hx hb dX1_isBits_5 rfl ?_
    refine lv_bipush (v := zi 20) hx hb dX1_isBits_6 (by decide) ?_
    obtain ⟨v3, k4, hh⟩ := bd_inv hh
    refine gc0_z (rest := []) X hM (wC_in l x0 (4 : Int) (20 : Int) k4) cx_X1_66.1 cx_X1_66.2 ⟨rfl, rfl⟩ ⟨Nat.le_of_ble_eq_true rfl, Nat.le_of_ble_eq_true rfl⟩ ⟨Nat.zero_le _, Nat.zero_le _⟩ hl.1 (Nat.le_of_ble_eq_true rfl) dX1_isBits_8 rfl (fun H locs hM => ?_)
    refine g_bif_eq (tgt := 18) hx hb dX1_isBits_11 (by decide) (fun c5 => ?_) (fun c5 => ?_)
    · replace hh := it_t c5 hh
      refine lv_iconst (v := zi 1) hx hb dX1_isBits_14 rfl ?_
      refine lv_goto (tgt := 19) hx hb dX1_isBits_15 (by decide) ?_
      refine W.eq (g2 := F0 m 19 ls [.int (zi (bz true))]) rfl ?_
      exact hret _ _ _ _ _ (rt0 hh) dX1_isBits_19 hM
    · replace hh := it_f c5 hh
      refine lv_iconst (v := zi 0) hx hb dX1_isBits_18 rfl ?_
      refine W.eq (g2 := F0 m 19 ls [.int (zi (bz false))]) rfl ?_
      exact hret _ _ _ _ _ (rt0 hh) dX1_isBits_19 hM
def C_isEmpty (S : yS) (x1 : Int) (x2 : Int) : Option Bool := bd (C_isPlace S x1 x2) (fun v2 => if v2 = true then (gd (r32 (x2)) (gd (r32 (x1)) (gd ((0 : Int) ≤ ((Int.tdiv x2 16) * (S.1 2)) + (Int.tdiv x1 16) ∧ (((Int.tdiv x2 16) * (S.1 2)) + (Int.tdiv x1 16) : Int) < 576) (gd (r32 (S.2 472 (((Int.tdiv x2 16) * (S.1 2)) + (Int.tdiv x1 16)))) (if (S.2 472 (((Int.tdiv x2 16) * (S.1 2)) + (Int.tdiv x1 16))) = 0 then (some (true)) else (some (false))))))) else (some (false)))
set_option maxHeartbeats 4000000 in
theorem wC_isEmpty (l : Launch) (DC : va_G) (dA : Nat → ClassId) (hC : Nat) (S : yS) (x1 x2 : Int) {r : Bool} (hh : C_isEmpty S x1 x2 = some r) : ct_z l yX1_isEmpty cX1_isEmpty 3 (some .boolean) ({ frames := 3, cells := 0, slots := 0, locals := 84 } : Room) DC dA hC [.ref hC, .int (zi x1), .int (zi x2)] S r S := by
  refine co_z (by decide) (Nat.le_of_ble_eq_true rfl) ?_
  intro p e s m args below meth c Q ls X hret hl hM
  have hx := X.1.1
  have hb := X.1.2.1
  have hown := X.1.2.2.2.1
  have hts := X.1.2.2.2.2
  replace hl : lv_has ls 3 [(0, .ref (hC)), (1, .int (zi (x1))), (2, .int (zi (x2)))] := hl
  unfold C_isEmpty at hh
  refine lv_aload_n hx hb dX1_isEmpty_0 rfl (lv_at hl 0 rfl) ?_
  refine lv_iload_n hx hb dX1_isEmpty_1 rfl (lv_at hl 1 rfl) ?_
  refine lv_iload_n hx hb dX1_isEmpty_2 rfl (lv_at hl 2 rfl) ?_
  obtain ⟨v2, k1, hh⟩ := bd_inv hh
  refine cc_z (rest := []) X hM (wC_isPlace l DC dA hC S x1 x2 k1) cx_X1_111.1 cx_X1_111.2 ⟨rfl, rfl⟩ ⟨Nat.le_of_ble_eq_true rfl, Nat.le_of_ble_eq_true rfl⟩ ⟨Nat.zero_le _, Nat.zero_le _⟩ hl.1 (Nat.le_of_ble_eq_true rfl) dX1_isEmpty_3 rfl (fun H locs hM => ?_)
  refine g_bif_eq (tgt := 35) hx hb dX1_isEmpty_6 (by decide) (fun c3 => ?_) (fun c3 => ?_)
  · replace hh := it_t c3 hh
    refine lv_aload_n hx hb dX1_isEmpty_9 rfl (lv_at hl 0 rfl) ?_
    refine cm_get X hM q387 (cf_0_8 _ _ _) rfl dX1_isEmpty_10 ?_
    refine lv_iload_n hx hb dX1_isEmpty_13 rfl (lv_at hl 2 rfl) ?_
    refine lv_bipush (v := zi 16) hx hb dX1_isEmpty_14 (by decide) ?_
    obtain ⟨g4, hh⟩ := gd_inv hh
    refine g_idiv hx hb ⟨g4, by decide, by decide⟩ dX1_isEmpty_16 ?_
    refine lv_aload_n hx hb dX1_isEmpty_17 rfl (lv_at hl 0 rfl) ?_
    refine cm_get X hM q381 (cf_0_2 _ _ _) rfl dX1_isEmpty_18 ?_
    refine g_imul hx hb dX1_isEmpty_21 ?_
    refine lv_iload_n hx hb dX1_isEmpty_22 rfl (lv_at hl 1 rfl) ?_
    refine lv_bipush (v := zi 16) hx hb dX1_isEmpty_23 (by decide) ?_
    obtain ⟨g5, hh⟩ := gd_inv hh
    refine g_idiv hx hb ⟨g5, by decide, by decide⟩ dX1_isEmpty_25 ?_
    refine g_iadd hx hb dX1_isEmpty_26 ?_
    obtain ⟨g6, hh⟩ := gd_inv hh
    refine cm_iald (qz := 472) X hM ci_472 rfl rfl g6 dX1_isEmpty_27 ?_
    obtain ⟨g8, hh⟩ := gd_inv hh
    refine g_if_ne (tgt := 35) hx hb g8 dX1_isEmpty_28 (by decide) (fun c7 => ?_) (fun c7 => ?_)
    · replace hh := it_t c7 hh
      refine lv_iconst (v := zi 1) hx hb dX1_isEmpty_31 rfl ?_
      refine lv_goto (tgt := 36) hx hb dX1_isEmpty_32 (by decide) ?_
      refine W.eq (g2 := F0 m 36 ls [.int (zi (bz true))]) rfl ?_
      exact hret _ _ _ _ _ _ (rt0 hh) rfl dX1_isEmpty_36 hM
    · replace hh := it_f c7 hh
      refine lv_iconst (v := zi 0) hx hb dX1_isEmpty_35 rfl ?_
      refine W.eq (g2 := F0 m 36 ls [.int (zi (bz false))]) rfl ?_
      exact hret _ _ _ _ _ _ (rt0 hh) rfl dX1_isEmpty_36 hM
  · replace hh := it_f c3 hh
    refine lv_iconst (v := zi 0) hx hb dX1_isEmpty_35 rfl ?_
    refine W.eq (g2 := F0 m 36 ls [.int (zi (bz false))]) rfl ?_
    exact hret _ _ _ _ _ _ (rt0 hh) rfl dX1_isEmpty_36 hM
theorem cx_X1_181 : GoodIn lw_all (wsV "ManyEyes" 181 "ManyEyes" yX1_isEmpty (ws_ yX1_isEmpty cX1_isEmpty 3 (some .boolean))) ∧ yX1_isEmpty.cls = "ManyEyes" ∧ yX1_isEmpty.cls ≠ "java/lang/invoke/MethodHandle" ∧ yX1_isEmpty.cls ≠ "java/lang/invoke/VarHandle" ∧ (parseMethodDescriptor yX1_isEmpty.desc).map (fun d => d.parameters.length) = some 2 := ⟨lw_V q966 q968 qs29 q80 q969, by decide +kernel⟩
def C_isStart (S : yS) (x1 : Int) (x2 : Int) (x3 : Int) : Option (Bool × yS) := bd (C_isPlace S x1 x2) (fun v2 => if v2 = true then (bd (C_isHead x3) (fun v4 => if v4 = true then (bd (C_lays S (0 : Int)) (fun S8 => bd (C_isEmpty S8 x1 x2) (fun v10 => some (v10, S8)))) else (some (false, S)))) else (some (false, S)))
set_option maxHeartbeats 4000000 in
theorem wC_isStart (l : Launch) (DC : va_G) (dA : Nat → ClassId) (hC : Nat) (S : yS) (x1 x2 x3 : Int) {r : Bool} {S1 : yS} (hh : C_isStart S x1 x2 x3 = some (r, S1)) : ct_z l yX1_isStart cX1_isStart 4 (some .boolean) ({ frames := 4, cells := 0, slots := 0, locals := 106 } : Room) DC dA hC [.ref hC, .int (zi x1), .int (zi x2), .int (zi x3)] S r S1 := by
  refine co_z (by decide) (Nat.le_of_ble_eq_true rfl) ?_
  intro p e s m args below meth c Q ls X hret hl hM
  have hx := X.1.1
  have hb := X.1.2.1
  have hown := X.1.2.2.2.1
  have hts := X.1.2.2.2.2
  replace hl : lv_has ls 4 [(0, .ref (hC)), (1, .int (zi (x1))), (2, .int (zi (x2))), (3, .int (zi (x3)))] := hl
  unfold C_isStart at hh
  refine lv_aload_n hx hb dX1_isStart_0 rfl (lv_at hl 0 rfl) ?_
  refine lv_iload_n hx hb dX1_isStart_1 rfl (lv_at hl 1 rfl) ?_
  refine lv_iload_n hx hb dX1_isStart_2 rfl (lv_at hl 2 rfl) ?_
  obtain ⟨v2, k1, hh⟩ := bd_inv hh
  refine cc_z (rest := []) X hM (wC_isPlace l DC dA hC S x1 x2 k1) cx_X1_111.1 cx_X1_111.2 ⟨rfl, rfl⟩ ⟨Nat.le_of_ble_eq_true rfl, Nat.le_of_ble_eq_true rfl⟩ ⟨Nat.zero_le _, Nat.zero_le _⟩ hl.1 (Nat.le_of_ble_eq_true rfl) dX1_isStart_3 rfl (fun H locs hM => ?_)
  refine g_bif_eq (tgt := 16) hx hb dX1_isStart_6 (by decide) (fun c3 => ?_) (fun c3 => ?_)
  · replace hh := it_t c3 hh
    refine lv_iload_n hx hb dX1_isStart_9 rfl (lv_at hl 3 rfl) ?_
    obtain ⟨v4, k5, hh⟩ := bd_inv hh
    refine ccs_z (rest := []) X hM (wC_isHead l x3 k5) cx_X1_115.1 cx_X1_115.2 ⟨rfl, rfl⟩ ⟨Nat.le_of_ble_eq_true rfl, Nat.le_of_ble_eq_true rfl⟩ ⟨Nat.zero_le _, Nat.zero_le _⟩ hl.1 (Nat.le_of_ble_eq_true rfl) dX1_isStart_10 rfl (fun H locs hM => ?_)
    refine g_bif_ne (tgt := 18) hx hb dX1_isStart_13 (by decide) (fun c6 => ?_) (fun c6 => ?_)
    · replace hh := it_t c6 hh
      refine lv_aload_n hx hb dX1_isStart_18 rfl (lv_at hl 0 rfl) ?_
      refine lv_iconst (v := zi 0) hx hb dX1_isStart_19 rfl ?_
      obtain ⟨S8, k7, hh⟩ := bd_inv hh
      refine cc_v (rest := []) X hM (wC_lays l DC dA hC S (0 : Int) k7) cx_X1_94.1 cx_X1_94.2 ⟨rfl, rfl⟩ ⟨Nat.le_of_ble_eq_true rfl, Nat.le_of_ble_eq_true rfl⟩ ⟨Nat.zero_le _, Nat.zero_le _⟩ hl.1 (Nat.le_of_ble_eq_true rfl) dX1_isStart_20 rfl (fun H locs hM => ?_)
      refine lv_aload_n hx hb dX1_isStart_23 rfl (lv_at hl 0 rfl) ?_
      refine lv_iload_n hx hb dX1_isStart_24 rfl (lv_at hl 1 rfl) ?_
      refine lv_iload_n hx hb dX1_isStart_25 rfl (lv_at hl 2 rfl) ?_
      obtain ⟨v10, k9, hh⟩ := bd_inv hh
      refine cc_z (rest := []) X hM (wC_isEmpty l DC dA hC S8 x1 x2 k9) cx_X1_181.1 cx_X1_181.2 ⟨rfl, rfl⟩ ⟨Nat.le_of_ble_eq_true rfl, Nat.le_of_ble_eq_true rfl⟩ ⟨Nat.zero_le _, Nat.zero_le _⟩ hl.1 (Nat.le_of_ble_eq_true rfl) dX1_isStart_26 rfl (fun H locs hM => ?_)
      exact hret _ _ _ _ _ _ (rt1 hh) (rt2 hh) dX1_isStart_29 hM
    · replace hh := it_f c6 hh
      refine lv_iconst (v := zi 0) hx hb dX1_isStart_16 rfl ?_
      refine W.eq (g2 := F0 m 17 ls [.int (zi (bz false))]) rfl ?_
      exact hret _ _ _ _ _ _ (rt1 hh) (rt2 hh) dX1_isStart_17 hM
  · replace hh := it_f c3 hh
    refine lv_iconst (v := zi 0) hx hb dX1_isStart_16 rfl ?_
    refine W.eq (g2 := F0 m 17 ls [.int (zi (bz false))]) rfl ?_
    exact hret _ _ _ _ _ _ (rt1 hh) (rt2 hh) dX1_isStart_17 hM
def C_flown (S : yS) (x1 : Int) : Option Int := gd (r32 (S.2 2 5)) (if (S.2 2 5) = (-1) then (some (((-1) : Int))) else (bd (C_in x1 (0 : Int) (5 : Int)) (fun v3 => if v3 = true then (gd ((0 : Int) ≤ 6 + x1 ∧ (6 + x1 : Int) < 14) (some ((S.2 2 (6 + x1) : Int)))) else (some (((-1) : Int))))))
set_option maxHeartbeats 4000000 in
theorem wC_flown (l : Launch) (DC : va_G) (dA : Nat → ClassId) (hC : Nat) (S : yS) (x1 : Int) {r : Int} (hh : C_flown S x1 = some r) : ct_i l yX1_flown cX1_flown 2 (some .int) ({ frames := 2, cells := 0, slots := 0, locals := 62 } : Room) DC dA hC [.ref hC, .int (zi x1)] S r S := by
  refine co_i (by decide) (Nat.le_of_ble_eq_true rfl) ?_
  intro p e s m args below meth c Q ls X hret hl hM
  have hx := X.1.1
  have hb := X.1.2.1
  have hown := X.1.2.2.2.1
  have hts := X.1.2.2.2.2
  replace hl : lv_has ls 2 [(0, .ref (hC)), (1, .int (zi (x1)))] := hl
  unfold C_flown at hh
  refine lv_aload_n hx hb dX1_flown_0 rfl (lv_at hl 0 rfl) ?_
  refine cm_get X hM q379 (cf_0_0 _ _ _) rfl dX1_flown_1 ?_
  refine cm_getN X hM q161 (cf_1_0 _ _ _) rfl dX1_flown_4 ?_
  refine lv_iconst (v := zi 5) hx hb dX1_flown_7 rfl ?_
  refine cm_iald (qz := 2) X hM ci_2 rfl rfl (by decide) dX1_flown_8 ?_
  refine lv_iconst (v := zi (-1)) hx hb dX1_flown_9 rfl ?_
  obtain ⟨g2, hh⟩ := gd_inv hh
  refine g_icmp_eq (tgt := 22) hx hb ⟨g2, by decide⟩ dX1_flown_10 (by decide) (fun c1 => ?_) (fun c1 => ?_)
  · replace hh := it_t c1 hh
    refine lv_iconst (v := zi (-1)) hx hb dX1_flown_22 rfl ?_
    refine lv_goto (tgt := 38) hx hb dX1_flown_23 (by decide) ?_
    exact hret _ _ _ _ _ _ (rt0 hh) rfl dX1_flown_38 hM
  · replace hh := it_f c1 hh
    refine lv_iload_n hx hb dX1_flown_13 rfl (lv_at hl 1 rfl) ?_
    refine lv_iconst (v := zi 0) hx hb dX1_flown_14 rfl ?_
    refine lv_iconst (v := zi 5) hx hb dX1_flown_15 rfl ?_
    obtain ⟨v3, k4, hh⟩ := bd_inv hh
    refine ccs_z (rest := []) X hM (wC_in l x1 (0 : Int) (5 : Int) k4) cx_X1_66.1 cx_X1_66.2 ⟨rfl, rfl⟩ ⟨Nat.le_of_ble_eq_true rfl, Nat.le_of_ble_eq_true rfl⟩ ⟨Nat.zero_le _, Nat.zero_le _⟩ hl.1 (Nat.le_of_ble_eq_true rfl) dX1_flown_16 rfl (fun H locs hM => ?_)
    refine g_bif_ne (tgt := 26) hx hb dX1_flown_19 (by decide) (fun c5 => ?_) (fun c5 => ?_)
    · replace hh := it_t c5 hh
      refine lv_aload_n hx hb dX1_flown_26 rfl (lv_at hl 0 rfl) ?_
      refine cm_get X hM q379 (cf_0_0 _ _ _) rfl dX1_flown_27 ?_
      refine cm_getN X hM q161 (cf_1_0 _ _ _) rfl dX1_flown_30 ?_
      refine lv_bipush (v := zi 6) hx hb dX1_flown_33 (by decide) ?_
      refine lv_iload_n hx hb dX1_flown_35 rfl (lv_at hl 1 rfl) ?_
      refine g_iadd hx hb dX1_flown_36 ?_
      obtain ⟨g6, hh⟩ := gd_inv hh
      refine cm_iald (qz := 2) X hM ci_2 rfl rfl g6 dX1_flown_37 ?_
      exact hret _ _ _ _ _ _ (rt0 hh) rfl dX1_flown_38 hM
    · replace hh := it_f c5 hh
      refine lv_iconst (v := zi (-1)) hx hb dX1_flown_22 rfl ?_
      refine lv_goto (tgt := 38) hx hb dX1_flown_23 (by decide) ?_
      exact hret _ _ _ _ _ _ (rt0 hh) rfl dX1_flown_38 hM
def C_tick (S : yS) (x1 : Int) (x2 : Int) : Option Int := bd (C_in x1 (0 : Int) ((S.2 2 5) - 1)) (fun v1 => if v1 = true then (bd (C_in x2 (0 : Int) (4 : Int)) (fun v4 => if v4 = true then (gd ((0 : Int) ≤ x1 ∧ (x1 : Int) < 60) (gd ((0 : Int) ≤ x2 ∧ (x2 : Int) < 5) (some ((S.2 (52 + 1 + x1) x2 : Int))))) else (bd (C_in x2 (100 : Int) (99 + (S.2 2 12))) (fun v9 => if v9 = true then (gd ((0 : Int) ≤ x1 ∧ (x1 : Int) < 60) (gd ((0 : Int) ≤ x2 - 100 ∧ (x2 - 100 : Int) < 16) (some ((S.2 (113 + 1 + x1) (x2 - 100) : Int))))) else (bd (C_in x2 (200 : Int) (199 + (S.2 2 13))) (fun v14 => if v14 = true then (gd ((0 : Int) ≤ x1 ∧ (x1 : Int) < 60) (gd ((0 : Int) ≤ x2 - 200 ∧ (x2 - 200 : Int) < 16) (some ((S.2 (174 + 1 + x1) (x2 - 200) : Int))))) else (some (((-10000000) : Int))))))))) else (some (((-10000000) : Int))))
set_option maxHeartbeats 4000000 in
theorem wC_tick (l : Launch) (DC : va_G) (dA : Nat → ClassId) (hC : Nat) (S : yS) (x1 x2 : Int) {r : Int} (hh : C_tick S x1 x2 = some r) : ct_i l yX1_tick cX1_tick 3 (some .int) ({ frames := 2, cells := 0, slots := 0, locals := 62 } : Room) DC dA hC [.ref hC, .int (zi x1), .int (zi x2)] S r S := by
  refine co_i (by decide) (Nat.le_of_ble_eq_true rfl) ?_
  intro p e s m args below meth c Q ls X hret hl hM
  have hx := X.1.1
  have hb := X.1.2.1
  have hown := X.1.2.2.2.1
  have hts := X.1.2.2.2.2
  replace hl : lv_has ls 3 [(0, .ref (hC)), (1, .int (zi (x1))), (2, .int (zi (x2)))] := hl
  unfold C_tick at hh
  refine lv_iload_n hx hb dX1_tick_0 rfl (lv_at hl 1 rfl) ?_
  refine lv_iconst (v := zi 0) hx hb dX1_tick_1 rfl ?_
  refine lv_aload_n hx hb dX1_tick_2 rfl (lv_at hl 0 rfl) ?_
  refine cm_get X hM q379 (cf_0_0 _ _ _) rfl dX1_tick_3 ?_
  refine cm_getN X hM q161 (cf_1_0 _ _ _) rfl dX1_tick_6 ?_
  refine lv_iconst (v := zi 5) hx hb dX1_tick_9 rfl ?_
  refine cm_iald (qz := 2) X hM ci_2 rfl rfl (by decide) dX1_tick_10 ?_
  refine lv_iconst (v := zi 1) hx hb dX1_tick_11 rfl ?_
  refine g_isub hx hb dX1_tick_12 ?_
  obtain ⟨v1, k2, hh⟩ := bd_inv hh
  refine ccs_z (rest := []) X hM (wC_in l x1 (0 : Int) ((S.2 2 5) - 1) k2) cx_X1_66.1 cx_X1_66.2 ⟨rfl, rfl⟩ ⟨Nat.le_of_ble_eq_true rfl, Nat.le_of_ble_eq_true rfl⟩ ⟨Nat.zero_le _, Nat.zero_le _⟩ hl.1 (Nat.le_of_ble_eq_true rfl) dX1_tick_13 rfl (fun H locs hM => ?_)
  refine g_bif_ne (tgt := 23) hx hb dX1_tick_16 (by decide) (fun c3 => ?_) (fun c3 => ?_)
  · replace hh := it_t c3 hh
    refine lv_iload_n hx hb dX1_tick_23 rfl (lv_at hl 2 rfl) ?_
    refine lv_iconst (v := zi 0) hx hb dX1_tick_24 rfl ?_
    refine lv_iconst (v := zi 4) hx hb dX1_tick_25 rfl ?_
    obtain ⟨v4, k5, hh⟩ := bd_inv hh
    refine ccs_z (rest := []) X hM (wC_in l x2 (0 : Int) (4 : Int) k5) cx_X1_66.1 cx_X1_66.2 ⟨rfl, rfl⟩ ⟨Nat.le_of_ble_eq_true rfl, Nat.le_of_ble_eq_true rfl⟩ ⟨Nat.zero_le _, Nat.zero_le _⟩ hl.1 (Nat.le_of_ble_eq_true rfl) dX1_tick_26 rfl (fun H locs hM => ?_)
    refine g_bif_eq (tgt := 44) hx hb dX1_tick_29 (by decide) (fun c6 => ?_) (fun c6 => ?_)
    · replace hh := it_t c6 hh
      refine lv_aload_n hx hb dX1_tick_32 rfl (lv_at hl 0 rfl) ?_
      refine cm_get X hM q379 (cf_0_0 _ _ _) rfl dX1_tick_33 ?_
      refine cm_getN X hM q173 (cf_1_6 _ _ _) rfl dX1_tick_36 ?_
      refine lv_iload_n hx hb dX1_tick_39 rfl (lv_at hl 1 rfl) ?_
      obtain ⟨g7, hh⟩ := gd_inv hh
      refine cm_aald X hM (by decide) rfl (by decide) rfl g7 dX1_tick_40 ?_
      refine lv_iload_n hx hb dX1_tick_41 rfl (lv_at hl 2 rfl) ?_
      obtain ⟨g8, hh⟩ := gd_inv hh
      refine cm_iald (qz := (52 + 1 + x1)) X hM (cr_52 g7) (by have := g7.1; omega) rfl g8 dX1_tick_42 ?_
      exact hret _ _ _ _ _ _ (rt0 hh) rfl dX1_tick_43 hM
    · replace hh := it_f c6 hh
      refine lv_iload_n hx hb dX1_tick_44 rfl (lv_at hl 2 rfl) ?_
      refine lv_bipush (v := zi 100) hx hb dX1_tick_45 (by decide) ?_
      refine lv_bipush (v := zi 99) hx hb dX1_tick_47 (by decide) ?_
      refine lv_aload_n hx hb dX1_tick_49 rfl (lv_at hl 0 rfl) ?_
      refine cm_get X hM q379 (cf_0_0 _ _ _) rfl dX1_tick_50 ?_
      refine cm_getN X hM q161 (cf_1_0 _ _ _) rfl dX1_tick_53 ?_
      refine lv_bipush (v := zi 12) hx hb dX1_tick_56 (by decide) ?_
      refine cm_iald (qz := 2) X hM ci_2 rfl rfl (by decide) dX1_tick_58 ?_
      refine g_iadd hx hb dX1_tick_59 ?_
      obtain ⟨v9, k10, hh⟩ := bd_inv hh
      refine ccs_z (rest := []) X hM (wC_in l x2 (100 : Int) (99 + (S.2 2 12)) k10) cx_X1_66.1 cx_X1_66.2 ⟨rfl, rfl⟩ ⟨Nat.le_of_ble_eq_true rfl, Nat.le_of_ble_eq_true rfl⟩ ⟨Nat.zero_le _, Nat.zero_le _⟩ hl.1 (Nat.le_of_ble_eq_true rfl) dX1_tick_60 rfl (fun H locs hM => ?_)
      refine g_bif_eq (tgt := 81) hx hb dX1_tick_63 (by decide) (fun c11 => ?_) (fun c11 => ?_)
      · replace hh := it_t c11 hh
        refine lv_aload_n hx hb dX1_tick_66 rfl (lv_at hl 0 rfl) ?_
        refine cm_get X hM q379 (cf_0_0 _ _ _) rfl dX1_tick_67 ?_
        refine cm_getN X hM q175 (cf_1_7 _ _ _) rfl dX1_tick_70 ?_
        refine lv_iload_n hx hb dX1_tick_73 rfl (lv_at hl 1 rfl) ?_
        obtain ⟨g12, hh⟩ := gd_inv hh
        refine cm_aald X hM (by decide) rfl (by decide) rfl g12 dX1_tick_74 ?_
        refine lv_iload_n hx hb dX1_tick_75 rfl (lv_at hl 2 rfl) ?_
        refine lv_bipush (v := zi 100) hx hb dX1_tick_76 (by decide) ?_
        refine g_isub hx hb dX1_tick_78 ?_
        obtain ⟨g13, hh⟩ := gd_inv hh
        refine cm_iald (qz := (113 + 1 + x1)) X hM (cr_113 g12) (by have := g12.1; omega) rfl g13 dX1_tick_79 ?_
        exact hret _ _ _ _ _ _ (rt0 hh) rfl dX1_tick_80 hM
      · replace hh := it_f c11 hh
        refine lv_iload_n hx hb dX1_tick_81 rfl (lv_at hl 2 rfl) ?_
        refine lv_sipush (v := zi 200) hx hb dX1_tick_82 (by decide) ?_
        refine lv_sipush (v := zi 199) hx hb dX1_tick_85 (by decide) ?_
        refine lv_aload_n hx hb dX1_tick_88 rfl (lv_at hl 0 rfl) ?_
        refine cm_get X hM q379 (cf_0_0 _ _ _) rfl dX1_tick_89 ?_
        refine cm_getN X hM q161 (cf_1_0 _ _ _) rfl dX1_tick_92 ?_
        refine lv_bipush (v := zi 13) hx hb dX1_tick_95 (by decide) ?_
        refine cm_iald (qz := 2) X hM ci_2 rfl rfl (by decide) dX1_tick_97 ?_
        refine g_iadd hx hb dX1_tick_98 ?_
        obtain ⟨v14, k15, hh⟩ := bd_inv hh
        refine ccs_z (rest := []) X hM (wC_in l x2 (200 : Int) (199 + (S.2 2 13)) k15) cx_X1_66.1 cx_X1_66.2 ⟨rfl, rfl⟩ ⟨Nat.le_of_ble_eq_true rfl, Nat.le_of_ble_eq_true rfl⟩ ⟨Nat.zero_le _, Nat.zero_le _⟩ hl.1 (Nat.le_of_ble_eq_true rfl) dX1_tick_99 rfl (fun H locs hM => ?_)
        refine g_bif_eq (tgt := 123) hx hb dX1_tick_102 (by decide) (fun c16 => ?_) (fun c16 => ?_)
        · replace hh := it_t c16 hh
          refine lv_aload_n hx hb dX1_tick_105 rfl (lv_at hl 0 rfl) ?_
          refine cm_get X hM q379 (cf_0_0 _ _ _) rfl dX1_tick_106 ?_
          refine cm_getN X hM q177 (cf_1_8 _ _ _) rfl dX1_tick_109 ?_
          refine lv_iload_n hx hb dX1_tick_112 rfl (lv_at hl 1 rfl) ?_
          obtain ⟨g17, hh⟩ := gd_inv hh
          refine cm_aald X hM (by decide) rfl (by decide) rfl g17 dX1_tick_113 ?_
          refine lv_iload_n hx hb dX1_tick_114 rfl (lv_at hl 2 rfl) ?_
          refine lv_sipush (v := zi 200) hx hb dX1_tick_115 (by decide) ?_
          refine g_isub hx hb dX1_tick_118 ?_
          obtain ⟨g18, hh⟩ := gd_inv hh
          refine cm_iald (qz := (174 + 1 + x1)) X hM (cr_174 g17) (by have := g17.1; omega) rfl g18 dX1_tick_119 ?_
          refine lv_goto (tgt := 126) hx hb dX1_tick_120 (by decide) ?_
          exact hret _ _ _ _ _ _ (rt0 hh) rfl dX1_tick_126 hM
        · replace hh := it_f c16 hh
          refine g_ldcw (v := (-10000000)) (z := (-10000000)) hx hb (by decide) hown (hts _ q1111) dX1_tick_123 ?_
          exact hret _ _ _ _ _ _ (rt0 hh) rfl dX1_tick_126 hM
  · replace hh := it_f c3 hh
    refine g_ldcw (v := (-10000000)) (z := (-10000000)) hx hb (by decide) hown (hts _ q1111) dX1_tick_19 ?_
    exact hret _ _ _ _ _ _ (rt0 hh) rfl dX1_tick_22 hM
def C_turned (S : yS) (x1 : Int) (x2 : Int) : Option (Int × yS) := bd (C_isOne S (4 : Int) x1) (fun v2 => if v2 = true then (bd (C_in x2 ((-8) : Int) (8 : Int)) (fun v4 => if v4 = true then (gd ((0 : Int) ≤ x1 ∧ (x1 : Int) < 6) (gd (r32 (S.2 (45 + 1 + x1) 3)) (if (S.2 (45 + 1 + x1) 3) = 20 then (some (((-1) : Int), S)) else (gd ((0 : Int) ≤ x1 ∧ (x1 : Int) < 6) (gd ((0 : Int) ≤ 4 + (S.2 (45 + 1 + x1) 3) ∧ (4 + (S.2 (45 + 1 + x1) 3) : Int) < 24) (nm (cas S (45 + 1 + x1) (4 + (S.2 (45 + 1 + x1) 3)) x2) (fun S12 => nm (cas S12 (45 + 1 + x1) (3 : Int) ((S12.2 (45 + 1 + x1) 3) + 1)) (fun S14 => some ((S14.2 (45 + 1 + x1) 3 : Int), S14))))))))) else (some (((-1) : Int), S)))) else (some (((-1) : Int), S)))
set_option maxHeartbeats 4000000 in
theorem wC_turned (l : Launch) (DC : va_G) (dA : Nat → ClassId) (hC : Nat) (S : yS) (x1 x2 : Int) {r : Int} {S1 : yS} (hh : C_turned S x1 x2 = some (r, S1)) : ct_i l yX1_turned cX1_turned 4 (some .int) ({ frames := 3, cells := 0, slots := 0, locals := 84 } : Room) DC dA hC [.ref hC, .int (zi x1), .int (zi x2)] S r S1 := by
  refine co_i (by decide) (Nat.le_of_ble_eq_true rfl) ?_
  intro p e s m args below meth c Q ls X hret hl hM
  have hx := X.1.1
  have hb := X.1.2.1
  have hown := X.1.2.2.2.1
  have hts := X.1.2.2.2.2
  replace hl : lv_has ls 4 [(0, .ref (hC)), (1, .int (zi (x1))), (2, .int (zi (x2)))] := hl
  unfold C_turned at hh
  refine lv_aload_n hx hb dX1_turned_0 rfl (lv_at hl 0 rfl) ?_
  refine lv_iconst (v := zi 4) hx hb dX1_turned_1 rfl ?_
  refine lv_iload_n hx hb dX1_turned_2 rfl (lv_at hl 1 rfl) ?_
  obtain ⟨v2, k1, hh⟩ := bd_inv hh
  refine cc_z (rest := []) X hM (wC_isOne l DC dA hC S (4 : Int) x1 k1) cx_X1_135.1 cx_X1_135.2 ⟨rfl, rfl⟩ ⟨Nat.le_of_ble_eq_true rfl, Nat.le_of_ble_eq_true rfl⟩ ⟨Nat.zero_le _, Nat.zero_le _⟩ hl.1 (Nat.le_of_ble_eq_true rfl) dX1_turned_3 rfl (fun H locs hM => ?_)
  refine g_bif_eq (tgt := 36) hx hb dX1_turned_6 (by decide) (fun c3 => ?_) (fun c3 => ?_)
  · replace hh := it_t c3 hh
    refine lv_iload_n hx hb dX1_turned_9 rfl (lv_at hl 2 rfl) ?_
    refine lv_bipush (v := zi (-8)) hx hb dX1_turned_10 (by decide) ?_
    refine lv_bipush (v := zi 8) hx hb dX1_turned_12 (by decide) ?_
    obtain ⟨v4, k5, hh⟩ := bd_inv hh
    refine ccs_z (rest := []) X hM (wC_in l x2 ((-8) : Int) (8 : Int) k5) cx_X1_66.1 cx_X1_66.2 ⟨rfl, rfl⟩ ⟨Nat.le_of_ble_eq_true rfl, Nat.le_of_ble_eq_true rfl⟩ ⟨Nat.zero_le _, Nat.zero_le _⟩ hl.1 (Nat.le_of_ble_eq_true rfl) dX1_turned_14 rfl (fun H locs hM => ?_)
    refine g_bif_eq (tgt := 36) hx hb dX1_turned_17 (by decide) (fun c6 => ?_) (fun c6 => ?_)
    · replace hh := it_t c6 hh
      refine lv_aload_n hx hb dX1_turned_20 rfl (lv_at hl 0 rfl) ?_
      refine cm_get X hM q379 (cf_0_0 _ _ _) rfl dX1_turned_21 ?_
      refine cm_getN X hM q171 (cf_1_5 _ _ _) rfl dX1_turned_24 ?_
      refine lv_iload_n hx hb dX1_turned_27 rfl (lv_at hl 1 rfl) ?_
      obtain ⟨g7, hh⟩ := gd_inv hh
      refine cm_aald X hM (by decide) rfl (by decide) rfl g7 dX1_turned_28 ?_
      refine lv_iconst (v := zi 3) hx hb dX1_turned_29 rfl ?_
      refine cm_iald (qz := (45 + 1 + x1)) X hM (cr_45 g7) (by have := g7.1; omega) rfl (by decide) dX1_turned_30 ?_
      refine lv_bipush (v := zi 20) hx hb dX1_turned_31 (by decide) ?_
      obtain ⟨g9, hh⟩ := gd_inv hh
      refine g_icmp_ne (tgt := 38) hx hb ⟨g9, by decide⟩ dX1_turned_33 (by decide) (fun c8 => ?_) (fun c8 => ?_)
      · replace hh := it_t c8 hh
        refine lv_iconst (v := zi (-1)) hx hb dX1_turned_36 rfl ?_
        exact hret _ _ _ _ _ _ (rt1 hh) (rt2 hh) dX1_turned_37 hM
      · replace hh := it_f c8 hh
        refine lv_aload_n hx hb dX1_turned_38 rfl (lv_at hl 0 rfl) ?_
        refine cm_get X hM q379 (cf_0_0 _ _ _) rfl dX1_turned_39 ?_
        refine cm_getN X hM q171 (cf_1_5 _ _ _) rfl dX1_turned_42 ?_
        refine lv_iload_n hx hb dX1_turned_45 rfl (lv_at hl 1 rfl) ?_
        obtain ⟨g10, hh⟩ := gd_inv hh
        refine cm_aald X hM (by decide) rfl (by decide) rfl g10 dX1_turned_46 ?_
        refine lv_astore_n (lv' := [(3, .ref (hC + (45 + 1 + Int.toNat x1))), (0, .ref (hC)), (1, .int (zi (x1))), (2, .int (zi (x2)))]) hx hb dX1_turned_47 rfl hl (by decide) rfl (fun ls hl => ?_)
        refine lv_aload_n hx hb dX1_turned_48 rfl (lv_at hl 0 rfl) ?_
        refine lv_iconst (v := zi 4) hx hb dX1_turned_49 rfl ?_
        refine lv_aload_n hx hb dX1_turned_50 rfl (lv_at hl 0 rfl) ?_
        refine lv_iconst (v := zi 3) hx hb dX1_turned_51 rfl ?_
        refine cm_iald (qz := (45 + 1 + x1)) X hM (cr_45 g10) (by have := g10.1; omega) rfl (by decide) dX1_turned_52 ?_
        refine g_iadd hx hb dX1_turned_53 ?_
        refine lv_iload_n hx hb dX1_turned_54 rfl (lv_at hl 3 rfl) ?_
        obtain ⟨g11, hh⟩ := gd_inv hh
        refine cm_iast (qz := (45 + 1 + x1)) X hM (cr_45 g10) (by have := g10.1; omega) rfl g11 dX1_turned_55 (fun H locs S12 e13 hM => ?_)
        replace hh := nm_inv hh S12 e13
        refine lv_aload_n hx hb dX1_turned_56 rfl (lv_at hl 0 rfl) ?_
        refine lv_iconst (v := zi 3) hx hb dX1_turned_57 rfl ?_
        refine lv_dup2_11 hx hb dX1_turned_58 rfl rfl ?_
        refine cm_iald (qz := (45 + 1 + x1)) X hM (cr_45 g10) (by have := g10.1; omega) rfl (by decide) dX1_turned_59 ?_
        refine lv_iconst (v := zi 1) hx hb dX1_turned_60 rfl ?_
        refine g_iadd hx hb dX1_turned_61 ?_
        refine cm_iast (qz := (45 + 1 + x1)) X hM (cr_45 g10) (by have := g10.1; omega) rfl (by decide) dX1_turned_62 (fun H locs S14 e15 hM => ?_)
        replace hh := nm_inv hh S14 e15
        refine lv_aload_n hx hb dX1_turned_63 rfl (lv_at hl 0 rfl) ?_
        refine lv_iconst (v := zi 3) hx hb dX1_turned_64 rfl ?_
        refine cm_iald (qz := (45 + 1 + x1)) X hM (cr_45 g10) (by have := g10.1; omega) rfl (by decide) dX1_turned_65 ?_
        exact hret _ _ _ _ _ _ (rt1 hh) (rt2 hh) dX1_turned_66 hM
    · replace hh := it_f c6 hh
      refine lv_iconst (v := zi (-1)) hx hb dX1_turned_36 rfl ?_
      exact hret _ _ _ _ _ _ (rt1 hh) (rt2 hh) dX1_turned_37 hM
  · replace hh := it_f c3 hh
    refine lv_iconst (v := zi (-1)) hx hb dX1_turned_36 rfl ?_
    exact hret _ _ _ _ _ _ (rt1 hh) (rt2 hh) dX1_turned_37 hM
def C_about_B101 (K70 : Int → Int → Option Int) (S : yS) (x3 : Int) (t0 : Int) (t1 : Int) : Option Int := nm (t1 + t0) (fun v19 => nm ((x3 + 1) : Int) (fun v21 => K70 v19 v21))
def C_about_b70 (S : yS) (K70 : Int → Int → Option Int) (x2 : Int) (x3 : Int) : Option Int := gd (r32 (x3) ∧ r32 ((S.1 2) * (S.1 3))) (if x3 < ((S.1 2) * (S.1 3)) then (gd ((0 : Int) ≤ x3 ∧ (x3 : Int) < 576) (gd (r32 (S.2 3 x3)) (if (S.2 3 x3) ≤ 0 then (C_about_B101 K70 S x3 (0 : Int) x2) else (C_about_B101 K70 S x3 (1 : Int) x2)))) else (some ((x2 : Int))))
def C_about_L70 (S : yS) : Nat → Int → Int → Option Int
  | 0 => fun _ _ => none
  | n + 1 => fun x2 x3 => C_about_b70 S (C_about_L70 S n) x2 x3
def C_about (S : yS) (x1 : Int) : Option Int := bd (C_in x1 (0 : Int) (1 : Int)) (fun v1 => if v1 = true then (gd (r32 (x1)) (if x1 = 0 then (some ((S.1 2 : Int))) else (some ((S.1 3 : Int))))) else (bd (C_in x1 (2 : Int) (6 : Int)) (fun v6 => if v6 = true then (gd ((0 : Int) ≤ x1 - 2 ∧ (x1 - 2 : Int) < 14) (some ((S.2 2 (x1 - 2) : Int)))) else (gd (r32 (x1)) (if x1 = 7 then (some ((S.1 5 : Int))) else (gd (r32 (x1)) (if x1 = 8 then (C_about_L70 S FU (0 : Int) (0 : Int)) else (some (((-1) : Int))))))))))
set_option maxHeartbeats 4000000 in
theorem wC_about (l : Launch) (DC : va_G) (dA : Nat → ClassId) (hC : Nat) (S : yS) (x1 : Int) {r : Int} (hh : C_about S x1 = some r) : ct_i l yX1_about cX1_about 4 (some .int) ({ frames := 2, cells := 0, slots := 0, locals := 62 } : Room) DC dA hC [.ref hC, .int (zi x1)] S r S := by
  refine co_i (by decide) (Nat.le_of_ble_eq_true rfl) ?_
  intro p e s m args below meth c Q ls X hret hl hM
  have hx := X.1.1
  have hb := X.1.2.1
  have hown := X.1.2.2.2.1
  have hts := X.1.2.2.2.2
  have hB101 : ∀ (x3 : Int) (t0 : Int) (t1 : Int) (K70 : Int → Int → Option Int) (hK70 : (∀ (x2 : Int) (x3 : Int), K70 x2 x3 = some r → ∀ (H : Heap) (locs : List Loc) (ls : Array Slot), CX DC dA hC (cA hC) S s H locs → lv_has ls 4 [(0, .ref (hC)), (2, .int (zi (x2))), (3, .int (zi (x3)))] → W p l e ({ frames := 2, cells := 0, slots := 0, locals := 62 } : Room) s m args below meth c H locs 0 0 Q (F0 m 70 ls []))), C_about_B101 K70 S x3 t0 t1 = some r → ∀ (H : Heap) (locs : List Loc) (ls : Array Slot), CX DC dA hC (cA hC) S s H locs → lv_has ls 4 [(0, .ref (hC)), (3, .int (zi (x3)))] → W p l e ({ frames := 2, cells := 0, slots := 0, locals := 62 } : Room) s m args below meth c H locs 0 0 Q (F0 m 101 ls [.int (zi (t0)), .int (zi (t1))]) := by
    intro x3 t0 t1 K70 hK70 hh H locs ls hM hl
    unfold C_about_B101 at hh
    refine g_iadd hx hb dX1_about_101 ?_
    refine g_nmi hx hb (fun v19 e20 => ?_)
    replace hh := nm_inv hh v19 e20
    refine lv_istore_n (lv' := [(2, .int (zi (v19))), (0, .ref (hC)), (3, .int (zi (x3)))]) hx hb dX1_about_102 rfl hl (by decide) rfl (fun ls hl => ?_)
    obtain ⟨v21, e22⟩ : ∃ z : Int, z = x3 + 1 := ⟨_, rfl⟩
    replace hh := nm_inv hh v21 e22
    refine lv_iinc (v := zi v21) (lv' := [(3, .int (zi (v21))), (2, .int (zi (v19))), (0, .ref (hC))]) hx hb dX1_about_103 hl (k := 2) rfl (by rw [e22]; exact zi_add _ _) (by decide) rfl (fun ls hl => ?_)
    refine lv_goto (tgt := 70) hx hb dX1_about_106 (by decide) ?_
    exact hK70 v19 v21 hh _ _ _ hM (lv_sub hl [2, 1, 0] rfl)
  have hL70 : ∀ (n : Nat) (x2 : Int) (x3 : Int), C_about_L70 S n x2 x3 = some r → ∀ (H : Heap) (locs : List Loc) (ls : Array Slot), CX DC dA hC (cA hC) S s H locs → lv_has ls 4 [(0, .ref (hC)), (2, .int (zi (x2))), (3, .int (zi (x3)))] → W p l e ({ frames := 2, cells := 0, slots := 0, locals := 62 } : Room) s m args below meth c H locs 0 0 Q (F0 m 70 ls []) := by
    intro   n
    induction n with
    | zero => intro x2 x3 hh; exact no_some hh
    | succ n ih =>
      intro x2 x3 hh H locs ls hM hl
      replace hh : C_about_b70 S (C_about_L70 S n) x2 x3 = some r := hh
      unfold C_about_b70 at hh
      have hK70 := ih
      refine lv_iload_n hx hb dX1_about_70 rfl (lv_at hl 2 rfl) ?_
      refine lv_aload_n hx hb dX1_about_71 rfl (lv_at hl 0 rfl) ?_
      refine cm_get X hM q381 (cf_0_2 _ _ _) rfl dX1_about_72 ?_
      refine lv_aload_n hx hb dX1_about_75 rfl (lv_at hl 0 rfl) ?_
      refine cm_get X hM q382 (cf_0_3 _ _ _) rfl dX1_about_76 ?_
      refine g_imul hx hb dX1_about_79 ?_
      obtain ⟨g15, hh⟩ := gd_inv hh
      refine g_icmp_ge (tgt := 109) hx hb g15 dX1_about_80 (by decide) (fun c14 => ?_) (fun c14 => ?_)
      · replace hh := it_t c14 hh
        refine lv_iload_n hx hb dX1_about_83 rfl (lv_at hl 1 rfl) ?_
        refine lv_aload_n hx hb dX1_about_84 rfl (lv_at hl 0 rfl) ?_
        refine cm_get X hM q379 (cf_0_0 _ _ _) rfl dX1_about_85 ?_
        refine cm_getN X hM q163 (cf_1_1 _ _ _) rfl dX1_about_88 ?_
        refine lv_iload_n hx hb dX1_about_91 rfl (lv_at hl 2 rfl) ?_
        obtain ⟨g16, hh⟩ := gd_inv hh
        refine cm_iald (qz := 3) X hM ci_3 rfl rfl g16 dX1_about_92 ?_
        obtain ⟨g18, hh⟩ := gd_inv hh
        refine g_if_le (tgt := 100) hx hb g18 dX1_about_93 (by decide) (fun c17 => ?_) (fun c17 => ?_)
        · replace hh := it_t c17 hh
          refine lv_iconst (v := zi 0) hx hb dX1_about_100 rfl ?_
          exact hB101 x3 (0 : Int) x2 _ hK70 hh _ _ _ hM (lv_sub hl [0, 2] rfl)
        · replace hh := it_f c17 hh
          refine lv_iconst (v := zi 1) hx hb dX1_about_96 rfl ?_
          refine lv_goto (tgt := 101) hx hb dX1_about_97 (by decide) ?_
          exact hB101 x3 (1 : Int) x2 _ hK70 hh _ _ _ hM (lv_sub hl [0, 2] rfl)
      · replace hh := it_f c14 hh
        refine lv_iload_n hx hb dX1_about_109 rfl (lv_at hl 1 rfl) ?_
        exact hret _ _ _ _ _ _ (rt0 hh) rfl dX1_about_110 hM
  replace hl : lv_has ls 4 [(0, .ref (hC)), (1, .int (zi (x1)))] := hl
  unfold C_about at hh
  refine lv_iload_n hx hb dX1_about_0 rfl (lv_at hl 1 rfl) ?_
  refine lv_iconst (v := zi 0) hx hb dX1_about_1 rfl ?_
  refine lv_iconst (v := zi 1) hx hb dX1_about_2 rfl ?_
  obtain ⟨v1, k2, hh⟩ := bd_inv hh
  refine ccs_z (rest := []) X hM (wC_in l x1 (0 : Int) (1 : Int) k2) cx_X1_66.1 cx_X1_66.2 ⟨rfl, rfl⟩ ⟨Nat.le_of_ble_eq_true rfl, Nat.le_of_ble_eq_true rfl⟩ ⟨Nat.zero_le _, Nat.zero_le _⟩ hl.1 (Nat.le_of_ble_eq_true rfl) dX1_about_3 rfl (fun H locs hM => ?_)
  refine g_bif_eq (tgt := 25) hx hb dX1_about_6 (by decide) (fun c3 => ?_) (fun c3 => ?_)
  · replace hh := it_t c3 hh
    refine lv_iload_n hx hb dX1_about_9 rfl (lv_at hl 1 rfl) ?_
    obtain ⟨g5, hh⟩ := gd_inv hh
    refine g_if_ne (tgt := 20) hx hb g5 dX1_about_10 (by decide) (fun c4 => ?_) (fun c4 => ?_)
    · replace hh := it_t c4 hh
      refine lv_aload_n hx hb dX1_about_13 rfl (lv_at hl 0 rfl) ?_
      refine cm_get X hM q381 (cf_0_2 _ _ _) rfl dX1_about_14 ?_
      refine lv_goto (tgt := 24) hx hb dX1_about_17 (by decide) ?_
      exact hret _ _ _ _ _ _ (rt0 hh) rfl dX1_about_24 hM
    · replace hh := it_f c4 hh
      refine lv_aload_n hx hb dX1_about_20 rfl (lv_at hl 0 rfl) ?_
      refine cm_get X hM q382 (cf_0_3 _ _ _) rfl dX1_about_21 ?_
      exact hret _ _ _ _ _ _ (rt0 hh) rfl dX1_about_24 hM
  · replace hh := it_f c3 hh
    refine lv_iload_n hx hb dX1_about_25 rfl (lv_at hl 1 rfl) ?_
    refine lv_iconst (v := zi 2) hx hb dX1_about_26 rfl ?_
    refine lv_bipush (v := zi 6) hx hb dX1_about_27 (by decide) ?_
    obtain ⟨v6, k7, hh⟩ := bd_inv hh
    refine ccs_z (rest := []) X hM (wC_in l x1 (2 : Int) (6 : Int) k7) cx_X1_66.1 cx_X1_66.2 ⟨rfl, rfl⟩ ⟨Nat.le_of_ble_eq_true rfl, Nat.le_of_ble_eq_true rfl⟩ ⟨Nat.zero_le _, Nat.zero_le _⟩ hl.1 (Nat.le_of_ble_eq_true rfl) dX1_about_29 rfl (fun H locs hM => ?_)
    refine g_bif_eq (tgt := 47) hx hb dX1_about_32 (by decide) (fun c8 => ?_) (fun c8 => ?_)
    · replace hh := it_t c8 hh
      refine lv_aload_n hx hb dX1_about_35 rfl (lv_at hl 0 rfl) ?_
      refine cm_get X hM q379 (cf_0_0 _ _ _) rfl dX1_about_36 ?_
      refine cm_getN X hM q161 (cf_1_0 _ _ _) rfl dX1_about_39 ?_
      refine lv_iload_n hx hb dX1_about_42 rfl (lv_at hl 1 rfl) ?_
      refine lv_iconst (v := zi 2) hx hb dX1_about_43 rfl ?_
      refine g_isub hx hb dX1_about_44 ?_
      obtain ⟨g9, hh⟩ := gd_inv hh
      refine cm_iald (qz := 2) X hM ci_2 rfl rfl g9 dX1_about_45 ?_
      exact hret _ _ _ _ _ _ (rt0 hh) rfl dX1_about_46 hM
    · replace hh := it_f c8 hh
      refine lv_iload_n hx hb dX1_about_47 rfl (lv_at hl 1 rfl) ?_
      refine lv_bipush (v := zi 7) hx hb dX1_about_48 (by decide) ?_
      obtain ⟨g11, hh⟩ := gd_inv hh
      refine g_icmp_ne (tgt := 58) hx hb ⟨g11, by decide⟩ dX1_about_50 (by decide) (fun c10 => ?_) (fun c10 => ?_)
      · replace hh := it_t c10 hh
        refine lv_aload_n hx hb dX1_about_53 rfl (lv_at hl 0 rfl) ?_
        refine cm_get X hM q384 (cf_0_5 _ _ _) rfl dX1_about_54 ?_
        exact hret _ _ _ _ _ _ (rt0 hh) rfl dX1_about_57 hM
      · replace hh := it_f c10 hh
        refine lv_iload_n hx hb dX1_about_58 rfl (lv_at hl 1 rfl) ?_
        refine lv_bipush (v := zi 8) hx hb dX1_about_59 (by decide) ?_
        obtain ⟨g13, hh⟩ := gd_inv hh
        refine g_icmp_eq (tgt := 66) hx hb ⟨g13, by decide⟩ dX1_about_61 (by decide) (fun c12 => ?_) (fun c12 => ?_)
        · replace hh := it_t c12 hh
          refine lv_iconst (v := zi 0) hx hb dX1_about_66 rfl ?_
          refine lv_istore_n (lv' := [(2, .int (zi (0))), (0, .ref (hC)), (1, .int (zi (x1)))]) hx hb dX1_about_67 rfl hl (by decide) rfl (fun ls hl => ?_)
          refine lv_iconst (v := zi 0) hx hb dX1_about_68 rfl ?_
          refine lv_istore_n (lv' := [(3, .int (zi (0))), (2, .int (zi (0))), (0, .ref (hC)), (1, .int (zi (x1)))]) hx hb dX1_about_69 rfl hl (by decide) rfl (fun ls hl => ?_)
          exact hL70 FU (0 : Int) (0 : Int) hh _ _ _ hM (lv_sub hl [2, 1, 0] rfl)
        · replace hh := it_f c12 hh
          refine lv_iconst (v := zi (-1)) hx hb dX1_about_64 rfl ?_
          exact hret _ _ _ _ _ _ (rt0 hh) rfl dX1_about_65 hM
