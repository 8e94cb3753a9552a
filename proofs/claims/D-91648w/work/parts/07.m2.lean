set_option maxRecDepth 100000
def M_ray (S : xS) (x1 : Int) (x2 : Int) (x3 : Int) (x4 : Int) (x5 : Int) : Option (Int × xS) := bd (M_isPlace S x1 x2) (fun v2 => if v2 = true then (bd (M_isSide x3) (fun v5 => if v5 = true then (bd (M_isTick x4) (fun v8 => if v8 = true then (bd (M_lay S x4) (fun S11 => bd (M_shoot S11 x1 x2 x3) (fun S13 => gd (r32 (x5)) (if x5 = 0 then (gd ((0 : Int) ≤ x3 ∧ (x3 : Int) < 64) (some ((S13.2 6 x3 : Int), S13))) else (gd ((0 : Int) ≤ x3 ∧ (x3 : Int) < 64) (some ((S13.2 7 x3 : Int), S13))))))) else (some (((-1) : Int), S)))) else (some (((-1) : Int), S)))) else (some (((-1) : Int), S)))
set_option maxHeartbeats 4000000 in
theorem wM_ray (l : Launch) (DM : va_G) (dA : Nat → ClassId) (h : Nat) (S : xS) (x1 x2 x3 x4 x5 : Int) {r : Int} {S1 : xS} (hh : M_ray S x1 x2 x3 x4 x5 = some (r, S1)) : mt_i l yX5_ray cX5_ray 6 (some .int) ({ frames := 4, cells := 0, slots := 0, locals := 80 } : Room) DM dA h [.int (zi x1), .int (zi x2), .int (zi x3), .int (zi x4), .int (zi x5)] S r S1 := by
  refine mo_i (by decide) rfl (Nat.le_of_ble_eq_true rfl) ?_
  intro p e s m args below meth c Q ls X hret hl hM
  have hx := X.1.1
  have hb := X.1.2.1
  have hown := X.1.2.2.2.1
  have hts := X.1.2.2.2.2
  skip
  replace hl : lv_has ls 6 [(0, .ref (h)), (1, .int (zi (x1))), (2, .int (zi (x2))), (3, .int (zi (x3))), (4, .int (zi (x4))), (5, .int (zi (x5)))] := hl
  unfold M_ray at hh
  refine lv_aload_n hx hb dX5_ray_0 rfl (lv_at hl 0 rfl) ?_
  refine lv_iload_n hx hb dX5_ray_1 rfl (lv_at hl 1 rfl) ?_
  refine lv_iload_n hx hb dX5_ray_2 rfl (lv_at hl 2 rfl) ?_
  obtain ⟨v2, k1, hh⟩ := bd_inv hh
  refine mc_z (rest := []) X hM (wM_isPlace l DM dA h S x1 x2 k1) c5_isPlace.1 c5_isPlace.2 ⟨rfl, rfl⟩ ⟨Nat.le_of_ble_eq_true rfl, Nat.le_of_ble_eq_true rfl⟩ ⟨Nat.zero_le _, Nat.zero_le _⟩ hl.1 (Nat.le_of_ble_eq_true rfl) dX5_ray_3 rfl (fun H locs hM => ?_)
  refine g_bif_eq (tgt := 24) hx hb dX5_ray_6 (by decide) (fun c3 => ?_) (fun c3 => ?_)
  · replace hh := it_t c3 hh
    refine lv_iload_n hx hb dX5_ray_9 rfl (lv_at hl 3 rfl) ?_
    obtain ⟨v5, k4, hh⟩ := bd_inv hh
    refine mcs_z (rest := []) X hM (wM_isSide l x3 k4) c5_isSide.1 c5_isSide.2 ⟨rfl, rfl⟩ ⟨Nat.le_of_ble_eq_true rfl, Nat.le_of_ble_eq_true rfl⟩ ⟨Nat.zero_le _, Nat.zero_le _⟩ hl.1 (Nat.le_of_ble_eq_true rfl) dX5_ray_10 rfl (fun H locs hM => ?_)
    refine g_bif_eq (tgt := 24) hx hb dX5_ray_13 (by decide) (fun c6 => ?_) (fun c6 => ?_)
    · replace hh := it_t c6 hh
      refine lv_iload hx hb dX5_ray_16 (lv_at hl 4 rfl) ?_
      obtain ⟨v8, k7, hh⟩ := bd_inv hh
      refine mcs_z (rest := []) X hM (wM_isTick l x4 k7) c5_isTick.1 c5_isTick.2 ⟨rfl, rfl⟩ ⟨Nat.le_of_ble_eq_true rfl, Nat.le_of_ble_eq_true rfl⟩ ⟨Nat.zero_le _, Nat.zero_le _⟩ hl.1 (Nat.le_of_ble_eq_true rfl) dX5_ray_18 rfl (fun H locs hM => ?_)
      refine g_bif_ne (tgt := 26) hx hb dX5_ray_21 (by decide) (fun c9 => ?_) (fun c9 => ?_)
      · replace hh := it_t c9 hh
        refine lv_aload_n hx hb dX5_ray_26 rfl (lv_at hl 0 rfl) ?_
        refine lv_iload hx hb dX5_ray_27 (lv_at hl 4 rfl) ?_
        obtain ⟨S11, k10, hh⟩ := bd_inv hh
        refine mc_v (rest := []) X hM (wM_lay l DM dA h S x4 k10) c5_lay.1 c5_lay.2 ⟨rfl, rfl⟩ ⟨Nat.le_of_ble_eq_true rfl, Nat.le_of_ble_eq_true rfl⟩ ⟨Nat.zero_le _, Nat.zero_le _⟩ hl.1 (Nat.le_of_ble_eq_true rfl) dX5_ray_29 rfl (fun H locs hM => ?_)
        refine lv_aload_n hx hb dX5_ray_32 rfl (lv_at hl 0 rfl) ?_
        refine lv_iload_n hx hb dX5_ray_33 rfl (lv_at hl 1 rfl) ?_
        refine lv_iload_n hx hb dX5_ray_34 rfl (lv_at hl 2 rfl) ?_
        refine lv_iload_n hx hb dX5_ray_35 rfl (lv_at hl 3 rfl) ?_
        obtain ⟨S13, k12, hh⟩ := bd_inv hh
        refine mc_v (rest := []) X hM (wM_shoot l DM dA h S11 x1 x2 x3 k12) c5_shoot.1 c5_shoot.2 ⟨rfl, rfl⟩ ⟨Nat.le_of_ble_eq_true rfl, Nat.le_of_ble_eq_true rfl⟩ ⟨Nat.zero_le _, Nat.zero_le _⟩ hl.1 (Nat.le_of_ble_eq_true rfl) dX5_ray_36 rfl (fun H locs hM => ?_)
        refine lv_iload hx hb dX5_ray_39 (lv_at hl 5 rfl) ?_
        obtain ⟨g15, hh⟩ := gd_inv hh
        refine g_if_eq (tgt := 53) hx hb g15 dX5_ray_41 (by decide) (fun c14 => ?_) (fun c14 => ?_)
        · replace hh := it_t c14 hh
          refine lv_aload_n hx hb dX5_ray_53 rfl (lv_at hl 0 rfl) ?_
          refine mm_get X hM q1180 (mf_6 _ _) dX5_ray_54 ?_
          refine lv_iload_n hx hb dX5_ray_57 rfl (lv_at hl 3 rfl) ?_
          obtain ⟨g16, hh⟩ := gd_inv hh
          refine mm_iald X hM (ma_6 _ _) g16 dX5_ray_58 ?_
          exact hret _ _ _ _ _ _ (rt1 hh) (rt2 hh) dX5_ray_59 hM
        · replace hh := it_f c14 hh
          refine lv_aload_n hx hb dX5_ray_44 rfl (lv_at hl 0 rfl) ?_
          refine mm_get X hM q1181 (mf_7 _ _) dX5_ray_45 ?_
          refine lv_iload_n hx hb dX5_ray_48 rfl (lv_at hl 3 rfl) ?_
          obtain ⟨g17, hh⟩ := gd_inv hh
          refine mm_iald X hM (ma_7 _ _) g17 dX5_ray_49 ?_
          refine lv_goto (tgt := 59) hx hb dX5_ray_50 (by decide) ?_
          exact hret _ _ _ _ _ _ (rt1 hh) (rt2 hh) dX5_ray_59 hM
      · replace hh := it_f c9 hh
        refine lv_iconst (v := zi (-1)) hx hb dX5_ray_24 rfl ?_
        exact hret _ _ _ _ _ _ (rt1 hh) (rt2 hh) dX5_ray_25 hM
    · replace hh := it_f c6 hh
      refine lv_iconst (v := zi (-1)) hx hb dX5_ray_24 rfl ?_
      exact hret _ _ _ _ _ _ (rt1 hh) (rt2 hh) dX5_ray_25 hM
  · replace hh := it_f c3 hh
    refine lv_iconst (v := zi (-1)) hx hb dX5_ray_24 rfl ?_
    exact hret _ _ _ _ _ _ (rt1 hh) (rt2 hh) dX5_ray_25 hM
def M_lens (S : xS) (x1 : Int) (x2 : Int) : Option (Int × xS) := bd (M_isSide x1) (fun v2 => if v2 = true then (bd (M_isIn x2 (0 : Int) (7 : Int)) (fun v5 => if v5 = true then (gd (r32 (S.2 2 1)) (if (S.2 2 1) = 16 then (some (((-1) : Int), S)) else (gd ((0 : Int) ≤ 620 + (2 * (S.2 2 1)) ∧ (620 + (2 * (S.2 2 1)) : Int) < 3170) (nm (aset S 2 (620 + (2 * (S.2 2 1))) x1) (fun S10 => gd ((0 : Int) ≤ (620 + (2 * (S10.2 2 1))) + 1 ∧ ((620 + (2 * (S10.2 2 1))) + 1 : Int) < 3170) (nm (aset S10 2 ((620 + (2 * (S10.2 2 1))) + 1) x2) (fun S13 => nm (aset S13 2 (1 : Int) ((S13.2 2 1) + 1)) (fun S15 => some (((S15.2 2 1) - 1 : Int), S15))))))))) else (some (((-1) : Int), S)))) else (some (((-1) : Int), S)))
set_option maxHeartbeats 4000000 in
theorem wM_lens (l : Launch) (DM : va_G) (dA : Nat → ClassId) (h : Nat) (S : xS) (x1 x2 : Int) {r : Int} {S1 : xS} (hh : M_lens S x1 x2 = some (r, S1)) : mt_i l yX5_lens cX5_lens 3 (some .int) ({ frames := 3, cells := 0, slots := 0, locals := 54 } : Room) DM dA h [.int (zi x1), .int (zi x2)] S r S1 := by
  refine mo_i (by decide) rfl (Nat.le_of_ble_eq_true rfl) ?_
  intro p e s m args below meth c Q ls X hret hl hM
  have hx := X.1.1
  have hb := X.1.2.1
  have hown := X.1.2.2.2.1
  have hts := X.1.2.2.2.2
  skip
  replace hl : lv_has ls 3 [(0, .ref (h)), (1, .int (zi (x1))), (2, .int (zi (x2)))] := hl
  unfold M_lens at hh
  refine lv_iload_n hx hb dX5_lens_0 rfl (lv_at hl 1 rfl) ?_
  obtain ⟨v2, k1, hh⟩ := bd_inv hh
  refine mcs_z (rest := []) X hM (wM_isSide l x1 k1) c5_isSide.1 c5_isSide.2 ⟨rfl, rfl⟩ ⟨Nat.le_of_ble_eq_true rfl, Nat.le_of_ble_eq_true rfl⟩ ⟨Nat.zero_le _, Nat.zero_le _⟩ hl.1 (Nat.le_of_ble_eq_true rfl) dX5_lens_1 rfl (fun H locs hM => ?_)
  refine g_bif_eq (tgt := 28) hx hb dX5_lens_4 (by decide) (fun c3 => ?_) (fun c3 => ?_)
  · replace hh := it_t c3 hh
    refine lv_iload_n hx hb dX5_lens_7 rfl (lv_at hl 2 rfl) ?_
    refine lv_iconst (v := zi 0) hx hb dX5_lens_8 rfl ?_
    refine lv_bipush (v := zi 7) hx hb dX5_lens_9 (by decide) ?_
    obtain ⟨v5, k4, hh⟩ := bd_inv hh
    refine mcs_z (rest := []) X hM (wM_isIn l x2 (0 : Int) (7 : Int) k4) c5_isIn.1 c5_isIn.2 ⟨rfl, rfl⟩ ⟨Nat.le_of_ble_eq_true rfl, Nat.le_of_ble_eq_true rfl⟩ ⟨Nat.zero_le _, Nat.zero_le _⟩ hl.1 (Nat.le_of_ble_eq_true rfl) dX5_lens_11 rfl (fun H locs hM => ?_)
    refine g_bif_eq (tgt := 28) hx hb dX5_lens_14 (by decide) (fun c6 => ?_) (fun c6 => ?_)
    · replace hh := it_t c6 hh
      refine lv_aload_n hx hb dX5_lens_17 rfl (lv_at hl 0 rfl) ?_
      refine mm_get X hM q1176 (mf_2 _ _) dX5_lens_18 ?_
      refine lv_iconst (v := zi 1) hx hb dX5_lens_21 rfl ?_
      refine mm_iald X hM (ma_2 _ _) (by decide) dX5_lens_22 ?_
      refine lv_bipush (v := zi 16) hx hb dX5_lens_23 (by decide) ?_
      obtain ⟨g8, hh⟩ := gd_inv hh
      refine g_icmp_ne (tgt := 30) hx hb ⟨g8, by decide⟩ dX5_lens_25 (by decide) (fun c7 => ?_) (fun c7 => ?_)
      · replace hh := it_t c7 hh
        refine lv_iconst (v := zi (-1)) hx hb dX5_lens_28 rfl ?_
        exact hret _ _ _ _ _ _ (rt1 hh) (rt2 hh) dX5_lens_29 hM
      · replace hh := it_f c7 hh
        refine lv_aload_n hx hb dX5_lens_30 rfl (lv_at hl 0 rfl) ?_
        refine mm_get X hM q1176 (mf_2 _ _) dX5_lens_31 ?_
        refine lv_sipush (v := zi 620) hx hb dX5_lens_34 (by decide) ?_
        refine lv_iconst (v := zi 2) hx hb dX5_lens_37 rfl ?_
        refine lv_aload_n hx hb dX5_lens_38 rfl (lv_at hl 0 rfl) ?_
        refine mm_get X hM q1176 (mf_2 _ _) dX5_lens_39 ?_
        refine lv_iconst (v := zi 1) hx hb dX5_lens_42 rfl ?_
        refine mm_iald X hM (ma_2 _ _) (by decide) dX5_lens_43 ?_
        refine g_imul hx hb dX5_lens_44 ?_
        refine g_iadd hx hb dX5_lens_45 ?_
        refine lv_iload_n hx hb dX5_lens_46 rfl (lv_at hl 1 rfl) ?_
        obtain ⟨g9, hh⟩ := gd_inv hh
        refine mm_iast X hM (ma_2 _ _) g9 dX5_lens_47 (fun H locs S10 e11 hM => ?_)
        replace hh := nm_inv hh S10 e11
        refine lv_aload_n hx hb dX5_lens_48 rfl (lv_at hl 0 rfl) ?_
        refine mm_get X hM q1176 (mf_2 _ _) dX5_lens_49 ?_
        refine lv_sipush (v := zi 620) hx hb dX5_lens_52 (by decide) ?_
        refine lv_iconst (v := zi 2) hx hb dX5_lens_55 rfl ?_
        refine lv_aload_n hx hb dX5_lens_56 rfl (lv_at hl 0 rfl) ?_
        refine mm_get X hM q1176 (mf_2 _ _) dX5_lens_57 ?_
        refine lv_iconst (v := zi 1) hx hb dX5_lens_60 rfl ?_
        refine mm_iald X hM (ma_2 _ _) (by decide) dX5_lens_61 ?_
        refine g_imul hx hb dX5_lens_62 ?_
        refine g_iadd hx hb dX5_lens_63 ?_
        refine lv_iconst (v := zi 1) hx hb dX5_lens_64 rfl ?_
        refine g_iadd hx hb dX5_lens_65 ?_
        refine lv_iload_n hx hb dX5_lens_66 rfl (lv_at hl 2 rfl) ?_
        obtain ⟨g12, hh⟩ := gd_inv hh
        refine mm_iast X hM (ma_2 _ _) g12 dX5_lens_67 (fun H locs S13 e14 hM => ?_)
        replace hh := nm_inv hh S13 e14
        refine lv_aload_n hx hb dX5_lens_68 rfl (lv_at hl 0 rfl) ?_
        refine mm_get X hM q1176 (mf_2 _ _) dX5_lens_69 ?_
        refine lv_iconst (v := zi 1) hx hb dX5_lens_72 rfl ?_
        refine lv_dup2_11 hx hb dX5_lens_73 rfl rfl ?_
        refine mm_iald X hM (ma_2 _ _) (by decide) dX5_lens_74 ?_
        refine lv_iconst (v := zi 1) hx hb dX5_lens_75 rfl ?_
        refine g_iadd hx hb dX5_lens_76 ?_
        refine mm_iast X hM (ma_2 _ _) (by decide) dX5_lens_77 (fun H locs S15 e16 hM => ?_)
        replace hh := nm_inv hh S15 e16
        refine lv_aload_n hx hb dX5_lens_78 rfl (lv_at hl 0 rfl) ?_
        refine mm_get X hM q1176 (mf_2 _ _) dX5_lens_79 ?_
        refine lv_iconst (v := zi 1) hx hb dX5_lens_82 rfl ?_
        refine mm_iald X hM (ma_2 _ _) (by decide) dX5_lens_83 ?_
        refine lv_iconst (v := zi 1) hx hb dX5_lens_84 rfl ?_
        refine g_isub hx hb dX5_lens_85 ?_
        exact hret _ _ _ _ _ _ (rt1 hh) (rt2 hh) dX5_lens_86 hM
    · replace hh := it_f c6 hh
      refine lv_iconst (v := zi (-1)) hx hb dX5_lens_28 rfl ?_
      exact hret _ _ _ _ _ _ (rt1 hh) (rt2 hh) dX5_lens_29 hM
  · replace hh := it_f c3 hh
    refine lv_iconst (v := zi (-1)) hx hb dX5_lens_28 rfl ?_
    exact hret _ _ _ _ _ _ (rt1 hh) (rt2 hh) dX5_lens_29 hM
def M_isLens (S : xS) (x1 : Int) : Option Bool := bd (M_isIn x1 (0 : Int) ((S.2 2 1) - 1)) (fun v2 => some (v2))
set_option maxHeartbeats 4000000 in
theorem wM_isLens (l : Launch) (DM : va_G) (dA : Nat → ClassId) (h : Nat) (S : xS) (x1 : Int) {r : Bool} (hh : M_isLens S x1 = some r) : mt_z l yX5_isLens cX5_isLens 2 (some .boolean) ({ frames := 2, cells := 0, slots := 0, locals := 34 } : Room) DM dA h [.int (zi x1)] S r S := by
  refine mo_z (by decide) rfl (Nat.le_of_ble_eq_true rfl) ?_
  intro p e s m args below meth c Q ls X hret hl hM
  have hx := X.1.1
  have hb := X.1.2.1
  have hown := X.1.2.2.2.1
  have hts := X.1.2.2.2.2
  skip
  replace hl : lv_has ls 2 [(0, .ref (h)), (1, .int (zi (x1)))] := hl
  unfold M_isLens at hh
  refine lv_iload_n hx hb dX5_isLens_0 rfl (lv_at hl 1 rfl) ?_
  refine lv_iconst (v := zi 0) hx hb dX5_isLens_1 rfl ?_
  refine lv_aload_n hx hb dX5_isLens_2 rfl (lv_at hl 0 rfl) ?_
  refine mm_get X hM q1176 (mf_2 _ _) dX5_isLens_3 ?_
  refine lv_iconst (v := zi 1) hx hb dX5_isLens_6 rfl ?_
  refine mm_iald X hM (ma_2 _ _) (by decide) dX5_isLens_7 ?_
  refine lv_iconst (v := zi 1) hx hb dX5_isLens_8 rfl ?_
  refine g_isub hx hb dX5_isLens_9 ?_
  obtain ⟨v2, k1, hh⟩ := bd_inv hh
  refine mcs_z (rest := []) X hM (wM_isIn l x1 (0 : Int) ((S.2 2 1) - 1) k1) c5_isIn.1 c5_isIn.2 ⟨rfl, rfl⟩ ⟨Nat.le_of_ble_eq_true rfl, Nat.le_of_ble_eq_true rfl⟩ ⟨Nat.zero_le _, Nat.zero_le _⟩ hl.1 (Nat.le_of_ble_eq_true rfl) dX5_isLens_10 rfl (fun H locs hM => ?_)
  exact hret _ _ _ _ _ _ (rt0 hh) rfl dX5_isLens_13 hM
def M_pair (S : xS) (x1 : Int) (x2 : Int) (x3 : Int) : Option (Int × xS) := bd (M_isLens S x1) (fun v2 => if v2 = true then (bd (M_isLens S x2) (fun v5 => if v5 = true then (gd (r32 (x1) ∧ r32 (x2)) (if x1 = x2 then (some (((-1) : Int), S)) else (bd (M_isIn x3 (1 : Int) (8 : Int)) (fun v10 => if v10 = true then (gd (r32 (S.2 2 2)) (if (S.2 2 2) = 16 then (some (((-1) : Int), S)) else (nm (660 + (3 * (S.2 2 2))) (fun v14 => gd ((0 : Int) ≤ v14 ∧ (v14 : Int) < 3170) (nm (aset S 2 v14 x1) (fun S17 => gd ((0 : Int) ≤ v14 + 1 ∧ (v14 + 1 : Int) < 3170) (nm (aset S17 2 (v14 + 1) x2) (fun S20 => gd ((0 : Int) ≤ v14 + 2 ∧ (v14 + 2 : Int) < 3170) (nm (aset S20 2 (v14 + 2) x3) (fun S23 => nm (aset S23 2 (2 : Int) ((S23.2 2 2) + 1)) (fun S25 => some (((S25.2 2 2) - 1 : Int), S25)))))))))))) else (some (((-1) : Int), S)))))) else (some (((-1) : Int), S)))) else (some (((-1) : Int), S)))
set_option maxHeartbeats 4000000 in
theorem wM_pair (l : Launch) (DM : va_G) (dA : Nat → ClassId) (h : Nat) (S : xS) (x1 x2 x3 : Int) {r : Int} {S1 : xS} (hh : M_pair S x1 x2 x3 = some (r, S1)) : mt_i l yX5_pair cX5_pair 5 (some .int) ({ frames := 3, cells := 0, slots := 0, locals := 55 } : Room) DM dA h [.int (zi x1), .int (zi x2), .int (zi x3)] S r S1 := by
  refine mo_i (by decide) rfl (Nat.le_of_ble_eq_true rfl) ?_
  intro p e s m args below meth c Q ls X hret hl hM
  have hx := X.1.1
  have hb := X.1.2.1
  have hown := X.1.2.2.2.1
  have hts := X.1.2.2.2.2
  skip
  replace hl : lv_has ls 5 [(0, .ref (h)), (1, .int (zi (x1))), (2, .int (zi (x2))), (3, .int (zi (x3)))] := hl
  unfold M_pair at hh
  refine lv_aload_n hx hb dX5_pair_0 rfl (lv_at hl 0 rfl) ?_
  refine lv_iload_n hx hb dX5_pair_1 rfl (lv_at hl 1 rfl) ?_
  obtain ⟨v2, k1, hh⟩ := bd_inv hh
  refine mc_z (rest := []) X hM (wM_isLens l DM dA h S x1 k1) c5_isLens.1 c5_isLens.2 ⟨rfl, rfl⟩ ⟨Nat.le_of_ble_eq_true rfl, Nat.le_of_ble_eq_true rfl⟩ ⟨Nat.zero_le _, Nat.zero_le _⟩ hl.1 (Nat.le_of_ble_eq_true rfl) dX5_pair_2 rfl (fun H locs hM => ?_)
  refine g_bif_eq (tgt := 42) hx hb dX5_pair_5 (by decide) (fun c3 => ?_) (fun c3 => ?_)
  · replace hh := it_t c3 hh
    refine lv_aload_n hx hb dX5_pair_8 rfl (lv_at hl 0 rfl) ?_
    refine lv_iload_n hx hb dX5_pair_9 rfl (lv_at hl 2 rfl) ?_
    obtain ⟨v5, k4, hh⟩ := bd_inv hh
    refine mc_z (rest := []) X hM (wM_isLens l DM dA h S x2 k4) c5_isLens.1 c5_isLens.2 ⟨rfl, rfl⟩ ⟨Nat.le_of_ble_eq_true rfl, Nat.le_of_ble_eq_true rfl⟩ ⟨Nat.zero_le _, Nat.zero_le _⟩ hl.1 (Nat.le_of_ble_eq_true rfl) dX5_pair_10 rfl (fun H locs hM => ?_)
    refine g_bif_eq (tgt := 42) hx hb dX5_pair_13 (by decide) (fun c6 => ?_) (fun c6 => ?_)
    · replace hh := it_t c6 hh
      refine lv_iload_n hx hb dX5_pair_16 rfl (lv_at hl 1 rfl) ?_
      refine lv_iload_n hx hb dX5_pair_17 rfl (lv_at hl 2 rfl) ?_
      obtain ⟨g8, hh⟩ := gd_inv hh
      refine g_icmp_eq (tgt := 42) hx hb g8 dX5_pair_18 (by decide) (fun c7 => ?_) (fun c7 => ?_)
      · replace hh := it_t c7 hh
        refine lv_iconst (v := zi (-1)) hx hb dX5_pair_42 rfl ?_
        exact hret _ _ _ _ _ _ (rt1 hh) (rt2 hh) dX5_pair_43 hM
      · replace hh := it_f c7 hh
        refine lv_iload_n hx hb dX5_pair_21 rfl (lv_at hl 3 rfl) ?_
        refine lv_iconst (v := zi 1) hx hb dX5_pair_22 rfl ?_
        refine lv_bipush (v := zi 8) hx hb dX5_pair_23 (by decide) ?_
        obtain ⟨v10, k9, hh⟩ := bd_inv hh
        refine mcs_z (rest := []) X hM (wM_isIn l x3 (1 : Int) (8 : Int) k9) c5_isIn.1 c5_isIn.2 ⟨rfl, rfl⟩ ⟨Nat.le_of_ble_eq_true rfl, Nat.le_of_ble_eq_true rfl⟩ ⟨Nat.zero_le _, Nat.zero_le _⟩ hl.1 (Nat.le_of_ble_eq_true rfl) dX5_pair_25 rfl (fun H locs hM => ?_)
        refine g_bif_eq (tgt := 42) hx hb dX5_pair_28 (by decide) (fun c11 => ?_) (fun c11 => ?_)
        · replace hh := it_t c11 hh
          refine lv_aload_n hx hb dX5_pair_31 rfl (lv_at hl 0 rfl) ?_
          refine mm_get X hM q1176 (mf_2 _ _) dX5_pair_32 ?_
          refine lv_iconst (v := zi 2) hx hb dX5_pair_35 rfl ?_
          refine mm_iald X hM (ma_2 _ _) (by decide) dX5_pair_36 ?_
          refine lv_bipush (v := zi 16) hx hb dX5_pair_37 (by decide) ?_
          obtain ⟨g13, hh⟩ := gd_inv hh
          refine g_icmp_ne (tgt := 44) hx hb ⟨g13, by decide⟩ dX5_pair_39 (by decide) (fun c12 => ?_) (fun c12 => ?_)
          · replace hh := it_t c12 hh
            refine lv_iconst (v := zi (-1)) hx hb dX5_pair_42 rfl ?_
            exact hret _ _ _ _ _ _ (rt1 hh) (rt2 hh) dX5_pair_43 hM
          · replace hh := it_f c12 hh
            refine lv_sipush (v := zi 660) hx hb dX5_pair_44 (by decide) ?_
            refine lv_iconst (v := zi 3) hx hb dX5_pair_47 rfl ?_
            refine lv_aload_n hx hb dX5_pair_48 rfl (lv_at hl 0 rfl) ?_
            refine mm_get X hM q1176 (mf_2 _ _) dX5_pair_49 ?_
            refine lv_iconst (v := zi 2) hx hb dX5_pair_52 rfl ?_
            refine mm_iald X hM (ma_2 _ _) (by decide) dX5_pair_53 ?_
            refine g_imul hx hb dX5_pair_54 ?_
            refine g_iadd hx hb dX5_pair_55 ?_
            refine g_nmi hx hb (fun v14 e15 => ?_)
            replace hh := nm_inv hh v14 e15
            refine lv_istore (lv' := [(4, .int (zi (v14))), (0, .ref (h)), (1, .int (zi (x1))), (2, .int (zi (x2))), (3, .int (zi (x3)))]) hx hb dX5_pair_56 hl (by decide) rfl (fun ls hl => ?_)
            refine lv_aload_n hx hb dX5_pair_58 rfl (lv_at hl 1 rfl) ?_
            refine mm_get X hM q1176 (mf_2 _ _) dX5_pair_59 ?_
            refine lv_iload hx hb dX5_pair_62 (lv_at hl 0 rfl) ?_
            refine lv_iload_n hx hb dX5_pair_64 rfl (lv_at hl 2 rfl) ?_
            obtain ⟨g16, hh⟩ := gd_inv hh
            refine mm_iast X hM (ma_2 _ _) g16 dX5_pair_65 (fun H locs S17 e18 hM => ?_)
            replace hh := nm_inv hh S17 e18
            refine lv_aload_n hx hb dX5_pair_66 rfl (lv_at hl 1 rfl) ?_
            refine mm_get X hM q1176 (mf_2 _ _) dX5_pair_67 ?_
            refine lv_iload hx hb dX5_pair_70 (lv_at hl 0 rfl) ?_
            refine lv_iconst (v := zi 1) hx hb dX5_pair_72 rfl ?_
            refine g_iadd hx hb dX5_pair_73 ?_
            refine lv_iload_n hx hb dX5_pair_74 rfl (lv_at hl 3 rfl) ?_
            obtain ⟨g19, hh⟩ := gd_inv hh
            refine mm_iast X hM (ma_2 _ _) g19 dX5_pair_75 (fun H locs S20 e21 hM => ?_)
            replace hh := nm_inv hh S20 e21
            refine lv_aload_n hx hb dX5_pair_76 rfl (lv_at hl 1 rfl) ?_
            refine mm_get X hM q1176 (mf_2 _ _) dX5_pair_77 ?_
            refine lv_iload hx hb dX5_pair_80 (lv_at hl 0 rfl) ?_
            refine lv_iconst (v := zi 2) hx hb dX5_pair_82 rfl ?_
            refine g_iadd hx hb dX5_pair_83 ?_
            refine lv_iload_n hx hb dX5_pair_84 rfl (lv_at hl 4 rfl) ?_
            obtain ⟨g22, hh⟩ := gd_inv hh
            refine mm_iast X hM (ma_2 _ _) g22 dX5_pair_85 (fun H locs S23 e24 hM => ?_)
            replace hh := nm_inv hh S23 e24
            refine lv_aload_n hx hb dX5_pair_86 rfl (lv_at hl 1 rfl) ?_
            refine mm_get X hM q1176 (mf_2 _ _) dX5_pair_87 ?_
            refine lv_iconst (v := zi 2) hx hb dX5_pair_90 rfl ?_
            refine lv_dup2_11 hx hb dX5_pair_91 rfl rfl ?_
            refine mm_iald X hM (ma_2 _ _) (by decide) dX5_pair_92 ?_
            refine lv_iconst (v := zi 1) hx hb dX5_pair_93 rfl ?_
            refine g_iadd hx hb dX5_pair_94 ?_
            refine mm_iast X hM (ma_2 _ _) (by decide) dX5_pair_95 (fun H locs S25 e26 hM => ?_)
            replace hh := nm_inv hh S25 e26
            refine lv_aload_n hx hb dX5_pair_96 rfl (lv_at hl 1 rfl) ?_
            refine mm_get X hM q1176 (mf_2 _ _) dX5_pair_97 ?_
            refine lv_iconst (v := zi 2) hx hb dX5_pair_100 rfl ?_
            refine mm_iald X hM (ma_2 _ _) (by decide) dX5_pair_101 ?_
            refine lv_iconst (v := zi 1) hx hb dX5_pair_102 rfl ?_
            refine g_isub hx hb dX5_pair_103 ?_
            exact hret _ _ _ _ _ _ (rt1 hh) (rt2 hh) dX5_pair_104 hM
        · replace hh := it_f c11 hh
          refine lv_iconst (v := zi (-1)) hx hb dX5_pair_42 rfl ?_
          exact hret _ _ _ _ _ _ (rt1 hh) (rt2 hh) dX5_pair_43 hM
    · replace hh := it_f c6 hh
      refine lv_iconst (v := zi (-1)) hx hb dX5_pair_42 rfl ?_
      exact hret _ _ _ _ _ _ (rt1 hh) (rt2 hh) dX5_pair_43 hM
  · replace hh := it_f c3 hh
    refine lv_iconst (v := zi (-1)) hx hb dX5_pair_42 rfl ?_
    exact hret _ _ _ _ _ _ (rt1 hh) (rt2 hh) dX5_pair_43 hM
def M_look_b8 (x1 : Int) (x2 : Int) (K8 : xS → Int → Option xS) (S : xS) (x4 : Int) : Option xS := gd (r32 (x4)) (if x4 < 64 then (bd (M_shoot S x1 x2 x4) (fun S6 => nm ((x4 + 1) : Int) (fun v7 => K8 S6 v7))) else (some S))
def M_look_L8 (x1 : Int) (x2 : Int) : Nat → xS → Int → Option xS
  | 0 => fun _ _ => none
  | n + 1 => fun S x4 => M_look_b8 x1 x2 (M_look_L8 x1 x2 n) S x4
def M_look (S : xS) (x1 : Int) (x2 : Int) (x3 : Int) : Option xS := bd (M_lay S x3) (fun S2 => M_look_L8 x1 x2 FU S2 (0 : Int))
set_option maxHeartbeats 4000000 in
theorem wM_look (l : Launch) (DM : va_G) (dA : Nat → ClassId) (h : Nat) (S : xS) (x1 x2 x3 : Int) {S1 : xS} (hh : M_look S x1 x2 x3 = some S1) : mt_v l yX5_look cX5_look 5 ({ frames := 4, cells := 0, slots := 0, locals := 80 } : Room) DM dA h [.int (zi x1), .int (zi x2), .int (zi x3)] S S1 := by
  refine mo_v (by decide) rfl (Nat.le_of_ble_eq_true rfl) ?_
  intro p e s m args below meth c Q ls X hret hl hM
  have hx := X.1.1
  have hb := X.1.2.1
  have hown := X.1.2.2.2.1
  have hts := X.1.2.2.2.2
  skip
  have hL8 : ∀ (x1 : Int) (x2 : Int) (n : Nat) (S : xS) (x4 : Int), M_look_L8 x1 x2 n S x4 = some S1 → ∀ (H : Heap) (locs : List Loc) (ls : Array Slot), MX DM dA h S s H locs → lv_has ls 5 [(0, .ref (h)), (1, .int (zi (x1))), (2, .int (zi (x2))), (4, .int (zi (x4)))] → W p l e ({ frames := 4, cells := 0, slots := 0, locals := 80 } : Room) s m args below meth c H locs 0 0 Q (F0 m 8 ls []) := by
    intro x1 x2  n
    induction n with
    | zero => intro S x4 hh; exact no_some hh
    | succ n ih =>
      intro S x4 hh H locs ls hM hl
      replace hh : M_look_b8 x1 x2 (M_look_L8 x1 x2 n) S x4 = some S1 := hh
      unfold M_look_b8 at hh
      have hK8 := ih
      refine lv_iload hx hb dX5_look_8 (lv_at hl 3 rfl) ?_
      refine lv_bipush (v := zi 64) hx hb dX5_look_10 (by decide) ?_
      obtain ⟨g4, hh⟩ := gd_inv hh
      refine g_icmp_ge (tgt := 29) hx hb ⟨g4, by decide⟩ dX5_look_12 (by decide) (fun c3 => ?_) (fun c3 => ?_)
      · replace hh := it_t c3 hh
        refine lv_aload_n hx hb dX5_look_15 rfl (lv_at hl 0 rfl) ?_
        refine lv_iload_n hx hb dX5_look_16 rfl (lv_at hl 1 rfl) ?_
        refine lv_iload_n hx hb dX5_look_17 rfl (lv_at hl 2 rfl) ?_
        refine lv_iload hx hb dX5_look_18 (lv_at hl 3 rfl) ?_
        obtain ⟨S6, k5, hh⟩ := bd_inv hh
        refine mc_v (rest := []) X hM (wM_shoot l DM dA h S x1 x2 x4 k5) c5_shoot.1 c5_shoot.2 ⟨rfl, rfl⟩ ⟨Nat.le_of_ble_eq_true rfl, Nat.le_of_ble_eq_true rfl⟩ ⟨Nat.zero_le _, Nat.zero_le _⟩ hl.1 (Nat.le_of_ble_eq_true rfl) dX5_look_20 rfl (fun H locs hM => ?_)
        obtain ⟨v7, e8⟩ : ∃ z : Int, z = x4 + 1 := ⟨_, rfl⟩
        replace hh := nm_inv hh v7 e8
        refine lv_iinc (v := zi v7) (lv' := [(4, .int (zi (v7))), (0, .ref (h)), (1, .int (zi (x1))), (2, .int (zi (x2)))]) hx hb dX5_look_23 hl (k := 3) rfl (by rw [e8]; exact zi_add _ _) (by decide) rfl (fun ls hl => ?_)
        refine lv_goto (tgt := 8) hx hb dX5_look_26 (by decide) ?_
        exact hK8 S6 v7 hh _ _ _ hM (lv_sub hl [1, 2, 3, 0] rfl)
      · replace hh := it_f c3 hh
        exact hret _ _ _ _ _ (rt0 hh) dX5_look_29 hM
  replace hl : lv_has ls 5 [(0, .ref (h)), (1, .int (zi (x1))), (2, .int (zi (x2))), (3, .int (zi (x3)))] := hl
  unfold M_look at hh
  refine lv_aload_n hx hb dX5_look_0 rfl (lv_at hl 0 rfl) ?_
  refine lv_iload_n hx hb dX5_look_1 rfl (lv_at hl 3 rfl) ?_
  obtain ⟨S2, k1, hh⟩ := bd_inv hh
  refine mc_v (rest := []) X hM (wM_lay l DM dA h S x3 k1) c5_lay.1 c5_lay.2 ⟨rfl, rfl⟩ ⟨Nat.le_of_ble_eq_true rfl, Nat.le_of_ble_eq_true rfl⟩ ⟨Nat.zero_le _, Nat.zero_le _⟩ hl.1 (Nat.le_of_ble_eq_true rfl) dX5_look_2 rfl (fun H locs hM => ?_)
  refine lv_iconst (v := zi 0) hx hb dX5_look_5 rfl ?_
  refine lv_istore (lv' := [(4, .int (zi (0))), (0, .ref (h)), (1, .int (zi (x1))), (2, .int (zi (x2))), (3, .int (zi (x3)))]) hx hb dX5_look_6 hl (by decide) rfl (fun ls hl => ?_)
  exact hL8 x1 x2 FU S2 (0 : Int) hh _ _ _ hM (lv_sub hl [1, 2, 3, 0] rfl)
def M_abs (x0 : Int) : Option Int := gd (r32 (x0)) (if x0 < 0 then (some ((-x0 : Int))) else (some ((x0 : Int))))
set_option maxHeartbeats 4000000 in
theorem wM_abs (l : Launch) (x0 : Int) {r : Int} (hh : M_abs x0 = some r) : ms_i l yX5_abs cX5_abs 1 (some .int) ({ frames := 1, cells := 0, slots := 0, locals := 12 } : Room) [.int (zi x0)] r := by
  refine mo_si (by decide) rfl (Nat.le_of_ble_eq_true rfl) ?_
  intro p e s m args below meth c Q ls X hret hl hM
  have hx := X.1
  have hb := X.2.1
  have hown := X.2.2.2.1
  have hts := X.2.2.2.2
  skip
  replace hl : lv_has ls 1 [(0, .int (zi (x0)))] := hl
  unfold M_abs at hh
  refine lv_iload_n hx hb dX5_abs_0 rfl (lv_at hl 0 rfl) ?_
  obtain ⟨g2, hh⟩ := gd_inv hh
  refine g_if_ge (tgt := 9) hx hb g2 dX5_abs_1 (by decide) (fun c1 => ?_) (fun c1 => ?_)
  · replace hh := it_t c1 hh
    refine lv_iload_n hx hb dX5_abs_4 rfl (lv_at hl 0 rfl) ?_
    refine g_ineg hx hb dX5_abs_5 ?_
    refine lv_goto (tgt := 10) hx hb dX5_abs_6 (by decide) ?_
    exact hret _ _ _ _ _ (rt0 hh) dX5_abs_10 hM
  · replace hh := it_f c1 hh
    refine lv_iload_n hx hb dX5_abs_9 rfl (lv_at hl 0 rfl) ?_
    exact hret _ _ _ _ _ (rt0 hh) dX5_abs_10 hM
def M_takeOf_b7 (S : xS) (x1 : Int) (x2 : Int) (x3 : Int) (K7 : Int → Int → Option Int) (x4 : Int) (x5 : Int) : Option Int := gd (r32 (x5) ∧ r32 (x2)) (if x5 ≤ x2 then (bd (M_abs x5) (fun v6 => gd (r32 (((x3 + x1) + x5) + 64)) (gd ((0 : Int) ≤ Int.tmod (((x3 + x1) + x5) + 64) 64 ∧ (Int.tmod (((x3 + x1) + x5) + 64) 64 : Int) < 64) (nm (x4 + (((x2 + 1) - v6) * (S.2 6 (Int.tmod (((x3 + x1) + x5) + 64) 64)))) (fun v9 => nm ((x5 + 1) : Int) (fun v11 => K7 v9 v11)))))) else (gd (r32 (x4) ∧ r32 ((x2 + 1) * (x2 + 1)) ∧ ((x2 + 1) * (x2 + 1) : Int) ≠ 0) (some ((Int.tdiv x4 ((x2 + 1) * (x2 + 1)) : Int)))))
def M_takeOf_L7 (S : xS) (x1 : Int) (x2 : Int) (x3 : Int) : Nat → Int → Int → Option Int
  | 0 => fun _ _ => none
  | n + 1 => fun x4 x5 => M_takeOf_b7 S x1 x2 x3 (M_takeOf_L7 S x1 x2 x3 n) x4 x5
def M_takeOf (S : xS) (x1 : Int) (x2 : Int) (x3 : Int) : Option Int := nm (-x2) (fun v1 => M_takeOf_L7 S x1 x2 x3 FU (0 : Int) v1)
set_option maxHeartbeats 4000000 in
theorem wM_takeOf (l : Launch) (DM : va_G) (dA : Nat → ClassId) (h : Nat) (S : xS) (x1 x2 x3 : Int) {r : Int} (hh : M_takeOf S x1 x2 x3 = some r) : mt_i l yX5_takeOf cX5_takeOf 6 (some .int) ({ frames := 2, cells := 0, slots := 0, locals := 32 } : Room) DM dA h [.int (zi x1), .int (zi x2), .int (zi x3)] S r S := by
  refine mo_i (by decide) rfl (Nat.le_of_ble_eq_true rfl) ?_
  intro p e s m args below meth c Q ls X hret hl hM
  have hx := X.1.1
  have hb := X.1.2.1
  have hown := X.1.2.2.2.1
  have hts := X.1.2.2.2.2
  skip
  have hL7 : ∀ (x1 : Int) (x2 : Int) (x3 : Int) (n : Nat) (x4 : Int) (x5 : Int), M_takeOf_L7 S x1 x2 x3 n x4 x5 = some r → ∀ (H : Heap) (locs : List Loc) (ls : Array Slot), MX DM dA h S s H locs → lv_has ls 6 [(0, .ref (h)), (1, .int (zi (x1))), (2, .int (zi (x2))), (3, .int (zi (x3))), (4, .int (zi (x4))), (5, .int (zi (x5)))] → W p l e ({ frames := 2, cells := 0, slots := 0, locals := 32 } : Room) s m args below meth c H locs 0 0 Q (F0 m 7 ls []) := by
    intro x1 x2 x3  n
    induction n with
    | zero => intro x4 x5 hh; exact no_some hh
    | succ n ih =>
      intro x4 x5 hh H locs ls hM hl
      replace hh : M_takeOf_b7 S x1 x2 x3 (M_takeOf_L7 S x1 x2 x3 n) x4 x5 = some r := hh
      unfold M_takeOf_b7 at hh
      have hK7 := ih
      refine lv_iload hx hb dX5_takeOf_7 (lv_at hl 5 rfl) ?_
      refine lv_iload_n hx hb dX5_takeOf_9 rfl (lv_at hl 2 rfl) ?_
      obtain ⟨g4, hh⟩ := gd_inv hh
      refine g_icmp_gt (tgt := 51) hx hb g4 dX5_takeOf_10 (by decide) (fun c3 => ?_) (fun c3 => ?_)
      · replace hh := it_t c3 hh
        refine lv_iload hx hb dX5_takeOf_13 (lv_at hl 4 rfl) ?_
        refine lv_iload_n hx hb dX5_takeOf_15 rfl (lv_at hl 2 rfl) ?_
        refine lv_iconst (v := zi 1) hx hb dX5_takeOf_16 rfl ?_
        refine g_iadd hx hb dX5_takeOf_17 ?_
        refine lv_iload hx hb dX5_takeOf_18 (lv_at hl 5 rfl) ?_
        obtain ⟨v6, k5, hh⟩ := bd_inv hh
        refine mcs_i (rest := [.int (zi (x2 + 1)), .int (zi (x4))]) X hM (wM_abs l x5 k5) c5_abs.1 c5_abs.2 ⟨rfl, rfl⟩ ⟨Nat.le_of_ble_eq_true rfl, Nat.le_of_ble_eq_true rfl⟩ ⟨Nat.zero_le _, Nat.zero_le _⟩ hl.1 (Nat.le_of_ble_eq_true rfl) dX5_takeOf_20 rfl (fun H locs hM => ?_)
        refine g_isub hx hb dX5_takeOf_23 ?_
        refine lv_aload_n hx hb dX5_takeOf_24 rfl (lv_at hl 0 rfl) ?_
        refine mm_get X hM q1180 (mf_6 _ _) dX5_takeOf_25 ?_
        refine lv_iload_n hx hb dX5_takeOf_28 rfl (lv_at hl 3 rfl) ?_
        refine lv_iload_n hx hb dX5_takeOf_29 rfl (lv_at hl 1 rfl) ?_
        refine g_iadd hx hb dX5_takeOf_30 ?_
        refine lv_iload hx hb dX5_takeOf_31 (lv_at hl 5 rfl) ?_
        refine g_iadd hx hb dX5_takeOf_33 ?_
        refine lv_bipush (v := zi 64) hx hb dX5_takeOf_34 (by decide) ?_
        refine g_iadd hx hb dX5_takeOf_36 ?_
        refine lv_bipush (v := zi 64) hx hb dX5_takeOf_37 (by decide) ?_
        obtain ⟨g7, hh⟩ := gd_inv hh
        refine g_irem hx hb ⟨g7, by decide, by decide⟩ dX5_takeOf_39 ?_
        obtain ⟨g8, hh⟩ := gd_inv hh
        refine mm_iald X hM (ma_6 _ _) g8 dX5_takeOf_40 ?_
        refine g_imul hx hb dX5_takeOf_41 ?_
        refine g_iadd hx hb dX5_takeOf_42 ?_
        refine g_nmi hx hb (fun v9 e10 => ?_)
        replace hh := nm_inv hh v9 e10
        refine lv_istore (lv' := [(4, .int (zi (v9))), (0, .ref (h)), (1, .int (zi (x1))), (2, .int (zi (x2))), (3, .int (zi (x3))), (5, .int (zi (x5)))]) hx hb dX5_takeOf_43 hl (by decide) rfl (fun ls hl => ?_)
        obtain ⟨v11, e12⟩ : ∃ z : Int, z = x5 + 1 := ⟨_, rfl⟩
        replace hh := nm_inv hh v11 e12
        refine lv_iinc (v := zi v11) (lv' := [(5, .int (zi (v11))), (4, .int (zi (v9))), (0, .ref (h)), (1, .int (zi (x1))), (2, .int (zi (x2))), (3, .int (zi (x3)))]) hx hb dX5_takeOf_45 hl (k := 5) rfl (by rw [e12]; exact zi_add _ _) (by decide) rfl (fun ls hl => ?_)
        refine lv_goto (tgt := 7) hx hb dX5_takeOf_48 (by decide) ?_
        exact hK7 v9 v11 hh _ _ _ hM (lv_sub hl [2, 3, 4, 5, 1, 0] rfl)
      · replace hh := it_f c3 hh
        refine lv_iload hx hb dX5_takeOf_51 (lv_at hl 4 rfl) ?_
        refine lv_iload_n hx hb dX5_takeOf_53 rfl (lv_at hl 2 rfl) ?_
        refine lv_iconst (v := zi 1) hx hb dX5_takeOf_54 rfl ?_
        refine g_iadd hx hb dX5_takeOf_55 ?_
        refine lv_iload_n hx hb dX5_takeOf_56 rfl (lv_at hl 2 rfl) ?_
        refine lv_iconst (v := zi 1) hx hb dX5_takeOf_57 rfl ?_
        refine g_iadd hx hb dX5_takeOf_58 ?_
        refine g_imul hx hb dX5_takeOf_59 ?_
        obtain ⟨g13, hh⟩ := gd_inv hh
        refine g_idiv hx hb g13 dX5_takeOf_60 ?_
        exact hret _ _ _ _ _ _ (rt0 hh) rfl dX5_takeOf_61 hM
  replace hl : lv_has ls 6 [(0, .ref (h)), (1, .int (zi (x1))), (2, .int (zi (x2))), (3, .int (zi (x3)))] := hl
  unfold M_takeOf at hh
  refine lv_iconst (v := zi 0) hx hb dX5_takeOf_0 rfl ?_
  refine lv_istore (lv' := [(4, .int (zi (0))), (0, .ref (h)), (1, .int (zi (x1))), (2, .int (zi (x2))), (3, .int (zi (x3)))]) hx hb dX5_takeOf_1 hl (by decide) rfl (fun ls hl => ?_)
  refine lv_iload_n hx hb dX5_takeOf_3 rfl (lv_at hl 3 rfl) ?_
  refine g_ineg hx hb dX5_takeOf_4 ?_
  refine g_nmi hx hb (fun v1 e2 => ?_)
  replace hh := nm_inv hh v1 e2
  refine lv_istore (lv' := [(5, .int (zi (v1))), (4, .int (zi (0))), (0, .ref (h)), (1, .int (zi (x1))), (2, .int (zi (x2))), (3, .int (zi (x3)))]) hx hb dX5_takeOf_5 hl (by decide) rfl (fun ls hl => ?_)
  exact hL7 x1 x2 x3 FU (0 : Int) v1 hh _ _ _ hM (lv_sub hl [2, 3, 4, 5, 1, 0] rfl)
def M_lensTake (S : xS) (x1 : Int) (x2 : Int) : Option Int := gd ((0 : Int) ≤ 620 + (2 * x1) ∧ (620 + (2 * x1) : Int) < 3170) (gd ((0 : Int) ≤ (620 + (2 * x1)) + 1 ∧ ((620 + (2 * x1)) + 1 : Int) < 3170) (bd (M_takeOf S (S.2 2 (620 + (2 * x1))) (S.2 2 ((620 + (2 * x1)) + 1)) x2) (fun v4 => some ((v4 : Int)))))
set_option maxHeartbeats 4000000 in
theorem wM_lensTake (l : Launch) (DM : va_G) (dA : Nat → ClassId) (h : Nat) (S : xS) (x1 x2 : Int) {r : Int} (hh : M_lensTake S x1 x2 = some r) : mt_i l yX5_lensTake cX5_lensTake 3 (some .int) ({ frames := 3, cells := 0, slots := 0, locals := 57 } : Room) DM dA h [.int (zi x1), .int (zi x2)] S r S := by
  refine mo_i (by decide) rfl (Nat.le_of_ble_eq_true rfl) ?_
  intro p e s m args below meth c Q ls X hret hl hM
  have hx := X.1.1
  have hb := X.1.2.1
  have hown := X.1.2.2.2.1
  have hts := X.1.2.2.2.2
  skip
  replace hl : lv_has ls 3 [(0, .ref (h)), (1, .int (zi (x1))), (2, .int (zi (x2)))] := hl
  unfold M_lensTake at hh
  refine lv_aload_n hx hb dX5_lensTake_0 rfl (lv_at hl 0 rfl) ?_
  refine lv_aload_n hx hb dX5_lensTake_1 rfl (lv_at hl 0 rfl) ?_
  refine mm_get X hM q1176 (mf_2 _ _) dX5_lensTake_2 ?_
  refine lv_sipush (v := zi 620) hx hb dX5_lensTake_5 (by decide) ?_
  refine lv_iconst (v := zi 2) hx hb dX5_lensTake_8 rfl ?_
  refine lv_iload_n hx hb dX5_lensTake_9 rfl (lv_at hl 1 rfl) ?_
  refine g_imul hx hb dX5_lensTake_10 ?_
  refine g_iadd hx hb dX5_lensTake_11 ?_
  obtain ⟨g1, hh⟩ := gd_inv hh
  refine mm_iald X hM (ma_2 _ _) g1 dX5_lensTake_12 ?_
  refine lv_aload_n hx hb dX5_lensTake_13 rfl (lv_at hl 0 rfl) ?_
  refine mm_get X hM q1176 (mf_2 _ _) dX5_lensTake_14 ?_
  refine lv_sipush (v := zi 620) hx hb dX5_lensTake_17 (by decide) ?_
  refine lv_iconst (v := zi 2) hx hb dX5_lensTake_20 rfl ?_
  refine lv_iload_n hx hb dX5_lensTake_21 rfl (lv_at hl 1 rfl) ?_
  refine g_imul hx hb dX5_lensTake_22 ?_
  refine g_iadd hx hb dX5_lensTake_23 ?_
  refine lv_iconst (v := zi 1) hx hb dX5_lensTake_24 rfl ?_
  refine g_iadd hx hb dX5_lensTake_25 ?_
  obtain ⟨g2, hh⟩ := gd_inv hh
  refine mm_iald X hM (ma_2 _ _) g2 dX5_lensTake_26 ?_
  refine lv_iload_n hx hb dX5_lensTake_27 rfl (lv_at hl 2 rfl) ?_
  obtain ⟨v4, k3, hh⟩ := bd_inv hh
  refine mc_i (rest := []) X hM (wM_takeOf l DM dA h S (S.2 2 (620 + (2 * x1))) (S.2 2 ((620 + (2 * x1)) + 1)) x2 k3) c5_takeOf.1 c5_takeOf.2 ⟨rfl, rfl⟩ ⟨Nat.le_of_ble_eq_true rfl, Nat.le_of_ble_eq_true rfl⟩ ⟨Nat.zero_le _, Nat.zero_le _⟩ hl.1 (Nat.le_of_ble_eq_true rfl) dX5_lensTake_28 rfl (fun H locs hM => ?_)
  exact hret _ _ _ _ _ _ (rt0 hh) rfl dX5_lensTake_31 hM
def M_take (S : xS) (x1 : Int) (x2 : Int) (x3 : Int) (x4 : Int) (x5 : Int) : Option (Int × xS) := bd (M_isLens S x1) (fun v2 => if v2 = true then (bd (M_isPlace S x2 x3) (fun v5 => if v5 = true then (bd (M_isSide x4) (fun v8 => if v8 = true then (bd (M_isTick x5) (fun v11 => if v11 = true then (bd (M_look S x2 x3 x5) (fun S14 => bd (M_lensTake S14 x1 x4) (fun v16 => some ((v16 : Int), S14)))) else (some (((-1) : Int), S)))) else (some (((-1) : Int), S)))) else (some (((-1) : Int), S)))) else (some (((-1) : Int), S)))
set_option maxHeartbeats 4000000 in
theorem wM_take (l : Launch) (DM : va_G) (dA : Nat → ClassId) (h : Nat) (S : xS) (x1 x2 x3 x4 x5 : Int) {r : Int} {S1 : xS} (hh : M_take S x1 x2 x3 x4 x5 = some (r, S1)) : mt_i l yX5_take cX5_take 6 (some .int) ({ frames := 5, cells := 0, slots := 0, locals := 104 } : Room) DM dA h [.int (zi x1), .int (zi x2), .int (zi x3), .int (zi x4), .int (zi x5)] S r S1 := by
  refine mo_i (by decide) rfl (Nat.le_of_ble_eq_true rfl) ?_
  intro p e s m args below meth c Q ls X hret hl hM
  have hx := X.1.1
  have hb := X.1.2.1
  have hown := X.1.2.2.2.1
  have hts := X.1.2.2.2.2
  skip
  replace hl : lv_has ls 6 [(0, .ref (h)), (1, .int (zi (x1))), (2, .int (zi (x2))), (3, .int (zi (x3))), (4, .int (zi (x4))), (5, .int (zi (x5)))] := hl
  unfold M_take at hh
  refine lv_aload_n hx hb dX5_take_0 rfl (lv_at hl 0 rfl) ?_
  refine lv_iload_n hx hb dX5_take_1 rfl (lv_at hl 1 rfl) ?_
  obtain ⟨v2, k1, hh⟩ := bd_inv hh
  refine mc_z (rest := []) X hM (wM_isLens l DM dA h S x1 k1) c5_isLens.1 c5_isLens.2 ⟨rfl, rfl⟩ ⟨Nat.le_of_ble_eq_true rfl, Nat.le_of_ble_eq_true rfl⟩ ⟨Nat.zero_le _, Nat.zero_le _⟩ hl.1 (Nat.le_of_ble_eq_true rfl) dX5_take_2 rfl (fun H locs hM => ?_)
  refine g_bif_eq (tgt := 33) hx hb dX5_take_5 (by decide) (fun c3 => ?_) (fun c3 => ?_)
  · replace hh := it_t c3 hh
    refine lv_aload_n hx hb dX5_take_8 rfl (lv_at hl 0 rfl) ?_
    refine lv_iload_n hx hb dX5_take_9 rfl (lv_at hl 2 rfl) ?_
    refine lv_iload_n hx hb dX5_take_10 rfl (lv_at hl 3 rfl) ?_
    obtain ⟨v5, k4, hh⟩ := bd_inv hh
    refine mc_z (rest := []) X hM (wM_isPlace l DM dA h S x2 x3 k4) c5_isPlace.1 c5_isPlace.2 ⟨rfl, rfl⟩ ⟨Nat.le_of_ble_eq_true rfl, Nat.le_of_ble_eq_true rfl⟩ ⟨Nat.zero_le _, Nat.zero_le _⟩ hl.1 (Nat.le_of_ble_eq_true rfl) dX5_take_11 rfl (fun H locs hM => ?_)
    refine g_bif_eq (tgt := 33) hx hb dX5_take_14 (by decide) (fun c6 => ?_) (fun c6 => ?_)
    · replace hh := it_t c6 hh
      refine lv_iload hx hb dX5_take_17 (lv_at hl 4 rfl) ?_
      obtain ⟨v8, k7, hh⟩ := bd_inv hh
      refine mcs_z (rest := []) X hM (wM_isSide l x4 k7) c5_isSide.1 c5_isSide.2 ⟨rfl, rfl⟩ ⟨Nat.le_of_ble_eq_true rfl, Nat.le_of_ble_eq_true rfl⟩ ⟨Nat.zero_le _, Nat.zero_le _⟩ hl.1 (Nat.le_of_ble_eq_true rfl) dX5_take_19 rfl (fun H locs hM => ?_)
      refine g_bif_eq (tgt := 33) hx hb dX5_take_22 (by decide) (fun c9 => ?_) (fun c9 => ?_)
      · replace hh := it_t c9 hh
        refine lv_iload hx hb dX5_take_25 (lv_at hl 5 rfl) ?_
        obtain ⟨v11, k10, hh⟩ := bd_inv hh
        refine mcs_z (rest := []) X hM (wM_isTick l x5 k10) c5_isTick.1 c5_isTick.2 ⟨rfl, rfl⟩ ⟨Nat.le_of_ble_eq_true rfl, Nat.le_of_ble_eq_true rfl⟩ ⟨Nat.zero_le _, Nat.zero_le _⟩ hl.1 (Nat.le_of_ble_eq_true rfl) dX5_take_27 rfl (fun H locs hM => ?_)
        refine g_bif_ne (tgt := 35) hx hb dX5_take_30 (by decide) (fun c12 => ?_) (fun c12 => ?_)
        · replace hh := it_t c12 hh
          refine lv_aload_n hx hb dX5_take_35 rfl (lv_at hl 0 rfl) ?_
          refine lv_iload_n hx hb dX5_take_36 rfl (lv_at hl 2 rfl) ?_
          refine lv_iload_n hx hb dX5_take_37 rfl (lv_at hl 3 rfl) ?_
          refine lv_iload hx hb dX5_take_38 (lv_at hl 5 rfl) ?_
          obtain ⟨S14, k13, hh⟩ := bd_inv hh
          refine mc_v (rest := []) X hM (wM_look l DM dA h S x2 x3 x5 k13) c5_look.1 c5_look.2 ⟨rfl, rfl⟩ ⟨Nat.le_of_ble_eq_true rfl, Nat.le_of_ble_eq_true rfl⟩ ⟨Nat.zero_le _, Nat.zero_le _⟩ hl.1 (Nat.le_of_ble_eq_true rfl) dX5_take_40 rfl (fun H locs hM => ?_)
          refine lv_aload_n hx hb dX5_take_43 rfl (lv_at hl 0 rfl) ?_
          refine lv_iload_n hx hb dX5_take_44 rfl (lv_at hl 1 rfl) ?_
          refine lv_iload hx hb dX5_take_45 (lv_at hl 4 rfl) ?_
          obtain ⟨v16, k15, hh⟩ := bd_inv hh
          refine mc_i (rest := []) X hM (wM_lensTake l DM dA h S14 x1 x4 k15) c5_lensTake.1 c5_lensTake.2 ⟨rfl, rfl⟩ ⟨Nat.le_of_ble_eq_true rfl, Nat.le_of_ble_eq_true rfl⟩ ⟨Nat.zero_le _, Nat.zero_le _⟩ hl.1 (Nat.le_of_ble_eq_true rfl) dX5_take_47 rfl (fun H locs hM => ?_)
          exact hret _ _ _ _ _ _ (rt1 hh) (rt2 hh) dX5_take_50 hM
        · replace hh := it_f c12 hh
          refine lv_iconst (v := zi (-1)) hx hb dX5_take_33 rfl ?_
          exact hret _ _ _ _ _ _ (rt1 hh) (rt2 hh) dX5_take_34 hM
      · replace hh := it_f c9 hh
        refine lv_iconst (v := zi (-1)) hx hb dX5_take_33 rfl ?_
        exact hret _ _ _ _ _ _ (rt1 hh) (rt2 hh) dX5_take_34 hM
    · replace hh := it_f c6 hh
      refine lv_iconst (v := zi (-1)) hx hb dX5_take_33 rfl ?_
      exact hret _ _ _ _ _ _ (rt1 hh) (rt2 hh) dX5_take_34 hM
  · replace hh := it_f c3 hh
    refine lv_iconst (v := zi (-1)) hx hb dX5_take_33 rfl ?_
    exact hret _ _ _ _ _ _ (rt1 hh) (rt2 hh) dX5_take_34 hM
def M_apart (S : xS) (x1 : Int) (x2 : Int) : Option Int := gd ((0 : Int) ≤ 620 + (2 * x1) ∧ (620 + (2 * x1) : Int) < 3170) (bd (M_abs ((S.2 2 (620 + (2 * x1))) - x2)) (fun v3 => gd (r32 (v3) ∧ r32 (64 - v3)) (if v3 < (64 - v3) then (some ((v3 : Int))) else (some ((64 - v3 : Int))))))
set_option maxHeartbeats 4000000 in
theorem wM_apart (l : Launch) (DM : va_G) (dA : Nat → ClassId) (h : Nat) (S : xS) (x1 x2 : Int) {r : Int} (hh : M_apart S x1 x2 = some r) : mt_i l yX5_apart cX5_apart 4 (some .int) ({ frames := 2, cells := 0, slots := 0, locals := 32 } : Room) DM dA h [.int (zi x1), .int (zi x2)] S r S := by
  refine mo_i (by decide) rfl (Nat.le_of_ble_eq_true rfl) ?_
  intro p e s m args below meth c Q ls X hret hl hM
  have hx := X.1.1
  have hb := X.1.2.1
  have hown := X.1.2.2.2.1
  have hts := X.1.2.2.2.2
  skip
  replace hl : lv_has ls 4 [(0, .ref (h)), (1, .int (zi (x1))), (2, .int (zi (x2)))] := hl
  unfold M_apart at hh
  refine lv_aload_n hx hb dX5_apart_0 rfl (lv_at hl 0 rfl) ?_
  refine mm_get X hM q1176 (mf_2 _ _) dX5_apart_1 ?_
  refine lv_sipush (v := zi 620) hx hb dX5_apart_4 (by decide) ?_
  refine lv_iconst (v := zi 2) hx hb dX5_apart_7 rfl ?_
  refine lv_iload_n hx hb dX5_apart_8 rfl (lv_at hl 1 rfl) ?_
  refine g_imul hx hb dX5_apart_9 ?_
  refine g_iadd hx hb dX5_apart_10 ?_
  obtain ⟨g1, hh⟩ := gd_inv hh
  refine mm_iald X hM (ma_2 _ _) g1 dX5_apart_11 ?_
  refine lv_iload_n hx hb dX5_apart_12 rfl (lv_at hl 2 rfl) ?_
  refine g_isub hx hb dX5_apart_13 ?_
  obtain ⟨v3, k2, hh⟩ := bd_inv hh
  refine mcs_i (rest := []) X hM (wM_abs l ((S.2 2 (620 + (2 * x1))) - x2) k2) c5_abs.1 c5_abs.2 ⟨rfl, rfl⟩ ⟨Nat.le_of_ble_eq_true rfl, Nat.le_of_ble_eq_true rfl⟩ ⟨Nat.zero_le _, Nat.zero_le _⟩ hl.1 (Nat.le_of_ble_eq_true rfl) dX5_apart_14 rfl (fun H locs hM => ?_)
  refine lv_istore_n (lv' := [(3, .int (zi (v3))), (0, .ref (h)), (1, .int (zi (x1))), (2, .int (zi (x2)))]) hx hb dX5_apart_17 rfl hl (by decide) rfl (fun ls hl => ?_)
  refine lv_iload_n hx hb dX5_apart_18 rfl (lv_at hl 0 rfl) ?_
  refine lv_bipush (v := zi 64) hx hb dX5_apart_19 (by decide) ?_
  refine lv_iload_n hx hb dX5_apart_21 rfl (lv_at hl 0 rfl) ?_
  refine g_isub hx hb dX5_apart_22 ?_
  obtain ⟨g5, hh⟩ := gd_inv hh
  refine g_icmp_ge (tgt := 30) hx hb g5 dX5_apart_23 (by decide) (fun c4 => ?_) (fun c4 => ?_)
  · replace hh := it_t c4 hh
    refine lv_iload_n hx hb dX5_apart_26 rfl (lv_at hl 0 rfl) ?_
    refine lv_goto (tgt := 34) hx hb dX5_apart_27 (by decide) ?_
    exact hret _ _ _ _ _ _ (rt0 hh) rfl dX5_apart_34 hM
  · replace hh := it_f c4 hh
    refine lv_bipush (v := zi 64) hx hb dX5_apart_30 (by decide) ?_
    refine lv_iload_n hx hb dX5_apart_32 rfl (lv_at hl 0 rfl) ?_
    refine g_isub hx hb dX5_apart_33 ?_
    exact hret _ _ _ _ _ _ (rt0 hh) rfl dX5_apart_34 hM
def M_coverOf_B43 (K4 : Int → Int → Option Int) (S : xS) (x1 : Int) (x3 : Int) (t0 : Int) (t1 : Int) : Option Int := nm (t1 + t0) (fun v8 => nm ((x3 + 1) : Int) (fun v10 => K4 v8 v10))
def M_coverOf_b4 (S : xS) (x1 : Int) (K4 : Int → Int → Option Int) (x2 : Int) (x3 : Int) : Option Int := gd (r32 (x3) ∧ r32 (S.2 2 1)) (if x3 < (S.2 2 1) then (bd (M_apart S x3 x1) (fun v4 => gd ((0 : Int) ≤ (620 + (2 * x3)) + 1 ∧ ((620 + (2 * x3)) + 1 : Int) < 3170) (gd (r32 (v4) ∧ r32 (S.2 2 ((620 + (2 * x3)) + 1))) (if v4 ≤ (S.2 2 ((620 + (2 * x3)) + 1)) then (M_coverOf_B43 K4 S x1 x3 (1 : Int) x2) else (M_coverOf_B43 K4 S x1 x3 (0 : Int) x2))))) else (some ((x2 : Int))))
def M_coverOf_L4 (S : xS) (x1 : Int) : Nat → Int → Int → Option Int
  | 0 => fun _ _ => none
  | n + 1 => fun x2 x3 => M_coverOf_b4 S x1 (M_coverOf_L4 S x1 n) x2 x3
def M_coverOf (S : xS) (x1 : Int) : Option Int := M_coverOf_L4 S x1 FU (0 : Int) (0 : Int)
set_option maxHeartbeats 4000000 in
theorem wM_coverOf (l : Launch) (DM : va_G) (dA : Nat → ClassId) (h : Nat) (S : xS) (x1 : Int) {r : Int} (hh : M_coverOf S x1 = some r) : mt_i l yX5_coverOf cX5_coverOf 4 (some .int) ({ frames := 3, cells := 0, slots := 0, locals := 55 } : Room) DM dA h [.int (zi x1)] S r S := by
  refine mo_i (by decide) rfl (Nat.le_of_ble_eq_true rfl) ?_
  intro p e s m args below meth c Q ls X hret hl hM
  have hx := X.1.1
  have hb := X.1.2.1
  have hown := X.1.2.2.2.1
  have hts := X.1.2.2.2.2
  skip
  have hB43 : ∀ (x1 : Int) (x3 : Int) (t0 : Int) (t1 : Int) (K4 : Int → Int → Option Int) (hK4 : (∀ (x2 : Int) (x3 : Int), K4 x2 x3 = some r → ∀ (H : Heap) (locs : List Loc) (ls : Array Slot), MX DM dA h S s H locs → lv_has ls 4 [(0, .ref (h)), (1, .int (zi (x1))), (2, .int (zi (x2))), (3, .int (zi (x3)))] → W p l e ({ frames := 3, cells := 0, slots := 0, locals := 55 } : Room) s m args below meth c H locs 0 0 Q (F0 m 4 ls []))), M_coverOf_B43 K4 S x1 x3 t0 t1 = some r → ∀ (H : Heap) (locs : List Loc) (ls : Array Slot), MX DM dA h S s H locs → lv_has ls 4 [(0, .ref (h)), (1, .int (zi (x1))), (3, .int (zi (x3)))] → W p l e ({ frames := 3, cells := 0, slots := 0, locals := 55 } : Room) s m args below meth c H locs 0 0 Q (F0 m 43 ls [.int (zi (t0)), .int (zi (t1))]) := by
    intro x1 x3 t0 t1 K4 hK4 hh H locs ls hM hl
    unfold M_coverOf_B43 at hh
    refine g_iadd hx hb dX5_coverOf_43 ?_
    refine g_nmi hx hb (fun v8 e9 => ?_)
    replace hh := nm_inv hh v8 e9
    refine lv_istore_n (lv' := [(2, .int (zi (v8))), (0, .ref (h)), (1, .int (zi (x1))), (3, .int (zi (x3)))]) hx hb dX5_coverOf_44 rfl hl (by decide) rfl (fun ls hl => ?_)
    obtain ⟨v10, e11⟩ : ∃ z : Int, z = x3 + 1 := ⟨_, rfl⟩
    replace hh := nm_inv hh v10 e11
    refine lv_iinc (v := zi v10) (lv' := [(3, .int (zi (v10))), (2, .int (zi (v8))), (0, .ref (h)), (1, .int (zi (x1)))]) hx hb dX5_coverOf_45 hl (k := 3) rfl (by rw [e11]; exact zi_add _ _) (by decide) rfl (fun ls hl => ?_)
    refine lv_goto (tgt := 4) hx hb dX5_coverOf_48 (by decide) ?_
    exact hK4 v8 v10 hh _ _ _ hM (lv_sub hl [2, 3, 1, 0] rfl)
  have hL4 : ∀ (x1 : Int) (n : Nat) (x2 : Int) (x3 : Int), M_coverOf_L4 S x1 n x2 x3 = some r → ∀ (H : Heap) (locs : List Loc) (ls : Array Slot), MX DM dA h S s H locs → lv_has ls 4 [(0, .ref (h)), (1, .int (zi (x1))), (2, .int (zi (x2))), (3, .int (zi (x3)))] → W p l e ({ frames := 3, cells := 0, slots := 0, locals := 55 } : Room) s m args below meth c H locs 0 0 Q (F0 m 4 ls []) := by
    intro x1  n
    induction n with
    | zero => intro x2 x3 hh; exact no_some hh
    | succ n ih =>
      intro x2 x3 hh H locs ls hM hl
      replace hh : M_coverOf_b4 S x1 (M_coverOf_L4 S x1 n) x2 x3 = some r := hh
      unfold M_coverOf_b4 at hh
      have hK4 := ih
      refine lv_iload_n hx hb dX5_coverOf_4 rfl (lv_at hl 3 rfl) ?_
      refine lv_aload_n hx hb dX5_coverOf_5 rfl (lv_at hl 0 rfl) ?_
      refine mm_get X hM q1176 (mf_2 _ _) dX5_coverOf_6 ?_
      refine lv_iconst (v := zi 1) hx hb dX5_coverOf_9 rfl ?_
      refine mm_iald X hM (ma_2 _ _) (by decide) dX5_coverOf_10 ?_
      obtain ⟨g2, hh⟩ := gd_inv hh
      refine g_icmp_ge (tgt := 51) hx hb g2 dX5_coverOf_11 (by decide) (fun c1 => ?_) (fun c1 => ?_)
      · replace hh := it_t c1 hh
        refine lv_iload_n hx hb dX5_coverOf_14 rfl (lv_at hl 2 rfl) ?_
        refine lv_aload_n hx hb dX5_coverOf_15 rfl (lv_at hl 0 rfl) ?_
        refine lv_iload_n hx hb dX5_coverOf_16 rfl (lv_at hl 3 rfl) ?_
        refine lv_iload_n hx hb dX5_coverOf_17 rfl (lv_at hl 1 rfl) ?_
        obtain ⟨v4, k3, hh⟩ := bd_inv hh
        refine mc_i (rest := [.int (zi (x2))]) X hM (wM_apart l DM dA h S x3 x1 k3) c5_apart.1 c5_apart.2 ⟨rfl, rfl⟩ ⟨Nat.le_of_ble_eq_true rfl, Nat.le_of_ble_eq_true rfl⟩ ⟨Nat.zero_le _, Nat.zero_le _⟩ hl.1 (Nat.le_of_ble_eq_true rfl) dX5_coverOf_18 rfl (fun H locs hM => ?_)
        refine lv_aload_n hx hb dX5_coverOf_21 rfl (lv_at hl 0 rfl) ?_
        refine mm_get X hM q1176 (mf_2 _ _) dX5_coverOf_22 ?_
        refine lv_sipush (v := zi 620) hx hb dX5_coverOf_25 (by decide) ?_
        refine lv_iconst (v := zi 2) hx hb dX5_coverOf_28 rfl ?_
        refine lv_iload_n hx hb dX5_coverOf_29 rfl (lv_at hl 3 rfl) ?_
        refine g_imul hx hb dX5_coverOf_30 ?_
        refine g_iadd hx hb dX5_coverOf_31 ?_
        refine lv_iconst (v := zi 1) hx hb dX5_coverOf_32 rfl ?_
        refine g_iadd hx hb dX5_coverOf_33 ?_
        obtain ⟨g5, hh⟩ := gd_inv hh
        refine mm_iald X hM (ma_2 _ _) g5 dX5_coverOf_34 ?_
        obtain ⟨g7, hh⟩ := gd_inv hh
        refine g_icmp_gt (tgt := 42) hx hb g7 dX5_coverOf_35 (by decide) (fun c6 => ?_) (fun c6 => ?_)
        · replace hh := it_t c6 hh
          refine lv_iconst (v := zi 1) hx hb dX5_coverOf_38 rfl ?_
          refine lv_goto (tgt := 43) hx hb dX5_coverOf_39 (by decide) ?_
          exact hB43 x1 x3 (1 : Int) x2 _ hK4 hh _ _ _ hM (lv_sub hl [0, 1, 3] rfl)
        · replace hh := it_f c6 hh
          refine lv_iconst (v := zi 0) hx hb dX5_coverOf_42 rfl ?_
          exact hB43 x1 x3 (0 : Int) x2 _ hK4 hh _ _ _ hM (lv_sub hl [0, 1, 3] rfl)
      · replace hh := it_f c1 hh
        refine lv_iload_n hx hb dX5_coverOf_51 rfl (lv_at hl 2 rfl) ?_
        exact hret _ _ _ _ _ _ (rt0 hh) rfl dX5_coverOf_52 hM
  replace hl : lv_has ls 4 [(0, .ref (h)), (1, .int (zi (x1)))] := hl
  unfold M_coverOf at hh
  refine lv_iconst (v := zi 0) hx hb dX5_coverOf_0 rfl ?_
  refine lv_istore_n (lv' := [(2, .int (zi (0))), (0, .ref (h)), (1, .int (zi (x1)))]) hx hb dX5_coverOf_1 rfl hl (by decide) rfl (fun ls hl => ?_)
  refine lv_iconst (v := zi 0) hx hb dX5_coverOf_2 rfl ?_
  refine lv_istore_n (lv' := [(3, .int (zi (0))), (2, .int (zi (0))), (0, .ref (h)), (1, .int (zi (x1)))]) hx hb dX5_coverOf_3 rfl hl (by decide) rfl (fun ls hl => ?_)
  exact hL4 x1 FU (0 : Int) (0 : Int) hh _ _ _ hM (lv_sub hl [2, 3, 1, 0] rfl)
def M_covered_B49 (K29 : Int → Int → Option Int) (S : xS) (x3 : Int) (t0 : Int) (t1 : Int) : Option Int := nm (t1 + t0) (fun v11 => nm ((x3 + 1) : Int) (fun v13 => K29 v11 v13))
def M_covered_b29 (S : xS) (K29 : Int → Int → Option Int) (x2 : Int) (x3 : Int) : Option Int := gd (r32 (x3)) (if x3 < 64 then (bd (M_coverOf S x3) (fun v8 => gd (r32 (v8)) (if v8 = 0 then (M_covered_B49 K29 S x3 (1 : Int) x2) else (M_covered_B49 K29 S x3 (0 : Int) x2)))) else (some ((x2 : Int))))
def M_covered_L29 (S : xS) : Nat → Int → Int → Option Int
  | 0 => fun _ _ => none
  | n + 1 => fun x2 x3 => M_covered_b29 S (M_covered_L29 S n) x2 x3
def M_covered_B14 (S : xS) (x1 : Int) : Option Int := gd (r32 (x1)) (if x1 = (-1) then (M_covered_L29 S FU (0 : Int) (0 : Int)) else (bd (M_coverOf S x1) (fun v16 => some ((v16 : Int)))))
def M_covered (S : xS) (x1 : Int) : Option Int := gd (r32 (x1)) (if x1 = (-1) then (M_covered_B14 S x1) else (bd (M_isSide x1) (fun v18 => if v18 = true then (M_covered_B14 S x1) else (some (((-1) : Int))))))
set_option maxHeartbeats 4000000 in
theorem wM_covered (l : Launch) (DM : va_G) (dA : Nat → ClassId) (h : Nat) (S : xS) (x1 : Int) {r : Int} (hh : M_covered S x1 = some r) : mt_i l yX5_covered cX5_covered 4 (some .int) ({ frames := 4, cells := 0, slots := 0, locals := 78 } : Room) DM dA h [.int (zi x1)] S r S := by
  refine mo_i (by decide) rfl (Nat.le_of_ble_eq_true rfl) ?_
  intro p e s m args below meth c Q ls X hret hl hM
  have hx := X.1.1
  have hb := X.1.2.1
  have hown := X.1.2.2.2.1
  have hts := X.1.2.2.2.2
  skip
  have hB49 : ∀ (x3 : Int) (t0 : Int) (t1 : Int) (K29 : Int → Int → Option Int) (hK29 : (∀ (x2 : Int) (x3 : Int), K29 x2 x3 = some r → ∀ (H : Heap) (locs : List Loc) (ls : Array Slot), MX DM dA h S s H locs → lv_has ls 4 [(0, .ref (h)), (2, .int (zi (x2))), (3, .int (zi (x3)))] → W p l e ({ frames := 4, cells := 0, slots := 0, locals := 78 } : Room) s m args below meth c H locs 0 0 Q (F0 m 29 ls []))), M_covered_B49 K29 S x3 t0 t1 = some r → ∀ (H : Heap) (locs : List Loc) (ls : Array Slot), MX DM dA h S s H locs → lv_has ls 4 [(0, .ref (h)), (3, .int (zi (x3)))] → W p l e ({ frames := 4, cells := 0, slots := 0, locals := 78 } : Room) s m args below meth c H locs 0 0 Q (F0 m 49 ls [.int (zi (t0)), .int (zi (t1))]) := by
    intro x3 t0 t1 K29 hK29 hh H locs ls hM hl
    unfold M_covered_B49 at hh
    refine g_iadd hx hb dX5_covered_49 ?_
    refine g_nmi hx hb (fun v11 e12 => ?_)
    replace hh := nm_inv hh v11 e12
    refine lv_istore_n (lv' := [(2, .int (zi (v11))), (0, .ref (h)), (3, .int (zi (x3)))]) hx hb dX5_covered_50 rfl hl (by decide) rfl (fun ls hl => ?_)
    obtain ⟨v13, e14⟩ : ∃ z : Int, z = x3 + 1 := ⟨_, rfl⟩
    replace hh := nm_inv hh v13 e14
    refine lv_iinc (v := zi v13) (lv' := [(3, .int (zi (v13))), (2, .int (zi (v11))), (0, .ref (h))]) hx hb dX5_covered_51 hl (k := 2) rfl (by rw [e14]; exact zi_add _ _) (by decide) rfl (fun ls hl => ?_)
    refine lv_goto (tgt := 29) hx hb dX5_covered_54 (by decide) ?_
    exact hK29 v11 v13 hh _ _ _ hM (lv_sub hl [2, 1, 0] rfl)
  have hL29 : ∀ (n : Nat) (x2 : Int) (x3 : Int), M_covered_L29 S n x2 x3 = some r → ∀ (H : Heap) (locs : List Loc) (ls : Array Slot), MX DM dA h S s H locs → lv_has ls 4 [(0, .ref (h)), (2, .int (zi (x2))), (3, .int (zi (x3)))] → W p l e ({ frames := 4, cells := 0, slots := 0, locals := 78 } : Room) s m args below meth c H locs 0 0 Q (F0 m 29 ls []) := by
    intro   n
    induction n with
    | zero => intro x2 x3 hh; exact no_some hh
    | succ n ih =>
      intro x2 x3 hh H locs ls hM hl
      replace hh : M_covered_b29 S (M_covered_L29 S n) x2 x3 = some r := hh
      unfold M_covered_b29 at hh
      have hK29 := ih
      refine lv_iload_n hx hb dX5_covered_29 rfl (lv_at hl 2 rfl) ?_
      refine lv_bipush (v := zi 64) hx hb dX5_covered_30 (by decide) ?_
      obtain ⟨g6, hh⟩ := gd_inv hh
      refine g_icmp_ge (tgt := 57) hx hb ⟨g6, by decide⟩ dX5_covered_32 (by decide) (fun c5 => ?_) (fun c5 => ?_)
      · replace hh := it_t c5 hh
        refine lv_iload_n hx hb dX5_covered_35 rfl (lv_at hl 1 rfl) ?_
        refine lv_aload_n hx hb dX5_covered_36 rfl (lv_at hl 0 rfl) ?_
        refine lv_iload_n hx hb dX5_covered_37 rfl (lv_at hl 2 rfl) ?_
        obtain ⟨v8, k7, hh⟩ := bd_inv hh
        refine mc_i (rest := [.int (zi (x2))]) X hM (wM_coverOf l DM dA h S x3 k7) c5_coverOf.1 c5_coverOf.2 ⟨rfl, rfl⟩ ⟨Nat.le_of_ble_eq_true rfl, Nat.le_of_ble_eq_true rfl⟩ ⟨Nat.zero_le _, Nat.zero_le _⟩ hl.1 (Nat.le_of_ble_eq_true rfl) dX5_covered_38 rfl (fun H locs hM => ?_)
        obtain ⟨g10, hh⟩ := gd_inv hh
        refine g_if_ne (tgt := 48) hx hb g10 dX5_covered_41 (by decide) (fun c9 => ?_) (fun c9 => ?_)
        · replace hh := it_t c9 hh
          refine lv_iconst (v := zi 1) hx hb dX5_covered_44 rfl ?_
          refine lv_goto (tgt := 49) hx hb dX5_covered_45 (by decide) ?_
          exact hB49 x3 (1 : Int) x2 _ hK29 hh _ _ _ hM (lv_sub hl [0, 2] rfl)
        · replace hh := it_f c9 hh
          refine lv_iconst (v := zi 0) hx hb dX5_covered_48 rfl ?_
          exact hB49 x3 (0 : Int) x2 _ hK29 hh _ _ _ hM (lv_sub hl [0, 2] rfl)
      · replace hh := it_f c5 hh
        refine lv_iload_n hx hb dX5_covered_57 rfl (lv_at hl 1 rfl) ?_
        exact hret _ _ _ _ _ _ (rt0 hh) rfl dX5_covered_58 hM
  have hB14 : ∀ (x1 : Int), M_covered_B14 S x1 = some r → ∀ (H : Heap) (locs : List Loc) (ls : Array Slot), MX DM dA h S s H locs → lv_has ls 4 [(0, .ref (h)), (1, .int (zi (x1)))] → W p l e ({ frames := 4, cells := 0, slots := 0, locals := 78 } : Room) s m args below meth c H locs 0 0 Q (F0 m 14 ls []) := by
    intro x1  hh H locs ls hM hl
    unfold M_covered_B14 at hh
    refine lv_iload_n hx hb dX5_covered_14 rfl (lv_at hl 1 rfl) ?_
    refine lv_iconst (v := zi (-1)) hx hb dX5_covered_15 rfl ?_
    obtain ⟨g4, hh⟩ := gd_inv hh
    refine g_icmp_eq (tgt := 25) hx hb ⟨g4, by decide⟩ dX5_covered_16 (by decide) (fun c3 => ?_) (fun c3 => ?_)
    · replace hh := it_t c3 hh
      refine lv_iconst (v := zi 0) hx hb dX5_covered_25 rfl ?_
      refine lv_istore_n (lv' := [(2, .int (zi (0))), (0, .ref (h)), (1, .int (zi (x1)))]) hx hb dX5_covered_26 rfl hl (by decide) rfl (fun ls hl => ?_)
      refine lv_iconst (v := zi 0) hx hb dX5_covered_27 rfl ?_
      refine lv_istore_n (lv' := [(3, .int (zi (0))), (2, .int (zi (0))), (0, .ref (h)), (1, .int (zi (x1)))]) hx hb dX5_covered_28 rfl hl (by decide) rfl (fun ls hl => ?_)
      exact hL29 FU (0 : Int) (0 : Int) hh _ _ _ hM (lv_sub hl [2, 1, 0] rfl)
    · replace hh := it_f c3 hh
      refine lv_aload_n hx hb dX5_covered_19 rfl (lv_at hl 0 rfl) ?_
      refine lv_iload_n hx hb dX5_covered_20 rfl (lv_at hl 1 rfl) ?_
      obtain ⟨v16, k15, hh⟩ := bd_inv hh
      refine mc_i (rest := []) X hM (wM_coverOf l DM dA h S x1 k15) c5_coverOf.1 c5_coverOf.2 ⟨rfl, rfl⟩ ⟨Nat.le_of_ble_eq_true rfl, Nat.le_of_ble_eq_true rfl⟩ ⟨Nat.zero_le _, Nat.zero_le _⟩ hl.1 (Nat.le_of_ble_eq_true rfl) dX5_covered_21 rfl (fun H locs hM => ?_)
      exact hret _ _ _ _ _ _ (rt0 hh) rfl dX5_covered_24 hM
  replace hl : lv_has ls 4 [(0, .ref (h)), (1, .int (zi (x1)))] := hl
  unfold M_covered at hh
  refine lv_iload_n hx hb dX5_covered_0 rfl (lv_at hl 1 rfl) ?_
  refine lv_iconst (v := zi (-1)) hx hb dX5_covered_1 rfl ?_
  obtain ⟨g2, hh⟩ := gd_inv hh
  refine g_icmp_eq (tgt := 14) hx hb ⟨g2, by decide⟩ dX5_covered_2 (by decide) (fun c1 => ?_) (fun c1 => ?_)
  · replace hh := it_t c1 hh
    exact hB14 x1 hh _ _ _ hM (lv_sub hl [0, 1] rfl)
  · replace hh := it_f c1 hh
    refine lv_iload_n hx hb dX5_covered_5 rfl (lv_at hl 1 rfl) ?_
    obtain ⟨v18, k17, hh⟩ := bd_inv hh
    refine mcs_z (rest := []) X hM (wM_isSide l x1 k17) c5_isSide.1 c5_isSide.2 ⟨rfl, rfl⟩ ⟨Nat.le_of_ble_eq_true rfl, Nat.le_of_ble_eq_true rfl⟩ ⟨Nat.zero_le _, Nat.zero_le _⟩ hl.1 (Nat.le_of_ble_eq_true rfl) dX5_covered_6 rfl (fun H locs hM => ?_)
    refine g_bif_ne (tgt := 14) hx hb dX5_covered_9 (by decide) (fun c19 => ?_) (fun c19 => ?_)
    · replace hh := it_t c19 hh
      exact hB14 x1 hh _ _ _ hM (lv_sub hl [0, 1] rfl)
    · replace hh := it_f c19 hh
      refine lv_iconst (v := zi (-1)) hx hb dX5_covered_12 rfl ?_
      exact hret _ _ _ _ _ _ (rt0 hh) rfl dX5_covered_13 hM
