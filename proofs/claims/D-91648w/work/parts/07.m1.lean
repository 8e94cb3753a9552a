set_option maxRecDepth 100000
def M_copy23_b2 (K2 : xS → Int → Option xS) (S : xS) (x2 : Int) : Option xS := gd (r32 (x2)) (if x2 < 3170 then (gd ((0 : Int) ≤ x2 ∧ (x2 : Int) < 3170) (gd ((0 : Int) ≤ x2 ∧ (x2 : Int) < 3170) (nm (aset S 3 x2 (S.2 2 x2)) (fun S5 => nm ((x2 + 1) : Int) (fun v7 => K2 S5 v7))))) else (some S))
def M_copy23_L2 : Nat → xS → Int → Option xS
  | 0 => fun _ _ => none
  | n + 1 => fun S x2 => M_copy23_b2  (M_copy23_L2  n) S x2
def M_copy23 (S : xS) : Option xS := M_copy23_L2 FU S (0 : Int)
set_option maxHeartbeats 4000000 in
theorem wM_copy23 (l : Launch) (DM : va_G) (dA : Nat → ClassId) (h : Nat) (S : xS) {S1 : xS} (hh : M_copy23 S  = some S1) : mt_sv l yX5_copy cX5_copy 3 ({ frames := 1, cells := 0, slots := 0, locals := 12 } : Room) DM dA h [.ref (h + 1), .ref (h + 2)] S S1 := by
  refine mo_sv (by decide) rfl (Nat.le_of_ble_eq_true rfl) ?_
  intro p e s m args below meth c Q ls X hret hl hM
  have hx := X.1.1
  have hb := X.1.2.1
  have hown := X.1.2.2.2.1
  have hts := X.1.2.2.2.2
  skip
  have hL2 : ∀ (n : Nat) (S : xS) (x2 : Int), M_copy23_L2 n S x2 = some S1 → ∀ (H : Heap) (locs : List Loc) (ls : Array Slot), MX DM dA h S s H locs → lv_has ls 3 [(0, .ref (h + 1)), (1, .ref (h + 2)), (2, .int (zi (x2)))] → W p l e ({ frames := 1, cells := 0, slots := 0, locals := 12 } : Room) s m args below meth c H locs 0 0 Q (F0 m 2 ls []) := by
    intro   n
    induction n with
    | zero => intro S x2 hh; exact no_some hh
    | succ n ih =>
      intro S x2 hh H locs ls hM hl
      replace hh : M_copy23_b2 (M_copy23_L2 n) S x2 = some S1 := hh
      unfold M_copy23_b2 at hh
      have hK2 := ih
      refine lv_iload_n hx hb dX5_copy_2 rfl (lv_at hl 2 rfl) ?_
      refine lv_sipush (v := zi 3170) hx hb dX5_copy_3 (by decide) ?_
      obtain ⟨g2, hh⟩ := gd_inv hh
      refine g_icmp_ge (tgt := 21) hx hb ⟨g2, by decide⟩ dX5_copy_6 (by decide) (fun c1 => ?_) (fun c1 => ?_)
      · replace hh := it_t c1 hh
        refine lv_aload_n hx hb dX5_copy_9 rfl (lv_at hl 1 rfl) ?_
        refine lv_iload_n hx hb dX5_copy_10 rfl (lv_at hl 2 rfl) ?_
        refine lv_aload_n hx hb dX5_copy_11 rfl (lv_at hl 0 rfl) ?_
        refine lv_iload_n hx hb dX5_copy_12 rfl (lv_at hl 2 rfl) ?_
        obtain ⟨g3, hh⟩ := gd_inv hh
        refine mm_iald X hM (ma_2 _ _) g3 dX5_copy_13 ?_
        obtain ⟨g4, hh⟩ := gd_inv hh
        refine mm_iast X hM (ma_3 _ _) g4 dX5_copy_14 (fun H locs S5 e6 hM => ?_)
        replace hh := nm_inv hh S5 e6
        obtain ⟨v7, e8⟩ : ∃ z : Int, z = x2 + 1 := ⟨_, rfl⟩
        replace hh := nm_inv hh v7 e8
        refine lv_iinc (v := zi v7) (lv' := [(2, .int (zi (v7))), (0, .ref (h + 1)), (1, .ref (h + 2))]) hx hb dX5_copy_15 hl (k := 2) rfl (by rw [e8]; exact zi_add _ _) (by decide) rfl (fun ls hl => ?_)
        refine lv_goto (tgt := 2) hx hb dX5_copy_18 (by decide) ?_
        exact hK2 S5 v7 hh _ _ _ hM (lv_sub hl [1, 2, 0] rfl)
      · replace hh := it_f c1 hh
        exact hret _ _ _ _ _ (rt0 hh) dX5_copy_21 hM
  replace hl : lv_has ls 3 [(0, .ref (h + 1)), (1, .ref (h + 2))] := hl
  unfold M_copy23 at hh
  refine lv_iconst (v := zi 0) hx hb dX5_copy_0 rfl ?_
  refine lv_istore_n (lv' := [(2, .int (zi (0))), (0, .ref (h + 1)), (1, .ref (h + 2))]) hx hb dX5_copy_1 rfl hl (by decide) rfl (fun ls hl => ?_)
  exact hL2 FU S (0 : Int) hh _ _ _ hM (lv_sub hl [1, 2, 0] rfl)
def M_copy32_b2 (K2 : xS → Int → Option xS) (S : xS) (x2 : Int) : Option xS := gd (r32 (x2)) (if x2 < 3170 then (gd ((0 : Int) ≤ x2 ∧ (x2 : Int) < 3170) (gd ((0 : Int) ≤ x2 ∧ (x2 : Int) < 3170) (nm (aset S 2 x2 (S.2 3 x2)) (fun S5 => nm ((x2 + 1) : Int) (fun v7 => K2 S5 v7))))) else (some S))
def M_copy32_L2 : Nat → xS → Int → Option xS
  | 0 => fun _ _ => none
  | n + 1 => fun S x2 => M_copy32_b2  (M_copy32_L2  n) S x2
def M_copy32 (S : xS) : Option xS := M_copy32_L2 FU S (0 : Int)
set_option maxHeartbeats 4000000 in
theorem wM_copy32 (l : Launch) (DM : va_G) (dA : Nat → ClassId) (h : Nat) (S : xS) {S1 : xS} (hh : M_copy32 S  = some S1) : mt_sv l yX5_copy cX5_copy 3 ({ frames := 1, cells := 0, slots := 0, locals := 12 } : Room) DM dA h [.ref (h + 2), .ref (h + 1)] S S1 := by
  refine mo_sv (by decide) rfl (Nat.le_of_ble_eq_true rfl) ?_
  intro p e s m args below meth c Q ls X hret hl hM
  have hx := X.1.1
  have hb := X.1.2.1
  have hown := X.1.2.2.2.1
  have hts := X.1.2.2.2.2
  skip
  have hL2 : ∀ (n : Nat) (S : xS) (x2 : Int), M_copy32_L2 n S x2 = some S1 → ∀ (H : Heap) (locs : List Loc) (ls : Array Slot), MX DM dA h S s H locs → lv_has ls 3 [(0, .ref (h + 2)), (1, .ref (h + 1)), (2, .int (zi (x2)))] → W p l e ({ frames := 1, cells := 0, slots := 0, locals := 12 } : Room) s m args below meth c H locs 0 0 Q (F0 m 2 ls []) := by
    intro   n
    induction n with
    | zero => intro S x2 hh; exact no_some hh
    | succ n ih =>
      intro S x2 hh H locs ls hM hl
      replace hh : M_copy32_b2 (M_copy32_L2 n) S x2 = some S1 := hh
      unfold M_copy32_b2 at hh
      have hK2 := ih
      refine lv_iload_n hx hb dX5_copy_2 rfl (lv_at hl 2 rfl) ?_
      refine lv_sipush (v := zi 3170) hx hb dX5_copy_3 (by decide) ?_
      obtain ⟨g2, hh⟩ := gd_inv hh
      refine g_icmp_ge (tgt := 21) hx hb ⟨g2, by decide⟩ dX5_copy_6 (by decide) (fun c1 => ?_) (fun c1 => ?_)
      · replace hh := it_t c1 hh
        refine lv_aload_n hx hb dX5_copy_9 rfl (lv_at hl 1 rfl) ?_
        refine lv_iload_n hx hb dX5_copy_10 rfl (lv_at hl 2 rfl) ?_
        refine lv_aload_n hx hb dX5_copy_11 rfl (lv_at hl 0 rfl) ?_
        refine lv_iload_n hx hb dX5_copy_12 rfl (lv_at hl 2 rfl) ?_
        obtain ⟨g3, hh⟩ := gd_inv hh
        refine mm_iald X hM (ma_3 _ _) g3 dX5_copy_13 ?_
        obtain ⟨g4, hh⟩ := gd_inv hh
        refine mm_iast X hM (ma_2 _ _) g4 dX5_copy_14 (fun H locs S5 e6 hM => ?_)
        replace hh := nm_inv hh S5 e6
        obtain ⟨v7, e8⟩ : ∃ z : Int, z = x2 + 1 := ⟨_, rfl⟩
        replace hh := nm_inv hh v7 e8
        refine lv_iinc (v := zi v7) (lv' := [(2, .int (zi (v7))), (0, .ref (h + 2)), (1, .ref (h + 1))]) hx hb dX5_copy_15 hl (k := 2) rfl (by rw [e8]; exact zi_add _ _) (by decide) rfl (fun ls hl => ?_)
        refine lv_goto (tgt := 2) hx hb dX5_copy_18 (by decide) ?_
        exact hK2 S5 v7 hh _ _ _ hM (lv_sub hl [1, 2, 0] rfl)
      · replace hh := it_f c1 hh
        exact hret _ _ _ _ _ (rt0 hh) dX5_copy_21 hM
  replace hl : lv_has ls 3 [(0, .ref (h + 2)), (1, .ref (h + 1))] := hl
  unfold M_copy32 at hh
  refine lv_iconst (v := zi 0) hx hb dX5_copy_0 rfl ?_
  refine lv_istore_n (lv' := [(2, .int (zi (0))), (0, .ref (h + 2)), (1, .ref (h + 1))]) hx hb dX5_copy_1 rfl hl (by decide) rfl (fun ls hl => ?_)
  exact hL2 FU S (0 : Int) hh _ _ _ hM (lv_sub hl [1, 2, 0] rfl)
def M_isIn (x0 : Int) (x1 : Int) (x2 : Int) : Option Bool := gd (r32 (x0) ∧ r32 (x1)) (if x0 < x1 then (some (false)) else (gd (r32 (x0) ∧ r32 (x2)) (if x0 ≤ x2 then (some (true)) else (some (false)))))
set_option maxHeartbeats 4000000 in
theorem wM_isIn (l : Launch) (x0 x1 x2 : Int) {r : Bool} (hh : M_isIn x0 x1 x2 = some r) : ms_z l yX5_isIn cX5_isIn 3 (some .boolean) ({ frames := 1, cells := 0, slots := 0, locals := 12 } : Room) [.int (zi x0), .int (zi x1), .int (zi x2)] r := by
  refine mo_sz (by decide) rfl (Nat.le_of_ble_eq_true rfl) ?_
  intro p e s m args below meth c Q ls X hret hl hM
  have hx := X.1
  have hb := X.2.1
  have hown := X.2.2.2.1
  have hts := X.2.2.2.2
  skip
  replace hl : lv_has ls 3 [(0, .int (zi (x0))), (1, .int (zi (x1))), (2, .int (zi (x2)))] := hl
  unfold M_isIn at hh
  refine lv_iload_n hx hb dX5_isIn_0 rfl (lv_at hl 0 rfl) ?_
  refine lv_iload_n hx hb dX5_isIn_1 rfl (lv_at hl 1 rfl) ?_
  obtain ⟨g2, hh⟩ := gd_inv hh
  refine g_icmp_lt (tgt := 14) hx hb g2 dX5_isIn_2 (by decide) (fun c1 => ?_) (fun c1 => ?_)
  · replace hh := it_t c1 hh
    refine lv_iconst (v := zi 0) hx hb dX5_isIn_14 rfl ?_
    refine W.eq (g2 := F0 m 15 ls [.int (zi (bz false))]) rfl ?_
    exact hret _ _ _ _ _ (rt0 hh) dX5_isIn_15 hM
  · replace hh := it_f c1 hh
    refine lv_iload_n hx hb dX5_isIn_5 rfl (lv_at hl 0 rfl) ?_
    refine lv_iload_n hx hb dX5_isIn_6 rfl (lv_at hl 2 rfl) ?_
    obtain ⟨g4, hh⟩ := gd_inv hh
    refine g_icmp_gt (tgt := 14) hx hb g4 dX5_isIn_7 (by decide) (fun c3 => ?_) (fun c3 => ?_)
    · replace hh := it_t c3 hh
      refine lv_iconst (v := zi 1) hx hb dX5_isIn_10 rfl ?_
      refine lv_goto (tgt := 15) hx hb dX5_isIn_11 (by decide) ?_
      refine W.eq (g2 := F0 m 15 ls [.int (zi (bz true))]) rfl ?_
      exact hret _ _ _ _ _ (rt0 hh) dX5_isIn_15 hM
    · replace hh := it_f c3 hh
      refine lv_iconst (v := zi 0) hx hb dX5_isIn_14 rfl ?_
      refine W.eq (g2 := F0 m 15 ls [.int (zi (bz false))]) rfl ?_
      exact hret _ _ _ _ _ (rt0 hh) dX5_isIn_15 hM
def M_isCell (S : xS) (x1 : Int) : Option Bool := bd (M_isIn x1 (0 : Int) (((S.1 0) * (S.1 1)) - 1)) (fun v2 => some (v2))
set_option maxHeartbeats 4000000 in
theorem wM_isCell (l : Launch) (DM : va_G) (dA : Nat → ClassId) (h : Nat) (S : xS) (x1 : Int) {r : Bool} (hh : M_isCell S x1 = some r) : mt_z l yX5_isCell cX5_isCell 2 (some .boolean) ({ frames := 2, cells := 0, slots := 0, locals := 34 } : Room) DM dA h [.int (zi x1)] S r S := by
  refine mo_z (by decide) rfl (Nat.le_of_ble_eq_true rfl) ?_
  intro p e s m args below meth c Q ls X hret hl hM
  have hx := X.1.1
  have hb := X.1.2.1
  have hown := X.1.2.2.2.1
  have hts := X.1.2.2.2.2
  skip
  replace hl : lv_has ls 2 [(0, .ref (h)), (1, .int (zi (x1)))] := hl
  unfold M_isCell at hh
  refine lv_iload_n hx hb dX5_isCell_0 rfl (lv_at hl 1 rfl) ?_
  refine lv_iconst (v := zi 0) hx hb dX5_isCell_1 rfl ?_
  refine lv_aload_n hx hb dX5_isCell_2 rfl (lv_at hl 0 rfl) ?_
  refine mm_get X hM q1174 (mf_0 _ _) dX5_isCell_3 ?_
  refine lv_aload_n hx hb dX5_isCell_6 rfl (lv_at hl 0 rfl) ?_
  refine mm_get X hM q1175 (mf_1 _ _) dX5_isCell_7 ?_
  refine g_imul hx hb dX5_isCell_10 ?_
  refine lv_iconst (v := zi 1) hx hb dX5_isCell_11 rfl ?_
  refine g_isub hx hb dX5_isCell_12 ?_
  obtain ⟨v2, k1, hh⟩ := bd_inv hh
  refine mcs_z (rest := []) X hM (wM_isIn l x1 (0 : Int) (((S.1 0) * (S.1 1)) - 1) k1) c5_isIn.1 c5_isIn.2 ⟨rfl, rfl⟩ ⟨Nat.le_of_ble_eq_true rfl, Nat.le_of_ble_eq_true rfl⟩ ⟨Nat.zero_le _, Nat.zero_le _⟩ hl.1 (Nat.le_of_ble_eq_true rfl) dX5_isCell_13 rfl (fun H locs hM => ?_)
  exact hret _ _ _ _ _ _ (rt0 hh) rfl dX5_isCell_16 hM
def M_mark (S : xS) (x1 : Int) (x2 : Int) : Option (Bool × xS) := bd (M_isCell S x1) (fun v2 => if v2 = true then (bd (M_isIn x2 (0 : Int) (255 : Int)) (fun v5 => if v5 = true then (gd ((0 : Int) ≤ 10 + x1 ∧ (10 + x1 : Int) < 3170) (nm (aset S 2 (10 + x1) x2) (fun S8 => some (true, S8)))) else (some (false, S)))) else (some (false, S)))
set_option maxHeartbeats 4000000 in
theorem wM_mark (l : Launch) (DM : va_G) (dA : Nat → ClassId) (h : Nat) (S : xS) (x1 x2 : Int) {r : Bool} {S1 : xS} (hh : M_mark S x1 x2 = some (r, S1)) : mt_z l yX5_mark cX5_mark 3 (some .boolean) ({ frames := 3, cells := 0, slots := 0, locals := 55 } : Room) DM dA h [.int (zi x1), .int (zi x2)] S r S1 := by
  refine mo_z (by decide) rfl (Nat.le_of_ble_eq_true rfl) ?_
  intro p e s m args below meth c Q ls X hret hl hM
  have hx := X.1.1
  have hb := X.1.2.1
  have hown := X.1.2.2.2.1
  have hts := X.1.2.2.2.2
  skip
  replace hl : lv_has ls 3 [(0, .ref (h)), (1, .int (zi (x1))), (2, .int (zi (x2)))] := hl
  unfold M_mark at hh
  refine lv_aload_n hx hb dX5_mark_0 rfl (lv_at hl 0 rfl) ?_
  refine lv_iload_n hx hb dX5_mark_1 rfl (lv_at hl 1 rfl) ?_
  obtain ⟨v2, k1, hh⟩ := bd_inv hh
  refine mc_z (rest := []) X hM (wM_isCell l DM dA h S x1 k1) c5_isCell.1 c5_isCell.2 ⟨rfl, rfl⟩ ⟨Nat.le_of_ble_eq_true rfl, Nat.le_of_ble_eq_true rfl⟩ ⟨Nat.zero_le _, Nat.zero_le _⟩ hl.1 (Nat.le_of_ble_eq_true rfl) dX5_mark_2 rfl (fun H locs hM => ?_)
  refine g_bif_eq (tgt := 19) hx hb dX5_mark_5 (by decide) (fun c3 => ?_) (fun c3 => ?_)
  · replace hh := it_t c3 hh
    refine lv_iload_n hx hb dX5_mark_8 rfl (lv_at hl 2 rfl) ?_
    refine lv_iconst (v := zi 0) hx hb dX5_mark_9 rfl ?_
    refine lv_sipush (v := zi 255) hx hb dX5_mark_10 (by decide) ?_
    obtain ⟨v5, k4, hh⟩ := bd_inv hh
    refine mcs_z (rest := []) X hM (wM_isIn l x2 (0 : Int) (255 : Int) k4) c5_isIn.1 c5_isIn.2 ⟨rfl, rfl⟩ ⟨Nat.le_of_ble_eq_true rfl, Nat.le_of_ble_eq_true rfl⟩ ⟨Nat.zero_le _, Nat.zero_le _⟩ hl.1 (Nat.le_of_ble_eq_true rfl) dX5_mark_13 rfl (fun H locs hM => ?_)
    refine g_bif_ne (tgt := 21) hx hb dX5_mark_16 (by decide) (fun c6 => ?_) (fun c6 => ?_)
    · replace hh := it_t c6 hh
      refine lv_aload_n hx hb dX5_mark_21 rfl (lv_at hl 0 rfl) ?_
      refine mm_get X hM q1176 (mf_2 _ _) dX5_mark_22 ?_
      refine lv_bipush (v := zi 10) hx hb dX5_mark_25 (by decide) ?_
      refine lv_iload_n hx hb dX5_mark_27 rfl (lv_at hl 1 rfl) ?_
      refine g_iadd hx hb dX5_mark_28 ?_
      refine lv_iload_n hx hb dX5_mark_29 rfl (lv_at hl 2 rfl) ?_
      obtain ⟨g7, hh⟩ := gd_inv hh
      refine mm_iast X hM (ma_2 _ _) g7 dX5_mark_30 (fun H locs S8 e9 hM => ?_)
      replace hh := nm_inv hh S8 e9
      refine lv_iconst (v := zi 1) hx hb dX5_mark_31 rfl ?_
      refine W.eq (g2 := F0 m 32 ls [.int (zi (bz true))]) rfl ?_
      exact hret _ _ _ _ _ _ (rt1 hh) (rt2 hh) dX5_mark_32 hM
    · replace hh := it_f c6 hh
      refine lv_iconst (v := zi 0) hx hb dX5_mark_19 rfl ?_
      refine W.eq (g2 := F0 m 20 ls [.int (zi (bz false))]) rfl ?_
      exact hret _ _ _ _ _ _ (rt1 hh) (rt2 hh) dX5_mark_20 hM
  · replace hh := it_f c3 hh
    refine lv_iconst (v := zi 0) hx hb dX5_mark_19 rfl ?_
    refine W.eq (g2 := F0 m 20 ls [.int (zi (bz false))]) rfl ?_
    exact hret _ _ _ _ _ _ (rt1 hh) (rt2 hh) dX5_mark_20 hM
def M_body (S : xS) (x1 : Int) (x2 : Int) (x3 : Int) (x4 : Int) : Option (Int × xS) := bd (M_isCell S x1) (fun v2 => if v2 = true then (bd (M_isIn x2 ((-2) : Int) (2 : Int)) (fun v5 => if v5 = true then (bd (M_isIn x3 ((-2) : Int) (2 : Int)) (fun v8 => if v8 = true then (bd (M_isIn x4 (1 : Int) (255 : Int)) (fun v11 => if v11 = true then (gd (r32 (S.2 2 0)) (if (S.2 2 0) = 6 then (some (((-1) : Int), S)) else (nm (590 + (4 * (S.2 2 0))) (fun v15 => gd ((0 : Int) ≤ v15 ∧ (v15 : Int) < 3170) (nm (aset S 2 v15 x1) (fun S18 => gd ((0 : Int) ≤ v15 + 1 ∧ (v15 + 1 : Int) < 3170) (nm (aset S18 2 (v15 + 1) x2) (fun S21 => gd ((0 : Int) ≤ v15 + 2 ∧ (v15 + 2 : Int) < 3170) (nm (aset S21 2 (v15 + 2) x3) (fun S24 => gd ((0 : Int) ≤ v15 + 3 ∧ (v15 + 3 : Int) < 3170) (nm (aset S24 2 (v15 + 3) x4) (fun S27 => nm (aset S27 2 (0 : Int) ((S27.2 2 0) + 1)) (fun S29 => some (((S29.2 2 0) - 1 : Int), S29)))))))))))))) else (some (((-1) : Int), S)))) else (some (((-1) : Int), S)))) else (some (((-1) : Int), S)))) else (some (((-1) : Int), S)))
set_option maxHeartbeats 4000000 in
theorem wM_body (l : Launch) (DM : va_G) (dA : Nat → ClassId) (h : Nat) (S : xS) (x1 x2 x3 x4 : Int) {r : Int} {S1 : xS} (hh : M_body S x1 x2 x3 x4 = some (r, S1)) : mt_i l yX5_body cX5_body 6 (some .int) ({ frames := 3, cells := 0, slots := 0, locals := 55 } : Room) DM dA h [.int (zi x1), .int (zi x2), .int (zi x3), .int (zi x4)] S r S1 := by
  refine mo_i (by decide) rfl (Nat.le_of_ble_eq_true rfl) ?_
  intro p e s m args below meth c Q ls X hret hl hM
  have hx := X.1.1
  have hb := X.1.2.1
  have hown := X.1.2.2.2.1
  have hts := X.1.2.2.2.2
  skip
  replace hl : lv_has ls 6 [(0, .ref (h)), (1, .int (zi (x1))), (2, .int (zi (x2))), (3, .int (zi (x3))), (4, .int (zi (x4)))] := hl
  unfold M_body at hh
  refine lv_aload_n hx hb dX5_body_0 rfl (lv_at hl 0 rfl) ?_
  refine lv_iload_n hx hb dX5_body_1 rfl (lv_at hl 1 rfl) ?_
  obtain ⟨v2, k1, hh⟩ := bd_inv hh
  refine mc_z (rest := []) X hM (wM_isCell l DM dA h S x1 k1) c5_isCell.1 c5_isCell.2 ⟨rfl, rfl⟩ ⟨Nat.le_of_ble_eq_true rfl, Nat.le_of_ble_eq_true rfl⟩ ⟨Nat.zero_le _, Nat.zero_le _⟩ hl.1 (Nat.le_of_ble_eq_true rfl) dX5_body_2 rfl (fun H locs hM => ?_)
  refine g_bif_eq (tgt := 51) hx hb dX5_body_5 (by decide) (fun c3 => ?_) (fun c3 => ?_)
  · replace hh := it_t c3 hh
    refine lv_iload_n hx hb dX5_body_8 rfl (lv_at hl 2 rfl) ?_
    refine lv_bipush (v := zi (-2)) hx hb dX5_body_9 (by decide) ?_
    refine lv_iconst (v := zi 2) hx hb dX5_body_11 rfl ?_
    obtain ⟨v5, k4, hh⟩ := bd_inv hh
    refine mcs_z (rest := []) X hM (wM_isIn l x2 ((-2) : Int) (2 : Int) k4) c5_isIn.1 c5_isIn.2 ⟨rfl, rfl⟩ ⟨Nat.le_of_ble_eq_true rfl, Nat.le_of_ble_eq_true rfl⟩ ⟨Nat.zero_le _, Nat.zero_le _⟩ hl.1 (Nat.le_of_ble_eq_true rfl) dX5_body_12 rfl (fun H locs hM => ?_)
    refine g_bif_eq (tgt := 51) hx hb dX5_body_15 (by decide) (fun c6 => ?_) (fun c6 => ?_)
    · replace hh := it_t c6 hh
      refine lv_iload_n hx hb dX5_body_18 rfl (lv_at hl 3 rfl) ?_
      refine lv_bipush (v := zi (-2)) hx hb dX5_body_19 (by decide) ?_
      refine lv_iconst (v := zi 2) hx hb dX5_body_21 rfl ?_
      obtain ⟨v8, k7, hh⟩ := bd_inv hh
      refine mcs_z (rest := []) X hM (wM_isIn l x3 ((-2) : Int) (2 : Int) k7) c5_isIn.1 c5_isIn.2 ⟨rfl, rfl⟩ ⟨Nat.le_of_ble_eq_true rfl, Nat.le_of_ble_eq_true rfl⟩ ⟨Nat.zero_le _, Nat.zero_le _⟩ hl.1 (Nat.le_of_ble_eq_true rfl) dX5_body_22 rfl (fun H locs hM => ?_)
      refine g_bif_eq (tgt := 51) hx hb dX5_body_25 (by decide) (fun c9 => ?_) (fun c9 => ?_)
      · replace hh := it_t c9 hh
        refine lv_iload hx hb dX5_body_28 (lv_at hl 4 rfl) ?_
        refine lv_iconst (v := zi 1) hx hb dX5_body_30 rfl ?_
        refine lv_sipush (v := zi 255) hx hb dX5_body_31 (by decide) ?_
        obtain ⟨v11, k10, hh⟩ := bd_inv hh
        refine mcs_z (rest := []) X hM (wM_isIn l x4 (1 : Int) (255 : Int) k10) c5_isIn.1 c5_isIn.2 ⟨rfl, rfl⟩ ⟨Nat.le_of_ble_eq_true rfl, Nat.le_of_ble_eq_true rfl⟩ ⟨Nat.zero_le _, Nat.zero_le _⟩ hl.1 (Nat.le_of_ble_eq_true rfl) dX5_body_34 rfl (fun H locs hM => ?_)
        refine g_bif_eq (tgt := 51) hx hb dX5_body_37 (by decide) (fun c12 => ?_) (fun c12 => ?_)
        · replace hh := it_t c12 hh
          refine lv_aload_n hx hb dX5_body_40 rfl (lv_at hl 0 rfl) ?_
          refine mm_get X hM q1176 (mf_2 _ _) dX5_body_41 ?_
          refine lv_iconst (v := zi 0) hx hb dX5_body_44 rfl ?_
          refine mm_iald X hM (ma_2 _ _) (by decide) dX5_body_45 ?_
          refine lv_bipush (v := zi 6) hx hb dX5_body_46 (by decide) ?_
          obtain ⟨g14, hh⟩ := gd_inv hh
          refine g_icmp_ne (tgt := 53) hx hb ⟨g14, by decide⟩ dX5_body_48 (by decide) (fun c13 => ?_) (fun c13 => ?_)
          · replace hh := it_t c13 hh
            refine lv_iconst (v := zi (-1)) hx hb dX5_body_51 rfl ?_
            exact hret _ _ _ _ _ _ (rt1 hh) (rt2 hh) dX5_body_52 hM
          · replace hh := it_f c13 hh
            refine lv_sipush (v := zi 590) hx hb dX5_body_53 (by decide) ?_
            refine lv_iconst (v := zi 4) hx hb dX5_body_56 rfl ?_
            refine lv_aload_n hx hb dX5_body_57 rfl (lv_at hl 0 rfl) ?_
            refine mm_get X hM q1176 (mf_2 _ _) dX5_body_58 ?_
            refine lv_iconst (v := zi 0) hx hb dX5_body_61 rfl ?_
            refine mm_iald X hM (ma_2 _ _) (by decide) dX5_body_62 ?_
            refine g_imul hx hb dX5_body_63 ?_
            refine g_iadd hx hb dX5_body_64 ?_
            refine g_nmi hx hb (fun v15 e16 => ?_)
            replace hh := nm_inv hh v15 e16
            refine lv_istore (lv' := [(5, .int (zi (v15))), (0, .ref (h)), (1, .int (zi (x1))), (2, .int (zi (x2))), (3, .int (zi (x3))), (4, .int (zi (x4)))]) hx hb dX5_body_65 hl (by decide) rfl (fun ls hl => ?_)
            refine lv_aload_n hx hb dX5_body_67 rfl (lv_at hl 1 rfl) ?_
            refine mm_get X hM q1176 (mf_2 _ _) dX5_body_68 ?_
            refine lv_iload hx hb dX5_body_71 (lv_at hl 0 rfl) ?_
            refine lv_iload_n hx hb dX5_body_73 rfl (lv_at hl 2 rfl) ?_
            obtain ⟨g17, hh⟩ := gd_inv hh
            refine mm_iast X hM (ma_2 _ _) g17 dX5_body_74 (fun H locs S18 e19 hM => ?_)
            replace hh := nm_inv hh S18 e19
            refine lv_aload_n hx hb dX5_body_75 rfl (lv_at hl 1 rfl) ?_
            refine mm_get X hM q1176 (mf_2 _ _) dX5_body_76 ?_
            refine lv_iload hx hb dX5_body_79 (lv_at hl 0 rfl) ?_
            refine lv_iconst (v := zi 1) hx hb dX5_body_81 rfl ?_
            refine g_iadd hx hb dX5_body_82 ?_
            refine lv_iload_n hx hb dX5_body_83 rfl (lv_at hl 3 rfl) ?_
            obtain ⟨g20, hh⟩ := gd_inv hh
            refine mm_iast X hM (ma_2 _ _) g20 dX5_body_84 (fun H locs S21 e22 hM => ?_)
            replace hh := nm_inv hh S21 e22
            refine lv_aload_n hx hb dX5_body_85 rfl (lv_at hl 1 rfl) ?_
            refine mm_get X hM q1176 (mf_2 _ _) dX5_body_86 ?_
            refine lv_iload hx hb dX5_body_89 (lv_at hl 0 rfl) ?_
            refine lv_iconst (v := zi 2) hx hb dX5_body_91 rfl ?_
            refine g_iadd hx hb dX5_body_92 ?_
            refine lv_iload_n hx hb dX5_body_93 rfl (lv_at hl 4 rfl) ?_
            obtain ⟨g23, hh⟩ := gd_inv hh
            refine mm_iast X hM (ma_2 _ _) g23 dX5_body_94 (fun H locs S24 e25 hM => ?_)
            replace hh := nm_inv hh S24 e25
            refine lv_aload_n hx hb dX5_body_95 rfl (lv_at hl 1 rfl) ?_
            refine mm_get X hM q1176 (mf_2 _ _) dX5_body_96 ?_
            refine lv_iload hx hb dX5_body_99 (lv_at hl 0 rfl) ?_
            refine lv_iconst (v := zi 3) hx hb dX5_body_101 rfl ?_
            refine g_iadd hx hb dX5_body_102 ?_
            refine lv_iload hx hb dX5_body_103 (lv_at hl 5 rfl) ?_
            obtain ⟨g26, hh⟩ := gd_inv hh
            refine mm_iast X hM (ma_2 _ _) g26 dX5_body_105 (fun H locs S27 e28 hM => ?_)
            replace hh := nm_inv hh S27 e28
            refine lv_aload_n hx hb dX5_body_106 rfl (lv_at hl 1 rfl) ?_
            refine mm_get X hM q1176 (mf_2 _ _) dX5_body_107 ?_
            refine lv_iconst (v := zi 0) hx hb dX5_body_110 rfl ?_
            refine lv_dup2_11 hx hb dX5_body_111 rfl rfl ?_
            refine mm_iald X hM (ma_2 _ _) (by decide) dX5_body_112 ?_
            refine lv_iconst (v := zi 1) hx hb dX5_body_113 rfl ?_
            refine g_iadd hx hb dX5_body_114 ?_
            refine mm_iast X hM (ma_2 _ _) (by decide) dX5_body_115 (fun H locs S29 e30 hM => ?_)
            replace hh := nm_inv hh S29 e30
            refine lv_aload_n hx hb dX5_body_116 rfl (lv_at hl 1 rfl) ?_
            refine mm_get X hM q1176 (mf_2 _ _) dX5_body_117 ?_
            refine lv_iconst (v := zi 0) hx hb dX5_body_120 rfl ?_
            refine mm_iald X hM (ma_2 _ _) (by decide) dX5_body_121 ?_
            refine lv_iconst (v := zi 1) hx hb dX5_body_122 rfl ?_
            refine g_isub hx hb dX5_body_123 ?_
            exact hret _ _ _ _ _ _ (rt1 hh) (rt2 hh) dX5_body_124 hM
        · replace hh := it_f c12 hh
          refine lv_iconst (v := zi (-1)) hx hb dX5_body_51 rfl ?_
          exact hret _ _ _ _ _ _ (rt1 hh) (rt2 hh) dX5_body_52 hM
      · replace hh := it_f c9 hh
        refine lv_iconst (v := zi (-1)) hx hb dX5_body_51 rfl ?_
        exact hret _ _ _ _ _ _ (rt1 hh) (rt2 hh) dX5_body_52 hM
    · replace hh := it_f c6 hh
      refine lv_iconst (v := zi (-1)) hx hb dX5_body_51 rfl ?_
      exact hret _ _ _ _ _ _ (rt1 hh) (rt2 hh) dX5_body_52 hM
  · replace hh := it_f c3 hh
    refine lv_iconst (v := zi (-1)) hx hb dX5_body_51 rfl ?_
    exact hret _ _ _ _ _ _ (rt1 hh) (rt2 hh) dX5_body_52 hM
def M_isTick (x0 : Int) : Option Bool := bd (M_isIn x0 (0 : Int) (999 : Int)) (fun v2 => some (v2))
set_option maxHeartbeats 4000000 in
theorem wM_isTick (l : Launch) (x0 : Int) {r : Bool} (hh : M_isTick x0 = some r) : ms_z l yX5_isTick cX5_isTick 1 (some .boolean) ({ frames := 2, cells := 0, slots := 0, locals := 34 } : Room) [.int (zi x0)] r := by
  refine mo_sz (by decide) rfl (Nat.le_of_ble_eq_true rfl) ?_
  intro p e s m args below meth c Q ls X hret hl hM
  have hx := X.1
  have hb := X.2.1
  have hown := X.2.2.2.1
  have hts := X.2.2.2.2
  skip
  replace hl : lv_has ls 1 [(0, .int (zi (x0)))] := hl
  unfold M_isTick at hh
  refine lv_iload_n hx hb dX5_isTick_0 rfl (lv_at hl 0 rfl) ?_
  refine lv_iconst (v := zi 0) hx hb dX5_isTick_1 rfl ?_
  refine lv_sipush (v := zi 999) hx hb dX5_isTick_2 (by decide) ?_
  obtain ⟨v2, k1, hh⟩ := bd_inv hh
  refine scs_z (rest := []) X hM (wM_isIn l x0 (0 : Int) (999 : Int) k1) c5_isIn.1 c5_isIn.2 ⟨rfl, rfl⟩ ⟨Nat.le_of_ble_eq_true rfl, Nat.le_of_ble_eq_true rfl⟩ ⟨Nat.zero_le _, Nat.zero_le _⟩ hl.1 (Nat.le_of_ble_eq_true rfl) dX5_isTick_5 rfl (fun H locs hM => ?_)
  exact hret _ _ _ _ _ (rt0 hh) dX5_isTick_8 hM
def M_bodyAt (S : xS) (x1 : Int) (x2 : Int) : Option Int := gd ((0 : Int) ≤ 590 + (4 * x1) ∧ (590 + (4 * x1) : Int) < 3170) (gd (r32 (S.2 2 (590 + (4 * x1))) ∧ r32 (S.1 0) ∧ (S.1 0 : Int) ≠ 0) (gd ((0 : Int) ≤ (590 + (4 * x1)) + 1 ∧ ((590 + (4 * x1)) + 1 : Int) < 3170) (nm ((Int.tmod (S.2 2 (590 + (4 * x1))) (S.1 0)) + (x2 * (S.2 2 ((590 + (4 * x1)) + 1)))) (fun v4 => gd ((0 : Int) ≤ 590 + (4 * x1) ∧ (590 + (4 * x1) : Int) < 3170) (gd (r32 (S.2 2 (590 + (4 * x1))) ∧ r32 (S.1 0) ∧ (S.1 0 : Int) ≠ 0) (gd ((0 : Int) ≤ (590 + (4 * x1)) + 2 ∧ ((590 + (4 * x1)) + 2 : Int) < 3170) (nm ((Int.tdiv (S.2 2 (590 + (4 * x1))) (S.1 0)) + (x2 * (S.2 2 ((590 + (4 * x1)) + 2)))) (fun v9 => bd (M_isIn v4 (0 : Int) ((S.1 0) - 1)) (fun v12 => if v12 = true then (bd (M_isIn v9 (0 : Int) ((S.1 1) - 1)) (fun v15 => if v15 = true then (some (((v9 * (S.1 0)) + v4 : Int))) else (some (((-1) : Int))))) else (some (((-1) : Int))))))))))))
set_option maxHeartbeats 4000000 in
theorem wM_bodyAt (l : Launch) (DM : va_G) (dA : Nat → ClassId) (h : Nat) (S : xS) (x1 x2 : Int) {r : Int} (hh : M_bodyAt S x1 x2 = some r) : mt_i l yX5_bodyAt cX5_bodyAt 5 (some .int) ({ frames := 2, cells := 0, slots := 0, locals := 34 } : Room) DM dA h [.int (zi x1), .int (zi x2)] S r S := by
  refine mo_i (by decide) rfl (Nat.le_of_ble_eq_true rfl) ?_
  intro p e s m args below meth c Q ls X hret hl hM
  have hx := X.1.1
  have hb := X.1.2.1
  have hown := X.1.2.2.2.1
  have hts := X.1.2.2.2.2
  skip
  replace hl : lv_has ls 5 [(0, .ref (h)), (1, .int (zi (x1))), (2, .int (zi (x2)))] := hl
  unfold M_bodyAt at hh
  refine lv_aload_n hx hb dX5_bodyAt_0 rfl (lv_at hl 0 rfl) ?_
  refine mm_get X hM q1176 (mf_2 _ _) dX5_bodyAt_1 ?_
  refine lv_sipush (v := zi 590) hx hb dX5_bodyAt_4 (by decide) ?_
  refine lv_iconst (v := zi 4) hx hb dX5_bodyAt_7 rfl ?_
  refine lv_iload_n hx hb dX5_bodyAt_8 rfl (lv_at hl 1 rfl) ?_
  refine g_imul hx hb dX5_bodyAt_9 ?_
  refine g_iadd hx hb dX5_bodyAt_10 ?_
  obtain ⟨g1, hh⟩ := gd_inv hh
  refine mm_iald X hM (ma_2 _ _) g1 dX5_bodyAt_11 ?_
  refine lv_aload_n hx hb dX5_bodyAt_12 rfl (lv_at hl 0 rfl) ?_
  refine mm_get X hM q1174 (mf_0 _ _) dX5_bodyAt_13 ?_
  obtain ⟨g2, hh⟩ := gd_inv hh
  refine g_irem hx hb g2 dX5_bodyAt_16 ?_
  refine lv_iload_n hx hb dX5_bodyAt_17 rfl (lv_at hl 2 rfl) ?_
  refine lv_aload_n hx hb dX5_bodyAt_18 rfl (lv_at hl 0 rfl) ?_
  refine mm_get X hM q1176 (mf_2 _ _) dX5_bodyAt_19 ?_
  refine lv_sipush (v := zi 590) hx hb dX5_bodyAt_22 (by decide) ?_
  refine lv_iconst (v := zi 4) hx hb dX5_bodyAt_25 rfl ?_
  refine lv_iload_n hx hb dX5_bodyAt_26 rfl (lv_at hl 1 rfl) ?_
  refine g_imul hx hb dX5_bodyAt_27 ?_
  refine g_iadd hx hb dX5_bodyAt_28 ?_
  refine lv_iconst (v := zi 1) hx hb dX5_bodyAt_29 rfl ?_
  refine g_iadd hx hb dX5_bodyAt_30 ?_
  obtain ⟨g3, hh⟩ := gd_inv hh
  refine mm_iald X hM (ma_2 _ _) g3 dX5_bodyAt_31 ?_
  refine g_imul hx hb dX5_bodyAt_32 ?_
  refine g_iadd hx hb dX5_bodyAt_33 ?_
  refine g_nmi hx hb (fun v4 e5 => ?_)
  replace hh := nm_inv hh v4 e5
  refine lv_istore_n (lv' := [(3, .int (zi (v4))), (0, .ref (h)), (1, .int (zi (x1))), (2, .int (zi (x2)))]) hx hb dX5_bodyAt_34 rfl hl (by decide) rfl (fun ls hl => ?_)
  refine lv_aload_n hx hb dX5_bodyAt_35 rfl (lv_at hl 1 rfl) ?_
  refine mm_get X hM q1176 (mf_2 _ _) dX5_bodyAt_36 ?_
  refine lv_sipush (v := zi 590) hx hb dX5_bodyAt_39 (by decide) ?_
  refine lv_iconst (v := zi 4) hx hb dX5_bodyAt_42 rfl ?_
  refine lv_iload_n hx hb dX5_bodyAt_43 rfl (lv_at hl 2 rfl) ?_
  refine g_imul hx hb dX5_bodyAt_44 ?_
  refine g_iadd hx hb dX5_bodyAt_45 ?_
  obtain ⟨g6, hh⟩ := gd_inv hh
  refine mm_iald X hM (ma_2 _ _) g6 dX5_bodyAt_46 ?_
  refine lv_aload_n hx hb dX5_bodyAt_47 rfl (lv_at hl 1 rfl) ?_
  refine mm_get X hM q1174 (mf_0 _ _) dX5_bodyAt_48 ?_
  obtain ⟨g7, hh⟩ := gd_inv hh
  refine g_idiv hx hb g7 dX5_bodyAt_51 ?_
  refine lv_iload_n hx hb dX5_bodyAt_52 rfl (lv_at hl 3 rfl) ?_
  refine lv_aload_n hx hb dX5_bodyAt_53 rfl (lv_at hl 1 rfl) ?_
  refine mm_get X hM q1176 (mf_2 _ _) dX5_bodyAt_54 ?_
  refine lv_sipush (v := zi 590) hx hb dX5_bodyAt_57 (by decide) ?_
  refine lv_iconst (v := zi 4) hx hb dX5_bodyAt_60 rfl ?_
  refine lv_iload_n hx hb dX5_bodyAt_61 rfl (lv_at hl 2 rfl) ?_
  refine g_imul hx hb dX5_bodyAt_62 ?_
  refine g_iadd hx hb dX5_bodyAt_63 ?_
  refine lv_iconst (v := zi 2) hx hb dX5_bodyAt_64 rfl ?_
  refine g_iadd hx hb dX5_bodyAt_65 ?_
  obtain ⟨g8, hh⟩ := gd_inv hh
  refine mm_iald X hM (ma_2 _ _) g8 dX5_bodyAt_66 ?_
  refine g_imul hx hb dX5_bodyAt_67 ?_
  refine g_iadd hx hb dX5_bodyAt_68 ?_
  refine g_nmi hx hb (fun v9 e10 => ?_)
  replace hh := nm_inv hh v9 e10
  refine lv_istore (lv' := [(4, .int (zi (v9))), (3, .int (zi (v4))), (0, .ref (h)), (1, .int (zi (x1))), (2, .int (zi (x2)))]) hx hb dX5_bodyAt_69 hl (by decide) rfl (fun ls hl => ?_)
  refine lv_iload_n hx hb dX5_bodyAt_71 rfl (lv_at hl 1 rfl) ?_
  refine lv_iconst (v := zi 0) hx hb dX5_bodyAt_72 rfl ?_
  refine lv_aload_n hx hb dX5_bodyAt_73 rfl (lv_at hl 2 rfl) ?_
  refine mm_get X hM q1174 (mf_0 _ _) dX5_bodyAt_74 ?_
  refine lv_iconst (v := zi 1) hx hb dX5_bodyAt_77 rfl ?_
  refine g_isub hx hb dX5_bodyAt_78 ?_
  obtain ⟨v12, k11, hh⟩ := bd_inv hh
  refine mcs_z (rest := []) X hM (wM_isIn l v4 (0 : Int) ((S.1 0) - 1) k11) c5_isIn.1 c5_isIn.2 ⟨rfl, rfl⟩ ⟨Nat.le_of_ble_eq_true rfl, Nat.le_of_ble_eq_true rfl⟩ ⟨Nat.zero_le _, Nat.zero_le _⟩ hl.1 (Nat.le_of_ble_eq_true rfl) dX5_bodyAt_79 rfl (fun H locs hM => ?_)
  refine g_bif_eq (tgt := 112) hx hb dX5_bodyAt_82 (by decide) (fun c13 => ?_) (fun c13 => ?_)
  · replace hh := it_t c13 hh
    refine lv_iload hx hb dX5_bodyAt_85 (lv_at hl 0 rfl) ?_
    refine lv_iconst (v := zi 0) hx hb dX5_bodyAt_87 rfl ?_
    refine lv_aload_n hx hb dX5_bodyAt_88 rfl (lv_at hl 2 rfl) ?_
    refine mm_get X hM q1175 (mf_1 _ _) dX5_bodyAt_89 ?_
    refine lv_iconst (v := zi 1) hx hb dX5_bodyAt_92 rfl ?_
    refine g_isub hx hb dX5_bodyAt_93 ?_
    obtain ⟨v15, k14, hh⟩ := bd_inv hh
    refine mcs_z (rest := []) X hM (wM_isIn l v9 (0 : Int) ((S.1 1) - 1) k14) c5_isIn.1 c5_isIn.2 ⟨rfl, rfl⟩ ⟨Nat.le_of_ble_eq_true rfl, Nat.le_of_ble_eq_true rfl⟩ ⟨Nat.zero_le _, Nat.zero_le _⟩ hl.1 (Nat.le_of_ble_eq_true rfl) dX5_bodyAt_94 rfl (fun H locs hM => ?_)
    refine g_bif_eq (tgt := 112) hx hb dX5_bodyAt_97 (by decide) (fun c16 => ?_) (fun c16 => ?_)
    · replace hh := it_t c16 hh
      refine lv_iload hx hb dX5_bodyAt_100 (lv_at hl 0 rfl) ?_
      refine lv_aload_n hx hb dX5_bodyAt_102 rfl (lv_at hl 2 rfl) ?_
      refine mm_get X hM q1174 (mf_0 _ _) dX5_bodyAt_103 ?_
      refine g_imul hx hb dX5_bodyAt_106 ?_
      refine lv_iload_n hx hb dX5_bodyAt_107 rfl (lv_at hl 1 rfl) ?_
      refine g_iadd hx hb dX5_bodyAt_108 ?_
      refine lv_goto (tgt := 113) hx hb dX5_bodyAt_109 (by decide) ?_
      exact hret _ _ _ _ _ _ (rt0 hh) rfl dX5_bodyAt_113 hM
    · replace hh := it_f c16 hh
      refine lv_iconst (v := zi (-1)) hx hb dX5_bodyAt_112 rfl ?_
      exact hret _ _ _ _ _ _ (rt0 hh) rfl dX5_bodyAt_113 hM
  · replace hh := it_f c13 hh
    refine lv_iconst (v := zi (-1)) hx hb dX5_bodyAt_112 rfl ?_
    exact hret _ _ _ _ _ _ (rt0 hh) rfl dX5_bodyAt_113 hM
def M_markAt_b2 (S : xS) (x1 : Int) (x2 : Int) (K2 : Int → Option Int) (x3 : Int) : Option Int := gd (r32 (x3) ∧ r32 (S.2 2 0)) (if x3 < (S.2 2 0) then (bd (M_bodyAt S x3 x2) (fun v4 => gd (r32 (v4) ∧ r32 (x1)) (if v4 = x1 then (gd ((0 : Int) ≤ (590 + (4 * x3)) + 3 ∧ ((590 + (4 * x3)) + 3 : Int) < 3170) (some ((S.2 2 ((590 + (4 * x3)) + 3) : Int)))) else (nm ((x3 + 1) : Int) (fun v8 => K2 v8))))) else (gd ((0 : Int) ≤ 10 + x1 ∧ (10 + x1 : Int) < 3170) (some ((S.2 2 (10 + x1) : Int)))))
def M_markAt_L2 (S : xS) (x1 : Int) (x2 : Int) : Nat → Int → Option Int
  | 0 => fun _ => none
  | n + 1 => fun x3 => M_markAt_b2 S x1 x2 (M_markAt_L2 S x1 x2 n) x3
def M_markAt (S : xS) (x1 : Int) (x2 : Int) : Option Int := M_markAt_L2 S x1 x2 FU (0 : Int)
set_option maxHeartbeats 4000000 in
theorem wM_markAt (l : Launch) (DM : va_G) (dA : Nat → ClassId) (h : Nat) (S : xS) (x1 x2 : Int) {r : Int} (hh : M_markAt S x1 x2 = some r) : mt_i l yX5_markAt cX5_markAt 4 (some .int) ({ frames := 3, cells := 0, slots := 0, locals := 58 } : Room) DM dA h [.int (zi x1), .int (zi x2)] S r S := by
  refine mo_i (by decide) rfl (Nat.le_of_ble_eq_true rfl) ?_
  intro p e s m args below meth c Q ls X hret hl hM
  have hx := X.1.1
  have hb := X.1.2.1
  have hown := X.1.2.2.2.1
  have hts := X.1.2.2.2.2
  skip
  have hL2 : ∀ (x1 : Int) (x2 : Int) (n : Nat) (x3 : Int), M_markAt_L2 S x1 x2 n x3 = some r → ∀ (H : Heap) (locs : List Loc) (ls : Array Slot), MX DM dA h S s H locs → lv_has ls 4 [(0, .ref (h)), (1, .int (zi (x1))), (2, .int (zi (x2))), (3, .int (zi (x3)))] → W p l e ({ frames := 3, cells := 0, slots := 0, locals := 58 } : Room) s m args below meth c H locs 0 0 Q (F0 m 2 ls []) := by
    intro x1 x2  n
    induction n with
    | zero => intro x3 hh; exact no_some hh
    | succ n ih =>
      intro x3 hh H locs ls hM hl
      replace hh : M_markAt_b2 S x1 x2 (M_markAt_L2 S x1 x2 n) x3 = some r := hh
      unfold M_markAt_b2 at hh
      have hK2 := ih
      refine lv_iload_n hx hb dX5_markAt_2 rfl (lv_at hl 3 rfl) ?_
      refine lv_aload_n hx hb dX5_markAt_3 rfl (lv_at hl 0 rfl) ?_
      refine mm_get X hM q1176 (mf_2 _ _) dX5_markAt_4 ?_
      refine lv_iconst (v := zi 0) hx hb dX5_markAt_7 rfl ?_
      refine mm_iald X hM (ma_2 _ _) (by decide) dX5_markAt_8 ?_
      obtain ⟨g2, hh⟩ := gd_inv hh
      refine g_icmp_ge (tgt := 43) hx hb g2 dX5_markAt_9 (by decide) (fun c1 => ?_) (fun c1 => ?_)
      · replace hh := it_t c1 hh
        refine lv_aload_n hx hb dX5_markAt_12 rfl (lv_at hl 0 rfl) ?_
        refine lv_iload_n hx hb dX5_markAt_13 rfl (lv_at hl 3 rfl) ?_
        refine lv_iload_n hx hb dX5_markAt_14 rfl (lv_at hl 2 rfl) ?_
        obtain ⟨v4, k3, hh⟩ := bd_inv hh
        refine mc_i (rest := []) X hM (wM_bodyAt l DM dA h S x3 x2 k3) c5_bodyAt.1 c5_bodyAt.2 ⟨rfl, rfl⟩ ⟨Nat.le_of_ble_eq_true rfl, Nat.le_of_ble_eq_true rfl⟩ ⟨Nat.zero_le _, Nat.zero_le _⟩ hl.1 (Nat.le_of_ble_eq_true rfl) dX5_markAt_15 rfl (fun H locs hM => ?_)
        refine lv_iload_n hx hb dX5_markAt_18 rfl (lv_at hl 1 rfl) ?_
        obtain ⟨g6, hh⟩ := gd_inv hh
        refine g_icmp_ne (tgt := 37) hx hb g6 dX5_markAt_19 (by decide) (fun c5 => ?_) (fun c5 => ?_)
        · replace hh := it_t c5 hh
          refine lv_aload_n hx hb dX5_markAt_22 rfl (lv_at hl 0 rfl) ?_
          refine mm_get X hM q1176 (mf_2 _ _) dX5_markAt_23 ?_
          refine lv_sipush (v := zi 590) hx hb dX5_markAt_26 (by decide) ?_
          refine lv_iconst (v := zi 4) hx hb dX5_markAt_29 rfl ?_
          refine lv_iload_n hx hb dX5_markAt_30 rfl (lv_at hl 3 rfl) ?_
          refine g_imul hx hb dX5_markAt_31 ?_
          refine g_iadd hx hb dX5_markAt_32 ?_
          refine lv_iconst (v := zi 3) hx hb dX5_markAt_33 rfl ?_
          refine g_iadd hx hb dX5_markAt_34 ?_
          obtain ⟨g7, hh⟩ := gd_inv hh
          refine mm_iald X hM (ma_2 _ _) g7 dX5_markAt_35 ?_
          exact hret _ _ _ _ _ _ (rt0 hh) rfl dX5_markAt_36 hM
        · replace hh := it_f c5 hh
          obtain ⟨v8, e9⟩ : ∃ z : Int, z = x3 + 1 := ⟨_, rfl⟩
          replace hh := nm_inv hh v8 e9
          refine lv_iinc (v := zi v8) (lv' := [(3, .int (zi (v8))), (0, .ref (h)), (1, .int (zi (x1))), (2, .int (zi (x2)))]) hx hb dX5_markAt_37 hl (k := 3) rfl (by rw [e9]; exact zi_add _ _) (by decide) rfl (fun ls hl => ?_)
          refine lv_goto (tgt := 2) hx hb dX5_markAt_40 (by decide) ?_
          exact hK2 v8 hh _ _ _ hM (lv_sub hl [1, 2, 3, 0] rfl)
      · replace hh := it_f c1 hh
        refine lv_aload_n hx hb dX5_markAt_43 rfl (lv_at hl 0 rfl) ?_
        refine mm_get X hM q1176 (mf_2 _ _) dX5_markAt_44 ?_
        refine lv_bipush (v := zi 10) hx hb dX5_markAt_47 (by decide) ?_
        refine lv_iload_n hx hb dX5_markAt_49 rfl (lv_at hl 1 rfl) ?_
        refine g_iadd hx hb dX5_markAt_50 ?_
        obtain ⟨g10, hh⟩ := gd_inv hh
        refine mm_iald X hM (ma_2 _ _) g10 dX5_markAt_51 ?_
        exact hret _ _ _ _ _ _ (rt0 hh) rfl dX5_markAt_52 hM
  replace hl : lv_has ls 4 [(0, .ref (h)), (1, .int (zi (x1))), (2, .int (zi (x2)))] := hl
  unfold M_markAt at hh
  refine lv_iconst (v := zi 0) hx hb dX5_markAt_0 rfl ?_
  refine lv_istore_n (lv' := [(3, .int (zi (0))), (0, .ref (h)), (1, .int (zi (x1))), (2, .int (zi (x2)))]) hx hb dX5_markAt_1 rfl hl (by decide) rfl (fun ls hl => ?_)
  exact hL2 x1 x2 FU (0 : Int) hh _ _ _ hM (lv_sub hl [1, 2, 3, 0] rfl)
def M_markOf (S : xS) (x1 : Int) (x2 : Int) : Option Int := bd (M_isCell S x1) (fun v2 => if v2 = true then (bd (M_isTick x2) (fun v5 => if v5 = true then (bd (M_markAt S x1 x2) (fun v8 => some ((v8 : Int)))) else (some (((-1) : Int))))) else (some (((-1) : Int))))
set_option maxHeartbeats 4000000 in
theorem wM_markOf (l : Launch) (DM : va_G) (dA : Nat → ClassId) (h : Nat) (S : xS) (x1 x2 : Int) {r : Int} (hh : M_markOf S x1 x2 = some r) : mt_i l yX5_markOf cX5_markOf 3 (some .int) ({ frames := 4, cells := 0, slots := 0, locals := 81 } : Room) DM dA h [.int (zi x1), .int (zi x2)] S r S := by
  refine mo_i (by decide) rfl (Nat.le_of_ble_eq_true rfl) ?_
  intro p e s m args below meth c Q ls X hret hl hM
  have hx := X.1.1
  have hb := X.1.2.1
  have hown := X.1.2.2.2.1
  have hts := X.1.2.2.2.2
  skip
  replace hl : lv_has ls 3 [(0, .ref (h)), (1, .int (zi (x1))), (2, .int (zi (x2)))] := hl
  unfold M_markOf at hh
  refine lv_aload_n hx hb dX5_markOf_0 rfl (lv_at hl 0 rfl) ?_
  refine lv_iload_n hx hb dX5_markOf_1 rfl (lv_at hl 1 rfl) ?_
  obtain ⟨v2, k1, hh⟩ := bd_inv hh
  refine mc_z (rest := []) X hM (wM_isCell l DM dA h S x1 k1) c5_isCell.1 c5_isCell.2 ⟨rfl, rfl⟩ ⟨Nat.le_of_ble_eq_true rfl, Nat.le_of_ble_eq_true rfl⟩ ⟨Nat.zero_le _, Nat.zero_le _⟩ hl.1 (Nat.le_of_ble_eq_true rfl) dX5_markOf_2 rfl (fun H locs hM => ?_)
  refine g_bif_eq (tgt := 24) hx hb dX5_markOf_5 (by decide) (fun c3 => ?_) (fun c3 => ?_)
  · replace hh := it_t c3 hh
    refine lv_iload_n hx hb dX5_markOf_8 rfl (lv_at hl 2 rfl) ?_
    obtain ⟨v5, k4, hh⟩ := bd_inv hh
    refine mcs_z (rest := []) X hM (wM_isTick l x2 k4) c5_isTick.1 c5_isTick.2 ⟨rfl, rfl⟩ ⟨Nat.le_of_ble_eq_true rfl, Nat.le_of_ble_eq_true rfl⟩ ⟨Nat.zero_le _, Nat.zero_le _⟩ hl.1 (Nat.le_of_ble_eq_true rfl) dX5_markOf_9 rfl (fun H locs hM => ?_)
    refine g_bif_eq (tgt := 24) hx hb dX5_markOf_12 (by decide) (fun c6 => ?_) (fun c6 => ?_)
    · replace hh := it_t c6 hh
      refine lv_aload_n hx hb dX5_markOf_15 rfl (lv_at hl 0 rfl) ?_
      refine lv_iload_n hx hb dX5_markOf_16 rfl (lv_at hl 1 rfl) ?_
      refine lv_iload_n hx hb dX5_markOf_17 rfl (lv_at hl 2 rfl) ?_
      obtain ⟨v8, k7, hh⟩ := bd_inv hh
      refine mc_i (rest := []) X hM (wM_markAt l DM dA h S x1 x2 k7) c5_markAt.1 c5_markAt.2 ⟨rfl, rfl⟩ ⟨Nat.le_of_ble_eq_true rfl, Nat.le_of_ble_eq_true rfl⟩ ⟨Nat.zero_le _, Nat.zero_le _⟩ hl.1 (Nat.le_of_ble_eq_true rfl) dX5_markOf_18 rfl (fun H locs hM => ?_)
      refine lv_goto (tgt := 25) hx hb dX5_markOf_21 (by decide) ?_
      exact hret _ _ _ _ _ _ (rt0 hh) rfl dX5_markOf_25 hM
    · replace hh := it_f c6 hh
      refine lv_iconst (v := zi (-1)) hx hb dX5_markOf_24 rfl ?_
      exact hret _ _ _ _ _ _ (rt0 hh) rfl dX5_markOf_25 hM
  · replace hh := it_f c3 hh
    refine lv_iconst (v := zi (-1)) hx hb dX5_markOf_24 rfl ?_
    exact hret _ _ _ _ _ _ (rt0 hh) rfl dX5_markOf_25 hM
def M_isPlace (S : xS) (x1 : Int) (x2 : Int) : Option Bool := bd (M_isIn x1 (0 : Int) ((16 * (S.1 0)) - 1)) (fun v2 => if v2 = true then (bd (M_isIn x2 (0 : Int) ((16 * (S.1 1)) - 1)) (fun v5 => if v5 = true then (some (true)) else (some (false)))) else (some (false)))
set_option maxHeartbeats 4000000 in
theorem wM_isPlace (l : Launch) (DM : va_G) (dA : Nat → ClassId) (h : Nat) (S : xS) (x1 x2 : Int) {r : Bool} (hh : M_isPlace S x1 x2 = some r) : mt_z l yX5_isPlace cX5_isPlace 3 (some .boolean) ({ frames := 2, cells := 0, slots := 0, locals := 34 } : Room) DM dA h [.int (zi x1), .int (zi x2)] S r S := by
  refine mo_z (by decide) rfl (Nat.le_of_ble_eq_true rfl) ?_
  intro p e s m args below meth c Q ls X hret hl hM
  have hx := X.1.1
  have hb := X.1.2.1
  have hown := X.1.2.2.2.1
  have hts := X.1.2.2.2.2
  skip
  replace hl : lv_has ls 3 [(0, .ref (h)), (1, .int (zi (x1))), (2, .int (zi (x2)))] := hl
  unfold M_isPlace at hh
  refine lv_iload_n hx hb dX5_isPlace_0 rfl (lv_at hl 1 rfl) ?_
  refine lv_iconst (v := zi 0) hx hb dX5_isPlace_1 rfl ?_
  refine lv_bipush (v := zi 16) hx hb dX5_isPlace_2 (by decide) ?_
  refine lv_aload_n hx hb dX5_isPlace_4 rfl (lv_at hl 0 rfl) ?_
  refine mm_get X hM q1174 (mf_0 _ _) dX5_isPlace_5 ?_
  refine g_imul hx hb dX5_isPlace_8 ?_
  refine lv_iconst (v := zi 1) hx hb dX5_isPlace_9 rfl ?_
  refine g_isub hx hb dX5_isPlace_10 ?_
  obtain ⟨v2, k1, hh⟩ := bd_inv hh
  refine mcs_z (rest := []) X hM (wM_isIn l x1 (0 : Int) ((16 * (S.1 0)) - 1) k1) c5_isIn.1 c5_isIn.2 ⟨rfl, rfl⟩ ⟨Nat.le_of_ble_eq_true rfl, Nat.le_of_ble_eq_true rfl⟩ ⟨Nat.zero_le _, Nat.zero_le _⟩ hl.1 (Nat.le_of_ble_eq_true rfl) dX5_isPlace_11 rfl (fun H locs hM => ?_)
  refine g_bif_eq (tgt := 38) hx hb dX5_isPlace_14 (by decide) (fun c3 => ?_) (fun c3 => ?_)
  · replace hh := it_t c3 hh
    refine lv_iload_n hx hb dX5_isPlace_17 rfl (lv_at hl 2 rfl) ?_
    refine lv_iconst (v := zi 0) hx hb dX5_isPlace_18 rfl ?_
    refine lv_bipush (v := zi 16) hx hb dX5_isPlace_19 (by decide) ?_
    refine lv_aload_n hx hb dX5_isPlace_21 rfl (lv_at hl 0 rfl) ?_
    refine mm_get X hM q1175 (mf_1 _ _) dX5_isPlace_22 ?_
    refine g_imul hx hb dX5_isPlace_25 ?_
    refine lv_iconst (v := zi 1) hx hb dX5_isPlace_26 rfl ?_
    refine g_isub hx hb dX5_isPlace_27 ?_
    obtain ⟨v5, k4, hh⟩ := bd_inv hh
    refine mcs_z (rest := []) X hM (wM_isIn l x2 (0 : Int) ((16 * (S.1 1)) - 1) k4) c5_isIn.1 c5_isIn.2 ⟨rfl, rfl⟩ ⟨Nat.le_of_ble_eq_true rfl, Nat.le_of_ble_eq_true rfl⟩ ⟨Nat.zero_le _, Nat.zero_le _⟩ hl.1 (Nat.le_of_ble_eq_true rfl) dX5_isPlace_28 rfl (fun H locs hM => ?_)
    refine g_bif_eq (tgt := 38) hx hb dX5_isPlace_31 (by decide) (fun c6 => ?_) (fun c6 => ?_)
    · replace hh := it_t c6 hh
      refine lv_iconst (v := zi 1) hx hb dX5_isPlace_34 rfl ?_
      refine lv_goto (tgt := 39) hx hb dX5_isPlace_35 (by decide) ?_
      refine W.eq (g2 := F0 m 39 ls [.int (zi (bz true))]) rfl ?_
      exact hret _ _ _ _ _ _ (rt0 hh) rfl dX5_isPlace_39 hM
    · replace hh := it_f c6 hh
      refine lv_iconst (v := zi 0) hx hb dX5_isPlace_38 rfl ?_
      refine W.eq (g2 := F0 m 39 ls [.int (zi (bz false))]) rfl ?_
      exact hret _ _ _ _ _ _ (rt0 hh) rfl dX5_isPlace_39 hM
  · replace hh := it_f c3 hh
    refine lv_iconst (v := zi 0) hx hb dX5_isPlace_38 rfl ?_
    refine W.eq (g2 := F0 m 39 ls [.int (zi (bz false))]) rfl ?_
    exact hret _ _ _ _ _ _ (rt0 hh) rfl dX5_isPlace_39 hM
def M_isSide (x0 : Int) : Option Bool := bd (M_isIn x0 (0 : Int) (63 : Int)) (fun v2 => some (v2))
set_option maxHeartbeats 4000000 in
theorem wM_isSide (l : Launch) (x0 : Int) {r : Bool} (hh : M_isSide x0 = some r) : ms_z l yX5_isSide cX5_isSide 1 (some .boolean) ({ frames := 2, cells := 0, slots := 0, locals := 34 } : Room) [.int (zi x0)] r := by
  refine mo_sz (by decide) rfl (Nat.le_of_ble_eq_true rfl) ?_
  intro p e s m args below meth c Q ls X hret hl hM
  have hx := X.1
  have hb := X.2.1
  have hown := X.2.2.2.1
  have hts := X.2.2.2.2
  skip
  replace hl : lv_has ls 1 [(0, .int (zi (x0)))] := hl
  unfold M_isSide at hh
  refine lv_iload_n hx hb dX5_isSide_0 rfl (lv_at hl 0 rfl) ?_
  refine lv_iconst (v := zi 0) hx hb dX5_isSide_1 rfl ?_
  refine lv_bipush (v := zi 63) hx hb dX5_isSide_2 (by decide) ?_
  obtain ⟨v2, k1, hh⟩ := bd_inv hh
  refine scs_z (rest := []) X hM (wM_isIn l x0 (0 : Int) (63 : Int) k1) c5_isIn.1 c5_isIn.2 ⟨rfl, rfl⟩ ⟨Nat.le_of_ble_eq_true rfl, Nat.le_of_ble_eq_true rfl⟩ ⟨Nat.zero_le _, Nat.zero_le _⟩ hl.1 (Nat.le_of_ble_eq_true rfl) dX5_isSide_4 rfl (fun H locs hM => ?_)
  exact hret _ _ _ _ _ (rt0 hh) dX5_isSide_7 hM
def M_lay_b45 (x1 : Int) (K45 : xS → Int → Option xS) (S : xS) (x2 : Int) : Option xS := gd (r32 (x2)) (if x2 < 0 then (some S) else (bd (M_bodyAt S x2 x1) (fun v14 => gd (r32 (v14)) (if v14 < 0 then (nm ((x2 + (-1)) : Int) (fun v17 => K45 S v17)) else (bd (M_bodyAt S x2 x1) (fun v20 => gd ((0 : Int) ≤ (590 + (4 * x2)) + 3 ∧ ((590 + (4 * x2)) + 3 : Int) < 3170) (gd ((0 : Int) ≤ v20 ∧ (v20 : Int) < 576) (nm (aset S 5 v20 (S.2 2 ((590 + (4 * x2)) + 3))) (fun S23 => nm ((x2 + (-1)) : Int) (fun v25 => K45 S23 v25))))))))))
def M_lay_L45 (x1 : Int) : Nat → xS → Int → Option xS
  | 0 => fun _ _ => none
  | n + 1 => fun S x2 => M_lay_b45 x1 (M_lay_L45 x1 n) S x2
def M_lay_b2 (x1 : Int) (K2 : xS → Int → Option xS) (S : xS) (x2 : Int) : Option xS := gd (r32 (x2) ∧ r32 ((S.1 0) * (S.1 1))) (if x2 < ((S.1 0) * (S.1 1)) then (gd ((0 : Int) ≤ 10 + x2 ∧ (10 + x2 : Int) < 3170) (gd ((0 : Int) ≤ x2 ∧ (x2 : Int) < 576) (nm (aset S 5 x2 (S.2 2 (10 + x2))) (fun S5 => nm ((x2 + 1) : Int) (fun v7 => K2 S5 v7))))) else (nm ((S.2 2 0) - 1) (fun v9 => M_lay_L45 x1 FU S v9)))
def M_lay_L2 (x1 : Int) : Nat → xS → Int → Option xS
  | 0 => fun _ _ => none
  | n + 1 => fun S x2 => M_lay_b2 x1 (M_lay_L2 x1 n) S x2
def M_lay (S : xS) (x1 : Int) : Option xS := M_lay_L2 x1 FU S (0 : Int)
set_option maxHeartbeats 4000000 in
theorem wM_lay (l : Launch) (DM : va_G) (dA : Nat → ClassId) (h : Nat) (S : xS) (x1 : Int) {S1 : xS} (hh : M_lay S x1 = some S1) : mt_v l yX5_lay cX5_lay 3 ({ frames := 3, cells := 0, slots := 0, locals := 58 } : Room) DM dA h [.int (zi x1)] S S1 := by
  refine mo_v (by decide) rfl (Nat.le_of_ble_eq_true rfl) ?_
  intro p e s m args below meth c Q ls X hret hl hM
  have hx := X.1.1
  have hb := X.1.2.1
  have hown := X.1.2.2.2.1
  have hts := X.1.2.2.2.2
  skip
  have hL45 : ∀ (x1 : Int) (n : Nat) (S : xS) (x2 : Int), M_lay_L45 x1 n S x2 = some S1 → ∀ (H : Heap) (locs : List Loc) (ls : Array Slot), MX DM dA h S s H locs → lv_has ls 3 [(0, .ref (h)), (1, .int (zi (x1))), (2, .int (zi (x2)))] → W p l e ({ frames := 3, cells := 0, slots := 0, locals := 58 } : Room) s m args below meth c H locs 0 0 Q (F0 m 45 ls []) := by
    intro x1  n
    induction n with
    | zero => intro S x2 hh; exact no_some hh
    | succ n ih =>
      intro S x2 hh H locs ls hM hl
      replace hh : M_lay_b45 x1 (M_lay_L45 x1 n) S x2 = some S1 := hh
      unfold M_lay_b45 at hh
      have hK45 := ih
      refine lv_iload_n hx hb dX5_lay_45 rfl (lv_at hl 2 rfl) ?_
      obtain ⟨g12, hh⟩ := gd_inv hh
      refine g_if_lt (tgt := 89) hx hb g12 dX5_lay_46 (by decide) (fun c11 => ?_) (fun c11 => ?_)
      · replace hh := it_t c11 hh
        exact hret _ _ _ _ _ (rt0 hh) dX5_lay_89 hM
      · replace hh := it_f c11 hh
        refine lv_aload_n hx hb dX5_lay_49 rfl (lv_at hl 0 rfl) ?_
        refine lv_iload_n hx hb dX5_lay_50 rfl (lv_at hl 2 rfl) ?_
        refine lv_iload_n hx hb dX5_lay_51 rfl (lv_at hl 1 rfl) ?_
        obtain ⟨v14, k13, hh⟩ := bd_inv hh
        refine mc_i (rest := []) X hM (wM_bodyAt l DM dA h S x2 x1 k13) c5_bodyAt.1 c5_bodyAt.2 ⟨rfl, rfl⟩ ⟨Nat.le_of_ble_eq_true rfl, Nat.le_of_ble_eq_true rfl⟩ ⟨Nat.zero_le _, Nat.zero_le _⟩ hl.1 (Nat.le_of_ble_eq_true rfl) dX5_lay_52 rfl (fun H locs hM => ?_)
        obtain ⟨g16, hh⟩ := gd_inv hh
        refine g_if_lt (tgt := 83) hx hb g16 dX5_lay_55 (by decide) (fun c15 => ?_) (fun c15 => ?_)
        · replace hh := it_t c15 hh
          obtain ⟨v17, e18⟩ : ∃ z : Int, z = x2 + (-1) := ⟨_, rfl⟩
          replace hh := nm_inv hh v17 e18
          refine lv_iinc (v := zi v17) (lv' := [(2, .int (zi (v17))), (0, .ref (h)), (1, .int (zi (x1)))]) hx hb dX5_lay_83 hl (k := 2) rfl (by rw [e18]; exact zi_add _ _) (by decide) rfl (fun ls hl => ?_)
          refine lv_goto (tgt := 45) hx hb dX5_lay_86 (by decide) ?_
          exact hK45 S v17 hh _ _ _ hM (lv_sub hl [1, 2, 0] rfl)
        · replace hh := it_f c15 hh
          refine lv_aload_n hx hb dX5_lay_58 rfl (lv_at hl 0 rfl) ?_
          refine mm_get X hM q1179 (mf_5 _ _) dX5_lay_59 ?_
          refine lv_aload_n hx hb dX5_lay_62 rfl (lv_at hl 0 rfl) ?_
          refine lv_iload_n hx hb dX5_lay_63 rfl (lv_at hl 2 rfl) ?_
          refine lv_iload_n hx hb dX5_lay_64 rfl (lv_at hl 1 rfl) ?_
          obtain ⟨v20, k19, hh⟩ := bd_inv hh
          refine mc_i (rest := [.ref (h + 4)]) X hM (wM_bodyAt l DM dA h S x2 x1 k19) c5_bodyAt.1 c5_bodyAt.2 ⟨rfl, rfl⟩ ⟨Nat.le_of_ble_eq_true rfl, Nat.le_of_ble_eq_true rfl⟩ ⟨Nat.zero_le _, Nat.zero_le _⟩ hl.1 (Nat.le_of_ble_eq_true rfl) dX5_lay_65 rfl (fun H locs hM => ?_)
          refine lv_aload_n hx hb dX5_lay_68 rfl (lv_at hl 0 rfl) ?_
          refine mm_get X hM q1176 (mf_2 _ _) dX5_lay_69 ?_
          refine lv_sipush (v := zi 590) hx hb dX5_lay_72 (by decide) ?_
          refine lv_iconst (v := zi 4) hx hb dX5_lay_75 rfl ?_
          refine lv_iload_n hx hb dX5_lay_76 rfl (lv_at hl 2 rfl) ?_
          refine g_imul hx hb dX5_lay_77 ?_
          refine g_iadd hx hb dX5_lay_78 ?_
          refine lv_iconst (v := zi 3) hx hb dX5_lay_79 rfl ?_
          refine g_iadd hx hb dX5_lay_80 ?_
          obtain ⟨g21, hh⟩ := gd_inv hh
          refine mm_iald X hM (ma_2 _ _) g21 dX5_lay_81 ?_
          obtain ⟨g22, hh⟩ := gd_inv hh
          refine mm_iast X hM (ma_5 _ _) g22 dX5_lay_82 (fun H locs S23 e24 hM => ?_)
          replace hh := nm_inv hh S23 e24
          obtain ⟨v25, e26⟩ : ∃ z : Int, z = x2 + (-1) := ⟨_, rfl⟩
          replace hh := nm_inv hh v25 e26
          refine lv_iinc (v := zi v25) (lv' := [(2, .int (zi (v25))), (0, .ref (h)), (1, .int (zi (x1)))]) hx hb dX5_lay_83 hl (k := 2) rfl (by rw [e26]; exact zi_add _ _) (by decide) rfl (fun ls hl => ?_)
          refine lv_goto (tgt := 45) hx hb dX5_lay_86 (by decide) ?_
          exact hK45 S23 v25 hh _ _ _ hM (lv_sub hl [1, 2, 0] rfl)
  have hL2 : ∀ (x1 : Int) (n : Nat) (S : xS) (x2 : Int), M_lay_L2 x1 n S x2 = some S1 → ∀ (H : Heap) (locs : List Loc) (ls : Array Slot), MX DM dA h S s H locs → lv_has ls 3 [(0, .ref (h)), (1, .int (zi (x1))), (2, .int (zi (x2)))] → W p l e ({ frames := 3, cells := 0, slots := 0, locals := 58 } : Room) s m args below meth c H locs 0 0 Q (F0 m 2 ls []) := by
    intro x1  n
    induction n with
    | zero => intro S x2 hh; exact no_some hh
    | succ n ih =>
      intro S x2 hh H locs ls hM hl
      replace hh : M_lay_b2 x1 (M_lay_L2 x1 n) S x2 = some S1 := hh
      unfold M_lay_b2 at hh
      have hK2 := ih
      refine lv_iload_n hx hb dX5_lay_2 rfl (lv_at hl 2 rfl) ?_
      refine lv_aload_n hx hb dX5_lay_3 rfl (lv_at hl 0 rfl) ?_
      refine mm_get X hM q1174 (mf_0 _ _) dX5_lay_4 ?_
      refine lv_aload_n hx hb dX5_lay_7 rfl (lv_at hl 0 rfl) ?_
      refine mm_get X hM q1175 (mf_1 _ _) dX5_lay_8 ?_
      refine g_imul hx hb dX5_lay_11 ?_
      obtain ⟨g2, hh⟩ := gd_inv hh
      refine g_icmp_ge (tgt := 36) hx hb g2 dX5_lay_12 (by decide) (fun c1 => ?_) (fun c1 => ?_)
      · replace hh := it_t c1 hh
        refine lv_aload_n hx hb dX5_lay_15 rfl (lv_at hl 0 rfl) ?_
        refine mm_get X hM q1179 (mf_5 _ _) dX5_lay_16 ?_
        refine lv_iload_n hx hb dX5_lay_19 rfl (lv_at hl 2 rfl) ?_
        refine lv_aload_n hx hb dX5_lay_20 rfl (lv_at hl 0 rfl) ?_
        refine mm_get X hM q1176 (mf_2 _ _) dX5_lay_21 ?_
        refine lv_bipush (v := zi 10) hx hb dX5_lay_24 (by decide) ?_
        refine lv_iload_n hx hb dX5_lay_26 rfl (lv_at hl 2 rfl) ?_
        refine g_iadd hx hb dX5_lay_27 ?_
        obtain ⟨g3, hh⟩ := gd_inv hh
        refine mm_iald X hM (ma_2 _ _) g3 dX5_lay_28 ?_
        obtain ⟨g4, hh⟩ := gd_inv hh
        refine mm_iast X hM (ma_5 _ _) g4 dX5_lay_29 (fun H locs S5 e6 hM => ?_)
        replace hh := nm_inv hh S5 e6
        obtain ⟨v7, e8⟩ : ∃ z : Int, z = x2 + 1 := ⟨_, rfl⟩
        replace hh := nm_inv hh v7 e8
        refine lv_iinc (v := zi v7) (lv' := [(2, .int (zi (v7))), (0, .ref (h)), (1, .int (zi (x1)))]) hx hb dX5_lay_30 hl (k := 2) rfl (by rw [e8]; exact zi_add _ _) (by decide) rfl (fun ls hl => ?_)
        refine lv_goto (tgt := 2) hx hb dX5_lay_33 (by decide) ?_
        exact hK2 S5 v7 hh _ _ _ hM (lv_sub hl [1, 2, 0] rfl)
      · replace hh := it_f c1 hh
        refine lv_aload_n hx hb dX5_lay_36 rfl (lv_at hl 0 rfl) ?_
        refine mm_get X hM q1176 (mf_2 _ _) dX5_lay_37 ?_
        refine lv_iconst (v := zi 0) hx hb dX5_lay_40 rfl ?_
        refine mm_iald X hM (ma_2 _ _) (by decide) dX5_lay_41 ?_
        refine lv_iconst (v := zi 1) hx hb dX5_lay_42 rfl ?_
        refine g_isub hx hb dX5_lay_43 ?_
        refine g_nmi hx hb (fun v9 e10 => ?_)
        replace hh := nm_inv hh v9 e10
        refine lv_istore_n (lv' := [(2, .int (zi (v9))), (0, .ref (h)), (1, .int (zi (x1)))]) hx hb dX5_lay_44 rfl hl (by decide) rfl (fun ls hl => ?_)
        exact hL45 x1 FU S v9 hh _ _ _ hM (lv_sub hl [1, 2, 0] rfl)
  replace hl : lv_has ls 3 [(0, .ref (h)), (1, .int (zi (x1)))] := hl
  unfold M_lay at hh
  refine lv_iconst (v := zi 0) hx hb dX5_lay_0 rfl ?_
  refine lv_istore_n (lv' := [(2, .int (zi (0))), (0, .ref (h)), (1, .int (zi (x1)))]) hx hb dX5_lay_1 rfl hl (by decide) rfl (fun ls hl => ?_)
  exact hL2 x1 FU S (0 : Int) hh _ _ _ hM (lv_sub hl [1, 2, 0] rfl)
def M_wayX (x0 : Int) : Option Int := gd (r32 (x0)) (nm ((2 * (Int.tmod x0 16)) - 16) (fun v2 => gd (r32 (x0)) (nm (Int.tdiv x0 16) (fun v5 => gd (r32 (v5)) (if v5 = 0 then (some ((16 : Int))) else (gd (r32 (v5)) (if v5 = 1 then (some ((-v2 : Int))) else (gd (r32 (v5)) (if v5 = 2 then (some (((-16) : Int))) else (some ((v2 : Int))))))))))))
set_option maxHeartbeats 4000000 in
theorem wM_wayX (l : Launch) (x0 : Int) {r : Int} (hh : M_wayX x0 = some r) : ms_i l yX5_wayX cX5_wayX 3 (some .int) ({ frames := 1, cells := 0, slots := 0, locals := 12 } : Room) [.int (zi x0)] r := by
  refine mo_si (by decide) rfl (Nat.le_of_ble_eq_true rfl) ?_
  intro p e s m args below meth c Q ls X hret hl hM
  have hx := X.1
  have hb := X.2.1
  have hown := X.2.2.2.1
  have hts := X.2.2.2.2
  skip
  replace hl : lv_has ls 3 [(0, .int (zi (x0)))] := hl
  unfold M_wayX at hh
  refine lv_iconst (v := zi 2) hx hb dX5_wayX_0 rfl ?_
  refine lv_iload_n hx hb dX5_wayX_1 rfl (lv_at hl 0 rfl) ?_
  refine lv_bipush (v := zi 16) hx hb dX5_wayX_2 (by decide) ?_
  obtain ⟨g1, hh⟩ := gd_inv hh
  refine g_irem hx hb ⟨g1, by decide, by decide⟩ dX5_wayX_4 ?_
  refine g_imul hx hb dX5_wayX_5 ?_
  refine lv_bipush (v := zi 16) hx hb dX5_wayX_6 (by decide) ?_
  refine g_isub hx hb dX5_wayX_8 ?_
  refine g_nmi hx hb (fun v2 e3 => ?_)
  replace hh := nm_inv hh v2 e3
  refine lv_istore_n (lv' := [(1, .int (zi (v2))), (0, .int (zi (x0)))]) hx hb dX5_wayX_9 rfl hl (by decide) rfl (fun ls hl => ?_)
  refine lv_iload_n hx hb dX5_wayX_10 rfl (lv_at hl 1 rfl) ?_
  refine lv_bipush (v := zi 16) hx hb dX5_wayX_11 (by decide) ?_
  obtain ⟨g4, hh⟩ := gd_inv hh
  refine g_idiv hx hb ⟨g4, by decide, by decide⟩ dX5_wayX_13 ?_
  refine g_nmi hx hb (fun v5 e6 => ?_)
  replace hh := nm_inv hh v5 e6
  refine lv_istore_n (lv' := [(2, .int (zi (v5))), (1, .int (zi (v2))), (0, .int (zi (x0)))]) hx hb dX5_wayX_14 rfl hl (by decide) rfl (fun ls hl => ?_)
  refine lv_iload_n hx hb dX5_wayX_15 rfl (lv_at hl 0 rfl) ?_
  obtain ⟨g8, hh⟩ := gd_inv hh
  refine g_if_ne (tgt := 24) hx hb g8 dX5_wayX_16 (by decide) (fun c7 => ?_) (fun c7 => ?_)
  · replace hh := it_t c7 hh
    refine lv_bipush (v := zi 16) hx hb dX5_wayX_19 (by decide) ?_
    refine lv_goto (tgt := 45) hx hb dX5_wayX_21 (by decide) ?_
    exact hret _ _ _ _ _ (rt0 hh) dX5_wayX_45 hM
  · replace hh := it_f c7 hh
    refine lv_iload_n hx hb dX5_wayX_24 rfl (lv_at hl 0 rfl) ?_
    refine lv_iconst (v := zi 1) hx hb dX5_wayX_25 rfl ?_
    obtain ⟨g10, hh⟩ := gd_inv hh
    refine g_icmp_ne (tgt := 34) hx hb ⟨g10, by decide⟩ dX5_wayX_26 (by decide) (fun c9 => ?_) (fun c9 => ?_)
    · replace hh := it_t c9 hh
      refine lv_iload_n hx hb dX5_wayX_29 rfl (lv_at hl 1 rfl) ?_
      refine g_ineg hx hb dX5_wayX_30 ?_
      refine lv_goto (tgt := 45) hx hb dX5_wayX_31 (by decide) ?_
      exact hret _ _ _ _ _ (rt0 hh) dX5_wayX_45 hM
    · replace hh := it_f c9 hh
      refine lv_iload_n hx hb dX5_wayX_34 rfl (lv_at hl 0 rfl) ?_
      refine lv_iconst (v := zi 2) hx hb dX5_wayX_35 rfl ?_
      obtain ⟨g12, hh⟩ := gd_inv hh
      refine g_icmp_ne (tgt := 44) hx hb ⟨g12, by decide⟩ dX5_wayX_36 (by decide) (fun c11 => ?_) (fun c11 => ?_)
      · replace hh := it_t c11 hh
        refine lv_bipush (v := zi (-16)) hx hb dX5_wayX_39 (by decide) ?_
        refine lv_goto (tgt := 45) hx hb dX5_wayX_41 (by decide) ?_
        exact hret _ _ _ _ _ (rt0 hh) dX5_wayX_45 hM
      · replace hh := it_f c11 hh
        refine lv_iload_n hx hb dX5_wayX_44 rfl (lv_at hl 1 rfl) ?_
        exact hret _ _ _ _ _ (rt0 hh) dX5_wayX_45 hM
def M_floor (x0 : Int) (x1 : Int) : Option Int := gd (r32 (x0)) (if x0 < 0 then (gd (r32 ((x1 - 1) - x0) ∧ r32 (x1) ∧ (x1 : Int) ≠ 0) (some ((-(Int.tdiv ((x1 - 1) - x0) x1) : Int)))) else (gd (r32 (x0) ∧ r32 (x1) ∧ (x1 : Int) ≠ 0) (some ((Int.tdiv x0 x1 : Int)))))
set_option maxHeartbeats 4000000 in
theorem wM_floor (l : Launch) (x0 x1 : Int) {r : Int} (hh : M_floor x0 x1 = some r) : ms_i l yX5_floor cX5_floor 2 (some .int) ({ frames := 1, cells := 0, slots := 0, locals := 12 } : Room) [.int (zi x0), .int (zi x1)] r := by
  refine mo_si (by decide) rfl (Nat.le_of_ble_eq_true rfl) ?_
  intro p e s m args below meth c Q ls X hret hl hM
  have hx := X.1
  have hb := X.2.1
  have hown := X.2.2.2.1
  have hts := X.2.2.2.2
  skip
  replace hl : lv_has ls 2 [(0, .int (zi (x0))), (1, .int (zi (x1)))] := hl
  unfold M_floor at hh
  refine lv_iload_n hx hb dX5_floor_0 rfl (lv_at hl 0 rfl) ?_
  obtain ⟨g2, hh⟩ := gd_inv hh
  refine g_if_lt (tgt := 10) hx hb g2 dX5_floor_1 (by decide) (fun c1 => ?_) (fun c1 => ?_)
  · replace hh := it_t c1 hh
    refine lv_iload_n hx hb dX5_floor_10 rfl (lv_at hl 1 rfl) ?_
    refine lv_iconst (v := zi 1) hx hb dX5_floor_11 rfl ?_
    refine g_isub hx hb dX5_floor_12 ?_
    refine lv_iload_n hx hb dX5_floor_13 rfl (lv_at hl 0 rfl) ?_
    refine g_isub hx hb dX5_floor_14 ?_
    refine lv_iload_n hx hb dX5_floor_15 rfl (lv_at hl 1 rfl) ?_
    obtain ⟨g3, hh⟩ := gd_inv hh
    refine g_idiv hx hb g3 dX5_floor_16 ?_
    refine g_ineg hx hb dX5_floor_17 ?_
    exact hret _ _ _ _ _ (rt0 hh) dX5_floor_18 hM
  · replace hh := it_f c1 hh
    refine lv_iload_n hx hb dX5_floor_4 rfl (lv_at hl 0 rfl) ?_
    refine lv_iload_n hx hb dX5_floor_5 rfl (lv_at hl 1 rfl) ?_
    obtain ⟨g4, hh⟩ := gd_inv hh
    refine g_idiv hx hb g4 dX5_floor_6 ?_
    refine lv_goto (tgt := 18) hx hb dX5_floor_7 (by decide) ?_
    exact hret _ _ _ _ _ (rt0 hh) dX5_floor_18 hM
def M_wayY (x0 : Int) : Option Int := gd (r32 (x0)) (nm ((2 * (Int.tmod x0 16)) - 16) (fun v2 => gd (r32 (x0)) (nm (Int.tdiv x0 16) (fun v5 => gd (r32 (v5)) (if v5 = 0 then (some ((v2 : Int))) else (gd (r32 (v5)) (if v5 = 1 then (some ((16 : Int))) else (gd (r32 (v5)) (if v5 = 2 then (some ((-v2 : Int))) else (some (((-16) : Int))))))))))))
set_option maxHeartbeats 4000000 in
theorem wM_wayY (l : Launch) (x0 : Int) {r : Int} (hh : M_wayY x0 = some r) : ms_i l yX5_wayY cX5_wayY 3 (some .int) ({ frames := 1, cells := 0, slots := 0, locals := 12 } : Room) [.int (zi x0)] r := by
  refine mo_si (by decide) rfl (Nat.le_of_ble_eq_true rfl) ?_
  intro p e s m args below meth c Q ls X hret hl hM
  have hx := X.1
  have hb := X.2.1
  have hown := X.2.2.2.1
  have hts := X.2.2.2.2
  skip
  replace hl : lv_has ls 3 [(0, .int (zi (x0)))] := hl
  unfold M_wayY at hh
  refine lv_iconst (v := zi 2) hx hb dX5_wayY_0 rfl ?_
  refine lv_iload_n hx hb dX5_wayY_1 rfl (lv_at hl 0 rfl) ?_
  refine lv_bipush (v := zi 16) hx hb dX5_wayY_2 (by decide) ?_
  obtain ⟨g1, hh⟩ := gd_inv hh
  refine g_irem hx hb ⟨g1, by decide, by decide⟩ dX5_wayY_4 ?_
  refine g_imul hx hb dX5_wayY_5 ?_
  refine lv_bipush (v := zi 16) hx hb dX5_wayY_6 (by decide) ?_
  refine g_isub hx hb dX5_wayY_8 ?_
  refine g_nmi hx hb (fun v2 e3 => ?_)
  replace hh := nm_inv hh v2 e3
  refine lv_istore_n (lv' := [(1, .int (zi (v2))), (0, .int (zi (x0)))]) hx hb dX5_wayY_9 rfl hl (by decide) rfl (fun ls hl => ?_)
  refine lv_iload_n hx hb dX5_wayY_10 rfl (lv_at hl 1 rfl) ?_
  refine lv_bipush (v := zi 16) hx hb dX5_wayY_11 (by decide) ?_
  obtain ⟨g4, hh⟩ := gd_inv hh
  refine g_idiv hx hb ⟨g4, by decide, by decide⟩ dX5_wayY_13 ?_
  refine g_nmi hx hb (fun v5 e6 => ?_)
  replace hh := nm_inv hh v5 e6
  refine lv_istore_n (lv' := [(2, .int (zi (v5))), (1, .int (zi (v2))), (0, .int (zi (x0)))]) hx hb dX5_wayY_14 rfl hl (by decide) rfl (fun ls hl => ?_)
  refine lv_iload_n hx hb dX5_wayY_15 rfl (lv_at hl 0 rfl) ?_
  obtain ⟨g8, hh⟩ := gd_inv hh
  refine g_if_ne (tgt := 23) hx hb g8 dX5_wayY_16 (by decide) (fun c7 => ?_) (fun c7 => ?_)
  · replace hh := it_t c7 hh
    refine lv_iload_n hx hb dX5_wayY_19 rfl (lv_at hl 1 rfl) ?_
    refine lv_goto (tgt := 45) hx hb dX5_wayY_20 (by decide) ?_
    exact hret _ _ _ _ _ (rt0 hh) dX5_wayY_45 hM
  · replace hh := it_f c7 hh
    refine lv_iload_n hx hb dX5_wayY_23 rfl (lv_at hl 0 rfl) ?_
    refine lv_iconst (v := zi 1) hx hb dX5_wayY_24 rfl ?_
    obtain ⟨g10, hh⟩ := gd_inv hh
    refine g_icmp_ne (tgt := 33) hx hb ⟨g10, by decide⟩ dX5_wayY_25 (by decide) (fun c9 => ?_) (fun c9 => ?_)
    · replace hh := it_t c9 hh
      refine lv_bipush (v := zi 16) hx hb dX5_wayY_28 (by decide) ?_
      refine lv_goto (tgt := 45) hx hb dX5_wayY_30 (by decide) ?_
      exact hret _ _ _ _ _ (rt0 hh) dX5_wayY_45 hM
    · replace hh := it_f c9 hh
      refine lv_iload_n hx hb dX5_wayY_33 rfl (lv_at hl 0 rfl) ?_
      refine lv_iconst (v := zi 2) hx hb dX5_wayY_34 rfl ?_
      obtain ⟨g12, hh⟩ := gd_inv hh
      refine g_icmp_ne (tgt := 43) hx hb ⟨g12, by decide⟩ dX5_wayY_35 (by decide) (fun c11 => ?_) (fun c11 => ?_)
      · replace hh := it_t c11 hh
        refine lv_iload_n hx hb dX5_wayY_38 rfl (lv_at hl 1 rfl) ?_
        refine g_ineg hx hb dX5_wayY_39 ?_
        refine lv_goto (tgt := 45) hx hb dX5_wayY_40 (by decide) ?_
        exact hret _ _ _ _ _ (rt0 hh) dX5_wayY_45 hM
      · replace hh := it_f c11 hh
        refine lv_bipush (v := zi (-16)) hx hb dX5_wayY_43 (by decide) ?_
        exact hret _ _ _ _ _ (rt0 hh) dX5_wayY_45 hM
def M_shoot_b18 (x1 : Int) (x2 : Int) (x3 : Int) (K18 : xS → Int → Option xS) (S : xS) (x4 : Int) : Option xS := gd (r32 (x4)) (if x4 ≤ 40 then (bd (M_wayX x3) (fun v10 => bd (M_floor (x1 + (x4 * v10)) (16 : Int)) (fun v12 => bd (M_wayY x3) (fun v14 => bd (M_floor (x2 + (x4 * v14)) (16 : Int)) (fun v16 => bd (M_isIn v12 (0 : Int) ((S.1 0) - 1)) (fun v18 => if v18 = true then (bd (M_isIn v16 (0 : Int) ((S.1 1) - 1)) (fun v21 => if v21 = true then (gd ((0 : Int) ≤ (v16 * (S.1 0)) + v12 ∧ ((v16 * (S.1 0)) + v12 : Int) < 576) (gd (r32 (S.2 5 ((v16 * (S.1 0)) + v12))) (if (S.2 5 ((v16 * (S.1 0)) + v12)) = 0 then (nm ((x4 + 1) : Int) (fun v26 => K18 S v26)) else (gd ((0 : Int) ≤ (v16 * (S.1 0)) + v12 ∧ ((v16 * (S.1 0)) + v12 : Int) < 576) (gd ((0 : Int) ≤ x3 ∧ (x3 : Int) < 64) (nm (aset S 6 x3 (S.2 5 ((v16 * (S.1 0)) + v12))) (fun S30 => gd ((0 : Int) ≤ x3 ∧ (x3 : Int) < 64) (nm (aset S30 7 x3 x4) (fun S33 => some S33))))))))) else (some S))) else (some S))))))) else (some S))
def M_shoot_L18 (x1 : Int) (x2 : Int) (x3 : Int) : Nat → xS → Int → Option xS
  | 0 => fun _ _ => none
  | n + 1 => fun S x4 => M_shoot_b18 x1 x2 x3 (M_shoot_L18 x1 x2 x3 n) S x4
def M_shoot (S : xS) (x1 : Int) (x2 : Int) (x3 : Int) : Option xS := gd ((0 : Int) ≤ x3 ∧ (x3 : Int) < 64) (nm (aset S 6 x3 (0 : Int)) (fun S2 => gd ((0 : Int) ≤ x3 ∧ (x3 : Int) < 64) (nm (aset S2 7 x3 (41 : Int)) (fun S5 => M_shoot_L18 x1 x2 x3 FU S5 (1 : Int)))))
set_option maxHeartbeats 4000000 in
theorem wM_shoot (l : Launch) (DM : va_G) (dA : Nat → ClassId) (h : Nat) (S : xS) (x1 x2 x3 : Int) {S1 : xS} (hh : M_shoot S x1 x2 x3 = some S1) : mt_v l yX5_shoot cX5_shoot 7 ({ frames := 2, cells := 0, slots := 0, locals := 34 } : Room) DM dA h [.int (zi x1), .int (zi x2), .int (zi x3)] S S1 := by
  refine mo_v (by decide) rfl (Nat.le_of_ble_eq_true rfl) ?_
  intro p e s m args below meth c Q ls X hret hl hM
  have hx := X.1.1
  have hb := X.1.2.1
  have hown := X.1.2.2.2.1
  have hts := X.1.2.2.2.2
  skip
  have hL18 : ∀ (x1 : Int) (x2 : Int) (x3 : Int) (n : Nat) (S : xS) (x4 : Int), M_shoot_L18 x1 x2 x3 n S x4 = some S1 → ∀ (H : Heap) (locs : List Loc) (ls : Array Slot), MX DM dA h S s H locs → lv_has ls 7 [(0, .ref (h)), (1, .int (zi (x1))), (2, .int (zi (x2))), (3, .int (zi (x3))), (4, .int (zi (x4)))] → W p l e ({ frames := 2, cells := 0, slots := 0, locals := 34 } : Room) s m args below meth c H locs 0 0 Q (F0 m 18 ls []) := by
    intro x1 x2 x3  n
    induction n with
    | zero => intro S x4 hh; exact no_some hh
    | succ n ih =>
      intro S x4 hh H locs ls hM hl
      replace hh : M_shoot_b18 x1 x2 x3 (M_shoot_L18 x1 x2 x3 n) S x4 = some S1 := hh
      unfold M_shoot_b18 at hh
      have hK18 := ih
      refine lv_iload hx hb dX5_shoot_18 (lv_at hl 4 rfl) ?_
      refine lv_bipush (v := zi 40) hx hb dX5_shoot_20 (by decide) ?_
      obtain ⟨g8, hh⟩ := gd_inv hh
      refine g_icmp_gt (tgt := 145) hx hb ⟨g8, by decide⟩ dX5_shoot_22 (by decide) (fun c7 => ?_) (fun c7 => ?_)
      · replace hh := it_t c7 hh
        refine lv_iload_n hx hb dX5_shoot_25 rfl (lv_at hl 1 rfl) ?_
        refine lv_iload hx hb dX5_shoot_26 (lv_at hl 4 rfl) ?_
        refine lv_iload_n hx hb dX5_shoot_28 rfl (lv_at hl 3 rfl) ?_
        obtain ⟨v10, k9, hh⟩ := bd_inv hh
        refine mcs_i (rest := [.int (zi (x4)), .int (zi (x1))]) X hM (wM_wayX l x3 k9) c5_wayX.1 c5_wayX.2 ⟨rfl, rfl⟩ ⟨Nat.le_of_ble_eq_true rfl, Nat.le_of_ble_eq_true rfl⟩ ⟨Nat.zero_le _, Nat.zero_le _⟩ hl.1 (Nat.le_of_ble_eq_true rfl) dX5_shoot_29 rfl (fun H locs hM => ?_)
        refine g_imul hx hb dX5_shoot_32 ?_
        refine g_iadd hx hb dX5_shoot_33 ?_
        refine lv_bipush (v := zi 16) hx hb dX5_shoot_34 (by decide) ?_
        obtain ⟨v12, k11, hh⟩ := bd_inv hh
        refine mcs_i (rest := []) X hM (wM_floor l (x1 + (x4 * v10)) (16 : Int) k11) c5_floor.1 c5_floor.2 ⟨rfl, rfl⟩ ⟨Nat.le_of_ble_eq_true rfl, Nat.le_of_ble_eq_true rfl⟩ ⟨Nat.zero_le _, Nat.zero_le _⟩ hl.1 (Nat.le_of_ble_eq_true rfl) dX5_shoot_36 rfl (fun H locs hM => ?_)
        refine lv_istore (lv' := [(5, .int (zi (v12))), (0, .ref (h)), (1, .int (zi (x1))), (2, .int (zi (x2))), (3, .int (zi (x3))), (4, .int (zi (x4)))]) hx hb dX5_shoot_39 hl (by decide) rfl (fun ls hl => ?_)
        refine lv_iload_n hx hb dX5_shoot_41 rfl (lv_at hl 3 rfl) ?_
        refine lv_iload hx hb dX5_shoot_42 (lv_at hl 5 rfl) ?_
        refine lv_iload_n hx hb dX5_shoot_44 rfl (lv_at hl 4 rfl) ?_
        obtain ⟨v14, k13, hh⟩ := bd_inv hh
        refine mcs_i (rest := [.int (zi (x4)), .int (zi (x2))]) X hM (wM_wayY l x3 k13) c5_wayY.1 c5_wayY.2 ⟨rfl, rfl⟩ ⟨Nat.le_of_ble_eq_true rfl, Nat.le_of_ble_eq_true rfl⟩ ⟨Nat.zero_le _, Nat.zero_le _⟩ hl.1 (Nat.le_of_ble_eq_true rfl) dX5_shoot_45 rfl (fun H locs hM => ?_)
        refine g_imul hx hb dX5_shoot_48 ?_
        refine g_iadd hx hb dX5_shoot_49 ?_
        refine lv_bipush (v := zi 16) hx hb dX5_shoot_50 (by decide) ?_
        obtain ⟨v16, k15, hh⟩ := bd_inv hh
        refine mcs_i (rest := []) X hM (wM_floor l (x2 + (x4 * v14)) (16 : Int) k15) c5_floor.1 c5_floor.2 ⟨rfl, rfl⟩ ⟨Nat.le_of_ble_eq_true rfl, Nat.le_of_ble_eq_true rfl⟩ ⟨Nat.zero_le _, Nat.zero_le _⟩ hl.1 (Nat.le_of_ble_eq_true rfl) dX5_shoot_52 rfl (fun H locs hM => ?_)
        refine lv_istore (lv' := [(6, .int (zi (v16))), (5, .int (zi (v12))), (0, .ref (h)), (1, .int (zi (x1))), (2, .int (zi (x2))), (3, .int (zi (x3))), (4, .int (zi (x4)))]) hx hb dX5_shoot_55 hl (by decide) rfl (fun ls hl => ?_)
        refine lv_iload hx hb dX5_shoot_57 (lv_at hl 1 rfl) ?_
        refine lv_iconst (v := zi 0) hx hb dX5_shoot_59 rfl ?_
        refine lv_aload_n hx hb dX5_shoot_60 rfl (lv_at hl 2 rfl) ?_
        refine mm_get X hM q1174 (mf_0 _ _) dX5_shoot_61 ?_
        refine lv_iconst (v := zi 1) hx hb dX5_shoot_64 rfl ?_
        refine g_isub hx hb dX5_shoot_65 ?_
        obtain ⟨v18, k17, hh⟩ := bd_inv hh
        refine mcs_z (rest := []) X hM (wM_isIn l v12 (0 : Int) ((S.1 0) - 1) k17) c5_isIn.1 c5_isIn.2 ⟨rfl, rfl⟩ ⟨Nat.le_of_ble_eq_true rfl, Nat.le_of_ble_eq_true rfl⟩ ⟨Nat.zero_le _, Nat.zero_le _⟩ hl.1 (Nat.le_of_ble_eq_true rfl) dX5_shoot_66 rfl (fun H locs hM => ?_)
        refine g_bif_eq (tgt := 87) hx hb dX5_shoot_69 (by decide) (fun c19 => ?_) (fun c19 => ?_)
        · replace hh := it_t c19 hh
          refine lv_iload hx hb dX5_shoot_72 (lv_at hl 0 rfl) ?_
          refine lv_iconst (v := zi 0) hx hb dX5_shoot_74 rfl ?_
          refine lv_aload_n hx hb dX5_shoot_75 rfl (lv_at hl 2 rfl) ?_
          refine mm_get X hM q1175 (mf_1 _ _) dX5_shoot_76 ?_
          refine lv_iconst (v := zi 1) hx hb dX5_shoot_79 rfl ?_
          refine g_isub hx hb dX5_shoot_80 ?_
          obtain ⟨v21, k20, hh⟩ := bd_inv hh
          refine mcs_z (rest := []) X hM (wM_isIn l v16 (0 : Int) ((S.1 1) - 1) k20) c5_isIn.1 c5_isIn.2 ⟨rfl, rfl⟩ ⟨Nat.le_of_ble_eq_true rfl, Nat.le_of_ble_eq_true rfl⟩ ⟨Nat.zero_le _, Nat.zero_le _⟩ hl.1 (Nat.le_of_ble_eq_true rfl) dX5_shoot_81 rfl (fun H locs hM => ?_)
          refine g_bif_ne (tgt := 88) hx hb dX5_shoot_84 (by decide) (fun c22 => ?_) (fun c22 => ?_)
          · replace hh := it_t c22 hh
            refine lv_aload_n hx hb dX5_shoot_88 rfl (lv_at hl 2 rfl) ?_
            refine mm_get X hM q1179 (mf_5 _ _) dX5_shoot_89 ?_
            refine lv_iload hx hb dX5_shoot_92 (lv_at hl 0 rfl) ?_
            refine lv_aload_n hx hb dX5_shoot_94 rfl (lv_at hl 2 rfl) ?_
            refine mm_get X hM q1174 (mf_0 _ _) dX5_shoot_95 ?_
            refine g_imul hx hb dX5_shoot_98 ?_
            refine lv_iload hx hb dX5_shoot_99 (lv_at hl 1 rfl) ?_
            refine g_iadd hx hb dX5_shoot_101 ?_
            obtain ⟨g23, hh⟩ := gd_inv hh
            refine mm_iald X hM (ma_5 _ _) g23 dX5_shoot_102 ?_
            obtain ⟨g25, hh⟩ := gd_inv hh
            refine g_if_ne (tgt := 109) hx hb g25 dX5_shoot_103 (by decide) (fun c24 => ?_) (fun c24 => ?_)
            · replace hh := it_t c24 hh
              refine lv_goto (tgt := 139) hx hb dX5_shoot_106 (by decide) ?_
              obtain ⟨v26, e27⟩ : ∃ z : Int, z = x4 + 1 := ⟨_, rfl⟩
              replace hh := nm_inv hh v26 e27
              refine lv_iinc (v := zi v26) (lv' := [(4, .int (zi (v26))), (6, .int (zi (v16))), (5, .int (zi (v12))), (0, .ref (h)), (1, .int (zi (x1))), (2, .int (zi (x2))), (3, .int (zi (x3)))]) hx hb dX5_shoot_139 hl (k := 6) rfl (by rw [e27]; exact zi_add _ _) (by decide) rfl (fun ls hl => ?_)
              refine lv_goto (tgt := 18) hx hb dX5_shoot_142 (by decide) ?_
              exact hK18 S v26 hh _ _ _ hM (lv_sub hl [3, 4, 5, 6, 0] rfl)
            · replace hh := it_f c24 hh
              refine lv_aload_n hx hb dX5_shoot_109 rfl (lv_at hl 2 rfl) ?_
              refine mm_get X hM q1180 (mf_6 _ _) dX5_shoot_110 ?_
              refine lv_iload_n hx hb dX5_shoot_113 rfl (lv_at hl 5 rfl) ?_
              refine lv_aload_n hx hb dX5_shoot_114 rfl (lv_at hl 2 rfl) ?_
              refine mm_get X hM q1179 (mf_5 _ _) dX5_shoot_115 ?_
              refine lv_iload hx hb dX5_shoot_118 (lv_at hl 0 rfl) ?_
              refine lv_aload_n hx hb dX5_shoot_120 rfl (lv_at hl 2 rfl) ?_
              refine mm_get X hM q1174 (mf_0 _ _) dX5_shoot_121 ?_
              refine g_imul hx hb dX5_shoot_124 ?_
              refine lv_iload hx hb dX5_shoot_125 (lv_at hl 1 rfl) ?_
              refine g_iadd hx hb dX5_shoot_127 ?_
              obtain ⟨g28, hh⟩ := gd_inv hh
              refine mm_iald X hM (ma_5 _ _) g28 dX5_shoot_128 ?_
              obtain ⟨g29, hh⟩ := gd_inv hh
              refine mm_iast X hM (ma_6 _ _) g29 dX5_shoot_129 (fun H locs S30 e31 hM => ?_)
              replace hh := nm_inv hh S30 e31
              refine lv_aload_n hx hb dX5_shoot_130 rfl (lv_at hl 2 rfl) ?_
              refine mm_get X hM q1181 (mf_7 _ _) dX5_shoot_131 ?_
              refine lv_iload_n hx hb dX5_shoot_134 rfl (lv_at hl 5 rfl) ?_
              refine lv_iload hx hb dX5_shoot_135 (lv_at hl 6 rfl) ?_
              obtain ⟨g32, hh⟩ := gd_inv hh
              refine mm_iast X hM (ma_7 _ _) g32 dX5_shoot_137 (fun H locs S33 e34 hM => ?_)
              replace hh := nm_inv hh S33 e34
              exact hret _ _ _ _ _ (rt0 hh) dX5_shoot_138 hM
          · replace hh := it_f c22 hh
            exact hret _ _ _ _ _ (rt0 hh) dX5_shoot_87 hM
        · replace hh := it_f c19 hh
          exact hret _ _ _ _ _ (rt0 hh) dX5_shoot_87 hM
      · replace hh := it_f c7 hh
        exact hret _ _ _ _ _ (rt0 hh) dX5_shoot_145 hM
  replace hl : lv_has ls 7 [(0, .ref (h)), (1, .int (zi (x1))), (2, .int (zi (x2))), (3, .int (zi (x3)))] := hl
  unfold M_shoot at hh
  refine lv_aload_n hx hb dX5_shoot_0 rfl (lv_at hl 0 rfl) ?_
  refine mm_get X hM q1180 (mf_6 _ _) dX5_shoot_1 ?_
  refine lv_iload_n hx hb dX5_shoot_4 rfl (lv_at hl 3 rfl) ?_
  refine lv_iconst (v := zi 0) hx hb dX5_shoot_5 rfl ?_
  obtain ⟨g1, hh⟩ := gd_inv hh
  refine mm_iast X hM (ma_6 _ _) g1 dX5_shoot_6 (fun H locs S2 e3 hM => ?_)
  replace hh := nm_inv hh S2 e3
  refine lv_aload_n hx hb dX5_shoot_7 rfl (lv_at hl 0 rfl) ?_
  refine mm_get X hM q1181 (mf_7 _ _) dX5_shoot_8 ?_
  refine lv_iload_n hx hb dX5_shoot_11 rfl (lv_at hl 3 rfl) ?_
  refine lv_bipush (v := zi 41) hx hb dX5_shoot_12 (by decide) ?_
  obtain ⟨g4, hh⟩ := gd_inv hh
  refine mm_iast X hM (ma_7 _ _) g4 dX5_shoot_14 (fun H locs S5 e6 hM => ?_)
  replace hh := nm_inv hh S5 e6
  refine lv_iconst (v := zi 1) hx hb dX5_shoot_15 rfl ?_
  refine lv_istore (lv' := [(4, .int (zi (1))), (0, .ref (h)), (1, .int (zi (x1))), (2, .int (zi (x2))), (3, .int (zi (x3)))]) hx hb dX5_shoot_16 hl (by decide) rfl (fun ls hl => ?_)
  exact hL18 x1 x2 x3 FU S5 (1 : Int) hh _ _ _ hM (lv_sub hl [1, 2, 3, 4, 0] rfl)
