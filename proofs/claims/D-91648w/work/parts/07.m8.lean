set_option maxRecDepth 100000
def M_flown (S : xS) (x1 : Int) : Option Int := gd (r32 (S.2 2 880)) (if (S.2 2 880) < 0 then (some (((-1) : Int))) else (bd (M_isIn x1 (0 : Int) (5 : Int)) (fun v4 => if v4 = true then (gd ((0 : Int) ≤ 881 + x1 ∧ (881 + x1 : Int) < 3170) (some ((S.2 2 (881 + x1) : Int)))) else (some (((-1) : Int))))))
set_option maxHeartbeats 4000000 in
theorem wM_flown (l : Launch) (DM : va_G) (dA : Nat → ClassId) (h : Nat) (S : xS) (x1 : Int) {r : Int} (hh : M_flown S x1 = some r) : mt_i l yX5_flown cX5_flown 2 (some .int) ({ frames := 2, cells := 0, slots := 0, locals := 34 } : Room) DM dA h [.int (zi x1)] S r S := by
  refine mo_i (by decide) rfl (Nat.le_of_ble_eq_true rfl) ?_
  intro p e s m args below meth c Q ls X hret hl hM
  have hx := X.1.1
  have hb := X.1.2.1
  have hown := X.1.2.2.2.1
  have hts := X.1.2.2.2.2
  skip
  replace hl : lv_has ls 2 [(0, .ref (h)), (1, .int (zi (x1)))] := hl
  unfold M_flown at hh
  refine lv_aload_n hx hb dX5_flown_0 rfl (lv_at hl 0 rfl) ?_
  refine mm_get X hM q1176 (mf_2 _ _) dX5_flown_1 ?_
  refine lv_sipush (v := zi 880) hx hb dX5_flown_4 (by decide) ?_
  refine mm_iald X hM (ma_2 _ _) (by decide) dX5_flown_7 ?_
  obtain ⟨g2, hh⟩ := gd_inv hh
  refine g_if_lt (tgt := 33) hx hb g2 dX5_flown_8 (by decide) (fun c1 => ?_) (fun c1 => ?_)
  · replace hh := it_t c1 hh
    refine lv_iconst (v := zi (-1)) hx hb dX5_flown_33 rfl ?_
    exact hret _ _ _ _ _ _ (rt0 hh) rfl dX5_flown_34 hM
  · replace hh := it_f c1 hh
    refine lv_iload_n hx hb dX5_flown_11 rfl (lv_at hl 1 rfl) ?_
    refine lv_iconst (v := zi 0) hx hb dX5_flown_12 rfl ?_
    refine lv_iconst (v := zi 5) hx hb dX5_flown_13 rfl ?_
    obtain ⟨v4, k3, hh⟩ := bd_inv hh
    refine mcs_z (rest := []) X hM (wM_isIn l x1 (0 : Int) (5 : Int) k3) c5_isIn.1 c5_isIn.2 ⟨rfl, rfl⟩ ⟨Nat.le_of_ble_eq_true rfl, Nat.le_of_ble_eq_true rfl⟩ ⟨Nat.zero_le _, Nat.zero_le _⟩ hl.1 (Nat.le_of_ble_eq_true rfl) dX5_flown_14 rfl (fun H locs hM => ?_)
    refine g_bif_eq (tgt := 33) hx hb dX5_flown_17 (by decide) (fun c5 => ?_) (fun c5 => ?_)
    · replace hh := it_t c5 hh
      refine lv_aload_n hx hb dX5_flown_20 rfl (lv_at hl 0 rfl) ?_
      refine mm_get X hM q1176 (mf_2 _ _) dX5_flown_21 ?_
      refine lv_sipush (v := zi 881) hx hb dX5_flown_24 (by decide) ?_
      refine lv_iload_n hx hb dX5_flown_27 rfl (lv_at hl 1 rfl) ?_
      refine g_iadd hx hb dX5_flown_28 ?_
      obtain ⟨g6, hh⟩ := gd_inv hh
      refine mm_iald X hM (ma_2 _ _) g6 dX5_flown_29 ?_
      refine lv_goto (tgt := 34) hx hb dX5_flown_30 (by decide) ?_
      exact hret _ _ _ _ _ _ (rt0 hh) rfl dX5_flown_34 hM
    · replace hh := it_f c5 hh
      refine lv_iconst (v := zi (-1)) hx hb dX5_flown_33 rfl ?_
      exact hret _ _ _ _ _ _ (rt0 hh) rfl dX5_flown_34 hM
def M_tick_B125 (S : xS) : Option Int := some (((-10000000) : Int))
def M_tick_B84 (S : xS) (x2 : Int) (x3 : Int) : Option Int := gd (r32 (x2)) (if x2 < 200 then (M_tick_B125 S) else (gd (r32 (x2) ∧ r32 (200 + (S.2 2 888))) (if x2 < (200 + (S.2 2 888)) then (gd ((0 : Int) ≤ ((x3 + 21) + x2) - 200 ∧ (((x3 + 21) + x2) - 200 : Int) < 3170) (some ((S.2 2 (((x3 + 21) + x2) - 200) : Int)))) else (M_tick_B125 S))))
def M_tick (S : xS) (x1 : Int) (x2 : Int) : Option Int := bd (M_isIn x1 (0 : Int) ((S.2 2 880) - 1)) (fun v2 => if v2 = true then (nm (890 + (38 * x1)) (fun v4 => bd (M_isIn x2 (0 : Int) (4 : Int)) (fun v7 => if v7 = true then (gd ((0 : Int) ≤ v4 + x2 ∧ (v4 + x2 : Int) < 3170) (some ((S.2 2 (v4 + x2) : Int)))) else (gd (r32 (x2)) (if x2 < 100 then (M_tick_B84 S x2 v4) else (gd (r32 (x2) ∧ r32 (100 + (S.2 2 887))) (if x2 < (100 + (S.2 2 887)) then (gd ((0 : Int) ≤ ((v4 + 5) + x2) - 100 ∧ (((v4 + 5) + x2) - 100 : Int) < 3170) (some ((S.2 2 (((v4 + 5) + x2) - 100) : Int)))) else (M_tick_B84 S x2 v4)))))))) else (some (((-10000000) : Int))))
set_option maxHeartbeats 4000000 in
theorem wM_tick (l : Launch) (DM : va_G) (dA : Nat → ClassId) (h : Nat) (S : xS) (x1 x2 : Int) {r : Int} (hh : M_tick S x1 x2 = some r) : mt_i l yX5_tick cX5_tick 4 (some .int) ({ frames := 2, cells := 0, slots := 0, locals := 34 } : Room) DM dA h [.int (zi x1), .int (zi x2)] S r S := by
  refine mo_i (by decide) rfl (Nat.le_of_ble_eq_true rfl) ?_
  intro p e s m args below meth c Q ls X hret hl hM
  have hx := X.1.1
  have hb := X.1.2.1
  have hown := X.1.2.2.2.1
  have hts := X.1.2.2.2.2
  skip
  have hB125 : M_tick_B125 S = some r → ∀ (H : Heap) (locs : List Loc) (ls : Array Slot), MX DM dA h S s H locs → lv_has ls 4 [] → W p l e ({ frames := 2, cells := 0, slots := 0, locals := 34 } : Room) s m args below meth c H locs 0 0 Q (F0 m 125 ls []) := by
    intro   hh H locs ls hM hl
    unfold M_tick_B125 at hh
    refine g_ldcw (v := (-10000000)) (z := (-10000000)) hx hb (by decide) hown (hts _ q1589) dX5_tick_125 ?_
    exact hret _ _ _ _ _ _ (rt0 hh) rfl dX5_tick_128 hM
  have hB84 : ∀ (x2 : Int) (x3 : Int), M_tick_B84 S x2 x3 = some r → ∀ (H : Heap) (locs : List Loc) (ls : Array Slot), MX DM dA h S s H locs → lv_has ls 4 [(0, .ref (h)), (2, .int (zi (x2))), (3, .int (zi (x3)))] → W p l e ({ frames := 2, cells := 0, slots := 0, locals := 34 } : Room) s m args below meth c H locs 0 0 Q (F0 m 84 ls []) := by
    intro x2 x3  hh H locs ls hM hl
    unfold M_tick_B84 at hh
    refine lv_iload_n hx hb dX5_tick_84 rfl (lv_at hl 1 rfl) ?_
    refine lv_sipush (v := zi 200) hx hb dX5_tick_85 (by decide) ?_
    obtain ⟨g13, hh⟩ := gd_inv hh
    refine g_icmp_lt (tgt := 125) hx hb ⟨g13, by decide⟩ dX5_tick_88 (by decide) (fun c12 => ?_) (fun c12 => ?_)
    · replace hh := it_t c12 hh
      exact hB125 hh _ _ _ hM (lv_sub hl [] rfl)
    · replace hh := it_f c12 hh
      refine lv_iload_n hx hb dX5_tick_91 rfl (lv_at hl 1 rfl) ?_
      refine lv_sipush (v := zi 200) hx hb dX5_tick_92 (by decide) ?_
      refine lv_aload_n hx hb dX5_tick_95 rfl (lv_at hl 0 rfl) ?_
      refine mm_get X hM q1176 (mf_2 _ _) dX5_tick_96 ?_
      refine lv_sipush (v := zi 888) hx hb dX5_tick_99 (by decide) ?_
      refine mm_iald X hM (ma_2 _ _) (by decide) dX5_tick_102 ?_
      refine g_iadd hx hb dX5_tick_103 ?_
      obtain ⟨g15, hh⟩ := gd_inv hh
      refine g_icmp_ge (tgt := 125) hx hb g15 dX5_tick_104 (by decide) (fun c14 => ?_) (fun c14 => ?_)
      · replace hh := it_t c14 hh
        refine lv_aload_n hx hb dX5_tick_107 rfl (lv_at hl 0 rfl) ?_
        refine mm_get X hM q1176 (mf_2 _ _) dX5_tick_108 ?_
        refine lv_iload_n hx hb dX5_tick_111 rfl (lv_at hl 2 rfl) ?_
        refine lv_bipush (v := zi 21) hx hb dX5_tick_112 (by decide) ?_
        refine g_iadd hx hb dX5_tick_114 ?_
        refine lv_iload_n hx hb dX5_tick_115 rfl (lv_at hl 1 rfl) ?_
        refine g_iadd hx hb dX5_tick_116 ?_
        refine lv_sipush (v := zi 200) hx hb dX5_tick_117 (by decide) ?_
        refine g_isub hx hb dX5_tick_120 ?_
        obtain ⟨g16, hh⟩ := gd_inv hh
        refine mm_iald X hM (ma_2 _ _) g16 dX5_tick_121 ?_
        refine lv_goto (tgt := 128) hx hb dX5_tick_122 (by decide) ?_
        exact hret _ _ _ _ _ _ (rt0 hh) rfl dX5_tick_128 hM
      · replace hh := it_f c14 hh
        exact hB125 hh _ _ _ hM (lv_sub hl [] rfl)
  replace hl : lv_has ls 4 [(0, .ref (h)), (1, .int (zi (x1))), (2, .int (zi (x2)))] := hl
  unfold M_tick at hh
  refine lv_iload_n hx hb dX5_tick_0 rfl (lv_at hl 1 rfl) ?_
  refine lv_iconst (v := zi 0) hx hb dX5_tick_1 rfl ?_
  refine lv_aload_n hx hb dX5_tick_2 rfl (lv_at hl 0 rfl) ?_
  refine mm_get X hM q1176 (mf_2 _ _) dX5_tick_3 ?_
  refine lv_sipush (v := zi 880) hx hb dX5_tick_6 (by decide) ?_
  refine mm_iald X hM (ma_2 _ _) (by decide) dX5_tick_9 ?_
  refine lv_iconst (v := zi 1) hx hb dX5_tick_10 rfl ?_
  refine g_isub hx hb dX5_tick_11 ?_
  obtain ⟨v2, k1, hh⟩ := bd_inv hh
  refine mcs_z (rest := []) X hM (wM_isIn l x1 (0 : Int) ((S.2 2 880) - 1) k1) c5_isIn.1 c5_isIn.2 ⟨rfl, rfl⟩ ⟨Nat.le_of_ble_eq_true rfl, Nat.le_of_ble_eq_true rfl⟩ ⟨Nat.zero_le _, Nat.zero_le _⟩ hl.1 (Nat.le_of_ble_eq_true rfl) dX5_tick_12 rfl (fun H locs hM => ?_)
  refine g_bif_ne (tgt := 22) hx hb dX5_tick_15 (by decide) (fun c3 => ?_) (fun c3 => ?_)
  · replace hh := it_t c3 hh
    refine lv_sipush (v := zi 890) hx hb dX5_tick_22 (by decide) ?_
    refine lv_bipush (v := zi 38) hx hb dX5_tick_25 (by decide) ?_
    refine lv_iload_n hx hb dX5_tick_27 rfl (lv_at hl 1 rfl) ?_
    refine g_imul hx hb dX5_tick_28 ?_
    refine g_iadd hx hb dX5_tick_29 ?_
    refine g_nmi hx hb (fun v4 e5 => ?_)
    replace hh := nm_inv hh v4 e5
    refine lv_istore_n (lv' := [(3, .int (zi (v4))), (0, .ref (h)), (1, .int (zi (x1))), (2, .int (zi (x2)))]) hx hb dX5_tick_30 rfl hl (by decide) rfl (fun ls hl => ?_)
    refine lv_iload_n hx hb dX5_tick_31 rfl (lv_at hl 3 rfl) ?_
    refine lv_iconst (v := zi 0) hx hb dX5_tick_32 rfl ?_
    refine lv_iconst (v := zi 4) hx hb dX5_tick_33 rfl ?_
    obtain ⟨v7, k6, hh⟩ := bd_inv hh
    refine mcs_z (rest := []) X hM (wM_isIn l x2 (0 : Int) (4 : Int) k6) c5_isIn.1 c5_isIn.2 ⟨rfl, rfl⟩ ⟨Nat.le_of_ble_eq_true rfl, Nat.le_of_ble_eq_true rfl⟩ ⟨Nat.zero_le _, Nat.zero_le _⟩ hl.1 (Nat.le_of_ble_eq_true rfl) dX5_tick_34 rfl (fun H locs hM => ?_)
    refine g_bif_eq (tgt := 49) hx hb dX5_tick_37 (by decide) (fun c8 => ?_) (fun c8 => ?_)
    · replace hh := it_t c8 hh
      refine lv_aload_n hx hb dX5_tick_40 rfl (lv_at hl 1 rfl) ?_
      refine mm_get X hM q1176 (mf_2 _ _) dX5_tick_41 ?_
      refine lv_iload_n hx hb dX5_tick_44 rfl (lv_at hl 0 rfl) ?_
      refine lv_iload_n hx hb dX5_tick_45 rfl (lv_at hl 3 rfl) ?_
      refine g_iadd hx hb dX5_tick_46 ?_
      obtain ⟨g9, hh⟩ := gd_inv hh
      refine mm_iald X hM (ma_2 _ _) g9 dX5_tick_47 ?_
      exact hret _ _ _ _ _ _ (rt0 hh) rfl dX5_tick_48 hM
    · replace hh := it_f c8 hh
      refine lv_iload_n hx hb dX5_tick_49 rfl (lv_at hl 3 rfl) ?_
      refine lv_bipush (v := zi 100) hx hb dX5_tick_50 (by decide) ?_
      obtain ⟨g11, hh⟩ := gd_inv hh
      refine g_icmp_lt (tgt := 84) hx hb ⟨g11, by decide⟩ dX5_tick_52 (by decide) (fun c10 => ?_) (fun c10 => ?_)
      · replace hh := it_t c10 hh
        exact hB84 x2 v4 hh _ _ _ hM (lv_sub hl [1, 3, 0] rfl)
      · replace hh := it_f c10 hh
        refine lv_iload_n hx hb dX5_tick_55 rfl (lv_at hl 3 rfl) ?_
        refine lv_bipush (v := zi 100) hx hb dX5_tick_56 (by decide) ?_
        refine lv_aload_n hx hb dX5_tick_58 rfl (lv_at hl 1 rfl) ?_
        refine mm_get X hM q1176 (mf_2 _ _) dX5_tick_59 ?_
        refine lv_sipush (v := zi 887) hx hb dX5_tick_62 (by decide) ?_
        refine mm_iald X hM (ma_2 _ _) (by decide) dX5_tick_65 ?_
        refine g_iadd hx hb dX5_tick_66 ?_
        obtain ⟨g18, hh⟩ := gd_inv hh
        refine g_icmp_ge (tgt := 84) hx hb g18 dX5_tick_67 (by decide) (fun c17 => ?_) (fun c17 => ?_)
        · replace hh := it_t c17 hh
          refine lv_aload_n hx hb dX5_tick_70 rfl (lv_at hl 1 rfl) ?_
          refine mm_get X hM q1176 (mf_2 _ _) dX5_tick_71 ?_
          refine lv_iload_n hx hb dX5_tick_74 rfl (lv_at hl 0 rfl) ?_
          refine lv_iconst (v := zi 5) hx hb dX5_tick_75 rfl ?_
          refine g_iadd hx hb dX5_tick_76 ?_
          refine lv_iload_n hx hb dX5_tick_77 rfl (lv_at hl 3 rfl) ?_
          refine g_iadd hx hb dX5_tick_78 ?_
          refine lv_bipush (v := zi 100) hx hb dX5_tick_79 (by decide) ?_
          refine g_isub hx hb dX5_tick_81 ?_
          obtain ⟨g19, hh⟩ := gd_inv hh
          refine mm_iald X hM (ma_2 _ _) g19 dX5_tick_82 ?_
          exact hret _ _ _ _ _ _ (rt0 hh) rfl dX5_tick_83 hM
        · replace hh := it_f c17 hh
          exact hB84 x2 v4 hh _ _ _ hM (lv_sub hl [1, 3, 0] rfl)
  · replace hh := it_f c3 hh
    refine g_ldcw (v := (-10000000)) (z := (-10000000)) hx hb (by decide) hown (hts _ q1589) dX5_tick_18 ?_
    exact hret _ _ _ _ _ _ (rt0 hh) rfl dX5_tick_21 hM
def M_safe_b122 (K112 : xS → Int → Option (Int × xS)) (x1 : Int) (x3 : Int) (x4 : Int) (x5 : Int) (x6 : Int) (x7 : Int) (x8 : Int) (x9 : Int) (K122 : xS → Int → Option (Int × xS)) (S : xS) (x10 : Int) : Option (Int × xS) := gd (r32 (x10) ∧ r32 (x6)) (if x10 ≤ x6 then (bd (M_isStart S x9 x4) (fun v36 => if v36 = true then (bd (M_run S x1 x9 x4 x10 x7) (fun S39 => gd (r32 (S39.1 33)) (if (S39.1 33) = 0 then (nm ((x10 + 1) : Int) (fun v42 => K122 S39 v42)) else (gd (r32 (x8)) (if x8 = 0 then (some ((x9 : Int), S39)) else (some ((x10 : Int), S39))))))) else (nm ((x9 + 16) : Int) (fun v46 => K112 S v46)))) else (nm ((x9 + 16) : Int) (fun v48 => K112 S v48)))
def M_safe_L122 (K112 : xS → Int → Option (Int × xS)) (x1 : Int) (x3 : Int) (x4 : Int) (x5 : Int) (x6 : Int) (x7 : Int) (x8 : Int) (x9 : Int) : Nat → xS → Int → Option (Int × xS)
  | 0 => fun _ _ => none
  | n + 1 => fun S x10 => M_safe_b122 K112 x1 x3 x4 x5 x6 x7 x8 x9 (M_safe_L122 K112 x1 x3 x4 x5 x6 x7 x8 x9 n) S x10
def M_safe_b112 (x1 : Int) (x3 : Int) (x4 : Int) (x5 : Int) (x6 : Int) (x7 : Int) (x8 : Int) (K112 : xS → Int → Option (Int × xS)) (S : xS) (x9 : Int) : Option (Int × xS) := gd (r32 (x9) ∧ r32 (x3)) (if x9 ≤ x3 then (M_safe_L122 K112 x1 x3 x4 x5 x6 x7 x8 x9 FU S x5) else (some (((-1) : Int), S)))
def M_safe_L112 (x1 : Int) (x3 : Int) (x4 : Int) (x5 : Int) (x6 : Int) (x7 : Int) (x8 : Int) : Nat → xS → Int → Option (Int × xS)
  | 0 => fun _ _ => none
  | n + 1 => fun S x9 => M_safe_b112 x1 x3 x4 x5 x6 x7 x8 (M_safe_L112 x1 x3 x4 x5 x6 x7 x8 n) S x9
def M_safe (S : xS) (x1 : Int) (x2 : Int) (x3 : Int) (x4 : Int) (x5 : Int) (x6 : Int) (x7 : Int) (x8 : Int) : Option (Int × xS) := bd (M_isRule S x1) (fun v2 => if v2 = true then (bd (M_isPlace S x2 x4) (fun v5 => if v5 = true then (bd (M_isPlace S x3 x4) (fun v8 => if v8 = true then (gd (r32 (x2) ∧ r32 (x3)) (if x2 ≤ x3 then (bd (M_isSide x5) (fun v13 => if v13 = true then (bd (M_isSide x6) (fun v16 => if v16 = true then (gd (r32 (x5) ∧ r32 (x6)) (if x5 ≤ x6 then (bd (M_isIn x7 (1 : Int) (60 : Int)) (fun v21 => if v21 = true then (bd (M_isIn x8 (0 : Int) (1 : Int)) (fun v24 => if v24 = true then (gd (r32 (x3 - x2)) (gd (r32 (((Int.tdiv (x3 - x2) 16) + 1) * ((x6 - x5) + 1))) (if (((Int.tdiv (x3 - x2) 16) + 1) * ((x6 - x5) + 1)) ≤ 64 then (nm (fset S 27 (1000000)) (fun S29 => M_safe_L112 x1 x3 x4 x5 x6 x7 x8 FU S29 x2)) else (some (((-1) : Int), S))))) else (some (((-1) : Int), S)))) else (some (((-1) : Int), S)))) else (some (((-1) : Int), S)))) else (some (((-1) : Int), S)))) else (some (((-1) : Int), S)))) else (some (((-1) : Int), S)))) else (some (((-1) : Int), S)))) else (some (((-1) : Int), S)))) else (some (((-1) : Int), S)))
set_option maxHeartbeats 4000000 in
theorem wM_safe (l : Launch) (DM : va_G) (dA : Nat → ClassId) (h : Nat) (S : xS) (x1 x2 x3 x4 x5 x6 x7 x8 : Int) {r : Int} {S1 : xS} (hh : M_safe S x1 x2 x3 x4 x5 x6 x7 x8 = some (r, S1)) : mt_i l yX5_safe cX5_safe 11 (some .int) ({ frames := 7, cells := 0, slots := 0, locals := 154 } : Room) DM dA h [.int (zi x1), .int (zi x2), .int (zi x3), .int (zi x4), .int (zi x5), .int (zi x6), .int (zi x7), .int (zi x8)] S r S1 := by
  refine mo_i (by decide) rfl (Nat.le_of_ble_eq_true rfl) ?_
  intro p e s m args below meth c Q ls X hret hl hM
  have hx := X.1.1
  have hb := X.1.2.1
  have hown := X.1.2.2.2.1
  have hts := X.1.2.2.2.2
  skip
  have hL122 : ∀ (x1 : Int) (x3 : Int) (x4 : Int) (x5 : Int) (x6 : Int) (x7 : Int) (x8 : Int) (x9 : Int) (K112 : xS → Int → Option (Int × xS)) (hK112 : (∀ (S : xS) (x9 : Int), K112 S x9 = some (r, S1) → ∀ (H : Heap) (locs : List Loc) (ls : Array Slot), MX DM dA h S s H locs → lv_has ls 11 [(0, .ref (h)), (1, .int (zi (x1))), (3, .int (zi (x3))), (4, .int (zi (x4))), (5, .int (zi (x5))), (6, .int (zi (x6))), (7, .int (zi (x7))), (8, .int (zi (x8))), (9, .int (zi (x9)))] → W p l e ({ frames := 7, cells := 0, slots := 0, locals := 154 } : Room) s m args below meth c H locs 0 0 Q (F0 m 112 ls []))) (n : Nat) (S : xS) (x10 : Int), M_safe_L122 K112 x1 x3 x4 x5 x6 x7 x8 x9 n S x10 = some (r, S1) → ∀ (H : Heap) (locs : List Loc) (ls : Array Slot), MX DM dA h S s H locs → lv_has ls 11 [(0, .ref (h)), (1, .int (zi (x1))), (3, .int (zi (x3))), (4, .int (zi (x4))), (5, .int (zi (x5))), (6, .int (zi (x6))), (7, .int (zi (x7))), (8, .int (zi (x8))), (9, .int (zi (x9))), (10, .int (zi (x10)))] → W p l e ({ frames := 7, cells := 0, slots := 0, locals := 154 } : Room) s m args below meth c H locs 0 0 Q (F0 m 122 ls []) := by
    intro x1 x3 x4 x5 x6 x7 x8 x9 K112 hK112 n
    induction n with
    | zero => intro S x10 hh; exact no_some hh
    | succ n ih =>
      intro S x10 hh H locs ls hM hl
      replace hh : M_safe_b122 K112 x1 x3 x4 x5 x6 x7 x8 x9 (M_safe_L122 K112 x1 x3 x4 x5 x6 x7 x8 x9 n) S x10 = some (r, S1) := hh
      unfold M_safe_b122 at hh
      have hK122 := ih
      refine lv_iload hx hb dX5_safe_122 (lv_at hl 9 rfl) ?_
      refine lv_iload hx hb dX5_safe_124 (lv_at hl 5 rfl) ?_
      obtain ⟨g34, hh⟩ := gd_inv hh
      refine g_icmp_gt (tgt := 179) hx hb g34 dX5_safe_126 (by decide) (fun c33 => ?_) (fun c33 => ?_)
      · replace hh := it_t c33 hh
        refine lv_aload_n hx hb dX5_safe_129 rfl (lv_at hl 0 rfl) ?_
        refine lv_iload hx hb dX5_safe_130 (lv_at hl 8 rfl) ?_
        refine lv_iload hx hb dX5_safe_132 (lv_at hl 3 rfl) ?_
        obtain ⟨v36, k35, hh⟩ := bd_inv hh
        refine mc_z (rest := []) X hM (wM_isStart l DM dA h S x9 x4 k35) c5_isStart.1 c5_isStart.2 ⟨rfl, rfl⟩ ⟨Nat.le_of_ble_eq_true rfl, Nat.le_of_ble_eq_true rfl⟩ ⟨Nat.zero_le _, Nat.zero_le _⟩ hl.1 (Nat.le_of_ble_eq_true rfl) dX5_safe_134 rfl (fun H locs hM => ?_)
        refine g_bif_eq (tgt := 179) hx hb dX5_safe_137 (by decide) (fun c37 => ?_) (fun c37 => ?_)
        · replace hh := it_t c37 hh
          refine lv_aload_n hx hb dX5_safe_140 rfl (lv_at hl 0 rfl) ?_
          refine lv_iload_n hx hb dX5_safe_141 rfl (lv_at hl 1 rfl) ?_
          refine lv_iload hx hb dX5_safe_142 (lv_at hl 8 rfl) ?_
          refine lv_iload hx hb dX5_safe_144 (lv_at hl 3 rfl) ?_
          refine lv_iload hx hb dX5_safe_146 (lv_at hl 9 rfl) ?_
          refine lv_iload hx hb dX5_safe_148 (lv_at hl 6 rfl) ?_
          obtain ⟨S39, k38, hh⟩ := bd_inv hh
          refine mc_v (rest := []) X hM (wM_run l DM dA h S x1 x9 x4 x10 x7 k38) c5_run.1 c5_run.2 ⟨rfl, rfl⟩ ⟨Nat.le_of_ble_eq_true rfl, Nat.le_of_ble_eq_true rfl⟩ ⟨Nat.zero_le _, Nat.zero_le _⟩ hl.1 (Nat.le_of_ble_eq_true rfl) dX5_safe_150 rfl (fun H locs hM => ?_)
          refine lv_aload_n hx hb dX5_safe_153 rfl (lv_at hl 0 rfl) ?_
          refine mm_get X hM q1207 (mf_33 _ _) dX5_safe_154 ?_
          obtain ⟨g41, hh⟩ := gd_inv hh
          refine g_if_eq (tgt := 173) hx hb g41 dX5_safe_157 (by decide) (fun c40 => ?_) (fun c40 => ?_)
          · replace hh := it_t c40 hh
            obtain ⟨v42, e43⟩ : ∃ z : Int, z = x10 + 1 := ⟨_, rfl⟩
            replace hh := nm_inv hh v42 e43
            refine lv_iinc (v := zi v42) (lv' := [(10, .int (zi (v42))), (0, .ref (h)), (1, .int (zi (x1))), (3, .int (zi (x3))), (4, .int (zi (x4))), (5, .int (zi (x5))), (6, .int (zi (x6))), (7, .int (zi (x7))), (8, .int (zi (x8))), (9, .int (zi (x9)))]) hx hb dX5_safe_173 hl (k := 9) rfl (by rw [e43]; exact zi_add _ _) (by decide) rfl (fun ls hl => ?_)
            refine lv_goto (tgt := 122) hx hb dX5_safe_176 (by decide) ?_
            exact hK122 S39 v42 hh _ _ _ hM (lv_sub hl [1, 2, 3, 4, 5, 6, 7, 8, 9, 0] rfl)
          · replace hh := it_f c40 hh
            refine lv_iload hx hb dX5_safe_160 (lv_at hl 7 rfl) ?_
            obtain ⟨g45, hh⟩ := gd_inv hh
            refine g_if_ne (tgt := 170) hx hb g45 dX5_safe_162 (by decide) (fun c44 => ?_) (fun c44 => ?_)
            · replace hh := it_t c44 hh
              refine lv_iload hx hb dX5_safe_165 (lv_at hl 8 rfl) ?_
              refine lv_goto (tgt := 172) hx hb dX5_safe_167 (by decide) ?_
              exact hret _ _ _ _ _ _ (rt1 hh) (rt2 hh) dX5_safe_172 hM
            · replace hh := it_f c44 hh
              refine lv_iload hx hb dX5_safe_170 (lv_at hl 9 rfl) ?_
              exact hret _ _ _ _ _ _ (rt1 hh) (rt2 hh) dX5_safe_172 hM
        · replace hh := it_f c37 hh
          obtain ⟨v46, e47⟩ : ∃ z : Int, z = x9 + 16 := ⟨_, rfl⟩
          replace hh := nm_inv hh v46 e47
          refine lv_iinc (v := zi v46) (lv' := [(9, .int (zi (v46))), (0, .ref (h)), (1, .int (zi (x1))), (3, .int (zi (x3))), (4, .int (zi (x4))), (5, .int (zi (x5))), (6, .int (zi (x6))), (7, .int (zi (x7))), (8, .int (zi (x8))), (10, .int (zi (x10)))]) hx hb dX5_safe_179 hl (k := 8) rfl (by rw [e47]; exact zi_add _ _) (by decide) rfl (fun ls hl => ?_)
          refine lv_goto (tgt := 112) hx hb dX5_safe_182 (by decide) ?_
          exact hK112 S v46 hh _ _ _ hM (lv_sub hl [1, 2, 3, 4, 5, 6, 7, 8, 0] rfl)
      · replace hh := it_f c33 hh
        obtain ⟨v48, e49⟩ : ∃ z : Int, z = x9 + 16 := ⟨_, rfl⟩
        replace hh := nm_inv hh v48 e49
        refine lv_iinc (v := zi v48) (lv' := [(9, .int (zi (v48))), (0, .ref (h)), (1, .int (zi (x1))), (3, .int (zi (x3))), (4, .int (zi (x4))), (5, .int (zi (x5))), (6, .int (zi (x6))), (7, .int (zi (x7))), (8, .int (zi (x8))), (10, .int (zi (x10)))]) hx hb dX5_safe_179 hl (k := 8) rfl (by rw [e49]; exact zi_add _ _) (by decide) rfl (fun ls hl => ?_)
        refine lv_goto (tgt := 112) hx hb dX5_safe_182 (by decide) ?_
        exact hK112 S v48 hh _ _ _ hM (lv_sub hl [1, 2, 3, 4, 5, 6, 7, 8, 0] rfl)
  have hL112 : ∀ (x1 : Int) (x3 : Int) (x4 : Int) (x5 : Int) (x6 : Int) (x7 : Int) (x8 : Int) (n : Nat) (S : xS) (x9 : Int), M_safe_L112 x1 x3 x4 x5 x6 x7 x8 n S x9 = some (r, S1) → ∀ (H : Heap) (locs : List Loc) (ls : Array Slot), MX DM dA h S s H locs → lv_has ls 11 [(0, .ref (h)), (1, .int (zi (x1))), (3, .int (zi (x3))), (4, .int (zi (x4))), (5, .int (zi (x5))), (6, .int (zi (x6))), (7, .int (zi (x7))), (8, .int (zi (x8))), (9, .int (zi (x9)))] → W p l e ({ frames := 7, cells := 0, slots := 0, locals := 154 } : Room) s m args below meth c H locs 0 0 Q (F0 m 112 ls []) := by
    intro x1 x3 x4 x5 x6 x7 x8  n
    induction n with
    | zero => intro S x9 hh; exact no_some hh
    | succ n ih =>
      intro S x9 hh H locs ls hM hl
      replace hh : M_safe_b112 x1 x3 x4 x5 x6 x7 x8 (M_safe_L112 x1 x3 x4 x5 x6 x7 x8 n) S x9 = some (r, S1) := hh
      unfold M_safe_b112 at hh
      have hK112 := ih
      refine lv_iload hx hb dX5_safe_112 (lv_at hl 8 rfl) ?_
      refine lv_iload_n hx hb dX5_safe_114 rfl (lv_at hl 2 rfl) ?_
      obtain ⟨g32, hh⟩ := gd_inv hh
      refine g_icmp_gt (tgt := 185) hx hb g32 dX5_safe_115 (by decide) (fun c31 => ?_) (fun c31 => ?_)
      · replace hh := it_t c31 hh
        refine lv_iload hx hb dX5_safe_118 (lv_at hl 4 rfl) ?_
        refine lv_istore (lv' := [(10, .int (zi (x5))), (0, .ref (h)), (1, .int (zi (x1))), (3, .int (zi (x3))), (4, .int (zi (x4))), (5, .int (zi (x5))), (6, .int (zi (x6))), (7, .int (zi (x7))), (8, .int (zi (x8))), (9, .int (zi (x9)))]) hx hb dX5_safe_120 hl (by decide) rfl (fun ls hl => ?_)
        exact hL122 x1 x3 x4 x5 x6 x7 x8 x9 _ hK112 FU S x5 hh _ _ _ hM (lv_sub hl [1, 2, 3, 4, 5, 6, 7, 8, 9, 0] rfl)
      · replace hh := it_f c31 hh
        refine lv_iconst (v := zi (-1)) hx hb dX5_safe_185 rfl ?_
        exact hret _ _ _ _ _ _ (rt1 hh) (rt2 hh) dX5_safe_186 hM
  replace hl : lv_has ls 11 [(0, .ref (h)), (1, .int (zi (x1))), (2, .int (zi (x2))), (3, .int (zi (x3))), (4, .int (zi (x4))), (5, .int (zi (x5))), (6, .int (zi (x6))), (7, .int (zi (x7))), (8, .int (zi (x8)))] := hl
  unfold M_safe at hh
  refine lv_aload_n hx hb dX5_safe_0 rfl (lv_at hl 0 rfl) ?_
  refine lv_iload_n hx hb dX5_safe_1 rfl (lv_at hl 1 rfl) ?_
  obtain ⟨v2, k1, hh⟩ := bd_inv hh
  refine mc_z (rest := []) X hM (wM_isRule l DM dA h S x1 k1) c5_isRule.1 c5_isRule.2 ⟨rfl, rfl⟩ ⟨Nat.le_of_ble_eq_true rfl, Nat.le_of_ble_eq_true rfl⟩ ⟨Nat.zero_le _, Nat.zero_le _⟩ hl.1 (Nat.le_of_ble_eq_true rfl) dX5_safe_2 rfl (fun H locs hM => ?_)
  refine g_bif_eq (tgt := 77) hx hb dX5_safe_5 (by decide) (fun c3 => ?_) (fun c3 => ?_)
  · replace hh := it_t c3 hh
    refine lv_aload_n hx hb dX5_safe_8 rfl (lv_at hl 0 rfl) ?_
    refine lv_iload_n hx hb dX5_safe_9 rfl (lv_at hl 2 rfl) ?_
    refine lv_iload hx hb dX5_safe_10 (lv_at hl 4 rfl) ?_
    obtain ⟨v5, k4, hh⟩ := bd_inv hh
    refine mc_z (rest := []) X hM (wM_isPlace l DM dA h S x2 x4 k4) c5_isPlace.1 c5_isPlace.2 ⟨rfl, rfl⟩ ⟨Nat.le_of_ble_eq_true rfl, Nat.le_of_ble_eq_true rfl⟩ ⟨Nat.zero_le _, Nat.zero_le _⟩ hl.1 (Nat.le_of_ble_eq_true rfl) dX5_safe_12 rfl (fun H locs hM => ?_)
    refine g_bif_eq (tgt := 77) hx hb dX5_safe_15 (by decide) (fun c6 => ?_) (fun c6 => ?_)
    · replace hh := it_t c6 hh
      refine lv_aload_n hx hb dX5_safe_18 rfl (lv_at hl 0 rfl) ?_
      refine lv_iload_n hx hb dX5_safe_19 rfl (lv_at hl 3 rfl) ?_
      refine lv_iload hx hb dX5_safe_20 (lv_at hl 4 rfl) ?_
      obtain ⟨v8, k7, hh⟩ := bd_inv hh
      refine mc_z (rest := []) X hM (wM_isPlace l DM dA h S x3 x4 k7) c5_isPlace.1 c5_isPlace.2 ⟨rfl, rfl⟩ ⟨Nat.le_of_ble_eq_true rfl, Nat.le_of_ble_eq_true rfl⟩ ⟨Nat.zero_le _, Nat.zero_le _⟩ hl.1 (Nat.le_of_ble_eq_true rfl) dX5_safe_22 rfl (fun H locs hM => ?_)
      refine g_bif_eq (tgt := 77) hx hb dX5_safe_25 (by decide) (fun c9 => ?_) (fun c9 => ?_)
      · replace hh := it_t c9 hh
        refine lv_iload_n hx hb dX5_safe_28 rfl (lv_at hl 2 rfl) ?_
        refine lv_iload_n hx hb dX5_safe_29 rfl (lv_at hl 3 rfl) ?_
        obtain ⟨g11, hh⟩ := gd_inv hh
        refine g_icmp_gt (tgt := 77) hx hb g11 dX5_safe_30 (by decide) (fun c10 => ?_) (fun c10 => ?_)
        · replace hh := it_t c10 hh
          refine lv_iload hx hb dX5_safe_33 (lv_at hl 5 rfl) ?_
          obtain ⟨v13, k12, hh⟩ := bd_inv hh
          refine mcs_z (rest := []) X hM (wM_isSide l x5 k12) c5_isSide.1 c5_isSide.2 ⟨rfl, rfl⟩ ⟨Nat.le_of_ble_eq_true rfl, Nat.le_of_ble_eq_true rfl⟩ ⟨Nat.zero_le _, Nat.zero_le _⟩ hl.1 (Nat.le_of_ble_eq_true rfl) dX5_safe_35 rfl (fun H locs hM => ?_)
          refine g_bif_eq (tgt := 77) hx hb dX5_safe_38 (by decide) (fun c14 => ?_) (fun c14 => ?_)
          · replace hh := it_t c14 hh
            refine lv_iload hx hb dX5_safe_41 (lv_at hl 6 rfl) ?_
            obtain ⟨v16, k15, hh⟩ := bd_inv hh
            refine mcs_z (rest := []) X hM (wM_isSide l x6 k15) c5_isSide.1 c5_isSide.2 ⟨rfl, rfl⟩ ⟨Nat.le_of_ble_eq_true rfl, Nat.le_of_ble_eq_true rfl⟩ ⟨Nat.zero_le _, Nat.zero_le _⟩ hl.1 (Nat.le_of_ble_eq_true rfl) dX5_safe_43 rfl (fun H locs hM => ?_)
            refine g_bif_eq (tgt := 77) hx hb dX5_safe_46 (by decide) (fun c17 => ?_) (fun c17 => ?_)
            · replace hh := it_t c17 hh
              refine lv_iload hx hb dX5_safe_49 (lv_at hl 5 rfl) ?_
              refine lv_iload hx hb dX5_safe_51 (lv_at hl 6 rfl) ?_
              obtain ⟨g19, hh⟩ := gd_inv hh
              refine g_icmp_gt (tgt := 77) hx hb g19 dX5_safe_53 (by decide) (fun c18 => ?_) (fun c18 => ?_)
              · replace hh := it_t c18 hh
                refine lv_iload hx hb dX5_safe_56 (lv_at hl 7 rfl) ?_
                refine lv_iconst (v := zi 1) hx hb dX5_safe_58 rfl ?_
                refine lv_bipush (v := zi 60) hx hb dX5_safe_59 (by decide) ?_
                obtain ⟨v21, k20, hh⟩ := bd_inv hh
                refine mcs_z (rest := []) X hM (wM_isIn l x7 (1 : Int) (60 : Int) k20) c5_isIn.1 c5_isIn.2 ⟨rfl, rfl⟩ ⟨Nat.le_of_ble_eq_true rfl, Nat.le_of_ble_eq_true rfl⟩ ⟨Nat.zero_le _, Nat.zero_le _⟩ hl.1 (Nat.le_of_ble_eq_true rfl) dX5_safe_61 rfl (fun H locs hM => ?_)
                refine g_bif_eq (tgt := 77) hx hb dX5_safe_64 (by decide) (fun c22 => ?_) (fun c22 => ?_)
                · replace hh := it_t c22 hh
                  refine lv_iload hx hb dX5_safe_67 (lv_at hl 8 rfl) ?_
                  refine lv_iconst (v := zi 0) hx hb dX5_safe_69 rfl ?_
                  refine lv_iconst (v := zi 1) hx hb dX5_safe_70 rfl ?_
                  obtain ⟨v24, k23, hh⟩ := bd_inv hh
                  refine mcs_z (rest := []) X hM (wM_isIn l x8 (0 : Int) (1 : Int) k23) c5_isIn.1 c5_isIn.2 ⟨rfl, rfl⟩ ⟨Nat.le_of_ble_eq_true rfl, Nat.le_of_ble_eq_true rfl⟩ ⟨Nat.zero_le _, Nat.zero_le _⟩ hl.1 (Nat.le_of_ble_eq_true rfl) dX5_safe_71 rfl (fun H locs hM => ?_)
                  refine g_bif_ne (tgt := 79) hx hb dX5_safe_74 (by decide) (fun c25 => ?_) (fun c25 => ?_)
                  · replace hh := it_t c25 hh
                    refine lv_iload_n hx hb dX5_safe_79 rfl (lv_at hl 3 rfl) ?_
                    refine lv_iload_n hx hb dX5_safe_80 rfl (lv_at hl 2 rfl) ?_
                    refine g_isub hx hb dX5_safe_81 ?_
                    refine lv_bipush (v := zi 16) hx hb dX5_safe_82 (by decide) ?_
                    obtain ⟨g26, hh⟩ := gd_inv hh
                    refine g_idiv hx hb ⟨g26, by decide, by decide⟩ dX5_safe_84 ?_
                    refine lv_iconst (v := zi 1) hx hb dX5_safe_85 rfl ?_
                    refine g_iadd hx hb dX5_safe_86 ?_
                    refine lv_iload hx hb dX5_safe_87 (lv_at hl 6 rfl) ?_
                    refine lv_iload hx hb dX5_safe_89 (lv_at hl 5 rfl) ?_
                    refine g_isub hx hb dX5_safe_91 ?_
                    refine lv_iconst (v := zi 1) hx hb dX5_safe_92 rfl ?_
                    refine g_iadd hx hb dX5_safe_93 ?_
                    refine g_imul hx hb dX5_safe_94 ?_
                    refine lv_bipush (v := zi 64) hx hb dX5_safe_95 (by decide) ?_
                    obtain ⟨g28, hh⟩ := gd_inv hh
                    refine g_icmp_le (tgt := 102) hx hb ⟨g28, by decide⟩ dX5_safe_97 (by decide) (fun c27 => ?_) (fun c27 => ?_)
                    · replace hh := it_t c27 hh
                      refine lv_aload_n hx hb dX5_safe_102 rfl (lv_at hl 0 rfl) ?_
                      refine g_ldc2 (v := 1000000) (z := 1000000) hx hb (by decide) hown (hts _ q1546) dX5_safe_103 ?_
                      refine mm_put X hM q1201 (mp_27 _ _ _) dX5_safe_106 (fun H locs S29 e30 hM => ?_)
                      replace hh := nm_inv hh S29 e30
                      refine lv_iload_n hx hb dX5_safe_109 rfl (lv_at hl 2 rfl) ?_
                      refine lv_istore (lv' := [(9, .int (zi (x2))), (0, .ref (h)), (1, .int (zi (x1))), (2, .int (zi (x2))), (3, .int (zi (x3))), (4, .int (zi (x4))), (5, .int (zi (x5))), (6, .int (zi (x6))), (7, .int (zi (x7))), (8, .int (zi (x8)))]) hx hb dX5_safe_110 hl (by decide) rfl (fun ls hl => ?_)
                      exact hL112 x1 x3 x4 x5 x6 x7 x8 FU S29 x2 hh _ _ _ hM (lv_sub hl [1, 2, 4, 5, 6, 7, 8, 9, 0] rfl)
                    · replace hh := it_f c27 hh
                      refine lv_iconst (v := zi (-1)) hx hb dX5_safe_100 rfl ?_
                      exact hret _ _ _ _ _ _ (rt1 hh) (rt2 hh) dX5_safe_101 hM
                  · replace hh := it_f c25 hh
                    refine lv_iconst (v := zi (-1)) hx hb dX5_safe_77 rfl ?_
                    exact hret _ _ _ _ _ _ (rt1 hh) (rt2 hh) dX5_safe_78 hM
                · replace hh := it_f c22 hh
                  refine lv_iconst (v := zi (-1)) hx hb dX5_safe_77 rfl ?_
                  exact hret _ _ _ _ _ _ (rt1 hh) (rt2 hh) dX5_safe_78 hM
              · replace hh := it_f c18 hh
                refine lv_iconst (v := zi (-1)) hx hb dX5_safe_77 rfl ?_
                exact hret _ _ _ _ _ _ (rt1 hh) (rt2 hh) dX5_safe_78 hM
            · replace hh := it_f c17 hh
              refine lv_iconst (v := zi (-1)) hx hb dX5_safe_77 rfl ?_
              exact hret _ _ _ _ _ _ (rt1 hh) (rt2 hh) dX5_safe_78 hM
          · replace hh := it_f c14 hh
            refine lv_iconst (v := zi (-1)) hx hb dX5_safe_77 rfl ?_
            exact hret _ _ _ _ _ _ (rt1 hh) (rt2 hh) dX5_safe_78 hM
        · replace hh := it_f c10 hh
          refine lv_iconst (v := zi (-1)) hx hb dX5_safe_77 rfl ?_
          exact hret _ _ _ _ _ _ (rt1 hh) (rt2 hh) dX5_safe_78 hM
      · replace hh := it_f c9 hh
        refine lv_iconst (v := zi (-1)) hx hb dX5_safe_77 rfl ?_
        exact hret _ _ _ _ _ _ (rt1 hh) (rt2 hh) dX5_safe_78 hM
    · replace hh := it_f c6 hh
      refine lv_iconst (v := zi (-1)) hx hb dX5_safe_77 rfl ?_
      exact hret _ _ _ _ _ _ (rt1 hh) (rt2 hh) dX5_safe_78 hM
  · replace hh := it_f c3 hh
    refine lv_iconst (v := zi (-1)) hx hb dX5_safe_77 rfl ?_
    exact hret _ _ _ _ _ _ (rt1 hh) (rt2 hh) dX5_safe_78 hM
def M_read (S : xS) (x1 : Int) (x2 : Int) (x3 : Int) : Option (Int × xS) := bd (M_isPlace S x1 x2) (fun v2 => if v2 = true then (bd (M_isSide x3) (fun v5 => if v5 = true then (gd (r32 (S.2 2 4)) (if (S.2 2 4) = 6 then (some (((-1) : Int), S)) else (nm (720 + (24 * (S.2 2 4))) (fun v9 => gd ((0 : Int) ≤ v9 ∧ (v9 : Int) < 3170) (nm (aset S 2 v9 x1) (fun S12 => gd ((0 : Int) ≤ v9 + 1 ∧ (v9 + 1 : Int) < 3170) (nm (aset S12 2 (v9 + 1) x2) (fun S15 => gd ((0 : Int) ≤ v9 + 2 ∧ (v9 + 2 : Int) < 3170) (nm (aset S15 2 (v9 + 2) x3) (fun S18 => gd ((0 : Int) ≤ v9 + 3 ∧ (v9 + 3 : Int) < 3170) (nm (aset S18 2 (v9 + 3) (0 : Int)) (fun S21 => nm (aset S21 2 (4 : Int) ((S21.2 2 4) + 1)) (fun S23 => some (((S23.2 2 4) - 1 : Int), S23)))))))))))))) else (some (((-1) : Int), S)))) else (some (((-1) : Int), S)))
set_option maxHeartbeats 4000000 in
theorem wM_read (l : Launch) (DM : va_G) (dA : Nat → ClassId) (h : Nat) (S : xS) (x1 x2 x3 : Int) {r : Int} {S1 : xS} (hh : M_read S x1 x2 x3 = some (r, S1)) : mt_i l yX5_read cX5_read 5 (some .int) ({ frames := 3, cells := 0, slots := 0, locals := 56 } : Room) DM dA h [.int (zi x1), .int (zi x2), .int (zi x3)] S r S1 := by
  refine mo_i (by decide) rfl (Nat.le_of_ble_eq_true rfl) ?_
  intro p e s m args below meth c Q ls X hret hl hM
  have hx := X.1.1
  have hb := X.1.2.1
  have hown := X.1.2.2.2.1
  have hts := X.1.2.2.2.2
  skip
  replace hl : lv_has ls 5 [(0, .ref (h)), (1, .int (zi (x1))), (2, .int (zi (x2))), (3, .int (zi (x3)))] := hl
  unfold M_read at hh
  refine lv_aload_n hx hb dX5_read_0 rfl (lv_at hl 0 rfl) ?_
  refine lv_iload_n hx hb dX5_read_1 rfl (lv_at hl 1 rfl) ?_
  refine lv_iload_n hx hb dX5_read_2 rfl (lv_at hl 2 rfl) ?_
  obtain ⟨v2, k1, hh⟩ := bd_inv hh
  refine mc_z (rest := []) X hM (wM_isPlace l DM dA h S x1 x2 k1) c5_isPlace.1 c5_isPlace.2 ⟨rfl, rfl⟩ ⟨Nat.le_of_ble_eq_true rfl, Nat.le_of_ble_eq_true rfl⟩ ⟨Nat.zero_le _, Nat.zero_le _⟩ hl.1 (Nat.le_of_ble_eq_true rfl) dX5_read_3 rfl (fun H locs hM => ?_)
  refine g_bif_eq (tgt := 27) hx hb dX5_read_6 (by decide) (fun c3 => ?_) (fun c3 => ?_)
  · replace hh := it_t c3 hh
    refine lv_iload_n hx hb dX5_read_9 rfl (lv_at hl 3 rfl) ?_
    obtain ⟨v5, k4, hh⟩ := bd_inv hh
    refine mcs_z (rest := []) X hM (wM_isSide l x3 k4) c5_isSide.1 c5_isSide.2 ⟨rfl, rfl⟩ ⟨Nat.le_of_ble_eq_true rfl, Nat.le_of_ble_eq_true rfl⟩ ⟨Nat.zero_le _, Nat.zero_le _⟩ hl.1 (Nat.le_of_ble_eq_true rfl) dX5_read_10 rfl (fun H locs hM => ?_)
    refine g_bif_eq (tgt := 27) hx hb dX5_read_13 (by decide) (fun c6 => ?_) (fun c6 => ?_)
    · replace hh := it_t c6 hh
      refine lv_aload_n hx hb dX5_read_16 rfl (lv_at hl 0 rfl) ?_
      refine mm_get X hM q1176 (mf_2 _ _) dX5_read_17 ?_
      refine lv_iconst (v := zi 4) hx hb dX5_read_20 rfl ?_
      refine mm_iald X hM (ma_2 _ _) (by decide) dX5_read_21 ?_
      refine lv_bipush (v := zi 6) hx hb dX5_read_22 (by decide) ?_
      obtain ⟨g8, hh⟩ := gd_inv hh
      refine g_icmp_ne (tgt := 29) hx hb ⟨g8, by decide⟩ dX5_read_24 (by decide) (fun c7 => ?_) (fun c7 => ?_)
      · replace hh := it_t c7 hh
        refine lv_iconst (v := zi (-1)) hx hb dX5_read_27 rfl ?_
        exact hret _ _ _ _ _ _ (rt1 hh) (rt2 hh) dX5_read_28 hM
      · replace hh := it_f c7 hh
        refine lv_sipush (v := zi 720) hx hb dX5_read_29 (by decide) ?_
        refine lv_bipush (v := zi 24) hx hb dX5_read_32 (by decide) ?_
        refine lv_aload_n hx hb dX5_read_34 rfl (lv_at hl 0 rfl) ?_
        refine mm_get X hM q1176 (mf_2 _ _) dX5_read_35 ?_
        refine lv_iconst (v := zi 4) hx hb dX5_read_38 rfl ?_
        refine mm_iald X hM (ma_2 _ _) (by decide) dX5_read_39 ?_
        refine g_imul hx hb dX5_read_40 ?_
        refine g_iadd hx hb dX5_read_41 ?_
        refine g_nmi hx hb (fun v9 e10 => ?_)
        replace hh := nm_inv hh v9 e10
        refine lv_istore (lv' := [(4, .int (zi (v9))), (0, .ref (h)), (1, .int (zi (x1))), (2, .int (zi (x2))), (3, .int (zi (x3)))]) hx hb dX5_read_42 hl (by decide) rfl (fun ls hl => ?_)
        refine lv_aload_n hx hb dX5_read_44 rfl (lv_at hl 1 rfl) ?_
        refine mm_get X hM q1176 (mf_2 _ _) dX5_read_45 ?_
        refine lv_iload hx hb dX5_read_48 (lv_at hl 0 rfl) ?_
        refine lv_iload_n hx hb dX5_read_50 rfl (lv_at hl 2 rfl) ?_
        obtain ⟨g11, hh⟩ := gd_inv hh
        refine mm_iast X hM (ma_2 _ _) g11 dX5_read_51 (fun H locs S12 e13 hM => ?_)
        replace hh := nm_inv hh S12 e13
        refine lv_aload_n hx hb dX5_read_52 rfl (lv_at hl 1 rfl) ?_
        refine mm_get X hM q1176 (mf_2 _ _) dX5_read_53 ?_
        refine lv_iload hx hb dX5_read_56 (lv_at hl 0 rfl) ?_
        refine lv_iconst (v := zi 1) hx hb dX5_read_58 rfl ?_
        refine g_iadd hx hb dX5_read_59 ?_
        refine lv_iload_n hx hb dX5_read_60 rfl (lv_at hl 3 rfl) ?_
        obtain ⟨g14, hh⟩ := gd_inv hh
        refine mm_iast X hM (ma_2 _ _) g14 dX5_read_61 (fun H locs S15 e16 hM => ?_)
        replace hh := nm_inv hh S15 e16
        refine lv_aload_n hx hb dX5_read_62 rfl (lv_at hl 1 rfl) ?_
        refine mm_get X hM q1176 (mf_2 _ _) dX5_read_63 ?_
        refine lv_iload hx hb dX5_read_66 (lv_at hl 0 rfl) ?_
        refine lv_iconst (v := zi 2) hx hb dX5_read_68 rfl ?_
        refine g_iadd hx hb dX5_read_69 ?_
        refine lv_iload_n hx hb dX5_read_70 rfl (lv_at hl 4 rfl) ?_
        obtain ⟨g17, hh⟩ := gd_inv hh
        refine mm_iast X hM (ma_2 _ _) g17 dX5_read_71 (fun H locs S18 e19 hM => ?_)
        replace hh := nm_inv hh S18 e19
        refine lv_aload_n hx hb dX5_read_72 rfl (lv_at hl 1 rfl) ?_
        refine mm_get X hM q1176 (mf_2 _ _) dX5_read_73 ?_
        refine lv_iload hx hb dX5_read_76 (lv_at hl 0 rfl) ?_
        refine lv_iconst (v := zi 3) hx hb dX5_read_78 rfl ?_
        refine g_iadd hx hb dX5_read_79 ?_
        refine lv_iconst (v := zi 0) hx hb dX5_read_80 rfl ?_
        obtain ⟨g20, hh⟩ := gd_inv hh
        refine mm_iast X hM (ma_2 _ _) g20 dX5_read_81 (fun H locs S21 e22 hM => ?_)
        replace hh := nm_inv hh S21 e22
        refine lv_aload_n hx hb dX5_read_82 rfl (lv_at hl 1 rfl) ?_
        refine mm_get X hM q1176 (mf_2 _ _) dX5_read_83 ?_
        refine lv_iconst (v := zi 4) hx hb dX5_read_86 rfl ?_
        refine lv_dup2_11 hx hb dX5_read_87 rfl rfl ?_
        refine mm_iald X hM (ma_2 _ _) (by decide) dX5_read_88 ?_
        refine lv_iconst (v := zi 1) hx hb dX5_read_89 rfl ?_
        refine g_iadd hx hb dX5_read_90 ?_
        refine mm_iast X hM (ma_2 _ _) (by decide) dX5_read_91 (fun H locs S23 e24 hM => ?_)
        replace hh := nm_inv hh S23 e24
        refine lv_aload_n hx hb dX5_read_92 rfl (lv_at hl 1 rfl) ?_
        refine mm_get X hM q1176 (mf_2 _ _) dX5_read_93 ?_
        refine lv_iconst (v := zi 4) hx hb dX5_read_96 rfl ?_
        refine mm_iald X hM (ma_2 _ _) (by decide) dX5_read_97 ?_
        refine lv_iconst (v := zi 1) hx hb dX5_read_98 rfl ?_
        refine g_isub hx hb dX5_read_99 ?_
        exact hret _ _ _ _ _ _ (rt1 hh) (rt2 hh) dX5_read_100 hM
    · replace hh := it_f c6 hh
      refine lv_iconst (v := zi (-1)) hx hb dX5_read_27 rfl ?_
      exact hret _ _ _ _ _ _ (rt1 hh) (rt2 hh) dX5_read_28 hM
  · replace hh := it_f c3 hh
    refine lv_iconst (v := zi (-1)) hx hb dX5_read_27 rfl ?_
    exact hret _ _ _ _ _ _ (rt1 hh) (rt2 hh) dX5_read_28 hM
def M_turned (S : xS) (x1 : Int) (x2 : Int) : Option (Int × xS) := bd (M_isIn x1 (0 : Int) ((S.2 2 4) - 1)) (fun v2 => if v2 = true then (bd (M_isIn x2 ((-8) : Int) (8 : Int)) (fun v5 => if v5 = true then (nm (720 + (24 * x1)) (fun v7 => gd ((0 : Int) ≤ v7 + 3 ∧ (v7 + 3 : Int) < 3170) (gd (r32 (S.2 2 (v7 + 3))) (if (S.2 2 (v7 + 3)) = 20 then (some (((-1) : Int), S)) else (gd ((0 : Int) ≤ v7 + 3 ∧ (v7 + 3 : Int) < 3170) (gd ((0 : Int) ≤ (v7 + 4) + (S.2 2 (v7 + 3)) ∧ ((v7 + 4) + (S.2 2 (v7 + 3)) : Int) < 3170) (nm (aset S 2 ((v7 + 4) + (S.2 2 (v7 + 3))) x2) (fun S14 => gd ((0 : Int) ≤ v7 + 3 ∧ (v7 + 3 : Int) < 3170) (gd ((0 : Int) ≤ v7 + 3 ∧ (v7 + 3 : Int) < 3170) (nm (aset S14 2 (v7 + 3) ((S14.2 2 (v7 + 3)) + 1)) (fun S18 => gd ((0 : Int) ≤ v7 + 3 ∧ (v7 + 3 : Int) < 3170) (some ((S18.2 2 (v7 + 3) : Int), S18))))))))))))) else (some (((-1) : Int), S)))) else (some (((-1) : Int), S)))
set_option maxHeartbeats 4000000 in
theorem wM_turned (l : Launch) (DM : va_G) (dA : Nat → ClassId) (h : Nat) (S : xS) (x1 x2 : Int) {r : Int} {S1 : xS} (hh : M_turned S x1 x2 = some (r, S1)) : mt_i l yX5_turned cX5_turned 4 (some .int) ({ frames := 2, cells := 0, slots := 0, locals := 34 } : Room) DM dA h [.int (zi x1), .int (zi x2)] S r S1 := by
  refine mo_i (by decide) rfl (Nat.le_of_ble_eq_true rfl) ?_
  intro p e s m args below meth c Q ls X hret hl hM
  have hx := X.1.1
  have hb := X.1.2.1
  have hown := X.1.2.2.2.1
  have hts := X.1.2.2.2.2
  skip
  replace hl : lv_has ls 4 [(0, .ref (h)), (1, .int (zi (x1))), (2, .int (zi (x2)))] := hl
  unfold M_turned at hh
  refine lv_iload_n hx hb dX5_turned_0 rfl (lv_at hl 1 rfl) ?_
  refine lv_iconst (v := zi 0) hx hb dX5_turned_1 rfl ?_
  refine lv_aload_n hx hb dX5_turned_2 rfl (lv_at hl 0 rfl) ?_
  refine mm_get X hM q1176 (mf_2 _ _) dX5_turned_3 ?_
  refine lv_iconst (v := zi 4) hx hb dX5_turned_6 rfl ?_
  refine mm_iald X hM (ma_2 _ _) (by decide) dX5_turned_7 ?_
  refine lv_iconst (v := zi 1) hx hb dX5_turned_8 rfl ?_
  refine g_isub hx hb dX5_turned_9 ?_
  obtain ⟨v2, k1, hh⟩ := bd_inv hh
  refine mcs_z (rest := []) X hM (wM_isIn l x1 (0 : Int) ((S.2 2 4) - 1) k1) c5_isIn.1 c5_isIn.2 ⟨rfl, rfl⟩ ⟨Nat.le_of_ble_eq_true rfl, Nat.le_of_ble_eq_true rfl⟩ ⟨Nat.zero_le _, Nat.zero_le _⟩ hl.1 (Nat.le_of_ble_eq_true rfl) dX5_turned_10 rfl (fun H locs hM => ?_)
  refine g_bif_eq (tgt := 27) hx hb dX5_turned_13 (by decide) (fun c3 => ?_) (fun c3 => ?_)
  · replace hh := it_t c3 hh
    refine lv_iload_n hx hb dX5_turned_16 rfl (lv_at hl 2 rfl) ?_
    refine lv_bipush (v := zi (-8)) hx hb dX5_turned_17 (by decide) ?_
    refine lv_bipush (v := zi 8) hx hb dX5_turned_19 (by decide) ?_
    obtain ⟨v5, k4, hh⟩ := bd_inv hh
    refine mcs_z (rest := []) X hM (wM_isIn l x2 ((-8) : Int) (8 : Int) k4) c5_isIn.1 c5_isIn.2 ⟨rfl, rfl⟩ ⟨Nat.le_of_ble_eq_true rfl, Nat.le_of_ble_eq_true rfl⟩ ⟨Nat.zero_le _, Nat.zero_le _⟩ hl.1 (Nat.le_of_ble_eq_true rfl) dX5_turned_21 rfl (fun H locs hM => ?_)
    refine g_bif_ne (tgt := 29) hx hb dX5_turned_24 (by decide) (fun c6 => ?_) (fun c6 => ?_)
    · replace hh := it_t c6 hh
      refine lv_sipush (v := zi 720) hx hb dX5_turned_29 (by decide) ?_
      refine lv_bipush (v := zi 24) hx hb dX5_turned_32 (by decide) ?_
      refine lv_iload_n hx hb dX5_turned_34 rfl (lv_at hl 1 rfl) ?_
      refine g_imul hx hb dX5_turned_35 ?_
      refine g_iadd hx hb dX5_turned_36 ?_
      refine g_nmi hx hb (fun v7 e8 => ?_)
      replace hh := nm_inv hh v7 e8
      refine lv_istore_n (lv' := [(3, .int (zi (v7))), (0, .ref (h)), (1, .int (zi (x1))), (2, .int (zi (x2)))]) hx hb dX5_turned_37 rfl hl (by decide) rfl (fun ls hl => ?_)
      refine lv_aload_n hx hb dX5_turned_38 rfl (lv_at hl 1 rfl) ?_
      refine mm_get X hM q1176 (mf_2 _ _) dX5_turned_39 ?_
      refine lv_iload_n hx hb dX5_turned_42 rfl (lv_at hl 0 rfl) ?_
      refine lv_iconst (v := zi 3) hx hb dX5_turned_43 rfl ?_
      refine g_iadd hx hb dX5_turned_44 ?_
      obtain ⟨g9, hh⟩ := gd_inv hh
      refine mm_iald X hM (ma_2 _ _) g9 dX5_turned_45 ?_
      refine lv_bipush (v := zi 20) hx hb dX5_turned_46 (by decide) ?_
      obtain ⟨g11, hh⟩ := gd_inv hh
      refine g_icmp_ne (tgt := 53) hx hb ⟨g11, by decide⟩ dX5_turned_48 (by decide) (fun c10 => ?_) (fun c10 => ?_)
      · replace hh := it_t c10 hh
        refine lv_iconst (v := zi (-1)) hx hb dX5_turned_51 rfl ?_
        exact hret _ _ _ _ _ _ (rt1 hh) (rt2 hh) dX5_turned_52 hM
      · replace hh := it_f c10 hh
        refine lv_aload_n hx hb dX5_turned_53 rfl (lv_at hl 1 rfl) ?_
        refine mm_get X hM q1176 (mf_2 _ _) dX5_turned_54 ?_
        refine lv_iload_n hx hb dX5_turned_57 rfl (lv_at hl 0 rfl) ?_
        refine lv_iconst (v := zi 4) hx hb dX5_turned_58 rfl ?_
        refine g_iadd hx hb dX5_turned_59 ?_
        refine lv_aload_n hx hb dX5_turned_60 rfl (lv_at hl 1 rfl) ?_
        refine mm_get X hM q1176 (mf_2 _ _) dX5_turned_61 ?_
        refine lv_iload_n hx hb dX5_turned_64 rfl (lv_at hl 0 rfl) ?_
        refine lv_iconst (v := zi 3) hx hb dX5_turned_65 rfl ?_
        refine g_iadd hx hb dX5_turned_66 ?_
        obtain ⟨g12, hh⟩ := gd_inv hh
        refine mm_iald X hM (ma_2 _ _) g12 dX5_turned_67 ?_
        refine g_iadd hx hb dX5_turned_68 ?_
        refine lv_iload_n hx hb dX5_turned_69 rfl (lv_at hl 3 rfl) ?_
        obtain ⟨g13, hh⟩ := gd_inv hh
        refine mm_iast X hM (ma_2 _ _) g13 dX5_turned_70 (fun H locs S14 e15 hM => ?_)
        replace hh := nm_inv hh S14 e15
        refine lv_aload_n hx hb dX5_turned_71 rfl (lv_at hl 1 rfl) ?_
        refine mm_get X hM q1176 (mf_2 _ _) dX5_turned_72 ?_
        refine lv_iload_n hx hb dX5_turned_75 rfl (lv_at hl 0 rfl) ?_
        refine lv_iconst (v := zi 3) hx hb dX5_turned_76 rfl ?_
        refine g_iadd hx hb dX5_turned_77 ?_
        refine lv_dup2_11 hx hb dX5_turned_78 rfl rfl ?_
        obtain ⟨g16, hh⟩ := gd_inv hh
        refine mm_iald X hM (ma_2 _ _) g16 dX5_turned_79 ?_
        refine lv_iconst (v := zi 1) hx hb dX5_turned_80 rfl ?_
        refine g_iadd hx hb dX5_turned_81 ?_
        obtain ⟨g17, hh⟩ := gd_inv hh
        refine mm_iast X hM (ma_2 _ _) g17 dX5_turned_82 (fun H locs S18 e19 hM => ?_)
        replace hh := nm_inv hh S18 e19
        refine lv_aload_n hx hb dX5_turned_83 rfl (lv_at hl 1 rfl) ?_
        refine mm_get X hM q1176 (mf_2 _ _) dX5_turned_84 ?_
        refine lv_iload_n hx hb dX5_turned_87 rfl (lv_at hl 0 rfl) ?_
        refine lv_iconst (v := zi 3) hx hb dX5_turned_88 rfl ?_
        refine g_iadd hx hb dX5_turned_89 ?_
        obtain ⟨g20, hh⟩ := gd_inv hh
        refine mm_iald X hM (ma_2 _ _) g20 dX5_turned_90 ?_
        exact hret _ _ _ _ _ _ (rt1 hh) (rt2 hh) dX5_turned_91 hM
    · replace hh := it_f c6 hh
      refine lv_iconst (v := zi (-1)) hx hb dX5_turned_27 rfl ?_
      exact hret _ _ _ _ _ _ (rt1 hh) (rt2 hh) dX5_turned_28 hM
  · replace hh := it_f c3 hh
    refine lv_iconst (v := zi (-1)) hx hb dX5_turned_27 rfl ?_
    exact hret _ _ _ _ _ _ (rt1 hh) (rt2 hh) dX5_turned_28 hM
def M_isKept_b106 (K9 : xS → Int → Option (Bool × xS)) (x1 : Int) (x2 : Int) (x3 : Int) (K106 : xS → Int → Option (Bool × xS)) (S : xS) (x4 : Int) : Option (Bool × xS) := gd (r32 (x4) ∧ r32 (S.1 29)) (if x4 < (S.1 29) then (gd ((0 : Int) ≤ 38 * x4 ∧ (38 * x4 : Int) < 2280) (gd ((0 : Int) ≤ (x3 + 4) + x4 ∧ ((x3 + 4) + x4 : Int) < 3170) (gd (r32 (S.2 35 (38 * x4)) ∧ r32 (S.2 2 ((x3 + 4) + x4))) (if (S.2 35 (38 * x4)) = (S.2 2 ((x3 + 4) + x4)) then (nm ((x4 + 1) : Int) (fun v27 => K106 S v27)) else (some (false, S)))))) else (nm ((x2 + 1) : Int) (fun v29 => K9 S v29)))
def M_isKept_L106 (K9 : xS → Int → Option (Bool × xS)) (x1 : Int) (x2 : Int) (x3 : Int) : Nat → xS → Int → Option (Bool × xS)
  | 0 => fun _ _ => none
  | n + 1 => fun S x4 => M_isKept_b106 K9 x1 x2 x3 (M_isKept_L106 K9 x1 x2 x3 n) S x4
def M_isKept_b9 (x1 : Int) (K9 : xS → Int → Option (Bool × xS)) (S : xS) (x2 : Int) : Option (Bool × xS) := gd (r32 (x2) ∧ r32 (S.2 2 4)) (if x2 < (S.2 2 4) then (nm (720 + (24 * x2)) (fun v5 => gd ((0 : Int) ≤ v5 ∧ (v5 : Int) < 3170) (gd ((0 : Int) ≤ v5 + 1 ∧ (v5 + 1 : Int) < 3170) (bd (M_isStart S (S.2 2 v5) (S.2 2 (v5 + 1))) (fun v10 => if v10 = true then (gd ((0 : Int) ≤ v5 ∧ (v5 : Int) < 3170) (gd ((0 : Int) ≤ v5 + 1 ∧ (v5 + 1 : Int) < 3170) (gd ((0 : Int) ≤ v5 + 2 ∧ (v5 + 2 : Int) < 3170) (gd ((0 : Int) ≤ v5 + 3 ∧ (v5 + 3 : Int) < 3170) (bd (M_run S x1 (S.2 2 v5) (S.2 2 (v5 + 1)) (S.2 2 (v5 + 2)) (S.2 2 (v5 + 3))) (fun S17 => gd ((0 : Int) ≤ v5 + 3 ∧ (v5 + 3 : Int) < 3170) (gd (r32 (S17.1 29) ∧ r32 (S17.2 2 (v5 + 3))) (if (S17.1 29) < (S17.2 2 (v5 + 3)) then (some (false, S17)) else (M_isKept_L106 K9 x1 x2 v5 FU S17 (0 : Int)))))))))) else (some (false, S))))))) else (some (true, S)))
def M_isKept_L9 (x1 : Int) : Nat → xS → Int → Option (Bool × xS)
  | 0 => fun _ _ => none
  | n + 1 => fun S x2 => M_isKept_b9 x1 (M_isKept_L9 x1 n) S x2
def M_isKept (S : xS) (x1 : Int) : Option (Bool × xS) := nm (fset S 27 (1000000)) (fun S1 => M_isKept_L9 x1 FU S1 (0 : Int))
set_option maxHeartbeats 4000000 in
theorem wM_isKept (l : Launch) (DM : va_G) (dA : Nat → ClassId) (h : Nat) (S : xS) (x1 : Int) {r : Bool} {S1 : xS} (hh : M_isKept S x1 = some (r, S1)) : mt_z l yX5_isKept cX5_isKept 5 (some .boolean) ({ frames := 7, cells := 0, slots := 0, locals := 154 } : Room) DM dA h [.int (zi x1)] S r S1 := by
  refine mo_z (by decide) rfl (Nat.le_of_ble_eq_true rfl) ?_
  intro p e s m args below meth c Q ls X hret hl hM
  have hx := X.1.1
  have hb := X.1.2.1
  have hown := X.1.2.2.2.1
  have hts := X.1.2.2.2.2
  skip
  have hL106 : ∀ (x1 : Int) (x2 : Int) (x3 : Int) (K9 : xS → Int → Option (Bool × xS)) (hK9 : (∀ (S : xS) (x2 : Int), K9 S x2 = some (r, S1) → ∀ (H : Heap) (locs : List Loc) (ls : Array Slot), MX DM dA h S s H locs → lv_has ls 5 [(0, .ref (h)), (1, .int (zi (x1))), (2, .int (zi (x2)))] → W p l e ({ frames := 7, cells := 0, slots := 0, locals := 154 } : Room) s m args below meth c H locs 0 0 Q (F0 m 9 ls []))) (n : Nat) (S : xS) (x4 : Int), M_isKept_L106 K9 x1 x2 x3 n S x4 = some (r, S1) → ∀ (H : Heap) (locs : List Loc) (ls : Array Slot), MX DM dA h S s H locs → lv_has ls 5 [(0, .ref (h)), (1, .int (zi (x1))), (2, .int (zi (x2))), (3, .int (zi (x3))), (4, .int (zi (x4)))] → W p l e ({ frames := 7, cells := 0, slots := 0, locals := 154 } : Room) s m args below meth c H locs 0 0 Q (F0 m 106 ls []) := by
    intro x1 x2 x3 K9 hK9 n
    induction n with
    | zero => intro S x4 hh; exact no_some hh
    | succ n ih =>
      intro S x4 hh H locs ls hM hl
      replace hh : M_isKept_b106 K9 x1 x2 x3 (M_isKept_L106 K9 x1 x2 x3 n) S x4 = some (r, S1) := hh
      unfold M_isKept_b106 at hh
      have hK106 := ih
      refine lv_iload hx hb dX5_isKept_106 (lv_at hl 4 rfl) ?_
      refine lv_aload_n hx hb dX5_isKept_108 rfl (lv_at hl 0 rfl) ?_
      refine mm_get X hM q1203 (mf_29 _ _) dX5_isKept_109 ?_
      obtain ⟨g22, hh⟩ := gd_inv hh
      refine g_icmp_ge (tgt := 147) hx hb g22 dX5_isKept_112 (by decide) (fun c21 => ?_) (fun c21 => ?_)
      · replace hh := it_t c21 hh
        refine lv_aload_n hx hb dX5_isKept_115 rfl (lv_at hl 0 rfl) ?_
        refine mm_get X hM q1209 (mf_35 _ _) dX5_isKept_116 ?_
        refine lv_bipush (v := zi 38) hx hb dX5_isKept_119 (by decide) ?_
        refine lv_iload hx hb dX5_isKept_121 (lv_at hl 4 rfl) ?_
        refine g_imul hx hb dX5_isKept_123 ?_
        obtain ⟨g23, hh⟩ := gd_inv hh
        refine mm_iald X hM (ma_35 _ _) g23 dX5_isKept_124 ?_
        refine lv_aload_n hx hb dX5_isKept_125 rfl (lv_at hl 0 rfl) ?_
        refine mm_get X hM q1176 (mf_2 _ _) dX5_isKept_126 ?_
        refine lv_iload_n hx hb dX5_isKept_129 rfl (lv_at hl 3 rfl) ?_
        refine lv_iconst (v := zi 4) hx hb dX5_isKept_130 rfl ?_
        refine g_iadd hx hb dX5_isKept_131 ?_
        refine lv_iload hx hb dX5_isKept_132 (lv_at hl 4 rfl) ?_
        refine g_iadd hx hb dX5_isKept_134 ?_
        obtain ⟨g24, hh⟩ := gd_inv hh
        refine mm_iald X hM (ma_2 _ _) g24 dX5_isKept_135 ?_
        obtain ⟨g26, hh⟩ := gd_inv hh
        refine g_icmp_eq (tgt := 141) hx hb g26 dX5_isKept_136 (by decide) (fun c25 => ?_) (fun c25 => ?_)
        · replace hh := it_t c25 hh
          obtain ⟨v27, e28⟩ : ∃ z : Int, z = x4 + 1 := ⟨_, rfl⟩
          replace hh := nm_inv hh v27 e28
          refine lv_iinc (v := zi v27) (lv' := [(4, .int (zi (v27))), (0, .ref (h)), (1, .int (zi (x1))), (2, .int (zi (x2))), (3, .int (zi (x3)))]) hx hb dX5_isKept_141 hl (k := 4) rfl (by rw [e28]; exact zi_add _ _) (by decide) rfl (fun ls hl => ?_)
          refine lv_goto (tgt := 106) hx hb dX5_isKept_144 (by decide) ?_
          exact hK106 S v27 hh _ _ _ hM (lv_sub hl [1, 2, 3, 4, 0] rfl)
        · replace hh := it_f c25 hh
          refine lv_iconst (v := zi 0) hx hb dX5_isKept_139 rfl ?_
          refine W.eq (g2 := F0 m 140 ls [.int (zi (bz false))]) rfl ?_
          exact hret _ _ _ _ _ _ (rt1 hh) (rt2 hh) dX5_isKept_140 hM
      · replace hh := it_f c21 hh
        obtain ⟨v29, e30⟩ : ∃ z : Int, z = x2 + 1 := ⟨_, rfl⟩
        replace hh := nm_inv hh v29 e30
        refine lv_iinc (v := zi v29) (lv' := [(2, .int (zi (v29))), (0, .ref (h)), (1, .int (zi (x1))), (3, .int (zi (x3))), (4, .int (zi (x4)))]) hx hb dX5_isKept_147 hl (k := 2) rfl (by rw [e30]; exact zi_add _ _) (by decide) rfl (fun ls hl => ?_)
        refine lv_goto (tgt := 9) hx hb dX5_isKept_150 (by decide) ?_
        exact hK9 S v29 hh _ _ _ hM (lv_sub hl [1, 2, 0] rfl)
  have hL9 : ∀ (x1 : Int) (n : Nat) (S : xS) (x2 : Int), M_isKept_L9 x1 n S x2 = some (r, S1) → ∀ (H : Heap) (locs : List Loc) (ls : Array Slot), MX DM dA h S s H locs → lv_has ls 5 [(0, .ref (h)), (1, .int (zi (x1))), (2, .int (zi (x2)))] → W p l e ({ frames := 7, cells := 0, slots := 0, locals := 154 } : Room) s m args below meth c H locs 0 0 Q (F0 m 9 ls []) := by
    intro x1  n
    induction n with
    | zero => intro S x2 hh; exact no_some hh
    | succ n ih =>
      intro S x2 hh H locs ls hM hl
      replace hh : M_isKept_b9 x1 (M_isKept_L9 x1 n) S x2 = some (r, S1) := hh
      unfold M_isKept_b9 at hh
      have hK9 := ih
      refine lv_iload_n hx hb dX5_isKept_9 rfl (lv_at hl 2 rfl) ?_
      refine lv_aload_n hx hb dX5_isKept_10 rfl (lv_at hl 0 rfl) ?_
      refine mm_get X hM q1176 (mf_2 _ _) dX5_isKept_11 ?_
      refine lv_iconst (v := zi 4) hx hb dX5_isKept_14 rfl ?_
      refine mm_iald X hM (ma_2 _ _) (by decide) dX5_isKept_15 ?_
      obtain ⟨g4, hh⟩ := gd_inv hh
      refine g_icmp_ge (tgt := 153) hx hb g4 dX5_isKept_16 (by decide) (fun c3 => ?_) (fun c3 => ?_)
      · replace hh := it_t c3 hh
        refine lv_sipush (v := zi 720) hx hb dX5_isKept_19 (by decide) ?_
        refine lv_bipush (v := zi 24) hx hb dX5_isKept_22 (by decide) ?_
        refine lv_iload_n hx hb dX5_isKept_24 rfl (lv_at hl 2 rfl) ?_
        refine g_imul hx hb dX5_isKept_25 ?_
        refine g_iadd hx hb dX5_isKept_26 ?_
        refine g_nmi hx hb (fun v5 e6 => ?_)
        replace hh := nm_inv hh v5 e6
        refine lv_istore_n (lv' := [(3, .int (zi (v5))), (0, .ref (h)), (1, .int (zi (x1))), (2, .int (zi (x2)))]) hx hb dX5_isKept_27 rfl hl (by decide) rfl (fun ls hl => ?_)
        refine lv_aload_n hx hb dX5_isKept_28 rfl (lv_at hl 1 rfl) ?_
        refine lv_aload_n hx hb dX5_isKept_29 rfl (lv_at hl 1 rfl) ?_
        refine mm_get X hM q1176 (mf_2 _ _) dX5_isKept_30 ?_
        refine lv_iload_n hx hb dX5_isKept_33 rfl (lv_at hl 0 rfl) ?_
        obtain ⟨g7, hh⟩ := gd_inv hh
        refine mm_iald X hM (ma_2 _ _) g7 dX5_isKept_34 ?_
        refine lv_aload_n hx hb dX5_isKept_35 rfl (lv_at hl 1 rfl) ?_
        refine mm_get X hM q1176 (mf_2 _ _) dX5_isKept_36 ?_
        refine lv_iload_n hx hb dX5_isKept_39 rfl (lv_at hl 0 rfl) ?_
        refine lv_iconst (v := zi 1) hx hb dX5_isKept_40 rfl ?_
        refine g_iadd hx hb dX5_isKept_41 ?_
        obtain ⟨g8, hh⟩ := gd_inv hh
        refine mm_iald X hM (ma_2 _ _) g8 dX5_isKept_42 ?_
        obtain ⟨v10, k9, hh⟩ := bd_inv hh
        refine mc_z (rest := []) X hM (wM_isStart l DM dA h S (S.2 2 v5) (S.2 2 (v5 + 1)) k9) c5_isStart.1 c5_isStart.2 ⟨rfl, rfl⟩ ⟨Nat.le_of_ble_eq_true rfl, Nat.le_of_ble_eq_true rfl⟩ ⟨Nat.zero_le _, Nat.zero_le _⟩ hl.1 (Nat.le_of_ble_eq_true rfl) dX5_isKept_43 rfl (fun H locs hM => ?_)
        refine g_bif_ne (tgt := 51) hx hb dX5_isKept_46 (by decide) (fun c11 => ?_) (fun c11 => ?_)
        · replace hh := it_t c11 hh
          refine lv_aload_n hx hb dX5_isKept_51 rfl (lv_at hl 1 rfl) ?_
          refine lv_iload_n hx hb dX5_isKept_52 rfl (lv_at hl 2 rfl) ?_
          refine lv_aload_n hx hb dX5_isKept_53 rfl (lv_at hl 1 rfl) ?_
          refine mm_get X hM q1176 (mf_2 _ _) dX5_isKept_54 ?_
          refine lv_iload_n hx hb dX5_isKept_57 rfl (lv_at hl 0 rfl) ?_
          obtain ⟨g12, hh⟩ := gd_inv hh
          refine mm_iald X hM (ma_2 _ _) g12 dX5_isKept_58 ?_
          refine lv_aload_n hx hb dX5_isKept_59 rfl (lv_at hl 1 rfl) ?_
          refine mm_get X hM q1176 (mf_2 _ _) dX5_isKept_60 ?_
          refine lv_iload_n hx hb dX5_isKept_63 rfl (lv_at hl 0 rfl) ?_
          refine lv_iconst (v := zi 1) hx hb dX5_isKept_64 rfl ?_
          refine g_iadd hx hb dX5_isKept_65 ?_
          obtain ⟨g13, hh⟩ := gd_inv hh
          refine mm_iald X hM (ma_2 _ _) g13 dX5_isKept_66 ?_
          refine lv_aload_n hx hb dX5_isKept_67 rfl (lv_at hl 1 rfl) ?_
          refine mm_get X hM q1176 (mf_2 _ _) dX5_isKept_68 ?_
          refine lv_iload_n hx hb dX5_isKept_71 rfl (lv_at hl 0 rfl) ?_
          refine lv_iconst (v := zi 2) hx hb dX5_isKept_72 rfl ?_
          refine g_iadd hx hb dX5_isKept_73 ?_
          obtain ⟨g14, hh⟩ := gd_inv hh
          refine mm_iald X hM (ma_2 _ _) g14 dX5_isKept_74 ?_
          refine lv_aload_n hx hb dX5_isKept_75 rfl (lv_at hl 1 rfl) ?_
          refine mm_get X hM q1176 (mf_2 _ _) dX5_isKept_76 ?_
          refine lv_iload_n hx hb dX5_isKept_79 rfl (lv_at hl 0 rfl) ?_
          refine lv_iconst (v := zi 3) hx hb dX5_isKept_80 rfl ?_
          refine g_iadd hx hb dX5_isKept_81 ?_
          obtain ⟨g15, hh⟩ := gd_inv hh
          refine mm_iald X hM (ma_2 _ _) g15 dX5_isKept_82 ?_
          obtain ⟨S17, k16, hh⟩ := bd_inv hh
          refine mc_v (rest := []) X hM (wM_run l DM dA h S x1 (S.2 2 v5) (S.2 2 (v5 + 1)) (S.2 2 (v5 + 2)) (S.2 2 (v5 + 3)) k16) c5_run.1 c5_run.2 ⟨rfl, rfl⟩ ⟨Nat.le_of_ble_eq_true rfl, Nat.le_of_ble_eq_true rfl⟩ ⟨Nat.zero_le _, Nat.zero_le _⟩ hl.1 (Nat.le_of_ble_eq_true rfl) dX5_isKept_83 rfl (fun H locs hM => ?_)
          refine lv_aload_n hx hb dX5_isKept_86 rfl (lv_at hl 1 rfl) ?_
          refine mm_get X hM q1203 (mf_29 _ _) dX5_isKept_87 ?_
          refine lv_aload_n hx hb dX5_isKept_90 rfl (lv_at hl 1 rfl) ?_
          refine mm_get X hM q1176 (mf_2 _ _) dX5_isKept_91 ?_
          refine lv_iload_n hx hb dX5_isKept_94 rfl (lv_at hl 0 rfl) ?_
          refine lv_iconst (v := zi 3) hx hb dX5_isKept_95 rfl ?_
          refine g_iadd hx hb dX5_isKept_96 ?_
          obtain ⟨g18, hh⟩ := gd_inv hh
          refine mm_iald X hM (ma_2 _ _) g18 dX5_isKept_97 ?_
          obtain ⟨g20, hh⟩ := gd_inv hh
          refine g_icmp_ge (tgt := 103) hx hb g20 dX5_isKept_98 (by decide) (fun c19 => ?_) (fun c19 => ?_)
          · replace hh := it_t c19 hh
            refine lv_iconst (v := zi 0) hx hb dX5_isKept_101 rfl ?_
            refine W.eq (g2 := F0 m 102 ls [.int (zi (bz false))]) rfl ?_
            exact hret _ _ _ _ _ _ (rt1 hh) (rt2 hh) dX5_isKept_102 hM
          · replace hh := it_f c19 hh
            refine lv_iconst (v := zi 0) hx hb dX5_isKept_103 rfl ?_
            refine lv_istore (lv' := [(4, .int (zi (0))), (3, .int (zi (v5))), (0, .ref (h)), (1, .int (zi (x1))), (2, .int (zi (x2)))]) hx hb dX5_isKept_104 hl (by decide) rfl (fun ls hl => ?_)
            exact hL106 x1 x2 v5 _ hK9 FU S17 (0 : Int) hh _ _ _ hM (lv_sub hl [2, 3, 4, 1, 0] rfl)
        · replace hh := it_f c11 hh
          refine lv_iconst (v := zi 0) hx hb dX5_isKept_49 rfl ?_
          refine W.eq (g2 := F0 m 50 ls [.int (zi (bz false))]) rfl ?_
          exact hret _ _ _ _ _ _ (rt1 hh) (rt2 hh) dX5_isKept_50 hM
      · replace hh := it_f c3 hh
        refine lv_iconst (v := zi 1) hx hb dX5_isKept_153 rfl ?_
        refine W.eq (g2 := F0 m 154 ls [.int (zi (bz true))]) rfl ?_
        exact hret _ _ _ _ _ _ (rt1 hh) (rt2 hh) dX5_isKept_154 hM
  replace hl : lv_has ls 5 [(0, .ref (h)), (1, .int (zi (x1)))] := hl
  unfold M_isKept at hh
  refine lv_aload_n hx hb dX5_isKept_0 rfl (lv_at hl 0 rfl) ?_
  refine g_ldc2 (v := 1000000) (z := 1000000) hx hb (by decide) hown (hts _ q1546) dX5_isKept_1 ?_
  refine mm_put X hM q1201 (mp_27 _ _ _) dX5_isKept_4 (fun H locs S1 e2 hM => ?_)
  replace hh := nm_inv hh S1 e2
  refine lv_iconst (v := zi 0) hx hb dX5_isKept_7 rfl ?_
  refine lv_istore_n (lv' := [(2, .int (zi (0))), (0, .ref (h)), (1, .int (zi (x1)))]) hx hb dX5_isKept_8 rfl hl (by decide) rfl (fun ls hl => ?_)
  exact hL9 x1 FU S1 (0 : Int) hh _ _ _ hM (lv_sub hl [1, 2, 0] rfl)
def M_kept_B59 (K35 : xS → Int → Int → Option (Int × xS)) (S : xS) (x3 : Int) (t0 : Int) (t1 : Int) : Option (Int × xS) := nm (t1 + t0) (fun v9 => nm ((x3 + 1) : Int) (fun v11 => K35 S v9 v11))
def M_kept_b35 (K35 : xS → Int → Int → Option (Int × xS)) (S : xS) (x2 : Int) (x3 : Int) : Option (Int × xS) := gd (r32 (x3) ∧ r32 (S.2 2 3)) (if x3 < (S.2 2 3) then (bd2 (M_isKept S x3) (fun v6 S7 => if v6 = true then (M_kept_B59 K35 S7 x3 (1 : Int) x2) else (M_kept_B59 K35 S7 x3 (0 : Int) x2))) else (some ((x2 : Int), S)))
def M_kept_L35 : Nat → xS → Int → Int → Option (Int × xS)
  | 0 => fun _ _ _ => none
  | n + 1 => fun S x2 x3 => M_kept_b35  (M_kept_L35  n) S x2 x3
def M_kept (S : xS) (x1 : Int) : Option (Int × xS) := gd (r32 (x1)) (if x1 = (-1) then (M_kept_L35 FU S (0 : Int) (0 : Int)) else (bd (M_isRule S x1) (fun v14 => if v14 = true then (bd2 (M_isKept S x1) (fun v17 S18 => if v17 = true then (some ((1 : Int), S18)) else (some ((0 : Int), S18)))) else (some (((-1) : Int), S)))))
set_option maxHeartbeats 4000000 in
theorem wM_kept (l : Launch) (DM : va_G) (dA : Nat → ClassId) (h : Nat) (S : xS) (x1 : Int) {r : Int} {S1 : xS} (hh : M_kept S x1 = some (r, S1)) : mt_i l yX5_kept cX5_kept 4 (some .int) ({ frames := 8, cells := 0, slots := 0, locals := 178 } : Room) DM dA h [.int (zi x1)] S r S1 := by
  refine mo_i (by decide) rfl (Nat.le_of_ble_eq_true rfl) ?_
  intro p e s m args below meth c Q ls X hret hl hM
  have hx := X.1.1
  have hb := X.1.2.1
  have hown := X.1.2.2.2.1
  have hts := X.1.2.2.2.2
  skip
  have hB59 : ∀ (x3 : Int) (t0 : Int) (t1 : Int) (K35 : xS → Int → Int → Option (Int × xS)) (hK35 : (∀ (S : xS) (x2 : Int) (x3 : Int), K35 S x2 x3 = some (r, S1) → ∀ (H : Heap) (locs : List Loc) (ls : Array Slot), MX DM dA h S s H locs → lv_has ls 4 [(0, .ref (h)), (2, .int (zi (x2))), (3, .int (zi (x3)))] → W p l e ({ frames := 8, cells := 0, slots := 0, locals := 178 } : Room) s m args below meth c H locs 0 0 Q (F0 m 35 ls []))) (S : xS), M_kept_B59 K35 S x3 t0 t1 = some (r, S1) → ∀ (H : Heap) (locs : List Loc) (ls : Array Slot), MX DM dA h S s H locs → lv_has ls 4 [(0, .ref (h)), (3, .int (zi (x3)))] → W p l e ({ frames := 8, cells := 0, slots := 0, locals := 178 } : Room) s m args below meth c H locs 0 0 Q (F0 m 59 ls [.int (zi (t0)), .int (zi (t1))]) := by
    intro x3 t0 t1 K35 hK35 S hh H locs ls hM hl
    unfold M_kept_B59 at hh
    refine g_iadd hx hb dX5_kept_59 ?_
    refine g_nmi hx hb (fun v9 e10 => ?_)
    replace hh := nm_inv hh v9 e10
    refine lv_istore_n (lv' := [(2, .int (zi (v9))), (0, .ref (h)), (3, .int (zi (x3)))]) hx hb dX5_kept_60 rfl hl (by decide) rfl (fun ls hl => ?_)
    obtain ⟨v11, e12⟩ : ∃ z : Int, z = x3 + 1 := ⟨_, rfl⟩
    replace hh := nm_inv hh v11 e12
    refine lv_iinc (v := zi v11) (lv' := [(3, .int (zi (v11))), (2, .int (zi (v9))), (0, .ref (h))]) hx hb dX5_kept_61 hl (k := 2) rfl (by rw [e12]; exact zi_add _ _) (by decide) rfl (fun ls hl => ?_)
    refine lv_goto (tgt := 35) hx hb dX5_kept_64 (by decide) ?_
    exact hK35 S v9 v11 hh _ _ _ hM (lv_sub hl [2, 1, 0] rfl)
  have hL35 : ∀ (n : Nat) (S : xS) (x2 : Int) (x3 : Int), M_kept_L35 n S x2 x3 = some (r, S1) → ∀ (H : Heap) (locs : List Loc) (ls : Array Slot), MX DM dA h S s H locs → lv_has ls 4 [(0, .ref (h)), (2, .int (zi (x2))), (3, .int (zi (x3)))] → W p l e ({ frames := 8, cells := 0, slots := 0, locals := 178 } : Room) s m args below meth c H locs 0 0 Q (F0 m 35 ls []) := by
    intro   n
    induction n with
    | zero => intro S x2 x3 hh; exact no_some hh
    | succ n ih =>
      intro S x2 x3 hh H locs ls hM hl
      replace hh : M_kept_b35 (M_kept_L35 n) S x2 x3 = some (r, S1) := hh
      unfold M_kept_b35 at hh
      have hK35 := ih
      refine lv_iload_n hx hb dX5_kept_35 rfl (lv_at hl 2 rfl) ?_
      refine lv_aload_n hx hb dX5_kept_36 rfl (lv_at hl 0 rfl) ?_
      refine mm_get X hM q1176 (mf_2 _ _) dX5_kept_37 ?_
      refine lv_iconst (v := zi 3) hx hb dX5_kept_40 rfl ?_
      refine mm_iald X hM (ma_2 _ _) (by decide) dX5_kept_41 ?_
      obtain ⟨g4, hh⟩ := gd_inv hh
      refine g_icmp_ge (tgt := 67) hx hb g4 dX5_kept_42 (by decide) (fun c3 => ?_) (fun c3 => ?_)
      · replace hh := it_t c3 hh
        refine lv_iload_n hx hb dX5_kept_45 rfl (lv_at hl 1 rfl) ?_
        refine lv_aload_n hx hb dX5_kept_46 rfl (lv_at hl 0 rfl) ?_
        refine lv_iload_n hx hb dX5_kept_47 rfl (lv_at hl 2 rfl) ?_
        obtain ⟨v6, S7, k5, hh⟩ := bd2_inv hh
        refine mc_z (rest := [.int (zi (x2))]) X hM (wM_isKept l DM dA h S x3 k5) c5_isKept.1 c5_isKept.2 ⟨rfl, rfl⟩ ⟨Nat.le_of_ble_eq_true rfl, Nat.le_of_ble_eq_true rfl⟩ ⟨Nat.zero_le _, Nat.zero_le _⟩ hl.1 (Nat.le_of_ble_eq_true rfl) dX5_kept_48 rfl (fun H locs hM => ?_)
        refine g_bif_eq (tgt := 58) hx hb dX5_kept_51 (by decide) (fun c8 => ?_) (fun c8 => ?_)
        · replace hh := it_t c8 hh
          refine lv_iconst (v := zi 1) hx hb dX5_kept_54 rfl ?_
          refine lv_goto (tgt := 59) hx hb dX5_kept_55 (by decide) ?_
          exact hB59 x3 (1 : Int) x2 _ hK35 S7 hh _ _ _ hM (lv_sub hl [0, 2] rfl)
        · replace hh := it_f c8 hh
          refine lv_iconst (v := zi 0) hx hb dX5_kept_58 rfl ?_
          exact hB59 x3 (0 : Int) x2 _ hK35 S7 hh _ _ _ hM (lv_sub hl [0, 2] rfl)
      · replace hh := it_f c3 hh
        refine lv_iload_n hx hb dX5_kept_67 rfl (lv_at hl 1 rfl) ?_
        exact hret _ _ _ _ _ _ (rt1 hh) (rt2 hh) dX5_kept_68 hM
  replace hl : lv_has ls 4 [(0, .ref (h)), (1, .int (zi (x1)))] := hl
  unfold M_kept at hh
  refine lv_iload_n hx hb dX5_kept_0 rfl (lv_at hl 1 rfl) ?_
  refine lv_iconst (v := zi (-1)) hx hb dX5_kept_1 rfl ?_
  obtain ⟨g2, hh⟩ := gd_inv hh
  refine g_icmp_eq (tgt := 31) hx hb ⟨g2, by decide⟩ dX5_kept_2 (by decide) (fun c1 => ?_) (fun c1 => ?_)
  · replace hh := it_t c1 hh
    refine lv_iconst (v := zi 0) hx hb dX5_kept_31 rfl ?_
    refine lv_istore_n (lv' := [(2, .int (zi (0))), (0, .ref (h)), (1, .int (zi (x1)))]) hx hb dX5_kept_32 rfl hl (by decide) rfl (fun ls hl => ?_)
    refine lv_iconst (v := zi 0) hx hb dX5_kept_33 rfl ?_
    refine lv_istore_n (lv' := [(3, .int (zi (0))), (2, .int (zi (0))), (0, .ref (h)), (1, .int (zi (x1)))]) hx hb dX5_kept_34 rfl hl (by decide) rfl (fun ls hl => ?_)
    exact hL35 FU S (0 : Int) (0 : Int) hh _ _ _ hM (lv_sub hl [2, 1, 0] rfl)
  · replace hh := it_f c1 hh
    refine lv_aload_n hx hb dX5_kept_5 rfl (lv_at hl 0 rfl) ?_
    refine lv_iload_n hx hb dX5_kept_6 rfl (lv_at hl 1 rfl) ?_
    obtain ⟨v14, k13, hh⟩ := bd_inv hh
    refine mc_z (rest := []) X hM (wM_isRule l DM dA h S x1 k13) c5_isRule.1 c5_isRule.2 ⟨rfl, rfl⟩ ⟨Nat.le_of_ble_eq_true rfl, Nat.le_of_ble_eq_true rfl⟩ ⟨Nat.zero_le _, Nat.zero_le _⟩ hl.1 (Nat.le_of_ble_eq_true rfl) dX5_kept_7 rfl (fun H locs hM => ?_)
    refine g_bif_eq (tgt := 29) hx hb dX5_kept_10 (by decide) (fun c15 => ?_) (fun c15 => ?_)
    · replace hh := it_t c15 hh
      refine lv_aload_n hx hb dX5_kept_13 rfl (lv_at hl 0 rfl) ?_
      refine lv_iload_n hx hb dX5_kept_14 rfl (lv_at hl 1 rfl) ?_
      obtain ⟨v17, S18, k16, hh⟩ := bd2_inv hh
      refine mc_z (rest := []) X hM (wM_isKept l DM dA h S x1 k16) c5_isKept.1 c5_isKept.2 ⟨rfl, rfl⟩ ⟨Nat.le_of_ble_eq_true rfl, Nat.le_of_ble_eq_true rfl⟩ ⟨Nat.zero_le _, Nat.zero_le _⟩ hl.1 (Nat.le_of_ble_eq_true rfl) dX5_kept_15 rfl (fun H locs hM => ?_)
      refine g_bif_eq (tgt := 25) hx hb dX5_kept_18 (by decide) (fun c19 => ?_) (fun c19 => ?_)
      · replace hh := it_t c19 hh
        refine lv_iconst (v := zi 1) hx hb dX5_kept_21 rfl ?_
        refine lv_goto (tgt := 30) hx hb dX5_kept_22 (by decide) ?_
        exact hret _ _ _ _ _ _ (rt1 hh) (rt2 hh) dX5_kept_30 hM
      · replace hh := it_f c19 hh
        refine lv_iconst (v := zi 0) hx hb dX5_kept_25 rfl ?_
        refine lv_goto (tgt := 30) hx hb dX5_kept_26 (by decide) ?_
        exact hret _ _ _ _ _ _ (rt1 hh) (rt2 hh) dX5_kept_30 hM
    · replace hh := it_f c15 hh
      refine lv_iconst (v := zi (-1)) hx hb dX5_kept_29 rfl ?_
      exact hret _ _ _ _ _ _ (rt1 hh) (rt2 hh) dX5_kept_30 hM
def M_unlike_B78 (K9 : xS → Int → Int → Int → Option (Int × xS)) (S : xS) (x1 : Int) (x2 : Int) (x3 : Int) (x4 : Int) (x5 : Int) (x6 : Int) (x7 : Int) : Option (Int × xS) := gd ((0 : Int) ≤ 1 ∧ ((0 : Int) ≤ x7 + 8 ∧ (x7 + 8 : Int) ≤ 31) ∧ (1 : Int) * 2 ^ (Int.toNat (x7 + 8)) < 4294967296) (gd ((0 : Int) ≤ x4 ∧ (0 : Int) ≤ (1 : Int) * 2 ^ (Int.toNat (x7 + 8))) (nm (zor x4 ((1 : Int) * 2 ^ (Int.toNat (x7 + 8)))) (fun v19 => nm ((x6 + 1) : Int) (fun v21 => K9 S v19 x5 v21))))
def M_unlike_B60 (K9 : xS → Int → Int → Int → Option (Int × xS)) (S : xS) (x1 : Int) (x2 : Int) (x3 : Int) (x4 : Int) (x5 : Int) (x6 : Int) (t0 : Int) : Option (Int × xS) := gd (r32 (x4) ∧ (0 : Int) ≤ t0 + 8 ∧ (t0 + 8 : Int) ≤ 31) (gd (r32 ((x4 / 2 ^ (Int.toNat (t0 + 8))) % 2 ^ 1)) (if ((x4 / 2 ^ (Int.toNat (t0 + 8))) % 2 ^ 1) = 0 then (nm ((x5 + 1) : Int) (fun v15 => M_unlike_B78 K9 S x1 x2 x3 x4 v15 x6 t0)) else (M_unlike_B78 K9 S x1 x2 x3 x4 x5 x6 t0)))
def M_unlike_b9 (x1 : Int) (x2 : Int) (x3 : Int) (K9 : xS → Int → Int → Int → Option (Int × xS)) (S : xS) (x4 : Int) (x5 : Int) (x6 : Int) : Option (Int × xS) := gd (r32 (x6) ∧ r32 (S.2 2 3)) (if x6 < (S.2 2 3) then (gd ((0 : Int) ≤ x6 ∧ (x6 : Int) < 8) (gd (r32 (S.2 42 x6)) (if (S.2 42 x6) = 0 then (nm ((x6 + 1) : Int) (fun v6 => K9 S x4 x5 v6)) else (bd (M_run S x6 x1 x2 x3 (1 : Int)) (fun S9 => gd (r32 (S9.1 34)) (if (S9.1 34) = 0 then (M_unlike_B60 K9 S9 x1 x2 x3 x4 x5 x6 (S9.2 35 0)) else (M_unlike_B60 K9 S9 x1 x2 x3 x4 x5 x6 (0 : Int)))))))) else (some ((x5 : Int), S)))
def M_unlike_L9 (x1 : Int) (x2 : Int) (x3 : Int) : Nat → xS → Int → Int → Int → Option (Int × xS)
  | 0 => fun _ _ _ _ => none
  | n + 1 => fun S x4 x5 x6 => M_unlike_b9 x1 x2 x3 (M_unlike_L9 x1 x2 x3 n) S x4 x5 x6
def M_unlike (S : xS) (x1 : Int) (x2 : Int) (x3 : Int) : Option (Int × xS) := M_unlike_L9 x1 x2 x3 FU S (0 : Int) (0 : Int) (0 : Int)
set_option maxHeartbeats 4000000 in
theorem wM_unlike (l : Launch) (DM : va_G) (dA : Nat → ClassId) (h : Nat) (S : xS) (x1 x2 x3 : Int) {r : Int} {S1 : xS} (hh : M_unlike S x1 x2 x3 = some (r, S1)) : mt_i l yX5_unlike cX5_unlike 8 (some .int) ({ frames := 7, cells := 0, slots := 0, locals := 154 } : Room) DM dA h [.int (zi x1), .int (zi x2), .int (zi x3)] S r S1 := by
  refine mo_i (by decide) rfl (Nat.le_of_ble_eq_true rfl) ?_
  intro p e s m args below meth c Q ls X hret hl hM
  have hx := X.1.1
  have hb := X.1.2.1
  have hown := X.1.2.2.2.1
  have hts := X.1.2.2.2.2
  skip
  have hB78 : ∀ (x1 : Int) (x2 : Int) (x3 : Int) (x4 : Int) (x5 : Int) (x6 : Int) (x7 : Int) (K9 : xS → Int → Int → Int → Option (Int × xS)) (hK9 : (∀ (S : xS) (x4 : Int) (x5 : Int) (x6 : Int), K9 S x4 x5 x6 = some (r, S1) → ∀ (H : Heap) (locs : List Loc) (ls : Array Slot), MX DM dA h S s H locs → lv_has ls 8 [(0, .ref (h)), (1, .int (zi (x1))), (2, .int (zi (x2))), (3, .int (zi (x3))), (4, .int (zi (x4))), (5, .int (zi (x5))), (6, .int (zi (x6)))] → W p l e ({ frames := 7, cells := 0, slots := 0, locals := 154 } : Room) s m args below meth c H locs 0 0 Q (F0 m 9 ls []))) (S : xS), M_unlike_B78 K9 S x1 x2 x3 x4 x5 x6 x7 = some (r, S1) → ∀ (H : Heap) (locs : List Loc) (ls : Array Slot), MX DM dA h S s H locs → lv_has ls 8 [(0, .ref (h)), (1, .int (zi (x1))), (2, .int (zi (x2))), (3, .int (zi (x3))), (4, .int (zi (x4))), (5, .int (zi (x5))), (6, .int (zi (x6))), (7, .int (zi (x7)))] → W p l e ({ frames := 7, cells := 0, slots := 0, locals := 154 } : Room) s m args below meth c H locs 0 0 Q (F0 m 78 ls []) := by
    intro x1 x2 x3 x4 x5 x6 x7 K9 hK9 S hh H locs ls hM hl
    unfold M_unlike_B78 at hh
    refine lv_iload hx hb dX5_unlike_78 (lv_at hl 4 rfl) ?_
    refine lv_iconst (v := zi 1) hx hb dX5_unlike_80 rfl ?_
    refine lv_iload hx hb dX5_unlike_81 (lv_at hl 7 rfl) ?_
    refine lv_bipush (v := zi 8) hx hb dX5_unlike_83 (by decide) ?_
    refine g_iadd hx hb dX5_unlike_85 ?_
    obtain ⟨g17, hh⟩ := gd_inv hh
    refine g_ishl hx hb g17 dX5_unlike_86 ?_
    obtain ⟨g18, hh⟩ := gd_inv hh
    refine g_ior hx hb g18 dX5_unlike_87 ?_
    refine g_nmi hx hb (fun v19 e20 => ?_)
    replace hh := nm_inv hh v19 e20
    refine lv_istore (lv' := [(4, .int (zi (v19))), (0, .ref (h)), (1, .int (zi (x1))), (2, .int (zi (x2))), (3, .int (zi (x3))), (5, .int (zi (x5))), (6, .int (zi (x6))), (7, .int (zi (x7)))]) hx hb dX5_unlike_88 hl (by decide) rfl (fun ls hl => ?_)
    obtain ⟨v21, e22⟩ : ∃ z : Int, z = x6 + 1 := ⟨_, rfl⟩
    replace hh := nm_inv hh v21 e22
    refine lv_iinc (v := zi v21) (lv' := [(6, .int (zi (v21))), (4, .int (zi (v19))), (0, .ref (h)), (1, .int (zi (x1))), (2, .int (zi (x2))), (3, .int (zi (x3))), (5, .int (zi (x5))), (7, .int (zi (x7)))]) hx hb dX5_unlike_90 hl (k := 6) rfl (by rw [e22]; exact zi_add _ _) (by decide) rfl (fun ls hl => ?_)
    refine lv_goto (tgt := 9) hx hb dX5_unlike_93 (by decide) ?_
    exact hK9 S v19 x5 v21 hh _ _ _ hM (lv_sub hl [2, 3, 4, 5, 1, 6, 0] rfl)
  have hB60 : ∀ (x1 : Int) (x2 : Int) (x3 : Int) (x4 : Int) (x5 : Int) (x6 : Int) (t0 : Int) (K9 : xS → Int → Int → Int → Option (Int × xS)) (hK9 : (∀ (S : xS) (x4 : Int) (x5 : Int) (x6 : Int), K9 S x4 x5 x6 = some (r, S1) → ∀ (H : Heap) (locs : List Loc) (ls : Array Slot), MX DM dA h S s H locs → lv_has ls 8 [(0, .ref (h)), (1, .int (zi (x1))), (2, .int (zi (x2))), (3, .int (zi (x3))), (4, .int (zi (x4))), (5, .int (zi (x5))), (6, .int (zi (x6)))] → W p l e ({ frames := 7, cells := 0, slots := 0, locals := 154 } : Room) s m args below meth c H locs 0 0 Q (F0 m 9 ls []))) (S : xS), M_unlike_B60 K9 S x1 x2 x3 x4 x5 x6 t0 = some (r, S1) → ∀ (H : Heap) (locs : List Loc) (ls : Array Slot), MX DM dA h S s H locs → lv_has ls 8 [(0, .ref (h)), (1, .int (zi (x1))), (2, .int (zi (x2))), (3, .int (zi (x3))), (4, .int (zi (x4))), (5, .int (zi (x5))), (6, .int (zi (x6)))] → W p l e ({ frames := 7, cells := 0, slots := 0, locals := 154 } : Room) s m args below meth c H locs 0 0 Q (F0 m 60 ls [.int (zi (t0))]) := by
    intro x1 x2 x3 x4 x5 x6 t0 K9 hK9 S hh H locs ls hM hl
    unfold M_unlike_B60 at hh
    refine lv_istore (lv' := [(7, .int (zi (t0))), (0, .ref (h)), (1, .int (zi (x1))), (2, .int (zi (x2))), (3, .int (zi (x3))), (4, .int (zi (x4))), (5, .int (zi (x5))), (6, .int (zi (x6)))]) hx hb dX5_unlike_60 hl (by decide) rfl (fun ls hl => ?_)
    refine lv_iload hx hb dX5_unlike_62 (lv_at hl 5 rfl) ?_
    refine lv_iload hx hb dX5_unlike_64 (lv_at hl 0 rfl) ?_
    refine lv_bipush (v := zi 8) hx hb dX5_unlike_66 (by decide) ?_
    refine g_iadd hx hb dX5_unlike_68 ?_
    obtain ⟨g12, hh⟩ := gd_inv hh
    refine g_ishr hx hb g12 dX5_unlike_69 ?_
    refine lv_iconst (v := zi 1) hx hb dX5_unlike_70 rfl ?_
    refine g_mask hx hb 1 (by decide) (by decide) dX5_unlike_71 ?_
    obtain ⟨g14, hh⟩ := gd_inv hh
    refine g_if_ne (tgt := 78) hx hb g14 dX5_unlike_72 (by decide) (fun c13 => ?_) (fun c13 => ?_)
    · replace hh := it_t c13 hh
      obtain ⟨v15, e16⟩ : ∃ z : Int, z = x5 + 1 := ⟨_, rfl⟩
      replace hh := nm_inv hh v15 e16
      refine lv_iinc (v := zi v15) (lv' := [(5, .int (zi (v15))), (7, .int (zi (t0))), (0, .ref (h)), (1, .int (zi (x1))), (2, .int (zi (x2))), (3, .int (zi (x3))), (4, .int (zi (x4))), (6, .int (zi (x6)))]) hx hb dX5_unlike_75 hl (k := 6) rfl (by rw [e16]; exact zi_add _ _) (by decide) rfl (fun ls hl => ?_)
      exact hB78 x1 x2 x3 x4 v15 x6 t0 _ hK9 S hh _ _ _ hM (lv_sub hl [2, 3, 4, 5, 6, 0, 7, 1] rfl)
    · replace hh := it_f c13 hh
      exact hB78 x1 x2 x3 x4 x5 x6 t0 _ hK9 S hh _ _ _ hM (lv_sub hl [1, 2, 3, 4, 5, 6, 7, 0] rfl)
  have hL9 : ∀ (x1 : Int) (x2 : Int) (x3 : Int) (n : Nat) (S : xS) (x4 : Int) (x5 : Int) (x6 : Int), M_unlike_L9 x1 x2 x3 n S x4 x5 x6 = some (r, S1) → ∀ (H : Heap) (locs : List Loc) (ls : Array Slot), MX DM dA h S s H locs → lv_has ls 8 [(0, .ref (h)), (1, .int (zi (x1))), (2, .int (zi (x2))), (3, .int (zi (x3))), (4, .int (zi (x4))), (5, .int (zi (x5))), (6, .int (zi (x6)))] → W p l e ({ frames := 7, cells := 0, slots := 0, locals := 154 } : Room) s m args below meth c H locs 0 0 Q (F0 m 9 ls []) := by
    intro x1 x2 x3  n
    induction n with
    | zero => intro S x4 x5 x6 hh; exact no_some hh
    | succ n ih =>
      intro S x4 x5 x6 hh H locs ls hM hl
      replace hh : M_unlike_b9 x1 x2 x3 (M_unlike_L9 x1 x2 x3 n) S x4 x5 x6 = some (r, S1) := hh
      unfold M_unlike_b9 at hh
      have hK9 := ih
      refine lv_iload hx hb dX5_unlike_9 (lv_at hl 6 rfl) ?_
      refine lv_aload_n hx hb dX5_unlike_11 rfl (lv_at hl 0 rfl) ?_
      refine mm_get X hM q1176 (mf_2 _ _) dX5_unlike_12 ?_
      refine lv_iconst (v := zi 3) hx hb dX5_unlike_15 rfl ?_
      refine mm_iald X hM (ma_2 _ _) (by decide) dX5_unlike_16 ?_
      obtain ⟨g2, hh⟩ := gd_inv hh
      refine g_icmp_ge (tgt := 96) hx hb g2 dX5_unlike_17 (by decide) (fun c1 => ?_) (fun c1 => ?_)
      · replace hh := it_t c1 hh
        refine lv_aload_n hx hb dX5_unlike_20 rfl (lv_at hl 0 rfl) ?_
        refine mm_get X hM q1216 (mf_42 _ _) dX5_unlike_21 ?_
        refine lv_iload hx hb dX5_unlike_24 (lv_at hl 6 rfl) ?_
        obtain ⟨g3, hh⟩ := gd_inv hh
        refine mm_zald X hM (ma_42 _ _) g3 dX5_unlike_26 ?_
        obtain ⟨g5, hh⟩ := gd_inv hh
        refine g_if_ne (tgt := 33) hx hb g5 dX5_unlike_27 (by decide) (fun c4 => ?_) (fun c4 => ?_)
        · replace hh := it_t c4 hh
          refine lv_goto (tgt := 90) hx hb dX5_unlike_30 (by decide) ?_
          obtain ⟨v6, e7⟩ : ∃ z : Int, z = x6 + 1 := ⟨_, rfl⟩
          replace hh := nm_inv hh v6 e7
          refine lv_iinc (v := zi v6) (lv' := [(6, .int (zi (v6))), (0, .ref (h)), (1, .int (zi (x1))), (2, .int (zi (x2))), (3, .int (zi (x3))), (4, .int (zi (x4))), (5, .int (zi (x5)))]) hx hb dX5_unlike_90 hl (k := 6) rfl (by rw [e7]; exact zi_add _ _) (by decide) rfl (fun ls hl => ?_)
          refine lv_goto (tgt := 9) hx hb dX5_unlike_93 (by decide) ?_
          exact hK9 S x4 x5 v6 hh _ _ _ hM (lv_sub hl [1, 2, 3, 4, 5, 6, 0] rfl)
        · replace hh := it_f c4 hh
          refine lv_aload_n hx hb dX5_unlike_33 rfl (lv_at hl 0 rfl) ?_
          refine lv_iload hx hb dX5_unlike_34 (lv_at hl 6 rfl) ?_
          refine lv_iload_n hx hb dX5_unlike_36 rfl (lv_at hl 1 rfl) ?_
          refine lv_iload_n hx hb dX5_unlike_37 rfl (lv_at hl 2 rfl) ?_
          refine lv_iload_n hx hb dX5_unlike_38 rfl (lv_at hl 3 rfl) ?_
          refine lv_iconst (v := zi 1) hx hb dX5_unlike_39 rfl ?_
          obtain ⟨S9, k8, hh⟩ := bd_inv hh
          refine mc_v (rest := []) X hM (wM_run l DM dA h S x6 x1 x2 x3 (1 : Int) k8) c5_run.1 c5_run.2 ⟨rfl, rfl⟩ ⟨Nat.le_of_ble_eq_true rfl, Nat.le_of_ble_eq_true rfl⟩ ⟨Nat.zero_le _, Nat.zero_le _⟩ hl.1 (Nat.le_of_ble_eq_true rfl) dX5_unlike_40 rfl (fun H locs hM => ?_)
          refine lv_aload_n hx hb dX5_unlike_43 rfl (lv_at hl 0 rfl) ?_
          refine mm_get X hM q1208 (mf_34 _ _) dX5_unlike_44 ?_
          obtain ⟨g11, hh⟩ := gd_inv hh
          refine g_if_eq (tgt := 54) hx hb g11 dX5_unlike_47 (by decide) (fun c10 => ?_) (fun c10 => ?_)
          · replace hh := it_t c10 hh
            refine lv_aload_n hx hb dX5_unlike_54 rfl (lv_at hl 0 rfl) ?_
            refine mm_get X hM q1209 (mf_35 _ _) dX5_unlike_55 ?_
            refine lv_iconst (v := zi 0) hx hb dX5_unlike_58 rfl ?_
            refine mm_iald X hM (ma_35 _ _) (by decide) dX5_unlike_59 ?_
            exact hB60 x1 x2 x3 x4 x5 x6 (S9.2 35 0) _ hK9 S9 hh _ _ _ hM (lv_sub hl [0, 1, 2, 3, 4, 5, 6] rfl)
          · replace hh := it_f c10 hh
            refine lv_iconst (v := zi 0) hx hb dX5_unlike_50 rfl ?_
            refine lv_goto (tgt := 60) hx hb dX5_unlike_51 (by decide) ?_
            exact hB60 x1 x2 x3 x4 x5 x6 (0 : Int) _ hK9 S9 hh _ _ _ hM (lv_sub hl [0, 1, 2, 3, 4, 5, 6] rfl)
      · replace hh := it_f c1 hh
        refine lv_iload hx hb dX5_unlike_96 (lv_at hl 5 rfl) ?_
        exact hret _ _ _ _ _ _ (rt1 hh) (rt2 hh) dX5_unlike_98 hM
  replace hl : lv_has ls 8 [(0, .ref (h)), (1, .int (zi (x1))), (2, .int (zi (x2))), (3, .int (zi (x3)))] := hl
  unfold M_unlike at hh
  refine lv_iconst (v := zi 0) hx hb dX5_unlike_0 rfl ?_
  refine lv_istore (lv' := [(4, .int (zi (0))), (0, .ref (h)), (1, .int (zi (x1))), (2, .int (zi (x2))), (3, .int (zi (x3)))]) hx hb dX5_unlike_1 hl (by decide) rfl (fun ls hl => ?_)
  refine lv_iconst (v := zi 0) hx hb dX5_unlike_3 rfl ?_
  refine lv_istore (lv' := [(5, .int (zi (0))), (4, .int (zi (0))), (0, .ref (h)), (1, .int (zi (x1))), (2, .int (zi (x2))), (3, .int (zi (x3)))]) hx hb dX5_unlike_4 hl (by decide) rfl (fun ls hl => ?_)
  refine lv_iconst (v := zi 0) hx hb dX5_unlike_6 rfl ?_
  refine lv_istore (lv' := [(6, .int (zi (0))), (5, .int (zi (0))), (4, .int (zi (0))), (0, .ref (h)), (1, .int (zi (x1))), (2, .int (zi (x2))), (3, .int (zi (x3)))]) hx hb dX5_unlike_7 hl (by decide) rfl (fun ls hl => ?_)
  exact hL9 x1 x2 x3 FU S (0 : Int) (0 : Int) (0 : Int) hh _ _ _ hM (lv_sub hl [3, 4, 5, 6, 2, 1, 0] rfl)
def M_parts_b84 (K72 : xS → Int → Int → Int → Int → Option (Int × xS)) (x1 : Int) (x2 : Int) (x6 : Int) (K84 : xS → Int → Int → Int → Int → Option (Int × xS)) (S : xS) (x3 : Int) (x4 : Int) (x5 : Int) (x7 : Int) : Option (Int × xS) := gd (r32 (x7)) (if x7 < 64 then (bd (M_isStart S ((16 * x6) + 8) ((16 * x1) + 8)) (fun v24 => if v24 = true then (bd2 (M_unlike S ((16 * x6) + 8) ((16 * x1) + 8) x7) (fun v27 S28 => gd (r32 (v27) ∧ r32 (x3)) (if v27 ≤ x3 then (nm ((x7 + 8) : Int) (fun v31 => K84 S28 x3 x4 x5 v31)) else (nm ((16 * x6) + 8) (fun v33 => nm ((x7 + 8) : Int) (fun v35 => K84 S28 v27 v33 x7 v35)))))) else (nm ((x6 + 1) : Int) (fun v37 => K72 S x3 x4 x5 v37)))) else (nm ((x6 + 1) : Int) (fun v39 => K72 S x3 x4 x5 v39)))
def M_parts_L84 (K72 : xS → Int → Int → Int → Int → Option (Int × xS)) (x1 : Int) (x2 : Int) (x6 : Int) : Nat → xS → Int → Int → Int → Int → Option (Int × xS)
  | 0 => fun _ _ _ _ _ => none
  | n + 1 => fun S x3 x4 x5 x7 => M_parts_b84 K72 x1 x2 x6 (M_parts_L84 K72 x1 x2 x6 n) S x3 x4 x5 x7
def M_parts_b72 (x1 : Int) (x2 : Int) (K72 : xS → Int → Int → Int → Int → Option (Int × xS)) (S : xS) (x3 : Int) (x4 : Int) (x5 : Int) (x6 : Int) : Option (Int × xS) := gd (r32 (x6) ∧ r32 (S.1 0)) (if x6 < (S.1 0) then (M_parts_L84 K72 x1 x2 x6 FU S x3 x4 x5 (0 : Int)) else (gd (r32 (x4)) (if x4 < 0 then (some (((-1) : Int), S)) else (gd (r32 (x2)) (if x2 = 0 then (some ((x4 : Int), S)) else (gd (r32 (x2)) (if x2 = 1 then (some ((x5 : Int), S)) else (some ((x3 : Int), S)))))))))
def M_parts_L72 (x1 : Int) (x2 : Int) : Nat → xS → Int → Int → Int → Int → Option (Int × xS)
  | 0 => fun _ _ _ _ _ => none
  | n + 1 => fun S x3 x4 x5 x6 => M_parts_b72 x1 x2 (M_parts_L72 x1 x2 n) S x3 x4 x5 x6
def M_parts_b27 (x1 : Int) (x2 : Int) (K27 : xS → Int → Option (Int × xS)) (S : xS) (x3 : Int) : Option (Int × xS) := gd (r32 (x3) ∧ r32 (S.2 2 3)) (if x3 < (S.2 2 3) then (bd2 (M_isKept S x3) (fun v10 S11 => gd ((0 : Int) ≤ x3 ∧ (x3 : Int) < 8) (nm (aset S11 42 x3 (bz v10)) (fun S13 => nm ((x3 + 1) : Int) (fun v15 => K27 S13 v15))))) else (nm (fset S 27 (1000000)) (fun S17 => M_parts_L72 x1 x2 FU S17 (1 : Int) ((-1) : Int) ((-1) : Int) (0 : Int))))
def M_parts_L27 (x1 : Int) (x2 : Int) : Nat → xS → Int → Option (Int × xS)
  | 0 => fun _ _ => none
  | n + 1 => fun S x3 => M_parts_b27 x1 x2 (M_parts_L27 x1 x2 n) S x3
def M_parts (S : xS) (x1 : Int) (x2 : Int) : Option (Int × xS) := bd (M_isIn x1 (0 : Int) ((S.1 1) - 1)) (fun v2 => if v2 = true then (bd (M_isIn x2 (0 : Int) (2 : Int)) (fun v5 => if v5 = true then (M_parts_L27 x1 x2 FU S (0 : Int)) else (some (((-1) : Int), S)))) else (some (((-1) : Int), S)))
set_option maxHeartbeats 4000000 in
theorem wM_parts (l : Launch) (DM : va_G) (dA : Nat → ClassId) (h : Nat) (S : xS) (x1 x2 : Int) {r : Int} {S1 : xS} (hh : M_parts S x1 x2 = some (r, S1)) : mt_i l yX5_parts cX5_parts 9 (some .int) ({ frames := 8, cells := 0, slots := 0, locals := 181 } : Room) DM dA h [.int (zi x1), .int (zi x2)] S r S1 := by
  refine mo_i (by decide) rfl (Nat.le_of_ble_eq_true rfl) ?_
  intro p e s m args below meth c Q ls X hret hl hM
  have hx := X.1.1
  have hb := X.1.2.1
  have hown := X.1.2.2.2.1
  have hts := X.1.2.2.2.2
  skip
  have hL84 : ∀ (x1 : Int) (x2 : Int) (x6 : Int) (K72 : xS → Int → Int → Int → Int → Option (Int × xS)) (hK72 : (∀ (S : xS) (x3 : Int) (x4 : Int) (x5 : Int) (x6 : Int), K72 S x3 x4 x5 x6 = some (r, S1) → ∀ (H : Heap) (locs : List Loc) (ls : Array Slot), MX DM dA h S s H locs → lv_has ls 9 [(0, .ref (h)), (1, .int (zi (x1))), (2, .int (zi (x2))), (3, .int (zi (x3))), (4, .int (zi (x4))), (5, .int (zi (x5))), (6, .int (zi (x6)))] → W p l e ({ frames := 8, cells := 0, slots := 0, locals := 181 } : Room) s m args below meth c H locs 0 0 Q (F0 m 72 ls []))) (n : Nat) (S : xS) (x3 : Int) (x4 : Int) (x5 : Int) (x7 : Int), M_parts_L84 K72 x1 x2 x6 n S x3 x4 x5 x7 = some (r, S1) → ∀ (H : Heap) (locs : List Loc) (ls : Array Slot), MX DM dA h S s H locs → lv_has ls 9 [(0, .ref (h)), (1, .int (zi (x1))), (2, .int (zi (x2))), (3, .int (zi (x3))), (4, .int (zi (x4))), (5, .int (zi (x5))), (6, .int (zi (x6))), (7, .int (zi (x7)))] → W p l e ({ frames := 8, cells := 0, slots := 0, locals := 181 } : Room) s m args below meth c H locs 0 0 Q (F0 m 84 ls []) := by
    intro x1 x2 x6 K72 hK72 n
    induction n with
    | zero => intro S x3 x4 x5 x7 hh; exact no_some hh
    | succ n ih =>
      intro S x3 x4 x5 x7 hh H locs ls hM hl
      replace hh : M_parts_b84 K72 x1 x2 x6 (M_parts_L84 K72 x1 x2 x6 n) S x3 x4 x5 x7 = some (r, S1) := hh
      unfold M_parts_b84 at hh
      have hK84 := ih
      refine lv_iload hx hb dX5_parts_84 (lv_at hl 7 rfl) ?_
      refine lv_bipush (v := zi 64) hx hb dX5_parts_86 (by decide) ?_
      obtain ⟨g22, hh⟩ := gd_inv hh
      refine g_icmp_ge (tgt := 168) hx hb ⟨g22, by decide⟩ dX5_parts_88 (by decide) (fun c21 => ?_) (fun c21 => ?_)
      · replace hh := it_t c21 hh
        refine lv_aload_n hx hb dX5_parts_91 rfl (lv_at hl 0 rfl) ?_
        refine lv_bipush (v := zi 16) hx hb dX5_parts_92 (by decide) ?_
        refine lv_iload hx hb dX5_parts_94 (lv_at hl 6 rfl) ?_
        refine g_imul hx hb dX5_parts_96 ?_
        refine lv_bipush (v := zi 8) hx hb dX5_parts_97 (by decide) ?_
        refine g_iadd hx hb dX5_parts_99 ?_
        refine lv_bipush (v := zi 16) hx hb dX5_parts_100 (by decide) ?_
        refine lv_iload_n hx hb dX5_parts_102 rfl (lv_at hl 1 rfl) ?_
        refine g_imul hx hb dX5_parts_103 ?_
        refine lv_bipush (v := zi 8) hx hb dX5_parts_104 (by decide) ?_
        refine g_iadd hx hb dX5_parts_106 ?_
        obtain ⟨v24, k23, hh⟩ := bd_inv hh
        refine mc_z (rest := []) X hM (wM_isStart l DM dA h S ((16 * x6) + 8) ((16 * x1) + 8) k23) c5_isStart.1 c5_isStart.2 ⟨rfl, rfl⟩ ⟨Nat.le_of_ble_eq_true rfl, Nat.le_of_ble_eq_true rfl⟩ ⟨Nat.zero_le _, Nat.zero_le _⟩ hl.1 (Nat.le_of_ble_eq_true rfl) dX5_parts_107 rfl (fun H locs hM => ?_)
        refine g_bif_eq (tgt := 168) hx hb dX5_parts_110 (by decide) (fun c25 => ?_) (fun c25 => ?_)
        · replace hh := it_t c25 hh
          refine lv_aload_n hx hb dX5_parts_113 rfl (lv_at hl 0 rfl) ?_
          refine lv_bipush (v := zi 16) hx hb dX5_parts_114 (by decide) ?_
          refine lv_iload hx hb dX5_parts_116 (lv_at hl 6 rfl) ?_
          refine g_imul hx hb dX5_parts_118 ?_
          refine lv_bipush (v := zi 8) hx hb dX5_parts_119 (by decide) ?_
          refine g_iadd hx hb dX5_parts_121 ?_
          refine lv_bipush (v := zi 16) hx hb dX5_parts_122 (by decide) ?_
          refine lv_iload_n hx hb dX5_parts_124 rfl (lv_at hl 1 rfl) ?_
          refine g_imul hx hb dX5_parts_125 ?_
          refine lv_bipush (v := zi 8) hx hb dX5_parts_126 (by decide) ?_
          refine g_iadd hx hb dX5_parts_128 ?_
          refine lv_iload hx hb dX5_parts_129 (lv_at hl 7 rfl) ?_
          obtain ⟨v27, S28, k26, hh⟩ := bd2_inv hh
          refine mc_i (rest := []) X hM (wM_unlike l DM dA h S ((16 * x6) + 8) ((16 * x1) + 8) x7 k26) c5_unlike.1 c5_unlike.2 ⟨rfl, rfl⟩ ⟨Nat.le_of_ble_eq_true rfl, Nat.le_of_ble_eq_true rfl⟩ ⟨Nat.zero_le _, Nat.zero_le _⟩ hl.1 (Nat.le_of_ble_eq_true rfl) dX5_parts_131 rfl (fun H locs hM => ?_)
          refine lv_istore (lv' := [(8, .int (zi (v27))), (0, .ref (h)), (1, .int (zi (x1))), (2, .int (zi (x2))), (3, .int (zi (x3))), (4, .int (zi (x4))), (5, .int (zi (x5))), (6, .int (zi (x6))), (7, .int (zi (x7)))]) hx hb dX5_parts_134 hl (by decide) rfl (fun ls hl => ?_)
          refine lv_iload hx hb dX5_parts_136 (lv_at hl 0 rfl) ?_
          refine lv_iload_n hx hb dX5_parts_138 rfl (lv_at hl 4 rfl) ?_
          obtain ⟨g30, hh⟩ := gd_inv hh
          refine g_icmp_gt (tgt := 145) hx hb g30 dX5_parts_139 (by decide) (fun c29 => ?_) (fun c29 => ?_)
          · replace hh := it_t c29 hh
            refine lv_goto (tgt := 162) hx hb dX5_parts_142 (by decide) ?_
            obtain ⟨v31, e32⟩ : ∃ z : Int, z = x7 + 8 := ⟨_, rfl⟩
            replace hh := nm_inv hh v31 e32
            refine lv_iinc (v := zi v31) (lv' := [(7, .int (zi (v31))), (8, .int (zi (v27))), (0, .ref (h)), (1, .int (zi (x1))), (2, .int (zi (x2))), (3, .int (zi (x3))), (4, .int (zi (x4))), (5, .int (zi (x5))), (6, .int (zi (x6)))]) hx hb dX5_parts_162 hl (k := 8) rfl (by rw [e32]; exact zi_add _ _) (by decide) rfl (fun ls hl => ?_)
            refine lv_goto (tgt := 84) hx hb dX5_parts_165 (by decide) ?_
            exact hK84 S28 x3 x4 x5 v31 hh _ _ _ hM (lv_sub hl [2, 3, 4, 5, 6, 7, 8, 0] rfl)
          · replace hh := it_f c29 hh
            refine lv_iload hx hb dX5_parts_145 (lv_at hl 0 rfl) ?_
            refine lv_istore_n (lv' := [(3, .int (zi (v27))), (8, .int (zi (v27))), (0, .ref (h)), (1, .int (zi (x1))), (2, .int (zi (x2))), (4, .int (zi (x4))), (5, .int (zi (x5))), (6, .int (zi (x6))), (7, .int (zi (x7)))]) hx hb dX5_parts_147 rfl hl (by decide) rfl (fun ls hl => ?_)
            refine lv_bipush (v := zi 16) hx hb dX5_parts_148 (by decide) ?_
            refine lv_iload hx hb dX5_parts_150 (lv_at hl 7 rfl) ?_
            refine g_imul hx hb dX5_parts_152 ?_
            refine lv_bipush (v := zi 8) hx hb dX5_parts_153 (by decide) ?_
            refine g_iadd hx hb dX5_parts_155 ?_
            refine g_nmi hx hb (fun v33 e34 => ?_)
            replace hh := nm_inv hh v33 e34
            refine lv_istore (lv' := [(4, .int (zi (v33))), (3, .int (zi (v27))), (8, .int (zi (v27))), (0, .ref (h)), (1, .int (zi (x1))), (2, .int (zi (x2))), (5, .int (zi (x5))), (6, .int (zi (x6))), (7, .int (zi (x7)))]) hx hb dX5_parts_156 hl (by decide) rfl (fun ls hl => ?_)
            refine lv_iload hx hb dX5_parts_158 (lv_at hl 8 rfl) ?_
            refine lv_istore (lv' := [(5, .int (zi (x7))), (4, .int (zi (v33))), (3, .int (zi (v27))), (8, .int (zi (v27))), (0, .ref (h)), (1, .int (zi (x1))), (2, .int (zi (x2))), (6, .int (zi (x6))), (7, .int (zi (x7)))]) hx hb dX5_parts_160 hl (by decide) rfl (fun ls hl => ?_)
            obtain ⟨v35, e36⟩ : ∃ z : Int, z = x7 + 8 := ⟨_, rfl⟩
            replace hh := nm_inv hh v35 e36
            refine lv_iinc (v := zi v35) (lv' := [(7, .int (zi (v35))), (5, .int (zi (x7))), (4, .int (zi (v33))), (3, .int (zi (v27))), (8, .int (zi (v27))), (0, .ref (h)), (1, .int (zi (x1))), (2, .int (zi (x2))), (6, .int (zi (x6)))]) hx hb dX5_parts_162 hl (k := 8) rfl (by rw [e36]; exact zi_add _ _) (by decide) rfl (fun ls hl => ?_)
            refine lv_goto (tgt := 84) hx hb dX5_parts_165 (by decide) ?_
            exact hK84 S28 v27 v33 x7 v35 hh _ _ _ hM (lv_sub hl [5, 6, 7, 3, 2, 1, 8, 0] rfl)
        · replace hh := it_f c25 hh
          obtain ⟨v37, e38⟩ : ∃ z : Int, z = x6 + 1 := ⟨_, rfl⟩
          replace hh := nm_inv hh v37 e38
          refine lv_iinc (v := zi v37) (lv' := [(6, .int (zi (v37))), (0, .ref (h)), (1, .int (zi (x1))), (2, .int (zi (x2))), (3, .int (zi (x3))), (4, .int (zi (x4))), (5, .int (zi (x5))), (7, .int (zi (x7)))]) hx hb dX5_parts_168 hl (k := 6) rfl (by rw [e38]; exact zi_add _ _) (by decide) rfl (fun ls hl => ?_)
          refine lv_goto (tgt := 72) hx hb dX5_parts_171 (by decide) ?_
          exact hK72 S x3 x4 x5 v37 hh _ _ _ hM (lv_sub hl [1, 2, 3, 4, 5, 6, 0] rfl)
      · replace hh := it_f c21 hh
        obtain ⟨v39, e40⟩ : ∃ z : Int, z = x6 + 1 := ⟨_, rfl⟩
        replace hh := nm_inv hh v39 e40
        refine lv_iinc (v := zi v39) (lv' := [(6, .int (zi (v39))), (0, .ref (h)), (1, .int (zi (x1))), (2, .int (zi (x2))), (3, .int (zi (x3))), (4, .int (zi (x4))), (5, .int (zi (x5))), (7, .int (zi (x7)))]) hx hb dX5_parts_168 hl (k := 6) rfl (by rw [e40]; exact zi_add _ _) (by decide) rfl (fun ls hl => ?_)
        refine lv_goto (tgt := 72) hx hb dX5_parts_171 (by decide) ?_
        exact hK72 S x3 x4 x5 v39 hh _ _ _ hM (lv_sub hl [1, 2, 3, 4, 5, 6, 0] rfl)
  have hL72 : ∀ (x1 : Int) (x2 : Int) (n : Nat) (S : xS) (x3 : Int) (x4 : Int) (x5 : Int) (x6 : Int), M_parts_L72 x1 x2 n S x3 x4 x5 x6 = some (r, S1) → ∀ (H : Heap) (locs : List Loc) (ls : Array Slot), MX DM dA h S s H locs → lv_has ls 9 [(0, .ref (h)), (1, .int (zi (x1))), (2, .int (zi (x2))), (3, .int (zi (x3))), (4, .int (zi (x4))), (5, .int (zi (x5))), (6, .int (zi (x6)))] → W p l e ({ frames := 8, cells := 0, slots := 0, locals := 181 } : Room) s m args below meth c H locs 0 0 Q (F0 m 72 ls []) := by
    intro x1 x2  n
    induction n with
    | zero => intro S x3 x4 x5 x6 hh; exact no_some hh
    | succ n ih =>
      intro S x3 x4 x5 x6 hh H locs ls hM hl
      replace hh : M_parts_b72 x1 x2 (M_parts_L72 x1 x2 n) S x3 x4 x5 x6 = some (r, S1) := hh
      unfold M_parts_b72 at hh
      have hK72 := ih
      refine lv_iload hx hb dX5_parts_72 (lv_at hl 6 rfl) ?_
      refine lv_aload_n hx hb dX5_parts_74 rfl (lv_at hl 0 rfl) ?_
      refine mm_get X hM q1174 (mf_0 _ _) dX5_parts_75 ?_
      obtain ⟨g20, hh⟩ := gd_inv hh
      refine g_icmp_ge (tgt := 174) hx hb g20 dX5_parts_78 (by decide) (fun c19 => ?_) (fun c19 => ?_)
      · replace hh := it_t c19 hh
        refine lv_iconst (v := zi 0) hx hb dX5_parts_81 rfl ?_
        refine lv_istore (lv' := [(7, .int (zi (0))), (0, .ref (h)), (1, .int (zi (x1))), (2, .int (zi (x2))), (3, .int (zi (x3))), (4, .int (zi (x4))), (5, .int (zi (x5))), (6, .int (zi (x6)))]) hx hb dX5_parts_82 hl (by decide) rfl (fun ls hl => ?_)
        exact hL84 x1 x2 x6 _ hK72 FU S x3 x4 x5 (0 : Int) hh _ _ _ hM (lv_sub hl [1, 2, 3, 4, 5, 6, 7, 0] rfl)
      · replace hh := it_f c19 hh
        refine lv_iload hx hb dX5_parts_174 (lv_at hl 4 rfl) ?_
        obtain ⟨g42, hh⟩ := gd_inv hh
        refine g_if_ge (tgt := 183) hx hb g42 dX5_parts_176 (by decide) (fun c41 => ?_) (fun c41 => ?_)
        · replace hh := it_t c41 hh
          refine lv_iconst (v := zi (-1)) hx hb dX5_parts_179 rfl ?_
          refine lv_goto (tgt := 203) hx hb dX5_parts_180 (by decide) ?_
          exact hret _ _ _ _ _ _ (rt1 hh) (rt2 hh) dX5_parts_203 hM
        · replace hh := it_f c41 hh
          refine lv_iload_n hx hb dX5_parts_183 rfl (lv_at hl 2 rfl) ?_
          obtain ⟨g44, hh⟩ := gd_inv hh
          refine g_if_ne (tgt := 192) hx hb g44 dX5_parts_184 (by decide) (fun c43 => ?_) (fun c43 => ?_)
          · replace hh := it_t c43 hh
            refine lv_iload hx hb dX5_parts_187 (lv_at hl 4 rfl) ?_
            refine lv_goto (tgt := 203) hx hb dX5_parts_189 (by decide) ?_
            exact hret _ _ _ _ _ _ (rt1 hh) (rt2 hh) dX5_parts_203 hM
          · replace hh := it_f c43 hh
            refine lv_iload_n hx hb dX5_parts_192 rfl (lv_at hl 2 rfl) ?_
            refine lv_iconst (v := zi 1) hx hb dX5_parts_193 rfl ?_
            obtain ⟨g46, hh⟩ := gd_inv hh
            refine g_icmp_ne (tgt := 202) hx hb ⟨g46, by decide⟩ dX5_parts_194 (by decide) (fun c45 => ?_) (fun c45 => ?_)
            · replace hh := it_t c45 hh
              refine lv_iload hx hb dX5_parts_197 (lv_at hl 5 rfl) ?_
              refine lv_goto (tgt := 203) hx hb dX5_parts_199 (by decide) ?_
              exact hret _ _ _ _ _ _ (rt1 hh) (rt2 hh) dX5_parts_203 hM
            · replace hh := it_f c45 hh
              refine lv_iload_n hx hb dX5_parts_202 rfl (lv_at hl 3 rfl) ?_
              exact hret _ _ _ _ _ _ (rt1 hh) (rt2 hh) dX5_parts_203 hM
  have hL27 : ∀ (x1 : Int) (x2 : Int) (n : Nat) (S : xS) (x3 : Int), M_parts_L27 x1 x2 n S x3 = some (r, S1) → ∀ (H : Heap) (locs : List Loc) (ls : Array Slot), MX DM dA h S s H locs → lv_has ls 9 [(0, .ref (h)), (1, .int (zi (x1))), (2, .int (zi (x2))), (3, .int (zi (x3)))] → W p l e ({ frames := 8, cells := 0, slots := 0, locals := 181 } : Room) s m args below meth c H locs 0 0 Q (F0 m 27 ls []) := by
    intro x1 x2  n
    induction n with
    | zero => intro S x3 hh; exact no_some hh
    | succ n ih =>
      intro S x3 hh H locs ls hM hl
      replace hh : M_parts_b27 x1 x2 (M_parts_L27 x1 x2 n) S x3 = some (r, S1) := hh
      unfold M_parts_b27 at hh
      have hK27 := ih
      refine lv_iload_n hx hb dX5_parts_27 rfl (lv_at hl 3 rfl) ?_
      refine lv_aload_n hx hb dX5_parts_28 rfl (lv_at hl 0 rfl) ?_
      refine mm_get X hM q1176 (mf_2 _ _) dX5_parts_29 ?_
      refine lv_iconst (v := zi 3) hx hb dX5_parts_32 rfl ?_
      refine mm_iald X hM (ma_2 _ _) (by decide) dX5_parts_33 ?_
      obtain ⟨g8, hh⟩ := gd_inv hh
      refine g_icmp_ge (tgt := 54) hx hb g8 dX5_parts_34 (by decide) (fun c7 => ?_) (fun c7 => ?_)
      · replace hh := it_t c7 hh
        refine lv_aload_n hx hb dX5_parts_37 rfl (lv_at hl 0 rfl) ?_
        refine mm_get X hM q1216 (mf_42 _ _) dX5_parts_38 ?_
        refine lv_iload_n hx hb dX5_parts_41 rfl (lv_at hl 3 rfl) ?_
        refine lv_aload_n hx hb dX5_parts_42 rfl (lv_at hl 0 rfl) ?_
        refine lv_iload_n hx hb dX5_parts_43 rfl (lv_at hl 3 rfl) ?_
        obtain ⟨v10, S11, k9, hh⟩ := bd2_inv hh
        refine mc_z (rest := [.int (zi (x3)), .ref (h + 14)]) X hM (wM_isKept l DM dA h S x3 k9) c5_isKept.1 c5_isKept.2 ⟨rfl, rfl⟩ ⟨Nat.le_of_ble_eq_true rfl, Nat.le_of_ble_eq_true rfl⟩ ⟨Nat.zero_le _, Nat.zero_le _⟩ hl.1 (Nat.le_of_ble_eq_true rfl) dX5_parts_44 rfl (fun H locs hM => ?_)
        obtain ⟨g12, hh⟩ := gd_inv hh
        refine mm_zast X hM (ma_42 _ _) g12 (bz_01 v10) dX5_parts_47 (fun H locs S13 e14 hM => ?_)
        replace hh := nm_inv hh S13 e14
        obtain ⟨v15, e16⟩ : ∃ z : Int, z = x3 + 1 := ⟨_, rfl⟩
        replace hh := nm_inv hh v15 e16
        refine lv_iinc (v := zi v15) (lv' := [(3, .int (zi (v15))), (0, .ref (h)), (1, .int (zi (x1))), (2, .int (zi (x2)))]) hx hb dX5_parts_48 hl (k := 3) rfl (by rw [e16]; exact zi_add _ _) (by decide) rfl (fun ls hl => ?_)
        refine lv_goto (tgt := 27) hx hb dX5_parts_51 (by decide) ?_
        exact hK27 S13 v15 hh _ _ _ hM (lv_sub hl [1, 2, 3, 0] rfl)
      · replace hh := it_f c7 hh
        refine lv_aload_n hx hb dX5_parts_54 rfl (lv_at hl 0 rfl) ?_
        refine g_ldc2 (v := 1000000) (z := 1000000) hx hb (by decide) hown (hts _ q1546) dX5_parts_55 ?_
        refine mm_put X hM q1201 (mp_27 _ _ _) dX5_parts_58 (fun H locs S17 e18 hM => ?_)
        replace hh := nm_inv hh S17 e18
        refine lv_iconst (v := zi 1) hx hb dX5_parts_61 rfl ?_
        refine lv_istore_n (lv' := [(3, .int (zi (1))), (0, .ref (h)), (1, .int (zi (x1))), (2, .int (zi (x2)))]) hx hb dX5_parts_62 rfl hl (by decide) rfl (fun ls hl => ?_)
        refine lv_iconst (v := zi (-1)) hx hb dX5_parts_63 rfl ?_
        refine lv_istore (lv' := [(4, .int (zi ((-1)))), (3, .int (zi (1))), (0, .ref (h)), (1, .int (zi (x1))), (2, .int (zi (x2)))]) hx hb dX5_parts_64 hl (by decide) rfl (fun ls hl => ?_)
        refine lv_iconst (v := zi (-1)) hx hb dX5_parts_66 rfl ?_
        refine lv_istore (lv' := [(5, .int (zi ((-1)))), (4, .int (zi ((-1)))), (3, .int (zi (1))), (0, .ref (h)), (1, .int (zi (x1))), (2, .int (zi (x2)))]) hx hb dX5_parts_67 hl (by decide) rfl (fun ls hl => ?_)
        refine lv_iconst (v := zi 0) hx hb dX5_parts_69 rfl ?_
        refine lv_istore (lv' := [(6, .int (zi (0))), (5, .int (zi ((-1)))), (4, .int (zi ((-1)))), (3, .int (zi (1))), (0, .ref (h)), (1, .int (zi (x1))), (2, .int (zi (x2)))]) hx hb dX5_parts_70 hl (by decide) rfl (fun ls hl => ?_)
        exact hL72 x1 x2 FU S17 (1 : Int) ((-1) : Int) ((-1) : Int) (0 : Int) hh _ _ _ hM (lv_sub hl [4, 5, 6, 3, 2, 1, 0] rfl)
  replace hl : lv_has ls 9 [(0, .ref (h)), (1, .int (zi (x1))), (2, .int (zi (x2)))] := hl
  unfold M_parts at hh
  refine lv_iload_n hx hb dX5_parts_0 rfl (lv_at hl 1 rfl) ?_
  refine lv_iconst (v := zi 0) hx hb dX5_parts_1 rfl ?_
  refine lv_aload_n hx hb dX5_parts_2 rfl (lv_at hl 0 rfl) ?_
  refine mm_get X hM q1175 (mf_1 _ _) dX5_parts_3 ?_
  refine lv_iconst (v := zi 1) hx hb dX5_parts_6 rfl ?_
  refine g_isub hx hb dX5_parts_7 ?_
  obtain ⟨v2, k1, hh⟩ := bd_inv hh
  refine mcs_z (rest := []) X hM (wM_isIn l x1 (0 : Int) ((S.1 1) - 1) k1) c5_isIn.1 c5_isIn.2 ⟨rfl, rfl⟩ ⟨Nat.le_of_ble_eq_true rfl, Nat.le_of_ble_eq_true rfl⟩ ⟨Nat.zero_le _, Nat.zero_le _⟩ hl.1 (Nat.le_of_ble_eq_true rfl) dX5_parts_8 rfl (fun H locs hM => ?_)
  refine g_bif_eq (tgt := 23) hx hb dX5_parts_11 (by decide) (fun c3 => ?_) (fun c3 => ?_)
  · replace hh := it_t c3 hh
    refine lv_iload_n hx hb dX5_parts_14 rfl (lv_at hl 2 rfl) ?_
    refine lv_iconst (v := zi 0) hx hb dX5_parts_15 rfl ?_
    refine lv_iconst (v := zi 2) hx hb dX5_parts_16 rfl ?_
    obtain ⟨v5, k4, hh⟩ := bd_inv hh
    refine mcs_z (rest := []) X hM (wM_isIn l x2 (0 : Int) (2 : Int) k4) c5_isIn.1 c5_isIn.2 ⟨rfl, rfl⟩ ⟨Nat.le_of_ble_eq_true rfl, Nat.le_of_ble_eq_true rfl⟩ ⟨Nat.zero_le _, Nat.zero_le _⟩ hl.1 (Nat.le_of_ble_eq_true rfl) dX5_parts_17 rfl (fun H locs hM => ?_)
    refine g_bif_ne (tgt := 25) hx hb dX5_parts_20 (by decide) (fun c6 => ?_) (fun c6 => ?_)
    · replace hh := it_t c6 hh
      refine lv_iconst (v := zi 0) hx hb dX5_parts_25 rfl ?_
      refine lv_istore_n (lv' := [(3, .int (zi (0))), (0, .ref (h)), (1, .int (zi (x1))), (2, .int (zi (x2)))]) hx hb dX5_parts_26 rfl hl (by decide) rfl (fun ls hl => ?_)
      exact hL27 x1 x2 FU S (0 : Int) hh _ _ _ hM (lv_sub hl [1, 2, 3, 0] rfl)
    · replace hh := it_f c6 hh
      refine lv_iconst (v := zi (-1)) hx hb dX5_parts_23 rfl ?_
      exact hret _ _ _ _ _ _ (rt1 hh) (rt2 hh) dX5_parts_24 hM
  · replace hh := it_f c3 hh
    refine lv_iconst (v := zi (-1)) hx hb dX5_parts_23 rfl ?_
    exact hret _ _ _ _ _ _ (rt1 hh) (rt2 hh) dX5_parts_24 hM
def M_image (S : xS) : Option (Int × xS) := bd (M_copy23 S ) (fun S2 => some ((S2.2 2 3 : Int), S2))
set_option maxHeartbeats 4000000 in
theorem wM_image (l : Launch) (DM : va_G) (dA : Nat → ClassId) (h : Nat) (S : xS) {r : Int} {S1 : xS} (hh : M_image S  = some (r, S1)) : mt_i l yX5_image cX5_image 1 (some .int) ({ frames := 2, cells := 0, slots := 0, locals := 34 } : Room) DM dA h [] S r S1 := by
  refine mo_i (by decide) rfl (Nat.le_of_ble_eq_true rfl) ?_
  intro p e s m args below meth c Q ls X hret hl hM
  have hx := X.1.1
  have hb := X.1.2.1
  have hown := X.1.2.2.2.1
  have hts := X.1.2.2.2.2
  skip
  replace hl : lv_has ls 1 [(0, .ref (h))] := hl
  unfold M_image at hh
  refine lv_aload_n hx hb dX5_image_0 rfl (lv_at hl 0 rfl) ?_
  refine mm_get X hM q1176 (mf_2 _ _) dX5_image_1 ?_
  refine lv_aload_n hx hb dX5_image_4 rfl (lv_at hl 0 rfl) ?_
  refine mm_get X hM q1177 (mf_3 _ _) dX5_image_5 ?_
  obtain ⟨S2, k1, hh⟩ := bd_inv hh
  refine mc_sv (rest := []) X hM (wM_copy23 l DM dA h S  k1) c5_copy.1 c5_copy.2 ⟨rfl, rfl⟩ ⟨Nat.le_of_ble_eq_true rfl, Nat.le_of_ble_eq_true rfl⟩ ⟨Nat.zero_le _, Nat.zero_le _⟩ hl.1 (Nat.le_of_ble_eq_true rfl) dX5_image_8 rfl (fun H locs hM => ?_)
  refine lv_aload_n hx hb dX5_image_11 rfl (lv_at hl 0 rfl) ?_
  refine mm_get X hM q1176 (mf_2 _ _) dX5_image_12 ?_
  refine lv_iconst (v := zi 3) hx hb dX5_image_15 rfl ?_
  refine mm_iald X hM (ma_2 _ _) (by decide) dX5_image_16 ?_
  exact hret _ _ _ _ _ _ (rt1 hh) (rt2 hh) dX5_image_17 hM
def M_back (S : xS) : Option (Int × xS) := bd (M_copy32 S ) (fun S2 => some ((S2.2 2 3 : Int), S2))
set_option maxHeartbeats 4000000 in
theorem wM_back (l : Launch) (DM : va_G) (dA : Nat → ClassId) (h : Nat) (S : xS) {r : Int} {S1 : xS} (hh : M_back S  = some (r, S1)) : mt_i l yX5_back cX5_back 1 (some .int) ({ frames := 2, cells := 0, slots := 0, locals := 34 } : Room) DM dA h [] S r S1 := by
  refine mo_i (by decide) rfl (Nat.le_of_ble_eq_true rfl) ?_
  intro p e s m args below meth c Q ls X hret hl hM
  have hx := X.1.1
  have hb := X.1.2.1
  have hown := X.1.2.2.2.1
  have hts := X.1.2.2.2.2
  skip
  replace hl : lv_has ls 1 [(0, .ref (h))] := hl
  unfold M_back at hh
  refine lv_aload_n hx hb dX5_back_0 rfl (lv_at hl 0 rfl) ?_
  refine mm_get X hM q1177 (mf_3 _ _) dX5_back_1 ?_
  refine lv_aload_n hx hb dX5_back_4 rfl (lv_at hl 0 rfl) ?_
  refine mm_get X hM q1176 (mf_2 _ _) dX5_back_5 ?_
  obtain ⟨S2, k1, hh⟩ := bd_inv hh
  refine mc_sv (rest := []) X hM (wM_copy32 l DM dA h S  k1) c5_copy.1 c5_copy.2 ⟨rfl, rfl⟩ ⟨Nat.le_of_ble_eq_true rfl, Nat.le_of_ble_eq_true rfl⟩ ⟨Nat.zero_le _, Nat.zero_le _⟩ hl.1 (Nat.le_of_ble_eq_true rfl) dX5_back_8 rfl (fun H locs hM => ?_)
  refine lv_aload_n hx hb dX5_back_11 rfl (lv_at hl 0 rfl) ?_
  refine mm_get X hM q1176 (mf_2 _ _) dX5_back_12 ?_
  refine lv_iconst (v := zi 3) hx hb dX5_back_15 rfl ?_
  refine mm_iald X hM (ma_2 _ _) (by decide) dX5_back_16 ?_
  exact hret _ _ _ _ _ _ (rt1 hh) (rt2 hh) dX5_back_17 hM
def M_about_B137 (K106 : Int → Int → Option Int) (S : xS) (x3 : Int) (t0 : Int) (t1 : Int) : Option Int := nm (t1 + t0) (fun v7 => nm ((x3 + 1) : Int) (fun v9 => K106 v7 v9))
def M_about_b106 (S : xS) (K106 : Int → Int → Option Int) (x2 : Int) (x3 : Int) : Option Int := gd (r32 (x3) ∧ r32 ((S.1 0) * (S.1 1))) (if x3 < ((S.1 0) * (S.1 1)) then (gd ((0 : Int) ≤ 10 + x3 ∧ (10 + x3 : Int) < 3170) (gd (r32 (S.2 2 (10 + x3))) (if (S.2 2 (10 + x3)) ≤ 0 then (M_about_B137 K106 S x3 (0 : Int) x2) else (M_about_B137 K106 S x3 (1 : Int) x2)))) else (some ((x2 : Int))))
def M_about_L106 (S : xS) : Nat → Int → Int → Option Int
  | 0 => fun _ _ => none
  | n + 1 => fun x2 x3 => M_about_b106 S (M_about_L106 S n) x2 x3
def M_about (S : xS) (x1 : Int) : Option Int := gd (r32 (x1)) (if x1 = 0 then (some ((S.1 0 : Int))) else if x1 = 1 then (some ((S.1 1 : Int))) else if x1 = 2 then (some ((S.2 2 0 : Int))) else if x1 = 3 then (some ((S.2 2 1 : Int))) else if x1 = 4 then (some ((S.2 2 2 : Int))) else if x1 = 5 then (some ((S.2 2 3 : Int))) else if x1 = 6 then (some ((S.2 2 4 : Int))) else if x1 = 7 then (some ((S.1 10 : Int))) else if x1 = 8 then (M_about_L106 S FU (0 : Int) (0 : Int)) else (some (((-1) : Int))))
set_option maxHeartbeats 4000000 in
theorem wM_about (l : Launch) (DM : va_G) (dA : Nat → ClassId) (h : Nat) (S : xS) (x1 : Int) {r : Int} (hh : M_about S x1 = some r) : mt_i l yX5_about cX5_about 4 (some .int) ({ frames := 1, cells := 0, slots := 0, locals := 12 } : Room) DM dA h [.int (zi x1)] S r S := by
  refine mo_i (by decide) rfl (Nat.le_of_ble_eq_true rfl) ?_
  intro p e s m args below meth c Q ls X hret hl hM
  have hx := X.1.1
  have hb := X.1.2.1
  have hown := X.1.2.2.2.1
  have hts := X.1.2.2.2.2
  skip
  have hB137 : ∀ (x3 : Int) (t0 : Int) (t1 : Int) (K106 : Int → Int → Option Int) (hK106 : (∀ (x2 : Int) (x3 : Int), K106 x2 x3 = some r → ∀ (H : Heap) (locs : List Loc) (ls : Array Slot), MX DM dA h S s H locs → lv_has ls 4 [(0, .ref (h)), (2, .int (zi (x2))), (3, .int (zi (x3)))] → W p l e ({ frames := 1, cells := 0, slots := 0, locals := 12 } : Room) s m args below meth c H locs 0 0 Q (F0 m 106 ls []))), M_about_B137 K106 S x3 t0 t1 = some r → ∀ (H : Heap) (locs : List Loc) (ls : Array Slot), MX DM dA h S s H locs → lv_has ls 4 [(0, .ref (h)), (3, .int (zi (x3)))] → W p l e ({ frames := 1, cells := 0, slots := 0, locals := 12 } : Room) s m args below meth c H locs 0 0 Q (F0 m 137 ls [.int (zi (t0)), .int (zi (t1))]) := by
    intro x3 t0 t1 K106 hK106 hh H locs ls hM hl
    unfold M_about_B137 at hh
    refine g_iadd hx hb dX5_about_137 ?_
    refine g_nmi hx hb (fun v7 e8 => ?_)
    replace hh := nm_inv hh v7 e8
    refine lv_istore_n (lv' := [(2, .int (zi (v7))), (0, .ref (h)), (3, .int (zi (x3)))]) hx hb dX5_about_138 rfl hl (by decide) rfl (fun ls hl => ?_)
    obtain ⟨v9, e10⟩ : ∃ z : Int, z = x3 + 1 := ⟨_, rfl⟩
    replace hh := nm_inv hh v9 e10
    refine lv_iinc (v := zi v9) (lv' := [(3, .int (zi (v9))), (2, .int (zi (v7))), (0, .ref (h))]) hx hb dX5_about_139 hl (k := 2) rfl (by rw [e10]; exact zi_add _ _) (by decide) rfl (fun ls hl => ?_)
    refine lv_goto (tgt := 106) hx hb dX5_about_142 (by decide) ?_
    exact hK106 v7 v9 hh _ _ _ hM (lv_sub hl [2, 1, 0] rfl)
  have hL106 : ∀ (n : Nat) (x2 : Int) (x3 : Int), M_about_L106 S n x2 x3 = some r → ∀ (H : Heap) (locs : List Loc) (ls : Array Slot), MX DM dA h S s H locs → lv_has ls 4 [(0, .ref (h)), (2, .int (zi (x2))), (3, .int (zi (x3)))] → W p l e ({ frames := 1, cells := 0, slots := 0, locals := 12 } : Room) s m args below meth c H locs 0 0 Q (F0 m 106 ls []) := by
    intro   n
    induction n with
    | zero => intro x2 x3 hh; exact no_some hh
    | succ n ih =>
      intro x2 x3 hh H locs ls hM hl
      replace hh : M_about_b106 S (M_about_L106 S n) x2 x3 = some r := hh
      unfold M_about_b106 at hh
      have hK106 := ih
      refine lv_iload_n hx hb dX5_about_106 rfl (lv_at hl 2 rfl) ?_
      refine lv_aload_n hx hb dX5_about_107 rfl (lv_at hl 0 rfl) ?_
      refine mm_get X hM q1174 (mf_0 _ _) dX5_about_108 ?_
      refine lv_aload_n hx hb dX5_about_111 rfl (lv_at hl 0 rfl) ?_
      refine mm_get X hM q1175 (mf_1 _ _) dX5_about_112 ?_
      refine g_imul hx hb dX5_about_115 ?_
      obtain ⟨g3, hh⟩ := gd_inv hh
      refine g_icmp_ge (tgt := 145) hx hb g3 dX5_about_116 (by decide) (fun c2 => ?_) (fun c2 => ?_)
      · replace hh := it_t c2 hh
        refine lv_iload_n hx hb dX5_about_119 rfl (lv_at hl 1 rfl) ?_
        refine lv_aload_n hx hb dX5_about_120 rfl (lv_at hl 0 rfl) ?_
        refine mm_get X hM q1176 (mf_2 _ _) dX5_about_121 ?_
        refine lv_bipush (v := zi 10) hx hb dX5_about_124 (by decide) ?_
        refine lv_iload_n hx hb dX5_about_126 rfl (lv_at hl 2 rfl) ?_
        refine g_iadd hx hb dX5_about_127 ?_
        obtain ⟨g4, hh⟩ := gd_inv hh
        refine mm_iald X hM (ma_2 _ _) g4 dX5_about_128 ?_
        obtain ⟨g6, hh⟩ := gd_inv hh
        refine g_if_le (tgt := 136) hx hb g6 dX5_about_129 (by decide) (fun c5 => ?_) (fun c5 => ?_)
        · replace hh := it_t c5 hh
          refine lv_iconst (v := zi 0) hx hb dX5_about_136 rfl ?_
          exact hB137 x3 (0 : Int) x2 _ hK106 hh _ _ _ hM (lv_sub hl [0, 2] rfl)
        · replace hh := it_f c5 hh
          refine lv_iconst (v := zi 1) hx hb dX5_about_132 rfl ?_
          refine lv_goto (tgt := 137) hx hb dX5_about_133 (by decide) ?_
          exact hB137 x3 (1 : Int) x2 _ hK106 hh _ _ _ hM (lv_sub hl [0, 2] rfl)
      · replace hh := it_f c2 hh
        refine lv_iload_n hx hb dX5_about_145 rfl (lv_at hl 1 rfl) ?_
        exact hret _ _ _ _ _ _ (rt0 hh) rfl dX5_about_146 hM
  replace hl : lv_has ls 4 [(0, .ref (h)), (1, .int (zi (x1)))] := hl
  unfold M_about at hh
  refine lv_iload_n hx hb dX5_about_0 rfl (lv_at hl 1 rfl) ?_
  obtain ⟨g1, hh⟩ := gd_inv hh
  by_cases c11 : x1 = 0
  · replace hh := it_t c11 hh
    refine g_tabIn (z0 := 0) (off := 51) (tgt := 52) hx hb dX5_about_1 c11 (by decide) (by decide) (by decide) rfl (by decide) ?_
    refine lv_aload_n hx hb dX5_about_52 rfl (lv_at hl 0 rfl) ?_
    refine mm_get X hM q1174 (mf_0 _ _) dX5_about_53 ?_
    exact hret _ _ _ _ _ _ (rt0 hh) rfl dX5_about_56 hM
  replace hh := it_f c11 hh
  by_cases c12 : x1 = 1
  · replace hh := it_t c12 hh
    refine g_tabIn (z0 := 1) (off := 56) (tgt := 57) hx hb dX5_about_1 c12 (by decide) (by decide) (by decide) rfl (by decide) ?_
    refine lv_aload_n hx hb dX5_about_57 rfl (lv_at hl 0 rfl) ?_
    refine mm_get X hM q1175 (mf_1 _ _) dX5_about_58 ?_
    exact hret _ _ _ _ _ _ (rt0 hh) rfl dX5_about_61 hM
  replace hh := it_f c12 hh
  by_cases c13 : x1 = 2
  · replace hh := it_t c13 hh
    refine g_tabIn (z0 := 2) (off := 61) (tgt := 62) hx hb dX5_about_1 c13 (by decide) (by decide) (by decide) rfl (by decide) ?_
    refine lv_aload_n hx hb dX5_about_62 rfl (lv_at hl 0 rfl) ?_
    refine mm_get X hM q1176 (mf_2 _ _) dX5_about_63 ?_
    refine lv_iconst (v := zi 0) hx hb dX5_about_66 rfl ?_
    refine mm_iald X hM (ma_2 _ _) (by decide) dX5_about_67 ?_
    exact hret _ _ _ _ _ _ (rt0 hh) rfl dX5_about_68 hM
  replace hh := it_f c13 hh
  by_cases c14 : x1 = 3
  · replace hh := it_t c14 hh
    refine g_tabIn (z0 := 3) (off := 68) (tgt := 69) hx hb dX5_about_1 c14 (by decide) (by decide) (by decide) rfl (by decide) ?_
    refine lv_aload_n hx hb dX5_about_69 rfl (lv_at hl 0 rfl) ?_
    refine mm_get X hM q1176 (mf_2 _ _) dX5_about_70 ?_
    refine lv_iconst (v := zi 1) hx hb dX5_about_73 rfl ?_
    refine mm_iald X hM (ma_2 _ _) (by decide) dX5_about_74 ?_
    exact hret _ _ _ _ _ _ (rt0 hh) rfl dX5_about_75 hM
  replace hh := it_f c14 hh
  by_cases c15 : x1 = 4
  · replace hh := it_t c15 hh
    refine g_tabIn (z0 := 4) (off := 75) (tgt := 76) hx hb dX5_about_1 c15 (by decide) (by decide) (by decide) rfl (by decide) ?_
    refine lv_aload_n hx hb dX5_about_76 rfl (lv_at hl 0 rfl) ?_
    refine mm_get X hM q1176 (mf_2 _ _) dX5_about_77 ?_
    refine lv_iconst (v := zi 2) hx hb dX5_about_80 rfl ?_
    refine mm_iald X hM (ma_2 _ _) (by decide) dX5_about_81 ?_
    exact hret _ _ _ _ _ _ (rt0 hh) rfl dX5_about_82 hM
  replace hh := it_f c15 hh
  by_cases c16 : x1 = 5
  · replace hh := it_t c16 hh
    refine g_tabIn (z0 := 5) (off := 82) (tgt := 83) hx hb dX5_about_1 c16 (by decide) (by decide) (by decide) rfl (by decide) ?_
    refine lv_aload_n hx hb dX5_about_83 rfl (lv_at hl 0 rfl) ?_
    refine mm_get X hM q1176 (mf_2 _ _) dX5_about_84 ?_
    refine lv_iconst (v := zi 3) hx hb dX5_about_87 rfl ?_
    refine mm_iald X hM (ma_2 _ _) (by decide) dX5_about_88 ?_
    exact hret _ _ _ _ _ _ (rt0 hh) rfl dX5_about_89 hM
  replace hh := it_f c16 hh
  by_cases c17 : x1 = 6
  · replace hh := it_t c17 hh
    refine g_tabIn (z0 := 6) (off := 89) (tgt := 90) hx hb dX5_about_1 c17 (by decide) (by decide) (by decide) rfl (by decide) ?_
    refine lv_aload_n hx hb dX5_about_90 rfl (lv_at hl 0 rfl) ?_
    refine mm_get X hM q1176 (mf_2 _ _) dX5_about_91 ?_
    refine lv_iconst (v := zi 4) hx hb dX5_about_94 rfl ?_
    refine mm_iald X hM (ma_2 _ _) (by decide) dX5_about_95 ?_
    exact hret _ _ _ _ _ _ (rt0 hh) rfl dX5_about_96 hM
  replace hh := it_f c17 hh
  by_cases c18 : x1 = 7
  · replace hh := it_t c18 hh
    refine g_tabIn (z0 := 7) (off := 96) (tgt := 97) hx hb dX5_about_1 c18 (by decide) (by decide) (by decide) rfl (by decide) ?_
    refine lv_aload_n hx hb dX5_about_97 rfl (lv_at hl 0 rfl) ?_
    refine mm_get X hM q1184 (mf_10 _ _) dX5_about_98 ?_
    exact hret _ _ _ _ _ _ (rt0 hh) rfl dX5_about_101 hM
  replace hh := it_f c18 hh
  by_cases c19 : x1 = 8
  · replace hh := it_t c19 hh
    refine g_tabIn (z0 := 8) (off := 101) (tgt := 102) hx hb dX5_about_1 c19 (by decide) (by decide) (by decide) rfl (by decide) ?_
    refine lv_iconst (v := zi 0) hx hb dX5_about_102 rfl ?_
    refine lv_istore_n (lv' := [(2, .int (zi (0))), (0, .ref (h)), (1, .int (zi (x1)))]) hx hb dX5_about_103 rfl hl (by decide) rfl (fun ls hl => ?_)
    refine lv_iconst (v := zi 0) hx hb dX5_about_104 rfl ?_
    refine lv_istore_n (lv' := [(3, .int (zi (0))), (2, .int (zi (0))), (0, .ref (h)), (1, .int (zi (x1)))]) hx hb dX5_about_105 rfl hl (by decide) rfl (fun ls hl => ?_)
    exact hL106 FU (0 : Int) (0 : Int) hh _ _ _ hM (lv_sub hl [2, 1, 0] rfl)
  replace hh := it_f c19 hh
  refine g_tabOut (tgt := 147) hx hb dX5_about_1 g1 (by omega) (by decide) ?_
  refine lv_iconst (v := zi (-1)) hx hb dX5_about_147 rfl ?_
  exact hret _ _ _ _ _ _ (rt0 hh) rfl dX5_about_148 hM
