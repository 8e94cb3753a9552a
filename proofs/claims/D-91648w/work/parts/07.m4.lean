set_option maxRecDepth 100000
def M_hasParen_b2 (S : xS) (K2 : Int → Option Bool) (x1 : Int) : Option Bool := gd (r32 (x1) ∧ r32 (S.1 24)) (if x1 < (S.1 24) then (gd ((0 : Int) ≤ x1 ∧ (x1 : Int) < 160) (gd (r32 (S.2 23 x1)) (if (S.2 23 x1) < 40 then (nm ((x1 + 1) : Int) (fun v6 => K2 v6)) else (some (true))))) else (some (false)))
def M_hasParen_L2 (S : xS) : Nat → Int → Option Bool
  | 0 => fun _ => none
  | n + 1 => fun x1 => M_hasParen_b2 S (M_hasParen_L2 S n) x1
def M_hasParen (S : xS) : Option Bool := M_hasParen_L2 S FU (0 : Int)
set_option maxHeartbeats 4000000 in
theorem wM_hasParen (l : Launch) (DM : va_G) (dA : Nat → ClassId) (h : Nat) (S : xS) {r : Bool} (hh : M_hasParen S  = some r) : mt_z l yX5_hasParen cX5_hasParen 2 (some .boolean) ({ frames := 1, cells := 0, slots := 0, locals := 12 } : Room) DM dA h [] S r S := by
  refine mo_z (by decide) rfl (Nat.le_of_ble_eq_true rfl) ?_
  intro p e s m args below meth c Q ls X hret hl hM
  have hx := X.1.1
  have hb := X.1.2.1
  have hown := X.1.2.2.2.1
  have hts := X.1.2.2.2.2
  skip
  have hL2 : ∀ (n : Nat) (x1 : Int), M_hasParen_L2 S n x1 = some r → ∀ (H : Heap) (locs : List Loc) (ls : Array Slot), MX DM dA h S s H locs → lv_has ls 2 [(0, .ref (h)), (1, .int (zi (x1)))] → W p l e ({ frames := 1, cells := 0, slots := 0, locals := 12 } : Room) s m args below meth c H locs 0 0 Q (F0 m 2 ls []) := by
    intro   n
    induction n with
    | zero => intro x1 hh; exact no_some hh
    | succ n ih =>
      intro x1 hh H locs ls hM hl
      replace hh : M_hasParen_b2 S (M_hasParen_L2 S n) x1 = some r := hh
      unfold M_hasParen_b2 at hh
      have hK2 := ih
      refine lv_iload_n hx hb dX5_hasParen_2 rfl (lv_at hl 1 rfl) ?_
      refine lv_aload_n hx hb dX5_hasParen_3 rfl (lv_at hl 0 rfl) ?_
      refine mm_get X hM q1198 (mf_24 _ _) dX5_hasParen_4 ?_
      obtain ⟨g2, hh⟩ := gd_inv hh
      refine g_icmp_ge (tgt := 29) hx hb g2 dX5_hasParen_7 (by decide) (fun c1 => ?_) (fun c1 => ?_)
      · replace hh := it_t c1 hh
        refine lv_aload_n hx hb dX5_hasParen_10 rfl (lv_at hl 0 rfl) ?_
        refine mm_get X hM q1197 (mf_23 _ _) dX5_hasParen_11 ?_
        refine lv_iload_n hx hb dX5_hasParen_14 rfl (lv_at hl 1 rfl) ?_
        obtain ⟨g3, hh⟩ := gd_inv hh
        refine mm_iald X hM (ma_23 _ _) g3 dX5_hasParen_15 ?_
        refine lv_bipush (v := zi 40) hx hb dX5_hasParen_16 (by decide) ?_
        obtain ⟨g5, hh⟩ := gd_inv hh
        refine g_icmp_lt (tgt := 23) hx hb ⟨g5, by decide⟩ dX5_hasParen_18 (by decide) (fun c4 => ?_) (fun c4 => ?_)
        · replace hh := it_t c4 hh
          obtain ⟨v6, e7⟩ : ∃ z : Int, z = x1 + 1 := ⟨_, rfl⟩
          replace hh := nm_inv hh v6 e7
          refine lv_iinc (v := zi v6) (lv' := [(1, .int (zi (v6))), (0, .ref (h))]) hx hb dX5_hasParen_23 hl (k := 1) rfl (by rw [e7]; exact zi_add _ _) (by decide) rfl (fun ls hl => ?_)
          refine lv_goto (tgt := 2) hx hb dX5_hasParen_26 (by decide) ?_
          exact hK2 v6 hh _ _ _ hM (lv_sub hl [1, 0] rfl)
        · replace hh := it_f c4 hh
          refine lv_iconst (v := zi 1) hx hb dX5_hasParen_21 rfl ?_
          refine W.eq (g2 := F0 m 22 ls [.int (zi (bz true))]) rfl ?_
          exact hret _ _ _ _ _ _ (rt0 hh) rfl dX5_hasParen_22 hM
      · replace hh := it_f c1 hh
        refine lv_iconst (v := zi 0) hx hb dX5_hasParen_29 rfl ?_
        refine W.eq (g2 := F0 m 30 ls [.int (zi (bz false))]) rfl ?_
        exact hret _ _ _ _ _ _ (rt0 hh) rfl dX5_hasParen_30 hM
  replace hl : lv_has ls 2 [(0, .ref (h))] := hl
  unfold M_hasParen at hh
  refine lv_iconst (v := zi 0) hx hb dX5_hasParen_0 rfl ?_
  refine lv_istore_n (lv' := [(1, .int (zi (0))), (0, .ref (h))]) hx hb dX5_hasParen_1 rfl hl (by decide) rfl (fun ls hl => ?_)
  exact hL2 FU (0 : Int) hh _ _ _ hM (lv_sub hl [1, 0] rfl)
def M_goesOn_B54 (S : xS) : Option Bool := bd (M_hasParen S ) (fun v12 => if v12 = true then (some (true)) else (some (false)))
def M_goesOn (S : xS) : Option Bool := gd (r32 (S.1 15)) (if (S.1 15) = 43 then (some (true)) else (gd (r32 (S.1 15)) (if (S.1 15) = 45 then (some (true)) else (gd (r32 (S.1 15)) (if (S.1 15) = 42 then (some (true)) else (gd (r32 (S.1 15)) (if (S.1 15) = 47 then (some (true)) else (gd (r32 (S.1 15)) (if (S.1 15) = 44 then (M_goesOn_B54 S) else (gd (r32 (S.1 15)) (if (S.1 15) = 41 then (M_goesOn_B54 S) else (some (false)))))))))))))
set_option maxHeartbeats 4000000 in
theorem wM_goesOn (l : Launch) (DM : va_G) (dA : Nat → ClassId) (h : Nat) (S : xS) {r : Bool} (hh : M_goesOn S  = some r) : mt_z l yX5_goesOn cX5_goesOn 1 (some .boolean) ({ frames := 2, cells := 0, slots := 0, locals := 33 } : Room) DM dA h [] S r S := by
  refine mo_z (by decide) rfl (Nat.le_of_ble_eq_true rfl) ?_
  intro p e s m args below meth c Q ls X hret hl hM
  have hx := X.1.1
  have hb := X.1.2.1
  have hown := X.1.2.2.2.1
  have hts := X.1.2.2.2.2
  skip
  have hB54 : M_goesOn_B54 S = some r → ∀ (H : Heap) (locs : List Loc) (ls : Array Slot), MX DM dA h S s H locs → lv_has ls 1 [(0, .ref (h))] → W p l e ({ frames := 2, cells := 0, slots := 0, locals := 33 } : Room) s m args below meth c H locs 0 0 Q (F0 m 54 ls []) := by
    intro   hh H locs ls hM hl
    unfold M_goesOn_B54 at hh
    refine lv_aload_n hx hb dX5_goesOn_54 rfl (lv_at hl 0 rfl) ?_
    obtain ⟨v12, k11, hh⟩ := bd_inv hh
    refine mc_z (rest := []) X hM (wM_hasParen l DM dA h S  k11) c5_hasParen.1 c5_hasParen.2 ⟨rfl, rfl⟩ ⟨Nat.le_of_ble_eq_true rfl, Nat.le_of_ble_eq_true rfl⟩ ⟨Nat.zero_le _, Nat.zero_le _⟩ hl.1 (Nat.le_of_ble_eq_true rfl) dX5_goesOn_55 rfl (fun H locs hM => ?_)
    refine g_bif_eq (tgt := 65) hx hb dX5_goesOn_58 (by decide) (fun c13 => ?_) (fun c13 => ?_)
    · replace hh := it_t c13 hh
      refine lv_iconst (v := zi 1) hx hb dX5_goesOn_61 rfl ?_
      refine lv_goto (tgt := 66) hx hb dX5_goesOn_62 (by decide) ?_
      refine W.eq (g2 := F0 m 66 ls [.int (zi (bz true))]) rfl ?_
      exact hret _ _ _ _ _ _ (rt0 hh) rfl dX5_goesOn_66 hM
    · replace hh := it_f c13 hh
      refine lv_iconst (v := zi 0) hx hb dX5_goesOn_65 rfl ?_
      refine W.eq (g2 := F0 m 66 ls [.int (zi (bz false))]) rfl ?_
      exact hret _ _ _ _ _ _ (rt0 hh) rfl dX5_goesOn_66 hM
  replace hl : lv_has ls 1 [(0, .ref (h))] := hl
  unfold M_goesOn at hh
  refine lv_aload_n hx hb dX5_goesOn_0 rfl (lv_at hl 0 rfl) ?_
  refine mm_get X hM q1189 (mf_15 _ _) dX5_goesOn_1 ?_
  refine lv_bipush (v := zi 43) hx hb dX5_goesOn_4 (by decide) ?_
  obtain ⟨g2, hh⟩ := gd_inv hh
  refine g_icmp_eq (tgt := 61) hx hb ⟨g2, by decide⟩ dX5_goesOn_6 (by decide) (fun c1 => ?_) (fun c1 => ?_)
  · replace hh := it_t c1 hh
    refine lv_iconst (v := zi 1) hx hb dX5_goesOn_61 rfl ?_
    refine lv_goto (tgt := 66) hx hb dX5_goesOn_62 (by decide) ?_
    refine W.eq (g2 := F0 m 66 ls [.int (zi (bz true))]) rfl ?_
    exact hret _ _ _ _ _ _ (rt0 hh) rfl dX5_goesOn_66 hM
  · replace hh := it_f c1 hh
    refine lv_aload_n hx hb dX5_goesOn_9 rfl (lv_at hl 0 rfl) ?_
    refine mm_get X hM q1189 (mf_15 _ _) dX5_goesOn_10 ?_
    refine lv_bipush (v := zi 45) hx hb dX5_goesOn_13 (by decide) ?_
    obtain ⟨g4, hh⟩ := gd_inv hh
    refine g_icmp_eq (tgt := 61) hx hb ⟨g4, by decide⟩ dX5_goesOn_15 (by decide) (fun c3 => ?_) (fun c3 => ?_)
    · replace hh := it_t c3 hh
      refine lv_iconst (v := zi 1) hx hb dX5_goesOn_61 rfl ?_
      refine lv_goto (tgt := 66) hx hb dX5_goesOn_62 (by decide) ?_
      refine W.eq (g2 := F0 m 66 ls [.int (zi (bz true))]) rfl ?_
      exact hret _ _ _ _ _ _ (rt0 hh) rfl dX5_goesOn_66 hM
    · replace hh := it_f c3 hh
      refine lv_aload_n hx hb dX5_goesOn_18 rfl (lv_at hl 0 rfl) ?_
      refine mm_get X hM q1189 (mf_15 _ _) dX5_goesOn_19 ?_
      refine lv_bipush (v := zi 42) hx hb dX5_goesOn_22 (by decide) ?_
      obtain ⟨g6, hh⟩ := gd_inv hh
      refine g_icmp_eq (tgt := 61) hx hb ⟨g6, by decide⟩ dX5_goesOn_24 (by decide) (fun c5 => ?_) (fun c5 => ?_)
      · replace hh := it_t c5 hh
        refine lv_iconst (v := zi 1) hx hb dX5_goesOn_61 rfl ?_
        refine lv_goto (tgt := 66) hx hb dX5_goesOn_62 (by decide) ?_
        refine W.eq (g2 := F0 m 66 ls [.int (zi (bz true))]) rfl ?_
        exact hret _ _ _ _ _ _ (rt0 hh) rfl dX5_goesOn_66 hM
      · replace hh := it_f c5 hh
        refine lv_aload_n hx hb dX5_goesOn_27 rfl (lv_at hl 0 rfl) ?_
        refine mm_get X hM q1189 (mf_15 _ _) dX5_goesOn_28 ?_
        refine lv_bipush (v := zi 47) hx hb dX5_goesOn_31 (by decide) ?_
        obtain ⟨g8, hh⟩ := gd_inv hh
        refine g_icmp_eq (tgt := 61) hx hb ⟨g8, by decide⟩ dX5_goesOn_33 (by decide) (fun c7 => ?_) (fun c7 => ?_)
        · replace hh := it_t c7 hh
          refine lv_iconst (v := zi 1) hx hb dX5_goesOn_61 rfl ?_
          refine lv_goto (tgt := 66) hx hb dX5_goesOn_62 (by decide) ?_
          refine W.eq (g2 := F0 m 66 ls [.int (zi (bz true))]) rfl ?_
          exact hret _ _ _ _ _ _ (rt0 hh) rfl dX5_goesOn_66 hM
        · replace hh := it_f c7 hh
          refine lv_aload_n hx hb dX5_goesOn_36 rfl (lv_at hl 0 rfl) ?_
          refine mm_get X hM q1189 (mf_15 _ _) dX5_goesOn_37 ?_
          refine lv_bipush (v := zi 44) hx hb dX5_goesOn_40 (by decide) ?_
          obtain ⟨g10, hh⟩ := gd_inv hh
          refine g_icmp_eq (tgt := 54) hx hb ⟨g10, by decide⟩ dX5_goesOn_42 (by decide) (fun c9 => ?_) (fun c9 => ?_)
          · replace hh := it_t c9 hh
            exact hB54 hh _ _ _ hM (lv_sub hl [0] rfl)
          · replace hh := it_f c9 hh
            refine lv_aload_n hx hb dX5_goesOn_45 rfl (lv_at hl 0 rfl) ?_
            refine mm_get X hM q1189 (mf_15 _ _) dX5_goesOn_46 ?_
            refine lv_bipush (v := zi 41) hx hb dX5_goesOn_49 (by decide) ?_
            obtain ⟨g15, hh⟩ := gd_inv hh
            refine g_icmp_ne (tgt := 65) hx hb ⟨g15, by decide⟩ dX5_goesOn_51 (by decide) (fun c14 => ?_) (fun c14 => ?_)
            · replace hh := it_t c14 hh
              exact hB54 hh _ _ _ hM (lv_sub hl [0] rfl)
            · replace hh := it_f c14 hh
              refine lv_iconst (v := zi 0) hx hb dX5_goesOn_65 rfl ?_
              refine W.eq (g2 := F0 m 66 ls [.int (zi (bz false))]) rfl ?_
              exact hret _ _ _ _ _ _ (rt0 hh) rfl dX5_goesOn_66 hM
def M_emit (S : xS) (x1 : Int) (x2 : Int) : Option xS := gd ((0 : Int) ≤ ((S.1 18) + 80) + (2 * (S.1 20)) ∧ (((S.1 18) + 80) + (2 * (S.1 20)) : Int) < 6400) (nm (aset S 4 (((S.1 18) + 80) + (2 * (S.1 20))) x1) (fun S2 => gd ((0 : Int) ≤ (((S2.1 18) + 80) + (2 * (S2.1 20))) + 1 ∧ ((((S2.1 18) + 80) + (2 * (S2.1 20))) + 1 : Int) < 6400) (nm (aset S2 4 ((((S2.1 18) + 80) + (2 * (S2.1 20))) + 1) x2) (fun S5 => nm (fset S5 20 ((S5.1 20) + 1)) (fun S7 => some S7)))))
set_option maxHeartbeats 4000000 in
theorem wM_emit (l : Launch) (DM : va_G) (dA : Nat → ClassId) (h : Nat) (S : xS) (x1 x2 : Int) {S1 : xS} (hh : M_emit S x1 x2 = some S1) : mt_v l yX5_emit cX5_emit 3 ({ frames := 1, cells := 0, slots := 0, locals := 12 } : Room) DM dA h [.int (zi x1), .int (zi x2)] S S1 := by
  refine mo_v (by decide) rfl (Nat.le_of_ble_eq_true rfl) ?_
  intro p e s m args below meth c Q ls X hret hl hM
  have hx := X.1.1
  have hb := X.1.2.1
  have hown := X.1.2.2.2.1
  have hts := X.1.2.2.2.2
  skip
  replace hl : lv_has ls 3 [(0, .ref (h)), (1, .int (zi (x1))), (2, .int (zi (x2)))] := hl
  unfold M_emit at hh
  refine lv_aload_n hx hb dX5_emit_0 rfl (lv_at hl 0 rfl) ?_
  refine mm_get X hM q1178 (mf_4 _ _) dX5_emit_1 ?_
  refine lv_aload_n hx hb dX5_emit_4 rfl (lv_at hl 0 rfl) ?_
  refine mm_get X hM q1192 (mf_18 _ _) dX5_emit_5 ?_
  refine lv_bipush (v := zi 80) hx hb dX5_emit_8 (by decide) ?_
  refine g_iadd hx hb dX5_emit_10 ?_
  refine lv_iconst (v := zi 2) hx hb dX5_emit_11 rfl ?_
  refine lv_aload_n hx hb dX5_emit_12 rfl (lv_at hl 0 rfl) ?_
  refine mm_get X hM q1194 (mf_20 _ _) dX5_emit_13 ?_
  refine g_imul hx hb dX5_emit_16 ?_
  refine g_iadd hx hb dX5_emit_17 ?_
  refine lv_iload_n hx hb dX5_emit_18 rfl (lv_at hl 1 rfl) ?_
  obtain ⟨g1, hh⟩ := gd_inv hh
  refine mm_iast X hM (ma_4 _ _) g1 dX5_emit_19 (fun H locs S2 e3 hM => ?_)
  replace hh := nm_inv hh S2 e3
  refine lv_aload_n hx hb dX5_emit_20 rfl (lv_at hl 0 rfl) ?_
  refine mm_get X hM q1178 (mf_4 _ _) dX5_emit_21 ?_
  refine lv_aload_n hx hb dX5_emit_24 rfl (lv_at hl 0 rfl) ?_
  refine mm_get X hM q1192 (mf_18 _ _) dX5_emit_25 ?_
  refine lv_bipush (v := zi 80) hx hb dX5_emit_28 (by decide) ?_
  refine g_iadd hx hb dX5_emit_30 ?_
  refine lv_iconst (v := zi 2) hx hb dX5_emit_31 rfl ?_
  refine lv_aload_n hx hb dX5_emit_32 rfl (lv_at hl 0 rfl) ?_
  refine mm_get X hM q1194 (mf_20 _ _) dX5_emit_33 ?_
  refine g_imul hx hb dX5_emit_36 ?_
  refine g_iadd hx hb dX5_emit_37 ?_
  refine lv_iconst (v := zi 1) hx hb dX5_emit_38 rfl ?_
  refine g_iadd hx hb dX5_emit_39 ?_
  refine lv_iload_n hx hb dX5_emit_40 rfl (lv_at hl 2 rfl) ?_
  obtain ⟨g4, hh⟩ := gd_inv hh
  refine mm_iast X hM (ma_4 _ _) g4 dX5_emit_41 (fun H locs S5 e6 hM => ?_)
  replace hh := nm_inv hh S5 e6
  refine lv_aload_n hx hb dX5_emit_42 rfl (lv_at hl 0 rfl) ?_
  refine lv_dup hx hb dX5_emit_43 rfl ?_
  refine mm_get X hM q1194 (mf_20 _ _) dX5_emit_44 ?_
  refine lv_iconst (v := zi 1) hx hb dX5_emit_47 rfl ?_
  refine g_iadd hx hb dX5_emit_48 ?_
  refine mm_put X hM q1194 (mp_20 _ _ _) dX5_emit_49 (fun H locs S7 e8 hM => ?_)
  replace hh := nm_inv hh S7 e8
  exact hret _ _ _ _ _ (rt0 hh) dX5_emit_52 hM
def M_settle_b0 (x1 : Int) (K0 : xS → Option xS) (S : xS) : Option xS := gd (r32 (S.1 24)) (if (S.1 24) ≤ 0 then (some S) else (gd ((0 : Int) ≤ (S.1 24) - 1 ∧ ((S.1 24) - 1 : Int) < 160) (gd (r32 (S.2 23 ((S.1 24) - 1))) (if (S.2 23 ((S.1 24) - 1)) < 40 then (gd ((0 : Int) ≤ (S.1 24) - 1 ∧ ((S.1 24) - 1 : Int) < 160) (gd (r32 (S.2 23 ((S.1 24) - 1)) ∧ r32 (x1)) (if (S.2 23 ((S.1 24) - 1)) < x1 then (some S) else (nm (fset S 24 ((S.1 24) - 1)) (fun S9 => gd ((0 : Int) ≤ S9.1 24 ∧ (S9.1 24 : Int) < 160) (bd (M_emit S9 (S9.2 23 (S9.1 24)) (0 : Int)) (fun S13 => K0 S13))))))) else (some S)))))
def M_settle_L0 (x1 : Int) : Nat → xS → Option xS
  | 0 => fun _ => none
  | n + 1 => fun S => M_settle_b0 x1 (M_settle_L0 x1 n) S
def M_settle (S : xS) (x1 : Int) : Option xS := M_settle_L0 x1 FU S
set_option maxHeartbeats 4000000 in
theorem wM_settle (l : Launch) (DM : va_G) (dA : Nat → ClassId) (h : Nat) (S : xS) (x1 : Int) {S1 : xS} (hh : M_settle S x1 = some S1) : mt_v l yX5_settle cX5_settle 2 ({ frames := 2, cells := 0, slots := 0, locals := 34 } : Room) DM dA h [.int (zi x1)] S S1 := by
  refine mo_v (by decide) rfl (Nat.le_of_ble_eq_true rfl) ?_
  intro p e s m args below meth c Q ls X hret hl hM
  have hx := X.1.1
  have hb := X.1.2.1
  have hown := X.1.2.2.2.1
  have hts := X.1.2.2.2.2
  skip
  have hL0 : ∀ (x1 : Int) (n : Nat) (S : xS), M_settle_L0 x1 n S = some S1 → ∀ (H : Heap) (locs : List Loc) (ls : Array Slot), MX DM dA h S s H locs → lv_has ls 2 [(0, .ref (h)), (1, .int (zi (x1)))] → W p l e ({ frames := 2, cells := 0, slots := 0, locals := 34 } : Room) s m args below meth c H locs 0 0 Q (F0 m 0 ls []) := by
    intro x1  n
    induction n with
    | zero => intro S hh; exact no_some hh
    | succ n ih =>
      intro S hh H locs ls hM hl
      replace hh : M_settle_b0 x1 (M_settle_L0 x1 n) S = some S1 := hh
      unfold M_settle_b0 at hh
      have hK0 := ih
      refine lv_aload_n hx hb dX5_settle_0 rfl (lv_at hl 0 rfl) ?_
      refine mm_get X hM q1198 (mf_24 _ _) dX5_settle_1 ?_
      obtain ⟨g2, hh⟩ := gd_inv hh
      refine g_if_le (tgt := 65) hx hb g2 dX5_settle_4 (by decide) (fun c1 => ?_) (fun c1 => ?_)
      · replace hh := it_t c1 hh
        exact hret _ _ _ _ _ (rt0 hh) dX5_settle_65 hM
      · replace hh := it_f c1 hh
        refine lv_aload_n hx hb dX5_settle_7 rfl (lv_at hl 0 rfl) ?_
        refine mm_get X hM q1197 (mf_23 _ _) dX5_settle_8 ?_
        refine lv_aload_n hx hb dX5_settle_11 rfl (lv_at hl 0 rfl) ?_
        refine mm_get X hM q1198 (mf_24 _ _) dX5_settle_12 ?_
        refine lv_iconst (v := zi 1) hx hb dX5_settle_15 rfl ?_
        refine g_isub hx hb dX5_settle_16 ?_
        obtain ⟨g3, hh⟩ := gd_inv hh
        refine mm_iald X hM (ma_23 _ _) g3 dX5_settle_17 ?_
        refine lv_bipush (v := zi 40) hx hb dX5_settle_18 (by decide) ?_
        obtain ⟨g5, hh⟩ := gd_inv hh
        refine g_icmp_ge (tgt := 65) hx hb ⟨g5, by decide⟩ dX5_settle_20 (by decide) (fun c4 => ?_) (fun c4 => ?_)
        · replace hh := it_t c4 hh
          refine lv_aload_n hx hb dX5_settle_23 rfl (lv_at hl 0 rfl) ?_
          refine mm_get X hM q1197 (mf_23 _ _) dX5_settle_24 ?_
          refine lv_aload_n hx hb dX5_settle_27 rfl (lv_at hl 0 rfl) ?_
          refine mm_get X hM q1198 (mf_24 _ _) dX5_settle_28 ?_
          refine lv_iconst (v := zi 1) hx hb dX5_settle_31 rfl ?_
          refine g_isub hx hb dX5_settle_32 ?_
          obtain ⟨g6, hh⟩ := gd_inv hh
          refine mm_iald X hM (ma_23 _ _) g6 dX5_settle_33 ?_
          refine lv_iload_n hx hb dX5_settle_34 rfl (lv_at hl 1 rfl) ?_
          obtain ⟨g8, hh⟩ := gd_inv hh
          refine g_icmp_lt (tgt := 65) hx hb g8 dX5_settle_35 (by decide) (fun c7 => ?_) (fun c7 => ?_)
          · replace hh := it_t c7 hh
            exact hret _ _ _ _ _ (rt0 hh) dX5_settle_65 hM
          · replace hh := it_f c7 hh
            refine lv_aload_n hx hb dX5_settle_38 rfl (lv_at hl 0 rfl) ?_
            refine lv_dup hx hb dX5_settle_39 rfl ?_
            refine mm_get X hM q1198 (mf_24 _ _) dX5_settle_40 ?_
            refine lv_iconst (v := zi 1) hx hb dX5_settle_43 rfl ?_
            refine g_isub hx hb dX5_settle_44 ?_
            refine mm_put X hM q1198 (mp_24 _ _ _) dX5_settle_45 (fun H locs S9 e10 hM => ?_)
            replace hh := nm_inv hh S9 e10
            refine lv_aload_n hx hb dX5_settle_48 rfl (lv_at hl 0 rfl) ?_
            refine lv_aload_n hx hb dX5_settle_49 rfl (lv_at hl 0 rfl) ?_
            refine mm_get X hM q1197 (mf_23 _ _) dX5_settle_50 ?_
            refine lv_aload_n hx hb dX5_settle_53 rfl (lv_at hl 0 rfl) ?_
            refine mm_get X hM q1198 (mf_24 _ _) dX5_settle_54 ?_
            obtain ⟨g11, hh⟩ := gd_inv hh
            refine mm_iald X hM (ma_23 _ _) g11 dX5_settle_57 ?_
            refine lv_iconst (v := zi 0) hx hb dX5_settle_58 rfl ?_
            obtain ⟨S13, k12, hh⟩ := bd_inv hh
            refine mc_v (rest := []) X hM (wM_emit l DM dA h S9 (S9.2 23 (S9.1 24)) (0 : Int) k12) c5_emit.1 c5_emit.2 ⟨rfl, rfl⟩ ⟨Nat.le_of_ble_eq_true rfl, Nat.le_of_ble_eq_true rfl⟩ ⟨Nat.zero_le _, Nat.zero_le _⟩ hl.1 (Nat.le_of_ble_eq_true rfl) dX5_settle_59 rfl (fun H locs hM => ?_)
            refine lv_goto (tgt := 0) hx hb dX5_settle_62 (by decide) ?_
            exact hK0 S13 hh _ _ _ hM (lv_sub hl [0, 1] rfl)
        · replace hh := it_f c4 hh
          exact hret _ _ _ _ _ (rt0 hh) dX5_settle_65 hM
  replace hl : lv_has ls 2 [(0, .ref (h)), (1, .int (zi (x1)))] := hl
  unfold M_settle at hh
  exact hL0 x1 FU S hh _ _ _ hM (lv_sub hl [0, 1] rfl)
def M_push (S : xS) (x1 : Int) : Option xS := gd ((0 : Int) ≤ S.1 24 ∧ (S.1 24 : Int) < 160) (nm (aset S 23 (S.1 24) x1) (fun S2 => nm (fset S2 24 ((S2.1 24) + 1)) (fun S4 => some S4)))
set_option maxHeartbeats 4000000 in
theorem wM_push (l : Launch) (DM : va_G) (dA : Nat → ClassId) (h : Nat) (S : xS) (x1 : Int) {S1 : xS} (hh : M_push S x1 = some S1) : mt_v l yX5_push cX5_push 2 ({ frames := 1, cells := 0, slots := 0, locals := 12 } : Room) DM dA h [.int (zi x1)] S S1 := by
  refine mo_v (by decide) rfl (Nat.le_of_ble_eq_true rfl) ?_
  intro p e s m args below meth c Q ls X hret hl hM
  have hx := X.1.1
  have hb := X.1.2.1
  have hown := X.1.2.2.2.1
  have hts := X.1.2.2.2.2
  skip
  replace hl : lv_has ls 2 [(0, .ref (h)), (1, .int (zi (x1)))] := hl
  unfold M_push at hh
  refine lv_aload_n hx hb dX5_push_0 rfl (lv_at hl 0 rfl) ?_
  refine mm_get X hM q1197 (mf_23 _ _) dX5_push_1 ?_
  refine lv_aload_n hx hb dX5_push_4 rfl (lv_at hl 0 rfl) ?_
  refine mm_get X hM q1198 (mf_24 _ _) dX5_push_5 ?_
  refine lv_iload_n hx hb dX5_push_8 rfl (lv_at hl 1 rfl) ?_
  obtain ⟨g1, hh⟩ := gd_inv hh
  refine mm_iast X hM (ma_23 _ _) g1 dX5_push_9 (fun H locs S2 e3 hM => ?_)
  replace hh := nm_inv hh S2 e3
  refine lv_aload_n hx hb dX5_push_10 rfl (lv_at hl 0 rfl) ?_
  refine lv_dup hx hb dX5_push_11 rfl ?_
  refine mm_get X hM q1198 (mf_24 _ _) dX5_push_12 ?_
  refine lv_iconst (v := zi 1) hx hb dX5_push_15 rfl ?_
  refine g_iadd hx hb dX5_push_16 ?_
  refine mm_put X hM q1198 (mp_24 _ _ _) dX5_push_17 (fun H locs S4 e5 hM => ?_)
  replace hh := nm_inv hh S4 e5
  exact hret _ _ _ _ _ (rt0 hh) dX5_push_20 hM
def M_whole_b5 (K5 : xS → Option xS) (S : xS) : Option xS := gd (r32 (S.1 24)) (if (S.1 24) ≤ 0 then (some S) else (gd ((0 : Int) ≤ (S.1 24) - 1 ∧ ((S.1 24) - 1 : Int) < 160) (gd (r32 (S.2 23 ((S.1 24) - 1))) (if (S.2 23 ((S.1 24) - 1)) = 2 then (nm (fset S 24 ((S.1 24) - 1)) (fun S8 => nm (fset S8 25 ((S8.1 25) - 1)) (fun S10 => bd (M_emit S10 (2 : Int) (0 : Int)) (fun S13 => K5 S13)))) else (some S)))))
def M_whole_L5 : Nat → xS → Option xS
  | 0 => fun _ => none
  | n + 1 => fun S => M_whole_b5  (M_whole_L5  n) S
def M_whole (S : xS) : Option xS := nm (fset S 26 (1)) (fun S1 => M_whole_L5 FU S1)
set_option maxHeartbeats 4000000 in
theorem wM_whole (l : Launch) (DM : va_G) (dA : Nat → ClassId) (h : Nat) (S : xS) {S1 : xS} (hh : M_whole S  = some S1) : mt_v l yX5_whole cX5_whole 1 ({ frames := 2, cells := 0, slots := 0, locals := 34 } : Room) DM dA h [] S S1 := by
  refine mo_v (by decide) rfl (Nat.le_of_ble_eq_true rfl) ?_
  intro p e s m args below meth c Q ls X hret hl hM
  have hx := X.1.1
  have hb := X.1.2.1
  have hown := X.1.2.2.2.1
  have hts := X.1.2.2.2.2
  skip
  have hL5 : ∀ (n : Nat) (S : xS), M_whole_L5 n S = some S1 → ∀ (H : Heap) (locs : List Loc) (ls : Array Slot), MX DM dA h S s H locs → lv_has ls 1 [(0, .ref (h))] → W p l e ({ frames := 2, cells := 0, slots := 0, locals := 34 } : Room) s m args below meth c H locs 0 0 Q (F0 m 5 ls []) := by
    intro   n
    induction n with
    | zero => intro S hh; exact no_some hh
    | succ n ih =>
      intro S hh H locs ls hM hl
      replace hh : M_whole_b5 (M_whole_L5 n) S = some S1 := hh
      unfold M_whole_b5 at hh
      have hK5 := ih
      refine lv_aload_n hx hb dX5_whole_5 rfl (lv_at hl 0 rfl) ?_
      refine mm_get X hM q1198 (mf_24 _ _) dX5_whole_6 ?_
      obtain ⟨g4, hh⟩ := gd_inv hh
      refine g_if_le (tgt := 56) hx hb g4 dX5_whole_9 (by decide) (fun c3 => ?_) (fun c3 => ?_)
      · replace hh := it_t c3 hh
        exact hret _ _ _ _ _ (rt0 hh) dX5_whole_56 hM
      · replace hh := it_f c3 hh
        refine lv_aload_n hx hb dX5_whole_12 rfl (lv_at hl 0 rfl) ?_
        refine mm_get X hM q1197 (mf_23 _ _) dX5_whole_13 ?_
        refine lv_aload_n hx hb dX5_whole_16 rfl (lv_at hl 0 rfl) ?_
        refine mm_get X hM q1198 (mf_24 _ _) dX5_whole_17 ?_
        refine lv_iconst (v := zi 1) hx hb dX5_whole_20 rfl ?_
        refine g_isub hx hb dX5_whole_21 ?_
        obtain ⟨g5, hh⟩ := gd_inv hh
        refine mm_iald X hM (ma_23 _ _) g5 dX5_whole_22 ?_
        refine lv_iconst (v := zi 2) hx hb dX5_whole_23 rfl ?_
        obtain ⟨g7, hh⟩ := gd_inv hh
        refine g_icmp_ne (tgt := 56) hx hb ⟨g7, by decide⟩ dX5_whole_24 (by decide) (fun c6 => ?_) (fun c6 => ?_)
        · replace hh := it_t c6 hh
          refine lv_aload_n hx hb dX5_whole_27 rfl (lv_at hl 0 rfl) ?_
          refine lv_dup hx hb dX5_whole_28 rfl ?_
          refine mm_get X hM q1198 (mf_24 _ _) dX5_whole_29 ?_
          refine lv_iconst (v := zi 1) hx hb dX5_whole_32 rfl ?_
          refine g_isub hx hb dX5_whole_33 ?_
          refine mm_put X hM q1198 (mp_24 _ _ _) dX5_whole_34 (fun H locs S8 e9 hM => ?_)
          replace hh := nm_inv hh S8 e9
          refine lv_aload_n hx hb dX5_whole_37 rfl (lv_at hl 0 rfl) ?_
          refine lv_dup hx hb dX5_whole_38 rfl ?_
          refine mm_get X hM q1199 (mf_25 _ _) dX5_whole_39 ?_
          refine lv_iconst (v := zi 1) hx hb dX5_whole_42 rfl ?_
          refine g_isub hx hb dX5_whole_43 ?_
          refine mm_put X hM q1199 (mp_25 _ _ _) dX5_whole_44 (fun H locs S10 e11 hM => ?_)
          replace hh := nm_inv hh S10 e11
          refine lv_aload_n hx hb dX5_whole_47 rfl (lv_at hl 0 rfl) ?_
          refine lv_iconst (v := zi 2) hx hb dX5_whole_48 rfl ?_
          refine lv_iconst (v := zi 0) hx hb dX5_whole_49 rfl ?_
          obtain ⟨S13, k12, hh⟩ := bd_inv hh
          refine mc_v (rest := []) X hM (wM_emit l DM dA h S10 (2 : Int) (0 : Int) k12) c5_emit.1 c5_emit.2 ⟨rfl, rfl⟩ ⟨Nat.le_of_ble_eq_true rfl, Nat.le_of_ble_eq_true rfl⟩ ⟨Nat.zero_le _, Nat.zero_le _⟩ hl.1 (Nat.le_of_ble_eq_true rfl) dX5_whole_50 rfl (fun H locs hM => ?_)
          refine lv_goto (tgt := 5) hx hb dX5_whole_53 (by decide) ?_
          exact hK5 S13 hh _ _ _ hM (lv_sub hl [0] rfl)
        · replace hh := it_f c6 hh
          exact hret _ _ _ _ _ (rt0 hh) dX5_whole_56 hM
  replace hl : lv_has ls 1 [(0, .ref (h))] := hl
  unfold M_whole at hh
  refine lv_aload_n hx hb dX5_whole_0 rfl (lv_at hl 0 rfl) ?_
  refine lv_iconst (v := zi 1) hx hb dX5_whole_1 rfl ?_
  refine mm_put X hM q1200 (mp_26 _ _ (by decide)) dX5_whole_2 (fun H locs S1 e2 hM => ?_)
  replace hh := nm_inv hh S1 e2
  exact hL5 FU S1 hh _ _ _ hM (lv_sub hl [0] rfl)
def M_behindOne_B208 (S : xS) : Option (Int × xS) := bd (M_nextToken S ) (fun S14 => some ((0 : Int), S14))
def M_behindOne_B34 (S : xS) (t0 : Int) : Option (Int × xS) := bd (M_push S t0) (fun S10 => nm (fset S10 26 (0)) (fun S11 => M_behindOne_B208 S11))
def M_behindOne_B17 (S : xS) (x1 : Int) : Option (Int × xS) := bd (M_settle S (3 : Int)) (fun S6 => gd (r32 (x1)) (if x1 = 43 then (M_behindOne_B34 S6 (3 : Int)) else (M_behindOne_B34 S6 (4 : Int))))
def M_behindOne_B75 (S : xS) (t0 : Int) : Option (Int × xS) := bd (M_push S t0) (fun S24 => nm (fset S24 26 (0)) (fun S25 => M_behindOne_B208 S25))
def M_behindOne_B57 (S : xS) (x1 : Int) : Option (Int × xS) := bd (M_settle S (5 : Int)) (fun S20 => gd (r32 (x1)) (if x1 = 42 then (M_behindOne_B75 S20 (5 : Int)) else (M_behindOne_B75 S20 (6 : Int))))
def M_behindOne_B123 (S : xS) : Option (Int × xS) := gd ((0 : Int) ≤ (S.1 24) - 1 ∧ ((S.1 24) - 1 : Int) < 160) (gd ((0 : Int) ≤ (S.1 24) - 1 ∧ ((S.1 24) - 1 : Int) < 160) (nm (aset S 23 ((S.1 24) - 1) ((S.2 23 ((S.1 24) - 1)) + 2)) (fun S40 => nm (fset S40 26 (0)) (fun S42 => M_behindOne_B208 S42))))
def M_behindOne_B204 (S : xS) : Option (Int × xS) := bd (M_whole S ) (fun S57 => M_behindOne_B208 S57)
def M_behindOne_B200 (S : xS) (t0 : Int) : Option (Int × xS) := bd (M_emit S t0 (0 : Int)) (fun S61 => M_behindOne_B204 S61)
def M_behindOne (S : xS) : Option (Int × xS) := nm (S.1 15) (fun v1 => gd (r32 (v1)) (if v1 = 43 then (M_behindOne_B17 S v1) else (gd (r32 (v1)) (if v1 = 45 then (M_behindOne_B17 S v1) else (gd (r32 (v1)) (if v1 = 42 then (M_behindOne_B57 S v1) else (gd (r32 (v1)) (if v1 = 47 then (M_behindOne_B57 S v1) else (bd (M_settle S (3 : Int)) (fun S30 => gd ((0 : Int) ≤ (S30.1 24) - 1 ∧ ((S30.1 24) - 1 : Int) < 160) (nm (S30.2 23 ((S30.1 24) - 1)) (fun v32 => gd (r32 (v1)) (if v1 = 44 then (gd (r32 (v32)) (if v32 = 41 then (M_behindOne_B123 S30) else (gd (r32 (v32)) (if v32 = 42 then (M_behindOne_B123 S30) else (some ((1 : Int), S30)))))) else (gd (r32 (v32)) (if v32 = 41 then (some ((1 : Int), S30)) else (gd (r32 (v32)) (if v32 = 42 then (some ((1 : Int), S30)) else (nm (fset S30 24 ((S30.1 24) - 1)) (fun S50 => nm (fset S50 25 ((S50.1 25) - 1)) (fun S52 => gd (r32 (v32)) (if v32 ≤ 40 then (M_behindOne_B204 S52) else (gd (r32 (v32)) (if v32 = 43 then (M_behindOne_B200 S52 (7 : Int)) else (M_behindOne_B200 S52 (8 : Int)))))))))))))))))))))))))
set_option maxHeartbeats 4000000 in
theorem wM_behindOne (l : Launch) (DM : va_G) (dA : Nat → ClassId) (h : Nat) (S : xS) {r : Int} {S1 : xS} (hh : M_behindOne S  = some (r, S1)) : mt_i l yX5_behindOne cX5_behindOne 3 (some .int) ({ frames := 4, cells := 0, slots := 0, locals := 76 } : Room) DM dA h [] S r S1 := by
  refine mo_i (by decide) rfl (Nat.le_of_ble_eq_true rfl) ?_
  intro p e s m args below meth c Q ls X hret hl hM
  have hx := X.1.1
  have hb := X.1.2.1
  have hown := X.1.2.2.2.1
  have hts := X.1.2.2.2.2
  skip
  have hB208 : ∀ (S : xS), M_behindOne_B208 S = some (r, S1) → ∀ (H : Heap) (locs : List Loc) (ls : Array Slot), MX DM dA h S s H locs → lv_has ls 3 [(0, .ref (h))] → W p l e ({ frames := 4, cells := 0, slots := 0, locals := 76 } : Room) s m args below meth c H locs 0 0 Q (F0 m 208 ls []) := by
    intro   S hh H locs ls hM hl
    unfold M_behindOne_B208 at hh
    refine lv_aload_n hx hb dX5_behindOne_208 rfl (lv_at hl 0 rfl) ?_
    obtain ⟨S14, k13, hh⟩ := bd_inv hh
    refine mc_v (rest := []) X hM (wM_nextToken l DM dA h S  k13) c5_nextToken.1 c5_nextToken.2 ⟨rfl, rfl⟩ ⟨Nat.le_of_ble_eq_true rfl, Nat.le_of_ble_eq_true rfl⟩ ⟨Nat.zero_le _, Nat.zero_le _⟩ hl.1 (Nat.le_of_ble_eq_true rfl) dX5_behindOne_209 rfl (fun H locs hM => ?_)
    refine lv_iconst (v := zi 0) hx hb dX5_behindOne_212 rfl ?_
    exact hret _ _ _ _ _ _ (rt1 hh) (rt2 hh) dX5_behindOne_213 hM
  have hB34 : ∀ (t0 : Int) (S : xS), M_behindOne_B34 S t0 = some (r, S1) → ∀ (H : Heap) (locs : List Loc) (ls : Array Slot), MX DM dA h S s H locs → lv_has ls 3 [(0, .ref (h))] → W p l e ({ frames := 4, cells := 0, slots := 0, locals := 76 } : Room) s m args below meth c H locs 0 0 Q (F0 m 34 ls [.int (zi (t0)), .ref (h)]) := by
    intro t0  S hh H locs ls hM hl
    unfold M_behindOne_B34 at hh
    obtain ⟨S10, k9, hh⟩ := bd_inv hh
    refine mc_v (rest := []) X hM (wM_push l DM dA h S t0 k9) c5_push.1 c5_push.2 ⟨rfl, rfl⟩ ⟨Nat.le_of_ble_eq_true rfl, Nat.le_of_ble_eq_true rfl⟩ ⟨Nat.zero_le _, Nat.zero_le _⟩ hl.1 (Nat.le_of_ble_eq_true rfl) dX5_behindOne_34 rfl (fun H locs hM => ?_)
    refine lv_aload_n hx hb dX5_behindOne_37 rfl (lv_at hl 0 rfl) ?_
    refine lv_iconst (v := zi 0) hx hb dX5_behindOne_38 rfl ?_
    refine mm_put X hM q1200 (mp_26 _ _ (by decide)) dX5_behindOne_39 (fun H locs S11 e12 hM => ?_)
    replace hh := nm_inv hh S11 e12
    refine lv_goto (tgt := 208) hx hb dX5_behindOne_42 (by decide) ?_
    exact hB208 S11 hh _ _ _ hM (lv_sub hl [0] rfl)
  have hB17 : ∀ (x1 : Int) (S : xS), M_behindOne_B17 S x1 = some (r, S1) → ∀ (H : Heap) (locs : List Loc) (ls : Array Slot), MX DM dA h S s H locs → lv_has ls 3 [(0, .ref (h)), (1, .int (zi (x1)))] → W p l e ({ frames := 4, cells := 0, slots := 0, locals := 76 } : Room) s m args below meth c H locs 0 0 Q (F0 m 17 ls []) := by
    intro x1  S hh H locs ls hM hl
    unfold M_behindOne_B17 at hh
    refine lv_aload_n hx hb dX5_behindOne_17 rfl (lv_at hl 0 rfl) ?_
    refine lv_iconst (v := zi 3) hx hb dX5_behindOne_18 rfl ?_
    obtain ⟨S6, k5, hh⟩ := bd_inv hh
    refine mc_v (rest := []) X hM (wM_settle l DM dA h S (3 : Int) k5) c5_settle.1 c5_settle.2 ⟨rfl, rfl⟩ ⟨Nat.le_of_ble_eq_true rfl, Nat.le_of_ble_eq_true rfl⟩ ⟨Nat.zero_le _, Nat.zero_le _⟩ hl.1 (Nat.le_of_ble_eq_true rfl) dX5_behindOne_19 rfl (fun H locs hM => ?_)
    refine lv_aload_n hx hb dX5_behindOne_22 rfl (lv_at hl 0 rfl) ?_
    refine lv_iload_n hx hb dX5_behindOne_23 rfl (lv_at hl 1 rfl) ?_
    refine lv_bipush (v := zi 43) hx hb dX5_behindOne_24 (by decide) ?_
    obtain ⟨g8, hh⟩ := gd_inv hh
    refine g_icmp_ne (tgt := 33) hx hb ⟨g8, by decide⟩ dX5_behindOne_26 (by decide) (fun c7 => ?_) (fun c7 => ?_)
    · replace hh := it_t c7 hh
      refine lv_iconst (v := zi 3) hx hb dX5_behindOne_29 rfl ?_
      refine lv_goto (tgt := 34) hx hb dX5_behindOne_30 (by decide) ?_
      exact hB34 (3 : Int) S6 hh _ _ _ hM (lv_sub hl [0] rfl)
    · replace hh := it_f c7 hh
      refine lv_iconst (v := zi 4) hx hb dX5_behindOne_33 rfl ?_
      exact hB34 (4 : Int) S6 hh _ _ _ hM (lv_sub hl [0] rfl)
  have hB75 : ∀ (t0 : Int) (S : xS), M_behindOne_B75 S t0 = some (r, S1) → ∀ (H : Heap) (locs : List Loc) (ls : Array Slot), MX DM dA h S s H locs → lv_has ls 3 [(0, .ref (h))] → W p l e ({ frames := 4, cells := 0, slots := 0, locals := 76 } : Room) s m args below meth c H locs 0 0 Q (F0 m 75 ls [.int (zi (t0)), .ref (h)]) := by
    intro t0  S hh H locs ls hM hl
    unfold M_behindOne_B75 at hh
    obtain ⟨S24, k23, hh⟩ := bd_inv hh
    refine mc_v (rest := []) X hM (wM_push l DM dA h S t0 k23) c5_push.1 c5_push.2 ⟨rfl, rfl⟩ ⟨Nat.le_of_ble_eq_true rfl, Nat.le_of_ble_eq_true rfl⟩ ⟨Nat.zero_le _, Nat.zero_le _⟩ hl.1 (Nat.le_of_ble_eq_true rfl) dX5_behindOne_75 rfl (fun H locs hM => ?_)
    refine lv_aload_n hx hb dX5_behindOne_78 rfl (lv_at hl 0 rfl) ?_
    refine lv_iconst (v := zi 0) hx hb dX5_behindOne_79 rfl ?_
    refine mm_put X hM q1200 (mp_26 _ _ (by decide)) dX5_behindOne_80 (fun H locs S25 e26 hM => ?_)
    replace hh := nm_inv hh S25 e26
    refine lv_goto (tgt := 208) hx hb dX5_behindOne_83 (by decide) ?_
    exact hB208 S25 hh _ _ _ hM (lv_sub hl [0] rfl)
  have hB57 : ∀ (x1 : Int) (S : xS), M_behindOne_B57 S x1 = some (r, S1) → ∀ (H : Heap) (locs : List Loc) (ls : Array Slot), MX DM dA h S s H locs → lv_has ls 3 [(0, .ref (h)), (1, .int (zi (x1)))] → W p l e ({ frames := 4, cells := 0, slots := 0, locals := 76 } : Room) s m args below meth c H locs 0 0 Q (F0 m 57 ls []) := by
    intro x1  S hh H locs ls hM hl
    unfold M_behindOne_B57 at hh
    refine lv_aload_n hx hb dX5_behindOne_57 rfl (lv_at hl 0 rfl) ?_
    refine lv_iconst (v := zi 5) hx hb dX5_behindOne_58 rfl ?_
    obtain ⟨S20, k19, hh⟩ := bd_inv hh
    refine mc_v (rest := []) X hM (wM_settle l DM dA h S (5 : Int) k19) c5_settle.1 c5_settle.2 ⟨rfl, rfl⟩ ⟨Nat.le_of_ble_eq_true rfl, Nat.le_of_ble_eq_true rfl⟩ ⟨Nat.zero_le _, Nat.zero_le _⟩ hl.1 (Nat.le_of_ble_eq_true rfl) dX5_behindOne_59 rfl (fun H locs hM => ?_)
    refine lv_aload_n hx hb dX5_behindOne_62 rfl (lv_at hl 0 rfl) ?_
    refine lv_iload_n hx hb dX5_behindOne_63 rfl (lv_at hl 1 rfl) ?_
    refine lv_bipush (v := zi 42) hx hb dX5_behindOne_64 (by decide) ?_
    obtain ⟨g22, hh⟩ := gd_inv hh
    refine g_icmp_ne (tgt := 73) hx hb ⟨g22, by decide⟩ dX5_behindOne_66 (by decide) (fun c21 => ?_) (fun c21 => ?_)
    · replace hh := it_t c21 hh
      refine lv_iconst (v := zi 5) hx hb dX5_behindOne_69 rfl ?_
      refine lv_goto (tgt := 75) hx hb dX5_behindOne_70 (by decide) ?_
      exact hB75 (5 : Int) S20 hh _ _ _ hM (lv_sub hl [0] rfl)
    · replace hh := it_f c21 hh
      refine lv_bipush (v := zi 6) hx hb dX5_behindOne_73 (by decide) ?_
      exact hB75 (6 : Int) S20 hh _ _ _ hM (lv_sub hl [0] rfl)
  have hB123 : ∀ (S : xS), M_behindOne_B123 S = some (r, S1) → ∀ (H : Heap) (locs : List Loc) (ls : Array Slot), MX DM dA h S s H locs → lv_has ls 3 [(0, .ref (h))] → W p l e ({ frames := 4, cells := 0, slots := 0, locals := 76 } : Room) s m args below meth c H locs 0 0 Q (F0 m 123 ls []) := by
    intro   S hh H locs ls hM hl
    unfold M_behindOne_B123 at hh
    refine lv_aload_n hx hb dX5_behindOne_123 rfl (lv_at hl 0 rfl) ?_
    refine mm_get X hM q1197 (mf_23 _ _) dX5_behindOne_124 ?_
    refine lv_aload_n hx hb dX5_behindOne_127 rfl (lv_at hl 0 rfl) ?_
    refine mm_get X hM q1198 (mf_24 _ _) dX5_behindOne_128 ?_
    refine lv_iconst (v := zi 1) hx hb dX5_behindOne_131 rfl ?_
    refine g_isub hx hb dX5_behindOne_132 ?_
    refine lv_dup2_11 hx hb dX5_behindOne_133 rfl rfl ?_
    obtain ⟨g38, hh⟩ := gd_inv hh
    refine mm_iald X hM (ma_23 _ _) g38 dX5_behindOne_134 ?_
    refine lv_iconst (v := zi 2) hx hb dX5_behindOne_135 rfl ?_
    refine g_iadd hx hb dX5_behindOne_136 ?_
    obtain ⟨g39, hh⟩ := gd_inv hh
    refine mm_iast X hM (ma_23 _ _) g39 dX5_behindOne_137 (fun H locs S40 e41 hM => ?_)
    replace hh := nm_inv hh S40 e41
    refine lv_aload_n hx hb dX5_behindOne_138 rfl (lv_at hl 0 rfl) ?_
    refine lv_iconst (v := zi 0) hx hb dX5_behindOne_139 rfl ?_
    refine mm_put X hM q1200 (mp_26 _ _ (by decide)) dX5_behindOne_140 (fun H locs S42 e43 hM => ?_)
    replace hh := nm_inv hh S42 e43
    refine lv_goto (tgt := 208) hx hb dX5_behindOne_143 (by decide) ?_
    exact hB208 S42 hh _ _ _ hM (lv_sub hl [0] rfl)
  have hB204 : ∀ (S : xS), M_behindOne_B204 S = some (r, S1) → ∀ (H : Heap) (locs : List Loc) (ls : Array Slot), MX DM dA h S s H locs → lv_has ls 3 [(0, .ref (h))] → W p l e ({ frames := 4, cells := 0, slots := 0, locals := 76 } : Room) s m args below meth c H locs 0 0 Q (F0 m 204 ls []) := by
    intro   S hh H locs ls hM hl
    unfold M_behindOne_B204 at hh
    refine lv_aload_n hx hb dX5_behindOne_204 rfl (lv_at hl 0 rfl) ?_
    obtain ⟨S57, k56, hh⟩ := bd_inv hh
    refine mc_v (rest := []) X hM (wM_whole l DM dA h S  k56) c5_whole.1 c5_whole.2 ⟨rfl, rfl⟩ ⟨Nat.le_of_ble_eq_true rfl, Nat.le_of_ble_eq_true rfl⟩ ⟨Nat.zero_le _, Nat.zero_le _⟩ hl.1 (Nat.le_of_ble_eq_true rfl) dX5_behindOne_205 rfl (fun H locs hM => ?_)
    exact hB208 S57 hh _ _ _ hM (lv_sub hl [0] rfl)
  have hB200 : ∀ (t0 : Int) (S : xS), M_behindOne_B200 S t0 = some (r, S1) → ∀ (H : Heap) (locs : List Loc) (ls : Array Slot), MX DM dA h S s H locs → lv_has ls 3 [(0, .ref (h))] → W p l e ({ frames := 4, cells := 0, slots := 0, locals := 76 } : Room) s m args below meth c H locs 0 0 Q (F0 m 200 ls [.int (zi (t0)), .ref (h)]) := by
    intro t0  S hh H locs ls hM hl
    unfold M_behindOne_B200 at hh
    refine lv_iconst (v := zi 0) hx hb dX5_behindOne_200 rfl ?_
    obtain ⟨S61, k60, hh⟩ := bd_inv hh
    refine mc_v (rest := []) X hM (wM_emit l DM dA h S t0 (0 : Int) k60) c5_emit.1 c5_emit.2 ⟨rfl, rfl⟩ ⟨Nat.le_of_ble_eq_true rfl, Nat.le_of_ble_eq_true rfl⟩ ⟨Nat.zero_le _, Nat.zero_le _⟩ hl.1 (Nat.le_of_ble_eq_true rfl) dX5_behindOne_201 rfl (fun H locs hM => ?_)
    exact hB204 S61 hh _ _ _ hM (lv_sub hl [0] rfl)
  replace hl : lv_has ls 3 [(0, .ref (h))] := hl
  unfold M_behindOne at hh
  refine lv_aload_n hx hb dX5_behindOne_0 rfl (lv_at hl 0 rfl) ?_
  refine mm_get X hM q1189 (mf_15 _ _) dX5_behindOne_1 ?_
  refine g_nmi hx hb (fun v1 e2 => ?_)
  replace hh := nm_inv hh v1 e2
  refine lv_istore_n (lv' := [(1, .int (zi (v1))), (0, .ref (h))]) hx hb dX5_behindOne_4 rfl hl (by decide) rfl (fun ls hl => ?_)
  refine lv_iload_n hx hb dX5_behindOne_5 rfl (lv_at hl 0 rfl) ?_
  refine lv_bipush (v := zi 43) hx hb dX5_behindOne_6 (by decide) ?_
  obtain ⟨g4, hh⟩ := gd_inv hh
  refine g_icmp_eq (tgt := 17) hx hb ⟨g4, by decide⟩ dX5_behindOne_8 (by decide) (fun c3 => ?_) (fun c3 => ?_)
  · replace hh := it_t c3 hh
    exact hB17 v1 S hh _ _ _ hM (lv_sub hl [1, 0] rfl)
  · replace hh := it_f c3 hh
    refine lv_iload_n hx hb dX5_behindOne_11 rfl (lv_at hl 0 rfl) ?_
    refine lv_bipush (v := zi 45) hx hb dX5_behindOne_12 (by decide) ?_
    obtain ⟨g16, hh⟩ := gd_inv hh
    refine g_icmp_ne (tgt := 45) hx hb ⟨g16, by decide⟩ dX5_behindOne_14 (by decide) (fun c15 => ?_) (fun c15 => ?_)
    · replace hh := it_t c15 hh
      exact hB17 v1 S hh _ _ _ hM (lv_sub hl [1, 0] rfl)
    · replace hh := it_f c15 hh
      refine lv_iload_n hx hb dX5_behindOne_45 rfl (lv_at hl 0 rfl) ?_
      refine lv_bipush (v := zi 42) hx hb dX5_behindOne_46 (by decide) ?_
      obtain ⟨g18, hh⟩ := gd_inv hh
      refine g_icmp_eq (tgt := 57) hx hb ⟨g18, by decide⟩ dX5_behindOne_48 (by decide) (fun c17 => ?_) (fun c17 => ?_)
      · replace hh := it_t c17 hh
        exact hB57 v1 S hh _ _ _ hM (lv_sub hl [1, 0] rfl)
      · replace hh := it_f c17 hh
        refine lv_iload_n hx hb dX5_behindOne_51 rfl (lv_at hl 0 rfl) ?_
        refine lv_bipush (v := zi 47) hx hb dX5_behindOne_52 (by decide) ?_
        obtain ⟨g28, hh⟩ := gd_inv hh
        refine g_icmp_ne (tgt := 86) hx hb ⟨g28, by decide⟩ dX5_behindOne_54 (by decide) (fun c27 => ?_) (fun c27 => ?_)
        · replace hh := it_t c27 hh
          exact hB57 v1 S hh _ _ _ hM (lv_sub hl [1, 0] rfl)
        · replace hh := it_f c27 hh
          refine lv_aload_n hx hb dX5_behindOne_86 rfl (lv_at hl 1 rfl) ?_
          refine lv_iconst (v := zi 3) hx hb dX5_behindOne_87 rfl ?_
          obtain ⟨S30, k29, hh⟩ := bd_inv hh
          refine mc_v (rest := []) X hM (wM_settle l DM dA h S (3 : Int) k29) c5_settle.1 c5_settle.2 ⟨rfl, rfl⟩ ⟨Nat.le_of_ble_eq_true rfl, Nat.le_of_ble_eq_true rfl⟩ ⟨Nat.zero_le _, Nat.zero_le _⟩ hl.1 (Nat.le_of_ble_eq_true rfl) dX5_behindOne_88 rfl (fun H locs hM => ?_)
          refine lv_aload_n hx hb dX5_behindOne_91 rfl (lv_at hl 1 rfl) ?_
          refine mm_get X hM q1197 (mf_23 _ _) dX5_behindOne_92 ?_
          refine lv_aload_n hx hb dX5_behindOne_95 rfl (lv_at hl 1 rfl) ?_
          refine mm_get X hM q1198 (mf_24 _ _) dX5_behindOne_96 ?_
          refine lv_iconst (v := zi 1) hx hb dX5_behindOne_99 rfl ?_
          refine g_isub hx hb dX5_behindOne_100 ?_
          obtain ⟨g31, hh⟩ := gd_inv hh
          refine mm_iald X hM (ma_23 _ _) g31 dX5_behindOne_101 ?_
          refine g_nmi hx hb (fun v32 e33 => ?_)
          replace hh := nm_inv hh v32 e33
          refine lv_istore_n (lv' := [(2, .int (zi (v32))), (1, .int (zi (v1))), (0, .ref (h))]) hx hb dX5_behindOne_102 rfl hl (by decide) rfl (fun ls hl => ?_)
          refine lv_iload_n hx hb dX5_behindOne_103 rfl (lv_at hl 1 rfl) ?_
          refine lv_bipush (v := zi 44) hx hb dX5_behindOne_104 (by decide) ?_
          obtain ⟨g35, hh⟩ := gd_inv hh
          refine g_icmp_ne (tgt := 146) hx hb ⟨g35, by decide⟩ dX5_behindOne_106 (by decide) (fun c34 => ?_) (fun c34 => ?_)
          · replace hh := it_t c34 hh
            refine lv_iload_n hx hb dX5_behindOne_109 rfl (lv_at hl 0 rfl) ?_
            refine lv_bipush (v := zi 41) hx hb dX5_behindOne_110 (by decide) ?_
            obtain ⟨g37, hh⟩ := gd_inv hh
            refine g_icmp_eq (tgt := 123) hx hb ⟨g37, by decide⟩ dX5_behindOne_112 (by decide) (fun c36 => ?_) (fun c36 => ?_)
            · replace hh := it_t c36 hh
              exact hB123 S30 hh _ _ _ hM (lv_sub hl [2] rfl)
            · replace hh := it_f c36 hh
              refine lv_iload_n hx hb dX5_behindOne_115 rfl (lv_at hl 0 rfl) ?_
              refine lv_bipush (v := zi 42) hx hb dX5_behindOne_116 (by decide) ?_
              obtain ⟨g45, hh⟩ := gd_inv hh
              refine g_icmp_eq (tgt := 123) hx hb ⟨g45, by decide⟩ dX5_behindOne_118 (by decide) (fun c44 => ?_) (fun c44 => ?_)
              · replace hh := it_t c44 hh
                exact hB123 S30 hh _ _ _ hM (lv_sub hl [2] rfl)
              · replace hh := it_f c44 hh
                refine lv_iconst (v := zi 1) hx hb dX5_behindOne_121 rfl ?_
                exact hret _ _ _ _ _ _ (rt1 hh) (rt2 hh) dX5_behindOne_122 hM
          · replace hh := it_f c34 hh
            refine lv_iload_n hx hb dX5_behindOne_146 rfl (lv_at hl 0 rfl) ?_
            refine lv_bipush (v := zi 41) hx hb dX5_behindOne_147 (by decide) ?_
            obtain ⟨g47, hh⟩ := gd_inv hh
            refine g_icmp_eq (tgt := 158) hx hb ⟨g47, by decide⟩ dX5_behindOne_149 (by decide) (fun c46 => ?_) (fun c46 => ?_)
            · replace hh := it_t c46 hh
              refine lv_iconst (v := zi 1) hx hb dX5_behindOne_158 rfl ?_
              exact hret _ _ _ _ _ _ (rt1 hh) (rt2 hh) dX5_behindOne_159 hM
            · replace hh := it_f c46 hh
              refine lv_iload_n hx hb dX5_behindOne_152 rfl (lv_at hl 0 rfl) ?_
              refine lv_bipush (v := zi 42) hx hb dX5_behindOne_153 (by decide) ?_
              obtain ⟨g49, hh⟩ := gd_inv hh
              refine g_icmp_ne (tgt := 160) hx hb ⟨g49, by decide⟩ dX5_behindOne_155 (by decide) (fun c48 => ?_) (fun c48 => ?_)
              · replace hh := it_t c48 hh
                refine lv_iconst (v := zi 1) hx hb dX5_behindOne_158 rfl ?_
                exact hret _ _ _ _ _ _ (rt1 hh) (rt2 hh) dX5_behindOne_159 hM
              · replace hh := it_f c48 hh
                refine lv_aload_n hx hb dX5_behindOne_160 rfl (lv_at hl 2 rfl) ?_
                refine lv_dup hx hb dX5_behindOne_161 rfl ?_
                refine mm_get X hM q1198 (mf_24 _ _) dX5_behindOne_162 ?_
                refine lv_iconst (v := zi 1) hx hb dX5_behindOne_165 rfl ?_
                refine g_isub hx hb dX5_behindOne_166 ?_
                refine mm_put X hM q1198 (mp_24 _ _ _) dX5_behindOne_167 (fun H locs S50 e51 hM => ?_)
                replace hh := nm_inv hh S50 e51
                refine lv_aload_n hx hb dX5_behindOne_170 rfl (lv_at hl 2 rfl) ?_
                refine lv_dup hx hb dX5_behindOne_171 rfl ?_
                refine mm_get X hM q1199 (mf_25 _ _) dX5_behindOne_172 ?_
                refine lv_iconst (v := zi 1) hx hb dX5_behindOne_175 rfl ?_
                refine g_isub hx hb dX5_behindOne_176 ?_
                refine mm_put X hM q1199 (mp_25 _ _ _) dX5_behindOne_177 (fun H locs S52 e53 hM => ?_)
                replace hh := nm_inv hh S52 e53
                refine lv_iload_n hx hb dX5_behindOne_180 rfl (lv_at hl 0 rfl) ?_
                refine lv_bipush (v := zi 40) hx hb dX5_behindOne_181 (by decide) ?_
                obtain ⟨g55, hh⟩ := gd_inv hh
                refine g_icmp_le (tgt := 204) hx hb ⟨g55, by decide⟩ dX5_behindOne_183 (by decide) (fun c54 => ?_) (fun c54 => ?_)
                · replace hh := it_t c54 hh
                  exact hB204 S52 hh _ _ _ hM (lv_sub hl [2] rfl)
                · replace hh := it_f c54 hh
                  refine lv_aload_n hx hb dX5_behindOne_186 rfl (lv_at hl 2 rfl) ?_
                  refine lv_iload_n hx hb dX5_behindOne_187 rfl (lv_at hl 0 rfl) ?_
                  refine lv_bipush (v := zi 43) hx hb dX5_behindOne_188 (by decide) ?_
                  obtain ⟨g59, hh⟩ := gd_inv hh
                  refine g_icmp_ne (tgt := 198) hx hb ⟨g59, by decide⟩ dX5_behindOne_190 (by decide) (fun c58 => ?_) (fun c58 => ?_)
                  · replace hh := it_t c58 hh
                    refine lv_bipush (v := zi 7) hx hb dX5_behindOne_193 (by decide) ?_
                    refine lv_goto (tgt := 200) hx hb dX5_behindOne_195 (by decide) ?_
                    exact hB200 (7 : Int) S52 hh _ _ _ hM (lv_sub hl [2] rfl)
                  · replace hh := it_f c58 hh
                    refine lv_bipush (v := zi 8) hx hb dX5_behindOne_198 (by decide) ?_
                    exact hB200 (8 : Int) S52 hh _ _ _ hM (lv_sub hl [2] rfl)
def M_eye (S : xS) (x1 : Int) : Option (Int × xS) := bd (M_nextToken S ) (fun S2 => gd (r32 (S2.1 15)) (if (S2.1 15) = 1 then (bd (M_isIn (S2.1 16) (0 : Int) (15 : Int)) (fun v6 => if v6 = true then (bd (M_emit S2 x1 (S2.1 16)) (fun S9 => bd (M_nextToken S9 ) (fun S11 => bd (M_whole S11 ) (fun S13 => some ((0 : Int), S13))))) else (some ((2 : Int), S2)))) else (some ((1 : Int), S2))))
set_option maxHeartbeats 4000000 in
theorem wM_eye (l : Launch) (DM : va_G) (dA : Nat → ClassId) (h : Nat) (S : xS) (x1 : Int) {r : Int} {S1 : xS} (hh : M_eye S x1 = some (r, S1)) : mt_i l yX5_eye cX5_eye 2 (some .int) ({ frames := 4, cells := 0, slots := 0, locals := 76 } : Room) DM dA h [.int (zi x1)] S r S1 := by
  refine mo_i (by decide) rfl (Nat.le_of_ble_eq_true rfl) ?_
  intro p e s m args below meth c Q ls X hret hl hM
  have hx := X.1.1
  have hb := X.1.2.1
  have hown := X.1.2.2.2.1
  have hts := X.1.2.2.2.2
  skip
  replace hl : lv_has ls 2 [(0, .ref (h)), (1, .int (zi (x1)))] := hl
  unfold M_eye at hh
  refine lv_aload_n hx hb dX5_eye_0 rfl (lv_at hl 0 rfl) ?_
  obtain ⟨S2, k1, hh⟩ := bd_inv hh
  refine mc_v (rest := []) X hM (wM_nextToken l DM dA h S  k1) c5_nextToken.1 c5_nextToken.2 ⟨rfl, rfl⟩ ⟨Nat.le_of_ble_eq_true rfl, Nat.le_of_ble_eq_true rfl⟩ ⟨Nat.zero_le _, Nat.zero_le _⟩ hl.1 (Nat.le_of_ble_eq_true rfl) dX5_eye_1 rfl (fun H locs hM => ?_)
  refine lv_aload_n hx hb dX5_eye_4 rfl (lv_at hl 0 rfl) ?_
  refine mm_get X hM q1189 (mf_15 _ _) dX5_eye_5 ?_
  refine lv_iconst (v := zi 1) hx hb dX5_eye_8 rfl ?_
  obtain ⟨g4, hh⟩ := gd_inv hh
  refine g_icmp_eq (tgt := 14) hx hb ⟨g4, by decide⟩ dX5_eye_9 (by decide) (fun c3 => ?_) (fun c3 => ?_)
  · replace hh := it_t c3 hh
    refine lv_aload_n hx hb dX5_eye_14 rfl (lv_at hl 0 rfl) ?_
    refine mm_get X hM q1190 (mf_16 _ _) dX5_eye_15 ?_
    refine lv_iconst (v := zi 0) hx hb dX5_eye_18 rfl ?_
    refine lv_bipush (v := zi 15) hx hb dX5_eye_19 (by decide) ?_
    obtain ⟨v6, k5, hh⟩ := bd_inv hh
    refine mcs_z (rest := []) X hM (wM_isIn l (S2.1 16) (0 : Int) (15 : Int) k5) c5_isIn.1 c5_isIn.2 ⟨rfl, rfl⟩ ⟨Nat.le_of_ble_eq_true rfl, Nat.le_of_ble_eq_true rfl⟩ ⟨Nat.zero_le _, Nat.zero_le _⟩ hl.1 (Nat.le_of_ble_eq_true rfl) dX5_eye_21 rfl (fun H locs hM => ?_)
    refine g_bif_ne (tgt := 29) hx hb dX5_eye_24 (by decide) (fun c7 => ?_) (fun c7 => ?_)
    · replace hh := it_t c7 hh
      refine lv_aload_n hx hb dX5_eye_29 rfl (lv_at hl 0 rfl) ?_
      refine lv_iload_n hx hb dX5_eye_30 rfl (lv_at hl 1 rfl) ?_
      refine lv_aload_n hx hb dX5_eye_31 rfl (lv_at hl 0 rfl) ?_
      refine mm_get X hM q1190 (mf_16 _ _) dX5_eye_32 ?_
      obtain ⟨S9, k8, hh⟩ := bd_inv hh
      refine mc_v (rest := []) X hM (wM_emit l DM dA h S2 x1 (S2.1 16) k8) c5_emit.1 c5_emit.2 ⟨rfl, rfl⟩ ⟨Nat.le_of_ble_eq_true rfl, Nat.le_of_ble_eq_true rfl⟩ ⟨Nat.zero_le _, Nat.zero_le _⟩ hl.1 (Nat.le_of_ble_eq_true rfl) dX5_eye_35 rfl (fun H locs hM => ?_)
      refine lv_aload_n hx hb dX5_eye_38 rfl (lv_at hl 0 rfl) ?_
      obtain ⟨S11, k10, hh⟩ := bd_inv hh
      refine mc_v (rest := []) X hM (wM_nextToken l DM dA h S9  k10) c5_nextToken.1 c5_nextToken.2 ⟨rfl, rfl⟩ ⟨Nat.le_of_ble_eq_true rfl, Nat.le_of_ble_eq_true rfl⟩ ⟨Nat.zero_le _, Nat.zero_le _⟩ hl.1 (Nat.le_of_ble_eq_true rfl) dX5_eye_39 rfl (fun H locs hM => ?_)
      refine lv_aload_n hx hb dX5_eye_42 rfl (lv_at hl 0 rfl) ?_
      obtain ⟨S13, k12, hh⟩ := bd_inv hh
      refine mc_v (rest := []) X hM (wM_whole l DM dA h S11  k12) c5_whole.1 c5_whole.2 ⟨rfl, rfl⟩ ⟨Nat.le_of_ble_eq_true rfl, Nat.le_of_ble_eq_true rfl⟩ ⟨Nat.zero_le _, Nat.zero_le _⟩ hl.1 (Nat.le_of_ble_eq_true rfl) dX5_eye_43 rfl (fun H locs hM => ?_)
      refine lv_iconst (v := zi 0) hx hb dX5_eye_46 rfl ?_
      exact hret _ _ _ _ _ _ (rt1 hh) (rt2 hh) dX5_eye_47 hM
    · replace hh := it_f c7 hh
      refine lv_iconst (v := zi 2) hx hb dX5_eye_27 rfl ?_
      exact hret _ _ _ _ _ _ (rt1 hh) (rt2 hh) dX5_eye_28 hM
  · replace hh := it_f c3 hh
    refine lv_iconst (v := zi 1) hx hb dX5_eye_12 rfl ?_
    exact hret _ _ _ _ _ _ (rt1 hh) (rt2 hh) dX5_eye_13 hM
