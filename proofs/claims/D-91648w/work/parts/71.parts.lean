set_option maxRecDepth 100000
theorem cx_X1_308 : GoodIn lw_all (wsV "ManyEyes" 308 "ManyEyes" yX1_keeps (ws_ yX1_keeps cX1_keeps 3 (some .int))) ∧ yX1_keeps.cls = "ManyEyes" ∧ yX1_keeps.cls ≠ "java/lang/invoke/MethodHandle" ∧ yX1_keeps.cls ≠ "java/lang/invoke/VarHandle" ∧ (parseMethodDescriptor yX1_keeps.desc).map (fun d => d.parameters.length) = some 0 := ⟨lw_V q1128 q1130 qs32 q80 q1131, by decide +kernel⟩
def C_kept (ed : Nat) (rs : List (List tCl)) (S : yS) (x1 : Int) : Option (Int × yS) := gd (r32 (x1)) (if x1 = (-1) then (bd2 (C_keeps ed rs S ) (fun v4 S5 => bd (In_bitCount v4) (fun v6 => some ((v6 : Int), S5)))) else (bd (C_isOne S (3 : Int) x1) (fun v9 => if v9 = true then (bd2 (C_isKept ed rs S x1) (fun v12 S13 => if v12 = true then (some ((1 : Int), S13)) else (some ((0 : Int), S13)))) else (some (((-1) : Int), S)))))
set_option maxHeartbeats 4000000 in
theorem wC_kept (l : Launch) (Z : hZ) (DC : va_G) (dA : Nat → ClassId) (hC : Nat) (A : Nat → Prop) (L : List Nat) (k ed : Nat) (rs : List (List tCl)) (S : yS) (x1 : Int) (n0 : Nat) {r : Int} {S1 : yS} (hh : C_kept ed rs S x1 = some (r, S1)) : mFl l yX1_kept cX1_kept 2 (some .int) ({ frames := 64, cells := 0, slots := 0, locals := 2403 } : Room) Z DC dA hC [.ref hC, .int (zi x1)] n0 (fPre Z DC dA hC A L k ed rs S) (some (.int (zi r))) S1 := by
  refine goFi (by decide +kernel) (Nat.le_of_ble_eq_true rfl) ?_
  intro p e s m args below meth c Q ls Y hret hl hM hO
  have X := fcx_c Y
  have hx := Y.1.1
  have hb := Y.1.2.1
  have hown := Y.1.2.2.2.1
  have hts := Y.1.2.2.2.2
  replace hl : lv_has ls 2 [(0, .ref (hC)), (1, .int (zi (x1)))] := hl
  unfold C_kept at hh
  refine lv_iload_n hx hb dX1_kept_0 rfl (lv_at hl 1 rfl) ?_
  refine lv_iconst (v := zi (-1)) hx hb dX1_kept_1 rfl ?_
  obtain ⟨g2, hh⟩ := gd_inv hh
  refine g_icmp_ne (tgt := 15) hx hb ⟨g2, by decide⟩ dX1_kept_2 (by decide) (fun c1 => ?_) (fun c1 => ?_)
  · replace hh := it_t c1 hh
    refine lv_aload_n hx hb dX1_kept_5 rfl (lv_at hl 0 rfl) ?_
    obtain ⟨v4, S5, k3, hh⟩ := bd2_inv hh
    refine cf_ (rest := []) Y hM hO (wC_keeps l Z DC dA hC A L k ed rs S  _ k3) cx_X1_308.1 cx_X1_308.2 ⟨rfl, rfl⟩ ⟨Nat.le_of_ble_eq_true rfl, Nat.le_of_ble_eq_true rfl⟩ ⟨Nat.zero_le _, Nat.zero_le _⟩ hl.1 (Nat.le_of_ble_eq_true rfl) dX1_kept_6 rfl (fun H locs hM => ?_)
    obtain ⟨v6, k7, hh⟩ := bd_inv hh
    refine ccs_i (rest := []) X hM (wIn_bitCount l v4 k7) cx_X1_311.1 cx_X1_311.2 ⟨rfl, rfl⟩ ⟨Nat.le_of_ble_eq_true rfl, Nat.le_of_ble_eq_true rfl⟩ ⟨Nat.zero_le _, Nat.zero_le _⟩ hl.1 (Nat.le_of_ble_eq_true rfl) dX1_kept_9 rfl (fun H locs hM => ?_)
    refine lv_goto (tgt := 41) hx hb dX1_kept_12 (by decide) ?_
    exact hret _ _ _ _ _ _ (rt1 hh) (rt2 hh) dX1_kept_41 hM
  · replace hh := it_f c1 hh
    refine lv_aload_n hx hb dX1_kept_15 rfl (lv_at hl 0 rfl) ?_
    refine lv_iconst (v := zi 3) hx hb dX1_kept_16 rfl ?_
    refine lv_iload_n hx hb dX1_kept_17 rfl (lv_at hl 1 rfl) ?_
    obtain ⟨v9, k8, hh⟩ := bd_inv hh
    refine cc_z (rest := []) X hM (wC_isOne l DC dA hC S (3 : Int) x1 k8) cx_X1_135.1 cx_X1_135.2 ⟨rfl, rfl⟩ ⟨Nat.le_of_ble_eq_true rfl, Nat.le_of_ble_eq_true rfl⟩ ⟨Nat.zero_le _, Nat.zero_le _⟩ hl.1 (Nat.le_of_ble_eq_true rfl) dX1_kept_18 rfl (fun H locs hM => ?_)
    refine g_bif_eq (tgt := 40) hx hb dX1_kept_21 (by decide) (fun c10 => ?_) (fun c10 => ?_)
    · replace hh := it_t c10 hh
      refine lv_aload_n hx hb dX1_kept_24 rfl (lv_at hl 0 rfl) ?_
      refine lv_iload_n hx hb dX1_kept_25 rfl (lv_at hl 1 rfl) ?_
      obtain ⟨v12, S13, k11, hh⟩ := bd2_inv hh
      refine cf_ (rest := []) Y hM hO (wC_isKept l Z DC dA hC A L k ed rs S x1 _ k11) cx_X1_305.1 cx_X1_305.2 ⟨rfl, rfl⟩ ⟨Nat.le_of_ble_eq_true rfl, Nat.le_of_ble_eq_true rfl⟩ ⟨Nat.zero_le _, Nat.zero_le _⟩ hl.1 (Nat.le_of_ble_eq_true rfl) dX1_kept_26 rfl (fun H locs hM => ?_)
      refine g_bif_eq (tgt := 36) hx hb dX1_kept_29 (by decide) (fun c14 => ?_) (fun c14 => ?_)
      · replace hh := it_t c14 hh
        refine lv_iconst (v := zi 1) hx hb dX1_kept_32 rfl ?_
        refine lv_goto (tgt := 41) hx hb dX1_kept_33 (by decide) ?_
        exact hret _ _ _ _ _ _ (rt1 hh) (rt2 hh) dX1_kept_41 hM
      · replace hh := it_f c14 hh
        refine lv_iconst (v := zi 0) hx hb dX1_kept_36 rfl ?_
        refine lv_goto (tgt := 41) hx hb dX1_kept_37 (by decide) ?_
        exact hret _ _ _ _ _ _ (rt1 hh) (rt2 hh) dX1_kept_41 hM
    · replace hh := it_f c10 hh
      refine lv_iconst (v := zi (-1)) hx hb dX1_kept_40 rfl ?_
      exact hret _ _ _ _ _ _ (rt1 hh) (rt2 hh) dX1_kept_41 hM
theorem cx_X1_316 : GoodIn lw_all (wsV "ManyEyes" 316 "ManyEyes" yX1_unlike (ws_ yX1_unlike cX1_unlike 7 (some .int))) ∧ yX1_unlike.cls = "ManyEyes" ∧ yX1_unlike.cls ≠ "java/lang/invoke/MethodHandle" ∧ yX1_unlike.cls ≠ "java/lang/invoke/VarHandle" ∧ (parseMethodDescriptor yX1_unlike.desc).map (fun d => d.parameters.length) = some 4 := ⟨lw_V q1146 q1148 qs34 q80 q1149, by decide +kernel⟩
def C_parts_b58 (ed : Nat) (rs : List (List tCl)) (K43 : yS → Int → Int → Int → Int → Option (Int × yS)) (x1 : Int) (x2 : Int) (x3 : Int) (x7 : Int) (K58 : yS → Int → Int → Int → Int → Option (Int × yS)) (S : yS) (x4 : Int) (x5 : Int) (x6 : Int) (x8 : Int) : Option (Int × yS) := gd (r32 (x8)) (if x8 < 64 then (bd2 (C_isStart S x7 ((16 * x1) + 8) x8) (fun v15 S16 => if v15 = true then (bd2 (C_unlike ed rs S16 x3 x7 ((16 * x1) + 8) x8) (fun v19 S20 => gd (r32 (v19) ∧ r32 (x4)) (if v19 ≤ x4 then (nm ((x8 + 8) : Int) (fun v23 => K58 S20 x4 x5 x6 v23)) else (nm ((x8 + 8) : Int) (fun v25 => K58 S20 v19 x7 x8 v25))))) else (nm ((x8 + 8) : Int) (fun v27 => K58 S16 x4 x5 x6 v27)))) else (nm ((x7 + 16) : Int) (fun v29 => K43 S x4 x5 x6 v29)))
def C_parts_L58 (ed : Nat) (rs : List (List tCl)) (K43 : yS → Int → Int → Int → Int → Option (Int × yS)) (x1 : Int) (x2 : Int) (x3 : Int) (x7 : Int) : Nat → yS → Int → Int → Int → Int → Option (Int × yS)
  | 0 => fun _ _ _ _ _ => none
  | n + 1 => fun S x4 x5 x6 x8 => C_parts_b58 ed rs K43 x1 x2 x3 x7 (C_parts_L58 ed rs K43 x1 x2 x3 x7 n) S x4 x5 x6 x8
def C_parts_b43 (ed : Nat) (rs : List (List tCl)) (x1 : Int) (x2 : Int) (x3 : Int) (K43 : yS → Int → Int → Int → Int → Option (Int × yS)) (S : yS) (x4 : Int) (x5 : Int) (x6 : Int) (x7 : Int) : Option (Int × yS) := gd (r32 (x7) ∧ r32 (16 * (S.1 2))) (if x7 < (16 * (S.1 2)) then (C_parts_L58 ed rs K43 x1 x2 x3 x7 FU S x4 x5 x6 (0 : Int)) else (gd (r32 (x5)) (if x5 = (-1) then (some (((-1) : Int), S)) else (gd (r32 (x2)) (if x2 = 0 then (some ((x5 : Int), S)) else (gd (r32 (x2)) (if x2 = 1 then (some ((x6 : Int), S)) else (some ((x4 : Int), S)))))))))
def C_parts_L43 (ed : Nat) (rs : List (List tCl)) (x1 : Int) (x2 : Int) (x3 : Int) : Nat → yS → Int → Int → Int → Int → Option (Int × yS)
  | 0 => fun _ _ _ _ _ => none
  | n + 1 => fun S x4 x5 x6 x7 => C_parts_b43 ed rs x1 x2 x3 (C_parts_L43 ed rs x1 x2 x3 n) S x4 x5 x6 x7
def C_parts (ed : Nat) (rs : List (List tCl)) (S : yS) (x1 : Int) (x2 : Int) : Option (Int × yS) := bd (C_in x1 (0 : Int) ((S.1 3) - 1)) (fun v1 => if v1 = true then (bd (C_in x2 (0 : Int) (2 : Int)) (fun v4 => if v4 = true then (bd2 (C_keeps ed rs S ) (fun v8 S9 => C_parts_L43 ed rs x1 x2 v8 FU S9 (1 : Int) ((-1) : Int) ((-1) : Int) (8 : Int))) else (some (((-1) : Int), S)))) else (some (((-1) : Int), S)))
set_option maxHeartbeats 4000000 in
theorem wC_parts (l : Launch) (Z : hZ) (DC : va_G) (dA : Nat → ClassId) (hC : Nat) (A : Nat → Prop) (L : List Nat) (k ed : Nat) (rs : List (List tCl)) (S : yS) (x1 x2 : Int) (n0 : Nat) {r : Int} {S1 : yS} (hh : C_parts ed rs S x1 x2 = some (r, S1)) : mFl l yX1_parts cX1_parts 10 (some .int) ({ frames := 64, cells := 0, slots := 0, locals := 2403 } : Room) Z DC dA hC [.ref hC, .int (zi x1), .int (zi x2)] n0 (fPre Z DC dA hC A L k ed rs S) (some (.int (zi r))) S1 := by
  refine goFi (by decide +kernel) (Nat.le_of_ble_eq_true rfl) ?_
  intro p e s m args below meth c Q ls Y hret hl hM hO
  have X := fcx_c Y
  have hx := Y.1.1
  have hb := Y.1.2.1
  have hown := Y.1.2.2.2.1
  have hts := Y.1.2.2.2.2
  have hL58 : ∀ (x1 : Int) (x2 : Int) (x3 : Int) (x7 : Int) (K43 : yS → Int → Int → Int → Int → Option (Int × yS)) (hK43 : (∀ (S : yS) (x4 : Int) (x5 : Int) (x6 : Int) (x7 : Int), K43 S x4 x5 x6 x7 = some (r, S1) → ∀ (H : Heap) (locs : List Loc) (ls : Array Slot), CX DC dA hC (hA (cA hC) s.heap.size) S s H locs → lv_has ls 10 [(0, .ref (hC)), (1, .int (zi (x1))), (2, .int (zi (x2))), (3, .int (zi (x3))), (4, .int (zi (x4))), (5, .int (zi (x5))), (6, .int (zi (x6))), (7, .int (zi (x7)))] → W p l e ({ frames := 64, cells := 0, slots := 0, locals := 2403 } : Room) s m args below meth c H locs 0 0 Q (F0 m 43 ls []))) (n : Nat) (S : yS) (x4 : Int) (x5 : Int) (x6 : Int) (x8 : Int), C_parts_L58 ed rs K43 x1 x2 x3 x7 n S x4 x5 x6 x8 = some (r, S1) → ∀ (H : Heap) (locs : List Loc) (ls : Array Slot), CX DC dA hC (hA (cA hC) s.heap.size) S s H locs → lv_has ls 10 [(0, .ref (hC)), (1, .int (zi (x1))), (2, .int (zi (x2))), (3, .int (zi (x3))), (4, .int (zi (x4))), (5, .int (zi (x5))), (6, .int (zi (x6))), (7, .int (zi (x7))), (8, .int (zi (x8)))] → W p l e ({ frames := 64, cells := 0, slots := 0, locals := 2403 } : Room) s m args below meth c H locs 0 0 Q (F0 m 58 ls []) := by
    intro x1 x2 x3 x7 K43 hK43 n
    induction n with
    | zero => intro S x4 x5 x6 x8 hh; exact no_some hh
    | succ n ih =>
      intro S x4 x5 x6 x8 hh H locs ls hM hl
      replace hh : C_parts_b58 ed rs K43 x1 x2 x3 x7 (C_parts_L58 ed rs K43 x1 x2 x3 x7 n) S x4 x5 x6 x8 = some (r, S1) := hh
      unfold C_parts_b58 at hh
      have hK58 := ih
      refine lv_iload hx hb dX1_parts_58 (lv_at hl 8 rfl) ?_
      refine lv_bipush (v := zi 64) hx hb dX1_parts_60 (by decide) ?_
      obtain ⟨g13, hh⟩ := gd_inv hh
      refine g_icmp_ge (tgt := 132) hx hb ⟨g13, by decide⟩ dX1_parts_62 (by decide) (fun c12 => ?_) (fun c12 => ?_)
      · replace hh := it_t c12 hh
        refine lv_aload_n hx hb dX1_parts_65 rfl (lv_at hl 0 rfl) ?_
        refine lv_iload hx hb dX1_parts_66 (lv_at hl 7 rfl) ?_
        refine lv_bipush (v := zi 16) hx hb dX1_parts_68 (by decide) ?_
        refine lv_iload_n hx hb dX1_parts_70 rfl (lv_at hl 1 rfl) ?_
        refine g_imul hx hb dX1_parts_71 ?_
        refine lv_bipush (v := zi 8) hx hb dX1_parts_72 (by decide) ?_
        refine g_iadd hx hb dX1_parts_74 ?_
        refine lv_iload hx hb dX1_parts_75 (lv_at hl 8 rfl) ?_
        obtain ⟨v15, S16, k14, hh⟩ := bd2_inv hh
        refine cc_z (rest := []) X hM (wC_isStart l DC dA hC S x7 ((16 * x1) + 8) x8 k14) cx_X1_288.1 cx_X1_288.2 ⟨rfl, rfl⟩ ⟨Nat.le_of_ble_eq_true rfl, Nat.le_of_ble_eq_true rfl⟩ ⟨Nat.zero_le _, Nat.zero_le _⟩ hl.1 (Nat.le_of_ble_eq_true rfl) dX1_parts_77 rfl (fun H locs hM => ?_)
        refine g_bif_ne (tgt := 86) hx hb dX1_parts_80 (by decide) (fun c17 => ?_) (fun c17 => ?_)
        · replace hh := it_t c17 hh
          refine lv_aload_n hx hb dX1_parts_86 rfl (lv_at hl 0 rfl) ?_
          refine lv_iload_n hx hb dX1_parts_87 rfl (lv_at hl 3 rfl) ?_
          refine lv_iload hx hb dX1_parts_88 (lv_at hl 7 rfl) ?_
          refine lv_bipush (v := zi 16) hx hb dX1_parts_90 (by decide) ?_
          refine lv_iload_n hx hb dX1_parts_92 rfl (lv_at hl 1 rfl) ?_
          refine g_imul hx hb dX1_parts_93 ?_
          refine lv_bipush (v := zi 8) hx hb dX1_parts_94 (by decide) ?_
          refine g_iadd hx hb dX1_parts_96 ?_
          refine lv_iload hx hb dX1_parts_97 (lv_at hl 8 rfl) ?_
          obtain ⟨v19, S20, k18, hh⟩ := bd2_inv hh
          refine cf_ (rest := []) Y hM hO (wC_unlike l Z DC dA hC A L k ed rs S16 x3 x7 ((16 * x1) + 8) x8 _ k18) cx_X1_316.1 cx_X1_316.2 ⟨rfl, rfl⟩ ⟨Nat.le_of_ble_eq_true rfl, Nat.le_of_ble_eq_true rfl⟩ ⟨Nat.zero_le _, Nat.zero_le _⟩ hl.1 (Nat.le_of_ble_eq_true rfl) dX1_parts_99 rfl (fun H locs hM => ?_)
          refine lv_istore (lv' := [(9, .int (zi (v19))), (0, .ref (hC)), (1, .int (zi (x1))), (2, .int (zi (x2))), (3, .int (zi (x3))), (4, .int (zi (x4))), (5, .int (zi (x5))), (6, .int (zi (x6))), (7, .int (zi (x7))), (8, .int (zi (x8)))]) hx hb dX1_parts_102 hl (by decide) rfl (fun ls hl => ?_)
          refine lv_iload hx hb dX1_parts_104 (lv_at hl 0 rfl) ?_
          refine lv_iload hx hb dX1_parts_106 (lv_at hl 5 rfl) ?_
          obtain ⟨g22, hh⟩ := gd_inv hh
          refine g_icmp_gt (tgt := 114) hx hb g22 dX1_parts_108 (by decide) (fun c21 => ?_) (fun c21 => ?_)
          · replace hh := it_t c21 hh
            refine lv_goto (tgt := 126) hx hb dX1_parts_111 (by decide) ?_
            obtain ⟨v23, e24⟩ : ∃ z : Int, z = x8 + 8 := ⟨_, rfl⟩
            replace hh := nm_inv hh v23 e24
            refine lv_iinc (v := zi v23) (lv' := [(8, .int (zi (v23))), (9, .int (zi (v19))), (0, .ref (hC)), (1, .int (zi (x1))), (2, .int (zi (x2))), (3, .int (zi (x3))), (4, .int (zi (x4))), (5, .int (zi (x5))), (6, .int (zi (x6))), (7, .int (zi (x7)))]) hx hb dX1_parts_126 hl (k := 9) rfl (by rw [e24]; exact zi_add _ _) (by decide) rfl (fun ls hl => ?_)
            refine lv_goto (tgt := 58) hx hb dX1_parts_129 (by decide) ?_
            exact hK58 S20 x4 x5 x6 v23 hh _ _ _ hM (lv_sub hl [2, 3, 4, 5, 6, 7, 8, 9, 0] rfl)
          · replace hh := it_f c21 hh
            refine lv_iload hx hb dX1_parts_114 (lv_at hl 0 rfl) ?_
            refine lv_istore (lv' := [(4, .int (zi (v19))), (9, .int (zi (v19))), (0, .ref (hC)), (1, .int (zi (x1))), (2, .int (zi (x2))), (3, .int (zi (x3))), (5, .int (zi (x5))), (6, .int (zi (x6))), (7, .int (zi (x7))), (8, .int (zi (x8)))]) hx hb dX1_parts_116 hl (by decide) rfl (fun ls hl => ?_)
            refine lv_iload hx hb dX1_parts_118 (lv_at hl 8 rfl) ?_
            refine lv_istore (lv' := [(5, .int (zi (x7))), (4, .int (zi (v19))), (9, .int (zi (v19))), (0, .ref (hC)), (1, .int (zi (x1))), (2, .int (zi (x2))), (3, .int (zi (x3))), (6, .int (zi (x6))), (7, .int (zi (x7))), (8, .int (zi (x8)))]) hx hb dX1_parts_120 hl (by decide) rfl (fun ls hl => ?_)
            refine lv_iload hx hb dX1_parts_122 (lv_at hl 9 rfl) ?_
            refine lv_istore (lv' := [(6, .int (zi (x8))), (5, .int (zi (x7))), (4, .int (zi (v19))), (9, .int (zi (v19))), (0, .ref (hC)), (1, .int (zi (x1))), (2, .int (zi (x2))), (3, .int (zi (x3))), (7, .int (zi (x7))), (8, .int (zi (x8)))]) hx hb dX1_parts_124 hl (by decide) rfl (fun ls hl => ?_)
            obtain ⟨v25, e26⟩ : ∃ z : Int, z = x8 + 8 := ⟨_, rfl⟩
            replace hh := nm_inv hh v25 e26
            refine lv_iinc (v := zi v25) (lv' := [(8, .int (zi (v25))), (6, .int (zi (x8))), (5, .int (zi (x7))), (4, .int (zi (v19))), (9, .int (zi (v19))), (0, .ref (hC)), (1, .int (zi (x1))), (2, .int (zi (x2))), (3, .int (zi (x3))), (7, .int (zi (x7)))]) hx hb dX1_parts_126 hl (k := 9) rfl (by rw [e26]; exact zi_add _ _) (by decide) rfl (fun ls hl => ?_)
            refine lv_goto (tgt := 58) hx hb dX1_parts_129 (by decide) ?_
            exact hK58 S20 v19 x7 x8 v25 hh _ _ _ hM (lv_sub hl [5, 6, 7, 8, 3, 2, 1, 9, 0] rfl)
        · replace hh := it_f c17 hh
          refine lv_goto (tgt := 126) hx hb dX1_parts_83 (by decide) ?_
          obtain ⟨v27, e28⟩ : ∃ z : Int, z = x8 + 8 := ⟨_, rfl⟩
          replace hh := nm_inv hh v27 e28
          refine lv_iinc (v := zi v27) (lv' := [(8, .int (zi (v27))), (0, .ref (hC)), (1, .int (zi (x1))), (2, .int (zi (x2))), (3, .int (zi (x3))), (4, .int (zi (x4))), (5, .int (zi (x5))), (6, .int (zi (x6))), (7, .int (zi (x7)))]) hx hb dX1_parts_126 hl (k := 8) rfl (by rw [e28]; exact zi_add _ _) (by decide) rfl (fun ls hl => ?_)
          refine lv_goto (tgt := 58) hx hb dX1_parts_129 (by decide) ?_
          exact hK58 S16 x4 x5 x6 v27 hh _ _ _ hM (lv_sub hl [1, 2, 3, 4, 5, 6, 7, 8, 0] rfl)
      · replace hh := it_f c12 hh
        obtain ⟨v29, e30⟩ : ∃ z : Int, z = x7 + 16 := ⟨_, rfl⟩
        replace hh := nm_inv hh v29 e30
        refine lv_iinc (v := zi v29) (lv' := [(7, .int (zi (v29))), (0, .ref (hC)), (1, .int (zi (x1))), (2, .int (zi (x2))), (3, .int (zi (x3))), (4, .int (zi (x4))), (5, .int (zi (x5))), (6, .int (zi (x6))), (8, .int (zi (x8)))]) hx hb dX1_parts_132 hl (k := 7) rfl (by rw [e30]; exact zi_add _ _) (by decide) rfl (fun ls hl => ?_)
        refine lv_goto (tgt := 43) hx hb dX1_parts_135 (by decide) ?_
        exact hK43 S x4 x5 x6 v29 hh _ _ _ hM (lv_sub hl [1, 2, 3, 4, 5, 6, 7, 0] rfl)
  have hL43 : ∀ (x1 : Int) (x2 : Int) (x3 : Int) (n : Nat) (S : yS) (x4 : Int) (x5 : Int) (x6 : Int) (x7 : Int), C_parts_L43 ed rs x1 x2 x3 n S x4 x5 x6 x7 = some (r, S1) → ∀ (H : Heap) (locs : List Loc) (ls : Array Slot), CX DC dA hC (hA (cA hC) s.heap.size) S s H locs → lv_has ls 10 [(0, .ref (hC)), (1, .int (zi (x1))), (2, .int (zi (x2))), (3, .int (zi (x3))), (4, .int (zi (x4))), (5, .int (zi (x5))), (6, .int (zi (x6))), (7, .int (zi (x7)))] → W p l e ({ frames := 64, cells := 0, slots := 0, locals := 2403 } : Room) s m args below meth c H locs 0 0 Q (F0 m 43 ls []) := by
    intro x1 x2 x3  n
    induction n with
    | zero => intro S x4 x5 x6 x7 hh; exact no_some hh
    | succ n ih =>
      intro S x4 x5 x6 x7 hh H locs ls hM hl
      replace hh : C_parts_b43 ed rs x1 x2 x3 (C_parts_L43 ed rs x1 x2 x3 n) S x4 x5 x6 x7 = some (r, S1) := hh
      unfold C_parts_b43 at hh
      have hK43 := ih
      refine lv_iload hx hb dX1_parts_43 (lv_at hl 7 rfl) ?_
      refine lv_bipush (v := zi 16) hx hb dX1_parts_45 (by decide) ?_
      refine lv_aload_n hx hb dX1_parts_47 rfl (lv_at hl 0 rfl) ?_
      refine cm_get X hM q381 (cf_0_2 _ _ _) rfl dX1_parts_48 ?_
      refine g_imul hx hb dX1_parts_51 ?_
      obtain ⟨g11, hh⟩ := gd_inv hh
      refine g_icmp_ge (tgt := 138) hx hb g11 dX1_parts_52 (by decide) (fun c10 => ?_) (fun c10 => ?_)
      · replace hh := it_t c10 hh
        refine lv_iconst (v := zi 0) hx hb dX1_parts_55 rfl ?_
        refine lv_istore (lv' := [(8, .int (zi (0))), (0, .ref (hC)), (1, .int (zi (x1))), (2, .int (zi (x2))), (3, .int (zi (x3))), (4, .int (zi (x4))), (5, .int (zi (x5))), (6, .int (zi (x6))), (7, .int (zi (x7)))]) hx hb dX1_parts_56 hl (by decide) rfl (fun ls hl => ?_)
        exact hL58 x1 x2 x3 x7 _ hK43 FU S x4 x5 x6 (0 : Int) hh _ _ _ hM (lv_sub hl [1, 2, 3, 4, 5, 6, 7, 8, 0] rfl)
      · replace hh := it_f c10 hh
        refine lv_iload hx hb dX1_parts_138 (lv_at hl 5 rfl) ?_
        refine lv_iconst (v := zi (-1)) hx hb dX1_parts_140 rfl ?_
        obtain ⟨g32, hh⟩ := gd_inv hh
        refine g_icmp_ne (tgt := 148) hx hb ⟨g32, by decide⟩ dX1_parts_141 (by decide) (fun c31 => ?_) (fun c31 => ?_)
        · replace hh := it_t c31 hh
          refine lv_iconst (v := zi (-1)) hx hb dX1_parts_144 rfl ?_
          refine lv_goto (tgt := 169) hx hb dX1_parts_145 (by decide) ?_
          exact hret _ _ _ _ _ _ (rt1 hh) (rt2 hh) dX1_parts_169 hM
        · replace hh := it_f c31 hh
          refine lv_iload_n hx hb dX1_parts_148 rfl (lv_at hl 2 rfl) ?_
          obtain ⟨g34, hh⟩ := gd_inv hh
          refine g_if_ne (tgt := 157) hx hb g34 dX1_parts_149 (by decide) (fun c33 => ?_) (fun c33 => ?_)
          · replace hh := it_t c33 hh
            refine lv_iload hx hb dX1_parts_152 (lv_at hl 5 rfl) ?_
            refine lv_goto (tgt := 169) hx hb dX1_parts_154 (by decide) ?_
            exact hret _ _ _ _ _ _ (rt1 hh) (rt2 hh) dX1_parts_169 hM
          · replace hh := it_f c33 hh
            refine lv_iload_n hx hb dX1_parts_157 rfl (lv_at hl 2 rfl) ?_
            refine lv_iconst (v := zi 1) hx hb dX1_parts_158 rfl ?_
            obtain ⟨g36, hh⟩ := gd_inv hh
            refine g_icmp_ne (tgt := 167) hx hb ⟨g36, by decide⟩ dX1_parts_159 (by decide) (fun c35 => ?_) (fun c35 => ?_)
            · replace hh := it_t c35 hh
              refine lv_iload hx hb dX1_parts_162 (lv_at hl 6 rfl) ?_
              refine lv_goto (tgt := 169) hx hb dX1_parts_164 (by decide) ?_
              exact hret _ _ _ _ _ _ (rt1 hh) (rt2 hh) dX1_parts_169 hM
            · replace hh := it_f c35 hh
              refine lv_iload hx hb dX1_parts_167 (lv_at hl 4 rfl) ?_
              exact hret _ _ _ _ _ _ (rt1 hh) (rt2 hh) dX1_parts_169 hM
  replace hl : lv_has ls 10 [(0, .ref (hC)), (1, .int (zi (x1))), (2, .int (zi (x2)))] := hl
  unfold C_parts at hh
  refine lv_iload_n hx hb dX1_parts_0 rfl (lv_at hl 1 rfl) ?_
  refine lv_iconst (v := zi 0) hx hb dX1_parts_1 rfl ?_
  refine lv_aload_n hx hb dX1_parts_2 rfl (lv_at hl 0 rfl) ?_
  refine cm_get X hM q382 (cf_0_3 _ _ _) rfl dX1_parts_3 ?_
  refine lv_iconst (v := zi 1) hx hb dX1_parts_6 rfl ?_
  refine g_isub hx hb dX1_parts_7 ?_
  obtain ⟨v1, k2, hh⟩ := bd_inv hh
  refine ccs_z (rest := []) X hM (wC_in l x1 (0 : Int) ((S.1 3) - 1) k2) cx_X1_66.1 cx_X1_66.2 ⟨rfl, rfl⟩ ⟨Nat.le_of_ble_eq_true rfl, Nat.le_of_ble_eq_true rfl⟩ ⟨Nat.zero_le _, Nat.zero_le _⟩ hl.1 (Nat.le_of_ble_eq_true rfl) dX1_parts_8 rfl (fun H locs hM => ?_)
  refine g_bif_eq (tgt := 23) hx hb dX1_parts_11 (by decide) (fun c3 => ?_) (fun c3 => ?_)
  · replace hh := it_t c3 hh
    refine lv_iload_n hx hb dX1_parts_14 rfl (lv_at hl 2 rfl) ?_
    refine lv_iconst (v := zi 0) hx hb dX1_parts_15 rfl ?_
    refine lv_iconst (v := zi 2) hx hb dX1_parts_16 rfl ?_
    obtain ⟨v4, k5, hh⟩ := bd_inv hh
    refine ccs_z (rest := []) X hM (wC_in l x2 (0 : Int) (2 : Int) k5) cx_X1_66.1 cx_X1_66.2 ⟨rfl, rfl⟩ ⟨Nat.le_of_ble_eq_true rfl, Nat.le_of_ble_eq_true rfl⟩ ⟨Nat.zero_le _, Nat.zero_le _⟩ hl.1 (Nat.le_of_ble_eq_true rfl) dX1_parts_17 rfl (fun H locs hM => ?_)
    refine g_bif_ne (tgt := 25) hx hb dX1_parts_20 (by decide) (fun c6 => ?_) (fun c6 => ?_)
    · replace hh := it_t c6 hh
      refine lv_aload_n hx hb dX1_parts_25 rfl (lv_at hl 0 rfl) ?_
      obtain ⟨v8, S9, k7, hh⟩ := bd2_inv hh
      refine cf_ (rest := []) Y hM hO (wC_keeps l Z DC dA hC A L k ed rs S  _ k7) cx_X1_308.1 cx_X1_308.2 ⟨rfl, rfl⟩ ⟨Nat.le_of_ble_eq_true rfl, Nat.le_of_ble_eq_true rfl⟩ ⟨Nat.zero_le _, Nat.zero_le _⟩ hl.1 (Nat.le_of_ble_eq_true rfl) dX1_parts_26 rfl (fun H locs hM => ?_)
      refine lv_istore_n (lv' := [(3, .int (zi (v8))), (0, .ref (hC)), (1, .int (zi (x1))), (2, .int (zi (x2)))]) hx hb dX1_parts_29 rfl hl (by decide) rfl (fun ls hl => ?_)
      refine lv_iconst (v := zi 1) hx hb dX1_parts_30 rfl ?_
      refine lv_istore (lv' := [(4, .int (zi (1))), (3, .int (zi (v8))), (0, .ref (hC)), (1, .int (zi (x1))), (2, .int (zi (x2)))]) hx hb dX1_parts_31 hl (by decide) rfl (fun ls hl => ?_)
      refine lv_iconst (v := zi (-1)) hx hb dX1_parts_33 rfl ?_
      refine lv_istore (lv' := [(5, .int (zi ((-1)))), (4, .int (zi (1))), (3, .int (zi (v8))), (0, .ref (hC)), (1, .int (zi (x1))), (2, .int (zi (x2)))]) hx hb dX1_parts_34 hl (by decide) rfl (fun ls hl => ?_)
      refine lv_iconst (v := zi (-1)) hx hb dX1_parts_36 rfl ?_
      refine lv_istore (lv' := [(6, .int (zi ((-1)))), (5, .int (zi ((-1)))), (4, .int (zi (1))), (3, .int (zi (v8))), (0, .ref (hC)), (1, .int (zi (x1))), (2, .int (zi (x2)))]) hx hb dX1_parts_37 hl (by decide) rfl (fun ls hl => ?_)
      refine lv_bipush (v := zi 8) hx hb dX1_parts_39 (by decide) ?_
      refine lv_istore (lv' := [(7, .int (zi (8))), (6, .int (zi ((-1)))), (5, .int (zi ((-1)))), (4, .int (zi (1))), (3, .int (zi (v8))), (0, .ref (hC)), (1, .int (zi (x1))), (2, .int (zi (x2)))]) hx hb dX1_parts_41 hl (by decide) rfl (fun ls hl => ?_)
      exact hL43 x1 x2 v8 FU S9 (1 : Int) ((-1) : Int) ((-1) : Int) (8 : Int) hh _ _ _ hM (lv_sub hl [5, 6, 7, 4, 3, 2, 1, 0] rfl)
    · replace hh := it_f c6 hh
      refine lv_iconst (v := zi (-1)) hx hb dX1_parts_23 rfl ?_
      exact hret _ _ _ _ _ _ (rt1 hh) (rt2 hh) dX1_parts_24 hM
  · replace hh := it_f c3 hh
    refine lv_iconst (v := zi (-1)) hx hb dX1_parts_23 rfl ?_
    exact hret _ _ _ _ _ _ (rt1 hh) (rt2 hh) dX1_parts_24 hM
