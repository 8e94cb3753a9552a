set_option maxRecDepth 100000
theorem cx_X1_288 : GoodIn lw_all (wsV "ManyEyes" 288 "ManyEyes" yX1_isStart (ws_ yX1_isStart cX1_isStart 4 (some .boolean))) ∧ yX1_isStart.cls = "ManyEyes" ∧ yX1_isStart.cls ≠ "java/lang/invoke/MethodHandle" ∧ yX1_isStart.cls ≠ "java/lang/invoke/VarHandle" ∧ (parseMethodDescriptor yX1_isStart.desc).map (fun d => d.parameters.length) = some 3 := ⟨lw_V q962 q964 qs28 q80 q965, by decide +kernel⟩
theorem cx_X1_291 : GoodIn lw_all (wsV "ManyEyes" 291 "ManyEyes" yX1_flies (ws_ yX1_flies cX1_flies 8 none)) ∧ yX1_flies.cls = "ManyEyes" ∧ yX1_flies.cls ≠ "java/lang/invoke/MethodHandle" ∧ yX1_flies.cls ≠ "java/lang/invoke/VarHandle" ∧ (parseMethodDescriptor yX1_flies.desc).map (fun d => d.parameters.length) = some 6 := ⟨lw_V q970 q972 qs30 q80 q973, by decide +kernel⟩
def C_isKept_b79 (ed : Nat) (rs : List (List tCl)) (K2 : yS → Int → Option (Bool × yS)) (x1 : Int) (x2 : Int) (K79 : yS → Int → Option (Bool × yS)) (S : yS) (x4 : Int) : Option (Bool × yS) := gd (r32 (x4) ∧ r32 (S.2 (45 + 1 + x2) 3)) (if x4 < (S.2 (45 + 1 + x2) 3) then (gd ((0 : Int) ≤ x4 ∧ (x4 : Int) < 60) (gd ((0 : Int) ≤ 4 + x4 ∧ (4 + x4 : Int) < 24) (gd (r32 (S.2 (475 + 1 + x4) 0) ∧ r32 (S.2 (45 + 1 + x2) (4 + x4))) (if (S.2 (475 + 1 + x4) 0) = (S.2 (45 + 1 + x2) (4 + x4)) then (nm ((x4 + 1) : Int) (fun v18 => K79 S v18)) else (some (false, S)))))) else (nm ((x2 + 1) : Int) (fun v20 => K2 S v20)))
def C_isKept_L79 (ed : Nat) (rs : List (List tCl)) (K2 : yS → Int → Option (Bool × yS)) (x1 : Int) (x2 : Int) : Nat → yS → Int → Option (Bool × yS)
  | 0 => fun _ _ => none
  | n + 1 => fun S x4 => C_isKept_b79 ed rs K2 x1 x2 (C_isKept_L79 ed rs K2 x1 x2 n) S x4
def C_isKept_b2 (ed : Nat) (rs : List (List tCl)) (x1 : Int) (K2 : yS → Int → Option (Bool × yS)) (S : yS) (x2 : Int) : Option (Bool × yS) := gd (r32 (x2) ∧ r32 (S.2 2 4)) (if x2 < (S.2 2 4) then (gd ((0 : Int) ≤ x2 ∧ (x2 : Int) < 6) (bd2 (C_isStart S (S.2 (45 + 1 + x2) 0) (S.2 (45 + 1 + x2) 1) (S.2 (45 + 1 + x2) 2)) (fun v5 S6 => if v5 = true then (bd (C_flies ed rs S6 x1 (S6.2 (45 + 1 + x2) 0) (S6.2 (45 + 1 + x2) 1) (S6.2 (45 + 1 + x2) 2) (S6.2 (45 + 1 + x2) 3) (0 : Int)) (fun S9 => gd (r32 (S9.1 17) ∧ r32 (S9.2 (45 + 1 + x2) 3)) (if (S9.1 17) < (S9.2 (45 + 1 + x2) 3) then (some (false, S9)) else (C_isKept_L79 ed rs K2 x1 x2 FU S9 (0 : Int))))) else (some (false, S6))))) else (some (true, S)))
def C_isKept_L2 (ed : Nat) (rs : List (List tCl)) (x1 : Int) : Nat → yS → Int → Option (Bool × yS)
  | 0 => fun _ _ => none
  | n + 1 => fun S x2 => C_isKept_b2 ed rs x1 (C_isKept_L2 ed rs x1 n) S x2
def C_isKept (ed : Nat) (rs : List (List tCl)) (S : yS) (x1 : Int) : Option (Bool × yS) := C_isKept_L2 ed rs x1 FU S (0 : Int)
set_option maxHeartbeats 4000000 in
theorem wC_isKept (l : Launch) (Z : hZ) (DC : va_G) (dA : Nat → ClassId) (hC : Nat) (A : Nat → Prop) (L : List Nat) (k ed : Nat) (rs : List (List tCl)) (S : yS) (x1 : Int) (n0 : Nat) {r : Bool} {S1 : yS} (hh : C_isKept ed rs S x1 = some (r, S1)) : mFl l yX1_isKept cX1_isKept 5 (some .boolean) ({ frames := 62, cells := 0, slots := 0, locals := 2357 } : Room) Z DC dA hC [.ref hC, .int (zi x1)] n0 (fPre Z DC dA hC A L k ed rs S) (some (.int (zi (bz r)))) S1 := by
  refine goFz (by decide +kernel) (Nat.le_of_ble_eq_true rfl) ?_
  intro p e s m args below meth c Q ls Y hret hl hM hO
  have X := fcx_c Y
  have hx := Y.1.1
  have hb := Y.1.2.1
  have hown := Y.1.2.2.2.1
  have hts := Y.1.2.2.2.2
  have hL79 : ∀ (x1 : Int) (x2 : Int) (gv_x2 : (0 : Int) ≤ x2 ∧ x2 < 6) (K2 : yS → Int → Option (Bool × yS)) (hK2 : (∀ (S : yS) (x2 : Int), K2 S x2 = some (r, S1) → ∀ (H : Heap) (locs : List Loc) (ls : Array Slot), CX DC dA hC (hA (cA hC) s.heap.size) S s H locs → lv_has ls 5 [(0, .ref (hC)), (1, .int (zi (x1))), (2, .int (zi (x2)))] → W p l e ({ frames := 62, cells := 0, slots := 0, locals := 2357 } : Room) s m args below meth c H locs 0 0 Q (F0 m 2 ls []))) (n : Nat) (S : yS) (x4 : Int), C_isKept_L79 ed rs K2 x1 x2 n S x4 = some (r, S1) → ∀ (H : Heap) (locs : List Loc) (ls : Array Slot), CX DC dA hC (hA (cA hC) s.heap.size) S s H locs → lv_has ls 5 [(0, .ref (hC)), (1, .int (zi (x1))), (2, .int (zi (x2))), (3, .ref (hC + (45 + 1 + Int.toNat x2))), (4, .int (zi (x4)))] → W p l e ({ frames := 62, cells := 0, slots := 0, locals := 2357 } : Room) s m args below meth c H locs 0 0 Q (F0 m 79 ls []) := by
    intro x1 x2 gv_x2 K2 hK2 n
    induction n with
    | zero => intro S x4 hh; exact no_some hh
    | succ n ih =>
      intro S x4 hh H locs ls hM hl
      replace hh : C_isKept_b79 ed rs K2 x1 x2 (C_isKept_L79 ed rs K2 x1 x2 n) S x4 = some (r, S1) := hh
      unfold C_isKept_b79 at hh
      have hK79 := ih
      refine lv_iload hx hb dX1_isKept_79 (lv_at hl 4 rfl) ?_
      refine lv_aload_n hx hb dX1_isKept_81 rfl (lv_at hl 3 rfl) ?_
      refine lv_iconst (v := zi 3) hx hb dX1_isKept_82 rfl ?_
      refine cm_iald (qz := (45 + 1 + x2)) X hM (cr_45 gv_x2) (by have := gv_x2.1; omega) rfl (by decide) dX1_isKept_83 ?_
      obtain ⟨g13, hh⟩ := gd_inv hh
      refine g_icmp_ge (tgt := 116) hx hb g13 dX1_isKept_84 (by decide) (fun c12 => ?_) (fun c12 => ?_)
      · replace hh := it_t c12 hh
        refine lv_aload_n hx hb dX1_isKept_87 rfl (lv_at hl 0 rfl) ?_
        refine cm_get X hM q390 (cf_0_11 _ _ _) rfl dX1_isKept_88 ?_
        refine cm_getN X hM q245 (cf_474_0 _ _ _) rfl dX1_isKept_91 ?_
        refine lv_iload hx hb dX1_isKept_94 (lv_at hl 4 rfl) ?_
        obtain ⟨g14, hh⟩ := gd_inv hh
        refine cm_aald X hM (by decide) rfl (by decide) rfl g14 dX1_isKept_96 ?_
        refine lv_iconst (v := zi 0) hx hb dX1_isKept_97 rfl ?_
        refine cm_iald (qz := (475 + 1 + x4)) X hM (cr_475 g14) (by have := g14.1; omega) rfl (by decide) dX1_isKept_98 ?_
        refine lv_aload_n hx hb dX1_isKept_99 rfl (lv_at hl 3 rfl) ?_
        refine lv_iconst (v := zi 4) hx hb dX1_isKept_100 rfl ?_
        refine lv_iload hx hb dX1_isKept_101 (lv_at hl 4 rfl) ?_
        refine g_iadd hx hb dX1_isKept_103 ?_
        obtain ⟨g15, hh⟩ := gd_inv hh
        refine cm_iald (qz := (45 + 1 + x2)) X hM (cr_45 gv_x2) (by have := gv_x2.1; omega) rfl g15 dX1_isKept_104 ?_
        obtain ⟨g17, hh⟩ := gd_inv hh
        refine g_icmp_eq (tgt := 110) hx hb g17 dX1_isKept_105 (by decide) (fun c16 => ?_) (fun c16 => ?_)
        · replace hh := it_t c16 hh
          obtain ⟨v18, e19⟩ : ∃ z : Int, z = x4 + 1 := ⟨_, rfl⟩
          replace hh := nm_inv hh v18 e19
          refine lv_iinc (v := zi v18) (lv' := [(4, .int (zi (v18))), (0, .ref (hC)), (1, .int (zi (x1))), (2, .int (zi (x2))), (3, .ref (hC + (45 + 1 + Int.toNat x2)))]) hx hb dX1_isKept_110 hl (k := 4) rfl (by rw [e19]; exact zi_add _ _) (by decide) rfl (fun ls hl => ?_)
          refine lv_goto (tgt := 79) hx hb dX1_isKept_113 (by decide) ?_
          exact hK79 S v18 hh _ _ _ hM (lv_sub hl [1, 2, 3, 4, 0] rfl)
        · replace hh := it_f c16 hh
          refine lv_iconst (v := zi 0) hx hb dX1_isKept_108 rfl ?_
          refine W.eq (g2 := F0 m 109 ls [.int (zi (bz false))]) rfl ?_
          exact hret _ _ _ _ _ _ (rt1 hh) (rt2 hh) dX1_isKept_109 hM
      · replace hh := it_f c12 hh
        obtain ⟨v20, e21⟩ : ∃ z : Int, z = x2 + 1 := ⟨_, rfl⟩
        replace hh := nm_inv hh v20 e21
        refine lv_iinc (v := zi v20) (lv' := [(2, .int (zi (v20))), (0, .ref (hC)), (1, .int (zi (x1))), (3, .ref (hC + (45 + 1 + Int.toNat x2))), (4, .int (zi (x4)))]) hx hb dX1_isKept_116 hl (k := 2) rfl (by rw [e21]; exact zi_add _ _) (by decide) rfl (fun ls hl => ?_)
        refine lv_goto (tgt := 2) hx hb dX1_isKept_119 (by decide) ?_
        exact hK2 S v20 hh _ _ _ hM (lv_sub hl [1, 2, 0] rfl)
  have hL2 : ∀ (x1 : Int) (n : Nat) (S : yS) (x2 : Int), C_isKept_L2 ed rs x1 n S x2 = some (r, S1) → ∀ (H : Heap) (locs : List Loc) (ls : Array Slot), CX DC dA hC (hA (cA hC) s.heap.size) S s H locs → lv_has ls 5 [(0, .ref (hC)), (1, .int (zi (x1))), (2, .int (zi (x2)))] → W p l e ({ frames := 62, cells := 0, slots := 0, locals := 2357 } : Room) s m args below meth c H locs 0 0 Q (F0 m 2 ls []) := by
    intro x1  n
    induction n with
    | zero => intro S x2 hh; exact no_some hh
    | succ n ih =>
      intro S x2 hh H locs ls hM hl
      replace hh : C_isKept_b2 ed rs x1 (C_isKept_L2 ed rs x1 n) S x2 = some (r, S1) := hh
      unfold C_isKept_b2 at hh
      have hK2 := ih
      refine lv_iload_n hx hb dX1_isKept_2 rfl (lv_at hl 2 rfl) ?_
      refine lv_aload_n hx hb dX1_isKept_3 rfl (lv_at hl 0 rfl) ?_
      refine cm_get X hM q379 (cf_0_0 _ _ _) rfl dX1_isKept_4 ?_
      refine cm_getN X hM q161 (cf_1_0 _ _ _) rfl dX1_isKept_7 ?_
      refine lv_iconst (v := zi 4) hx hb dX1_isKept_10 rfl ?_
      refine cm_iald (qz := 2) X hM ci_2 rfl rfl (by decide) dX1_isKept_11 ?_
      obtain ⟨g2, hh⟩ := gd_inv hh
      refine g_icmp_ge (tgt := 122) hx hb g2 dX1_isKept_12 (by decide) (fun c1 => ?_) (fun c1 => ?_)
      · replace hh := it_t c1 hh
        refine lv_aload_n hx hb dX1_isKept_15 rfl (lv_at hl 0 rfl) ?_
        refine cm_get X hM q379 (cf_0_0 _ _ _) rfl dX1_isKept_16 ?_
        refine cm_getN X hM q171 (cf_1_5 _ _ _) rfl dX1_isKept_19 ?_
        refine lv_iload_n hx hb dX1_isKept_22 rfl (lv_at hl 2 rfl) ?_
        obtain ⟨g3, hh⟩ := gd_inv hh
        refine cm_aald X hM (by decide) rfl (by decide) rfl g3 dX1_isKept_23 ?_
        refine lv_astore_n (lv' := [(3, .ref (hC + (45 + 1 + Int.toNat x2))), (0, .ref (hC)), (1, .int (zi (x1))), (2, .int (zi (x2)))]) hx hb dX1_isKept_24 rfl hl (by decide) rfl (fun ls hl => ?_)
        refine lv_aload_n hx hb dX1_isKept_25 rfl (lv_at hl 1 rfl) ?_
        refine lv_aload_n hx hb dX1_isKept_26 rfl (lv_at hl 0 rfl) ?_
        refine lv_iconst (v := zi 0) hx hb dX1_isKept_27 rfl ?_
        refine cm_iald (qz := (45 + 1 + x2)) X hM (cr_45 g3) (by have := g3.1; omega) rfl (by decide) dX1_isKept_28 ?_
        refine lv_aload_n hx hb dX1_isKept_29 rfl (lv_at hl 0 rfl) ?_
        refine lv_iconst (v := zi 1) hx hb dX1_isKept_30 rfl ?_
        refine cm_iald (qz := (45 + 1 + x2)) X hM (cr_45 g3) (by have := g3.1; omega) rfl (by decide) dX1_isKept_31 ?_
        refine lv_aload_n hx hb dX1_isKept_32 rfl (lv_at hl 0 rfl) ?_
        refine lv_iconst (v := zi 2) hx hb dX1_isKept_33 rfl ?_
        refine cm_iald (qz := (45 + 1 + x2)) X hM (cr_45 g3) (by have := g3.1; omega) rfl (by decide) dX1_isKept_34 ?_
        obtain ⟨v5, S6, k4, hh⟩ := bd2_inv hh
        refine cc_z (rest := []) X hM (wC_isStart l DC dA hC S (S.2 (45 + 1 + x2) 0) (S.2 (45 + 1 + x2) 1) (S.2 (45 + 1 + x2) 2) k4) cx_X1_288.1 cx_X1_288.2 ⟨rfl, rfl⟩ ⟨Nat.le_of_ble_eq_true rfl, Nat.le_of_ble_eq_true rfl⟩ ⟨Nat.zero_le _, Nat.zero_le _⟩ hl.1 (Nat.le_of_ble_eq_true rfl) dX1_isKept_35 rfl (fun H locs hM => ?_)
        refine g_bif_ne (tgt := 43) hx hb dX1_isKept_38 (by decide) (fun c7 => ?_) (fun c7 => ?_)
        · replace hh := it_t c7 hh
          refine lv_aload_n hx hb dX1_isKept_43 rfl (lv_at hl 1 rfl) ?_
          refine lv_iload_n hx hb dX1_isKept_44 rfl (lv_at hl 2 rfl) ?_
          refine lv_aload_n hx hb dX1_isKept_45 rfl (lv_at hl 0 rfl) ?_
          refine lv_iconst (v := zi 0) hx hb dX1_isKept_46 rfl ?_
          refine cm_iald (qz := (45 + 1 + x2)) X hM (cr_45 g3) (by have := g3.1; omega) rfl (by decide) dX1_isKept_47 ?_
          refine lv_aload_n hx hb dX1_isKept_48 rfl (lv_at hl 0 rfl) ?_
          refine lv_iconst (v := zi 1) hx hb dX1_isKept_49 rfl ?_
          refine cm_iald (qz := (45 + 1 + x2)) X hM (cr_45 g3) (by have := g3.1; omega) rfl (by decide) dX1_isKept_50 ?_
          refine lv_aload_n hx hb dX1_isKept_51 rfl (lv_at hl 0 rfl) ?_
          refine lv_iconst (v := zi 2) hx hb dX1_isKept_52 rfl ?_
          refine cm_iald (qz := (45 + 1 + x2)) X hM (cr_45 g3) (by have := g3.1; omega) rfl (by decide) dX1_isKept_53 ?_
          refine lv_aload_n hx hb dX1_isKept_54 rfl (lv_at hl 0 rfl) ?_
          refine lv_iconst (v := zi 3) hx hb dX1_isKept_55 rfl ?_
          refine cm_iald (qz := (45 + 1 + x2)) X hM (cr_45 g3) (by have := g3.1; omega) rfl (by decide) dX1_isKept_56 ?_
          refine lv_iconst (v := zi 0) hx hb dX1_isKept_57 rfl ?_
          obtain ⟨S9, k8, hh⟩ := bd_inv hh
          refine cf_ (rest := []) Y hM hO (wC_flies l Z DC dA hC A L k ed rs S6 x1 (S6.2 (45 + 1 + x2) 0) (S6.2 (45 + 1 + x2) 1) (S6.2 (45 + 1 + x2) 2) (S6.2 (45 + 1 + x2) 3) (0 : Int) H.size k8) cx_X1_291.1 cx_X1_291.2 ⟨rfl, rfl⟩ ⟨Nat.le_of_ble_eq_true rfl, Nat.le_of_ble_eq_true rfl⟩ ⟨Nat.zero_le _, Nat.zero_le _⟩ hl.1 (Nat.le_of_ble_eq_true rfl) dX1_isKept_58 rfl (fun H locs hM => ?_)
          refine lv_aload_n hx hb dX1_isKept_61 rfl (lv_at hl 1 rfl) ?_
          refine cm_get X hM q390 (cf_0_11 _ _ _) rfl dX1_isKept_62 ?_
          refine cm_getN X hM q255 (cf_474_7 _ _ _) rfl dX1_isKept_65 ?_
          refine lv_aload_n hx hb dX1_isKept_68 rfl (lv_at hl 0 rfl) ?_
          refine lv_iconst (v := zi 3) hx hb dX1_isKept_69 rfl ?_
          refine cm_iald (qz := (45 + 1 + x2)) X hM (cr_45 g3) (by have := g3.1; omega) rfl (by decide) dX1_isKept_70 ?_
          obtain ⟨g11, hh⟩ := gd_inv hh
          refine g_icmp_ge (tgt := 76) hx hb g11 dX1_isKept_71 (by decide) (fun c10 => ?_) (fun c10 => ?_)
          · replace hh := it_t c10 hh
            refine lv_iconst (v := zi 0) hx hb dX1_isKept_74 rfl ?_
            refine W.eq (g2 := F0 m 75 ls [.int (zi (bz false))]) rfl ?_
            exact hret _ _ _ _ _ _ (rt1 hh) (rt2 hh) dX1_isKept_75 hM
          · replace hh := it_f c10 hh
            refine lv_iconst (v := zi 0) hx hb dX1_isKept_76 rfl ?_
            refine lv_istore (lv' := [(4, .int (zi (0))), (3, .ref (hC + (45 + 1 + Int.toNat x2))), (0, .ref (hC)), (1, .int (zi (x1))), (2, .int (zi (x2)))]) hx hb dX1_isKept_77 hl (by decide) rfl (fun ls hl => ?_)
            exact hL79 x1 x2 g3 _ hK2 FU S9 (0 : Int) hh _ _ _ hM (lv_sub hl [2, 3, 4, 1, 0] rfl)
        · replace hh := it_f c7 hh
          refine lv_iconst (v := zi 0) hx hb dX1_isKept_41 rfl ?_
          refine W.eq (g2 := F0 m 42 ls [.int (zi (bz false))]) rfl ?_
          exact hret _ _ _ _ _ _ (rt1 hh) (rt2 hh) dX1_isKept_42 hM
      · replace hh := it_f c1 hh
        refine lv_iconst (v := zi 1) hx hb dX1_isKept_122 rfl ?_
        refine W.eq (g2 := F0 m 123 ls [.int (zi (bz true))]) rfl ?_
        exact hret _ _ _ _ _ _ (rt1 hh) (rt2 hh) dX1_isKept_123 hM
  replace hl : lv_has ls 5 [(0, .ref (hC)), (1, .int (zi (x1)))] := hl
  unfold C_isKept at hh
  refine lv_iconst (v := zi 0) hx hb dX1_isKept_0 rfl ?_
  refine lv_istore_n (lv' := [(2, .int (zi (0))), (0, .ref (hC)), (1, .int (zi (x1)))]) hx hb dX1_isKept_1 rfl hl (by decide) rfl (fun ls hl => ?_)
  exact hL2 x1 FU S (0 : Int) hh _ _ _ hM (lv_sub hl [1, 2, 0] rfl)
theorem cx_X1_305 : GoodIn lw_all (wsV "ManyEyes" 305 "ManyEyes" yX1_isKept (ws_ yX1_isKept cX1_isKept 5 (some .boolean))) ∧ yX1_isKept.cls = "ManyEyes" ∧ yX1_isKept.cls ≠ "java/lang/invoke/MethodHandle" ∧ yX1_isKept.cls ≠ "java/lang/invoke/VarHandle" ∧ (parseMethodDescriptor yX1_isKept.desc).map (fun d => d.parameters.length) = some 1 := ⟨lw_V q1132 q1134 qs33 q80 q1135, by decide +kernel⟩
def C_keeps_B33 (ed : Nat) (rs : List (List tCl)) (K4 : yS → Int → Int → Option (Int × yS)) (S : yS) (x2 : Int) (t0 : Int) (t1 : Int) : Option (Int × yS) := gd ((0 : Int) ≤ t1 ∧ (0 : Int) ≤ t0) (nm (zor t1 t0) (fun v9 => nm ((x2 + 1) : Int) (fun v11 => K4 S v9 v11)))
def C_keeps_b4 (ed : Nat) (rs : List (List tCl)) (K4 : yS → Int → Int → Option (Int × yS)) (S : yS) (x1 : Int) (x2 : Int) : Option (Int × yS) := gd (r32 (x2) ∧ r32 (S.2 2 3)) (if x2 < (S.2 2 3) then (bd2 (C_isKept ed rs S x2) (fun v4 S5 => if v4 = true then (gd ((0 : Int) ≤ 1 ∧ ((0 : Int) ≤ x2 ∧ (x2 : Int) ≤ 31) ∧ (1 : Int) * 2 ^ (Int.toNat x2) < 4294967296) (C_keeps_B33 ed rs K4 S5 x2 ((1 : Int) * 2 ^ (Int.toNat x2)) x1)) else (C_keeps_B33 ed rs K4 S5 x2 (0 : Int) x1))) else (some ((x1 : Int), S)))
def C_keeps_L4 (ed : Nat) (rs : List (List tCl)) : Nat → yS → Int → Int → Option (Int × yS)
  | 0 => fun _ _ _ => none
  | n + 1 => fun S x1 x2 => C_keeps_b4 ed rs  (C_keeps_L4 ed rs  n) S x1 x2
def C_keeps (ed : Nat) (rs : List (List tCl)) (S : yS) : Option (Int × yS) := C_keeps_L4 ed rs FU S (0 : Int) (0 : Int)
set_option maxHeartbeats 4000000 in
theorem wC_keeps (l : Launch) (Z : hZ) (DC : va_G) (dA : Nat → ClassId) (hC : Nat) (A : Nat → Prop) (L : List Nat) (k ed : Nat) (rs : List (List tCl)) (S : yS) (n0 : Nat) {r : Int} {S1 : yS} (hh : C_keeps ed rs S  = some (r, S1)) : mFl l yX1_keeps cX1_keeps 3 (some .int) ({ frames := 63, cells := 0, slots := 0, locals := 2381 } : Room) Z DC dA hC [.ref hC] n0 (fPre Z DC dA hC A L k ed rs S) (some (.int (zi r))) S1 := by
  refine goFi (by decide +kernel) (Nat.le_of_ble_eq_true rfl) ?_
  intro p e s m args below meth c Q ls Y hret hl hM hO
  have X := fcx_c Y
  have hx := Y.1.1
  have hb := Y.1.2.1
  have hown := Y.1.2.2.2.1
  have hts := Y.1.2.2.2.2
  have hB33 : ∀ (x2 : Int) (t0 : Int) (t1 : Int) (K4 : yS → Int → Int → Option (Int × yS)) (hK4 : (∀ (S : yS) (x1 : Int) (x2 : Int), K4 S x1 x2 = some (r, S1) → ∀ (H : Heap) (locs : List Loc) (ls : Array Slot), CX DC dA hC (hA (cA hC) s.heap.size) S s H locs → lv_has ls 3 [(0, .ref (hC)), (1, .int (zi (x1))), (2, .int (zi (x2)))] → W p l e ({ frames := 63, cells := 0, slots := 0, locals := 2381 } : Room) s m args below meth c H locs 0 0 Q (F0 m 4 ls []))) (S : yS), C_keeps_B33 ed rs K4 S x2 t0 t1 = some (r, S1) → ∀ (H : Heap) (locs : List Loc) (ls : Array Slot), CX DC dA hC (hA (cA hC) s.heap.size) S s H locs → lv_has ls 3 [(0, .ref (hC)), (2, .int (zi (x2)))] → W p l e ({ frames := 63, cells := 0, slots := 0, locals := 2381 } : Room) s m args below meth c H locs 0 0 Q (F0 m 33 ls [.int (zi (t0)), .int (zi (t1))]) := by
    intro x2 t0 t1 K4 hK4 S hh H locs ls hM hl
    unfold C_keeps_B33 at hh
    obtain ⟨g8, hh⟩ := gd_inv hh
    refine g_ior hx hb g8 dX1_keeps_33 ?_
    refine g_nmi hx hb (fun v9 e10 => ?_)
    replace hh := nm_inv hh v9 e10
    refine lv_istore_n (lv' := [(1, .int (zi (v9))), (0, .ref (hC)), (2, .int (zi (x2)))]) hx hb dX1_keeps_34 rfl hl (by decide) rfl (fun ls hl => ?_)
    obtain ⟨v11, e12⟩ : ∃ z : Int, z = x2 + 1 := ⟨_, rfl⟩
    replace hh := nm_inv hh v11 e12
    refine lv_iinc (v := zi v11) (lv' := [(2, .int (zi (v11))), (1, .int (zi (v9))), (0, .ref (hC))]) hx hb dX1_keeps_35 hl (k := 2) rfl (by rw [e12]; exact zi_add _ _) (by decide) rfl (fun ls hl => ?_)
    refine lv_goto (tgt := 4) hx hb dX1_keeps_38 (by decide) ?_
    exact hK4 S v9 v11 hh _ _ _ hM (lv_sub hl [2, 1, 0] rfl)
  have hL4 : ∀ (n : Nat) (S : yS) (x1 : Int) (x2 : Int), C_keeps_L4 ed rs n S x1 x2 = some (r, S1) → ∀ (H : Heap) (locs : List Loc) (ls : Array Slot), CX DC dA hC (hA (cA hC) s.heap.size) S s H locs → lv_has ls 3 [(0, .ref (hC)), (1, .int (zi (x1))), (2, .int (zi (x2)))] → W p l e ({ frames := 63, cells := 0, slots := 0, locals := 2381 } : Room) s m args below meth c H locs 0 0 Q (F0 m 4 ls []) := by
    intro   n
    induction n with
    | zero => intro S x1 x2 hh; exact no_some hh
    | succ n ih =>
      intro S x1 x2 hh H locs ls hM hl
      replace hh : C_keeps_b4 ed rs (C_keeps_L4 ed rs n) S x1 x2 = some (r, S1) := hh
      unfold C_keeps_b4 at hh
      have hK4 := ih
      refine lv_iload_n hx hb dX1_keeps_4 rfl (lv_at hl 2 rfl) ?_
      refine lv_aload_n hx hb dX1_keeps_5 rfl (lv_at hl 0 rfl) ?_
      refine cm_get X hM q379 (cf_0_0 _ _ _) rfl dX1_keeps_6 ?_
      refine cm_getN X hM q161 (cf_1_0 _ _ _) rfl dX1_keeps_9 ?_
      refine lv_iconst (v := zi 3) hx hb dX1_keeps_12 rfl ?_
      refine cm_iald (qz := 2) X hM ci_2 rfl rfl (by decide) dX1_keeps_13 ?_
      obtain ⟨g2, hh⟩ := gd_inv hh
      refine g_icmp_ge (tgt := 41) hx hb g2 dX1_keeps_14 (by decide) (fun c1 => ?_) (fun c1 => ?_)
      · replace hh := it_t c1 hh
        refine lv_iload_n hx hb dX1_keeps_17 rfl (lv_at hl 1 rfl) ?_
        refine lv_aload_n hx hb dX1_keeps_18 rfl (lv_at hl 0 rfl) ?_
        refine lv_iload_n hx hb dX1_keeps_19 rfl (lv_at hl 2 rfl) ?_
        obtain ⟨v4, S5, k3, hh⟩ := bd2_inv hh
        refine cf_ (rest := [.int (zi (x1))]) Y hM hO (wC_isKept l Z DC dA hC A L k ed rs S x2 H.size k3) cx_X1_305.1 cx_X1_305.2 ⟨rfl, rfl⟩ ⟨Nat.le_of_ble_eq_true rfl, Nat.le_of_ble_eq_true rfl⟩ ⟨Nat.zero_le _, Nat.zero_le _⟩ hl.1 (Nat.le_of_ble_eq_true rfl) dX1_keeps_20 rfl (fun H locs hM => ?_)
        refine g_bif_eq (tgt := 32) hx hb dX1_keeps_23 (by decide) (fun c6 => ?_) (fun c6 => ?_)
        · replace hh := it_t c6 hh
          refine lv_iconst (v := zi 1) hx hb dX1_keeps_26 rfl ?_
          refine lv_iload_n hx hb dX1_keeps_27 rfl (lv_at hl 2 rfl) ?_
          obtain ⟨g7, hh⟩ := gd_inv hh
          refine g_ishl hx hb g7 dX1_keeps_28 ?_
          refine lv_goto (tgt := 33) hx hb dX1_keeps_29 (by decide) ?_
          exact hB33 x2 ((1 : Int) * 2 ^ (Int.toNat x2)) x1 _ hK4 S5 hh _ _ _ hM (lv_sub hl [0, 2] rfl)
        · replace hh := it_f c6 hh
          refine lv_iconst (v := zi 0) hx hb dX1_keeps_32 rfl ?_
          exact hB33 x2 (0 : Int) x1 _ hK4 S5 hh _ _ _ hM (lv_sub hl [0, 2] rfl)
      · replace hh := it_f c1 hh
        refine lv_iload_n hx hb dX1_keeps_41 rfl (lv_at hl 1 rfl) ?_
        exact hret _ _ _ _ _ _ (rt1 hh) (rt2 hh) dX1_keeps_42 hM
  replace hl : lv_has ls 3 [(0, .ref (hC))] := hl
  unfold C_keeps at hh
  refine lv_iconst (v := zi 0) hx hb dX1_keeps_0 rfl ?_
  refine lv_istore_n (lv' := [(1, .int (zi (0))), (0, .ref (hC))]) hx hb dX1_keeps_1 rfl hl (by decide) rfl (fun ls hl => ?_)
  refine lv_iconst (v := zi 0) hx hb dX1_keeps_2 rfl ?_
  refine lv_istore_n (lv' := [(2, .int (zi (0))), (1, .int (zi (0))), (0, .ref (hC))]) hx hb dX1_keeps_3 rfl hl (by decide) rfl (fun ls hl => ?_)
  exact hL4 FU S (0 : Int) (0 : Int) hh _ _ _ hM (lv_sub hl [2, 1, 0] rfl)
theorem cx_X1_311 : GoodIn lw_all (va_wsS "ManyEyes" 311 yJ15_bitCount (ws_ yJ15_bitCount cJ15_bitCount 1 (some .int))) ∧ yJ15_bitCount.cls ≠ "java/lang/invoke/MethodHandle" ∧ yJ15_bitCount.cls ≠ "java/lang/invoke/VarHandle" ∧ (parseMethodDescriptor yJ15_bitCount.desc).map (fun d => d.parameters.length) = some 1 := ⟨lw_S q1136 q1137 q113 q1138, by decide +kernel⟩
def C_unlike_B74 (ed : Nat) (rs : List (List tCl)) (K6 : yS → Int → Int → Option (Int × yS)) (S : yS) (x1 : Int) (x2 : Int) (x3 : Int) (x4 : Int) (x6 : Int) (t0 : Int) (t1 : Int) (t2 : Int) (t3 : Int) : Option (Int × yS) := gd ((0 : Int) ≤ t2 ∧ ((0 : Int) ≤ t1 + t0 ∧ (t1 + t0 : Int) ≤ 31) ∧ t2 * 2 ^ (Int.toNat (t1 + t0)) < 4294967296) (gd ((0 : Int) ≤ t3 ∧ (0 : Int) ≤ t2 * 2 ^ (Int.toNat (t1 + t0))) (nm (zor t3 (t2 * 2 ^ (Int.toNat (t1 + t0)))) (fun v14 => nm ((x6 + 1) : Int) (fun v16 => K6 S v14 v16))))
def C_unlike_b6 (ed : Nat) (rs : List (List tCl)) (x1 : Int) (x2 : Int) (x3 : Int) (x4 : Int) (K6 : yS → Int → Int → Option (Int × yS)) (S : yS) (x5 : Int) (x6 : Int) : Option (Int × yS) := gd (r32 (x6) ∧ r32 (S.2 2 3)) (if x6 < (S.2 2 3) then (gd (r32 (x1) ∧ (0 : Int) ≤ x6 ∧ (x6 : Int) ≤ 31) (gd (r32 ((x1 / 2 ^ (Int.toNat x6)) % 2 ^ 1)) (if ((x1 / 2 ^ (Int.toNat x6)) % 2 ^ 1) = 0 then (nm ((x6 + 1) : Int) (fun v6 => K6 S x5 v6)) else (bd (C_flies ed rs S x6 x2 x3 x4 (1 : Int) (0 : Int)) (fun S9 => gd (r32 (S9.1 17)) (if (S9.1 17) = 0 then (C_unlike_B74 ed rs K6 S9 x1 x2 x3 x4 x6 (0 : Int) (8 : Int) (1 : Int) x5) else (C_unlike_B74 ed rs K6 S9 x1 x2 x3 x4 x6 (S9.2 (475 + 1 + 0) 0) (8 : Int) (1 : Int) x5))))))) else (bd (In_bitCount x5) (fun v19 => some ((v19 : Int), S))))
def C_unlike_L6 (ed : Nat) (rs : List (List tCl)) (x1 : Int) (x2 : Int) (x3 : Int) (x4 : Int) : Nat → yS → Int → Int → Option (Int × yS)
  | 0 => fun _ _ _ => none
  | n + 1 => fun S x5 x6 => C_unlike_b6 ed rs x1 x2 x3 x4 (C_unlike_L6 ed rs x1 x2 x3 x4 n) S x5 x6
def C_unlike (ed : Nat) (rs : List (List tCl)) (S : yS) (x1 : Int) (x2 : Int) (x3 : Int) (x4 : Int) : Option (Int × yS) := C_unlike_L6 ed rs x1 x2 x3 x4 FU S (0 : Int) (0 : Int)
set_option maxHeartbeats 4000000 in
theorem wC_unlike (l : Launch) (Z : hZ) (DC : va_G) (dA : Nat → ClassId) (hC : Nat) (A : Nat → Prop) (L : List Nat) (k ed : Nat) (rs : List (List tCl)) (S : yS) (x1 x2 x3 x4 : Int) (n0 : Nat) {r : Int} {S1 : yS} (hh : C_unlike ed rs S x1 x2 x3 x4 = some (r, S1)) : mFl l yX1_unlike cX1_unlike 7 (some .int) ({ frames := 62, cells := 0, slots := 0, locals := 2357 } : Room) Z DC dA hC [.ref hC, .int (zi x1), .int (zi x2), .int (zi x3), .int (zi x4)] n0 (fPre Z DC dA hC A L k ed rs S) (some (.int (zi r))) S1 := by
  refine goFi (by decide +kernel) (Nat.le_of_ble_eq_true rfl) ?_
  intro p e s m args below meth c Q ls Y hret hl hM hO
  have X := fcx_c Y
  have hx := Y.1.1
  have hb := Y.1.2.1
  have hown := Y.1.2.2.2.1
  have hts := Y.1.2.2.2.2
  have hB74 : ∀ (x1 : Int) (x2 : Int) (x3 : Int) (x4 : Int) (x6 : Int) (t0 : Int) (t1 : Int) (t2 : Int) (t3 : Int) (K6 : yS → Int → Int → Option (Int × yS)) (hK6 : (∀ (S : yS) (x5 : Int) (x6 : Int), K6 S x5 x6 = some (r, S1) → ∀ (H : Heap) (locs : List Loc) (ls : Array Slot), CX DC dA hC (hA (cA hC) s.heap.size) S s H locs → lv_has ls 7 [(0, .ref (hC)), (1, .int (zi (x1))), (2, .int (zi (x2))), (3, .int (zi (x3))), (4, .int (zi (x4))), (5, .int (zi (x5))), (6, .int (zi (x6)))] → W p l e ({ frames := 62, cells := 0, slots := 0, locals := 2357 } : Room) s m args below meth c H locs 0 0 Q (F0 m 6 ls []))) (S : yS), C_unlike_B74 ed rs K6 S x1 x2 x3 x4 x6 t0 t1 t2 t3 = some (r, S1) → ∀ (H : Heap) (locs : List Loc) (ls : Array Slot), CX DC dA hC (hA (cA hC) s.heap.size) S s H locs → lv_has ls 7 [(0, .ref (hC)), (1, .int (zi (x1))), (2, .int (zi (x2))), (3, .int (zi (x3))), (4, .int (zi (x4))), (6, .int (zi (x6)))] → W p l e ({ frames := 62, cells := 0, slots := 0, locals := 2357 } : Room) s m args below meth c H locs 0 0 Q (F0 m 74 ls [.int (zi (t0)), .int (zi (t1)), .int (zi (t2)), .int (zi (t3))]) := by
    intro x1 x2 x3 x4 x6 t0 t1 t2 t3 K6 hK6 S hh H locs ls hM hl
    unfold C_unlike_B74 at hh
    refine g_iadd hx hb dX1_unlike_74 ?_
    obtain ⟨g12, hh⟩ := gd_inv hh
    refine g_ishl hx hb g12 dX1_unlike_75 ?_
    obtain ⟨g13, hh⟩ := gd_inv hh
    refine g_ior hx hb g13 dX1_unlike_76 ?_
    refine g_nmi hx hb (fun v14 e15 => ?_)
    replace hh := nm_inv hh v14 e15
    refine lv_istore (lv' := [(5, .int (zi (v14))), (0, .ref (hC)), (1, .int (zi (x1))), (2, .int (zi (x2))), (3, .int (zi (x3))), (4, .int (zi (x4))), (6, .int (zi (x6)))]) hx hb dX1_unlike_77 hl (by decide) rfl (fun ls hl => ?_)
    obtain ⟨v16, e17⟩ : ∃ z : Int, z = x6 + 1 := ⟨_, rfl⟩
    replace hh := nm_inv hh v16 e17
    refine lv_iinc (v := zi v16) (lv' := [(6, .int (zi (v16))), (5, .int (zi (v14))), (0, .ref (hC)), (1, .int (zi (x1))), (2, .int (zi (x2))), (3, .int (zi (x3))), (4, .int (zi (x4)))]) hx hb dX1_unlike_79 hl (k := 6) rfl (by rw [e17]; exact zi_add _ _) (by decide) rfl (fun ls hl => ?_)
    refine lv_goto (tgt := 6) hx hb dX1_unlike_82 (by decide) ?_
    exact hK6 S v14 v16 hh _ _ _ hM (lv_sub hl [2, 3, 4, 5, 6, 1, 0] rfl)
  have hL6 : ∀ (x1 : Int) (x2 : Int) (x3 : Int) (x4 : Int) (n : Nat) (S : yS) (x5 : Int) (x6 : Int), C_unlike_L6 ed rs x1 x2 x3 x4 n S x5 x6 = some (r, S1) → ∀ (H : Heap) (locs : List Loc) (ls : Array Slot), CX DC dA hC (hA (cA hC) s.heap.size) S s H locs → lv_has ls 7 [(0, .ref (hC)), (1, .int (zi (x1))), (2, .int (zi (x2))), (3, .int (zi (x3))), (4, .int (zi (x4))), (5, .int (zi (x5))), (6, .int (zi (x6)))] → W p l e ({ frames := 62, cells := 0, slots := 0, locals := 2357 } : Room) s m args below meth c H locs 0 0 Q (F0 m 6 ls []) := by
    intro x1 x2 x3 x4  n
    induction n with
    | zero => intro S x5 x6 hh; exact no_some hh
    | succ n ih =>
      intro S x5 x6 hh H locs ls hM hl
      replace hh : C_unlike_b6 ed rs x1 x2 x3 x4 (C_unlike_L6 ed rs x1 x2 x3 x4 n) S x5 x6 = some (r, S1) := hh
      unfold C_unlike_b6 at hh
      have hK6 := ih
      refine lv_iload hx hb dX1_unlike_6 (lv_at hl 6 rfl) ?_
      refine lv_aload_n hx hb dX1_unlike_8 rfl (lv_at hl 0 rfl) ?_
      refine cm_get X hM q379 (cf_0_0 _ _ _) rfl dX1_unlike_9 ?_
      refine cm_getN X hM q161 (cf_1_0 _ _ _) rfl dX1_unlike_12 ?_
      refine lv_iconst (v := zi 3) hx hb dX1_unlike_15 rfl ?_
      refine cm_iald (qz := 2) X hM ci_2 rfl rfl (by decide) dX1_unlike_16 ?_
      obtain ⟨g2, hh⟩ := gd_inv hh
      refine g_icmp_ge (tgt := 85) hx hb g2 dX1_unlike_17 (by decide) (fun c1 => ?_) (fun c1 => ?_)
      · replace hh := it_t c1 hh
        refine lv_iload_n hx hb dX1_unlike_20 rfl (lv_at hl 1 rfl) ?_
        refine lv_iload hx hb dX1_unlike_21 (lv_at hl 6 rfl) ?_
        obtain ⟨g3, hh⟩ := gd_inv hh
        refine g_ishr hx hb g3 dX1_unlike_23 ?_
        refine lv_iconst (v := zi 1) hx hb dX1_unlike_24 rfl ?_
        refine g_mask hx hb 1 (by decide) (by decide) dX1_unlike_25 ?_
        obtain ⟨g5, hh⟩ := gd_inv hh
        refine g_if_ne (tgt := 32) hx hb g5 dX1_unlike_26 (by decide) (fun c4 => ?_) (fun c4 => ?_)
        · replace hh := it_t c4 hh
          refine lv_goto (tgt := 79) hx hb dX1_unlike_29 (by decide) ?_
          obtain ⟨v6, e7⟩ : ∃ z : Int, z = x6 + 1 := ⟨_, rfl⟩
          replace hh := nm_inv hh v6 e7
          refine lv_iinc (v := zi v6) (lv' := [(6, .int (zi (v6))), (0, .ref (hC)), (1, .int (zi (x1))), (2, .int (zi (x2))), (3, .int (zi (x3))), (4, .int (zi (x4))), (5, .int (zi (x5)))]) hx hb dX1_unlike_79 hl (k := 6) rfl (by rw [e7]; exact zi_add _ _) (by decide) rfl (fun ls hl => ?_)
          refine lv_goto (tgt := 6) hx hb dX1_unlike_82 (by decide) ?_
          exact hK6 S x5 v6 hh _ _ _ hM (lv_sub hl [1, 2, 3, 4, 5, 6, 0] rfl)
        · replace hh := it_f c4 hh
          refine lv_aload_n hx hb dX1_unlike_32 rfl (lv_at hl 0 rfl) ?_
          refine lv_iload hx hb dX1_unlike_33 (lv_at hl 6 rfl) ?_
          refine lv_iload_n hx hb dX1_unlike_35 rfl (lv_at hl 2 rfl) ?_
          refine lv_iload_n hx hb dX1_unlike_36 rfl (lv_at hl 3 rfl) ?_
          refine lv_iload hx hb dX1_unlike_37 (lv_at hl 4 rfl) ?_
          refine lv_iconst (v := zi 1) hx hb dX1_unlike_39 rfl ?_
          refine lv_iconst (v := zi 0) hx hb dX1_unlike_40 rfl ?_
          obtain ⟨S9, k8, hh⟩ := bd_inv hh
          refine cf_ (rest := []) Y hM hO (wC_flies l Z DC dA hC A L k ed rs S x6 x2 x3 x4 (1 : Int) (0 : Int) H.size k8) cx_X1_291.1 cx_X1_291.2 ⟨rfl, rfl⟩ ⟨Nat.le_of_ble_eq_true rfl, Nat.le_of_ble_eq_true rfl⟩ ⟨Nat.zero_le _, Nat.zero_le _⟩ hl.1 (Nat.le_of_ble_eq_true rfl) dX1_unlike_41 rfl (fun H locs hM => ?_)
          refine lv_iload hx hb dX1_unlike_44 (lv_at hl 5 rfl) ?_
          refine lv_iconst (v := zi 1) hx hb dX1_unlike_46 rfl ?_
          refine lv_bipush (v := zi 8) hx hb dX1_unlike_47 (by decide) ?_
          refine lv_aload_n hx hb dX1_unlike_49 rfl (lv_at hl 0 rfl) ?_
          refine cm_get X hM q390 (cf_0_11 _ _ _) rfl dX1_unlike_50 ?_
          refine cm_getN X hM q255 (cf_474_7 _ _ _) rfl dX1_unlike_53 ?_
          obtain ⟨g11, hh⟩ := gd_inv hh
          refine g_if_ne (tgt := 63) hx hb g11 dX1_unlike_56 (by decide) (fun c10 => ?_) (fun c10 => ?_)
          · replace hh := it_t c10 hh
            refine lv_iconst (v := zi 0) hx hb dX1_unlike_59 rfl ?_
            refine lv_goto (tgt := 74) hx hb dX1_unlike_60 (by decide) ?_
            exact hB74 x1 x2 x3 x4 x6 (0 : Int) (8 : Int) (1 : Int) x5 _ hK6 S9 hh _ _ _ hM (lv_sub hl [0, 1, 2, 3, 4, 6] rfl)
          · replace hh := it_f c10 hh
            refine lv_aload_n hx hb dX1_unlike_63 rfl (lv_at hl 0 rfl) ?_
            refine cm_get X hM q390 (cf_0_11 _ _ _) rfl dX1_unlike_64 ?_
            refine cm_getN X hM q245 (cf_474_0 _ _ _) rfl dX1_unlike_67 ?_
            refine lv_iconst (v := zi 0) hx hb dX1_unlike_70 rfl ?_
            have g18 : (0 : Int) ≤ 0 ∧ (0 : Int) < 60 := by decide
            refine cm_aald X hM (by decide) rfl (by decide) rfl g18 dX1_unlike_71 ?_
            refine lv_iconst (v := zi 0) hx hb dX1_unlike_72 rfl ?_
            refine cm_iald (qz := (475 + 1 + 0)) X hM (cr_475 g18) (by have := g18.1; omega) rfl (by decide) dX1_unlike_73 ?_
            exact hB74 x1 x2 x3 x4 x6 (S9.2 (475 + 1 + 0) 0) (8 : Int) (1 : Int) x5 _ hK6 S9 hh _ _ _ hM (lv_sub hl [0, 1, 2, 3, 4, 6] rfl)
      · replace hh := it_f c1 hh
        refine lv_iload hx hb dX1_unlike_85 (lv_at hl 5 rfl) ?_
        obtain ⟨v19, k20, hh⟩ := bd_inv hh
        refine ccs_i (rest := []) X hM (wIn_bitCount l x5 k20) cx_X1_311.1 cx_X1_311.2 ⟨rfl, rfl⟩ ⟨Nat.le_of_ble_eq_true rfl, Nat.le_of_ble_eq_true rfl⟩ ⟨Nat.zero_le _, Nat.zero_le _⟩ hl.1 (Nat.le_of_ble_eq_true rfl) dX1_unlike_87 rfl (fun H locs hM => ?_)
        exact hret _ _ _ _ _ _ (rt1 hh) (rt2 hh) dX1_unlike_90 hM
  replace hl : lv_has ls 7 [(0, .ref (hC)), (1, .int (zi (x1))), (2, .int (zi (x2))), (3, .int (zi (x3))), (4, .int (zi (x4)))] := hl
  unfold C_unlike at hh
  refine lv_iconst (v := zi 0) hx hb dX1_unlike_0 rfl ?_
  refine lv_istore (lv' := [(5, .int (zi (0))), (0, .ref (hC)), (1, .int (zi (x1))), (2, .int (zi (x2))), (3, .int (zi (x3))), (4, .int (zi (x4)))]) hx hb dX1_unlike_1 hl (by decide) rfl (fun ls hl => ?_)
  refine lv_iconst (v := zi 0) hx hb dX1_unlike_3 rfl ?_
  refine lv_istore (lv' := [(6, .int (zi (0))), (5, .int (zi (0))), (0, .ref (hC)), (1, .int (zi (x1))), (2, .int (zi (x2))), (3, .int (zi (x3))), (4, .int (zi (x4)))]) hx hb dX1_unlike_4 hl (by decide) rfl (fun ls hl => ?_)
  exact hL6 x1 x2 x3 x4 FU S (0 : Int) (0 : Int) hh _ _ _ hM (lv_sub hl [2, 3, 4, 5, 6, 1, 0] rfl)
def C_safe_b116 (ed : Nat) (rs : List (List tCl)) (K106 : yS → Int → Option (Int × yS)) (x1 : Int) (x3 : Int) (x4 : Int) (x5 : Int) (x6 : Int) (x7 : Int) (x8 : Int) (x9 : Int) (K116 : yS → Int → Option (Int × yS)) (S : yS) (x10 : Int) : Option (Int × yS) := gd (r32 (x10) ∧ r32 (x6)) (if x10 ≤ x6 then (bd2 (C_isStart S x9 x4 x10) (fun v34 S35 => if v34 = true then (bd (C_flies ed rs S35 x1 x9 x4 x10 x7 (0 : Int)) (fun S38 => gd (r32 (S38.1 18)) (if (S38.1 18) = 0 then (nm ((x10 + 1) : Int) (fun v41 => K116 S38 v41)) else (gd (r32 (x8)) (if x8 = 0 then (some ((x9 : Int), S38)) else (some ((x10 : Int), S38))))))) else (nm ((x10 + 1) : Int) (fun v45 => K116 S35 v45)))) else (nm ((x9 + 16) : Int) (fun v47 => K106 S v47)))
def C_safe_L116 (ed : Nat) (rs : List (List tCl)) (K106 : yS → Int → Option (Int × yS)) (x1 : Int) (x3 : Int) (x4 : Int) (x5 : Int) (x6 : Int) (x7 : Int) (x8 : Int) (x9 : Int) : Nat → yS → Int → Option (Int × yS)
  | 0 => fun _ _ => none
  | n + 1 => fun S x10 => C_safe_b116 ed rs K106 x1 x3 x4 x5 x6 x7 x8 x9 (C_safe_L116 ed rs K106 x1 x3 x4 x5 x6 x7 x8 x9 n) S x10
def C_safe_b106 (ed : Nat) (rs : List (List tCl)) (x1 : Int) (x3 : Int) (x4 : Int) (x5 : Int) (x6 : Int) (x7 : Int) (x8 : Int) (K106 : yS → Int → Option (Int × yS)) (S : yS) (x9 : Int) : Option (Int × yS) := gd (r32 (x9) ∧ r32 (x3)) (if x9 ≤ x3 then (C_safe_L116 ed rs K106 x1 x3 x4 x5 x6 x7 x8 x9 FU S x5) else (some (((-1) : Int), S)))
def C_safe_L106 (ed : Nat) (rs : List (List tCl)) (x1 : Int) (x3 : Int) (x4 : Int) (x5 : Int) (x6 : Int) (x7 : Int) (x8 : Int) : Nat → yS → Int → Option (Int × yS)
  | 0 => fun _ _ => none
  | n + 1 => fun S x9 => C_safe_b106 ed rs x1 x3 x4 x5 x6 x7 x8 (C_safe_L106 ed rs x1 x3 x4 x5 x6 x7 x8 n) S x9
def C_safe (ed : Nat) (rs : List (List tCl)) (S : yS) (x1 : Int) (x2 : Int) (x3 : Int) (x4 : Int) (x5 : Int) (x6 : Int) (x7 : Int) (x8 : Int) : Option (Int × yS) := bd (C_isOne S (3 : Int) x1) (fun v2 => if v2 = true then (bd (C_isPlace S x2 x4) (fun v5 => if v5 = true then (bd (C_isPlace S x3 x4) (fun v8 => if v8 = true then (gd (r32 (x3) ∧ r32 (x2)) (if x3 < x2 then (some (((-1) : Int), S)) else (bd (C_isHead x5) (fun v12 => if v12 = true then (bd (C_isHead x6) (fun v15 => if v15 = true then (gd (r32 (x6) ∧ r32 (x5)) (if x6 < x5 then (some (((-1) : Int), S)) else (bd (C_in x7 (1 : Int) (60 : Int)) (fun v20 => if v20 = true then (bd (C_in x8 (0 : Int) (1 : Int)) (fun v23 => if v23 = true then (gd (r32 (x3 - x2)) (gd (r32 (((Int.tdiv (x3 - x2) 16) + 1) * ((x6 - x5) + 1))) (if (((Int.tdiv (x3 - x2) 16) + 1) * ((x6 - x5) + 1)) ≤ 64 then (C_safe_L106 ed rs x1 x3 x4 x5 x6 x7 x8 FU S x2) else (some (((-1) : Int), S))))) else (some (((-1) : Int), S)))) else (some (((-1) : Int), S)))))) else (some (((-1) : Int), S)))) else (some (((-1) : Int), S)))))) else (some (((-1) : Int), S)))) else (some (((-1) : Int), S)))) else (some (((-1) : Int), S)))
set_option maxHeartbeats 4000000 in
theorem wC_safe (l : Launch) (Z : hZ) (DC : va_G) (dA : Nat → ClassId) (hC : Nat) (A : Nat → Prop) (L : List Nat) (k ed : Nat) (rs : List (List tCl)) (S : yS) (x1 x2 x3 x4 x5 x6 x7 x8 : Int) (n0 : Nat) {r : Int} {S1 : yS} (hh : C_safe ed rs S x1 x2 x3 x4 x5 x6 x7 x8 = some (r, S1)) : mFl l yX1_safe cX1_safe 11 (some .int) ({ frames := 62, cells := 0, slots := 0, locals := 2357 } : Room) Z DC dA hC [.ref hC, .int (zi x1), .int (zi x2), .int (zi x3), .int (zi x4), .int (zi x5), .int (zi x6), .int (zi x7), .int (zi x8)] n0 (fPre Z DC dA hC A L k ed rs S) (some (.int (zi r))) S1 := by
  refine goFi (by decide +kernel) (Nat.le_of_ble_eq_true rfl) ?_
  intro p e s m args below meth c Q ls Y hret hl hM hO
  have X := fcx_c Y
  have hx := Y.1.1
  have hb := Y.1.2.1
  have hown := Y.1.2.2.2.1
  have hts := Y.1.2.2.2.2
  have hL116 : ∀ (x1 : Int) (x3 : Int) (x4 : Int) (x5 : Int) (x6 : Int) (x7 : Int) (x8 : Int) (x9 : Int) (K106 : yS → Int → Option (Int × yS)) (hK106 : (∀ (S : yS) (x9 : Int), K106 S x9 = some (r, S1) → ∀ (H : Heap) (locs : List Loc) (ls : Array Slot), CX DC dA hC (hA (cA hC) s.heap.size) S s H locs → lv_has ls 11 [(0, .ref (hC)), (1, .int (zi (x1))), (3, .int (zi (x3))), (4, .int (zi (x4))), (5, .int (zi (x5))), (6, .int (zi (x6))), (7, .int (zi (x7))), (8, .int (zi (x8))), (9, .int (zi (x9)))] → W p l e ({ frames := 62, cells := 0, slots := 0, locals := 2357 } : Room) s m args below meth c H locs 0 0 Q (F0 m 106 ls []))) (n : Nat) (S : yS) (x10 : Int), C_safe_L116 ed rs K106 x1 x3 x4 x5 x6 x7 x8 x9 n S x10 = some (r, S1) → ∀ (H : Heap) (locs : List Loc) (ls : Array Slot), CX DC dA hC (hA (cA hC) s.heap.size) S s H locs → lv_has ls 11 [(0, .ref (hC)), (1, .int (zi (x1))), (3, .int (zi (x3))), (4, .int (zi (x4))), (5, .int (zi (x5))), (6, .int (zi (x6))), (7, .int (zi (x7))), (8, .int (zi (x8))), (9, .int (zi (x9))), (10, .int (zi (x10)))] → W p l e ({ frames := 62, cells := 0, slots := 0, locals := 2357 } : Room) s m args below meth c H locs 0 0 Q (F0 m 116 ls []) := by
    intro x1 x3 x4 x5 x6 x7 x8 x9 K106 hK106 n
    induction n with
    | zero => intro S x10 hh; exact no_some hh
    | succ n ih =>
      intro S x10 hh H locs ls hM hl
      replace hh : C_safe_b116 ed rs K106 x1 x3 x4 x5 x6 x7 x8 x9 (C_safe_L116 ed rs K106 x1 x3 x4 x5 x6 x7 x8 x9 n) S x10 = some (r, S1) := hh
      unfold C_safe_b116 at hh
      have hK116 := ih
      refine lv_iload hx hb dX1_safe_116 (lv_at hl 9 rfl) ?_
      refine lv_iload hx hb dX1_safe_118 (lv_at hl 5 rfl) ?_
      obtain ⟨g32, hh⟩ := gd_inv hh
      refine g_icmp_gt (tgt := 182) hx hb g32 dX1_safe_120 (by decide) (fun c31 => ?_) (fun c31 => ?_)
      · replace hh := it_t c31 hh
        refine lv_aload_n hx hb dX1_safe_123 rfl (lv_at hl 0 rfl) ?_
        refine lv_iload hx hb dX1_safe_124 (lv_at hl 8 rfl) ?_
        refine lv_iload hx hb dX1_safe_126 (lv_at hl 3 rfl) ?_
        refine lv_iload hx hb dX1_safe_128 (lv_at hl 9 rfl) ?_
        obtain ⟨v34, S35, k33, hh⟩ := bd2_inv hh
        refine cc_z (rest := []) X hM (wC_isStart l DC dA hC S x9 x4 x10 k33) cx_X1_288.1 cx_X1_288.2 ⟨rfl, rfl⟩ ⟨Nat.le_of_ble_eq_true rfl, Nat.le_of_ble_eq_true rfl⟩ ⟨Nat.zero_le _, Nat.zero_le _⟩ hl.1 (Nat.le_of_ble_eq_true rfl) dX1_safe_130 rfl (fun H locs hM => ?_)
        refine g_bif_ne (tgt := 139) hx hb dX1_safe_133 (by decide) (fun c36 => ?_) (fun c36 => ?_)
        · replace hh := it_t c36 hh
          refine lv_aload_n hx hb dX1_safe_139 rfl (lv_at hl 0 rfl) ?_
          refine lv_iload_n hx hb dX1_safe_140 rfl (lv_at hl 1 rfl) ?_
          refine lv_iload hx hb dX1_safe_141 (lv_at hl 8 rfl) ?_
          refine lv_iload hx hb dX1_safe_143 (lv_at hl 3 rfl) ?_
          refine lv_iload hx hb dX1_safe_145 (lv_at hl 9 rfl) ?_
          refine lv_iload hx hb dX1_safe_147 (lv_at hl 6 rfl) ?_
          refine lv_iconst (v := zi 0) hx hb dX1_safe_149 rfl ?_
          obtain ⟨S38, k37, hh⟩ := bd_inv hh
          refine cf_ (rest := []) Y hM hO (wC_flies l Z DC dA hC A L k ed rs S35 x1 x9 x4 x10 x7 (0 : Int) H.size k37) cx_X1_291.1 cx_X1_291.2 ⟨rfl, rfl⟩ ⟨Nat.le_of_ble_eq_true rfl, Nat.le_of_ble_eq_true rfl⟩ ⟨Nat.zero_le _, Nat.zero_le _⟩ hl.1 (Nat.le_of_ble_eq_true rfl) dX1_safe_150 rfl (fun H locs hM => ?_)
          refine lv_aload_n hx hb dX1_safe_153 rfl (lv_at hl 0 rfl) ?_
          refine cm_get X hM q390 (cf_0_11 _ _ _) rfl dX1_safe_154 ?_
          refine cm_getN X hM q256 (cf_474_8 _ _ _) rfl dX1_safe_157 ?_
          obtain ⟨g40, hh⟩ := gd_inv hh
          refine g_if_eq (tgt := 176) hx hb g40 dX1_safe_160 (by decide) (fun c39 => ?_) (fun c39 => ?_)
          · replace hh := it_t c39 hh
            obtain ⟨v41, e42⟩ : ∃ z : Int, z = x10 + 1 := ⟨_, rfl⟩
            replace hh := nm_inv hh v41 e42
            refine lv_iinc (v := zi v41) (lv' := [(10, .int (zi (v41))), (0, .ref (hC)), (1, .int (zi (x1))), (3, .int (zi (x3))), (4, .int (zi (x4))), (5, .int (zi (x5))), (6, .int (zi (x6))), (7, .int (zi (x7))), (8, .int (zi (x8))), (9, .int (zi (x9)))]) hx hb dX1_safe_176 hl (k := 9) rfl (by rw [e42]; exact zi_add _ _) (by decide) rfl (fun ls hl => ?_)
            refine lv_goto (tgt := 116) hx hb dX1_safe_179 (by decide) ?_
            exact hK116 S38 v41 hh _ _ _ hM (lv_sub hl [1, 2, 3, 4, 5, 6, 7, 8, 9, 0] rfl)
          · replace hh := it_f c39 hh
            refine lv_iload hx hb dX1_safe_163 (lv_at hl 7 rfl) ?_
            obtain ⟨g44, hh⟩ := gd_inv hh
            refine g_if_ne (tgt := 173) hx hb g44 dX1_safe_165 (by decide) (fun c43 => ?_) (fun c43 => ?_)
            · replace hh := it_t c43 hh
              refine lv_iload hx hb dX1_safe_168 (lv_at hl 8 rfl) ?_
              refine lv_goto (tgt := 175) hx hb dX1_safe_170 (by decide) ?_
              exact hret _ _ _ _ _ _ (rt1 hh) (rt2 hh) dX1_safe_175 hM
            · replace hh := it_f c43 hh
              refine lv_iload hx hb dX1_safe_173 (lv_at hl 9 rfl) ?_
              exact hret _ _ _ _ _ _ (rt1 hh) (rt2 hh) dX1_safe_175 hM
        · replace hh := it_f c36 hh
          refine lv_goto (tgt := 176) hx hb dX1_safe_136 (by decide) ?_
          obtain ⟨v45, e46⟩ : ∃ z : Int, z = x10 + 1 := ⟨_, rfl⟩
          replace hh := nm_inv hh v45 e46
          refine lv_iinc (v := zi v45) (lv' := [(10, .int (zi (v45))), (0, .ref (hC)), (1, .int (zi (x1))), (3, .int (zi (x3))), (4, .int (zi (x4))), (5, .int (zi (x5))), (6, .int (zi (x6))), (7, .int (zi (x7))), (8, .int (zi (x8))), (9, .int (zi (x9)))]) hx hb dX1_safe_176 hl (k := 9) rfl (by rw [e46]; exact zi_add _ _) (by decide) rfl (fun ls hl => ?_)
          refine lv_goto (tgt := 116) hx hb dX1_safe_179 (by decide) ?_
          exact hK116 S35 v45 hh _ _ _ hM (lv_sub hl [1, 2, 3, 4, 5, 6, 7, 8, 9, 0] rfl)
      · replace hh := it_f c31 hh
        obtain ⟨v47, e48⟩ : ∃ z : Int, z = x9 + 16 := ⟨_, rfl⟩
        replace hh := nm_inv hh v47 e48
        refine lv_iinc (v := zi v47) (lv' := [(9, .int (zi (v47))), (0, .ref (hC)), (1, .int (zi (x1))), (3, .int (zi (x3))), (4, .int (zi (x4))), (5, .int (zi (x5))), (6, .int (zi (x6))), (7, .int (zi (x7))), (8, .int (zi (x8))), (10, .int (zi (x10)))]) hx hb dX1_safe_182 hl (k := 8) rfl (by rw [e48]; exact zi_add _ _) (by decide) rfl (fun ls hl => ?_)
        refine lv_goto (tgt := 106) hx hb dX1_safe_185 (by decide) ?_
        exact hK106 S v47 hh _ _ _ hM (lv_sub hl [1, 2, 3, 4, 5, 6, 7, 8, 0] rfl)
  have hL106 : ∀ (x1 : Int) (x3 : Int) (x4 : Int) (x5 : Int) (x6 : Int) (x7 : Int) (x8 : Int) (n : Nat) (S : yS) (x9 : Int), C_safe_L106 ed rs x1 x3 x4 x5 x6 x7 x8 n S x9 = some (r, S1) → ∀ (H : Heap) (locs : List Loc) (ls : Array Slot), CX DC dA hC (hA (cA hC) s.heap.size) S s H locs → lv_has ls 11 [(0, .ref (hC)), (1, .int (zi (x1))), (3, .int (zi (x3))), (4, .int (zi (x4))), (5, .int (zi (x5))), (6, .int (zi (x6))), (7, .int (zi (x7))), (8, .int (zi (x8))), (9, .int (zi (x9)))] → W p l e ({ frames := 62, cells := 0, slots := 0, locals := 2357 } : Room) s m args below meth c H locs 0 0 Q (F0 m 106 ls []) := by
    intro x1 x3 x4 x5 x6 x7 x8  n
    induction n with
    | zero => intro S x9 hh; exact no_some hh
    | succ n ih =>
      intro S x9 hh H locs ls hM hl
      replace hh : C_safe_b106 ed rs x1 x3 x4 x5 x6 x7 x8 (C_safe_L106 ed rs x1 x3 x4 x5 x6 x7 x8 n) S x9 = some (r, S1) := hh
      unfold C_safe_b106 at hh
      have hK106 := ih
      refine lv_iload hx hb dX1_safe_106 (lv_at hl 8 rfl) ?_
      refine lv_iload_n hx hb dX1_safe_108 rfl (lv_at hl 2 rfl) ?_
      obtain ⟨g30, hh⟩ := gd_inv hh
      refine g_icmp_gt (tgt := 188) hx hb g30 dX1_safe_109 (by decide) (fun c29 => ?_) (fun c29 => ?_)
      · replace hh := it_t c29 hh
        refine lv_iload hx hb dX1_safe_112 (lv_at hl 4 rfl) ?_
        refine lv_istore (lv' := [(10, .int (zi (x5))), (0, .ref (hC)), (1, .int (zi (x1))), (3, .int (zi (x3))), (4, .int (zi (x4))), (5, .int (zi (x5))), (6, .int (zi (x6))), (7, .int (zi (x7))), (8, .int (zi (x8))), (9, .int (zi (x9)))]) hx hb dX1_safe_114 hl (by decide) rfl (fun ls hl => ?_)
        exact hL116 x1 x3 x4 x5 x6 x7 x8 x9 _ hK106 FU S x5 hh _ _ _ hM (lv_sub hl [1, 2, 3, 4, 5, 6, 7, 8, 9, 0] rfl)
      · replace hh := it_f c29 hh
        refine lv_iconst (v := zi (-1)) hx hb dX1_safe_188 rfl ?_
        exact hret _ _ _ _ _ _ (rt1 hh) (rt2 hh) dX1_safe_189 hM
  replace hl : lv_has ls 11 [(0, .ref (hC)), (1, .int (zi (x1))), (2, .int (zi (x2))), (3, .int (zi (x3))), (4, .int (zi (x4))), (5, .int (zi (x5))), (6, .int (zi (x6))), (7, .int (zi (x7))), (8, .int (zi (x8)))] := hl
  unfold C_safe at hh
  refine lv_aload_n hx hb dX1_safe_0 rfl (lv_at hl 0 rfl) ?_
  refine lv_iconst (v := zi 3) hx hb dX1_safe_1 rfl ?_
  refine lv_iload_n hx hb dX1_safe_2 rfl (lv_at hl 1 rfl) ?_
  obtain ⟨v2, k1, hh⟩ := bd_inv hh
  refine cc_z (rest := []) X hM (wC_isOne l DC dA hC S (3 : Int) x1 k1) cx_X1_135.1 cx_X1_135.2 ⟨rfl, rfl⟩ ⟨Nat.le_of_ble_eq_true rfl, Nat.le_of_ble_eq_true rfl⟩ ⟨Nat.zero_le _, Nat.zero_le _⟩ hl.1 (Nat.le_of_ble_eq_true rfl) dX1_safe_3 rfl (fun H locs hM => ?_)
  refine g_bif_eq (tgt := 78) hx hb dX1_safe_6 (by decide) (fun c3 => ?_) (fun c3 => ?_)
  · replace hh := it_t c3 hh
    refine lv_aload_n hx hb dX1_safe_9 rfl (lv_at hl 0 rfl) ?_
    refine lv_iload_n hx hb dX1_safe_10 rfl (lv_at hl 2 rfl) ?_
    refine lv_iload hx hb dX1_safe_11 (lv_at hl 4 rfl) ?_
    obtain ⟨v5, k4, hh⟩ := bd_inv hh
    refine cc_z (rest := []) X hM (wC_isPlace l DC dA hC S x2 x4 k4) cx_X1_111.1 cx_X1_111.2 ⟨rfl, rfl⟩ ⟨Nat.le_of_ble_eq_true rfl, Nat.le_of_ble_eq_true rfl⟩ ⟨Nat.zero_le _, Nat.zero_le _⟩ hl.1 (Nat.le_of_ble_eq_true rfl) dX1_safe_13 rfl (fun H locs hM => ?_)
    refine g_bif_eq (tgt := 78) hx hb dX1_safe_16 (by decide) (fun c6 => ?_) (fun c6 => ?_)
    · replace hh := it_t c6 hh
      refine lv_aload_n hx hb dX1_safe_19 rfl (lv_at hl 0 rfl) ?_
      refine lv_iload_n hx hb dX1_safe_20 rfl (lv_at hl 3 rfl) ?_
      refine lv_iload hx hb dX1_safe_21 (lv_at hl 4 rfl) ?_
      obtain ⟨v8, k7, hh⟩ := bd_inv hh
      refine cc_z (rest := []) X hM (wC_isPlace l DC dA hC S x3 x4 k7) cx_X1_111.1 cx_X1_111.2 ⟨rfl, rfl⟩ ⟨Nat.le_of_ble_eq_true rfl, Nat.le_of_ble_eq_true rfl⟩ ⟨Nat.zero_le _, Nat.zero_le _⟩ hl.1 (Nat.le_of_ble_eq_true rfl) dX1_safe_23 rfl (fun H locs hM => ?_)
      refine g_bif_eq (tgt := 78) hx hb dX1_safe_26 (by decide) (fun c9 => ?_) (fun c9 => ?_)
      · replace hh := it_t c9 hh
        refine lv_iload_n hx hb dX1_safe_29 rfl (lv_at hl 3 rfl) ?_
        refine lv_iload_n hx hb dX1_safe_30 rfl (lv_at hl 2 rfl) ?_
        obtain ⟨g11, hh⟩ := gd_inv hh
        refine g_icmp_lt (tgt := 78) hx hb g11 dX1_safe_31 (by decide) (fun c10 => ?_) (fun c10 => ?_)
        · replace hh := it_t c10 hh
          refine lv_iconst (v := zi (-1)) hx hb dX1_safe_78 rfl ?_
          exact hret _ _ _ _ _ _ (rt1 hh) (rt2 hh) dX1_safe_79 hM
        · replace hh := it_f c10 hh
          refine lv_iload hx hb dX1_safe_34 (lv_at hl 5 rfl) ?_
          obtain ⟨v12, k13, hh⟩ := bd_inv hh
          refine ccs_z (rest := []) X hM (wC_isHead l x5 k13) cx_X1_115.1 cx_X1_115.2 ⟨rfl, rfl⟩ ⟨Nat.le_of_ble_eq_true rfl, Nat.le_of_ble_eq_true rfl⟩ ⟨Nat.zero_le _, Nat.zero_le _⟩ hl.1 (Nat.le_of_ble_eq_true rfl) dX1_safe_36 rfl (fun H locs hM => ?_)
          refine g_bif_eq (tgt := 78) hx hb dX1_safe_39 (by decide) (fun c14 => ?_) (fun c14 => ?_)
          · replace hh := it_t c14 hh
            refine lv_iload hx hb dX1_safe_42 (lv_at hl 6 rfl) ?_
            obtain ⟨v15, k16, hh⟩ := bd_inv hh
            refine ccs_z (rest := []) X hM (wC_isHead l x6 k16) cx_X1_115.1 cx_X1_115.2 ⟨rfl, rfl⟩ ⟨Nat.le_of_ble_eq_true rfl, Nat.le_of_ble_eq_true rfl⟩ ⟨Nat.zero_le _, Nat.zero_le _⟩ hl.1 (Nat.le_of_ble_eq_true rfl) dX1_safe_44 rfl (fun H locs hM => ?_)
            refine g_bif_eq (tgt := 78) hx hb dX1_safe_47 (by decide) (fun c17 => ?_) (fun c17 => ?_)
            · replace hh := it_t c17 hh
              refine lv_iload hx hb dX1_safe_50 (lv_at hl 6 rfl) ?_
              refine lv_iload hx hb dX1_safe_52 (lv_at hl 5 rfl) ?_
              obtain ⟨g19, hh⟩ := gd_inv hh
              refine g_icmp_lt (tgt := 78) hx hb g19 dX1_safe_54 (by decide) (fun c18 => ?_) (fun c18 => ?_)
              · replace hh := it_t c18 hh
                refine lv_iconst (v := zi (-1)) hx hb dX1_safe_78 rfl ?_
                exact hret _ _ _ _ _ _ (rt1 hh) (rt2 hh) dX1_safe_79 hM
              · replace hh := it_f c18 hh
                refine lv_iload hx hb dX1_safe_57 (lv_at hl 7 rfl) ?_
                refine lv_iconst (v := zi 1) hx hb dX1_safe_59 rfl ?_
                refine lv_bipush (v := zi 60) hx hb dX1_safe_60 (by decide) ?_
                obtain ⟨v20, k21, hh⟩ := bd_inv hh
                refine ccs_z (rest := []) X hM (wC_in l x7 (1 : Int) (60 : Int) k21) cx_X1_66.1 cx_X1_66.2 ⟨rfl, rfl⟩ ⟨Nat.le_of_ble_eq_true rfl, Nat.le_of_ble_eq_true rfl⟩ ⟨Nat.zero_le _, Nat.zero_le _⟩ hl.1 (Nat.le_of_ble_eq_true rfl) dX1_safe_62 rfl (fun H locs hM => ?_)
                refine g_bif_eq (tgt := 78) hx hb dX1_safe_65 (by decide) (fun c22 => ?_) (fun c22 => ?_)
                · replace hh := it_t c22 hh
                  refine lv_iload hx hb dX1_safe_68 (lv_at hl 8 rfl) ?_
                  refine lv_iconst (v := zi 0) hx hb dX1_safe_70 rfl ?_
                  refine lv_iconst (v := zi 1) hx hb dX1_safe_71 rfl ?_
                  obtain ⟨v23, k24, hh⟩ := bd_inv hh
                  refine ccs_z (rest := []) X hM (wC_in l x8 (0 : Int) (1 : Int) k24) cx_X1_66.1 cx_X1_66.2 ⟨rfl, rfl⟩ ⟨Nat.le_of_ble_eq_true rfl, Nat.le_of_ble_eq_true rfl⟩ ⟨Nat.zero_le _, Nat.zero_le _⟩ hl.1 (Nat.le_of_ble_eq_true rfl) dX1_safe_72 rfl (fun H locs hM => ?_)
                  refine g_bif_ne (tgt := 80) hx hb dX1_safe_75 (by decide) (fun c25 => ?_) (fun c25 => ?_)
                  · replace hh := it_t c25 hh
                    refine lv_iload_n hx hb dX1_safe_80 rfl (lv_at hl 3 rfl) ?_
                    refine lv_iload_n hx hb dX1_safe_81 rfl (lv_at hl 2 rfl) ?_
                    refine g_isub hx hb dX1_safe_82 ?_
                    refine lv_bipush (v := zi 16) hx hb dX1_safe_83 (by decide) ?_
                    obtain ⟨g26, hh⟩ := gd_inv hh
                    refine g_idiv hx hb ⟨g26, by decide, by decide⟩ dX1_safe_85 ?_
                    refine lv_iconst (v := zi 1) hx hb dX1_safe_86 rfl ?_
                    refine g_iadd hx hb dX1_safe_87 ?_
                    refine lv_iload hx hb dX1_safe_88 (lv_at hl 6 rfl) ?_
                    refine lv_iload hx hb dX1_safe_90 (lv_at hl 5 rfl) ?_
                    refine g_isub hx hb dX1_safe_92 ?_
                    refine lv_iconst (v := zi 1) hx hb dX1_safe_93 rfl ?_
                    refine g_iadd hx hb dX1_safe_94 ?_
                    refine g_imul hx hb dX1_safe_95 ?_
                    refine lv_bipush (v := zi 64) hx hb dX1_safe_96 (by decide) ?_
                    obtain ⟨g28, hh⟩ := gd_inv hh
                    refine g_icmp_le (tgt := 103) hx hb ⟨g28, by decide⟩ dX1_safe_98 (by decide) (fun c27 => ?_) (fun c27 => ?_)
                    · replace hh := it_t c27 hh
                      refine lv_iload_n hx hb dX1_safe_103 rfl (lv_at hl 2 rfl) ?_
                      refine lv_istore (lv' := [(9, .int (zi (x2))), (0, .ref (hC)), (1, .int (zi (x1))), (2, .int (zi (x2))), (3, .int (zi (x3))), (4, .int (zi (x4))), (5, .int (zi (x5))), (6, .int (zi (x6))), (7, .int (zi (x7))), (8, .int (zi (x8)))]) hx hb dX1_safe_104 hl (by decide) rfl (fun ls hl => ?_)
                      exact hL106 x1 x3 x4 x5 x6 x7 x8 FU S x2 hh _ _ _ hM (lv_sub hl [1, 2, 4, 5, 6, 7, 8, 9, 0] rfl)
                    · replace hh := it_f c27 hh
                      refine lv_iconst (v := zi (-1)) hx hb dX1_safe_101 rfl ?_
                      exact hret _ _ _ _ _ _ (rt1 hh) (rt2 hh) dX1_safe_102 hM
                  · replace hh := it_f c25 hh
                    refine lv_iconst (v := zi (-1)) hx hb dX1_safe_78 rfl ?_
                    exact hret _ _ _ _ _ _ (rt1 hh) (rt2 hh) dX1_safe_79 hM
                · replace hh := it_f c22 hh
                  refine lv_iconst (v := zi (-1)) hx hb dX1_safe_78 rfl ?_
                  exact hret _ _ _ _ _ _ (rt1 hh) (rt2 hh) dX1_safe_79 hM
            · replace hh := it_f c17 hh
              refine lv_iconst (v := zi (-1)) hx hb dX1_safe_78 rfl ?_
              exact hret _ _ _ _ _ _ (rt1 hh) (rt2 hh) dX1_safe_79 hM
          · replace hh := it_f c14 hh
            refine lv_iconst (v := zi (-1)) hx hb dX1_safe_78 rfl ?_
            exact hret _ _ _ _ _ _ (rt1 hh) (rt2 hh) dX1_safe_79 hM
      · replace hh := it_f c9 hh
        refine lv_iconst (v := zi (-1)) hx hb dX1_safe_78 rfl ?_
        exact hret _ _ _ _ _ _ (rt1 hh) (rt2 hh) dX1_safe_79 hM
    · replace hh := it_f c6 hh
      refine lv_iconst (v := zi (-1)) hx hb dX1_safe_78 rfl ?_
      exact hret _ _ _ _ _ _ (rt1 hh) (rt2 hh) dX1_safe_79 hM
  · replace hh := it_f c3 hh
    refine lv_iconst (v := zi (-1)) hx hb dX1_safe_78 rfl ?_
    exact hret _ _ _ _ _ _ (rt1 hh) (rt2 hh) dX1_safe_79 hM
