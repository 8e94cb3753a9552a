set_option maxRecDepth 100000
def M_ends_B171 (K44 : xS → Int → Int → Int → Option (Int × xS)) (S : xS) (x1 : Int) (x4 : Int) (x5 : Int) (x6 : Int) (x7 : Int) (x8 : Int) (x14 : Int) : Option (Int × xS) := gd (r32 (x14) ∧ r32 (x7)) (if x14 < x7 then (nm ((x8 + 1) : Int) (fun v40 => K44 S x6 x14 v40)) else (nm ((x8 + 1) : Int) (fun v42 => K44 S x6 x7 v42)))
def M_ends_b44 (x1 : Int) (x4 : Int) (x5 : Int) (K44 : xS → Int → Int → Int → Option (Int × xS)) (S : xS) (x6 : Int) (x7 : Int) (x8 : Int) : Option (Int × xS) := gd (r32 (x8) ∧ r32 (S.2 2 1)) (if x8 < (S.2 2 1) then (gd ((0 : Int) ≤ (620 + (2 * x8)) + 1 ∧ ((620 + (2 * x8)) + 1 : Int) < 3170) (nm (S.2 2 ((620 + (2 * x8)) + 1)) (fun v15 => bd (M_apart S x8 x1) (fun v18 => gd (r32 (v18) ∧ r32 (v15)) (if v18 ≤ v15 then (bd (M_apart S x8 x1) (fun v22 => nm ((v15 + 1) - v22) (fun v23 => nm ((v15 + 1) * (v15 + 1)) (fun v25 => bd (M_lensTake S x8 x4) (fun v28 => bd (M_floor (-((v28 * v25) - (255 * (v25 - v23)))) v23) (fun v30 => nm (-v30) (fun v31 => gd (r32 (((v28 + 1) * v25) - 1) ∧ r32 (v23) ∧ (v23 : Int) ≠ 0) (nm (Int.tdiv (((v28 + 1) * v25) - 1) v23) (fun v34 => gd (r32 (v31) ∧ r32 (x6)) (if v31 ≤ x6 then (M_ends_B171 K44 S x1 x4 x5 x6 x7 x8 v34) else (M_ends_B171 K44 S x1 x4 x5 v31 x7 x8 v34))))))))))) else (nm ((x8 + 1) : Int) (fun v44 => K44 S x6 x7 v44))))))) else (gd (r32 (x5)) (if x5 = 0 then (some ((x6 : Int), S)) else (some ((x7 : Int), S)))))
def M_ends_L44 (x1 : Int) (x4 : Int) (x5 : Int) : Nat → xS → Int → Int → Int → Option (Int × xS)
  | 0 => fun _ _ _ _ => none
  | n + 1 => fun S x6 x7 x8 => M_ends_b44 x1 x4 x5 (M_ends_L44 x1 x4 x5 n) S x6 x7 x8
def M_ends (S : xS) (x1 : Int) (x2 : Int) (x3 : Int) (x4 : Int) (x5 : Int) : Option (Int × xS) := bd (M_isSide x1) (fun v2 => if v2 = true then (bd (M_isPlace S x2 x3) (fun v5 => if v5 = true then (bd (M_isSide x4) (fun v8 => if v8 = true then (bd (M_look S x2 x3 (0 : Int)) (fun S11 => M_ends_L44 x1 x4 x5 FU S11 (0 : Int) (255 : Int) (0 : Int))) else (some (((-1) : Int), S)))) else (some (((-1) : Int), S)))) else (some (((-1) : Int), S)))
set_option maxHeartbeats 4000000 in
theorem wM_ends (l : Launch) (DM : va_G) (dA : Nat → ClassId) (h : Nat) (S : xS) (x1 x2 x3 x4 x5 : Int) {r : Int} {S1 : xS} (hh : M_ends S x1 x2 x3 x4 x5 = some (r, S1)) : mt_i l yX5_ends cX5_ends 15 (some .int) ({ frames := 5, cells := 0, slots := 0, locals := 104 } : Room) DM dA h [.int (zi x1), .int (zi x2), .int (zi x3), .int (zi x4), .int (zi x5)] S r S1 := by
  refine mo_i (by decide) rfl (Nat.le_of_ble_eq_true rfl) ?_
  intro p e s m args below meth c Q ls X hret hl hM
  have hx := X.1.1
  have hb := X.1.2.1
  have hown := X.1.2.2.2.1
  have hts := X.1.2.2.2.2
  skip
  have hB171 : ∀ (x1 : Int) (x4 : Int) (x5 : Int) (x6 : Int) (x7 : Int) (x8 : Int) (x14 : Int) (K44 : xS → Int → Int → Int → Option (Int × xS)) (hK44 : (∀ (S : xS) (x6 : Int) (x7 : Int) (x8 : Int), K44 S x6 x7 x8 = some (r, S1) → ∀ (H : Heap) (locs : List Loc) (ls : Array Slot), MX DM dA h S s H locs → lv_has ls 15 [(0, .ref (h)), (1, .int (zi (x1))), (4, .int (zi (x4))), (5, .int (zi (x5))), (6, .int (zi (x6))), (7, .int (zi (x7))), (8, .int (zi (x8)))] → W p l e ({ frames := 5, cells := 0, slots := 0, locals := 104 } : Room) s m args below meth c H locs 0 0 Q (F0 m 44 ls []))) (S : xS), M_ends_B171 K44 S x1 x4 x5 x6 x7 x8 x14 = some (r, S1) → ∀ (H : Heap) (locs : List Loc) (ls : Array Slot), MX DM dA h S s H locs → lv_has ls 15 [(0, .ref (h)), (1, .int (zi (x1))), (4, .int (zi (x4))), (5, .int (zi (x5))), (6, .int (zi (x6))), (7, .int (zi (x7))), (8, .int (zi (x8))), (14, .int (zi (x14)))] → W p l e ({ frames := 5, cells := 0, slots := 0, locals := 104 } : Room) s m args below meth c H locs 0 0 Q (F0 m 171 ls []) := by
    intro x1 x4 x5 x6 x7 x8 x14 K44 hK44 S hh H locs ls hM hl
    unfold M_ends_B171 at hh
    refine lv_iload hx hb dX5_ends_171 (lv_at hl 7 rfl) ?_
    refine lv_iload hx hb dX5_ends_173 (lv_at hl 5 rfl) ?_
    obtain ⟨g39, hh⟩ := gd_inv hh
    refine g_icmp_ge (tgt := 182) hx hb g39 dX5_ends_175 (by decide) (fun c38 => ?_) (fun c38 => ?_)
    · replace hh := it_t c38 hh
      refine lv_iload hx hb dX5_ends_178 (lv_at hl 7 rfl) ?_
      refine lv_istore (lv' := [(7, .int (zi (x14))), (0, .ref (h)), (1, .int (zi (x1))), (4, .int (zi (x4))), (5, .int (zi (x5))), (6, .int (zi (x6))), (8, .int (zi (x8))), (14, .int (zi (x14)))]) hx hb dX5_ends_180 hl (by decide) rfl (fun ls hl => ?_)
      obtain ⟨v40, e41⟩ : ∃ z : Int, z = x8 + 1 := ⟨_, rfl⟩
      replace hh := nm_inv hh v40 e41
      refine lv_iinc (v := zi v40) (lv' := [(8, .int (zi (v40))), (7, .int (zi (x14))), (0, .ref (h)), (1, .int (zi (x1))), (4, .int (zi (x4))), (5, .int (zi (x5))), (6, .int (zi (x6))), (14, .int (zi (x14)))]) hx hb dX5_ends_182 hl (k := 6) rfl (by rw [e41]; exact zi_add _ _) (by decide) rfl (fun ls hl => ?_)
      refine lv_goto (tgt := 44) hx hb dX5_ends_185 (by decide) ?_
      exact hK44 S x6 x14 v40 hh _ _ _ hM (lv_sub hl [2, 3, 4, 5, 6, 1, 0] rfl)
    · replace hh := it_f c38 hh
      obtain ⟨v42, e43⟩ : ∃ z : Int, z = x8 + 1 := ⟨_, rfl⟩
      replace hh := nm_inv hh v42 e43
      refine lv_iinc (v := zi v42) (lv' := [(8, .int (zi (v42))), (0, .ref (h)), (1, .int (zi (x1))), (4, .int (zi (x4))), (5, .int (zi (x5))), (6, .int (zi (x6))), (7, .int (zi (x7))), (14, .int (zi (x14)))]) hx hb dX5_ends_182 hl (k := 6) rfl (by rw [e43]; exact zi_add _ _) (by decide) rfl (fun ls hl => ?_)
      refine lv_goto (tgt := 44) hx hb dX5_ends_185 (by decide) ?_
      exact hK44 S x6 x7 v42 hh _ _ _ hM (lv_sub hl [1, 2, 3, 4, 5, 6, 0] rfl)
  have hL44 : ∀ (x1 : Int) (x4 : Int) (x5 : Int) (n : Nat) (S : xS) (x6 : Int) (x7 : Int) (x8 : Int), M_ends_L44 x1 x4 x5 n S x6 x7 x8 = some (r, S1) → ∀ (H : Heap) (locs : List Loc) (ls : Array Slot), MX DM dA h S s H locs → lv_has ls 15 [(0, .ref (h)), (1, .int (zi (x1))), (4, .int (zi (x4))), (5, .int (zi (x5))), (6, .int (zi (x6))), (7, .int (zi (x7))), (8, .int (zi (x8)))] → W p l e ({ frames := 5, cells := 0, slots := 0, locals := 104 } : Room) s m args below meth c H locs 0 0 Q (F0 m 44 ls []) := by
    intro x1 x4 x5  n
    induction n with
    | zero => intro S x6 x7 x8 hh; exact no_some hh
    | succ n ih =>
      intro S x6 x7 x8 hh H locs ls hM hl
      replace hh : M_ends_b44 x1 x4 x5 (M_ends_L44 x1 x4 x5 n) S x6 x7 x8 = some (r, S1) := hh
      unfold M_ends_b44 at hh
      have hK44 := ih
      refine lv_iload hx hb dX5_ends_44 (lv_at hl 6 rfl) ?_
      refine lv_aload_n hx hb dX5_ends_46 rfl (lv_at hl 0 rfl) ?_
      refine mm_get X hM q1176 (mf_2 _ _) dX5_ends_47 ?_
      refine lv_iconst (v := zi 1) hx hb dX5_ends_50 rfl ?_
      refine mm_iald X hM (ma_2 _ _) (by decide) dX5_ends_51 ?_
      obtain ⟨g13, hh⟩ := gd_inv hh
      refine g_icmp_ge (tgt := 188) hx hb g13 dX5_ends_52 (by decide) (fun c12 => ?_) (fun c12 => ?_)
      · replace hh := it_t c12 hh
        refine lv_aload_n hx hb dX5_ends_55 rfl (lv_at hl 0 rfl) ?_
        refine mm_get X hM q1176 (mf_2 _ _) dX5_ends_56 ?_
        refine lv_sipush (v := zi 620) hx hb dX5_ends_59 (by decide) ?_
        refine lv_iconst (v := zi 2) hx hb dX5_ends_62 rfl ?_
        refine lv_iload hx hb dX5_ends_63 (lv_at hl 6 rfl) ?_
        refine g_imul hx hb dX5_ends_65 ?_
        refine g_iadd hx hb dX5_ends_66 ?_
        refine lv_iconst (v := zi 1) hx hb dX5_ends_67 rfl ?_
        refine g_iadd hx hb dX5_ends_68 ?_
        obtain ⟨g14, hh⟩ := gd_inv hh
        refine mm_iald X hM (ma_2 _ _) g14 dX5_ends_69 ?_
        refine g_nmi hx hb (fun v15 e16 => ?_)
        replace hh := nm_inv hh v15 e16
        refine lv_istore (lv' := [(9, .int (zi (v15))), (0, .ref (h)), (1, .int (zi (x1))), (4, .int (zi (x4))), (5, .int (zi (x5))), (6, .int (zi (x6))), (7, .int (zi (x7))), (8, .int (zi (x8)))]) hx hb dX5_ends_70 hl (by decide) rfl (fun ls hl => ?_)
        refine lv_aload_n hx hb dX5_ends_72 rfl (lv_at hl 1 rfl) ?_
        refine lv_iload hx hb dX5_ends_73 (lv_at hl 7 rfl) ?_
        refine lv_iload_n hx hb dX5_ends_75 rfl (lv_at hl 2 rfl) ?_
        obtain ⟨v18, k17, hh⟩ := bd_inv hh
        refine mc_i (rest := []) X hM (wM_apart l DM dA h S x8 x1 k17) c5_apart.1 c5_apart.2 ⟨rfl, rfl⟩ ⟨Nat.le_of_ble_eq_true rfl, Nat.le_of_ble_eq_true rfl⟩ ⟨Nat.zero_le _, Nat.zero_le _⟩ hl.1 (Nat.le_of_ble_eq_true rfl) dX5_ends_76 rfl (fun H locs hM => ?_)
        refine lv_iload hx hb dX5_ends_79 (lv_at hl 0 rfl) ?_
        obtain ⟨g20, hh⟩ := gd_inv hh
        refine g_icmp_le (tgt := 87) hx hb g20 dX5_ends_81 (by decide) (fun c19 => ?_) (fun c19 => ?_)
        · replace hh := it_t c19 hh
          refine lv_iload hx hb dX5_ends_87 (lv_at hl 0 rfl) ?_
          refine lv_iconst (v := zi 1) hx hb dX5_ends_89 rfl ?_
          refine g_iadd hx hb dX5_ends_90 ?_
          refine lv_aload_n hx hb dX5_ends_91 rfl (lv_at hl 1 rfl) ?_
          refine lv_iload hx hb dX5_ends_92 (lv_at hl 7 rfl) ?_
          refine lv_iload_n hx hb dX5_ends_94 rfl (lv_at hl 2 rfl) ?_
          obtain ⟨v22, k21, hh⟩ := bd_inv hh
          refine mc_i (rest := [.int (zi (v15 + 1))]) X hM (wM_apart l DM dA h S x8 x1 k21) c5_apart.1 c5_apart.2 ⟨rfl, rfl⟩ ⟨Nat.le_of_ble_eq_true rfl, Nat.le_of_ble_eq_true rfl⟩ ⟨Nat.zero_le _, Nat.zero_le _⟩ hl.1 (Nat.le_of_ble_eq_true rfl) dX5_ends_95 rfl (fun H locs hM => ?_)
          refine g_isub hx hb dX5_ends_98 ?_
          refine g_nmi hx hb (fun v23 e24 => ?_)
          replace hh := nm_inv hh v23 e24
          refine lv_istore (lv' := [(10, .int (zi (v23))), (9, .int (zi (v15))), (0, .ref (h)), (1, .int (zi (x1))), (4, .int (zi (x4))), (5, .int (zi (x5))), (6, .int (zi (x6))), (7, .int (zi (x7))), (8, .int (zi (x8)))]) hx hb dX5_ends_99 hl (by decide) rfl (fun ls hl => ?_)
          refine lv_iload hx hb dX5_ends_101 (lv_at hl 1 rfl) ?_
          refine lv_iconst (v := zi 1) hx hb dX5_ends_103 rfl ?_
          refine g_iadd hx hb dX5_ends_104 ?_
          refine lv_iload hx hb dX5_ends_105 (lv_at hl 1 rfl) ?_
          refine lv_iconst (v := zi 1) hx hb dX5_ends_107 rfl ?_
          refine g_iadd hx hb dX5_ends_108 ?_
          refine g_imul hx hb dX5_ends_109 ?_
          refine g_nmi hx hb (fun v25 e26 => ?_)
          replace hh := nm_inv hh v25 e26
          refine lv_istore (lv' := [(11, .int (zi (v25))), (10, .int (zi (v23))), (9, .int (zi (v15))), (0, .ref (h)), (1, .int (zi (x1))), (4, .int (zi (x4))), (5, .int (zi (x5))), (6, .int (zi (x6))), (7, .int (zi (x7))), (8, .int (zi (x8)))]) hx hb dX5_ends_110 hl (by decide) rfl (fun ls hl => ?_)
          refine lv_aload_n hx hb dX5_ends_112 rfl (lv_at hl 3 rfl) ?_
          refine lv_iload hx hb dX5_ends_113 (lv_at hl 9 rfl) ?_
          refine lv_iload hx hb dX5_ends_115 (lv_at hl 5 rfl) ?_
          obtain ⟨v28, k27, hh⟩ := bd_inv hh
          refine mc_i (rest := []) X hM (wM_lensTake l DM dA h S x8 x4 k27) c5_lensTake.1 c5_lensTake.2 ⟨rfl, rfl⟩ ⟨Nat.le_of_ble_eq_true rfl, Nat.le_of_ble_eq_true rfl⟩ ⟨Nat.zero_le _, Nat.zero_le _⟩ hl.1 (Nat.le_of_ble_eq_true rfl) dX5_ends_117 rfl (fun H locs hM => ?_)
          refine lv_istore (lv' := [(12, .int (zi (v28))), (11, .int (zi (v25))), (10, .int (zi (v23))), (9, .int (zi (v15))), (0, .ref (h)), (1, .int (zi (x1))), (4, .int (zi (x4))), (5, .int (zi (x5))), (6, .int (zi (x6))), (7, .int (zi (x7))), (8, .int (zi (x8)))]) hx hb dX5_ends_120 hl (by decide) rfl (fun ls hl => ?_)
          refine lv_iload hx hb dX5_ends_122 (lv_at hl 0 rfl) ?_
          refine lv_iload hx hb dX5_ends_124 (lv_at hl 1 rfl) ?_
          refine g_imul hx hb dX5_ends_126 ?_
          refine lv_sipush (v := zi 255) hx hb dX5_ends_127 (by decide) ?_
          refine lv_iload hx hb dX5_ends_130 (lv_at hl 1 rfl) ?_
          refine lv_iload hx hb dX5_ends_132 (lv_at hl 2 rfl) ?_
          refine g_isub hx hb dX5_ends_134 ?_
          refine g_imul hx hb dX5_ends_135 ?_
          refine g_isub hx hb dX5_ends_136 ?_
          refine g_ineg hx hb dX5_ends_137 ?_
          refine lv_iload hx hb dX5_ends_138 (lv_at hl 2 rfl) ?_
          obtain ⟨v30, k29, hh⟩ := bd_inv hh
          refine mcs_i (rest := []) X hM (wM_floor l (-((v28 * v25) - (255 * (v25 - v23)))) v23 k29) c5_floor.1 c5_floor.2 ⟨rfl, rfl⟩ ⟨Nat.le_of_ble_eq_true rfl, Nat.le_of_ble_eq_true rfl⟩ ⟨Nat.zero_le _, Nat.zero_le _⟩ hl.1 (Nat.le_of_ble_eq_true rfl) dX5_ends_140 rfl (fun H locs hM => ?_)
          refine g_ineg hx hb dX5_ends_143 ?_
          refine g_nmi hx hb (fun v31 e32 => ?_)
          replace hh := nm_inv hh v31 e32
          refine lv_istore (lv' := [(13, .int (zi (v31))), (12, .int (zi (v28))), (11, .int (zi (v25))), (10, .int (zi (v23))), (9, .int (zi (v15))), (0, .ref (h)), (1, .int (zi (x1))), (4, .int (zi (x4))), (5, .int (zi (x5))), (6, .int (zi (x6))), (7, .int (zi (x7))), (8, .int (zi (x8)))]) hx hb dX5_ends_144 hl (by decide) rfl (fun ls hl => ?_)
          refine lv_iload hx hb dX5_ends_146 (lv_at hl 1 rfl) ?_
          refine lv_iconst (v := zi 1) hx hb dX5_ends_148 rfl ?_
          refine g_iadd hx hb dX5_ends_149 ?_
          refine lv_iload hx hb dX5_ends_150 (lv_at hl 2 rfl) ?_
          refine g_imul hx hb dX5_ends_152 ?_
          refine lv_iconst (v := zi 1) hx hb dX5_ends_153 rfl ?_
          refine g_isub hx hb dX5_ends_154 ?_
          refine lv_iload hx hb dX5_ends_155 (lv_at hl 3 rfl) ?_
          obtain ⟨g33, hh⟩ := gd_inv hh
          refine g_idiv hx hb g33 dX5_ends_157 ?_
          refine g_nmi hx hb (fun v34 e35 => ?_)
          replace hh := nm_inv hh v34 e35
          refine lv_istore (lv' := [(14, .int (zi (v34))), (13, .int (zi (v31))), (12, .int (zi (v28))), (11, .int (zi (v25))), (10, .int (zi (v23))), (9, .int (zi (v15))), (0, .ref (h)), (1, .int (zi (x1))), (4, .int (zi (x4))), (5, .int (zi (x5))), (6, .int (zi (x6))), (7, .int (zi (x7))), (8, .int (zi (x8)))]) hx hb dX5_ends_158 hl (by decide) rfl (fun ls hl => ?_)
          refine lv_iload hx hb dX5_ends_160 (lv_at hl 1 rfl) ?_
          refine lv_iload hx hb dX5_ends_162 (lv_at hl 10 rfl) ?_
          obtain ⟨g37, hh⟩ := gd_inv hh
          refine g_icmp_le (tgt := 171) hx hb g37 dX5_ends_164 (by decide) (fun c36 => ?_) (fun c36 => ?_)
          · replace hh := it_t c36 hh
            exact hB171 x1 x4 x5 x6 x7 x8 v34 _ hK44 S hh _ _ _ hM (lv_sub hl [6, 7, 8, 9, 10, 11, 12, 0] rfl)
          · replace hh := it_f c36 hh
            refine lv_iload hx hb dX5_ends_167 (lv_at hl 1 rfl) ?_
            refine lv_istore (lv' := [(6, .int (zi (v31))), (14, .int (zi (v34))), (13, .int (zi (v31))), (12, .int (zi (v28))), (11, .int (zi (v25))), (10, .int (zi (v23))), (9, .int (zi (v15))), (0, .ref (h)), (1, .int (zi (x1))), (4, .int (zi (x4))), (5, .int (zi (x5))), (7, .int (zi (x7))), (8, .int (zi (x8)))]) hx hb dX5_ends_169 hl (by decide) rfl (fun ls hl => ?_)
            exact hB171 x1 x4 x5 v31 x7 x8 v34 _ hK44 S hh _ _ _ hM (lv_sub hl [7, 8, 9, 10, 0, 11, 12, 1] rfl)
        · replace hh := it_f c19 hh
          refine lv_goto (tgt := 182) hx hb dX5_ends_84 (by decide) ?_
          obtain ⟨v44, e45⟩ : ∃ z : Int, z = x8 + 1 := ⟨_, rfl⟩
          replace hh := nm_inv hh v44 e45
          refine lv_iinc (v := zi v44) (lv' := [(8, .int (zi (v44))), (9, .int (zi (v15))), (0, .ref (h)), (1, .int (zi (x1))), (4, .int (zi (x4))), (5, .int (zi (x5))), (6, .int (zi (x6))), (7, .int (zi (x7)))]) hx hb dX5_ends_182 hl (k := 7) rfl (by rw [e45]; exact zi_add _ _) (by decide) rfl (fun ls hl => ?_)
          refine lv_goto (tgt := 44) hx hb dX5_ends_185 (by decide) ?_
          exact hK44 S x6 x7 v44 hh _ _ _ hM (lv_sub hl [2, 3, 4, 5, 6, 7, 0] rfl)
      · replace hh := it_f c12 hh
        refine lv_iload hx hb dX5_ends_188 (lv_at hl 3 rfl) ?_
        obtain ⟨g47, hh⟩ := gd_inv hh
        refine g_if_eq (tgt := 198) hx hb g47 dX5_ends_190 (by decide) (fun c46 => ?_) (fun c46 => ?_)
        · replace hh := it_t c46 hh
          refine lv_iload hx hb dX5_ends_198 (lv_at hl 4 rfl) ?_
          exact hret _ _ _ _ _ _ (rt1 hh) (rt2 hh) dX5_ends_200 hM
        · replace hh := it_f c46 hh
          refine lv_iload hx hb dX5_ends_193 (lv_at hl 5 rfl) ?_
          refine lv_goto (tgt := 200) hx hb dX5_ends_195 (by decide) ?_
          exact hret _ _ _ _ _ _ (rt1 hh) (rt2 hh) dX5_ends_200 hM
  replace hl : lv_has ls 15 [(0, .ref (h)), (1, .int (zi (x1))), (2, .int (zi (x2))), (3, .int (zi (x3))), (4, .int (zi (x4))), (5, .int (zi (x5)))] := hl
  unfold M_ends at hh
  refine lv_iload_n hx hb dX5_ends_0 rfl (lv_at hl 1 rfl) ?_
  obtain ⟨v2, k1, hh⟩ := bd_inv hh
  refine mcs_z (rest := []) X hM (wM_isSide l x1 k1) c5_isSide.1 c5_isSide.2 ⟨rfl, rfl⟩ ⟨Nat.le_of_ble_eq_true rfl, Nat.le_of_ble_eq_true rfl⟩ ⟨Nat.zero_le _, Nat.zero_le _⟩ hl.1 (Nat.le_of_ble_eq_true rfl) dX5_ends_1 rfl (fun H locs hM => ?_)
  refine g_bif_eq (tgt := 24) hx hb dX5_ends_4 (by decide) (fun c3 => ?_) (fun c3 => ?_)
  · replace hh := it_t c3 hh
    refine lv_aload_n hx hb dX5_ends_7 rfl (lv_at hl 0 rfl) ?_
    refine lv_iload_n hx hb dX5_ends_8 rfl (lv_at hl 2 rfl) ?_
    refine lv_iload_n hx hb dX5_ends_9 rfl (lv_at hl 3 rfl) ?_
    obtain ⟨v5, k4, hh⟩ := bd_inv hh
    refine mc_z (rest := []) X hM (wM_isPlace l DM dA h S x2 x3 k4) c5_isPlace.1 c5_isPlace.2 ⟨rfl, rfl⟩ ⟨Nat.le_of_ble_eq_true rfl, Nat.le_of_ble_eq_true rfl⟩ ⟨Nat.zero_le _, Nat.zero_le _⟩ hl.1 (Nat.le_of_ble_eq_true rfl) dX5_ends_10 rfl (fun H locs hM => ?_)
    refine g_bif_eq (tgt := 24) hx hb dX5_ends_13 (by decide) (fun c6 => ?_) (fun c6 => ?_)
    · replace hh := it_t c6 hh
      refine lv_iload hx hb dX5_ends_16 (lv_at hl 4 rfl) ?_
      obtain ⟨v8, k7, hh⟩ := bd_inv hh
      refine mcs_z (rest := []) X hM (wM_isSide l x4 k7) c5_isSide.1 c5_isSide.2 ⟨rfl, rfl⟩ ⟨Nat.le_of_ble_eq_true rfl, Nat.le_of_ble_eq_true rfl⟩ ⟨Nat.zero_le _, Nat.zero_le _⟩ hl.1 (Nat.le_of_ble_eq_true rfl) dX5_ends_18 rfl (fun H locs hM => ?_)
      refine g_bif_ne (tgt := 26) hx hb dX5_ends_21 (by decide) (fun c9 => ?_) (fun c9 => ?_)
      · replace hh := it_t c9 hh
        refine lv_aload_n hx hb dX5_ends_26 rfl (lv_at hl 0 rfl) ?_
        refine lv_iload_n hx hb dX5_ends_27 rfl (lv_at hl 2 rfl) ?_
        refine lv_iload_n hx hb dX5_ends_28 rfl (lv_at hl 3 rfl) ?_
        refine lv_iconst (v := zi 0) hx hb dX5_ends_29 rfl ?_
        obtain ⟨S11, k10, hh⟩ := bd_inv hh
        refine mc_v (rest := []) X hM (wM_look l DM dA h S x2 x3 (0 : Int) k10) c5_look.1 c5_look.2 ⟨rfl, rfl⟩ ⟨Nat.le_of_ble_eq_true rfl, Nat.le_of_ble_eq_true rfl⟩ ⟨Nat.zero_le _, Nat.zero_le _⟩ hl.1 (Nat.le_of_ble_eq_true rfl) dX5_ends_30 rfl (fun H locs hM => ?_)
        refine lv_iconst (v := zi 0) hx hb dX5_ends_33 rfl ?_
        refine lv_istore (lv' := [(6, .int (zi (0))), (0, .ref (h)), (1, .int (zi (x1))), (2, .int (zi (x2))), (3, .int (zi (x3))), (4, .int (zi (x4))), (5, .int (zi (x5)))]) hx hb dX5_ends_34 hl (by decide) rfl (fun ls hl => ?_)
        refine lv_sipush (v := zi 255) hx hb dX5_ends_36 (by decide) ?_
        refine lv_istore (lv' := [(7, .int (zi (255))), (6, .int (zi (0))), (0, .ref (h)), (1, .int (zi (x1))), (2, .int (zi (x2))), (3, .int (zi (x3))), (4, .int (zi (x4))), (5, .int (zi (x5)))]) hx hb dX5_ends_39 hl (by decide) rfl (fun ls hl => ?_)
        refine lv_iconst (v := zi 0) hx hb dX5_ends_41 rfl ?_
        refine lv_istore (lv' := [(8, .int (zi (0))), (7, .int (zi (255))), (6, .int (zi (0))), (0, .ref (h)), (1, .int (zi (x1))), (2, .int (zi (x2))), (3, .int (zi (x3))), (4, .int (zi (x4))), (5, .int (zi (x5)))]) hx hb dX5_ends_42 hl (by decide) rfl (fun ls hl => ?_)
        exact hL44 x1 x4 x5 FU S11 (0 : Int) (255 : Int) (0 : Int) hh _ _ _ hM (lv_sub hl [3, 4, 7, 8, 2, 1, 0] rfl)
      · replace hh := it_f c9 hh
        refine lv_iconst (v := zi (-1)) hx hb dX5_ends_24 rfl ?_
        exact hret _ _ _ _ _ _ (rt1 hh) (rt2 hh) dX5_ends_25 hM
    · replace hh := it_f c6 hh
      refine lv_iconst (v := zi (-1)) hx hb dX5_ends_24 rfl ?_
      exact hret _ _ _ _ _ _ (rt1 hh) (rt2 hh) dX5_ends_25 hM
  · replace hh := it_f c3 hh
    refine lv_iconst (v := zi (-1)) hx hb dX5_ends_24 rfl ?_
    exact hret _ _ _ _ _ _ (rt1 hh) (rt2 hh) dX5_ends_25 hM
def M_width_b51 (x1 : Int) (x2 : Int) (x5 : Int) (K51 : xS → Int → Int → Int → Option (Int × xS)) (S : xS) (x6 : Int) (x7 : Int) (x8 : Int) : Option (Int × xS) := gd (r32 (x8)) (if x8 < 8 then (bd (M_takeOf S x1 x8 x5) (fun v18 => bd (M_takeOf S x2 x8 x5) (fun v20 => bd (M_abs (v18 - v20)) (fun v22 => gd (r32 (v22) ∧ r32 (x7)) (if v22 ≤ x7 then (nm ((x8 + 1) : Int) (fun v25 => K51 S x6 x7 v25)) else (nm ((x8 + 1) : Int) (fun v27 => K51 S x8 v22 v27))))))) else (some ((x6 : Int), S)))
def M_width_L51 (x1 : Int) (x2 : Int) (x5 : Int) : Nat → xS → Int → Int → Int → Option (Int × xS)
  | 0 => fun _ _ _ _ => none
  | n + 1 => fun S x6 x7 x8 => M_width_b51 x1 x2 x5 (M_width_L51 x1 x2 x5 n) S x6 x7 x8
def M_width (S : xS) (x1 : Int) (x2 : Int) (x3 : Int) (x4 : Int) (x5 : Int) : Option (Int × xS) := bd (M_isSide x1) (fun v2 => if v2 = true then (bd (M_isSide x2) (fun v5 => if v5 = true then (bd (M_isPlace S x3 x4) (fun v8 => if v8 = true then (bd (M_isSide x5) (fun v11 => if v11 = true then (bd (M_look S x3 x4 (0 : Int)) (fun S14 => M_width_L51 x1 x2 x5 FU S14 (0 : Int) ((-1) : Int) (0 : Int))) else (some (((-1) : Int), S)))) else (some (((-1) : Int), S)))) else (some (((-1) : Int), S)))) else (some (((-1) : Int), S)))
set_option maxHeartbeats 4000000 in
theorem wM_width (l : Launch) (DM : va_G) (dA : Nat → ClassId) (h : Nat) (S : xS) (x1 x2 x3 x4 x5 : Int) {r : Int} {S1 : xS} (hh : M_width S x1 x2 x3 x4 x5 = some (r, S1)) : mt_i l yX5_width cX5_width 10 (some .int) ({ frames := 5, cells := 0, slots := 0, locals := 104 } : Room) DM dA h [.int (zi x1), .int (zi x2), .int (zi x3), .int (zi x4), .int (zi x5)] S r S1 := by
  refine mo_i (by decide) rfl (Nat.le_of_ble_eq_true rfl) ?_
  intro p e s m args below meth c Q ls X hret hl hM
  have hx := X.1.1
  have hb := X.1.2.1
  have hown := X.1.2.2.2.1
  have hts := X.1.2.2.2.2
  skip
  have hL51 : ∀ (x1 : Int) (x2 : Int) (x5 : Int) (n : Nat) (S : xS) (x6 : Int) (x7 : Int) (x8 : Int), M_width_L51 x1 x2 x5 n S x6 x7 x8 = some (r, S1) → ∀ (H : Heap) (locs : List Loc) (ls : Array Slot), MX DM dA h S s H locs → lv_has ls 10 [(0, .ref (h)), (1, .int (zi (x1))), (2, .int (zi (x2))), (5, .int (zi (x5))), (6, .int (zi (x6))), (7, .int (zi (x7))), (8, .int (zi (x8)))] → W p l e ({ frames := 5, cells := 0, slots := 0, locals := 104 } : Room) s m args below meth c H locs 0 0 Q (F0 m 51 ls []) := by
    intro x1 x2 x5  n
    induction n with
    | zero => intro S x6 x7 x8 hh; exact no_some hh
    | succ n ih =>
      intro S x6 x7 x8 hh H locs ls hM hl
      replace hh : M_width_b51 x1 x2 x5 (M_width_L51 x1 x2 x5 n) S x6 x7 x8 = some (r, S1) := hh
      unfold M_width_b51 at hh
      have hK51 := ih
      refine lv_iload hx hb dX5_width_51 (lv_at hl 6 rfl) ?_
      refine lv_bipush (v := zi 8) hx hb dX5_width_53 (by decide) ?_
      obtain ⟨g16, hh⟩ := gd_inv hh
      refine g_icmp_ge (tgt := 106) hx hb ⟨g16, by decide⟩ dX5_width_55 (by decide) (fun c15 => ?_) (fun c15 => ?_)
      · replace hh := it_t c15 hh
        refine lv_aload_n hx hb dX5_width_58 rfl (lv_at hl 0 rfl) ?_
        refine lv_iload_n hx hb dX5_width_59 rfl (lv_at hl 1 rfl) ?_
        refine lv_iload hx hb dX5_width_60 (lv_at hl 6 rfl) ?_
        refine lv_iload hx hb dX5_width_62 (lv_at hl 3 rfl) ?_
        obtain ⟨v18, k17, hh⟩ := bd_inv hh
        refine mc_i (rest := []) X hM (wM_takeOf l DM dA h S x1 x8 x5 k17) c5_takeOf.1 c5_takeOf.2 ⟨rfl, rfl⟩ ⟨Nat.le_of_ble_eq_true rfl, Nat.le_of_ble_eq_true rfl⟩ ⟨Nat.zero_le _, Nat.zero_le _⟩ hl.1 (Nat.le_of_ble_eq_true rfl) dX5_width_64 rfl (fun H locs hM => ?_)
        refine lv_aload_n hx hb dX5_width_67 rfl (lv_at hl 0 rfl) ?_
        refine lv_iload_n hx hb dX5_width_68 rfl (lv_at hl 2 rfl) ?_
        refine lv_iload hx hb dX5_width_69 (lv_at hl 6 rfl) ?_
        refine lv_iload hx hb dX5_width_71 (lv_at hl 3 rfl) ?_
        obtain ⟨v20, k19, hh⟩ := bd_inv hh
        refine mc_i (rest := [.int (zi (v18))]) X hM (wM_takeOf l DM dA h S x2 x8 x5 k19) c5_takeOf.1 c5_takeOf.2 ⟨rfl, rfl⟩ ⟨Nat.le_of_ble_eq_true rfl, Nat.le_of_ble_eq_true rfl⟩ ⟨Nat.zero_le _, Nat.zero_le _⟩ hl.1 (Nat.le_of_ble_eq_true rfl) dX5_width_73 rfl (fun H locs hM => ?_)
        refine g_isub hx hb dX5_width_76 ?_
        obtain ⟨v22, k21, hh⟩ := bd_inv hh
        refine mcs_i (rest := []) X hM (wM_abs l (v18 - v20) k21) c5_abs.1 c5_abs.2 ⟨rfl, rfl⟩ ⟨Nat.le_of_ble_eq_true rfl, Nat.le_of_ble_eq_true rfl⟩ ⟨Nat.zero_le _, Nat.zero_le _⟩ hl.1 (Nat.le_of_ble_eq_true rfl) dX5_width_77 rfl (fun H locs hM => ?_)
        refine lv_istore (lv' := [(9, .int (zi (v22))), (0, .ref (h)), (1, .int (zi (x1))), (2, .int (zi (x2))), (5, .int (zi (x5))), (6, .int (zi (x6))), (7, .int (zi (x7))), (8, .int (zi (x8)))]) hx hb dX5_width_80 hl (by decide) rfl (fun ls hl => ?_)
        refine lv_iload hx hb dX5_width_82 (lv_at hl 0 rfl) ?_
        refine lv_iload hx hb dX5_width_84 (lv_at hl 6 rfl) ?_
        obtain ⟨g24, hh⟩ := gd_inv hh
        refine g_icmp_gt (tgt := 92) hx hb g24 dX5_width_86 (by decide) (fun c23 => ?_) (fun c23 => ?_)
        · replace hh := it_t c23 hh
          refine lv_goto (tgt := 100) hx hb dX5_width_89 (by decide) ?_
          obtain ⟨v25, e26⟩ : ∃ z : Int, z = x8 + 1 := ⟨_, rfl⟩
          replace hh := nm_inv hh v25 e26
          refine lv_iinc (v := zi v25) (lv' := [(8, .int (zi (v25))), (9, .int (zi (v22))), (0, .ref (h)), (1, .int (zi (x1))), (2, .int (zi (x2))), (5, .int (zi (x5))), (6, .int (zi (x6))), (7, .int (zi (x7)))]) hx hb dX5_width_100 hl (k := 7) rfl (by rw [e26]; exact zi_add _ _) (by decide) rfl (fun ls hl => ?_)
          refine lv_goto (tgt := 51) hx hb dX5_width_103 (by decide) ?_
          exact hK51 S x6 x7 v25 hh _ _ _ hM (lv_sub hl [2, 3, 4, 5, 6, 7, 0] rfl)
        · replace hh := it_f c23 hh
          refine lv_iload hx hb dX5_width_92 (lv_at hl 7 rfl) ?_
          refine lv_istore (lv' := [(6, .int (zi (x8))), (9, .int (zi (v22))), (0, .ref (h)), (1, .int (zi (x1))), (2, .int (zi (x2))), (5, .int (zi (x5))), (7, .int (zi (x7))), (8, .int (zi (x8)))]) hx hb dX5_width_94 hl (by decide) rfl (fun ls hl => ?_)
          refine lv_iload hx hb dX5_width_96 (lv_at hl 1 rfl) ?_
          refine lv_istore (lv' := [(7, .int (zi (v22))), (6, .int (zi (x8))), (9, .int (zi (v22))), (0, .ref (h)), (1, .int (zi (x1))), (2, .int (zi (x2))), (5, .int (zi (x5))), (8, .int (zi (x8)))]) hx hb dX5_width_98 hl (by decide) rfl (fun ls hl => ?_)
          obtain ⟨v27, e28⟩ : ∃ z : Int, z = x8 + 1 := ⟨_, rfl⟩
          replace hh := nm_inv hh v27 e28
          refine lv_iinc (v := zi v27) (lv' := [(8, .int (zi (v27))), (7, .int (zi (v22))), (6, .int (zi (x8))), (9, .int (zi (v22))), (0, .ref (h)), (1, .int (zi (x1))), (2, .int (zi (x2))), (5, .int (zi (x5)))]) hx hb dX5_width_100 hl (k := 7) rfl (by rw [e28]; exact zi_add _ _) (by decide) rfl (fun ls hl => ?_)
          refine lv_goto (tgt := 51) hx hb dX5_width_103 (by decide) ?_
          exact hK51 S x8 v22 v27 hh _ _ _ hM (lv_sub hl [4, 5, 6, 7, 2, 1, 0] rfl)
      · replace hh := it_f c15 hh
        refine lv_iload hx hb dX5_width_106 (lv_at hl 4 rfl) ?_
        exact hret _ _ _ _ _ _ (rt1 hh) (rt2 hh) dX5_width_108 hM
  replace hl : lv_has ls 10 [(0, .ref (h)), (1, .int (zi (x1))), (2, .int (zi (x2))), (3, .int (zi (x3))), (4, .int (zi (x4))), (5, .int (zi (x5)))] := hl
  unfold M_width at hh
  refine lv_iload_n hx hb dX5_width_0 rfl (lv_at hl 1 rfl) ?_
  obtain ⟨v2, k1, hh⟩ := bd_inv hh
  refine mcs_z (rest := []) X hM (wM_isSide l x1 k1) c5_isSide.1 c5_isSide.2 ⟨rfl, rfl⟩ ⟨Nat.le_of_ble_eq_true rfl, Nat.le_of_ble_eq_true rfl⟩ ⟨Nat.zero_le _, Nat.zero_le _⟩ hl.1 (Nat.le_of_ble_eq_true rfl) dX5_width_1 rfl (fun H locs hM => ?_)
  refine g_bif_eq (tgt := 32) hx hb dX5_width_4 (by decide) (fun c3 => ?_) (fun c3 => ?_)
  · replace hh := it_t c3 hh
    refine lv_iload_n hx hb dX5_width_7 rfl (lv_at hl 2 rfl) ?_
    obtain ⟨v5, k4, hh⟩ := bd_inv hh
    refine mcs_z (rest := []) X hM (wM_isSide l x2 k4) c5_isSide.1 c5_isSide.2 ⟨rfl, rfl⟩ ⟨Nat.le_of_ble_eq_true rfl, Nat.le_of_ble_eq_true rfl⟩ ⟨Nat.zero_le _, Nat.zero_le _⟩ hl.1 (Nat.le_of_ble_eq_true rfl) dX5_width_8 rfl (fun H locs hM => ?_)
    refine g_bif_eq (tgt := 32) hx hb dX5_width_11 (by decide) (fun c6 => ?_) (fun c6 => ?_)
    · replace hh := it_t c6 hh
      refine lv_aload_n hx hb dX5_width_14 rfl (lv_at hl 0 rfl) ?_
      refine lv_iload_n hx hb dX5_width_15 rfl (lv_at hl 3 rfl) ?_
      refine lv_iload hx hb dX5_width_16 (lv_at hl 4 rfl) ?_
      obtain ⟨v8, k7, hh⟩ := bd_inv hh
      refine mc_z (rest := []) X hM (wM_isPlace l DM dA h S x3 x4 k7) c5_isPlace.1 c5_isPlace.2 ⟨rfl, rfl⟩ ⟨Nat.le_of_ble_eq_true rfl, Nat.le_of_ble_eq_true rfl⟩ ⟨Nat.zero_le _, Nat.zero_le _⟩ hl.1 (Nat.le_of_ble_eq_true rfl) dX5_width_18 rfl (fun H locs hM => ?_)
      refine g_bif_eq (tgt := 32) hx hb dX5_width_21 (by decide) (fun c9 => ?_) (fun c9 => ?_)
      · replace hh := it_t c9 hh
        refine lv_iload hx hb dX5_width_24 (lv_at hl 5 rfl) ?_
        obtain ⟨v11, k10, hh⟩ := bd_inv hh
        refine mcs_z (rest := []) X hM (wM_isSide l x5 k10) c5_isSide.1 c5_isSide.2 ⟨rfl, rfl⟩ ⟨Nat.le_of_ble_eq_true rfl, Nat.le_of_ble_eq_true rfl⟩ ⟨Nat.zero_le _, Nat.zero_le _⟩ hl.1 (Nat.le_of_ble_eq_true rfl) dX5_width_26 rfl (fun H locs hM => ?_)
        refine g_bif_ne (tgt := 34) hx hb dX5_width_29 (by decide) (fun c12 => ?_) (fun c12 => ?_)
        · replace hh := it_t c12 hh
          refine lv_aload_n hx hb dX5_width_34 rfl (lv_at hl 0 rfl) ?_
          refine lv_iload_n hx hb dX5_width_35 rfl (lv_at hl 3 rfl) ?_
          refine lv_iload hx hb dX5_width_36 (lv_at hl 4 rfl) ?_
          refine lv_iconst (v := zi 0) hx hb dX5_width_38 rfl ?_
          obtain ⟨S14, k13, hh⟩ := bd_inv hh
          refine mc_v (rest := []) X hM (wM_look l DM dA h S x3 x4 (0 : Int) k13) c5_look.1 c5_look.2 ⟨rfl, rfl⟩ ⟨Nat.le_of_ble_eq_true rfl, Nat.le_of_ble_eq_true rfl⟩ ⟨Nat.zero_le _, Nat.zero_le _⟩ hl.1 (Nat.le_of_ble_eq_true rfl) dX5_width_39 rfl (fun H locs hM => ?_)
          refine lv_iconst (v := zi 0) hx hb dX5_width_42 rfl ?_
          refine lv_istore (lv' := [(6, .int (zi (0))), (0, .ref (h)), (1, .int (zi (x1))), (2, .int (zi (x2))), (3, .int (zi (x3))), (4, .int (zi (x4))), (5, .int (zi (x5)))]) hx hb dX5_width_43 hl (by decide) rfl (fun ls hl => ?_)
          refine lv_iconst (v := zi (-1)) hx hb dX5_width_45 rfl ?_
          refine lv_istore (lv' := [(7, .int (zi ((-1)))), (6, .int (zi (0))), (0, .ref (h)), (1, .int (zi (x1))), (2, .int (zi (x2))), (3, .int (zi (x3))), (4, .int (zi (x4))), (5, .int (zi (x5)))]) hx hb dX5_width_46 hl (by decide) rfl (fun ls hl => ?_)
          refine lv_iconst (v := zi 0) hx hb dX5_width_48 rfl ?_
          refine lv_istore (lv' := [(8, .int (zi (0))), (7, .int (zi ((-1)))), (6, .int (zi (0))), (0, .ref (h)), (1, .int (zi (x1))), (2, .int (zi (x2))), (3, .int (zi (x3))), (4, .int (zi (x4))), (5, .int (zi (x5)))]) hx hb dX5_width_49 hl (by decide) rfl (fun ls hl => ?_)
          exact hL51 x1 x2 x5 FU S14 (0 : Int) ((-1) : Int) (0 : Int) hh _ _ _ hM (lv_sub hl [3, 4, 5, 8, 2, 1, 0] rfl)
        · replace hh := it_f c12 hh
          refine lv_iconst (v := zi (-1)) hx hb dX5_width_32 rfl ?_
          exact hret _ _ _ _ _ _ (rt1 hh) (rt2 hh) dX5_width_33 hM
      · replace hh := it_f c9 hh
        refine lv_iconst (v := zi (-1)) hx hb dX5_width_32 rfl ?_
        exact hret _ _ _ _ _ _ (rt1 hh) (rt2 hh) dX5_width_33 hM
    · replace hh := it_f c6 hh
      refine lv_iconst (v := zi (-1)) hx hb dX5_width_32 rfl ?_
      exact hret _ _ _ _ _ _ (rt1 hh) (rt2 hh) dX5_width_33 hM
  · replace hh := it_f c3 hh
    refine lv_iconst (v := zi (-1)) hx hb dX5_width_32 rfl ?_
    exact hret _ _ _ _ _ _ (rt1 hh) (rt2 hh) dX5_width_33 hM
def M_same_B247 (K208 : xS → Int → Int → Option (Int × xS)) (S : xS) (x1 : Int) (x6 : Int) (x7 : Int) (x11 : Int) (t0 : Int) : Option (Int × xS) := nm ((x11 + 1) : Int) (fun v51 => K208 S t0 v51)
def M_same_B246 (K208 : xS → Int → Int → Option (Int × xS)) (S : xS) (x1 : Int) (x6 : Int) (x7 : Int) (x11 : Int) : Option (Int × xS) := M_same_B247 K208 S x1 x6 x7 x11 (0 : Int)
def M_same_b208 (x1 : Int) (x6 : Int) (x7 : Int) (K208 : xS → Int → Int → Option (Int × xS)) (S : xS) (x10 : Int) (x11 : Int) : Option (Int × xS) := gd (r32 (x11) ∧ r32 (S.2 2 1)) (if x11 < (S.2 2 1) then (gd (r32 (x10)) (if x10 = 0 then (M_same_B246 K208 S x1 x6 x7 x11) else (bd (M_lensTake S x11 x6) (fun v54 => gd ((0 : Int) ≤ x11 ∧ (x11 : Int) < 16) (gd (r32 (v54) ∧ r32 (S.2 8 x11)) (if v54 = (S.2 8 x11) then (M_same_B247 K208 S x1 x6 x7 x11 (1 : Int)) else (M_same_B246 K208 S x1 x6 x7 x11))))))) else (gd ((0 : Int) ≤ 590 + (4 * x1) ∧ (590 + (4 * x1) : Int) < 3170) (nm (aset S 2 (590 + (4 * x1)) x7) (fun S59 => gd (r32 (x10)) (if x10 = 0 then (some ((0 : Int), S59)) else (some ((1 : Int), S59)))))))
def M_same_L208 (x1 : Int) (x6 : Int) (x7 : Int) : Nat → xS → Int → Int → Option (Int × xS)
  | 0 => fun _ _ _ => none
  | n + 1 => fun S x10 x11 => M_same_b208 x1 x6 x7 (M_same_L208 x1 x6 x7 n) S x10 x11
def M_same_b139 (x1 : Int) (x4 : Int) (x5 : Int) (x6 : Int) (x7 : Int) (x8 : Int) (x9 : Int) (K139 : xS → Int → Option (Int × xS)) (S : xS) (x10 : Int) : Option (Int × xS) := gd (r32 (x10) ∧ r32 (S.2 2 1)) (if x10 < (S.2 2 1) then (bd (M_lensTake S x10 x6) (fun v36 => gd ((0 : Int) ≤ x10 ∧ (x10 : Int) < 16) (nm (aset S 8 x10 v36) (fun S38 => nm ((x10 + 1) : Int) (fun v40 => K139 S38 v40))))) else (gd ((0 : Int) ≤ 590 + (4 * x1) ∧ (590 + (4 * x1) : Int) < 3170) (nm (aset S 2 (590 + (4 * x1)) ((x9 * (S.1 0)) + x8)) (fun S43 => bd (M_look S43 x4 x5 (0 : Int)) (fun S46 => M_same_L208 x1 x6 x7 FU S46 (1 : Int) (0 : Int))))))
def M_same_L139 (x1 : Int) (x4 : Int) (x5 : Int) (x6 : Int) (x7 : Int) (x8 : Int) (x9 : Int) : Nat → xS → Int → Option (Int × xS)
  | 0 => fun _ _ => none
  | n + 1 => fun S x10 => M_same_b139 x1 x4 x5 x6 x7 x8 x9 (M_same_L139 x1 x4 x5 x6 x7 x8 x9 n) S x10
def M_same (S : xS) (x1 : Int) (x2 : Int) (x3 : Int) (x4 : Int) (x5 : Int) (x6 : Int) : Option (Int × xS) := bd (M_isIn x1 (0 : Int) ((S.2 2 0) - 1)) (fun v2 => if v2 = true then (bd (M_isPlace S x4 x5) (fun v5 => if v5 = true then (bd (M_isSide x6) (fun v8 => if v8 = true then (bd (M_isIn x2 ((-23) : Int) (23 : Int)) (fun v11 => if v11 = true then (bd (M_isIn x3 ((-23) : Int) (23 : Int)) (fun v14 => if v14 = true then (gd ((0 : Int) ≤ 590 + (4 * x1) ∧ (590 + (4 * x1) : Int) < 3170) (nm (S.2 2 (590 + (4 * x1))) (fun v17 => gd (r32 (v17) ∧ r32 (S.1 0) ∧ (S.1 0 : Int) ≠ 0) (nm ((Int.tmod v17 (S.1 0)) + x2) (fun v20 => gd (r32 (v17) ∧ r32 (S.1 0) ∧ (S.1 0 : Int) ≠ 0) (nm ((Int.tdiv v17 (S.1 0)) + x3) (fun v23 => bd (M_isIn v20 (0 : Int) ((S.1 0) - 1)) (fun v26 => if v26 = true then (bd (M_isIn v23 (0 : Int) ((S.1 1) - 1)) (fun v29 => if v29 = true then (bd (M_look S x4 x5 (0 : Int)) (fun S32 => M_same_L139 x1 x4 x5 x6 v17 v20 v23 FU S32 (0 : Int))) else (some (((-1) : Int), S)))) else (some (((-1) : Int), S)))))))))) else (some (((-1) : Int), S)))) else (some (((-1) : Int), S)))) else (some (((-1) : Int), S)))) else (some (((-1) : Int), S)))) else (some (((-1) : Int), S)))
set_option maxHeartbeats 4000000 in
theorem wM_same (l : Launch) (DM : va_G) (dA : Nat → ClassId) (h : Nat) (S : xS) (x1 x2 x3 x4 x5 x6 : Int) {r : Int} {S1 : xS} (hh : M_same S x1 x2 x3 x4 x5 x6 = some (r, S1)) : mt_i l yX5_same cX5_same 12 (some .int) ({ frames := 5, cells := 0, slots := 0, locals := 104 } : Room) DM dA h [.int (zi x1), .int (zi x2), .int (zi x3), .int (zi x4), .int (zi x5), .int (zi x6)] S r S1 := by
  refine mo_i (by decide) rfl (Nat.le_of_ble_eq_true rfl) ?_
  intro p e s m args below meth c Q ls X hret hl hM
  have hx := X.1.1
  have hb := X.1.2.1
  have hown := X.1.2.2.2.1
  have hts := X.1.2.2.2.2
  skip
  have hB247 : ∀ (x1 : Int) (x6 : Int) (x7 : Int) (x11 : Int) (t0 : Int) (K208 : xS → Int → Int → Option (Int × xS)) (hK208 : (∀ (S : xS) (x10 : Int) (x11 : Int), K208 S x10 x11 = some (r, S1) → ∀ (H : Heap) (locs : List Loc) (ls : Array Slot), MX DM dA h S s H locs → lv_has ls 12 [(0, .ref (h)), (1, .int (zi (x1))), (6, .int (zi (x6))), (7, .int (zi (x7))), (10, .int (zi (x10))), (11, .int (zi (x11)))] → W p l e ({ frames := 5, cells := 0, slots := 0, locals := 104 } : Room) s m args below meth c H locs 0 0 Q (F0 m 208 ls []))) (S : xS), M_same_B247 K208 S x1 x6 x7 x11 t0 = some (r, S1) → ∀ (H : Heap) (locs : List Loc) (ls : Array Slot), MX DM dA h S s H locs → lv_has ls 12 [(0, .ref (h)), (1, .int (zi (x1))), (6, .int (zi (x6))), (7, .int (zi (x7))), (11, .int (zi (x11)))] → W p l e ({ frames := 5, cells := 0, slots := 0, locals := 104 } : Room) s m args below meth c H locs 0 0 Q (F0 m 247 ls [.int (zi (t0))]) := by
    intro x1 x6 x7 x11 t0 K208 hK208 S hh H locs ls hM hl
    unfold M_same_B247 at hh
    refine lv_istore (lv' := [(10, .int (zi (t0))), (0, .ref (h)), (1, .int (zi (x1))), (6, .int (zi (x6))), (7, .int (zi (x7))), (11, .int (zi (x11)))]) hx hb dX5_same_247 hl (by decide) rfl (fun ls hl => ?_)
    obtain ⟨v51, e52⟩ : ∃ z : Int, z = x11 + 1 := ⟨_, rfl⟩
    replace hh := nm_inv hh v51 e52
    refine lv_iinc (v := zi v51) (lv' := [(11, .int (zi (v51))), (10, .int (zi (t0))), (0, .ref (h)), (1, .int (zi (x1))), (6, .int (zi (x6))), (7, .int (zi (x7)))]) hx hb dX5_same_249 hl (k := 5) rfl (by rw [e52]; exact zi_add _ _) (by decide) rfl (fun ls hl => ?_)
    refine lv_goto (tgt := 208) hx hb dX5_same_252 (by decide) ?_
    exact hK208 S t0 v51 hh _ _ _ hM (lv_sub hl [2, 3, 4, 5, 1, 0] rfl)
  have hB246 : ∀ (x1 : Int) (x6 : Int) (x7 : Int) (x11 : Int) (K208 : xS → Int → Int → Option (Int × xS)) (hK208 : (∀ (S : xS) (x10 : Int) (x11 : Int), K208 S x10 x11 = some (r, S1) → ∀ (H : Heap) (locs : List Loc) (ls : Array Slot), MX DM dA h S s H locs → lv_has ls 12 [(0, .ref (h)), (1, .int (zi (x1))), (6, .int (zi (x6))), (7, .int (zi (x7))), (10, .int (zi (x10))), (11, .int (zi (x11)))] → W p l e ({ frames := 5, cells := 0, slots := 0, locals := 104 } : Room) s m args below meth c H locs 0 0 Q (F0 m 208 ls []))) (S : xS), M_same_B246 K208 S x1 x6 x7 x11 = some (r, S1) → ∀ (H : Heap) (locs : List Loc) (ls : Array Slot), MX DM dA h S s H locs → lv_has ls 12 [(0, .ref (h)), (1, .int (zi (x1))), (6, .int (zi (x6))), (7, .int (zi (x7))), (11, .int (zi (x11)))] → W p l e ({ frames := 5, cells := 0, slots := 0, locals := 104 } : Room) s m args below meth c H locs 0 0 Q (F0 m 246 ls []) := by
    intro x1 x6 x7 x11 K208 hK208 S hh H locs ls hM hl
    unfold M_same_B246 at hh
    refine lv_iconst (v := zi 0) hx hb dX5_same_246 rfl ?_
    exact hB247 x1 x6 x7 x11 (0 : Int) _ hK208 S hh _ _ _ hM (lv_sub hl [0, 1, 2, 3, 4] rfl)
  have hL208 : ∀ (x1 : Int) (x6 : Int) (x7 : Int) (n : Nat) (S : xS) (x10 : Int) (x11 : Int), M_same_L208 x1 x6 x7 n S x10 x11 = some (r, S1) → ∀ (H : Heap) (locs : List Loc) (ls : Array Slot), MX DM dA h S s H locs → lv_has ls 12 [(0, .ref (h)), (1, .int (zi (x1))), (6, .int (zi (x6))), (7, .int (zi (x7))), (10, .int (zi (x10))), (11, .int (zi (x11)))] → W p l e ({ frames := 5, cells := 0, slots := 0, locals := 104 } : Room) s m args below meth c H locs 0 0 Q (F0 m 208 ls []) := by
    intro x1 x6 x7  n
    induction n with
    | zero => intro S x10 x11 hh; exact no_some hh
    | succ n ih =>
      intro S x10 x11 hh H locs ls hM hl
      replace hh : M_same_b208 x1 x6 x7 (M_same_L208 x1 x6 x7 n) S x10 x11 = some (r, S1) := hh
      unfold M_same_b208 at hh
      have hK208 := ih
      refine lv_iload hx hb dX5_same_208 (lv_at hl 5 rfl) ?_
      refine lv_aload_n hx hb dX5_same_210 rfl (lv_at hl 0 rfl) ?_
      refine mm_get X hM q1176 (mf_2 _ _) dX5_same_211 ?_
      refine lv_iconst (v := zi 1) hx hb dX5_same_214 rfl ?_
      refine mm_iald X hM (ma_2 _ _) (by decide) dX5_same_215 ?_
      obtain ⟨g48, hh⟩ := gd_inv hh
      refine g_icmp_ge (tgt := 255) hx hb g48 dX5_same_216 (by decide) (fun c47 => ?_) (fun c47 => ?_)
      · replace hh := it_t c47 hh
        refine lv_iload hx hb dX5_same_219 (lv_at hl 4 rfl) ?_
        obtain ⟨g50, hh⟩ := gd_inv hh
        refine g_if_eq (tgt := 246) hx hb g50 dX5_same_221 (by decide) (fun c49 => ?_) (fun c49 => ?_)
        · replace hh := it_t c49 hh
          exact hB246 x1 x6 x7 x11 _ hK208 S hh _ _ _ hM (lv_sub hl [0, 1, 2, 3, 5] rfl)
        · replace hh := it_f c49 hh
          refine lv_aload_n hx hb dX5_same_224 rfl (lv_at hl 0 rfl) ?_
          refine lv_iload hx hb dX5_same_225 (lv_at hl 5 rfl) ?_
          refine lv_iload hx hb dX5_same_227 (lv_at hl 2 rfl) ?_
          obtain ⟨v54, k53, hh⟩ := bd_inv hh
          refine mc_i (rest := []) X hM (wM_lensTake l DM dA h S x11 x6 k53) c5_lensTake.1 c5_lensTake.2 ⟨rfl, rfl⟩ ⟨Nat.le_of_ble_eq_true rfl, Nat.le_of_ble_eq_true rfl⟩ ⟨Nat.zero_le _, Nat.zero_le _⟩ hl.1 (Nat.le_of_ble_eq_true rfl) dX5_same_229 rfl (fun H locs hM => ?_)
          refine lv_aload_n hx hb dX5_same_232 rfl (lv_at hl 0 rfl) ?_
          refine mm_get X hM q1182 (mf_8 _ _) dX5_same_233 ?_
          refine lv_iload hx hb dX5_same_236 (lv_at hl 5 rfl) ?_
          obtain ⟨g55, hh⟩ := gd_inv hh
          refine mm_iald X hM (ma_8 _ _) g55 dX5_same_238 ?_
          obtain ⟨g57, hh⟩ := gd_inv hh
          refine g_icmp_ne (tgt := 246) hx hb g57 dX5_same_239 (by decide) (fun c56 => ?_) (fun c56 => ?_)
          · replace hh := it_t c56 hh
            refine lv_iconst (v := zi 1) hx hb dX5_same_242 rfl ?_
            refine lv_goto (tgt := 247) hx hb dX5_same_243 (by decide) ?_
            exact hB247 x1 x6 x7 x11 (1 : Int) _ hK208 S hh _ _ _ hM (lv_sub hl [0, 1, 2, 3, 5] rfl)
          · replace hh := it_f c56 hh
            exact hB246 x1 x6 x7 x11 _ hK208 S hh _ _ _ hM (lv_sub hl [0, 1, 2, 3, 5] rfl)
      · replace hh := it_f c47 hh
        refine lv_aload_n hx hb dX5_same_255 rfl (lv_at hl 0 rfl) ?_
        refine mm_get X hM q1176 (mf_2 _ _) dX5_same_256 ?_
        refine lv_sipush (v := zi 590) hx hb dX5_same_259 (by decide) ?_
        refine lv_iconst (v := zi 4) hx hb dX5_same_262 rfl ?_
        refine lv_iload_n hx hb dX5_same_263 rfl (lv_at hl 1 rfl) ?_
        refine g_imul hx hb dX5_same_264 ?_
        refine g_iadd hx hb dX5_same_265 ?_
        refine lv_iload hx hb dX5_same_266 (lv_at hl 3 rfl) ?_
        obtain ⟨g58, hh⟩ := gd_inv hh
        refine mm_iast X hM (ma_2 _ _) g58 dX5_same_268 (fun H locs S59 e60 hM => ?_)
        replace hh := nm_inv hh S59 e60
        refine lv_iload hx hb dX5_same_269 (lv_at hl 4 rfl) ?_
        obtain ⟨g62, hh⟩ := gd_inv hh
        refine g_if_eq (tgt := 278) hx hb g62 dX5_same_271 (by decide) (fun c61 => ?_) (fun c61 => ?_)
        · replace hh := it_t c61 hh
          refine lv_iconst (v := zi 0) hx hb dX5_same_278 rfl ?_
          exact hret _ _ _ _ _ _ (rt1 hh) (rt2 hh) dX5_same_279 hM
        · replace hh := it_f c61 hh
          refine lv_iconst (v := zi 1) hx hb dX5_same_274 rfl ?_
          refine lv_goto (tgt := 279) hx hb dX5_same_275 (by decide) ?_
          exact hret _ _ _ _ _ _ (rt1 hh) (rt2 hh) dX5_same_279 hM
  have hL139 : ∀ (x1 : Int) (x4 : Int) (x5 : Int) (x6 : Int) (x7 : Int) (x8 : Int) (x9 : Int) (n : Nat) (S : xS) (x10 : Int), M_same_L139 x1 x4 x5 x6 x7 x8 x9 n S x10 = some (r, S1) → ∀ (H : Heap) (locs : List Loc) (ls : Array Slot), MX DM dA h S s H locs → lv_has ls 12 [(0, .ref (h)), (1, .int (zi (x1))), (4, .int (zi (x4))), (5, .int (zi (x5))), (6, .int (zi (x6))), (7, .int (zi (x7))), (8, .int (zi (x8))), (9, .int (zi (x9))), (10, .int (zi (x10)))] → W p l e ({ frames := 5, cells := 0, slots := 0, locals := 104 } : Room) s m args below meth c H locs 0 0 Q (F0 m 139 ls []) := by
    intro x1 x4 x5 x6 x7 x8 x9  n
    induction n with
    | zero => intro S x10 hh; exact no_some hh
    | succ n ih =>
      intro S x10 hh H locs ls hM hl
      replace hh : M_same_b139 x1 x4 x5 x6 x7 x8 x9 (M_same_L139 x1 x4 x5 x6 x7 x8 x9 n) S x10 = some (r, S1) := hh
      unfold M_same_b139 at hh
      have hK139 := ih
      refine lv_iload hx hb dX5_same_139 (lv_at hl 8 rfl) ?_
      refine lv_aload_n hx hb dX5_same_141 rfl (lv_at hl 0 rfl) ?_
      refine mm_get X hM q1176 (mf_2 _ _) dX5_same_142 ?_
      refine lv_iconst (v := zi 1) hx hb dX5_same_145 rfl ?_
      refine mm_iald X hM (ma_2 _ _) (by decide) dX5_same_146 ?_
      obtain ⟨g34, hh⟩ := gd_inv hh
      refine g_icmp_ge (tgt := 171) hx hb g34 dX5_same_147 (by decide) (fun c33 => ?_) (fun c33 => ?_)
      · replace hh := it_t c33 hh
        refine lv_aload_n hx hb dX5_same_150 rfl (lv_at hl 0 rfl) ?_
        refine mm_get X hM q1182 (mf_8 _ _) dX5_same_151 ?_
        refine lv_iload hx hb dX5_same_154 (lv_at hl 8 rfl) ?_
        refine lv_aload_n hx hb dX5_same_156 rfl (lv_at hl 0 rfl) ?_
        refine lv_iload hx hb dX5_same_157 (lv_at hl 8 rfl) ?_
        refine lv_iload hx hb dX5_same_159 (lv_at hl 4 rfl) ?_
        obtain ⟨v36, k35, hh⟩ := bd_inv hh
        refine mc_i (rest := [.int (zi (x10)), .ref (h + 7)]) X hM (wM_lensTake l DM dA h S x10 x6 k35) c5_lensTake.1 c5_lensTake.2 ⟨rfl, rfl⟩ ⟨Nat.le_of_ble_eq_true rfl, Nat.le_of_ble_eq_true rfl⟩ ⟨Nat.zero_le _, Nat.zero_le _⟩ hl.1 (Nat.le_of_ble_eq_true rfl) dX5_same_161 rfl (fun H locs hM => ?_)
        obtain ⟨g37, hh⟩ := gd_inv hh
        refine mm_iast X hM (ma_8 _ _) g37 dX5_same_164 (fun H locs S38 e39 hM => ?_)
        replace hh := nm_inv hh S38 e39
        obtain ⟨v40, e41⟩ : ∃ z : Int, z = x10 + 1 := ⟨_, rfl⟩
        replace hh := nm_inv hh v40 e41
        refine lv_iinc (v := zi v40) (lv' := [(10, .int (zi (v40))), (0, .ref (h)), (1, .int (zi (x1))), (4, .int (zi (x4))), (5, .int (zi (x5))), (6, .int (zi (x6))), (7, .int (zi (x7))), (8, .int (zi (x8))), (9, .int (zi (x9)))]) hx hb dX5_same_165 hl (k := 8) rfl (by rw [e41]; exact zi_add _ _) (by decide) rfl (fun ls hl => ?_)
        refine lv_goto (tgt := 139) hx hb dX5_same_168 (by decide) ?_
        exact hK139 S38 v40 hh _ _ _ hM (lv_sub hl [1, 2, 3, 4, 5, 6, 7, 8, 0] rfl)
      · replace hh := it_f c33 hh
        refine lv_aload_n hx hb dX5_same_171 rfl (lv_at hl 0 rfl) ?_
        refine mm_get X hM q1176 (mf_2 _ _) dX5_same_172 ?_
        refine lv_sipush (v := zi 590) hx hb dX5_same_175 (by decide) ?_
        refine lv_iconst (v := zi 4) hx hb dX5_same_178 rfl ?_
        refine lv_iload_n hx hb dX5_same_179 rfl (lv_at hl 1 rfl) ?_
        refine g_imul hx hb dX5_same_180 ?_
        refine g_iadd hx hb dX5_same_181 ?_
        refine lv_iload hx hb dX5_same_182 (lv_at hl 7 rfl) ?_
        refine lv_aload_n hx hb dX5_same_184 rfl (lv_at hl 0 rfl) ?_
        refine mm_get X hM q1174 (mf_0 _ _) dX5_same_185 ?_
        refine g_imul hx hb dX5_same_188 ?_
        refine lv_iload hx hb dX5_same_189 (lv_at hl 6 rfl) ?_
        refine g_iadd hx hb dX5_same_191 ?_
        obtain ⟨g42, hh⟩ := gd_inv hh
        refine mm_iast X hM (ma_2 _ _) g42 dX5_same_192 (fun H locs S43 e44 hM => ?_)
        replace hh := nm_inv hh S43 e44
        refine lv_aload_n hx hb dX5_same_193 rfl (lv_at hl 0 rfl) ?_
        refine lv_iload hx hb dX5_same_194 (lv_at hl 2 rfl) ?_
        refine lv_iload hx hb dX5_same_196 (lv_at hl 3 rfl) ?_
        refine lv_iconst (v := zi 0) hx hb dX5_same_198 rfl ?_
        obtain ⟨S46, k45, hh⟩ := bd_inv hh
        refine mc_v (rest := []) X hM (wM_look l DM dA h S43 x4 x5 (0 : Int) k45) c5_look.1 c5_look.2 ⟨rfl, rfl⟩ ⟨Nat.le_of_ble_eq_true rfl, Nat.le_of_ble_eq_true rfl⟩ ⟨Nat.zero_le _, Nat.zero_le _⟩ hl.1 (Nat.le_of_ble_eq_true rfl) dX5_same_199 rfl (fun H locs hM => ?_)
        refine lv_iconst (v := zi 1) hx hb dX5_same_202 rfl ?_
        refine lv_istore (lv' := [(10, .int (zi (1))), (0, .ref (h)), (1, .int (zi (x1))), (4, .int (zi (x4))), (5, .int (zi (x5))), (6, .int (zi (x6))), (7, .int (zi (x7))), (8, .int (zi (x8))), (9, .int (zi (x9)))]) hx hb dX5_same_203 hl (by decide) rfl (fun ls hl => ?_)
        refine lv_iconst (v := zi 0) hx hb dX5_same_205 rfl ?_
        refine lv_istore (lv' := [(11, .int (zi (0))), (10, .int (zi (1))), (0, .ref (h)), (1, .int (zi (x1))), (4, .int (zi (x4))), (5, .int (zi (x5))), (6, .int (zi (x6))), (7, .int (zi (x7))), (8, .int (zi (x8))), (9, .int (zi (x9)))]) hx hb dX5_same_206 hl (by decide) rfl (fun ls hl => ?_)
        exact hL208 x1 x6 x7 FU S46 (1 : Int) (0 : Int) hh _ _ _ hM (lv_sub hl [2, 3, 6, 7, 1, 0] rfl)
  replace hl : lv_has ls 12 [(0, .ref (h)), (1, .int (zi (x1))), (2, .int (zi (x2))), (3, .int (zi (x3))), (4, .int (zi (x4))), (5, .int (zi (x5))), (6, .int (zi (x6)))] := hl
  unfold M_same at hh
  refine lv_iload_n hx hb dX5_same_0 rfl (lv_at hl 1 rfl) ?_
  refine lv_iconst (v := zi 0) hx hb dX5_same_1 rfl ?_
  refine lv_aload_n hx hb dX5_same_2 rfl (lv_at hl 0 rfl) ?_
  refine mm_get X hM q1176 (mf_2 _ _) dX5_same_3 ?_
  refine lv_iconst (v := zi 0) hx hb dX5_same_6 rfl ?_
  refine mm_iald X hM (ma_2 _ _) (by decide) dX5_same_7 ?_
  refine lv_iconst (v := zi 1) hx hb dX5_same_8 rfl ?_
  refine g_isub hx hb dX5_same_9 ?_
  obtain ⟨v2, k1, hh⟩ := bd_inv hh
  refine mcs_z (rest := []) X hM (wM_isIn l x1 (0 : Int) ((S.2 2 0) - 1) k1) c5_isIn.1 c5_isIn.2 ⟨rfl, rfl⟩ ⟨Nat.le_of_ble_eq_true rfl, Nat.le_of_ble_eq_true rfl⟩ ⟨Nat.zero_le _, Nat.zero_le _⟩ hl.1 (Nat.le_of_ble_eq_true rfl) dX5_same_10 rfl (fun H locs hM => ?_)
  refine g_bif_eq (tgt := 57) hx hb dX5_same_13 (by decide) (fun c3 => ?_) (fun c3 => ?_)
  · replace hh := it_t c3 hh
    refine lv_aload_n hx hb dX5_same_16 rfl (lv_at hl 0 rfl) ?_
    refine lv_iload hx hb dX5_same_17 (lv_at hl 4 rfl) ?_
    refine lv_iload hx hb dX5_same_19 (lv_at hl 5 rfl) ?_
    obtain ⟨v5, k4, hh⟩ := bd_inv hh
    refine mc_z (rest := []) X hM (wM_isPlace l DM dA h S x4 x5 k4) c5_isPlace.1 c5_isPlace.2 ⟨rfl, rfl⟩ ⟨Nat.le_of_ble_eq_true rfl, Nat.le_of_ble_eq_true rfl⟩ ⟨Nat.zero_le _, Nat.zero_le _⟩ hl.1 (Nat.le_of_ble_eq_true rfl) dX5_same_21 rfl (fun H locs hM => ?_)
    refine g_bif_eq (tgt := 57) hx hb dX5_same_24 (by decide) (fun c6 => ?_) (fun c6 => ?_)
    · replace hh := it_t c6 hh
      refine lv_iload hx hb dX5_same_27 (lv_at hl 6 rfl) ?_
      obtain ⟨v8, k7, hh⟩ := bd_inv hh
      refine mcs_z (rest := []) X hM (wM_isSide l x6 k7) c5_isSide.1 c5_isSide.2 ⟨rfl, rfl⟩ ⟨Nat.le_of_ble_eq_true rfl, Nat.le_of_ble_eq_true rfl⟩ ⟨Nat.zero_le _, Nat.zero_le _⟩ hl.1 (Nat.le_of_ble_eq_true rfl) dX5_same_29 rfl (fun H locs hM => ?_)
      refine g_bif_eq (tgt := 57) hx hb dX5_same_32 (by decide) (fun c9 => ?_) (fun c9 => ?_)
      · replace hh := it_t c9 hh
        refine lv_iload_n hx hb dX5_same_35 rfl (lv_at hl 2 rfl) ?_
        refine lv_bipush (v := zi (-23)) hx hb dX5_same_36 (by decide) ?_
        refine lv_bipush (v := zi 23) hx hb dX5_same_38 (by decide) ?_
        obtain ⟨v11, k10, hh⟩ := bd_inv hh
        refine mcs_z (rest := []) X hM (wM_isIn l x2 ((-23) : Int) (23 : Int) k10) c5_isIn.1 c5_isIn.2 ⟨rfl, rfl⟩ ⟨Nat.le_of_ble_eq_true rfl, Nat.le_of_ble_eq_true rfl⟩ ⟨Nat.zero_le _, Nat.zero_le _⟩ hl.1 (Nat.le_of_ble_eq_true rfl) dX5_same_40 rfl (fun H locs hM => ?_)
        refine g_bif_eq (tgt := 57) hx hb dX5_same_43 (by decide) (fun c12 => ?_) (fun c12 => ?_)
        · replace hh := it_t c12 hh
          refine lv_iload_n hx hb dX5_same_46 rfl (lv_at hl 3 rfl) ?_
          refine lv_bipush (v := zi (-23)) hx hb dX5_same_47 (by decide) ?_
          refine lv_bipush (v := zi 23) hx hb dX5_same_49 (by decide) ?_
          obtain ⟨v14, k13, hh⟩ := bd_inv hh
          refine mcs_z (rest := []) X hM (wM_isIn l x3 ((-23) : Int) (23 : Int) k13) c5_isIn.1 c5_isIn.2 ⟨rfl, rfl⟩ ⟨Nat.le_of_ble_eq_true rfl, Nat.le_of_ble_eq_true rfl⟩ ⟨Nat.zero_le _, Nat.zero_le _⟩ hl.1 (Nat.le_of_ble_eq_true rfl) dX5_same_51 rfl (fun H locs hM => ?_)
          refine g_bif_ne (tgt := 59) hx hb dX5_same_54 (by decide) (fun c15 => ?_) (fun c15 => ?_)
          · replace hh := it_t c15 hh
            refine lv_aload_n hx hb dX5_same_59 rfl (lv_at hl 0 rfl) ?_
            refine mm_get X hM q1176 (mf_2 _ _) dX5_same_60 ?_
            refine lv_sipush (v := zi 590) hx hb dX5_same_63 (by decide) ?_
            refine lv_iconst (v := zi 4) hx hb dX5_same_66 rfl ?_
            refine lv_iload_n hx hb dX5_same_67 rfl (lv_at hl 1 rfl) ?_
            refine g_imul hx hb dX5_same_68 ?_
            refine g_iadd hx hb dX5_same_69 ?_
            obtain ⟨g16, hh⟩ := gd_inv hh
            refine mm_iald X hM (ma_2 _ _) g16 dX5_same_70 ?_
            refine g_nmi hx hb (fun v17 e18 => ?_)
            replace hh := nm_inv hh v17 e18
            refine lv_istore (lv' := [(7, .int (zi (v17))), (0, .ref (h)), (1, .int (zi (x1))), (2, .int (zi (x2))), (3, .int (zi (x3))), (4, .int (zi (x4))), (5, .int (zi (x5))), (6, .int (zi (x6)))]) hx hb dX5_same_71 hl (by decide) rfl (fun ls hl => ?_)
            refine lv_iload hx hb dX5_same_73 (lv_at hl 0 rfl) ?_
            refine lv_aload_n hx hb dX5_same_75 rfl (lv_at hl 1 rfl) ?_
            refine mm_get X hM q1174 (mf_0 _ _) dX5_same_76 ?_
            obtain ⟨g19, hh⟩ := gd_inv hh
            refine g_irem hx hb g19 dX5_same_79 ?_
            refine lv_iload_n hx hb dX5_same_80 rfl (lv_at hl 3 rfl) ?_
            refine g_iadd hx hb dX5_same_81 ?_
            refine g_nmi hx hb (fun v20 e21 => ?_)
            replace hh := nm_inv hh v20 e21
            refine lv_istore (lv' := [(8, .int (zi (v20))), (7, .int (zi (v17))), (0, .ref (h)), (1, .int (zi (x1))), (2, .int (zi (x2))), (3, .int (zi (x3))), (4, .int (zi (x4))), (5, .int (zi (x5))), (6, .int (zi (x6)))]) hx hb dX5_same_82 hl (by decide) rfl (fun ls hl => ?_)
            refine lv_iload hx hb dX5_same_84 (lv_at hl 1 rfl) ?_
            refine lv_aload_n hx hb dX5_same_86 rfl (lv_at hl 2 rfl) ?_
            refine mm_get X hM q1174 (mf_0 _ _) dX5_same_87 ?_
            obtain ⟨g22, hh⟩ := gd_inv hh
            refine g_idiv hx hb g22 dX5_same_90 ?_
            refine lv_iload_n hx hb dX5_same_91 rfl (lv_at hl 5 rfl) ?_
            refine g_iadd hx hb dX5_same_92 ?_
            refine g_nmi hx hb (fun v23 e24 => ?_)
            replace hh := nm_inv hh v23 e24
            refine lv_istore (lv' := [(9, .int (zi (v23))), (8, .int (zi (v20))), (7, .int (zi (v17))), (0, .ref (h)), (1, .int (zi (x1))), (2, .int (zi (x2))), (3, .int (zi (x3))), (4, .int (zi (x4))), (5, .int (zi (x5))), (6, .int (zi (x6)))]) hx hb dX5_same_93 hl (by decide) rfl (fun ls hl => ?_)
            refine lv_iload hx hb dX5_same_95 (lv_at hl 1 rfl) ?_
            refine lv_iconst (v := zi 0) hx hb dX5_same_97 rfl ?_
            refine lv_aload_n hx hb dX5_same_98 rfl (lv_at hl 3 rfl) ?_
            refine mm_get X hM q1174 (mf_0 _ _) dX5_same_99 ?_
            refine lv_iconst (v := zi 1) hx hb dX5_same_102 rfl ?_
            refine g_isub hx hb dX5_same_103 ?_
            obtain ⟨v26, k25, hh⟩ := bd_inv hh
            refine mcs_z (rest := []) X hM (wM_isIn l v20 (0 : Int) ((S.1 0) - 1) k25) c5_isIn.1 c5_isIn.2 ⟨rfl, rfl⟩ ⟨Nat.le_of_ble_eq_true rfl, Nat.le_of_ble_eq_true rfl⟩ ⟨Nat.zero_le _, Nat.zero_le _⟩ hl.1 (Nat.le_of_ble_eq_true rfl) dX5_same_104 rfl (fun H locs hM => ?_)
            refine g_bif_eq (tgt := 125) hx hb dX5_same_107 (by decide) (fun c27 => ?_) (fun c27 => ?_)
            · replace hh := it_t c27 hh
              refine lv_iload hx hb dX5_same_110 (lv_at hl 0 rfl) ?_
              refine lv_iconst (v := zi 0) hx hb dX5_same_112 rfl ?_
              refine lv_aload_n hx hb dX5_same_113 rfl (lv_at hl 3 rfl) ?_
              refine mm_get X hM q1175 (mf_1 _ _) dX5_same_114 ?_
              refine lv_iconst (v := zi 1) hx hb dX5_same_117 rfl ?_
              refine g_isub hx hb dX5_same_118 ?_
              obtain ⟨v29, k28, hh⟩ := bd_inv hh
              refine mcs_z (rest := []) X hM (wM_isIn l v23 (0 : Int) ((S.1 1) - 1) k28) c5_isIn.1 c5_isIn.2 ⟨rfl, rfl⟩ ⟨Nat.le_of_ble_eq_true rfl, Nat.le_of_ble_eq_true rfl⟩ ⟨Nat.zero_le _, Nat.zero_le _⟩ hl.1 (Nat.le_of_ble_eq_true rfl) dX5_same_119 rfl (fun H locs hM => ?_)
              refine g_bif_ne (tgt := 127) hx hb dX5_same_122 (by decide) (fun c30 => ?_) (fun c30 => ?_)
              · replace hh := it_t c30 hh
                refine lv_aload_n hx hb dX5_same_127 rfl (lv_at hl 3 rfl) ?_
                refine lv_iload hx hb dX5_same_128 (lv_at hl 7 rfl) ?_
                refine lv_iload hx hb dX5_same_130 (lv_at hl 8 rfl) ?_
                refine lv_iconst (v := zi 0) hx hb dX5_same_132 rfl ?_
                obtain ⟨S32, k31, hh⟩ := bd_inv hh
                refine mc_v (rest := []) X hM (wM_look l DM dA h S x4 x5 (0 : Int) k31) c5_look.1 c5_look.2 ⟨rfl, rfl⟩ ⟨Nat.le_of_ble_eq_true rfl, Nat.le_of_ble_eq_true rfl⟩ ⟨Nat.zero_le _, Nat.zero_le _⟩ hl.1 (Nat.le_of_ble_eq_true rfl) dX5_same_133 rfl (fun H locs hM => ?_)
                refine lv_iconst (v := zi 0) hx hb dX5_same_136 rfl ?_
                refine lv_istore (lv' := [(10, .int (zi (0))), (9, .int (zi (v23))), (8, .int (zi (v20))), (7, .int (zi (v17))), (0, .ref (h)), (1, .int (zi (x1))), (2, .int (zi (x2))), (3, .int (zi (x3))), (4, .int (zi (x4))), (5, .int (zi (x5))), (6, .int (zi (x6)))]) hx hb dX5_same_137 hl (by decide) rfl (fun ls hl => ?_)
                exact hL139 x1 x4 x5 x6 v17 v20 v23 FU S32 (0 : Int) hh _ _ _ hM (lv_sub hl [4, 5, 8, 9, 10, 3, 2, 1, 0] rfl)
              · replace hh := it_f c30 hh
                refine lv_iconst (v := zi (-1)) hx hb dX5_same_125 rfl ?_
                exact hret _ _ _ _ _ _ (rt1 hh) (rt2 hh) dX5_same_126 hM
            · replace hh := it_f c27 hh
              refine lv_iconst (v := zi (-1)) hx hb dX5_same_125 rfl ?_
              exact hret _ _ _ _ _ _ (rt1 hh) (rt2 hh) dX5_same_126 hM
          · replace hh := it_f c15 hh
            refine lv_iconst (v := zi (-1)) hx hb dX5_same_57 rfl ?_
            exact hret _ _ _ _ _ _ (rt1 hh) (rt2 hh) dX5_same_58 hM
        · replace hh := it_f c12 hh
          refine lv_iconst (v := zi (-1)) hx hb dX5_same_57 rfl ?_
          exact hret _ _ _ _ _ _ (rt1 hh) (rt2 hh) dX5_same_58 hM
      · replace hh := it_f c9 hh
        refine lv_iconst (v := zi (-1)) hx hb dX5_same_57 rfl ?_
        exact hret _ _ _ _ _ _ (rt1 hh) (rt2 hh) dX5_same_58 hM
    · replace hh := it_f c6 hh
      refine lv_iconst (v := zi (-1)) hx hb dX5_same_57 rfl ?_
      exact hret _ _ _ _ _ _ (rt1 hh) (rt2 hh) dX5_same_58 hM
  · replace hh := it_f c3 hh
    refine lv_iconst (v := zi (-1)) hx hb dX5_same_57 rfl ?_
    exact hret _ _ _ _ _ _ (rt1 hh) (rt2 hh) dX5_same_58 hM
def M_four_b3 (x1 : Int) (K3 : xS → Int → Option xS) (S : xS) (x2 : Int) : Option xS := gd (r32 (x2)) (if x2 < 0 then (some S) else (gd (r32 (x1) ∧ (0 : Int) ≤ x2 ∧ (x2 : Int) ≤ 31) (gd ((0 : Int) ≤ S.1 10 ∧ (S.1 10 : Int) < 300) (nm (aset S 9 (S.1 10) ((x1 / 2 ^ (Int.toNat x2)) % 2 ^ 8)) (fun S5 => nm (fset S5 10 ((S5.1 10) + 1)) (fun S7 => nm ((x2 + (-8)) : Int) (fun v9 => K3 S7 v9)))))))
def M_four_L3 (x1 : Int) : Nat → xS → Int → Option xS
  | 0 => fun _ _ => none
  | n + 1 => fun S x2 => M_four_b3 x1 (M_four_L3 x1 n) S x2
def M_four (S : xS) (x1 : Int) : Option xS := M_four_L3 x1 FU S (24 : Int)
set_option maxHeartbeats 4000000 in
theorem wM_four (l : Launch) (DM : va_G) (dA : Nat → ClassId) (h : Nat) (S : xS) (x1 : Int) {S1 : xS} (hh : M_four S x1 = some S1) : mt_v l yX5_four cX5_four 3 ({ frames := 1, cells := 0, slots := 0, locals := 12 } : Room) DM dA h [.int (zi x1)] S S1 := by
  refine mo_v (by decide) rfl (Nat.le_of_ble_eq_true rfl) ?_
  intro p e s m args below meth c Q ls X hret hl hM
  have hx := X.1.1
  have hb := X.1.2.1
  have hown := X.1.2.2.2.1
  have hts := X.1.2.2.2.2
  skip
  have hL3 : ∀ (x1 : Int) (n : Nat) (S : xS) (x2 : Int), M_four_L3 x1 n S x2 = some S1 → ∀ (H : Heap) (locs : List Loc) (ls : Array Slot), MX DM dA h S s H locs → lv_has ls 3 [(0, .ref (h)), (1, .int (zi (x1))), (2, .int (zi (x2)))] → W p l e ({ frames := 1, cells := 0, slots := 0, locals := 12 } : Room) s m args below meth c H locs 0 0 Q (F0 m 3 ls []) := by
    intro x1  n
    induction n with
    | zero => intro S x2 hh; exact no_some hh
    | succ n ih =>
      intro S x2 hh H locs ls hM hl
      replace hh : M_four_b3 x1 (M_four_L3 x1 n) S x2 = some S1 := hh
      unfold M_four_b3 at hh
      have hK3 := ih
      refine lv_iload_n hx hb dX5_four_3 rfl (lv_at hl 2 rfl) ?_
      obtain ⟨g2, hh⟩ := gd_inv hh
      refine g_if_lt (tgt := 39) hx hb g2 dX5_four_4 (by decide) (fun c1 => ?_) (fun c1 => ?_)
      · replace hh := it_t c1 hh
        exact hret _ _ _ _ _ (rt0 hh) dX5_four_39 hM
      · replace hh := it_f c1 hh
        refine lv_aload_n hx hb dX5_four_7 rfl (lv_at hl 0 rfl) ?_
        refine mm_get X hM q1183 (mf_9 _ _) dX5_four_8 ?_
        refine lv_aload_n hx hb dX5_four_11 rfl (lv_at hl 0 rfl) ?_
        refine mm_get X hM q1184 (mf_10 _ _) dX5_four_12 ?_
        refine lv_iload_n hx hb dX5_four_15 rfl (lv_at hl 1 rfl) ?_
        refine lv_iload_n hx hb dX5_four_16 rfl (lv_at hl 2 rfl) ?_
        obtain ⟨g3, hh⟩ := gd_inv hh
        refine g_ishr hx hb g3 dX5_four_17 ?_
        refine lv_sipush (v := zi 255) hx hb dX5_four_18 (by decide) ?_
        refine g_mask hx hb 8 (by decide) (by decide) dX5_four_21 ?_
        obtain ⟨g4, hh⟩ := gd_inv hh
        refine mm_iast X hM (ma_9 _ _) g4 dX5_four_22 (fun H locs S5 e6 hM => ?_)
        replace hh := nm_inv hh S5 e6
        refine lv_aload_n hx hb dX5_four_23 rfl (lv_at hl 0 rfl) ?_
        refine lv_dup hx hb dX5_four_24 rfl ?_
        refine mm_get X hM q1184 (mf_10 _ _) dX5_four_25 ?_
        refine lv_iconst (v := zi 1) hx hb dX5_four_28 rfl ?_
        refine g_iadd hx hb dX5_four_29 ?_
        refine mm_put X hM q1184 (mp_10 _ _ _) dX5_four_30 (fun H locs S7 e8 hM => ?_)
        replace hh := nm_inv hh S7 e8
        obtain ⟨v9, e10⟩ : ∃ z : Int, z = x2 + (-8) := ⟨_, rfl⟩
        replace hh := nm_inv hh v9 e10
        refine lv_iinc (v := zi v9) (lv' := [(2, .int (zi (v9))), (0, .ref (h)), (1, .int (zi (x1)))]) hx hb dX5_four_33 hl (k := 2) rfl (by rw [e10]; exact zi_add _ _) (by decide) rfl (fun ls hl => ?_)
        refine lv_goto (tgt := 3) hx hb dX5_four_36 (by decide) ?_
        exact hK3 S7 v9 hh _ _ _ hM (lv_sub hl [1, 2, 0] rfl)
  replace hl : lv_has ls 3 [(0, .ref (h)), (1, .int (zi (x1)))] := hl
  unfold M_four at hh
  refine lv_bipush (v := zi 24) hx hb dX5_four_0 (by decide) ?_
  refine lv_istore_n (lv' := [(2, .int (zi (24))), (0, .ref (h)), (1, .int (zi (x1)))]) hx hb dX5_four_2 rfl hl (by decide) rfl (fun ls hl => ?_)
  exact hL3 x1 FU S (24 : Int) hh _ _ _ hM (lv_sub hl [1, 2, 0] rfl)
def M_feed (S : xS) (x1 : Int) (x2 : Int) (x3 : Int) (x4 : Int) (x5 : Int) : Option (Int × xS) := gd (r32 ((S.1 10) + 20)) (if ((S.1 10) + 20) ≤ 300 then (bd (M_four S x1) (fun S4 => bd (M_four S4 x2) (fun S6 => bd (M_four S6 x3) (fun S8 => bd (M_four S8 x4) (fun S10 => bd (M_four S10 x5) (fun S12 => some ((S12.1 10 : Int), S12))))))) else (some (((-1) : Int), S)))
set_option maxHeartbeats 4000000 in
theorem wM_feed (l : Launch) (DM : va_G) (dA : Nat → ClassId) (h : Nat) (S : xS) (x1 x2 x3 x4 x5 : Int) {r : Int} {S1 : xS} (hh : M_feed S x1 x2 x3 x4 x5 = some (r, S1)) : mt_i l yX5_feed cX5_feed 6 (some .int) ({ frames := 2, cells := 0, slots := 0, locals := 34 } : Room) DM dA h [.int (zi x1), .int (zi x2), .int (zi x3), .int (zi x4), .int (zi x5)] S r S1 := by
  refine mo_i (by decide) rfl (Nat.le_of_ble_eq_true rfl) ?_
  intro p e s m args below meth c Q ls X hret hl hM
  have hx := X.1.1
  have hb := X.1.2.1
  have hown := X.1.2.2.2.1
  have hts := X.1.2.2.2.2
  skip
  replace hl : lv_has ls 6 [(0, .ref (h)), (1, .int (zi (x1))), (2, .int (zi (x2))), (3, .int (zi (x3))), (4, .int (zi (x4))), (5, .int (zi (x5)))] := hl
  unfold M_feed at hh
  refine lv_aload_n hx hb dX5_feed_0 rfl (lv_at hl 0 rfl) ?_
  refine mm_get X hM q1184 (mf_10 _ _) dX5_feed_1 ?_
  refine lv_bipush (v := zi 20) hx hb dX5_feed_4 (by decide) ?_
  refine g_iadd hx hb dX5_feed_6 ?_
  refine lv_sipush (v := zi 300) hx hb dX5_feed_7 (by decide) ?_
  obtain ⟨g2, hh⟩ := gd_inv hh
  refine g_icmp_le (tgt := 15) hx hb ⟨g2, by decide⟩ dX5_feed_10 (by decide) (fun c1 => ?_) (fun c1 => ?_)
  · replace hh := it_t c1 hh
    refine lv_aload_n hx hb dX5_feed_15 rfl (lv_at hl 0 rfl) ?_
    refine lv_iload_n hx hb dX5_feed_16 rfl (lv_at hl 1 rfl) ?_
    obtain ⟨S4, k3, hh⟩ := bd_inv hh
    refine mc_v (rest := []) X hM (wM_four l DM dA h S x1 k3) c5_four.1 c5_four.2 ⟨rfl, rfl⟩ ⟨Nat.le_of_ble_eq_true rfl, Nat.le_of_ble_eq_true rfl⟩ ⟨Nat.zero_le _, Nat.zero_le _⟩ hl.1 (Nat.le_of_ble_eq_true rfl) dX5_feed_17 rfl (fun H locs hM => ?_)
    refine lv_aload_n hx hb dX5_feed_20 rfl (lv_at hl 0 rfl) ?_
    refine lv_iload_n hx hb dX5_feed_21 rfl (lv_at hl 2 rfl) ?_
    obtain ⟨S6, k5, hh⟩ := bd_inv hh
    refine mc_v (rest := []) X hM (wM_four l DM dA h S4 x2 k5) c5_four.1 c5_four.2 ⟨rfl, rfl⟩ ⟨Nat.le_of_ble_eq_true rfl, Nat.le_of_ble_eq_true rfl⟩ ⟨Nat.zero_le _, Nat.zero_le _⟩ hl.1 (Nat.le_of_ble_eq_true rfl) dX5_feed_22 rfl (fun H locs hM => ?_)
    refine lv_aload_n hx hb dX5_feed_25 rfl (lv_at hl 0 rfl) ?_
    refine lv_iload_n hx hb dX5_feed_26 rfl (lv_at hl 3 rfl) ?_
    obtain ⟨S8, k7, hh⟩ := bd_inv hh
    refine mc_v (rest := []) X hM (wM_four l DM dA h S6 x3 k7) c5_four.1 c5_four.2 ⟨rfl, rfl⟩ ⟨Nat.le_of_ble_eq_true rfl, Nat.le_of_ble_eq_true rfl⟩ ⟨Nat.zero_le _, Nat.zero_le _⟩ hl.1 (Nat.le_of_ble_eq_true rfl) dX5_feed_27 rfl (fun H locs hM => ?_)
    refine lv_aload_n hx hb dX5_feed_30 rfl (lv_at hl 0 rfl) ?_
    refine lv_iload hx hb dX5_feed_31 (lv_at hl 4 rfl) ?_
    obtain ⟨S10, k9, hh⟩ := bd_inv hh
    refine mc_v (rest := []) X hM (wM_four l DM dA h S8 x4 k9) c5_four.1 c5_four.2 ⟨rfl, rfl⟩ ⟨Nat.le_of_ble_eq_true rfl, Nat.le_of_ble_eq_true rfl⟩ ⟨Nat.zero_le _, Nat.zero_le _⟩ hl.1 (Nat.le_of_ble_eq_true rfl) dX5_feed_33 rfl (fun H locs hM => ?_)
    refine lv_aload_n hx hb dX5_feed_36 rfl (lv_at hl 0 rfl) ?_
    refine lv_iload hx hb dX5_feed_37 (lv_at hl 5 rfl) ?_
    obtain ⟨S12, k11, hh⟩ := bd_inv hh
    refine mc_v (rest := []) X hM (wM_four l DM dA h S10 x5 k11) c5_four.1 c5_four.2 ⟨rfl, rfl⟩ ⟨Nat.le_of_ble_eq_true rfl, Nat.le_of_ble_eq_true rfl⟩ ⟨Nat.zero_le _, Nat.zero_le _⟩ hl.1 (Nat.le_of_ble_eq_true rfl) dX5_feed_39 rfl (fun H locs hM => ?_)
    refine lv_aload_n hx hb dX5_feed_42 rfl (lv_at hl 0 rfl) ?_
    refine mm_get X hM q1184 (mf_10 _ _) dX5_feed_43 ?_
    exact hret _ _ _ _ _ _ (rt1 hh) (rt2 hh) dX5_feed_46 hM
  · replace hh := it_f c1 hh
    refine lv_iconst (v := zi (-1)) hx hb dX5_feed_13 rfl ?_
    exact hret _ _ _ _ _ _ (rt1 hh) (rt2 hh) dX5_feed_14 hM
def M_end (S : xS) (x1 : Int) : Option (Int × xS) := bd (M_isIn x1 (0 : Int) (S.1 10)) (fun v2 => if v2 = true then (nm (fset S 10 (x1)) (fun S4 => some ((x1 : Int), S4))) else (some (((-1) : Int), S)))
set_option maxHeartbeats 4000000 in
theorem wM_end (l : Launch) (DM : va_G) (dA : Nat → ClassId) (h : Nat) (S : xS) (x1 : Int) {r : Int} {S1 : xS} (hh : M_end S x1 = some (r, S1)) : mt_i l yX5_end cX5_end 2 (some .int) ({ frames := 2, cells := 0, slots := 0, locals := 34 } : Room) DM dA h [.int (zi x1)] S r S1 := by
  refine mo_i (by decide) rfl (Nat.le_of_ble_eq_true rfl) ?_
  intro p e s m args below meth c Q ls X hret hl hM
  have hx := X.1.1
  have hb := X.1.2.1
  have hown := X.1.2.2.2.1
  have hts := X.1.2.2.2.2
  skip
  replace hl : lv_has ls 2 [(0, .ref (h)), (1, .int (zi (x1)))] := hl
  unfold M_end at hh
  refine lv_iload_n hx hb dX5_end_0 rfl (lv_at hl 1 rfl) ?_
  refine lv_iconst (v := zi 0) hx hb dX5_end_1 rfl ?_
  refine lv_aload_n hx hb dX5_end_2 rfl (lv_at hl 0 rfl) ?_
  refine mm_get X hM q1184 (mf_10 _ _) dX5_end_3 ?_
  obtain ⟨v2, k1, hh⟩ := bd_inv hh
  refine mcs_z (rest := []) X hM (wM_isIn l x1 (0 : Int) (S.1 10) k1) c5_isIn.1 c5_isIn.2 ⟨rfl, rfl⟩ ⟨Nat.le_of_ble_eq_true rfl, Nat.le_of_ble_eq_true rfl⟩ ⟨Nat.zero_le _, Nat.zero_le _⟩ hl.1 (Nat.le_of_ble_eq_true rfl) dX5_end_6 rfl (fun H locs hM => ?_)
  refine g_bif_ne (tgt := 14) hx hb dX5_end_9 (by decide) (fun c3 => ?_) (fun c3 => ?_)
  · replace hh := it_t c3 hh
    refine lv_aload_n hx hb dX5_end_14 rfl (lv_at hl 0 rfl) ?_
    refine lv_iload_n hx hb dX5_end_15 rfl (lv_at hl 1 rfl) ?_
    refine mm_put X hM q1184 (mp_10 _ _ _) dX5_end_16 (fun H locs S4 e5 hM => ?_)
    replace hh := nm_inv hh S4 e5
    refine lv_iload_n hx hb dX5_end_19 rfl (lv_at hl 1 rfl) ?_
    exact hret _ _ _ _ _ _ (rt1 hh) (rt2 hh) dX5_end_20 hM
  · replace hh := it_f c3 hh
    refine lv_iconst (v := zi (-1)) hx hb dX5_end_12 rfl ?_
    exact hret _ _ _ _ _ _ (rt1 hh) (rt2 hh) dX5_end_13 hM
def M_see (S : xS) (x1 : Int) : Option Int := gd (r32 (x1) ∧ r32 (S.1 10)) (if x1 < (S.1 10) then (gd ((0 : Int) ≤ x1 ∧ (x1 : Int) < 300) (some ((S.2 9 x1 : Int)))) else (some (((-1) : Int))))
set_option maxHeartbeats 4000000 in
theorem wM_see (l : Launch) (DM : va_G) (dA : Nat → ClassId) (h : Nat) (S : xS) (x1 : Int) {r : Int} (hh : M_see S x1 = some r) : mt_i l yX5_see cX5_see 2 (some .int) ({ frames := 1, cells := 0, slots := 0, locals := 12 } : Room) DM dA h [.int (zi x1)] S r S := by
  refine mo_i (by decide) rfl (Nat.le_of_ble_eq_true rfl) ?_
  intro p e s m args below meth c Q ls X hret hl hM
  have hx := X.1.1
  have hb := X.1.2.1
  have hown := X.1.2.2.2.1
  have hts := X.1.2.2.2.2
  skip
  replace hl : lv_has ls 2 [(0, .ref (h)), (1, .int (zi (x1)))] := hl
  unfold M_see at hh
  refine lv_iload_n hx hb dX5_see_0 rfl (lv_at hl 1 rfl) ?_
  refine lv_aload_n hx hb dX5_see_1 rfl (lv_at hl 0 rfl) ?_
  refine mm_get X hM q1184 (mf_10 _ _) dX5_see_2 ?_
  obtain ⟨g2, hh⟩ := gd_inv hh
  refine g_icmp_ge (tgt := 17) hx hb g2 dX5_see_5 (by decide) (fun c1 => ?_) (fun c1 => ?_)
  · replace hh := it_t c1 hh
    refine lv_aload_n hx hb dX5_see_8 rfl (lv_at hl 0 rfl) ?_
    refine mm_get X hM q1183 (mf_9 _ _) dX5_see_9 ?_
    refine lv_iload_n hx hb dX5_see_12 rfl (lv_at hl 1 rfl) ?_
    obtain ⟨g3, hh⟩ := gd_inv hh
    refine mm_iald X hM (ma_9 _ _) g3 dX5_see_13 ?_
    refine lv_goto (tgt := 18) hx hb dX5_see_14 (by decide) ?_
    exact hret _ _ _ _ _ _ (rt0 hh) rfl dX5_see_18 hM
  · replace hh := it_f c1 hh
    refine lv_iconst (v := zi (-1)) hx hb dX5_see_17 rfl ?_
    exact hret _ _ _ _ _ _ (rt0 hh) rfl dX5_see_18 hM
def M_isDigit (x0 : Int) : Option Bool := bd (M_isIn x0 (48 : Int) (57 : Int)) (fun v2 => some (v2))
set_option maxHeartbeats 4000000 in
theorem wM_isDigit (l : Launch) (x0 : Int) {r : Bool} (hh : M_isDigit x0 = some r) : ms_z l yX5_isDigit cX5_isDigit 1 (some .boolean) ({ frames := 2, cells := 0, slots := 0, locals := 34 } : Room) [.int (zi x0)] r := by
  refine mo_sz (by decide) rfl (Nat.le_of_ble_eq_true rfl) ?_
  intro p e s m args below meth c Q ls X hret hl hM
  have hx := X.1
  have hb := X.2.1
  have hown := X.2.2.2.1
  have hts := X.2.2.2.2
  skip
  replace hl : lv_has ls 1 [(0, .int (zi (x0)))] := hl
  unfold M_isDigit at hh
  refine lv_iload_n hx hb dX5_isDigit_0 rfl (lv_at hl 0 rfl) ?_
  refine lv_bipush (v := zi 48) hx hb dX5_isDigit_1 (by decide) ?_
  refine lv_bipush (v := zi 57) hx hb dX5_isDigit_3 (by decide) ?_
  obtain ⟨v2, k1, hh⟩ := bd_inv hh
  refine scs_z (rest := []) X hM (wM_isIn l x0 (48 : Int) (57 : Int) k1) c5_isIn.1 c5_isIn.2 ⟨rfl, rfl⟩ ⟨Nat.le_of_ble_eq_true rfl, Nat.le_of_ble_eq_true rfl⟩ ⟨Nat.zero_le _, Nat.zero_le _⟩ hl.1 (Nat.le_of_ble_eq_true rfl) dX5_isDigit_5 rfl (fun H locs hM => ?_)
  exact hret _ _ _ _ _ (rt0 hh) dX5_isDigit_8 hM
def M_isLetter (x0 : Int) : Option Bool := bd (M_isIn x0 (97 : Int) (122 : Int)) (fun v2 => if v2 = true then (some (true)) else (bd (M_isIn x0 (65 : Int) (90 : Int)) (fun v5 => if v5 = true then (some (true)) else (some (false)))))
set_option maxHeartbeats 4000000 in
theorem wM_isLetter (l : Launch) (x0 : Int) {r : Bool} (hh : M_isLetter x0 = some r) : ms_z l yX5_isLetter cX5_isLetter 1 (some .boolean) ({ frames := 2, cells := 0, slots := 0, locals := 34 } : Room) [.int (zi x0)] r := by
  refine mo_sz (by decide) rfl (Nat.le_of_ble_eq_true rfl) ?_
  intro p e s m args below meth c Q ls X hret hl hM
  have hx := X.1
  have hb := X.2.1
  have hown := X.2.2.2.1
  have hts := X.2.2.2.2
  skip
  replace hl : lv_has ls 1 [(0, .int (zi (x0)))] := hl
  unfold M_isLetter at hh
  refine lv_iload_n hx hb dX5_isLetter_0 rfl (lv_at hl 0 rfl) ?_
  refine lv_bipush (v := zi 97) hx hb dX5_isLetter_1 (by decide) ?_
  refine lv_bipush (v := zi 122) hx hb dX5_isLetter_3 (by decide) ?_
  obtain ⟨v2, k1, hh⟩ := bd_inv hh
  refine scs_z (rest := []) X hM (wM_isIn l x0 (97 : Int) (122 : Int) k1) c5_isIn.1 c5_isIn.2 ⟨rfl, rfl⟩ ⟨Nat.le_of_ble_eq_true rfl, Nat.le_of_ble_eq_true rfl⟩ ⟨Nat.zero_le _, Nat.zero_le _⟩ hl.1 (Nat.le_of_ble_eq_true rfl) dX5_isLetter_5 rfl (fun H locs hM => ?_)
  refine g_bif_ne (tgt := 22) hx hb dX5_isLetter_8 (by decide) (fun c3 => ?_) (fun c3 => ?_)
  · replace hh := it_t c3 hh
    refine lv_iconst (v := zi 1) hx hb dX5_isLetter_22 rfl ?_
    refine lv_goto (tgt := 27) hx hb dX5_isLetter_23 (by decide) ?_
    refine W.eq (g2 := F0 m 27 ls [.int (zi (bz true))]) rfl ?_
    exact hret _ _ _ _ _ (rt0 hh) dX5_isLetter_27 hM
  · replace hh := it_f c3 hh
    refine lv_iload_n hx hb dX5_isLetter_11 rfl (lv_at hl 0 rfl) ?_
    refine lv_bipush (v := zi 65) hx hb dX5_isLetter_12 (by decide) ?_
    refine lv_bipush (v := zi 90) hx hb dX5_isLetter_14 (by decide) ?_
    obtain ⟨v5, k4, hh⟩ := bd_inv hh
    refine scs_z (rest := []) X hM (wM_isIn l x0 (65 : Int) (90 : Int) k4) c5_isIn.1 c5_isIn.2 ⟨rfl, rfl⟩ ⟨Nat.le_of_ble_eq_true rfl, Nat.le_of_ble_eq_true rfl⟩ ⟨Nat.zero_le _, Nat.zero_le _⟩ hl.1 (Nat.le_of_ble_eq_true rfl) dX5_isLetter_16 rfl (fun H locs hM => ?_)
    refine g_bif_eq (tgt := 26) hx hb dX5_isLetter_19 (by decide) (fun c6 => ?_) (fun c6 => ?_)
    · replace hh := it_t c6 hh
      refine lv_iconst (v := zi 1) hx hb dX5_isLetter_22 rfl ?_
      refine lv_goto (tgt := 27) hx hb dX5_isLetter_23 (by decide) ?_
      refine W.eq (g2 := F0 m 27 ls [.int (zi (bz true))]) rfl ?_
      exact hret _ _ _ _ _ (rt0 hh) dX5_isLetter_27 hM
    · replace hh := it_f c6 hh
      refine lv_iconst (v := zi 0) hx hb dX5_isLetter_26 rfl ?_
      refine W.eq (g2 := F0 m 27 ls [.int (zi (bz false))]) rfl ?_
      exact hret _ _ _ _ _ (rt0 hh) dX5_isLetter_27 hM
def M_nextToken_B26 (K0 : xS → Option xS) (S : xS) : Option xS := nm (fset S 13 ((S.1 13) + 1)) (fun S5 => K0 S5)
def M_nextToken_B131 (K85 : xS → Option xS) (S : xS) : Option xS := nm (fset S 13 ((S.1 13) + 1)) (fun S37 => K85 S37)
def M_nextToken_b85 (K85 : xS → Option xS) (S : xS) : Option xS := bd (M_see S (S.1 13)) (fun v27 => bd (M_isDigit v27) (fun v29 => if v29 = true then (gd (r32 (S.1 16)) (if (S.1 16) < 100000 then (bd (M_see S (S.1 13)) (fun v34 => nm (fset S 16 (((10 * (S.1 16)) + v34) - 48)) (fun S35 => M_nextToken_B131 K85 S35))) else (M_nextToken_B131 K85 S))) else (some S)))
def M_nextToken_L85 : Nat → xS → Option xS
  | 0 => fun _ => none
  | n + 1 => fun S => M_nextToken_b85  (M_nextToken_L85  n) S
def M_nextToken_B210 (K161 : xS → Option xS) (S : xS) : Option xS := nm (fset S 13 ((S.1 13) + 1)) (fun S60 => K161 S60)
def M_nextToken_b161 (K161 : xS → Option xS) (S : xS) : Option xS := bd (M_see S (S.1 13)) (fun v47 => bd (M_isLetter v47) (fun v49 => if v49 = true then (gd (r32 ((S.1 13) - (S.1 14))) (if ((S.1 13) - (S.1 14)) < 6 then (gd ((0 : Int) ≤ S.1 17 ∧ ((0 : Int) ≤ 8 ∧ (8 : Int) ≤ 63) ∧ (S.1 17) * 2 ^ (Int.toNat 8) < 18446744073709551616) (bd (M_see S (S.1 13)) (fun v55 => gd (r32 (v55)) (gd ((0 : Int) ≤ (S.1 17) * 2 ^ (Int.toNat 8) ∧ (0 : Int) ≤ v55) (nm (fset S 17 (zor ((S.1 17) * 2 ^ (Int.toNat 8)) v55)) (fun S58 => M_nextToken_B210 K161 S58)))))) else (M_nextToken_B210 K161 S))) else (gd (r32 ((S.1 13) - (S.1 14))) (if ((S.1 13) - (S.1 14)) ≤ 6 then (some S) else (nm (fset S 17 (0)) (fun S64 => some S64))))))
def M_nextToken_L161 : Nat → xS → Option xS
  | 0 => fun _ => none
  | n + 1 => fun S => M_nextToken_b161  (M_nextToken_L161  n) S
def M_nextToken_B393 (S : xS) (t0 : Int) : Option xS := nm (fset S 15 (t0)) (fun S84 => some S84)
def M_nextToken_B358 (S : xS) (x1 : Int) : Option xS := bd (M_see S (S.1 13)) (fun v77 => gd (r32 (v77)) (if v77 = 61 then (nm (fset S 13 ((S.1 13) + 1)) (fun S80 => gd (r32 (x1)) (if x1 = 60 then (M_nextToken_B393 S80 (4 : Int)) else (M_nextToken_B393 S80 (5 : Int))))) else (some S)))
def M_nextToken_B343 (S : xS) (x1 : Int) (t0 : Int) : Option xS := nm (fset S 15 (t0)) (fun S72 => gd (r32 (x1)) (if x1 = 60 then (M_nextToken_B358 S72 x1) else (gd (r32 (x1)) (if x1 = 62 then (M_nextToken_B358 S72 x1) else (some S72)))))
def M_nextToken_B332 (S : xS) (x1 : Int) (t0 : Int) : Option xS := gd (r32 (t0)) (if t0 = 0 then (M_nextToken_B343 S x1 (3 : Int)) else (M_nextToken_B343 S x1 x1))
def M_nextToken_B327 (S : xS) (x1 : Int) : Option xS := M_nextToken_B332 S x1 (1 : Int)
def M_nextToken_b0 (K0 : xS → Option xS) (S : xS) : Option xS := bd (M_see S (S.1 13)) (fun v2 => gd (r32 (v2)) (if v2 = 32 then (M_nextToken_B26 K0 S) else (bd (M_see S (S.1 13)) (fun v8 => gd (r32 (v8)) (if v8 = 10 then (M_nextToken_B26 K0 S) else (nm (fset S 14 (S.1 13)) (fun S11 => bd (M_see S11 (S11.1 13)) (fun v14 => gd (r32 (v14)) (if v14 < 0 then (nm (fset S11 15 (0)) (fun S17 => some S17)) else (bd (M_isDigit v14) (fun v20 => if v20 = true then (nm (fset S11 15 (1)) (fun S22 => nm (fset S22 16 (0)) (fun S24 => M_nextToken_L85 FU S24))) else (bd (M_isLetter v14) (fun v40 => if v40 = true then (nm (fset S11 15 (2)) (fun S42 => nm (fset S42 17 (0)) (fun S44 => M_nextToken_L161 FU S44))) else (nm (fset S11 13 ((S11.1 13) + 1)) (fun S66 => gd (r32 (v14)) (if v14 = 60 then (M_nextToken_B327 S66 v14) else (gd (r32 (v14)) (if v14 = 62 then (M_nextToken_B327 S66 v14) else (gd (r32 (v14)) (if v14 = 61 then (M_nextToken_B327 S66 v14) else (gd (r32 (v14)) (if v14 = 35 then (M_nextToken_B327 S66 v14) else (gd (r32 (v14)) (if v14 = 43 then (M_nextToken_B327 S66 v14) else (gd (r32 (v14)) (if v14 = 45 then (M_nextToken_B327 S66 v14) else (gd (r32 (v14)) (if v14 = 42 then (M_nextToken_B327 S66 v14) else (gd (r32 (v14)) (if v14 = 47 then (M_nextToken_B327 S66 v14) else (gd (r32 (v14)) (if v14 = 40 then (M_nextToken_B327 S66 v14) else (gd (r32 (v14)) (if v14 = 41 then (M_nextToken_B327 S66 v14) else (gd (r32 (v14)) (if v14 = 44 then (M_nextToken_B327 S66 v14) else (gd (r32 (v14)) (if v14 = 59 then (M_nextToken_B327 S66 v14) else (M_nextToken_B332 S66 v14 (0 : Int))))))))))))))))))))))))))))))))))))))))
def M_nextToken_L0 : Nat → xS → Option xS
  | 0 => fun _ => none
  | n + 1 => fun S => M_nextToken_b0  (M_nextToken_L0  n) S
def M_nextToken (S : xS) : Option xS := M_nextToken_L0 FU S
set_option maxHeartbeats 4000000 in
theorem wM_nextToken (l : Launch) (DM : va_G) (dA : Nat → ClassId) (h : Nat) (S : xS) {S1 : xS} (hh : M_nextToken S  = some S1) : mt_v l yX5_nextToken cX5_nextToken 3 ({ frames := 3, cells := 0, slots := 0, locals := 54 } : Room) DM dA h [] S S1 := by
  refine mo_v (by decide) rfl (Nat.le_of_ble_eq_true rfl) ?_
  intro p e s m args below meth c Q ls X hret hl hM
  have hx := X.1.1
  have hb := X.1.2.1
  have hown := X.1.2.2.2.1
  have hts := X.1.2.2.2.2
  skip
  have hB26 : ∀ (K0 : xS → Option xS) (hK0 : (∀ (S : xS), K0 S = some S1 → ∀ (H : Heap) (locs : List Loc) (ls : Array Slot), MX DM dA h S s H locs → lv_has ls 3 [(0, .ref (h))] → W p l e ({ frames := 3, cells := 0, slots := 0, locals := 54 } : Room) s m args below meth c H locs 0 0 Q (F0 m 0 ls []))) (S : xS), M_nextToken_B26 K0 S = some S1 → ∀ (H : Heap) (locs : List Loc) (ls : Array Slot), MX DM dA h S s H locs → lv_has ls 3 [(0, .ref (h))] → W p l e ({ frames := 3, cells := 0, slots := 0, locals := 54 } : Room) s m args below meth c H locs 0 0 Q (F0 m 26 ls []) := by
    intro  K0 hK0 S hh H locs ls hM hl
    unfold M_nextToken_B26 at hh
    refine lv_aload_n hx hb dX5_nextToken_26 rfl (lv_at hl 0 rfl) ?_
    refine lv_dup hx hb dX5_nextToken_27 rfl ?_
    refine mm_get X hM q1187 (mf_13 _ _) dX5_nextToken_28 ?_
    refine lv_iconst (v := zi 1) hx hb dX5_nextToken_31 rfl ?_
    refine g_iadd hx hb dX5_nextToken_32 ?_
    refine mm_put X hM q1187 (mp_13 _ _ _) dX5_nextToken_33 (fun H locs S5 e6 hM => ?_)
    replace hh := nm_inv hh S5 e6
    refine lv_goto (tgt := 0) hx hb dX5_nextToken_36 (by decide) ?_
    exact hK0 S5 hh _ _ _ hM (lv_sub hl [0] rfl)
  have hB131 : ∀ (K85 : xS → Option xS) (hK85 : (∀ (S : xS), K85 S = some S1 → ∀ (H : Heap) (locs : List Loc) (ls : Array Slot), MX DM dA h S s H locs → lv_has ls 3 [(0, .ref (h))] → W p l e ({ frames := 3, cells := 0, slots := 0, locals := 54 } : Room) s m args below meth c H locs 0 0 Q (F0 m 85 ls []))) (S : xS), M_nextToken_B131 K85 S = some S1 → ∀ (H : Heap) (locs : List Loc) (ls : Array Slot), MX DM dA h S s H locs → lv_has ls 3 [(0, .ref (h))] → W p l e ({ frames := 3, cells := 0, slots := 0, locals := 54 } : Room) s m args below meth c H locs 0 0 Q (F0 m 131 ls []) := by
    intro  K85 hK85 S hh H locs ls hM hl
    unfold M_nextToken_B131 at hh
    refine lv_aload_n hx hb dX5_nextToken_131 rfl (lv_at hl 0 rfl) ?_
    refine lv_dup hx hb dX5_nextToken_132 rfl ?_
    refine mm_get X hM q1187 (mf_13 _ _) dX5_nextToken_133 ?_
    refine lv_iconst (v := zi 1) hx hb dX5_nextToken_136 rfl ?_
    refine g_iadd hx hb dX5_nextToken_137 ?_
    refine mm_put X hM q1187 (mp_13 _ _ _) dX5_nextToken_138 (fun H locs S37 e38 hM => ?_)
    replace hh := nm_inv hh S37 e38
    refine lv_goto (tgt := 85) hx hb dX5_nextToken_141 (by decide) ?_
    exact hK85 S37 hh _ _ _ hM (lv_sub hl [0] rfl)
  have hL85 : ∀ (n : Nat) (S : xS), M_nextToken_L85 n S = some S1 → ∀ (H : Heap) (locs : List Loc) (ls : Array Slot), MX DM dA h S s H locs → lv_has ls 3 [(0, .ref (h))] → W p l e ({ frames := 3, cells := 0, slots := 0, locals := 54 } : Room) s m args below meth c H locs 0 0 Q (F0 m 85 ls []) := by
    intro   n
    induction n with
    | zero => intro S hh; exact no_some hh
    | succ n ih =>
      intro S hh H locs ls hM hl
      replace hh : M_nextToken_b85 (M_nextToken_L85 n) S = some S1 := hh
      unfold M_nextToken_b85 at hh
      have hK85 := ih
      refine lv_aload_n hx hb dX5_nextToken_85 rfl (lv_at hl 0 rfl) ?_
      refine lv_aload_n hx hb dX5_nextToken_86 rfl (lv_at hl 0 rfl) ?_
      refine mm_get X hM q1187 (mf_13 _ _) dX5_nextToken_87 ?_
      obtain ⟨v27, k26, hh⟩ := bd_inv hh
      refine mc_i (rest := []) X hM (wM_see l DM dA h S (S.1 13) k26) c5_see.1 c5_see.2 ⟨rfl, rfl⟩ ⟨Nat.le_of_ble_eq_true rfl, Nat.le_of_ble_eq_true rfl⟩ ⟨Nat.zero_le _, Nat.zero_le _⟩ hl.1 (Nat.le_of_ble_eq_true rfl) dX5_nextToken_90 rfl (fun H locs hM => ?_)
      obtain ⟨v29, k28, hh⟩ := bd_inv hh
      refine mcs_z (rest := []) X hM (wM_isDigit l v27 k28) c5_isDigit.1 c5_isDigit.2 ⟨rfl, rfl⟩ ⟨Nat.le_of_ble_eq_true rfl, Nat.le_of_ble_eq_true rfl⟩ ⟨Nat.zero_le _, Nat.zero_le _⟩ hl.1 (Nat.le_of_ble_eq_true rfl) dX5_nextToken_93 rfl (fun H locs hM => ?_)
      refine g_bif_eq (tgt := 396) hx hb dX5_nextToken_96 (by decide) (fun c30 => ?_) (fun c30 => ?_)
      · replace hh := it_t c30 hh
        refine lv_aload_n hx hb dX5_nextToken_99 rfl (lv_at hl 0 rfl) ?_
        refine mm_get X hM q1190 (mf_16 _ _) dX5_nextToken_100 ?_
        refine g_ldc (v := 100000) (z := 100000) hx hb (by decide) hown (hts _ q1448) dX5_nextToken_103 ?_
        obtain ⟨g32, hh⟩ := gd_inv hh
        refine g_icmp_ge (tgt := 131) hx hb ⟨g32, by decide⟩ dX5_nextToken_105 (by decide) (fun c31 => ?_) (fun c31 => ?_)
        · replace hh := it_t c31 hh
          refine lv_aload_n hx hb dX5_nextToken_108 rfl (lv_at hl 0 rfl) ?_
          refine lv_bipush (v := zi 10) hx hb dX5_nextToken_109 (by decide) ?_
          refine lv_aload_n hx hb dX5_nextToken_111 rfl (lv_at hl 0 rfl) ?_
          refine mm_get X hM q1190 (mf_16 _ _) dX5_nextToken_112 ?_
          refine g_imul hx hb dX5_nextToken_115 ?_
          refine lv_aload_n hx hb dX5_nextToken_116 rfl (lv_at hl 0 rfl) ?_
          refine lv_aload_n hx hb dX5_nextToken_117 rfl (lv_at hl 0 rfl) ?_
          refine mm_get X hM q1187 (mf_13 _ _) dX5_nextToken_118 ?_
          obtain ⟨v34, k33, hh⟩ := bd_inv hh
          refine mc_i (rest := [.int (zi (10 * (S.1 16))), .ref (h)]) X hM (wM_see l DM dA h S (S.1 13) k33) c5_see.1 c5_see.2 ⟨rfl, rfl⟩ ⟨Nat.le_of_ble_eq_true rfl, Nat.le_of_ble_eq_true rfl⟩ ⟨Nat.zero_le _, Nat.zero_le _⟩ hl.1 (Nat.le_of_ble_eq_true rfl) dX5_nextToken_121 rfl (fun H locs hM => ?_)
          refine g_iadd hx hb dX5_nextToken_124 ?_
          refine lv_bipush (v := zi 48) hx hb dX5_nextToken_125 (by decide) ?_
          refine g_isub hx hb dX5_nextToken_127 ?_
          refine mm_put X hM q1190 (mp_16 _ _ _) dX5_nextToken_128 (fun H locs S35 e36 hM => ?_)
          replace hh := nm_inv hh S35 e36
          exact hB131 _ hK85 S35 hh _ _ _ hM (lv_sub hl [0] rfl)
        · replace hh := it_f c31 hh
          exact hB131 _ hK85 S hh _ _ _ hM (lv_sub hl [0] rfl)
      · replace hh := it_f c30 hh
        exact hret _ _ _ _ _ (rt0 hh) dX5_nextToken_396 hM
  have hB210 : ∀ (K161 : xS → Option xS) (hK161 : (∀ (S : xS), K161 S = some S1 → ∀ (H : Heap) (locs : List Loc) (ls : Array Slot), MX DM dA h S s H locs → lv_has ls 3 [(0, .ref (h))] → W p l e ({ frames := 3, cells := 0, slots := 0, locals := 54 } : Room) s m args below meth c H locs 0 0 Q (F0 m 161 ls []))) (S : xS), M_nextToken_B210 K161 S = some S1 → ∀ (H : Heap) (locs : List Loc) (ls : Array Slot), MX DM dA h S s H locs → lv_has ls 3 [(0, .ref (h))] → W p l e ({ frames := 3, cells := 0, slots := 0, locals := 54 } : Room) s m args below meth c H locs 0 0 Q (F0 m 210 ls []) := by
    intro  K161 hK161 S hh H locs ls hM hl
    unfold M_nextToken_B210 at hh
    refine lv_aload_n hx hb dX5_nextToken_210 rfl (lv_at hl 0 rfl) ?_
    refine lv_dup hx hb dX5_nextToken_211 rfl ?_
    refine mm_get X hM q1187 (mf_13 _ _) dX5_nextToken_212 ?_
    refine lv_iconst (v := zi 1) hx hb dX5_nextToken_215 rfl ?_
    refine g_iadd hx hb dX5_nextToken_216 ?_
    refine mm_put X hM q1187 (mp_13 _ _ _) dX5_nextToken_217 (fun H locs S60 e61 hM => ?_)
    replace hh := nm_inv hh S60 e61
    refine lv_goto (tgt := 161) hx hb dX5_nextToken_220 (by decide) ?_
    exact hK161 S60 hh _ _ _ hM (lv_sub hl [0] rfl)
  have hL161 : ∀ (n : Nat) (S : xS), M_nextToken_L161 n S = some S1 → ∀ (H : Heap) (locs : List Loc) (ls : Array Slot), MX DM dA h S s H locs → lv_has ls 3 [(0, .ref (h))] → W p l e ({ frames := 3, cells := 0, slots := 0, locals := 54 } : Room) s m args below meth c H locs 0 0 Q (F0 m 161 ls []) := by
    intro   n
    induction n with
    | zero => intro S hh; exact no_some hh
    | succ n ih =>
      intro S hh H locs ls hM hl
      replace hh : M_nextToken_b161 (M_nextToken_L161 n) S = some S1 := hh
      unfold M_nextToken_b161 at hh
      have hK161 := ih
      refine lv_aload_n hx hb dX5_nextToken_161 rfl (lv_at hl 0 rfl) ?_
      refine lv_aload_n hx hb dX5_nextToken_162 rfl (lv_at hl 0 rfl) ?_
      refine mm_get X hM q1187 (mf_13 _ _) dX5_nextToken_163 ?_
      obtain ⟨v47, k46, hh⟩ := bd_inv hh
      refine mc_i (rest := []) X hM (wM_see l DM dA h S (S.1 13) k46) c5_see.1 c5_see.2 ⟨rfl, rfl⟩ ⟨Nat.le_of_ble_eq_true rfl, Nat.le_of_ble_eq_true rfl⟩ ⟨Nat.zero_le _, Nat.zero_le _⟩ hl.1 (Nat.le_of_ble_eq_true rfl) dX5_nextToken_166 rfl (fun H locs hM => ?_)
      obtain ⟨v49, k48, hh⟩ := bd_inv hh
      refine mcs_z (rest := []) X hM (wM_isLetter l v47 k48) c5_isLetter.1 c5_isLetter.2 ⟨rfl, rfl⟩ ⟨Nat.le_of_ble_eq_true rfl, Nat.le_of_ble_eq_true rfl⟩ ⟨Nat.zero_le _, Nat.zero_le _⟩ hl.1 (Nat.le_of_ble_eq_true rfl) dX5_nextToken_169 rfl (fun H locs hM => ?_)
      refine g_bif_eq (tgt := 223) hx hb dX5_nextToken_172 (by decide) (fun c50 => ?_) (fun c50 => ?_)
      · replace hh := it_t c50 hh
        refine lv_aload_n hx hb dX5_nextToken_175 rfl (lv_at hl 0 rfl) ?_
        refine mm_get X hM q1187 (mf_13 _ _) dX5_nextToken_176 ?_
        refine lv_aload_n hx hb dX5_nextToken_179 rfl (lv_at hl 0 rfl) ?_
        refine mm_get X hM q1188 (mf_14 _ _) dX5_nextToken_180 ?_
        refine g_isub hx hb dX5_nextToken_183 ?_
        refine lv_bipush (v := zi 6) hx hb dX5_nextToken_184 (by decide) ?_
        obtain ⟨g52, hh⟩ := gd_inv hh
        refine g_icmp_ge (tgt := 210) hx hb ⟨g52, by decide⟩ dX5_nextToken_186 (by decide) (fun c51 => ?_) (fun c51 => ?_)
        · replace hh := it_t c51 hh
          refine lv_aload_n hx hb dX5_nextToken_189 rfl (lv_at hl 0 rfl) ?_
          refine lv_aload_n hx hb dX5_nextToken_190 rfl (lv_at hl 0 rfl) ?_
          refine mm_get X hM q1191 (mf_17 _ _) dX5_nextToken_191 ?_
          refine lv_bipush (v := zi 8) hx hb dX5_nextToken_194 (by decide) ?_
          obtain ⟨g53, hh⟩ := gd_inv hh
          refine g_lshl hx hb g53 dX5_nextToken_196 ?_
          refine lv_aload_n hx hb dX5_nextToken_197 rfl (lv_at hl 0 rfl) ?_
          refine lv_aload_n hx hb dX5_nextToken_198 rfl (lv_at hl 0 rfl) ?_
          refine mm_get X hM q1187 (mf_13 _ _) dX5_nextToken_199 ?_
          obtain ⟨v55, k54, hh⟩ := bd_inv hh
          refine mc_i (rest := [.long (zl ((S.1 17) * 2 ^ (Int.toNat 8))), .ref (h)]) X hM (wM_see l DM dA h S (S.1 13) k54) c5_see.1 c5_see.2 ⟨rfl, rfl⟩ ⟨Nat.le_of_ble_eq_true rfl, Nat.le_of_ble_eq_true rfl⟩ ⟨Nat.zero_le _, Nat.zero_le _⟩ hl.1 (Nat.le_of_ble_eq_true rfl) dX5_nextToken_202 rfl (fun H locs hM => ?_)
          obtain ⟨g56, hh⟩ := gd_inv hh
          refine g_i2l hx hb g56 dX5_nextToken_205 ?_
          obtain ⟨g57, hh⟩ := gd_inv hh
          refine g_lor hx hb g57 dX5_nextToken_206 ?_
          refine mm_put X hM q1191 (mp_17 _ _ _) dX5_nextToken_207 (fun H locs S58 e59 hM => ?_)
          replace hh := nm_inv hh S58 e59
          exact hB210 _ hK161 S58 hh _ _ _ hM (lv_sub hl [0] rfl)
        · replace hh := it_f c51 hh
          exact hB210 _ hK161 S hh _ _ _ hM (lv_sub hl [0] rfl)
      · replace hh := it_f c50 hh
        refine lv_aload_n hx hb dX5_nextToken_223 rfl (lv_at hl 0 rfl) ?_
        refine mm_get X hM q1187 (mf_13 _ _) dX5_nextToken_224 ?_
        refine lv_aload_n hx hb dX5_nextToken_227 rfl (lv_at hl 0 rfl) ?_
        refine mm_get X hM q1188 (mf_14 _ _) dX5_nextToken_228 ?_
        refine g_isub hx hb dX5_nextToken_231 ?_
        refine lv_bipush (v := zi 6) hx hb dX5_nextToken_232 (by decide) ?_
        obtain ⟨g63, hh⟩ := gd_inv hh
        refine g_icmp_le (tgt := 396) hx hb ⟨g63, by decide⟩ dX5_nextToken_234 (by decide) (fun c62 => ?_) (fun c62 => ?_)
        · replace hh := it_t c62 hh
          exact hret _ _ _ _ _ (rt0 hh) dX5_nextToken_396 hM
        · replace hh := it_f c62 hh
          refine lv_aload_n hx hb dX5_nextToken_237 rfl (lv_at hl 0 rfl) ?_
          refine lv_lconst (v := zl 0) hx hb dX5_nextToken_238 (by decide) ?_
          refine mm_put X hM q1191 (mp_17 _ _ _) dX5_nextToken_239 (fun H locs S64 e65 hM => ?_)
          replace hh := nm_inv hh S64 e65
          refine lv_goto (tgt := 396) hx hb dX5_nextToken_242 (by decide) ?_
          exact hret _ _ _ _ _ (rt0 hh) dX5_nextToken_396 hM
  have hB393 : ∀ (t0 : Int) (S : xS), M_nextToken_B393 S t0 = some S1 → ∀ (H : Heap) (locs : List Loc) (ls : Array Slot), MX DM dA h S s H locs → lv_has ls 3 [] → W p l e ({ frames := 3, cells := 0, slots := 0, locals := 54 } : Room) s m args below meth c H locs 0 0 Q (F0 m 393 ls [.int (zi (t0)), .ref (h)]) := by
    intro t0  S hh H locs ls hM hl
    unfold M_nextToken_B393 at hh
    refine mm_put X hM q1189 (mp_15 _ _ _) dX5_nextToken_393 (fun H locs S84 e85 hM => ?_)
    replace hh := nm_inv hh S84 e85
    exact hret _ _ _ _ _ (rt0 hh) dX5_nextToken_396 hM
  have hB358 : ∀ (x1 : Int) (S : xS), M_nextToken_B358 S x1 = some S1 → ∀ (H : Heap) (locs : List Loc) (ls : Array Slot), MX DM dA h S s H locs → lv_has ls 3 [(0, .ref (h)), (1, .int (zi (x1)))] → W p l e ({ frames := 3, cells := 0, slots := 0, locals := 54 } : Room) s m args below meth c H locs 0 0 Q (F0 m 358 ls []) := by
    intro x1  S hh H locs ls hM hl
    unfold M_nextToken_B358 at hh
    refine lv_aload_n hx hb dX5_nextToken_358 rfl (lv_at hl 0 rfl) ?_
    refine lv_aload_n hx hb dX5_nextToken_359 rfl (lv_at hl 0 rfl) ?_
    refine mm_get X hM q1187 (mf_13 _ _) dX5_nextToken_360 ?_
    obtain ⟨v77, k76, hh⟩ := bd_inv hh
    refine mc_i (rest := []) X hM (wM_see l DM dA h S (S.1 13) k76) c5_see.1 c5_see.2 ⟨rfl, rfl⟩ ⟨Nat.le_of_ble_eq_true rfl, Nat.le_of_ble_eq_true rfl⟩ ⟨Nat.zero_le _, Nat.zero_le _⟩ hl.1 (Nat.le_of_ble_eq_true rfl) dX5_nextToken_363 rfl (fun H locs hM => ?_)
    refine lv_bipush (v := zi 61) hx hb dX5_nextToken_366 (by decide) ?_
    obtain ⟨g79, hh⟩ := gd_inv hh
    refine g_icmp_ne (tgt := 396) hx hb ⟨g79, by decide⟩ dX5_nextToken_368 (by decide) (fun c78 => ?_) (fun c78 => ?_)
    · replace hh := it_t c78 hh
      refine lv_aload_n hx hb dX5_nextToken_371 rfl (lv_at hl 0 rfl) ?_
      refine lv_dup hx hb dX5_nextToken_372 rfl ?_
      refine mm_get X hM q1187 (mf_13 _ _) dX5_nextToken_373 ?_
      refine lv_iconst (v := zi 1) hx hb dX5_nextToken_376 rfl ?_
      refine g_iadd hx hb dX5_nextToken_377 ?_
      refine mm_put X hM q1187 (mp_13 _ _ _) dX5_nextToken_378 (fun H locs S80 e81 hM => ?_)
      replace hh := nm_inv hh S80 e81
      refine lv_aload_n hx hb dX5_nextToken_381 rfl (lv_at hl 0 rfl) ?_
      refine lv_iload_n hx hb dX5_nextToken_382 rfl (lv_at hl 1 rfl) ?_
      refine lv_bipush (v := zi 60) hx hb dX5_nextToken_383 (by decide) ?_
      obtain ⟨g83, hh⟩ := gd_inv hh
      refine g_icmp_ne (tgt := 392) hx hb ⟨g83, by decide⟩ dX5_nextToken_385 (by decide) (fun c82 => ?_) (fun c82 => ?_)
      · replace hh := it_t c82 hh
        refine lv_iconst (v := zi 4) hx hb dX5_nextToken_388 rfl ?_
        refine lv_goto (tgt := 393) hx hb dX5_nextToken_389 (by decide) ?_
        exact hB393 (4 : Int) S80 hh _ _ _ hM (lv_sub hl [] rfl)
      · replace hh := it_f c82 hh
        refine lv_iconst (v := zi 5) hx hb dX5_nextToken_392 rfl ?_
        exact hB393 (5 : Int) S80 hh _ _ _ hM (lv_sub hl [] rfl)
    · replace hh := it_f c78 hh
      exact hret _ _ _ _ _ (rt0 hh) dX5_nextToken_396 hM
  have hB343 : ∀ (x1 : Int) (t0 : Int) (S : xS), M_nextToken_B343 S x1 t0 = some S1 → ∀ (H : Heap) (locs : List Loc) (ls : Array Slot), MX DM dA h S s H locs → lv_has ls 3 [(0, .ref (h)), (1, .int (zi (x1)))] → W p l e ({ frames := 3, cells := 0, slots := 0, locals := 54 } : Room) s m args below meth c H locs 0 0 Q (F0 m 343 ls [.int (zi (t0)), .ref (h)]) := by
    intro x1 t0  S hh H locs ls hM hl
    unfold M_nextToken_B343 at hh
    refine mm_put X hM q1189 (mp_15 _ _ _) dX5_nextToken_343 (fun H locs S72 e73 hM => ?_)
    replace hh := nm_inv hh S72 e73
    refine lv_iload_n hx hb dX5_nextToken_346 rfl (lv_at hl 1 rfl) ?_
    refine lv_bipush (v := zi 60) hx hb dX5_nextToken_347 (by decide) ?_
    obtain ⟨g75, hh⟩ := gd_inv hh
    refine g_icmp_eq (tgt := 358) hx hb ⟨g75, by decide⟩ dX5_nextToken_349 (by decide) (fun c74 => ?_) (fun c74 => ?_)
    · replace hh := it_t c74 hh
      exact hB358 x1 S72 hh _ _ _ hM (lv_sub hl [0, 1] rfl)
    · replace hh := it_f c74 hh
      refine lv_iload_n hx hb dX5_nextToken_352 rfl (lv_at hl 1 rfl) ?_
      refine lv_bipush (v := zi 62) hx hb dX5_nextToken_353 (by decide) ?_
      obtain ⟨g87, hh⟩ := gd_inv hh
      refine g_icmp_ne (tgt := 396) hx hb ⟨g87, by decide⟩ dX5_nextToken_355 (by decide) (fun c86 => ?_) (fun c86 => ?_)
      · replace hh := it_t c86 hh
        exact hB358 x1 S72 hh _ _ _ hM (lv_sub hl [0, 1] rfl)
      · replace hh := it_f c86 hh
        exact hret _ _ _ _ _ (rt0 hh) dX5_nextToken_396 hM
  have hB332 : ∀ (x1 : Int) (t0 : Int) (S : xS), M_nextToken_B332 S x1 t0 = some S1 → ∀ (H : Heap) (locs : List Loc) (ls : Array Slot), MX DM dA h S s H locs → lv_has ls 3 [(0, .ref (h)), (1, .int (zi (x1)))] → W p l e ({ frames := 3, cells := 0, slots := 0, locals := 54 } : Room) s m args below meth c H locs 0 0 Q (F0 m 332 ls [.int (zi (t0))]) := by
    intro x1 t0  S hh H locs ls hM hl
    unfold M_nextToken_B332 at hh
    refine lv_istore_n (lv' := [(2, .int (zi (t0))), (0, .ref (h)), (1, .int (zi (x1)))]) hx hb dX5_nextToken_332 rfl hl (by decide) rfl (fun ls hl => ?_)
    refine lv_aload_n hx hb dX5_nextToken_333 rfl (lv_at hl 1 rfl) ?_
    refine lv_iload_n hx hb dX5_nextToken_334 rfl (lv_at hl 0 rfl) ?_
    obtain ⟨g71, hh⟩ := gd_inv hh
    refine g_if_eq (tgt := 342) hx hb g71 dX5_nextToken_335 (by decide) (fun c70 => ?_) (fun c70 => ?_)
    · replace hh := it_t c70 hh
      refine lv_iconst (v := zi 3) hx hb dX5_nextToken_342 rfl ?_
      exact hB343 x1 (3 : Int) S hh _ _ _ hM (lv_sub hl [1, 2] rfl)
    · replace hh := it_f c70 hh
      refine lv_iload_n hx hb dX5_nextToken_338 rfl (lv_at hl 2 rfl) ?_
      refine lv_goto (tgt := 343) hx hb dX5_nextToken_339 (by decide) ?_
      exact hB343 x1 x1 S hh _ _ _ hM (lv_sub hl [1, 2] rfl)
  have hB327 : ∀ (x1 : Int) (S : xS), M_nextToken_B327 S x1 = some S1 → ∀ (H : Heap) (locs : List Loc) (ls : Array Slot), MX DM dA h S s H locs → lv_has ls 3 [(0, .ref (h)), (1, .int (zi (x1)))] → W p l e ({ frames := 3, cells := 0, slots := 0, locals := 54 } : Room) s m args below meth c H locs 0 0 Q (F0 m 327 ls []) := by
    intro x1  S hh H locs ls hM hl
    unfold M_nextToken_B327 at hh
    refine lv_iconst (v := zi 1) hx hb dX5_nextToken_327 rfl ?_
    refine lv_goto (tgt := 332) hx hb dX5_nextToken_328 (by decide) ?_
    exact hB332 x1 (1 : Int) S hh _ _ _ hM (lv_sub hl [0, 1] rfl)
  have hL0 : ∀ (n : Nat) (S : xS), M_nextToken_L0 n S = some S1 → ∀ (H : Heap) (locs : List Loc) (ls : Array Slot), MX DM dA h S s H locs → lv_has ls 3 [(0, .ref (h))] → W p l e ({ frames := 3, cells := 0, slots := 0, locals := 54 } : Room) s m args below meth c H locs 0 0 Q (F0 m 0 ls []) := by
    intro   n
    induction n with
    | zero => intro S hh; exact no_some hh
    | succ n ih =>
      intro S hh H locs ls hM hl
      replace hh : M_nextToken_b0 (M_nextToken_L0 n) S = some S1 := hh
      unfold M_nextToken_b0 at hh
      have hK0 := ih
      refine lv_aload_n hx hb dX5_nextToken_0 rfl (lv_at hl 0 rfl) ?_
      refine lv_aload_n hx hb dX5_nextToken_1 rfl (lv_at hl 0 rfl) ?_
      refine mm_get X hM q1187 (mf_13 _ _) dX5_nextToken_2 ?_
      obtain ⟨v2, k1, hh⟩ := bd_inv hh
      refine mc_i (rest := []) X hM (wM_see l DM dA h S (S.1 13) k1) c5_see.1 c5_see.2 ⟨rfl, rfl⟩ ⟨Nat.le_of_ble_eq_true rfl, Nat.le_of_ble_eq_true rfl⟩ ⟨Nat.zero_le _, Nat.zero_le _⟩ hl.1 (Nat.le_of_ble_eq_true rfl) dX5_nextToken_5 rfl (fun H locs hM => ?_)
      refine lv_bipush (v := zi 32) hx hb dX5_nextToken_8 (by decide) ?_
      obtain ⟨g4, hh⟩ := gd_inv hh
      refine g_icmp_eq (tgt := 26) hx hb ⟨g4, by decide⟩ dX5_nextToken_10 (by decide) (fun c3 => ?_) (fun c3 => ?_)
      · replace hh := it_t c3 hh
        exact hB26 _ hK0 S hh _ _ _ hM (lv_sub hl [0] rfl)
      · replace hh := it_f c3 hh
        refine lv_aload_n hx hb dX5_nextToken_13 rfl (lv_at hl 0 rfl) ?_
        refine lv_aload_n hx hb dX5_nextToken_14 rfl (lv_at hl 0 rfl) ?_
        refine mm_get X hM q1187 (mf_13 _ _) dX5_nextToken_15 ?_
        obtain ⟨v8, k7, hh⟩ := bd_inv hh
        refine mc_i (rest := []) X hM (wM_see l DM dA h S (S.1 13) k7) c5_see.1 c5_see.2 ⟨rfl, rfl⟩ ⟨Nat.le_of_ble_eq_true rfl, Nat.le_of_ble_eq_true rfl⟩ ⟨Nat.zero_le _, Nat.zero_le _⟩ hl.1 (Nat.le_of_ble_eq_true rfl) dX5_nextToken_18 rfl (fun H locs hM => ?_)
        refine lv_bipush (v := zi 10) hx hb dX5_nextToken_21 (by decide) ?_
        obtain ⟨g10, hh⟩ := gd_inv hh
        refine g_icmp_ne (tgt := 39) hx hb ⟨g10, by decide⟩ dX5_nextToken_23 (by decide) (fun c9 => ?_) (fun c9 => ?_)
        · replace hh := it_t c9 hh
          exact hB26 _ hK0 S hh _ _ _ hM (lv_sub hl [0] rfl)
        · replace hh := it_f c9 hh
          refine lv_aload_n hx hb dX5_nextToken_39 rfl (lv_at hl 0 rfl) ?_
          refine lv_aload_n hx hb dX5_nextToken_40 rfl (lv_at hl 0 rfl) ?_
          refine mm_get X hM q1187 (mf_13 _ _) dX5_nextToken_41 ?_
          refine mm_put X hM q1188 (mp_14 _ _ _) dX5_nextToken_44 (fun H locs S11 e12 hM => ?_)
          replace hh := nm_inv hh S11 e12
          refine lv_aload_n hx hb dX5_nextToken_47 rfl (lv_at hl 0 rfl) ?_
          refine lv_aload_n hx hb dX5_nextToken_48 rfl (lv_at hl 0 rfl) ?_
          refine mm_get X hM q1187 (mf_13 _ _) dX5_nextToken_49 ?_
          obtain ⟨v14, k13, hh⟩ := bd_inv hh
          refine mc_i (rest := []) X hM (wM_see l DM dA h S11 (S11.1 13) k13) c5_see.1 c5_see.2 ⟨rfl, rfl⟩ ⟨Nat.le_of_ble_eq_true rfl, Nat.le_of_ble_eq_true rfl⟩ ⟨Nat.zero_le _, Nat.zero_le _⟩ hl.1 (Nat.le_of_ble_eq_true rfl) dX5_nextToken_52 rfl (fun H locs hM => ?_)
          refine lv_istore_n (lv' := [(1, .int (zi (v14))), (0, .ref (h))]) hx hb dX5_nextToken_55 rfl hl (by decide) rfl (fun ls hl => ?_)
          refine lv_iload_n hx hb dX5_nextToken_56 rfl (lv_at hl 0 rfl) ?_
          obtain ⟨g16, hh⟩ := gd_inv hh
          refine g_if_ge (tgt := 68) hx hb g16 dX5_nextToken_57 (by decide) (fun c15 => ?_) (fun c15 => ?_)
          · replace hh := it_t c15 hh
            refine lv_aload_n hx hb dX5_nextToken_60 rfl (lv_at hl 1 rfl) ?_
            refine lv_iconst (v := zi 0) hx hb dX5_nextToken_61 rfl ?_
            refine mm_put X hM q1189 (mp_15 _ _ _) dX5_nextToken_62 (fun H locs S17 e18 hM => ?_)
            replace hh := nm_inv hh S17 e18
            refine lv_goto (tgt := 396) hx hb dX5_nextToken_65 (by decide) ?_
            exact hret _ _ _ _ _ (rt0 hh) dX5_nextToken_396 hM
          · replace hh := it_f c15 hh
            refine lv_iload_n hx hb dX5_nextToken_68 rfl (lv_at hl 0 rfl) ?_
            obtain ⟨v20, k19, hh⟩ := bd_inv hh
            refine mcs_z (rest := []) X hM (wM_isDigit l v14 k19) c5_isDigit.1 c5_isDigit.2 ⟨rfl, rfl⟩ ⟨Nat.le_of_ble_eq_true rfl, Nat.le_of_ble_eq_true rfl⟩ ⟨Nat.zero_le _, Nat.zero_le _⟩ hl.1 (Nat.le_of_ble_eq_true rfl) dX5_nextToken_69 rfl (fun H locs hM => ?_)
            refine g_bif_eq (tgt := 144) hx hb dX5_nextToken_72 (by decide) (fun c21 => ?_) (fun c21 => ?_)
            · replace hh := it_t c21 hh
              refine lv_aload_n hx hb dX5_nextToken_75 rfl (lv_at hl 1 rfl) ?_
              refine lv_iconst (v := zi 1) hx hb dX5_nextToken_76 rfl ?_
              refine mm_put X hM q1189 (mp_15 _ _ _) dX5_nextToken_77 (fun H locs S22 e23 hM => ?_)
              replace hh := nm_inv hh S22 e23
              refine lv_aload_n hx hb dX5_nextToken_80 rfl (lv_at hl 1 rfl) ?_
              refine lv_iconst (v := zi 0) hx hb dX5_nextToken_81 rfl ?_
              refine mm_put X hM q1190 (mp_16 _ _ _) dX5_nextToken_82 (fun H locs S24 e25 hM => ?_)
              replace hh := nm_inv hh S24 e25
              exact hL85 FU S24 hh _ _ _ hM (lv_sub hl [1] rfl)
            · replace hh := it_f c21 hh
              refine lv_iload_n hx hb dX5_nextToken_144 rfl (lv_at hl 0 rfl) ?_
              obtain ⟨v40, k39, hh⟩ := bd_inv hh
              refine mcs_z (rest := []) X hM (wM_isLetter l v14 k39) c5_isLetter.1 c5_isLetter.2 ⟨rfl, rfl⟩ ⟨Nat.le_of_ble_eq_true rfl, Nat.le_of_ble_eq_true rfl⟩ ⟨Nat.zero_le _, Nat.zero_le _⟩ hl.1 (Nat.le_of_ble_eq_true rfl) dX5_nextToken_145 rfl (fun H locs hM => ?_)
              refine g_bif_eq (tgt := 245) hx hb dX5_nextToken_148 (by decide) (fun c41 => ?_) (fun c41 => ?_)
              · replace hh := it_t c41 hh
                refine lv_aload_n hx hb dX5_nextToken_151 rfl (lv_at hl 1 rfl) ?_
                refine lv_iconst (v := zi 2) hx hb dX5_nextToken_152 rfl ?_
                refine mm_put X hM q1189 (mp_15 _ _ _) dX5_nextToken_153 (fun H locs S42 e43 hM => ?_)
                replace hh := nm_inv hh S42 e43
                refine lv_aload_n hx hb dX5_nextToken_156 rfl (lv_at hl 1 rfl) ?_
                refine lv_lconst (v := zl 0) hx hb dX5_nextToken_157 (by decide) ?_
                refine mm_put X hM q1191 (mp_17 _ _ _) dX5_nextToken_158 (fun H locs S44 e45 hM => ?_)
                replace hh := nm_inv hh S44 e45
                exact hL161 FU S44 hh _ _ _ hM (lv_sub hl [1] rfl)
              · replace hh := it_f c41 hh
                refine lv_aload_n hx hb dX5_nextToken_245 rfl (lv_at hl 1 rfl) ?_
                refine lv_dup hx hb dX5_nextToken_246 rfl ?_
                refine mm_get X hM q1187 (mf_13 _ _) dX5_nextToken_247 ?_
                refine lv_iconst (v := zi 1) hx hb dX5_nextToken_250 rfl ?_
                refine g_iadd hx hb dX5_nextToken_251 ?_
                refine mm_put X hM q1187 (mp_13 _ _ _) dX5_nextToken_252 (fun H locs S66 e67 hM => ?_)
                replace hh := nm_inv hh S66 e67
                refine lv_iload_n hx hb dX5_nextToken_255 rfl (lv_at hl 0 rfl) ?_
                refine lv_bipush (v := zi 60) hx hb dX5_nextToken_256 (by decide) ?_
                obtain ⟨g69, hh⟩ := gd_inv hh
                refine g_icmp_eq (tgt := 327) hx hb ⟨g69, by decide⟩ dX5_nextToken_258 (by decide) (fun c68 => ?_) (fun c68 => ?_)
                · replace hh := it_t c68 hh
                  exact hB327 v14 S66 hh _ _ _ hM (lv_sub hl [1, 0] rfl)
                · replace hh := it_f c68 hh
                  refine lv_iload_n hx hb dX5_nextToken_261 rfl (lv_at hl 0 rfl) ?_
                  refine lv_bipush (v := zi 62) hx hb dX5_nextToken_262 (by decide) ?_
                  obtain ⟨g89, hh⟩ := gd_inv hh
                  refine g_icmp_eq (tgt := 327) hx hb ⟨g89, by decide⟩ dX5_nextToken_264 (by decide) (fun c88 => ?_) (fun c88 => ?_)
                  · replace hh := it_t c88 hh
                    exact hB327 v14 S66 hh _ _ _ hM (lv_sub hl [1, 0] rfl)
                  · replace hh := it_f c88 hh
                    refine lv_iload_n hx hb dX5_nextToken_267 rfl (lv_at hl 0 rfl) ?_
                    refine lv_bipush (v := zi 61) hx hb dX5_nextToken_268 (by decide) ?_
                    obtain ⟨g91, hh⟩ := gd_inv hh
                    refine g_icmp_eq (tgt := 327) hx hb ⟨g91, by decide⟩ dX5_nextToken_270 (by decide) (fun c90 => ?_) (fun c90 => ?_)
                    · replace hh := it_t c90 hh
                      exact hB327 v14 S66 hh _ _ _ hM (lv_sub hl [1, 0] rfl)
                    · replace hh := it_f c90 hh
                      refine lv_iload_n hx hb dX5_nextToken_273 rfl (lv_at hl 0 rfl) ?_
                      refine lv_bipush (v := zi 35) hx hb dX5_nextToken_274 (by decide) ?_
                      obtain ⟨g93, hh⟩ := gd_inv hh
                      refine g_icmp_eq (tgt := 327) hx hb ⟨g93, by decide⟩ dX5_nextToken_276 (by decide) (fun c92 => ?_) (fun c92 => ?_)
                      · replace hh := it_t c92 hh
                        exact hB327 v14 S66 hh _ _ _ hM (lv_sub hl [1, 0] rfl)
                      · replace hh := it_f c92 hh
                        refine lv_iload_n hx hb dX5_nextToken_279 rfl (lv_at hl 0 rfl) ?_
                        refine lv_bipush (v := zi 43) hx hb dX5_nextToken_280 (by decide) ?_
                        obtain ⟨g95, hh⟩ := gd_inv hh
                        refine g_icmp_eq (tgt := 327) hx hb ⟨g95, by decide⟩ dX5_nextToken_282 (by decide) (fun c94 => ?_) (fun c94 => ?_)
                        · replace hh := it_t c94 hh
                          exact hB327 v14 S66 hh _ _ _ hM (lv_sub hl [1, 0] rfl)
                        · replace hh := it_f c94 hh
                          refine lv_iload_n hx hb dX5_nextToken_285 rfl (lv_at hl 0 rfl) ?_
                          refine lv_bipush (v := zi 45) hx hb dX5_nextToken_286 (by decide) ?_
                          obtain ⟨g97, hh⟩ := gd_inv hh
                          refine g_icmp_eq (tgt := 327) hx hb ⟨g97, by decide⟩ dX5_nextToken_288 (by decide) (fun c96 => ?_) (fun c96 => ?_)
                          · replace hh := it_t c96 hh
                            exact hB327 v14 S66 hh _ _ _ hM (lv_sub hl [1, 0] rfl)
                          · replace hh := it_f c96 hh
                            refine lv_iload_n hx hb dX5_nextToken_291 rfl (lv_at hl 0 rfl) ?_
                            refine lv_bipush (v := zi 42) hx hb dX5_nextToken_292 (by decide) ?_
                            obtain ⟨g99, hh⟩ := gd_inv hh
                            refine g_icmp_eq (tgt := 327) hx hb ⟨g99, by decide⟩ dX5_nextToken_294 (by decide) (fun c98 => ?_) (fun c98 => ?_)
                            · replace hh := it_t c98 hh
                              exact hB327 v14 S66 hh _ _ _ hM (lv_sub hl [1, 0] rfl)
                            · replace hh := it_f c98 hh
                              refine lv_iload_n hx hb dX5_nextToken_297 rfl (lv_at hl 0 rfl) ?_
                              refine lv_bipush (v := zi 47) hx hb dX5_nextToken_298 (by decide) ?_
                              obtain ⟨g101, hh⟩ := gd_inv hh
                              refine g_icmp_eq (tgt := 327) hx hb ⟨g101, by decide⟩ dX5_nextToken_300 (by decide) (fun c100 => ?_) (fun c100 => ?_)
                              · replace hh := it_t c100 hh
                                exact hB327 v14 S66 hh _ _ _ hM (lv_sub hl [1, 0] rfl)
                              · replace hh := it_f c100 hh
                                refine lv_iload_n hx hb dX5_nextToken_303 rfl (lv_at hl 0 rfl) ?_
                                refine lv_bipush (v := zi 40) hx hb dX5_nextToken_304 (by decide) ?_
                                obtain ⟨g103, hh⟩ := gd_inv hh
                                refine g_icmp_eq (tgt := 327) hx hb ⟨g103, by decide⟩ dX5_nextToken_306 (by decide) (fun c102 => ?_) (fun c102 => ?_)
                                · replace hh := it_t c102 hh
                                  exact hB327 v14 S66 hh _ _ _ hM (lv_sub hl [1, 0] rfl)
                                · replace hh := it_f c102 hh
                                  refine lv_iload_n hx hb dX5_nextToken_309 rfl (lv_at hl 0 rfl) ?_
                                  refine lv_bipush (v := zi 41) hx hb dX5_nextToken_310 (by decide) ?_
                                  obtain ⟨g105, hh⟩ := gd_inv hh
                                  refine g_icmp_eq (tgt := 327) hx hb ⟨g105, by decide⟩ dX5_nextToken_312 (by decide) (fun c104 => ?_) (fun c104 => ?_)
                                  · replace hh := it_t c104 hh
                                    exact hB327 v14 S66 hh _ _ _ hM (lv_sub hl [1, 0] rfl)
                                  · replace hh := it_f c104 hh
                                    refine lv_iload_n hx hb dX5_nextToken_315 rfl (lv_at hl 0 rfl) ?_
                                    refine lv_bipush (v := zi 44) hx hb dX5_nextToken_316 (by decide) ?_
                                    obtain ⟨g107, hh⟩ := gd_inv hh
                                    refine g_icmp_eq (tgt := 327) hx hb ⟨g107, by decide⟩ dX5_nextToken_318 (by decide) (fun c106 => ?_) (fun c106 => ?_)
                                    · replace hh := it_t c106 hh
                                      exact hB327 v14 S66 hh _ _ _ hM (lv_sub hl [1, 0] rfl)
                                    · replace hh := it_f c106 hh
                                      refine lv_iload_n hx hb dX5_nextToken_321 rfl (lv_at hl 0 rfl) ?_
                                      refine lv_bipush (v := zi 59) hx hb dX5_nextToken_322 (by decide) ?_
                                      obtain ⟨g109, hh⟩ := gd_inv hh
                                      refine g_icmp_ne (tgt := 331) hx hb ⟨g109, by decide⟩ dX5_nextToken_324 (by decide) (fun c108 => ?_) (fun c108 => ?_)
                                      · replace hh := it_t c108 hh
                                        exact hB327 v14 S66 hh _ _ _ hM (lv_sub hl [1, 0] rfl)
                                      · replace hh := it_f c108 hh
                                        refine lv_iconst (v := zi 0) hx hb dX5_nextToken_331 rfl ?_
                                        exact hB332 v14 (0 : Int) S66 hh _ _ _ hM (lv_sub hl [1, 0] rfl)
  replace hl : lv_has ls 3 [(0, .ref (h))] := hl
  unfold M_nextToken at hh
  exact hL0 FU S hh _ _ _ hM (lv_sub hl [0] rfl)
def M_w3 (x0 : Int) (x1 : Int) (x2 : Int) : Option Int := gd (r32 (x0)) (gd ((0 : Int) ≤ x0 ∧ ((0 : Int) ≤ 8 ∧ (8 : Int) ≤ 63) ∧ x0 * 2 ^ (Int.toNat 8) < 18446744073709551616) (gd (r32 (x1)) (gd ((0 : Int) ≤ x0 * 2 ^ (Int.toNat 8) ∧ (0 : Int) ≤ x1) (gd ((0 : Int) ≤ zor (x0 * 2 ^ (Int.toNat 8)) x1 ∧ ((0 : Int) ≤ 8 ∧ (8 : Int) ≤ 63) ∧ (zor (x0 * 2 ^ (Int.toNat 8)) x1) * 2 ^ (Int.toNat 8) < 18446744073709551616) (gd (r32 (x2)) (gd ((0 : Int) ≤ (zor (x0 * 2 ^ (Int.toNat 8)) x1) * 2 ^ (Int.toNat 8) ∧ (0 : Int) ≤ x2) (some ((zor ((zor (x0 * 2 ^ (Int.toNat 8)) x1) * 2 ^ (Int.toNat 8)) x2 : Int)))))))))
set_option maxHeartbeats 4000000 in
theorem wM_w3 (l : Launch) (x0 x1 x2 : Int) {r : Int} (hh : M_w3 x0 x1 x2 = some r) : ms_l l yX5_w3 cX5_w3 3 (some .long) ({ frames := 1, cells := 0, slots := 0, locals := 12 } : Room) [.int (zi x0), .int (zi x1), .int (zi x2)] r := by
  refine mo_sl (by decide) rfl (Nat.le_of_ble_eq_true rfl) ?_
  intro p e s m args below meth c Q ls X hret hl hM
  have hx := X.1
  have hb := X.2.1
  have hown := X.2.2.2.1
  have hts := X.2.2.2.2
  skip
  replace hl : lv_has ls 3 [(0, .int (zi (x0))), (1, .int (zi (x1))), (2, .int (zi (x2)))] := hl
  unfold M_w3 at hh
  refine lv_iload_n hx hb dX5_w3_0 rfl (lv_at hl 0 rfl) ?_
  obtain ⟨g1, hh⟩ := gd_inv hh
  refine g_i2l hx hb g1 dX5_w3_1 ?_
  refine lv_bipush (v := zi 8) hx hb dX5_w3_2 (by decide) ?_
  obtain ⟨g2, hh⟩ := gd_inv hh
  refine g_lshl hx hb g2 dX5_w3_4 ?_
  refine lv_iload_n hx hb dX5_w3_5 rfl (lv_at hl 1 rfl) ?_
  obtain ⟨g3, hh⟩ := gd_inv hh
  refine g_i2l hx hb g3 dX5_w3_6 ?_
  obtain ⟨g4, hh⟩ := gd_inv hh
  refine g_lor hx hb g4 dX5_w3_7 ?_
  refine lv_bipush (v := zi 8) hx hb dX5_w3_8 (by decide) ?_
  obtain ⟨g5, hh⟩ := gd_inv hh
  refine g_lshl hx hb g5 dX5_w3_10 ?_
  refine lv_iload_n hx hb dX5_w3_11 rfl (lv_at hl 2 rfl) ?_
  obtain ⟨g6, hh⟩ := gd_inv hh
  refine g_i2l hx hb g6 dX5_w3_12 ?_
  obtain ⟨g7, hh⟩ := gd_inv hh
  refine g_lor hx hb g7 dX5_w3_13 ?_
  exact hret _ _ _ _ _ (rt0 hh) dX5_w3_14 hM
def M_w4 (x0 : Int) (x1 : Int) (x2 : Int) (x3 : Int) : Option Int := bd (M_w3 x0 x1 x2) (fun v2 => gd ((0 : Int) ≤ v2 ∧ ((0 : Int) ≤ 8 ∧ (8 : Int) ≤ 63) ∧ v2 * 2 ^ (Int.toNat 8) < 18446744073709551616) (gd (r32 (x3)) (gd ((0 : Int) ≤ v2 * 2 ^ (Int.toNat 8) ∧ (0 : Int) ≤ x3) (some ((zor (v2 * 2 ^ (Int.toNat 8)) x3 : Int))))))
set_option maxHeartbeats 4000000 in
theorem wM_w4 (l : Launch) (x0 x1 x2 x3 : Int) {r : Int} (hh : M_w4 x0 x1 x2 x3 = some r) : ms_l l yX5_w4 cX5_w4 4 (some .long) ({ frames := 2, cells := 0, slots := 0, locals := 34 } : Room) [.int (zi x0), .int (zi x1), .int (zi x2), .int (zi x3)] r := by
  refine mo_sl (by decide) rfl (Nat.le_of_ble_eq_true rfl) ?_
  intro p e s m args below meth c Q ls X hret hl hM
  have hx := X.1
  have hb := X.2.1
  have hown := X.2.2.2.1
  have hts := X.2.2.2.2
  skip
  replace hl : lv_has ls 4 [(0, .int (zi (x0))), (1, .int (zi (x1))), (2, .int (zi (x2))), (3, .int (zi (x3)))] := hl
  unfold M_w4 at hh
  refine lv_iload_n hx hb dX5_w4_0 rfl (lv_at hl 0 rfl) ?_
  refine lv_iload_n hx hb dX5_w4_1 rfl (lv_at hl 1 rfl) ?_
  refine lv_iload_n hx hb dX5_w4_2 rfl (lv_at hl 2 rfl) ?_
  obtain ⟨v2, k1, hh⟩ := bd_inv hh
  refine scs_l (rest := []) X hM (wM_w3 l x0 x1 x2 k1) c5_w3.1 c5_w3.2 ⟨rfl, rfl⟩ ⟨Nat.le_of_ble_eq_true rfl, Nat.le_of_ble_eq_true rfl⟩ ⟨Nat.zero_le _, Nat.zero_le _⟩ hl.1 (Nat.le_of_ble_eq_true rfl) dX5_w4_3 rfl (fun H locs hM => ?_)
  refine lv_bipush (v := zi 8) hx hb dX5_w4_6 (by decide) ?_
  obtain ⟨g3, hh⟩ := gd_inv hh
  refine g_lshl hx hb g3 dX5_w4_8 ?_
  refine lv_iload_n hx hb dX5_w4_9 rfl (lv_at hl 3 rfl) ?_
  obtain ⟨g4, hh⟩ := gd_inv hh
  refine g_i2l hx hb g4 dX5_w4_10 ?_
  obtain ⟨g5, hh⟩ := gd_inv hh
  refine g_lor hx hb g5 dX5_w4_11 ?_
  exact hret _ _ _ _ _ (rt0 hh) dX5_w4_12 hM
def M_sortOf (S : xS) : Option Int := gd (r32 (S.1 15)) (if (S.1 15) = 2 then (bd (M_w3 (108 : Int) (101 : Int) (116 : Int)) (fun v4 => gd (r64 (S.1 17) ∧ r64 (v4)) (if (S.1 17) = v4 then (some ((1 : Int))) else (bd (M_w4 (116 : Int) (117 : Int) (114 : Int) (110 : Int)) (fun v8 => gd (r64 (S.1 17) ∧ r64 (v8)) (if (S.1 17) = v8 then (some ((2 : Int))) else (gd (r64 (S.1 17)) (if (S.1 17) = 26479 then (some ((3 : Int))) else (bd (M_w4 (114 : Int) (101 : Int) (115 : Int) (116 : Int)) (fun v14 => gd (r64 (S.1 17) ∧ r64 (v14)) (if (S.1 17) = v14 then (some ((4 : Int))) else (some ((0 : Int)))))))))))))) else (some ((0 : Int))))
set_option maxHeartbeats 4000000 in
theorem wM_sortOf (l : Launch) (DM : va_G) (dA : Nat → ClassId) (h : Nat) (S : xS) {r : Int} (hh : M_sortOf S  = some r) : mt_i l yX5_sortOf cX5_sortOf 1 (some .int) ({ frames := 3, cells := 0, slots := 0, locals := 57 } : Room) DM dA h [] S r S := by
  refine mo_i (by decide) rfl (Nat.le_of_ble_eq_true rfl) ?_
  intro p e s m args below meth c Q ls X hret hl hM
  have hx := X.1.1
  have hb := X.1.2.1
  have hown := X.1.2.2.2.1
  have hts := X.1.2.2.2.2
  skip
  replace hl : lv_has ls 1 [(0, .ref (h))] := hl
  unfold M_sortOf at hh
  refine lv_aload_n hx hb dX5_sortOf_0 rfl (lv_at hl 0 rfl) ?_
  refine mm_get X hM q1189 (mf_15 _ _) dX5_sortOf_1 ?_
  refine lv_iconst (v := zi 2) hx hb dX5_sortOf_4 rfl ?_
  obtain ⟨g2, hh⟩ := gd_inv hh
  refine g_icmp_eq (tgt := 10) hx hb ⟨g2, by decide⟩ dX5_sortOf_5 (by decide) (fun c1 => ?_) (fun c1 => ?_)
  · replace hh := it_t c1 hh
    refine lv_aload_n hx hb dX5_sortOf_10 rfl (lv_at hl 0 rfl) ?_
    refine mm_get X hM q1191 (mf_17 _ _) dX5_sortOf_11 ?_
    refine lv_bipush (v := zi 108) hx hb dX5_sortOf_14 (by decide) ?_
    refine lv_bipush (v := zi 101) hx hb dX5_sortOf_16 (by decide) ?_
    refine lv_bipush (v := zi 116) hx hb dX5_sortOf_18 (by decide) ?_
    obtain ⟨v4, k3, hh⟩ := bd_inv hh
    refine mcs_l (rest := [.long (zl (S.1 17))]) X hM (wM_w3 l (108 : Int) (101 : Int) (116 : Int) k3) c5_w3.1 c5_w3.2 ⟨rfl, rfl⟩ ⟨Nat.le_of_ble_eq_true rfl, Nat.le_of_ble_eq_true rfl⟩ ⟨Nat.zero_le _, Nat.zero_le _⟩ hl.1 (Nat.le_of_ble_eq_true rfl) dX5_sortOf_20 rfl (fun H locs hM => ?_)
    obtain ⟨g6, hh⟩ := gd_inv hh
    refine g_lcmp_ne (tgt := 29) hx hb g6 dX5_sortOf_23 dX5_sortOf_24 (by decide) (fun c5 => ?_) (fun c5 => ?_)
    · replace hh := it_t c5 hh
      refine lv_iconst (v := zi 1) hx hb dX5_sortOf_27 rfl ?_
      exact hret _ _ _ _ _ _ (rt0 hh) rfl dX5_sortOf_28 hM
    · replace hh := it_f c5 hh
      refine lv_aload_n hx hb dX5_sortOf_29 rfl (lv_at hl 0 rfl) ?_
      refine mm_get X hM q1191 (mf_17 _ _) dX5_sortOf_30 ?_
      refine lv_bipush (v := zi 116) hx hb dX5_sortOf_33 (by decide) ?_
      refine lv_bipush (v := zi 117) hx hb dX5_sortOf_35 (by decide) ?_
      refine lv_bipush (v := zi 114) hx hb dX5_sortOf_37 (by decide) ?_
      refine lv_bipush (v := zi 110) hx hb dX5_sortOf_39 (by decide) ?_
      obtain ⟨v8, k7, hh⟩ := bd_inv hh
      refine mcs_l (rest := [.long (zl (S.1 17))]) X hM (wM_w4 l (116 : Int) (117 : Int) (114 : Int) (110 : Int) k7) c5_w4.1 c5_w4.2 ⟨rfl, rfl⟩ ⟨Nat.le_of_ble_eq_true rfl, Nat.le_of_ble_eq_true rfl⟩ ⟨Nat.zero_le _, Nat.zero_le _⟩ hl.1 (Nat.le_of_ble_eq_true rfl) dX5_sortOf_41 rfl (fun H locs hM => ?_)
      obtain ⟨g10, hh⟩ := gd_inv hh
      refine g_lcmp_ne (tgt := 50) hx hb g10 dX5_sortOf_44 dX5_sortOf_45 (by decide) (fun c9 => ?_) (fun c9 => ?_)
      · replace hh := it_t c9 hh
        refine lv_iconst (v := zi 2) hx hb dX5_sortOf_48 rfl ?_
        exact hret _ _ _ _ _ _ (rt0 hh) rfl dX5_sortOf_49 hM
      · replace hh := it_f c9 hh
        refine lv_aload_n hx hb dX5_sortOf_50 rfl (lv_at hl 0 rfl) ?_
        refine mm_get X hM q1191 (mf_17 _ _) dX5_sortOf_51 ?_
        refine g_ldc2 (v := 26479) (z := 26479) hx hb (by decide) hown (hts _ q1466) dX5_sortOf_54 ?_
        obtain ⟨g12, hh⟩ := gd_inv hh
        refine g_lcmp_ne (tgt := 65) hx hb ⟨g12, by decide⟩ dX5_sortOf_57 dX5_sortOf_58 (by decide) (fun c11 => ?_) (fun c11 => ?_)
        · replace hh := it_t c11 hh
          refine lv_iconst (v := zi 3) hx hb dX5_sortOf_61 rfl ?_
          refine lv_goto (tgt := 89) hx hb dX5_sortOf_62 (by decide) ?_
          exact hret _ _ _ _ _ _ (rt0 hh) rfl dX5_sortOf_89 hM
        · replace hh := it_f c11 hh
          refine lv_aload_n hx hb dX5_sortOf_65 rfl (lv_at hl 0 rfl) ?_
          refine mm_get X hM q1191 (mf_17 _ _) dX5_sortOf_66 ?_
          refine lv_bipush (v := zi 114) hx hb dX5_sortOf_69 (by decide) ?_
          refine lv_bipush (v := zi 101) hx hb dX5_sortOf_71 (by decide) ?_
          refine lv_bipush (v := zi 115) hx hb dX5_sortOf_73 (by decide) ?_
          refine lv_bipush (v := zi 116) hx hb dX5_sortOf_75 (by decide) ?_
          obtain ⟨v14, k13, hh⟩ := bd_inv hh
          refine mcs_l (rest := [.long (zl (S.1 17))]) X hM (wM_w4 l (114 : Int) (101 : Int) (115 : Int) (116 : Int) k13) c5_w4.1 c5_w4.2 ⟨rfl, rfl⟩ ⟨Nat.le_of_ble_eq_true rfl, Nat.le_of_ble_eq_true rfl⟩ ⟨Nat.zero_le _, Nat.zero_le _⟩ hl.1 (Nat.le_of_ble_eq_true rfl) dX5_sortOf_77 rfl (fun H locs hM => ?_)
          obtain ⟨g16, hh⟩ := gd_inv hh
          refine g_lcmp_ne (tgt := 88) hx hb g16 dX5_sortOf_80 dX5_sortOf_81 (by decide) (fun c15 => ?_) (fun c15 => ?_)
          · replace hh := it_t c15 hh
            refine lv_iconst (v := zi 4) hx hb dX5_sortOf_84 rfl ?_
            refine lv_goto (tgt := 89) hx hb dX5_sortOf_85 (by decide) ?_
            exact hret _ _ _ _ _ _ (rt0 hh) rfl dX5_sortOf_89 hM
          · replace hh := it_f c15 hh
            refine lv_iconst (v := zi 0) hx hb dX5_sortOf_88 rfl ?_
            exact hret _ _ _ _ _ _ (rt0 hh) rfl dX5_sortOf_89 hM
  · replace hh := it_f c1 hh
    refine lv_iconst (v := zi 0) hx hb dX5_sortOf_8 rfl ?_
    exact hret _ _ _ _ _ _ (rt0 hh) rfl dX5_sortOf_9 hM
def M_letterOf (S : xS) : Option Int := gd (r32 (S.1 15)) (if (S.1 15) = 2 then (gd (r64 (S.1 17)) (if (S.1 17) < 65 then (some (((-1) : Int))) else (gd (r64 (S.1 17)) (if (S.1 17) ≤ 72 then (some (((S.1 17) - 65 : Int))) else (some (((-1) : Int))))))) else (some (((-1) : Int))))
set_option maxHeartbeats 4000000 in
theorem wM_letterOf (l : Launch) (DM : va_G) (dA : Nat → ClassId) (h : Nat) (S : xS) {r : Int} (hh : M_letterOf S  = some r) : mt_i l yX5_letterOf cX5_letterOf 1 (some .int) ({ frames := 1, cells := 0, slots := 0, locals := 12 } : Room) DM dA h [] S r S := by
  refine mo_i (by decide) rfl (Nat.le_of_ble_eq_true rfl) ?_
  intro p e s m args below meth c Q ls X hret hl hM
  have hx := X.1.1
  have hb := X.1.2.1
  have hown := X.1.2.2.2.1
  have hts := X.1.2.2.2.2
  skip
  replace hl : lv_has ls 1 [(0, .ref (h))] := hl
  unfold M_letterOf at hh
  refine lv_aload_n hx hb dX5_letterOf_0 rfl (lv_at hl 0 rfl) ?_
  refine mm_get X hM q1189 (mf_15 _ _) dX5_letterOf_1 ?_
  refine lv_iconst (v := zi 2) hx hb dX5_letterOf_4 rfl ?_
  obtain ⟨g2, hh⟩ := gd_inv hh
  refine g_icmp_ne (tgt := 41) hx hb ⟨g2, by decide⟩ dX5_letterOf_5 (by decide) (fun c1 => ?_) (fun c1 => ?_)
  · replace hh := it_t c1 hh
    refine lv_aload_n hx hb dX5_letterOf_8 rfl (lv_at hl 0 rfl) ?_
    refine mm_get X hM q1191 (mf_17 _ _) dX5_letterOf_9 ?_
    refine g_ldc2 (v := 65) (z := 65) hx hb (by decide) hown (hts _ q1471) dX5_letterOf_12 ?_
    obtain ⟨g4, hh⟩ := gd_inv hh
    refine g_lcmp_lt (tgt := 41) hx hb ⟨g4, by decide⟩ dX5_letterOf_15 dX5_letterOf_16 (by decide) (fun c3 => ?_) (fun c3 => ?_)
    · replace hh := it_t c3 hh
      refine lv_iconst (v := zi (-1)) hx hb dX5_letterOf_41 rfl ?_
      exact hret _ _ _ _ _ _ (rt0 hh) rfl dX5_letterOf_42 hM
    · replace hh := it_f c3 hh
      refine lv_aload_n hx hb dX5_letterOf_19 rfl (lv_at hl 0 rfl) ?_
      refine mm_get X hM q1191 (mf_17 _ _) dX5_letterOf_20 ?_
      refine g_ldc2 (v := 72) (z := 72) hx hb (by decide) hown (hts _ q1472) dX5_letterOf_23 ?_
      obtain ⟨g6, hh⟩ := gd_inv hh
      refine g_lcmp_gt (tgt := 41) hx hb ⟨g6, by decide⟩ dX5_letterOf_26 dX5_letterOf_27 (by decide) (fun c5 => ?_) (fun c5 => ?_)
      · replace hh := it_t c5 hh
        refine lv_aload_n hx hb dX5_letterOf_30 rfl (lv_at hl 0 rfl) ?_
        refine mm_get X hM q1191 (mf_17 _ _) dX5_letterOf_31 ?_
        refine g_l2i hx hb dX5_letterOf_34 ?_
        refine lv_bipush (v := zi 65) hx hb dX5_letterOf_35 (by decide) ?_
        refine g_isub hx hb dX5_letterOf_37 ?_
        refine lv_goto (tgt := 42) hx hb dX5_letterOf_38 (by decide) ?_
        exact hret _ _ _ _ _ _ (rt0 hh) rfl dX5_letterOf_42 hM
      · replace hh := it_f c5 hh
        refine lv_iconst (v := zi (-1)) hx hb dX5_letterOf_41 rfl ?_
        exact hret _ _ _ _ _ _ (rt0 hh) rfl dX5_letterOf_42 hM
  · replace hh := it_f c1 hh
    refine lv_iconst (v := zi (-1)) hx hb dX5_letterOf_41 rfl ?_
    exact hret _ _ _ _ _ _ (rt0 hh) rfl dX5_letterOf_42 hM
def M_isWord (S : xS) (x1 : Int) : Option Bool := gd (r32 (S.1 15)) (if (S.1 15) = 2 then (gd (r64 (S.1 17) ∧ r64 (x1)) (if (S.1 17) = x1 then (some (true)) else (some (false)))) else (some (false)))
set_option maxHeartbeats 4000000 in
theorem wM_isWord (l : Launch) (DM : va_G) (dA : Nat → ClassId) (h : Nat) (S : xS) (x1 : Int) {r : Bool} (hh : M_isWord S x1 = some r) : mt_z l yX5_isWord cX5_isWord 3 (some .boolean) ({ frames := 1, cells := 0, slots := 0, locals := 12 } : Room) DM dA h [.long (zl x1)] S r S := by
  refine mo_z (by decide) rfl (Nat.le_of_ble_eq_true rfl) ?_
  intro p e s m args below meth c Q ls X hret hl hM
  have hx := X.1.1
  have hb := X.1.2.1
  have hown := X.1.2.2.2.1
  have hts := X.1.2.2.2.2
  skip
  replace hl : lv_has ls 3 [(0, .ref (h)), (1, .long (zl (x1)))] := hl
  unfold M_isWord at hh
  refine lv_aload_n hx hb dX5_isWord_0 rfl (lv_at hl 0 rfl) ?_
  refine mm_get X hM q1189 (mf_15 _ _) dX5_isWord_1 ?_
  refine lv_iconst (v := zi 2) hx hb dX5_isWord_4 rfl ?_
  obtain ⟨g2, hh⟩ := gd_inv hh
  refine g_icmp_ne (tgt := 21) hx hb ⟨g2, by decide⟩ dX5_isWord_5 (by decide) (fun c1 => ?_) (fun c1 => ?_)
  · replace hh := it_t c1 hh
    refine lv_aload_n hx hb dX5_isWord_8 rfl (lv_at hl 0 rfl) ?_
    refine mm_get X hM q1191 (mf_17 _ _) dX5_isWord_9 ?_
    refine lv_lload_n hx hb dX5_isWord_12 rfl (lv_at hl 1 rfl) ?_
    obtain ⟨g4, hh⟩ := gd_inv hh
    refine g_lcmp_ne (tgt := 21) hx hb g4 dX5_isWord_13 dX5_isWord_14 (by decide) (fun c3 => ?_) (fun c3 => ?_)
    · replace hh := it_t c3 hh
      refine lv_iconst (v := zi 1) hx hb dX5_isWord_17 rfl ?_
      refine lv_goto (tgt := 22) hx hb dX5_isWord_18 (by decide) ?_
      refine W.eq (g2 := F0 m 22 ls [.int (zi (bz true))]) rfl ?_
      exact hret _ _ _ _ _ _ (rt0 hh) rfl dX5_isWord_22 hM
    · replace hh := it_f c3 hh
      refine lv_iconst (v := zi 0) hx hb dX5_isWord_21 rfl ?_
      refine W.eq (g2 := F0 m 22 ls [.int (zi (bz false))]) rfl ?_
      exact hret _ _ _ _ _ _ (rt0 hh) rfl dX5_isWord_22 hM
  · replace hh := it_f c1 hh
    refine lv_iconst (v := zi 0) hx hb dX5_isWord_21 rfl ?_
    refine W.eq (g2 := F0 m 22 ls [.int (zi (bz false))]) rfl ?_
    exact hret _ _ _ _ _ _ (rt0 hh) rfl dX5_isWord_22 hM
