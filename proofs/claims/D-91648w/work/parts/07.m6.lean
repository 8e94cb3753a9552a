set_option maxRecDepth 100000
def M_clause_B161 (S : xS) (x2 : Int) (x3 : Int) (t0 : Int) : Option (Int × xS) := gd (r32 (t0)) (if t0 = 0 then (gd ((0 : Int) ≤ x2 + 3 ∧ (x2 + 3 : Int) < 6400) (nm (aset S 4 (x2 + 3) (S.1 20)) (fun S48 => gd (r32 (S48.1 15)) (if (S48.1 15) = 59 then (gd ((0 : Int) ≤ S48.1 22 ∧ (0 : Int) ≤ x3) (nm (fset S48 22 (zor (S48.1 22) x3)) (fun S53 => nm (fset S53 19 ((S53.1 19) + 1)) (fun S55 => bd (M_nextToken S55 ) (fun S58 => some ((0 : Int), S58)))))) else (some ((1 : Int), S48)))))) else (some ((t0 : Int), S)))
def M_clause_B145 (S : xS) (x1 : Int) (x2 : Int) (x3 : Int) : Option (Int × xS) := gd (r32 (x1)) (if x1 = 4 then (bd2 (M_either S ) (fun v43 S44 => M_clause_B161 S44 x2 x3 v43)) else (bd2 (M_summed S ) (fun v60 S61 => M_clause_B161 S61 x2 x3 v60)))
def M_clause_B30 (S : xS) (x1 : Int) : Option (Int × xS) := gd (r32 (S.1 19)) (if (S.1 19) = 10 then (some ((6 : Int), S)) else (gd ((0 : Int) ≤ 1 ∧ ((0 : Int) ≤ x1 ∧ (x1 : Int) ≤ 31) ∧ (1 : Int) * 2 ^ (Int.toNat x1) < 4294967296) (gd ((0 : Int) ≤ S.1 21 ∧ (0 : Int) ≤ (1 : Int) * 2 ^ (Int.toNat x1)) (nm (fset S 21 (zor (S.1 21) ((1 : Int) * 2 ^ (Int.toNat x1)))) (fun S11 => nm (((S11.1 18) + 1) + (4 * (S11.1 19))) (fun v13 => gd ((0 : Int) ≤ v13 ∧ (v13 : Int) < 6400) (nm (aset S11 4 v13 x1) (fun S16 => gd ((0 : Int) ≤ v13 + 2 ∧ (v13 + 2 : Int) < 6400) (nm (aset S16 4 (v13 + 2) (S16.1 20)) (fun S19 => bd (M_nextToken S19 ) (fun S22 => gd (r32 (x1)) (if x1 = 1 then (bd (M_letterOf S22 ) (fun v26 => gd (r32 (v26)) (if v26 < 0 then (some ((1 : Int), S22)) else (gd (r32 (S22.1 22) ∧ (0 : Int) ≤ v26 ∧ (v26 : Int) ≤ 31) (gd (r32 (((S22.1 22) / 2 ^ (Int.toNat v26)) % 2 ^ 1)) (if (((S22.1 22) / 2 ^ (Int.toNat v26)) % 2 ^ 1) = 1 then (some ((4 : Int), S22)) else (gd ((0 : Int) ≤ v13 + 1 ∧ (v13 + 1 : Int) < 6400) (nm (aset S22 4 (v13 + 1) v26) (fun S33 => gd ((0 : Int) ≤ 1 ∧ ((0 : Int) ≤ v26 ∧ (v26 : Int) ≤ 31) ∧ (1 : Int) * 2 ^ (Int.toNat v26) < 4294967296) (nm ((1 : Int) * 2 ^ (Int.toNat v26)) (fun v36 => bd (M_nextToken S33 ) (fun S39 => M_clause_B145 S39 x1 v13 v36)))))))))))) else (M_clause_B145 S22 x1 v13 (0 : Int))))))))))))))
def M_clause (S : xS) : Option (Int × xS) := bd (M_sortOf S ) (fun v2 => gd (r32 (v2)) (if v2 = 0 then (some ((1 : Int), S)) else (gd (r32 (v2)) (if v2 = 1 then (M_clause_B30 S v2) else (gd (r32 (S.1 21) ∧ (0 : Int) ≤ v2 ∧ (v2 : Int) ≤ 31) (gd (r32 (((S.1 21) / 2 ^ (Int.toNat v2)) % 2 ^ 1)) (if (((S.1 21) / 2 ^ (Int.toNat v2)) % 2 ^ 1) = 1 then (some ((4 : Int), S)) else (M_clause_B30 S v2))))))))
set_option maxHeartbeats 4000000 in
theorem wM_clause (l : Launch) (DM : va_G) (dA : Nat → ClassId) (h : Nat) (S : xS) {r : Int} {S1 : xS} (hh : M_clause S  = some (r, S1)) : mt_i l yX5_clause cX5_clause 5 (some .int) ({ frames := 9, cells := 0, slots := 0, locals := 188 } : Room) DM dA h [] S r S1 := by
  refine mo_i (by decide) rfl (Nat.le_of_ble_eq_true rfl) ?_
  intro p e s m args below meth c Q ls X hret hl hM
  have hx := X.1.1
  have hb := X.1.2.1
  have hown := X.1.2.2.2.1
  have hts := X.1.2.2.2.2
  skip
  have hB161 : ∀ (x2 : Int) (x3 : Int) (t0 : Int) (S : xS), M_clause_B161 S x2 x3 t0 = some (r, S1) → ∀ (H : Heap) (locs : List Loc) (ls : Array Slot), MX DM dA h S s H locs → lv_has ls 5 [(0, .ref (h)), (2, .int (zi (x2))), (3, .int (zi (x3)))] → W p l e ({ frames := 9, cells := 0, slots := 0, locals := 188 } : Room) s m args below meth c H locs 0 0 Q (F0 m 161 ls [.int (zi (t0))]) := by
    intro x2 x3 t0  S hh H locs ls hM hl
    unfold M_clause_B161 at hh
    refine lv_istore (lv' := [(4, .int (zi (t0))), (0, .ref (h)), (2, .int (zi (x2))), (3, .int (zi (x3)))]) hx hb dX5_clause_161 hl (by decide) rfl (fun ls hl => ?_)
    refine lv_iload hx hb dX5_clause_163 (lv_at hl 0 rfl) ?_
    obtain ⟨g46, hh⟩ := gd_inv hh
    refine g_if_eq (tgt := 171) hx hb g46 dX5_clause_165 (by decide) (fun c45 => ?_) (fun c45 => ?_)
    · replace hh := it_t c45 hh
      refine lv_aload_n hx hb dX5_clause_171 rfl (lv_at hl 1 rfl) ?_
      refine mm_get X hM q1178 (mf_4 _ _) dX5_clause_172 ?_
      refine lv_iload_n hx hb dX5_clause_175 rfl (lv_at hl 2 rfl) ?_
      refine lv_iconst (v := zi 3) hx hb dX5_clause_176 rfl ?_
      refine g_iadd hx hb dX5_clause_177 ?_
      refine lv_aload_n hx hb dX5_clause_178 rfl (lv_at hl 1 rfl) ?_
      refine mm_get X hM q1194 (mf_20 _ _) dX5_clause_179 ?_
      obtain ⟨g47, hh⟩ := gd_inv hh
      refine mm_iast X hM (ma_4 _ _) g47 dX5_clause_182 (fun H locs S48 e49 hM => ?_)
      replace hh := nm_inv hh S48 e49
      refine lv_aload_n hx hb dX5_clause_183 rfl (lv_at hl 1 rfl) ?_
      refine mm_get X hM q1189 (mf_15 _ _) dX5_clause_184 ?_
      refine lv_bipush (v := zi 59) hx hb dX5_clause_187 (by decide) ?_
      obtain ⟨g51, hh⟩ := gd_inv hh
      refine g_icmp_eq (tgt := 194) hx hb ⟨g51, by decide⟩ dX5_clause_189 (by decide) (fun c50 => ?_) (fun c50 => ?_)
      · replace hh := it_t c50 hh
        refine lv_aload_n hx hb dX5_clause_194 rfl (lv_at hl 1 rfl) ?_
        refine lv_dup hx hb dX5_clause_195 rfl ?_
        refine mm_get X hM q1196 (mf_22 _ _) dX5_clause_196 ?_
        refine lv_iload_n hx hb dX5_clause_199 rfl (lv_at hl 3 rfl) ?_
        obtain ⟨g52, hh⟩ := gd_inv hh
        refine g_ior hx hb g52 dX5_clause_200 ?_
        refine mm_put X hM q1196 (mp_22 _ _ _) dX5_clause_201 (fun H locs S53 e54 hM => ?_)
        replace hh := nm_inv hh S53 e54
        refine lv_aload_n hx hb dX5_clause_204 rfl (lv_at hl 1 rfl) ?_
        refine lv_dup hx hb dX5_clause_205 rfl ?_
        refine mm_get X hM q1193 (mf_19 _ _) dX5_clause_206 ?_
        refine lv_iconst (v := zi 1) hx hb dX5_clause_209 rfl ?_
        refine g_iadd hx hb dX5_clause_210 ?_
        refine mm_put X hM q1193 (mp_19 _ _ _) dX5_clause_211 (fun H locs S55 e56 hM => ?_)
        replace hh := nm_inv hh S55 e56
        refine lv_aload_n hx hb dX5_clause_214 rfl (lv_at hl 1 rfl) ?_
        obtain ⟨S58, k57, hh⟩ := bd_inv hh
        refine mc_v (rest := []) X hM (wM_nextToken l DM dA h S55  k57) c5_nextToken.1 c5_nextToken.2 ⟨rfl, rfl⟩ ⟨Nat.le_of_ble_eq_true rfl, Nat.le_of_ble_eq_true rfl⟩ ⟨Nat.zero_le _, Nat.zero_le _⟩ hl.1 (Nat.le_of_ble_eq_true rfl) dX5_clause_215 rfl (fun H locs hM => ?_)
        refine lv_iconst (v := zi 0) hx hb dX5_clause_218 rfl ?_
        exact hret _ _ _ _ _ _ (rt1 hh) (rt2 hh) dX5_clause_219 hM
      · replace hh := it_f c50 hh
        refine lv_iconst (v := zi 1) hx hb dX5_clause_192 rfl ?_
        exact hret _ _ _ _ _ _ (rt1 hh) (rt2 hh) dX5_clause_193 hM
    · replace hh := it_f c45 hh
      refine lv_iload hx hb dX5_clause_168 (lv_at hl 0 rfl) ?_
      exact hret _ _ _ _ _ _ (rt1 hh) (rt2 hh) dX5_clause_170 hM
  have hB145 : ∀ (x1 : Int) (x2 : Int) (x3 : Int) (S : xS), M_clause_B145 S x1 x2 x3 = some (r, S1) → ∀ (H : Heap) (locs : List Loc) (ls : Array Slot), MX DM dA h S s H locs → lv_has ls 5 [(0, .ref (h)), (1, .int (zi (x1))), (2, .int (zi (x2))), (3, .int (zi (x3)))] → W p l e ({ frames := 9, cells := 0, slots := 0, locals := 188 } : Room) s m args below meth c H locs 0 0 Q (F0 m 145 ls []) := by
    intro x1 x2 x3  S hh H locs ls hM hl
    unfold M_clause_B145 at hh
    refine lv_iload_n hx hb dX5_clause_145 rfl (lv_at hl 1 rfl) ?_
    refine lv_iconst (v := zi 4) hx hb dX5_clause_146 rfl ?_
    obtain ⟨g41, hh⟩ := gd_inv hh
    refine g_icmp_ne (tgt := 157) hx hb ⟨g41, by decide⟩ dX5_clause_147 (by decide) (fun c40 => ?_) (fun c40 => ?_)
    · replace hh := it_t c40 hh
      refine lv_aload_n hx hb dX5_clause_150 rfl (lv_at hl 0 rfl) ?_
      obtain ⟨v43, S44, k42, hh⟩ := bd2_inv hh
      refine mc_i (rest := []) X hM (wM_either l DM dA h S  k42) c5_either.1 c5_either.2 ⟨rfl, rfl⟩ ⟨Nat.le_of_ble_eq_true rfl, Nat.le_of_ble_eq_true rfl⟩ ⟨Nat.zero_le _, Nat.zero_le _⟩ hl.1 (Nat.le_of_ble_eq_true rfl) dX5_clause_151 rfl (fun H locs hM => ?_)
      refine lv_goto (tgt := 161) hx hb dX5_clause_154 (by decide) ?_
      exact hB161 x2 x3 v43 S44 hh _ _ _ hM (lv_sub hl [0, 2, 3] rfl)
    · replace hh := it_f c40 hh
      refine lv_aload_n hx hb dX5_clause_157 rfl (lv_at hl 0 rfl) ?_
      obtain ⟨v60, S61, k59, hh⟩ := bd2_inv hh
      refine mc_i (rest := []) X hM (wM_summed l DM dA h S  k59) c5_summed.1 c5_summed.2 ⟨rfl, rfl⟩ ⟨Nat.le_of_ble_eq_true rfl, Nat.le_of_ble_eq_true rfl⟩ ⟨Nat.zero_le _, Nat.zero_le _⟩ hl.1 (Nat.le_of_ble_eq_true rfl) dX5_clause_158 rfl (fun H locs hM => ?_)
      exact hB161 x2 x3 v60 S61 hh _ _ _ hM (lv_sub hl [0, 2, 3] rfl)
  have hB30 : ∀ (x1 : Int) (S : xS), M_clause_B30 S x1 = some (r, S1) → ∀ (H : Heap) (locs : List Loc) (ls : Array Slot), MX DM dA h S s H locs → lv_has ls 5 [(0, .ref (h)), (1, .int (zi (x1)))] → W p l e ({ frames := 9, cells := 0, slots := 0, locals := 188 } : Room) s m args below meth c H locs 0 0 Q (F0 m 30 ls []) := by
    intro x1  S hh H locs ls hM hl
    unfold M_clause_B30 at hh
    refine lv_aload_n hx hb dX5_clause_30 rfl (lv_at hl 0 rfl) ?_
    refine mm_get X hM q1193 (mf_19 _ _) dX5_clause_31 ?_
    refine lv_bipush (v := zi 10) hx hb dX5_clause_34 (by decide) ?_
    obtain ⟨g8, hh⟩ := gd_inv hh
    refine g_icmp_ne (tgt := 42) hx hb ⟨g8, by decide⟩ dX5_clause_36 (by decide) (fun c7 => ?_) (fun c7 => ?_)
    · replace hh := it_t c7 hh
      refine lv_bipush (v := zi 6) hx hb dX5_clause_39 (by decide) ?_
      exact hret _ _ _ _ _ _ (rt1 hh) (rt2 hh) dX5_clause_41 hM
    · replace hh := it_f c7 hh
      refine lv_aload_n hx hb dX5_clause_42 rfl (lv_at hl 0 rfl) ?_
      refine lv_dup hx hb dX5_clause_43 rfl ?_
      refine mm_get X hM q1195 (mf_21 _ _) dX5_clause_44 ?_
      refine lv_iconst (v := zi 1) hx hb dX5_clause_47 rfl ?_
      refine lv_iload_n hx hb dX5_clause_48 rfl (lv_at hl 1 rfl) ?_
      obtain ⟨g9, hh⟩ := gd_inv hh
      refine g_ishl hx hb g9 dX5_clause_49 ?_
      obtain ⟨g10, hh⟩ := gd_inv hh
      refine g_ior hx hb g10 dX5_clause_50 ?_
      refine mm_put X hM q1195 (mp_21 _ _ _) dX5_clause_51 (fun H locs S11 e12 hM => ?_)
      replace hh := nm_inv hh S11 e12
      refine lv_aload_n hx hb dX5_clause_54 rfl (lv_at hl 0 rfl) ?_
      refine mm_get X hM q1192 (mf_18 _ _) dX5_clause_55 ?_
      refine lv_iconst (v := zi 1) hx hb dX5_clause_58 rfl ?_
      refine g_iadd hx hb dX5_clause_59 ?_
      refine lv_iconst (v := zi 4) hx hb dX5_clause_60 rfl ?_
      refine lv_aload_n hx hb dX5_clause_61 rfl (lv_at hl 0 rfl) ?_
      refine mm_get X hM q1193 (mf_19 _ _) dX5_clause_62 ?_
      refine g_imul hx hb dX5_clause_65 ?_
      refine g_iadd hx hb dX5_clause_66 ?_
      refine g_nmi hx hb (fun v13 e14 => ?_)
      replace hh := nm_inv hh v13 e14
      refine lv_istore_n (lv' := [(2, .int (zi (v13))), (0, .ref (h)), (1, .int (zi (x1)))]) hx hb dX5_clause_67 rfl hl (by decide) rfl (fun ls hl => ?_)
      refine lv_aload_n hx hb dX5_clause_68 rfl (lv_at hl 1 rfl) ?_
      refine mm_get X hM q1178 (mf_4 _ _) dX5_clause_69 ?_
      refine lv_iload_n hx hb dX5_clause_72 rfl (lv_at hl 0 rfl) ?_
      refine lv_iload_n hx hb dX5_clause_73 rfl (lv_at hl 2 rfl) ?_
      obtain ⟨g15, hh⟩ := gd_inv hh
      refine mm_iast X hM (ma_4 _ _) g15 dX5_clause_74 (fun H locs S16 e17 hM => ?_)
      replace hh := nm_inv hh S16 e17
      refine lv_aload_n hx hb dX5_clause_75 rfl (lv_at hl 1 rfl) ?_
      refine mm_get X hM q1178 (mf_4 _ _) dX5_clause_76 ?_
      refine lv_iload_n hx hb dX5_clause_79 rfl (lv_at hl 0 rfl) ?_
      refine lv_iconst (v := zi 2) hx hb dX5_clause_80 rfl ?_
      refine g_iadd hx hb dX5_clause_81 ?_
      refine lv_aload_n hx hb dX5_clause_82 rfl (lv_at hl 1 rfl) ?_
      refine mm_get X hM q1194 (mf_20 _ _) dX5_clause_83 ?_
      obtain ⟨g18, hh⟩ := gd_inv hh
      refine mm_iast X hM (ma_4 _ _) g18 dX5_clause_86 (fun H locs S19 e20 hM => ?_)
      replace hh := nm_inv hh S19 e20
      refine lv_aload_n hx hb dX5_clause_87 rfl (lv_at hl 1 rfl) ?_
      obtain ⟨S22, k21, hh⟩ := bd_inv hh
      refine mc_v (rest := []) X hM (wM_nextToken l DM dA h S19  k21) c5_nextToken.1 c5_nextToken.2 ⟨rfl, rfl⟩ ⟨Nat.le_of_ble_eq_true rfl, Nat.le_of_ble_eq_true rfl⟩ ⟨Nat.zero_le _, Nat.zero_le _⟩ hl.1 (Nat.le_of_ble_eq_true rfl) dX5_clause_88 rfl (fun H locs hM => ?_)
      refine lv_iconst (v := zi 0) hx hb dX5_clause_91 rfl ?_
      refine lv_istore_n (lv' := [(3, .int (zi (0))), (2, .int (zi (v13))), (0, .ref (h)), (1, .int (zi (x1)))]) hx hb dX5_clause_92 rfl hl (by decide) rfl (fun ls hl => ?_)
      refine lv_iload_n hx hb dX5_clause_93 rfl (lv_at hl 3 rfl) ?_
      refine lv_iconst (v := zi 1) hx hb dX5_clause_94 rfl ?_
      obtain ⟨g24, hh⟩ := gd_inv hh
      refine g_icmp_ne (tgt := 145) hx hb ⟨g24, by decide⟩ dX5_clause_95 (by decide) (fun c23 => ?_) (fun c23 => ?_)
      · replace hh := it_t c23 hh
        refine lv_aload_n hx hb dX5_clause_98 rfl (lv_at hl 2 rfl) ?_
        obtain ⟨v26, k25, hh⟩ := bd_inv hh
        refine mc_i (rest := []) X hM (wM_letterOf l DM dA h S22  k25) c5_letterOf.1 c5_letterOf.2 ⟨rfl, rfl⟩ ⟨Nat.le_of_ble_eq_true rfl, Nat.le_of_ble_eq_true rfl⟩ ⟨Nat.zero_le _, Nat.zero_le _⟩ hl.1 (Nat.le_of_ble_eq_true rfl) dX5_clause_99 rfl (fun H locs hM => ?_)
        refine lv_istore (lv' := [(4, .int (zi (v26))), (3, .int (zi (0))), (2, .int (zi (v13))), (0, .ref (h)), (1, .int (zi (x1)))]) hx hb dX5_clause_102 hl (by decide) rfl (fun ls hl => ?_)
        refine lv_iload hx hb dX5_clause_104 (lv_at hl 0 rfl) ?_
        obtain ⟨g28, hh⟩ := gd_inv hh
        refine g_if_ge (tgt := 111) hx hb g28 dX5_clause_106 (by decide) (fun c27 => ?_) (fun c27 => ?_)
        · replace hh := it_t c27 hh
          refine lv_iconst (v := zi 1) hx hb dX5_clause_109 rfl ?_
          exact hret _ _ _ _ _ _ (rt1 hh) (rt2 hh) dX5_clause_110 hM
        · replace hh := it_f c27 hh
          refine lv_aload_n hx hb dX5_clause_111 rfl (lv_at hl 3 rfl) ?_
          refine mm_get X hM q1196 (mf_22 _ _) dX5_clause_112 ?_
          refine lv_iload hx hb dX5_clause_115 (lv_at hl 0 rfl) ?_
          obtain ⟨g29, hh⟩ := gd_inv hh
          refine g_ishr hx hb g29 dX5_clause_117 ?_
          refine lv_iconst (v := zi 1) hx hb dX5_clause_118 rfl ?_
          refine g_mask hx hb 1 (by decide) (by decide) dX5_clause_119 ?_
          refine lv_iconst (v := zi 1) hx hb dX5_clause_120 rfl ?_
          obtain ⟨g31, hh⟩ := gd_inv hh
          refine g_icmp_ne (tgt := 126) hx hb ⟨g31, by decide⟩ dX5_clause_121 (by decide) (fun c30 => ?_) (fun c30 => ?_)
          · replace hh := it_t c30 hh
            refine lv_iconst (v := zi 4) hx hb dX5_clause_124 rfl ?_
            exact hret _ _ _ _ _ _ (rt1 hh) (rt2 hh) dX5_clause_125 hM
          · replace hh := it_f c30 hh
            refine lv_aload_n hx hb dX5_clause_126 rfl (lv_at hl 3 rfl) ?_
            refine mm_get X hM q1178 (mf_4 _ _) dX5_clause_127 ?_
            refine lv_iload_n hx hb dX5_clause_130 rfl (lv_at hl 2 rfl) ?_
            refine lv_iconst (v := zi 1) hx hb dX5_clause_131 rfl ?_
            refine g_iadd hx hb dX5_clause_132 ?_
            refine lv_iload hx hb dX5_clause_133 (lv_at hl 0 rfl) ?_
            obtain ⟨g32, hh⟩ := gd_inv hh
            refine mm_iast X hM (ma_4 _ _) g32 dX5_clause_135 (fun H locs S33 e34 hM => ?_)
            replace hh := nm_inv hh S33 e34
            refine lv_iconst (v := zi 1) hx hb dX5_clause_136 rfl ?_
            refine lv_iload hx hb dX5_clause_137 (lv_at hl 0 rfl) ?_
            obtain ⟨g35, hh⟩ := gd_inv hh
            refine g_ishl hx hb g35 dX5_clause_139 ?_
            refine g_nmi hx hb (fun v36 e37 => ?_)
            replace hh := nm_inv hh v36 e37
            refine lv_istore_n (lv' := [(3, .int (zi (v36))), (4, .int (zi (v26))), (2, .int (zi (v13))), (0, .ref (h)), (1, .int (zi (x1)))]) hx hb dX5_clause_140 rfl hl (by decide) rfl (fun ls hl => ?_)
            refine lv_aload_n hx hb dX5_clause_141 rfl (lv_at hl 3 rfl) ?_
            obtain ⟨S39, k38, hh⟩ := bd_inv hh
            refine mc_v (rest := []) X hM (wM_nextToken l DM dA h S33  k38) c5_nextToken.1 c5_nextToken.2 ⟨rfl, rfl⟩ ⟨Nat.le_of_ble_eq_true rfl, Nat.le_of_ble_eq_true rfl⟩ ⟨Nat.zero_le _, Nat.zero_le _⟩ hl.1 (Nat.le_of_ble_eq_true rfl) dX5_clause_142 rfl (fun H locs hM => ?_)
            exact hB145 x1 v13 v36 S39 hh _ _ _ hM (lv_sub hl [3, 4, 2, 0] rfl)
      · replace hh := it_f c23 hh
        exact hB145 x1 v13 (0 : Int) S22 hh _ _ _ hM (lv_sub hl [2, 3, 1, 0] rfl)
  replace hl : lv_has ls 5 [(0, .ref (h))] := hl
  unfold M_clause at hh
  refine lv_aload_n hx hb dX5_clause_0 rfl (lv_at hl 0 rfl) ?_
  obtain ⟨v2, k1, hh⟩ := bd_inv hh
  refine mc_i (rest := []) X hM (wM_sortOf l DM dA h S  k1) c5_sortOf.1 c5_sortOf.2 ⟨rfl, rfl⟩ ⟨Nat.le_of_ble_eq_true rfl, Nat.le_of_ble_eq_true rfl⟩ ⟨Nat.zero_le _, Nat.zero_le _⟩ hl.1 (Nat.le_of_ble_eq_true rfl) dX5_clause_1 rfl (fun H locs hM => ?_)
  refine lv_istore_n (lv' := [(1, .int (zi (v2))), (0, .ref (h))]) hx hb dX5_clause_4 rfl hl (by decide) rfl (fun ls hl => ?_)
  refine lv_iload_n hx hb dX5_clause_5 rfl (lv_at hl 0 rfl) ?_
  obtain ⟨g4, hh⟩ := gd_inv hh
  refine g_if_ne (tgt := 11) hx hb g4 dX5_clause_6 (by decide) (fun c3 => ?_) (fun c3 => ?_)
  · replace hh := it_t c3 hh
    refine lv_iconst (v := zi 1) hx hb dX5_clause_9 rfl ?_
    exact hret _ _ _ _ _ _ (rt1 hh) (rt2 hh) dX5_clause_10 hM
  · replace hh := it_f c3 hh
    refine lv_iload_n hx hb dX5_clause_11 rfl (lv_at hl 0 rfl) ?_
    refine lv_iconst (v := zi 1) hx hb dX5_clause_12 rfl ?_
    obtain ⟨g6, hh⟩ := gd_inv hh
    refine g_icmp_eq (tgt := 30) hx hb ⟨g6, by decide⟩ dX5_clause_13 (by decide) (fun c5 => ?_) (fun c5 => ?_)
    · replace hh := it_t c5 hh
      exact hB30 v2 S hh _ _ _ hM (lv_sub hl [1, 0] rfl)
    · replace hh := it_f c5 hh
      refine lv_aload_n hx hb dX5_clause_16 rfl (lv_at hl 1 rfl) ?_
      refine mm_get X hM q1195 (mf_21 _ _) dX5_clause_17 ?_
      refine lv_iload_n hx hb dX5_clause_20 rfl (lv_at hl 0 rfl) ?_
      obtain ⟨g62, hh⟩ := gd_inv hh
      refine g_ishr hx hb g62 dX5_clause_21 ?_
      refine lv_iconst (v := zi 1) hx hb dX5_clause_22 rfl ?_
      refine g_mask hx hb 1 (by decide) (by decide) dX5_clause_23 ?_
      refine lv_iconst (v := zi 1) hx hb dX5_clause_24 rfl ?_
      obtain ⟨g64, hh⟩ := gd_inv hh
      refine g_icmp_ne (tgt := 30) hx hb ⟨g64, by decide⟩ dX5_clause_25 (by decide) (fun c63 => ?_) (fun c63 => ?_)
      · replace hh := it_t c63 hh
        refine lv_iconst (v := zi 4) hx hb dX5_clause_28 rfl ?_
        exact hret _ _ _ _ _ _ (rt1 hh) (rt2 hh) dX5_clause_29 hM
      · replace hh := it_f c63 hh
        exact hB30 v2 S hh _ _ _ hM (lv_sub hl [1, 0] rfl)
def M_readText_b48 (K48 : xS → Option (Int × xS)) (S : xS) : Option (Int × xS) := gd (r32 (S.1 15)) (if (S.1 15) = 0 then (some ((0 : Int), S)) else (bd2 (M_clause S ) (fun v20 S21 => gd (r32 (v20)) (if v20 = 0 then (K48 S21) else (some ((v20 : Int), S21))))))
def M_readText_L48 : Nat → xS → Option (Int × xS)
  | 0 => fun _ => none
  | n + 1 => fun S => M_readText_b48  (M_readText_L48  n) S
def M_readText (S : xS) : Option (Int × xS) := nm (fset S 18 (800 * (S.2 2 3))) (fun S1 => nm (fset S1 19 (0)) (fun S3 => nm (fset S3 20 (0)) (fun S5 => nm (fset S5 25 (0)) (fun S7 => nm (fset S7 21 (0)) (fun S9 => nm (fset S9 22 (0)) (fun S11 => nm (fset S11 13 (0)) (fun S13 => bd (M_nextToken S13 ) (fun S16 => M_readText_L48 FU S16))))))))
set_option maxHeartbeats 4000000 in
theorem wM_readText (l : Launch) (DM : va_G) (dA : Nat → ClassId) (h : Nat) (S : xS) {r : Int} {S1 : xS} (hh : M_readText S  = some (r, S1)) : mt_i l yX5_readText cX5_readText 2 (some .int) ({ frames := 10, cells := 0, slots := 0, locals := 212 } : Room) DM dA h [] S r S1 := by
  refine mo_i (by decide) rfl (Nat.le_of_ble_eq_true rfl) ?_
  intro p e s m args below meth c Q ls X hret hl hM
  have hx := X.1.1
  have hb := X.1.2.1
  have hown := X.1.2.2.2.1
  have hts := X.1.2.2.2.2
  skip
  have hL48 : ∀ (n : Nat) (S : xS), M_readText_L48 n S = some (r, S1) → ∀ (H : Heap) (locs : List Loc) (ls : Array Slot), MX DM dA h S s H locs → lv_has ls 2 [(0, .ref (h))] → W p l e ({ frames := 10, cells := 0, slots := 0, locals := 212 } : Room) s m args below meth c H locs 0 0 Q (F0 m 48 ls []) := by
    intro   n
    induction n with
    | zero => intro S hh; exact no_some hh
    | succ n ih =>
      intro S hh H locs ls hM hl
      replace hh : M_readText_b48 (M_readText_L48 n) S = some (r, S1) := hh
      unfold M_readText_b48 at hh
      have hK48 := ih
      refine lv_aload_n hx hb dX5_readText_48 rfl (lv_at hl 0 rfl) ?_
      refine mm_get X hM q1189 (mf_15 _ _) dX5_readText_49 ?_
      obtain ⟨g18, hh⟩ := gd_inv hh
      refine g_if_eq (tgt := 69) hx hb g18 dX5_readText_52 (by decide) (fun c17 => ?_) (fun c17 => ?_)
      · replace hh := it_t c17 hh
        refine lv_iconst (v := zi 0) hx hb dX5_readText_69 rfl ?_
        exact hret _ _ _ _ _ _ (rt1 hh) (rt2 hh) dX5_readText_70 hM
      · replace hh := it_f c17 hh
        refine lv_aload_n hx hb dX5_readText_55 rfl (lv_at hl 0 rfl) ?_
        obtain ⟨v20, S21, k19, hh⟩ := bd2_inv hh
        refine mc_i (rest := []) X hM (wM_clause l DM dA h S  k19) c5_clause.1 c5_clause.2 ⟨rfl, rfl⟩ ⟨Nat.le_of_ble_eq_true rfl, Nat.le_of_ble_eq_true rfl⟩ ⟨Nat.zero_le _, Nat.zero_le _⟩ hl.1 (Nat.le_of_ble_eq_true rfl) dX5_readText_56 rfl (fun H locs hM => ?_)
        refine lv_istore_n (lv' := [(1, .int (zi (v20))), (0, .ref (h))]) hx hb dX5_readText_59 rfl hl (by decide) rfl (fun ls hl => ?_)
        refine lv_iload_n hx hb dX5_readText_60 rfl (lv_at hl 0 rfl) ?_
        obtain ⟨g23, hh⟩ := gd_inv hh
        refine g_if_eq (tgt := 66) hx hb g23 dX5_readText_61 (by decide) (fun c22 => ?_) (fun c22 => ?_)
        · replace hh := it_t c22 hh
          refine lv_goto (tgt := 48) hx hb dX5_readText_66 (by decide) ?_
          exact hK48 S21 hh _ _ _ hM (lv_sub hl [1] rfl)
        · replace hh := it_f c22 hh
          refine lv_iload_n hx hb dX5_readText_64 rfl (lv_at hl 0 rfl) ?_
          exact hret _ _ _ _ _ _ (rt1 hh) (rt2 hh) dX5_readText_65 hM
  replace hl : lv_has ls 2 [(0, .ref (h))] := hl
  unfold M_readText at hh
  refine lv_aload_n hx hb dX5_readText_0 rfl (lv_at hl 0 rfl) ?_
  refine lv_sipush (v := zi 800) hx hb dX5_readText_1 (by decide) ?_
  refine lv_aload_n hx hb dX5_readText_4 rfl (lv_at hl 0 rfl) ?_
  refine mm_get X hM q1176 (mf_2 _ _) dX5_readText_5 ?_
  refine lv_iconst (v := zi 3) hx hb dX5_readText_8 rfl ?_
  refine mm_iald X hM (ma_2 _ _) (by decide) dX5_readText_9 ?_
  refine g_imul hx hb dX5_readText_10 ?_
  refine mm_put X hM q1192 (mp_18 _ _ _) dX5_readText_11 (fun H locs S1 e2 hM => ?_)
  replace hh := nm_inv hh S1 e2
  refine lv_aload_n hx hb dX5_readText_14 rfl (lv_at hl 0 rfl) ?_
  refine lv_iconst (v := zi 0) hx hb dX5_readText_15 rfl ?_
  refine mm_put X hM q1193 (mp_19 _ _ _) dX5_readText_16 (fun H locs S3 e4 hM => ?_)
  replace hh := nm_inv hh S3 e4
  refine lv_aload_n hx hb dX5_readText_19 rfl (lv_at hl 0 rfl) ?_
  refine lv_iconst (v := zi 0) hx hb dX5_readText_20 rfl ?_
  refine mm_put X hM q1194 (mp_20 _ _ _) dX5_readText_21 (fun H locs S5 e6 hM => ?_)
  replace hh := nm_inv hh S5 e6
  refine lv_aload_n hx hb dX5_readText_24 rfl (lv_at hl 0 rfl) ?_
  refine lv_iconst (v := zi 0) hx hb dX5_readText_25 rfl ?_
  refine mm_put X hM q1199 (mp_25 _ _ _) dX5_readText_26 (fun H locs S7 e8 hM => ?_)
  replace hh := nm_inv hh S7 e8
  refine lv_aload_n hx hb dX5_readText_29 rfl (lv_at hl 0 rfl) ?_
  refine lv_iconst (v := zi 0) hx hb dX5_readText_30 rfl ?_
  refine mm_put X hM q1195 (mp_21 _ _ _) dX5_readText_31 (fun H locs S9 e10 hM => ?_)
  replace hh := nm_inv hh S9 e10
  refine lv_aload_n hx hb dX5_readText_34 rfl (lv_at hl 0 rfl) ?_
  refine lv_iconst (v := zi 0) hx hb dX5_readText_35 rfl ?_
  refine mm_put X hM q1196 (mp_22 _ _ _) dX5_readText_36 (fun H locs S11 e12 hM => ?_)
  replace hh := nm_inv hh S11 e12
  refine lv_aload_n hx hb dX5_readText_39 rfl (lv_at hl 0 rfl) ?_
  refine lv_iconst (v := zi 0) hx hb dX5_readText_40 rfl ?_
  refine mm_put X hM q1187 (mp_13 _ _ _) dX5_readText_41 (fun H locs S13 e14 hM => ?_)
  replace hh := nm_inv hh S13 e14
  refine lv_aload_n hx hb dX5_readText_44 rfl (lv_at hl 0 rfl) ?_
  obtain ⟨S16, k15, hh⟩ := bd_inv hh
  refine mc_v (rest := []) X hM (wM_nextToken l DM dA h S13  k15) c5_nextToken.1 c5_nextToken.2 ⟨rfl, rfl⟩ ⟨Nat.le_of_ble_eq_true rfl, Nat.le_of_ble_eq_true rfl⟩ ⟨Nat.zero_le _, Nat.zero_le _⟩ hl.1 (Nat.le_of_ble_eq_true rfl) dX5_readText_45 rfl (fun H locs hM => ?_)
  exact hL48 FU S16 hh _ _ _ hM (lv_sub hl [0] rfl)
def M_rule_B37 (S : xS) (t0 : Int) : Option (Int × xS) := nm (fset S 12 (t0)) (fun S10 => nm (fset S10 10 (0)) (fun S12 => gd (r32 (S12.1 11)) (if (S12.1 11) = 0 then (gd ((0 : Int) ≤ S12.1 18 ∧ (S12.1 18 : Int) < 6400) (nm (aset S12 4 (S12.1 18) (S12.1 19)) (fun S17 => nm (aset S17 2 (3 : Int) ((S17.2 2 3) + 1)) (fun S19 => some (((S19.2 2 3) - 1 : Int), S19))))) else (some (((-1) : Int), S12)))))
def M_rule (S : xS) : Option (Int × xS) := gd (r32 (S.2 2 3)) (if (S.2 2 3) = 8 then (some (((-1) : Int), S)) else (bd2 (M_readText S ) (fun v4 S5 => nm (fset S5 11 (v4)) (fun S6 => gd (r32 (S6.1 11)) (if (S6.1 11) = 0 then (M_rule_B37 S6 ((-1) : Int)) else (M_rule_B37 S6 (S6.1 14)))))))
set_option maxHeartbeats 4000000 in
theorem wM_rule (l : Launch) (DM : va_G) (dA : Nat → ClassId) (h : Nat) (S : xS) {r : Int} {S1 : xS} (hh : M_rule S  = some (r, S1)) : mt_i l yX5_rule cX5_rule 1 (some .int) ({ frames := 11, cells := 0, slots := 0, locals := 233 } : Room) DM dA h [] S r S1 := by
  refine mo_i (by decide) rfl (Nat.le_of_ble_eq_true rfl) ?_
  intro p e s m args below meth c Q ls X hret hl hM
  have hx := X.1.1
  have hb := X.1.2.1
  have hown := X.1.2.2.2.1
  have hts := X.1.2.2.2.2
  skip
  have hB37 : ∀ (t0 : Int) (S : xS), M_rule_B37 S t0 = some (r, S1) → ∀ (H : Heap) (locs : List Loc) (ls : Array Slot), MX DM dA h S s H locs → lv_has ls 1 [(0, .ref (h))] → W p l e ({ frames := 11, cells := 0, slots := 0, locals := 233 } : Room) s m args below meth c H locs 0 0 Q (F0 m 37 ls [.int (zi (t0)), .ref (h)]) := by
    intro t0  S hh H locs ls hM hl
    unfold M_rule_B37 at hh
    refine mm_put X hM q1186 (mp_12 _ _ _) dX5_rule_37 (fun H locs S10 e11 hM => ?_)
    replace hh := nm_inv hh S10 e11
    refine lv_aload_n hx hb dX5_rule_40 rfl (lv_at hl 0 rfl) ?_
    refine lv_iconst (v := zi 0) hx hb dX5_rule_41 rfl ?_
    refine mm_put X hM q1184 (mp_10 _ _ _) dX5_rule_42 (fun H locs S12 e13 hM => ?_)
    replace hh := nm_inv hh S12 e13
    refine lv_aload_n hx hb dX5_rule_45 rfl (lv_at hl 0 rfl) ?_
    refine mm_get X hM q1185 (mf_11 _ _) dX5_rule_46 ?_
    obtain ⟨g15, hh⟩ := gd_inv hh
    refine g_if_eq (tgt := 54) hx hb g15 dX5_rule_49 (by decide) (fun c14 => ?_) (fun c14 => ?_)
    · replace hh := it_t c14 hh
      refine lv_aload_n hx hb dX5_rule_54 rfl (lv_at hl 0 rfl) ?_
      refine mm_get X hM q1178 (mf_4 _ _) dX5_rule_55 ?_
      refine lv_aload_n hx hb dX5_rule_58 rfl (lv_at hl 0 rfl) ?_
      refine mm_get X hM q1192 (mf_18 _ _) dX5_rule_59 ?_
      refine lv_aload_n hx hb dX5_rule_62 rfl (lv_at hl 0 rfl) ?_
      refine mm_get X hM q1193 (mf_19 _ _) dX5_rule_63 ?_
      obtain ⟨g16, hh⟩ := gd_inv hh
      refine mm_iast X hM (ma_4 _ _) g16 dX5_rule_66 (fun H locs S17 e18 hM => ?_)
      replace hh := nm_inv hh S17 e18
      refine lv_aload_n hx hb dX5_rule_67 rfl (lv_at hl 0 rfl) ?_
      refine mm_get X hM q1176 (mf_2 _ _) dX5_rule_68 ?_
      refine lv_iconst (v := zi 3) hx hb dX5_rule_71 rfl ?_
      refine lv_dup2_11 hx hb dX5_rule_72 rfl rfl ?_
      refine mm_iald X hM (ma_2 _ _) (by decide) dX5_rule_73 ?_
      refine lv_iconst (v := zi 1) hx hb dX5_rule_74 rfl ?_
      refine g_iadd hx hb dX5_rule_75 ?_
      refine mm_iast X hM (ma_2 _ _) (by decide) dX5_rule_76 (fun H locs S19 e20 hM => ?_)
      replace hh := nm_inv hh S19 e20
      refine lv_aload_n hx hb dX5_rule_77 rfl (lv_at hl 0 rfl) ?_
      refine mm_get X hM q1176 (mf_2 _ _) dX5_rule_78 ?_
      refine lv_iconst (v := zi 3) hx hb dX5_rule_81 rfl ?_
      refine mm_iald X hM (ma_2 _ _) (by decide) dX5_rule_82 ?_
      refine lv_iconst (v := zi 1) hx hb dX5_rule_83 rfl ?_
      refine g_isub hx hb dX5_rule_84 ?_
      exact hret _ _ _ _ _ _ (rt1 hh) (rt2 hh) dX5_rule_85 hM
    · replace hh := it_f c14 hh
      refine lv_iconst (v := zi (-1)) hx hb dX5_rule_52 rfl ?_
      exact hret _ _ _ _ _ _ (rt1 hh) (rt2 hh) dX5_rule_53 hM
  replace hl : lv_has ls 1 [(0, .ref (h))] := hl
  unfold M_rule at hh
  refine lv_aload_n hx hb dX5_rule_0 rfl (lv_at hl 0 rfl) ?_
  refine mm_get X hM q1176 (mf_2 _ _) dX5_rule_1 ?_
  refine lv_iconst (v := zi 3) hx hb dX5_rule_4 rfl ?_
  refine mm_iald X hM (ma_2 _ _) (by decide) dX5_rule_5 ?_
  refine lv_bipush (v := zi 8) hx hb dX5_rule_6 (by decide) ?_
  obtain ⟨g2, hh⟩ := gd_inv hh
  refine g_icmp_ne (tgt := 13) hx hb ⟨g2, by decide⟩ dX5_rule_8 (by decide) (fun c1 => ?_) (fun c1 => ?_)
  · replace hh := it_t c1 hh
    refine lv_iconst (v := zi (-1)) hx hb dX5_rule_11 rfl ?_
    exact hret _ _ _ _ _ _ (rt1 hh) (rt2 hh) dX5_rule_12 hM
  · replace hh := it_f c1 hh
    refine lv_aload_n hx hb dX5_rule_13 rfl (lv_at hl 0 rfl) ?_
    refine lv_aload_n hx hb dX5_rule_14 rfl (lv_at hl 0 rfl) ?_
    obtain ⟨v4, S5, k3, hh⟩ := bd2_inv hh
    refine mc_i (rest := [.ref (h)]) X hM (wM_readText l DM dA h S  k3) c5_readText.1 c5_readText.2 ⟨rfl, rfl⟩ ⟨Nat.le_of_ble_eq_true rfl, Nat.le_of_ble_eq_true rfl⟩ ⟨Nat.zero_le _, Nat.zero_le _⟩ hl.1 (Nat.le_of_ble_eq_true rfl) dX5_rule_15 rfl (fun H locs hM => ?_)
    refine mm_put X hM q1185 (mp_11 _ _ _) dX5_rule_18 (fun H locs S6 e7 hM => ?_)
    replace hh := nm_inv hh S6 e7
    refine lv_aload_n hx hb dX5_rule_21 rfl (lv_at hl 0 rfl) ?_
    refine lv_aload_n hx hb dX5_rule_22 rfl (lv_at hl 0 rfl) ?_
    refine mm_get X hM q1185 (mf_11 _ _) dX5_rule_23 ?_
    obtain ⟨g9, hh⟩ := gd_inv hh
    refine g_if_ne (tgt := 33) hx hb g9 dX5_rule_26 (by decide) (fun c8 => ?_) (fun c8 => ?_)
    · replace hh := it_t c8 hh
      refine lv_iconst (v := zi (-1)) hx hb dX5_rule_29 rfl ?_
      refine lv_goto (tgt := 37) hx hb dX5_rule_30 (by decide) ?_
      exact hB37 ((-1) : Int) S6 hh _ _ _ hM (lv_sub hl [0] rfl)
    · replace hh := it_f c8 hh
      refine lv_aload_n hx hb dX5_rule_33 rfl (lv_at hl 0 rfl) ?_
      refine mm_get X hM q1188 (mf_14 _ _) dX5_rule_34 ?_
      exact hB37 (S6.1 14) S6 hh _ _ _ hM (lv_sub hl [0] rfl)
def M_fault (S : xS) (x1 : Int) : Option Int := gd (r32 (x1)) (if x1 = 0 then (some ((S.1 11 : Int))) else (gd (r32 (x1)) (if x1 = 1 then (some ((S.1 12 : Int))) else (some (((-1) : Int))))))
set_option maxHeartbeats 4000000 in
theorem wM_fault (l : Launch) (DM : va_G) (dA : Nat → ClassId) (h : Nat) (S : xS) (x1 : Int) {r : Int} (hh : M_fault S x1 = some r) : mt_i l yX5_fault cX5_fault 2 (some .int) ({ frames := 1, cells := 0, slots := 0, locals := 12 } : Room) DM dA h [.int (zi x1)] S r S := by
  refine mo_i (by decide) rfl (Nat.le_of_ble_eq_true rfl) ?_
  intro p e s m args below meth c Q ls X hret hl hM
  have hx := X.1.1
  have hb := X.1.2.1
  have hown := X.1.2.2.2.1
  have hts := X.1.2.2.2.2
  skip
  replace hl : lv_has ls 2 [(0, .ref (h)), (1, .int (zi (x1)))] := hl
  unfold M_fault at hh
  refine lv_iload_n hx hb dX5_fault_0 rfl (lv_at hl 1 rfl) ?_
  obtain ⟨g2, hh⟩ := gd_inv hh
  refine g_if_ne (tgt := 11) hx hb g2 dX5_fault_1 (by decide) (fun c1 => ?_) (fun c1 => ?_)
  · replace hh := it_t c1 hh
    refine lv_aload_n hx hb dX5_fault_4 rfl (lv_at hl 0 rfl) ?_
    refine mm_get X hM q1185 (mf_11 _ _) dX5_fault_5 ?_
    refine lv_goto (tgt := 24) hx hb dX5_fault_8 (by decide) ?_
    exact hret _ _ _ _ _ _ (rt0 hh) rfl dX5_fault_24 hM
  · replace hh := it_f c1 hh
    refine lv_iload_n hx hb dX5_fault_11 rfl (lv_at hl 1 rfl) ?_
    refine lv_iconst (v := zi 1) hx hb dX5_fault_12 rfl ?_
    obtain ⟨g4, hh⟩ := gd_inv hh
    refine g_icmp_ne (tgt := 23) hx hb ⟨g4, by decide⟩ dX5_fault_13 (by decide) (fun c3 => ?_) (fun c3 => ?_)
    · replace hh := it_t c3 hh
      refine lv_aload_n hx hb dX5_fault_16 rfl (lv_at hl 0 rfl) ?_
      refine mm_get X hM q1186 (mf_12 _ _) dX5_fault_17 ?_
      refine lv_goto (tgt := 24) hx hb dX5_fault_20 (by decide) ?_
      exact hret _ _ _ _ _ _ (rt0 hh) rfl dX5_fault_24 hM
    · replace hh := it_f c3 hh
      refine lv_iconst (v := zi (-1)) hx hb dX5_fault_23 rfl ?_
      exact hret _ _ _ _ _ _ (rt0 hh) rfl dX5_fault_24 hM
def M_isRule (S : xS) (x1 : Int) : Option Bool := bd (M_isIn x1 (0 : Int) ((S.2 2 3) - 1)) (fun v2 => some (v2))
set_option maxHeartbeats 4000000 in
theorem wM_isRule (l : Launch) (DM : va_G) (dA : Nat → ClassId) (h : Nat) (S : xS) (x1 : Int) {r : Bool} (hh : M_isRule S x1 = some r) : mt_z l yX5_isRule cX5_isRule 2 (some .boolean) ({ frames := 2, cells := 0, slots := 0, locals := 34 } : Room) DM dA h [.int (zi x1)] S r S := by
  refine mo_z (by decide) rfl (Nat.le_of_ble_eq_true rfl) ?_
  intro p e s m args below meth c Q ls X hret hl hM
  have hx := X.1.1
  have hb := X.1.2.1
  have hown := X.1.2.2.2.1
  have hts := X.1.2.2.2.2
  skip
  replace hl : lv_has ls 2 [(0, .ref (h)), (1, .int (zi (x1)))] := hl
  unfold M_isRule at hh
  refine lv_iload_n hx hb dX5_isRule_0 rfl (lv_at hl 1 rfl) ?_
  refine lv_iconst (v := zi 0) hx hb dX5_isRule_1 rfl ?_
  refine lv_aload_n hx hb dX5_isRule_2 rfl (lv_at hl 0 rfl) ?_
  refine mm_get X hM q1176 (mf_2 _ _) dX5_isRule_3 ?_
  refine lv_iconst (v := zi 3) hx hb dX5_isRule_6 rfl ?_
  refine mm_iald X hM (ma_2 _ _) (by decide) dX5_isRule_7 ?_
  refine lv_iconst (v := zi 1) hx hb dX5_isRule_8 rfl ?_
  refine g_isub hx hb dX5_isRule_9 ?_
  obtain ⟨v2, k1, hh⟩ := bd_inv hh
  refine mcs_z (rest := []) X hM (wM_isIn l x1 (0 : Int) ((S.2 2 3) - 1) k1) c5_isIn.1 c5_isIn.2 ⟨rfl, rfl⟩ ⟨Nat.le_of_ble_eq_true rfl, Nat.le_of_ble_eq_true rfl⟩ ⟨Nat.zero_le _, Nat.zero_le _⟩ hl.1 (Nat.le_of_ble_eq_true rfl) dX5_isRule_10 rfl (fun H locs hM => ?_)
  exact hret _ _ _ _ _ _ (rt0 hh) rfl dX5_isRule_13 hM
def M_isStart (S : xS) (x1 : Int) (x2 : Int) : Option Bool := bd (M_isPlace S x1 x2) (fun v2 => if v2 = true then (gd (r32 (x2)) (gd (r32 (x1)) (bd (M_markAt S (((Int.tdiv x2 16) * (S.1 0)) + (Int.tdiv x1 16)) (0 : Int)) (fun v7 => gd (r32 (v7)) (if v7 = 0 then (some (true)) else (some (false))))))) else (some (false)))
set_option maxHeartbeats 4000000 in
theorem wM_isStart (l : Launch) (DM : va_G) (dA : Nat → ClassId) (h : Nat) (S : xS) (x1 x2 : Int) {r : Bool} (hh : M_isStart S x1 x2 = some r) : mt_z l yX5_isStart cX5_isStart 3 (some .boolean) ({ frames := 4, cells := 0, slots := 0, locals := 81 } : Room) DM dA h [.int (zi x1), .int (zi x2)] S r S := by
  refine mo_z (by decide) rfl (Nat.le_of_ble_eq_true rfl) ?_
  intro p e s m args below meth c Q ls X hret hl hM
  have hx := X.1.1
  have hb := X.1.2.1
  have hown := X.1.2.2.2.1
  have hts := X.1.2.2.2.2
  skip
  replace hl : lv_has ls 3 [(0, .ref (h)), (1, .int (zi (x1))), (2, .int (zi (x2)))] := hl
  unfold M_isStart at hh
  refine lv_aload_n hx hb dX5_isStart_0 rfl (lv_at hl 0 rfl) ?_
  refine lv_iload_n hx hb dX5_isStart_1 rfl (lv_at hl 1 rfl) ?_
  refine lv_iload_n hx hb dX5_isStart_2 rfl (lv_at hl 2 rfl) ?_
  obtain ⟨v2, k1, hh⟩ := bd_inv hh
  refine mc_z (rest := []) X hM (wM_isPlace l DM dA h S x1 x2 k1) c5_isPlace.1 c5_isPlace.2 ⟨rfl, rfl⟩ ⟨Nat.le_of_ble_eq_true rfl, Nat.le_of_ble_eq_true rfl⟩ ⟨Nat.zero_le _, Nat.zero_le _⟩ hl.1 (Nat.le_of_ble_eq_true rfl) dX5_isStart_3 rfl (fun H locs hM => ?_)
  refine g_bif_eq (tgt := 35) hx hb dX5_isStart_6 (by decide) (fun c3 => ?_) (fun c3 => ?_)
  · replace hh := it_t c3 hh
    refine lv_aload_n hx hb dX5_isStart_9 rfl (lv_at hl 0 rfl) ?_
    refine lv_iload_n hx hb dX5_isStart_10 rfl (lv_at hl 2 rfl) ?_
    refine lv_bipush (v := zi 16) hx hb dX5_isStart_11 (by decide) ?_
    obtain ⟨g4, hh⟩ := gd_inv hh
    refine g_idiv hx hb ⟨g4, by decide, by decide⟩ dX5_isStart_13 ?_
    refine lv_aload_n hx hb dX5_isStart_14 rfl (lv_at hl 0 rfl) ?_
    refine mm_get X hM q1174 (mf_0 _ _) dX5_isStart_15 ?_
    refine g_imul hx hb dX5_isStart_18 ?_
    refine lv_iload_n hx hb dX5_isStart_19 rfl (lv_at hl 1 rfl) ?_
    refine lv_bipush (v := zi 16) hx hb dX5_isStart_20 (by decide) ?_
    obtain ⟨g5, hh⟩ := gd_inv hh
    refine g_idiv hx hb ⟨g5, by decide, by decide⟩ dX5_isStart_22 ?_
    refine g_iadd hx hb dX5_isStart_23 ?_
    refine lv_iconst (v := zi 0) hx hb dX5_isStart_24 rfl ?_
    obtain ⟨v7, k6, hh⟩ := bd_inv hh
    refine mc_i (rest := []) X hM (wM_markAt l DM dA h S (((Int.tdiv x2 16) * (S.1 0)) + (Int.tdiv x1 16)) (0 : Int) k6) c5_markAt.1 c5_markAt.2 ⟨rfl, rfl⟩ ⟨Nat.le_of_ble_eq_true rfl, Nat.le_of_ble_eq_true rfl⟩ ⟨Nat.zero_le _, Nat.zero_le _⟩ hl.1 (Nat.le_of_ble_eq_true rfl) dX5_isStart_25 rfl (fun H locs hM => ?_)
    obtain ⟨g9, hh⟩ := gd_inv hh
    refine g_if_ne (tgt := 35) hx hb g9 dX5_isStart_28 (by decide) (fun c8 => ?_) (fun c8 => ?_)
    · replace hh := it_t c8 hh
      refine lv_iconst (v := zi 1) hx hb dX5_isStart_31 rfl ?_
      refine lv_goto (tgt := 36) hx hb dX5_isStart_32 (by decide) ?_
      refine W.eq (g2 := F0 m 36 ls [.int (zi (bz true))]) rfl ?_
      exact hret _ _ _ _ _ _ (rt0 hh) rfl dX5_isStart_36 hM
    · replace hh := it_f c8 hh
      refine lv_iconst (v := zi 0) hx hb dX5_isStart_35 rfl ?_
      refine W.eq (g2 := F0 m 36 ls [.int (zi (bz false))]) rfl ?_
      exact hret _ _ _ _ _ _ (rt0 hh) rfl dX5_isStart_36 hM
  · replace hh := it_f c3 hh
    refine lv_iconst (v := zi 0) hx hb dX5_isStart_35 rfl ?_
    refine W.eq (g2 := F0 m 36 ls [.int (zi (bz false))]) rfl ?_
    exact hret _ _ _ _ _ _ (rt0 hh) rfl dX5_isStart_36 hM
def M_see_2_B192 (K63 : xS → Int → Option xS) (S : xS) (x1 : Int) (x2 : Int) (t0 : Int) (t1 : Int) : Option xS := gd ((0 : Int) ≤ t1 ∧ (t1 : Int) < 2280) (nm (aset S 35 t1 t0) (fun S25 => nm ((x2 + 1) : Int) (fun v27 => K63 S25 v27)))
def M_see_2_b63 (x1 : Int) (K63 : xS → Int → Option xS) (S : xS) (x2 : Int) : Option xS := gd (r32 (x2) ∧ r32 (S.2 2 2)) (if x2 < (S.2 2 2) then (nm (660 + (3 * x2)) (fun v16 => gd ((0 : Int) ≤ v16 + 2 ∧ (v16 + 2 : Int) < 3170) (nm ((x1 - (38 * (S.2 2 (v16 + 2)))) + 5) (fun v19 => gd ((0 : Int) ≤ v16 + 2 ∧ (v16 + 2 : Int) < 3170) (gd (r32 (S.1 39) ∧ r32 (S.2 2 (v16 + 2))) (if (S.1 39) < (S.2 2 (v16 + 2)) then (M_see_2_B192 K63 S x1 x2 (0 : Int) ((x1 + 21) + x2)) else (gd ((0 : Int) ≤ v16 ∧ (v16 : Int) < 3170) (gd ((0 : Int) ≤ v19 + (S.2 2 v16) ∧ (v19 + (S.2 2 v16) : Int) < 2280) (gd ((0 : Int) ≤ v16 + 1 ∧ (v16 + 1 : Int) < 3170) (gd ((0 : Int) ≤ (x1 + 5) + (S.2 2 (v16 + 1)) ∧ ((x1 + 5) + (S.2 2 (v16 + 1)) : Int) < 2280) (gd ((0 : Int) ≤ v16 ∧ (v16 : Int) < 3170) (gd ((0 : Int) ≤ (x1 + 5) + (S.2 2 v16) ∧ ((x1 + 5) + (S.2 2 v16) : Int) < 2280) (gd ((0 : Int) ≤ v16 + 1 ∧ (v16 + 1 : Int) < 3170) (gd ((0 : Int) ≤ v19 + (S.2 2 (v16 + 1)) ∧ (v19 + (S.2 2 (v16 + 1)) : Int) < 2280) (M_see_2_B192 K63 S x1 x2 (((S.2 35 (v19 + (S.2 2 v16))) * (S.2 35 ((x1 + 5) + (S.2 2 (v16 + 1))))) - ((S.2 35 ((x1 + 5) + (S.2 2 v16))) * (S.2 35 (v19 + (S.2 2 (v16 + 1)))))) ((x1 + 21) + x2)))))))))))))))) else (some S))
def M_see_2_L63 (x1 : Int) : Nat → xS → Int → Option xS
  | 0 => fun _ _ => none
  | n + 1 => fun S x2 => M_see_2_b63 x1 (M_see_2_L63 x1 n) S x2
def M_see_2_b26 (x1 : Int) (K26 : xS → Int → Option xS) (S : xS) (x2 : Int) : Option xS := gd (r32 (x2) ∧ r32 (S.2 2 1)) (if x2 < (S.2 2 1) then (bd (M_lensTake S x2 (S.1 32)) (fun v8 => gd ((0 : Int) ≤ (x1 + 5) + x2 ∧ ((x1 + 5) + x2 : Int) < 2280) (nm (aset S 35 ((x1 + 5) + x2) v8) (fun S10 => nm ((x2 + 1) : Int) (fun v12 => K26 S10 v12))))) else (M_see_2_L63 x1 FU S (0 : Int)))
def M_see_2_L26 (x1 : Int) : Nat → xS → Int → Option xS
  | 0 => fun _ _ => none
  | n + 1 => fun S x2 => M_see_2_b26 x1 (M_see_2_L26 x1 n) S x2
def M_see_2 (S : xS) : Option xS := nm (38 * (S.1 39)) (fun v1 => bd (M_look S (S.1 30) (S.1 31) (S.1 39)) (fun S4 => M_see_2_L26 v1 FU S4 (0 : Int)))
set_option maxHeartbeats 4000000 in
theorem wM_see_2 (l : Launch) (DM : va_G) (dA : Nat → ClassId) (h : Nat) (S : xS) {S1 : xS} (hh : M_see_2 S  = some S1) : mt_v l yX5_see_2 cX5_see_2 5 ({ frames := 5, cells := 0, slots := 0, locals := 104 } : Room) DM dA h [] S S1 := by
  refine mo_v (by decide) rfl (Nat.le_of_ble_eq_true rfl) ?_
  intro p e s m args below meth c Q ls X hret hl hM
  have hx := X.1.1
  have hb := X.1.2.1
  have hown := X.1.2.2.2.1
  have hts := X.1.2.2.2.2
  skip
  have hB192 : ∀ (x1 : Int) (x2 : Int) (t0 : Int) (t1 : Int) (K63 : xS → Int → Option xS) (hK63 : (∀ (S : xS) (x2 : Int), K63 S x2 = some S1 → ∀ (H : Heap) (locs : List Loc) (ls : Array Slot), MX DM dA h S s H locs → lv_has ls 5 [(0, .ref (h)), (1, .int (zi (x1))), (2, .int (zi (x2)))] → W p l e ({ frames := 5, cells := 0, slots := 0, locals := 104 } : Room) s m args below meth c H locs 0 0 Q (F0 m 63 ls []))) (S : xS), M_see_2_B192 K63 S x1 x2 t0 t1 = some S1 → ∀ (H : Heap) (locs : List Loc) (ls : Array Slot), MX DM dA h S s H locs → lv_has ls 5 [(0, .ref (h)), (1, .int (zi (x1))), (2, .int (zi (x2)))] → W p l e ({ frames := 5, cells := 0, slots := 0, locals := 104 } : Room) s m args below meth c H locs 0 0 Q (F0 m 192 ls [.int (zi (t0)), .int (zi (t1)), .ref (h + 10)]) := by
    intro x1 x2 t0 t1 K63 hK63 S hh H locs ls hM hl
    unfold M_see_2_B192 at hh
    obtain ⟨g24, hh⟩ := gd_inv hh
    refine mm_iast X hM (ma_35 _ _) g24 dX5_see_2_192 (fun H locs S25 e26 hM => ?_)
    replace hh := nm_inv hh S25 e26
    obtain ⟨v27, e28⟩ : ∃ z : Int, z = x2 + 1 := ⟨_, rfl⟩
    replace hh := nm_inv hh v27 e28
    refine lv_iinc (v := zi v27) (lv' := [(2, .int (zi (v27))), (0, .ref (h)), (1, .int (zi (x1)))]) hx hb dX5_see_2_193 hl (k := 2) rfl (by rw [e28]; exact zi_add _ _) (by decide) rfl (fun ls hl => ?_)
    refine lv_goto (tgt := 63) hx hb dX5_see_2_196 (by decide) ?_
    exact hK63 S25 v27 hh _ _ _ hM (lv_sub hl [1, 2, 0] rfl)
  have hL63 : ∀ (x1 : Int) (n : Nat) (S : xS) (x2 : Int), M_see_2_L63 x1 n S x2 = some S1 → ∀ (H : Heap) (locs : List Loc) (ls : Array Slot), MX DM dA h S s H locs → lv_has ls 5 [(0, .ref (h)), (1, .int (zi (x1))), (2, .int (zi (x2)))] → W p l e ({ frames := 5, cells := 0, slots := 0, locals := 104 } : Room) s m args below meth c H locs 0 0 Q (F0 m 63 ls []) := by
    intro x1  n
    induction n with
    | zero => intro S x2 hh; exact no_some hh
    | succ n ih =>
      intro S x2 hh H locs ls hM hl
      replace hh : M_see_2_b63 x1 (M_see_2_L63 x1 n) S x2 = some S1 := hh
      unfold M_see_2_b63 at hh
      have hK63 := ih
      refine lv_iload_n hx hb dX5_see_2_63 rfl (lv_at hl 2 rfl) ?_
      refine lv_aload_n hx hb dX5_see_2_64 rfl (lv_at hl 0 rfl) ?_
      refine mm_get X hM q1176 (mf_2 _ _) dX5_see_2_65 ?_
      refine lv_iconst (v := zi 2) hx hb dX5_see_2_68 rfl ?_
      refine mm_iald X hM (ma_2 _ _) (by decide) dX5_see_2_69 ?_
      obtain ⟨g15, hh⟩ := gd_inv hh
      refine g_icmp_ge (tgt := 199) hx hb g15 dX5_see_2_70 (by decide) (fun c14 => ?_) (fun c14 => ?_)
      · replace hh := it_t c14 hh
        refine lv_sipush (v := zi 660) hx hb dX5_see_2_73 (by decide) ?_
        refine lv_iconst (v := zi 3) hx hb dX5_see_2_76 rfl ?_
        refine lv_iload_n hx hb dX5_see_2_77 rfl (lv_at hl 2 rfl) ?_
        refine g_imul hx hb dX5_see_2_78 ?_
        refine g_iadd hx hb dX5_see_2_79 ?_
        refine g_nmi hx hb (fun v16 e17 => ?_)
        replace hh := nm_inv hh v16 e17
        refine lv_istore_n (lv' := [(3, .int (zi (v16))), (0, .ref (h)), (1, .int (zi (x1))), (2, .int (zi (x2)))]) hx hb dX5_see_2_80 rfl hl (by decide) rfl (fun ls hl => ?_)
        refine lv_iload_n hx hb dX5_see_2_81 rfl (lv_at hl 2 rfl) ?_
        refine lv_bipush (v := zi 38) hx hb dX5_see_2_82 (by decide) ?_
        refine lv_aload_n hx hb dX5_see_2_84 rfl (lv_at hl 1 rfl) ?_
        refine mm_get X hM q1176 (mf_2 _ _) dX5_see_2_85 ?_
        refine lv_iload_n hx hb dX5_see_2_88 rfl (lv_at hl 0 rfl) ?_
        refine lv_iconst (v := zi 2) hx hb dX5_see_2_89 rfl ?_
        refine g_iadd hx hb dX5_see_2_90 ?_
        obtain ⟨g18, hh⟩ := gd_inv hh
        refine mm_iald X hM (ma_2 _ _) g18 dX5_see_2_91 ?_
        refine g_imul hx hb dX5_see_2_92 ?_
        refine g_isub hx hb dX5_see_2_93 ?_
        refine lv_iconst (v := zi 5) hx hb dX5_see_2_94 rfl ?_
        refine g_iadd hx hb dX5_see_2_95 ?_
        refine g_nmi hx hb (fun v19 e20 => ?_)
        replace hh := nm_inv hh v19 e20
        refine lv_istore (lv' := [(4, .int (zi (v19))), (3, .int (zi (v16))), (0, .ref (h)), (1, .int (zi (x1))), (2, .int (zi (x2)))]) hx hb dX5_see_2_96 hl (by decide) rfl (fun ls hl => ?_)
        refine lv_aload_n hx hb dX5_see_2_98 rfl (lv_at hl 2 rfl) ?_
        refine mm_get X hM q1209 (mf_35 _ _) dX5_see_2_99 ?_
        refine lv_iload_n hx hb dX5_see_2_102 rfl (lv_at hl 3 rfl) ?_
        refine lv_bipush (v := zi 21) hx hb dX5_see_2_103 (by decide) ?_
        refine g_iadd hx hb dX5_see_2_105 ?_
        refine lv_iload_n hx hb dX5_see_2_106 rfl (lv_at hl 4 rfl) ?_
        refine g_iadd hx hb dX5_see_2_107 ?_
        refine lv_aload_n hx hb dX5_see_2_108 rfl (lv_at hl 2 rfl) ?_
        refine mm_get X hM q1213 (mf_39 _ _) dX5_see_2_109 ?_
        refine lv_aload_n hx hb dX5_see_2_112 rfl (lv_at hl 2 rfl) ?_
        refine mm_get X hM q1176 (mf_2 _ _) dX5_see_2_113 ?_
        refine lv_iload_n hx hb dX5_see_2_116 rfl (lv_at hl 1 rfl) ?_
        refine lv_iconst (v := zi 2) hx hb dX5_see_2_117 rfl ?_
        refine g_iadd hx hb dX5_see_2_118 ?_
        obtain ⟨g21, hh⟩ := gd_inv hh
        refine mm_iald X hM (ma_2 _ _) g21 dX5_see_2_119 ?_
        obtain ⟨g23, hh⟩ := gd_inv hh
        refine g_icmp_ge (tgt := 127) hx hb g23 dX5_see_2_120 (by decide) (fun c22 => ?_) (fun c22 => ?_)
        · replace hh := it_t c22 hh
          refine lv_iconst (v := zi 0) hx hb dX5_see_2_123 rfl ?_
          refine lv_goto (tgt := 192) hx hb dX5_see_2_124 (by decide) ?_
          exact hB192 x1 x2 (0 : Int) ((x1 + 21) + x2) _ hK63 S hh _ _ _ hM (lv_sub hl [2, 3, 4] rfl)
        · replace hh := it_f c22 hh
          refine lv_aload_n hx hb dX5_see_2_127 rfl (lv_at hl 2 rfl) ?_
          refine mm_get X hM q1209 (mf_35 _ _) dX5_see_2_128 ?_
          refine lv_iload hx hb dX5_see_2_131 (lv_at hl 0 rfl) ?_
          refine lv_aload_n hx hb dX5_see_2_133 rfl (lv_at hl 2 rfl) ?_
          refine mm_get X hM q1176 (mf_2 _ _) dX5_see_2_134 ?_
          refine lv_iload_n hx hb dX5_see_2_137 rfl (lv_at hl 1 rfl) ?_
          obtain ⟨g29, hh⟩ := gd_inv hh
          refine mm_iald X hM (ma_2 _ _) g29 dX5_see_2_138 ?_
          refine g_iadd hx hb dX5_see_2_139 ?_
          obtain ⟨g30, hh⟩ := gd_inv hh
          refine mm_iald X hM (ma_35 _ _) g30 dX5_see_2_140 ?_
          refine lv_aload_n hx hb dX5_see_2_141 rfl (lv_at hl 2 rfl) ?_
          refine mm_get X hM q1209 (mf_35 _ _) dX5_see_2_142 ?_
          refine lv_iload_n hx hb dX5_see_2_145 rfl (lv_at hl 3 rfl) ?_
          refine lv_iconst (v := zi 5) hx hb dX5_see_2_146 rfl ?_
          refine g_iadd hx hb dX5_see_2_147 ?_
          refine lv_aload_n hx hb dX5_see_2_148 rfl (lv_at hl 2 rfl) ?_
          refine mm_get X hM q1176 (mf_2 _ _) dX5_see_2_149 ?_
          refine lv_iload_n hx hb dX5_see_2_152 rfl (lv_at hl 1 rfl) ?_
          refine lv_iconst (v := zi 1) hx hb dX5_see_2_153 rfl ?_
          refine g_iadd hx hb dX5_see_2_154 ?_
          obtain ⟨g31, hh⟩ := gd_inv hh
          refine mm_iald X hM (ma_2 _ _) g31 dX5_see_2_155 ?_
          refine g_iadd hx hb dX5_see_2_156 ?_
          obtain ⟨g32, hh⟩ := gd_inv hh
          refine mm_iald X hM (ma_35 _ _) g32 dX5_see_2_157 ?_
          refine g_imul hx hb dX5_see_2_158 ?_
          refine lv_aload_n hx hb dX5_see_2_159 rfl (lv_at hl 2 rfl) ?_
          refine mm_get X hM q1209 (mf_35 _ _) dX5_see_2_160 ?_
          refine lv_iload_n hx hb dX5_see_2_163 rfl (lv_at hl 3 rfl) ?_
          refine lv_iconst (v := zi 5) hx hb dX5_see_2_164 rfl ?_
          refine g_iadd hx hb dX5_see_2_165 ?_
          refine lv_aload_n hx hb dX5_see_2_166 rfl (lv_at hl 2 rfl) ?_
          refine mm_get X hM q1176 (mf_2 _ _) dX5_see_2_167 ?_
          refine lv_iload_n hx hb dX5_see_2_170 rfl (lv_at hl 1 rfl) ?_
          obtain ⟨g33, hh⟩ := gd_inv hh
          refine mm_iald X hM (ma_2 _ _) g33 dX5_see_2_171 ?_
          refine g_iadd hx hb dX5_see_2_172 ?_
          obtain ⟨g34, hh⟩ := gd_inv hh
          refine mm_iald X hM (ma_35 _ _) g34 dX5_see_2_173 ?_
          refine lv_aload_n hx hb dX5_see_2_174 rfl (lv_at hl 2 rfl) ?_
          refine mm_get X hM q1209 (mf_35 _ _) dX5_see_2_175 ?_
          refine lv_iload hx hb dX5_see_2_178 (lv_at hl 0 rfl) ?_
          refine lv_aload_n hx hb dX5_see_2_180 rfl (lv_at hl 2 rfl) ?_
          refine mm_get X hM q1176 (mf_2 _ _) dX5_see_2_181 ?_
          refine lv_iload_n hx hb dX5_see_2_184 rfl (lv_at hl 1 rfl) ?_
          refine lv_iconst (v := zi 1) hx hb dX5_see_2_185 rfl ?_
          refine g_iadd hx hb dX5_see_2_186 ?_
          obtain ⟨g35, hh⟩ := gd_inv hh
          refine mm_iald X hM (ma_2 _ _) g35 dX5_see_2_187 ?_
          refine g_iadd hx hb dX5_see_2_188 ?_
          obtain ⟨g36, hh⟩ := gd_inv hh
          refine mm_iald X hM (ma_35 _ _) g36 dX5_see_2_189 ?_
          refine g_imul hx hb dX5_see_2_190 ?_
          refine g_isub hx hb dX5_see_2_191 ?_
          exact hB192 x1 x2 (((S.2 35 (v19 + (S.2 2 v16))) * (S.2 35 ((x1 + 5) + (S.2 2 (v16 + 1))))) - ((S.2 35 ((x1 + 5) + (S.2 2 v16))) * (S.2 35 (v19 + (S.2 2 (v16 + 1)))))) ((x1 + 21) + x2) _ hK63 S hh _ _ _ hM (lv_sub hl [2, 3, 4] rfl)
      · replace hh := it_f c14 hh
        exact hret _ _ _ _ _ (rt0 hh) dX5_see_2_199 hM
  have hL26 : ∀ (x1 : Int) (n : Nat) (S : xS) (x2 : Int), M_see_2_L26 x1 n S x2 = some S1 → ∀ (H : Heap) (locs : List Loc) (ls : Array Slot), MX DM dA h S s H locs → lv_has ls 5 [(0, .ref (h)), (1, .int (zi (x1))), (2, .int (zi (x2)))] → W p l e ({ frames := 5, cells := 0, slots := 0, locals := 104 } : Room) s m args below meth c H locs 0 0 Q (F0 m 26 ls []) := by
    intro x1  n
    induction n with
    | zero => intro S x2 hh; exact no_some hh
    | succ n ih =>
      intro S x2 hh H locs ls hM hl
      replace hh : M_see_2_b26 x1 (M_see_2_L26 x1 n) S x2 = some S1 := hh
      unfold M_see_2_b26 at hh
      have hK26 := ih
      refine lv_iload_n hx hb dX5_see_2_26 rfl (lv_at hl 2 rfl) ?_
      refine lv_aload_n hx hb dX5_see_2_27 rfl (lv_at hl 0 rfl) ?_
      refine mm_get X hM q1176 (mf_2 _ _) dX5_see_2_28 ?_
      refine lv_iconst (v := zi 1) hx hb dX5_see_2_31 rfl ?_
      refine mm_iald X hM (ma_2 _ _) (by decide) dX5_see_2_32 ?_
      obtain ⟨g6, hh⟩ := gd_inv hh
      refine g_icmp_ge (tgt := 61) hx hb g6 dX5_see_2_33 (by decide) (fun c5 => ?_) (fun c5 => ?_)
      · replace hh := it_t c5 hh
        refine lv_aload_n hx hb dX5_see_2_36 rfl (lv_at hl 0 rfl) ?_
        refine mm_get X hM q1209 (mf_35 _ _) dX5_see_2_37 ?_
        refine lv_iload_n hx hb dX5_see_2_40 rfl (lv_at hl 1 rfl) ?_
        refine lv_iconst (v := zi 5) hx hb dX5_see_2_41 rfl ?_
        refine g_iadd hx hb dX5_see_2_42 ?_
        refine lv_iload_n hx hb dX5_see_2_43 rfl (lv_at hl 2 rfl) ?_
        refine g_iadd hx hb dX5_see_2_44 ?_
        refine lv_aload_n hx hb dX5_see_2_45 rfl (lv_at hl 0 rfl) ?_
        refine lv_iload_n hx hb dX5_see_2_46 rfl (lv_at hl 2 rfl) ?_
        refine lv_aload_n hx hb dX5_see_2_47 rfl (lv_at hl 0 rfl) ?_
        refine mm_get X hM q1206 (mf_32 _ _) dX5_see_2_48 ?_
        obtain ⟨v8, k7, hh⟩ := bd_inv hh
        refine mc_i (rest := [.int (zi ((x1 + 5) + x2)), .ref (h + 10)]) X hM (wM_lensTake l DM dA h S x2 (S.1 32) k7) c5_lensTake.1 c5_lensTake.2 ⟨rfl, rfl⟩ ⟨Nat.le_of_ble_eq_true rfl, Nat.le_of_ble_eq_true rfl⟩ ⟨Nat.zero_le _, Nat.zero_le _⟩ hl.1 (Nat.le_of_ble_eq_true rfl) dX5_see_2_51 rfl (fun H locs hM => ?_)
        obtain ⟨g9, hh⟩ := gd_inv hh
        refine mm_iast X hM (ma_35 _ _) g9 dX5_see_2_54 (fun H locs S10 e11 hM => ?_)
        replace hh := nm_inv hh S10 e11
        obtain ⟨v12, e13⟩ : ∃ z : Int, z = x2 + 1 := ⟨_, rfl⟩
        replace hh := nm_inv hh v12 e13
        refine lv_iinc (v := zi v12) (lv' := [(2, .int (zi (v12))), (0, .ref (h)), (1, .int (zi (x1)))]) hx hb dX5_see_2_55 hl (k := 2) rfl (by rw [e13]; exact zi_add _ _) (by decide) rfl (fun ls hl => ?_)
        refine lv_goto (tgt := 26) hx hb dX5_see_2_58 (by decide) ?_
        exact hK26 S10 v12 hh _ _ _ hM (lv_sub hl [1, 2, 0] rfl)
      · replace hh := it_f c5 hh
        refine lv_iconst (v := zi 0) hx hb dX5_see_2_61 rfl ?_
        refine lv_istore_n (lv' := [(2, .int (zi (0))), (0, .ref (h)), (1, .int (zi (x1)))]) hx hb dX5_see_2_62 rfl hl (by decide) rfl (fun ls hl => ?_)
        exact hL63 x1 FU S (0 : Int) hh _ _ _ hM (lv_sub hl [1, 2, 0] rfl)
  replace hl : lv_has ls 5 [(0, .ref (h))] := hl
  unfold M_see_2 at hh
  refine lv_bipush (v := zi 38) hx hb dX5_see_2_0 (by decide) ?_
  refine lv_aload_n hx hb dX5_see_2_2 rfl (lv_at hl 0 rfl) ?_
  refine mm_get X hM q1213 (mf_39 _ _) dX5_see_2_3 ?_
  refine g_imul hx hb dX5_see_2_6 ?_
  refine g_nmi hx hb (fun v1 e2 => ?_)
  replace hh := nm_inv hh v1 e2
  refine lv_istore_n (lv' := [(1, .int (zi (v1))), (0, .ref (h))]) hx hb dX5_see_2_7 rfl hl (by decide) rfl (fun ls hl => ?_)
  refine lv_aload_n hx hb dX5_see_2_8 rfl (lv_at hl 1 rfl) ?_
  refine lv_aload_n hx hb dX5_see_2_9 rfl (lv_at hl 1 rfl) ?_
  refine mm_get X hM q1204 (mf_30 _ _) dX5_see_2_10 ?_
  refine lv_aload_n hx hb dX5_see_2_13 rfl (lv_at hl 1 rfl) ?_
  refine mm_get X hM q1205 (mf_31 _ _) dX5_see_2_14 ?_
  refine lv_aload_n hx hb dX5_see_2_17 rfl (lv_at hl 1 rfl) ?_
  refine mm_get X hM q1213 (mf_39 _ _) dX5_see_2_18 ?_
  obtain ⟨S4, k3, hh⟩ := bd_inv hh
  refine mc_v (rest := []) X hM (wM_look l DM dA h S (S.1 30) (S.1 31) (S.1 39) k3) c5_look.1 c5_look.2 ⟨rfl, rfl⟩ ⟨Nat.le_of_ble_eq_true rfl, Nat.le_of_ble_eq_true rfl⟩ ⟨Nat.zero_le _, Nat.zero_le _⟩ hl.1 (Nat.le_of_ble_eq_true rfl) dX5_see_2_21 rfl (fun H locs hM => ?_)
  refine lv_iconst (v := zi 0) hx hb dX5_see_2_24 rfl ?_
  refine lv_istore_n (lv' := [(2, .int (zi (0))), (1, .int (zi (v1))), (0, .ref (h))]) hx hb dX5_see_2_25 rfl hl (by decide) rfl (fun ls hl => ?_)
  exact hL26 v1 FU S4 (0 : Int) hh _ _ _ hM (lv_sub hl [2, 1, 0] rfl)
def M_valueOf (S : xS) (x1 : Int) (x2 : Int) : Option Int := gd (r32 (x1)) (if x1 = 0 then (gd (r32 (x2)) (some ((x2 : Int)))) else if x1 = 1 then (gd ((0 : Int) ≤ x2 ∧ (x2 : Int) < 8) (gd (r32 (S.2 36 x2)) (some ((S.2 36 x2 : Int))))) else if x1 = 30 then (gd (r32 (S.1 39)) (some ((S.1 39 : Int)))) else if x1 = 31 then (gd (r32 (x2) ∧ r32 (S.2 2 1)) (if x2 < (S.2 2 1) then (gd ((0 : Int) ≤ ((38 * (S.1 39)) + 5) + x2 ∧ (((38 * (S.1 39)) + 5) + x2 : Int) < 2280) (gd (r32 (S.2 35 (((38 * (S.1 39)) + 5) + x2))) (some ((S.2 35 (((38 * (S.1 39)) + 5) + x2) : Int))))) else (some ((0 : Int))))) else (gd (r32 (x2) ∧ r32 (S.2 2 2)) (if x2 < (S.2 2 2) then (gd ((0 : Int) ≤ ((38 * (S.1 39)) + 21) + x2 ∧ (((38 * (S.1 39)) + 21) + x2 : Int) < 2280) (gd (r32 (S.2 35 (((38 * (S.1 39)) + 21) + x2))) (some ((S.2 35 (((38 * (S.1 39)) + 21) + x2) : Int))))) else (some ((0 : Int))))))
set_option maxHeartbeats 4000000 in
theorem wM_valueOf (l : Launch) (DM : va_G) (dA : Nat → ClassId) (h : Nat) (S : xS) (x1 x2 : Int) {r : Int} (hh : M_valueOf S x1 x2 = some r) : mt_l l yX5_valueOf cX5_valueOf 3 (some .long) ({ frames := 1, cells := 0, slots := 0, locals := 12 } : Room) DM dA h [.int (zi x1), .int (zi x2)] S r S := by
  refine mo_l (by decide) rfl (Nat.le_of_ble_eq_true rfl) ?_
  intro p e s m args below meth c Q ls X hret hl hM
  have hx := X.1.1
  have hb := X.1.2.1
  have hown := X.1.2.2.2.1
  have hts := X.1.2.2.2.2
  skip
  replace hl : lv_has ls 3 [(0, .ref (h)), (1, .int (zi (x1))), (2, .int (zi (x2)))] := hl
  unfold M_valueOf at hh
  refine lv_iload_n hx hb dX5_valueOf_0 rfl (lv_at hl 1 rfl) ?_
  obtain ⟨g1, hh⟩ := gd_inv hh
  by_cases c14 : x1 = 0
  · replace hh := it_t c14 hh
    refine g_lookIn (z0 := 0) (off := 43) (tgt := 44) hx hb dX5_valueOf_1 c14 (by decide) (by decide) rfl (by decide) ?_
    refine lv_iload_n hx hb dX5_valueOf_44 rfl (lv_at hl 2 rfl) ?_
    obtain ⟨g2, hh⟩ := gd_inv hh
    refine g_i2l hx hb g2 dX5_valueOf_45 ?_
    exact hret _ _ _ _ _ _ (rt0 hh) rfl dX5_valueOf_46 hM
  replace hh := it_f c14 hh
  by_cases c15 : x1 = 1
  · replace hh := it_t c15 hh
    refine g_lookIn (z0 := 1) (off := 46) (tgt := 47) hx hb dX5_valueOf_1 c15 (by decide) (by decide) rfl (by decide) ?_
    refine lv_aload_n hx hb dX5_valueOf_47 rfl (lv_at hl 0 rfl) ?_
    refine mm_get X hM q1210 (mf_36 _ _) dX5_valueOf_48 ?_
    refine lv_iload_n hx hb dX5_valueOf_51 rfl (lv_at hl 2 rfl) ?_
    obtain ⟨g3, hh⟩ := gd_inv hh
    refine mm_iald X hM (ma_36 _ _) g3 dX5_valueOf_52 ?_
    obtain ⟨g4, hh⟩ := gd_inv hh
    refine g_i2l hx hb g4 dX5_valueOf_53 ?_
    exact hret _ _ _ _ _ _ (rt0 hh) rfl dX5_valueOf_54 hM
  replace hh := it_f c15 hh
  by_cases c16 : x1 = 30
  · replace hh := it_t c16 hh
    refine g_lookIn (z0 := 30) (off := 54) (tgt := 55) hx hb dX5_valueOf_1 c16 (by decide) (by decide) rfl (by decide) ?_
    refine lv_aload_n hx hb dX5_valueOf_55 rfl (lv_at hl 0 rfl) ?_
    refine mm_get X hM q1213 (mf_39 _ _) dX5_valueOf_56 ?_
    obtain ⟨g5, hh⟩ := gd_inv hh
    refine g_i2l hx hb g5 dX5_valueOf_59 ?_
    exact hret _ _ _ _ _ _ (rt0 hh) rfl dX5_valueOf_60 hM
  replace hh := it_f c16 hh
  by_cases c17 : x1 = 31
  · replace hh := it_t c17 hh
    refine g_lookIn (z0 := 31) (off := 60) (tgt := 61) hx hb dX5_valueOf_1 c17 (by decide) (by decide) rfl (by decide) ?_
    refine lv_iload_n hx hb dX5_valueOf_61 rfl (lv_at hl 2 rfl) ?_
    refine lv_aload_n hx hb dX5_valueOf_62 rfl (lv_at hl 0 rfl) ?_
    refine mm_get X hM q1176 (mf_2 _ _) dX5_valueOf_63 ?_
    refine lv_iconst (v := zi 1) hx hb dX5_valueOf_66 rfl ?_
    refine mm_iald X hM (ma_2 _ _) (by decide) dX5_valueOf_67 ?_
    obtain ⟨g7, hh⟩ := gd_inv hh
    refine g_icmp_ge (tgt := 91) hx hb g7 dX5_valueOf_68 (by decide) (fun c6 => ?_) (fun c6 => ?_)
    · replace hh := it_t c6 hh
      refine lv_aload_n hx hb dX5_valueOf_71 rfl (lv_at hl 0 rfl) ?_
      refine mm_get X hM q1209 (mf_35 _ _) dX5_valueOf_72 ?_
      refine lv_bipush (v := zi 38) hx hb dX5_valueOf_75 (by decide) ?_
      refine lv_aload_n hx hb dX5_valueOf_77 rfl (lv_at hl 0 rfl) ?_
      refine mm_get X hM q1213 (mf_39 _ _) dX5_valueOf_78 ?_
      refine g_imul hx hb dX5_valueOf_81 ?_
      refine lv_iconst (v := zi 5) hx hb dX5_valueOf_82 rfl ?_
      refine g_iadd hx hb dX5_valueOf_83 ?_
      refine lv_iload_n hx hb dX5_valueOf_84 rfl (lv_at hl 2 rfl) ?_
      refine g_iadd hx hb dX5_valueOf_85 ?_
      obtain ⟨g8, hh⟩ := gd_inv hh
      refine mm_iald X hM (ma_35 _ _) g8 dX5_valueOf_86 ?_
      obtain ⟨g9, hh⟩ := gd_inv hh
      refine g_i2l hx hb g9 dX5_valueOf_87 ?_
      refine lv_goto (tgt := 92) hx hb dX5_valueOf_88 (by decide) ?_
      exact hret _ _ _ _ _ _ (rt0 hh) rfl dX5_valueOf_92 hM
    · replace hh := it_f c6 hh
      refine lv_lconst (v := zl 0) hx hb dX5_valueOf_91 (by decide) ?_
      exact hret _ _ _ _ _ _ (rt0 hh) rfl dX5_valueOf_92 hM
  replace hh := it_f c17 hh
  refine g_lookOut (tgt := 93) hx hb dX5_valueOf_1 g1 (by decide) (by simp [Op.lookupswitch.offset, Ne.symm c14, Ne.symm c15, Ne.symm c16, Ne.symm c17]) (by decide) ?_
  refine lv_iload_n hx hb dX5_valueOf_93 rfl (lv_at hl 2 rfl) ?_
  refine lv_aload_n hx hb dX5_valueOf_94 rfl (lv_at hl 0 rfl) ?_
  refine mm_get X hM q1176 (mf_2 _ _) dX5_valueOf_95 ?_
  refine lv_iconst (v := zi 2) hx hb dX5_valueOf_98 rfl ?_
  refine mm_iald X hM (ma_2 _ _) (by decide) dX5_valueOf_99 ?_
  obtain ⟨g11, hh⟩ := gd_inv hh
  refine g_icmp_ge (tgt := 124) hx hb g11 dX5_valueOf_100 (by decide) (fun c10 => ?_) (fun c10 => ?_)
  · replace hh := it_t c10 hh
    refine lv_aload_n hx hb dX5_valueOf_103 rfl (lv_at hl 0 rfl) ?_
    refine mm_get X hM q1209 (mf_35 _ _) dX5_valueOf_104 ?_
    refine lv_bipush (v := zi 38) hx hb dX5_valueOf_107 (by decide) ?_
    refine lv_aload_n hx hb dX5_valueOf_109 rfl (lv_at hl 0 rfl) ?_
    refine mm_get X hM q1213 (mf_39 _ _) dX5_valueOf_110 ?_
    refine g_imul hx hb dX5_valueOf_113 ?_
    refine lv_bipush (v := zi 21) hx hb dX5_valueOf_114 (by decide) ?_
    refine g_iadd hx hb dX5_valueOf_116 ?_
    refine lv_iload_n hx hb dX5_valueOf_117 rfl (lv_at hl 2 rfl) ?_
    refine g_iadd hx hb dX5_valueOf_118 ?_
    obtain ⟨g12, hh⟩ := gd_inv hh
    refine mm_iald X hM (ma_35 _ _) g12 dX5_valueOf_119 ?_
    obtain ⟨g13, hh⟩ := gd_inv hh
    refine g_i2l hx hb g13 dX5_valueOf_120 ?_
    refine lv_goto (tgt := 125) hx hb dX5_valueOf_121 (by decide) ?_
    exact hret _ _ _ _ _ _ (rt0 hh) rfl dX5_valueOf_125 hM
  · replace hh := it_f c10 hh
    refine lv_lconst (v := zl 0) hx hb dX5_valueOf_124 (by decide) ?_
    exact hret _ _ _ _ _ _ (rt0 hh) rfl dX5_valueOf_125 hM
def M_bring_B29 (S : xS) (x1 : Int) : Option (Int × xS) := gd (r64 (x1) ∧ r64 (S.1 27)) (if x1 ≤ (S.1 27) then (gd (r64 (x1) ∧ r64 (-(S.1 27))) (if x1 < (-(S.1 27)) then (some ((-(S.1 27) : Int), S)) else (some ((x1 : Int), S)))) else (some ((S.1 27 : Int), S)))
def M_bring_B19 (S : xS) (x1 : Int) : Option (Int × xS) := nm (fset S 28 ((S.1 28) + 1)) (fun S5 => M_bring_B29 S5 x1)
def M_bring (S : xS) (x1 : Int) : Option (Int × xS) := gd (r64 (x1) ∧ r64 (S.1 27)) (if x1 ≤ (S.1 27) then (gd (r64 (x1) ∧ r64 (-(S.1 27))) (if x1 < (-(S.1 27)) then (M_bring_B19 S x1) else (M_bring_B29 S x1))) else (M_bring_B19 S x1))
set_option maxHeartbeats 4000000 in
theorem wM_bring (l : Launch) (DM : va_G) (dA : Nat → ClassId) (h : Nat) (S : xS) (x1 : Int) {r : Int} {S1 : xS} (hh : M_bring S x1 = some (r, S1)) : mt_l l yX5_bring cX5_bring 3 (some .long) ({ frames := 1, cells := 0, slots := 0, locals := 12 } : Room) DM dA h [.long (zl x1)] S r S1 := by
  refine mo_l (by decide) rfl (Nat.le_of_ble_eq_true rfl) ?_
  intro p e s m args below meth c Q ls X hret hl hM
  have hx := X.1.1
  have hb := X.1.2.1
  have hown := X.1.2.2.2.1
  have hts := X.1.2.2.2.2
  skip
  have hB29 : ∀ (x1 : Int) (S : xS), M_bring_B29 S x1 = some (r, S1) → ∀ (H : Heap) (locs : List Loc) (ls : Array Slot), MX DM dA h S s H locs → lv_has ls 3 [(0, .ref (h)), (1, .long (zl (x1)))] → W p l e ({ frames := 1, cells := 0, slots := 0, locals := 12 } : Room) s m args below meth c H locs 0 0 Q (F0 m 29 ls []) := by
    intro x1  S hh H locs ls hM hl
    unfold M_bring_B29 at hh
    refine lv_lload_n hx hb dX5_bring_29 rfl (lv_at hl 1 rfl) ?_
    refine lv_aload_n hx hb dX5_bring_30 rfl (lv_at hl 0 rfl) ?_
    refine mm_get X hM q1201 (mf_27 _ _) dX5_bring_31 ?_
    obtain ⟨g8, hh⟩ := gd_inv hh
    refine g_lcmp_le (tgt := 45) hx hb g8 dX5_bring_34 dX5_bring_35 (by decide) (fun c7 => ?_) (fun c7 => ?_)
    · replace hh := it_t c7 hh
      refine lv_lload_n hx hb dX5_bring_45 rfl (lv_at hl 1 rfl) ?_
      refine lv_aload_n hx hb dX5_bring_46 rfl (lv_at hl 0 rfl) ?_
      refine mm_get X hM q1201 (mf_27 _ _) dX5_bring_47 ?_
      refine g_lneg hx hb dX5_bring_50 ?_
      obtain ⟨g10, hh⟩ := gd_inv hh
      refine g_lcmp_ge (tgt := 63) hx hb g10 dX5_bring_51 dX5_bring_52 (by decide) (fun c9 => ?_) (fun c9 => ?_)
      · replace hh := it_t c9 hh
        refine lv_aload_n hx hb dX5_bring_55 rfl (lv_at hl 0 rfl) ?_
        refine mm_get X hM q1201 (mf_27 _ _) dX5_bring_56 ?_
        refine g_lneg hx hb dX5_bring_59 ?_
        refine lv_goto (tgt := 64) hx hb dX5_bring_60 (by decide) ?_
        exact hret _ _ _ _ _ _ (rt1 hh) (rt2 hh) dX5_bring_64 hM
      · replace hh := it_f c9 hh
        refine lv_lload_n hx hb dX5_bring_63 rfl (lv_at hl 1 rfl) ?_
        exact hret _ _ _ _ _ _ (rt1 hh) (rt2 hh) dX5_bring_64 hM
    · replace hh := it_f c7 hh
      refine lv_aload_n hx hb dX5_bring_38 rfl (lv_at hl 0 rfl) ?_
      refine mm_get X hM q1201 (mf_27 _ _) dX5_bring_39 ?_
      refine lv_goto (tgt := 64) hx hb dX5_bring_42 (by decide) ?_
      exact hret _ _ _ _ _ _ (rt1 hh) (rt2 hh) dX5_bring_64 hM
  have hB19 : ∀ (x1 : Int) (S : xS), M_bring_B19 S x1 = some (r, S1) → ∀ (H : Heap) (locs : List Loc) (ls : Array Slot), MX DM dA h S s H locs → lv_has ls 3 [(0, .ref (h)), (1, .long (zl (x1)))] → W p l e ({ frames := 1, cells := 0, slots := 0, locals := 12 } : Room) s m args below meth c H locs 0 0 Q (F0 m 19 ls []) := by
    intro x1  S hh H locs ls hM hl
    unfold M_bring_B19 at hh
    refine lv_aload_n hx hb dX5_bring_19 rfl (lv_at hl 0 rfl) ?_
    refine lv_dup hx hb dX5_bring_20 rfl ?_
    refine mm_get X hM q1202 (mf_28 _ _) dX5_bring_21 ?_
    refine lv_iconst (v := zi 1) hx hb dX5_bring_24 rfl ?_
    refine g_iadd hx hb dX5_bring_25 ?_
    refine mm_put X hM q1202 (mp_28 _ _ _) dX5_bring_26 (fun H locs S5 e6 hM => ?_)
    replace hh := nm_inv hh S5 e6
    exact hB29 x1 S5 hh _ _ _ hM (lv_sub hl [0, 1] rfl)
  replace hl : lv_has ls 3 [(0, .ref (h)), (1, .long (zl (x1)))] := hl
  unfold M_bring at hh
  refine lv_lload_n hx hb dX5_bring_0 rfl (lv_at hl 1 rfl) ?_
  refine lv_aload_n hx hb dX5_bring_1 rfl (lv_at hl 0 rfl) ?_
  refine mm_get X hM q1201 (mf_27 _ _) dX5_bring_2 ?_
  obtain ⟨g2, hh⟩ := gd_inv hh
  refine g_lcmp_gt (tgt := 19) hx hb g2 dX5_bring_5 dX5_bring_6 (by decide) (fun c1 => ?_) (fun c1 => ?_)
  · replace hh := it_t c1 hh
    refine lv_lload_n hx hb dX5_bring_9 rfl (lv_at hl 1 rfl) ?_
    refine lv_aload_n hx hb dX5_bring_10 rfl (lv_at hl 0 rfl) ?_
    refine mm_get X hM q1201 (mf_27 _ _) dX5_bring_11 ?_
    refine g_lneg hx hb dX5_bring_14 ?_
    obtain ⟨g4, hh⟩ := gd_inv hh
    refine g_lcmp_ge (tgt := 29) hx hb g4 dX5_bring_15 dX5_bring_16 (by decide) (fun c3 => ?_) (fun c3 => ?_)
    · replace hh := it_t c3 hh
      exact hB19 x1 S hh _ _ _ hM (lv_sub hl [0, 1] rfl)
    · replace hh := it_f c3 hh
      exact hB29 x1 S hh _ _ _ hM (lv_sub hl [0, 1] rfl)
  · replace hh := it_f c1 hh
    exact hB19 x1 S hh _ _ _ hM (lv_sub hl [0, 1] rfl)
def M_two (S : xS) (x1 : Int) (x2 : Int) (x4 : Int) : Option (Int × xS) := gd (r32 (x1)) (if x1 = 3 then (bd2 (M_bring S (x2 + x4)) (fun v3 S4 => some ((v3 : Int), S4))) else if x1 = 4 then (bd2 (M_bring S (x2 - x4)) (fun v6 S7 => some ((v6 : Int), S7))) else if x1 = 5 then (bd2 (M_bring S (x2 * x4)) (fun v9 S10 => some ((v9 : Int), S10))) else if x1 = 6 then (gd (r64 (x4)) (if x4 = 0 then (some ((0 : Int), S)) else (gd (r64 (x2) ∧ r64 (x4) ∧ (x4 : Int) ≠ 0) (bd2 (M_bring S (Int.tdiv x2 x4)) (fun v15 S16 => some ((v15 : Int), S16)))))) else if x1 = 7 then (gd (r64 (x2) ∧ r64 (x4)) (if x2 < x4 then (some ((x2 : Int), S)) else (some ((x4 : Int), S)))) else (gd (r64 (x2) ∧ r64 (x4)) (if x2 ≤ x4 then (some ((x4 : Int), S)) else (some ((x2 : Int), S)))))
set_option maxHeartbeats 4000000 in
theorem wM_two (l : Launch) (DM : va_G) (dA : Nat → ClassId) (h : Nat) (S : xS) (x1 x2 x4 : Int) {r : Int} {S1 : xS} (hh : M_two S x1 x2 x4 = some (r, S1)) : mt_l l yX5_two cX5_two 6 (some .long) ({ frames := 2, cells := 0, slots := 0, locals := 34 } : Room) DM dA h [.int (zi x1), .long (zl x2), .long (zl x4)] S r S1 := by
  refine mo_l (by decide) rfl (Nat.le_of_ble_eq_true rfl) ?_
  intro p e s m args below meth c Q ls X hret hl hM
  have hx := X.1.1
  have hb := X.1.2.1
  have hown := X.1.2.2.2.1
  have hts := X.1.2.2.2.2
  skip
  replace hl : lv_has ls 6 [(0, .ref (h)), (1, .int (zi (x1))), (2, .long (zl (x2))), (4, .long (zl (x4)))] := hl
  unfold M_two at hh
  refine lv_iload_n hx hb dX5_two_0 rfl (lv_at hl 1 rfl) ?_
  obtain ⟨g1, hh⟩ := gd_inv hh
  by_cases c21 : x1 = 3
  · replace hh := it_t c21 hh
    refine g_tabIn (z0 := 3) (off := 35) (tgt := 36) hx hb dX5_two_1 c21 (by decide) (by decide) (by decide) rfl (by decide) ?_
    refine lv_aload_n hx hb dX5_two_36 rfl (lv_at hl 0 rfl) ?_
    refine lv_lload_n hx hb dX5_two_37 rfl (lv_at hl 2 rfl) ?_
    refine lv_lload hx hb dX5_two_38 (lv_at hl 3 rfl) ?_
    refine g_ladd hx hb dX5_two_40 ?_
    obtain ⟨v3, S4, k2, hh⟩ := bd2_inv hh
    refine mc_l (rest := []) X hM (wM_bring l DM dA h S (x2 + x4) k2) c5_bring.1 c5_bring.2 ⟨rfl, rfl⟩ ⟨Nat.le_of_ble_eq_true rfl, Nat.le_of_ble_eq_true rfl⟩ ⟨Nat.zero_le _, Nat.zero_le _⟩ hl.1 (Nat.le_of_ble_eq_true rfl) dX5_two_41 rfl (fun H locs hM => ?_)
    exact hret _ _ _ _ _ _ (rt1 hh) (rt2 hh) dX5_two_44 hM
  replace hh := it_f c21 hh
  by_cases c22 : x1 = 4
  · replace hh := it_t c22 hh
    refine g_tabIn (z0 := 4) (off := 44) (tgt := 45) hx hb dX5_two_1 c22 (by decide) (by decide) (by decide) rfl (by decide) ?_
    refine lv_aload_n hx hb dX5_two_45 rfl (lv_at hl 0 rfl) ?_
    refine lv_lload_n hx hb dX5_two_46 rfl (lv_at hl 2 rfl) ?_
    refine lv_lload hx hb dX5_two_47 (lv_at hl 3 rfl) ?_
    refine g_lsub hx hb dX5_two_49 ?_
    obtain ⟨v6, S7, k5, hh⟩ := bd2_inv hh
    refine mc_l (rest := []) X hM (wM_bring l DM dA h S (x2 - x4) k5) c5_bring.1 c5_bring.2 ⟨rfl, rfl⟩ ⟨Nat.le_of_ble_eq_true rfl, Nat.le_of_ble_eq_true rfl⟩ ⟨Nat.zero_le _, Nat.zero_le _⟩ hl.1 (Nat.le_of_ble_eq_true rfl) dX5_two_50 rfl (fun H locs hM => ?_)
    exact hret _ _ _ _ _ _ (rt1 hh) (rt2 hh) dX5_two_53 hM
  replace hh := it_f c22 hh
  by_cases c23 : x1 = 5
  · replace hh := it_t c23 hh
    refine g_tabIn (z0 := 5) (off := 53) (tgt := 54) hx hb dX5_two_1 c23 (by decide) (by decide) (by decide) rfl (by decide) ?_
    refine lv_aload_n hx hb dX5_two_54 rfl (lv_at hl 0 rfl) ?_
    refine lv_lload_n hx hb dX5_two_55 rfl (lv_at hl 2 rfl) ?_
    refine lv_lload hx hb dX5_two_56 (lv_at hl 3 rfl) ?_
    refine g_lmul hx hb dX5_two_58 ?_
    obtain ⟨v9, S10, k8, hh⟩ := bd2_inv hh
    refine mc_l (rest := []) X hM (wM_bring l DM dA h S (x2 * x4) k8) c5_bring.1 c5_bring.2 ⟨rfl, rfl⟩ ⟨Nat.le_of_ble_eq_true rfl, Nat.le_of_ble_eq_true rfl⟩ ⟨Nat.zero_le _, Nat.zero_le _⟩ hl.1 (Nat.le_of_ble_eq_true rfl) dX5_two_59 rfl (fun H locs hM => ?_)
    exact hret _ _ _ _ _ _ (rt1 hh) (rt2 hh) dX5_two_62 hM
  replace hh := it_f c23 hh
  by_cases c24 : x1 = 6
  · replace hh := it_t c24 hh
    refine g_tabIn (z0 := 6) (off := 62) (tgt := 63) hx hb dX5_two_1 c24 (by decide) (by decide) (by decide) rfl (by decide) ?_
    refine lv_lload hx hb dX5_two_63 (lv_at hl 3 rfl) ?_
    refine lv_lconst (v := zl 0) hx hb dX5_two_65 (by decide) ?_
    obtain ⟨g12, hh⟩ := gd_inv hh
    refine g_lcmp_ne (tgt := 74) hx hb ⟨g12, by decide⟩ dX5_two_66 dX5_two_67 (by decide) (fun c11 => ?_) (fun c11 => ?_)
    · replace hh := it_t c11 hh
      refine lv_lconst (v := zl 0) hx hb dX5_two_70 (by decide) ?_
      refine lv_goto (tgt := 82) hx hb dX5_two_71 (by decide) ?_
      exact hret _ _ _ _ _ _ (rt1 hh) (rt2 hh) dX5_two_82 hM
    · replace hh := it_f c11 hh
      refine lv_aload_n hx hb dX5_two_74 rfl (lv_at hl 0 rfl) ?_
      refine lv_lload_n hx hb dX5_two_75 rfl (lv_at hl 2 rfl) ?_
      refine lv_lload hx hb dX5_two_76 (lv_at hl 3 rfl) ?_
      obtain ⟨g13, hh⟩ := gd_inv hh
      refine g_ldiv hx hb g13 dX5_two_78 ?_
      obtain ⟨v15, S16, k14, hh⟩ := bd2_inv hh
      refine mc_l (rest := []) X hM (wM_bring l DM dA h S (Int.tdiv x2 x4) k14) c5_bring.1 c5_bring.2 ⟨rfl, rfl⟩ ⟨Nat.le_of_ble_eq_true rfl, Nat.le_of_ble_eq_true rfl⟩ ⟨Nat.zero_le _, Nat.zero_le _⟩ hl.1 (Nat.le_of_ble_eq_true rfl) dX5_two_79 rfl (fun H locs hM => ?_)
      exact hret _ _ _ _ _ _ (rt1 hh) (rt2 hh) dX5_two_82 hM
  replace hh := it_f c24 hh
  by_cases c25 : x1 = 7
  · replace hh := it_t c25 hh
    refine g_tabIn (z0 := 7) (off := 82) (tgt := 83) hx hb dX5_two_1 c25 (by decide) (by decide) (by decide) rfl (by decide) ?_
    refine lv_lload_n hx hb dX5_two_83 rfl (lv_at hl 2 rfl) ?_
    refine lv_lload hx hb dX5_two_84 (lv_at hl 3 rfl) ?_
    obtain ⟨g18, hh⟩ := gd_inv hh
    refine g_lcmp_ge (tgt := 94) hx hb g18 dX5_two_86 dX5_two_87 (by decide) (fun c17 => ?_) (fun c17 => ?_)
    · replace hh := it_t c17 hh
      refine lv_lload_n hx hb dX5_two_90 rfl (lv_at hl 2 rfl) ?_
      refine lv_goto (tgt := 96) hx hb dX5_two_91 (by decide) ?_
      exact hret _ _ _ _ _ _ (rt1 hh) (rt2 hh) dX5_two_96 hM
    · replace hh := it_f c17 hh
      refine lv_lload hx hb dX5_two_94 (lv_at hl 3 rfl) ?_
      exact hret _ _ _ _ _ _ (rt1 hh) (rt2 hh) dX5_two_96 hM
  replace hh := it_f c25 hh
  refine g_tabOut (tgt := 97) hx hb dX5_two_1 g1 (by omega) (by decide) ?_
  refine lv_lload_n hx hb dX5_two_97 rfl (lv_at hl 2 rfl) ?_
  refine lv_lload hx hb dX5_two_98 (lv_at hl 3 rfl) ?_
  obtain ⟨g20, hh⟩ := gd_inv hh
  refine g_lcmp_le (tgt := 108) hx hb g20 dX5_two_100 dX5_two_101 (by decide) (fun c19 => ?_) (fun c19 => ?_)
  · replace hh := it_t c19 hh
    refine lv_lload hx hb dX5_two_108 (lv_at hl 3 rfl) ?_
    exact hret _ _ _ _ _ _ (rt1 hh) (rt2 hh) dX5_two_110 hM
  · replace hh := it_f c19 hh
    refine lv_lload_n hx hb dX5_two_104 rfl (lv_at hl 2 rfl) ?_
    refine lv_goto (tgt := 110) hx hb dX5_two_105 (by decide) ?_
    exact hret _ _ _ _ _ _ (rt1 hh) (rt2 hh) dX5_two_110 hM
def M_isAsked (x0 : Int) (x1 : Int) (x3 : Int) : Option Bool := gd (r32 (x0)) (if x0 = 10 then (gd (r64 (x1) ∧ r64 (x3)) (if x1 < x3 then (some (true)) else (some (false)))) else (gd (r32 (x0)) (if x0 = 11 then (gd (r64 (x1) ∧ r64 (x3)) (if x1 ≤ x3 then (some (true)) else (some (false)))) else (gd (r32 (x0)) (if x0 = 12 then (gd (r64 (x1) ∧ r64 (x3)) (if x1 ≤ x3 then (some (false)) else (some (true)))) else (gd (r32 (x0)) (if x0 = 13 then (gd (r64 (x1) ∧ r64 (x3)) (if x1 < x3 then (some (false)) else (some (true)))) else (gd (r32 (x0)) (if x0 = 14 then (gd (r64 (x1) ∧ r64 (x3)) (if x1 = x3 then (some (true)) else (some (false)))) else (gd (r64 (x1) ∧ r64 (x3)) (if x1 = x3 then (some (false)) else (some (true)))))))))))))
set_option maxHeartbeats 4000000 in
theorem wM_isAsked (l : Launch) (x0 x1 x3 : Int) {r : Bool} (hh : M_isAsked x0 x1 x3 = some r) : ms_z l yX5_isAsked cX5_isAsked 5 (some .boolean) ({ frames := 1, cells := 0, slots := 0, locals := 12 } : Room) [.int (zi x0), .long (zl x1), .long (zl x3)] r := by
  refine mo_sz (by decide) rfl (Nat.le_of_ble_eq_true rfl) ?_
  intro p e s m args below meth c Q ls X hret hl hM
  have hx := X.1
  have hb := X.2.1
  have hown := X.2.2.2.1
  have hts := X.2.2.2.2
  skip
  replace hl : lv_has ls 5 [(0, .int (zi (x0))), (1, .long (zl (x1))), (3, .long (zl (x3)))] := hl
  unfold M_isAsked at hh
  refine lv_iload_n hx hb dX5_isAsked_0 rfl (lv_at hl 0 rfl) ?_
  refine lv_bipush (v := zi 10) hx hb dX5_isAsked_1 (by decide) ?_
  obtain ⟨g2, hh⟩ := gd_inv hh
  refine g_icmp_ne (tgt := 20) hx hb ⟨g2, by decide⟩ dX5_isAsked_3 (by decide) (fun c1 => ?_) (fun c1 => ?_)
  · replace hh := it_t c1 hh
    refine lv_lload_n hx hb dX5_isAsked_6 rfl (lv_at hl 1 rfl) ?_
    refine lv_lload_n hx hb dX5_isAsked_7 rfl (lv_at hl 2 rfl) ?_
    obtain ⟨g4, hh⟩ := gd_inv hh
    refine g_lcmp_ge (tgt := 16) hx hb g4 dX5_isAsked_8 dX5_isAsked_9 (by decide) (fun c3 => ?_) (fun c3 => ?_)
    · replace hh := it_t c3 hh
      refine lv_iconst (v := zi 1) hx hb dX5_isAsked_12 rfl ?_
      refine lv_goto (tgt := 111) hx hb dX5_isAsked_13 (by decide) ?_
      refine W.eq (g2 := F0 m 111 ls [.int (zi (bz true))]) rfl ?_
      exact hret _ _ _ _ _ (rt0 hh) dX5_isAsked_111 hM
    · replace hh := it_f c3 hh
      refine lv_iconst (v := zi 0) hx hb dX5_isAsked_16 rfl ?_
      refine lv_goto (tgt := 111) hx hb dX5_isAsked_17 (by decide) ?_
      refine W.eq (g2 := F0 m 111 ls [.int (zi (bz false))]) rfl ?_
      exact hret _ _ _ _ _ (rt0 hh) dX5_isAsked_111 hM
  · replace hh := it_f c1 hh
    refine lv_iload_n hx hb dX5_isAsked_20 rfl (lv_at hl 0 rfl) ?_
    refine lv_bipush (v := zi 11) hx hb dX5_isAsked_21 (by decide) ?_
    obtain ⟨g6, hh⟩ := gd_inv hh
    refine g_icmp_ne (tgt := 40) hx hb ⟨g6, by decide⟩ dX5_isAsked_23 (by decide) (fun c5 => ?_) (fun c5 => ?_)
    · replace hh := it_t c5 hh
      refine lv_lload_n hx hb dX5_isAsked_26 rfl (lv_at hl 1 rfl) ?_
      refine lv_lload_n hx hb dX5_isAsked_27 rfl (lv_at hl 2 rfl) ?_
      obtain ⟨g8, hh⟩ := gd_inv hh
      refine g_lcmp_gt (tgt := 36) hx hb g8 dX5_isAsked_28 dX5_isAsked_29 (by decide) (fun c7 => ?_) (fun c7 => ?_)
      · replace hh := it_t c7 hh
        refine lv_iconst (v := zi 1) hx hb dX5_isAsked_32 rfl ?_
        refine lv_goto (tgt := 111) hx hb dX5_isAsked_33 (by decide) ?_
        refine W.eq (g2 := F0 m 111 ls [.int (zi (bz true))]) rfl ?_
        exact hret _ _ _ _ _ (rt0 hh) dX5_isAsked_111 hM
      · replace hh := it_f c7 hh
        refine lv_iconst (v := zi 0) hx hb dX5_isAsked_36 rfl ?_
        refine lv_goto (tgt := 111) hx hb dX5_isAsked_37 (by decide) ?_
        refine W.eq (g2 := F0 m 111 ls [.int (zi (bz false))]) rfl ?_
        exact hret _ _ _ _ _ (rt0 hh) dX5_isAsked_111 hM
    · replace hh := it_f c5 hh
      refine lv_iload_n hx hb dX5_isAsked_40 rfl (lv_at hl 0 rfl) ?_
      refine lv_bipush (v := zi 12) hx hb dX5_isAsked_41 (by decide) ?_
      obtain ⟨g10, hh⟩ := gd_inv hh
      refine g_icmp_ne (tgt := 60) hx hb ⟨g10, by decide⟩ dX5_isAsked_43 (by decide) (fun c9 => ?_) (fun c9 => ?_)
      · replace hh := it_t c9 hh
        refine lv_lload_n hx hb dX5_isAsked_46 rfl (lv_at hl 1 rfl) ?_
        refine lv_lload_n hx hb dX5_isAsked_47 rfl (lv_at hl 2 rfl) ?_
        obtain ⟨g12, hh⟩ := gd_inv hh
        refine g_lcmp_le (tgt := 56) hx hb g12 dX5_isAsked_48 dX5_isAsked_49 (by decide) (fun c11 => ?_) (fun c11 => ?_)
        · replace hh := it_t c11 hh
          refine lv_iconst (v := zi 0) hx hb dX5_isAsked_56 rfl ?_
          refine lv_goto (tgt := 111) hx hb dX5_isAsked_57 (by decide) ?_
          refine W.eq (g2 := F0 m 111 ls [.int (zi (bz false))]) rfl ?_
          exact hret _ _ _ _ _ (rt0 hh) dX5_isAsked_111 hM
        · replace hh := it_f c11 hh
          refine lv_iconst (v := zi 1) hx hb dX5_isAsked_52 rfl ?_
          refine lv_goto (tgt := 111) hx hb dX5_isAsked_53 (by decide) ?_
          refine W.eq (g2 := F0 m 111 ls [.int (zi (bz true))]) rfl ?_
          exact hret _ _ _ _ _ (rt0 hh) dX5_isAsked_111 hM
      · replace hh := it_f c9 hh
        refine lv_iload_n hx hb dX5_isAsked_60 rfl (lv_at hl 0 rfl) ?_
        refine lv_bipush (v := zi 13) hx hb dX5_isAsked_61 (by decide) ?_
        obtain ⟨g14, hh⟩ := gd_inv hh
        refine g_icmp_ne (tgt := 80) hx hb ⟨g14, by decide⟩ dX5_isAsked_63 (by decide) (fun c13 => ?_) (fun c13 => ?_)
        · replace hh := it_t c13 hh
          refine lv_lload_n hx hb dX5_isAsked_66 rfl (lv_at hl 1 rfl) ?_
          refine lv_lload_n hx hb dX5_isAsked_67 rfl (lv_at hl 2 rfl) ?_
          obtain ⟨g16, hh⟩ := gd_inv hh
          refine g_lcmp_lt (tgt := 76) hx hb g16 dX5_isAsked_68 dX5_isAsked_69 (by decide) (fun c15 => ?_) (fun c15 => ?_)
          · replace hh := it_t c15 hh
            refine lv_iconst (v := zi 0) hx hb dX5_isAsked_76 rfl ?_
            refine lv_goto (tgt := 111) hx hb dX5_isAsked_77 (by decide) ?_
            refine W.eq (g2 := F0 m 111 ls [.int (zi (bz false))]) rfl ?_
            exact hret _ _ _ _ _ (rt0 hh) dX5_isAsked_111 hM
          · replace hh := it_f c15 hh
            refine lv_iconst (v := zi 1) hx hb dX5_isAsked_72 rfl ?_
            refine lv_goto (tgt := 111) hx hb dX5_isAsked_73 (by decide) ?_
            refine W.eq (g2 := F0 m 111 ls [.int (zi (bz true))]) rfl ?_
            exact hret _ _ _ _ _ (rt0 hh) dX5_isAsked_111 hM
        · replace hh := it_f c13 hh
          refine lv_iload_n hx hb dX5_isAsked_80 rfl (lv_at hl 0 rfl) ?_
          refine lv_bipush (v := zi 14) hx hb dX5_isAsked_81 (by decide) ?_
          obtain ⟨g18, hh⟩ := gd_inv hh
          refine g_icmp_ne (tgt := 100) hx hb ⟨g18, by decide⟩ dX5_isAsked_83 (by decide) (fun c17 => ?_) (fun c17 => ?_)
          · replace hh := it_t c17 hh
            refine lv_lload_n hx hb dX5_isAsked_86 rfl (lv_at hl 1 rfl) ?_
            refine lv_lload_n hx hb dX5_isAsked_87 rfl (lv_at hl 2 rfl) ?_
            obtain ⟨g20, hh⟩ := gd_inv hh
            refine g_lcmp_ne (tgt := 96) hx hb g20 dX5_isAsked_88 dX5_isAsked_89 (by decide) (fun c19 => ?_) (fun c19 => ?_)
            · replace hh := it_t c19 hh
              refine lv_iconst (v := zi 1) hx hb dX5_isAsked_92 rfl ?_
              refine lv_goto (tgt := 111) hx hb dX5_isAsked_93 (by decide) ?_
              refine W.eq (g2 := F0 m 111 ls [.int (zi (bz true))]) rfl ?_
              exact hret _ _ _ _ _ (rt0 hh) dX5_isAsked_111 hM
            · replace hh := it_f c19 hh
              refine lv_iconst (v := zi 0) hx hb dX5_isAsked_96 rfl ?_
              refine lv_goto (tgt := 111) hx hb dX5_isAsked_97 (by decide) ?_
              refine W.eq (g2 := F0 m 111 ls [.int (zi (bz false))]) rfl ?_
              exact hret _ _ _ _ _ (rt0 hh) dX5_isAsked_111 hM
          · replace hh := it_f c17 hh
            refine lv_lload_n hx hb dX5_isAsked_100 rfl (lv_at hl 1 rfl) ?_
            refine lv_lload_n hx hb dX5_isAsked_101 rfl (lv_at hl 2 rfl) ?_
            obtain ⟨g22, hh⟩ := gd_inv hh
            refine g_lcmp_eq (tgt := 110) hx hb g22 dX5_isAsked_102 dX5_isAsked_103 (by decide) (fun c21 => ?_) (fun c21 => ?_)
            · replace hh := it_t c21 hh
              refine lv_iconst (v := zi 0) hx hb dX5_isAsked_110 rfl ?_
              refine W.eq (g2 := F0 m 111 ls [.int (zi (bz false))]) rfl ?_
              exact hret _ _ _ _ _ (rt0 hh) dX5_isAsked_111 hM
            · replace hh := it_f c21 hh
              refine lv_iconst (v := zi 1) hx hb dX5_isAsked_106 rfl ?_
              refine lv_goto (tgt := 111) hx hb dX5_isAsked_107 (by decide) ?_
              refine W.eq (g2 := F0 m 111 ls [.int (zi (bz true))]) rfl ?_
              exact hret _ _ _ _ _ (rt0 hh) dX5_isAsked_111 hM
