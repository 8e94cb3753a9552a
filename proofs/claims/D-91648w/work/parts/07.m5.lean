set_option maxRecDepth 100000
def M_beginOne_B178 (S : xS) (t0 : Int) : Option (Int × xS) := bd2 (M_eye S t0) (fun v37 S38 => some ((v37 : Int), S38))
def M_beginOne_B152 (S : xS) : Option (Int × xS) := bd (M_w4 (108 : Int) (101 : Int) (110 : Int) (115 : Int)) (fun v32 => bd (M_isWord S v32) (fun v34 => if v34 = true then (M_beginOne_B178 S (31 : Int)) else (M_beginOne_B178 S (32 : Int))))
def M_beginOne_B280 (S : xS) (x1 : Int) : Option (Int × xS) := gd (r32 (S.1 25)) (if (S.1 25) = 8 then (some ((3 : Int), S)) else (nm (fset S 25 ((S.1 25) + 1)) (fun S55 => bd (M_push S55 x1) (fun S58 => bd (M_nextToken S58 ) (fun S60 => some ((0 : Int), S60))))))
def M_beginOne_B252 (S : xS) (t0 : Int) : Option (Int × xS) := gd (r32 (t0)) (if t0 = 0 then (some ((1 : Int), S)) else (gd (r32 (t0)) (if t0 ≤ 40 then (M_beginOne_B280 S t0) else (bd (M_nextToken S ) (fun S62 => gd (r32 (S62.1 15)) (if (S62.1 15) = 40 then (M_beginOne_B280 S62 t0) else (some ((1 : Int), S62))))))))
def M_beginOne (S : xS) : Option (Int × xS) := gd (r32 (S.1 15)) (if (S.1 15) = 1 then (gd (r32 (S.1 16)) (if (S.1 16) ≤ 9999 then (bd (M_emit S (0 : Int) (S.1 16)) (fun S6 => bd (M_nextToken S6 ) (fun S8 => bd (M_whole S8 ) (fun S10 => some ((0 : Int), S10))))) else (some ((2 : Int), S)))) else (bd (M_letterOf S ) (fun v12 => gd (r32 (v12)) (if v12 < 0 then (bd (M_w4 (116 : Int) (105 : Int) (99 : Int) (107 : Int)) (fun v16 => bd (M_isWord S v16) (fun v18 => if v18 = true then (bd (M_emit S (30 : Int) (0 : Int)) (fun S21 => bd (M_nextToken S21 ) (fun S23 => bd (M_whole S23 ) (fun S25 => some ((0 : Int), S25))))) else (bd (M_w4 (108 : Int) (101 : Int) (110 : Int) (115 : Int)) (fun v27 => bd (M_isWord S v27) (fun v29 => if v29 = true then (M_beginOne_B152 S) else (bd (M_w4 (112 : Int) (97 : Int) (105 : Int) (114 : Int)) (fun v40 => bd (M_isWord S v40) (fun v42 => if v42 = true then (M_beginOne_B152 S) else (bd (M_w3 (109 : Int) (105 : Int) (110 : Int)) (fun v45 => bd (M_isWord S v45) (fun v47 => if v47 = true then (M_beginOne_B252 S (41 : Int)) else (bd (M_w3 (109 : Int) (97 : Int) (120 : Int)) (fun v66 => bd (M_isWord S v66) (fun v68 => if v68 = true then (M_beginOne_B252 S (42 : Int)) else (gd (r32 (S.1 15)) (if (S.1 15) = 40 then (M_beginOne_B252 S (40 : Int)) else (gd (r32 (S.1 15)) (if (S.1 15) = 45 then (M_beginOne_B252 S (2 : Int)) else (M_beginOne_B252 S (0 : Int))))))))))))))))))))) else (bd (M_letterOf S ) (fun v75 => gd (r32 (S.1 22) ∧ (0 : Int) ≤ v75 ∧ (v75 : Int) ≤ 31) (gd (r32 (((S.1 22) / 2 ^ (Int.toNat v75)) % 2 ^ 1)) (if (((S.1 22) / 2 ^ (Int.toNat v75)) % 2 ^ 1) = 0 then (some ((5 : Int), S)) else (bd (M_letterOf S ) (fun v80 => bd (M_emit S (1 : Int) v80) (fun S82 => bd (M_nextToken S82 ) (fun S84 => bd (M_whole S84 ) (fun S86 => some ((0 : Int), S86))))))))))))))
set_option maxHeartbeats 4000000 in
theorem wM_beginOne (l : Launch) (DM : va_G) (dA : Nat → ClassId) (h : Nat) (S : xS) {r : Int} {S1 : xS} (hh : M_beginOne S  = some (r, S1)) : mt_i l yX5_beginOne cX5_beginOne 2 (some .int) ({ frames := 5, cells := 0, slots := 0, locals := 97 } : Room) DM dA h [] S r S1 := by
  refine mo_i (by decide) rfl (Nat.le_of_ble_eq_true rfl) ?_
  intro p e s m args below meth c Q ls X hret hl hM
  have hx := X.1.1
  have hb := X.1.2.1
  have hown := X.1.2.2.2.1
  have hts := X.1.2.2.2.2
  skip
  have hB178 : ∀ (t0 : Int) (S : xS), M_beginOne_B178 S t0 = some (r, S1) → ∀ (H : Heap) (locs : List Loc) (ls : Array Slot), MX DM dA h S s H locs → lv_has ls 2 [] → W p l e ({ frames := 5, cells := 0, slots := 0, locals := 97 } : Room) s m args below meth c H locs 0 0 Q (F0 m 178 ls [.int (zi (t0)), .ref (h)]) := by
    intro t0  S hh H locs ls hM hl
    unfold M_beginOne_B178 at hh
    obtain ⟨v37, S38, k36, hh⟩ := bd2_inv hh
    refine mc_i (rest := []) X hM (wM_eye l DM dA h S t0 k36) c5_eye.1 c5_eye.2 ⟨rfl, rfl⟩ ⟨Nat.le_of_ble_eq_true rfl, Nat.le_of_ble_eq_true rfl⟩ ⟨Nat.zero_le _, Nat.zero_le _⟩ hl.1 (Nat.le_of_ble_eq_true rfl) dX5_beginOne_178 rfl (fun H locs hM => ?_)
    exact hret _ _ _ _ _ _ (rt1 hh) (rt2 hh) dX5_beginOne_181 hM
  have hB152 : ∀ (S : xS), M_beginOne_B152 S = some (r, S1) → ∀ (H : Heap) (locs : List Loc) (ls : Array Slot), MX DM dA h S s H locs → lv_has ls 2 [(0, .ref (h))] → W p l e ({ frames := 5, cells := 0, slots := 0, locals := 97 } : Room) s m args below meth c H locs 0 0 Q (F0 m 152 ls []) := by
    intro   S hh H locs ls hM hl
    unfold M_beginOne_B152 at hh
    refine lv_aload_n hx hb dX5_beginOne_152 rfl (lv_at hl 0 rfl) ?_
    refine lv_aload_n hx hb dX5_beginOne_153 rfl (lv_at hl 0 rfl) ?_
    refine lv_bipush (v := zi 108) hx hb dX5_beginOne_154 (by decide) ?_
    refine lv_bipush (v := zi 101) hx hb dX5_beginOne_156 (by decide) ?_
    refine lv_bipush (v := zi 110) hx hb dX5_beginOne_158 (by decide) ?_
    refine lv_bipush (v := zi 115) hx hb dX5_beginOne_160 (by decide) ?_
    obtain ⟨v32, k31, hh⟩ := bd_inv hh
    refine mcs_l (rest := [.ref (h), .ref (h)]) X hM (wM_w4 l (108 : Int) (101 : Int) (110 : Int) (115 : Int) k31) c5_w4.1 c5_w4.2 ⟨rfl, rfl⟩ ⟨Nat.le_of_ble_eq_true rfl, Nat.le_of_ble_eq_true rfl⟩ ⟨Nat.zero_le _, Nat.zero_le _⟩ hl.1 (Nat.le_of_ble_eq_true rfl) dX5_beginOne_162 rfl (fun H locs hM => ?_)
    obtain ⟨v34, k33, hh⟩ := bd_inv hh
    refine mc_z (rest := [.ref (h)]) X hM (wM_isWord l DM dA h S v32 k33) c5_isWord.1 c5_isWord.2 ⟨rfl, rfl⟩ ⟨Nat.le_of_ble_eq_true rfl, Nat.le_of_ble_eq_true rfl⟩ ⟨Nat.zero_le _, Nat.zero_le _⟩ hl.1 (Nat.le_of_ble_eq_true rfl) dX5_beginOne_165 rfl (fun H locs hM => ?_)
    refine g_bif_eq (tgt := 176) hx hb dX5_beginOne_168 (by decide) (fun c35 => ?_) (fun c35 => ?_)
    · replace hh := it_t c35 hh
      refine lv_bipush (v := zi 31) hx hb dX5_beginOne_171 (by decide) ?_
      refine lv_goto (tgt := 178) hx hb dX5_beginOne_173 (by decide) ?_
      exact hB178 (31 : Int) S hh _ _ _ hM (lv_sub hl [] rfl)
    · replace hh := it_f c35 hh
      refine lv_bipush (v := zi 32) hx hb dX5_beginOne_176 (by decide) ?_
      exact hB178 (32 : Int) S hh _ _ _ hM (lv_sub hl [] rfl)
  have hB280 : ∀ (x1 : Int) (S : xS), M_beginOne_B280 S x1 = some (r, S1) → ∀ (H : Heap) (locs : List Loc) (ls : Array Slot), MX DM dA h S s H locs → lv_has ls 2 [(0, .ref (h)), (1, .int (zi (x1)))] → W p l e ({ frames := 5, cells := 0, slots := 0, locals := 97 } : Room) s m args below meth c H locs 0 0 Q (F0 m 280 ls []) := by
    intro x1  S hh H locs ls hM hl
    unfold M_beginOne_B280 at hh
    refine lv_aload_n hx hb dX5_beginOne_280 rfl (lv_at hl 0 rfl) ?_
    refine mm_get X hM q1199 (mf_25 _ _) dX5_beginOne_281 ?_
    refine lv_bipush (v := zi 8) hx hb dX5_beginOne_284 (by decide) ?_
    obtain ⟨g54, hh⟩ := gd_inv hh
    refine g_icmp_ne (tgt := 291) hx hb ⟨g54, by decide⟩ dX5_beginOne_286 (by decide) (fun c53 => ?_) (fun c53 => ?_)
    · replace hh := it_t c53 hh
      refine lv_iconst (v := zi 3) hx hb dX5_beginOne_289 rfl ?_
      exact hret _ _ _ _ _ _ (rt1 hh) (rt2 hh) dX5_beginOne_290 hM
    · replace hh := it_f c53 hh
      refine lv_aload_n hx hb dX5_beginOne_291 rfl (lv_at hl 0 rfl) ?_
      refine lv_dup hx hb dX5_beginOne_292 rfl ?_
      refine mm_get X hM q1199 (mf_25 _ _) dX5_beginOne_293 ?_
      refine lv_iconst (v := zi 1) hx hb dX5_beginOne_296 rfl ?_
      refine g_iadd hx hb dX5_beginOne_297 ?_
      refine mm_put X hM q1199 (mp_25 _ _ _) dX5_beginOne_298 (fun H locs S55 e56 hM => ?_)
      replace hh := nm_inv hh S55 e56
      refine lv_aload_n hx hb dX5_beginOne_301 rfl (lv_at hl 0 rfl) ?_
      refine lv_iload_n hx hb dX5_beginOne_302 rfl (lv_at hl 1 rfl) ?_
      obtain ⟨S58, k57, hh⟩ := bd_inv hh
      refine mc_v (rest := []) X hM (wM_push l DM dA h S55 x1 k57) c5_push.1 c5_push.2 ⟨rfl, rfl⟩ ⟨Nat.le_of_ble_eq_true rfl, Nat.le_of_ble_eq_true rfl⟩ ⟨Nat.zero_le _, Nat.zero_le _⟩ hl.1 (Nat.le_of_ble_eq_true rfl) dX5_beginOne_303 rfl (fun H locs hM => ?_)
      refine lv_aload_n hx hb dX5_beginOne_306 rfl (lv_at hl 0 rfl) ?_
      obtain ⟨S60, k59, hh⟩ := bd_inv hh
      refine mc_v (rest := []) X hM (wM_nextToken l DM dA h S58  k59) c5_nextToken.1 c5_nextToken.2 ⟨rfl, rfl⟩ ⟨Nat.le_of_ble_eq_true rfl, Nat.le_of_ble_eq_true rfl⟩ ⟨Nat.zero_le _, Nat.zero_le _⟩ hl.1 (Nat.le_of_ble_eq_true rfl) dX5_beginOne_307 rfl (fun H locs hM => ?_)
      refine lv_iconst (v := zi 0) hx hb dX5_beginOne_310 rfl ?_
      exact hret _ _ _ _ _ _ (rt1 hh) (rt2 hh) dX5_beginOne_311 hM
  have hB252 : ∀ (t0 : Int) (S : xS), M_beginOne_B252 S t0 = some (r, S1) → ∀ (H : Heap) (locs : List Loc) (ls : Array Slot), MX DM dA h S s H locs → lv_has ls 2 [(0, .ref (h))] → W p l e ({ frames := 5, cells := 0, slots := 0, locals := 97 } : Room) s m args below meth c H locs 0 0 Q (F0 m 252 ls [.int (zi (t0))]) := by
    intro t0  S hh H locs ls hM hl
    unfold M_beginOne_B252 at hh
    refine lv_istore_n (lv' := [(1, .int (zi (t0))), (0, .ref (h))]) hx hb dX5_beginOne_252 rfl hl (by decide) rfl (fun ls hl => ?_)
    refine lv_iload_n hx hb dX5_beginOne_253 rfl (lv_at hl 0 rfl) ?_
    obtain ⟨g50, hh⟩ := gd_inv hh
    refine g_if_ne (tgt := 259) hx hb g50 dX5_beginOne_254 (by decide) (fun c49 => ?_) (fun c49 => ?_)
    · replace hh := it_t c49 hh
      refine lv_iconst (v := zi 1) hx hb dX5_beginOne_257 rfl ?_
      exact hret _ _ _ _ _ _ (rt1 hh) (rt2 hh) dX5_beginOne_258 hM
    · replace hh := it_f c49 hh
      refine lv_iload_n hx hb dX5_beginOne_259 rfl (lv_at hl 0 rfl) ?_
      refine lv_bipush (v := zi 40) hx hb dX5_beginOne_260 (by decide) ?_
      obtain ⟨g52, hh⟩ := gd_inv hh
      refine g_icmp_le (tgt := 280) hx hb ⟨g52, by decide⟩ dX5_beginOne_262 (by decide) (fun c51 => ?_) (fun c51 => ?_)
      · replace hh := it_t c51 hh
        exact hB280 t0 S hh _ _ _ hM (lv_sub hl [1, 0] rfl)
      · replace hh := it_f c51 hh
        refine lv_aload_n hx hb dX5_beginOne_265 rfl (lv_at hl 1 rfl) ?_
        obtain ⟨S62, k61, hh⟩ := bd_inv hh
        refine mc_v (rest := []) X hM (wM_nextToken l DM dA h S  k61) c5_nextToken.1 c5_nextToken.2 ⟨rfl, rfl⟩ ⟨Nat.le_of_ble_eq_true rfl, Nat.le_of_ble_eq_true rfl⟩ ⟨Nat.zero_le _, Nat.zero_le _⟩ hl.1 (Nat.le_of_ble_eq_true rfl) dX5_beginOne_266 rfl (fun H locs hM => ?_)
        refine lv_aload_n hx hb dX5_beginOne_269 rfl (lv_at hl 1 rfl) ?_
        refine mm_get X hM q1189 (mf_15 _ _) dX5_beginOne_270 ?_
        refine lv_bipush (v := zi 40) hx hb dX5_beginOne_273 (by decide) ?_
        obtain ⟨g64, hh⟩ := gd_inv hh
        refine g_icmp_eq (tgt := 280) hx hb ⟨g64, by decide⟩ dX5_beginOne_275 (by decide) (fun c63 => ?_) (fun c63 => ?_)
        · replace hh := it_t c63 hh
          exact hB280 t0 S62 hh _ _ _ hM (lv_sub hl [1, 0] rfl)
        · replace hh := it_f c63 hh
          refine lv_iconst (v := zi 1) hx hb dX5_beginOne_278 rfl ?_
          exact hret _ _ _ _ _ _ (rt1 hh) (rt2 hh) dX5_beginOne_279 hM
  replace hl : lv_has ls 2 [(0, .ref (h))] := hl
  unfold M_beginOne at hh
  refine lv_aload_n hx hb dX5_beginOne_0 rfl (lv_at hl 0 rfl) ?_
  refine mm_get X hM q1189 (mf_15 _ _) dX5_beginOne_1 ?_
  refine lv_iconst (v := zi 1) hx hb dX5_beginOne_4 rfl ?_
  obtain ⟨g2, hh⟩ := gd_inv hh
  refine g_icmp_ne (tgt := 39) hx hb ⟨g2, by decide⟩ dX5_beginOne_5 (by decide) (fun c1 => ?_) (fun c1 => ?_)
  · replace hh := it_t c1 hh
    refine lv_aload_n hx hb dX5_beginOne_8 rfl (lv_at hl 0 rfl) ?_
    refine mm_get X hM q1190 (mf_16 _ _) dX5_beginOne_9 ?_
    refine lv_sipush (v := zi 9999) hx hb dX5_beginOne_12 (by decide) ?_
    obtain ⟨g4, hh⟩ := gd_inv hh
    refine g_icmp_le (tgt := 20) hx hb ⟨g4, by decide⟩ dX5_beginOne_15 (by decide) (fun c3 => ?_) (fun c3 => ?_)
    · replace hh := it_t c3 hh
      refine lv_aload_n hx hb dX5_beginOne_20 rfl (lv_at hl 0 rfl) ?_
      refine lv_iconst (v := zi 0) hx hb dX5_beginOne_21 rfl ?_
      refine lv_aload_n hx hb dX5_beginOne_22 rfl (lv_at hl 0 rfl) ?_
      refine mm_get X hM q1190 (mf_16 _ _) dX5_beginOne_23 ?_
      obtain ⟨S6, k5, hh⟩ := bd_inv hh
      refine mc_v (rest := []) X hM (wM_emit l DM dA h S (0 : Int) (S.1 16) k5) c5_emit.1 c5_emit.2 ⟨rfl, rfl⟩ ⟨Nat.le_of_ble_eq_true rfl, Nat.le_of_ble_eq_true rfl⟩ ⟨Nat.zero_le _, Nat.zero_le _⟩ hl.1 (Nat.le_of_ble_eq_true rfl) dX5_beginOne_26 rfl (fun H locs hM => ?_)
      refine lv_aload_n hx hb dX5_beginOne_29 rfl (lv_at hl 0 rfl) ?_
      obtain ⟨S8, k7, hh⟩ := bd_inv hh
      refine mc_v (rest := []) X hM (wM_nextToken l DM dA h S6  k7) c5_nextToken.1 c5_nextToken.2 ⟨rfl, rfl⟩ ⟨Nat.le_of_ble_eq_true rfl, Nat.le_of_ble_eq_true rfl⟩ ⟨Nat.zero_le _, Nat.zero_le _⟩ hl.1 (Nat.le_of_ble_eq_true rfl) dX5_beginOne_30 rfl (fun H locs hM => ?_)
      refine lv_aload_n hx hb dX5_beginOne_33 rfl (lv_at hl 0 rfl) ?_
      obtain ⟨S10, k9, hh⟩ := bd_inv hh
      refine mc_v (rest := []) X hM (wM_whole l DM dA h S8  k9) c5_whole.1 c5_whole.2 ⟨rfl, rfl⟩ ⟨Nat.le_of_ble_eq_true rfl, Nat.le_of_ble_eq_true rfl⟩ ⟨Nat.zero_le _, Nat.zero_le _⟩ hl.1 (Nat.le_of_ble_eq_true rfl) dX5_beginOne_34 rfl (fun H locs hM => ?_)
      refine lv_iconst (v := zi 0) hx hb dX5_beginOne_37 rfl ?_
      exact hret _ _ _ _ _ _ (rt1 hh) (rt2 hh) dX5_beginOne_38 hM
    · replace hh := it_f c3 hh
      refine lv_iconst (v := zi 2) hx hb dX5_beginOne_18 rfl ?_
      exact hret _ _ _ _ _ _ (rt1 hh) (rt2 hh) dX5_beginOne_19 hM
  · replace hh := it_f c1 hh
    refine lv_aload_n hx hb dX5_beginOne_39 rfl (lv_at hl 0 rfl) ?_
    obtain ⟨v12, k11, hh⟩ := bd_inv hh
    refine mc_i (rest := []) X hM (wM_letterOf l DM dA h S  k11) c5_letterOf.1 c5_letterOf.2 ⟨rfl, rfl⟩ ⟨Nat.le_of_ble_eq_true rfl, Nat.le_of_ble_eq_true rfl⟩ ⟨Nat.zero_le _, Nat.zero_le _⟩ hl.1 (Nat.le_of_ble_eq_true rfl) dX5_beginOne_40 rfl (fun H locs hM => ?_)
    obtain ⟨g14, hh⟩ := gd_inv hh
    refine g_if_lt (tgt := 81) hx hb g14 dX5_beginOne_43 (by decide) (fun c13 => ?_) (fun c13 => ?_)
    · replace hh := it_t c13 hh
      refine lv_aload_n hx hb dX5_beginOne_81 rfl (lv_at hl 0 rfl) ?_
      refine lv_bipush (v := zi 116) hx hb dX5_beginOne_82 (by decide) ?_
      refine lv_bipush (v := zi 105) hx hb dX5_beginOne_84 (by decide) ?_
      refine lv_bipush (v := zi 99) hx hb dX5_beginOne_86 (by decide) ?_
      refine lv_bipush (v := zi 107) hx hb dX5_beginOne_88 (by decide) ?_
      obtain ⟨v16, k15, hh⟩ := bd_inv hh
      refine mcs_l (rest := [.ref (h)]) X hM (wM_w4 l (116 : Int) (105 : Int) (99 : Int) (107 : Int) k15) c5_w4.1 c5_w4.2 ⟨rfl, rfl⟩ ⟨Nat.le_of_ble_eq_true rfl, Nat.le_of_ble_eq_true rfl⟩ ⟨Nat.zero_le _, Nat.zero_le _⟩ hl.1 (Nat.le_of_ble_eq_true rfl) dX5_beginOne_90 rfl (fun H locs hM => ?_)
      obtain ⟨v18, k17, hh⟩ := bd_inv hh
      refine mc_z (rest := []) X hM (wM_isWord l DM dA h S v16 k17) c5_isWord.1 c5_isWord.2 ⟨rfl, rfl⟩ ⟨Nat.le_of_ble_eq_true rfl, Nat.le_of_ble_eq_true rfl⟩ ⟨Nat.zero_le _, Nat.zero_le _⟩ hl.1 (Nat.le_of_ble_eq_true rfl) dX5_beginOne_93 rfl (fun H locs hM => ?_)
      refine g_bif_eq (tgt := 116) hx hb dX5_beginOne_96 (by decide) (fun c19 => ?_) (fun c19 => ?_)
      · replace hh := it_t c19 hh
        refine lv_aload_n hx hb dX5_beginOne_99 rfl (lv_at hl 0 rfl) ?_
        refine lv_bipush (v := zi 30) hx hb dX5_beginOne_100 (by decide) ?_
        refine lv_iconst (v := zi 0) hx hb dX5_beginOne_102 rfl ?_
        obtain ⟨S21, k20, hh⟩ := bd_inv hh
        refine mc_v (rest := []) X hM (wM_emit l DM dA h S (30 : Int) (0 : Int) k20) c5_emit.1 c5_emit.2 ⟨rfl, rfl⟩ ⟨Nat.le_of_ble_eq_true rfl, Nat.le_of_ble_eq_true rfl⟩ ⟨Nat.zero_le _, Nat.zero_le _⟩ hl.1 (Nat.le_of_ble_eq_true rfl) dX5_beginOne_103 rfl (fun H locs hM => ?_)
        refine lv_aload_n hx hb dX5_beginOne_106 rfl (lv_at hl 0 rfl) ?_
        obtain ⟨S23, k22, hh⟩ := bd_inv hh
        refine mc_v (rest := []) X hM (wM_nextToken l DM dA h S21  k22) c5_nextToken.1 c5_nextToken.2 ⟨rfl, rfl⟩ ⟨Nat.le_of_ble_eq_true rfl, Nat.le_of_ble_eq_true rfl⟩ ⟨Nat.zero_le _, Nat.zero_le _⟩ hl.1 (Nat.le_of_ble_eq_true rfl) dX5_beginOne_107 rfl (fun H locs hM => ?_)
        refine lv_aload_n hx hb dX5_beginOne_110 rfl (lv_at hl 0 rfl) ?_
        obtain ⟨S25, k24, hh⟩ := bd_inv hh
        refine mc_v (rest := []) X hM (wM_whole l DM dA h S23  k24) c5_whole.1 c5_whole.2 ⟨rfl, rfl⟩ ⟨Nat.le_of_ble_eq_true rfl, Nat.le_of_ble_eq_true rfl⟩ ⟨Nat.zero_le _, Nat.zero_le _⟩ hl.1 (Nat.le_of_ble_eq_true rfl) dX5_beginOne_111 rfl (fun H locs hM => ?_)
        refine lv_iconst (v := zi 0) hx hb dX5_beginOne_114 rfl ?_
        exact hret _ _ _ _ _ _ (rt1 hh) (rt2 hh) dX5_beginOne_115 hM
      · replace hh := it_f c19 hh
        refine lv_aload_n hx hb dX5_beginOne_116 rfl (lv_at hl 0 rfl) ?_
        refine lv_bipush (v := zi 108) hx hb dX5_beginOne_117 (by decide) ?_
        refine lv_bipush (v := zi 101) hx hb dX5_beginOne_119 (by decide) ?_
        refine lv_bipush (v := zi 110) hx hb dX5_beginOne_121 (by decide) ?_
        refine lv_bipush (v := zi 115) hx hb dX5_beginOne_123 (by decide) ?_
        obtain ⟨v27, k26, hh⟩ := bd_inv hh
        refine mcs_l (rest := [.ref (h)]) X hM (wM_w4 l (108 : Int) (101 : Int) (110 : Int) (115 : Int) k26) c5_w4.1 c5_w4.2 ⟨rfl, rfl⟩ ⟨Nat.le_of_ble_eq_true rfl, Nat.le_of_ble_eq_true rfl⟩ ⟨Nat.zero_le _, Nat.zero_le _⟩ hl.1 (Nat.le_of_ble_eq_true rfl) dX5_beginOne_125 rfl (fun H locs hM => ?_)
        obtain ⟨v29, k28, hh⟩ := bd_inv hh
        refine mc_z (rest := []) X hM (wM_isWord l DM dA h S v27 k28) c5_isWord.1 c5_isWord.2 ⟨rfl, rfl⟩ ⟨Nat.le_of_ble_eq_true rfl, Nat.le_of_ble_eq_true rfl⟩ ⟨Nat.zero_le _, Nat.zero_le _⟩ hl.1 (Nat.le_of_ble_eq_true rfl) dX5_beginOne_128 rfl (fun H locs hM => ?_)
        refine g_bif_ne (tgt := 152) hx hb dX5_beginOne_131 (by decide) (fun c30 => ?_) (fun c30 => ?_)
        · replace hh := it_t c30 hh
          exact hB152 S hh _ _ _ hM (lv_sub hl [0] rfl)
        · replace hh := it_f c30 hh
          refine lv_aload_n hx hb dX5_beginOne_134 rfl (lv_at hl 0 rfl) ?_
          refine lv_bipush (v := zi 112) hx hb dX5_beginOne_135 (by decide) ?_
          refine lv_bipush (v := zi 97) hx hb dX5_beginOne_137 (by decide) ?_
          refine lv_bipush (v := zi 105) hx hb dX5_beginOne_139 (by decide) ?_
          refine lv_bipush (v := zi 114) hx hb dX5_beginOne_141 (by decide) ?_
          obtain ⟨v40, k39, hh⟩ := bd_inv hh
          refine mcs_l (rest := [.ref (h)]) X hM (wM_w4 l (112 : Int) (97 : Int) (105 : Int) (114 : Int) k39) c5_w4.1 c5_w4.2 ⟨rfl, rfl⟩ ⟨Nat.le_of_ble_eq_true rfl, Nat.le_of_ble_eq_true rfl⟩ ⟨Nat.zero_le _, Nat.zero_le _⟩ hl.1 (Nat.le_of_ble_eq_true rfl) dX5_beginOne_143 rfl (fun H locs hM => ?_)
          obtain ⟨v42, k41, hh⟩ := bd_inv hh
          refine mc_z (rest := []) X hM (wM_isWord l DM dA h S v40 k41) c5_isWord.1 c5_isWord.2 ⟨rfl, rfl⟩ ⟨Nat.le_of_ble_eq_true rfl, Nat.le_of_ble_eq_true rfl⟩ ⟨Nat.zero_le _, Nat.zero_le _⟩ hl.1 (Nat.le_of_ble_eq_true rfl) dX5_beginOne_146 rfl (fun H locs hM => ?_)
          refine g_bif_eq (tgt := 182) hx hb dX5_beginOne_149 (by decide) (fun c43 => ?_) (fun c43 => ?_)
          · replace hh := it_t c43 hh
            exact hB152 S hh _ _ _ hM (lv_sub hl [0] rfl)
          · replace hh := it_f c43 hh
            refine lv_aload_n hx hb dX5_beginOne_182 rfl (lv_at hl 0 rfl) ?_
            refine lv_bipush (v := zi 109) hx hb dX5_beginOne_183 (by decide) ?_
            refine lv_bipush (v := zi 105) hx hb dX5_beginOne_185 (by decide) ?_
            refine lv_bipush (v := zi 110) hx hb dX5_beginOne_187 (by decide) ?_
            obtain ⟨v45, k44, hh⟩ := bd_inv hh
            refine mcs_l (rest := [.ref (h)]) X hM (wM_w3 l (109 : Int) (105 : Int) (110 : Int) k44) c5_w3.1 c5_w3.2 ⟨rfl, rfl⟩ ⟨Nat.le_of_ble_eq_true rfl, Nat.le_of_ble_eq_true rfl⟩ ⟨Nat.zero_le _, Nat.zero_le _⟩ hl.1 (Nat.le_of_ble_eq_true rfl) dX5_beginOne_189 rfl (fun H locs hM => ?_)
            obtain ⟨v47, k46, hh⟩ := bd_inv hh
            refine mc_z (rest := []) X hM (wM_isWord l DM dA h S v45 k46) c5_isWord.1 c5_isWord.2 ⟨rfl, rfl⟩ ⟨Nat.le_of_ble_eq_true rfl, Nat.le_of_ble_eq_true rfl⟩ ⟨Nat.zero_le _, Nat.zero_le _⟩ hl.1 (Nat.le_of_ble_eq_true rfl) dX5_beginOne_192 rfl (fun H locs hM => ?_)
            refine g_bif_eq (tgt := 203) hx hb dX5_beginOne_195 (by decide) (fun c48 => ?_) (fun c48 => ?_)
            · replace hh := it_t c48 hh
              refine lv_bipush (v := zi 41) hx hb dX5_beginOne_198 (by decide) ?_
              refine lv_goto (tgt := 252) hx hb dX5_beginOne_200 (by decide) ?_
              exact hB252 (41 : Int) S hh _ _ _ hM (lv_sub hl [0] rfl)
            · replace hh := it_f c48 hh
              refine lv_aload_n hx hb dX5_beginOne_203 rfl (lv_at hl 0 rfl) ?_
              refine lv_bipush (v := zi 109) hx hb dX5_beginOne_204 (by decide) ?_
              refine lv_bipush (v := zi 97) hx hb dX5_beginOne_206 (by decide) ?_
              refine lv_bipush (v := zi 120) hx hb dX5_beginOne_208 (by decide) ?_
              obtain ⟨v66, k65, hh⟩ := bd_inv hh
              refine mcs_l (rest := [.ref (h)]) X hM (wM_w3 l (109 : Int) (97 : Int) (120 : Int) k65) c5_w3.1 c5_w3.2 ⟨rfl, rfl⟩ ⟨Nat.le_of_ble_eq_true rfl, Nat.le_of_ble_eq_true rfl⟩ ⟨Nat.zero_le _, Nat.zero_le _⟩ hl.1 (Nat.le_of_ble_eq_true rfl) dX5_beginOne_210 rfl (fun H locs hM => ?_)
              obtain ⟨v68, k67, hh⟩ := bd_inv hh
              refine mc_z (rest := []) X hM (wM_isWord l DM dA h S v66 k67) c5_isWord.1 c5_isWord.2 ⟨rfl, rfl⟩ ⟨Nat.le_of_ble_eq_true rfl, Nat.le_of_ble_eq_true rfl⟩ ⟨Nat.zero_le _, Nat.zero_le _⟩ hl.1 (Nat.le_of_ble_eq_true rfl) dX5_beginOne_213 rfl (fun H locs hM => ?_)
              refine g_bif_eq (tgt := 224) hx hb dX5_beginOne_216 (by decide) (fun c69 => ?_) (fun c69 => ?_)
              · replace hh := it_t c69 hh
                refine lv_bipush (v := zi 42) hx hb dX5_beginOne_219 (by decide) ?_
                refine lv_goto (tgt := 252) hx hb dX5_beginOne_221 (by decide) ?_
                exact hB252 (42 : Int) S hh _ _ _ hM (lv_sub hl [0] rfl)
              · replace hh := it_f c69 hh
                refine lv_aload_n hx hb dX5_beginOne_224 rfl (lv_at hl 0 rfl) ?_
                refine mm_get X hM q1189 (mf_15 _ _) dX5_beginOne_225 ?_
                refine lv_bipush (v := zi 40) hx hb dX5_beginOne_228 (by decide) ?_
                obtain ⟨g71, hh⟩ := gd_inv hh
                refine g_icmp_ne (tgt := 238) hx hb ⟨g71, by decide⟩ dX5_beginOne_230 (by decide) (fun c70 => ?_) (fun c70 => ?_)
                · replace hh := it_t c70 hh
                  refine lv_bipush (v := zi 40) hx hb dX5_beginOne_233 (by decide) ?_
                  refine lv_goto (tgt := 252) hx hb dX5_beginOne_235 (by decide) ?_
                  exact hB252 (40 : Int) S hh _ _ _ hM (lv_sub hl [0] rfl)
                · replace hh := it_f c70 hh
                  refine lv_aload_n hx hb dX5_beginOne_238 rfl (lv_at hl 0 rfl) ?_
                  refine mm_get X hM q1189 (mf_15 _ _) dX5_beginOne_239 ?_
                  refine lv_bipush (v := zi 45) hx hb dX5_beginOne_242 (by decide) ?_
                  obtain ⟨g73, hh⟩ := gd_inv hh
                  refine g_icmp_ne (tgt := 251) hx hb ⟨g73, by decide⟩ dX5_beginOne_244 (by decide) (fun c72 => ?_) (fun c72 => ?_)
                  · replace hh := it_t c72 hh
                    refine lv_iconst (v := zi 2) hx hb dX5_beginOne_247 rfl ?_
                    refine lv_goto (tgt := 252) hx hb dX5_beginOne_248 (by decide) ?_
                    exact hB252 (2 : Int) S hh _ _ _ hM (lv_sub hl [0] rfl)
                  · replace hh := it_f c72 hh
                    refine lv_iconst (v := zi 0) hx hb dX5_beginOne_251 rfl ?_
                    exact hB252 (0 : Int) S hh _ _ _ hM (lv_sub hl [0] rfl)
    · replace hh := it_f c13 hh
      refine lv_aload_n hx hb dX5_beginOne_46 rfl (lv_at hl 0 rfl) ?_
      refine mm_get X hM q1196 (mf_22 _ _) dX5_beginOne_47 ?_
      refine lv_aload_n hx hb dX5_beginOne_50 rfl (lv_at hl 0 rfl) ?_
      obtain ⟨v75, k74, hh⟩ := bd_inv hh
      refine mc_i (rest := [.int (zi (S.1 22))]) X hM (wM_letterOf l DM dA h S  k74) c5_letterOf.1 c5_letterOf.2 ⟨rfl, rfl⟩ ⟨Nat.le_of_ble_eq_true rfl, Nat.le_of_ble_eq_true rfl⟩ ⟨Nat.zero_le _, Nat.zero_le _⟩ hl.1 (Nat.le_of_ble_eq_true rfl) dX5_beginOne_51 rfl (fun H locs hM => ?_)
      obtain ⟨g76, hh⟩ := gd_inv hh
      refine g_ishr hx hb g76 dX5_beginOne_54 ?_
      refine lv_iconst (v := zi 1) hx hb dX5_beginOne_55 rfl ?_
      refine g_mask hx hb 1 (by decide) (by decide) dX5_beginOne_56 ?_
      obtain ⟨g78, hh⟩ := gd_inv hh
      refine g_if_ne (tgt := 62) hx hb g78 dX5_beginOne_57 (by decide) (fun c77 => ?_) (fun c77 => ?_)
      · replace hh := it_t c77 hh
        refine lv_iconst (v := zi 5) hx hb dX5_beginOne_60 rfl ?_
        exact hret _ _ _ _ _ _ (rt1 hh) (rt2 hh) dX5_beginOne_61 hM
      · replace hh := it_f c77 hh
        refine lv_aload_n hx hb dX5_beginOne_62 rfl (lv_at hl 0 rfl) ?_
        refine lv_iconst (v := zi 1) hx hb dX5_beginOne_63 rfl ?_
        refine lv_aload_n hx hb dX5_beginOne_64 rfl (lv_at hl 0 rfl) ?_
        obtain ⟨v80, k79, hh⟩ := bd_inv hh
        refine mc_i (rest := [.int (zi (1)), .ref (h)]) X hM (wM_letterOf l DM dA h S  k79) c5_letterOf.1 c5_letterOf.2 ⟨rfl, rfl⟩ ⟨Nat.le_of_ble_eq_true rfl, Nat.le_of_ble_eq_true rfl⟩ ⟨Nat.zero_le _, Nat.zero_le _⟩ hl.1 (Nat.le_of_ble_eq_true rfl) dX5_beginOne_65 rfl (fun H locs hM => ?_)
        obtain ⟨S82, k81, hh⟩ := bd_inv hh
        refine mc_v (rest := []) X hM (wM_emit l DM dA h S (1 : Int) v80 k81) c5_emit.1 c5_emit.2 ⟨rfl, rfl⟩ ⟨Nat.le_of_ble_eq_true rfl, Nat.le_of_ble_eq_true rfl⟩ ⟨Nat.zero_le _, Nat.zero_le _⟩ hl.1 (Nat.le_of_ble_eq_true rfl) dX5_beginOne_68 rfl (fun H locs hM => ?_)
        refine lv_aload_n hx hb dX5_beginOne_71 rfl (lv_at hl 0 rfl) ?_
        obtain ⟨S84, k83, hh⟩ := bd_inv hh
        refine mc_v (rest := []) X hM (wM_nextToken l DM dA h S82  k83) c5_nextToken.1 c5_nextToken.2 ⟨rfl, rfl⟩ ⟨Nat.le_of_ble_eq_true rfl, Nat.le_of_ble_eq_true rfl⟩ ⟨Nat.zero_le _, Nat.zero_le _⟩ hl.1 (Nat.le_of_ble_eq_true rfl) dX5_beginOne_72 rfl (fun H locs hM => ?_)
        refine lv_aload_n hx hb dX5_beginOne_75 rfl (lv_at hl 0 rfl) ?_
        obtain ⟨S86, k85, hh⟩ := bd_inv hh
        refine mc_v (rest := []) X hM (wM_whole l DM dA h S84  k85) c5_whole.1 c5_whole.2 ⟨rfl, rfl⟩ ⟨Nat.le_of_ble_eq_true rfl, Nat.le_of_ble_eq_true rfl⟩ ⟨Nat.zero_le _, Nat.zero_le _⟩ hl.1 (Nat.le_of_ble_eq_true rfl) dX5_beginOne_76 rfl (fun H locs hM => ?_)
        refine lv_iconst (v := zi 0) hx hb dX5_beginOne_79 rfl ?_
        exact hret _ _ _ _ _ _ (rt1 hh) (rt2 hh) dX5_beginOne_80 hM
def M_summed_B42 (K10 : xS → Option (Int × xS)) (S : xS) (t0 : Int) : Option (Int × xS) := gd (r32 (t0)) (if t0 = 0 then (K10 S) else (some ((t0 : Int), S)))
def M_summed_B24 (K10 : xS → Option (Int × xS)) (S : xS) : Option (Int × xS) := gd (r32 (S.1 26)) (if (S.1 26) = 0 then (bd2 (M_beginOne S ) (fun v10 S11 => M_summed_B42 K10 S11 v10)) else (bd2 (M_behindOne S ) (fun v15 S16 => M_summed_B42 K10 S16 v15)))
def M_summed_b10 (K10 : xS → Option (Int × xS)) (S : xS) : Option (Int × xS) := gd (r32 (S.1 26)) (if (S.1 26) = 0 then (M_summed_B24 K10 S) else (bd (M_goesOn S ) (fun v18 => if v18 = true then (M_summed_B24 K10 S) else (bd (M_settle S (3 : Int)) (fun S21 => gd (r32 (S21.1 24)) (if (S21.1 24) ≤ 0 then (some ((0 : Int), S21)) else (some ((1 : Int), S21))))))))
def M_summed_L10 : Nat → xS → Option (Int × xS)
  | 0 => fun _ => none
  | n + 1 => fun S => M_summed_b10  (M_summed_L10  n) S
def M_summed (S : xS) : Option (Int × xS) := nm (fset S 24 (0)) (fun S1 => nm (fset S1 26 (0)) (fun S3 => M_summed_L10 FU S3))
set_option maxHeartbeats 4000000 in
theorem wM_summed (l : Launch) (DM : va_G) (dA : Nat → ClassId) (h : Nat) (S : xS) {r : Int} {S1 : xS} (hh : M_summed S  = some (r, S1)) : mt_i l yX5_summed cX5_summed 2 (some .int) ({ frames := 6, cells := 0, slots := 0, locals := 118 } : Room) DM dA h [] S r S1 := by
  refine mo_i (by decide) rfl (Nat.le_of_ble_eq_true rfl) ?_
  intro p e s m args below meth c Q ls X hret hl hM
  have hx := X.1.1
  have hb := X.1.2.1
  have hown := X.1.2.2.2.1
  have hts := X.1.2.2.2.2
  skip
  have hB42 : ∀ (t0 : Int) (K10 : xS → Option (Int × xS)) (hK10 : (∀ (S : xS), K10 S = some (r, S1) → ∀ (H : Heap) (locs : List Loc) (ls : Array Slot), MX DM dA h S s H locs → lv_has ls 2 [(0, .ref (h))] → W p l e ({ frames := 6, cells := 0, slots := 0, locals := 118 } : Room) s m args below meth c H locs 0 0 Q (F0 m 10 ls []))) (S : xS), M_summed_B42 K10 S t0 = some (r, S1) → ∀ (H : Heap) (locs : List Loc) (ls : Array Slot), MX DM dA h S s H locs → lv_has ls 2 [(0, .ref (h))] → W p l e ({ frames := 6, cells := 0, slots := 0, locals := 118 } : Room) s m args below meth c H locs 0 0 Q (F0 m 42 ls [.int (zi (t0))]) := by
    intro t0 K10 hK10 S hh H locs ls hM hl
    unfold M_summed_B42 at hh
    refine lv_istore_n (lv' := [(1, .int (zi (t0))), (0, .ref (h))]) hx hb dX5_summed_42 rfl hl (by decide) rfl (fun ls hl => ?_)
    refine lv_iload_n hx hb dX5_summed_43 rfl (lv_at hl 0 rfl) ?_
    obtain ⟨g13, hh⟩ := gd_inv hh
    refine g_if_eq (tgt := 49) hx hb g13 dX5_summed_44 (by decide) (fun c12 => ?_) (fun c12 => ?_)
    · replace hh := it_t c12 hh
      refine lv_goto (tgt := 10) hx hb dX5_summed_49 (by decide) ?_
      exact hK10 S hh _ _ _ hM (lv_sub hl [1] rfl)
    · replace hh := it_f c12 hh
      refine lv_iload_n hx hb dX5_summed_47 rfl (lv_at hl 0 rfl) ?_
      exact hret _ _ _ _ _ _ (rt1 hh) (rt2 hh) dX5_summed_48 hM
  have hB24 : ∀ (K10 : xS → Option (Int × xS)) (hK10 : (∀ (S : xS), K10 S = some (r, S1) → ∀ (H : Heap) (locs : List Loc) (ls : Array Slot), MX DM dA h S s H locs → lv_has ls 2 [(0, .ref (h))] → W p l e ({ frames := 6, cells := 0, slots := 0, locals := 118 } : Room) s m args below meth c H locs 0 0 Q (F0 m 10 ls []))) (S : xS), M_summed_B24 K10 S = some (r, S1) → ∀ (H : Heap) (locs : List Loc) (ls : Array Slot), MX DM dA h S s H locs → lv_has ls 2 [(0, .ref (h))] → W p l e ({ frames := 6, cells := 0, slots := 0, locals := 118 } : Room) s m args below meth c H locs 0 0 Q (F0 m 24 ls []) := by
    intro  K10 hK10 S hh H locs ls hM hl
    unfold M_summed_B24 at hh
    refine lv_aload_n hx hb dX5_summed_24 rfl (lv_at hl 0 rfl) ?_
    refine mm_get X hM q1200 (mf_26 _ _) dX5_summed_25 ?_
    obtain ⟨g8, hh⟩ := gd_inv hh
    refine g_if_eq (tgt := 38) hx hb g8 dX5_summed_28 (by decide) (fun c7 => ?_) (fun c7 => ?_)
    · replace hh := it_t c7 hh
      refine lv_aload_n hx hb dX5_summed_38 rfl (lv_at hl 0 rfl) ?_
      obtain ⟨v10, S11, k9, hh⟩ := bd2_inv hh
      refine mc_i (rest := []) X hM (wM_beginOne l DM dA h S  k9) c5_beginOne.1 c5_beginOne.2 ⟨rfl, rfl⟩ ⟨Nat.le_of_ble_eq_true rfl, Nat.le_of_ble_eq_true rfl⟩ ⟨Nat.zero_le _, Nat.zero_le _⟩ hl.1 (Nat.le_of_ble_eq_true rfl) dX5_summed_39 rfl (fun H locs hM => ?_)
      exact hB42 v10 _ hK10 S11 hh _ _ _ hM (lv_sub hl [0] rfl)
    · replace hh := it_f c7 hh
      refine lv_aload_n hx hb dX5_summed_31 rfl (lv_at hl 0 rfl) ?_
      obtain ⟨v15, S16, k14, hh⟩ := bd2_inv hh
      refine mc_i (rest := []) X hM (wM_behindOne l DM dA h S  k14) c5_behindOne.1 c5_behindOne.2 ⟨rfl, rfl⟩ ⟨Nat.le_of_ble_eq_true rfl, Nat.le_of_ble_eq_true rfl⟩ ⟨Nat.zero_le _, Nat.zero_le _⟩ hl.1 (Nat.le_of_ble_eq_true rfl) dX5_summed_32 rfl (fun H locs hM => ?_)
      refine lv_goto (tgt := 42) hx hb dX5_summed_35 (by decide) ?_
      exact hB42 v15 _ hK10 S16 hh _ _ _ hM (lv_sub hl [0] rfl)
  have hL10 : ∀ (n : Nat) (S : xS), M_summed_L10 n S = some (r, S1) → ∀ (H : Heap) (locs : List Loc) (ls : Array Slot), MX DM dA h S s H locs → lv_has ls 2 [(0, .ref (h))] → W p l e ({ frames := 6, cells := 0, slots := 0, locals := 118 } : Room) s m args below meth c H locs 0 0 Q (F0 m 10 ls []) := by
    intro   n
    induction n with
    | zero => intro S hh; exact no_some hh
    | succ n ih =>
      intro S hh H locs ls hM hl
      replace hh : M_summed_b10 (M_summed_L10 n) S = some (r, S1) := hh
      unfold M_summed_b10 at hh
      have hK10 := ih
      refine lv_aload_n hx hb dX5_summed_10 rfl (lv_at hl 0 rfl) ?_
      refine mm_get X hM q1200 (mf_26 _ _) dX5_summed_11 ?_
      obtain ⟨g6, hh⟩ := gd_inv hh
      refine g_if_eq (tgt := 24) hx hb g6 dX5_summed_14 (by decide) (fun c5 => ?_) (fun c5 => ?_)
      · replace hh := it_t c5 hh
        exact hB24 _ hK10 S hh _ _ _ hM (lv_sub hl [0] rfl)
      · replace hh := it_f c5 hh
        refine lv_aload_n hx hb dX5_summed_17 rfl (lv_at hl 0 rfl) ?_
        obtain ⟨v18, k17, hh⟩ := bd_inv hh
        refine mc_z (rest := []) X hM (wM_goesOn l DM dA h S  k17) c5_goesOn.1 c5_goesOn.2 ⟨rfl, rfl⟩ ⟨Nat.le_of_ble_eq_true rfl, Nat.le_of_ble_eq_true rfl⟩ ⟨Nat.zero_le _, Nat.zero_le _⟩ hl.1 (Nat.le_of_ble_eq_true rfl) dX5_summed_18 rfl (fun H locs hM => ?_)
        refine g_bif_eq (tgt := 52) hx hb dX5_summed_21 (by decide) (fun c19 => ?_) (fun c19 => ?_)
        · replace hh := it_t c19 hh
          exact hB24 _ hK10 S hh _ _ _ hM (lv_sub hl [0] rfl)
        · replace hh := it_f c19 hh
          refine lv_aload_n hx hb dX5_summed_52 rfl (lv_at hl 0 rfl) ?_
          refine lv_iconst (v := zi 3) hx hb dX5_summed_53 rfl ?_
          obtain ⟨S21, k20, hh⟩ := bd_inv hh
          refine mc_v (rest := []) X hM (wM_settle l DM dA h S (3 : Int) k20) c5_settle.1 c5_settle.2 ⟨rfl, rfl⟩ ⟨Nat.le_of_ble_eq_true rfl, Nat.le_of_ble_eq_true rfl⟩ ⟨Nat.zero_le _, Nat.zero_le _⟩ hl.1 (Nat.le_of_ble_eq_true rfl) dX5_summed_54 rfl (fun H locs hM => ?_)
          refine lv_aload_n hx hb dX5_summed_57 rfl (lv_at hl 0 rfl) ?_
          refine mm_get X hM q1198 (mf_24 _ _) dX5_summed_58 ?_
          obtain ⟨g23, hh⟩ := gd_inv hh
          refine g_if_le (tgt := 68) hx hb g23 dX5_summed_61 (by decide) (fun c22 => ?_) (fun c22 => ?_)
          · replace hh := it_t c22 hh
            refine lv_iconst (v := zi 0) hx hb dX5_summed_68 rfl ?_
            exact hret _ _ _ _ _ _ (rt1 hh) (rt2 hh) dX5_summed_69 hM
          · replace hh := it_f c22 hh
            refine lv_iconst (v := zi 1) hx hb dX5_summed_64 rfl ?_
            refine lv_goto (tgt := 69) hx hb dX5_summed_65 (by decide) ?_
            exact hret _ _ _ _ _ _ (rt1 hh) (rt2 hh) dX5_summed_69 hM
  replace hl : lv_has ls 2 [(0, .ref (h))] := hl
  unfold M_summed at hh
  refine lv_aload_n hx hb dX5_summed_0 rfl (lv_at hl 0 rfl) ?_
  refine lv_iconst (v := zi 0) hx hb dX5_summed_1 rfl ?_
  refine mm_put X hM q1198 (mp_24 _ _ _) dX5_summed_2 (fun H locs S1 e2 hM => ?_)
  replace hh := nm_inv hh S1 e2
  refine lv_aload_n hx hb dX5_summed_5 rfl (lv_at hl 0 rfl) ?_
  refine lv_iconst (v := zi 0) hx hb dX5_summed_6 rfl ?_
  refine mm_put X hM q1200 (mp_26 _ _ (by decide)) dX5_summed_7 (fun H locs S3 e4 hM => ?_)
  replace hh := nm_inv hh S3 e4
  exact hL10 FU S3 hh _ _ _ hM (lv_sub hl [0] rfl)
def M_compareOf (S : xS) : Option Int := gd (r32 (S.1 15)) (if (S.1 15) = 60 then (some ((10 : Int))) else (gd (r32 (S.1 15)) (if (S.1 15) = 4 then (some ((11 : Int))) else (gd (r32 (S.1 15)) (if (S.1 15) = 62 then (some ((12 : Int))) else (gd (r32 (S.1 15)) (if (S.1 15) = 5 then (some ((13 : Int))) else (gd (r32 (S.1 15)) (if (S.1 15) = 61 then (some ((14 : Int))) else (gd (r32 (S.1 15)) (if (S.1 15) = 35 then (some ((15 : Int))) else (some (((-1) : Int))))))))))))))
set_option maxHeartbeats 4000000 in
theorem wM_compareOf (l : Launch) (DM : va_G) (dA : Nat → ClassId) (h : Nat) (S : xS) {r : Int} (hh : M_compareOf S  = some r) : mt_i l yX5_compareOf cX5_compareOf 1 (some .int) ({ frames := 1, cells := 0, slots := 0, locals := 12 } : Room) DM dA h [] S r S := by
  refine mo_i (by decide) rfl (Nat.le_of_ble_eq_true rfl) ?_
  intro p e s m args below meth c Q ls X hret hl hM
  have hx := X.1.1
  have hb := X.1.2.1
  have hown := X.1.2.2.2.1
  have hts := X.1.2.2.2.2
  skip
  replace hl : lv_has ls 1 [(0, .ref (h))] := hl
  unfold M_compareOf at hh
  refine lv_aload_n hx hb dX5_compareOf_0 rfl (lv_at hl 0 rfl) ?_
  refine mm_get X hM q1189 (mf_15 _ _) dX5_compareOf_1 ?_
  refine lv_bipush (v := zi 60) hx hb dX5_compareOf_4 (by decide) ?_
  obtain ⟨g2, hh⟩ := gd_inv hh
  refine g_icmp_ne (tgt := 14) hx hb ⟨g2, by decide⟩ dX5_compareOf_6 (by decide) (fun c1 => ?_) (fun c1 => ?_)
  · replace hh := it_t c1 hh
    refine lv_bipush (v := zi 10) hx hb dX5_compareOf_9 (by decide) ?_
    refine lv_goto (tgt := 83) hx hb dX5_compareOf_11 (by decide) ?_
    exact hret _ _ _ _ _ _ (rt0 hh) rfl dX5_compareOf_83 hM
  · replace hh := it_f c1 hh
    refine lv_aload_n hx hb dX5_compareOf_14 rfl (lv_at hl 0 rfl) ?_
    refine mm_get X hM q1189 (mf_15 _ _) dX5_compareOf_15 ?_
    refine lv_iconst (v := zi 4) hx hb dX5_compareOf_18 rfl ?_
    obtain ⟨g4, hh⟩ := gd_inv hh
    refine g_icmp_ne (tgt := 27) hx hb ⟨g4, by decide⟩ dX5_compareOf_19 (by decide) (fun c3 => ?_) (fun c3 => ?_)
    · replace hh := it_t c3 hh
      refine lv_bipush (v := zi 11) hx hb dX5_compareOf_22 (by decide) ?_
      refine lv_goto (tgt := 83) hx hb dX5_compareOf_24 (by decide) ?_
      exact hret _ _ _ _ _ _ (rt0 hh) rfl dX5_compareOf_83 hM
    · replace hh := it_f c3 hh
      refine lv_aload_n hx hb dX5_compareOf_27 rfl (lv_at hl 0 rfl) ?_
      refine mm_get X hM q1189 (mf_15 _ _) dX5_compareOf_28 ?_
      refine lv_bipush (v := zi 62) hx hb dX5_compareOf_31 (by decide) ?_
      obtain ⟨g6, hh⟩ := gd_inv hh
      refine g_icmp_ne (tgt := 41) hx hb ⟨g6, by decide⟩ dX5_compareOf_33 (by decide) (fun c5 => ?_) (fun c5 => ?_)
      · replace hh := it_t c5 hh
        refine lv_bipush (v := zi 12) hx hb dX5_compareOf_36 (by decide) ?_
        refine lv_goto (tgt := 83) hx hb dX5_compareOf_38 (by decide) ?_
        exact hret _ _ _ _ _ _ (rt0 hh) rfl dX5_compareOf_83 hM
      · replace hh := it_f c5 hh
        refine lv_aload_n hx hb dX5_compareOf_41 rfl (lv_at hl 0 rfl) ?_
        refine mm_get X hM q1189 (mf_15 _ _) dX5_compareOf_42 ?_
        refine lv_iconst (v := zi 5) hx hb dX5_compareOf_45 rfl ?_
        obtain ⟨g8, hh⟩ := gd_inv hh
        refine g_icmp_ne (tgt := 54) hx hb ⟨g8, by decide⟩ dX5_compareOf_46 (by decide) (fun c7 => ?_) (fun c7 => ?_)
        · replace hh := it_t c7 hh
          refine lv_bipush (v := zi 13) hx hb dX5_compareOf_49 (by decide) ?_
          refine lv_goto (tgt := 83) hx hb dX5_compareOf_51 (by decide) ?_
          exact hret _ _ _ _ _ _ (rt0 hh) rfl dX5_compareOf_83 hM
        · replace hh := it_f c7 hh
          refine lv_aload_n hx hb dX5_compareOf_54 rfl (lv_at hl 0 rfl) ?_
          refine mm_get X hM q1189 (mf_15 _ _) dX5_compareOf_55 ?_
          refine lv_bipush (v := zi 61) hx hb dX5_compareOf_58 (by decide) ?_
          obtain ⟨g10, hh⟩ := gd_inv hh
          refine g_icmp_ne (tgt := 68) hx hb ⟨g10, by decide⟩ dX5_compareOf_60 (by decide) (fun c9 => ?_) (fun c9 => ?_)
          · replace hh := it_t c9 hh
            refine lv_bipush (v := zi 14) hx hb dX5_compareOf_63 (by decide) ?_
            refine lv_goto (tgt := 83) hx hb dX5_compareOf_65 (by decide) ?_
            exact hret _ _ _ _ _ _ (rt0 hh) rfl dX5_compareOf_83 hM
          · replace hh := it_f c9 hh
            refine lv_aload_n hx hb dX5_compareOf_68 rfl (lv_at hl 0 rfl) ?_
            refine mm_get X hM q1189 (mf_15 _ _) dX5_compareOf_69 ?_
            refine lv_bipush (v := zi 35) hx hb dX5_compareOf_72 (by decide) ?_
            obtain ⟨g12, hh⟩ := gd_inv hh
            refine g_icmp_ne (tgt := 82) hx hb ⟨g12, by decide⟩ dX5_compareOf_74 (by decide) (fun c11 => ?_) (fun c11 => ?_)
            · replace hh := it_t c11 hh
              refine lv_bipush (v := zi 15) hx hb dX5_compareOf_77 (by decide) ?_
              refine lv_goto (tgt := 83) hx hb dX5_compareOf_79 (by decide) ?_
              exact hret _ _ _ _ _ _ (rt0 hh) rfl dX5_compareOf_83 hM
            · replace hh := it_f c11 hh
              refine lv_iconst (v := zi (-1)) hx hb dX5_compareOf_82 rfl ?_
              exact hret _ _ _ _ _ _ (rt0 hh) rfl dX5_compareOf_83 hM
def M_ask_b105 (x1 : Int) (K105 : xS → Int → Option (Int × xS)) (S : xS) (x4 : Int) : Option (Int × xS) := gd (r32 (x4) ∧ r32 (x1)) (if x4 < x1 then (bd (M_emit S (20 : Int) (0 : Int)) (fun S37 => nm ((x4 + 1) : Int) (fun v38 => K105 S37 v38))) else (some ((0 : Int), S)))
def M_ask_L105 (x1 : Int) : Nat → xS → Int → Option (Int × xS)
  | 0 => fun _ _ => none
  | n + 1 => fun S x4 => M_ask_b105 x1 (M_ask_L105 x1 n) S x4
def M_ask_b2 (K2 : xS → Int → Option (Int × xS)) (S : xS) (x1 : Int) : Option (Int × xS) := bd (M_w3 (110 : Int) (111 : Int) (116 : Int)) (fun v2 => bd (M_isWord S v2) (fun v4 => if v4 = true then (gd (r32 (S.1 25)) (if (S.1 25) = 8 then (some ((3 : Int), S)) else (nm (fset S 25 ((S.1 25) + 1)) (fun S8 => nm ((x1 + 1) : Int) (fun v10 => bd (M_nextToken S8 ) (fun S13 => K2 S13 v10)))))) else (bd2 (M_summed S ) (fun v15 S16 => gd (r32 (v15)) (if v15 = 0 then (bd (M_compareOf S16 ) (fun v20 => gd (r32 (v20)) (if v20 < 0 then (some ((1 : Int), S16)) else (bd (M_nextToken S16 ) (fun S24 => bd2 (M_summed S24 ) (fun v26 S27 => gd (r32 (v26)) (if v26 = 0 then (bd (M_emit S27 v20 (0 : Int)) (fun S31 => nm (fset S31 25 ((S31.1 25) - x1)) (fun S32 => M_ask_L105 x1 FU S32 (0 : Int)))) else (some ((v26 : Int), S27))))))))) else (some ((v15 : Int), S16)))))))
def M_ask_L2 : Nat → xS → Int → Option (Int × xS)
  | 0 => fun _ _ => none
  | n + 1 => fun S x1 => M_ask_b2  (M_ask_L2  n) S x1
def M_ask (S : xS) : Option (Int × xS) := M_ask_L2 FU S (0 : Int)
set_option maxHeartbeats 4000000 in
theorem wM_ask (l : Launch) (DM : va_G) (dA : Nat → ClassId) (h : Nat) (S : xS) {r : Int} {S1 : xS} (hh : M_ask S  = some (r, S1)) : mt_i l yX5_ask cX5_ask 5 (some .int) ({ frames := 7, cells := 0, slots := 0, locals := 139 } : Room) DM dA h [] S r S1 := by
  refine mo_i (by decide) rfl (Nat.le_of_ble_eq_true rfl) ?_
  intro p e s m args below meth c Q ls X hret hl hM
  have hx := X.1.1
  have hb := X.1.2.1
  have hown := X.1.2.2.2.1
  have hts := X.1.2.2.2.2
  skip
  have hL105 : ∀ (x1 : Int) (n : Nat) (S : xS) (x4 : Int), M_ask_L105 x1 n S x4 = some (r, S1) → ∀ (H : Heap) (locs : List Loc) (ls : Array Slot), MX DM dA h S s H locs → lv_has ls 5 [(0, .ref (h)), (1, .int (zi (x1))), (4, .int (zi (x4)))] → W p l e ({ frames := 7, cells := 0, slots := 0, locals := 139 } : Room) s m args below meth c H locs 0 0 Q (F0 m 105 ls []) := by
    intro x1  n
    induction n with
    | zero => intro S x4 hh; exact no_some hh
    | succ n ih =>
      intro S x4 hh H locs ls hM hl
      replace hh : M_ask_b105 x1 (M_ask_L105 x1 n) S x4 = some (r, S1) := hh
      unfold M_ask_b105 at hh
      have hK105 := ih
      refine lv_iload hx hb dX5_ask_105 (lv_at hl 2 rfl) ?_
      refine lv_iload_n hx hb dX5_ask_107 rfl (lv_at hl 1 rfl) ?_
      obtain ⟨g35, hh⟩ := gd_inv hh
      refine g_icmp_ge (tgt := 124) hx hb g35 dX5_ask_108 (by decide) (fun c34 => ?_) (fun c34 => ?_)
      · replace hh := it_t c34 hh
        refine lv_aload_n hx hb dX5_ask_111 rfl (lv_at hl 0 rfl) ?_
        refine lv_bipush (v := zi 20) hx hb dX5_ask_112 (by decide) ?_
        refine lv_iconst (v := zi 0) hx hb dX5_ask_114 rfl ?_
        obtain ⟨S37, k36, hh⟩ := bd_inv hh
        refine mc_v (rest := []) X hM (wM_emit l DM dA h S (20 : Int) (0 : Int) k36) c5_emit.1 c5_emit.2 ⟨rfl, rfl⟩ ⟨Nat.le_of_ble_eq_true rfl, Nat.le_of_ble_eq_true rfl⟩ ⟨Nat.zero_le _, Nat.zero_le _⟩ hl.1 (Nat.le_of_ble_eq_true rfl) dX5_ask_115 rfl (fun H locs hM => ?_)
        obtain ⟨v38, e39⟩ : ∃ z : Int, z = x4 + 1 := ⟨_, rfl⟩
        replace hh := nm_inv hh v38 e39
        refine lv_iinc (v := zi v38) (lv' := [(4, .int (zi (v38))), (0, .ref (h)), (1, .int (zi (x1)))]) hx hb dX5_ask_118 hl (k := 2) rfl (by rw [e39]; exact zi_add _ _) (by decide) rfl (fun ls hl => ?_)
        refine lv_goto (tgt := 105) hx hb dX5_ask_121 (by decide) ?_
        exact hK105 S37 v38 hh _ _ _ hM (lv_sub hl [1, 2, 0] rfl)
      · replace hh := it_f c34 hh
        refine lv_iconst (v := zi 0) hx hb dX5_ask_124 rfl ?_
        exact hret _ _ _ _ _ _ (rt1 hh) (rt2 hh) dX5_ask_125 hM
  have hL2 : ∀ (n : Nat) (S : xS) (x1 : Int), M_ask_L2 n S x1 = some (r, S1) → ∀ (H : Heap) (locs : List Loc) (ls : Array Slot), MX DM dA h S s H locs → lv_has ls 5 [(0, .ref (h)), (1, .int (zi (x1)))] → W p l e ({ frames := 7, cells := 0, slots := 0, locals := 139 } : Room) s m args below meth c H locs 0 0 Q (F0 m 2 ls []) := by
    intro   n
    induction n with
    | zero => intro S x1 hh; exact no_some hh
    | succ n ih =>
      intro S x1 hh H locs ls hM hl
      replace hh : M_ask_b2 (M_ask_L2 n) S x1 = some (r, S1) := hh
      unfold M_ask_b2 at hh
      have hK2 := ih
      refine lv_aload_n hx hb dX5_ask_2 rfl (lv_at hl 0 rfl) ?_
      refine lv_bipush (v := zi 110) hx hb dX5_ask_3 (by decide) ?_
      refine lv_bipush (v := zi 111) hx hb dX5_ask_5 (by decide) ?_
      refine lv_bipush (v := zi 116) hx hb dX5_ask_7 (by decide) ?_
      obtain ⟨v2, k1, hh⟩ := bd_inv hh
      refine mcs_l (rest := [.ref (h)]) X hM (wM_w3 l (110 : Int) (111 : Int) (116 : Int) k1) c5_w3.1 c5_w3.2 ⟨rfl, rfl⟩ ⟨Nat.le_of_ble_eq_true rfl, Nat.le_of_ble_eq_true rfl⟩ ⟨Nat.zero_le _, Nat.zero_le _⟩ hl.1 (Nat.le_of_ble_eq_true rfl) dX5_ask_9 rfl (fun H locs hM => ?_)
      obtain ⟨v4, k3, hh⟩ := bd_inv hh
      refine mc_z (rest := []) X hM (wM_isWord l DM dA h S v2 k3) c5_isWord.1 c5_isWord.2 ⟨rfl, rfl⟩ ⟨Nat.le_of_ble_eq_true rfl, Nat.le_of_ble_eq_true rfl⟩ ⟨Nat.zero_le _, Nat.zero_le _⟩ hl.1 (Nat.le_of_ble_eq_true rfl) dX5_ask_12 rfl (fun H locs hM => ?_)
      refine g_bif_eq (tgt := 49) hx hb dX5_ask_15 (by decide) (fun c5 => ?_) (fun c5 => ?_)
      · replace hh := it_t c5 hh
        refine lv_aload_n hx hb dX5_ask_18 rfl (lv_at hl 0 rfl) ?_
        refine mm_get X hM q1199 (mf_25 _ _) dX5_ask_19 ?_
        refine lv_bipush (v := zi 8) hx hb dX5_ask_22 (by decide) ?_
        obtain ⟨g7, hh⟩ := gd_inv hh
        refine g_icmp_ne (tgt := 29) hx hb ⟨g7, by decide⟩ dX5_ask_24 (by decide) (fun c6 => ?_) (fun c6 => ?_)
        · replace hh := it_t c6 hh
          refine lv_iconst (v := zi 3) hx hb dX5_ask_27 rfl ?_
          exact hret _ _ _ _ _ _ (rt1 hh) (rt2 hh) dX5_ask_28 hM
        · replace hh := it_f c6 hh
          refine lv_aload_n hx hb dX5_ask_29 rfl (lv_at hl 0 rfl) ?_
          refine lv_dup hx hb dX5_ask_30 rfl ?_
          refine mm_get X hM q1199 (mf_25 _ _) dX5_ask_31 ?_
          refine lv_iconst (v := zi 1) hx hb dX5_ask_34 rfl ?_
          refine g_iadd hx hb dX5_ask_35 ?_
          refine mm_put X hM q1199 (mp_25 _ _ _) dX5_ask_36 (fun H locs S8 e9 hM => ?_)
          replace hh := nm_inv hh S8 e9
          obtain ⟨v10, e11⟩ : ∃ z : Int, z = x1 + 1 := ⟨_, rfl⟩
          replace hh := nm_inv hh v10 e11
          refine lv_iinc (v := zi v10) (lv' := [(1, .int (zi (v10))), (0, .ref (h))]) hx hb dX5_ask_39 hl (k := 1) rfl (by rw [e11]; exact zi_add _ _) (by decide) rfl (fun ls hl => ?_)
          refine lv_aload_n hx hb dX5_ask_42 rfl (lv_at hl 1 rfl) ?_
          obtain ⟨S13, k12, hh⟩ := bd_inv hh
          refine mc_v (rest := []) X hM (wM_nextToken l DM dA h S8  k12) c5_nextToken.1 c5_nextToken.2 ⟨rfl, rfl⟩ ⟨Nat.le_of_ble_eq_true rfl, Nat.le_of_ble_eq_true rfl⟩ ⟨Nat.zero_le _, Nat.zero_le _⟩ hl.1 (Nat.le_of_ble_eq_true rfl) dX5_ask_43 rfl (fun H locs hM => ?_)
          refine lv_goto (tgt := 2) hx hb dX5_ask_46 (by decide) ?_
          exact hK2 S13 v10 hh _ _ _ hM (lv_sub hl [1, 0] rfl)
      · replace hh := it_f c5 hh
        refine lv_aload_n hx hb dX5_ask_49 rfl (lv_at hl 0 rfl) ?_
        obtain ⟨v15, S16, k14, hh⟩ := bd2_inv hh
        refine mc_i (rest := []) X hM (wM_summed l DM dA h S  k14) c5_summed.1 c5_summed.2 ⟨rfl, rfl⟩ ⟨Nat.le_of_ble_eq_true rfl, Nat.le_of_ble_eq_true rfl⟩ ⟨Nat.zero_le _, Nat.zero_le _⟩ hl.1 (Nat.le_of_ble_eq_true rfl) dX5_ask_50 rfl (fun H locs hM => ?_)
        refine lv_istore_n (lv' := [(2, .int (zi (v15))), (0, .ref (h)), (1, .int (zi (x1)))]) hx hb dX5_ask_53 rfl hl (by decide) rfl (fun ls hl => ?_)
        refine lv_iload_n hx hb dX5_ask_54 rfl (lv_at hl 0 rfl) ?_
        obtain ⟨g18, hh⟩ := gd_inv hh
        refine g_if_eq (tgt := 60) hx hb g18 dX5_ask_55 (by decide) (fun c17 => ?_) (fun c17 => ?_)
        · replace hh := it_t c17 hh
          refine lv_aload_n hx hb dX5_ask_60 rfl (lv_at hl 1 rfl) ?_
          obtain ⟨v20, k19, hh⟩ := bd_inv hh
          refine mc_i (rest := []) X hM (wM_compareOf l DM dA h S16  k19) c5_compareOf.1 c5_compareOf.2 ⟨rfl, rfl⟩ ⟨Nat.le_of_ble_eq_true rfl, Nat.le_of_ble_eq_true rfl⟩ ⟨Nat.zero_le _, Nat.zero_le _⟩ hl.1 (Nat.le_of_ble_eq_true rfl) dX5_ask_61 rfl (fun H locs hM => ?_)
          refine lv_istore_n (lv' := [(3, .int (zi (v20))), (2, .int (zi (v15))), (0, .ref (h)), (1, .int (zi (x1)))]) hx hb dX5_ask_64 rfl hl (by decide) rfl (fun ls hl => ?_)
          refine lv_iload_n hx hb dX5_ask_65 rfl (lv_at hl 0 rfl) ?_
          obtain ⟨g22, hh⟩ := gd_inv hh
          refine g_if_ge (tgt := 71) hx hb g22 dX5_ask_66 (by decide) (fun c21 => ?_) (fun c21 => ?_)
          · replace hh := it_t c21 hh
            refine lv_iconst (v := zi 1) hx hb dX5_ask_69 rfl ?_
            exact hret _ _ _ _ _ _ (rt1 hh) (rt2 hh) dX5_ask_70 hM
          · replace hh := it_f c21 hh
            refine lv_aload_n hx hb dX5_ask_71 rfl (lv_at hl 2 rfl) ?_
            obtain ⟨S24, k23, hh⟩ := bd_inv hh
            refine mc_v (rest := []) X hM (wM_nextToken l DM dA h S16  k23) c5_nextToken.1 c5_nextToken.2 ⟨rfl, rfl⟩ ⟨Nat.le_of_ble_eq_true rfl, Nat.le_of_ble_eq_true rfl⟩ ⟨Nat.zero_le _, Nat.zero_le _⟩ hl.1 (Nat.le_of_ble_eq_true rfl) dX5_ask_72 rfl (fun H locs hM => ?_)
            refine lv_aload_n hx hb dX5_ask_75 rfl (lv_at hl 2 rfl) ?_
            obtain ⟨v26, S27, k25, hh⟩ := bd2_inv hh
            refine mc_i (rest := []) X hM (wM_summed l DM dA h S24  k25) c5_summed.1 c5_summed.2 ⟨rfl, rfl⟩ ⟨Nat.le_of_ble_eq_true rfl, Nat.le_of_ble_eq_true rfl⟩ ⟨Nat.zero_le _, Nat.zero_le _⟩ hl.1 (Nat.le_of_ble_eq_true rfl) dX5_ask_76 rfl (fun H locs hM => ?_)
            refine lv_istore_n (lv' := [(2, .int (zi (v26))), (3, .int (zi (v20))), (0, .ref (h)), (1, .int (zi (x1)))]) hx hb dX5_ask_79 rfl hl (by decide) rfl (fun ls hl => ?_)
            refine lv_iload_n hx hb dX5_ask_80 rfl (lv_at hl 0 rfl) ?_
            obtain ⟨g29, hh⟩ := gd_inv hh
            refine g_if_eq (tgt := 86) hx hb g29 dX5_ask_81 (by decide) (fun c28 => ?_) (fun c28 => ?_)
            · replace hh := it_t c28 hh
              refine lv_aload_n hx hb dX5_ask_86 rfl (lv_at hl 2 rfl) ?_
              refine lv_iload_n hx hb dX5_ask_87 rfl (lv_at hl 1 rfl) ?_
              refine lv_iconst (v := zi 0) hx hb dX5_ask_88 rfl ?_
              obtain ⟨S31, k30, hh⟩ := bd_inv hh
              refine mc_v (rest := []) X hM (wM_emit l DM dA h S27 v20 (0 : Int) k30) c5_emit.1 c5_emit.2 ⟨rfl, rfl⟩ ⟨Nat.le_of_ble_eq_true rfl, Nat.le_of_ble_eq_true rfl⟩ ⟨Nat.zero_le _, Nat.zero_le _⟩ hl.1 (Nat.le_of_ble_eq_true rfl) dX5_ask_89 rfl (fun H locs hM => ?_)
              refine lv_aload_n hx hb dX5_ask_92 rfl (lv_at hl 2 rfl) ?_
              refine lv_dup hx hb dX5_ask_93 rfl ?_
              refine mm_get X hM q1199 (mf_25 _ _) dX5_ask_94 ?_
              refine lv_iload_n hx hb dX5_ask_97 rfl (lv_at hl 3 rfl) ?_
              refine g_isub hx hb dX5_ask_98 ?_
              refine mm_put X hM q1199 (mp_25 _ _ _) dX5_ask_99 (fun H locs S32 e33 hM => ?_)
              replace hh := nm_inv hh S32 e33
              refine lv_iconst (v := zi 0) hx hb dX5_ask_102 rfl ?_
              refine lv_istore (lv' := [(4, .int (zi (0))), (2, .int (zi (v26))), (3, .int (zi (v20))), (0, .ref (h)), (1, .int (zi (x1)))]) hx hb dX5_ask_103 hl (by decide) rfl (fun ls hl => ?_)
              exact hL105 x1 FU S32 (0 : Int) hh _ _ _ hM (lv_sub hl [3, 4, 0] rfl)
            · replace hh := it_f c28 hh
              refine lv_iload_n hx hb dX5_ask_84 rfl (lv_at hl 0 rfl) ?_
              exact hret _ _ _ _ _ _ (rt1 hh) (rt2 hh) dX5_ask_85 hM
        · replace hh := it_f c17 hh
          refine lv_iload_n hx hb dX5_ask_58 rfl (lv_at hl 0 rfl) ?_
          exact hret _ _ _ _ _ _ (rt1 hh) (rt2 hh) dX5_ask_59 hM
  replace hl : lv_has ls 5 [(0, .ref (h))] := hl
  unfold M_ask at hh
  refine lv_iconst (v := zi 0) hx hb dX5_ask_0 rfl ?_
  refine lv_istore_n (lv' := [(1, .int (zi (0))), (0, .ref (h))]) hx hb dX5_ask_1 rfl hl (by decide) rfl (fun ls hl => ?_)
  exact hL2 FU S (0 : Int) hh _ _ _ hM (lv_sub hl [1, 0] rfl)
def M_either_B107 (K6 : xS → Int → Int → Int → Option (Int × xS)) (S : xS) (x1 : Int) (x2 : Int) (t0 : Int) : Option (Int × xS) := gd (r32 (t0)) (if t0 = 0 then (K6 S x1 x2 t0) else (bd (M_nextToken S ) (fun S31 => K6 S31 x1 x2 t0)))
def M_either_B102 (K6 : xS → Int → Int → Int → Option (Int × xS)) (S : xS) (x1 : Int) (x2 : Int) : Option (Int × xS) := M_either_B107 K6 S x1 x2 (1 : Int)
def M_either_B93 (K6 : xS → Int → Int → Int → Option (Int × xS)) (S : xS) (x1 : Int) (x2 : Int) (x5 : Int) : Option (Int × xS) := gd (r32 (x1)) (if x1 = 0 then (gd (r32 (x5)) (if x5 = 0 then (M_either_B107 K6 S x1 x2 (0 : Int)) else (M_either_B102 K6 S x1 x2))) else (M_either_B102 K6 S x1 x2))
def M_either_B90 (K6 : xS → Int → Int → Int → Option (Int × xS)) (S : xS) (x1 : Int) (x5 : Int) : Option (Int × xS) := M_either_B93 K6 S x1 x5 x5
def M_either_B73 (K6 : xS → Int → Int → Int → Option (Int × xS)) (S : xS) (x1 : Int) (x2 : Int) (t0 : Int) : Option (Int × xS) := gd (r32 (x1)) (if x1 = 0 then (gd (r32 (x2)) (if x2 = 0 then (M_either_B90 K6 S x1 t0) else (bd (M_emit S (22 : Int) (0 : Int)) (fun S33 => M_either_B90 K6 S33 x1 t0)))) else (M_either_B93 K6 S x1 x2 t0))
def M_either_B72 (K6 : xS → Int → Int → Int → Option (Int × xS)) (S : xS) (x1 : Int) (x2 : Int) : Option (Int × xS) := M_either_B73 K6 S x1 x2 (0 : Int)
def M_either_B35 (K6 : xS → Int → Int → Int → Option (Int × xS)) (S : xS) (x2 : Int) : Option (Int × xS) := bd (M_w3 (97 : Int) (110 : Int) (100 : Int)) (fun v11 => bd (M_isWord S v11) (fun v13 => nm (bz v13) (fun v14 => gd (r32 (S.1 15)) (if (S.1 15) = 2 then (gd (r64 (S.1 17)) (if (S.1 17) = 28530 then (M_either_B73 K6 S v14 x2 (1 : Int)) else (M_either_B72 K6 S v14 x2))) else (M_either_B72 K6 S v14 x2)))))
def M_either_b6 (K6 : xS → Int → Int → Int → Option (Int × xS)) (S : xS) (x1 : Int) (x2 : Int) (x3 : Int) : Option (Int × xS) := gd (r32 (x3)) (if x3 = 0 then (some ((0 : Int), S)) else (bd2 (M_ask S ) (fun v4 S5 => gd (r32 (v4)) (if v4 = 0 then (gd (r32 (x1)) (if x1 = 0 then (M_either_B35 K6 S5 x2) else (bd (M_emit S5 (21 : Int) (0 : Int)) (fun S35 => M_either_B35 K6 S35 x2)))) else (some ((v4 : Int), S5))))))
def M_either_L6 : Nat → xS → Int → Int → Int → Option (Int × xS)
  | 0 => fun _ _ _ _ => none
  | n + 1 => fun S x1 x2 x3 => M_either_b6  (M_either_L6  n) S x1 x2 x3
def M_either (S : xS) : Option (Int × xS) := M_either_L6 FU S (0 : Int) (0 : Int) (1 : Int)
set_option maxHeartbeats 4000000 in
theorem wM_either (l : Launch) (DM : va_G) (dA : Nat → ClassId) (h : Nat) (S : xS) {r : Int} {S1 : xS} (hh : M_either S  = some (r, S1)) : mt_i l yX5_either cX5_either 6 (some .int) ({ frames := 8, cells := 0, slots := 0, locals := 163 } : Room) DM dA h [] S r S1 := by
  refine mo_i (by decide) rfl (Nat.le_of_ble_eq_true rfl) ?_
  intro p e s m args below meth c Q ls X hret hl hM
  have hx := X.1.1
  have hb := X.1.2.1
  have hown := X.1.2.2.2.1
  have hts := X.1.2.2.2.2
  skip
  have hB107 : ∀ (x1 : Int) (x2 : Int) (t0 : Int) (K6 : xS → Int → Int → Int → Option (Int × xS)) (hK6 : (∀ (S : xS) (x1 : Int) (x2 : Int) (x3 : Int), K6 S x1 x2 x3 = some (r, S1) → ∀ (H : Heap) (locs : List Loc) (ls : Array Slot), MX DM dA h S s H locs → lv_has ls 6 [(0, .ref (h)), (1, .int (zi (x1))), (2, .int (zi (x2))), (3, .int (zi (x3)))] → W p l e ({ frames := 8, cells := 0, slots := 0, locals := 163 } : Room) s m args below meth c H locs 0 0 Q (F0 m 6 ls []))) (S : xS), M_either_B107 K6 S x1 x2 t0 = some (r, S1) → ∀ (H : Heap) (locs : List Loc) (ls : Array Slot), MX DM dA h S s H locs → lv_has ls 6 [(0, .ref (h)), (1, .int (zi (x1))), (2, .int (zi (x2)))] → W p l e ({ frames := 8, cells := 0, slots := 0, locals := 163 } : Room) s m args below meth c H locs 0 0 Q (F0 m 107 ls [.int (zi (t0))]) := by
    intro x1 x2 t0 K6 hK6 S hh H locs ls hM hl
    unfold M_either_B107 at hh
    refine lv_istore_n (lv' := [(3, .int (zi (t0))), (0, .ref (h)), (1, .int (zi (x1))), (2, .int (zi (x2)))]) hx hb dX5_either_107 rfl hl (by decide) rfl (fun ls hl => ?_)
    refine lv_iload_n hx hb dX5_either_108 rfl (lv_at hl 0 rfl) ?_
    obtain ⟨g29, hh⟩ := gd_inv hh
    refine g_if_eq (tgt := 116) hx hb g29 dX5_either_109 (by decide) (fun c28 => ?_) (fun c28 => ?_)
    · replace hh := it_t c28 hh
      refine lv_goto (tgt := 6) hx hb dX5_either_116 (by decide) ?_
      exact hK6 S x1 x2 t0 hh _ _ _ hM (lv_sub hl [1, 2, 3, 0] rfl)
    · replace hh := it_f c28 hh
      refine lv_aload_n hx hb dX5_either_112 rfl (lv_at hl 1 rfl) ?_
      obtain ⟨S31, k30, hh⟩ := bd_inv hh
      refine mc_v (rest := []) X hM (wM_nextToken l DM dA h S  k30) c5_nextToken.1 c5_nextToken.2 ⟨rfl, rfl⟩ ⟨Nat.le_of_ble_eq_true rfl, Nat.le_of_ble_eq_true rfl⟩ ⟨Nat.zero_le _, Nat.zero_le _⟩ hl.1 (Nat.le_of_ble_eq_true rfl) dX5_either_113 rfl (fun H locs hM => ?_)
      refine lv_goto (tgt := 6) hx hb dX5_either_116 (by decide) ?_
      exact hK6 S31 x1 x2 t0 hh _ _ _ hM (lv_sub hl [1, 2, 3, 0] rfl)
  have hB102 : ∀ (x1 : Int) (x2 : Int) (K6 : xS → Int → Int → Int → Option (Int × xS)) (hK6 : (∀ (S : xS) (x1 : Int) (x2 : Int) (x3 : Int), K6 S x1 x2 x3 = some (r, S1) → ∀ (H : Heap) (locs : List Loc) (ls : Array Slot), MX DM dA h S s H locs → lv_has ls 6 [(0, .ref (h)), (1, .int (zi (x1))), (2, .int (zi (x2))), (3, .int (zi (x3)))] → W p l e ({ frames := 8, cells := 0, slots := 0, locals := 163 } : Room) s m args below meth c H locs 0 0 Q (F0 m 6 ls []))) (S : xS), M_either_B102 K6 S x1 x2 = some (r, S1) → ∀ (H : Heap) (locs : List Loc) (ls : Array Slot), MX DM dA h S s H locs → lv_has ls 6 [(0, .ref (h)), (1, .int (zi (x1))), (2, .int (zi (x2)))] → W p l e ({ frames := 8, cells := 0, slots := 0, locals := 163 } : Room) s m args below meth c H locs 0 0 Q (F0 m 102 ls []) := by
    intro x1 x2 K6 hK6 S hh H locs ls hM hl
    unfold M_either_B102 at hh
    refine lv_iconst (v := zi 1) hx hb dX5_either_102 rfl ?_
    refine lv_goto (tgt := 107) hx hb dX5_either_103 (by decide) ?_
    exact hB107 x1 x2 (1 : Int) _ hK6 S hh _ _ _ hM (lv_sub hl [0, 1, 2] rfl)
  have hB93 : ∀ (x1 : Int) (x2 : Int) (x5 : Int) (K6 : xS → Int → Int → Int → Option (Int × xS)) (hK6 : (∀ (S : xS) (x1 : Int) (x2 : Int) (x3 : Int), K6 S x1 x2 x3 = some (r, S1) → ∀ (H : Heap) (locs : List Loc) (ls : Array Slot), MX DM dA h S s H locs → lv_has ls 6 [(0, .ref (h)), (1, .int (zi (x1))), (2, .int (zi (x2))), (3, .int (zi (x3)))] → W p l e ({ frames := 8, cells := 0, slots := 0, locals := 163 } : Room) s m args below meth c H locs 0 0 Q (F0 m 6 ls []))) (S : xS), M_either_B93 K6 S x1 x2 x5 = some (r, S1) → ∀ (H : Heap) (locs : List Loc) (ls : Array Slot), MX DM dA h S s H locs → lv_has ls 6 [(0, .ref (h)), (1, .int (zi (x1))), (2, .int (zi (x2))), (5, .int (zi (x5)))] → W p l e ({ frames := 8, cells := 0, slots := 0, locals := 163 } : Room) s m args below meth c H locs 0 0 Q (F0 m 93 ls []) := by
    intro x1 x2 x5 K6 hK6 S hh H locs ls hM hl
    unfold M_either_B93 at hh
    refine lv_iload_n hx hb dX5_either_93 rfl (lv_at hl 1 rfl) ?_
    obtain ⟨g25, hh⟩ := gd_inv hh
    refine g_if_ne (tgt := 102) hx hb g25 dX5_either_94 (by decide) (fun c24 => ?_) (fun c24 => ?_)
    · replace hh := it_t c24 hh
      refine lv_iload hx hb dX5_either_97 (lv_at hl 3 rfl) ?_
      obtain ⟨g27, hh⟩ := gd_inv hh
      refine g_if_eq (tgt := 106) hx hb g27 dX5_either_99 (by decide) (fun c26 => ?_) (fun c26 => ?_)
      · replace hh := it_t c26 hh
        refine lv_iconst (v := zi 0) hx hb dX5_either_106 rfl ?_
        exact hB107 x1 x2 (0 : Int) _ hK6 S hh _ _ _ hM (lv_sub hl [0, 1, 2] rfl)
      · replace hh := it_f c26 hh
        exact hB102 x1 x2 _ hK6 S hh _ _ _ hM (lv_sub hl [0, 1, 2] rfl)
    · replace hh := it_f c24 hh
      exact hB102 x1 x2 _ hK6 S hh _ _ _ hM (lv_sub hl [0, 1, 2] rfl)
  have hB90 : ∀ (x1 : Int) (x5 : Int) (K6 : xS → Int → Int → Int → Option (Int × xS)) (hK6 : (∀ (S : xS) (x1 : Int) (x2 : Int) (x3 : Int), K6 S x1 x2 x3 = some (r, S1) → ∀ (H : Heap) (locs : List Loc) (ls : Array Slot), MX DM dA h S s H locs → lv_has ls 6 [(0, .ref (h)), (1, .int (zi (x1))), (2, .int (zi (x2))), (3, .int (zi (x3)))] → W p l e ({ frames := 8, cells := 0, slots := 0, locals := 163 } : Room) s m args below meth c H locs 0 0 Q (F0 m 6 ls []))) (S : xS), M_either_B90 K6 S x1 x5 = some (r, S1) → ∀ (H : Heap) (locs : List Loc) (ls : Array Slot), MX DM dA h S s H locs → lv_has ls 6 [(0, .ref (h)), (1, .int (zi (x1))), (5, .int (zi (x5)))] → W p l e ({ frames := 8, cells := 0, slots := 0, locals := 163 } : Room) s m args below meth c H locs 0 0 Q (F0 m 90 ls []) := by
    intro x1 x5 K6 hK6 S hh H locs ls hM hl
    unfold M_either_B90 at hh
    refine lv_iload hx hb dX5_either_90 (lv_at hl 2 rfl) ?_
    refine lv_istore_n (lv' := [(2, .int (zi (x5))), (0, .ref (h)), (1, .int (zi (x1))), (5, .int (zi (x5)))]) hx hb dX5_either_92 rfl hl (by decide) rfl (fun ls hl => ?_)
    exact hB93 x1 x5 x5 _ hK6 S hh _ _ _ hM (lv_sub hl [1, 2, 0, 3] rfl)
  have hB73 : ∀ (x1 : Int) (x2 : Int) (t0 : Int) (K6 : xS → Int → Int → Int → Option (Int × xS)) (hK6 : (∀ (S : xS) (x1 : Int) (x2 : Int) (x3 : Int), K6 S x1 x2 x3 = some (r, S1) → ∀ (H : Heap) (locs : List Loc) (ls : Array Slot), MX DM dA h S s H locs → lv_has ls 6 [(0, .ref (h)), (1, .int (zi (x1))), (2, .int (zi (x2))), (3, .int (zi (x3)))] → W p l e ({ frames := 8, cells := 0, slots := 0, locals := 163 } : Room) s m args below meth c H locs 0 0 Q (F0 m 6 ls []))) (S : xS), M_either_B73 K6 S x1 x2 t0 = some (r, S1) → ∀ (H : Heap) (locs : List Loc) (ls : Array Slot), MX DM dA h S s H locs → lv_has ls 6 [(0, .ref (h)), (1, .int (zi (x1))), (2, .int (zi (x2)))] → W p l e ({ frames := 8, cells := 0, slots := 0, locals := 163 } : Room) s m args below meth c H locs 0 0 Q (F0 m 73 ls [.int (zi (t0))]) := by
    intro x1 x2 t0 K6 hK6 S hh H locs ls hM hl
    unfold M_either_B73 at hh
    refine lv_istore (lv' := [(5, .int (zi (t0))), (0, .ref (h)), (1, .int (zi (x1))), (2, .int (zi (x2)))]) hx hb dX5_either_73 hl (by decide) rfl (fun ls hl => ?_)
    refine lv_iload_n hx hb dX5_either_75 rfl (lv_at hl 2 rfl) ?_
    obtain ⟨g21, hh⟩ := gd_inv hh
    refine g_if_ne (tgt := 93) hx hb g21 dX5_either_76 (by decide) (fun c20 => ?_) (fun c20 => ?_)
    · replace hh := it_t c20 hh
      refine lv_iload_n hx hb dX5_either_79 rfl (lv_at hl 3 rfl) ?_
      obtain ⟨g23, hh⟩ := gd_inv hh
      refine g_if_eq (tgt := 90) hx hb g23 dX5_either_80 (by decide) (fun c22 => ?_) (fun c22 => ?_)
      · replace hh := it_t c22 hh
        exact hB90 x1 t0 _ hK6 S hh _ _ _ hM (lv_sub hl [1, 2, 0] rfl)
      · replace hh := it_f c22 hh
        refine lv_aload_n hx hb dX5_either_83 rfl (lv_at hl 1 rfl) ?_
        refine lv_bipush (v := zi 22) hx hb dX5_either_84 (by decide) ?_
        refine lv_iconst (v := zi 0) hx hb dX5_either_86 rfl ?_
        obtain ⟨S33, k32, hh⟩ := bd_inv hh
        refine mc_v (rest := []) X hM (wM_emit l DM dA h S (22 : Int) (0 : Int) k32) c5_emit.1 c5_emit.2 ⟨rfl, rfl⟩ ⟨Nat.le_of_ble_eq_true rfl, Nat.le_of_ble_eq_true rfl⟩ ⟨Nat.zero_le _, Nat.zero_le _⟩ hl.1 (Nat.le_of_ble_eq_true rfl) dX5_either_87 rfl (fun H locs hM => ?_)
        exact hB90 x1 t0 _ hK6 S33 hh _ _ _ hM (lv_sub hl [1, 2, 0] rfl)
    · replace hh := it_f c20 hh
      exact hB93 x1 x2 t0 _ hK6 S hh _ _ _ hM (lv_sub hl [1, 2, 3, 0] rfl)
  have hB72 : ∀ (x1 : Int) (x2 : Int) (K6 : xS → Int → Int → Int → Option (Int × xS)) (hK6 : (∀ (S : xS) (x1 : Int) (x2 : Int) (x3 : Int), K6 S x1 x2 x3 = some (r, S1) → ∀ (H : Heap) (locs : List Loc) (ls : Array Slot), MX DM dA h S s H locs → lv_has ls 6 [(0, .ref (h)), (1, .int (zi (x1))), (2, .int (zi (x2))), (3, .int (zi (x3)))] → W p l e ({ frames := 8, cells := 0, slots := 0, locals := 163 } : Room) s m args below meth c H locs 0 0 Q (F0 m 6 ls []))) (S : xS), M_either_B72 K6 S x1 x2 = some (r, S1) → ∀ (H : Heap) (locs : List Loc) (ls : Array Slot), MX DM dA h S s H locs → lv_has ls 6 [(0, .ref (h)), (1, .int (zi (x1))), (2, .int (zi (x2)))] → W p l e ({ frames := 8, cells := 0, slots := 0, locals := 163 } : Room) s m args below meth c H locs 0 0 Q (F0 m 72 ls []) := by
    intro x1 x2 K6 hK6 S hh H locs ls hM hl
    unfold M_either_B72 at hh
    refine lv_iconst (v := zi 0) hx hb dX5_either_72 rfl ?_
    exact hB73 x1 x2 (0 : Int) _ hK6 S hh _ _ _ hM (lv_sub hl [0, 1, 2] rfl)
  have hB35 : ∀ (x2 : Int) (K6 : xS → Int → Int → Int → Option (Int × xS)) (hK6 : (∀ (S : xS) (x1 : Int) (x2 : Int) (x3 : Int), K6 S x1 x2 x3 = some (r, S1) → ∀ (H : Heap) (locs : List Loc) (ls : Array Slot), MX DM dA h S s H locs → lv_has ls 6 [(0, .ref (h)), (1, .int (zi (x1))), (2, .int (zi (x2))), (3, .int (zi (x3)))] → W p l e ({ frames := 8, cells := 0, slots := 0, locals := 163 } : Room) s m args below meth c H locs 0 0 Q (F0 m 6 ls []))) (S : xS), M_either_B35 K6 S x2 = some (r, S1) → ∀ (H : Heap) (locs : List Loc) (ls : Array Slot), MX DM dA h S s H locs → lv_has ls 6 [(0, .ref (h)), (2, .int (zi (x2)))] → W p l e ({ frames := 8, cells := 0, slots := 0, locals := 163 } : Room) s m args below meth c H locs 0 0 Q (F0 m 35 ls []) := by
    intro x2 K6 hK6 S hh H locs ls hM hl
    unfold M_either_B35 at hh
    refine lv_aload_n hx hb dX5_either_35 rfl (lv_at hl 0 rfl) ?_
    refine lv_bipush (v := zi 97) hx hb dX5_either_36 (by decide) ?_
    refine lv_bipush (v := zi 110) hx hb dX5_either_38 (by decide) ?_
    refine lv_bipush (v := zi 100) hx hb dX5_either_40 (by decide) ?_
    obtain ⟨v11, k10, hh⟩ := bd_inv hh
    refine mcs_l (rest := [.ref (h)]) X hM (wM_w3 l (97 : Int) (110 : Int) (100 : Int) k10) c5_w3.1 c5_w3.2 ⟨rfl, rfl⟩ ⟨Nat.le_of_ble_eq_true rfl, Nat.le_of_ble_eq_true rfl⟩ ⟨Nat.zero_le _, Nat.zero_le _⟩ hl.1 (Nat.le_of_ble_eq_true rfl) dX5_either_42 rfl (fun H locs hM => ?_)
    obtain ⟨v13, k12, hh⟩ := bd_inv hh
    refine mc_z (rest := []) X hM (wM_isWord l DM dA h S v11 k12) c5_isWord.1 c5_isWord.2 ⟨rfl, rfl⟩ ⟨Nat.le_of_ble_eq_true rfl, Nat.le_of_ble_eq_true rfl⟩ ⟨Nat.zero_le _, Nat.zero_le _⟩ hl.1 (Nat.le_of_ble_eq_true rfl) dX5_either_45 rfl (fun H locs hM => ?_)
    refine g_nmi hx hb (fun v14 e15 => ?_)
    replace hh := nm_inv hh v14 e15
    refine lv_istore_n (lv' := [(1, .int (zi (v14))), (0, .ref (h)), (2, .int (zi (x2)))]) hx hb dX5_either_48 rfl hl (by decide) rfl (fun ls hl => ?_)
    refine lv_aload_n hx hb dX5_either_49 rfl (lv_at hl 1 rfl) ?_
    refine mm_get X hM q1189 (mf_15 _ _) dX5_either_50 ?_
    refine lv_iconst (v := zi 2) hx hb dX5_either_53 rfl ?_
    obtain ⟨g17, hh⟩ := gd_inv hh
    refine g_icmp_ne (tgt := 72) hx hb ⟨g17, by decide⟩ dX5_either_54 (by decide) (fun c16 => ?_) (fun c16 => ?_)
    · replace hh := it_t c16 hh
      refine lv_aload_n hx hb dX5_either_57 rfl (lv_at hl 1 rfl) ?_
      refine mm_get X hM q1191 (mf_17 _ _) dX5_either_58 ?_
      refine g_ldc2 (v := 28530) (z := 28530) hx hb (by decide) hown (hts _ q1529) dX5_either_61 ?_
      obtain ⟨g19, hh⟩ := gd_inv hh
      refine g_lcmp_ne (tgt := 72) hx hb ⟨g19, by decide⟩ dX5_either_64 dX5_either_65 (by decide) (fun c18 => ?_) (fun c18 => ?_)
      · replace hh := it_t c18 hh
        refine lv_iconst (v := zi 1) hx hb dX5_either_68 rfl ?_
        refine lv_goto (tgt := 73) hx hb dX5_either_69 (by decide) ?_
        exact hB73 v14 x2 (1 : Int) _ hK6 S hh _ _ _ hM (lv_sub hl [1, 0, 2] rfl)
      · replace hh := it_f c18 hh
        exact hB72 v14 x2 _ hK6 S hh _ _ _ hM (lv_sub hl [1, 0, 2] rfl)
    · replace hh := it_f c16 hh
      exact hB72 v14 x2 _ hK6 S hh _ _ _ hM (lv_sub hl [1, 0, 2] rfl)
  have hL6 : ∀ (n : Nat) (S : xS) (x1 : Int) (x2 : Int) (x3 : Int), M_either_L6 n S x1 x2 x3 = some (r, S1) → ∀ (H : Heap) (locs : List Loc) (ls : Array Slot), MX DM dA h S s H locs → lv_has ls 6 [(0, .ref (h)), (1, .int (zi (x1))), (2, .int (zi (x2))), (3, .int (zi (x3)))] → W p l e ({ frames := 8, cells := 0, slots := 0, locals := 163 } : Room) s m args below meth c H locs 0 0 Q (F0 m 6 ls []) := by
    intro   n
    induction n with
    | zero => intro S x1 x2 x3 hh; exact no_some hh
    | succ n ih =>
      intro S x1 x2 x3 hh H locs ls hM hl
      replace hh : M_either_b6 (M_either_L6 n) S x1 x2 x3 = some (r, S1) := hh
      unfold M_either_b6 at hh
      have hK6 := ih
      refine lv_iload_n hx hb dX5_either_6 rfl (lv_at hl 3 rfl) ?_
      obtain ⟨g2, hh⟩ := gd_inv hh
      refine g_if_eq (tgt := 119) hx hb g2 dX5_either_7 (by decide) (fun c1 => ?_) (fun c1 => ?_)
      · replace hh := it_t c1 hh
        refine lv_iconst (v := zi 0) hx hb dX5_either_119 rfl ?_
        exact hret _ _ _ _ _ _ (rt1 hh) (rt2 hh) dX5_either_120 hM
      · replace hh := it_f c1 hh
        refine lv_aload_n hx hb dX5_either_10 rfl (lv_at hl 0 rfl) ?_
        obtain ⟨v4, S5, k3, hh⟩ := bd2_inv hh
        refine mc_i (rest := []) X hM (wM_ask l DM dA h S  k3) c5_ask.1 c5_ask.2 ⟨rfl, rfl⟩ ⟨Nat.le_of_ble_eq_true rfl, Nat.le_of_ble_eq_true rfl⟩ ⟨Nat.zero_le _, Nat.zero_le _⟩ hl.1 (Nat.le_of_ble_eq_true rfl) dX5_either_11 rfl (fun H locs hM => ?_)
        refine lv_istore (lv' := [(4, .int (zi (v4))), (0, .ref (h)), (1, .int (zi (x1))), (2, .int (zi (x2))), (3, .int (zi (x3)))]) hx hb dX5_either_14 hl (by decide) rfl (fun ls hl => ?_)
        refine lv_iload hx hb dX5_either_16 (lv_at hl 0 rfl) ?_
        obtain ⟨g7, hh⟩ := gd_inv hh
        refine g_if_eq (tgt := 24) hx hb g7 dX5_either_18 (by decide) (fun c6 => ?_) (fun c6 => ?_)
        · replace hh := it_t c6 hh
          refine lv_iload_n hx hb dX5_either_24 rfl (lv_at hl 2 rfl) ?_
          obtain ⟨g9, hh⟩ := gd_inv hh
          refine g_if_eq (tgt := 35) hx hb g9 dX5_either_25 (by decide) (fun c8 => ?_) (fun c8 => ?_)
          · replace hh := it_t c8 hh
            exact hB35 x2 _ hK6 S5 hh _ _ _ hM (lv_sub hl [1, 3] rfl)
          · replace hh := it_f c8 hh
            refine lv_aload_n hx hb dX5_either_28 rfl (lv_at hl 1 rfl) ?_
            refine lv_bipush (v := zi 21) hx hb dX5_either_29 (by decide) ?_
            refine lv_iconst (v := zi 0) hx hb dX5_either_31 rfl ?_
            obtain ⟨S35, k34, hh⟩ := bd_inv hh
            refine mc_v (rest := []) X hM (wM_emit l DM dA h S5 (21 : Int) (0 : Int) k34) c5_emit.1 c5_emit.2 ⟨rfl, rfl⟩ ⟨Nat.le_of_ble_eq_true rfl, Nat.le_of_ble_eq_true rfl⟩ ⟨Nat.zero_le _, Nat.zero_le _⟩ hl.1 (Nat.le_of_ble_eq_true rfl) dX5_either_32 rfl (fun H locs hM => ?_)
            exact hB35 x2 _ hK6 S35 hh _ _ _ hM (lv_sub hl [1, 3] rfl)
        · replace hh := it_f c6 hh
          refine lv_iload hx hb dX5_either_21 (lv_at hl 0 rfl) ?_
          exact hret _ _ _ _ _ _ (rt1 hh) (rt2 hh) dX5_either_23 hM
  replace hl : lv_has ls 6 [(0, .ref (h))] := hl
  unfold M_either at hh
  refine lv_iconst (v := zi 0) hx hb dX5_either_0 rfl ?_
  refine lv_istore_n (lv' := [(1, .int (zi (0))), (0, .ref (h))]) hx hb dX5_either_1 rfl hl (by decide) rfl (fun ls hl => ?_)
  refine lv_iconst (v := zi 0) hx hb dX5_either_2 rfl ?_
  refine lv_istore_n (lv' := [(2, .int (zi (0))), (1, .int (zi (0))), (0, .ref (h))]) hx hb dX5_either_3 rfl hl (by decide) rfl (fun ls hl => ?_)
  refine lv_iconst (v := zi 1) hx hb dX5_either_4 rfl ?_
  refine lv_istore_n (lv' := [(3, .int (zi (1))), (2, .int (zi (0))), (1, .int (zi (0))), (0, .ref (h))]) hx hb dX5_either_5 rfl hl (by decide) rfl (fun ls hl => ?_)
  exact hL6 FU S (0 : Int) (0 : Int) (1 : Int) hh _ _ _ hM (lv_sub hl [3, 2, 1, 0] rfl)
