set_option maxRecDepth 100000
def M_work_B56 (K9 : xS → Int → Int → Int → Option xS) (S : xS) (x1 : Int) (x3 : Int) (x4 : Int) (x5 : Int) (x6 : Int) (x7 : Int) (x8 : Int) : Option xS := bd (M_valueOf S x7 x8) (fun v12 => bd2 (M_bring S v12) (fun v14 S15 => gd ((0 : Int) ≤ x4 ∧ (x4 : Int) < 330) (nm (aset S15 37 x4 v14) (fun S17 => nm ((x4 + 1) : Int) (fun v19 => nm ((x6 + 1) : Int) (fun v21 => K9 S17 v19 x5 v21))))))
def M_work_B229 (K9 : xS → Int → Int → Int → Option xS) (S : xS) (x1 : Int) (x3 : Int) (x4 : Int) (x5 : Int) (x6 : Int) (t0 : Int) (t1 : Int) : Option xS := gd ((0 : Int) ≤ t1 ∧ (t1 : Int) < 330) (gd ((t0 : Int) = 0 ∨ (t0 : Int) = 1) (nm (aset S 38 t1 t0) (fun S69 => nm ((x6 + 1) : Int) (fun v71 => K9 S69 x4 x5 v71))))
def M_work_B308 (K9 : xS → Int → Int → Int → Option xS) (S : xS) (x1 : Int) (x3 : Int) (x4 : Int) (x5 : Int) (x6 : Int) (t0 : Int) (t1 : Int) : Option xS := gd ((0 : Int) ≤ t1 ∧ (t1 : Int) < 330) (gd ((t0 : Int) = 0 ∨ (t0 : Int) = 1) (nm (aset S 38 t1 t0) (fun S82 => nm ((x6 + 1) : Int) (fun v84 => K9 S82 x4 x5 v84))))
def M_work_B277 (K9 : xS → Int → Int → Int → Option xS) (S : xS) (x1 : Int) (x3 : Int) (x4 : Int) (x5 : Int) (x6 : Int) (t0 : Int) : Option xS := M_work_B308 K9 S x1 x3 x4 x5 x6 (0 : Int) t0
def M_work_B303 (K9 : xS → Int → Int → Int → Option xS) (S : xS) (x1 : Int) (x3 : Int) (x4 : Int) (x5 : Int) (x6 : Int) (t0 : Int) : Option xS := M_work_B308 K9 S x1 x3 x4 x5 x6 (1 : Int) t0
def M_work_b9 (x1 : Int) (x3 : Int) (K9 : xS → Int → Int → Int → Option xS) (S : xS) (x4 : Int) (x5 : Int) (x6 : Int) : Option xS := gd (r32 (x6) ∧ r32 (x3)) (if x6 < x3 then (gd ((0 : Int) ≤ x1 + (2 * x6) ∧ (x1 + (2 * x6) : Int) < 6400) (nm (S.2 4 (x1 + (2 * x6))) (fun v4 => gd ((0 : Int) ≤ (x1 + (2 * x6)) + 1 ∧ ((x1 + (2 * x6)) + 1 : Int) < 6400) (nm (S.2 4 ((x1 + (2 * x6)) + 1)) (fun v7 => gd (r32 (v4)) (if v4 ≤ 1 then (M_work_B56 K9 S x1 x3 x4 x5 x6 v4 v7) else (gd (r32 (v4)) (if v4 < 30 then (gd (r32 (v4)) (if v4 = 2 then (gd ((0 : Int) ≤ x4 - 1 ∧ (x4 - 1 : Int) < 330) (gd ((0 : Int) ≤ x4 - 1 ∧ (x4 - 1 : Int) < 330) (nm (aset S 37 (x4 - 1) (-(S.2 37 (x4 - 1)))) (fun S29 => nm ((x6 + 1) : Int) (fun v31 => K9 S29 x4 x5 v31))))) else (gd (r32 (v4)) (if v4 < 10 then (nm ((x4 + (-1)) : Int) (fun v35 => gd ((0 : Int) ≤ v35 - 1 ∧ (v35 - 1 : Int) < 330) (gd ((0 : Int) ≤ v35 ∧ (v35 : Int) < 330) (bd2 (M_two S v4 (S.2 37 (v35 - 1)) (S.2 37 v35)) (fun v40 S41 => gd ((0 : Int) ≤ v35 - 1 ∧ (v35 - 1 : Int) < 330) (nm (aset S41 37 (v35 - 1) v40) (fun S43 => nm ((x6 + 1) : Int) (fun v45 => K9 S43 v35 x5 v45)))))))) else (gd (r32 (v4)) (if v4 < 20 then (nm ((x4 + (-2)) : Int) (fun v49 => gd ((0 : Int) ≤ v49 ∧ (v49 : Int) < 330) (gd ((0 : Int) ≤ v49 + 1 ∧ (v49 + 1 : Int) < 330) (bd (M_isAsked v4 (S.2 37 v49) (S.2 37 (v49 + 1))) (fun v54 => gd ((0 : Int) ≤ x5 ∧ (x5 : Int) < 330) (nm (aset S 38 x5 (bz v54)) (fun S56 => nm ((x5 + 1) : Int) (fun v58 => nm ((x6 + 1) : Int) (fun v60 => K9 S56 v49 v58 v60))))))))) else (gd (r32 (v4)) (if v4 = 20 then (gd ((0 : Int) ≤ x5 - 1 ∧ (x5 - 1 : Int) < 330) (gd (r32 (S.2 38 (x5 - 1))) (if (S.2 38 (x5 - 1)) = 0 then (M_work_B229 K9 S x1 x3 x4 x5 x6 (1 : Int) (x5 - 1)) else (M_work_B229 K9 S x1 x3 x4 x5 x6 (0 : Int) (x5 - 1))))) else (nm ((x5 + (-1)) : Int) (fun v73 => gd (r32 (v4)) (if v4 = 21 then (gd ((0 : Int) ≤ v73 - 1 ∧ (v73 - 1 : Int) < 330) (gd (r32 (S.2 38 (v73 - 1))) (if (S.2 38 (v73 - 1)) = 0 then (M_work_B277 K9 S x1 x3 x4 v73 x6 (v73 - 1)) else (gd ((0 : Int) ≤ v73 ∧ (v73 : Int) < 330) (gd (r32 (S.2 38 v73)) (if (S.2 38 v73) = 0 then (M_work_B277 K9 S x1 x3 x4 v73 x6 (v73 - 1)) else (M_work_B308 K9 S x1 x3 x4 v73 x6 (1 : Int) (v73 - 1)))))))) else (gd ((0 : Int) ≤ v73 - 1 ∧ (v73 - 1 : Int) < 330) (gd (r32 (S.2 38 (v73 - 1))) (if (S.2 38 (v73 - 1)) = 0 then (gd ((0 : Int) ≤ v73 ∧ (v73 : Int) < 330) (gd (r32 (S.2 38 v73)) (if (S.2 38 v73) = 0 then (M_work_B308 K9 S x1 x3 x4 v73 x6 (0 : Int) (v73 - 1)) else (M_work_B303 K9 S x1 x3 x4 v73 x6 (v73 - 1))))) else (M_work_B303 K9 S x1 x3 x4 v73 x6 (v73 - 1)))))))))))))))) else (M_work_B56 K9 S x1 x3 x4 x5 x6 v4 v7))))))))) else (some S))
def M_work_L9 (x1 : Int) (x3 : Int) : Nat → xS → Int → Int → Int → Option xS
  | 0 => fun _ _ _ _ => none
  | n + 1 => fun S x4 x5 x6 => M_work_b9 x1 x3 (M_work_L9 x1 x3 n) S x4 x5 x6
def M_work (S : xS) (x1 : Int) (x2 : Int) (x3 : Int) : Option xS := M_work_L9 x1 x3 FU S (0 : Int) (0 : Int) x2
set_option maxHeartbeats 4000000 in
theorem wM_work (l : Launch) (DM : va_G) (dA : Nat → ClassId) (h : Nat) (S : xS) (x1 x2 x3 : Int) {S1 : xS} (hh : M_work S x1 x2 x3 = some S1) : mt_v l yX5_work cX5_work 9 ({ frames := 3, cells := 0, slots := 0, locals := 59 } : Room) DM dA h [.int (zi x1), .int (zi x2), .int (zi x3)] S S1 := by
  refine mo_v (by decide) rfl (Nat.le_of_ble_eq_true rfl) ?_
  intro p e s m args below meth c Q ls X hret hl hM
  have hx := X.1.1
  have hb := X.1.2.1
  have hown := X.1.2.2.2.1
  have hts := X.1.2.2.2.2
  skip
  have hB56 : ∀ (x1 : Int) (x3 : Int) (x4 : Int) (x5 : Int) (x6 : Int) (x7 : Int) (x8 : Int) (K9 : xS → Int → Int → Int → Option xS) (hK9 : (∀ (S : xS) (x4 : Int) (x5 : Int) (x6 : Int), K9 S x4 x5 x6 = some S1 → ∀ (H : Heap) (locs : List Loc) (ls : Array Slot), MX DM dA h S s H locs → lv_has ls 9 [(0, .ref (h)), (1, .int (zi (x1))), (3, .int (zi (x3))), (4, .int (zi (x4))), (5, .int (zi (x5))), (6, .int (zi (x6)))] → W p l e ({ frames := 3, cells := 0, slots := 0, locals := 59 } : Room) s m args below meth c H locs 0 0 Q (F0 m 9 ls []))) (S : xS), M_work_B56 K9 S x1 x3 x4 x5 x6 x7 x8 = some S1 → ∀ (H : Heap) (locs : List Loc) (ls : Array Slot), MX DM dA h S s H locs → lv_has ls 9 [(0, .ref (h)), (1, .int (zi (x1))), (3, .int (zi (x3))), (4, .int (zi (x4))), (5, .int (zi (x5))), (6, .int (zi (x6))), (7, .int (zi (x7))), (8, .int (zi (x8)))] → W p l e ({ frames := 3, cells := 0, slots := 0, locals := 59 } : Room) s m args below meth c H locs 0 0 Q (F0 m 56 ls []) := by
    intro x1 x3 x4 x5 x6 x7 x8 K9 hK9 S hh H locs ls hM hl
    unfold M_work_B56 at hh
    refine lv_aload_n hx hb dX5_work_56 rfl (lv_at hl 0 rfl) ?_
    refine mm_get X hM q1211 (mf_37 _ _) dX5_work_57 ?_
    refine lv_iload hx hb dX5_work_60 (lv_at hl 3 rfl) ?_
    refine lv_aload_n hx hb dX5_work_62 rfl (lv_at hl 0 rfl) ?_
    refine lv_aload_n hx hb dX5_work_63 rfl (lv_at hl 0 rfl) ?_
    refine lv_iload hx hb dX5_work_64 (lv_at hl 6 rfl) ?_
    refine lv_iload hx hb dX5_work_66 (lv_at hl 7 rfl) ?_
    obtain ⟨v12, k11, hh⟩ := bd_inv hh
    refine mc_l (rest := [.ref (h), .int (zi (x4)), .ref (h + 12)]) X hM (wM_valueOf l DM dA h S x7 x8 k11) c5_valueOf.1 c5_valueOf.2 ⟨rfl, rfl⟩ ⟨Nat.le_of_ble_eq_true rfl, Nat.le_of_ble_eq_true rfl⟩ ⟨Nat.zero_le _, Nat.zero_le _⟩ hl.1 (Nat.le_of_ble_eq_true rfl) dX5_work_68 rfl (fun H locs hM => ?_)
    obtain ⟨v14, S15, k13, hh⟩ := bd2_inv hh
    refine mc_l (rest := [.int (zi (x4)), .ref (h + 12)]) X hM (wM_bring l DM dA h S v12 k13) c5_bring.1 c5_bring.2 ⟨rfl, rfl⟩ ⟨Nat.le_of_ble_eq_true rfl, Nat.le_of_ble_eq_true rfl⟩ ⟨Nat.zero_le _, Nat.zero_le _⟩ hl.1 (Nat.le_of_ble_eq_true rfl) dX5_work_71 rfl (fun H locs hM => ?_)
    obtain ⟨g16, hh⟩ := gd_inv hh
    refine mm_last X hM (ma_37 _ _) g16 dX5_work_74 (fun H locs S17 e18 hM => ?_)
    replace hh := nm_inv hh S17 e18
    obtain ⟨v19, e20⟩ : ∃ z : Int, z = x4 + 1 := ⟨_, rfl⟩
    replace hh := nm_inv hh v19 e20
    refine lv_iinc (v := zi v19) (lv' := [(4, .int (zi (v19))), (0, .ref (h)), (1, .int (zi (x1))), (3, .int (zi (x3))), (5, .int (zi (x5))), (6, .int (zi (x6))), (7, .int (zi (x7))), (8, .int (zi (x8)))]) hx hb dX5_work_75 hl (k := 3) rfl (by rw [e20]; exact zi_add _ _) (by decide) rfl (fun ls hl => ?_)
    refine lv_goto (tgt := 309) hx hb dX5_work_78 (by decide) ?_
    obtain ⟨v21, e22⟩ : ∃ z : Int, z = x6 + 1 := ⟨_, rfl⟩
    replace hh := nm_inv hh v21 e22
    refine lv_iinc (v := zi v21) (lv' := [(6, .int (zi (v21))), (4, .int (zi (v19))), (0, .ref (h)), (1, .int (zi (x1))), (3, .int (zi (x3))), (5, .int (zi (x5))), (7, .int (zi (x7))), (8, .int (zi (x8)))]) hx hb dX5_work_309 hl (k := 5) rfl (by rw [e22]; exact zi_add _ _) (by decide) rfl (fun ls hl => ?_)
    refine lv_goto (tgt := 9) hx hb dX5_work_312 (by decide) ?_
    exact hK9 S17 v19 x5 v21 hh _ _ _ hM (lv_sub hl [2, 3, 4, 1, 5, 0] rfl)
  have hB229 : ∀ (x1 : Int) (x3 : Int) (x4 : Int) (x5 : Int) (x6 : Int) (t0 : Int) (t1 : Int) (K9 : xS → Int → Int → Int → Option xS) (hK9 : (∀ (S : xS) (x4 : Int) (x5 : Int) (x6 : Int), K9 S x4 x5 x6 = some S1 → ∀ (H : Heap) (locs : List Loc) (ls : Array Slot), MX DM dA h S s H locs → lv_has ls 9 [(0, .ref (h)), (1, .int (zi (x1))), (3, .int (zi (x3))), (4, .int (zi (x4))), (5, .int (zi (x5))), (6, .int (zi (x6)))] → W p l e ({ frames := 3, cells := 0, slots := 0, locals := 59 } : Room) s m args below meth c H locs 0 0 Q (F0 m 9 ls []))) (S : xS), M_work_B229 K9 S x1 x3 x4 x5 x6 t0 t1 = some S1 → ∀ (H : Heap) (locs : List Loc) (ls : Array Slot), MX DM dA h S s H locs → lv_has ls 9 [(0, .ref (h)), (1, .int (zi (x1))), (3, .int (zi (x3))), (4, .int (zi (x4))), (5, .int (zi (x5))), (6, .int (zi (x6)))] → W p l e ({ frames := 3, cells := 0, slots := 0, locals := 59 } : Room) s m args below meth c H locs 0 0 Q (F0 m 229 ls [.int (zi (t0)), .int (zi (t1)), .ref (h + 13)]) := by
    intro x1 x3 x4 x5 x6 t0 t1 K9 hK9 S hh H locs ls hM hl
    unfold M_work_B229 at hh
    obtain ⟨g67, hh⟩ := gd_inv hh
    obtain ⟨g68, hh⟩ := gd_inv hh
    refine mm_zast X hM (ma_38 _ _) g67 g68 dX5_work_229 (fun H locs S69 e70 hM => ?_)
    replace hh := nm_inv hh S69 e70
    refine lv_goto (tgt := 309) hx hb dX5_work_230 (by decide) ?_
    obtain ⟨v71, e72⟩ : ∃ z : Int, z = x6 + 1 := ⟨_, rfl⟩
    replace hh := nm_inv hh v71 e72
    refine lv_iinc (v := zi v71) (lv' := [(6, .int (zi (v71))), (0, .ref (h)), (1, .int (zi (x1))), (3, .int (zi (x3))), (4, .int (zi (x4))), (5, .int (zi (x5)))]) hx hb dX5_work_309 hl (k := 5) rfl (by rw [e72]; exact zi_add _ _) (by decide) rfl (fun ls hl => ?_)
    refine lv_goto (tgt := 9) hx hb dX5_work_312 (by decide) ?_
    exact hK9 S69 x4 x5 v71 hh _ _ _ hM (lv_sub hl [1, 2, 3, 4, 5, 0] rfl)
  have hB308 : ∀ (x1 : Int) (x3 : Int) (x4 : Int) (x5 : Int) (x6 : Int) (t0 : Int) (t1 : Int) (K9 : xS → Int → Int → Int → Option xS) (hK9 : (∀ (S : xS) (x4 : Int) (x5 : Int) (x6 : Int), K9 S x4 x5 x6 = some S1 → ∀ (H : Heap) (locs : List Loc) (ls : Array Slot), MX DM dA h S s H locs → lv_has ls 9 [(0, .ref (h)), (1, .int (zi (x1))), (3, .int (zi (x3))), (4, .int (zi (x4))), (5, .int (zi (x5))), (6, .int (zi (x6)))] → W p l e ({ frames := 3, cells := 0, slots := 0, locals := 59 } : Room) s m args below meth c H locs 0 0 Q (F0 m 9 ls []))) (S : xS), M_work_B308 K9 S x1 x3 x4 x5 x6 t0 t1 = some S1 → ∀ (H : Heap) (locs : List Loc) (ls : Array Slot), MX DM dA h S s H locs → lv_has ls 9 [(0, .ref (h)), (1, .int (zi (x1))), (3, .int (zi (x3))), (4, .int (zi (x4))), (5, .int (zi (x5))), (6, .int (zi (x6)))] → W p l e ({ frames := 3, cells := 0, slots := 0, locals := 59 } : Room) s m args below meth c H locs 0 0 Q (F0 m 308 ls [.int (zi (t0)), .int (zi (t1)), .ref (h + 13)]) := by
    intro x1 x3 x4 x5 x6 t0 t1 K9 hK9 S hh H locs ls hM hl
    unfold M_work_B308 at hh
    obtain ⟨g80, hh⟩ := gd_inv hh
    obtain ⟨g81, hh⟩ := gd_inv hh
    refine mm_zast X hM (ma_38 _ _) g80 g81 dX5_work_308 (fun H locs S82 e83 hM => ?_)
    replace hh := nm_inv hh S82 e83
    obtain ⟨v84, e85⟩ : ∃ z : Int, z = x6 + 1 := ⟨_, rfl⟩
    replace hh := nm_inv hh v84 e85
    refine lv_iinc (v := zi v84) (lv' := [(6, .int (zi (v84))), (0, .ref (h)), (1, .int (zi (x1))), (3, .int (zi (x3))), (4, .int (zi (x4))), (5, .int (zi (x5)))]) hx hb dX5_work_309 hl (k := 5) rfl (by rw [e85]; exact zi_add _ _) (by decide) rfl (fun ls hl => ?_)
    refine lv_goto (tgt := 9) hx hb dX5_work_312 (by decide) ?_
    exact hK9 S82 x4 x5 v84 hh _ _ _ hM (lv_sub hl [1, 2, 3, 4, 5, 0] rfl)
  have hB277 : ∀ (x1 : Int) (x3 : Int) (x4 : Int) (x5 : Int) (x6 : Int) (t0 : Int) (K9 : xS → Int → Int → Int → Option xS) (hK9 : (∀ (S : xS) (x4 : Int) (x5 : Int) (x6 : Int), K9 S x4 x5 x6 = some S1 → ∀ (H : Heap) (locs : List Loc) (ls : Array Slot), MX DM dA h S s H locs → lv_has ls 9 [(0, .ref (h)), (1, .int (zi (x1))), (3, .int (zi (x3))), (4, .int (zi (x4))), (5, .int (zi (x5))), (6, .int (zi (x6)))] → W p l e ({ frames := 3, cells := 0, slots := 0, locals := 59 } : Room) s m args below meth c H locs 0 0 Q (F0 m 9 ls []))) (S : xS), M_work_B277 K9 S x1 x3 x4 x5 x6 t0 = some S1 → ∀ (H : Heap) (locs : List Loc) (ls : Array Slot), MX DM dA h S s H locs → lv_has ls 9 [(0, .ref (h)), (1, .int (zi (x1))), (3, .int (zi (x3))), (4, .int (zi (x4))), (5, .int (zi (x5))), (6, .int (zi (x6)))] → W p l e ({ frames := 3, cells := 0, slots := 0, locals := 59 } : Room) s m args below meth c H locs 0 0 Q (F0 m 277 ls [.int (zi (t0)), .ref (h + 13)]) := by
    intro x1 x3 x4 x5 x6 t0 K9 hK9 S hh H locs ls hM hl
    unfold M_work_B277 at hh
    refine lv_iconst (v := zi 0) hx hb dX5_work_277 rfl ?_
    refine lv_goto (tgt := 308) hx hb dX5_work_278 (by decide) ?_
    exact hB308 x1 x3 x4 x5 x6 (0 : Int) t0 _ hK9 S hh _ _ _ hM (lv_sub hl [0, 1, 2, 3, 4, 5] rfl)
  have hB303 : ∀ (x1 : Int) (x3 : Int) (x4 : Int) (x5 : Int) (x6 : Int) (t0 : Int) (K9 : xS → Int → Int → Int → Option xS) (hK9 : (∀ (S : xS) (x4 : Int) (x5 : Int) (x6 : Int), K9 S x4 x5 x6 = some S1 → ∀ (H : Heap) (locs : List Loc) (ls : Array Slot), MX DM dA h S s H locs → lv_has ls 9 [(0, .ref (h)), (1, .int (zi (x1))), (3, .int (zi (x3))), (4, .int (zi (x4))), (5, .int (zi (x5))), (6, .int (zi (x6)))] → W p l e ({ frames := 3, cells := 0, slots := 0, locals := 59 } : Room) s m args below meth c H locs 0 0 Q (F0 m 9 ls []))) (S : xS), M_work_B303 K9 S x1 x3 x4 x5 x6 t0 = some S1 → ∀ (H : Heap) (locs : List Loc) (ls : Array Slot), MX DM dA h S s H locs → lv_has ls 9 [(0, .ref (h)), (1, .int (zi (x1))), (3, .int (zi (x3))), (4, .int (zi (x4))), (5, .int (zi (x5))), (6, .int (zi (x6)))] → W p l e ({ frames := 3, cells := 0, slots := 0, locals := 59 } : Room) s m args below meth c H locs 0 0 Q (F0 m 303 ls [.int (zi (t0)), .ref (h + 13)]) := by
    intro x1 x3 x4 x5 x6 t0 K9 hK9 S hh H locs ls hM hl
    unfold M_work_B303 at hh
    refine lv_iconst (v := zi 1) hx hb dX5_work_303 rfl ?_
    refine lv_goto (tgt := 308) hx hb dX5_work_304 (by decide) ?_
    exact hB308 x1 x3 x4 x5 x6 (1 : Int) t0 _ hK9 S hh _ _ _ hM (lv_sub hl [0, 1, 2, 3, 4, 5] rfl)
  have hL9 : ∀ (x1 : Int) (x3 : Int) (n : Nat) (S : xS) (x4 : Int) (x5 : Int) (x6 : Int), M_work_L9 x1 x3 n S x4 x5 x6 = some S1 → ∀ (H : Heap) (locs : List Loc) (ls : Array Slot), MX DM dA h S s H locs → lv_has ls 9 [(0, .ref (h)), (1, .int (zi (x1))), (3, .int (zi (x3))), (4, .int (zi (x4))), (5, .int (zi (x5))), (6, .int (zi (x6)))] → W p l e ({ frames := 3, cells := 0, slots := 0, locals := 59 } : Room) s m args below meth c H locs 0 0 Q (F0 m 9 ls []) := by
    intro x1 x3  n
    induction n with
    | zero => intro S x4 x5 x6 hh; exact no_some hh
    | succ n ih =>
      intro S x4 x5 x6 hh H locs ls hM hl
      replace hh : M_work_b9 x1 x3 (M_work_L9 x1 x3 n) S x4 x5 x6 = some S1 := hh
      unfold M_work_b9 at hh
      have hK9 := ih
      refine lv_iload hx hb dX5_work_9 (lv_at hl 5 rfl) ?_
      refine lv_iload_n hx hb dX5_work_11 rfl (lv_at hl 2 rfl) ?_
      obtain ⟨g2, hh⟩ := gd_inv hh
      refine g_icmp_ge (tgt := 315) hx hb g2 dX5_work_12 (by decide) (fun c1 => ?_) (fun c1 => ?_)
      · replace hh := it_t c1 hh
        refine lv_aload_n hx hb dX5_work_15 rfl (lv_at hl 0 rfl) ?_
        refine mm_get X hM q1178 (mf_4 _ _) dX5_work_16 ?_
        refine lv_iload_n hx hb dX5_work_19 rfl (lv_at hl 1 rfl) ?_
        refine lv_iconst (v := zi 2) hx hb dX5_work_20 rfl ?_
        refine lv_iload hx hb dX5_work_21 (lv_at hl 5 rfl) ?_
        refine g_imul hx hb dX5_work_23 ?_
        refine g_iadd hx hb dX5_work_24 ?_
        obtain ⟨g3, hh⟩ := gd_inv hh
        refine mm_iald X hM (ma_4 _ _) g3 dX5_work_25 ?_
        refine g_nmi hx hb (fun v4 e5 => ?_)
        replace hh := nm_inv hh v4 e5
        refine lv_istore (lv' := [(7, .int (zi (v4))), (0, .ref (h)), (1, .int (zi (x1))), (3, .int (zi (x3))), (4, .int (zi (x4))), (5, .int (zi (x5))), (6, .int (zi (x6)))]) hx hb dX5_work_26 hl (by decide) rfl (fun ls hl => ?_)
        refine lv_aload_n hx hb dX5_work_28 rfl (lv_at hl 1 rfl) ?_
        refine mm_get X hM q1178 (mf_4 _ _) dX5_work_29 ?_
        refine lv_iload_n hx hb dX5_work_32 rfl (lv_at hl 2 rfl) ?_
        refine lv_iconst (v := zi 2) hx hb dX5_work_33 rfl ?_
        refine lv_iload hx hb dX5_work_34 (lv_at hl 6 rfl) ?_
        refine g_imul hx hb dX5_work_36 ?_
        refine g_iadd hx hb dX5_work_37 ?_
        refine lv_iconst (v := zi 1) hx hb dX5_work_38 rfl ?_
        refine g_iadd hx hb dX5_work_39 ?_
        obtain ⟨g6, hh⟩ := gd_inv hh
        refine mm_iald X hM (ma_4 _ _) g6 dX5_work_40 ?_
        refine g_nmi hx hb (fun v7 e8 => ?_)
        replace hh := nm_inv hh v7 e8
        refine lv_istore (lv' := [(8, .int (zi (v7))), (7, .int (zi (v4))), (0, .ref (h)), (1, .int (zi (x1))), (3, .int (zi (x3))), (4, .int (zi (x4))), (5, .int (zi (x5))), (6, .int (zi (x6)))]) hx hb dX5_work_41 hl (by decide) rfl (fun ls hl => ?_)
        refine lv_iload hx hb dX5_work_43 (lv_at hl 1 rfl) ?_
        refine lv_iconst (v := zi 1) hx hb dX5_work_45 rfl ?_
        obtain ⟨g10, hh⟩ := gd_inv hh
        refine g_icmp_le (tgt := 56) hx hb ⟨g10, by decide⟩ dX5_work_46 (by decide) (fun c9 => ?_) (fun c9 => ?_)
        · replace hh := it_t c9 hh
          exact hB56 x1 x3 x4 x5 x6 v4 v7 _ hK9 S hh _ _ _ hM (lv_sub hl [2, 3, 4, 5, 6, 7, 1, 0] rfl)
        · replace hh := it_f c9 hh
          refine lv_iload hx hb dX5_work_49 (lv_at hl 1 rfl) ?_
          refine lv_bipush (v := zi 30) hx hb dX5_work_51 (by decide) ?_
          obtain ⟨g24, hh⟩ := gd_inv hh
          refine g_icmp_lt (tgt := 81) hx hb ⟨g24, by decide⟩ dX5_work_53 (by decide) (fun c23 => ?_) (fun c23 => ?_)
          · replace hh := it_t c23 hh
            refine lv_iload hx hb dX5_work_81 (lv_at hl 1 rfl) ?_
            refine lv_iconst (v := zi 2) hx hb dX5_work_83 rfl ?_
            obtain ⟨g26, hh⟩ := gd_inv hh
            refine g_icmp_ne (tgt := 109) hx hb ⟨g26, by decide⟩ dX5_work_84 (by decide) (fun c25 => ?_) (fun c25 => ?_)
            · replace hh := it_t c25 hh
              refine lv_aload_n hx hb dX5_work_87 rfl (lv_at hl 2 rfl) ?_
              refine mm_get X hM q1211 (mf_37 _ _) dX5_work_88 ?_
              refine lv_iload hx hb dX5_work_91 (lv_at hl 5 rfl) ?_
              refine lv_iconst (v := zi 1) hx hb dX5_work_93 rfl ?_
              refine g_isub hx hb dX5_work_94 ?_
              refine lv_aload_n hx hb dX5_work_95 rfl (lv_at hl 2 rfl) ?_
              refine mm_get X hM q1211 (mf_37 _ _) dX5_work_96 ?_
              refine lv_iload hx hb dX5_work_99 (lv_at hl 5 rfl) ?_
              refine lv_iconst (v := zi 1) hx hb dX5_work_101 rfl ?_
              refine g_isub hx hb dX5_work_102 ?_
              obtain ⟨g27, hh⟩ := gd_inv hh
              refine mm_lald X hM (ma_37 _ _) g27 dX5_work_103 ?_
              refine g_lneg hx hb dX5_work_104 ?_
              obtain ⟨g28, hh⟩ := gd_inv hh
              refine mm_last X hM (ma_37 _ _) g28 dX5_work_105 (fun H locs S29 e30 hM => ?_)
              replace hh := nm_inv hh S29 e30
              refine lv_goto (tgt := 309) hx hb dX5_work_106 (by decide) ?_
              obtain ⟨v31, e32⟩ : ∃ z : Int, z = x6 + 1 := ⟨_, rfl⟩
              replace hh := nm_inv hh v31 e32
              refine lv_iinc (v := zi v31) (lv' := [(6, .int (zi (v31))), (8, .int (zi (v7))), (7, .int (zi (v4))), (0, .ref (h)), (1, .int (zi (x1))), (3, .int (zi (x3))), (4, .int (zi (x4))), (5, .int (zi (x5)))]) hx hb dX5_work_309 hl (k := 7) rfl (by rw [e32]; exact zi_add _ _) (by decide) rfl (fun ls hl => ?_)
              refine lv_goto (tgt := 9) hx hb dX5_work_312 (by decide) ?_
              exact hK9 S29 x4 x5 v31 hh _ _ _ hM (lv_sub hl [3, 4, 5, 6, 7, 0] rfl)
            · replace hh := it_f c25 hh
              refine lv_iload hx hb dX5_work_109 (lv_at hl 1 rfl) ?_
              refine lv_bipush (v := zi 10) hx hb dX5_work_111 (by decide) ?_
              obtain ⟨g34, hh⟩ := gd_inv hh
              refine g_icmp_ge (tgt := 153) hx hb ⟨g34, by decide⟩ dX5_work_113 (by decide) (fun c33 => ?_) (fun c33 => ?_)
              · replace hh := it_t c33 hh
                obtain ⟨v35, e36⟩ : ∃ z : Int, z = x4 + (-1) := ⟨_, rfl⟩
                replace hh := nm_inv hh v35 e36
                refine lv_iinc (v := zi v35) (lv' := [(4, .int (zi (v35))), (8, .int (zi (v7))), (7, .int (zi (v4))), (0, .ref (h)), (1, .int (zi (x1))), (3, .int (zi (x3))), (5, .int (zi (x5))), (6, .int (zi (x6)))]) hx hb dX5_work_116 hl (k := 5) rfl (by rw [e36]; exact zi_add _ _) (by decide) rfl (fun ls hl => ?_)
                refine lv_aload_n hx hb dX5_work_119 rfl (lv_at hl 3 rfl) ?_
                refine mm_get X hM q1211 (mf_37 _ _) dX5_work_120 ?_
                refine lv_iload hx hb dX5_work_123 (lv_at hl 0 rfl) ?_
                refine lv_iconst (v := zi 1) hx hb dX5_work_125 rfl ?_
                refine g_isub hx hb dX5_work_126 ?_
                refine lv_aload_n hx hb dX5_work_127 rfl (lv_at hl 3 rfl) ?_
                refine lv_iload hx hb dX5_work_128 (lv_at hl 2 rfl) ?_
                refine lv_aload_n hx hb dX5_work_130 rfl (lv_at hl 3 rfl) ?_
                refine mm_get X hM q1211 (mf_37 _ _) dX5_work_131 ?_
                refine lv_iload hx hb dX5_work_134 (lv_at hl 0 rfl) ?_
                refine lv_iconst (v := zi 1) hx hb dX5_work_136 rfl ?_
                refine g_isub hx hb dX5_work_137 ?_
                obtain ⟨g37, hh⟩ := gd_inv hh
                refine mm_lald X hM (ma_37 _ _) g37 dX5_work_138 ?_
                refine lv_aload_n hx hb dX5_work_139 rfl (lv_at hl 3 rfl) ?_
                refine mm_get X hM q1211 (mf_37 _ _) dX5_work_140 ?_
                refine lv_iload hx hb dX5_work_143 (lv_at hl 0 rfl) ?_
                obtain ⟨g38, hh⟩ := gd_inv hh
                refine mm_lald X hM (ma_37 _ _) g38 dX5_work_145 ?_
                obtain ⟨v40, S41, k39, hh⟩ := bd2_inv hh
                refine mc_l (rest := [.int (zi (v35 - 1)), .ref (h + 12)]) X hM (wM_two l DM dA h S v4 (S.2 37 (v35 - 1)) (S.2 37 v35) k39) c5_two.1 c5_two.2 ⟨rfl, rfl⟩ ⟨Nat.le_of_ble_eq_true rfl, Nat.le_of_ble_eq_true rfl⟩ ⟨Nat.zero_le _, Nat.zero_le _⟩ hl.1 (Nat.le_of_ble_eq_true rfl) dX5_work_146 rfl (fun H locs hM => ?_)
                obtain ⟨g42, hh⟩ := gd_inv hh
                refine mm_last X hM (ma_37 _ _) g42 dX5_work_149 (fun H locs S43 e44 hM => ?_)
                replace hh := nm_inv hh S43 e44
                refine lv_goto (tgt := 309) hx hb dX5_work_150 (by decide) ?_
                obtain ⟨v45, e46⟩ : ∃ z : Int, z = x6 + 1 := ⟨_, rfl⟩
                replace hh := nm_inv hh v45 e46
                refine lv_iinc (v := zi v45) (lv' := [(6, .int (zi (v45))), (4, .int (zi (v35))), (8, .int (zi (v7))), (7, .int (zi (v4))), (0, .ref (h)), (1, .int (zi (x1))), (3, .int (zi (x3))), (5, .int (zi (x5)))]) hx hb dX5_work_309 hl (k := 7) rfl (by rw [e46]; exact zi_add _ _) (by decide) rfl (fun ls hl => ?_)
                refine lv_goto (tgt := 9) hx hb dX5_work_312 (by decide) ?_
                exact hK9 S43 v35 x5 v45 hh _ _ _ hM (lv_sub hl [4, 5, 6, 1, 7, 0] rfl)
              · replace hh := it_f c33 hh
                refine lv_iload hx hb dX5_work_153 (lv_at hl 1 rfl) ?_
                refine lv_bipush (v := zi 20) hx hb dX5_work_155 (by decide) ?_
                obtain ⟨g48, hh⟩ := gd_inv hh
                refine g_icmp_ge (tgt := 197) hx hb ⟨g48, by decide⟩ dX5_work_157 (by decide) (fun c47 => ?_) (fun c47 => ?_)
                · replace hh := it_t c47 hh
                  obtain ⟨v49, e50⟩ : ∃ z : Int, z = x4 + (-2) := ⟨_, rfl⟩
                  replace hh := nm_inv hh v49 e50
                  refine lv_iinc (v := zi v49) (lv' := [(4, .int (zi (v49))), (8, .int (zi (v7))), (7, .int (zi (v4))), (0, .ref (h)), (1, .int (zi (x1))), (3, .int (zi (x3))), (5, .int (zi (x5))), (6, .int (zi (x6)))]) hx hb dX5_work_160 hl (k := 5) rfl (by rw [e50]; exact zi_add _ _) (by decide) rfl (fun ls hl => ?_)
                  refine lv_aload_n hx hb dX5_work_163 rfl (lv_at hl 3 rfl) ?_
                  refine mm_get X hM q1212 (mf_38 _ _) dX5_work_164 ?_
                  refine lv_iload hx hb dX5_work_167 (lv_at hl 6 rfl) ?_
                  refine lv_iload hx hb dX5_work_169 (lv_at hl 2 rfl) ?_
                  refine lv_aload_n hx hb dX5_work_171 rfl (lv_at hl 3 rfl) ?_
                  refine mm_get X hM q1211 (mf_37 _ _) dX5_work_172 ?_
                  refine lv_iload hx hb dX5_work_175 (lv_at hl 0 rfl) ?_
                  obtain ⟨g51, hh⟩ := gd_inv hh
                  refine mm_lald X hM (ma_37 _ _) g51 dX5_work_177 ?_
                  refine lv_aload_n hx hb dX5_work_178 rfl (lv_at hl 3 rfl) ?_
                  refine mm_get X hM q1211 (mf_37 _ _) dX5_work_179 ?_
                  refine lv_iload hx hb dX5_work_182 (lv_at hl 0 rfl) ?_
                  refine lv_iconst (v := zi 1) hx hb dX5_work_184 rfl ?_
                  refine g_iadd hx hb dX5_work_185 ?_
                  obtain ⟨g52, hh⟩ := gd_inv hh
                  refine mm_lald X hM (ma_37 _ _) g52 dX5_work_186 ?_
                  obtain ⟨v54, k53, hh⟩ := bd_inv hh
                  refine mcs_z (rest := [.int (zi (x5)), .ref (h + 13)]) X hM (wM_isAsked l v4 (S.2 37 v49) (S.2 37 (v49 + 1)) k53) c5_isAsked.1 c5_isAsked.2 ⟨rfl, rfl⟩ ⟨Nat.le_of_ble_eq_true rfl, Nat.le_of_ble_eq_true rfl⟩ ⟨Nat.zero_le _, Nat.zero_le _⟩ hl.1 (Nat.le_of_ble_eq_true rfl) dX5_work_187 rfl (fun H locs hM => ?_)
                  obtain ⟨g55, hh⟩ := gd_inv hh
                  refine mm_zast X hM (ma_38 _ _) g55 (bz_01 v54) dX5_work_190 (fun H locs S56 e57 hM => ?_)
                  replace hh := nm_inv hh S56 e57
                  obtain ⟨v58, e59⟩ : ∃ z : Int, z = x5 + 1 := ⟨_, rfl⟩
                  replace hh := nm_inv hh v58 e59
                  refine lv_iinc (v := zi v58) (lv' := [(5, .int (zi (v58))), (4, .int (zi (v49))), (8, .int (zi (v7))), (7, .int (zi (v4))), (0, .ref (h)), (1, .int (zi (x1))), (3, .int (zi (x3))), (6, .int (zi (x6)))]) hx hb dX5_work_191 hl (k := 6) rfl (by rw [e59]; exact zi_add _ _) (by decide) rfl (fun ls hl => ?_)
                  refine lv_goto (tgt := 309) hx hb dX5_work_194 (by decide) ?_
                  obtain ⟨v60, e61⟩ : ∃ z : Int, z = x6 + 1 := ⟨_, rfl⟩
                  replace hh := nm_inv hh v60 e61
                  refine lv_iinc (v := zi v60) (lv' := [(6, .int (zi (v60))), (5, .int (zi (v58))), (4, .int (zi (v49))), (8, .int (zi (v7))), (7, .int (zi (v4))), (0, .ref (h)), (1, .int (zi (x1))), (3, .int (zi (x3)))]) hx hb dX5_work_309 hl (k := 7) rfl (by rw [e61]; exact zi_add _ _) (by decide) rfl (fun ls hl => ?_)
                  refine lv_goto (tgt := 9) hx hb dX5_work_312 (by decide) ?_
                  exact hK9 S56 v49 v58 v60 hh _ _ _ hM (lv_sub hl [5, 6, 7, 2, 1, 0] rfl)
                · replace hh := it_f c47 hh
                  refine lv_iload hx hb dX5_work_197 (lv_at hl 1 rfl) ?_
                  refine lv_bipush (v := zi 20) hx hb dX5_work_199 (by decide) ?_
                  obtain ⟨g63, hh⟩ := gd_inv hh
                  refine g_icmp_ne (tgt := 233) hx hb ⟨g63, by decide⟩ dX5_work_201 (by decide) (fun c62 => ?_) (fun c62 => ?_)
                  · replace hh := it_t c62 hh
                    refine lv_aload_n hx hb dX5_work_204 rfl (lv_at hl 2 rfl) ?_
                    refine mm_get X hM q1212 (mf_38 _ _) dX5_work_205 ?_
                    refine lv_iload hx hb dX5_work_208 (lv_at hl 6 rfl) ?_
                    refine lv_iconst (v := zi 1) hx hb dX5_work_210 rfl ?_
                    refine g_isub hx hb dX5_work_211 ?_
                    refine lv_aload_n hx hb dX5_work_212 rfl (lv_at hl 2 rfl) ?_
                    refine mm_get X hM q1212 (mf_38 _ _) dX5_work_213 ?_
                    refine lv_iload hx hb dX5_work_216 (lv_at hl 6 rfl) ?_
                    refine lv_iconst (v := zi 1) hx hb dX5_work_218 rfl ?_
                    refine g_isub hx hb dX5_work_219 ?_
                    obtain ⟨g64, hh⟩ := gd_inv hh
                    refine mm_zald X hM (ma_38 _ _) g64 dX5_work_220 ?_
                    obtain ⟨g66, hh⟩ := gd_inv hh
                    refine g_if_ne (tgt := 228) hx hb g66 dX5_work_221 (by decide) (fun c65 => ?_) (fun c65 => ?_)
                    · replace hh := it_t c65 hh
                      refine lv_iconst (v := zi 1) hx hb dX5_work_224 rfl ?_
                      refine lv_goto (tgt := 229) hx hb dX5_work_225 (by decide) ?_
                      exact hB229 x1 x3 x4 x5 x6 (1 : Int) (x5 - 1) _ hK9 S hh _ _ _ hM (lv_sub hl [2, 3, 4, 5, 6, 7] rfl)
                    · replace hh := it_f c65 hh
                      refine lv_iconst (v := zi 0) hx hb dX5_work_228 rfl ?_
                      exact hB229 x1 x3 x4 x5 x6 (0 : Int) (x5 - 1) _ hK9 S hh _ _ _ hM (lv_sub hl [2, 3, 4, 5, 6, 7] rfl)
                  · replace hh := it_f c62 hh
                    obtain ⟨v73, e74⟩ : ∃ z : Int, z = x5 + (-1) := ⟨_, rfl⟩
                    replace hh := nm_inv hh v73 e74
                    refine lv_iinc (v := zi v73) (lv' := [(5, .int (zi (v73))), (8, .int (zi (v7))), (7, .int (zi (v4))), (0, .ref (h)), (1, .int (zi (x1))), (3, .int (zi (x3))), (4, .int (zi (x4))), (6, .int (zi (x6)))]) hx hb dX5_work_233 hl (k := 6) rfl (by rw [e74]; exact zi_add _ _) (by decide) rfl (fun ls hl => ?_)
                    refine lv_aload_n hx hb dX5_work_236 rfl (lv_at hl 3 rfl) ?_
                    refine mm_get X hM q1212 (mf_38 _ _) dX5_work_237 ?_
                    refine lv_iload hx hb dX5_work_240 (lv_at hl 0 rfl) ?_
                    refine lv_iconst (v := zi 1) hx hb dX5_work_242 rfl ?_
                    refine g_isub hx hb dX5_work_243 ?_
                    refine lv_iload hx hb dX5_work_244 (lv_at hl 2 rfl) ?_
                    refine lv_bipush (v := zi 21) hx hb dX5_work_246 (by decide) ?_
                    obtain ⟨g76, hh⟩ := gd_inv hh
                    refine g_icmp_ne (tgt := 281) hx hb ⟨g76, by decide⟩ dX5_work_248 (by decide) (fun c75 => ?_) (fun c75 => ?_)
                    · replace hh := it_t c75 hh
                      refine lv_aload_n hx hb dX5_work_251 rfl (lv_at hl 3 rfl) ?_
                      refine mm_get X hM q1212 (mf_38 _ _) dX5_work_252 ?_
                      refine lv_iload hx hb dX5_work_255 (lv_at hl 0 rfl) ?_
                      refine lv_iconst (v := zi 1) hx hb dX5_work_257 rfl ?_
                      refine g_isub hx hb dX5_work_258 ?_
                      obtain ⟨g77, hh⟩ := gd_inv hh
                      refine mm_zald X hM (ma_38 _ _) g77 dX5_work_259 ?_
                      obtain ⟨g79, hh⟩ := gd_inv hh
                      refine g_if_eq (tgt := 277) hx hb g79 dX5_work_260 (by decide) (fun c78 => ?_) (fun c78 => ?_)
                      · replace hh := it_t c78 hh
                        exact hB277 x1 x3 x4 v73 x6 (v73 - 1) _ hK9 S hh _ _ _ hM (lv_sub hl [3, 4, 5, 6, 0, 7] rfl)
                      · replace hh := it_f c78 hh
                        refine lv_aload_n hx hb dX5_work_263 rfl (lv_at hl 3 rfl) ?_
                        refine mm_get X hM q1212 (mf_38 _ _) dX5_work_264 ?_
                        refine lv_iload hx hb dX5_work_267 (lv_at hl 0 rfl) ?_
                        obtain ⟨g86, hh⟩ := gd_inv hh
                        refine mm_zald X hM (ma_38 _ _) g86 dX5_work_269 ?_
                        obtain ⟨g88, hh⟩ := gd_inv hh
                        refine g_if_eq (tgt := 277) hx hb g88 dX5_work_270 (by decide) (fun c87 => ?_) (fun c87 => ?_)
                        · replace hh := it_t c87 hh
                          exact hB277 x1 x3 x4 v73 x6 (v73 - 1) _ hK9 S hh _ _ _ hM (lv_sub hl [3, 4, 5, 6, 0, 7] rfl)
                        · replace hh := it_f c87 hh
                          refine lv_iconst (v := zi 1) hx hb dX5_work_273 rfl ?_
                          refine lv_goto (tgt := 308) hx hb dX5_work_274 (by decide) ?_
                          exact hB308 x1 x3 x4 v73 x6 (1 : Int) (v73 - 1) _ hK9 S hh _ _ _ hM (lv_sub hl [3, 4, 5, 6, 0, 7] rfl)
                    · replace hh := it_f c75 hh
                      refine lv_aload_n hx hb dX5_work_281 rfl (lv_at hl 3 rfl) ?_
                      refine mm_get X hM q1212 (mf_38 _ _) dX5_work_282 ?_
                      refine lv_iload hx hb dX5_work_285 (lv_at hl 0 rfl) ?_
                      refine lv_iconst (v := zi 1) hx hb dX5_work_287 rfl ?_
                      refine g_isub hx hb dX5_work_288 ?_
                      obtain ⟨g89, hh⟩ := gd_inv hh
                      refine mm_zald X hM (ma_38 _ _) g89 dX5_work_289 ?_
                      obtain ⟨g91, hh⟩ := gd_inv hh
                      refine g_if_ne (tgt := 303) hx hb g91 dX5_work_290 (by decide) (fun c90 => ?_) (fun c90 => ?_)
                      · replace hh := it_t c90 hh
                        refine lv_aload_n hx hb dX5_work_293 rfl (lv_at hl 3 rfl) ?_
                        refine mm_get X hM q1212 (mf_38 _ _) dX5_work_294 ?_
                        refine lv_iload hx hb dX5_work_297 (lv_at hl 0 rfl) ?_
                        obtain ⟨g92, hh⟩ := gd_inv hh
                        refine mm_zald X hM (ma_38 _ _) g92 dX5_work_299 ?_
                        obtain ⟨g94, hh⟩ := gd_inv hh
                        refine g_if_eq (tgt := 307) hx hb g94 dX5_work_300 (by decide) (fun c93 => ?_) (fun c93 => ?_)
                        · replace hh := it_t c93 hh
                          refine lv_iconst (v := zi 0) hx hb dX5_work_307 rfl ?_
                          exact hB308 x1 x3 x4 v73 x6 (0 : Int) (v73 - 1) _ hK9 S hh _ _ _ hM (lv_sub hl [3, 4, 5, 6, 0, 7] rfl)
                        · replace hh := it_f c93 hh
                          exact hB303 x1 x3 x4 v73 x6 (v73 - 1) _ hK9 S hh _ _ _ hM (lv_sub hl [3, 4, 5, 6, 0, 7] rfl)
                      · replace hh := it_f c90 hh
                        exact hB303 x1 x3 x4 v73 x6 (v73 - 1) _ hK9 S hh _ _ _ hM (lv_sub hl [3, 4, 5, 6, 0, 7] rfl)
          · replace hh := it_f c23 hh
            exact hB56 x1 x3 x4 x5 x6 v4 v7 _ hK9 S hh _ _ _ hM (lv_sub hl [2, 3, 4, 5, 6, 7, 1, 0] rfl)
      · replace hh := it_f c1 hh
        exact hret _ _ _ _ _ (rt0 hh) dX5_work_315 hM
  replace hl : lv_has ls 9 [(0, .ref (h)), (1, .int (zi (x1))), (2, .int (zi (x2))), (3, .int (zi (x3)))] := hl
  unfold M_work at hh
  refine lv_iconst (v := zi 0) hx hb dX5_work_0 rfl ?_
  refine lv_istore (lv' := [(4, .int (zi (0))), (0, .ref (h)), (1, .int (zi (x1))), (2, .int (zi (x2))), (3, .int (zi (x3)))]) hx hb dX5_work_1 hl (by decide) rfl (fun ls hl => ?_)
  refine lv_iconst (v := zi 0) hx hb dX5_work_3 rfl ?_
  refine lv_istore (lv' := [(5, .int (zi (0))), (4, .int (zi (0))), (0, .ref (h)), (1, .int (zi (x1))), (2, .int (zi (x2))), (3, .int (zi (x3)))]) hx hb dX5_work_4 hl (by decide) rfl (fun ls hl => ?_)
  refine lv_iload_n hx hb dX5_work_6 rfl (lv_at hl 4 rfl) ?_
  refine lv_istore (lv' := [(6, .int (zi (x2))), (5, .int (zi (0))), (4, .int (zi (0))), (0, .ref (h)), (1, .int (zi (x1))), (2, .int (zi (x2))), (3, .int (zi (x3)))]) hx hb dX5_work_7 hl (by decide) rfl (fun ls hl => ?_)
  exact hL9 x1 x3 FU S (0 : Int) (0 : Int) x2 hh _ _ _ hM (lv_sub hl [3, 4, 6, 2, 1, 0] rfl)
def M_think_B213 (K21 : xS → Int → Int → Option (Bool × xS)) (S : xS) (x2 : Int) (x3 : Int) (x4 : Int) (x5 : Int) : Option (Bool × xS) := gd ((0 : Int) ≤ x5 ∧ (x5 : Int) < 6400) (gd (r32 (S.2 4 x5)) (if (S.2 4 x5) = 4 then (nm (S.2 38 0) (fun v40 => nm ((x4 + 1) : Int) (fun v42 => K21 S v40 v42))) else (nm ((x4 + 1) : Int) (fun v44 => K21 S x3 v44))))
def M_think_B210 (K21 : xS → Int → Int → Option (Bool × xS)) (S : xS) (x2 : Int) (x3 : Int) (x4 : Int) (x5 : Int) (t0 : Int) : Option (Bool × xS) := nm (fset S 41 (t0)) (fun S35 => M_think_B213 K21 S35 x2 x3 x4 x5)
def M_think_B158 (K21 : xS → Int → Int → Option (Bool × xS)) (S : xS) (x2 : Int) (x3 : Int) (x4 : Int) (x5 : Int) : Option (Bool × xS) := gd ((0 : Int) ≤ x5 ∧ (x5 : Int) < 6400) (gd (r32 (S.2 4 x5)) (if (S.2 4 x5) = 3 then (gd (r64 (S.2 37 0)) (if (S.2 37 0) < 0 then (M_think_B210 K21 S x2 x3 x4 x5 (0 : Int)) else (gd (r64 (S.2 37 0)) (if (S.2 37 0) ≤ 16 then (M_think_B210 K21 S x2 x3 x4 x5 (S.2 37 0)) else (M_think_B210 K21 S x2 x3 x4 x5 (16 : Int)))))) else (M_think_B213 K21 S x2 x3 x4 x5)))
def M_think_B155 (K21 : xS → Int → Int → Option (Bool × xS)) (S : xS) (x2 : Int) (x3 : Int) (x4 : Int) (x5 : Int) (t0 : Int) : Option (Bool × xS) := nm (fset S 40 (t0)) (fun S28 => M_think_B158 K21 S28 x2 x3 x4 x5)
def M_think_B100 (K21 : xS → Int → Int → Option (Bool × xS)) (S : xS) (x2 : Int) (x3 : Int) (x4 : Int) (x5 : Int) : Option (Bool × xS) := gd ((0 : Int) ≤ x5 ∧ (x5 : Int) < 6400) (gd (r32 (S.2 4 x5)) (if (S.2 4 x5) = 2 then (gd (r64 (S.2 37 0)) (if (S.2 37 0) < (-8) then (M_think_B155 K21 S x2 x3 x4 x5 ((-8) : Int)) else (gd (r64 (S.2 37 0)) (if (S.2 37 0) ≤ 8 then (M_think_B155 K21 S x2 x3 x4 x5 (S.2 37 0)) else (M_think_B155 K21 S x2 x3 x4 x5 (8 : Int)))))) else (M_think_B158 K21 S x2 x3 x4 x5)))
def M_think_b21 (x2 : Int) (K21 : xS → Int → Int → Option (Bool × xS)) (S : xS) (x3 : Int) (x4 : Int) : Option (Bool × xS) := gd ((0 : Int) ≤ x2 ∧ (x2 : Int) < 6400) (gd (r32 (x4) ∧ r32 (S.2 4 x2)) (if x4 < (S.2 4 x2) then (nm ((x2 + 1) + (4 * x4)) (fun v10 => gd ((0 : Int) ≤ v10 + 2 ∧ (v10 + 2 : Int) < 6400) (gd ((0 : Int) ≤ v10 + 3 ∧ (v10 + 3 : Int) < 6400) (bd (M_work S (x2 + 80) (S.2 4 (v10 + 2)) (S.2 4 (v10 + 3))) (fun S15 => gd ((0 : Int) ≤ v10 ∧ (v10 : Int) < 6400) (gd (r32 (S15.2 4 v10)) (if (S15.2 4 v10) = 1 then (gd ((0 : Int) ≤ v10 + 1 ∧ (v10 + 1 : Int) < 6400) (gd ((0 : Int) ≤ S15.2 4 (v10 + 1) ∧ (S15.2 4 (v10 + 1) : Int) < 8) (nm (aset S15 36 (S15.2 4 (v10 + 1)) (S15.2 37 0)) (fun S21 => M_think_B100 K21 S21 x2 x3 x4 v10)))) else (M_think_B100 K21 S15 x2 x3 x4 v10)))))))) else (gd ((x3 : Int) = 0 ∨ (x3 : Int) = 1) (some (decide (x3 = 1), S)))))
def M_think_L21 (x2 : Int) : Nat → xS → Int → Int → Option (Bool × xS)
  | 0 => fun _ _ _ => none
  | n + 1 => fun S x3 x4 => M_think_b21 x2 (M_think_L21 x2 n) S x3 x4
def M_think (S : xS) (x1 : Int) : Option (Bool × xS) := nm (800 * x1) (fun v1 => nm (fset S 40 (0)) (fun S3 => nm (fset S3 41 (0)) (fun S5 => M_think_L21 v1 FU S5 (0 : Int) (0 : Int))))
set_option maxHeartbeats 4000000 in
theorem wM_think (l : Launch) (DM : va_G) (dA : Nat → ClassId) (h : Nat) (S : xS) (x1 : Int) {r : Bool} {S1 : xS} (hh : M_think S x1 = some (r, S1)) : mt_z l yX5_think cX5_think 6 (some .boolean) ({ frames := 4, cells := 0, slots := 0, locals := 87 } : Room) DM dA h [.int (zi x1)] S r S1 := by
  refine mo_z (by decide) rfl (Nat.le_of_ble_eq_true rfl) ?_
  intro p e s m args below meth c Q ls X hret hl hM
  have hx := X.1.1
  have hb := X.1.2.1
  have hown := X.1.2.2.2.1
  have hts := X.1.2.2.2.2
  skip
  have hB213 : ∀ (x2 : Int) (x3 : Int) (x4 : Int) (x5 : Int) (K21 : xS → Int → Int → Option (Bool × xS)) (hK21 : (∀ (S : xS) (x3 : Int) (x4 : Int), K21 S x3 x4 = some (r, S1) → ∀ (H : Heap) (locs : List Loc) (ls : Array Slot), MX DM dA h S s H locs → lv_has ls 6 [(0, .ref (h)), (2, .int (zi (x2))), (3, .int (zi (x3))), (4, .int (zi (x4)))] → W p l e ({ frames := 4, cells := 0, slots := 0, locals := 87 } : Room) s m args below meth c H locs 0 0 Q (F0 m 21 ls []))) (S : xS), M_think_B213 K21 S x2 x3 x4 x5 = some (r, S1) → ∀ (H : Heap) (locs : List Loc) (ls : Array Slot), MX DM dA h S s H locs → lv_has ls 6 [(0, .ref (h)), (2, .int (zi (x2))), (3, .int (zi (x3))), (4, .int (zi (x4))), (5, .int (zi (x5)))] → W p l e ({ frames := 4, cells := 0, slots := 0, locals := 87 } : Room) s m args below meth c H locs 0 0 Q (F0 m 213 ls []) := by
    intro x2 x3 x4 x5 K21 hK21 S hh H locs ls hM hl
    unfold M_think_B213 at hh
    refine lv_aload_n hx hb dX5_think_213 rfl (lv_at hl 0 rfl) ?_
    refine mm_get X hM q1178 (mf_4 _ _) dX5_think_214 ?_
    refine lv_iload hx hb dX5_think_217 (lv_at hl 4 rfl) ?_
    obtain ⟨g37, hh⟩ := gd_inv hh
    refine mm_iald X hM (ma_4 _ _) g37 dX5_think_219 ?_
    refine lv_iconst (v := zi 4) hx hb dX5_think_220 rfl ?_
    obtain ⟨g39, hh⟩ := gd_inv hh
    refine g_icmp_ne (tgt := 231) hx hb ⟨g39, by decide⟩ dX5_think_221 (by decide) (fun c38 => ?_) (fun c38 => ?_)
    · replace hh := it_t c38 hh
      refine lv_aload_n hx hb dX5_think_224 rfl (lv_at hl 0 rfl) ?_
      refine mm_get X hM q1212 (mf_38 _ _) dX5_think_225 ?_
      refine lv_iconst (v := zi 0) hx hb dX5_think_228 rfl ?_
      refine mm_zald X hM (ma_38 _ _) (by decide) dX5_think_229 ?_
      refine g_nmi hx hb (fun v40 e41 => ?_)
      replace hh := nm_inv hh v40 e41
      refine lv_istore_n (lv' := [(3, .int (zi (v40))), (0, .ref (h)), (2, .int (zi (x2))), (4, .int (zi (x4))), (5, .int (zi (x5)))]) hx hb dX5_think_230 rfl hl (by decide) rfl (fun ls hl => ?_)
      obtain ⟨v42, e43⟩ : ∃ z : Int, z = x4 + 1 := ⟨_, rfl⟩
      replace hh := nm_inv hh v42 e43
      refine lv_iinc (v := zi v42) (lv' := [(4, .int (zi (v42))), (3, .int (zi (v40))), (0, .ref (h)), (2, .int (zi (x2))), (5, .int (zi (x5)))]) hx hb dX5_think_231 hl (k := 3) rfl (by rw [e43]; exact zi_add _ _) (by decide) rfl (fun ls hl => ?_)
      refine lv_goto (tgt := 21) hx hb dX5_think_234 (by decide) ?_
      exact hK21 S v40 v42 hh _ _ _ hM (lv_sub hl [2, 3, 1, 0] rfl)
    · replace hh := it_f c38 hh
      obtain ⟨v44, e45⟩ : ∃ z : Int, z = x4 + 1 := ⟨_, rfl⟩
      replace hh := nm_inv hh v44 e45
      refine lv_iinc (v := zi v44) (lv' := [(4, .int (zi (v44))), (0, .ref (h)), (2, .int (zi (x2))), (3, .int (zi (x3))), (5, .int (zi (x5)))]) hx hb dX5_think_231 hl (k := 3) rfl (by rw [e45]; exact zi_add _ _) (by decide) rfl (fun ls hl => ?_)
      refine lv_goto (tgt := 21) hx hb dX5_think_234 (by decide) ?_
      exact hK21 S x3 v44 hh _ _ _ hM (lv_sub hl [1, 2, 3, 0] rfl)
  have hB210 : ∀ (x2 : Int) (x3 : Int) (x4 : Int) (x5 : Int) (t0 : Int) (K21 : xS → Int → Int → Option (Bool × xS)) (hK21 : (∀ (S : xS) (x3 : Int) (x4 : Int), K21 S x3 x4 = some (r, S1) → ∀ (H : Heap) (locs : List Loc) (ls : Array Slot), MX DM dA h S s H locs → lv_has ls 6 [(0, .ref (h)), (2, .int (zi (x2))), (3, .int (zi (x3))), (4, .int (zi (x4)))] → W p l e ({ frames := 4, cells := 0, slots := 0, locals := 87 } : Room) s m args below meth c H locs 0 0 Q (F0 m 21 ls []))) (S : xS), M_think_B210 K21 S x2 x3 x4 x5 t0 = some (r, S1) → ∀ (H : Heap) (locs : List Loc) (ls : Array Slot), MX DM dA h S s H locs → lv_has ls 6 [(0, .ref (h)), (2, .int (zi (x2))), (3, .int (zi (x3))), (4, .int (zi (x4))), (5, .int (zi (x5)))] → W p l e ({ frames := 4, cells := 0, slots := 0, locals := 87 } : Room) s m args below meth c H locs 0 0 Q (F0 m 210 ls [.int (zi (t0)), .ref (h)]) := by
    intro x2 x3 x4 x5 t0 K21 hK21 S hh H locs ls hM hl
    unfold M_think_B210 at hh
    refine mm_put X hM q1215 (mp_41 _ _ _) dX5_think_210 (fun H locs S35 e36 hM => ?_)
    replace hh := nm_inv hh S35 e36
    exact hB213 x2 x3 x4 x5 _ hK21 S35 hh _ _ _ hM (lv_sub hl [0, 1, 2, 3, 4] rfl)
  have hB158 : ∀ (x2 : Int) (x3 : Int) (x4 : Int) (x5 : Int) (K21 : xS → Int → Int → Option (Bool × xS)) (hK21 : (∀ (S : xS) (x3 : Int) (x4 : Int), K21 S x3 x4 = some (r, S1) → ∀ (H : Heap) (locs : List Loc) (ls : Array Slot), MX DM dA h S s H locs → lv_has ls 6 [(0, .ref (h)), (2, .int (zi (x2))), (3, .int (zi (x3))), (4, .int (zi (x4)))] → W p l e ({ frames := 4, cells := 0, slots := 0, locals := 87 } : Room) s m args below meth c H locs 0 0 Q (F0 m 21 ls []))) (S : xS), M_think_B158 K21 S x2 x3 x4 x5 = some (r, S1) → ∀ (H : Heap) (locs : List Loc) (ls : Array Slot), MX DM dA h S s H locs → lv_has ls 6 [(0, .ref (h)), (2, .int (zi (x2))), (3, .int (zi (x3))), (4, .int (zi (x4))), (5, .int (zi (x5)))] → W p l e ({ frames := 4, cells := 0, slots := 0, locals := 87 } : Room) s m args below meth c H locs 0 0 Q (F0 m 158 ls []) := by
    intro x2 x3 x4 x5 K21 hK21 S hh H locs ls hM hl
    unfold M_think_B158 at hh
    refine lv_aload_n hx hb dX5_think_158 rfl (lv_at hl 0 rfl) ?_
    refine mm_get X hM q1178 (mf_4 _ _) dX5_think_159 ?_
    refine lv_iload hx hb dX5_think_162 (lv_at hl 4 rfl) ?_
    obtain ⟨g30, hh⟩ := gd_inv hh
    refine mm_iald X hM (ma_4 _ _) g30 dX5_think_164 ?_
    refine lv_iconst (v := zi 3) hx hb dX5_think_165 rfl ?_
    obtain ⟨g32, hh⟩ := gd_inv hh
    refine g_icmp_ne (tgt := 213) hx hb ⟨g32, by decide⟩ dX5_think_166 (by decide) (fun c31 => ?_) (fun c31 => ?_)
    · replace hh := it_t c31 hh
      refine lv_aload_n hx hb dX5_think_169 rfl (lv_at hl 0 rfl) ?_
      refine lv_aload_n hx hb dX5_think_170 rfl (lv_at hl 0 rfl) ?_
      refine mm_get X hM q1211 (mf_37 _ _) dX5_think_171 ?_
      refine lv_iconst (v := zi 0) hx hb dX5_think_174 rfl ?_
      refine mm_lald X hM (ma_37 _ _) (by decide) dX5_think_175 ?_
      refine lv_lconst (v := zl 0) hx hb dX5_think_176 (by decide) ?_
      obtain ⟨g34, hh⟩ := gd_inv hh
      refine g_lcmp_ge (tgt := 185) hx hb ⟨g34, by decide⟩ dX5_think_177 dX5_think_178 (by decide) (fun c33 => ?_) (fun c33 => ?_)
      · replace hh := it_t c33 hh
        refine lv_iconst (v := zi 0) hx hb dX5_think_181 rfl ?_
        refine lv_goto (tgt := 210) hx hb dX5_think_182 (by decide) ?_
        exact hB210 x2 x3 x4 x5 (0 : Int) _ hK21 S hh _ _ _ hM (lv_sub hl [0, 1, 2, 3, 4] rfl)
      · replace hh := it_f c33 hh
        refine lv_aload_n hx hb dX5_think_185 rfl (lv_at hl 0 rfl) ?_
        refine mm_get X hM q1211 (mf_37 _ _) dX5_think_186 ?_
        refine lv_iconst (v := zi 0) hx hb dX5_think_189 rfl ?_
        refine mm_lald X hM (ma_37 _ _) (by decide) dX5_think_190 ?_
        refine g_ldc2 (v := 16) (z := 16) hx hb (by decide) hown (hts _ q1580) dX5_think_191 ?_
        obtain ⟨g47, hh⟩ := gd_inv hh
        refine g_lcmp_le (tgt := 203) hx hb ⟨g47, by decide⟩ dX5_think_194 dX5_think_195 (by decide) (fun c46 => ?_) (fun c46 => ?_)
        · replace hh := it_t c46 hh
          refine lv_aload_n hx hb dX5_think_203 rfl (lv_at hl 0 rfl) ?_
          refine mm_get X hM q1211 (mf_37 _ _) dX5_think_204 ?_
          refine lv_iconst (v := zi 0) hx hb dX5_think_207 rfl ?_
          refine mm_lald X hM (ma_37 _ _) (by decide) dX5_think_208 ?_
          refine g_l2i hx hb dX5_think_209 ?_
          exact hB210 x2 x3 x4 x5 (S.2 37 0) _ hK21 S hh _ _ _ hM (lv_sub hl [0, 1, 2, 3, 4] rfl)
        · replace hh := it_f c46 hh
          refine lv_bipush (v := zi 16) hx hb dX5_think_198 (by decide) ?_
          refine lv_goto (tgt := 210) hx hb dX5_think_200 (by decide) ?_
          exact hB210 x2 x3 x4 x5 (16 : Int) _ hK21 S hh _ _ _ hM (lv_sub hl [0, 1, 2, 3, 4] rfl)
    · replace hh := it_f c31 hh
      exact hB213 x2 x3 x4 x5 _ hK21 S hh _ _ _ hM (lv_sub hl [0, 1, 2, 3, 4] rfl)
  have hB155 : ∀ (x2 : Int) (x3 : Int) (x4 : Int) (x5 : Int) (t0 : Int) (K21 : xS → Int → Int → Option (Bool × xS)) (hK21 : (∀ (S : xS) (x3 : Int) (x4 : Int), K21 S x3 x4 = some (r, S1) → ∀ (H : Heap) (locs : List Loc) (ls : Array Slot), MX DM dA h S s H locs → lv_has ls 6 [(0, .ref (h)), (2, .int (zi (x2))), (3, .int (zi (x3))), (4, .int (zi (x4)))] → W p l e ({ frames := 4, cells := 0, slots := 0, locals := 87 } : Room) s m args below meth c H locs 0 0 Q (F0 m 21 ls []))) (S : xS), M_think_B155 K21 S x2 x3 x4 x5 t0 = some (r, S1) → ∀ (H : Heap) (locs : List Loc) (ls : Array Slot), MX DM dA h S s H locs → lv_has ls 6 [(0, .ref (h)), (2, .int (zi (x2))), (3, .int (zi (x3))), (4, .int (zi (x4))), (5, .int (zi (x5)))] → W p l e ({ frames := 4, cells := 0, slots := 0, locals := 87 } : Room) s m args below meth c H locs 0 0 Q (F0 m 155 ls [.int (zi (t0)), .ref (h)]) := by
    intro x2 x3 x4 x5 t0 K21 hK21 S hh H locs ls hM hl
    unfold M_think_B155 at hh
    refine mm_put X hM q1214 (mp_40 _ _ _) dX5_think_155 (fun H locs S28 e29 hM => ?_)
    replace hh := nm_inv hh S28 e29
    exact hB158 x2 x3 x4 x5 _ hK21 S28 hh _ _ _ hM (lv_sub hl [0, 1, 2, 3, 4] rfl)
  have hB100 : ∀ (x2 : Int) (x3 : Int) (x4 : Int) (x5 : Int) (K21 : xS → Int → Int → Option (Bool × xS)) (hK21 : (∀ (S : xS) (x3 : Int) (x4 : Int), K21 S x3 x4 = some (r, S1) → ∀ (H : Heap) (locs : List Loc) (ls : Array Slot), MX DM dA h S s H locs → lv_has ls 6 [(0, .ref (h)), (2, .int (zi (x2))), (3, .int (zi (x3))), (4, .int (zi (x4)))] → W p l e ({ frames := 4, cells := 0, slots := 0, locals := 87 } : Room) s m args below meth c H locs 0 0 Q (F0 m 21 ls []))) (S : xS), M_think_B100 K21 S x2 x3 x4 x5 = some (r, S1) → ∀ (H : Heap) (locs : List Loc) (ls : Array Slot), MX DM dA h S s H locs → lv_has ls 6 [(0, .ref (h)), (2, .int (zi (x2))), (3, .int (zi (x3))), (4, .int (zi (x4))), (5, .int (zi (x5)))] → W p l e ({ frames := 4, cells := 0, slots := 0, locals := 87 } : Room) s m args below meth c H locs 0 0 Q (F0 m 100 ls []) := by
    intro x2 x3 x4 x5 K21 hK21 S hh H locs ls hM hl
    unfold M_think_B100 at hh
    refine lv_aload_n hx hb dX5_think_100 rfl (lv_at hl 0 rfl) ?_
    refine mm_get X hM q1178 (mf_4 _ _) dX5_think_101 ?_
    refine lv_iload hx hb dX5_think_104 (lv_at hl 4 rfl) ?_
    obtain ⟨g23, hh⟩ := gd_inv hh
    refine mm_iald X hM (ma_4 _ _) g23 dX5_think_106 ?_
    refine lv_iconst (v := zi 2) hx hb dX5_think_107 rfl ?_
    obtain ⟨g25, hh⟩ := gd_inv hh
    refine g_icmp_ne (tgt := 158) hx hb ⟨g25, by decide⟩ dX5_think_108 (by decide) (fun c24 => ?_) (fun c24 => ?_)
    · replace hh := it_t c24 hh
      refine lv_aload_n hx hb dX5_think_111 rfl (lv_at hl 0 rfl) ?_
      refine lv_aload_n hx hb dX5_think_112 rfl (lv_at hl 0 rfl) ?_
      refine mm_get X hM q1211 (mf_37 _ _) dX5_think_113 ?_
      refine lv_iconst (v := zi 0) hx hb dX5_think_116 rfl ?_
      refine mm_lald X hM (ma_37 _ _) (by decide) dX5_think_117 ?_
      refine g_ldc2 (v := (-8)) (z := (-8)) hx hb (by decide) hown (hts _ q1578) dX5_think_118 ?_
      obtain ⟨g27, hh⟩ := gd_inv hh
      refine g_lcmp_ge (tgt := 130) hx hb ⟨g27, by decide⟩ dX5_think_121 dX5_think_122 (by decide) (fun c26 => ?_) (fun c26 => ?_)
      · replace hh := it_t c26 hh
        refine lv_bipush (v := zi (-8)) hx hb dX5_think_125 (by decide) ?_
        refine lv_goto (tgt := 155) hx hb dX5_think_127 (by decide) ?_
        exact hB155 x2 x3 x4 x5 ((-8) : Int) _ hK21 S hh _ _ _ hM (lv_sub hl [0, 1, 2, 3, 4] rfl)
      · replace hh := it_f c26 hh
        refine lv_aload_n hx hb dX5_think_130 rfl (lv_at hl 0 rfl) ?_
        refine mm_get X hM q1211 (mf_37 _ _) dX5_think_131 ?_
        refine lv_iconst (v := zi 0) hx hb dX5_think_134 rfl ?_
        refine mm_lald X hM (ma_37 _ _) (by decide) dX5_think_135 ?_
        refine g_ldc2 (v := 8) (z := 8) hx hb (by decide) hown (hts _ q1579) dX5_think_136 ?_
        obtain ⟨g49, hh⟩ := gd_inv hh
        refine g_lcmp_le (tgt := 148) hx hb ⟨g49, by decide⟩ dX5_think_139 dX5_think_140 (by decide) (fun c48 => ?_) (fun c48 => ?_)
        · replace hh := it_t c48 hh
          refine lv_aload_n hx hb dX5_think_148 rfl (lv_at hl 0 rfl) ?_
          refine mm_get X hM q1211 (mf_37 _ _) dX5_think_149 ?_
          refine lv_iconst (v := zi 0) hx hb dX5_think_152 rfl ?_
          refine mm_lald X hM (ma_37 _ _) (by decide) dX5_think_153 ?_
          refine g_l2i hx hb dX5_think_154 ?_
          exact hB155 x2 x3 x4 x5 (S.2 37 0) _ hK21 S hh _ _ _ hM (lv_sub hl [0, 1, 2, 3, 4] rfl)
        · replace hh := it_f c48 hh
          refine lv_bipush (v := zi 8) hx hb dX5_think_143 (by decide) ?_
          refine lv_goto (tgt := 155) hx hb dX5_think_145 (by decide) ?_
          exact hB155 x2 x3 x4 x5 (8 : Int) _ hK21 S hh _ _ _ hM (lv_sub hl [0, 1, 2, 3, 4] rfl)
    · replace hh := it_f c24 hh
      exact hB158 x2 x3 x4 x5 _ hK21 S hh _ _ _ hM (lv_sub hl [0, 1, 2, 3, 4] rfl)
  have hL21 : ∀ (x2 : Int) (n : Nat) (S : xS) (x3 : Int) (x4 : Int), M_think_L21 x2 n S x3 x4 = some (r, S1) → ∀ (H : Heap) (locs : List Loc) (ls : Array Slot), MX DM dA h S s H locs → lv_has ls 6 [(0, .ref (h)), (2, .int (zi (x2))), (3, .int (zi (x3))), (4, .int (zi (x4)))] → W p l e ({ frames := 4, cells := 0, slots := 0, locals := 87 } : Room) s m args below meth c H locs 0 0 Q (F0 m 21 ls []) := by
    intro x2  n
    induction n with
    | zero => intro S x3 x4 hh; exact no_some hh
    | succ n ih =>
      intro S x3 x4 hh H locs ls hM hl
      replace hh : M_think_b21 x2 (M_think_L21 x2 n) S x3 x4 = some (r, S1) := hh
      unfold M_think_b21 at hh
      have hK21 := ih
      refine lv_iload hx hb dX5_think_21 (lv_at hl 3 rfl) ?_
      refine lv_aload_n hx hb dX5_think_23 rfl (lv_at hl 0 rfl) ?_
      refine mm_get X hM q1178 (mf_4 _ _) dX5_think_24 ?_
      refine lv_iload_n hx hb dX5_think_27 rfl (lv_at hl 1 rfl) ?_
      obtain ⟨g7, hh⟩ := gd_inv hh
      refine mm_iald X hM (ma_4 _ _) g7 dX5_think_28 ?_
      obtain ⟨g9, hh⟩ := gd_inv hh
      refine g_icmp_ge (tgt := 237) hx hb g9 dX5_think_29 (by decide) (fun c8 => ?_) (fun c8 => ?_)
      · replace hh := it_t c8 hh
        refine lv_iload_n hx hb dX5_think_32 rfl (lv_at hl 1 rfl) ?_
        refine lv_iconst (v := zi 1) hx hb dX5_think_33 rfl ?_
        refine g_iadd hx hb dX5_think_34 ?_
        refine lv_iconst (v := zi 4) hx hb dX5_think_35 rfl ?_
        refine lv_iload hx hb dX5_think_36 (lv_at hl 3 rfl) ?_
        refine g_imul hx hb dX5_think_38 ?_
        refine g_iadd hx hb dX5_think_39 ?_
        refine g_nmi hx hb (fun v10 e11 => ?_)
        replace hh := nm_inv hh v10 e11
        refine lv_istore (lv' := [(5, .int (zi (v10))), (0, .ref (h)), (2, .int (zi (x2))), (3, .int (zi (x3))), (4, .int (zi (x4)))]) hx hb dX5_think_40 hl (by decide) rfl (fun ls hl => ?_)
        refine lv_aload_n hx hb dX5_think_42 rfl (lv_at hl 1 rfl) ?_
        refine lv_iload_n hx hb dX5_think_43 rfl (lv_at hl 2 rfl) ?_
        refine lv_bipush (v := zi 80) hx hb dX5_think_44 (by decide) ?_
        refine g_iadd hx hb dX5_think_46 ?_
        refine lv_aload_n hx hb dX5_think_47 rfl (lv_at hl 1 rfl) ?_
        refine mm_get X hM q1178 (mf_4 _ _) dX5_think_48 ?_
        refine lv_iload hx hb dX5_think_51 (lv_at hl 0 rfl) ?_
        refine lv_iconst (v := zi 2) hx hb dX5_think_53 rfl ?_
        refine g_iadd hx hb dX5_think_54 ?_
        obtain ⟨g12, hh⟩ := gd_inv hh
        refine mm_iald X hM (ma_4 _ _) g12 dX5_think_55 ?_
        refine lv_aload_n hx hb dX5_think_56 rfl (lv_at hl 1 rfl) ?_
        refine mm_get X hM q1178 (mf_4 _ _) dX5_think_57 ?_
        refine lv_iload hx hb dX5_think_60 (lv_at hl 0 rfl) ?_
        refine lv_iconst (v := zi 3) hx hb dX5_think_62 rfl ?_
        refine g_iadd hx hb dX5_think_63 ?_
        obtain ⟨g13, hh⟩ := gd_inv hh
        refine mm_iald X hM (ma_4 _ _) g13 dX5_think_64 ?_
        obtain ⟨S15, k14, hh⟩ := bd_inv hh
        refine mc_v (rest := []) X hM (wM_work l DM dA h S (x2 + 80) (S.2 4 (v10 + 2)) (S.2 4 (v10 + 3)) k14) c5_work.1 c5_work.2 ⟨rfl, rfl⟩ ⟨Nat.le_of_ble_eq_true rfl, Nat.le_of_ble_eq_true rfl⟩ ⟨Nat.zero_le _, Nat.zero_le _⟩ hl.1 (Nat.le_of_ble_eq_true rfl) dX5_think_65 rfl (fun H locs hM => ?_)
        refine lv_aload_n hx hb dX5_think_68 rfl (lv_at hl 1 rfl) ?_
        refine mm_get X hM q1178 (mf_4 _ _) dX5_think_69 ?_
        refine lv_iload hx hb dX5_think_72 (lv_at hl 0 rfl) ?_
        obtain ⟨g16, hh⟩ := gd_inv hh
        refine mm_iald X hM (ma_4 _ _) g16 dX5_think_74 ?_
        refine lv_iconst (v := zi 1) hx hb dX5_think_75 rfl ?_
        obtain ⟨g18, hh⟩ := gd_inv hh
        refine g_icmp_ne (tgt := 100) hx hb ⟨g18, by decide⟩ dX5_think_76 (by decide) (fun c17 => ?_) (fun c17 => ?_)
        · replace hh := it_t c17 hh
          refine lv_aload_n hx hb dX5_think_79 rfl (lv_at hl 1 rfl) ?_
          refine mm_get X hM q1210 (mf_36 _ _) dX5_think_80 ?_
          refine lv_aload_n hx hb dX5_think_83 rfl (lv_at hl 1 rfl) ?_
          refine mm_get X hM q1178 (mf_4 _ _) dX5_think_84 ?_
          refine lv_iload hx hb dX5_think_87 (lv_at hl 0 rfl) ?_
          refine lv_iconst (v := zi 1) hx hb dX5_think_89 rfl ?_
          refine g_iadd hx hb dX5_think_90 ?_
          obtain ⟨g19, hh⟩ := gd_inv hh
          refine mm_iald X hM (ma_4 _ _) g19 dX5_think_91 ?_
          refine lv_aload_n hx hb dX5_think_92 rfl (lv_at hl 1 rfl) ?_
          refine mm_get X hM q1211 (mf_37 _ _) dX5_think_93 ?_
          refine lv_iconst (v := zi 0) hx hb dX5_think_96 rfl ?_
          refine mm_lald X hM (ma_37 _ _) (by decide) dX5_think_97 ?_
          refine g_l2i hx hb dX5_think_98 ?_
          obtain ⟨g20, hh⟩ := gd_inv hh
          refine mm_iast X hM (ma_36 _ _) g20 dX5_think_99 (fun H locs S21 e22 hM => ?_)
          replace hh := nm_inv hh S21 e22
          exact hB100 x2 x3 x4 v10 _ hK21 S21 hh _ _ _ hM (lv_sub hl [1, 2, 3, 4, 0] rfl)
        · replace hh := it_f c17 hh
          exact hB100 x2 x3 x4 v10 _ hK21 S15 hh _ _ _ hM (lv_sub hl [1, 2, 3, 4, 0] rfl)
      · replace hh := it_f c8 hh
        refine lv_iload_n hx hb dX5_think_237 rfl (lv_at hl 2 rfl) ?_
        obtain ⟨g50, hh⟩ := gd_inv hh
        rw [← bz_dec g50]
        exact hret _ _ _ _ _ _ (rt1 hh) (rt2 hh) dX5_think_238 hM
  replace hl : lv_has ls 6 [(0, .ref (h)), (1, .int (zi (x1)))] := hl
  unfold M_think at hh
  refine lv_sipush (v := zi 800) hx hb dX5_think_0 (by decide) ?_
  refine lv_iload_n hx hb dX5_think_3 rfl (lv_at hl 1 rfl) ?_
  refine g_imul hx hb dX5_think_4 ?_
  refine g_nmi hx hb (fun v1 e2 => ?_)
  replace hh := nm_inv hh v1 e2
  refine lv_istore_n (lv' := [(2, .int (zi (v1))), (0, .ref (h)), (1, .int (zi (x1)))]) hx hb dX5_think_5 rfl hl (by decide) rfl (fun ls hl => ?_)
  refine lv_iconst (v := zi 0) hx hb dX5_think_6 rfl ?_
  refine lv_istore_n (lv' := [(3, .int (zi (0))), (2, .int (zi (v1))), (0, .ref (h)), (1, .int (zi (x1)))]) hx hb dX5_think_7 rfl hl (by decide) rfl (fun ls hl => ?_)
  refine lv_aload_n hx hb dX5_think_8 rfl (lv_at hl 2 rfl) ?_
  refine lv_iconst (v := zi 0) hx hb dX5_think_9 rfl ?_
  refine mm_put X hM q1214 (mp_40 _ _ _) dX5_think_10 (fun H locs S3 e4 hM => ?_)
  replace hh := nm_inv hh S3 e4
  refine lv_aload_n hx hb dX5_think_13 rfl (lv_at hl 2 rfl) ?_
  refine lv_iconst (v := zi 0) hx hb dX5_think_14 rfl ?_
  refine mm_put X hM q1215 (mp_41 _ _ _) dX5_think_15 (fun H locs S5 e6 hM => ?_)
  replace hh := nm_inv hh S5 e6
  refine lv_iconst (v := zi 0) hx hb dX5_think_18 rfl ?_
  refine lv_istore (lv' := [(4, .int (zi (0))), (3, .int (zi (0))), (2, .int (zi (v1))), (0, .ref (h)), (1, .int (zi (x1)))]) hx hb dX5_think_19 hl (by decide) rfl (fun ls hl => ?_)
  exact hL21 v1 FU S5 (0 : Int) (0 : Int) hh _ _ _ hM (lv_sub hl [3, 2, 1, 0] rfl)
def M_run_B293 (K36 : xS → Option xS) (S : xS) (x1 : Int) (x5 : Int) (t0 : Int) : Option xS := gd ((t0 : Int) = 0 ∨ (t0 : Int) = 1) (nm (fset S 33 (t0)) (fun S75 => K36 S75))
def M_run_B288 (K36 : xS → Option xS) (S : xS) (x1 : Int) (x5 : Int) : Option xS := M_run_B293 K36 S x1 x5 (1 : Int)
def M_run_b36 (x1 : Int) (x5 : Int) (K36 : xS → Option xS) (S : xS) : Option xS := gd (r32 (S.1 29) ∧ r32 (x5)) (if (S.1 29) < x5 then (gd (r32 (S.1 33)) (if (S.1 33) = 0 then (gd (r32 (S.1 34)) (if (S.1 34) = 0 then (nm (fset S 39 (S.1 29)) (fun S21 => bd (M_see_2 S21 ) (fun S24 => bd2 (M_think S24 x1) (fun v26 S27 => nm (fset S27 34 (bz v26)) (fun S28 => gd (r32 (S28.1 34)) (if (S28.1 34) = 0 then (nm (38 * (S28.1 39)) (fun v32 => gd ((0 : Int) ≤ v32 ∧ (v32 : Int) < 2280) (nm (aset S28 35 v32 (S28.1 40)) (fun S35 => gd ((0 : Int) ≤ v32 + 1 ∧ (v32 + 1 : Int) < 2280) (nm (aset S35 35 (v32 + 1) (S35.1 41)) (fun S38 => gd ((0 : Int) ≤ v32 + 2 ∧ (v32 + 2 : Int) < 2280) (nm (aset S38 35 (v32 + 2) (S38.1 30)) (fun S41 => gd ((0 : Int) ≤ v32 + 3 ∧ (v32 + 3 : Int) < 2280) (nm (aset S41 35 (v32 + 3) (S41.1 31)) (fun S44 => gd ((0 : Int) ≤ v32 + 4 ∧ (v32 + 4 : Int) < 2280) (nm (aset S44 35 (v32 + 4) (S44.1 32)) (fun S47 => gd (r32 (((S47.1 32) + (S47.1 40)) + 64)) (nm (fset S47 32 (Int.tmod (((S47.1 32) + (S47.1 40)) + 64) 64)) (fun S50 => bd (M_wayX (S50.1 32)) (fun v53 => bd (M_floor ((S50.1 41) * v53) (16 : Int)) (fun v55 => nm (fset S50 30 ((S50.1 30) + v55)) (fun S56 => bd (M_wayY (S56.1 32)) (fun v59 => bd (M_floor ((S56.1 41) * v59) (16 : Int)) (fun v61 => nm (fset S56 31 ((S56.1 31) + v61)) (fun S62 => nm (fset S62 29 ((S62.1 29) + 1)) (fun S64 => bd (M_isPlace S64 (S64.1 30) (S64.1 31)) (fun v67 => if v67 = true then (gd (r32 (S64.1 31)) (gd (r32 (S64.1 30)) (bd (M_markAt S64 (((Int.tdiv (S64.1 31) 16) * (S64.1 0)) + (Int.tdiv (S64.1 30) 16)) (S64.1 29)) (fun v72 => gd (r32 (v72)) (if v72 ≤ 0 then (M_run_B293 K36 S64 x1 x5 (0 : Int)) else (M_run_B288 K36 S64 x1 x5)))))) else (M_run_B288 K36 S64 x1 x5))))))))))))))))))))))) else (some S28))))))) else (some S))) else (some S))) else (some S))
def M_run_L36 (x1 : Int) (x5 : Int) : Nat → xS → Option xS
  | 0 => fun _ => none
  | n + 1 => fun S => M_run_b36 x1 x5 (M_run_L36 x1 x5 n) S
def M_run (S : xS) (x1 : Int) (x2 : Int) (x3 : Int) (x4 : Int) (x5 : Int) : Option xS := nm (fset S 29 (0)) (fun S1 => nm (fset S1 30 (x2)) (fun S3 => nm (fset S3 31 (x3)) (fun S5 => nm (fset S5 32 (x4)) (fun S7 => nm (fset S7 33 (0)) (fun S9 => nm (fset S9 34 (0)) (fun S11 => nm (fset S11 28 (0)) (fun S13 => M_run_L36 x1 x5 FU S13)))))))
set_option maxHeartbeats 4000000 in
theorem wM_run (l : Launch) (DM : va_G) (dA : Nat → ClassId) (h : Nat) (S : xS) (x1 x2 x3 x4 x5 : Int) {S1 : xS} (hh : M_run S x1 x2 x3 x4 x5 = some S1) : mt_v l yX5_run cX5_run 7 ({ frames := 6, cells := 0, slots := 0, locals := 128 } : Room) DM dA h [.int (zi x1), .int (zi x2), .int (zi x3), .int (zi x4), .int (zi x5)] S S1 := by
  refine mo_v (by decide) rfl (Nat.le_of_ble_eq_true rfl) ?_
  intro p e s m args below meth c Q ls X hret hl hM
  have hx := X.1.1
  have hb := X.1.2.1
  have hown := X.1.2.2.2.1
  have hts := X.1.2.2.2.2
  skip
  have hB293 : ∀ (x1 : Int) (x5 : Int) (t0 : Int) (K36 : xS → Option xS) (hK36 : (∀ (S : xS), K36 S = some S1 → ∀ (H : Heap) (locs : List Loc) (ls : Array Slot), MX DM dA h S s H locs → lv_has ls 7 [(0, .ref (h)), (1, .int (zi (x1))), (5, .int (zi (x5)))] → W p l e ({ frames := 6, cells := 0, slots := 0, locals := 128 } : Room) s m args below meth c H locs 0 0 Q (F0 m 36 ls []))) (S : xS), M_run_B293 K36 S x1 x5 t0 = some S1 → ∀ (H : Heap) (locs : List Loc) (ls : Array Slot), MX DM dA h S s H locs → lv_has ls 7 [(0, .ref (h)), (1, .int (zi (x1))), (5, .int (zi (x5)))] → W p l e ({ frames := 6, cells := 0, slots := 0, locals := 128 } : Room) s m args below meth c H locs 0 0 Q (F0 m 293 ls [.int (zi (t0)), .ref (h)]) := by
    intro x1 x5 t0 K36 hK36 S hh H locs ls hM hl
    unfold M_run_B293 at hh
    obtain ⟨g77, hh⟩ := gd_inv hh
    refine mm_put X hM q1207 (mp_33 _ _ g77) dX5_run_293 (fun H locs S75 e76 hM => ?_)
    replace hh := nm_inv hh S75 e76
    refine lv_goto (tgt := 36) hx hb dX5_run_296 (by decide) ?_
    exact hK36 S75 hh _ _ _ hM (lv_sub hl [0, 1, 2] rfl)
  have hB288 : ∀ (x1 : Int) (x5 : Int) (K36 : xS → Option xS) (hK36 : (∀ (S : xS), K36 S = some S1 → ∀ (H : Heap) (locs : List Loc) (ls : Array Slot), MX DM dA h S s H locs → lv_has ls 7 [(0, .ref (h)), (1, .int (zi (x1))), (5, .int (zi (x5)))] → W p l e ({ frames := 6, cells := 0, slots := 0, locals := 128 } : Room) s m args below meth c H locs 0 0 Q (F0 m 36 ls []))) (S : xS), M_run_B288 K36 S x1 x5 = some S1 → ∀ (H : Heap) (locs : List Loc) (ls : Array Slot), MX DM dA h S s H locs → lv_has ls 7 [(0, .ref (h)), (1, .int (zi (x1))), (5, .int (zi (x5)))] → W p l e ({ frames := 6, cells := 0, slots := 0, locals := 128 } : Room) s m args below meth c H locs 0 0 Q (F0 m 288 ls [.ref (h)]) := by
    intro x1 x5 K36 hK36 S hh H locs ls hM hl
    unfold M_run_B288 at hh
    refine lv_iconst (v := zi 1) hx hb dX5_run_288 rfl ?_
    refine lv_goto (tgt := 293) hx hb dX5_run_289 (by decide) ?_
    exact hB293 x1 x5 (1 : Int) _ hK36 S hh _ _ _ hM (lv_sub hl [0, 1, 2] rfl)
  have hL36 : ∀ (x1 : Int) (x5 : Int) (n : Nat) (S : xS), M_run_L36 x1 x5 n S = some S1 → ∀ (H : Heap) (locs : List Loc) (ls : Array Slot), MX DM dA h S s H locs → lv_has ls 7 [(0, .ref (h)), (1, .int (zi (x1))), (5, .int (zi (x5)))] → W p l e ({ frames := 6, cells := 0, slots := 0, locals := 128 } : Room) s m args below meth c H locs 0 0 Q (F0 m 36 ls []) := by
    intro x1 x5  n
    induction n with
    | zero => intro S hh; exact no_some hh
    | succ n ih =>
      intro S hh H locs ls hM hl
      replace hh : M_run_b36 x1 x5 (M_run_L36 x1 x5 n) S = some S1 := hh
      unfold M_run_b36 at hh
      have hK36 := ih
      refine lv_aload_n hx hb dX5_run_36 rfl (lv_at hl 0 rfl) ?_
      refine mm_get X hM q1203 (mf_29 _ _) dX5_run_37 ?_
      refine lv_iload hx hb dX5_run_40 (lv_at hl 2 rfl) ?_
      obtain ⟨g16, hh⟩ := gd_inv hh
      refine g_icmp_ge (tgt := 299) hx hb g16 dX5_run_42 (by decide) (fun c15 => ?_) (fun c15 => ?_)
      · replace hh := it_t c15 hh
        refine lv_aload_n hx hb dX5_run_45 rfl (lv_at hl 0 rfl) ?_
        refine mm_get X hM q1207 (mf_33 _ _) dX5_run_46 ?_
        obtain ⟨g18, hh⟩ := gd_inv hh
        refine g_if_ne (tgt := 299) hx hb g18 dX5_run_49 (by decide) (fun c17 => ?_) (fun c17 => ?_)
        · replace hh := it_t c17 hh
          refine lv_aload_n hx hb dX5_run_52 rfl (lv_at hl 0 rfl) ?_
          refine mm_get X hM q1208 (mf_34 _ _) dX5_run_53 ?_
          obtain ⟨g20, hh⟩ := gd_inv hh
          refine g_if_ne (tgt := 299) hx hb g20 dX5_run_56 (by decide) (fun c19 => ?_) (fun c19 => ?_)
          · replace hh := it_t c19 hh
            refine lv_aload_n hx hb dX5_run_59 rfl (lv_at hl 0 rfl) ?_
            refine lv_aload_n hx hb dX5_run_60 rfl (lv_at hl 0 rfl) ?_
            refine mm_get X hM q1203 (mf_29 _ _) dX5_run_61 ?_
            refine mm_put X hM q1213 (mp_39 _ _ _) dX5_run_64 (fun H locs S21 e22 hM => ?_)
            replace hh := nm_inv hh S21 e22
            refine lv_aload_n hx hb dX5_run_67 rfl (lv_at hl 0 rfl) ?_
            obtain ⟨S24, k23, hh⟩ := bd_inv hh
            refine mc_v (rest := []) X hM (wM_see_2 l DM dA h S21  k23) c5_see_2.1 c5_see_2.2 ⟨rfl, rfl⟩ ⟨Nat.le_of_ble_eq_true rfl, Nat.le_of_ble_eq_true rfl⟩ ⟨Nat.zero_le _, Nat.zero_le _⟩ hl.1 (Nat.le_of_ble_eq_true rfl) dX5_run_68 rfl (fun H locs hM => ?_)
            refine lv_aload_n hx hb dX5_run_71 rfl (lv_at hl 0 rfl) ?_
            refine lv_aload_n hx hb dX5_run_72 rfl (lv_at hl 0 rfl) ?_
            refine lv_iload_n hx hb dX5_run_73 rfl (lv_at hl 1 rfl) ?_
            obtain ⟨v26, S27, k25, hh⟩ := bd2_inv hh
            refine mc_z (rest := [.ref (h)]) X hM (wM_think l DM dA h S24 x1 k25) c5_think.1 c5_think.2 ⟨rfl, rfl⟩ ⟨Nat.le_of_ble_eq_true rfl, Nat.le_of_ble_eq_true rfl⟩ ⟨Nat.zero_le _, Nat.zero_le _⟩ hl.1 (Nat.le_of_ble_eq_true rfl) dX5_run_74 rfl (fun H locs hM => ?_)
            refine mm_put X hM q1208 (mp_34 _ _ (bz_01 v26)) dX5_run_77 (fun H locs S28 e29 hM => ?_)
            replace hh := nm_inv hh S28 e29
            refine lv_aload_n hx hb dX5_run_80 rfl (lv_at hl 0 rfl) ?_
            refine mm_get X hM q1208 (mf_34 _ _) dX5_run_81 ?_
            obtain ⟨g31, hh⟩ := gd_inv hh
            refine g_if_eq (tgt := 88) hx hb g31 dX5_run_84 (by decide) (fun c30 => ?_) (fun c30 => ?_)
            · replace hh := it_t c30 hh
              refine lv_bipush (v := zi 38) hx hb dX5_run_88 (by decide) ?_
              refine lv_aload_n hx hb dX5_run_90 rfl (lv_at hl 0 rfl) ?_
              refine mm_get X hM q1213 (mf_39 _ _) dX5_run_91 ?_
              refine g_imul hx hb dX5_run_94 ?_
              refine g_nmi hx hb (fun v32 e33 => ?_)
              replace hh := nm_inv hh v32 e33
              refine lv_istore (lv' := [(6, .int (zi (v32))), (0, .ref (h)), (1, .int (zi (x1))), (5, .int (zi (x5)))]) hx hb dX5_run_95 hl (by decide) rfl (fun ls hl => ?_)
              refine lv_aload_n hx hb dX5_run_97 rfl (lv_at hl 1 rfl) ?_
              refine mm_get X hM q1209 (mf_35 _ _) dX5_run_98 ?_
              refine lv_iload hx hb dX5_run_101 (lv_at hl 0 rfl) ?_
              refine lv_aload_n hx hb dX5_run_103 rfl (lv_at hl 1 rfl) ?_
              refine mm_get X hM q1214 (mf_40 _ _) dX5_run_104 ?_
              obtain ⟨g34, hh⟩ := gd_inv hh
              refine mm_iast X hM (ma_35 _ _) g34 dX5_run_107 (fun H locs S35 e36 hM => ?_)
              replace hh := nm_inv hh S35 e36
              refine lv_aload_n hx hb dX5_run_108 rfl (lv_at hl 1 rfl) ?_
              refine mm_get X hM q1209 (mf_35 _ _) dX5_run_109 ?_
              refine lv_iload hx hb dX5_run_112 (lv_at hl 0 rfl) ?_
              refine lv_iconst (v := zi 1) hx hb dX5_run_114 rfl ?_
              refine g_iadd hx hb dX5_run_115 ?_
              refine lv_aload_n hx hb dX5_run_116 rfl (lv_at hl 1 rfl) ?_
              refine mm_get X hM q1215 (mf_41 _ _) dX5_run_117 ?_
              obtain ⟨g37, hh⟩ := gd_inv hh
              refine mm_iast X hM (ma_35 _ _) g37 dX5_run_120 (fun H locs S38 e39 hM => ?_)
              replace hh := nm_inv hh S38 e39
              refine lv_aload_n hx hb dX5_run_121 rfl (lv_at hl 1 rfl) ?_
              refine mm_get X hM q1209 (mf_35 _ _) dX5_run_122 ?_
              refine lv_iload hx hb dX5_run_125 (lv_at hl 0 rfl) ?_
              refine lv_iconst (v := zi 2) hx hb dX5_run_127 rfl ?_
              refine g_iadd hx hb dX5_run_128 ?_
              refine lv_aload_n hx hb dX5_run_129 rfl (lv_at hl 1 rfl) ?_
              refine mm_get X hM q1204 (mf_30 _ _) dX5_run_130 ?_
              obtain ⟨g40, hh⟩ := gd_inv hh
              refine mm_iast X hM (ma_35 _ _) g40 dX5_run_133 (fun H locs S41 e42 hM => ?_)
              replace hh := nm_inv hh S41 e42
              refine lv_aload_n hx hb dX5_run_134 rfl (lv_at hl 1 rfl) ?_
              refine mm_get X hM q1209 (mf_35 _ _) dX5_run_135 ?_
              refine lv_iload hx hb dX5_run_138 (lv_at hl 0 rfl) ?_
              refine lv_iconst (v := zi 3) hx hb dX5_run_140 rfl ?_
              refine g_iadd hx hb dX5_run_141 ?_
              refine lv_aload_n hx hb dX5_run_142 rfl (lv_at hl 1 rfl) ?_
              refine mm_get X hM q1205 (mf_31 _ _) dX5_run_143 ?_
              obtain ⟨g43, hh⟩ := gd_inv hh
              refine mm_iast X hM (ma_35 _ _) g43 dX5_run_146 (fun H locs S44 e45 hM => ?_)
              replace hh := nm_inv hh S44 e45
              refine lv_aload_n hx hb dX5_run_147 rfl (lv_at hl 1 rfl) ?_
              refine mm_get X hM q1209 (mf_35 _ _) dX5_run_148 ?_
              refine lv_iload hx hb dX5_run_151 (lv_at hl 0 rfl) ?_
              refine lv_iconst (v := zi 4) hx hb dX5_run_153 rfl ?_
              refine g_iadd hx hb dX5_run_154 ?_
              refine lv_aload_n hx hb dX5_run_155 rfl (lv_at hl 1 rfl) ?_
              refine mm_get X hM q1206 (mf_32 _ _) dX5_run_156 ?_
              obtain ⟨g46, hh⟩ := gd_inv hh
              refine mm_iast X hM (ma_35 _ _) g46 dX5_run_159 (fun H locs S47 e48 hM => ?_)
              replace hh := nm_inv hh S47 e48
              refine lv_aload_n hx hb dX5_run_160 rfl (lv_at hl 1 rfl) ?_
              refine lv_aload_n hx hb dX5_run_161 rfl (lv_at hl 1 rfl) ?_
              refine mm_get X hM q1206 (mf_32 _ _) dX5_run_162 ?_
              refine lv_aload_n hx hb dX5_run_165 rfl (lv_at hl 1 rfl) ?_
              refine mm_get X hM q1214 (mf_40 _ _) dX5_run_166 ?_
              refine g_iadd hx hb dX5_run_169 ?_
              refine lv_bipush (v := zi 64) hx hb dX5_run_170 (by decide) ?_
              refine g_iadd hx hb dX5_run_172 ?_
              refine lv_bipush (v := zi 64) hx hb dX5_run_173 (by decide) ?_
              obtain ⟨g49, hh⟩ := gd_inv hh
              refine g_irem hx hb ⟨g49, by decide, by decide⟩ dX5_run_175 ?_
              refine mm_put X hM q1206 (mp_32 _ _ _) dX5_run_176 (fun H locs S50 e51 hM => ?_)
              replace hh := nm_inv hh S50 e51
              refine lv_aload_n hx hb dX5_run_179 rfl (lv_at hl 1 rfl) ?_
              refine lv_dup hx hb dX5_run_180 rfl ?_
              refine mm_get X hM q1204 (mf_30 _ _) dX5_run_181 ?_
              refine lv_aload_n hx hb dX5_run_184 rfl (lv_at hl 1 rfl) ?_
              refine mm_get X hM q1215 (mf_41 _ _) dX5_run_185 ?_
              refine lv_aload_n hx hb dX5_run_188 rfl (lv_at hl 1 rfl) ?_
              refine mm_get X hM q1206 (mf_32 _ _) dX5_run_189 ?_
              obtain ⟨v53, k52, hh⟩ := bd_inv hh
              refine mcs_i (rest := [.int (zi (S50.1 41)), .int (zi (S50.1 30)), .ref (h)]) X hM (wM_wayX l (S50.1 32) k52) c5_wayX.1 c5_wayX.2 ⟨rfl, rfl⟩ ⟨Nat.le_of_ble_eq_true rfl, Nat.le_of_ble_eq_true rfl⟩ ⟨Nat.zero_le _, Nat.zero_le _⟩ hl.1 (Nat.le_of_ble_eq_true rfl) dX5_run_192 rfl (fun H locs hM => ?_)
              refine g_imul hx hb dX5_run_195 ?_
              refine lv_bipush (v := zi 16) hx hb dX5_run_196 (by decide) ?_
              obtain ⟨v55, k54, hh⟩ := bd_inv hh
              refine mcs_i (rest := [.int (zi (S50.1 30)), .ref (h)]) X hM (wM_floor l ((S50.1 41) * v53) (16 : Int) k54) c5_floor.1 c5_floor.2 ⟨rfl, rfl⟩ ⟨Nat.le_of_ble_eq_true rfl, Nat.le_of_ble_eq_true rfl⟩ ⟨Nat.zero_le _, Nat.zero_le _⟩ hl.1 (Nat.le_of_ble_eq_true rfl) dX5_run_198 rfl (fun H locs hM => ?_)
              refine g_iadd hx hb dX5_run_201 ?_
              refine mm_put X hM q1204 (mp_30 _ _ _) dX5_run_202 (fun H locs S56 e57 hM => ?_)
              replace hh := nm_inv hh S56 e57
              refine lv_aload_n hx hb dX5_run_205 rfl (lv_at hl 1 rfl) ?_
              refine lv_dup hx hb dX5_run_206 rfl ?_
              refine mm_get X hM q1205 (mf_31 _ _) dX5_run_207 ?_
              refine lv_aload_n hx hb dX5_run_210 rfl (lv_at hl 1 rfl) ?_
              refine mm_get X hM q1215 (mf_41 _ _) dX5_run_211 ?_
              refine lv_aload_n hx hb dX5_run_214 rfl (lv_at hl 1 rfl) ?_
              refine mm_get X hM q1206 (mf_32 _ _) dX5_run_215 ?_
              obtain ⟨v59, k58, hh⟩ := bd_inv hh
              refine mcs_i (rest := [.int (zi (S56.1 41)), .int (zi (S56.1 31)), .ref (h)]) X hM (wM_wayY l (S56.1 32) k58) c5_wayY.1 c5_wayY.2 ⟨rfl, rfl⟩ ⟨Nat.le_of_ble_eq_true rfl, Nat.le_of_ble_eq_true rfl⟩ ⟨Nat.zero_le _, Nat.zero_le _⟩ hl.1 (Nat.le_of_ble_eq_true rfl) dX5_run_218 rfl (fun H locs hM => ?_)
              refine g_imul hx hb dX5_run_221 ?_
              refine lv_bipush (v := zi 16) hx hb dX5_run_222 (by decide) ?_
              obtain ⟨v61, k60, hh⟩ := bd_inv hh
              refine mcs_i (rest := [.int (zi (S56.1 31)), .ref (h)]) X hM (wM_floor l ((S56.1 41) * v59) (16 : Int) k60) c5_floor.1 c5_floor.2 ⟨rfl, rfl⟩ ⟨Nat.le_of_ble_eq_true rfl, Nat.le_of_ble_eq_true rfl⟩ ⟨Nat.zero_le _, Nat.zero_le _⟩ hl.1 (Nat.le_of_ble_eq_true rfl) dX5_run_224 rfl (fun H locs hM => ?_)
              refine g_iadd hx hb dX5_run_227 ?_
              refine mm_put X hM q1205 (mp_31 _ _ _) dX5_run_228 (fun H locs S62 e63 hM => ?_)
              replace hh := nm_inv hh S62 e63
              refine lv_aload_n hx hb dX5_run_231 rfl (lv_at hl 1 rfl) ?_
              refine lv_dup hx hb dX5_run_232 rfl ?_
              refine mm_get X hM q1203 (mf_29 _ _) dX5_run_233 ?_
              refine lv_iconst (v := zi 1) hx hb dX5_run_236 rfl ?_
              refine g_iadd hx hb dX5_run_237 ?_
              refine mm_put X hM q1203 (mp_29 _ _ _) dX5_run_238 (fun H locs S64 e65 hM => ?_)
              replace hh := nm_inv hh S64 e65
              refine lv_aload_n hx hb dX5_run_241 rfl (lv_at hl 1 rfl) ?_
              refine lv_aload_n hx hb dX5_run_242 rfl (lv_at hl 1 rfl) ?_
              refine lv_aload_n hx hb dX5_run_243 rfl (lv_at hl 1 rfl) ?_
              refine mm_get X hM q1204 (mf_30 _ _) dX5_run_244 ?_
              refine lv_aload_n hx hb dX5_run_247 rfl (lv_at hl 1 rfl) ?_
              refine mm_get X hM q1205 (mf_31 _ _) dX5_run_248 ?_
              obtain ⟨v67, k66, hh⟩ := bd_inv hh
              refine mc_z (rest := [.ref (h)]) X hM (wM_isPlace l DM dA h S64 (S64.1 30) (S64.1 31) k66) c5_isPlace.1 c5_isPlace.2 ⟨rfl, rfl⟩ ⟨Nat.le_of_ble_eq_true rfl, Nat.le_of_ble_eq_true rfl⟩ ⟨Nat.zero_le _, Nat.zero_le _⟩ hl.1 (Nat.le_of_ble_eq_true rfl) dX5_run_251 rfl (fun H locs hM => ?_)
              refine g_bif_eq (tgt := 288) hx hb dX5_run_254 (by decide) (fun c68 => ?_) (fun c68 => ?_)
              · replace hh := it_t c68 hh
                refine lv_aload_n hx hb dX5_run_257 rfl (lv_at hl 1 rfl) ?_
                refine lv_aload_n hx hb dX5_run_258 rfl (lv_at hl 1 rfl) ?_
                refine mm_get X hM q1205 (mf_31 _ _) dX5_run_259 ?_
                refine lv_bipush (v := zi 16) hx hb dX5_run_262 (by decide) ?_
                obtain ⟨g69, hh⟩ := gd_inv hh
                refine g_idiv hx hb ⟨g69, by decide, by decide⟩ dX5_run_264 ?_
                refine lv_aload_n hx hb dX5_run_265 rfl (lv_at hl 1 rfl) ?_
                refine mm_get X hM q1174 (mf_0 _ _) dX5_run_266 ?_
                refine g_imul hx hb dX5_run_269 ?_
                refine lv_aload_n hx hb dX5_run_270 rfl (lv_at hl 1 rfl) ?_
                refine mm_get X hM q1204 (mf_30 _ _) dX5_run_271 ?_
                refine lv_bipush (v := zi 16) hx hb dX5_run_274 (by decide) ?_
                obtain ⟨g70, hh⟩ := gd_inv hh
                refine g_idiv hx hb ⟨g70, by decide, by decide⟩ dX5_run_276 ?_
                refine g_iadd hx hb dX5_run_277 ?_
                refine lv_aload_n hx hb dX5_run_278 rfl (lv_at hl 1 rfl) ?_
                refine mm_get X hM q1203 (mf_29 _ _) dX5_run_279 ?_
                obtain ⟨v72, k71, hh⟩ := bd_inv hh
                refine mc_i (rest := [.ref (h)]) X hM (wM_markAt l DM dA h S64 (((Int.tdiv (S64.1 31) 16) * (S64.1 0)) + (Int.tdiv (S64.1 30) 16)) (S64.1 29) k71) c5_markAt.1 c5_markAt.2 ⟨rfl, rfl⟩ ⟨Nat.le_of_ble_eq_true rfl, Nat.le_of_ble_eq_true rfl⟩ ⟨Nat.zero_le _, Nat.zero_le _⟩ hl.1 (Nat.le_of_ble_eq_true rfl) dX5_run_282 rfl (fun H locs hM => ?_)
                obtain ⟨g74, hh⟩ := gd_inv hh
                refine g_if_le (tgt := 292) hx hb g74 dX5_run_285 (by decide) (fun c73 => ?_) (fun c73 => ?_)
                · replace hh := it_t c73 hh
                  refine lv_iconst (v := zi 0) hx hb dX5_run_292 rfl ?_
                  exact hB293 x1 x5 (0 : Int) _ hK36 S64 hh _ _ _ hM (lv_sub hl [1, 2, 3] rfl)
                · replace hh := it_f c73 hh
                  exact hB288 x1 x5 _ hK36 S64 hh _ _ _ hM (lv_sub hl [1, 2, 3] rfl)
              · replace hh := it_f c68 hh
                exact hB288 x1 x5 _ hK36 S64 hh _ _ _ hM (lv_sub hl [1, 2, 3] rfl)
            · replace hh := it_f c30 hh
              exact hret _ _ _ _ _ (rt0 hh) dX5_run_87 hM
          · replace hh := it_f c19 hh
            exact hret _ _ _ _ _ (rt0 hh) dX5_run_299 hM
        · replace hh := it_f c17 hh
          exact hret _ _ _ _ _ (rt0 hh) dX5_run_299 hM
      · replace hh := it_f c15 hh
        exact hret _ _ _ _ _ (rt0 hh) dX5_run_299 hM
  replace hl : lv_has ls 7 [(0, .ref (h)), (1, .int (zi (x1))), (2, .int (zi (x2))), (3, .int (zi (x3))), (4, .int (zi (x4))), (5, .int (zi (x5)))] := hl
  unfold M_run at hh
  refine lv_aload_n hx hb dX5_run_0 rfl (lv_at hl 0 rfl) ?_
  refine lv_iconst (v := zi 0) hx hb dX5_run_1 rfl ?_
  refine mm_put X hM q1203 (mp_29 _ _ _) dX5_run_2 (fun H locs S1 e2 hM => ?_)
  replace hh := nm_inv hh S1 e2
  refine lv_aload_n hx hb dX5_run_5 rfl (lv_at hl 0 rfl) ?_
  refine lv_iload_n hx hb dX5_run_6 rfl (lv_at hl 2 rfl) ?_
  refine mm_put X hM q1204 (mp_30 _ _ _) dX5_run_7 (fun H locs S3 e4 hM => ?_)
  replace hh := nm_inv hh S3 e4
  refine lv_aload_n hx hb dX5_run_10 rfl (lv_at hl 0 rfl) ?_
  refine lv_iload_n hx hb dX5_run_11 rfl (lv_at hl 3 rfl) ?_
  refine mm_put X hM q1205 (mp_31 _ _ _) dX5_run_12 (fun H locs S5 e6 hM => ?_)
  replace hh := nm_inv hh S5 e6
  refine lv_aload_n hx hb dX5_run_15 rfl (lv_at hl 0 rfl) ?_
  refine lv_iload hx hb dX5_run_16 (lv_at hl 4 rfl) ?_
  refine mm_put X hM q1206 (mp_32 _ _ _) dX5_run_18 (fun H locs S7 e8 hM => ?_)
  replace hh := nm_inv hh S7 e8
  refine lv_aload_n hx hb dX5_run_21 rfl (lv_at hl 0 rfl) ?_
  refine lv_iconst (v := zi 0) hx hb dX5_run_22 rfl ?_
  refine mm_put X hM q1207 (mp_33 _ _ (by decide)) dX5_run_23 (fun H locs S9 e10 hM => ?_)
  replace hh := nm_inv hh S9 e10
  refine lv_aload_n hx hb dX5_run_26 rfl (lv_at hl 0 rfl) ?_
  refine lv_iconst (v := zi 0) hx hb dX5_run_27 rfl ?_
  refine mm_put X hM q1208 (mp_34 _ _ (by decide)) dX5_run_28 (fun H locs S11 e12 hM => ?_)
  replace hh := nm_inv hh S11 e12
  refine lv_aload_n hx hb dX5_run_31 rfl (lv_at hl 0 rfl) ?_
  refine lv_iconst (v := zi 0) hx hb dX5_run_32 rfl ?_
  refine mm_put X hM q1202 (mp_28 _ _ _) dX5_run_33 (fun H locs S13 e14 hM => ?_)
  replace hh := nm_inv hh S13 e14
  exact hL36 x1 x5 FU S13 hh _ _ _ hM (lv_sub hl [0, 1, 5] rfl)
def M_fly_b219 (K219 : xS → Int → Option (Int × xS)) (S : xS) (x7 : Int) : Option (Int × xS) := gd (r32 (x7) ∧ r32 (38 * (S.1 29))) (if x7 < (38 * (S.1 29)) then (gd ((0 : Int) ≤ x7 ∧ (x7 : Int) < 2280) (gd ((0 : Int) ≤ 890 + x7 ∧ (890 + x7 : Int) < 3170) (nm (aset S 2 (890 + x7) (S.2 35 x7)) (fun S49 => nm ((x7 + 1) : Int) (fun v51 => K219 S49 v51))))) else (some ((S.1 29 : Int), S)))
def M_fly_L219 : Nat → xS → Int → Option (Int × xS)
  | 0 => fun _ _ => none
  | n + 1 => fun S x7 => M_fly_b219  (M_fly_L219  n) S x7
def M_fly_B175 (S : xS) (t0 : Int) (t1 : Int) : Option (Int × xS) := gd ((0 : Int) ≤ t1 ∧ (t1 : Int) < 3170) (nm (aset S 2 t1 t0) (fun S37 => nm (aset S37 2 (886 : Int) (S37.1 28)) (fun S39 => nm (aset S39 2 (887 : Int) (S39.2 2 1)) (fun S41 => nm (aset S41 2 (888 : Int) (S41.2 2 2)) (fun S43 => M_fly_L219 FU S43 (0 : Int))))))
def M_fly_B155 (S : xS) (t0 : Int) (t1 : Int) : Option (Int × xS) := gd ((0 : Int) ≤ t1 ∧ (t1 : Int) < 3170) (nm (aset S 2 t1 t0) (fun S32 => gd (r32 (S32.1 34)) (if (S32.1 34) = 0 then (M_fly_B175 S32 (0 : Int) (885 : Int)) else (M_fly_B175 S32 (1 : Int) (885 : Int)))))
def M_fly_B74 (S : xS) (x1 : Int) (x2 : Int) (x3 : Int) (x4 : Int) (x5 : Int) (t0 : Int) : Option (Int × xS) := nm (fset S 27 (t0)) (fun S17 => bd (M_run S17 x1 x2 x3 x4 x5) (fun S20 => nm (aset S20 2 (880 : Int) (S20.1 29)) (fun S21 => nm (aset S21 2 (881 : Int) (S21.1 30)) (fun S23 => nm (aset S23 2 (882 : Int) (S23.1 31)) (fun S25 => nm (aset S25 2 (883 : Int) (S25.1 32)) (fun S27 => gd (r32 (S27.1 33)) (if (S27.1 33) = 0 then (M_fly_B155 S27 (0 : Int) (884 : Int)) else (M_fly_B155 S27 (1 : Int) (884 : Int)))))))))
def M_fly_B54 (S : xS) (x1 : Int) (x2 : Int) (x3 : Int) (x4 : Int) (x5 : Int) (x6 : Int) : Option (Int × xS) := gd (r32 (x6)) (if x6 = 0 then (M_fly_B74 S x1 x2 x3 x4 x5 (1000000 : Int)) else (gd ((0 : Int) ≤ 1 ∧ ((0 : Int) ≤ x6 - 1 ∧ (x6 - 1 : Int) ≤ 63) ∧ (1 : Int) * 2 ^ (Int.toNat (x6 - 1)) < 18446744073709551616) (M_fly_B74 S x1 x2 x3 x4 x5 (((1 : Int) * 2 ^ (Int.toNat (x6 - 1))) - 1))))
def M_fly (S : xS) (x1 : Int) (x2 : Int) (x3 : Int) (x4 : Int) (x5 : Int) (x6 : Int) : Option (Int × xS) := bd (M_isRule S x1) (fun v2 => if v2 = true then (bd (M_isStart S x2 x3) (fun v5 => if v5 = true then (bd (M_isSide x4) (fun v8 => if v8 = true then (bd (M_isIn x5 (1 : Int) (60 : Int)) (fun v11 => if v11 = true then (gd (r32 (x6)) (if x6 = 0 then (M_fly_B54 S x1 x2 x3 x4 x5 x6) else (bd (M_isIn x6 (4 : Int) (20 : Int)) (fun v55 => if v55 = true then (M_fly_B54 S x1 x2 x3 x4 x5 x6) else (some (((-1) : Int), S)))))) else (some (((-1) : Int), S)))) else (some (((-1) : Int), S)))) else (some (((-1) : Int), S)))) else (some (((-1) : Int), S)))
set_option maxHeartbeats 4000000 in
theorem wM_fly (l : Launch) (DM : va_G) (dA : Nat → ClassId) (h : Nat) (S : xS) (x1 x2 x3 x4 x5 x6 : Int) {r : Int} {S1 : xS} (hh : M_fly S x1 x2 x3 x4 x5 x6 = some (r, S1)) : mt_i l yX5_fly cX5_fly 8 (some .int) ({ frames := 7, cells := 0, slots := 0, locals := 154 } : Room) DM dA h [.int (zi x1), .int (zi x2), .int (zi x3), .int (zi x4), .int (zi x5), .int (zi x6)] S r S1 := by
  refine mo_i (by decide) rfl (Nat.le_of_ble_eq_true rfl) ?_
  intro p e s m args below meth c Q ls X hret hl hM
  have hx := X.1.1
  have hb := X.1.2.1
  have hown := X.1.2.2.2.1
  have hts := X.1.2.2.2.2
  skip
  have hL219 : ∀ (n : Nat) (S : xS) (x7 : Int), M_fly_L219 n S x7 = some (r, S1) → ∀ (H : Heap) (locs : List Loc) (ls : Array Slot), MX DM dA h S s H locs → lv_has ls 8 [(0, .ref (h)), (7, .int (zi (x7)))] → W p l e ({ frames := 7, cells := 0, slots := 0, locals := 154 } : Room) s m args below meth c H locs 0 0 Q (F0 m 219 ls []) := by
    intro   n
    induction n with
    | zero => intro S x7 hh; exact no_some hh
    | succ n ih =>
      intro S x7 hh H locs ls hM hl
      replace hh : M_fly_b219 (M_fly_L219 n) S x7 = some (r, S1) := hh
      unfold M_fly_b219 at hh
      have hK219 := ih
      refine lv_iload hx hb dX5_fly_219 (lv_at hl 1 rfl) ?_
      refine lv_bipush (v := zi 38) hx hb dX5_fly_221 (by decide) ?_
      refine lv_aload_n hx hb dX5_fly_223 rfl (lv_at hl 0 rfl) ?_
      refine mm_get X hM q1203 (mf_29 _ _) dX5_fly_224 ?_
      refine g_imul hx hb dX5_fly_227 ?_
      obtain ⟨g46, hh⟩ := gd_inv hh
      refine g_icmp_ge (tgt := 255) hx hb g46 dX5_fly_228 (by decide) (fun c45 => ?_) (fun c45 => ?_)
      · replace hh := it_t c45 hh
        refine lv_aload_n hx hb dX5_fly_231 rfl (lv_at hl 0 rfl) ?_
        refine mm_get X hM q1176 (mf_2 _ _) dX5_fly_232 ?_
        refine lv_sipush (v := zi 890) hx hb dX5_fly_235 (by decide) ?_
        refine lv_iload hx hb dX5_fly_238 (lv_at hl 1 rfl) ?_
        refine g_iadd hx hb dX5_fly_240 ?_
        refine lv_aload_n hx hb dX5_fly_241 rfl (lv_at hl 0 rfl) ?_
        refine mm_get X hM q1209 (mf_35 _ _) dX5_fly_242 ?_
        refine lv_iload hx hb dX5_fly_245 (lv_at hl 1 rfl) ?_
        obtain ⟨g47, hh⟩ := gd_inv hh
        refine mm_iald X hM (ma_35 _ _) g47 dX5_fly_247 ?_
        obtain ⟨g48, hh⟩ := gd_inv hh
        refine mm_iast X hM (ma_2 _ _) g48 dX5_fly_248 (fun H locs S49 e50 hM => ?_)
        replace hh := nm_inv hh S49 e50
        obtain ⟨v51, e52⟩ : ∃ z : Int, z = x7 + 1 := ⟨_, rfl⟩
        replace hh := nm_inv hh v51 e52
        refine lv_iinc (v := zi v51) (lv' := [(7, .int (zi (v51))), (0, .ref (h))]) hx hb dX5_fly_249 hl (k := 1) rfl (by rw [e52]; exact zi_add _ _) (by decide) rfl (fun ls hl => ?_)
        refine lv_goto (tgt := 219) hx hb dX5_fly_252 (by decide) ?_
        exact hK219 S49 v51 hh _ _ _ hM (lv_sub hl [1, 0] rfl)
      · replace hh := it_f c45 hh
        refine lv_aload_n hx hb dX5_fly_255 rfl (lv_at hl 0 rfl) ?_
        refine mm_get X hM q1203 (mf_29 _ _) dX5_fly_256 ?_
        exact hret _ _ _ _ _ _ (rt1 hh) (rt2 hh) dX5_fly_259 hM
  have hB175 : ∀ (t0 : Int) (t1 : Int) (S : xS), M_fly_B175 S t0 t1 = some (r, S1) → ∀ (H : Heap) (locs : List Loc) (ls : Array Slot), MX DM dA h S s H locs → lv_has ls 8 [(0, .ref (h))] → W p l e ({ frames := 7, cells := 0, slots := 0, locals := 154 } : Room) s m args below meth c H locs 0 0 Q (F0 m 175 ls [.int (zi (t0)), .int (zi (t1)), .ref (h + 1)]) := by
    intro t0 t1  S hh H locs ls hM hl
    unfold M_fly_B175 at hh
    obtain ⟨g36, hh⟩ := gd_inv hh
    refine mm_iast X hM (ma_2 _ _) g36 dX5_fly_175 (fun H locs S37 e38 hM => ?_)
    replace hh := nm_inv hh S37 e38
    refine lv_aload_n hx hb dX5_fly_176 rfl (lv_at hl 0 rfl) ?_
    refine mm_get X hM q1176 (mf_2 _ _) dX5_fly_177 ?_
    refine lv_sipush (v := zi 886) hx hb dX5_fly_180 (by decide) ?_
    refine lv_aload_n hx hb dX5_fly_183 rfl (lv_at hl 0 rfl) ?_
    refine mm_get X hM q1202 (mf_28 _ _) dX5_fly_184 ?_
    refine mm_iast X hM (ma_2 _ _) (by decide) dX5_fly_187 (fun H locs S39 e40 hM => ?_)
    replace hh := nm_inv hh S39 e40
    refine lv_aload_n hx hb dX5_fly_188 rfl (lv_at hl 0 rfl) ?_
    refine mm_get X hM q1176 (mf_2 _ _) dX5_fly_189 ?_
    refine lv_sipush (v := zi 887) hx hb dX5_fly_192 (by decide) ?_
    refine lv_aload_n hx hb dX5_fly_195 rfl (lv_at hl 0 rfl) ?_
    refine mm_get X hM q1176 (mf_2 _ _) dX5_fly_196 ?_
    refine lv_iconst (v := zi 1) hx hb dX5_fly_199 rfl ?_
    refine mm_iald X hM (ma_2 _ _) (by decide) dX5_fly_200 ?_
    refine mm_iast X hM (ma_2 _ _) (by decide) dX5_fly_201 (fun H locs S41 e42 hM => ?_)
    replace hh := nm_inv hh S41 e42
    refine lv_aload_n hx hb dX5_fly_202 rfl (lv_at hl 0 rfl) ?_
    refine mm_get X hM q1176 (mf_2 _ _) dX5_fly_203 ?_
    refine lv_sipush (v := zi 888) hx hb dX5_fly_206 (by decide) ?_
    refine lv_aload_n hx hb dX5_fly_209 rfl (lv_at hl 0 rfl) ?_
    refine mm_get X hM q1176 (mf_2 _ _) dX5_fly_210 ?_
    refine lv_iconst (v := zi 2) hx hb dX5_fly_213 rfl ?_
    refine mm_iald X hM (ma_2 _ _) (by decide) dX5_fly_214 ?_
    refine mm_iast X hM (ma_2 _ _) (by decide) dX5_fly_215 (fun H locs S43 e44 hM => ?_)
    replace hh := nm_inv hh S43 e44
    refine lv_iconst (v := zi 0) hx hb dX5_fly_216 rfl ?_
    refine lv_istore (lv' := [(7, .int (zi (0))), (0, .ref (h))]) hx hb dX5_fly_217 hl (by decide) rfl (fun ls hl => ?_)
    exact hL219 FU S43 (0 : Int) hh _ _ _ hM (lv_sub hl [1, 0] rfl)
  have hB155 : ∀ (t0 : Int) (t1 : Int) (S : xS), M_fly_B155 S t0 t1 = some (r, S1) → ∀ (H : Heap) (locs : List Loc) (ls : Array Slot), MX DM dA h S s H locs → lv_has ls 8 [(0, .ref (h))] → W p l e ({ frames := 7, cells := 0, slots := 0, locals := 154 } : Room) s m args below meth c H locs 0 0 Q (F0 m 155 ls [.int (zi (t0)), .int (zi (t1)), .ref (h + 1)]) := by
    intro t0 t1  S hh H locs ls hM hl
    unfold M_fly_B155 at hh
    obtain ⟨g31, hh⟩ := gd_inv hh
    refine mm_iast X hM (ma_2 _ _) g31 dX5_fly_155 (fun H locs S32 e33 hM => ?_)
    replace hh := nm_inv hh S32 e33
    refine lv_aload_n hx hb dX5_fly_156 rfl (lv_at hl 0 rfl) ?_
    refine mm_get X hM q1176 (mf_2 _ _) dX5_fly_157 ?_
    refine lv_sipush (v := zi 885) hx hb dX5_fly_160 (by decide) ?_
    refine lv_aload_n hx hb dX5_fly_163 rfl (lv_at hl 0 rfl) ?_
    refine mm_get X hM q1208 (mf_34 _ _) dX5_fly_164 ?_
    obtain ⟨g35, hh⟩ := gd_inv hh
    refine g_if_eq (tgt := 174) hx hb g35 dX5_fly_167 (by decide) (fun c34 => ?_) (fun c34 => ?_)
    · replace hh := it_t c34 hh
      refine lv_iconst (v := zi 0) hx hb dX5_fly_174 rfl ?_
      exact hB175 (0 : Int) (885 : Int) S32 hh _ _ _ hM (lv_sub hl [0] rfl)
    · replace hh := it_f c34 hh
      refine lv_iconst (v := zi 1) hx hb dX5_fly_170 rfl ?_
      refine lv_goto (tgt := 175) hx hb dX5_fly_171 (by decide) ?_
      exact hB175 (1 : Int) (885 : Int) S32 hh _ _ _ hM (lv_sub hl [0] rfl)
  have hB74 : ∀ (x1 : Int) (x2 : Int) (x3 : Int) (x4 : Int) (x5 : Int) (t0 : Int) (S : xS), M_fly_B74 S x1 x2 x3 x4 x5 t0 = some (r, S1) → ∀ (H : Heap) (locs : List Loc) (ls : Array Slot), MX DM dA h S s H locs → lv_has ls 8 [(0, .ref (h)), (1, .int (zi (x1))), (2, .int (zi (x2))), (3, .int (zi (x3))), (4, .int (zi (x4))), (5, .int (zi (x5)))] → W p l e ({ frames := 7, cells := 0, slots := 0, locals := 154 } : Room) s m args below meth c H locs 0 0 Q (F0 m 74 ls [.long (zl (t0)), .ref (h)]) := by
    intro x1 x2 x3 x4 x5 t0  S hh H locs ls hM hl
    unfold M_fly_B74 at hh
    refine mm_put X hM q1201 (mp_27 _ _ _) dX5_fly_74 (fun H locs S17 e18 hM => ?_)
    replace hh := nm_inv hh S17 e18
    refine lv_aload_n hx hb dX5_fly_77 rfl (lv_at hl 0 rfl) ?_
    refine lv_iload_n hx hb dX5_fly_78 rfl (lv_at hl 1 rfl) ?_
    refine lv_iload_n hx hb dX5_fly_79 rfl (lv_at hl 2 rfl) ?_
    refine lv_iload_n hx hb dX5_fly_80 rfl (lv_at hl 3 rfl) ?_
    refine lv_iload hx hb dX5_fly_81 (lv_at hl 4 rfl) ?_
    refine lv_iload hx hb dX5_fly_83 (lv_at hl 5 rfl) ?_
    obtain ⟨S20, k19, hh⟩ := bd_inv hh
    refine mc_v (rest := []) X hM (wM_run l DM dA h S17 x1 x2 x3 x4 x5 k19) c5_run.1 c5_run.2 ⟨rfl, rfl⟩ ⟨Nat.le_of_ble_eq_true rfl, Nat.le_of_ble_eq_true rfl⟩ ⟨Nat.zero_le _, Nat.zero_le _⟩ hl.1 (Nat.le_of_ble_eq_true rfl) dX5_fly_85 rfl (fun H locs hM => ?_)
    refine lv_aload_n hx hb dX5_fly_88 rfl (lv_at hl 0 rfl) ?_
    refine mm_get X hM q1176 (mf_2 _ _) dX5_fly_89 ?_
    refine lv_sipush (v := zi 880) hx hb dX5_fly_92 (by decide) ?_
    refine lv_aload_n hx hb dX5_fly_95 rfl (lv_at hl 0 rfl) ?_
    refine mm_get X hM q1203 (mf_29 _ _) dX5_fly_96 ?_
    refine mm_iast X hM (ma_2 _ _) (by decide) dX5_fly_99 (fun H locs S21 e22 hM => ?_)
    replace hh := nm_inv hh S21 e22
    refine lv_aload_n hx hb dX5_fly_100 rfl (lv_at hl 0 rfl) ?_
    refine mm_get X hM q1176 (mf_2 _ _) dX5_fly_101 ?_
    refine lv_sipush (v := zi 881) hx hb dX5_fly_104 (by decide) ?_
    refine lv_aload_n hx hb dX5_fly_107 rfl (lv_at hl 0 rfl) ?_
    refine mm_get X hM q1204 (mf_30 _ _) dX5_fly_108 ?_
    refine mm_iast X hM (ma_2 _ _) (by decide) dX5_fly_111 (fun H locs S23 e24 hM => ?_)
    replace hh := nm_inv hh S23 e24
    refine lv_aload_n hx hb dX5_fly_112 rfl (lv_at hl 0 rfl) ?_
    refine mm_get X hM q1176 (mf_2 _ _) dX5_fly_113 ?_
    refine lv_sipush (v := zi 882) hx hb dX5_fly_116 (by decide) ?_
    refine lv_aload_n hx hb dX5_fly_119 rfl (lv_at hl 0 rfl) ?_
    refine mm_get X hM q1205 (mf_31 _ _) dX5_fly_120 ?_
    refine mm_iast X hM (ma_2 _ _) (by decide) dX5_fly_123 (fun H locs S25 e26 hM => ?_)
    replace hh := nm_inv hh S25 e26
    refine lv_aload_n hx hb dX5_fly_124 rfl (lv_at hl 0 rfl) ?_
    refine mm_get X hM q1176 (mf_2 _ _) dX5_fly_125 ?_
    refine lv_sipush (v := zi 883) hx hb dX5_fly_128 (by decide) ?_
    refine lv_aload_n hx hb dX5_fly_131 rfl (lv_at hl 0 rfl) ?_
    refine mm_get X hM q1206 (mf_32 _ _) dX5_fly_132 ?_
    refine mm_iast X hM (ma_2 _ _) (by decide) dX5_fly_135 (fun H locs S27 e28 hM => ?_)
    replace hh := nm_inv hh S27 e28
    refine lv_aload_n hx hb dX5_fly_136 rfl (lv_at hl 0 rfl) ?_
    refine mm_get X hM q1176 (mf_2 _ _) dX5_fly_137 ?_
    refine lv_sipush (v := zi 884) hx hb dX5_fly_140 (by decide) ?_
    refine lv_aload_n hx hb dX5_fly_143 rfl (lv_at hl 0 rfl) ?_
    refine mm_get X hM q1207 (mf_33 _ _) dX5_fly_144 ?_
    obtain ⟨g30, hh⟩ := gd_inv hh
    refine g_if_eq (tgt := 154) hx hb g30 dX5_fly_147 (by decide) (fun c29 => ?_) (fun c29 => ?_)
    · replace hh := it_t c29 hh
      refine lv_iconst (v := zi 0) hx hb dX5_fly_154 rfl ?_
      exact hB155 (0 : Int) (884 : Int) S27 hh _ _ _ hM (lv_sub hl [0] rfl)
    · replace hh := it_f c29 hh
      refine lv_iconst (v := zi 1) hx hb dX5_fly_150 rfl ?_
      refine lv_goto (tgt := 155) hx hb dX5_fly_151 (by decide) ?_
      exact hB155 (1 : Int) (884 : Int) S27 hh _ _ _ hM (lv_sub hl [0] rfl)
  have hB54 : ∀ (x1 : Int) (x2 : Int) (x3 : Int) (x4 : Int) (x5 : Int) (x6 : Int) (S : xS), M_fly_B54 S x1 x2 x3 x4 x5 x6 = some (r, S1) → ∀ (H : Heap) (locs : List Loc) (ls : Array Slot), MX DM dA h S s H locs → lv_has ls 8 [(0, .ref (h)), (1, .int (zi (x1))), (2, .int (zi (x2))), (3, .int (zi (x3))), (4, .int (zi (x4))), (5, .int (zi (x5))), (6, .int (zi (x6)))] → W p l e ({ frames := 7, cells := 0, slots := 0, locals := 154 } : Room) s m args below meth c H locs 0 0 Q (F0 m 54 ls []) := by
    intro x1 x2 x3 x4 x5 x6  S hh H locs ls hM hl
    unfold M_fly_B54 at hh
    refine lv_aload_n hx hb dX5_fly_54 rfl (lv_at hl 0 rfl) ?_
    refine lv_iload hx hb dX5_fly_55 (lv_at hl 6 rfl) ?_
    obtain ⟨g16, hh⟩ := gd_inv hh
    refine g_if_ne (tgt := 66) hx hb g16 dX5_fly_57 (by decide) (fun c15 => ?_) (fun c15 => ?_)
    · replace hh := it_t c15 hh
      refine g_ldc2 (v := 1000000) (z := 1000000) hx hb (by decide) hown (hts _ q1546) dX5_fly_60 ?_
      refine lv_goto (tgt := 74) hx hb dX5_fly_63 (by decide) ?_
      exact hB74 x1 x2 x3 x4 x5 (1000000 : Int) S hh _ _ _ hM (lv_sub hl [0, 1, 2, 3, 4, 5] rfl)
    · replace hh := it_f c15 hh
      refine lv_lconst (v := zl 1) hx hb dX5_fly_66 (by decide) ?_
      refine lv_iload hx hb dX5_fly_67 (lv_at hl 6 rfl) ?_
      refine lv_iconst (v := zi 1) hx hb dX5_fly_69 rfl ?_
      refine g_isub hx hb dX5_fly_70 ?_
      obtain ⟨g53, hh⟩ := gd_inv hh
      refine g_lshl hx hb g53 dX5_fly_71 ?_
      refine lv_lconst (v := zl 1) hx hb dX5_fly_72 (by decide) ?_
      refine g_lsub hx hb dX5_fly_73 ?_
      exact hB74 x1 x2 x3 x4 x5 (((1 : Int) * 2 ^ (Int.toNat (x6 - 1))) - 1) S hh _ _ _ hM (lv_sub hl [0, 1, 2, 3, 4, 5] rfl)
  replace hl : lv_has ls 8 [(0, .ref (h)), (1, .int (zi (x1))), (2, .int (zi (x2))), (3, .int (zi (x3))), (4, .int (zi (x4))), (5, .int (zi (x5))), (6, .int (zi (x6)))] := hl
  unfold M_fly at hh
  refine lv_aload_n hx hb dX5_fly_0 rfl (lv_at hl 0 rfl) ?_
  refine lv_iload_n hx hb dX5_fly_1 rfl (lv_at hl 1 rfl) ?_
  obtain ⟨v2, k1, hh⟩ := bd_inv hh
  refine mc_z (rest := []) X hM (wM_isRule l DM dA h S x1 k1) c5_isRule.1 c5_isRule.2 ⟨rfl, rfl⟩ ⟨Nat.le_of_ble_eq_true rfl, Nat.le_of_ble_eq_true rfl⟩ ⟨Nat.zero_le _, Nat.zero_le _⟩ hl.1 (Nat.le_of_ble_eq_true rfl) dX5_fly_2 rfl (fun H locs hM => ?_)
  refine g_bif_eq (tgt := 52) hx hb dX5_fly_5 (by decide) (fun c3 => ?_) (fun c3 => ?_)
  · replace hh := it_t c3 hh
    refine lv_aload_n hx hb dX5_fly_8 rfl (lv_at hl 0 rfl) ?_
    refine lv_iload_n hx hb dX5_fly_9 rfl (lv_at hl 2 rfl) ?_
    refine lv_iload_n hx hb dX5_fly_10 rfl (lv_at hl 3 rfl) ?_
    obtain ⟨v5, k4, hh⟩ := bd_inv hh
    refine mc_z (rest := []) X hM (wM_isStart l DM dA h S x2 x3 k4) c5_isStart.1 c5_isStart.2 ⟨rfl, rfl⟩ ⟨Nat.le_of_ble_eq_true rfl, Nat.le_of_ble_eq_true rfl⟩ ⟨Nat.zero_le _, Nat.zero_le _⟩ hl.1 (Nat.le_of_ble_eq_true rfl) dX5_fly_11 rfl (fun H locs hM => ?_)
    refine g_bif_eq (tgt := 52) hx hb dX5_fly_14 (by decide) (fun c6 => ?_) (fun c6 => ?_)
    · replace hh := it_t c6 hh
      refine lv_iload hx hb dX5_fly_17 (lv_at hl 4 rfl) ?_
      obtain ⟨v8, k7, hh⟩ := bd_inv hh
      refine mcs_z (rest := []) X hM (wM_isSide l x4 k7) c5_isSide.1 c5_isSide.2 ⟨rfl, rfl⟩ ⟨Nat.le_of_ble_eq_true rfl, Nat.le_of_ble_eq_true rfl⟩ ⟨Nat.zero_le _, Nat.zero_le _⟩ hl.1 (Nat.le_of_ble_eq_true rfl) dX5_fly_19 rfl (fun H locs hM => ?_)
      refine g_bif_eq (tgt := 52) hx hb dX5_fly_22 (by decide) (fun c9 => ?_) (fun c9 => ?_)
      · replace hh := it_t c9 hh
        refine lv_iload hx hb dX5_fly_25 (lv_at hl 5 rfl) ?_
        refine lv_iconst (v := zi 1) hx hb dX5_fly_27 rfl ?_
        refine lv_bipush (v := zi 60) hx hb dX5_fly_28 (by decide) ?_
        obtain ⟨v11, k10, hh⟩ := bd_inv hh
        refine mcs_z (rest := []) X hM (wM_isIn l x5 (1 : Int) (60 : Int) k10) c5_isIn.1 c5_isIn.2 ⟨rfl, rfl⟩ ⟨Nat.le_of_ble_eq_true rfl, Nat.le_of_ble_eq_true rfl⟩ ⟨Nat.zero_le _, Nat.zero_le _⟩ hl.1 (Nat.le_of_ble_eq_true rfl) dX5_fly_30 rfl (fun H locs hM => ?_)
        refine g_bif_eq (tgt := 52) hx hb dX5_fly_33 (by decide) (fun c12 => ?_) (fun c12 => ?_)
        · replace hh := it_t c12 hh
          refine lv_iload hx hb dX5_fly_36 (lv_at hl 6 rfl) ?_
          obtain ⟨g14, hh⟩ := gd_inv hh
          refine g_if_eq (tgt := 54) hx hb g14 dX5_fly_38 (by decide) (fun c13 => ?_) (fun c13 => ?_)
          · replace hh := it_t c13 hh
            exact hB54 x1 x2 x3 x4 x5 x6 S hh _ _ _ hM (lv_sub hl [0, 1, 2, 3, 4, 5, 6] rfl)
          · replace hh := it_f c13 hh
            refine lv_iload hx hb dX5_fly_41 (lv_at hl 6 rfl) ?_
            refine lv_iconst (v := zi 4) hx hb dX5_fly_43 rfl ?_
            refine lv_bipush (v := zi 20) hx hb dX5_fly_44 (by decide) ?_
            obtain ⟨v55, k54, hh⟩ := bd_inv hh
            refine mcs_z (rest := []) X hM (wM_isIn l x6 (4 : Int) (20 : Int) k54) c5_isIn.1 c5_isIn.2 ⟨rfl, rfl⟩ ⟨Nat.le_of_ble_eq_true rfl, Nat.le_of_ble_eq_true rfl⟩ ⟨Nat.zero_le _, Nat.zero_le _⟩ hl.1 (Nat.le_of_ble_eq_true rfl) dX5_fly_46 rfl (fun H locs hM => ?_)
            refine g_bif_ne (tgt := 54) hx hb dX5_fly_49 (by decide) (fun c56 => ?_) (fun c56 => ?_)
            · replace hh := it_t c56 hh
              exact hB54 x1 x2 x3 x4 x5 x6 S hh _ _ _ hM (lv_sub hl [0, 1, 2, 3, 4, 5, 6] rfl)
            · replace hh := it_f c56 hh
              refine lv_iconst (v := zi (-1)) hx hb dX5_fly_52 rfl ?_
              exact hret _ _ _ _ _ _ (rt1 hh) (rt2 hh) dX5_fly_53 hM
        · replace hh := it_f c12 hh
          refine lv_iconst (v := zi (-1)) hx hb dX5_fly_52 rfl ?_
          exact hret _ _ _ _ _ _ (rt1 hh) (rt2 hh) dX5_fly_53 hM
      · replace hh := it_f c9 hh
        refine lv_iconst (v := zi (-1)) hx hb dX5_fly_52 rfl ?_
        exact hret _ _ _ _ _ _ (rt1 hh) (rt2 hh) dX5_fly_53 hM
    · replace hh := it_f c6 hh
      refine lv_iconst (v := zi (-1)) hx hb dX5_fly_52 rfl ?_
      exact hret _ _ _ _ _ _ (rt1 hh) (rt2 hh) dX5_fly_53 hM
  · replace hh := it_f c3 hh
    refine lv_iconst (v := zi (-1)) hx hb dX5_fly_52 rfl ?_
    exact hret _ _ _ _ _ _ (rt1 hh) (rt2 hh) dX5_fly_53 hM
