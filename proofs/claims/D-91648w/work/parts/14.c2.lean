set_option maxRecDepth 100000
def C_adds4 (S : yS) (x1 z n : Int) (f : Int → Int) : Option (Int × yS) := gd (n ≤ 4) (nm (ccT S (4 + 1 + z) n f) (fun S2 => gd ((0 : Int) ≤ x1 ∧ (x1 : Int) < 14) (gd ((0 : Int) ≤ x1 ∧ (x1 : Int) < 14) (nm (cas S2 2 x1 ((S2.2 2 x1) + 1)) (fun S6 => gd ((0 : Int) ≤ x1 ∧ (x1 : Int) < 14) (some (((S6.2 2 x1) - 1 : Int), S6)))))))
set_option maxHeartbeats 4000000 in
theorem wC_adds4 (l : Launch) (DC : va_G) (dA : Nat → ClassId) (hC : Nat) (S : yS) (x1 z : Int) (gz : (0 : Int) ≤ z ∧ z < 6) (q n : Nat) (f : Int → Int) {r : Int} {S1 : yS} (hh : C_adds4 S x1 z n f = some (r, S1)) : ctT_i l yX1_adds cX1_adds 4 (some .int) ({ frames := 1, cells := 0, slots := 0, locals := 40 } : Room) DC dA hC [.ref hC, .int (zi x1), .ref (hC + (4 + 1 + Int.toNat z)), .ref q] S q n f r S1 := by
  refine coT_i (by decide) (Nat.le_of_ble_eq_true rfl) ?_
  intro p e s m args below meth c Q ls X hret hl hM
  have hx := X.1.1
  have hb := X.1.2.1
  have hown := X.1.2.2.2.1
  have hts := X.1.2.2.2.2
  replace hl : lv_has ls 4 [(0, .ref (hC)), (1, .int (zi (x1))), (2, .ref (hC + (4 + 1 + Int.toNat z))), (3, .ref (q))] := hl
  unfold C_adds4 at hh
  refine lv_aload_n hx hb dX1_adds_0 rfl (lv_at hl 3 rfl) ?_
  refine lv_iconst (v := zi 0) hx hb dX1_adds_1 rfl ?_
  refine lv_aload_n hx hb dX1_adds_2 rfl (lv_at hl 2 rfl) ?_
  refine lv_iconst (v := zi 0) hx hb dX1_adds_3 rfl ?_
  refine lv_aload_n hx hb dX1_adds_4 rfl (lv_at hl 3 rfl) ?_
  refine cm_alenT X hM dX1_adds_5 ?_
  obtain ⟨g1, hh⟩ := gd_inv hh
  refine cm_copyT (z1 := (4 + 1 + z)) (rest := []) X hM (cr_4 gz) (by have := gz.1; omega) rfl g1 q438 q291 q290 q88 hl.1 (Nat.le_of_ble_eq_true rfl) (Nat.le_of_ble_eq_true rfl) dX1_adds_6 (fun H locs S2 e3 hM => ?_)
  replace hh := nm_inv hh S2 e3
  refine lv_aload_n hx hb dX1_adds_9 rfl (lv_at hl 0 rfl) ?_
  refine cm_get X hM q379 (cf_0_0 _ _ _) rfl dX1_adds_10 ?_
  refine cm_getN X hM q161 (cf_1_0 _ _ _) rfl dX1_adds_13 ?_
  refine lv_iload_n hx hb dX1_adds_16 rfl (lv_at hl 1 rfl) ?_
  refine lv_dup2_11 hx hb dX1_adds_17 rfl rfl ?_
  obtain ⟨g4, hh⟩ := gd_inv hh
  refine cm_iald (qz := 2) X hM ci_2 rfl rfl g4 dX1_adds_18 ?_
  refine lv_iconst (v := zi 1) hx hb dX1_adds_19 rfl ?_
  refine g_iadd hx hb dX1_adds_20 ?_
  obtain ⟨g5, hh⟩ := gd_inv hh
  refine cm_iast (qz := 2) X hM ci_2 rfl rfl g5 dX1_adds_21 (fun H locs S6 e7 hM => ?_)
  replace hh := nm_inv hh S6 e7
  refine lv_aload_n hx hb dX1_adds_22 rfl (lv_at hl 0 rfl) ?_
  refine cm_get X hM q379 (cf_0_0 _ _ _) rfl dX1_adds_23 ?_
  refine cm_getN X hM q161 (cf_1_0 _ _ _) rfl dX1_adds_26 ?_
  refine lv_iload_n hx hb dX1_adds_29 rfl (lv_at hl 1 rfl) ?_
  obtain ⟨g8, hh⟩ := gd_inv hh
  refine cm_iald (qz := 2) X hM ci_2 rfl rfl g8 dX1_adds_30 ?_
  refine lv_iconst (v := zi 1) hx hb dX1_adds_31 rfl ?_
  refine g_isub hx hb dX1_adds_32 ?_
  exact hret _ _ _ _ _ _ (rt1 hh) (rt2 hh) dX1_adds_33 hM
def C_adds11 (S : yS) (x1 z n : Int) (f : Int → Int) : Option (Int × yS) := gd (n ≤ 2) (nm (ccT S (11 + 1 + z) n f) (fun S2 => gd ((0 : Int) ≤ x1 ∧ (x1 : Int) < 14) (gd ((0 : Int) ≤ x1 ∧ (x1 : Int) < 14) (nm (cas S2 2 x1 ((S2.2 2 x1) + 1)) (fun S6 => gd ((0 : Int) ≤ x1 ∧ (x1 : Int) < 14) (some (((S6.2 2 x1) - 1 : Int), S6)))))))
set_option maxHeartbeats 4000000 in
theorem wC_adds11 (l : Launch) (DC : va_G) (dA : Nat → ClassId) (hC : Nat) (S : yS) (x1 z : Int) (gz : (0 : Int) ≤ z ∧ z < 16) (q n : Nat) (f : Int → Int) {r : Int} {S1 : yS} (hh : C_adds11 S x1 z n f = some (r, S1)) : ctT_i l yX1_adds cX1_adds 4 (some .int) ({ frames := 1, cells := 0, slots := 0, locals := 40 } : Room) DC dA hC [.ref hC, .int (zi x1), .ref (hC + (11 + 1 + Int.toNat z)), .ref q] S q n f r S1 := by
  refine coT_i (by decide) (Nat.le_of_ble_eq_true rfl) ?_
  intro p e s m args below meth c Q ls X hret hl hM
  have hx := X.1.1
  have hb := X.1.2.1
  have hown := X.1.2.2.2.1
  have hts := X.1.2.2.2.2
  replace hl : lv_has ls 4 [(0, .ref (hC)), (1, .int (zi (x1))), (2, .ref (hC + (11 + 1 + Int.toNat z))), (3, .ref (q))] := hl
  unfold C_adds11 at hh
  refine lv_aload_n hx hb dX1_adds_0 rfl (lv_at hl 3 rfl) ?_
  refine lv_iconst (v := zi 0) hx hb dX1_adds_1 rfl ?_
  refine lv_aload_n hx hb dX1_adds_2 rfl (lv_at hl 2 rfl) ?_
  refine lv_iconst (v := zi 0) hx hb dX1_adds_3 rfl ?_
  refine lv_aload_n hx hb dX1_adds_4 rfl (lv_at hl 3 rfl) ?_
  refine cm_alenT X hM dX1_adds_5 ?_
  obtain ⟨g1, hh⟩ := gd_inv hh
  refine cm_copyT (z1 := (11 + 1 + z)) (rest := []) X hM (cr_11 gz) (by have := gz.1; omega) rfl g1 q438 q291 q290 q88 hl.1 (Nat.le_of_ble_eq_true rfl) (Nat.le_of_ble_eq_true rfl) dX1_adds_6 (fun H locs S2 e3 hM => ?_)
  replace hh := nm_inv hh S2 e3
  refine lv_aload_n hx hb dX1_adds_9 rfl (lv_at hl 0 rfl) ?_
  refine cm_get X hM q379 (cf_0_0 _ _ _) rfl dX1_adds_10 ?_
  refine cm_getN X hM q161 (cf_1_0 _ _ _) rfl dX1_adds_13 ?_
  refine lv_iload_n hx hb dX1_adds_16 rfl (lv_at hl 1 rfl) ?_
  refine lv_dup2_11 hx hb dX1_adds_17 rfl rfl ?_
  obtain ⟨g4, hh⟩ := gd_inv hh
  refine cm_iald (qz := 2) X hM ci_2 rfl rfl g4 dX1_adds_18 ?_
  refine lv_iconst (v := zi 1) hx hb dX1_adds_19 rfl ?_
  refine g_iadd hx hb dX1_adds_20 ?_
  obtain ⟨g5, hh⟩ := gd_inv hh
  refine cm_iast (qz := 2) X hM ci_2 rfl rfl g5 dX1_adds_21 (fun H locs S6 e7 hM => ?_)
  replace hh := nm_inv hh S6 e7
  refine lv_aload_n hx hb dX1_adds_22 rfl (lv_at hl 0 rfl) ?_
  refine cm_get X hM q379 (cf_0_0 _ _ _) rfl dX1_adds_23 ?_
  refine cm_getN X hM q161 (cf_1_0 _ _ _) rfl dX1_adds_26 ?_
  refine lv_iload_n hx hb dX1_adds_29 rfl (lv_at hl 1 rfl) ?_
  obtain ⟨g8, hh⟩ := gd_inv hh
  refine cm_iald (qz := 2) X hM ci_2 rfl rfl g8 dX1_adds_30 ?_
  refine lv_iconst (v := zi 1) hx hb dX1_adds_31 rfl ?_
  refine g_isub hx hb dX1_adds_32 ?_
  exact hret _ _ _ _ _ _ (rt1 hh) (rt2 hh) dX1_adds_33 hM
def C_adds28 (S : yS) (x1 z n : Int) (f : Int → Int) : Option (Int × yS) := gd (n ≤ 3) (nm (ccT S (28 + 1 + z) n f) (fun S2 => gd ((0 : Int) ≤ x1 ∧ (x1 : Int) < 14) (gd ((0 : Int) ≤ x1 ∧ (x1 : Int) < 14) (nm (cas S2 2 x1 ((S2.2 2 x1) + 1)) (fun S6 => gd ((0 : Int) ≤ x1 ∧ (x1 : Int) < 14) (some (((S6.2 2 x1) - 1 : Int), S6)))))))
set_option maxHeartbeats 4000000 in
theorem wC_adds28 (l : Launch) (DC : va_G) (dA : Nat → ClassId) (hC : Nat) (S : yS) (x1 z : Int) (gz : (0 : Int) ≤ z ∧ z < 16) (q n : Nat) (f : Int → Int) {r : Int} {S1 : yS} (hh : C_adds28 S x1 z n f = some (r, S1)) : ctT_i l yX1_adds cX1_adds 4 (some .int) ({ frames := 1, cells := 0, slots := 0, locals := 40 } : Room) DC dA hC [.ref hC, .int (zi x1), .ref (hC + (28 + 1 + Int.toNat z)), .ref q] S q n f r S1 := by
  refine coT_i (by decide) (Nat.le_of_ble_eq_true rfl) ?_
  intro p e s m args below meth c Q ls X hret hl hM
  have hx := X.1.1
  have hb := X.1.2.1
  have hown := X.1.2.2.2.1
  have hts := X.1.2.2.2.2
  replace hl : lv_has ls 4 [(0, .ref (hC)), (1, .int (zi (x1))), (2, .ref (hC + (28 + 1 + Int.toNat z))), (3, .ref (q))] := hl
  unfold C_adds28 at hh
  refine lv_aload_n hx hb dX1_adds_0 rfl (lv_at hl 3 rfl) ?_
  refine lv_iconst (v := zi 0) hx hb dX1_adds_1 rfl ?_
  refine lv_aload_n hx hb dX1_adds_2 rfl (lv_at hl 2 rfl) ?_
  refine lv_iconst (v := zi 0) hx hb dX1_adds_3 rfl ?_
  refine lv_aload_n hx hb dX1_adds_4 rfl (lv_at hl 3 rfl) ?_
  refine cm_alenT X hM dX1_adds_5 ?_
  obtain ⟨g1, hh⟩ := gd_inv hh
  refine cm_copyT (z1 := (28 + 1 + z)) (rest := []) X hM (cr_28 gz) (by have := gz.1; omega) rfl g1 q438 q291 q290 q88 hl.1 (Nat.le_of_ble_eq_true rfl) (Nat.le_of_ble_eq_true rfl) dX1_adds_6 (fun H locs S2 e3 hM => ?_)
  replace hh := nm_inv hh S2 e3
  refine lv_aload_n hx hb dX1_adds_9 rfl (lv_at hl 0 rfl) ?_
  refine cm_get X hM q379 (cf_0_0 _ _ _) rfl dX1_adds_10 ?_
  refine cm_getN X hM q161 (cf_1_0 _ _ _) rfl dX1_adds_13 ?_
  refine lv_iload_n hx hb dX1_adds_16 rfl (lv_at hl 1 rfl) ?_
  refine lv_dup2_11 hx hb dX1_adds_17 rfl rfl ?_
  obtain ⟨g4, hh⟩ := gd_inv hh
  refine cm_iald (qz := 2) X hM ci_2 rfl rfl g4 dX1_adds_18 ?_
  refine lv_iconst (v := zi 1) hx hb dX1_adds_19 rfl ?_
  refine g_iadd hx hb dX1_adds_20 ?_
  obtain ⟨g5, hh⟩ := gd_inv hh
  refine cm_iast (qz := 2) X hM ci_2 rfl rfl g5 dX1_adds_21 (fun H locs S6 e7 hM => ?_)
  replace hh := nm_inv hh S6 e7
  refine lv_aload_n hx hb dX1_adds_22 rfl (lv_at hl 0 rfl) ?_
  refine cm_get X hM q379 (cf_0_0 _ _ _) rfl dX1_adds_23 ?_
  refine cm_getN X hM q161 (cf_1_0 _ _ _) rfl dX1_adds_26 ?_
  refine lv_iload_n hx hb dX1_adds_29 rfl (lv_at hl 1 rfl) ?_
  obtain ⟨g8, hh⟩ := gd_inv hh
  refine cm_iald (qz := 2) X hM ci_2 rfl rfl g8 dX1_adds_30 ?_
  refine lv_iconst (v := zi 1) hx hb dX1_adds_31 rfl ?_
  refine g_isub hx hb dX1_adds_32 ?_
  exact hret _ _ _ _ _ _ (rt1 hh) (rt2 hh) dX1_adds_33 hM
def C_adds45 (S : yS) (x1 z n : Int) (f : Int → Int) : Option (Int × yS) := gd (n ≤ 24) (nm (ccT S (45 + 1 + z) n f) (fun S2 => gd ((0 : Int) ≤ x1 ∧ (x1 : Int) < 14) (gd ((0 : Int) ≤ x1 ∧ (x1 : Int) < 14) (nm (cas S2 2 x1 ((S2.2 2 x1) + 1)) (fun S6 => gd ((0 : Int) ≤ x1 ∧ (x1 : Int) < 14) (some (((S6.2 2 x1) - 1 : Int), S6)))))))
set_option maxHeartbeats 4000000 in
theorem wC_adds45 (l : Launch) (DC : va_G) (dA : Nat → ClassId) (hC : Nat) (S : yS) (x1 z : Int) (gz : (0 : Int) ≤ z ∧ z < 6) (q n : Nat) (f : Int → Int) {r : Int} {S1 : yS} (hh : C_adds45 S x1 z n f = some (r, S1)) : ctT_i l yX1_adds cX1_adds 4 (some .int) ({ frames := 1, cells := 0, slots := 0, locals := 40 } : Room) DC dA hC [.ref hC, .int (zi x1), .ref (hC + (45 + 1 + Int.toNat z)), .ref q] S q n f r S1 := by
  refine coT_i (by decide) (Nat.le_of_ble_eq_true rfl) ?_
  intro p e s m args below meth c Q ls X hret hl hM
  have hx := X.1.1
  have hb := X.1.2.1
  have hown := X.1.2.2.2.1
  have hts := X.1.2.2.2.2
  replace hl : lv_has ls 4 [(0, .ref (hC)), (1, .int (zi (x1))), (2, .ref (hC + (45 + 1 + Int.toNat z))), (3, .ref (q))] := hl
  unfold C_adds45 at hh
  refine lv_aload_n hx hb dX1_adds_0 rfl (lv_at hl 3 rfl) ?_
  refine lv_iconst (v := zi 0) hx hb dX1_adds_1 rfl ?_
  refine lv_aload_n hx hb dX1_adds_2 rfl (lv_at hl 2 rfl) ?_
  refine lv_iconst (v := zi 0) hx hb dX1_adds_3 rfl ?_
  refine lv_aload_n hx hb dX1_adds_4 rfl (lv_at hl 3 rfl) ?_
  refine cm_alenT X hM dX1_adds_5 ?_
  obtain ⟨g1, hh⟩ := gd_inv hh
  refine cm_copyT (z1 := (45 + 1 + z)) (rest := []) X hM (cr_45 gz) (by have := gz.1; omega) rfl g1 q438 q291 q290 q88 hl.1 (Nat.le_of_ble_eq_true rfl) (Nat.le_of_ble_eq_true rfl) dX1_adds_6 (fun H locs S2 e3 hM => ?_)
  replace hh := nm_inv hh S2 e3
  refine lv_aload_n hx hb dX1_adds_9 rfl (lv_at hl 0 rfl) ?_
  refine cm_get X hM q379 (cf_0_0 _ _ _) rfl dX1_adds_10 ?_
  refine cm_getN X hM q161 (cf_1_0 _ _ _) rfl dX1_adds_13 ?_
  refine lv_iload_n hx hb dX1_adds_16 rfl (lv_at hl 1 rfl) ?_
  refine lv_dup2_11 hx hb dX1_adds_17 rfl rfl ?_
  obtain ⟨g4, hh⟩ := gd_inv hh
  refine cm_iald (qz := 2) X hM ci_2 rfl rfl g4 dX1_adds_18 ?_
  refine lv_iconst (v := zi 1) hx hb dX1_adds_19 rfl ?_
  refine g_iadd hx hb dX1_adds_20 ?_
  obtain ⟨g5, hh⟩ := gd_inv hh
  refine cm_iast (qz := 2) X hM ci_2 rfl rfl g5 dX1_adds_21 (fun H locs S6 e7 hM => ?_)
  replace hh := nm_inv hh S6 e7
  refine lv_aload_n hx hb dX1_adds_22 rfl (lv_at hl 0 rfl) ?_
  refine cm_get X hM q379 (cf_0_0 _ _ _) rfl dX1_adds_23 ?_
  refine cm_getN X hM q161 (cf_1_0 _ _ _) rfl dX1_adds_26 ?_
  refine lv_iload_n hx hb dX1_adds_29 rfl (lv_at hl 1 rfl) ?_
  obtain ⟨g8, hh⟩ := gd_inv hh
  refine cm_iald (qz := 2) X hM ci_2 rfl rfl g8 dX1_adds_30 ?_
  refine lv_iconst (v := zi 1) hx hb dX1_adds_31 rfl ?_
  refine g_isub hx hb dX1_adds_32 ?_
  exact hret _ _ _ _ _ _ (rt1 hh) (rt2 hh) dX1_adds_33 hM
theorem cx_X1_83 : GoodIn lw_all (va_wsS "ManyEyes" 83 yX1_isWay (ws_ yX1_isWay cX1_isWay 1 (some .boolean))) ∧ yX1_isWay.cls ≠ "java/lang/invoke/MethodHandle" ∧ yX1_isWay.cls ≠ "java/lang/invoke/VarHandle" ∧ (parseMethodDescriptor yX1_isWay.desc).map (fun d => d.parameters.length) = some 1 := ⟨lw_S q431 q432 q80 q433, by decide +kernel⟩
theorem cx_X1_90 : GoodIn lw_all (wsV "ManyEyes" 90 "ManyEyes" yX1_adds (ws_ yX1_adds cX1_adds 4 (some .int))) ∧ yX1_adds.cls = "ManyEyes" ∧ yX1_adds.cls ≠ "java/lang/invoke/MethodHandle" ∧ yX1_adds.cls ≠ "java/lang/invoke/VarHandle" ∧ (parseMethodDescriptor yX1_adds.desc).map (fun d => d.parameters.length) = some 3 := ⟨lw_V q434 q436 qs4 q80 q437, by decide +kernel⟩
def C_body (S : yS) (x1 : Int) (x2 : Int) (x3 : Int) (x4 : Int) : Option (Int × yS) := bd (C_isCell S x1) (fun v2 => if v2 = true then (bd (C_isWay x2) (fun v4 => if v4 = true then (bd (C_isWay x3) (fun v7 => if v7 = true then (bd (C_in x4 (1 : Int) (255 : Int)) (fun v10 => if v10 = true then (gd (r32 (S.2 2 0)) (if (S.2 2 0) = 6 then (some (((-1) : Int), S)) else (nm (S.2 2 0) (fun v15 => gd ((0 : Int) ≤ v15 ∧ (v15 : Int) < 6) (nm (fun _ : Int => (0 : Int)) (fun f19 => nm (tst f19 (0 : Int) x1) (fun f21 => nm (tst f21 (1 : Int) x2) (fun f23 => nm (tst f23 (2 : Int) x3) (fun f25 => nm (tst f25 (3 : Int) x4) (fun f27 => bd2 (C_adds4 S (0 : Int) v15 (4 : Int) f27) (fun v30 S31 => some ((v30 : Int), S31)))))))))))) else (some (((-1) : Int), S)))) else (some (((-1) : Int), S)))) else (some (((-1) : Int), S)))) else (some (((-1) : Int), S)))
set_option maxHeartbeats 4000000 in
theorem wC_body (l : Launch) (DC : va_G) (dA : Nat → ClassId) (hC sz : Nat) (S : yS) (x1 x2 x3 x4 : Int) {r : Int} {S1 : yS} (hh : C_body S x1 x2 x3 x4 = some (r, S1)) : ctA_i l yX1_body cX1_body 5 (some .int) ({ frames := 3, cells := 1, slots := 4, locals := 83 } : Room) DC dA hC sz [.ref hC, .int (zi x1), .int (zi x2), .int (zi x3), .int (zi x4)] S r S1 1 4 := by
  refine coA_i (by decide) (Nat.le_of_ble_eq_true rfl) ?_
  intro p e s m args below meth c Q ls X hret hl hM hA
  have hx := X.1.1
  have hb := X.1.2.1
  have hown := X.1.2.2.2.1
  have hts := X.1.2.2.2.2
  replace hl : lv_has ls 5 [(0, .ref (hC)), (1, .int (zi (x1))), (2, .int (zi (x2))), (3, .int (zi (x3))), (4, .int (zi (x4)))] := hl
  unfold C_body at hh
  refine lv_aload_n hx hb dX1_body_0 rfl (lv_at hl 0 rfl) ?_
  refine lv_iload_n hx hb dX1_body_1 rfl (lv_at hl 1 rfl) ?_
  obtain ⟨v2, k1, hh⟩ := bd_inv hh
  refine cc_z (rest := []) X hM (wC_isCell l DC dA hC S x1 k1) cx_X1_76.1 cx_X1_76.2 ⟨rfl, rfl⟩ ⟨Nat.le_of_ble_eq_true rfl, Nat.le_of_ble_eq_true rfl⟩ ⟨Nat.zero_le _, Nat.zero_le _⟩ hl.1 (Nat.le_of_ble_eq_true rfl) dX1_body_2 rfl (fun H locs hM => ?_)
  refine g_bif_eq (tgt := 48) hx hb dX1_body_5 (by decide) (fun c3 => ?_) (fun c3 => ?_)
  · replace hh := it_t c3 hh
    refine lv_iload_n hx hb dX1_body_8 rfl (lv_at hl 2 rfl) ?_
    obtain ⟨v4, k5, hh⟩ := bd_inv hh
    refine ccs_z (rest := []) X hM (wC_isWay l x2 k5) cx_X1_83.1 cx_X1_83.2 ⟨rfl, rfl⟩ ⟨Nat.le_of_ble_eq_true rfl, Nat.le_of_ble_eq_true rfl⟩ ⟨Nat.zero_le _, Nat.zero_le _⟩ hl.1 (Nat.le_of_ble_eq_true rfl) dX1_body_9 rfl (fun H locs hM => ?_)
    refine g_bif_eq (tgt := 48) hx hb dX1_body_12 (by decide) (fun c6 => ?_) (fun c6 => ?_)
    · replace hh := it_t c6 hh
      refine lv_iload_n hx hb dX1_body_15 rfl (lv_at hl 3 rfl) ?_
      obtain ⟨v7, k8, hh⟩ := bd_inv hh
      refine ccs_z (rest := []) X hM (wC_isWay l x3 k8) cx_X1_83.1 cx_X1_83.2 ⟨rfl, rfl⟩ ⟨Nat.le_of_ble_eq_true rfl, Nat.le_of_ble_eq_true rfl⟩ ⟨Nat.zero_le _, Nat.zero_le _⟩ hl.1 (Nat.le_of_ble_eq_true rfl) dX1_body_16 rfl (fun H locs hM => ?_)
      refine g_bif_eq (tgt := 48) hx hb dX1_body_19 (by decide) (fun c9 => ?_) (fun c9 => ?_)
      · replace hh := it_t c9 hh
        refine lv_iload hx hb dX1_body_22 (lv_at hl 4 rfl) ?_
        refine lv_iconst (v := zi 1) hx hb dX1_body_24 rfl ?_
        refine lv_sipush (v := zi 255) hx hb dX1_body_25 (by decide) ?_
        obtain ⟨v10, k11, hh⟩ := bd_inv hh
        refine ccs_z (rest := []) X hM (wC_in l x4 (1 : Int) (255 : Int) k11) cx_X1_66.1 cx_X1_66.2 ⟨rfl, rfl⟩ ⟨Nat.le_of_ble_eq_true rfl, Nat.le_of_ble_eq_true rfl⟩ ⟨Nat.zero_le _, Nat.zero_le _⟩ hl.1 (Nat.le_of_ble_eq_true rfl) dX1_body_28 rfl (fun H locs hM => ?_)
        refine g_bif_eq (tgt := 48) hx hb dX1_body_31 (by decide) (fun c12 => ?_) (fun c12 => ?_)
        · replace hh := it_t c12 hh
          refine lv_aload_n hx hb dX1_body_34 rfl (lv_at hl 0 rfl) ?_
          refine cm_get X hM q379 (cf_0_0 _ _ _) rfl dX1_body_35 ?_
          refine cm_getN X hM q161 (cf_1_0 _ _ _) rfl dX1_body_38 ?_
          refine lv_iconst (v := zi 0) hx hb dX1_body_41 rfl ?_
          refine cm_iald (qz := 2) X hM ci_2 rfl rfl (by decide) dX1_body_42 ?_
          refine lv_bipush (v := zi 6) hx hb dX1_body_43 (by decide) ?_
          obtain ⟨g14, hh⟩ := gd_inv hh
          refine g_icmp_ne (tgt := 52) hx hb ⟨g14, by decide⟩ dX1_body_45 (by decide) (fun c13 => ?_) (fun c13 => ?_)
          · replace hh := it_t c13 hh
            refine lv_iconst (v := zi (-1)) hx hb dX1_body_48 rfl ?_
            refine lv_goto (tgt := 94) hx hb dX1_body_49 (by decide) ?_
            refine W.widen (k := 1) (n := 4) (by decide) (by decide) ?_
            exact hret _ _ _ _ _ _ (rt1 hh) (rt2 hh) dX1_body_94 hM
          · replace hh := it_f c13 hh
            refine lv_aload_n hx hb dX1_body_52 rfl (lv_at hl 0 rfl) ?_
            refine lv_iconst (v := zi 0) hx hb dX1_body_53 rfl ?_
            refine lv_aload_n hx hb dX1_body_54 rfl (lv_at hl 0 rfl) ?_
            refine cm_get X hM q379 (cf_0_0 _ _ _) rfl dX1_body_55 ?_
            refine cm_getN X hM q165 (cf_1_2 _ _ _) rfl dX1_body_58 ?_
            refine lv_aload_n hx hb dX1_body_61 rfl (lv_at hl 0 rfl) ?_
            refine cm_get X hM q379 (cf_0_0 _ _ _) rfl dX1_body_62 ?_
            refine cm_getN X hM q161 (cf_1_0 _ _ _) rfl dX1_body_65 ?_
            refine lv_iconst (v := zi 0) hx hb dX1_body_68 rfl ?_
            refine cm_iald (qz := 2) X hM ci_2 rfl rfl (by decide) dX1_body_69 ?_
            refine g_nmi hx hb (fun v15 e16 => ?_)
            replace hh := nm_inv hh v15 e16
            obtain ⟨g17, hh⟩ := gd_inv hh
            refine cm_aald X hM (by decide) rfl (by decide) rfl g17 dX1_body_70 ?_
            refine lv_iconst (v := zi 4) hx hb dX1_body_71 rfl ?_
            refine cm_newT (n := 4) X hM hA q159 (by decide) (by decide) (by decide) dX1_body_72 (fun q18 H f19 e20 hM => ?_)
            replace hh := nm_inv hh f19 e20
            refine lv_dup hx hb dX1_body_74 rfl ?_
            refine lv_iconst (v := zi 0) hx hb dX1_body_75 rfl ?_
            refine lv_iload_n hx hb dX1_body_76 rfl (lv_at hl 1 rfl) ?_
            refine cm_iastT X hM (by decide) (by decide) dX1_body_77 (fun H locs f21 e22 hM => ?_)
            replace hh := nm_inv hh f21 e22
            refine lv_dup hx hb dX1_body_78 rfl ?_
            refine lv_iconst (v := zi 1) hx hb dX1_body_79 rfl ?_
            refine lv_iload_n hx hb dX1_body_80 rfl (lv_at hl 2 rfl) ?_
            refine cm_iastT X hM (by decide) (by decide) dX1_body_81 (fun H locs f23 e24 hM => ?_)
            replace hh := nm_inv hh f23 e24
            refine lv_dup hx hb dX1_body_82 rfl ?_
            refine lv_iconst (v := zi 2) hx hb dX1_body_83 rfl ?_
            refine lv_iload_n hx hb dX1_body_84 rfl (lv_at hl 3 rfl) ?_
            refine cm_iastT X hM (by decide) (by decide) dX1_body_85 (fun H locs f25 e26 hM => ?_)
            replace hh := nm_inv hh f25 e26
            refine lv_dup hx hb dX1_body_86 rfl ?_
            refine lv_iconst (v := zi 3) hx hb dX1_body_87 rfl ?_
            refine lv_iload hx hb dX1_body_88 (lv_at hl 4 rfl) ?_
            refine cm_iastT X hM (by decide) (by decide) dX1_body_90 (fun H locs f27 e28 hM => ?_)
            replace hh := nm_inv hh f27 e28
            obtain ⟨v30, S31, k29, hh⟩ := bd2_inv hh
            refine cc_T (rest := []) X hM (wC_adds4 l DC dA hC S (0 : Int) v15 g17 q18 4 f27 k29) cx_X1_90.1 cx_X1_90.2 ⟨rfl, rfl⟩ ⟨Nat.le_of_ble_eq_true rfl, Nat.le_of_ble_eq_true rfl⟩ ⟨by decide, by decide⟩ hl.1 (Nat.le_of_ble_eq_true rfl) dX1_body_91 rfl (fun H locs hM => ?_)
            exact hret _ _ _ _ _ _ (rt1 hh) (rt2 hh) dX1_body_94 hM
        · replace hh := it_f c12 hh
          refine lv_iconst (v := zi (-1)) hx hb dX1_body_48 rfl ?_
          refine lv_goto (tgt := 94) hx hb dX1_body_49 (by decide) ?_
          refine W.widen (k := 1) (n := 4) (by decide) (by decide) ?_
          exact hret _ _ _ _ _ _ (rt1 hh) (rt2 hh) dX1_body_94 hM
      · replace hh := it_f c9 hh
        refine lv_iconst (v := zi (-1)) hx hb dX1_body_48 rfl ?_
        refine lv_goto (tgt := 94) hx hb dX1_body_49 (by decide) ?_
        refine W.widen (k := 1) (n := 4) (by decide) (by decide) ?_
        exact hret _ _ _ _ _ _ (rt1 hh) (rt2 hh) dX1_body_94 hM
    · replace hh := it_f c6 hh
      refine lv_iconst (v := zi (-1)) hx hb dX1_body_48 rfl ?_
      refine lv_goto (tgt := 94) hx hb dX1_body_49 (by decide) ?_
      refine W.widen (k := 1) (n := 4) (by decide) (by decide) ?_
      exact hret _ _ _ _ _ _ (rt1 hh) (rt2 hh) dX1_body_94 hM
  · replace hh := it_f c3 hh
    refine lv_iconst (v := zi (-1)) hx hb dX1_body_48 rfl ?_
    refine lv_goto (tgt := 94) hx hb dX1_body_49 (by decide) ?_
    refine W.widen (k := 1) (n := 4) (by decide) (by decide) ?_
    exact hret _ _ _ _ _ _ (rt1 hh) (rt2 hh) dX1_body_94 hM
def C_lens (S : yS) (x1 : Int) (x2 : Int) : Option (Int × yS) := bd (C_isHead x1) (fun v1 => if v1 = true then (bd (C_in x2 (0 : Int) (7 : Int)) (fun v4 => if v4 = true then (gd (r32 (S.2 2 1)) (if (S.2 2 1) = 16 then (some (((-1) : Int), S)) else (nm (S.2 2 1) (fun v9 => gd ((0 : Int) ≤ v9 ∧ (v9 : Int) < 16) (nm (fun _ : Int => (0 : Int)) (fun f13 => nm (tst f13 (0 : Int) x1) (fun f15 => nm (tst f15 (1 : Int) x2) (fun f17 => bd2 (C_adds11 S (1 : Int) v9 (2 : Int) f17) (fun v20 S21 => some ((v20 : Int), S21)))))))))) else (some (((-1) : Int), S)))) else (some (((-1) : Int), S)))
set_option maxHeartbeats 4000000 in
theorem wC_lens (l : Launch) (DC : va_G) (dA : Nat → ClassId) (hC sz : Nat) (S : yS) (x1 x2 : Int) {r : Int} {S1 : yS} (hh : C_lens S x1 x2 = some (r, S1)) : ctA_i l yX1_lens cX1_lens 3 (some .int) ({ frames := 3, cells := 1, slots := 2, locals := 82 } : Room) DC dA hC sz [.ref hC, .int (zi x1), .int (zi x2)] S r S1 1 2 := by
  refine coA_i (by decide) (Nat.le_of_ble_eq_true rfl) ?_
  intro p e s m args below meth c Q ls X hret hl hM hA
  have hx := X.1.1
  have hb := X.1.2.1
  have hown := X.1.2.2.2.1
  have hts := X.1.2.2.2.2
  replace hl : lv_has ls 3 [(0, .ref (hC)), (1, .int (zi (x1))), (2, .int (zi (x2)))] := hl
  unfold C_lens at hh
  refine lv_iload_n hx hb dX1_lens_0 rfl (lv_at hl 1 rfl) ?_
  obtain ⟨v1, k2, hh⟩ := bd_inv hh
  refine ccs_z (rest := []) X hM (wC_isHead l x1 k2) cx_X1_115.1 cx_X1_115.2 ⟨rfl, rfl⟩ ⟨Nat.le_of_ble_eq_true rfl, Nat.le_of_ble_eq_true rfl⟩ ⟨Nat.zero_le _, Nat.zero_le _⟩ hl.1 (Nat.le_of_ble_eq_true rfl) dX1_lens_1 rfl (fun H locs hM => ?_)
  refine g_bif_eq (tgt := 31) hx hb dX1_lens_4 (by decide) (fun c3 => ?_) (fun c3 => ?_)
  · replace hh := it_t c3 hh
    refine lv_iload_n hx hb dX1_lens_7 rfl (lv_at hl 2 rfl) ?_
    refine lv_iconst (v := zi 0) hx hb dX1_lens_8 rfl ?_
    refine lv_bipush (v := zi 7) hx hb dX1_lens_9 (by decide) ?_
    obtain ⟨v4, k5, hh⟩ := bd_inv hh
    refine ccs_z (rest := []) X hM (wC_in l x2 (0 : Int) (7 : Int) k5) cx_X1_66.1 cx_X1_66.2 ⟨rfl, rfl⟩ ⟨Nat.le_of_ble_eq_true rfl, Nat.le_of_ble_eq_true rfl⟩ ⟨Nat.zero_le _, Nat.zero_le _⟩ hl.1 (Nat.le_of_ble_eq_true rfl) dX1_lens_11 rfl (fun H locs hM => ?_)
    refine g_bif_eq (tgt := 31) hx hb dX1_lens_14 (by decide) (fun c6 => ?_) (fun c6 => ?_)
    · replace hh := it_t c6 hh
      refine lv_aload_n hx hb dX1_lens_17 rfl (lv_at hl 0 rfl) ?_
      refine cm_get X hM q379 (cf_0_0 _ _ _) rfl dX1_lens_18 ?_
      refine cm_getN X hM q161 (cf_1_0 _ _ _) rfl dX1_lens_21 ?_
      refine lv_iconst (v := zi 1) hx hb dX1_lens_24 rfl ?_
      refine cm_iald (qz := 2) X hM ci_2 rfl rfl (by decide) dX1_lens_25 ?_
      refine lv_bipush (v := zi 16) hx hb dX1_lens_26 (by decide) ?_
      obtain ⟨g8, hh⟩ := gd_inv hh
      refine g_icmp_ne (tgt := 35) hx hb ⟨g8, by decide⟩ dX1_lens_28 (by decide) (fun c7 => ?_) (fun c7 => ?_)
      · replace hh := it_t c7 hh
        refine lv_iconst (v := zi (-1)) hx hb dX1_lens_31 rfl ?_
        refine lv_goto (tgt := 68) hx hb dX1_lens_32 (by decide) ?_
        refine W.widen (k := 1) (n := 2) (by decide) (by decide) ?_
        exact hret _ _ _ _ _ _ (rt1 hh) (rt2 hh) dX1_lens_68 hM
      · replace hh := it_f c7 hh
        refine lv_aload_n hx hb dX1_lens_35 rfl (lv_at hl 0 rfl) ?_
        refine lv_iconst (v := zi 1) hx hb dX1_lens_36 rfl ?_
        refine lv_aload_n hx hb dX1_lens_37 rfl (lv_at hl 0 rfl) ?_
        refine cm_get X hM q379 (cf_0_0 _ _ _) rfl dX1_lens_38 ?_
        refine cm_getN X hM q167 (cf_1_3 _ _ _) rfl dX1_lens_41 ?_
        refine lv_aload_n hx hb dX1_lens_44 rfl (lv_at hl 0 rfl) ?_
        refine cm_get X hM q379 (cf_0_0 _ _ _) rfl dX1_lens_45 ?_
        refine cm_getN X hM q161 (cf_1_0 _ _ _) rfl dX1_lens_48 ?_
        refine lv_iconst (v := zi 1) hx hb dX1_lens_51 rfl ?_
        refine cm_iald (qz := 2) X hM ci_2 rfl rfl (by decide) dX1_lens_52 ?_
        refine g_nmi hx hb (fun v9 e10 => ?_)
        replace hh := nm_inv hh v9 e10
        obtain ⟨g11, hh⟩ := gd_inv hh
        refine cm_aald X hM (by decide) rfl (by decide) rfl g11 dX1_lens_53 ?_
        refine lv_iconst (v := zi 2) hx hb dX1_lens_54 rfl ?_
        refine cm_newT (n := 2) X hM hA q159 (by decide) (by decide) (by decide) dX1_lens_55 (fun q12 H f13 e14 hM => ?_)
        replace hh := nm_inv hh f13 e14
        refine lv_dup hx hb dX1_lens_57 rfl ?_
        refine lv_iconst (v := zi 0) hx hb dX1_lens_58 rfl ?_
        refine lv_iload_n hx hb dX1_lens_59 rfl (lv_at hl 1 rfl) ?_
        refine cm_iastT X hM (by decide) (by decide) dX1_lens_60 (fun H locs f15 e16 hM => ?_)
        replace hh := nm_inv hh f15 e16
        refine lv_dup hx hb dX1_lens_61 rfl ?_
        refine lv_iconst (v := zi 1) hx hb dX1_lens_62 rfl ?_
        refine lv_iload_n hx hb dX1_lens_63 rfl (lv_at hl 2 rfl) ?_
        refine cm_iastT X hM (by decide) (by decide) dX1_lens_64 (fun H locs f17 e18 hM => ?_)
        replace hh := nm_inv hh f17 e18
        obtain ⟨v20, S21, k19, hh⟩ := bd2_inv hh
        refine cc_T (rest := []) X hM (wC_adds11 l DC dA hC S (1 : Int) v9 g11 q12 2 f17 k19) cx_X1_90.1 cx_X1_90.2 ⟨rfl, rfl⟩ ⟨Nat.le_of_ble_eq_true rfl, Nat.le_of_ble_eq_true rfl⟩ ⟨by decide, by decide⟩ hl.1 (Nat.le_of_ble_eq_true rfl) dX1_lens_65 rfl (fun H locs hM => ?_)
        exact hret _ _ _ _ _ _ (rt1 hh) (rt2 hh) dX1_lens_68 hM
    · replace hh := it_f c6 hh
      refine lv_iconst (v := zi (-1)) hx hb dX1_lens_31 rfl ?_
      refine lv_goto (tgt := 68) hx hb dX1_lens_32 (by decide) ?_
      refine W.widen (k := 1) (n := 2) (by decide) (by decide) ?_
      exact hret _ _ _ _ _ _ (rt1 hh) (rt2 hh) dX1_lens_68 hM
  · replace hh := it_f c3 hh
    refine lv_iconst (v := zi (-1)) hx hb dX1_lens_31 rfl ?_
    refine lv_goto (tgt := 68) hx hb dX1_lens_32 (by decide) ?_
    refine W.widen (k := 1) (n := 2) (by decide) (by decide) ?_
    exact hret _ _ _ _ _ _ (rt1 hh) (rt2 hh) dX1_lens_68 hM
def C_pair (S : yS) (x1 : Int) (x2 : Int) (x3 : Int) : Option (Int × yS) := bd (C_isOne S (1 : Int) x1) (fun v2 => if v2 = true then (bd (C_isOne S (1 : Int) x2) (fun v5 => if v5 = true then (gd (r32 (x1) ∧ r32 (x2)) (if x1 = x2 then (some (((-1) : Int), S)) else (bd (C_in x3 (1 : Int) (8 : Int)) (fun v9 => if v9 = true then (gd (r32 (S.2 2 2)) (if (S.2 2 2) = 16 then (some (((-1) : Int), S)) else (nm (S.2 2 2) (fun v14 => gd ((0 : Int) ≤ v14 ∧ (v14 : Int) < 16) (nm (fun _ : Int => (0 : Int)) (fun f18 => nm (tst f18 (0 : Int) x1) (fun f20 => nm (tst f20 (1 : Int) x2) (fun f22 => nm (tst f22 (2 : Int) x3) (fun f24 => bd2 (C_adds28 S (2 : Int) v14 (3 : Int) f24) (fun v27 S28 => some ((v27 : Int), S28))))))))))) else (some (((-1) : Int), S)))))) else (some (((-1) : Int), S)))) else (some (((-1) : Int), S)))
set_option maxHeartbeats 4000000 in
theorem wC_pair (l : Launch) (DC : va_G) (dA : Nat → ClassId) (hC sz : Nat) (S : yS) (x1 x2 x3 : Int) {r : Int} {S1 : yS} (hh : C_pair S x1 x2 x3 = some (r, S1)) : ctA_i l yX1_pair cX1_pair 4 (some .int) ({ frames := 3, cells := 1, slots := 3, locals := 84 } : Room) DC dA hC sz [.ref hC, .int (zi x1), .int (zi x2), .int (zi x3)] S r S1 1 3 := by
  refine coA_i (by decide) (Nat.le_of_ble_eq_true rfl) ?_
  intro p e s m args below meth c Q ls X hret hl hM hA
  have hx := X.1.1
  have hb := X.1.2.1
  have hown := X.1.2.2.2.1
  have hts := X.1.2.2.2.2
  replace hl : lv_has ls 4 [(0, .ref (hC)), (1, .int (zi (x1))), (2, .int (zi (x2))), (3, .int (zi (x3)))] := hl
  unfold C_pair at hh
  refine lv_aload_n hx hb dX1_pair_0 rfl (lv_at hl 0 rfl) ?_
  refine lv_iconst (v := zi 1) hx hb dX1_pair_1 rfl ?_
  refine lv_iload_n hx hb dX1_pair_2 rfl (lv_at hl 1 rfl) ?_
  obtain ⟨v2, k1, hh⟩ := bd_inv hh
  refine cc_z (rest := []) X hM (wC_isOne l DC dA hC S (1 : Int) x1 k1) cx_X1_135.1 cx_X1_135.2 ⟨rfl, rfl⟩ ⟨Nat.le_of_ble_eq_true rfl, Nat.le_of_ble_eq_true rfl⟩ ⟨Nat.zero_le _, Nat.zero_le _⟩ hl.1 (Nat.le_of_ble_eq_true rfl) dX1_pair_3 rfl (fun H locs hM => ?_)
  refine g_bif_eq (tgt := 47) hx hb dX1_pair_6 (by decide) (fun c3 => ?_) (fun c3 => ?_)
  · replace hh := it_t c3 hh
    refine lv_aload_n hx hb dX1_pair_9 rfl (lv_at hl 0 rfl) ?_
    refine lv_iconst (v := zi 1) hx hb dX1_pair_10 rfl ?_
    refine lv_iload_n hx hb dX1_pair_11 rfl (lv_at hl 2 rfl) ?_
    obtain ⟨v5, k4, hh⟩ := bd_inv hh
    refine cc_z (rest := []) X hM (wC_isOne l DC dA hC S (1 : Int) x2 k4) cx_X1_135.1 cx_X1_135.2 ⟨rfl, rfl⟩ ⟨Nat.le_of_ble_eq_true rfl, Nat.le_of_ble_eq_true rfl⟩ ⟨Nat.zero_le _, Nat.zero_le _⟩ hl.1 (Nat.le_of_ble_eq_true rfl) dX1_pair_12 rfl (fun H locs hM => ?_)
    refine g_bif_eq (tgt := 47) hx hb dX1_pair_15 (by decide) (fun c6 => ?_) (fun c6 => ?_)
    · replace hh := it_t c6 hh
      refine lv_iload_n hx hb dX1_pair_18 rfl (lv_at hl 1 rfl) ?_
      refine lv_iload_n hx hb dX1_pair_19 rfl (lv_at hl 2 rfl) ?_
      obtain ⟨g8, hh⟩ := gd_inv hh
      refine g_icmp_eq (tgt := 47) hx hb g8 dX1_pair_20 (by decide) (fun c7 => ?_) (fun c7 => ?_)
      · replace hh := it_t c7 hh
        refine lv_iconst (v := zi (-1)) hx hb dX1_pair_47 rfl ?_
        refine lv_goto (tgt := 88) hx hb dX1_pair_48 (by decide) ?_
        refine W.widen (k := 1) (n := 3) (by decide) (by decide) ?_
        exact hret _ _ _ _ _ _ (rt1 hh) (rt2 hh) dX1_pair_88 hM
      · replace hh := it_f c7 hh
        refine lv_iload_n hx hb dX1_pair_23 rfl (lv_at hl 3 rfl) ?_
        refine lv_iconst (v := zi 1) hx hb dX1_pair_24 rfl ?_
        refine lv_bipush (v := zi 8) hx hb dX1_pair_25 (by decide) ?_
        obtain ⟨v9, k10, hh⟩ := bd_inv hh
        refine ccs_z (rest := []) X hM (wC_in l x3 (1 : Int) (8 : Int) k10) cx_X1_66.1 cx_X1_66.2 ⟨rfl, rfl⟩ ⟨Nat.le_of_ble_eq_true rfl, Nat.le_of_ble_eq_true rfl⟩ ⟨Nat.zero_le _, Nat.zero_le _⟩ hl.1 (Nat.le_of_ble_eq_true rfl) dX1_pair_27 rfl (fun H locs hM => ?_)
        refine g_bif_eq (tgt := 47) hx hb dX1_pair_30 (by decide) (fun c11 => ?_) (fun c11 => ?_)
        · replace hh := it_t c11 hh
          refine lv_aload_n hx hb dX1_pair_33 rfl (lv_at hl 0 rfl) ?_
          refine cm_get X hM q379 (cf_0_0 _ _ _) rfl dX1_pair_34 ?_
          refine cm_getN X hM q161 (cf_1_0 _ _ _) rfl dX1_pair_37 ?_
          refine lv_iconst (v := zi 2) hx hb dX1_pair_40 rfl ?_
          refine cm_iald (qz := 2) X hM ci_2 rfl rfl (by decide) dX1_pair_41 ?_
          refine lv_bipush (v := zi 16) hx hb dX1_pair_42 (by decide) ?_
          obtain ⟨g13, hh⟩ := gd_inv hh
          refine g_icmp_ne (tgt := 51) hx hb ⟨g13, by decide⟩ dX1_pair_44 (by decide) (fun c12 => ?_) (fun c12 => ?_)
          · replace hh := it_t c12 hh
            refine lv_iconst (v := zi (-1)) hx hb dX1_pair_47 rfl ?_
            refine lv_goto (tgt := 88) hx hb dX1_pair_48 (by decide) ?_
            refine W.widen (k := 1) (n := 3) (by decide) (by decide) ?_
            exact hret _ _ _ _ _ _ (rt1 hh) (rt2 hh) dX1_pair_88 hM
          · replace hh := it_f c12 hh
            refine lv_aload_n hx hb dX1_pair_51 rfl (lv_at hl 0 rfl) ?_
            refine lv_iconst (v := zi 2) hx hb dX1_pair_52 rfl ?_
            refine lv_aload_n hx hb dX1_pair_53 rfl (lv_at hl 0 rfl) ?_
            refine cm_get X hM q379 (cf_0_0 _ _ _) rfl dX1_pair_54 ?_
            refine cm_getN X hM q169 (cf_1_4 _ _ _) rfl dX1_pair_57 ?_
            refine lv_aload_n hx hb dX1_pair_60 rfl (lv_at hl 0 rfl) ?_
            refine cm_get X hM q379 (cf_0_0 _ _ _) rfl dX1_pair_61 ?_
            refine cm_getN X hM q161 (cf_1_0 _ _ _) rfl dX1_pair_64 ?_
            refine lv_iconst (v := zi 2) hx hb dX1_pair_67 rfl ?_
            refine cm_iald (qz := 2) X hM ci_2 rfl rfl (by decide) dX1_pair_68 ?_
            refine g_nmi hx hb (fun v14 e15 => ?_)
            replace hh := nm_inv hh v14 e15
            obtain ⟨g16, hh⟩ := gd_inv hh
            refine cm_aald X hM (by decide) rfl (by decide) rfl g16 dX1_pair_69 ?_
            refine lv_iconst (v := zi 3) hx hb dX1_pair_70 rfl ?_
            refine cm_newT (n := 3) X hM hA q159 (by decide) (by decide) (by decide) dX1_pair_71 (fun q17 H f18 e19 hM => ?_)
            replace hh := nm_inv hh f18 e19
            refine lv_dup hx hb dX1_pair_73 rfl ?_
            refine lv_iconst (v := zi 0) hx hb dX1_pair_74 rfl ?_
            refine lv_iload_n hx hb dX1_pair_75 rfl (lv_at hl 1 rfl) ?_
            refine cm_iastT X hM (by decide) (by decide) dX1_pair_76 (fun H locs f20 e21 hM => ?_)
            replace hh := nm_inv hh f20 e21
            refine lv_dup hx hb dX1_pair_77 rfl ?_
            refine lv_iconst (v := zi 1) hx hb dX1_pair_78 rfl ?_
            refine lv_iload_n hx hb dX1_pair_79 rfl (lv_at hl 2 rfl) ?_
            refine cm_iastT X hM (by decide) (by decide) dX1_pair_80 (fun H locs f22 e23 hM => ?_)
            replace hh := nm_inv hh f22 e23
            refine lv_dup hx hb dX1_pair_81 rfl ?_
            refine lv_iconst (v := zi 2) hx hb dX1_pair_82 rfl ?_
            refine lv_iload_n hx hb dX1_pair_83 rfl (lv_at hl 3 rfl) ?_
            refine cm_iastT X hM (by decide) (by decide) dX1_pair_84 (fun H locs f24 e25 hM => ?_)
            replace hh := nm_inv hh f24 e25
            obtain ⟨v27, S28, k26, hh⟩ := bd2_inv hh
            refine cc_T (rest := []) X hM (wC_adds28 l DC dA hC S (2 : Int) v14 g16 q17 3 f24 k26) cx_X1_90.1 cx_X1_90.2 ⟨rfl, rfl⟩ ⟨Nat.le_of_ble_eq_true rfl, Nat.le_of_ble_eq_true rfl⟩ ⟨by decide, by decide⟩ hl.1 (Nat.le_of_ble_eq_true rfl) dX1_pair_85 rfl (fun H locs hM => ?_)
            exact hret _ _ _ _ _ _ (rt1 hh) (rt2 hh) dX1_pair_88 hM
        · replace hh := it_f c11 hh
          refine lv_iconst (v := zi (-1)) hx hb dX1_pair_47 rfl ?_
          refine lv_goto (tgt := 88) hx hb dX1_pair_48 (by decide) ?_
          refine W.widen (k := 1) (n := 3) (by decide) (by decide) ?_
          exact hret _ _ _ _ _ _ (rt1 hh) (rt2 hh) dX1_pair_88 hM
    · replace hh := it_f c6 hh
      refine lv_iconst (v := zi (-1)) hx hb dX1_pair_47 rfl ?_
      refine lv_goto (tgt := 88) hx hb dX1_pair_48 (by decide) ?_
      refine W.widen (k := 1) (n := 3) (by decide) (by decide) ?_
      exact hret _ _ _ _ _ _ (rt1 hh) (rt2 hh) dX1_pair_88 hM
  · replace hh := it_f c3 hh
    refine lv_iconst (v := zi (-1)) hx hb dX1_pair_47 rfl ?_
    refine lv_goto (tgt := 88) hx hb dX1_pair_48 (by decide) ?_
    refine W.widen (k := 1) (n := 3) (by decide) (by decide) ?_
    exact hret _ _ _ _ _ _ (rt1 hh) (rt2 hh) dX1_pair_88 hM
def C_read (S : yS) (x1 : Int) (x2 : Int) (x3 : Int) : Option (Int × yS) := bd (C_isPlace S x1 x2) (fun v2 => if v2 = true then (bd (C_isHead x3) (fun v4 => if v4 = true then (gd (r32 (S.2 2 4)) (if (S.2 2 4) = 6 then (some (((-1) : Int), S)) else (nm (S.2 2 4) (fun v9 => gd ((0 : Int) ≤ v9 ∧ (v9 : Int) < 6) (nm (fun _ : Int => (0 : Int)) (fun f13 => nm (tst f13 (0 : Int) x1) (fun f15 => nm (tst f15 (1 : Int) x2) (fun f17 => nm (tst f17 (2 : Int) x3) (fun f19 => nm (tst f19 (3 : Int) (0 : Int)) (fun f21 => bd2 (C_adds45 S (4 : Int) v9 (4 : Int) f21) (fun v24 S25 => some ((v24 : Int), S25)))))))))))) else (some (((-1) : Int), S)))) else (some (((-1) : Int), S)))
set_option maxHeartbeats 4000000 in
theorem wC_read (l : Launch) (DC : va_G) (dA : Nat → ClassId) (hC sz : Nat) (S : yS) (x1 x2 x3 : Int) {r : Int} {S1 : yS} (hh : C_read S x1 x2 x3 = some (r, S1)) : ctA_i l yX1_read cX1_read 4 (some .int) ({ frames := 3, cells := 1, slots := 4, locals := 84 } : Room) DC dA hC sz [.ref hC, .int (zi x1), .int (zi x2), .int (zi x3)] S r S1 1 4 := by
  refine coA_i (by decide) (Nat.le_of_ble_eq_true rfl) ?_
  intro p e s m args below meth c Q ls X hret hl hM hA
  have hx := X.1.1
  have hb := X.1.2.1
  have hown := X.1.2.2.2.1
  have hts := X.1.2.2.2.2
  replace hl : lv_has ls 4 [(0, .ref (hC)), (1, .int (zi (x1))), (2, .int (zi (x2))), (3, .int (zi (x3)))] := hl
  unfold C_read at hh
  refine lv_aload_n hx hb dX1_read_0 rfl (lv_at hl 0 rfl) ?_
  refine lv_iload_n hx hb dX1_read_1 rfl (lv_at hl 1 rfl) ?_
  refine lv_iload_n hx hb dX1_read_2 rfl (lv_at hl 2 rfl) ?_
  obtain ⟨v2, k1, hh⟩ := bd_inv hh
  refine cc_z (rest := []) X hM (wC_isPlace l DC dA hC S x1 x2 k1) cx_X1_111.1 cx_X1_111.2 ⟨rfl, rfl⟩ ⟨Nat.le_of_ble_eq_true rfl, Nat.le_of_ble_eq_true rfl⟩ ⟨Nat.zero_le _, Nat.zero_le _⟩ hl.1 (Nat.le_of_ble_eq_true rfl) dX1_read_3 rfl (fun H locs hM => ?_)
  refine g_bif_eq (tgt := 30) hx hb dX1_read_6 (by decide) (fun c3 => ?_) (fun c3 => ?_)
  · replace hh := it_t c3 hh
    refine lv_iload_n hx hb dX1_read_9 rfl (lv_at hl 3 rfl) ?_
    obtain ⟨v4, k5, hh⟩ := bd_inv hh
    refine ccs_z (rest := []) X hM (wC_isHead l x3 k5) cx_X1_115.1 cx_X1_115.2 ⟨rfl, rfl⟩ ⟨Nat.le_of_ble_eq_true rfl, Nat.le_of_ble_eq_true rfl⟩ ⟨Nat.zero_le _, Nat.zero_le _⟩ hl.1 (Nat.le_of_ble_eq_true rfl) dX1_read_10 rfl (fun H locs hM => ?_)
    refine g_bif_eq (tgt := 30) hx hb dX1_read_13 (by decide) (fun c6 => ?_) (fun c6 => ?_)
    · replace hh := it_t c6 hh
      refine lv_aload_n hx hb dX1_read_16 rfl (lv_at hl 0 rfl) ?_
      refine cm_get X hM q379 (cf_0_0 _ _ _) rfl dX1_read_17 ?_
      refine cm_getN X hM q161 (cf_1_0 _ _ _) rfl dX1_read_20 ?_
      refine lv_iconst (v := zi 4) hx hb dX1_read_23 rfl ?_
      refine cm_iald (qz := 2) X hM ci_2 rfl rfl (by decide) dX1_read_24 ?_
      refine lv_bipush (v := zi 6) hx hb dX1_read_25 (by decide) ?_
      obtain ⟨g8, hh⟩ := gd_inv hh
      refine g_icmp_ne (tgt := 34) hx hb ⟨g8, by decide⟩ dX1_read_27 (by decide) (fun c7 => ?_) (fun c7 => ?_)
      · replace hh := it_t c7 hh
        refine lv_iconst (v := zi (-1)) hx hb dX1_read_30 rfl ?_
        refine lv_goto (tgt := 75) hx hb dX1_read_31 (by decide) ?_
        refine W.widen (k := 1) (n := 4) (by decide) (by decide) ?_
        exact hret _ _ _ _ _ _ (rt1 hh) (rt2 hh) dX1_read_75 hM
      · replace hh := it_f c7 hh
        refine lv_aload_n hx hb dX1_read_34 rfl (lv_at hl 0 rfl) ?_
        refine lv_iconst (v := zi 4) hx hb dX1_read_35 rfl ?_
        refine lv_aload_n hx hb dX1_read_36 rfl (lv_at hl 0 rfl) ?_
        refine cm_get X hM q379 (cf_0_0 _ _ _) rfl dX1_read_37 ?_
        refine cm_getN X hM q171 (cf_1_5 _ _ _) rfl dX1_read_40 ?_
        refine lv_aload_n hx hb dX1_read_43 rfl (lv_at hl 0 rfl) ?_
        refine cm_get X hM q379 (cf_0_0 _ _ _) rfl dX1_read_44 ?_
        refine cm_getN X hM q161 (cf_1_0 _ _ _) rfl dX1_read_47 ?_
        refine lv_iconst (v := zi 4) hx hb dX1_read_50 rfl ?_
        refine cm_iald (qz := 2) X hM ci_2 rfl rfl (by decide) dX1_read_51 ?_
        refine g_nmi hx hb (fun v9 e10 => ?_)
        replace hh := nm_inv hh v9 e10
        obtain ⟨g11, hh⟩ := gd_inv hh
        refine cm_aald X hM (by decide) rfl (by decide) rfl g11 dX1_read_52 ?_
        refine lv_iconst (v := zi 4) hx hb dX1_read_53 rfl ?_
        refine cm_newT (n := 4) X hM hA q159 (by decide) (by decide) (by decide) dX1_read_54 (fun q12 H f13 e14 hM => ?_)
        replace hh := nm_inv hh f13 e14
        refine lv_dup hx hb dX1_read_56 rfl ?_
        refine lv_iconst (v := zi 0) hx hb dX1_read_57 rfl ?_
        refine lv_iload_n hx hb dX1_read_58 rfl (lv_at hl 1 rfl) ?_
        refine cm_iastT X hM (by decide) (by decide) dX1_read_59 (fun H locs f15 e16 hM => ?_)
        replace hh := nm_inv hh f15 e16
        refine lv_dup hx hb dX1_read_60 rfl ?_
        refine lv_iconst (v := zi 1) hx hb dX1_read_61 rfl ?_
        refine lv_iload_n hx hb dX1_read_62 rfl (lv_at hl 2 rfl) ?_
        refine cm_iastT X hM (by decide) (by decide) dX1_read_63 (fun H locs f17 e18 hM => ?_)
        replace hh := nm_inv hh f17 e18
        refine lv_dup hx hb dX1_read_64 rfl ?_
        refine lv_iconst (v := zi 2) hx hb dX1_read_65 rfl ?_
        refine lv_iload_n hx hb dX1_read_66 rfl (lv_at hl 3 rfl) ?_
        refine cm_iastT X hM (by decide) (by decide) dX1_read_67 (fun H locs f19 e20 hM => ?_)
        replace hh := nm_inv hh f19 e20
        refine lv_dup hx hb dX1_read_68 rfl ?_
        refine lv_iconst (v := zi 3) hx hb dX1_read_69 rfl ?_
        refine lv_iconst (v := zi 0) hx hb dX1_read_70 rfl ?_
        refine cm_iastT X hM (by decide) (by decide) dX1_read_71 (fun H locs f21 e22 hM => ?_)
        replace hh := nm_inv hh f21 e22
        obtain ⟨v24, S25, k23, hh⟩ := bd2_inv hh
        refine cc_T (rest := []) X hM (wC_adds45 l DC dA hC S (4 : Int) v9 g11 q12 4 f21 k23) cx_X1_90.1 cx_X1_90.2 ⟨rfl, rfl⟩ ⟨Nat.le_of_ble_eq_true rfl, Nat.le_of_ble_eq_true rfl⟩ ⟨by decide, by decide⟩ hl.1 (Nat.le_of_ble_eq_true rfl) dX1_read_72 rfl (fun H locs hM => ?_)
        exact hret _ _ _ _ _ _ (rt1 hh) (rt2 hh) dX1_read_75 hM
    · replace hh := it_f c6 hh
      refine lv_iconst (v := zi (-1)) hx hb dX1_read_30 rfl ?_
      refine lv_goto (tgt := 75) hx hb dX1_read_31 (by decide) ?_
      refine W.widen (k := 1) (n := 4) (by decide) (by decide) ?_
      exact hret _ _ _ _ _ _ (rt1 hh) (rt2 hh) dX1_read_75 hM
  · replace hh := it_f c3 hh
    refine lv_iconst (v := zi (-1)) hx hb dX1_read_30 rfl ?_
    refine lv_goto (tgt := 75) hx hb dX1_read_31 (by decide) ?_
    refine W.widen (k := 1) (n := 4) (by decide) (by decide) ?_
    exact hret _ _ _ _ _ _ (rt1 hh) (rt2 hh) dX1_read_75 hM
