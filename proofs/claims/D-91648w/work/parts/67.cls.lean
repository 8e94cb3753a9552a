/-! goes: a rule's clauses, one after the other (298 .. 486) -/
set_option maxRecDepth 100000
theorem kf_sum2 : hCl tcl lw_all 2 2 "ManyEyes$Clause" "sum" "LManyEyes$Sum;" := ⟨TX8, 4, RX8, rfl, in_X8, by decide, rfl, rfl, rfl⟩
theorem kf_ask2 : hCl tcl lw_all 2 3 "ManyEyes$Clause" "asked" "LManyEyes$Asked;" := ⟨TX8, 4, RX8, rfl, in_X8, by decide, rfl, rfl, rfl⟩
theorem cx_X1_267 : GoodIn lw_all (va_wsS "ManyEyes" 267 yJ3_min_2 (ws_ yJ3_min_2 cJ3_min_2 4 (some .long))) ∧ yJ3_min_2.cls ≠ "java/lang/invoke/MethodHandle" ∧ yJ3_min_2.cls ≠ "java/lang/invoke/VarHandle" ∧ (parseMethodDescriptor yJ3_min_2.desc).map (fun d => d.parameters.length) = some 2 := ⟨lw_S q1068 q1014 q87 q1015, by decide +kernel⟩
theorem cx_X1_270 : GoodIn lw_all (va_wsS "ManyEyes" 270 yJ3_max_2 (ws_ yJ3_max_2 cJ3_max_2 4 (some .long))) ∧ yJ3_max_2.cls ≠ "java/lang/invoke/MethodHandle" ∧ yJ3_max_2.cls ≠ "java/lang/invoke/VarHandle" ∧ (parseMethodDescriptor yJ3_max_2.desc).map (fun d => d.parameters.length) = some 2 := ⟨lw_S q1069 q1017 q87 q1018, by decide +kernel⟩
def C_cl1 (c : tCl) (tg : Int × Int) (S : yS) : Option ((Int × Int) × yS) :=
  if c.1 = 203 then bd (pv c.2.2 ([], [], S)) (fun r => match r.2.1 with
    | b :: _ => some (tg, cfs r.2.2 19 (bz b))
    | [] => none)
  else bd (pv c.2.2 ([], [], S)) (fun r => match r.1 with
    | z :: _ =>
      if c.1 = 200 then gd ((0 : Int) ≤ c.2.1 ∧ c.2.1 < 8) (some (tg, cas r.2.2 661 c.2.1 z))
      else if c.1 = 201 then bd (Ma_min_2 8 z) (fun v => bd (Ma_max_2 (-8) v) (fun w => some ((w, tg.2), r.2.2)))
      else if c.1 = 202 then bd (Ma_min_2 16 z) (fun v => bd (Ma_max_2 0 v) (fun w => some ((tg.1, w), r.2.2)))
      else none
    | [] => none)
def C_cls : List tCl → (Int × Int) → yS → Option ((Int × Int) × yS)
  | [], tg, S => some (tg, S)
  | c :: cs, tg, S => bd2 (C_cl1 c tg S) (fun tg S => C_cls cs tg S)
def C_rl (ed : Nat) (rs : List (List tCl)) (S : yS) (x : Int) : Option ((Int × Int) × yS) := gd ((S.1 41 = (ed : Int) ∧ S.1 42 = (rs.length : Int)) ∧ 0 ≤ x) (match rs[x.toNat]? with
  | some cs => C_cls cs (0, 0) S
  | none => none)
section CLS
variable {p : Program} {l : Launch} {e : Env} {R : Room} {s : State} {m : MethodId} {args : Array Value} {below : List Frame} {meth : Method} {c : Code} {H : Heap} {locs : List Loc} {Q : State → Prop}
variable {ls : Array Slot} {Z : hZ} {DC : va_G} {dA : Nat → ClassId} {hC : Nat} {A : Nat → Prop} {L : List Nat} {k ed : Nat} {rs : List (List tCl)} {S S1 : yS}
theorem cx_nop (hM : CX DC dA hC (hA (cA hC) s.heap.size) S s H locs) {H1 : Heap} {locs1 : List Loc} (hfr : hFr F0_ H H1) (hS : va_S (hA (cA hC) s.heap.size) s.heap H1 locs1) : CX DC dA hC (hA (cA hC) s.heap.size) S s H1 locs1 := ⟨hM.1.kept (fun k q hq => hfr.2 q.1 ((hM.1 k q hq).lt) (fun w => w)), hS, hM.2.2⟩
set_option maxHeartbeats 4000000 in
theorem w_cls (X : fCx "ManyEyes" p c cX1_goes 11 s m args Z DC dA) (hM : CX DC dA hC (hA (cA hC) s.heap.size) S s H locs) (hO : RO Z hC A L k ed rs s.heap) {x t : Int} {tgf : Int × Int} (hh : C_rl ed rs S x = some (tgf, S1)) (hR : 48 ≤ R.frames ∧ 1900 ≤ R.locals) (hl : lv_has ls 11 [(6, .long (zl 0)), (4, .long (zl 0)), (3, .int (zi t)), (2, .ref (hC + 474)), (0, .ref hC), (1, .int (zi x))])
    (kk : ∀ (H1 : Heap) (locs1 : List Loc) (ls : Array Slot), CX DC dA hC (hA (cA hC) s.heap.size) S1 s H1 locs1 → lv_has ls 11 [(6, .long (zl tgf.2)), (4, .long (zl tgf.1)), (3, .int (zi t)), (2, .ref (hC + 474)), (0, .ref hC)] → W p l e R s m args below meth c H1 locs1 0 0 Q (F0 m 486 ls [])) : W p l e R s m args below meth c H locs 0 0 Q (F0 m 298 ls []) := by
  have XH := fcx_h X
  have XC := fcx_c X
  have hx := X.1.1
  have hb := X.1.2.1
  have hown := X.1.2.2.2.1
  have hts := X.1.2.2.2.2
  have hF : ∀ x, cA hC x → Z.b ≤ x := fun x h => Nat.le_trans hO.1 h.1
  have hnw : ¬ A (hC + 658) := fun w => hO.2.2.2.2.2.1 _ w ⟨by omega, by omega⟩
  unfold C_rl at hh
  obtain ⟨⟨g1, g2⟩, hh⟩ := gd_inv hh
  obtain ⟨cs, hcs⟩ : ∃ cs, rs[x.toNat]? = some cs := by
    cases q : rs[x.toNat]? with
    | none => rw [q] at hh; cases hh
    | some cs => exact ⟨cs, rfl⟩
  rw [hcs] at hh
  replace hh : C_cls cs (0, 0) S = some (tgf, S1) := hh
  obtain ⟨a, ha, hRl⟩ := zip_atR hO.2.2.2.1 hO.2.2.2.2.1 hcs
  have kp : ∀ {H1 : Heap} {locs1 : List Loc} {S' : yS}, CX DC dA hC (hA (cA hC) s.heap.size) S' s H1 locs1 → ∀ y, A y ∨ y < Z.b → y < s.heap.size → H1[y]? = s.heap[y]? := by
    intro H1 locs1 S' hM y hy hlt
    refine hM.2.1.2.1 y hlt (fun z => ?_)
    rcases z with z | z
    · rcases hy with hy | hy
      · exact hO.2.2.2.2.2.1 y hy z
      · have := hF y z; omega
    · exact absurd z (Nat.not_le.mpr hlt)
  obtain ⟨L1, c1, e1, hLs, hlen, hlF, hCl⟩ := hRl
  have hLsK : ∀ {H1 : Heap} {locs1 : List Loc} {S' : yS}, CX DC dA hC (hA (cA hC) s.heap.size) S' s H1 locs1 → Lst Z a L1 c1 e1 H1 := fun hM => hLs.keep (fun y hy hlt => kp hM y (Or.inl (by
    rcases hy with w | w | w
    · exact hlF y (Or.inl w)
    · exact hlF y (Or.inr w)
    · obtain ⟨c0, hc⟩ := zip_allC hlen hCl w
      exact hc.1)) hlt)
  have hszL := hLs.size_lt
  have loop : ∀ (ys : List tCl) (xs1 : List tCl) (LA LB : List Nat) (tg : Int × Int) (S : yS) (H : Heap) (locs : List Loc) (ls : Array Slot), cs = xs1 ++ ys → L1 = LA ++ LB → xs1.length = LA.length → C_cls ys tg S = some (tgf, S1) → CX DC dA hC (hA (cA hC) s.heap.size) S s H locs → lv_has ls 11 [(9, .int (zi (xs1.length : Int))), (8, .ref a), (6, .long (zl tg.2)), (4, .long (zl tg.1)), (3, .int (zi t)), (2, .ref (hC + 474)), (0, .ref hC)] → W p l e R s m args below meth c H locs 0 0 Q (F0 m 317 ls []) := by
    intro ys
    induction ys with
    | nil =>
      intro xs1 LA LB tg S H locs ls q1 q2 q3 hh hM hl
      cases Option.some.inj hh
      have hxl : xs1.length = L1.length := by rw [← hlen, q1]; simp
      refine lv_iload hx hb dX1_goes_317 (lv_at hl 0 rfl) ?_
      refine lv_aload hx hb dX1_goes_319 (lv_at hl 1 rfl) ?_
      refine hcV (As := []) (rest := [.int (zi (xs1.length : Int))]) XH hM.2.1 hF (w_size l Z a c1 e1 L1 H.size) (hLsK hM) (fun x h => h.elim) ((hLsK hM).recv X.2.1) (lw_V q981 q300 q301 q84 q302) (show hdV yJ2_size "java/util/ArrayList" 0 by decide +kernel) ⟨rfl, rfl⟩ ⟨by show 1 + 1 ≤ R.frames; omega, by show 8 + (1 + 11) + 40 ≤ R.locals; omega⟩ ⟨Nat.zero_le _, Nat.zero_le _⟩ hl.1 (Nat.le_of_ble_eq_true rfl) dX1_goes_321 rfl (fun v H2 locs2 hv hfr2 hS2 => ?_)
      subst hv
      have hM := cx_nop hM hfr2 hS2
      refine g_icmp_ge (tgt := 486) hx hb (show r32 (xs1.length : Int) ∧ r32 (L1.length : Int) by unfold r32; omega) dX1_goes_324 (by decide) (fun c1 => absurd c1 (by omega)) (fun c1 => ?_)
      exact kk _ _ _ hM (lv_sub hl [2, 3, 4, 5, 6] rfl)
    | cons w ys ih =>
      intro xs1 LA LB tg S H locs ls q1 q2 q3 hh hM hl
      obtain ⟨tg2, S2, h1, h2⟩ := bd2_inv hh
      have hxl : xs1.length < L1.length := by rw [← hlen, q1]; simp
      obtain ⟨b, LB', hLB⟩ : ∃ b LB', LB = b :: LB' := by
        cases LB with
        | nil => rw [q2] at hxl; simp at hxl; omega
        | cons b LB' => exact ⟨b, LB', rfl⟩
      subst hLB
      have hzip : (w, b) ∈ cs.zip L1 := by
        rw [q1, q2, List.zip_append q3]
        simp
      have hgb : L1[(xs1.length : Int).toNat]? = some b := by
        rw [q2, show ((xs1.length : Int)).toNat = LA.length by omega]; simp
      have hW := hCl _ hzip
      have hWK : ∀ {H1 : Heap} {locs1 : List Loc} {S' : yS}, CX DC dA hC (hA (cA hC) s.heap.size) S' s H1 locs1 → ClH Z 40 A H1 w b := fun hM => hW.keep (kp hM)
      refine lv_iload hx hb dX1_goes_317 (lv_at hl 0 rfl) ?_
      refine lv_aload hx hb dX1_goes_319 (lv_at hl 1 rfl) ?_
      refine hcV (As := []) (rest := [.int (zi (xs1.length : Int))]) XH hM.2.1 hF (w_size l Z a c1 e1 L1 H.size) (hLsK hM) (fun x h => h.elim) ((hLsK hM).recv X.2.1) (lw_V q981 q300 q301 q84 q302) (show hdV yJ2_size "java/util/ArrayList" 0 by decide +kernel) ⟨rfl, rfl⟩ ⟨by show 1 + 1 ≤ R.frames; omega, by show 8 + (1 + 11) + 40 ≤ R.locals; omega⟩ ⟨Nat.zero_le _, Nat.zero_le _⟩ hl.1 (Nat.le_of_ble_eq_true rfl) dX1_goes_321 rfl (fun v H2 locs2 hv hfr2 hS2 => ?_)
      subst hv
      have hM := cx_nop hM hfr2 hS2
      refine g_icmp_ge (tgt := 486) hx hb (show r32 (xs1.length : Int) ∧ r32 (L1.length : Int) by unfold r32; omega) dX1_goes_324 (by decide) (fun c1 => ?_) (fun c1 => absurd (show (xs1.length : Int) < (L1.length : Int) by omega) c1)
      refine lv_aload hx hb dX1_goes_327 (lv_at hl 1 rfl) ?_
      refine lv_iload hx hb dX1_goes_329 (lv_at hl 0 rfl) ?_
      refine hcV (As := [.int (zi (xs1.length : Int))]) (rest := []) XH hM.2.1 hF (w_lget l Z a _ e1 L1 (xs1.length : Int) b ⟨by omega, hgb⟩ H2.size) (hLsK hM) (fun x h => h.elim) ((hLsK hM).recv X.2.1) (lw_V q979 q304 q305 q84 q306) (show hdV yJ2_get "java/util/ArrayList" 1 by decide +kernel) ⟨rfl, rfl⟩ ⟨by show 3 + 1 ≤ R.frames; omega, by show 8 + (2 + 11) + 120 ≤ R.locals; omega⟩ ⟨Nat.zero_le _, Nat.zero_le _⟩ hl.1 (Nat.le_of_ble_eq_true rfl) dX1_goes_331 rfl (fun v H3 locs3 hv hfr3 hS3 => ?_)
      subst hv
      have hM := cx_nop hM hfr3 hS3
      clear hfr2 hS2 hfr3 hS3
      have hcl := hWK hM
      obtain ⟨fs, hat⟩ : ∃ fs, va_at Z.D tcl (b, .inr (2, fs)) H3 := by
        rcases hcl.2 with ⟨_, x, h, _⟩ | ⟨_, x, h, _⟩
        · exact ⟨_, h⟩
        · exact ⟨_, h⟩
      refine va_castS (nm := "ManyEyes$Clause") hx hb hown (hts _ q982) (X.2.1.1.1 2 _ rfl).2 (va_recv X.2.1.1 (va_one hat) (ci := 2) (q0 := 0) rfl rfl) dX1_goes_334 ?_
      clear hat
      refine lv_astore (lv' := [(10, .ref b), (9, .int (zi (xs1.length : Int))), (8, .ref a), (6, .long (zl tg.2)), (4, .long (zl tg.1)), (3, .int (zi t)), (2, .ref (hC + 474)), (0, .ref hC)]) hx hb dX1_goes_337 hl (by decide) rfl (fun ls hl => ?_)
      have tail : ∀ (H : Heap) (locs : List Loc) (ls : Array Slot), CX DC dA hC (hA (cA hC) s.heap.size) S2 s H locs → lv_has ls 11 [(9, .int (zi (xs1.length : Int))), (8, .ref a), (6, .long (zl tg2.2)), (4, .long (zl tg2.1)), (3, .int (zi t)), (2, .ref (hC + 474)), (0, .ref hC)] → W p l e R s m args below meth c H locs 0 0 Q (F0 m 480 ls []) := by
        intro H locs ls hM hl
        refine lv_iinc (v := zi ((xs1.length : Int) + 1)) (lv' := [(9, .int (zi ((xs1.length : Int) + 1))), (8, .ref a), (6, .long (zl tg2.2)), (4, .long (zl tg2.1)), (3, .int (zi t)), (2, .ref (hC + 474)), (0, .ref hC)]) hx hb dX1_goes_480 hl (k := 0) rfl (zi_add _ _) (by decide) rfl (fun ls hl => ?_)
        refine lv_goto (tgt := 317) hx hb dX1_goes_483 (by decide) ?_
        refine ih (xs1 ++ [w]) (LA ++ [b]) LB' tg2 S2 H locs ls (by rw [q1]; simp) (by rw [q2]; simp) (by simp [q3]) h2 hM ?_
        rw [show (((xs1 ++ [w]).length : Nat) : Int) = (xs1.length : Int) + 1 by simp]
        exact hl
      clear ih h2
      have hN := lk_NowW X.2.2 X.2.1 hO.1 hM.1
      refine lv_aload hx hb dX1_goes_339 (lv_at hl 0 rfl) ?_
      unfold C_cl1 at h1
      obtain ⟨so, le, code⟩ := w
      rcases hcl.2 with ⟨d1, y, hat, hak⟩ | ⟨d1, y, hat, hsu⟩
      · have d1 : so = 203 := d1
        subst d1
        rw [if_pos rfl] at h1
        obtain ⟨r, hp, h1⟩ := bd_inv h1
        obtain ⟨v, S3, hr, hav⟩ := wE_ask l Z (hC + 658) 40 A H3 code y S [] [] r hak hnw hN hp
        have hS3 := pv_S _ _ _ hp
        subst hr
        cases Option.some.inj h1
        refine h_get X.1 X.2.1.1 hat kf_sort q725 rfl dX1_goes_341 ?_
        refine g_tabOut (tgt := 462) hx hb dX1_goes_344 (show r32 203 by decide) (Or.inr (show (202 : Int) < 203 by decide)) (by decide) ?_
        refine lv_aload_n hx hb dX1_goes_462 rfl (lv_at hl 6 rfl) ?_
        refine lv_aload hx hb dX1_goes_463 (lv_at hl 0 rfl) ?_
        refine h_get X.1 X.2.1.1 hat kf_ask2 q731 rfl dX1_goes_465 ?_
        refine lv_aload_n hx hb dX1_goes_468 rfl (lv_at hl 6 rfl) ?_
        refine cm_getN XC hM q251 (cf_474_3 _ _ _) rfl dX1_goes_469 ?_
        refine tf_is (rest := [.ref (hC + 474)]) X hM hO hav hS3 q1072 ⟨by omega, by omega⟩ hl.1 (Nat.le_of_ble_eq_true rfl) dX1_goes_472 (fun H4 locs4 hM => ?_)
        refine cm_putN XC hM q257 (cp_474_9 _ _ _ (bz_01 v)) rfl dX1_goes_477 (fun H5 locs5 S5 e5 hM => ?_)
        subst e5
        exact tail _ _ _ hM (lv_sub hl [1, 2, 3, 4, 5, 6, 7] rfl)
      · have d1 : so ≠ 203 := d1
        rw [if_neg d1] at h1
        obtain ⟨r, hp, h1⟩ := bd_inv h1
        obtain ⟨z, S3, hr, hev⟩ := wE_sum l Z (hC + 658) 40 A H3 code y S [] [] r hsu hnw hN hp
        have hS3 := pv_S _ _ _ hp
        subst hr
        refine h_get X.1 X.2.1.1 hat kf_sort q725 rfl dX1_goes_341 ?_
        replace h1 : (if so = 200 then gd ((0 : Int) ≤ le ∧ le < 8) (some (tg, cas S3 661 le z)) else if so = 201 then bd (Ma_min_2 8 z) (fun v => bd (Ma_max_2 (-8) v) (fun w => some ((w, tg.2), S3))) else if so = 202 then bd (Ma_min_2 16 z) (fun v => bd (Ma_max_2 0 v) (fun w => some ((tg.1, w), S3))) else none) = some (tg2, S2) := h1
        by_cases d2 : so = 200
        · rw [if_pos d2] at h1
          obtain ⟨gl, h1⟩ := gd_inv h1
          cases Option.some.inj h1
          refine g_tabIn (z0 := 200) (off := 28) (tgt := 372) hx hb dX1_goes_344 d2 (by decide) (by decide) (by decide) rfl (by decide) ?_
          refine lv_aload_n hx hb dX1_goes_372 rfl (lv_at hl 6 rfl) ?_
          refine cm_getN XC hM q251 (cf_474_3 _ _ _) rfl dX1_goes_373 ?_
          refine cm_getN XC hM q222 (cf_658_2 _ _ _) rfl dX1_goes_376 ?_
          refine lv_aload hx hb dX1_goes_379 (lv_at hl 0 rfl) ?_
          refine h_get X.1 X.2.1.1 hat kf_letter q727 rfl dX1_goes_381 ?_
          refine lv_aload hx hb dX1_goes_384 (lv_at hl 0 rfl) ?_
          refine h_get X.1 X.2.1.1 hat kf_sum2 q729 rfl dX1_goes_386 ?_
          refine lv_aload_n hx hb dX1_goes_389 rfl (lv_at hl 6 rfl) ?_
          refine cm_getN XC hM q251 (cf_474_3 _ _ _) rfl dX1_goes_390 ?_
          refine tf_of (rest := [.int (zi le), .ref (hC + 661)]) X hM hO hev hS3 q984 ⟨by omega, by omega⟩ hl.1 (Nat.le_of_ble_eq_true rfl) dX1_goes_393 (fun H4 locs4 hM => ?_)
          refine cm_lst XC hM rfl gl dX1_goes_398 (fun H5 locs5 S5 e5 hM => ?_)
          subst e5
          refine lv_goto (tgt := 480) hx hb dX1_goes_399 (by decide) ?_
          exact tail _ _ _ hM (lv_sub hl [1, 2, 3, 4, 5, 6, 7] rfl)
        rw [if_neg d2] at h1
        by_cases d3 : so = 201
        · rw [if_pos d3] at h1
          obtain ⟨v1, k1, h1⟩ := bd_inv h1
          obtain ⟨v2, k2, h1⟩ := bd_inv h1
          cases Option.some.inj h1
          refine g_tabIn (z0 := 201) (off := 58) (tgt := 402) hx hb dX1_goes_344 d3 (by decide) (by decide) (by decide) rfl (by decide) ?_
          refine g_ldc2 (v := (-8)) (z := (-8)) hx hb (by decide) hown (hts _ q1066) dX1_goes_402 ?_
          refine g_ldc2 (v := 8) (z := 8) hx hb (by decide) hown (hts _ q1067) dX1_goes_405 ?_
          refine lv_aload hx hb dX1_goes_408 (lv_at hl 0 rfl) ?_
          refine h_get X.1 X.2.1.1 hat kf_sum2 q729 rfl dX1_goes_410 ?_
          refine lv_aload_n hx hb dX1_goes_413 rfl (lv_at hl 6 rfl) ?_
          refine cm_getN XC hM q251 (cf_474_3 _ _ _) rfl dX1_goes_414 ?_
          refine tf_of (rest := [.long (zl 8), .long (zl (-8))]) X hM hO hev hS3 q984 ⟨by omega, by omega⟩ hl.1 (Nat.le_of_ble_eq_true rfl) dX1_goes_417 (fun H4 locs4 hM => ?_)
          refine ccs_l (rest := [.long (zl (-8))]) XC hM (wMa_min_2 l 8 z k1) cx_X1_267.1 cx_X1_267.2 ⟨rfl, rfl⟩ ⟨by show 1 + 1 ≤ R.frames; omega, by show 8 + (4 + 11) + 40 ≤ R.locals; omega⟩ ⟨Nat.zero_le _, Nat.zero_le _⟩ hl.1 (Nat.le_of_ble_eq_true rfl) dX1_goes_422 rfl (fun H locs hM => ?_)
          refine ccs_l (rest := []) XC hM (wMa_max_2 l (-8) v1 k2) cx_X1_270.1 cx_X1_270.2 ⟨rfl, rfl⟩ ⟨by show 1 + 1 ≤ R.frames; omega, by show 8 + (4 + 11) + 40 ≤ R.locals; omega⟩ ⟨Nat.zero_le _, Nat.zero_le _⟩ hl.1 (Nat.le_of_ble_eq_true rfl) dX1_goes_425 rfl (fun H locs hM => ?_)
          refine lv_lstore (lv' := [(4, .long (zl v2)), (10, .ref b), (9, .int (zi (xs1.length : Int))), (8, .ref a), (6, .long (zl tg.2)), (3, .int (zi t)), (2, .ref (hC + 474)), (0, .ref hC)]) hx hb dX1_goes_428 hl (by decide) rfl (fun ls hl => ?_)
          refine lv_goto (tgt := 480) hx hb dX1_goes_430 (by decide) ?_
          exact tail _ _ _ hM (lv_sub hl [2, 3, 4, 0, 5, 6, 7] rfl)
        rw [if_neg d3] at h1
        by_cases d4 : so = 202
        · rw [if_pos d4] at h1
          obtain ⟨v1, k1, h1⟩ := bd_inv h1
          obtain ⟨v2, k2, h1⟩ := bd_inv h1
          cases Option.some.inj h1
          refine g_tabIn (z0 := 202) (off := 89) (tgt := 433) hx hb dX1_goes_344 d4 (by decide) (by decide) (by decide) rfl (by decide) ?_
          refine lv_lconst (v := zl 0) hx hb dX1_goes_433 (by decide) ?_
          refine g_ldc2 (v := 16) (z := 16) hx hb (by decide) hown (hts _ q1070) dX1_goes_434 ?_
          refine lv_aload hx hb dX1_goes_437 (lv_at hl 0 rfl) ?_
          refine h_get X.1 X.2.1.1 hat kf_sum2 q729 rfl dX1_goes_439 ?_
          refine lv_aload_n hx hb dX1_goes_442 rfl (lv_at hl 6 rfl) ?_
          refine cm_getN XC hM q251 (cf_474_3 _ _ _) rfl dX1_goes_443 ?_
          refine tf_of (rest := [.long (zl 16), .long (zl 0)]) X hM hO hev hS3 q984 ⟨by omega, by omega⟩ hl.1 (Nat.le_of_ble_eq_true rfl) dX1_goes_446 (fun H4 locs4 hM => ?_)
          refine ccs_l (rest := [.long (zl 0)]) XC hM (wMa_min_2 l 16 z k1) cx_X1_267.1 cx_X1_267.2 ⟨rfl, rfl⟩ ⟨by show 1 + 1 ≤ R.frames; omega, by show 8 + (4 + 11) + 40 ≤ R.locals; omega⟩ ⟨Nat.zero_le _, Nat.zero_le _⟩ hl.1 (Nat.le_of_ble_eq_true rfl) dX1_goes_451 rfl (fun H locs hM => ?_)
          refine ccs_l (rest := []) XC hM (wMa_max_2 l 0 v1 k2) cx_X1_270.1 cx_X1_270.2 ⟨rfl, rfl⟩ ⟨by show 1 + 1 ≤ R.frames; omega, by show 8 + (4 + 11) + 40 ≤ R.locals; omega⟩ ⟨Nat.zero_le _, Nat.zero_le _⟩ hl.1 (Nat.le_of_ble_eq_true rfl) dX1_goes_454 rfl (fun H locs hM => ?_)
          refine lv_lstore (lv' := [(6, .long (zl v2)), (10, .ref b), (9, .int (zi (xs1.length : Int))), (8, .ref a), (4, .long (zl tg.1)), (3, .int (zi t)), (2, .ref (hC + 474)), (0, .ref hC)]) hx hb dX1_goes_457 hl (by decide) rfl (fun ls hl => ?_)
          refine lv_goto (tgt := 480) hx hb dX1_goes_459 (by decide) ?_
          exact tail _ _ _ hM (lv_sub hl [2, 3, 0, 4, 5, 6, 7] rfl)
        rw [if_neg d4] at h1
        cases h1
  have hLr := (hO.at hM).lst X.2.2 X.2.1 hM.1 g1
  refine lv_aload_n hx hb dX1_goes_298 rfl (lv_at hl 4 rfl) ?_
  refine cm_get XC hM q379 (cf_0_0 _ _ _) rfl dX1_goes_299 ?_
  refine cm_getN XC hM q179 (cf_1_9 _ _ _) rfl dX1_goes_302 ?_
  refine lv_iload_n hx hb dX1_goes_305 rfl (lv_at hl 5 rfl) ?_
  refine hcV (As := [.int (zi x)]) (rest := []) (b := hC + 235) XH hM.2.1 hF (w_lget l Z (hC + 235) k ed L x a ⟨g2, ha⟩ H.size) hLr (fun x h => h.elim) (hLr.recv X.2.1) (lw_V q979 q304 q305 q84 q306) (show hdV yJ2_get "java/util/ArrayList" 1 by decide +kernel) ⟨rfl, rfl⟩ ⟨by show 3 + 1 ≤ R.frames; omega, by show 8 + (2 + 11) + 120 ≤ R.locals; omega⟩ ⟨Nat.zero_le _, Nat.zero_le _⟩ hl.1 (Nat.le_of_ble_eq_true rfl) dX1_goes_306 rfl (fun v H3 locs3 hv hfr3 hS3 => ?_)
  subst hv
  have hM := cx_nop hM hfr3 hS3
  refine va_castS (nm := "java/util/ArrayList") hx hb hown (hts _ q980) (X.2.1.1.1 14 _ rfl).2 ((hLsK hM).recv X.2.1) dX1_goes_309 ?_
  refine lv_astore (lv' := [(8, .ref a), (6, .long (zl 0)), (4, .long (zl 0)), (3, .int (zi t)), (2, .ref (hC + 474)), (0, .ref hC), (1, .int (zi x))]) hx hb dX1_goes_312 hl (by decide) rfl (fun ls hl => ?_)
  refine lv_iconst (v := zi 0) hx hb dX1_goes_314 rfl ?_
  refine lv_istore (lv' := [(9, .int (zi 0)), (8, .ref a), (6, .long (zl 0)), (4, .long (zl 0)), (3, .int (zi t)), (2, .ref (hC + 474)), (0, .ref hC), (1, .int (zi x))]) hx hb dX1_goes_315 hl (by decide) rfl (fun ls hl => ?_)
  exact loop cs [] [] L1 (0, 0) S H3 locs3 ls rfl rfl rfl hh hM (lv_sub hl [0, 1, 2, 3, 4, 5, 6] rfl)
end CLS
