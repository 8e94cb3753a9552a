/-! the constructors of Now, Flight and State -/
set_option maxRecDepth 100000
theorem W.size {p : Program} {l : Launch} {e : Env} {R : Room} {s : State} {m : MethodId} {args : Array Value} {below : List Frame} {meth : Method} {c : Code} {H : Heap} {locs : List Loc} {cells slots : Nat} {Q : State → Prop} {g : JFrame} (k : H.size ≤ s.heap.size + cells → W p l e R s m args below meth c H locs cells slots Q g) : W p l e R s m args below meth c H locs cells slots Q g := by
  intro T hT X
  have h := X.same.2.2.1
  rw [show (T.setVm s.vm).heap = H from hT] at h
  exact k h T hT X
theorem crow {q n k : Nat} (hq : q + 1 + n ≤ 662) (hk : k < 2147483648) (h : ∀ j : Fin n, spC (q + 1 + j.val) = false ∧ lenC (q + 1 + j.val) = k) : ∀ j, j < n → cI (q + 1 + j) k := fun j hj => ⟨by omega, (h ⟨j, hj⟩).1, (h ⟨j, hj⟩).2, hk⟩
theorem zp_1_0 (z : Nat) : hPl ccl lw_all 1 0 "ManyEyes$State" "n" "[I" (.ref z) true := ⟨TX2, 10, RX2, tyX2, rfl, in_X2, by decide, rfl, rfl, rfl, rfl, tyX2_ok, nmX2, rfl, rfl⟩
theorem zp_1_1 (z : Nat) : hPl ccl lw_all 1 1 "ManyEyes$State" "mark" "[I" (.ref z) true := ⟨TX2, 10, RX2, tyX2, rfl, in_X2, by decide, rfl, rfl, rfl, rfl, tyX2_ok, nmX2, rfl, rfl⟩
theorem zp_1_2 (z : Nat) : hPl ccl lw_all 1 2 "ManyEyes$State" "body" "[[I" (.ref z) true := ⟨TX2, 10, RX2, tyX2, rfl, in_X2, by decide, rfl, rfl, rfl, rfl, tyX2_ok, nmX2, rfl, rfl⟩
theorem zp_1_3 (z : Nat) : hPl ccl lw_all 1 3 "ManyEyes$State" "lens" "[[I" (.ref z) true := ⟨TX2, 10, RX2, tyX2, rfl, in_X2, by decide, rfl, rfl, rfl, rfl, tyX2_ok, nmX2, rfl, rfl⟩
theorem zp_1_4 (z : Nat) : hPl ccl lw_all 1 4 "ManyEyes$State" "pair" "[[I" (.ref z) true := ⟨TX2, 10, RX2, tyX2, rfl, in_X2, by decide, rfl, rfl, rfl, rfl, tyX2_ok, nmX2, rfl, rfl⟩
theorem zp_1_5 (z : Nat) : hPl ccl lw_all 1 5 "ManyEyes$State" "read" "[[I" (.ref z) true := ⟨TX2, 10, RX2, tyX2, rfl, in_X2, by decide, rfl, rfl, rfl, rfl, tyX2_ok, nmX2, rfl, rfl⟩
theorem zp_1_6 (z : Nat) : hPl ccl lw_all 1 6 "ManyEyes$State" "tick" "[[I" (.ref z) true := ⟨TX2, 10, RX2, tyX2, rfl, in_X2, by decide, rfl, rfl, rfl, rfl, tyX2_ok, nmX2, rfl, rfl⟩
theorem zp_1_7 (z : Nat) : hPl ccl lw_all 1 7 "ManyEyes$State" "take" "[[I" (.ref z) true := ⟨TX2, 10, RX2, tyX2, rfl, in_X2, by decide, rfl, rfl, rfl, rfl, tyX2_ok, nmX2, rfl, rfl⟩
theorem zp_1_8 (z : Nat) : hPl ccl lw_all 1 8 "ManyEyes$State" "pairs" "[[I" (.ref z) true := ⟨TX2, 10, RX2, tyX2, rfl, in_X2, by decide, rfl, rfl, rfl, rfl, tyX2_ok, nmX2, rfl, rfl⟩
theorem zp_1_9 (z : Nat) : hPl ccl lw_all 1 9 "ManyEyes$State" "rules" "Ljava/util/ArrayList;" (.ref z) true := ⟨TX2, 10, RX2, tyX2, rfl, in_X2, by decide, rfl, rfl, rfl, rfl, tyX2_ok, nmX2, rfl, rfl⟩
theorem zp_2_0 (z : Nat) : hPl ccl lw_all 2 0 "ManyEyes$Flight" "tick" "[[I" (.ref z) true := ⟨TX3, 10, RX3, tyX3, rfl, in_X3, by decide, rfl, rfl, rfl, rfl, tyX3_ok, nmX3, rfl, rfl⟩
theorem zp_2_1 (z : Nat) : hPl ccl lw_all 2 1 "ManyEyes$Flight" "take" "[[I" (.ref z) true := ⟨TX3, 10, RX3, tyX3, rfl, in_X3, by decide, rfl, rfl, rfl, rfl, tyX3_ok, nmX3, rfl, rfl⟩
theorem zp_2_2 (z : Nat) : hPl ccl lw_all 2 2 "ManyEyes$Flight" "pairs" "[[I" (.ref z) true := ⟨TX3, 10, RX3, tyX3, rfl, in_X3, by decide, rfl, rfl, rfl, rfl, tyX3_ok, nmX3, rfl, rfl⟩
theorem zp_2_3 (z : Nat) : hPl ccl lw_all 2 3 "ManyEyes$Flight" "asked" "LManyEyes$Now;" (.ref z) true := ⟨TX3, 10, RX3, tyX3, rfl, in_X3, by decide, rfl, rfl, rfl, rfl, tyX3_ok, nmX3, rfl, rfl⟩
theorem zp_3_0 (z : Nat) : hPl ccl lw_all 3 0 "ManyEyes$Now" "take" "[I" (.ref z) true := ⟨TX4, 6, RX4, tyX4, rfl, in_X4, by decide, rfl, rfl, rfl, rfl, tyX4_ok, nmX4, rfl, rfl⟩
theorem zp_3_1 (z : Nat) : hPl ccl lw_all 3 1 "ManyEyes$Now" "pair" "[I" (.ref z) true := ⟨TX4, 6, RX4, tyX4, rfl, in_X4, by decide, rfl, rfl, rfl, rfl, tyX4_ok, nmX4, rfl, rfl⟩
theorem zp_3_2 (z : Nat) : hPl ccl lw_all 3 2 "ManyEyes$Now" "letter" "[J" (.ref z) true := ⟨TX4, 6, RX4, tyX4, rfl, in_X4, by decide, rfl, rfl, rfl, rfl, tyX4_ok, nmX4, rfl, rfl⟩
theorem wI_now (l : Launch) (Z : hZ) (DC : va_G) (dA : Nat → ClassId) (hC eD : Nat) : mIn l yX4_init cX4_init 1 ({ frames := 2, cells := 3, slots := 40, locals := 80 } : Room) Z DC dA [.ref (hC + 658)] (hC + 659) (fun H => va_at DC ccl (hC + 658, .inr (3, [.null, .null, .null, .int 0, .int 0, .long 0])) H) (fun v H => v = none ∧ ZP DC dA hC eD 658 662 H) (fE (hC + 658)) 3 40 := by
  refine goI (by decide +kernel) (Nat.le_of_ble_eq_true rfl) ?_
  intro p e s m args below meth c Q ls X hAO hret hl hP hn hS hnm
  rw [← hn] at hret
  have XH := fcx_h X
  have hx := X.1.1
  have hb := X.1.2.1
  have hown := X.1.2.2.2.1
  have hts := X.1.2.2.2.2
  have hI : iS DC dA hC eD 658 3 [.null, .null, .null, .int 0, .int 0, .long 0] 659 s s.heap [] := ⟨hP, fun x a c => absurd c (by omega), hn, va_S.rf⟩
  replace hl : lv_has ls 1 [(0, .ref (hC + 658))] := hl
  refine lv_aload_n hx hb dX4_init_0 rfl (lv_at hl 0 rfl) ?_
  refine W.objInit hx hb hown (hts _ q213) (hts _ q123) (hts _ q124) rfl (hl.1.trans X.1.2.2.1.symm) rfl dX4_init_1 (by decide) (Nat.le_of_ble_eq_true rfl) ?_
  refine lv_aload_n hx hb dX4_init_4 rfl (lv_at hl 0 rfl) ?_
  refine lv_bipush (v := zi ((16 : Nat) : Int)) hx hb dX4_init_5 (by decide) ?_
  refine z_int X hI (by decide) (show cI 659 16 from ⟨by decide, by decide, by decide, by decide⟩) (by decide) ⟨Nat.le_of_ble_eq_true rfl, Nat.le_of_ble_eq_true rfl⟩ dX4_init_7 (fun H hI => ?_)
  refine z_put X hI hnm rfl (zp_3_0 (hC + 659)) q214 (Nat.le_of_ble_eq_true rfl) dX4_init_9 (fun H locs hI => ?_)
  refine lv_aload_n hx hb dX4_init_12 rfl (lv_at hl 0 rfl) ?_
  refine lv_bipush (v := zi ((16 : Nat) : Int)) hx hb dX4_init_13 (by decide) ?_
  refine z_int X hI (by decide) (show cI 660 16 from ⟨by decide, by decide, by decide, by decide⟩) (by decide) ⟨Nat.le_of_ble_eq_true rfl, Nat.le_of_ble_eq_true rfl⟩ dX4_init_15 (fun H hI => ?_)
  refine z_put X hI hnm rfl (zp_3_1 (hC + 660)) q217 (Nat.le_of_ble_eq_true rfl) dX4_init_17 (fun H locs hI => ?_)
  refine lv_aload_n hx hb dX4_init_20 rfl (lv_at hl 0 rfl) ?_
  refine lv_bipush (v := zi ((8 : Nat) : Int)) hx hb dX4_init_21 (by decide) ?_
  refine z_new (at_ := .long) (ty := .long) (t0 := 1) (n := 8) X hI (by decide) rfl q243 rfl rfl rfl rfl (by decide) (by decide) ⟨Nat.le_of_ble_eq_true rfl, Nat.le_of_ble_eq_true rfl⟩ dX4_init_23 (fun H hI => ?_)
  refine z_put X hI hnm rfl (zp_3_2 (hC + 661)) q220 (Nat.le_of_ble_eq_true rfl) dX4_init_25 (fun H locs hI => ?_)
  refine W.widen (k := 3) (n := 40) (by decide) (by decide) ?_
  refine hret _ _ _ _ dX4_init_28 ⟨rfl, fun q a c => ?_⟩ hI.2.2.2
  by_cases h : q = 658
  · subst h
    exact hI.1
  · exact hI.2.1 q (by omega) c
theorem wI_flight (l : Launch) (Z : hZ) (DC : va_G) (dA : Nat → ClassId) (hC eD : Nat) (hbC : Z.b ≤ hC) : mIn l yX3_init cX3_init 1 ({ frames := 3, cells := 187, slots := 2446, locals := 160 } : Room) Z DC dA [.ref (hC + 474)] (hC + 475) (fun H => va_at DC ccl (hC + 474, .inr (2, [.null, .null, .null, .null, .int 0, .int 0, .int 0, .int 0, .int 0, .int 0])) H) (fun v H => v = none ∧ ZP DC dA hC eD 474 662 H) (fE (hC + 474)) 187 2446 := by
  refine goI (by decide +kernel) (Nat.le_of_ble_eq_true rfl) ?_
  intro p e s m args below meth c Q ls X hAO hret hl hP hn hS hnm
  rw [← hn] at hret
  have XH := fcx_h X
  have hx := X.1.1
  have hb := X.1.2.1
  have hown := X.1.2.2.2.1
  have hts := X.1.2.2.2.2
  have hI : iS DC dA hC eD 474 2 [.null, .null, .null, .null, .int 0, .int 0, .int 0, .int 0, .int 0, .int 0] 475 s s.heap [] := ⟨hP, fun x a c => absurd c (by omega), hn, va_S.rf⟩
  have hFb : ∀ a, fE (hC + 474) a → Z.b ≤ a := fun a h => by rw [h]; omega
  replace hl : lv_has ls 1 [(0, .ref (hC + 474))] := hl
  refine lv_aload_n hx hb dX3_init_0 rfl (lv_at hl 0 rfl) ?_
  refine W.objInit hx hb hown (hts _ q206) (hts _ q123) (hts _ q124) rfl (hl.1.trans X.1.2.2.1.symm) rfl dX3_init_1 (by decide) (Nat.le_of_ble_eq_true rfl) ?_
  refine lv_aload_n hx hb dX3_init_4 rfl (lv_at hl 0 rfl) ?_
  refine lv_bipush (v := zi ((60 : Nat) : Int)) hx hb dX3_init_5 (by decide) ?_
  refine lv_iconst (v := zi ((5 : Nat) : Int)) hx hb dX3_init_7 rfl ?_
  refine z_multi (n := 60) (k := 5) X hAO hI (by decide) q207 rfl (crow (by decide) (by decide) (by decide +kernel)) (by decide) (by decide) ⟨Nat.le_of_ble_eq_true rfl, Nat.le_of_ble_eq_true rfl⟩ dX3_init_8 (fun H locs hI => ?_)
  refine z_put X hI hnm rfl (zp_2_0 (hC + 475)) q244 (Nat.le_of_ble_eq_true rfl) dX3_init_12 (fun H locs hI => ?_)
  refine lv_aload_n hx hb dX3_init_15 rfl (lv_at hl 0 rfl) ?_
  refine lv_bipush (v := zi ((60 : Nat) : Int)) hx hb dX3_init_16 (by decide) ?_
  refine lv_bipush (v := zi ((16 : Nat) : Int)) hx hb dX3_init_18 (by decide) ?_
  refine z_multi (n := 60) (k := 16) X hAO hI (by decide) q207 rfl (crow (by decide) (by decide) (by decide +kernel)) (by decide) (by decide) ⟨Nat.le_of_ble_eq_true rfl, Nat.le_of_ble_eq_true rfl⟩ dX3_init_20 (fun H locs hI => ?_)
  refine z_put X hI hnm rfl (zp_2_1 (hC + 536)) q246 (Nat.le_of_ble_eq_true rfl) dX3_init_24 (fun H locs hI => ?_)
  refine lv_aload_n hx hb dX3_init_27 rfl (lv_at hl 0 rfl) ?_
  refine lv_bipush (v := zi ((60 : Nat) : Int)) hx hb dX3_init_28 (by decide) ?_
  refine lv_bipush (v := zi ((16 : Nat) : Int)) hx hb dX3_init_30 (by decide) ?_
  refine z_multi (n := 60) (k := 16) X hAO hI (by decide) q207 rfl (crow (by decide) (by decide) (by decide +kernel)) (by decide) (by decide) ⟨Nat.le_of_ble_eq_true rfl, Nat.le_of_ble_eq_true rfl⟩ dX3_init_32 (fun H locs hI => ?_)
  refine z_put X hI hnm rfl (zp_2_2 (hC + 597)) q248 (Nat.le_of_ble_eq_true rfl) dX3_init_36 (fun H locs hI => ?_)
  refine lv_aload_n hx hb dX3_init_39 rfl (lv_at hl 0 rfl) ?_
  refine h_new (fs := [.null, .null, .null, .int 0, .int 0, .long 0]) X.1 X.2.2 hI.2.2.2 (fun q h => Or.inr h) (ci := 3) rfl in_X4 tyX4 tyX4_ok q208 q209 q86 (fun k hk => by
    have hh : k = 0 ∨ k = 1 ∨ k = 2 ∨ k = 3 ∨ k = 4 ∨ k = 5 := by omega
    rcases hh with rfl | rfl | rfl | rfl | rfl | rfl <;> rfl) (Nat.le_of_ble_eq_true rfl) (Nat.le_of_ble_eq_true rfl) dX3_init_40 (fun H1 hN z1 o1 hS1 => ?_)
  have hsz := hI.2.2.1
  rw [hsz] at hN z1 ⊢
  refine lv_dup hx hb dX3_init_43 rfl ?_
  have hmet := wI_now l Z DC dA hC eD
  rw [show hC + 659 = H1.size by omega] at hmet
  refine z_call (As := []) (rest := [.ref (hC + 658), .ref (hC + 474)]) (a := hC + 658) X hAO hS1 hFb hmet hN (fun x h => Or.inr (by rw [h]; omega)) (lw_meth q212) (X.2.1.2.1.NW _ q210 rfl) q86 rfl q211 (show hdS yX4_init 0 by decide +kernel) ⟨rfl, rfl⟩ ⟨Nat.le_of_ble_eq_true rfl, Nat.le_of_ble_eq_true rfl⟩ ⟨Nat.le_of_ble_eq_true rfl, Nat.le_of_ble_eq_true rfl⟩ hl.1 (Nat.le_of_ble_eq_true rfl) dX3_init_44 rfl (fun v H2 locs2 hv hfr hS2 => ?_)
  obtain ⟨rfl, hZ2⟩ := hv
  refine W.size (fun hle => ?_)
  have hge := va_at_lt (hZ2 661 (by decide) (by decide))
  have hI2 : iS DC dA hC eD 474 2 [.ref (hC + 475), .ref (hC + 536), .ref (hC + 597), .null, .int 0, .int 0, .int 0, .int 0, .int 0, .int 0] 662 s H2 locs2 := by
    have o2 : ∀ x, x < H.size → H2[x]? = H[x]? := fun x hxs => (hfr.2 x (by omega) (fun h : x = hC + 658 => by omega)).trans (o1 x hxs)
    refine ⟨va_at_keep hI.1 (o2 _ (by omega)), fun x a c => ?_, by omega, hS2⟩
    by_cases h : x < 658
    · exact va_at_keep (hI.2.1 x a h) (o2 _ (by omega))
    · exact hZ2 x (by omega) c
  have hI := hI2
  refine z_put X hI hnm rfl (zp_2_3 (hC + 658)) q250 (Nat.le_of_ble_eq_true rfl) dX3_init_47 (fun H locs hI => ?_)
  refine W.widen (k := 187) (n := 2446) (by decide) (by decide) ?_
  refine hret _ _ _ _ dX3_init_50 ⟨rfl, fun q a c => ?_⟩ hI.2.2.2
  by_cases h : q = 474
  · subst h
    exact hI.1
  · exact hI.2.1 q (by omega) c
theorem wI_stateN (l : Launch) (Z : hZ) (DC : va_G) (dA : Nat → ClassId) (hC : Nat) (hbC : Z.b ≤ hC) : mIn l yX2_init cX2_init 1 ({ frames := 6, cells := 234, slots := 3285, locals := 200 } : Room) Z DC dA [.ref (hC + 1)] (hC + 2) (fun H => va_at DC ccl (hC + 1, .inr (1, [.null, .null, .null, .null, .null, .null, .null, .null, .null, .null])) H) (fun v H => v = none ∧ ZP DC dA hC Z.G.eD 1 236 H) (fE (hC + 1)) 234 3285 := by
  refine goI (by decide +kernel) (Nat.le_of_ble_eq_true rfl) ?_
  intro p e s m args below meth c Q ls X hAO hret hl hP hn hS hnm
  rw [← hn] at hret
  have XH := fcx_h X
  have hx := X.1.1
  have hb := X.1.2.1
  have hown := X.1.2.2.2.1
  have hts := X.1.2.2.2.2
  have hI : iS DC dA hC Z.G.eD 1 1 [.null, .null, .null, .null, .null, .null, .null, .null, .null, .null] 2 s s.heap [] := ⟨hP, fun x a c => absurd c (by omega), hn, va_S.rf⟩
  have hFb : ∀ a, fE (hC + 1) a → Z.b ≤ a := fun a h => by rw [h]; omega
  replace hl : lv_has ls 1 [(0, .ref (hC + 1))] := hl
  refine lv_aload_n hx hb dX2_init_0 rfl (lv_at hl 0 rfl) ?_
  refine W.objInit hx hb hown (hts _ q130) (hts _ q123) (hts _ q124) rfl (hl.1.trans X.1.2.2.1.symm) rfl dX2_init_1 (by decide) (Nat.le_of_ble_eq_true rfl) ?_
  refine lv_aload_n hx hb dX2_init_4 rfl (lv_at hl 0 rfl) ?_
  refine lv_bipush (v := zi ((14 : Nat) : Int)) hx hb dX2_init_5 (by decide) ?_
  refine z_int X hI (by decide) (show cI 2 14 from ⟨by decide, by decide, by decide, by decide⟩) (by decide) ⟨Nat.le_of_ble_eq_true rfl, Nat.le_of_ble_eq_true rfl⟩ dX2_init_7 (fun H hI => ?_)
  refine z_put X hI hnm rfl (zp_1_0 (hC + 2)) q160 (Nat.le_of_ble_eq_true rfl) dX2_init_9 (fun H locs hI => ?_)
  refine lv_aload_n hx hb dX2_init_12 rfl (lv_at hl 0 rfl) ?_
  refine lv_sipush (v := zi ((576 : Nat) : Int)) hx hb dX2_init_13 (by decide) ?_
  refine z_int X hI (by decide) (show cI 3 576 from ⟨by decide, by decide, by decide, by decide⟩) (by decide) ⟨Nat.le_of_ble_eq_true rfl, Nat.le_of_ble_eq_true rfl⟩ dX2_init_16 (fun H hI => ?_)
  refine z_put X hI hnm rfl (zp_1_1 (hC + 3)) q162 (Nat.le_of_ble_eq_true rfl) dX2_init_18 (fun H locs hI => ?_)
  refine lv_aload_n hx hb dX2_init_21 rfl (lv_at hl 0 rfl) ?_
  refine lv_bipush (v := zi ((6 : Nat) : Int)) hx hb dX2_init_22 (by decide) ?_
  refine lv_iconst (v := zi ((4 : Nat) : Int)) hx hb dX2_init_24 rfl ?_
  refine z_multi (n := 6) (k := 4) X hAO hI (by decide) q131 rfl (crow (by decide) (by decide) (by decide +kernel)) (by decide) (by decide) ⟨Nat.le_of_ble_eq_true rfl, Nat.le_of_ble_eq_true rfl⟩ dX2_init_25 (fun H locs hI => ?_)
  refine z_put X hI hnm rfl (zp_1_2 (hC + 4)) q164 (Nat.le_of_ble_eq_true rfl) dX2_init_29 (fun H locs hI => ?_)
  refine lv_aload_n hx hb dX2_init_32 rfl (lv_at hl 0 rfl) ?_
  refine lv_bipush (v := zi ((16 : Nat) : Int)) hx hb dX2_init_33 (by decide) ?_
  refine lv_iconst (v := zi ((2 : Nat) : Int)) hx hb dX2_init_35 rfl ?_
  refine z_multi (n := 16) (k := 2) X hAO hI (by decide) q131 rfl (crow (by decide) (by decide) (by decide +kernel)) (by decide) (by decide) ⟨Nat.le_of_ble_eq_true rfl, Nat.le_of_ble_eq_true rfl⟩ dX2_init_36 (fun H locs hI => ?_)
  refine z_put X hI hnm rfl (zp_1_3 (hC + 11)) q166 (Nat.le_of_ble_eq_true rfl) dX2_init_40 (fun H locs hI => ?_)
  refine lv_aload_n hx hb dX2_init_43 rfl (lv_at hl 0 rfl) ?_
  refine lv_bipush (v := zi ((16 : Nat) : Int)) hx hb dX2_init_44 (by decide) ?_
  refine lv_iconst (v := zi ((3 : Nat) : Int)) hx hb dX2_init_46 rfl ?_
  refine z_multi (n := 16) (k := 3) X hAO hI (by decide) q131 rfl (crow (by decide) (by decide) (by decide +kernel)) (by decide) (by decide) ⟨Nat.le_of_ble_eq_true rfl, Nat.le_of_ble_eq_true rfl⟩ dX2_init_47 (fun H locs hI => ?_)
  refine z_put X hI hnm rfl (zp_1_4 (hC + 28)) q168 (Nat.le_of_ble_eq_true rfl) dX2_init_51 (fun H locs hI => ?_)
  refine lv_aload_n hx hb dX2_init_54 rfl (lv_at hl 0 rfl) ?_
  refine lv_bipush (v := zi ((6 : Nat) : Int)) hx hb dX2_init_55 (by decide) ?_
  refine lv_bipush (v := zi ((24 : Nat) : Int)) hx hb dX2_init_57 (by decide) ?_
  refine z_multi (n := 6) (k := 24) X hAO hI (by decide) q131 rfl (crow (by decide) (by decide) (by decide +kernel)) (by decide) (by decide) ⟨Nat.le_of_ble_eq_true rfl, Nat.le_of_ble_eq_true rfl⟩ dX2_init_59 (fun H locs hI => ?_)
  refine z_put X hI hnm rfl (zp_1_5 (hC + 45)) q170 (Nat.le_of_ble_eq_true rfl) dX2_init_63 (fun H locs hI => ?_)
  refine lv_aload_n hx hb dX2_init_66 rfl (lv_at hl 0 rfl) ?_
  refine lv_bipush (v := zi ((60 : Nat) : Int)) hx hb dX2_init_67 (by decide) ?_
  refine lv_iconst (v := zi ((5 : Nat) : Int)) hx hb dX2_init_69 rfl ?_
  refine z_multi (n := 60) (k := 5) X hAO hI (by decide) q131 rfl (crow (by decide) (by decide) (by decide +kernel)) (by decide) (by decide) ⟨Nat.le_of_ble_eq_true rfl, Nat.le_of_ble_eq_true rfl⟩ dX2_init_70 (fun H locs hI => ?_)
  refine z_put X hI hnm rfl (zp_1_6 (hC + 52)) q172 (Nat.le_of_ble_eq_true rfl) dX2_init_74 (fun H locs hI => ?_)
  refine lv_aload_n hx hb dX2_init_77 rfl (lv_at hl 0 rfl) ?_
  refine lv_bipush (v := zi ((60 : Nat) : Int)) hx hb dX2_init_78 (by decide) ?_
  refine lv_bipush (v := zi ((16 : Nat) : Int)) hx hb dX2_init_80 (by decide) ?_
  refine z_multi (n := 60) (k := 16) X hAO hI (by decide) q131 rfl (crow (by decide) (by decide) (by decide +kernel)) (by decide) (by decide) ⟨Nat.le_of_ble_eq_true rfl, Nat.le_of_ble_eq_true rfl⟩ dX2_init_82 (fun H locs hI => ?_)
  refine z_put X hI hnm rfl (zp_1_7 (hC + 113)) q174 (Nat.le_of_ble_eq_true rfl) dX2_init_86 (fun H locs hI => ?_)
  refine lv_aload_n hx hb dX2_init_89 rfl (lv_at hl 0 rfl) ?_
  refine lv_bipush (v := zi ((60 : Nat) : Int)) hx hb dX2_init_90 (by decide) ?_
  refine lv_bipush (v := zi ((16 : Nat) : Int)) hx hb dX2_init_92 (by decide) ?_
  refine z_multi (n := 60) (k := 16) X hAO hI (by decide) q131 rfl (crow (by decide) (by decide) (by decide +kernel)) (by decide) (by decide) ⟨Nat.le_of_ble_eq_true rfl, Nat.le_of_ble_eq_true rfl⟩ dX2_init_94 (fun H locs hI => ?_)
  refine z_put X hI hnm rfl (zp_1_8 (hC + 174)) q176 (Nat.le_of_ble_eq_true rfl) dX2_init_98 (fun H locs hI => ?_)
  refine lv_aload_n hx hb dX2_init_101 rfl (lv_at hl 0 rfl) ?_
  refine h_new (fs := [.int 0, .null, .int 0]) X.1 X.2.1.1 hI.2.2.2 (fun q h => Or.inr h) (ci := 14) rfl in_J2 tyJ2 tyJ2_ok q133 q134 q84 (fun k hk => by
    have hh : k = 0 ∨ k = 1 ∨ k = 2 := by omega
    rcases hh with rfl | rfl | rfl <;> rfl) (Nat.le_of_ble_eq_true rfl) (Nat.le_of_ble_eq_true rfl) dX2_init_102 (fun H1 hN z1 o1 hS1 => ?_)
  have hsz := hI.2.2.1
  rw [hsz] at hN z1 ⊢
  refine lv_dup hx hb dX2_init_105 rfl ?_
  refine hcI (As := []) (rest := [.ref (hC + 235), .ref (hC + 1)]) (b := hC + 235) XH hS1 hFb (w_alI l Z (hC + 235) H1.size (by omega) (.int 0) .null (.int 0)) hN (fun x h => Or.inr (by rw [h]; omega)) (cwI 0 hts (lw_meth q137) rfl rfl rfl (hts _ q84) (hts _ q135) (hts _ q136) rfl (show hdS yJ2_init 0 by decide +kernel) ⟨Nat.le_of_ble_eq_true rfl, Nat.le_of_ble_eq_true rfl⟩) ⟨rfl, rfl⟩ ⟨Nat.le_of_ble_eq_true rfl, Nat.le_of_ble_eq_true rfl⟩ ⟨Nat.le_of_ble_eq_true rfl, Nat.le_of_ble_eq_true rfl⟩ hl.1 (Nat.le_of_ble_eq_true rfl) dX2_init_106 rfl (fun v H2 locs2 hv hfr hS2 => ?_)
  obtain ⟨rfl, hL2⟩ := hv
  have hL3 := (lk_lst X.2.2 X.2.1).mpr hL2
  refine W.size (fun hle => ?_)
  have hge := hfr.1
  have hI2 : iS DC dA hC Z.G.eD 1 1 [.ref (hC + 2), .ref (hC + 3), .ref (hC + 4), .ref (hC + 11), .ref (hC + 28), .ref (hC + 45), .ref (hC + 52), .ref (hC + 113), .ref (hC + 174), .null] 236 s H2 locs2 := by
    have o2 : ∀ x, x < H.size → H2[x]? = H[x]? := fun x hxs => (hfr.2 x (by omega) (fun h : x = hC + 235 => by omega)).trans (o1 x hxs)
    refine ⟨va_at_keep hI.1 (o2 _ (by omega)), fun x a c => ?_, by omega, hS2⟩
    by_cases h : x < 235
    · exact va_at_keep (hI.2.1 x a h) (o2 _ (by omega))
    · have : x = 235 := by omega
      subst this
      exact hL3
  have hI := hI2
  refine z_put X hI hnm rfl (zp_1_9 (hC + 235)) q178 (Nat.le_of_ble_eq_true rfl) dX2_init_109 (fun H locs hI => ?_)
  refine W.widen (k := 234) (n := 3285) (by decide) (by decide) ?_
  refine hret _ _ _ _ dX2_init_112 ⟨rfl, fun q a c => ?_⟩ hI.2.2.2
  by_cases h : q = 1
  · subst h
    exact hI.1
  · exact hI.2.1 q (by omega) c
theorem wI_stateI (l : Launch) (Z : hZ) (DC : va_G) (dA : Nat → ClassId) (hC : Nat) (hbC : Z.b ≤ hC) : mIn l yX2_init cX2_init 1 ({ frames := 6, cells := 234, slots := 3285, locals := 200 } : Room) Z DC dA [.ref (hC + 236)] (hC + 237) (fun H => va_at DC ccl (hC + 236, .inr (1, [.null, .null, .null, .null, .null, .null, .null, .null, .null, .null])) H) (fun v H => v = none ∧ ZP DC dA hC Z.G.eD 236 471 H) (fE (hC + 236)) 234 3285 := by
  refine goI (by decide +kernel) (Nat.le_of_ble_eq_true rfl) ?_
  intro p e s m args below meth c Q ls X hAO hret hl hP hn hS hnm
  rw [← hn] at hret
  have XH := fcx_h X
  have hx := X.1.1
  have hb := X.1.2.1
  have hown := X.1.2.2.2.1
  have hts := X.1.2.2.2.2
  have hI : iS DC dA hC Z.G.eD 236 1 [.null, .null, .null, .null, .null, .null, .null, .null, .null, .null] 237 s s.heap [] := ⟨hP, fun x a c => absurd c (by omega), hn, va_S.rf⟩
  have hFb : ∀ a, fE (hC + 236) a → Z.b ≤ a := fun a h => by rw [h]; omega
  replace hl : lv_has ls 1 [(0, .ref (hC + 236))] := hl
  refine lv_aload_n hx hb dX2_init_0 rfl (lv_at hl 0 rfl) ?_
  refine W.objInit hx hb hown (hts _ q130) (hts _ q123) (hts _ q124) rfl (hl.1.trans X.1.2.2.1.symm) rfl dX2_init_1 (by decide) (Nat.le_of_ble_eq_true rfl) ?_
  refine lv_aload_n hx hb dX2_init_4 rfl (lv_at hl 0 rfl) ?_
  refine lv_bipush (v := zi ((14 : Nat) : Int)) hx hb dX2_init_5 (by decide) ?_
  refine z_int X hI (by decide) (show cI 237 14 from ⟨by decide, by decide, by decide, by decide⟩) (by decide) ⟨Nat.le_of_ble_eq_true rfl, Nat.le_of_ble_eq_true rfl⟩ dX2_init_7 (fun H hI => ?_)
  refine z_put X hI hnm rfl (zp_1_0 (hC + 237)) q160 (Nat.le_of_ble_eq_true rfl) dX2_init_9 (fun H locs hI => ?_)
  refine lv_aload_n hx hb dX2_init_12 rfl (lv_at hl 0 rfl) ?_
  refine lv_sipush (v := zi ((576 : Nat) : Int)) hx hb dX2_init_13 (by decide) ?_
  refine z_int X hI (by decide) (show cI 238 576 from ⟨by decide, by decide, by decide, by decide⟩) (by decide) ⟨Nat.le_of_ble_eq_true rfl, Nat.le_of_ble_eq_true rfl⟩ dX2_init_16 (fun H hI => ?_)
  refine z_put X hI hnm rfl (zp_1_1 (hC + 238)) q162 (Nat.le_of_ble_eq_true rfl) dX2_init_18 (fun H locs hI => ?_)
  refine lv_aload_n hx hb dX2_init_21 rfl (lv_at hl 0 rfl) ?_
  refine lv_bipush (v := zi ((6 : Nat) : Int)) hx hb dX2_init_22 (by decide) ?_
  refine lv_iconst (v := zi ((4 : Nat) : Int)) hx hb dX2_init_24 rfl ?_
  refine z_multi (n := 6) (k := 4) X hAO hI (by decide) q131 rfl (crow (by decide) (by decide) (by decide +kernel)) (by decide) (by decide) ⟨Nat.le_of_ble_eq_true rfl, Nat.le_of_ble_eq_true rfl⟩ dX2_init_25 (fun H locs hI => ?_)
  refine z_put X hI hnm rfl (zp_1_2 (hC + 239)) q164 (Nat.le_of_ble_eq_true rfl) dX2_init_29 (fun H locs hI => ?_)
  refine lv_aload_n hx hb dX2_init_32 rfl (lv_at hl 0 rfl) ?_
  refine lv_bipush (v := zi ((16 : Nat) : Int)) hx hb dX2_init_33 (by decide) ?_
  refine lv_iconst (v := zi ((2 : Nat) : Int)) hx hb dX2_init_35 rfl ?_
  refine z_multi (n := 16) (k := 2) X hAO hI (by decide) q131 rfl (crow (by decide) (by decide) (by decide +kernel)) (by decide) (by decide) ⟨Nat.le_of_ble_eq_true rfl, Nat.le_of_ble_eq_true rfl⟩ dX2_init_36 (fun H locs hI => ?_)
  refine z_put X hI hnm rfl (zp_1_3 (hC + 246)) q166 (Nat.le_of_ble_eq_true rfl) dX2_init_40 (fun H locs hI => ?_)
  refine lv_aload_n hx hb dX2_init_43 rfl (lv_at hl 0 rfl) ?_
  refine lv_bipush (v := zi ((16 : Nat) : Int)) hx hb dX2_init_44 (by decide) ?_
  refine lv_iconst (v := zi ((3 : Nat) : Int)) hx hb dX2_init_46 rfl ?_
  refine z_multi (n := 16) (k := 3) X hAO hI (by decide) q131 rfl (crow (by decide) (by decide) (by decide +kernel)) (by decide) (by decide) ⟨Nat.le_of_ble_eq_true rfl, Nat.le_of_ble_eq_true rfl⟩ dX2_init_47 (fun H locs hI => ?_)
  refine z_put X hI hnm rfl (zp_1_4 (hC + 263)) q168 (Nat.le_of_ble_eq_true rfl) dX2_init_51 (fun H locs hI => ?_)
  refine lv_aload_n hx hb dX2_init_54 rfl (lv_at hl 0 rfl) ?_
  refine lv_bipush (v := zi ((6 : Nat) : Int)) hx hb dX2_init_55 (by decide) ?_
  refine lv_bipush (v := zi ((24 : Nat) : Int)) hx hb dX2_init_57 (by decide) ?_
  refine z_multi (n := 6) (k := 24) X hAO hI (by decide) q131 rfl (crow (by decide) (by decide) (by decide +kernel)) (by decide) (by decide) ⟨Nat.le_of_ble_eq_true rfl, Nat.le_of_ble_eq_true rfl⟩ dX2_init_59 (fun H locs hI => ?_)
  refine z_put X hI hnm rfl (zp_1_5 (hC + 280)) q170 (Nat.le_of_ble_eq_true rfl) dX2_init_63 (fun H locs hI => ?_)
  refine lv_aload_n hx hb dX2_init_66 rfl (lv_at hl 0 rfl) ?_
  refine lv_bipush (v := zi ((60 : Nat) : Int)) hx hb dX2_init_67 (by decide) ?_
  refine lv_iconst (v := zi ((5 : Nat) : Int)) hx hb dX2_init_69 rfl ?_
  refine z_multi (n := 60) (k := 5) X hAO hI (by decide) q131 rfl (crow (by decide) (by decide) (by decide +kernel)) (by decide) (by decide) ⟨Nat.le_of_ble_eq_true rfl, Nat.le_of_ble_eq_true rfl⟩ dX2_init_70 (fun H locs hI => ?_)
  refine z_put X hI hnm rfl (zp_1_6 (hC + 287)) q172 (Nat.le_of_ble_eq_true rfl) dX2_init_74 (fun H locs hI => ?_)
  refine lv_aload_n hx hb dX2_init_77 rfl (lv_at hl 0 rfl) ?_
  refine lv_bipush (v := zi ((60 : Nat) : Int)) hx hb dX2_init_78 (by decide) ?_
  refine lv_bipush (v := zi ((16 : Nat) : Int)) hx hb dX2_init_80 (by decide) ?_
  refine z_multi (n := 60) (k := 16) X hAO hI (by decide) q131 rfl (crow (by decide) (by decide) (by decide +kernel)) (by decide) (by decide) ⟨Nat.le_of_ble_eq_true rfl, Nat.le_of_ble_eq_true rfl⟩ dX2_init_82 (fun H locs hI => ?_)
  refine z_put X hI hnm rfl (zp_1_7 (hC + 348)) q174 (Nat.le_of_ble_eq_true rfl) dX2_init_86 (fun H locs hI => ?_)
  refine lv_aload_n hx hb dX2_init_89 rfl (lv_at hl 0 rfl) ?_
  refine lv_bipush (v := zi ((60 : Nat) : Int)) hx hb dX2_init_90 (by decide) ?_
  refine lv_bipush (v := zi ((16 : Nat) : Int)) hx hb dX2_init_92 (by decide) ?_
  refine z_multi (n := 60) (k := 16) X hAO hI (by decide) q131 rfl (crow (by decide) (by decide) (by decide +kernel)) (by decide) (by decide) ⟨Nat.le_of_ble_eq_true rfl, Nat.le_of_ble_eq_true rfl⟩ dX2_init_94 (fun H locs hI => ?_)
  refine z_put X hI hnm rfl (zp_1_8 (hC + 409)) q176 (Nat.le_of_ble_eq_true rfl) dX2_init_98 (fun H locs hI => ?_)
  refine lv_aload_n hx hb dX2_init_101 rfl (lv_at hl 0 rfl) ?_
  refine h_new (fs := [.int 0, .null, .int 0]) X.1 X.2.1.1 hI.2.2.2 (fun q h => Or.inr h) (ci := 14) rfl in_J2 tyJ2 tyJ2_ok q133 q134 q84 (fun k hk => by
    have hh : k = 0 ∨ k = 1 ∨ k = 2 := by omega
    rcases hh with rfl | rfl | rfl <;> rfl) (Nat.le_of_ble_eq_true rfl) (Nat.le_of_ble_eq_true rfl) dX2_init_102 (fun H1 hN z1 o1 hS1 => ?_)
  have hsz := hI.2.2.1
  rw [hsz] at hN z1 ⊢
  refine lv_dup hx hb dX2_init_105 rfl ?_
  refine hcI (As := []) (rest := [.ref (hC + 470), .ref (hC + 236)]) (b := hC + 470) XH hS1 hFb (w_alI l Z (hC + 470) H1.size (by omega) (.int 0) .null (.int 0)) hN (fun x h => Or.inr (by rw [h]; omega)) (cwI 0 hts (lw_meth q137) rfl rfl rfl (hts _ q84) (hts _ q135) (hts _ q136) rfl (show hdS yJ2_init 0 by decide +kernel) ⟨Nat.le_of_ble_eq_true rfl, Nat.le_of_ble_eq_true rfl⟩) ⟨rfl, rfl⟩ ⟨Nat.le_of_ble_eq_true rfl, Nat.le_of_ble_eq_true rfl⟩ ⟨Nat.le_of_ble_eq_true rfl, Nat.le_of_ble_eq_true rfl⟩ hl.1 (Nat.le_of_ble_eq_true rfl) dX2_init_106 rfl (fun v H2 locs2 hv hfr hS2 => ?_)
  obtain ⟨rfl, hL2⟩ := hv
  have hL3 := (lk_lst X.2.2 X.2.1).mpr hL2
  refine W.size (fun hle => ?_)
  have hge := hfr.1
  have hI2 : iS DC dA hC Z.G.eD 236 1 [.ref (hC + 237), .ref (hC + 238), .ref (hC + 239), .ref (hC + 246), .ref (hC + 263), .ref (hC + 280), .ref (hC + 287), .ref (hC + 348), .ref (hC + 409), .null] 471 s H2 locs2 := by
    have o2 : ∀ x, x < H.size → H2[x]? = H[x]? := fun x hxs => (hfr.2 x (by omega) (fun h : x = hC + 470 => by omega)).trans (o1 x hxs)
    refine ⟨va_at_keep hI.1 (o2 _ (by omega)), fun x a c => ?_, by omega, hS2⟩
    by_cases h : x < 470
    · exact va_at_keep (hI.2.1 x a h) (o2 _ (by omega))
    · have : x = 470 := by omega
      subst this
      exact hL3
  have hI := hI2
  refine z_put X hI hnm rfl (zp_1_9 (hC + 470)) q178 (Nat.le_of_ble_eq_true rfl) dX2_init_109 (fun H locs hI => ?_)
  refine W.widen (k := 234) (n := 3285) (by decide) (by decide) ?_
  refine hret _ _ _ _ dX2_init_112 ⟨rfl, fun q a c => ?_⟩ hI.2.2.2
  by_cases h : q = 236
  · subst h
    exact hI.1
  · exact hI.2.1 q (by omega) c
