/-! the constructor of ManyEyes -/
set_option maxRecDepth 100000
section ZS
variable {p : Program} {l : Launch} {e : Env} {R : Room} {s : State} {m : MethodId} {args : Array Value} {below : List Frame} {meth : Method} {c : Code} {H : Heap} {locs : List Loc} {cells slots : Nat} {Q : State → Prop}
variable {cc : ByteArray} {pc nL : Nat} {ls : Array Slot} {rest st As : List Value} {own : String} {Z : hZ} {DC : va_G} {dA : Nat → ClassId} {hC eD b ci q : Nat} {fs : List Value} {y : MethodName} {bytes : ByteArray} {maxL idx : Nat} {ret : Option FieldType} {rm : Room}
theorem z_sc (X : fCx own p c cc nL s m args Z DC dA) (hI : iS DC dA hC eD b ci fs q s H locs) (hbq : b < q) (hce : s.heap.size + cells = hC + q) {r : Int} (met : ms_i l y bytes maxL ret rm As r) (hT : GoodIn lw_all (va_wsS own idx y (ws_ y bytes maxL ret))) (hd : y.cls ≠ "java/lang/invoke/MethodHandle" ∧ y.cls ≠ "java/lang/invoke/VarHandle" ∧ (parseMethodDescriptor y.desc).map (fun d => d.parameters.length) = some As.length) (hrm : rm.cells = 0 ∧ rm.slots = 0) (hR : rm.frames + 1 ≤ R.frames ∧ 8 + (maxL + 11) + rm.locals ≤ R.locals) (hcs : cells ≤ R.cells ∧ slots ≤ R.slots) (hls : ls.size = nL) (hro : (rest.map fun v => v.category).sum ≤ 8) (hdg : decode cc pc = .ok (.invokestatic idx, 3)) (hst : st = As.reverse ++ rest)
    (kk : ∀ (H1 : Heap) (locs1 : List Loc), iS DC dA hC eD b ci fs q s H1 locs1 → W p l e R s m args below meth c H1 locs1 cells slots Q (F0 m (pc + 3) ls (.int (zi r) :: rest))) : W p l e R s m args below meth c H locs cells slots Q (F0 m pc ls st) := by
  refine gcs_i X.1 hI.2.2.2 met hT hd hrm hR hcs hls hro hdg hst (fun H1 locs1 hk hS => W.size (fun hle => ?_))
  have hsz := hI.2.2.1
  have hlast : hC + q - 1 < H1.size := by
    have h1 := hk (hC + q - 1) (by omega)
    have h2 : hC + q - 1 < H.size := by omega
    rw [Array.getElem?_eq_getElem h2] at h1
    exact (Array.getElem?_eq_some_iff.mp h1).1
  exact kk H1 locs1 ⟨va_at_keep hI.1 (hk _ (by omega)), fun x a c => va_at_keep (hI.2.1 x a c) (hk _ (by omega)), by omega, hS⟩
end ZS
theorem cC_low {dA : Nat → ClassId} {hC : Nat} {S S' : yS} (h1 : ∀ k, 8 ≤ k → S'.1 k = S.1 k) (h2 : S'.2 = S.2) {q : Nat} (hq : q ≠ 0) : cC dA hC S' q = cC dA hC S q := by
  obtain ⟨a, b⟩ := S
  obtain ⟨a', b'⟩ := S'
  simp only at h1 h2
  subst h2
  unfold cC cO
  by_cases hs : spC q = true
  · rw [if_pos hs, if_pos hs, if_neg hq, if_neg hq]
    by_cases e1 : q = 1
    · rw [if_pos e1, if_pos e1]
    rw [if_neg e1, if_neg e1]
    by_cases e2 : q = 236
    · rw [if_pos e2, if_pos e2]
    rw [if_neg e2, if_neg e2]
    by_cases e3 : q = 474
    · rw [if_pos e3, if_pos e3]
      unfold fl_fs
      simp only [h1 14 (by decide), h1 15 (by decide), h1 16 (by decide), h1 17 (by decide), h1 18 (by decide), h1 19 (by decide)]
    rw [if_neg e3, if_neg e3]
    by_cases e4 : q = 658
    · rw [if_pos e4, if_pos e4]
      unfold nw_fs
      simp only [h1 23 (by decide), h1 24 (by decide), h1 25 (by decide)]
    rw [if_neg e4, if_neg e4]
    by_cases e5 : q = 235
    · rw [if_pos e5, if_pos e5]
      unfold al_fs
      simp only [h1 40 (by decide), h1 (40 + 1) (by decide), h1 (40 + 2) (by decide)]
    rw [if_neg e5, if_neg e5]
    by_cases e6 : q = 470
    · rw [if_pos e6, if_pos e6]
      unfold al_fs
      simp only [h1 50 (by decide), h1 (50 + 1) (by decide), h1 (50 + 2) (by decide)]
    rw [if_neg e6, if_neg e6]
  · rw [if_neg hs, if_neg hs]
/-- ManyEyes as it is made, ahead of image.be(now) -/
def S0 (eD : Nat) (w h : Int) : yS := cas (cfs (cfs (cfs (cfs (zS eD) 6 (-1)) 7 (-1)) 2 w) 3 h) 2 5 (-1)
def clW (x : Int) : Int := if x < 4 then 4 else if 24 < x then 24 else x
theorem zp_0_0 (z : Nat) : hPl ccl lw_all 0 0 "ManyEyes" "now" "LManyEyes$State;" (.ref z) true := ⟨TX1, 12, RX1, tyX1, rfl, in_X1, by decide, rfl, rfl, rfl, rfl, tyX1_ok, nmX1, rfl, rfl⟩
theorem zp_0_1 (z : Nat) : hPl ccl lw_all 0 1 "ManyEyes" "image" "LManyEyes$State;" (.ref z) true := ⟨TX1, 12, RX1, tyX1, rfl, in_X1, by decide, rfl, rfl, rfl, rfl, tyX1_ok, nmX1, rfl, rfl⟩
theorem zp_0_2 (z : Int) : hPl ccl lw_all 0 2 "ManyEyes" "w" "I" (.int (zi z)) true := ⟨TX1, 12, RX1, tyX1, rfl, in_X1, by decide, rfl, rfl, rfl, rfl, tyX1_ok, nmX1, rfl, rfl⟩
theorem zp_0_3 (z : Int) : hPl ccl lw_all 0 3 "ManyEyes" "h" "I" (.int (zi z)) true := ⟨TX1, 12, RX1, tyX1, rfl, in_X1, by decide, rfl, rfl, rfl, rfl, tyX1_ok, nmX1, rfl, rfl⟩
theorem zp_0_4 (z : Nat) : hPl ccl lw_all 0 4 "ManyEyes" "tape" "[B" (.ref z) true := ⟨TX1, 12, RX1, tyX1, rfl, in_X1, by decide, rfl, rfl, rfl, rfl, tyX1_ok, nmX1, rfl, rfl⟩
theorem zp_0_6 (z : Int) : hPl ccl lw_all 0 6 "ManyEyes" "fault" "I" (.int (zi z)) false := ⟨TX1, 12, RX1, tyX1, rfl, in_X1, by decide, rfl, rfl, rfl, rfl, tyX1_ok, nmX1, rfl, rfl⟩
theorem zp_0_7 (z : Int) : hPl ccl lw_all 0 7 "ManyEyes" "faultAt" "I" (.int (zi z)) false := ⟨TX1, 12, RX1, tyX1, rfl, in_X1, by decide, rfl, rfl, rfl, rfl, tyX1_ok, nmX1, rfl, rfl⟩
theorem zp_0_8 (z : Nat) : hPl ccl lw_all 0 8 "ManyEyes" "world" "[I" (.ref z) true := ⟨TX1, 12, RX1, tyX1, rfl, in_X1, by decide, rfl, rfl, rfl, rfl, tyX1_ok, nmX1, rfl, rfl⟩
theorem zp_0_10 (z : Nat) : hPl ccl lw_all 0 10 "ManyEyes" "takes" "[I" (.ref z) true := ⟨TX1, 12, RX1, tyX1, rfl, in_X1, by decide, rfl, rfl, rfl, rfl, tyX1_ok, nmX1, rfl, rfl⟩
theorem zp_0_11 (z : Nat) : hPl ccl lw_all 0 11 "ManyEyes" "flight" "LManyEyes$Flight;" (.ref z) true := ⟨TX1, 12, RX1, tyX1, rfl, in_X1, by decide, rfl, rfl, rfl, rfl, tyX1_ok, nmX1, rfl, rfl⟩
theorem wI_many (l : Launch) (Z : hZ) (DC : va_G) (dA : Nat → ClassId) (hC : Nat) (hbC : Z.b ≤ hC) (x1 x2 : Int) (hx1 : r32 x1) (hx2 : r32 x2) : mIn l yX1_init cX1_init 3 ({ frames := 12, cells := 661, slots := 9938, locals := 440 } : Room) Z DC dA [.ref hC, .int (zi x1), .int (zi x2)] (hC + 1) (fun H => va_at DC ccl (hC, .inr (0, [.null, .null, .int 0, .int 0, .null, .int 0, .int 0, .int 0, .null, .int 0, .null, .null])) H) (fun v H => v = none ∧ ∃ (S1 : yS) (m : Int) (ed' : Nat), C_beI (S0 Z.G.eD (clW x1) (clW x2)) = some S1 ∧ va_P DC ccl (cw dA hC (cf5 S1 m (ed' : Int) 0)) H ∧ RO2 Z hC (fun _ => False) [] 0 Z.G.eD [] [] 0 ed' [] H) (fE hC) 661 9938 := by
  refine goI (by decide +kernel) (Nat.le_of_ble_eq_true rfl) ?_
  intro p e s m args below meth c Q ls X hAO hret hl hP hn hS hnm
  rw [← hn] at hret
  have XH := fcx_h X
  have XC := fcx_c X
  have hx := X.1.1
  have hb := X.1.2.1
  have hown := X.1.2.2.2.1
  have hts := X.1.2.2.2.2
  have hI : iS DC dA hC Z.G.eD 0 0 [.null, .null, .int 0, .int 0, .null, .int 0, .int 0, .int 0, .null, .int 0, .null, .null] 1 s s.heap [] := ⟨hP, fun x a c => absurd c (by omega), hn, va_S.rf⟩
  have hFb : ∀ a, fE (hC + 0) a → Z.b ≤ a := fun a h => by rw [h]; omega
  replace hl : lv_has ls 3 [(0, .ref hC), (1, .int (zi x1)), (2, .int (zi x2))] := hl
  refine lv_aload_n hx hb dX1_init_0 rfl (lv_at hl 0 rfl) ?_
  refine W.objInit hx hb hown (hts _ q122) (hts _ q123) (hts _ q124) rfl (hl.1.trans X.1.2.2.1.symm) rfl dX1_init_1 (by decide) (Nat.le_of_ble_eq_true rfl) ?_
  obtain ⟨H, hH⟩ : ∃ H, H = s.heap := ⟨_, rfl⟩
  rw [← hH] at hI ⊢
  refine lv_aload_n hx hb dX1_init_4 rfl (lv_at hl 0 rfl) ?_
  refine h_new (fs := [.null, .null, .null, .null, .null, .null, .null, .null, .null, .null]) X.1 X.2.2 hI.2.2.2 (fun q h => Or.inr h) (ci := 1) rfl in_X2 tyX2 tyX2_ok q125 q126 q81 (fun k hk => by
    have hh : k = 0 ∨ k = 1 ∨ k = 2 ∨ k = 3 ∨ k = 4 ∨ k = 5 ∨ k = 6 ∨ k = 7 ∨ k = 8 ∨ k = 9 := by omega
    rcases hh with rfl | rfl | rfl | rfl | rfl | rfl | rfl | rfl | rfl | rfl <;> rfl) (Nat.le_of_ble_eq_true rfl) (Nat.le_of_ble_eq_true rfl) dX1_init_5 (fun H1 hN z1 o1 hS1 => ?_)
  have hsz := hI.2.2.1
  rw [hsz] at hN z1 ⊢
  refine lv_dup hx hb dX1_init_8 rfl ?_
  have hmet := wI_stateN l Z DC dA hC hbC
  rw [show hC + 2 = H1.size by omega] at hmet
  refine z_call (As := []) (rest := [.ref (hC + 1), .ref hC]) (a := hC + 1) X hAO hS1 hFb hmet hN (fun x h => Or.inr (by rw [h]; omega)) (lw_meth q129) (X.2.1.2.1.NW _ q127 rfl) q81 rfl q128 (show hdS yX2_init 0 by decide +kernel) ⟨rfl, rfl⟩ ⟨Nat.le_of_ble_eq_true rfl, Nat.le_of_ble_eq_true rfl⟩ ⟨Nat.le_of_ble_eq_true rfl, Nat.le_of_ble_eq_true rfl⟩ hl.1 (Nat.le_of_ble_eq_true rfl) dX1_init_9 rfl (fun v H2 locs2 hv hfr hS2 => ?_)
  obtain ⟨rfl, hZ2⟩ := hv
  refine W.size (fun hle => ?_)
  have hge := va_at_lt (hZ2 235 (by decide) (by decide))
  have hI2 : iS DC dA hC Z.G.eD 0 0 [.null, .null, .int 0, .int 0, .null, .int 0, .int 0, .int 0, .null, .int 0, .null, .null] 236 s H2 locs2 := by
    have o2 : ∀ x, x < H.size → H2[x]? = H[x]? := fun x hxs => (hfr.2 x (by omega) (fun h : x = hC + 1 => by omega)).trans (o1 x hxs)
    refine ⟨va_at_keep hI.1 (o2 _ (by omega)), fun x a c => ?_, by omega, hS2⟩
    by_cases h : x < 1
    · exact va_at_keep (hI.2.1 x a h) (o2 _ (by omega))
    · exact hZ2 x (by omega) c
  clear hI
  have hI := hI2
  clear hI2
  refine z_put X hI hnm rfl (zp_0_0 (hC + 1)) q379 (Nat.le_of_ble_eq_true rfl) dX1_init_12 (fun H locs hI => ?_)
  refine lv_aload_n hx hb dX1_init_15 rfl (lv_at hl 0 rfl) ?_
  refine h_new (fs := [.null, .null, .null, .null, .null, .null, .null, .null, .null, .null]) X.1 X.2.2 hI.2.2.2 (fun q h => Or.inr h) (ci := 1) rfl in_X2 tyX2 tyX2_ok q125 q126 q81 (fun k hk => by
    have hh : k = 0 ∨ k = 1 ∨ k = 2 ∨ k = 3 ∨ k = 4 ∨ k = 5 ∨ k = 6 ∨ k = 7 ∨ k = 8 ∨ k = 9 := by omega
    rcases hh with rfl | rfl | rfl | rfl | rfl | rfl | rfl | rfl | rfl | rfl <;> rfl) (Nat.le_of_ble_eq_true rfl) (Nat.le_of_ble_eq_true rfl) dX1_init_16 (fun H1 hN z1 o1 hS1 => ?_)
  have hsz := hI.2.2.1
  rw [hsz] at hN z1 ⊢
  refine lv_dup hx hb dX1_init_19 rfl ?_
  have hmet := wI_stateI l Z DC dA hC hbC
  rw [show hC + 237 = H1.size by omega] at hmet
  refine z_call (As := []) (rest := [.ref (hC + 236), .ref hC]) (a := hC + 236) X hAO hS1 hFb hmet hN (fun x h => Or.inr (by rw [h]; omega)) (lw_meth q129) (X.2.1.2.1.NW _ q127 rfl) q81 rfl q128 (show hdS yX2_init 0 by decide +kernel) ⟨rfl, rfl⟩ ⟨Nat.le_of_ble_eq_true rfl, Nat.le_of_ble_eq_true rfl⟩ ⟨Nat.le_of_ble_eq_true rfl, Nat.le_of_ble_eq_true rfl⟩ hl.1 (Nat.le_of_ble_eq_true rfl) dX1_init_20 rfl (fun v H2 locs2 hv hfr hS2 => ?_)
  obtain ⟨rfl, hZ2⟩ := hv
  refine W.size (fun hle => ?_)
  have hge := va_at_lt (hZ2 470 (by decide) (by decide))
  have hI2 : iS DC dA hC Z.G.eD 0 0 [.ref (hC + 1), .null, .int 0, .int 0, .null, .int 0, .int 0, .int 0, .null, .int 0, .null, .null] 471 s H2 locs2 := by
    have o2 : ∀ x, x < H.size → H2[x]? = H[x]? := fun x hxs => (hfr.2 x (by omega) (fun h : x = hC + 236 => by omega)).trans (o1 x hxs)
    refine ⟨va_at_keep hI.1 (o2 _ (by omega)), fun x a c => ?_, by omega, hS2⟩
    by_cases h : x < 236
    · exact va_at_keep (hI.2.1 x a h) (o2 _ (by omega))
    · exact hZ2 x (by omega) c
  clear hI
  have hI := hI2
  clear hI2
  refine z_put X hI hnm rfl (zp_0_1 (hC + 236)) q380 (Nat.le_of_ble_eq_true rfl) dX1_init_23 (fun H locs hI => ?_)
  refine lv_aload_n hx hb dX1_init_26 rfl (lv_at hl 0 rfl) ?_
  refine lv_sipush (v := zi ((300 : Nat) : Int)) hx hb dX1_init_27 (by decide) ?_
  refine z_new (at_ := .byte) (ty := .byte) (t0 := 3) (n := 300) X hI (by decide) rfl q242 rfl rfl rfl rfl (by decide) (by decide) ⟨Nat.le_of_ble_eq_true rfl, Nat.le_of_ble_eq_true rfl⟩ dX1_init_30 (fun H hI => ?_)
  refine z_put X hI hnm rfl (zp_0_4 (hC + 471)) q383 (Nat.le_of_ble_eq_true rfl) dX1_init_32 (fun H locs hI => ?_)
  refine lv_aload_n hx hb dX1_init_35 rfl (lv_at hl 0 rfl) ?_
  refine lv_iconst (v := zi (-1)) hx hb dX1_init_36 rfl ?_
  refine z_put0 X hI rfl (zp_0_6 (-1)) q385 (Nat.le_of_ble_eq_true rfl) dX1_init_37 (fun H locs hI => ?_)
  refine lv_aload_n hx hb dX1_init_40 rfl (lv_at hl 0 rfl) ?_
  refine lv_iconst (v := zi (-1)) hx hb dX1_init_41 rfl ?_
  refine z_put0 X hI rfl (zp_0_7 (-1)) q386 (Nat.le_of_ble_eq_true rfl) dX1_init_42 (fun H locs hI => ?_)
  refine lv_aload_n hx hb dX1_init_45 rfl (lv_at hl 0 rfl) ?_
  refine lv_sipush (v := zi ((576 : Nat) : Int)) hx hb dX1_init_46 (by decide) ?_
  refine z_int X hI (by decide) (show cI 472 576 from ⟨by decide, by decide, by decide, by decide⟩) (by decide) ⟨Nat.le_of_ble_eq_true rfl, Nat.le_of_ble_eq_true rfl⟩ dX1_init_49 (fun H hI => ?_)
  refine z_put X hI hnm rfl (zp_0_8 (hC + 472)) q387 (Nat.le_of_ble_eq_true rfl) dX1_init_51 (fun H locs hI => ?_)
  refine lv_aload_n hx hb dX1_init_54 rfl (lv_at hl 0 rfl) ?_
  refine lv_bipush (v := zi ((16 : Nat) : Int)) hx hb dX1_init_55 (by decide) ?_
  refine z_int X hI (by decide) (show cI 473 16 from ⟨by decide, by decide, by decide, by decide⟩) (by decide) ⟨Nat.le_of_ble_eq_true rfl, Nat.le_of_ble_eq_true rfl⟩ dX1_init_57 (fun H hI => ?_)
  refine z_put X hI hnm rfl (zp_0_10 (hC + 473)) q389 (Nat.le_of_ble_eq_true rfl) dX1_init_59 (fun H locs hI => ?_)
  refine lv_aload_n hx hb dX1_init_62 rfl (lv_at hl 0 rfl) ?_
  refine h_new (fs := [.null, .null, .null, .null, .int 0, .int 0, .int 0, .int 0, .int 0, .int 0]) X.1 X.2.2 hI.2.2.2 (fun q h => Or.inr h) (ci := 2) rfl in_X3 tyX3 tyX3_ok q201 q202 q85 (fun k hk => by
    have hh : k = 0 ∨ k = 1 ∨ k = 2 ∨ k = 3 ∨ k = 4 ∨ k = 5 ∨ k = 6 ∨ k = 7 ∨ k = 8 ∨ k = 9 := by omega
    rcases hh with rfl | rfl | rfl | rfl | rfl | rfl | rfl | rfl | rfl | rfl <;> rfl) (Nat.le_of_ble_eq_true rfl) (Nat.le_of_ble_eq_true rfl) dX1_init_63 (fun H1 hN z1 o1 hS1 => ?_)
  have hsz := hI.2.2.1
  rw [hsz] at hN z1 ⊢
  refine lv_dup hx hb dX1_init_66 rfl ?_
  have hmet := wI_flight l Z DC dA hC Z.G.eD hbC
  rw [show hC + 475 = H1.size by omega] at hmet
  refine z_call (As := []) (rest := [.ref (hC + 474), .ref hC]) (a := hC + 474) X hAO hS1 hFb hmet hN (fun x h => Or.inr (by rw [h]; omega)) (lw_meth q205) (X.2.1.2.1.NW _ q203 rfl) q85 rfl q204 (show hdS yX3_init 0 by decide +kernel) ⟨rfl, rfl⟩ ⟨Nat.le_of_ble_eq_true rfl, Nat.le_of_ble_eq_true rfl⟩ ⟨Nat.le_of_ble_eq_true rfl, Nat.le_of_ble_eq_true rfl⟩ hl.1 (Nat.le_of_ble_eq_true rfl) dX1_init_67 rfl (fun v H2 locs2 hv hfr hS2 => ?_)
  obtain ⟨rfl, hZ2⟩ := hv
  refine W.size (fun hle => ?_)
  have hge := va_at_lt (hZ2 661 (by decide) (by decide))
  have hI2 : iS DC dA hC Z.G.eD 0 0 [.ref (hC + 1), .ref (hC + 236), .int 0, .int 0, .ref (hC + 471), .int 0, .int (zi (-1)), .int (zi (-1)), .ref (hC + 472), .int 0, .ref (hC + 473), .null] 662 s H2 locs2 := by
    have o2 : ∀ x, x < H.size → H2[x]? = H[x]? := fun x hxs => (hfr.2 x (by omega) (fun h : x = hC + 474 => by omega)).trans (o1 x hxs)
    refine ⟨va_at_keep hI.1 (o2 _ (by omega)), fun x a c => ?_, by omega, hS2⟩
    by_cases h : x < 474
    · exact va_at_keep (hI.2.1 x a h) (o2 _ (by omega))
    · exact hZ2 x (by omega) c
  clear hI
  have hI := hI2
  clear hI2
  refine z_put X hI hnm rfl (zp_0_11 (hC + 474)) q390 (Nat.le_of_ble_eq_true rfl) dX1_init_70 (fun H locs hI => ?_)
  refine lv_aload_n hx hb dX1_init_73 rfl (lv_at hl 0 rfl) ?_
  refine lv_iconst (v := zi 4) hx hb dX1_init_74 rfl ?_
  refine lv_bipush (v := zi 24) hx hb dX1_init_75 (by decide) ?_
  refine lv_iload_n hx hb dX1_init_77 rfl (lv_at hl 1 rfl) ?_
  have hmn : Ma_min 24 x1 = some (if 24 ≤ x1 then 24 else x1) := by
    unfold Ma_min
    rw [gd_pos ⟨by decide, hx1⟩]
    split <;> rfl
  refine z_sc (As := [.int (zi 24), .int (zi x1)]) (rest := [.int (zi 4), .ref hC]) X hI (by decide) (show s.heap.size + 661 = hC + 662 by omega) (wMa_min l 24 x1 hmn) cx_X1_44.1 cx_X1_44.2 ⟨rfl, rfl⟩ ⟨Nat.le_of_ble_eq_true rfl, Nat.le_of_ble_eq_true rfl⟩ ⟨Nat.le_of_ble_eq_true rfl, Nat.le_of_ble_eq_true rfl⟩ hl.1 (Nat.le_of_ble_eq_true rfl) dX1_init_78 rfl (fun H locs hI => ?_)
  have hmx : Ma_max 4 (if 24 ≤ x1 then 24 else x1) = some (clW x1) := by
    have := hx1
    unfold r32 at this
    unfold Ma_max clW
    by_cases c : 24 ≤ x1
    · rw [if_pos c, gd_pos ⟨by decide, by decide⟩, if_pos (by decide), if_neg (by omega)]
      by_cases c' : 24 < x1
      · rw [if_pos c']
      · rw [if_neg c', show x1 = 24 by omega]
    · rw [if_neg c, gd_pos ⟨by decide, hx1⟩, if_neg (show ¬ 24 < x1 by omega)]
      by_cases c' : 4 < x1
      · rw [if_pos c', if_neg (by omega)]
      · rw [if_neg c']
        by_cases c2 : x1 < 4
        · rw [if_pos c2]
        · rw [if_neg c2, show x1 = 4 by omega]
  refine z_sc (As := [.int (zi 4), .int (zi (if 24 ≤ x1 then 24 else x1))]) (rest := [.ref hC]) X hI (by decide) (show s.heap.size + 661 = hC + 662 by omega) (wMa_max l 4 _ hmx) (lw_S q282 q283 q87 q284) (show hdS yJ3_max 2 by decide +kernel) ⟨rfl, rfl⟩ ⟨Nat.le_of_ble_eq_true rfl, Nat.le_of_ble_eq_true rfl⟩ ⟨Nat.le_of_ble_eq_true rfl, Nat.le_of_ble_eq_true rfl⟩ hl.1 (Nat.le_of_ble_eq_true rfl) dX1_init_81 rfl (fun H locs hI => ?_)
  refine z_put X hI hnm rfl (zp_0_2 (clW x1)) q381 (Nat.le_of_ble_eq_true rfl) dX1_init_84 (fun H locs hI => ?_)
  refine lv_aload_n hx hb dX1_init_87 rfl (lv_at hl 0 rfl) ?_
  refine lv_iconst (v := zi 4) hx hb dX1_init_88 rfl ?_
  refine lv_bipush (v := zi 24) hx hb dX1_init_89 (by decide) ?_
  refine lv_iload_n hx hb dX1_init_91 rfl (lv_at hl 2 rfl) ?_
  have hmn : Ma_min 24 x2 = some (if 24 ≤ x2 then 24 else x2) := by
    unfold Ma_min
    rw [gd_pos ⟨by decide, hx2⟩]
    split <;> rfl
  refine z_sc (As := [.int (zi 24), .int (zi x2)]) (rest := [.int (zi 4), .ref hC]) X hI (by decide) (show s.heap.size + 661 = hC + 662 by omega) (wMa_min l 24 x2 hmn) cx_X1_44.1 cx_X1_44.2 ⟨rfl, rfl⟩ ⟨Nat.le_of_ble_eq_true rfl, Nat.le_of_ble_eq_true rfl⟩ ⟨Nat.le_of_ble_eq_true rfl, Nat.le_of_ble_eq_true rfl⟩ hl.1 (Nat.le_of_ble_eq_true rfl) dX1_init_92 rfl (fun H locs hI => ?_)
  have hmx : Ma_max 4 (if 24 ≤ x2 then 24 else x2) = some (clW x2) := by
    have := hx2
    unfold r32 at this
    unfold Ma_max clW
    by_cases c : 24 ≤ x2
    · rw [if_pos c, gd_pos ⟨by decide, by decide⟩, if_pos (by decide), if_neg (by omega)]
      by_cases c' : 24 < x2
      · rw [if_pos c']
      · rw [if_neg c', show x2 = 24 by omega]
    · rw [if_neg c, gd_pos ⟨by decide, hx2⟩, if_neg (show ¬ 24 < x2 by omega)]
      by_cases c' : 4 < x2
      · rw [if_pos c', if_neg (by omega)]
      · rw [if_neg c']
        by_cases c2 : x2 < 4
        · rw [if_pos c2]
        · rw [if_neg c2, show x2 = 4 by omega]
  refine z_sc (As := [.int (zi 4), .int (zi (if 24 ≤ x2 then 24 else x2))]) (rest := [.ref hC]) X hI (by decide) (show s.heap.size + 661 = hC + 662 by omega) (wMa_max l 4 _ hmx) (lw_S q282 q283 q87 q284) (show hdS yJ3_max 2 by decide +kernel) ⟨rfl, rfl⟩ ⟨Nat.le_of_ble_eq_true rfl, Nat.le_of_ble_eq_true rfl⟩ ⟨Nat.le_of_ble_eq_true rfl, Nat.le_of_ble_eq_true rfl⟩ hl.1 (Nat.le_of_ble_eq_true rfl) dX1_init_95 rfl (fun H locs hI => ?_)
  refine z_put X hI hnm rfl (zp_0_3 (clW x2)) q382 (Nat.le_of_ble_eq_true rfl) dX1_init_98 (fun H locs hI => ?_)
  have hM : CX DC dA hC (hA (fE hC) s.heap.size) (cfs (cfs (cfs (cfs (zS Z.G.eD) 6 (-1)) 7 (-1)) 2 (clW x1)) 3 (clW x2)) s H locs := by
    refine ⟨fun k w hw => ?_, hI.2.2.2, fun q h => ?_⟩
    · obtain ⟨hi, rfl⟩ := cw_in hw
      by_cases h : k = 0
      · subst h
        exact hI.1
      · have e := cC_low (dA := dA) (hC := hC) (S := zS Z.G.eD) (S' := cfs (cfs (cfs (cfs (zS Z.G.eD) 6 (-1)) 7 (-1)) 2 (clW x1)) 3 (clW x2)) (fun j hj => by
          show (if j = 3 then _ else if j = 2 then _ else if j = 7 then _ else if j = 6 then _ else (zS Z.G.eD).1 j) = _
          rw [if_neg (by omega), if_neg (by omega), if_neg (by omega), if_neg (by omega)]) rfl h
        rw [e]
        exact hI.2.1 k (by omega) hi
    · by_cases e : q = hC
      · exact Or.inl e
      · exact Or.inr (by have := h.1; omega)
  refine lv_aload_n hx hb dX1_init_101 rfl (lv_at hl 0 rfl) ?_
  refine cm_get XC hM q379 (cf_0_0 _ _ _) rfl dX1_init_102 ?_
  refine cm_getN XC hM q161 (cf_1_0 _ _ _) rfl dX1_init_105 ?_
  refine lv_iconst (v := zi 5) hx hb dX1_init_108 rfl ?_
  refine lv_iconst (v := zi (-1)) hx hb dX1_init_109 rfl ?_
  refine cm_iast (qz := 2) XC hM ci_2 rfl rfl (by decide) dX1_init_110 (fun H locs S2 e2 hM => ?_)
  have e2 : S2 = S0 Z.G.eD (clW x1) (clW x2) := e2
  subst e2
  refine lv_aload_n hx hb dX1_init_111 rfl (lv_at hl 0 rfl) ?_
  refine cm_get XC hM q380 (cf_0_1 _ _ _) rfl dX1_init_112 ?_
  refine lv_aload_n hx hb dX1_init_115 rfl (lv_at hl 0 rfl) ?_
  refine cm_get XC hM q379 (cf_0_0 _ _ _) rfl dX1_init_116 ?_
  obtain ⟨S1, hS1, -⟩ := beI_e (S0 Z.G.eD (clW x1) (clW x2))
  have hRO : RO Z hC (fun _ => False) [] 0 Z.G.eD [] H := ⟨hbC, Or.inl ⟨rfl, rfl, rfl⟩, fun h => absurd h (by decide), rfl, fun w hw => absurd hw (by simp), fun x h => h.elim, gS_eDlt X.2.1⟩
  refine gcV (As := [.ref (hC + 1)]) (rest := []) (b := hC + 236) (C := "ManyEyes$State") X hM.2.1 (fun a h => by rw [h]; exact hbC) (w_beI l Z DC dA hC (fun _ => False) [] 0 Z.G.eD [] [] 0 Z.G.eD [] (S0 Z.G.eD (clW x1) (clW x2)) H.size hS1 ⟨rfl, rfl⟩ ⟨rfl, rfl⟩) ⟨hM.1, hRO, hRO, fun h => absurd h (by decide), fun h => absurd h (by decide), fun h => absurd h (by decide), fun x h => h.elim, ⟨by decide, by decide⟩, by decide, by decide⟩ (fun a h => ?_) (va_recv X.2.2 hM.1 (ci := 1) (q0 := 236) rfl (cw_at (by decide))) (lw_V q285 q286 q287 q81 q288) (show hdV yX2_be "ManyEyes$State" 1 by decide +kernel) ⟨rfl, rfl⟩ ⟨Nat.le_of_ble_eq_true rfl, Nat.le_of_ble_eq_true rfl⟩ ⟨Nat.le_of_ble_eq_true rfl, Nat.le_of_ble_eq_true rfl⟩ hl.1 (Nat.le_of_ble_eq_true rfl) dX1_init_119 rfl (fun v H3 locs3 hv hfr hS3 => ?_)
  · rcases h with h | h
    · by_cases e : a = hC
      · exact Or.inl e
      · exact Or.inr (by have := h.1; omega)
    · exact absurd h.1 (by decide)
  obtain ⟨rfl, m3, ed3, hP3, hR3⟩ := hv
  refine W.widen (k := 661) (n := 9938) (by decide) (by decide) ?_
  exact hret _ _ _ _ dX1_init_122 ⟨rfl, S1, m3, ed3, hS1, hP3, hR3⟩ hS3
