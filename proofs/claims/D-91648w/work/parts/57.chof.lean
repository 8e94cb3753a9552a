set_option maxRecDepth 100000
theorem vb_c_zi {k : Nat} (h : k < 256) : vb_c k = zi ((k : Int) - 128) := by
  have : ∀ k, k < 256 → vb_c k = zi ((k : Int) - 128) := by decide +kernel
  exact this k h
theorem w_intV (l : Launch) (Z : hZ) (k : Nat) (hk : k < 256) (n0 : Nat) : mH l yJ15_intValue cJ15_intValue 1 (some .int) (rmS 1 40) Z [.ref (Z.G.ad k)] n0 (fun _ => True) (fun v _ => v = some (.int (zi ((k : Int) - 128)))) F0_ 0 0 := by
  refine goHi (by decide +kernel) (Nat.le_of_ble_eq_true rfl) (fun v _ _ => rfl) ?_
  intro p e s m args below meth c Q ls X hret hl hP hn hS hnm
  subst hn
  replace hl : lv_has ls 1 [(0, .ref (Z.G.ad k))] := hl
  refine lv_aload_n X.1.1 X.1.2.1 dJ15_intValue_0 rfl (lv_at hl 0 rfl) ?_
  refine va_getX X.1.1 X.1.2.1 (gS_int X.2).2.2.2.2 hk (va_S.rf (A := gB Z.b)) X.1.2.2.2.1 (X.1.2.2.2.2 _ q905) (fun x h => h) dJ15_intValue_1 ?_
  rw [vb_c_zi hk]
  exact hret _ _ _ _ _ dJ15_intValue_4 rfl hS
theorem SumH.cast {Z : hZ} {n : Nat} {A : Nat → Prop} {s : State} {H : Heap} {code : tC} {a : Nat} (X : HE Z s) (h : SumH Z n A H code a) : ∃ C : String, va_Nw (.castable C "ManyEyes$Sum") s ∧ ∃ cell : Cell, H[a]? = some cell ∧ cell.vm.isStatics = false ∧ s.vm.findClass C = some cell.cls := by
  have hN := X.2.1.NW
  cases n with
  | zero => exact h.elim
  | succ n =>
    obtain ⟨hA, h⟩ := h
    rcases h with ⟨v, h1, h2⟩ | ⟨v, h1, h2⟩ | ⟨v, h1, h2⟩ | ⟨v, h1, h2⟩ | ⟨h1, h2⟩ | ⟨x, cx, h1, h2, h3⟩ | ⟨b, x, y, cx, cy, h1, h2, h3, h4⟩ | ⟨f, am, as, L1, L2, cm, em, cs, es, cf, xs, h1, h2, h3, h4, h5, h6⟩
    · exact ⟨_, hN _ q1041 rfl, va_recv X.1 (va_one h1) (ci := 5) (q0 := 0) rfl rfl⟩
    · exact ⟨_, hN _ q1019 rfl, va_recv X.1 (va_one h1) (ci := 6) (q0 := 0) rfl rfl⟩
    · exact ⟨_, hN _ q1003 rfl, va_recv X.1 (va_one h1) (ci := 7) (q0 := 0) rfl rfl⟩
    · exact ⟨_, hN _ q1034 rfl, va_recv X.1 (va_one h1) (ci := 8) (q0 := 0) rfl rfl⟩
    · exact ⟨_, hN _ q1048 rfl, va_recv X.1 (va_one h1) (ci := 9) (q0 := 0) rfl rfl⟩
    · exact ⟨_, hN _ q1026 rfl, va_recv X.1 (va_one h1) (ci := 10) (q0 := 0) rfl rfl⟩
    · exact ⟨_, hN _ q995 rfl, va_recv X.1 (va_one h1) (ci := 11) (q0 := 0) rfl rfl⟩
    · exact ⟨_, hN _ q987 rfl, va_recv X.1 (va_one h1.1) (ci := 4) (q0 := 0) rfl rfl⟩
set_option maxHeartbeats 2000000 in
theorem w_chof (l : Launch) (Z : hZ) (nw N : Nat) (hEv : EvS l Z nw N) (A : Nat → Prop) (hnA : ¬ A nw) (H : Heap) (a f am as : Nat) (L1 L2 : List Nat) (cm em cs es : Nat) (xs : List (Int × tC)) (hW : ChW Z a f am as L1 L2 cm em cs es H) (hO : ∀ x, cO_ a am as cm em cs es x → A x) (hI : Itm Z (SumH Z N A H) xs L1 L2) (z0 : Int) (S0 : yS) (hE0 : EvP l Z nw N H f z0 S0) (hb : Z.b ≤ nw) (vs : List Int) (bs : List Bool) (zf : Int) (Sf : yS) (hh : pv (flat xs) (z0 :: vs, bs, S0) = some (zf :: vs, bs, Sf)) : mH l yX10_of cX10_of 8 (some .long) (rmS (7 + N) (240 + 40 * N)) Z [.ref a, .ref nw] H.size (fun H' => H' = H) (fun w H' => w = some (.long (zl zf)) ∧ NowW Z nw Sf H') (fE nw) 0 0 := by
  refine goHl (by decide +kernel) (Nat.le_of_ble_eq_true rfl) ?_
  intro p e s m args below meth c Q ls X hret hl hP hn hS hnm
  subst hP
  have hx := X.1.1
  have hbb := X.1.2.1
  have hts := X.1.2.2.2.2
  have hF : ∀ x, fE nw x → Z.b ≤ x := fun x h => by rw [h]; exact hb
  have hR : 7 + N ≤ (rmS (7 + N) (240 + 40 * N)).frames ∧ 227 + 40 * N ≤ (rmS (7 + N) (240 + 40 * N)).locals := ⟨Nat.le_refl _, by show 227 + 40 * N ≤ 240 + 40 * N; omega⟩
  have hszL := hW.2.1.size_lt
  have keepC : ∀ {H1 : Heap}, hFr (fE nw) s.heap H1 → ChW Z a f am as L1 L2 cm em cs es H1 := fun hfr => hW.keep (fun x hx hxl => hfr.2 x hxl (fun w => by
    have w : x = nw := w
    rw [w] at hx
    rcases hx with v | v | v
    · exact hnA (hO _ v)
    · obtain ⟨c3, hc3⟩ := hI.all v
      exact hnA hc3.A
    · have := hW.below v; omega))
  have keepS : ∀ {H1 : Heap} {c3 : tC} {y : Nat}, hFr (fE nw) s.heap H1 → SumH Z N A s.heap c3 y → SumH Z N A H1 c3 y := fun hfr w => w.keep (fun x hx hxl => hfr.2 x hxl (fun v => by
    have v : x = nw := v
    rw [v] at hx
    rcases hx with u | u
    · exact hnA u
    · omega))
  have trF : ∀ {H1 H2 : Heap}, hFr (fE nw) s.heap H1 → hFr (fE nw) H1 H2 → hFr (fE nw) s.heap H2 := fun h1 h2 => ⟨Nat.le_trans h1.1 h2.1, fun x hxl hx => (h2.2 x (Nat.lt_of_lt_of_le hxl h1.1) hx).trans (h1.2 x hxl hx)⟩
  have trN : ∀ {H1 H2 : Heap}, hFr (fE nw) s.heap H1 → hFr F0_ H1 H2 → hFr (fE nw) s.heap H2 := fun h1 h2 => ⟨Nat.le_trans h1.1 h2.1, fun x hxl hx => (h2.2 x (Nat.lt_of_lt_of_le hxl h1.1) (fun w => w)).trans (h1.2 x hxl hx)⟩
  have nwk : ∀ {H1 H2 : Heap} {S : yS}, NowW Z nw S H1 → hFr F0_ H1 H2 → NowW Z nw S H2 := fun h1 h2 => h1.keep (fun x hx => h2.2 x hx (fun w => w))
  replace hl : lv_has ls 8 [(0, .ref a), (1, .ref nw)] := hl
  have loop : ∀ (ys : List (Int × tC)) (xs1 : List (Int × tC)) (LA LB : List Nat) (acc : Int) (S : yS) (H1 : Heap) (locs1 : List Loc) (ls : Array Slot), xs = xs1 ++ ys → L1 = LA ++ LB → xs1.length = LA.length → pv (flat ys) (acc :: vs, bs, S) = some (zf :: vs, bs, Sf) → NowW Z nw S H1 → hFr (fE nw) s.heap H1 → va_S (hA (fE nw) s.heap.size) s.heap H1 locs1 → lv_has ls 8 [(0, .ref a), (1, .ref nw), (2, .long (zl acc)), (4, .int (zi (xs1.length : Int)))] → W p l e (rmS (7 + N) (240 + 40 * N)) s m args below meth c H1 locs1 0 0 Q (F0 m 14 ls []) := by
    intro ys
    induction ys with
    | nil =>
      intro xs1 LA LB acc S H1 locs1 ls e1 e2 e3 hh hN hfr hS hl
      cases Option.some.inj hh
      have hxl : xs1.length = L1.length := by rw [← hI.1, e1]; simp
      refine lv_iload hx hbb dX10_of_14 (lv_at hl 3 rfl) ?_
      refine lv_aload_n hx hbb dX10_of_16 rfl (lv_at hl 0 rfl) ?_
      have hC := keepC hfr
      refine h_get X.1 X.2.1 hC.1 cf_more q876 rfl dX10_of_17 ?_
      refine hcV (As := []) (rest := [.int (zi (xs1.length : Int))]) X hS hF (w_size l Z am cm em L1 H1.size) hC.2.1 (fun x h => h.elim) (hC.2.1.recv X.2) (lw_V q1057 q300 q301 q84 q302) (show hdV yJ2_size "java/util/ArrayList" 0 by decide +kernel) ⟨rfl, rfl⟩ ⟨by show 1 + 1 ≤ 7 + N; omega, by show 8 + (1 + 11) + 40 ≤ 240 + 40 * N; omega⟩ ⟨Nat.le_refl _, Nat.le_refl _⟩ hl.1 (Nat.le_of_ble_eq_true rfl) dX10_of_20 rfl (fun v H2 locs2 hv hfr2 hS2 => ?_)
      subst hv
      refine g_icmp_ge (tgt := 131) hx hbb (show r32 (xs1.length : Int) ∧ r32 (L1.length : Int) by unfold r32; omega) dX10_of_23 (by decide) (fun c1 => absurd c1 (by omega)) (fun c1 => ?_)
      refine lv_lload_n hx hbb dX10_of_131 rfl (lv_at hl 2 rfl) ?_
      exact hret _ _ _ _ _ dX10_of_132 ⟨rfl, nwk hN hfr2⟩ hS2
    | cons w ys ih =>
      intro xs1 LA LB acc S H1 locs1 ls e1 e2 e3 hh hN hfr hS hl
      obtain ⟨sg, c0⟩ := w
      have hh : pv ((c0 ++ [(sgO sg, 0)]) ++ flat ys) (acc :: vs, bs, S) = some (zf :: vs, bs, Sf) := hh
      obtain ⟨st2, k2, k3⟩ := pv_inv hh
      obtain ⟨st1, k1, k2⟩ := pv_inv k2
      have hxl : xs1.length < L1.length := by rw [← hI.1, e1]; simp
      obtain ⟨b, LB', hLB⟩ : ∃ b LB', LB = b :: LB' := by
        cases LB with
        | nil => rw [e2] at hxl; simp at hxl; omega
        | cons b LB' => exact ⟨b, LB', rfl⟩
      subst hLB
      have hsg : sg = 42 ∨ sg = 43 ∨ sg = 45 ∨ sg = 47 := hI.2.2.2 (sg, c0) (by rw [e1]; simp)
      have hzip : ((sg, c0), b) ∈ xs.zip L1 := by
        rw [e1, e2, List.zip_append e3]
        simp
      have hTb := keepS hfr (hI.2.2.1 _ hzip)
      have hgb : L1[(xs1.length : Int).toNat]? = some b := by
        rw [e2, show ((xs1.length : Int)).toNat = LA.length by omega]; simp
      have hgs : L2[(xs1.length : Int).toNat]? = some (Z.G.ad (sg + 128).toNat) := by
        rw [hI.2.1, e1, show ((xs1.length : Int)).toNat = xs1.length by omega]; simp
      obtain ⟨y, S1, hst1, hEb⟩ := hEv A H1 c0 b S (acc :: vs) bs st1 hTb hnA hN k1
      subst hst1
      obtain ⟨g1, g2, z2, S2, hheld, hst2⟩ := pv1_ch hsg (pv_one k2)
      subst hst2
      have hC := keepC hfr
      refine lv_iload hx hbb dX10_of_14 (lv_at hl 3 rfl) ?_
      refine lv_aload_n hx hbb dX10_of_16 rfl (lv_at hl 0 rfl) ?_
      refine h_get X.1 X.2.1 hC.1 cf_more q876 rfl dX10_of_17 ?_
      refine hcV (As := []) (rest := [.int (zi (xs1.length : Int))]) X hS hF (w_size l Z am cm em L1 H1.size) hC.2.1 (fun x h => h.elim) (hC.2.1.recv X.2) (lw_V q1057 q300 q301 q84 q302) (show hdV yJ2_size "java/util/ArrayList" 0 by decide +kernel) ⟨rfl, rfl⟩ ⟨by show 1 + 1 ≤ 7 + N; omega, by show 8 + (1 + 11) + 40 ≤ 240 + 40 * N; omega⟩ ⟨Nat.le_refl _, Nat.le_refl _⟩ hl.1 (Nat.le_of_ble_eq_true rfl) dX10_of_20 rfl (fun v H2 locs2 hv hfr2 hS2 => ?_)
      subst hv
      have hf2 := trN hfr hfr2
      have hC2 := keepC hf2
      refine g_icmp_ge (tgt := 131) hx hbb (show r32 (xs1.length : Int) ∧ r32 (L1.length : Int) by unfold r32; omega) dX10_of_23 (by decide) (fun c1 => ?_) (fun c1 => absurd (show (xs1.length : Int) < (L1.length : Int) by omega) c1)
      refine lv_aload_n hx hbb dX10_of_26 rfl (lv_at hl 0 rfl) ?_
      refine h_get X.1 X.2.1 hC2.1 cf_more q876 rfl dX10_of_27 ?_
      refine lv_iload hx hbb dX10_of_30 (lv_at hl 3 rfl) ?_
      refine hcV (As := [.int (zi (xs1.length : Int))]) (rest := []) X hS2 hF (w_lget l Z am cm em L1 (xs1.length : Int) b ⟨by omega, hgb⟩ H2.size) hC2.2.1 (fun x h => h.elim) (hC2.2.1.recv X.2) (lw_V q1058 q304 q305 q84 q306) (show hdV yJ2_get "java/util/ArrayList" 1 by decide +kernel) ⟨rfl, rfl⟩ ⟨by show 3 + 1 ≤ 7 + N; omega, by show 8 + (2 + 11) + 120 ≤ 240 + 40 * N; omega⟩ ⟨Nat.le_refl _, Nat.le_refl _⟩ hl.1 (Nat.le_of_ble_eq_true rfl) dX10_of_32 rfl (fun v H3 locs3 hv hfr3 hS3 => ?_)
      subst hv
      have hf3 := trN hf2 hfr3
      have hN3 := nwk (nwk hN hfr2) hfr3
      obtain ⟨C, hca, hrec⟩ := (keepS hf3 (hI.2.2.1 _ hzip)).cast X.2
      refine va_castY (C := C) hx hbb X.1.2.2.2.1 (hts _ q1059) hca hrec dX10_of_35 ?_
      refine lv_aload_n hx hbb dX10_of_38 rfl (lv_at hl 1 rfl) ?_
      obtain ⟨y', S1', hst1', hEb3⟩ := hEv A H3 c0 b S (acc :: vs) bs _ (keepS hf3 (hI.2.2.1 _ hzip)) hnA hN3 k1
      cases hst1'
      refine tk_of (rest := []) X hb hS3 hEb3 q994 hR hl.1 (Nat.le_of_ble_eq_true rfl) dX10_of_39 (fun H4 locs4 hN4 hfr4 hS4 => ?_)
      have hf4 := trF hf3 hfr4
      have hC4 := keepC hf4
      refine lv_lstore (lv' := [(5, .long (zl y)), (0, .ref a), (1, .ref nw), (2, .long (zl acc)), (4, .int (zi (xs1.length : Int)))]) hx hbb dX10_of_44 hl (by decide) rfl (fun ls hl => ?_)
      refine lv_aload_n hx hbb dX10_of_46 rfl (lv_at hl 1 rfl) ?_
      refine h_get X.1 X.2.1 hC4.1 cf_signs q877 rfl dX10_of_47 ?_
      refine lv_iload hx hbb dX10_of_50 (lv_at hl 4 rfl) ?_
      refine hcV (As := [.int (zi (xs1.length : Int))]) (rest := []) X hS4 hF (w_lget l Z as cs es L2 (xs1.length : Int) _ ⟨by omega, hgs⟩ H4.size) hC4.2.2.1 (fun x h => h.elim) (hC4.2.2.1.recv X.2) (lw_V q1058 q304 q305 q84 q306) (show hdV yJ2_get "java/util/ArrayList" 1 by decide +kernel) ⟨rfl, rfl⟩ ⟨by show 3 + 1 ≤ 7 + N; omega, by show 8 + (2 + 11) + 120 ≤ 240 + 40 * N; omega⟩ ⟨Nat.le_refl _, Nat.le_refl _⟩ hl.1 (Nat.le_of_ble_eq_true rfl) dX10_of_52 rfl (fun v H5 locs5 hv hfr5 hS5 => ?_)
      subst hv
      have hN5 := nwk hN4 hfr5
      have hf5 := trN hf4 hfr5
      have hk256 : (sg + 128).toNat < 256 := by omega
      have hri : ∃ cell : Cell, H5[Z.G.ad (sg + 128).toNat]? = some cell ∧ cell.vm.isStatics = false ∧ s.vm.findClass "java/lang/Integer" = some cell.cls := by
        obtain ⟨cell, q1, q2, q3, -⟩ := ((gS_int X.2).2.2.2.1 _ hk256).kept (hA_b X.2 hF hS5).2.1
        exact ⟨cell, q1, q2, q3⟩
      refine va_castS (nm := "java/lang/Integer") hx hbb X.1.2.2.2.1 (hts _ q1060) (X.2.1.1 15 _ rfl).2 hri dX10_of_55 ?_
      refine hcV (As := []) (rest := []) (C := "java/lang/Integer") X hS5 hF (w_intV l Z _ hk256 H5.size) trivial (fun x h => h.elim) hri (lw_V q1061 q1062 q1063 q113 q1064) (show hdV yJ15_intValue "java/lang/Integer" 0 by decide +kernel) ⟨rfl, rfl⟩ ⟨by show 1 + 1 ≤ 7 + N; omega, by show 8 + (1 + 11) + 40 ≤ 240 + 40 * N; omega⟩ ⟨Nat.le_refl _, Nat.le_refl _⟩ hl.1 (Nat.le_of_ble_eq_true rfl) dX10_of_58 rfl (fun v H6 locs6 hv hfr6 hS6 => ?_)
      subst hv
      have hN6 := nwk hN5 hfr6
      have hf6 := trN hf5 hfr6
      rw [show (((sg + 128).toNat : Nat) : Int) - 128 = sg by omega]
      refine lv_istore (lv' := [(7, .int (zi sg)), (5, .long (zl y)), (0, .ref a), (1, .ref nw), (2, .long (zl acc)), (4, .int (zi (xs1.length : Int)))]) hx hbb dX10_of_61 hl (by decide) rfl (fun ls hl => ?_)
      have tail : W p l e (rmS (7 + N) (240 + 40 * N)) s m args below meth c H6 locs6 0 0 Q (F0 m 121 ls [.long (zl (chV sg acc y)), .ref nw]) := by
        refine tk_held (rest := []) X hS6 hN6 hheld q1065 ⟨by show 3 ≤ 7 + N; omega, by show 102 ≤ 240 + 40 * N; omega⟩ hl.1 (Nat.le_of_ble_eq_true rfl) dX10_of_121 (fun H7 locs7 hN7 hfr7 hS7 => ?_)
        refine lv_lstore_n (lv' := [(2, .long (zl z2)), (7, .int (zi sg)), (5, .long (zl y)), (0, .ref a), (1, .ref nw), (4, .int (zi (xs1.length : Int)))]) hx hbb dX10_of_124 rfl hl (by decide) rfl (fun ls hl => ?_)
        refine lv_iinc (v := zi ((xs1.length : Int) + 1)) (lv' := [(4, .int (zi ((xs1.length : Int) + 1))), (2, .long (zl z2)), (7, .int (zi sg)), (5, .long (zl y)), (0, .ref a), (1, .ref nw)]) hx hbb dX10_of_125 hl (k := 5) rfl (zi_add _ _) (by decide) rfl (fun ls hl => ?_)
        refine lv_goto (tgt := 14) hx hbb dX10_of_128 (by decide) ?_
        refine ih (xs1 ++ [(sg, c0)]) (LA ++ [b]) LB' z2 S2 H7 locs7 ls (by rw [e1]; simp) (by rw [e2]; simp) (by simp [e3]) k3 hN7 (trF hf6 hfr7) hS7 ?_
        rw [show (((xs1 ++ [(sg, c0)]).length : Nat) : Int) = (xs1.length : Int) + 1 by simp]
        exact lv_sub hl [4, 5, 1, 0] rfl
      refine lv_aload_n hx hbb dX10_of_63 rfl (lv_at hl 3 rfl) ?_
      refine lv_iload hx hbb dX10_of_64 (lv_at hl 0 rfl) ?_
      refine lv_bipush (v := zi 43) hx hbb dX10_of_66 (by decide) ?_
      have gs : r32 sg := by unfold r32; omega
      refine g_icmp_ne (tgt := 78) hx hbb ⟨gs, by decide⟩ dX10_of_68 (by decide) (fun d1 => ?_) (fun d1 => ?_)
      · refine lv_lload_n hx hbb dX10_of_71 rfl (lv_at hl 4 rfl) ?_
        refine lv_lload hx hbb dX10_of_72 (lv_at hl 1 rfl) ?_
        refine g_ladd hx hbb dX10_of_74 ?_
        refine lv_goto (tgt := 121) hx hbb dX10_of_75 (by decide) ?_
        rw [show chV sg acc y = acc + y by unfold chV; rw [if_pos d1]] at tail
        exact tail
      refine lv_iload hx hbb dX10_of_78 (lv_at hl 0 rfl) ?_
      refine lv_bipush (v := zi 45) hx hbb dX10_of_80 (by decide) ?_
      refine g_icmp_ne (tgt := 92) hx hbb ⟨gs, by decide⟩ dX10_of_82 (by decide) (fun d2 => ?_) (fun d2 => ?_)
      · refine lv_lload_n hx hbb dX10_of_85 rfl (lv_at hl 4 rfl) ?_
        refine lv_lload hx hbb dX10_of_86 (lv_at hl 1 rfl) ?_
        refine g_lsub hx hbb dX10_of_88 ?_
        refine lv_goto (tgt := 121) hx hbb dX10_of_89 (by decide) ?_
        rw [show chV sg acc y = acc - y by unfold chV; rw [if_neg d1, if_pos d2]] at tail
        exact tail
      refine lv_iload hx hbb dX10_of_92 (lv_at hl 0 rfl) ?_
      refine lv_bipush (v := zi 42) hx hbb dX10_of_94 (by decide) ?_
      refine g_icmp_ne (tgt := 106) hx hbb ⟨gs, by decide⟩ dX10_of_96 (by decide) (fun d3 => ?_) (fun d3 => ?_)
      · refine lv_lload_n hx hbb dX10_of_99 rfl (lv_at hl 4 rfl) ?_
        refine lv_lload hx hbb dX10_of_100 (lv_at hl 1 rfl) ?_
        refine g_lmul hx hbb dX10_of_102 ?_
        refine lv_goto (tgt := 121) hx hbb dX10_of_103 (by decide) ?_
        rw [show chV sg acc y = acc * y by unfold chV; rw [if_neg d1, if_neg d2, if_pos d3]] at tail
        exact tail
      refine lv_lload hx hbb dX10_of_106 (lv_at hl 1 rfl) ?_
      refine lv_lconst (v := zl 0) hx hbb dX10_of_108 (by decide) ?_
      refine g_lcmp_ne (tgt := 117) hx hbb ⟨g2, by decide⟩ dX10_of_109 dX10_of_110 (by decide) (fun d4 => ?_) (fun d4 => ?_)
      · refine lv_lconst (v := zl 0) hx hbb dX10_of_113 (by decide) ?_
        refine lv_goto (tgt := 121) hx hbb dX10_of_114 (by decide) ?_
        rw [show chV sg acc y = 0 by unfold chV; rw [if_neg d1, if_neg d2, if_neg d3, if_pos d4]] at tail
        exact tail
      · refine lv_lload_n hx hbb dX10_of_117 rfl (lv_at hl 4 rfl) ?_
        refine lv_lload hx hbb dX10_of_118 (lv_at hl 1 rfl) ?_
        refine g_ldiv hx hbb ⟨g1, g2, d4⟩ dX10_of_120 ?_
        rw [show chV sg acc y = acc.tdiv y by unfold chV; rw [if_neg d1, if_neg d2, if_neg d3, if_neg d4]] at tail
        exact tail
  refine lv_aload_n hx hbb dX10_of_0 rfl (lv_at hl 0 rfl) ?_
  refine h_get X.1 X.2.1 hW.1 cf_first q875 rfl dX10_of_1 ?_
  refine lv_aload_n hx hbb dX10_of_4 rfl (lv_at hl 1 rfl) ?_
  refine tk_of (rest := []) X hb hS hE0 q994 hR hl.1 (Nat.le_of_ble_eq_true rfl) dX10_of_5 (fun H1 locs1 hN hfr hS => ?_)
  refine lv_lstore_n (lv' := [(2, .long (zl z0)), (0, .ref a), (1, .ref nw)]) hx hbb dX10_of_10 rfl hl (by decide) rfl (fun ls hl => ?_)
  refine lv_iconst (v := zi 0) hx hbb dX10_of_11 rfl ?_
  refine lv_istore (lv' := [(4, .int (zi 0)), (2, .long (zl z0)), (0, .ref a), (1, .ref nw)]) hx hbb dX10_of_12 hl (by decide) rfl (fun ls hl => ?_)
  exact loop xs [] [] L1 z0 S0 H1 locs1 ls rfl rfl rfl hh hN hfr hS (lv_sub hl [2, 3, 1, 0] rfl)
