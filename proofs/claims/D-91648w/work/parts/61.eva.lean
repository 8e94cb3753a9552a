set_option maxRecDepth 100000
set_option maxHeartbeats 2000000 in
theorem w_allis (l : Launch) (Z : hZ) (nw N : Nat) (hEv : EvA l Z nw N) (A : Nat → Prop) (hnA : ¬ A nw) (H : Heap) (a lst cp ed : Nat) (L : List Nat) (b : Bool) (cs : List tC) (hAl : va_at Z.D tcl (a, .inr (13, [.int (zi (bz b)), .ref lst])) H) (hAa : A a) (hLs : Lst Z lst L cp ed H) (hO : ∀ x, lF lst cp ed x → A x) (h2 : 2 ≤ cs.length) (hlen : cs.length = L.length) (hC : ∀ w ∈ cs.zip L, AskH Z N A H w.1 w.2) (S : yS) (hN0 : NowW Z nw S H) (vs : List Int) (bs : List Bool) (vf : Bool) (Sf : yS) (hh : pv (joinA b cs) (vs, bs, S) = some (vs, vf :: bs, Sf)) : mH l yX19_is cX19_is 4 (some .boolean) (rmS (7 + N) (240 + 40 * N)) Z [.ref a, .ref nw] H.size (fun H' => H' = H) (fun w H' => w = some (.int (zi (bz vf))) ∧ NowW Z nw Sf H') (fE nw) 0 0 := by
  refine goHi (by decide +kernel) (Nat.le_of_ble_eq_true rfl) (fun v _ h => by have h1 := Option.some.inj h.1; rw [h1]; cases vf <;> rfl) ?_
  intro p e s m args below meth c Q ls X hret hl hP hn hS hnm
  subst hP
  have hx := X.1.1
  have hbb := X.1.2.1
  have hts := X.1.2.2.2.2
  have hb := hN0.2.2.2.2
  have hF : ∀ x, fE nw x → Z.b ≤ x := fun x h => by rw [h]; exact hb
  have hszL := hLs.size_lt
  have hR : 7 + N ≤ (rmS (7 + N) (240 + 40 * N)).frames ∧ 227 + 40 * N ≤ (rmS (7 + N) (240 + 40 * N)).locals := ⟨Nat.le_refl _, by show 227 + 40 * N ≤ 240 + 40 * N; omega⟩
  have keepL : ∀ {H1 : Heap}, hFr (fE nw) s.heap H1 → Lst Z lst L cp ed H1 := fun hfr => hLs.keep (fun x hx hxl => hfr.2 x hxl (fun w => by
    have w : x = nw := w
    rw [w] at hx
    rcases hx with v | v | v
    · exact hnA (hO _ (Or.inl v))
    · exact hnA (hO _ (Or.inr v))
    · obtain ⟨c3, hc3⟩ := zip_all hlen hC v
      exact hnA hc3.A))
  have keepA : ∀ {H1 : Heap}, hFr (fE nw) s.heap H1 → va_at Z.D tcl (a, .inr (13, [.int (zi (bz b)), .ref lst])) H1 := fun hfr => va_at_keep hAl (hfr.2 a (va_at_lt hAl) (fun w => hnA (by rw [← (show a = nw from w)]; exact hAa)))
  have keepS : ∀ {H1 : Heap} {c3 : tC} {y : Nat}, hFr (fE nw) s.heap H1 → AskH Z N A s.heap c3 y → AskH Z N A H1 c3 y := fun hfr w => w.keep (fun x hx hxl => hfr.2 x hxl (fun v => by
    have v : x = nw := v
    rw [v] at hx
    rcases hx with u | u
    · exact hnA u
    · omega))
  have trF : ∀ {H1 H2 : Heap}, hFr (fE nw) s.heap H1 → hFr (fE nw) H1 H2 → hFr (fE nw) s.heap H2 := fun h1 h2 => ⟨Nat.le_trans h1.1 h2.1, fun x hxl hx => (h2.2 x (Nat.lt_of_lt_of_le hxl h1.1) hx).trans (h1.2 x hxl hx)⟩
  have trN : ∀ {H1 H2 : Heap}, hFr (fE nw) s.heap H1 → hFr F0_ H1 H2 → hFr (fE nw) s.heap H2 := fun h1 h2 => ⟨Nat.le_trans h1.1 h2.1, fun x hxl hx => (h2.2 x (Nat.lt_of_lt_of_le hxl h1.1) (fun w => w)).trans (h1.2 x hxl hx)⟩
  have nwk : ∀ {H1 H2 : Heap} {S : yS}, NowW Z nw S H1 → hFr F0_ H1 H2 → NowW Z nw S H2 := fun h1 h2 => h1.keep (fun x hx => h2.2 x hx (fun w => w))
  replace hl : lv_has ls 4 [(0, .ref a), (1, .ref nw)] := hl
  have loop : ∀ (ys : List tC) (t : List Bool) (c1 : List tC) (LA LB : List Nat) (S : yS) (H1 : Heap) (locs1 : List Loc) (ls : Array Slot), cs = c1 ++ ys → L = LA ++ LB → c1.length = LA.length → t.length = c1.length → JA b vs bs vf Sf t ys S → NowW Z nw S H1 → hFr (fE nw) s.heap H1 → va_S (hA (fE nw) s.heap.size) s.heap H1 locs1 → lv_has ls 4 [(0, .ref a), (1, .ref nw), (2, .int (zi (ctB t))), (3, .int (zi (c1.length : Int)))] → W p l e (rmS (7 + N) (240 + 40 * N)) s m args below meth c H1 locs1 0 0 Q (F0 m 4 ls []) := by
    intro ys
    induction ys with
    | nil =>
      intro t c1 LA LB S H1 locs1 ls e1 e2 e3 e4 hJ hN hfr hS hl
      have hcl : c1.length = L.length := by rw [← hlen, e1]; simp
      have ht0 : t ≠ [] := fun w => by rw [w] at e4; simp at e4; omega
      rcases hJ with ⟨w, -⟩ | ⟨-, hJ⟩
      · exact absurd w ht0
      have hJ : some ((vs, foldB b t :: bs, S) : pS) = some (vs, vf :: bs, Sf) := hJ
      cases Option.some.inj hJ
      have hct := ctB_le t
      refine lv_iload_n hx hbb dX19_is_4 rfl (lv_at hl 3 rfl) ?_
      refine lv_aload_n hx hbb dX19_is_5 rfl (lv_at hl 0 rfl) ?_
      refine h_get X.1 X.2.1 (keepA hfr) af_of q944 rfl dX19_is_6 ?_
      have hL1 := keepL hfr
      refine hcV (As := []) (rest := [.int (zi (c1.length : Int))]) X hS hF (w_size l Z lst cp ed L H1.size) hL1 (fun x h => h.elim) (hL1.recv X.2) (lw_V q1081 q300 q301 q84 q302) (show hdV yJ2_size "java/util/ArrayList" 0 by decide +kernel) ⟨rfl, rfl⟩ ⟨by show 1 + 1 ≤ 7 + N; omega, by show 8 + (1 + 11) + 40 ≤ 240 + 40 * N; omega⟩ ⟨Nat.le_refl _, Nat.le_refl _⟩ hl.1 (Nat.le_of_ble_eq_true rfl) dX19_is_9 rfl (fun v H2 locs2 hv hfr2 hS2 => ?_)
      subst hv
      have hf2 := trN hfr hfr2
      have hN2 := nwk hN hfr2
      refine g_icmp_ge (tgt := 49) hx hbb (show r32 (c1.length : Int) ∧ r32 (L.length : Int) by unfold r32; omega) dX19_is_12 (by decide) (fun d1 => absurd d1 (by omega)) (fun d1 => ?_)
      refine lv_aload_n hx hbb dX19_is_49 rfl (lv_at hl 0 rfl) ?_
      refine h_get X.1 X.2.1 (keepA hf2) af_and q943 rfl dX19_is_50 ?_
      refine g_bif_eq (tgt := 75) hx hbb dX19_is_53 (by decide) (fun d2 => ?_) (fun d2 => ?_)
      · refine lv_iload_n hx hbb dX19_is_56 rfl (lv_at hl 2 rfl) ?_
        refine lv_aload_n hx hbb dX19_is_57 rfl (lv_at hl 0 rfl) ?_
        refine h_get X.1 X.2.1 (keepA hf2) af_of q944 rfl dX19_is_58 ?_
        have hL2 := keepL hf2
        refine hcV (As := []) (rest := [.int (zi (ctB t))]) X hS2 hF (w_size l Z lst cp ed L H2.size) hL2 (fun x h => h.elim) (hL2.recv X.2) (lw_V q1081 q300 q301 q84 q302) (show hdV yJ2_size "java/util/ArrayList" 0 by decide +kernel) ⟨rfl, rfl⟩ ⟨by show 1 + 1 ≤ 7 + N; omega, by show 8 + (1 + 11) + 40 ≤ 240 + 40 * N; omega⟩ ⟨Nat.le_refl _, Nat.le_refl _⟩ hl.1 (Nat.le_of_ble_eq_true rfl) dX19_is_61 rfl (fun v H3 locs3 hv hfr3 hS3 => ?_)
        subst hv
        have hN3 := nwk hN2 hfr3
        refine g_icmp_ne (tgt := 71) hx hbb (show r32 (ctB t) ∧ r32 (L.length : Int) by unfold r32; omega) dX19_is_64 (by decide) (fun d3 => ?_) (fun d3 => ?_)
        · refine lv_iconst (v := zi 1) hx hbb dX19_is_67 rfl ?_
          refine lv_goto (tgt := 84) hx hbb dX19_is_68 (by decide) ?_
          exact hret _ _ _ _ _ dX19_is_84 ⟨by rw [d2, ctB_all, decide_eq_true (show ctB t = (t.length : Int) by omega)]; rfl, hN3⟩ hS3
        · refine lv_iconst (v := zi 0) hx hbb dX19_is_71 rfl ?_
          refine lv_goto (tgt := 84) hx hbb dX19_is_72 (by decide) ?_
          exact hret _ _ _ _ _ dX19_is_84 ⟨by rw [d2, ctB_all, decide_eq_false (show ¬ ctB t = (t.length : Int) by omega)]; rfl, hN3⟩ hS3
      · have hbf : b = false := by cases b; rfl; exact absurd rfl d2
        refine lv_iload_n hx hbb dX19_is_75 rfl (lv_at hl 2 rfl) ?_
        refine g_if_le (tgt := 83) hx hbb (show r32 (ctB t) by unfold r32; omega) dX19_is_76 (by decide) (fun d3 => ?_) (fun d3 => ?_)
        · refine lv_iconst (v := zi 0) hx hbb dX19_is_83 rfl ?_
          exact hret _ _ _ _ _ dX19_is_84 ⟨by rw [hbf, ctB_any, decide_eq_false (show ¬ 0 < ctB t by omega)]; rfl, hN2⟩ hS2
        · refine lv_iconst (v := zi 1) hx hbb dX19_is_79 rfl ?_
          refine lv_goto (tgt := 84) hx hbb dX19_is_80 (by decide) ?_
          exact hret _ _ _ _ _ dX19_is_84 ⟨by rw [hbf, ctB_any, decide_eq_true (show 0 < ctB t by omega)]; rfl, hN2⟩ hS2
    | cons c0 ys ih =>
      intro t c1 LA LB S H1 locs1 ls e1 e2 e3 e4 hJ hN hfr hS hl
      have hcl : c1.length < L.length := by rw [← hlen, e1]; simp
      obtain ⟨d, LB', hLB⟩ : ∃ d LB', LB = d :: LB' := by
        cases LB with
        | nil => rw [e2] at hcl; simp at hcl; omega
        | cons d LB' => exact ⟨d, LB', rfl⟩
      subst hLB
      have hzip : (c0, d) ∈ cs.zip L := by
        rw [e1, e2, List.zip_append e3]
        simp
      have hgb : L[(c1.length : Int).toNat]? = some d := by
        rw [e2, show ((c1.length : Int)).toNat = LA.length by omega]; simp
      obtain ⟨bs', st1, k1, hnext⟩ := JA.step (A := A) hEv hJ
      have hL1 := keepL hfr
      refine lv_iload_n hx hbb dX19_is_4 rfl (lv_at hl 3 rfl) ?_
      refine lv_aload_n hx hbb dX19_is_5 rfl (lv_at hl 0 rfl) ?_
      refine h_get X.1 X.2.1 (keepA hfr) af_of q944 rfl dX19_is_6 ?_
      refine hcV (As := []) (rest := [.int (zi (c1.length : Int))]) X hS hF (w_size l Z lst cp ed L H1.size) hL1 (fun x h => h.elim) (hL1.recv X.2) (lw_V q1081 q300 q301 q84 q302) (show hdV yJ2_size "java/util/ArrayList" 0 by decide +kernel) ⟨rfl, rfl⟩ ⟨by show 1 + 1 ≤ 7 + N; omega, by show 8 + (1 + 11) + 40 ≤ 240 + 40 * N; omega⟩ ⟨Nat.le_refl _, Nat.le_refl _⟩ hl.1 (Nat.le_of_ble_eq_true rfl) dX19_is_9 rfl (fun v H2 locs2 hv hfr2 hS2 => ?_)
      subst hv
      have hf2 := trN hfr hfr2
      have hL2 := keepL hf2
      refine g_icmp_ge (tgt := 49) hx hbb (show r32 (c1.length : Int) ∧ r32 (L.length : Int) by unfold r32; omega) dX19_is_12 (by decide) (fun d1 => ?_) (fun d1 => absurd (show (c1.length : Int) < (L.length : Int) by omega) d1)
      refine lv_iload_n hx hbb dX19_is_15 rfl (lv_at hl 2 rfl) ?_
      refine lv_aload_n hx hbb dX19_is_16 rfl (lv_at hl 0 rfl) ?_
      refine h_get X.1 X.2.1 (keepA hf2) af_of q944 rfl dX19_is_17 ?_
      refine lv_iload_n hx hbb dX19_is_20 rfl (lv_at hl 3 rfl) ?_
      refine hcV (As := [.int (zi (c1.length : Int))]) (rest := [.int (zi (ctB t))]) X hS2 hF (w_lget l Z lst cp ed L (c1.length : Int) d ⟨by omega, hgb⟩ H2.size) hL2 (fun x h => h.elim) (hL2.recv X.2) (lw_V q1082 q304 q305 q84 q306) (show hdV yJ2_get "java/util/ArrayList" 1 by decide +kernel) ⟨rfl, rfl⟩ ⟨by show 3 + 1 ≤ 7 + N; omega, by show 8 + (2 + 11) + 120 ≤ 240 + 40 * N; omega⟩ ⟨Nat.le_refl _, Nat.le_refl _⟩ hl.1 (Nat.le_of_ble_eq_true rfl) dX19_is_21 rfl (fun v H3 locs3 hv hfr3 hS3 => ?_)
      subst hv
      have hf3 := trN hf2 hfr3
      have hN3 := nwk (nwk hN hfr2) hfr3
      have hT3 := keepS hf3 (hC _ hzip)
      obtain ⟨C, hca, hrec⟩ := hT3.cast X.2
      refine va_castY (C := C) hx hbb X.1.2.2.2.1 (hts _ q1083) hca hrec dX19_is_24 ?_
      refine lv_aload_n hx hbb dX19_is_27 rfl (lv_at hl 1 rfl) ?_
      obtain ⟨v, S1, hst1, hE⟩ := hEv A H3 c0 d S vs bs' st1 hT3 hnA hN3 k1
      have hJ' := hnext v S1 hst1
      refine tk_is (rest := [.int (zi (ctB t))]) X hb hS3 hE q1085 hR hl.1 (Nat.le_of_ble_eq_true rfl) dX19_is_28 (fun H4 locs4 hN4 hfr4 hS4 => ?_)
      have tail : W p l e (rmS (7 + N) (240 + 40 * N)) s m args below meth c H4 locs4 0 0 Q (F0 m 41 ls [.int (zi (bz v)), .int (zi (ctB t))]) := by
        refine g_iadd hx hbb dX19_is_41 ?_
        rw [← ctB_app]
        refine lv_istore_n (lv' := [(2, .int (zi (ctB (t ++ [v])))), (0, .ref a), (1, .ref nw), (3, .int (zi (c1.length : Int)))]) hx hbb dX19_is_42 rfl hl (by decide) rfl (fun ls hl => ?_)
        refine lv_iinc (v := zi ((c1.length : Int) + 1)) (lv' := [(3, .int (zi ((c1.length : Int) + 1))), (2, .int (zi (ctB (t ++ [v])))), (0, .ref a), (1, .ref nw)]) hx hbb dX19_is_43 hl (k := 3) rfl (zi_add _ _) (by decide) rfl (fun ls hl => ?_)
        refine lv_goto (tgt := 4) hx hbb dX19_is_46 (by decide) ?_
        refine ih (t ++ [v]) (c1 ++ [c0]) (LA ++ [d]) LB' S1 H4 locs4 ls (by rw [e1]; simp) (by rw [e2]; simp) (by simp [e3]) (by simp [e4]) hJ' hN4 (trF hf3 hfr4) hS4 ?_
        rw [show (((c1 ++ [c0]).length : Nat) : Int) = (c1.length : Int) + 1 by simp]
        exact lv_sub hl [2, 3, 1, 0] rfl
      refine g_bif_eq (tgt := 40) hx hbb dX19_is_33 (by decide) (fun d2 => ?_) (fun d2 => ?_)
      · refine lv_iconst (v := zi 1) hx hbb dX19_is_36 rfl ?_
        refine lv_goto (tgt := 41) hx hbb dX19_is_37 (by decide) ?_
        rw [d2] at tail
        exact tail
      · have hvf : v = false := by cases v; rfl; exact absurd rfl d2
        refine lv_iconst (v := zi 0) hx hbb dX19_is_40 rfl ?_
        rw [hvf] at tail
        exact tail
  refine lv_iconst (v := zi 0) hx hbb dX19_is_0 rfl ?_
  refine lv_istore_n (lv' := [(2, .int (zi 0)), (0, .ref a), (1, .ref nw)]) hx hbb dX19_is_1 rfl hl (by decide) rfl (fun ls hl => ?_)
  refine lv_iconst (v := zi 0) hx hbb dX19_is_2 rfl ?_
  refine lv_istore_n (lv' := [(3, .int (zi 0)), (2, .int (zi 0)), (0, .ref a), (1, .ref nw)]) hx hbb dX19_is_3 rfl hl (by decide) rfl (fun ls hl => ?_)
  exact loop cs [] [] [] L S s.heap [] ls rfl rfl rfl rfl (Or.inl ⟨rfl, fun w => by rw [w] at h2; simp at h2, hh⟩) hN0 ⟨Nat.le_refl _, fun _ _ _ => rfl⟩ hS (lv_sub hl [2, 3, 1, 0] rfl)
theorem wE_ask (l : Launch) (Z : hZ) (nw : Nat) : ∀ N, EvA l Z nw N := by
  intro N
  induction N with
  | zero => intro A H code a S vs bs r h; exact h.elim
  | succ N ih =>
    intro A H code a S vs bs r h hnA hN hh
    have hb := hN.2.2.2.2
    obtain ⟨v0, S0, hr0⟩ := ShA h vs bs S r hh
    obtain ⟨hAa, h⟩ := h
    have han : a ≠ nw := fun w => hnA (by rw [← w]; exact hAa)
    rcases h with ⟨x, cx, h1, h2, rfl⟩ | ⟨s, x, y, cx, cy, h1, h2, h3, h4, rfl⟩ | ⟨b, lst, L, c, ed, cs, h1, h2, h3, h4, h5, h6, rfl⟩
    · obtain ⟨st1, k1, k2⟩ := pv_inv hh
      obtain ⟨v, S1, rfl, hE⟩ := ih A H cx x S vs bs st1 h2 hnA hN k1
      have h0 : some ((vs, (!v) :: bs, S1) : pS) = some r := pv_one k2
      exact ⟨!v, S1, (Option.some.inj h0).symm, "ManyEyes$Not", 3, 1, TX9, cX9_is, 2, 7 + N, 240 + 40 * N, _, rfl, h1, by decide, q1095, q1097, q103, q1099, by decide, by omega, by omega, w_not l Z nw N H a x S1 v hb h1 hE⟩
    · obtain ⟨st2, k2, k3⟩ := pv_inv hh
      obtain ⟨st1, k1, k2⟩ := pv_inv k2
      obtain ⟨z, S1, rfl, hE⟩ := wE_sum l Z nw N A H cx x S vs bs st1 h2 hnA hN k1
      obtain ⟨z2, S2, rfl⟩ := ShS h3 _ _ _ _ k2
      have hE2 : ∀ H1, NowW Z nw S1 H1 → hFr (fE nw) H H1 → EvP l Z nw N H1 y z2 S2 := by
        intro H1 hN1 hfr
        obtain ⟨z3, S3, e3, hE3⟩ := wE_sum l Z nw N A H1 cy y S1 (z :: vs) bs _ (NowW.fr hnA hb hfr h3) hnA hN1 k2
        cases e3
        exact hE3
      have hr : r64 (z - z2) ∧ r = (vs, cmB s (z - z2) :: bs, S2) := by
        have h0 := pv_one k3
        rcases h4 with rfl | rfl | rfl | rfl | rfl | rfl <;>
        · obtain ⟨g, h0⟩ := gd_inv (show gd (r64 z ∧ r64 z2 ∧ r64 (z - z2)) _ = some r from h0)
          exact ⟨g.2.2, (Option.some.inj h0).symm⟩
      exact ⟨_, S2, hr.2, "ManyEyes$Compared", 12, 3, TX18, cX18_is, 4, 7 + N, 240 + 40 * N, _, rfl, h1, by decide, q1087, q1089, q115, q1091, by decide, by omega, by omega, w_comp l Z nw N H a x y s h4 S1 S2 z z2 hb h1 han hr.1 hE hE2⟩
    · subst hr0
      exact ⟨v0, S0, rfl, "ManyEyes$All", 13, 2, TX19, cX19_is, 4, 7 + N, 240 + 40 * N, _, rfl, h1, by decide, q1076, q1078, q116, q1080, by decide, by omega, by omega, w_allis l Z nw N ih A hnA H a lst c ed L b cs h1 hAa h2 h3 h4 h5 h6 S hN vs bs v0 S0 hh⟩
