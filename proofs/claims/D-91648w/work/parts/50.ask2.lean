set_option maxRecDepth 100000
set_option maxHeartbeats 2000000 in
theorem wT_askB (l : Launch) (htr : l.stackTraces = false) (Z : hZ) (q t : Nat) (sum ask : yS → Option (tR tC)) (g K f L N fo Lo No M : Nat) (gg : 13 ≤ g ∧ f + 1 ≤ g ∧ fo + 1 ≤ g) (gK : 440 ≤ K ∧ L + 40 ≤ K ∧ Lo + 40 ≤ K) (gM : N + 1 ≤ M ∧ No + 1 ≤ M) (hsum : ∀ (S : yS) (r : tR tC) (n0 : Nat), sum S = some r → mS l yX6_sum cX6_sum 3 f L Z q t S r N n0) (hask : ∀ (S : yS) (r : tR tC) (n0 : Nat), ask S = some r → mK l yX6_ask cX6_ask 3 fo Lo Z q t S r No n0) (S : yS) (n0 : Nat) {r : tR tC} (hh : T_askB sum ask S = some r) : mK l yX6_ask cX6_ask 3 g K Z q t S r M n0 := by
  refine goXr (by decide +kernel) (Nat.le_of_ble_eq_true rfl) (Or.inl ⟨_, rfl⟩) ?_
  intro p e s m args below meth cd Q ls X hret hthr hl hP hn hS hnm
  subst hn
  have hx := X.1.1
  have hbb := X.1.2.1
  have hts := X.1.2.2.2.2
  have lq := va_at_lt hP.1
  have lq1 := va_at_lt hP.2.1
  have lq2 := va_at_lt hP.2.2.1
  have lt_ := va_at_lt hP.2.2.2.1
  have hqb := hP.2.2.2.2.1
  have hsb := X.2.2.2
  have hF := hP.F
  have ntf : ∀ x, s.heap.size ≤ x ∨ x < Z.b → ¬ tF q x := by
    intro x hx w
    rcases w with rfl | rfl | rfl <;> omega
  have tr : ∀ {H1 H2 : Heap} {n1 n2 nn : Nat} {c0 : tC} {a : Nat}, SumH Z nn (rg n1 n2) H1 c0 a → s.heap.size ≤ n1 → hFr (tF q) H1 H2 → SumH Z nn (rg n1 n2) H2 c0 a := fun w h1 h2 => w.keep (fun x hx hxl => h2.2 x hxl (ntf x (hx.elim (fun v => Or.inl (Nat.le_trans h1 v.1)) Or.inr)))
  have hM : TKX Z q t S s s.heap [] := ⟨hP, hS⟩
  replace hl : lv_has ls 3 [(0, .ref q)] := hl
  unfold T_askB at hh
  obtain ⟨g1, hh⟩ := gd_inv hh
  refine lv_aload_n hx hbb dX6_ask_0 rfl (lv_at hl 0 rfl) ?_
  refine tm_get X hM tf_sort q554 rfl dX6_ask_1 ?_
  refine lv_sipush (v := zi 206) hx hbb dX6_ask_4 (by decide) ?_
  refine g_icmp_ne (tgt := 38) hx hbb ⟨g1, by decide⟩ dX6_ask_7 (by decide) (fun c1 => ?_) (fun c1 => ?_)
  · replace hh := it_t c1 hh
    obtain ⟨ra, Sa, ka, hgea, hxea, hxsa⟩ := tbE (mon_nt0 ask) hh
    refine lv_aload_n hx hbb dX6_ask_10 rfl (lv_at hl 0 rfl) ?_
    refine tkE (As := []) (rest := []) X hM (wT_opens l htr Z q t S s.heap.size ka) (lw_V q757 q759 qs22 q94 q760) (show hdV yX6_opens "ManyEyes$Tokens" 0 by decide +kernel) ⟨by show 9 ≤ g; omega, by show 8 + (1 + 11) + 360 ≤ K; omega⟩ hgea hl.1 (Nat.le_of_ble_eq_true rfl) dX6_ask_11 rfl (fun Ha locsa hz hMa hfra => ?_) (fun x H2 locs2 f0 p0 hz hO hS2 => by
      have hr := hxea (f0, p0) hz
      subst hr
      exact hthr _ _ _ _ _ _ ⟨f0, p0, rfl, hO⟩ hS2)
    replace hh := hxsa hz
    have za := hfra.1
    obtain ⟨r2, k2, hge2, hxe2, hxs2⟩ := tbT mon_nt1 hh
    refine nw_X9 X hMa.2 (show 0 + 1 + 1 ≤ r.2.2.1 by omega) (show 0 + 8 + 1 ≤ r.2.2.2 by omega) dX6_ask_14 (fun H1 hN z1 o1 hS1 => ?_)
    have hM1 : TKX Z q t Sa s H1 locsa := ⟨hMa.1.keep o1, hS1⟩
    refine lv_dup hx hbb dX6_ask_17 rfl ?_
    refine lv_aload_n hx hbb dX6_ask_18 rfl (lv_at hl 0 rfl) ?_
    refine tk_ask (rest := [.ref Ha.size, .ref Ha.size]) X hM1 (hask Sa r2 H1.size k2) (lw_V q753 q755 qs21 q94 q756) (show hdV yX6_ask "ManyEyes$Tokens" 0 by decide +kernel) ⟨by show fo + 1 ≤ g; omega, by show 8 + (3 + 11) + Lo ≤ K; omega⟩ hge2 hl.1 (Nat.le_of_ble_eq_true rfl) dX6_ask_19 (fun c0 a H2 locs2 hc hM2 hT2 hfr2 => ?_) (fun x H2 locs2 hx hS2 => ?_)
    · have hr := hxs2 c0 hc
      have z2 := hfr2.1
      have hN2 := va_at_keep hN (hfr2.2 Ha.size (by omega) (ntf _ (Or.inl (by omega))))
      refine ni_X9 (rest := [.ref Ha.size]) X hM2.2 hF (by omega) hN2 (Or.inr (by omega)) ⟨by show 4 ≤ g; omega, by show 130 ≤ K; omega⟩ hge2 hl.1 (Nat.le_of_ble_eq_true rfl) dX6_ask_22 (fun H3 locs3 hN3 hfr3 hS3 => ?_)
      have z3 := hfr3.1
      have hM3 : TKX Z q t r2.2.1 s H3 locs3 := ⟨hM2.1.keep4 (fun x hx => hfr3.2 x (by rcases hx with rfl | rfl | rfl | rfl <;> omega) (by show ¬ x = _; rcases hx with rfl | rfl | rfl | rfl <;> omega)), hS3⟩
      refine lv_astore_n (lv' := [(1, .ref Ha.size), (0, .ref q)]) hx hbb dX6_ask_25 rfl hl (by decide) rfl (fun ls hl => ?_)
      have hT3 : AskH Z No (rg s.heap.size H3.size) H3 c0 a := (hT2.keep (fun x hx hxl => hfr3.2 x hxl (by show ¬ x = _; rcases hx with v | v; (have := v.1; omega); omega))).mono (fun x hx => ⟨by have := hx.1; omega, by have := hx.2; omega⟩)
      cases Option.some.inj hr
      refine lv_aload_n hx hbb dX6_ask_26 rfl (lv_at hl 1 rfl) ?_
      refine lv_dup hx hbb dX6_ask_27 rfl ?_
      refine tm_get X hM3 tf_open q556 rfl dX6_ask_28 ?_
      refine lv_iconst (v := zi 1) hx hbb dX6_ask_31 rfl ?_
      refine g_isub hx hbb dX6_ask_32 ?_
      refine tm_putF X hM3 dX6_ask_33 (fun H4 locs4 hM4 hz4 hk4 => ?_)
      refine lv_aload_n hx hbb dX6_ask_36 rfl (lv_at hl 0 rfl) ?_
      have hT4 : AskH Z No (rg s.heap.size H4.size) H4 c0 a := by rw [hz4]; exact hT3.keep (fun x hx hxl => hk4 x (by rcases hx with v | v; (have := v.1; omega); omega))
      have hA4 : AskH Z (No + 1) (rg s.heap.size H4.size) H4 (c0 ++ [(20, 0)]) Ha.size := ⟨⟨by omega, by omega⟩, Or.inl ⟨a, c0, va_at_keep hN3 (hk4 Ha.size (by omega)), hT4, rfl⟩⟩
      exact hret _ _ _ _ _ dX6_ask_37 ⟨_, Ha.size, rfl, rfl, hM4.1, hA4.up gM.2⟩ hM4.2
    · obtain ⟨f0, p0, hz, hO⟩ := hx
      have hr := hxe2 (f0, p0) hz
      subst hr
      exact hthr _ _ _ _ _ _ ⟨f0, p0, rfl, hO⟩ hS2
  · replace hh := it_f c1 hh
    obtain ⟨rb, kb, hgeb, hxeb, hxsb⟩ := tbT (mon_cm0 sum) hh
    refine lv_aload_n hx hbb dX6_ask_38 rfl (lv_at hl 0 rfl) ?_
    refine tk_tree (rest := []) X hM (hsum S rb s.heap.size kb) (lw_V q774 q776 qs23 q94 q777) (show hdV yX6_sum "ManyEyes$Tokens" 0 by decide +kernel) ⟨by show f + 1 ≤ g; omega, by show 8 + (3 + 11) + L ≤ K; omega⟩ hgeb hl.1 (Nat.le_of_ble_eq_true rfl) dX6_ask_39 (fun c1_ aT Hb locsb hc hMb hT hfrb => ?_) (fun x H2 locs2 hx hS2 => by
      obtain ⟨f0, p0, hz, hO⟩ := hx
      have hr := hxeb (f0, p0) hz
      subst hr
      exact hthr _ _ _ _ _ _ ⟨f0, p0, rfl, hO⟩ hS2)
    replace hh := hxsb c1_ hc
    have zb := hfrb.1
    unfold T_cm0 at hh
    obtain ⟨g2, hh⟩ := gd_inv hh
    refine lv_astore_n (lv' := [(1, .ref aT), (0, .ref q)]) hx hbb dX6_ask_42 rfl hl (by decide) rfl (fun ls hl => ?_)
    refine lv_aload_n hx hbb dX6_ask_43 rfl (lv_at hl 1 rfl) ?_
    refine tm_get X hMb tf_sort q554 rfl dX6_ask_44 ?_
    refine lv_istore_n (lv' := [(2, .int (zi (rb.2.1.1 6))), (1, .ref aT), (0, .ref q)]) hx hbb dX6_ask_47 rfl hl (by decide) rfl (fun ls hl => ?_)
    have body : isCm (rb.2.1.1 6) → W p l e ({ frames := g, cells := r.2.2.1, slots := r.2.2.2, locals := K } : Room) s m args below meth cd Hb locsb (0 + rb.2.2.1) (0 + rb.2.2.2) Q (F0 m 92 ls []) := by
      intro hs
      replace hh := it_t hs hh
      obtain ⟨S1, k1, hh⟩ := bd_inv hh
      have hgm := tb_mon (mon_cm1 (rb.2.1.1 6) c1_) hh
      refine lv_aload_n hx hbb dX6_ask_92 rfl (lv_at hl 2 rfl) ?_
      refine tk_next X hMb k1 ⟨by show 7 ≤ g; omega, by show 330 ≤ K; omega⟩ hgeb hl.1 (Nat.le_of_ble_eq_true rfl) dX6_ask_93 (fun Hc locsc hMc hfrc => ?_)
      have zc := hfrc.1
      refine nw_X18 X hMc.2 hgm.1 hgm.2 dX6_ask_96 (fun Hd hN zd od hSd => ?_)
      have hMd : TKX Z q t S1 s Hd locsc := ⟨hMc.1.keep od, hSd⟩
      refine lv_dup hx hbb dX6_ask_99 rfl ?_
      refine lv_iload_n hx hbb dX6_ask_100 rfl (lv_at hl 0 rfl) ?_
      refine lv_aload_n hx hbb dX6_ask_101 rfl (lv_at hl 1 rfl) ?_
      obtain ⟨re, ke, hgee, hxee, hxse⟩ := tbT (mon_cm1 (rb.2.1.1 6) c1_) hh
      refine lv_aload_n hx hbb dX6_ask_102 rfl (lv_at hl 2 rfl) ?_
      refine tk_tree (rest := [.ref aT, .int (zi (rb.2.1.1 6)), .ref Hc.size, .ref Hc.size]) X hMd (hsum S1 re Hd.size ke) (lw_V q774 q776 qs23 q94 q777) (show hdV yX6_sum "ManyEyes$Tokens" 0 by decide +kernel) ⟨by show f + 1 ≤ g; omega, by show 8 + (3 + 11) + L ≤ K; omega⟩ hgee hl.1 (Nat.le_of_ble_eq_true rfl) dX6_ask_103 (fun c2_ aU He locse hc hMe hU hfre => ?_) (fun x H2 locs2 hx hS2 => by
        obtain ⟨f0, p0, hz, hO⟩ := hx
        have hr := hxee (f0, p0) hz
        subst hr
        exact hthr _ _ _ _ _ _ ⟨f0, p0, rfl, hO⟩ hS2)
      replace hh := hxse c2_ hc
      have ze := hfre.1
      have hN2 := va_at_keep hN (hfre.2 Hc.size (by omega) (ntf _ (Or.inl (by omega))))
      refine ni_X18 (rest := [.ref Hc.size]) X hMe.2 hF (by omega) hN2 (Or.inr (by omega)) ⟨by show 4 ≤ g; omega, by show 130 ≤ K; omega⟩ hgee hl.1 (Nat.le_of_ble_eq_true rfl) dX6_ask_106 (fun H3 locs3 hN3 hfr3 hS3 => ?_)
      have z3 := hfr3.1
      have nc : ∀ x, x < Hc.size ∨ Hd.size ≤ x → ¬ fE Hc.size x := fun x hx w => by have w : x = Hc.size := w; omega
      have hT2 : SumH Z N (rg s.heap.size H3.size) H3 c1_ aT := ((tr ((tr hT (by omega) hfrc).keep (fun x hx hxl => od x hxl)) (by omega) hfre).keep (fun x hx hxl => hfr3.2 x hxl (nc x (Or.inl (by rcases hx with v | v; (have := v.2; omega); omega))))).mono (fun x hx => ⟨by have := hx.1; omega, by have := hx.2; omega⟩)
      have hU2 : SumH Z N (rg s.heap.size H3.size) H3 c2_ aU := (hU.keep (fun x hx hxl => hfr3.2 x hxl (nc x (by rcases hx with v | v; (exact Or.inr v.1); exact Or.inl (by omega))))).mono (fun x hx => ⟨by have := hx.1; omega, by have := hx.2; omega⟩)
      cases Option.some.inj hh
      have hA : AskH Z (N + 1) (rg s.heap.size H3.size) H3 (c1_ ++ c2_ ++ [(cmO (rb.2.1.1 6), 0)]) Hc.size := ⟨⟨by omega, by omega⟩, Or.inr (Or.inl ⟨rb.2.1.1 6, aT, aU, c1_, c2_, hN3, hT2, hU2, hs, rfl⟩)⟩
      exact hret _ _ _ _ _ dX6_ask_109 ⟨_, Hc.size, rfl, rfl, hMe.1.keep4 (fun x hx => hfr3.2 x (by rcases hx with rfl | rfl | rfl | rfl <;> omega) (by show ¬ x = _; rcases hx with rfl | rfl | rfl | rfl <;> omega)), hA.up gM.1⟩ hS3
    refine lv_iload_n hx hbb dX6_ask_48 rfl (lv_at hl 0 rfl) ?_
    refine lv_bipush (v := zi 60) hx hbb dX6_ask_49 (by decide) ?_
    refine g_icmp_eq (tgt := 92) hx hbb ⟨g2, by decide⟩ dX6_ask_51 (by decide) (fun d1 => body (Or.inl d1)) (fun d1 => ?_)
    refine lv_iload_n hx hbb dX6_ask_54 rfl (lv_at hl 0 rfl) ?_
    refine lv_bipush (v := zi 62) hx hbb dX6_ask_55 (by decide) ?_
    refine g_icmp_eq (tgt := 92) hx hbb ⟨g2, by decide⟩ dX6_ask_57 (by decide) (fun d2 => body (Or.inr (Or.inl d2))) (fun d2 => ?_)
    refine lv_iload_n hx hbb dX6_ask_60 rfl (lv_at hl 0 rfl) ?_
    refine lv_bipush (v := zi 61) hx hbb dX6_ask_61 (by decide) ?_
    refine g_icmp_eq (tgt := 92) hx hbb ⟨g2, by decide⟩ dX6_ask_63 (by decide) (fun d3 => body (Or.inr (Or.inr (Or.inl d3)))) (fun d3 => ?_)
    refine lv_iload_n hx hbb dX6_ask_66 rfl (lv_at hl 0 rfl) ?_
    refine lv_bipush (v := zi 35) hx hbb dX6_ask_67 (by decide) ?_
    refine g_icmp_eq (tgt := 92) hx hbb ⟨g2, by decide⟩ dX6_ask_69 (by decide) (fun d4 => body (Or.inr (Or.inr (Or.inr (Or.inl d4))))) (fun d4 => ?_)
    refine lv_iload_n hx hbb dX6_ask_72 rfl (lv_at hl 0 rfl) ?_
    refine lv_sipush (v := zi 303) hx hbb dX6_ask_73 (by decide) ?_
    refine g_icmp_eq (tgt := 92) hx hbb ⟨g2, by decide⟩ dX6_ask_76 (by decide) (fun d5 => body (Or.inr (Or.inr (Or.inr (Or.inr (Or.inl d5)))))) (fun d5 => ?_)
    refine lv_iload_n hx hbb dX6_ask_79 rfl (lv_at hl 0 rfl) ?_
    refine lv_sipush (v := zi 304) hx hbb dX6_ask_80 (by decide) ?_
    refine g_icmp_eq (tgt := 92) hx hbb ⟨g2, by decide⟩ dX6_ask_83 (by decide) (fun d6 => body (Or.inr (Or.inr (Or.inr (Or.inr (Or.inr d6)))))) (fun d6 => ?_)
    replace hh := it_f (fun w => by rcases w with w | w | w | w | w | w <;> contradiction) hh
    cases Option.some.inj hh
    refine lv_aload_n hx hbb dX6_ask_86 rfl (lv_at hl 2 rfl) ?_
    refine lv_iconst (v := zi 1) hx hbb dX6_ask_87 rfl ?_
    refine tk_wrong (rest := []) htr X hMb ⟨by show 7 ≤ g; omega, by show 141 ≤ K; omega⟩ ⟨Nat.le_refl _, Nat.le_refl _⟩ hl.1 (Nat.le_of_ble_eq_true rfl) dX6_ask_88 dX6_ask_91 (fun x H1 locs1 hO hS => ?_)
    exact hthr _ _ _ _ _ _ ⟨1, rb.2.1.1 5, rfl, hO⟩ hS
theorem wT_ask (l : Launch) (htr : l.stackTraces = false) (Z : hZ) (q t : Nat) (sum : yS → Option (tR tC)) (f L N : Nat) (gf : 12 ≤ f) (gL : 400 ≤ L) (hsum : ∀ (S : yS) (r : tR tC) (n0 : Nat), sum S = some r → mS l yX6_sum cX6_sum 3 f L Z q t S r N n0) : ∀ (n : Nat) (S : yS) (r : tR tC) (n0 : Nat), T_ask sum n S = some r → mK l yX6_ask cX6_ask 3 (f + 1 + n) (L + 40 + 40 * n) Z q t S r (N + n) n0 := by
  intro n
  induction n with
  | zero => intro S r n0 h; exact no_some h
  | succ n ih =>
    intro S r n0 h
    exact wT_askB l htr Z q t sum (T_ask sum n) (f + 1 + (n + 1)) (L + 40 + 40 * (n + 1)) f L N (f + 1 + n) (L + 40 + 40 * n) (N + n) (N + (n + 1)) ⟨by omega, by omega, by omega⟩ ⟨by omega, by omega, by omega⟩ ⟨by omega, by omega⟩ hsum ih S n0 h
def T_both (d n : Nat) : yS → Option (tR tC) := T_ls 205 true (T_ask (T_sum d) n)
def T_either (d n : Nat) : yS → Option (tR tC) := T_ls 204 false (T_both d n)
theorem wT_eitherD (l : Launch) (htr : l.stackTraces = false) (Z : hZ) (q t d n : Nat) (S : yS) (n0 : Nat) {r : tR tC} (h : T_either d n S = some r) : mK l yX6_either cX6_either 2 (17 + 3 * d + n) (600 + 120 * d + 40 * n) Z q t S r (3 * d + 4 + n) n0 := by
  have := wT_either l Z q t (T_both d n) (14 + 3 * d + 1 + n + 1) (480 + 120 * d + 40 + 40 * n + 40) (3 * d + 2 + n + 1) (by omega) (by omega) (fun S r n0 h => wT_both l Z q t (T_ask (T_sum d) n) (14 + 3 * d + 1 + n) (480 + 120 * d + 40 + 40 * n) (3 * d + 2 + n) (by omega) (by omega) (wT_ask l htr Z q t (T_sum d) (14 + 3 * d) (480 + 120 * d) (3 * d + 2) (by omega) (by omega) (fun S r n0 h => wT_sumD l htr Z q t d S n0 h) n) S n0 h) S n0 h
  rw [show 17 + 3 * d + n = 14 + 3 * d + 1 + n + 1 + 1 by omega, show 600 + 120 * d + 40 * n = 480 + 120 * d + 40 + 40 * n + 40 + 40 by omega, show 3 * d + 4 + n = 3 * d + 2 + n + 1 + 1 by omega]
  exact this
