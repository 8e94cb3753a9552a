set_option maxRecDepth 100000
set_option maxHeartbeats 4000000 in
theorem wT_oneB (l : Launch) (htr : l.stackTraces = false) (Z : hZ) (q t : Nat) (sum one : yS → Option (tR tC)) (f L N fo Lo No : Nat) (gf : 12 ≤ f) (gL : 400 ≤ L) (go : fo ≤ f ∧ Lo ≤ L ∧ No ≤ N) (hsum : ∀ (S : yS) (r : tR tC) (n0 : Nat), sum S = some r → mS l yX6_sum cX6_sum 3 f L Z q t S r N n0) (hone : ∀ (S : yS) (r : tR tC) (n0 : Nat), one S = some r → mS l yX6_one cX6_one 4 fo Lo Z q t S r No n0) (S : yS) (n0 : Nat) {r : tR tC} (hh : T_oneB sum one S = some r) : mS l yX6_one cX6_one 4 (f + 1) (L + 40) Z q t S r (N + 1) n0 := by
  refine goXr (by decide +kernel) (Nat.le_of_ble_eq_true rfl) (Or.inl ⟨_, rfl⟩) ?_
  intro p e s m args below meth cd Q ls X hret hthr hl hP hn hS hnm
  subst hn
  have hx := X.1.1
  have hbb := X.1.2.1
  have hts := X.1.2.2.2.2
  have lq := va_at_lt hP.1
  have lq1 := va_at_lt hP.2.1
  have lq2 := va_at_lt hP.2.2.1
  have lt_ := va_at_lt hP.2.2.2.1
  have hqb := hP.2.2.2.2.1
  have hsb := X.2.2.2
  have hF := hP.F
  have ntf : ∀ x, s.heap.size ≤ x ∨ x < Z.b → ¬ tF q x := by
    intro x hx w
    rcases w with rfl | rfl | rfl <;> omega
  have tr : ∀ {H1 H2 : Heap} {n1 n2 nn : Nat} {c0 : tC} {a : Nat}, SumH Z nn (rg n1 n2) H1 c0 a → s.heap.size ≤ n1 → hFr (tF q) H1 H2 → SumH Z nn (rg n1 n2) H2 c0 a := fun w h1 h2 => w.keep (fun x hx hxl => h2.2 x hxl (ntf x (hx.elim (fun v => Or.inl (Nat.le_trans h1 v.1)) Or.inr)))
  have hM : TKX Z q t S s s.heap [] := ⟨hP, hS⟩
  replace hl : lv_has ls 4 [(0, .ref q)] := hl
  have rng : 9 ≤ ({ frames := f + 1, cells := r.2.2.1, slots := r.2.2.2, locals := L + 40 } : Room).frames ∧ 400 ≤ ({ frames := f + 1, cells := r.2.2.1, slots := r.2.2.2, locals := L + 40 } : Room).locals := ⟨by show 9 ≤ f + 1; omega, by show 400 ≤ L + 40; omega⟩
  have rnx : 7 ≤ ({ frames := f + 1, cells := r.2.2.1, slots := r.2.2.2, locals := L + 40 } : Room).frames ∧ 330 ≤ ({ frames := f + 1, cells := r.2.2.1, slots := r.2.2.2, locals := L + 40 } : Room).locals := ⟨by show 7 ≤ f + 1; omega, by show 330 ≤ L + 40; omega⟩
  have rwr : 7 ≤ ({ frames := f + 1, cells := r.2.2.1, slots := r.2.2.2, locals := L + 40 } : Room).frames ∧ 141 ≤ ({ frames := f + 1, cells := r.2.2.1, slots := r.2.2.2, locals := L + 40 } : Room).locals := ⟨by show 7 ≤ f + 1; omega, by show 141 ≤ L + 40; omega⟩
  have rni : 4 ≤ ({ frames := f + 1, cells := r.2.2.1, slots := r.2.2.2, locals := L + 40 } : Room).frames ∧ 130 ≤ ({ frames := f + 1, cells := r.2.2.1, slots := r.2.2.2, locals := L + 40 } : Room).locals := ⟨by show 4 ≤ f + 1; omega, by show 130 ≤ L + 40; omega⟩
  have tail : ∀ (c0 : tC) (a : Nat) (S : yS) (H : Heap) (locs : List Loc) (ls : Array Slot) (k n : Nat), r = (.inl c0, cfs S 8 (S.1 8 - 1), k, n) → TKX Z q t S s H locs → SumH Z (N + 1) (rg s.heap.size H.size) H c0 a → lv_has ls 4 [(0, .ref q), (2, .ref a)] → W p l e ({ frames := f + 1, cells := r.2.2.1, slots := r.2.2.2, locals := L + 40 } : Room) s m args below meth cd H locs k n Q (F0 m 284 ls []) := by
    intro c0 a S H locs ls k n hr hM hT hl
    subst hr
    refine lv_aload_n hx hbb dX6_one_284 rfl (lv_at hl 0 rfl) ?_
    refine lv_dup hx hbb dX6_one_285 rfl ?_
    refine tm_get X hM tf_open q556 rfl dX6_one_286 ?_
    refine lv_iconst (v := zi 1) hx hbb dX6_one_289 rfl ?_
    refine g_isub hx hbb dX6_one_290 ?_
    refine tm_putF X hM dX6_one_291 (fun H1 locs1 hM1 hz hk => ?_)
    refine lv_aload_n hx hbb dX6_one_294 rfl (lv_at hl 1 rfl) ?_
    exact hret _ _ _ _ _ dX6_one_295 ⟨c0, a, rfl, rfl, hM1.1, by rw [hz]; exact hT.keep (fun x hx hxl => hk x (by rcases hx with v | v; (have := v.1; omega); omega))⟩ hM1.2
  unfold T_oneB at hh
  obtain ⟨g1, hh⟩ := gd_inv hh
  refine lv_aload_n hx hbb dX6_one_0 rfl (lv_at hl 0 rfl) ?_
  refine tm_get X hM tf_sort q554 rfl dX6_one_1 ?_
  refine lv_istore_n (lv' := [(1, .int (zi (S.1 6))), (0, .ref q)]) hx hbb dX6_one_4 rfl hl (by decide) rfl (fun ls hl => ?_)
  refine lv_iload_n hx hbb dX6_one_5 rfl (lv_at hl 0 rfl) ?_
  refine lv_sipush (v := zi 300) hx hbb dX6_one_6 (by decide) ?_
  refine g_icmp_ne (tgt := 28) hx hbb ⟨g1, by decide⟩ dX6_one_9 (by decide) (fun c1 => ?_) (fun c1 => ?_)
  · replace hh := it_t c1 hh
    obtain ⟨r0, S1, k0, hge, hxe, hxs⟩ := tbN (mon_lf 0) hh
    refine nw_X11 X hS (show 0 + 1 ≤ r.2.2.1 by omega) (show 0 + 1 ≤ r.2.2.2 by omega) dX6_one_12 (fun H1 hN z1 o1 hS1 => ?_)
    have hMN : TKX Z q t S s H1 [] := ⟨hP.keep o1, hS1⟩
    refine lv_dup hx hbb dX6_one_15 rfl ?_
    refine lv_aload_n hx hbb dX6_one_16 rfl (lv_at hl 1 rfl) ?_
    refine lv_iconst (v := zi 0) hx hbb dX6_one_17 rfl ?_
    refine lv_sipush (v := zi 9999) hx hbb dX6_one_18 (by decide) ?_
    refine tkN (rest := [.ref s.heap.size, .ref s.heap.size]) htr X hMN k0 rng ⟨show 0 + 1 + 1 ≤ r.2.2.1 by omega, show 0 + 1 + 8 ≤ r.2.2.2 by omega⟩ hl.1 (Nat.le_of_ble_eq_true rfl) dX6_one_21 (fun z H2 locs2 hz hM2 hfr2 => ?_) (fun x H2 locs2 f0 p0 hz hO hS2 => ?_)
    · have hr := hxs z hz
      cases Option.some.inj hr
      have hN2 := va_at_keep hN (hfr2.2 s.heap.size (by omega) (ntf _ (Or.inl (by omega))))
      have z2 := hfr2.1
      refine ni_X11 (rest := [.ref s.heap.size]) X hM2.2 hF (by omega) hN2 (Or.inr (by omega)) rni ⟨show 0 + 1 + 1 ≤ 1 + 1 by omega, show 0 + 1 + 8 ≤ 1 + 8 by omega⟩ hl.1 (Nat.le_of_ble_eq_true rfl) dX6_one_24 (fun H3 locs3 hN3 hfr3 hS3 => ?_)
      have z3 := hfr3.1
      exact hret _ _ _ _ _ dX6_one_27 ⟨_, s.heap.size, rfl, rfl, hM2.1.keep4 (fun x hx => hfr3.2 x (by rcases hx with rfl | rfl | rfl | rfl <;> omega) (by show ¬ x = _; rcases hx with rfl | rfl | rfl | rfl <;> omega)), ⟨by omega, by omega⟩, Or.inl ⟨z, hN3, rfl⟩⟩ hS3
    · have hr := hxe (f0, p0) hz
      subst hr
      exact hthr _ _ _ _ _ _ ⟨f0, p0, rfl, hO⟩ hS2
  replace hh := it_f c1 hh
  refine lv_iload_n hx hbb dX6_one_28 rfl (lv_at hl 0 rfl) ?_
  refine lv_sipush (v := zi 305) hx hbb dX6_one_29 (by decide) ?_
  refine g_icmp_ne (tgt := 71) hx hbb ⟨g1, by decide⟩ dX6_one_32 (by decide) (fun c2 => ?_) (fun c2 => ?_)
  · replace hh := it_t c2 hh
    obtain ⟨g2, hh⟩ := gd_inv hh
    obtain ⟨g3, hh⟩ := gd_inv hh
    refine lv_aload_n hx hbb dX6_one_35 rfl (lv_at hl 1 rfl) ?_
    refine tm_get X hM tf_told q550 rfl dX6_one_36 ?_
    refine lv_aload_n hx hbb dX6_one_39 rfl (lv_at hl 1 rfl) ?_
    refine tm_get X hM tf_number q555 rfl dX6_one_40 ?_
    refine tm_told X hM g2 dX6_one_43 ?_
    refine g_if_ne (tgt := 53) hx hbb g3 dX6_one_44 (by decide) (fun c3 => ?_) (fun c3 => ?_)
    · replace hh := it_t c3 hh
      cases Option.some.inj hh
      refine lv_aload_n hx hbb dX6_one_47 rfl (lv_at hl 1 rfl) ?_
      refine lv_iconst (v := zi 5) hx hbb dX6_one_48 rfl ?_
      refine tk_wrong (rest := []) htr X hM rwr ⟨Nat.le_refl _, Nat.le_refl _⟩ hl.1 (Nat.le_of_ble_eq_true rfl) dX6_one_49 dX6_one_52 (fun x H1 locs1 hO hS => ?_)
      exact hthr _ _ _ _ _ _ ⟨5, S.1 5, rfl, hO⟩ hS
    · replace hh := it_f c3 hh
      obtain ⟨S1, k1, hh⟩ := bd_inv hh
      cases Option.some.inj hh
      refine nw_X12 X hS (Nat.le_refl _) (Nat.le_refl _) dX6_one_53 (fun H1 hN z1 o1 hS1 => ?_)
      have hM1 : TKX Z q t S s H1 [] := ⟨hP.keep o1, hS1⟩
      refine lv_dup hx hbb dX6_one_56 rfl ?_
      refine lv_aload_n hx hbb dX6_one_57 rfl (lv_at hl 1 rfl) ?_
      refine tm_get X hM1 tf_number q555 rfl dX6_one_58 ?_
      refine ni_X12 (rest := [.ref s.heap.size]) X hS1 hF (by omega) hN (Or.inr (Nat.le_refl _)) rni ⟨Nat.le_refl _, Nat.le_refl _⟩ hl.1 (Nat.le_of_ble_eq_true rfl) dX6_one_61 (fun H2 locs2 hN2 hfr2 hS2 => ?_)
      have z2 := hfr2.1
      have hM2 : TKX Z q t S s H2 locs2 := ⟨hM1.1.keep4 (fun x hx => hfr2.2 x (by rcases hx with rfl | rfl | rfl | rfl <;> omega) (by show ¬ x = _; rcases hx with rfl | rfl | rfl | rfl <;> omega)), hS2⟩
      refine lv_astore_n (lv' := [(2, .ref s.heap.size), (1, .int (zi (S.1 6))), (0, .ref q)]) hx hbb dX6_one_64 rfl hl (by decide) rfl (fun ls hl => ?_)
      refine lv_aload_n hx hbb dX6_one_65 rfl (lv_at hl 2 rfl) ?_
      refine tk_next X hM2 k1 rnx ⟨Nat.le_refl _, Nat.le_refl _⟩ hl.1 (Nat.le_of_ble_eq_true rfl) dX6_one_66 (fun H3 locs3 hM3 hfr3 => ?_)
      have z3 := hfr3.1
      refine lv_aload_n hx hbb dX6_one_69 rfl (lv_at hl 0 rfl) ?_
      exact hret _ _ _ _ _ dX6_one_70 ⟨_, s.heap.size, rfl, rfl, hM3.1, ⟨by omega, by omega⟩, Or.inr (Or.inl ⟨S.1 7, va_at_keep hN2 (hfr3.2 s.heap.size (by omega) (ntf _ (Or.inl (Nat.le_refl _)))), rfl⟩)⟩ hM3.2
  replace hh := it_f c2 hh
  have eye : ∀ (w : Int), (S.1 6 = 207 ∧ w = 31) ∨ (S.1 6 = 208 ∧ w = 32) → bd (T_next S) (fun S1 => tb (lQ (T_number S1 0 15)) 1 1 (T_lf w)) = some r → W p l e ({ frames := f + 1, cells := r.2.2.1, slots := r.2.2.2, locals := L + 40 } : Room) s m args below meth cd s.heap [] 0 0 Q (F0 m 85 ls []) := by
    intro w hw hh
    obtain ⟨S1, k1, hh⟩ := bd_inv hh
    obtain ⟨r0, S2, k0, hge, hxe, hxs⟩ := tbN (mon_lf w) hh
    refine lv_aload_n hx hbb dX6_one_85 rfl (lv_at hl 1 rfl) ?_
    refine tk_next X hM k1 rnx ⟨Nat.zero_le _, Nat.zero_le _⟩ hl.1 (Nat.le_of_ble_eq_true rfl) dX6_one_86 (fun H0 locs0 hM0 hfr0 => ?_)
    have z0 := hfr0.1
    refine lv_iload_n hx hbb dX6_one_89 rfl (lv_at hl 0 rfl) ?_
    refine lv_sipush (v := zi 207) hx hbb dX6_one_90 (by decide) ?_
    refine g_icmp_ne (tgt := 113) hx hbb ⟨g1, by decide⟩ dX6_one_93 (by decide) (fun c4 => ?_) (fun c4 => ?_)
    · have hw31 : w = 31 := by rcases hw with v | v; exact v.2; omega
      subst hw31
      refine nw_X13 X hM0.2 (show 0 + 1 ≤ r.2.2.1 by omega) (show 0 + 1 ≤ r.2.2.2 by omega) dX6_one_96 (fun H1 hN z1 o1 hS1 => ?_)
      have hMN : TKX Z q t S1 s H1 locs0 := ⟨hM0.1.keep o1, hS1⟩
      refine lv_dup hx hbb dX6_one_99 rfl ?_
      refine lv_aload_n hx hbb dX6_one_100 rfl (lv_at hl 1 rfl) ?_
      refine lv_iconst (v := zi 0) hx hbb dX6_one_101 rfl ?_
      refine lv_bipush (v := zi 15) hx hbb dX6_one_102 (by decide) ?_
      refine tkN (rest := [.ref H0.size, .ref H0.size]) htr X hMN k0 rng ⟨show 0 + 1 + 1 ≤ r.2.2.1 by omega, show 0 + 1 + 8 ≤ r.2.2.2 by omega⟩ hl.1 (Nat.le_of_ble_eq_true rfl) dX6_one_104 (fun z H2 locs2 hz hM2 hfr2 => ?_) (fun x H2 locs2 f0 p0 hz hO hS2 => ?_)
      · have hr := hxs z hz
        cases Option.some.inj hr
        have hN2 := va_at_keep hN (hfr2.2 H0.size (by omega) (ntf _ (Or.inl (by omega))))
        have z2 := hfr2.1
        refine ni_X13 (rest := [.ref H0.size]) X hM2.2 hF (by omega) hN2 (Or.inr (by omega)) rni ⟨show 0 + 1 + 1 ≤ 1 + 1 by omega, show 0 + 1 + 8 ≤ 1 + 8 by omega⟩ hl.1 (Nat.le_of_ble_eq_true rfl) dX6_one_107 (fun H3 locs3 hN3 hfr3 hS3 => ?_)
        have z3 := hfr3.1
        refine lv_goto (tgt := 127) hx hbb dX6_one_110 (by decide) ?_
        exact hret _ _ _ _ _ dX6_one_127 ⟨_, H0.size, rfl, rfl, hM2.1.keep4 (fun x hx => hfr3.2 x (by rcases hx with rfl | rfl | rfl | rfl <;> omega) (by show ¬ x = _; rcases hx with rfl | rfl | rfl | rfl <;> omega)), ⟨by omega, by omega⟩, Or.inr (Or.inr (Or.inl ⟨z, hN3, rfl⟩))⟩ hS3
      · have hr := hxe (f0, p0) hz
        subst hr
        exact hthr _ _ _ _ _ _ ⟨f0, p0, rfl, hO⟩ hS2
    · have hw32 : w = 32 := by rcases hw with v | v; (exact absurd v.1 c4); exact v.2
      subst hw32
      refine nw_X14 X hM0.2 (show 0 + 1 ≤ r.2.2.1 by omega) (show 0 + 1 ≤ r.2.2.2 by omega) dX6_one_113 (fun H1 hN z1 o1 hS1 => ?_)
      have hMN : TKX Z q t S1 s H1 locs0 := ⟨hM0.1.keep o1, hS1⟩
      refine lv_dup hx hbb dX6_one_116 rfl ?_
      refine lv_aload_n hx hbb dX6_one_117 rfl (lv_at hl 1 rfl) ?_
      refine lv_iconst (v := zi 0) hx hbb dX6_one_118 rfl ?_
      refine lv_bipush (v := zi 15) hx hbb dX6_one_119 (by decide) ?_
      refine tkN (rest := [.ref H0.size, .ref H0.size]) htr X hMN k0 rng ⟨show 0 + 1 + 1 ≤ r.2.2.1 by omega, show 0 + 1 + 8 ≤ r.2.2.2 by omega⟩ hl.1 (Nat.le_of_ble_eq_true rfl) dX6_one_121 (fun z H2 locs2 hz hM2 hfr2 => ?_) (fun x H2 locs2 f0 p0 hz hO hS2 => ?_)
      · have hr := hxs z hz
        cases Option.some.inj hr
        have hN2 := va_at_keep hN (hfr2.2 H0.size (by omega) (ntf _ (Or.inl (by omega))))
        have z2 := hfr2.1
        refine ni_X14 (rest := [.ref H0.size]) X hM2.2 hF (by omega) hN2 (Or.inr (by omega)) rni ⟨show 0 + 1 + 1 ≤ 1 + 1 by omega, show 0 + 1 + 8 ≤ 1 + 8 by omega⟩ hl.1 (Nat.le_of_ble_eq_true rfl) dX6_one_124 (fun H3 locs3 hN3 hfr3 hS3 => ?_)
        have z3 := hfr3.1
        exact hret _ _ _ _ _ dX6_one_127 ⟨_, H0.size, rfl, rfl, hM2.1.keep4 (fun x hx => hfr3.2 x (by rcases hx with rfl | rfl | rfl | rfl <;> omega) (by show ¬ x = _; rcases hx with rfl | rfl | rfl | rfl <;> omega)), ⟨by omega, by omega⟩, Or.inr (Or.inr (Or.inr (Or.inl ⟨z, hN3, rfl⟩)))⟩ hS3
      · have hr := hxe (f0, p0) hz
        subst hr
        exact hthr _ _ _ _ _ _ ⟨f0, p0, rfl, hO⟩ hS2
  refine lv_iload_n hx hbb dX6_one_71 rfl (lv_at hl 0 rfl) ?_
  refine lv_sipush (v := zi 207) hx hbb dX6_one_72 (by decide) ?_
  refine g_icmp_eq (tgt := 85) hx hbb ⟨g1, by decide⟩ dX6_one_75 (by decide) (fun c3 => eye 31 (Or.inl ⟨c3, rfl⟩) (it_t c3 hh)) (fun c3 => ?_)
  replace hh := it_f c3 hh
  refine lv_iload_n hx hbb dX6_one_78 rfl (lv_at hl 0 rfl) ?_
  refine lv_sipush (v := zi 208) hx hbb dX6_one_79 (by decide) ?_
  refine g_icmp_ne (tgt := 128) hx hbb ⟨g1, by decide⟩ dX6_one_82 (by decide) (fun c4 => eye 32 (Or.inr ⟨c4, rfl⟩) (it_t c4 hh)) (fun c4 => ?_)
  replace hh := it_f c4 hh
  refine lv_iload_n hx hbb dX6_one_128 rfl (lv_at hl 0 rfl) ?_
  refine lv_sipush (v := zi 209) hx hbb dX6_one_129 (by decide) ?_
  refine g_icmp_ne (tgt := 147) hx hbb ⟨g1, by decide⟩ dX6_one_132 (by decide) (fun c5 => ?_) (fun c5 => ?_)
  · replace hh := it_t c5 hh
    obtain ⟨S1, k1, hh⟩ := bd_inv hh
    cases Option.some.inj hh
    refine lv_aload_n hx hbb dX6_one_135 rfl (lv_at hl 1 rfl) ?_
    refine tk_next X hM k1 rnx ⟨Nat.zero_le _, Nat.zero_le _⟩ hl.1 (Nat.le_of_ble_eq_true rfl) dX6_one_136 (fun H0 locs0 hM0 hfr0 => ?_)
    have z0 := hfr0.1
    refine nw_X15 X hM0.2 (Nat.le_refl _) (Nat.le_refl _) dX6_one_139 (fun H1 hN z1 o1 hS1 => ?_)
    refine lv_dup hx hbb dX6_one_142 rfl ?_
    refine ni_X15 (rest := [.ref H0.size]) X hS1 hF (by omega) hN (Or.inr z0) rni ⟨Nat.le_refl _, Nat.le_refl _⟩ hl.1 (Nat.le_of_ble_eq_true rfl) dX6_one_143 (fun H2 locs2 hN2 hfr2 hS2 => ?_)
    have z2 := hfr2.1
    exact hret _ _ _ _ _ dX6_one_146 ⟨_, H0.size, rfl, rfl, (hM0.1.keep o1).keep4 (fun x hx => hfr2.2 x (by rcases hx with rfl | rfl | rfl | rfl <;> omega) (by show ¬ x = _; rcases hx with rfl | rfl | rfl | rfl <;> omega)), ⟨by omega, by omega⟩, Or.inr (Or.inr (Or.inr (Or.inr (Or.inl ⟨hN2, rfl⟩))))⟩ hS2
  replace hh := it_f c5 hh
  refine lv_iload_n hx hbb dX6_one_147 rfl (lv_at hl 0 rfl) ?_
  refine lv_bipush (v := zi 40) hx hbb dX6_one_148 (by decide) ?_
  refine g_icmp_ne (tgt := 171) hx hbb ⟨g1, by decide⟩ dX6_one_150 (by decide) (fun c6 => ?_) (fun c6 => ?_)
  · replace hh := it_t c6 hh
    obtain ⟨ra, Sa, ka, hgea, hxea, hxsa⟩ := tbE (mon_par0 sum) hh
    refine lv_aload_n hx hbb dX6_one_153 rfl (lv_at hl 1 rfl) ?_
    refine tkE (As := []) (rest := []) X hM (wT_opens l htr Z q t S s.heap.size ka) (lw_V q757 q759 qs22 q94 q760) (show hdV yX6_opens "ManyEyes$Tokens" 0 by decide +kernel) ⟨by show 9 ≤ f + 1; omega, by show 8 + (1 + 11) + 360 ≤ L + 40; omega⟩ hgea hl.1 (Nat.le_of_ble_eq_true rfl) dX6_one_154 rfl (fun Ha locsa hz hMa hfra => ?_) (fun x H2 locs2 f0 p0 hz hO hS2 => by
      have hr := hxea (f0, p0) hz
      subst hr
      exact hthr _ _ _ _ _ _ ⟨f0, p0, rfl, hO⟩ hS2)
    replace hh := hxsa hz
    have za := hfra.1
    obtain ⟨rb, kb, hgeb, hxeb, hxsb⟩ := tbT mon_par1 hh
    refine lv_aload_n hx hbb dX6_one_157 rfl (lv_at hl 1 rfl) ?_
    refine tk_tree (rest := []) X hMa (hsum Sa rb Ha.size kb) (lw_V q774 q776 qs23 q94 q777) (show hdV yX6_sum "ManyEyes$Tokens" 0 by decide +kernel) ⟨Nat.le_refl _, by show 8 + (3 + 11) + L ≤ L + 40; omega⟩ hgeb hl.1 (Nat.le_of_ble_eq_true rfl) dX6_one_158 (fun c1_ aT Hb locsb hc hMb hT hfrb => ?_) (fun x H2 locs2 hx hS2 => by
      obtain ⟨f0, p0, hz, hO⟩ := hx
      have hr := hxeb (f0, p0) hz
      subst hr
      exact hthr _ _ _ _ _ _ ⟨f0, p0, rfl, hO⟩ hS2)
    replace hh := hxsb c1_ hc
    have zb := hfrb.1
    refine lv_astore_n (lv' := [(2, .ref aT), (1, .int (zi (S.1 6))), (0, .ref q)]) hx hbb dX6_one_161 rfl hl (by decide) rfl (fun ls hl => ?_)
    obtain ⟨rc, Sc, kc, hgec, hxec, hxsc⟩ := tbE (mon_par2 c1_) hh
    refine lv_aload_n hx hbb dX6_one_162 rfl (lv_at hl 2 rfl) ?_
    refine lv_bipush (v := zi 41) hx hbb dX6_one_163 (by decide) ?_
    refine tkE (As := [.int (zi 41)]) (rest := []) X hMb (wT_want l htr Z q t rb.2.1 41 Hb.size kc) (lw_V q839 q841 qs27 q94 q842) (show hdV yX6_want "ManyEyes$Tokens" 1 by decide +kernel) ⟨by show 9 ≤ f + 1; omega, by show 8 + (2 + 11) + 360 ≤ L + 40; omega⟩ hgec hl.1 (Nat.le_of_ble_eq_true rfl) dX6_one_165 rfl (fun Hc locsc hz hMc hfrc => ?_) (fun x H2 locs2 f0 p0 hz hO hS2 => by
      have hr := hxec (f0, p0) hz
      subst hr
      exact hthr _ _ _ _ _ _ ⟨f0, p0, rfl, hO⟩ hS2)
    replace hh := hxsc hz
    have zc := hfrc.1
    refine lv_goto (tgt := 284) hx hbb dX6_one_168 (by decide) ?_
    exact tail _ aT _ _ _ ls _ _ (Option.some.inj hh).symm hMc (((tr hT (by omega) hfrc).mono (fun x hx => ⟨by have := hx.1; omega, by have := hx.2; omega⟩)).up1) (lv_sub hl [2, 0] rfl)
  replace hh := it_f c6 hh
  refine lv_iload_n hx hbb dX6_one_171 rfl (lv_at hl 0 rfl) ?_
  refine lv_bipush (v := zi 45) hx hbb dX6_one_172 (by decide) ?_
  refine g_icmp_ne (tgt := 196) hx hbb ⟨g1, by decide⟩ dX6_one_174 (by decide) (fun c7 => ?_) (fun c7 => ?_)
  · replace hh := it_t c7 hh
    obtain ⟨ra, Sa, ka, hgea, hxea, hxsa⟩ := tbE (mon_min0 one) hh
    refine lv_aload_n hx hbb dX6_one_177 rfl (lv_at hl 1 rfl) ?_
    refine tkE (As := []) (rest := []) X hM (wT_opens l htr Z q t S s.heap.size ka) (lw_V q757 q759 qs22 q94 q760) (show hdV yX6_opens "ManyEyes$Tokens" 0 by decide +kernel) ⟨by show 9 ≤ f + 1; omega, by show 8 + (1 + 11) + 360 ≤ L + 40; omega⟩ hgea hl.1 (Nat.le_of_ble_eq_true rfl) dX6_one_178 rfl (fun Ha locsa hz hMa hfra => ?_) (fun x H2 locs2 f0 p0 hz hO hS2 => by
      have hr := hxea (f0, p0) hz
      subst hr
      exact hthr _ _ _ _ _ _ ⟨f0, p0, rfl, hO⟩ hS2)
    replace hh := hxsa hz
    have za := hfra.1
    obtain ⟨r2, k2, hge2, hxe2, hxs2⟩ := tbT mon_min1 hh
    refine nw_X16 X hMa.2 (show 0 + 1 + 1 ≤ r.2.2.1 by omega) (show 0 + 8 + 1 ≤ r.2.2.2 by omega) dX6_one_181 (fun H1 hN z1 o1 hS1 => ?_)
    have hM1 : TKX Z q t Sa s H1 locsa := ⟨hMa.1.keep o1, hS1⟩
    refine lv_dup hx hbb dX6_one_184 rfl ?_
    refine lv_aload_n hx hbb dX6_one_185 rfl (lv_at hl 1 rfl) ?_
    refine tk_tree (rest := [.ref Ha.size, .ref Ha.size]) X hM1 (hone Sa r2 H1.size k2) (lw_V q784 q786 qs25 q94 q787) (show hdV yX6_one "ManyEyes$Tokens" 0 by decide +kernel) ⟨by show fo + 1 ≤ f + 1; omega, by show 8 + (4 + 11) + Lo ≤ L + 40; omega⟩ hge2 hl.1 (Nat.le_of_ble_eq_true rfl) dX6_one_186 (fun c0 a H2 locs2 hc hM2 hT2 hfr2 => ?_) (fun x H2 locs2 hx hS2 => ?_)
    · have hr := hxs2 c0 hc
      have z2 := hfr2.1
      have hN2 := va_at_keep hN (hfr2.2 Ha.size (by omega) (ntf _ (Or.inl (by omega))))
      refine ni_X16 (rest := [.ref Ha.size]) X hM2.2 hF (by omega) hN2 (Or.inr (by omega)) rni hge2 hl.1 (Nat.le_of_ble_eq_true rfl) dX6_one_189 (fun H3 locs3 hN3 hfr3 hS3 => ?_)
      have z3 := hfr3.1
      have hM3 : TKX Z q t r2.2.1 s H3 locs3 := ⟨hM2.1.keep4 (fun x hx => hfr3.2 x (by rcases hx with rfl | rfl | rfl | rfl <;> omega) (by show ¬ x = _; rcases hx with rfl | rfl | rfl | rfl <;> omega)), hS3⟩
      refine lv_astore_n (lv' := [(2, .ref Ha.size), (1, .int (zi (S.1 6))), (0, .ref q)]) hx hbb dX6_one_192 rfl hl (by decide) rfl (fun ls hl => ?_)
      refine lv_goto (tgt := 284) hx hbb dX6_one_193 (by decide) ?_
      have hT3 : SumH Z N (rg s.heap.size H3.size) H3 c0 a := ((hT2.keep (fun x hx hxl => hfr3.2 x hxl (by show ¬ x = _; rcases hx with v | v; (have := v.1; omega); omega))).mono (fun x hx => ⟨by have := hx.1; omega, by have := hx.2; omega⟩)).up go.2.2
      exact tail _ Ha.size _ _ _ ls _ _ (Option.some.inj hr).symm hM3 ⟨⟨by omega, by omega⟩, Or.inr (Or.inr (Or.inr (Or.inr (Or.inr (Or.inl ⟨a, c0, hN3, hT3, rfl⟩)))))⟩ (lv_sub hl [2, 0] rfl)
    · obtain ⟨f0, p0, hz, hO⟩ := hx
      have hr := hxe2 (f0, p0) hz
      subst hr
      exact hthr _ _ _ _ _ _ ⟨f0, p0, rfl, hO⟩ hS2
  replace hh := it_f c7 hh
  have mm : ∀ (b : Bool), (S.1 6 = 210 ∧ b = false) ∨ (S.1 6 = 211 ∧ b = true) → T_mm sum b S = some r → W p l e ({ frames := f + 1, cells := r.2.2.1, slots := r.2.2.2, locals := L + 40 } : Room) s m args below meth cd s.heap [] 0 0 Q (F0 m 210 ls []) := by
    intro b hb hh
    unfold T_mm at hh
    obtain ⟨S0, k1, hh⟩ := bd_inv hh
    obtain ⟨g2, hh⟩ := gd_inv hh
    refine lv_aload_n hx hbb dX6_one_210 rfl (lv_at hl 1 rfl) ?_
    refine tk_next X hM k1 rnx ⟨Nat.zero_le _, Nat.zero_le _⟩ hl.1 (Nat.le_of_ble_eq_true rfl) dX6_one_211 (fun H0 locs0 hM0 hfr0 => ?_)
    have z0 := hfr0.1
    refine lv_aload_n hx hbb dX6_one_214 rfl (lv_at hl 1 rfl) ?_
    refine tm_get X hM0 tf_sort q554 rfl dX6_one_215 ?_
    refine lv_bipush (v := zi 40) hx hbb dX6_one_218 (by decide) ?_
    refine g_icmp_eq (tgt := 229) hx hbb ⟨g2, by decide⟩ dX6_one_220 (by decide) (fun c8 => ?_) (fun c8 => ?_)
    · replace hh := it_t c8 hh
      obtain ⟨ra, Sa, ka, hgea, hxea, hxsa⟩ := tbE (mon_mm0 sum b) hh
      refine lv_aload_n hx hbb dX6_one_229 rfl (lv_at hl 1 rfl) ?_
      refine tkE (As := []) (rest := []) X hM0 (wT_opens l htr Z q t S0 H0.size ka) (lw_V q757 q759 qs22 q94 q760) (show hdV yX6_opens "ManyEyes$Tokens" 0 by decide +kernel) ⟨by show 9 ≤ f + 1; omega, by show 8 + (1 + 11) + 360 ≤ L + 40; omega⟩ hgea hl.1 (Nat.le_of_ble_eq_true rfl) dX6_one_230 rfl (fun Ha locsa hz hMa hfra => ?_) (fun x H2 locs2 f0 p0 hz hO hS2 => by
        have hr := hxea (f0, p0) hz
        subst hr
        exact hthr _ _ _ _ _ _ ⟨f0, p0, rfl, hO⟩ hS2)
      replace hh := hxsa hz
      have za := hfra.1
      obtain ⟨rb_, kb_, hgeb_, hxeb_, hxsb_⟩ := tbT (mon_mm1 sum b) hh
      refine lv_aload_n hx hbb dX6_one_233 rfl (lv_at hl 1 rfl) ?_
      refine tk_tree (rest := []) X hMa (hsum Sa rb_ Ha.size kb_) (lw_V q774 q776 qs23 q94 q777) (show hdV yX6_sum "ManyEyes$Tokens" 0 by decide +kernel) ⟨Nat.le_refl _, by show 8 + (3 + 11) + L ≤ L + 40; omega⟩ hgeb_ hl.1 (Nat.le_of_ble_eq_true rfl) dX6_one_234 (fun c1_ aT Hb_ locsb_ hc hMb_ hT hfrb_ => ?_) (fun x H2 locs2 hx hS2 => by
        obtain ⟨f0, p0, hz, hO⟩ := hx
        have hr := hxeb_ (f0, p0) hz
        subst hr
        exact hthr _ _ _ _ _ _ ⟨f0, p0, rfl, hO⟩ hS2)
      replace hh := hxsb_ c1_ hc
      have zb_ := hfrb_.1
      refine lv_astore_n (lv' := [(3, .ref aT), (1, .int (zi (S.1 6))), (0, .ref q)]) hx hbb dX6_one_237 rfl hl (by decide) rfl (fun ls hl => ?_)
      obtain ⟨rc, Sc, kc, hgec, hxec, hxsc⟩ := tbE (mon_mm2 sum b c1_) hh
      refine lv_aload_n hx hbb dX6_one_238 rfl (lv_at hl 2 rfl) ?_
      refine lv_bipush (v := zi 44) hx hbb dX6_one_239 (by decide) ?_
      refine tkE (As := [.int (zi 44)]) (rest := []) X hMb_ (wT_want l htr Z q t rb_.2.1 44 Hb_.size kc) (lw_V q839 q841 qs27 q94 q842) (show hdV yX6_want "ManyEyes$Tokens" 1 by decide +kernel) ⟨by show 9 ≤ f + 1; omega, by show 8 + (2 + 11) + 360 ≤ L + 40; omega⟩ hgec hl.1 (Nat.le_of_ble_eq_true rfl) dX6_one_241 rfl (fun Hc locsc hz hMc hfrc => ?_) (fun x H2 locs2 f0 p0 hz hO hS2 => by
        have hr := hxec (f0, p0) hz
        subst hr
        exact hthr _ _ _ _ _ _ ⟨f0, p0, rfl, hO⟩ hS2)
      replace hh := hxsc hz
      have zc := hfrc.1
      have hgd := tb_mon (mon_mm3 b c1_) hh
      refine nw_X17 X hMc.2 hgd.1 hgd.2 dX6_one_244 (fun Hd hN zd od hSd => ?_)
      have hMd : TKX Z q t Sc s Hd locsc := ⟨hMc.1.keep od, hSd⟩
      refine lv_dup hx hbb dX6_one_247 rfl ?_
      refine lv_iload_n hx hbb dX6_one_248 rfl (lv_at hl 1 rfl) ?_
      refine lv_sipush (v := zi 211) hx hbb dX6_one_249 (by decide) ?_
      have hT1 := tr hT (by omega) hfrc
      have go2 : W p l e ({ frames := f + 1, cells := r.2.2.1, slots := r.2.2.2, locals := L + 40 } : Room) s m args below meth cd Hd locsc (0 + 1 + rb_.2.2.1 + 1 + 1) (0 + 8 + rb_.2.2.2 + 8 + 3) Q (F0 m 260 ls [.int (zi (bz b)), .ref Hc.size, .ref Hc.size]) := by
        refine lv_aload_n hx hbb dX6_one_260 rfl (lv_at hl 0 rfl) ?_
        obtain ⟨re_, ke_, hgee_, hxee_, hxse_⟩ := tbT (mon_mm3 b c1_) hh
        refine lv_aload_n hx hbb dX6_one_261 rfl (lv_at hl 2 rfl) ?_
        refine tk_tree (rest := [.ref aT, .int (zi (bz b)), .ref Hc.size, .ref Hc.size]) X hMd (hsum Sc re_ Hd.size ke_) (lw_V q774 q776 qs23 q94 q777) (show hdV yX6_sum "ManyEyes$Tokens" 0 by decide +kernel) ⟨Nat.le_refl _, by show 8 + (3 + 11) + L ≤ L + 40; omega⟩ hgee_ hl.1 (Nat.le_of_ble_eq_true rfl) dX6_one_262 (fun c2_ aU He_ locse_ hc hMe_ hU hfre_ => ?_) (fun x H2 locs2 hx hS2 => by
          obtain ⟨f0, p0, hz, hO⟩ := hx
          have hr := hxee_ (f0, p0) hz
          subst hr
          exact hthr _ _ _ _ _ _ ⟨f0, p0, rfl, hO⟩ hS2)
        replace hh := hxse_ c2_ hc
        have ze_ := hfre_.1
        have hN2 := va_at_keep hN (hfre_.2 Hc.size (by omega) (ntf _ (Or.inl (by omega))))
        refine ni_X17 (rest := [.ref Hc.size]) X hMe_.2 hF (by omega) hN2 (Or.inr (by omega)) rni hgee_ hl.1 (Nat.le_of_ble_eq_true rfl) dX6_one_265 (fun H3 locs3 hN3 hfr3 hS3 => ?_)
        have z3 := hfr3.1
        have hM3 : TKX Z q t re_.2.1 s H3 locs3 := ⟨hMe_.1.keep4 (fun x hx => hfr3.2 x (by rcases hx with rfl | rfl | rfl | rfl <;> omega) (by show ¬ x = _; rcases hx with rfl | rfl | rfl | rfl <;> omega)), hS3⟩
        refine lv_astore_n (lv' := [(2, .ref Hc.size), (3, .ref aT), (1, .int (zi (S.1 6))), (0, .ref q)]) hx hbb dX6_one_268 rfl hl (by decide) rfl (fun ls hl => ?_)
        obtain ⟨rw_, Sw_, kw_, hgew_, hxew_, hxsw_⟩ := tbE (mon_par2 (c1_ ++ c2_ ++ [(if b then 8 else 7, 0)])) hh
        refine lv_aload_n hx hbb dX6_one_269 rfl (lv_at hl 3 rfl) ?_
        refine lv_bipush (v := zi 41) hx hbb dX6_one_270 (by decide) ?_
        refine tkE (As := [.int (zi 41)]) (rest := []) X hM3 (wT_want l htr Z q t re_.2.1 41 H3.size kw_) (lw_V q839 q841 qs27 q94 q842) (show hdV yX6_want "ManyEyes$Tokens" 1 by decide +kernel) ⟨by show 9 ≤ f + 1; omega, by show 8 + (2 + 11) + 360 ≤ L + 40; omega⟩ hgew_ hl.1 (Nat.le_of_ble_eq_true rfl) dX6_one_272 rfl (fun Hw_ locsw_ hz hMw_ hfrw_ => ?_) (fun x H2 locs2 f0 p0 hz hO hS2 => by
          have hr := hxew_ (f0, p0) hz
          subst hr
          exact hthr _ _ _ _ _ _ ⟨f0, p0, rfl, hO⟩ hS2)
        replace hh := hxsw_ hz
        have zw_ := hfrw_.1
        refine lv_goto (tgt := 284) hx hbb dX6_one_275 (by decide) ?_
        have nc : ∀ x, x < Hc.size ∨ Hd.size ≤ x → ¬ fE Hc.size x := fun x hx w => by have w : x = Hc.size := w; omega
        have hT2 : SumH Z N (rg s.heap.size Hw_.size) Hw_ c1_ aT := (tr ((tr (hT1.keep (fun x hx hxl => od x hxl)) (by omega) hfre_).keep (fun x hx hxl => hfr3.2 x hxl (nc x (Or.inl (by rcases hx with v | v; (have := v.2; omega); omega))))) (by omega) hfrw_).mono (fun x hx => ⟨by have := hx.1; omega, by have := hx.2; omega⟩)
        have hU2 : SumH Z N (rg s.heap.size Hw_.size) Hw_ c2_ aU := (tr (hU.keep (fun x hx hxl => hfr3.2 x hxl (nc x (by rcases hx with v | v; (exact Or.inr v.1); exact Or.inl (by omega))))) (by omega) hfrw_).mono (fun x hx => ⟨by have := hx.1; omega, by have := hx.2; omega⟩)
        have hN4 := va_at_keep hN3 (hfrw_.2 Hc.size (by omega) (ntf _ (Or.inl (by omega))))
        exact tail _ Hc.size _ _ _ ls _ _ (Option.some.inj hh).symm hMw_ ⟨⟨by omega, by omega⟩, Or.inr (Or.inr (Or.inr (Or.inr (Or.inr (Or.inr (Or.inl ⟨b, aT, aU, c1_, c2_, hN4, hT2, hU2, rfl⟩))))))⟩ (lv_sub hl [3, 0] rfl)
      refine g_icmp_ne (tgt := 259) hx hbb ⟨g1, by decide⟩ dX6_one_252 (by decide) (fun c9 => ?_) (fun c9 => ?_)
      · have hbt : b = true := by rcases hb with v | v; (have := v.1; omega); exact v.2
        refine lv_iconst (v := zi 1) hx hbb dX6_one_255 rfl ?_
        refine lv_goto (tgt := 260) hx hbb dX6_one_256 (by decide) ?_
        subst hbt
        exact go2
      · have hbt : b = false := by rcases hb with v | v; (exact v.2); exact absurd v.1 c9
        refine lv_iconst (v := zi 0) hx hbb dX6_one_259 rfl ?_
        subst hbt
        exact go2
    · replace hh := it_f c8 hh
      cases Option.some.inj hh
      refine lv_aload_n hx hbb dX6_one_223 rfl (lv_at hl 1 rfl) ?_
      refine lv_iconst (v := zi 1) hx hbb dX6_one_224 rfl ?_
      refine tk_wrong (rest := []) htr X hM0 rwr ⟨Nat.le_refl _, Nat.le_refl _⟩ hl.1 (Nat.le_of_ble_eq_true rfl) dX6_one_225 dX6_one_228 (fun x H1 locs1 hO hS => ?_)
      exact hthr _ _ _ _ _ _ ⟨1, S0.1 5, rfl, hO⟩ hS
  refine lv_iload_n hx hbb dX6_one_196 rfl (lv_at hl 0 rfl) ?_
  refine lv_sipush (v := zi 210) hx hbb dX6_one_197 (by decide) ?_
  refine g_icmp_eq (tgt := 210) hx hbb ⟨g1, by decide⟩ dX6_one_200 (by decide) (fun c8 => mm false (Or.inl ⟨c8, rfl⟩) (it_t c8 hh)) (fun c8 => ?_)
  replace hh := it_f c8 hh
  refine lv_iload_n hx hbb dX6_one_203 rfl (lv_at hl 0 rfl) ?_
  refine lv_sipush (v := zi 211) hx hbb dX6_one_204 (by decide) ?_
  refine g_icmp_ne (tgt := 278) hx hbb ⟨g1, by decide⟩ dX6_one_207 (by decide) (fun c9 => mm true (Or.inr ⟨c9, rfl⟩) (it_t c9 hh)) (fun c9 => ?_)
  replace hh := it_f c9 hh
  cases Option.some.inj hh
  refine lv_aload_n hx hbb dX6_one_278 rfl (lv_at hl 1 rfl) ?_
  refine lv_iconst (v := zi 1) hx hbb dX6_one_279 rfl ?_
  refine tk_wrong (rest := []) htr X hM rwr ⟨Nat.le_refl _, Nat.le_refl _⟩ hl.1 (Nat.le_of_ble_eq_true rfl) dX6_one_280 dX6_one_283 (fun x H1 locs1 hO hS => ?_)
  exact hthr _ _ _ _ _ _ ⟨1, S.1 5, rfl, hO⟩ hS
def T_one : Nat → yS → Option (tR tC)
  | 0 => fun _ => none
  | d + 1 => T_oneB (T_ch 43 45 (T_ch 42 47 (T_one d))) (T_one d)
def T_prod (d : Nat) : yS → Option (tR tC) := T_ch 42 47 (T_one d)
def T_sum (d : Nat) : yS → Option (tR tC) := T_ch 43 45 (T_prod d)
theorem wT_one (l : Launch) (htr : l.stackTraces = false) (Z : hZ) (q t : Nat) : ∀ (d : Nat) (S : yS) (r : tR tC) (n0 : Nat), T_one d S = some r → mS l yX6_one cX6_one 4 (12 + 3 * d) (400 + 120 * d) Z q t S r (3 * d) n0 := by
  intro d
  induction d with
  | zero => intro S r n0 h; exact no_some h
  | succ d ih =>
    intro S r n0 h
    exact wT_oneB l htr Z q t (T_sum d) (T_one d) (12 + 3 * d + 1 + 1) (400 + 120 * d + 40 + 40) (3 * d + 1 + 1) (12 + 3 * d) (400 + 120 * d) (3 * d) (by omega) (by omega) ⟨by omega, by omega, by omega⟩ (fun S r n0 h => wT_sum l Z q t (T_prod d) (12 + 3 * d + 1) (400 + 120 * d + 40) (3 * d + 1) (by omega) (by omega) (fun S r n0 h => wT_product l Z q t (T_one d) (12 + 3 * d) (400 + 120 * d) (3 * d) (by omega) (by omega) ih S n0 h) S n0 h) ih S n0 h
theorem wT_sumD (l : Launch) (htr : l.stackTraces = false) (Z : hZ) (q t d : Nat) (S : yS) (n0 : Nat) {r : tR tC} (h : T_sum d S = some r) : mS l yX6_sum cX6_sum 3 (14 + 3 * d) (480 + 120 * d) Z q t S r (3 * d + 2) n0 := by
  have := wT_sum l Z q t (T_prod d) (12 + 3 * d + 1) (400 + 120 * d + 40) (3 * d + 1) (by omega) (by omega) (fun S r n0 h => wT_product l Z q t (T_one d) (12 + 3 * d) (400 + 120 * d) (3 * d) (by omega) (by omega) (wT_one l htr Z q t d) S n0 h) S n0 h
  rw [show 14 + 3 * d = 12 + 3 * d + 1 + 1 by omega, show 480 + 120 * d = 400 + 120 * d + 40 + 40 by omega]
  exact this
