/-! ManyEyes.rule -/
set_option maxRecDepth 100000
abbrev hhX1 : List (Nat × Nat × Nat × Nat) := [(31, 57, 65, 175), (31, 57, 91, 0), (65, 84, 91, 0), (91, 93, 91, 0)]
def ruE (S : yS) (f pl : Int) : yS := cfs (cfs (cfs (cfs (cfs S 6 0) 7 (-1)) 6 f) 7 pl) 5 0
def ruO (S : yS) (m z n : Int) : yS := cas (cfs (cf4 (cfs (cfs S 6 0) 7 (-1)) m z n) 5 0) 2 3 (S.2 2 3 + 1)
def ruX (r : rdR) (L : List Nat) (k : Nat) : Nat := 3 + r.2.2.1 + acc L k
def ruS (r : rdR) (L : List Nat) (k : Nat) : Nat := 21 + r.2.2.2 + acs L k
theorem wf_fault : hCl tcl lw_all 1 6 "ManyEyes$Wrong" "fault" "I" := ⟨TX7, 8, RX7, rfl, in_X7, by decide, rfl, rfl, rfl⟩
theorem wf_place : hCl tcl lw_all 1 7 "ManyEyes$Wrong" "place" "I" := ⟨TX7, 8, RX7, rfl, in_X7, by decide, rfl, rfl, rfl⟩
theorem fc_inj {s : State} {C D : String} {c : ClassId} (h1 : s.vm.findClass C = some c) (h2 : s.vm.findClass D = some c) : C = D := by
  obtain ⟨k, a, b⟩ := Vm.findClass_spec h1
  obtain ⟨k', a', b'⟩ := Vm.findClass_spec h2
  cases Option.some.inj (a.symm.trans a')
  exact b.symm.trans b'
theorem RO.wider {Z : hZ} {hC : Nat} {A B : Nat → Prop} {L : List Nat} {c ed : Nat} {rs : List (List tCl)} {H : Heap} (h : RO Z hC A L c ed rs H) (hAB : ∀ x, A x → B x) (hB : ∀ x, B x → ¬ cA hC x) : RO Z hC B L c ed rs H := by
  obtain ⟨h0, h1, h2, h3, h4, h5, h6⟩ := h
  exact ⟨h0, h1, h2, h3, fun w hw => (h4 w hw).mono hAB, hB, h6⟩
theorem wC_rule (l : Launch) (htr : l.stackTraces = false) (Z : hZ) (DC : va_G) (dA : Nat → ClassId) (hC : Nat) (A : Nat → Prop) (L : List Nat) (k ed : Nat) (rs : List (List tCl)) (LI : List Nat) (kI edI : Nat) (rsI : List (List tCl)) (S : yS) (n0 : Nat) {r : rdR} (h8 : S.2 2 3 ≠ 8) (h32 : r32 (S.2 2 3)) (hh : T_rd (T_sum 9) (T_either 9 9) (tk0S (S.1 5) (S.2 471)) = some r) (gS : S.1 41 = (ed : Int) ∧ S.1 42 = (rs.length : Int)) (hr7 : rs.length ≤ 7) : mGW l yX1_rule cX1_rule 5 (some .int) hhX1 ({ frames := 60, cells := ruX r L k, slots := ruS r L k, locals := 2200 } : Room) Z DC dA [.ref hC] n0 (fun H => va_P DC ccl (cw dA hC S) H ∧ RO2 Z hC A L k ed rs LI kI edI rsI H) (fun v H => (∃ f pl, r.1 = .inr (f, pl) ∧ v = some (.int (zi (-1))) ∧ va_P DC ccl (cw dA hC (ruE S f pl)) H ∧ RO2 Z hC A L k ed rs LI kI edI rsI H) ∨ ∃ (cs : List tCl) (a : Nat) (A' : Nat → Prop) (ed' : Nat) (m : Int), r.1 = .inl cs ∧ v = some (.int (zi (S.2 2 3 + 1 - 1))) ∧ va_P DC ccl (cw dA hC (ruO S m (ed' : Int) ((rs.length : Int) + 1))) H ∧ RO2 Z hC A' (L ++ [a]) (ncap L k) ed' (rs ++ [cs]) LI kI edI rsI H ∧ ∀ x, A' x → A x ∨ n0 ≤ x) (beF hC k ed) (ruX r L k) (ruS r L k) := by
  refine goGWi (by decide +kernel) (Nat.le_of_ble_eq_true rfl) ?_
  intro p e s m args below meth c Q ls X htab hret hl hP hn hS
  subst hn
  have XH := fcx_h X
  have XC := fcx_c X
  have hx := X.1.1
  have hb := X.1.2.1
  have hown := X.1.2.2.2.1
  have hts := X.1.2.2.2.2
  obtain ⟨hP0, hR0⟩ := hP
  obtain ⟨hO, hOI, hne, hA1, hA2, hAb, ⟨hr8, hk10⟩, hrI8, hkI10⟩ := id hR0
  have hlen : rs.length = L.length := hO.2.2.2.1
  have hFc : ∀ a, cA hC a → Z.b ≤ a := fun a h => Nat.le_trans hO.1 h.1
  have hFb : ∀ a, beF hC k ed a → Z.b ≤ a := by
    intro a h
    rcases h with h | h
    · exact hFc a h
    · rcases hO.2.1 with w | w
      · omega
      · rw [h.2]; exact w.2.2.2.1
  have hsz : ∀ x, cA hC x → x < s.heap.size := by
    intro x hx
    have h1 : x = hC + (x - hC) := by have := hx.1; omega
    have h2 := va_at_lt (hP0 (x - hC) _ (cw_at (by have := hx.2; omega)))
    rw [← h1] at h2
    exact h2
  have edlt : 10 ≤ k → ed < s.heap.size := by
    intro h10
    rcases hO.2.1 with w | w
    · omega
    · exact w.2.2.2.2.lt
  have edIlt : 10 ≤ kI → edI < s.heap.size := by
    intro h10
    rcases hOI.2.1 with w | w
    · omega
    · exact w.2.2.2.2.lt
  have hM : CX DC dA hC (hA (cA hC) s.heap.size) S s s.heap [] := ⟨hP0, va_S.rf, fun q h => Or.inl h⟩
  replace hl : lv_has ls 5 [(0, .ref hC)] := hl
  refine lv_aload_n hx hb dX1_rule_0 rfl (lv_at hl 0 rfl) ?_
  refine cm_get XC hM q379 (cf_0_0 _ _ _) rfl dX1_rule_1 ?_
  refine cm_getN XC hM q161 (cf_1_0 _ _ _) rfl dX1_rule_4 ?_
  refine lv_iconst (v := zi 3) hx hb dX1_rule_7 rfl ?_
  refine cm_iald (qz := 2) XC hM ci_2 rfl rfl (by decide) dX1_rule_8 ?_
  refine lv_bipush (v := zi 8) hx hb dX1_rule_9 (by decide) ?_
  refine g_icmp_ne (tgt := 16) hx hb ⟨h32, by decide⟩ dX1_rule_11 (by decide) (fun c1 => absurd c1 h8) (fun c1 => ?_)
  refine lv_aload_n hx hb dX1_rule_16 rfl (lv_at hl 0 rfl) ?_
  refine cm_get XC hM q384 (cf_0_5 _ _ _) rfl dX1_rule_17 ?_
  refine lv_istore_n (lv' := [(1, .int (zi (S.1 5))), (0, .ref hC)]) hx hb dX1_rule_20 rfl hl (by decide) rfl (fun ls hl => ?_)
  refine lv_aload_n hx hb dX1_rule_21 rfl (lv_at hl 1 rfl) ?_
  refine lv_iconst (v := zi 0) hx hb dX1_rule_22 rfl ?_
  refine cm_put XC hM q385 (cp_0_6 _ _ _ _) rfl dX1_rule_23 (fun Ha locsa Sa ea hM => ?_)
  subst ea
  refine lv_aload_n hx hb dX1_rule_26 rfl (lv_at hl 1 rfl) ?_
  refine lv_iconst (v := zi (-1)) hx hb dX1_rule_27 rfl ?_
  refine cm_put XC hM q386 (cp_0_7 _ _ _ _) rfl dX1_rule_28 (fun Hb locsb Sb eb hM => ?_)
  refine lv_aload_n hx hb dX1_rule_31 rfl (lv_at hl 1 rfl) ?_
  refine cm_get XC hM q379 (cf_0_0 _ _ _) rfl dX1_rule_32 ?_
  refine cm_getN XC hM q179 (cf_1_9 _ _ _) rfl dX1_rule_35 ?_
  refine h_new (fs := [.null, .int 0, .null, .null, .int 0, .int 0, .int 0, .int 0, .int 0]) X.1 X.2.1.1 hM.2.1 (fun q h => Or.inr h) (ci := 0) rfl in_X6 tyX6 tyX6_ok q542 q543 q94 (fun k hk => by
    have hh : k = 0 ∨ k = 1 ∨ k = 2 ∨ k = 3 ∨ k = 4 ∨ k = 5 ∨ k = 6 ∨ k = 7 ∨ k = 8 := by omega
    rcases hh with rfl | rfl | rfl | rfl | rfl | rfl | rfl | rfl | rfl <;> rfl) (show 0 + 1 ≤ ruX r L k by unfold ruX; omega) (show 0 + 9 ≤ ruS r L k by unfold ruS; omega) dX1_rule_38 (fun H1 hT1 z1 o1 hS1 => ?_)
  have hP1 : va_P DC ccl (cw dA hC Sb) H1 := hM.1.kept (fun k q hq => o1 q.1 (va_at_lt (hM.1 k q hq)))
  have hbs : s.heap.size ≤ Hb.size := hM.2.1.1
  have hM1 : CX DC dA hC (hA (cA hC) s.heap.size) Sb s H1 locsb := ⟨hP1, hS1, fun q h => Or.inl h⟩
  refine lv_dup hx hb dX1_rule_41 rfl ?_
  refine lv_aload_n hx hb dX1_rule_42 rfl (lv_at hl 1 rfl) ?_
  refine cm_get XC hM1 q383 (cf_0_4 _ _ _) rfl dX1_rule_43 ?_
  refine lv_iload_n hx hb dX1_rule_46 rfl (lv_at hl 0 rfl) ?_
  have hS471 : Sb.2 471 = S.2 471 := by rw [eb]; rfl
  have hTap : va_at Z.D tcl (hC + 471, .inl (Z.d 1, 300, .inl (fun j => zi (S.2 471 j)))) H1 := by
    rw [← lk_byte X.2.2 X.2.1, ← hS471]
    exact hP1 471 _ (cw_at (by decide))
  have h471 : hC + 471 < s.heap.size := hsz _ ⟨by omega, by omega⟩
  have hTI := w_tkI l Z Hb.size (hC + 471) (Nat.le_trans X.2.1.2.2 hbs) (by omega) (S.1 5) (S.2 471)
  rw [← z1] at hTI
  refine hcI (As := [.ref (hC + 471), .int (zi (S.1 5))]) (rest := [.ref Hb.size, .ref (hC + 235)]) (b := Hb.size) XH hS1 hFc hTI ⟨hT1, hTap⟩ (fun x h => Or.inr (by rw [h]; exact hbs)) (cwI 2 hts (lw_meth q546) rfl rfl rfl (hts _ q94) (hts _ q544) (hts _ q545) rfl (show hdS yX6_init 2 by decide +kernel) ⟨Nat.le_of_ble_eq_true rfl, Nat.le_of_ble_eq_true rfl⟩) ⟨rfl, rfl⟩ ⟨Nat.le_of_ble_eq_true rfl, Nat.le_of_ble_eq_true rfl⟩ ⟨show 0 + 1 + 2 ≤ ruX r L k by unfold ruX; omega, show 0 + 9 + 12 ≤ ruS r L k by unfold ruS; omega⟩ hl.1 (Nat.le_of_ble_eq_true rfl) dX1_rule_47 rfl (fun v H2 locs2 hv hfr2 hS2 => ?_)
  obtain ⟨rfl, hTK⟩ := hv
  have k2 : ∀ x, x < Hb.size → H2[x]? = Hb[x]? := fun x hxs => (hfr2.2 x (by omega) (fun h : x = Hb.size => by omega)).trans (o1 x hxs)
  have hz2 : Hb.size + 1 ≤ H2.size := by have := hfr2.1; omega
  refine hcX (As := []) (rest := [.ref (hC + 235)]) (b := Hb.size) (C := "ManyEyes$Tokens") XH hS2 hFc (wT_readU l htr Z Hb.size (hC + 471) (tk0S (S.1 5) (S.2 471)) H2.size hh) hTK (fun x h => Or.inr (by rcases h with h | h | h <;> omega)) (va_recv X.2.1.1 (va_one hTK.1) (q0 := 0) rfl rfl) (lw_V q577 q578 q579 q94 q580) (show hdV yX6_read "ManyEyes$Tokens" 0 by decide +kernel) ⟨rfl, rfl⟩ ⟨Nat.le_of_ble_eq_true rfl, Nat.le_of_ble_eq_true rfl⟩ ⟨show 0 + 1 + 2 + r.2.2.1 ≤ ruX r L k by unfold ruX; omega, show 0 + 9 + 12 + r.2.2.2 ≤ ruS r L k by unfold ruS; omega⟩ hl.1 (Nat.le_of_ble_eq_true rfl) dX1_rule_50 rfl (fun v H3 locs3 hv hfr3 hS3 => ?_) (fun x H3 locs3 hv hfr3 hS3 => ?_)
  · obtain ⟨cs, a, hr1, rfl, hRl⟩ := hv
    have k3 : ∀ x, x < Hb.size → H3[x]? = Hb[x]? := fun x hxs => (hfr3.2 x (by omega) (fun h => by rcases h with h | h | h <;> omega)).trans (k2 x hxs)
    have hP3 : va_P DC ccl (cw dA hC Sb) H3 := hM.1.kept (fun k q hq => k3 q.1 (va_at_lt (hM.1 k q hq)))
    have kO : ∀ x, x < s.heap.size → ¬ cA hC x → H3[x]? = s.heap[x]? := fun x h1 h2 => hS3.2.1 x h1 (fun z => z.elim h2 (fun w => absurd w (by omega)))
    have hO3 : RO Z hC A L k ed rs H3 := hO.keep kO
    have hOI3 : RO Z hC A LI kI edI rsI H3 := hOI.keep kO
    have gSb : Sb.1 41 = (ed : Int) ∧ Sb.1 42 = (rs.length : Int) := by rw [eb]; exact gS
    have hLT := hO3.lst X.2.2 X.2.1 hP3 gSb
    have hz3 : H2.size ≤ H3.size := hfr3.1
    have hS3' : va_S (hA (beF hC k ed) s.heap.size) s.heap H3 locs3 := hS3.mono (fun q h => h.elim (fun w => Or.inl (Or.inl w)) Or.inr)
    refine hcV (As := [.ref a]) (rest := []) (b := hC + 235) XH hS3' hFb (w_add l Z (hC + 235) k ed a L (by omega) H3.size) ⟨hLT, hRl.any⟩ (fun x h => ?_) (hLT.recv X.2.1) (lw_V q950 q318 q319 q84 q320) (show hdV yJ2_add "java/util/ArrayList" 1 by decide +kernel) ⟨rfl, rfl⟩ ⟨Nat.le_of_ble_eq_true rfl, Nat.le_of_ble_eq_true rfl⟩ ⟨show 0 + 1 + 2 + r.2.2.1 + acc L k ≤ ruX r L k by unfold ruX; omega, show 0 + 9 + 12 + r.2.2.2 + acs L k ≤ ruS r L k by unfold ruS; omega⟩ hl.1 (Nat.le_of_ble_eq_true rfl) dX1_rule_53 rfl (fun v H4 locs4 hv hfr4 hS4 => ?_)
    · rcases h with h | h
      · exact Or.inl (Or.inl (by rw [h]; exact ⟨by omega, by omega⟩))
      · exact Or.inl (Or.inr ⟨h.2, h.1⟩)
    obtain ⟨rfl, ed', hedN, hL4⟩ := hv
    obtain ⟨m4, hP4⟩ := lk_lstN X.2.2 X.2.1 hP3 hL4 (fun x hxs hc hn => hfr4.2 x hxs (fun z => by
      rcases z with z | z
      · exact hn z
      · exact hO3.2.2.1 z.2 (by rw [← z.1]; exact hc)))
    have hM4 : CX DC dA hC (hA (beF hC k ed) s.heap.size) (cf4 Sb m4 (ed' : Int) ((L ++ [a]).length : Int)) s H4 locs4 := ⟨hP4, hS4, fun q h => Or.inl (Or.inl h)⟩
    refine lv_pop hx hb dX1_rule_56 rfl ?_
    refine lv_aload_n hx hb dX1_rule_57 rfl (lv_at hl 1 rfl) ?_
    refine lv_iconst (v := zi 0) hx hb dX1_rule_58 rfl ?_
    refine cm_putQ XC hM4 q384 (cp_0_5 _ _ _ _) rfl dX1_rule_59 (fun H5 locs5 S5 e5 hM5 z5 o5 => ?_)
    refine lv_goto (tgt := 101) hx hb dX1_rule_62 (by decide) ?_
    refine lv_aload_n hx hb dX1_rule_101 rfl (lv_at hl 1 rfl) ?_
    refine cm_get XC hM5 q379 (cf_0_0 _ _ _) rfl dX1_rule_102 ?_
    refine cm_getN XC hM5 q161 (cf_1_0 _ _ _) rfl dX1_rule_105 ?_
    refine lv_iconst (v := zi 3) hx hb dX1_rule_108 rfl ?_
    refine lv_dup2_11 hx hb dX1_rule_109 rfl rfl ?_
    refine cm_iald (qz := 2) XC hM5 ci_2 rfl rfl (by decide) dX1_rule_110 ?_
    refine lv_iconst (v := zi 1) hx hb dX1_rule_111 rfl ?_
    refine g_iadd hx hb dX1_rule_112 ?_
    refine cm_iastQ (qz := 2) XC hM5 ci_2 rfl rfl (by decide) dX1_rule_113 (fun H6 locs6 S6 e6 hM6 z6 o6 => ?_)
    refine lv_aload_n hx hb dX1_rule_114 rfl (lv_at hl 1 rfl) ?_
    refine cm_get XC hM6 q379 (cf_0_0 _ _ _) rfl dX1_rule_115 ?_
    refine cm_getN XC hM6 q161 (cf_1_0 _ _ _) rfl dX1_rule_118 ?_
    refine lv_iconst (v := zi 3) hx hb dX1_rule_121 rfl ?_
    refine cm_iald (qz := 2) XC hM6 ci_2 rfl rfl (by decide) dX1_rule_122 ?_
    refine lv_iconst (v := zi 1) hx hb dX1_rule_123 rfl ?_
    refine g_isub hx hb dX1_rule_124 ?_
    have hS23 : S5.2 2 3 = S.2 2 3 := by rw [e5, eb]; rfl
    have hS6 : S6 = ruO S m4 (ed' : Int) ((rs.length : Int) + 1) := by
      rw [e6, hS23, e5, eb, List.length_append, hlen]
      rfl
    have hv6 : S6.2 2 3 = S.2 2 3 + 1 := by rw [hS6]; rfl
    rw [hv6]
    have o46 : ∀ x, ¬ cA hC x → H6[x]? = H4[x]? := fun x hx => (o6 x (fun h => hx (by rw [h]; exact ⟨by omega, by omega⟩))).trans (o5 x (fun h => hx (by rw [h]; exact ⟨by omega, by omega⟩)))
    have ed'n : 10 ≤ ncap L k → (10 ≤ k ∧ ed' = ed) ∨ H3.size ≤ ed' := by
      intro h10
      rcases hedN with ⟨w1, w2⟩ | ⟨w1, w2⟩
      · exact Or.inr w2
      · refine Or.inl ⟨?_, w2⟩
        unfold ncap at h10
        rw [if_neg w1] at h10
        exact h10
    have hA' : ∀ x, (A x ∨ rg H2.size H3.size x) → ¬ cA hC x := by
      intro x h z
      rcases h with h | h
      · exact hO.2.2.2.2.2.1 x h z
      · have := hsz x z
        have := h.1
        omega
    have k34 : ∀ x, (A x ∨ rg H2.size H3.size x) ∨ x < Z.b → x < H3.size → H6[x]? = H3[x]? := by
      intro x hy hxs
      have hnc : ¬ cA hC x := by
        rcases hy with hy | hy
        · exact hA' x hy
        · intro z; have := hFc x z; omega
      rw [o46 x hnc]
      refine hfr4.2 x hxs (fun z => ?_)
      rcases z with z | z
      · exact hnc (by rw [z]; exact ⟨by omega, by omega⟩)
      · rcases hy with (hy | hy) | hy
        · exact hA1 z.2 (by rw [← z.1]; exact hy)
        · have := edlt z.2
          have := hy.1
          omega
        · have := hFb x (Or.inr ⟨z.2, z.1⟩)
          omega
    have hed'c : 10 ≤ ncap L k → ¬ cA hC ed' := by
      intro h10 z
      rcases ed'n h10 with w | w
      · exact hO.2.2.1 w.1 (by rw [← w.2]; exact z)
      · have := hsz _ z; omega
    have hO6 : RO Z hC (fun x => A x ∨ rg H2.size H3.size x) (L ++ [a]) (ncap L k) ed' (rs ++ [cs]) H6 := by
      refine ⟨hO.1, hL4.2.2.1.keep (fun q _ => o46 ed' (hed'c q)), hed'c, by rw [List.length_append, List.length_append, hlen]; rfl, fun w hw => ?_, hA', hO.2.2.2.2.2.2⟩
      rw [List.zip_append hlen] at hw
      rcases List.mem_append.mp hw with hw | hw
      · exact ((hO3.2.2.2.2.1 w hw).mono (fun x h => Or.inl h)).keep k34
      · have : w = (cs, a) := by
          simp only [List.zip_cons_cons, List.zip_nil_left, List.mem_singleton] at hw
          exact hw
        subst this
        exact (hRl.mono (fun x h => Or.inr h)).keep k34
    have kI6 : ∀ x, x < H3.size → (10 ≤ kI ∧ x = edI) ∨ A x ∨ x < Z.b → H6[x]? = H3[x]? := by
      intro x hxs hy
      rcases hy with hy | hy | hy
      · have hnc : ¬ cA hC x := by rw [hy.2]; exact hOI.2.2.1 hy.1
        rw [o46 x hnc]
        refine hfr4.2 x hxs (fun z => ?_)
        rcases z with z | z
        · exact hnc (by rw [z]; exact ⟨by omega, by omega⟩)
        · exact hne z.2 hy.1 (by rw [← z.1, hy.2])
      · exact k34 x (Or.inl (Or.inl hy)) hxs
      · exact k34 x (Or.inr hy) hxs
    have hOI6 : RO Z hC (fun x => A x ∨ rg H2.size H3.size x) LI kI edI rsI H6 := (hOI3.keep2 kI6).wider (fun x h => Or.inl h) hA'
    have hR6 : RO2 Z hC (fun x => A x ∨ rg H2.size H3.size x) (L ++ [a]) (ncap L k) ed' (rs ++ [cs]) LI kI edI rsI H6 := by
      refine ⟨hO6, hOI6, fun w1 w2 => ?_, fun w1 => ?_, fun w1 => ?_, fun x h => ?_, ⟨by rw [List.length_append]; show rs.length + 1 ≤ 8; omega, ?_⟩, hrI8, hkI10⟩
      · rcases ed'n w1 with w | w
        · rw [w.2]; exact hne w.1 w2
        · have := edIlt w2; omega
      · rintro (h | h)
        · rcases ed'n w1 with w | w
          · exact hA1 w.1 (by rw [← w.2]; exact h)
          · have := hAb _ h; omega
        · rcases ed'n w1 with w | w
          · have := edlt w.1
            have := h.1
            omega
          · have := h.2
            omega
      · rintro (h | h)
        · exact hA2 w1 h
        · have := edIlt w1
          have := h.1
          omega
      · have hz4 : H3.size ≤ H4.size := hfr4.1
        rcases h with h | h
        · have := hAb x h; omega
        · have := h.2; omega
      · unfold ncap
        by_cases q : L.length = k
        · rw [if_pos q]
          rcases hO.2.1 with w | w
          · rw [w.1]; decide
          · omega
        · rw [if_neg q]; exact hk10
    rw [show (0 + 1 + 2 + r.2.2.1 + acc L k : Nat) = ruX r L k by unfold ruX; omega, show (0 + 9 + 12 + r.2.2.2 + acs L k : Nat) = ruS r L k by unfold ruS; omega]
    exact hret 125 ls H6 locs6 (S.2 2 3 + 1 - 1) dX1_rule_125 (Or.inr ⟨cs, a, _, ed', m4, hr1, rfl, by rw [← hS6]; exact hM6.1, hR6, fun x h => h.elim Or.inl (fun w => Or.inr (by have := w.1; have := hS3.1; have := hz3; omega))⟩) hM6.2.1
  · obtain ⟨f, pl, hr1, hWr⟩ := hv
    obtain ⟨u1, u2, hWa⟩ := id hWr
    have k3 : ∀ x, x < Hb.size → H3[x]? = Hb[x]? := fun x hxs => (hfr3.2 x (by omega) (fun h => by rcases h with h | h | h <;> omega)).trans (k2 x hxs)
    have hP3 : va_P DC ccl (cw dA hC Sb) H3 := hM.1.kept (fun k q hq => k3 q.1 (va_at_lt (hM.1 k q hq)))
    have hM3 : CX DC dA hC (hA (cA hC) s.heap.size) Sb s H3 locs3 := ⟨hP3, hS3, fun q h => Or.inl h⟩
    obtain ⟨cell, w1, w2, w3⟩ := va_recv X.2.1.1 (va_one hWa) (ci := 1) (q0 := 0) rfl rfl
    have hxC : x ≠ hC + 0 := by
      intro h
      obtain ⟨cell', v1, v2, v3⟩ := va_recv X.2.2 hP3 (ci := 0) (q0 := 0) rfl (cw_at (by decide))
      rw [h] at w1
      cases Option.some.inj (w1.symm.trans v1)
      have := fc_inj w3 v3
      revert this
      decide
    obtain ⟨x0, rest0, hsp⟩ : ∃ x0 rest, c.exceptionTable.toList = x0 :: rest := by
      cases hc : c.exceptionTable.toList with
      | nil => rw [hc] at htab; cases htab
      | cons x0 rest => exact ⟨x0, rest, rfl⟩
    rw [hsp] at htab
    have hx0 := (List.cons.inj htab).1
    obtain ⟨t1, t2, t3, t4⟩ : x0.startPc = 31 ∧ x0.endPc = 57 ∧ x0.handlerPc = 65 ∧ x0.catchType = 175 := by
      simp only [Prod.mk.injEq] at hx0
      exact hx0
    refine WX.cold (own := "ManyEyes") (name := "ManyEyes$Wrong") hsp (by unfold covers; rw [t1, t2]; rfl) (by rw [t4]; decide) hown (by rw [t4]; exact hts _ q541) w1 w2 w3 ?_
    rw [t3]
    refine lv_astore_n (lv' := [(2, .ref x), (1, .int (zi (S.1 5))), (0, .ref hC)]) hx hb dX1_rule_65 rfl hl (by decide) rfl (fun ls hl => ?_)
    refine lv_aload_n hx hb dX1_rule_66 rfl (lv_at hl 2 rfl) ?_
    refine lv_aload_n hx hb dX1_rule_67 rfl (lv_at hl 0 rfl) ?_
    refine h_getN X.1 X.2.1.1 hWa wf_fault (X.2.1.2.1.NW _ q697 rfl) rfl dX1_rule_68 ?_
    refine cm_putQ XC hM3 q385 (cp_0_6 _ _ _ _) rfl dX1_rule_71 (fun H4 locs4 S4 e4 hM4 z4 o4 => ?_)
    refine lv_aload_n hx hb dX1_rule_74 rfl (lv_at hl 2 rfl) ?_
    refine lv_aload_n hx hb dX1_rule_75 rfl (lv_at hl 0 rfl) ?_
    refine h_getN X.1 X.2.1.1 (va_at_keep hWa (o4 x hxC)) wf_place (X.2.1.2.1.NW _ q699 rfl) rfl dX1_rule_76 ?_
    refine cm_put XC hM4 q386 (cp_0_7 _ _ _ _) rfl dX1_rule_79 (fun H5 locs5 S5 e5 hM5 => ?_)
    refine lv_iconst (v := zi (-1)) hx hb dX1_rule_82 rfl ?_
    refine lv_istore_n (lv' := [(3, .int (zi (-1))), (2, .ref x), (1, .int (zi (S.1 5))), (0, .ref hC)]) hx hb dX1_rule_83 rfl hl (by decide) rfl (fun ls hl => ?_)
    refine lv_aload_n hx hb dX1_rule_84 rfl (lv_at hl 3 rfl) ?_
    refine lv_iconst (v := zi 0) hx hb dX1_rule_85 rfl ?_
    refine cm_put XC hM5 q384 (cp_0_5 _ _ _ _) rfl dX1_rule_86 (fun H6 locs6 S6 e6 hM6 => ?_)
    refine lv_iload_n hx hb dX1_rule_89 rfl (lv_at hl 0 rfl) ?_
    have hS6 : S6 = ruE S f pl := by rw [e6, e5, e4, eb]; rfl
    have kO : ∀ x, x < s.heap.size → ¬ cA hC x → H6[x]? = s.heap[x]? := fun x h1 h2 => hM6.2.1.2.1 x h1 (fun z => z.elim h2 (fun w => absurd w (by omega)))
    refine W.widen (k := ruX r L k) (n := ruS r L k) (show 0 + 1 + 2 + r.2.2.1 ≤ ruX r L k by unfold ruX; omega) (show 0 + 9 + 12 + r.2.2.2 ≤ ruS r L k by unfold ruS; omega) ?_
    exact hret 90 ls H6 locs6 (-1) dX1_rule_90 (Or.inl ⟨f, pl, hr1, rfl, by rw [← hS6]; exact hM6.1, hO.keep kO, hOI.keep kO, hne, hA1, hA2, fun x h => Nat.lt_of_lt_of_le (hAb x h) hM6.2.1.1, ⟨hr8, hk10⟩, hrI8, hkI10⟩) (hM6.2.1.mono (fun q h => h.elim (fun w => Or.inl (Or.inl w)) Or.inr))
theorem wC_rule8 (l : Launch) (Z : hZ) (DC : va_G) (dA : Nat → ClassId) (hC : Nat) (S : yS) (n0 : Nat) (h8 : S.2 2 3 = 8) : mGW l yX1_rule cX1_rule 5 (some .int) hhX1 ({ frames := 60, cells := 0, slots := 0, locals := 2200 } : Room) Z DC dA [.ref hC] n0 (fun H => va_P DC ccl (cw dA hC S) H) (fun v H => v = some (.int (zi (-1))) ∧ va_P DC ccl (cw dA hC S) H) F0_ 0 0 := by
  refine goGWi (by decide +kernel) (Nat.le_of_ble_eq_true rfl) ?_
  intro p e s m args below meth c Q ls X htab hret hl hP hn hS
  subst hn
  have XC := fcx_c X
  have hx := X.1.1
  have hb := X.1.2.1
  have hM : CX DC dA hC (hA (cA hC) s.heap.size) S s s.heap [] := ⟨hP, va_S.rf, fun q h => Or.inl h⟩
  replace hl : lv_has ls 5 [(0, .ref hC)] := hl
  refine lv_aload_n hx hb dX1_rule_0 rfl (lv_at hl 0 rfl) ?_
  refine cm_get XC hM q379 (cf_0_0 _ _ _) rfl dX1_rule_1 ?_
  refine cm_getN XC hM q161 (cf_1_0 _ _ _) rfl dX1_rule_4 ?_
  refine lv_iconst (v := zi 3) hx hb dX1_rule_7 rfl ?_
  refine cm_iald (qz := 2) XC hM ci_2 rfl rfl (by decide) dX1_rule_8 ?_
  refine lv_bipush (v := zi 8) hx hb dX1_rule_9 (by decide) ?_
  refine g_icmp_ne (tgt := 16) hx hb ⟨by rw [h8]; decide, by decide⟩ dX1_rule_11 (by decide) (fun c1 => ?_) (fun c1 => absurd h8 c1)
  refine lv_iconst (v := zi (-1)) hx hb dX1_rule_14 rfl ?_
  exact hret 15 ls s.heap [] (-1) dX1_rule_15 ⟨rfl, hP⟩ hS
