/-! asks: their values -/
set_option maxRecDepth 100000
def AvP (l : Launch) (Z : hZ) (nw N : Nat) (H : Heap) (a : Nat) (v : Bool) (S1 : yS) : Prop := ∃ (C : String) (ci fN : Nat) (T : u_T) (bytes : ByteArray) (maxL f L : Nat) (fs : List Value), tcl[ci]? = some (C, T, fN) ∧ va_at Z.D tcl (a, .inr (ci, fs)) H ∧ C ∈ gAskC ∧ Cond.selects C xIs (yIs C) ∈ lw_all ∧ Cond.instanceMethod (yIs C) ∈ lw_all ∧ Cond.initialized C ∈ lw_all ∧ Cond.code (yIs C) bytes maxL (some .boolean) ∈ lw_all ∧ maxL ≤ 8 ∧ f ≤ 6 + N ∧ L ≤ 200 + 40 * N ∧ mH l (yIs C) bytes maxL (some .boolean) (rmS f L) Z [.ref a, .ref nw] H.size (fun H' => H' = H) (fun w H' => w = some (.int (zi (bz v))) ∧ NowW Z nw S1 H') (fE nw) 0 0
section EI
variable {p : Program} {l : Launch} {e : Env} {R : Room} {s : State} {m : MethodId} {args : Array Value} {below : List Frame} {meth : Method} {c : Code} {H : Heap} {locs : List Loc} {Q : State → Prop} {cc : ByteArray} {pc nL : Nat} {ls : Array Slot} {rest : List Value} {Z : hZ} {nw a N : Nat} {S1 : yS} {own : String} {idx count : Nat}
theorem tk_is (X : hCx own p c cc nL s m args Z) (hb : Z.b ≤ nw) (hS : va_S (hA (fE nw) s.heap.size) s.heap H locs) {v : Bool} (hE : AvP l Z nw N H a v S1) (hl0 : Cond.methodLink own idx xIs ∈ lw_all) (hR : 7 + N ≤ R.frames ∧ 227 + 40 * N ≤ R.locals) (hls : ls.size = nL) (hro : (rest.map fun v => v.category).sum ≤ 8) (hdg : decode cc pc = .ok (.invokeinterface idx count, 5))
    (kk : ∀ (H1 : Heap) (locs1 : List Loc), NowW Z nw S1 H1 → hFr (fE nw) H H1 → va_S (hA (fE nw) s.heap.size) s.heap H1 locs1 → W p l e R s m args below meth c H1 locs1 0 0 Q (F0 m (pc + 5) ls (.int (zi (bz v)) :: rest))) : W p l e R s m args below meth c H locs 0 0 Q (F0 m pc ls (.ref nw :: .ref a :: rest)) := by
  obtain ⟨C, ci, fN, T, bytes, maxL, f, L, fs, h1, h2, h3, h4, h5, h6, h7, h8, h9, h10, h11⟩ := hE
  obtain ⟨-, hat⟩ := X.2.1.1 ci _ h1
  refine hcF (As := [.ref nw]) (C := C) X hS (fun a h => by rw [h]; exact hb) h11 rfl (fun a h => Or.inl h) (va_recv X.2.1 (va_one h2) (q0 := 0) h1 rfl) hat (lw_F hl0 h4 h5 h6 h7) (X.2.2.1.2.2.2.2.2.2.2.1.2.2.2.2.2.2 C h3) (show hdS xIs 1 by decide +kernel) ⟨rfl, rfl⟩ ⟨by show f + 1 ≤ R.frames; omega, by show 8 + (maxL + 11) + L ≤ R.locals; omega⟩ ⟨Nat.zero_le _, Nat.zero_le _⟩ hls hro hdg rfl (fun v H1 locs1 hv hfr hS => ?_)
  obtain ⟨rfl, hN⟩ := hv
  exact kk H1 locs1 hN hfr hS
end EI
def EvA (l : Launch) (Z : hZ) (nw N : Nat) : Prop := ∀ (A : Nat → Prop) (H : Heap) (code : tC) (a : Nat) (S : yS) (vs : List Int) (bs : List Bool) (r : pS), AskH Z N A H code a → ¬ A nw → NowW Z nw S H → pv code (vs, bs, S) = some r → ∃ v S1, r = (vs, v :: bs, S1) ∧ AvP l Z nw N H a v S1
theorem qf_X9 : hCl tcl lw_all 3 0 "ManyEyes$Not" "x" "LManyEyes$Asked;" := ⟨TX9, 1, RX9, rfl, in_X9, by decide, rfl, rfl, rfl⟩
theorem qf_X18s : hCl tcl lw_all 12 0 "ManyEyes$Compared" "sign" "I" := ⟨TX18, 3, RX18, rfl, in_X18, by decide, rfl, rfl, rfl⟩
theorem qf_X18a : hCl tcl lw_all 12 1 "ManyEyes$Compared" "a" "LManyEyes$Sum;" := ⟨TX18, 3, RX18, rfl, in_X18, by decide, rfl, rfl, rfl⟩
theorem qf_X18b : hCl tcl lw_all 12 2 "ManyEyes$Compared" "b" "LManyEyes$Sum;" := ⟨TX18, 3, RX18, rfl, in_X18, by decide, rfl, rfl, rfl⟩
theorem w_not (l : Launch) (Z : hZ) (nw N : Nat) (H : Heap) (a x : Nat) (S1 : yS) (v : Bool) (hb : Z.b ≤ nw) (hA : va_at Z.D tcl (a, .inr (3, [.ref x])) H) (hE : AvP l Z nw N H x v S1) : mH l yX9_is cX9_is 2 (some .boolean) (rmS (7 + N) (240 + 40 * N)) Z [.ref a, .ref nw] H.size (fun H' => H' = H) (fun w H' => w = some (.int (zi (bz (!v)))) ∧ NowW Z nw S1 H') (fE nw) 0 0 := by
  refine goHi (by decide +kernel) (Nat.le_of_ble_eq_true rfl) (fun z _ h => by have h1 := Option.some.inj h.1; rw [h1]; cases v <;> rfl) ?_
  intro p e s m args below meth c Q ls X hret hl hP hn hS hnm
  subst hP
  have hx := X.1.1
  have hbb := X.1.2.1
  replace hl : lv_has ls 2 [(0, .ref a), (1, .ref nw)] := hl
  refine lv_aload_n hx hbb dX9_is_0 rfl (lv_at hl 0 rfl) ?_
  refine h_get X.1 X.2.1 hA qf_X9 q770 rfl dX9_is_1 ?_
  refine lv_aload_n hx hbb dX9_is_4 rfl (lv_at hl 1 rfl) ?_
  refine tk_is (rest := []) X hb hS hE q1101 ⟨Nat.le_refl _, by show 227 + 40 * N ≤ 240 + 40 * N; omega⟩ hl.1 (Nat.le_of_ble_eq_true rfl) dX9_is_5 (fun H1 locs1 hN hfr hS => ?_)
  refine g_bif_ne (tgt := 17) hx hbb dX9_is_10 (by decide) (fun c1 => ?_) (fun c1 => ?_)
  · refine lv_iconst (v := zi 0) hx hbb dX9_is_17 rfl ?_
    exact hret _ _ _ _ _ dX9_is_18 ⟨by rw [c1]; rfl, hN⟩ hS
  · refine lv_iconst (v := zi 1) hx hbb dX9_is_13 rfl ?_
    refine lv_goto (tgt := 18) hx hbb dX9_is_14 (by decide) ?_
    have hv : v = false := by cases v; rfl; exact absurd rfl c1
    exact hret _ _ _ _ _ dX9_is_18 ⟨by rw [hv]; rfl, hN⟩ hS
/-- what a comparison says of a difference -/
def cmB (s d : Int) : Bool := if cmO s = 10 then decide (d < 0) else if cmO s = 11 then decide (d ≤ 0) else if cmO s = 12 then decide (0 < d) else if cmO s = 13 then decide (0 ≤ d) else if cmO s = 14 then decide (d = 0) else (!decide (d = 0))
set_option maxHeartbeats 1000000 in
theorem w_comp (l : Launch) (Z : hZ) (nw N : Nat) (H : Heap) (a x y : Nat) (sg : Int) (hsg : isCm sg) (S1 S2 : yS) (z z2 : Int) (hb : Z.b ≤ nw) (hA : va_at Z.D tcl (a, .inr (12, [.int (zi sg), .ref x, .ref y])) H) (han : a ≠ nw) (gz : r64 (z - z2)) (hE : EvP l Z nw N H x z S1) (hE2 : ∀ H1, NowW Z nw S1 H1 → hFr (fE nw) H H1 → EvP l Z nw N H1 y z2 S2) : mH l yX18_is cX18_is 4 (some .boolean) (rmS (7 + N) (240 + 40 * N)) Z [.ref a, .ref nw] H.size (fun H' => H' = H) (fun w H' => w = some (.int (zi (bz (cmB sg (z - z2))))) ∧ NowW Z nw S2 H') (fE nw) 0 0 := by
  refine goHi (by decide +kernel) (Nat.le_of_ble_eq_true rfl) (fun v _ h => by have h1 := Option.some.inj h.1; rw [h1]; cases cmB sg (z - z2) <;> rfl) ?_
  intro p e s m args below meth c Q ls X hret hl hP hn hS hnm
  subst hP
  have hx := X.1.1
  have hbb := X.1.2.1
  have hR : 7 + N ≤ (rmS (7 + N) (240 + 40 * N)).frames ∧ 227 + 40 * N ≤ (rmS (7 + N) (240 + 40 * N)).locals := ⟨Nat.le_refl _, by show 227 + 40 * N ≤ 240 + 40 * N; omega⟩
  replace hl : lv_has ls 4 [(0, .ref a), (1, .ref nw)] := hl
  refine lv_aload_n hx hbb dX18_is_0 rfl (lv_at hl 0 rfl) ?_
  refine h_get X.1 X.2.1 hA qf_X18a q925 rfl dX18_is_1 ?_
  refine lv_aload_n hx hbb dX18_is_4 rfl (lv_at hl 1 rfl) ?_
  refine tk_of (rest := []) X hb hS hE q1093 hR hl.1 (Nat.le_of_ble_eq_true rfl) dX18_is_5 (fun H1 locs1 hN hfr hS => ?_)
  have hA1 := va_at_keep hA (hfr.2 a (va_at_lt hA) han)
  refine lv_aload_n hx hbb dX18_is_10 rfl (lv_at hl 0 rfl) ?_
  refine h_get X.1 X.2.1 hA1 qf_X18b q926 rfl dX18_is_11 ?_
  refine lv_aload_n hx hbb dX18_is_14 rfl (lv_at hl 1 rfl) ?_
  refine tk_of (rest := [.long (zl z)]) X hb hS (hE2 H1 hN hfr) q1093 hR hl.1 (Nat.le_of_ble_eq_true rfl) dX18_is_15 (fun H2 locs2 hN2 hfr2 hS => ?_)
  refine g_lsub hx hbb dX18_is_20 ?_
  refine lv_lstore_n (lv' := [(2, .long (zl (z - z2))), (0, .ref a), (1, .ref nw)]) hx hbb dX18_is_21 rfl hl (by decide) rfl (fun ls hl => ?_)
  have hA2 := va_at_keep hA1 (hfr2.2 a (va_at_lt hA1) han)
  refine lv_aload_n hx hbb dX18_is_22 rfl (lv_at hl 1 rfl) ?_
  refine h_get X.1 X.2.1 hA2 qf_X18s q924 rfl dX18_is_23 ?_
  have gs : r32 sg := by unfold r32; rcases hsg with h | h | h | h | h | h <;> omega
  have g0 : r64 (z - z2) ∧ r64 0 := ⟨gz, by decide⟩
  by_cases e0 : sg = 35
  · refine g_lookIn (z0 := 35) (off := 86) (tgt := 112) hx hbb dX18_is_26 e0 (by decide) (by decide) rfl (by decide) ?_
    subst e0
    refine lv_lload_n hx hbb dX18_is_112 rfl (lv_at hl 0 rfl) ?_
    refine lv_lconst (v := zl 0) hx hbb dX18_is_113 (by decide) ?_
    refine g_lcmp_eq (tgt := 122) hx hbb g0 dX18_is_114 dX18_is_115 (by decide) (fun d1 => ?_) (fun d1 => ?_)
    · refine lv_iconst (v := zi 0) hx hbb dX18_is_122 rfl ?_
      exact hret _ _ _ _ _ dX18_is_123 ⟨by rw [show cmB 35 (z - z2) = false by show (!decide (z - z2 = 0)) = false; rw [decide_eq_true d1]; rfl]; rfl, hN2⟩ hS
    · refine lv_iconst (v := zi 1) hx hbb dX18_is_118 rfl ?_
      refine lv_goto (tgt := 123) hx hbb dX18_is_119 (by decide) ?_
      exact hret _ _ _ _ _ dX18_is_123 ⟨by rw [show cmB 35 (z - z2) = true by show (!decide (z - z2 = 0)) = true; rw [decide_eq_false d1]; rfl]; rfl, hN2⟩ hS
  by_cases e1 : sg = 60
  · refine g_lookIn (z0 := 60) (off := 50) (tgt := 76) hx hbb dX18_is_26 e1 (by decide) (by decide) rfl (by decide) ?_
    subst e1
    refine lv_lload_n hx hbb dX18_is_76 rfl (lv_at hl 0 rfl) ?_
    refine lv_lconst (v := zl 0) hx hbb dX18_is_77 (by decide) ?_
    refine g_lcmp_ge (tgt := 86) hx hbb g0 dX18_is_78 dX18_is_79 (by decide) (fun d1 => ?_) (fun d1 => ?_)
    · refine lv_iconst (v := zi 1) hx hbb dX18_is_82 rfl ?_
      refine lv_goto (tgt := 87) hx hbb dX18_is_83 (by decide) ?_
      exact hret _ _ _ _ _ dX18_is_87 ⟨by rw [show cmB 60 (z - z2) = true from decide_eq_true d1]; rfl, hN2⟩ hS
    · refine lv_iconst (v := zi 0) hx hbb dX18_is_86 rfl ?_
      exact hret _ _ _ _ _ dX18_is_87 ⟨by rw [show cmB 60 (z - z2) = false from decide_eq_false d1]; rfl, hN2⟩ hS
  by_cases e2 : sg = 61
  · refine g_lookIn (z0 := 61) (off := 74) (tgt := 100) hx hbb dX18_is_26 e2 (by decide) (by decide) rfl (by decide) ?_
    subst e2
    refine lv_lload_n hx hbb dX18_is_100 rfl (lv_at hl 0 rfl) ?_
    refine lv_lconst (v := zl 0) hx hbb dX18_is_101 (by decide) ?_
    refine g_lcmp_ne (tgt := 110) hx hbb g0 dX18_is_102 dX18_is_103 (by decide) (fun d1 => ?_) (fun d1 => ?_)
    · refine lv_iconst (v := zi 1) hx hbb dX18_is_106 rfl ?_
      refine lv_goto (tgt := 111) hx hbb dX18_is_107 (by decide) ?_
      exact hret _ _ _ _ _ dX18_is_111 ⟨by rw [show cmB 61 (z - z2) = true from decide_eq_true d1]; rfl, hN2⟩ hS
    · refine lv_iconst (v := zi 0) hx hbb dX18_is_110 rfl ?_
      exact hret _ _ _ _ _ dX18_is_111 ⟨by rw [show cmB 61 (z - z2) = false from decide_eq_false d1]; rfl, hN2⟩ hS
  by_cases e3 : sg = 62
  · refine g_lookIn (z0 := 62) (off := 62) (tgt := 88) hx hbb dX18_is_26 e3 (by decide) (by decide) rfl (by decide) ?_
    subst e3
    refine lv_lload_n hx hbb dX18_is_88 rfl (lv_at hl 0 rfl) ?_
    refine lv_lconst (v := zl 0) hx hbb dX18_is_89 (by decide) ?_
    refine g_lcmp_le (tgt := 98) hx hbb g0 dX18_is_90 dX18_is_91 (by decide) (fun d1 => ?_) (fun d1 => ?_)
    · refine lv_iconst (v := zi 0) hx hbb dX18_is_98 rfl ?_
      exact hret _ _ _ _ _ dX18_is_99 ⟨by rw [show cmB 62 (z - z2) = false from decide_eq_false (show ¬ 0 < z - z2 by omega)]; rfl, hN2⟩ hS
    · refine lv_iconst (v := zi 1) hx hbb dX18_is_94 rfl ?_
      refine lv_goto (tgt := 99) hx hbb dX18_is_95 (by decide) ?_
      exact hret _ _ _ _ _ dX18_is_99 ⟨by rw [show cmB 62 (z - z2) = true from decide_eq_true (show 0 < z - z2 by omega)]; rfl, hN2⟩ hS
  by_cases e4 : sg = 303
  · refine g_lookIn (z0 := 303) (off := 98) (tgt := 124) hx hbb dX18_is_26 e4 (by decide) (by decide) rfl (by decide) ?_
    subst e4
    refine lv_lload_n hx hbb dX18_is_124 rfl (lv_at hl 0 rfl) ?_
    refine lv_lconst (v := zl 0) hx hbb dX18_is_125 (by decide) ?_
    refine g_lcmp_gt (tgt := 134) hx hbb g0 dX18_is_126 dX18_is_127 (by decide) (fun d1 => ?_) (fun d1 => ?_)
    · refine lv_iconst (v := zi 1) hx hbb dX18_is_130 rfl ?_
      refine lv_goto (tgt := 135) hx hbb dX18_is_131 (by decide) ?_
      exact hret _ _ _ _ _ dX18_is_135 ⟨by rw [show cmB 303 (z - z2) = true from decide_eq_true d1]; rfl, hN2⟩ hS
    · refine lv_iconst (v := zi 0) hx hbb dX18_is_134 rfl ?_
      exact hret _ _ _ _ _ dX18_is_135 ⟨by rw [show cmB 303 (z - z2) = false from decide_eq_false d1]; rfl, hN2⟩ hS
  have e5 : sg = 304 := by rcases hsg with h | h | h | h | h | h <;> first | exact h | contradiction
  refine g_lookOut (tgt := 136) hx hbb dX18_is_26 gs (by decide) (by simp [Op.lookupswitch.offset, Ne.symm e0, Ne.symm e1, Ne.symm e2, Ne.symm e3, Ne.symm e4]) (by decide) ?_
  subst e5
  refine lv_lload_n hx hbb dX18_is_136 rfl (lv_at hl 0 rfl) ?_
  refine lv_lconst (v := zl 0) hx hbb dX18_is_137 (by decide) ?_
  refine g_lcmp_lt (tgt := 146) hx hbb g0 dX18_is_138 dX18_is_139 (by decide) (fun d1 => ?_) (fun d1 => ?_)
  · refine lv_iconst (v := zi 0) hx hbb dX18_is_146 rfl ?_
    exact hret _ _ _ _ _ dX18_is_147 ⟨by rw [show cmB 304 (z - z2) = false from decide_eq_false (show ¬ 0 ≤ z - z2 by omega)]; rfl, hN2⟩ hS
  · refine lv_iconst (v := zi 1) hx hbb dX18_is_142 rfl ?_
    refine lv_goto (tgt := 147) hx hbb dX18_is_143 (by decide) ?_
    exact hret _ _ _ _ _ dX18_is_147 ⟨by rw [show cmB 304 (z - z2) = true from decide_eq_true (show 0 ≤ z - z2 by omega)]; rfl, hN2⟩ hS
