/-! what a rule is asked with: Now; the leaves of a sum -/
set_option maxRecDepth 100000
theorem lw_F {own : String} {idx : Nat} {C : String} {x y : MethodName} {b : ByteArray} {L : Nat} {r : Option FieldType} (h1 : Cond.methodLink own idx x ∈ lw_all) (h2 : Cond.selects C x y ∈ lw_all) (h3 : Cond.instanceMethod y ∈ lw_all) (h4 : Cond.initialized y.cls ∈ lw_all) (h5 : Cond.code y b L r ∈ lw_all) : GoodIn lw_all (va_wsF own idx C x y (ws_ y b L r)) := by
  refine lw_app ?_ (lw_meth h5)
  intro w hw
  simp only [List.mem_cons, List.not_mem_nil, or_false] at hw
  rcases hw with e | e | e | e
  · rw [e]; exact h1
  · rw [e]; exact h2
  · rw [e]; exact h3
  · rw [e]; exact h4
section HF
variable {p : Program} {l : Launch} {e : Env} {R : Room} {s : State} {m : MethodId} {args : Array Value} {below : List Frame} {meth : Method} {c : Code} {H : Heap} {locs : List Loc} {cells slots : Nat} {Q : State → Prop}
variable {cc : ByteArray} {pc nL : Nat} {ls : Array Slot} {rest : List Value}
variable {x y : MethodName} {bytes : ByteArray} {maxL idx count : Nat} {ret : Option FieldType} {rm : Room} {As st : List Value} {own : String} {F F1 : Nat → Prop} {Z : hZ} {Pre : Heap → Prop} {Rr : Option Value → Heap → Prop} {mc ms : Nat}
theorem hcF (X : hCx own p c cc nL s m args Z) (hS : va_S (hA F s.heap.size) s.heap H locs) (hF : ∀ a, F a → Z.b ≤ a) {b : Nat} {C : String} {cC : ClassId} (met : mH l y bytes maxL ret rm Z (.ref b :: As) H.size Pre Rr F1 mc ms) (hp : Pre H) (hF1 : ∀ a, F1 a → hA F s.heap.size a) (hb : ∃ cell : Cell, H[b]? = some cell ∧ cell.vm.isStatics = false ∧ s.vm.findClass C = some cell.cls) (hat : ClassAt s C cC) (hT : GoodIn lw_all (va_wsF own idx C x y (ws_ y bytes maxL ret))) (hFw : va_Fw C x y s) (hd : x.cls ≠ "java/lang/invoke/MethodHandle" ∧ x.cls ≠ "java/lang/invoke/VarHandle" ∧ (parseMethodDescriptor x.desc).map (fun d => d.parameters.length) = some As.length) (hrm : rm.cells = mc ∧ rm.slots = ms) (hR : rm.frames + 1 ≤ R.frames ∧ 8 + (maxL + 11) + rm.locals ≤ R.locals) (hcs : cells + mc ≤ R.cells ∧ slots + ms ≤ R.slots) (hls : ls.size = nL) (hro : (rest.map fun v => v.category).sum ≤ 8) (hdg : decode cc pc = .ok (.invokeinterface idx count, 5)) (hst : st = As.reverse ++ .ref b :: rest)
    (kk : ∀ (v : Option Value) (H1 : Heap) (locs1 : List Loc), Rr v H1 → hFr F1 H H1 → va_S (hA F s.heap.size) s.heap H1 locs1 → W p l e R s m args below meth c H1 locs1 (cells + mc) (slots + ms) Q (F0 m (pc + 5) ls (v.toList ++ rest))) : W p l e R s m args below meth c H locs cells slots Q (F0 m pc ls st) := by
  subst hst
  exact callH5 (va_runF (As := As) (rest := rest) hat X.1 met (va_cwF As.length X.1.2.2.2.2 hT rfl hrm.1 hrm.2 hFw hd hR) ⟨hPc_blind, hb, fun U hU hW => ⟨rfl, X.2.at hS hF hU hW, by rw [hU], by rw [hU]; exact hp⟩⟩ rfl rfl hls rfl (lv_room hro) hdg hcs) hS (fun q hq z => z.elim (hF1 q) (fun w => absurd w (Nat.not_le.mpr hq))) (fun q z => z.elim (hF1 q) (fun w => Or.inr (Nat.le_trans hS.1 w))) (fun v H1 locs1 hv hz hk hS => kk v H1 locs1 hv ⟨hz, fun q h1 h2 => hk q h1 (fun z => z.elim h2 (fun w => absurd w (Nat.not_le.mpr h1)))⟩ hS)
end HF
/-- Now at nw, its arrays behind it; numbers and arrays by the numbers of ManyEyes' world -/
def now_fs (nw : Nat) (S : yS) : List Value := [.ref (nw + 1), .ref (nw + 2), .ref (nw + 3), .int (zi (S.1 23)), .int (zi (S.1 24)), .long (zl (S.1 25))]
def NowW (Z : hZ) (nw : Nat) (S : yS) (H : Heap) : Prop := va_at Z.D tcl (nw, .inr (16, now_fs nw S)) H ∧ va_at Z.D tcl (nw + 1, .inl (Z.d 3, 16, .inl (fun j => zi (S.2 659 j)))) H ∧ va_at Z.D tcl (nw + 2, .inl (Z.d 3, 16, .inl (fun j => zi (S.2 660 j)))) H ∧ va_at Z.D tcl (nw + 3, .inl (Z.d 4, 8, .inr (.inl (fun j => zl (S.2 661 j))))) H ∧ Z.b ≤ nw
theorem NowW.keep {Z : hZ} {nw : Nat} {S : yS} {H H1 : Heap} (h : NowW Z nw S H) (hk : ∀ a, a < H.size → H1[a]? = H[a]?) : NowW Z nw S H1 :=
  ⟨va_at_keep h.1 (hk _ (va_at_lt h.1)), va_at_keep h.2.1 (hk _ (va_at_lt h.2.1)), va_at_keep h.2.2.1 (hk _ (va_at_lt h.2.2.1)), va_at_keep h.2.2.2.1 (hk _ (va_at_lt h.2.2.2.1)), h.2.2.2.2⟩
theorem NowW.recv {Z : hZ} {nw : Nat} {S : yS} {s : State} {H : Heap} (X : HE Z s) (h : NowW Z nw S H) : ∃ cell : Cell, H[nw]? = some cell ∧ cell.vm.isStatics = false ∧ s.vm.findClass "ManyEyes$Now" = some cell.cls := va_recv X.1 (va_one h.1) (ci := 16) (q0 := 0) rfl rfl
theorem nf_take : hCl tcl lw_all 16 0 "ManyEyes$Now" "take" "[I" := ⟨TX4, 6, RX4, rfl, in_X4, by decide, rfl, rfl, rfl⟩
theorem nf_pair : hCl tcl lw_all 16 1 "ManyEyes$Now" "pair" "[I" := ⟨TX4, 6, RX4, rfl, in_X4, by decide, rfl, rfl, rfl⟩
theorem nf_letter : hCl tcl lw_all 16 2 "ManyEyes$Now" "letter" "[J" := ⟨TX4, 6, RX4, rfl, in_X4, by decide, rfl, rfl, rfl⟩
theorem nf_tick : hCl tcl lw_all 16 3 "ManyEyes$Now" "tick" "I" := ⟨TX4, 6, RX4, rfl, in_X4, by decide, rfl, rfl, rfl⟩
theorem nf_over : hCl tcl lw_all 16 4 "ManyEyes$Now" "over" "I" := ⟨TX4, 6, RX4, rfl, in_X4, by decide, rfl, rfl, rfl⟩
theorem nf_bound : hCl tcl lw_all 16 5 "ManyEyes$Now" "bound" "J" := ⟨TX4, 6, RX4, rfl, in_X4, by decide, rfl, rfl, rfl⟩
theorem np_over (z : Int) : hPl tcl lw_all 16 4 "ManyEyes$Now" "over" "I" (.int (zi z)) false := ⟨TX4, 6, RX4, tyX4, rfl, in_X4, by decide, rfl, rfl, rfl, rfl, tyX4_ok, nmX4, rfl, rfl⟩
/-- a value held within the bound -/
def hB (b v : Int) : Int := if v ≤ b then (if -b < v then v else -b) else b
def E_held (S : yS) (v : Int) : Option (Int × yS) := gd (r64 v ∧ (0 : Int) ≤ S.1 25 ∧ S.1 25 < 1000000000000) (if v ≤ S.1 25 ∧ -(S.1 25) ≤ v then some (hB (S.1 25) v, S) else some (hB (S.1 25) v, cfs S 24 (S.1 24 + 1)))
theorem wE_held (l : Launch) (Z : hZ) (nw : Nat) (S : yS) (v : Int) (n0 : Nat) {z : Int} {S1 : yS} (hh : E_held S v = some (z, S1)) : mH l yX4_held cX4_held 3 (some .long) (rmS 2 80) Z [.ref nw, .long (zl v)] n0 (NowW Z nw S) (fun w H => w = some (.long (zl z)) ∧ NowW Z nw S1 H) (fE nw) 0 0 := by
  refine goHl (by decide +kernel) (Nat.le_of_ble_eq_true rfl) ?_
  intro p e s m args below meth c Q ls X hret hl hP hn hS hnm
  subst hn
  have hx := X.1.1
  have hb := X.1.2.1
  have hF : ∀ a, fE nw a → Z.b ≤ a := fun a h => by rw [h]; exact hP.2.2.2.2
  replace hl : lv_has ls 3 [(0, .ref nw), (1, .long (zl v))] := hl
  unfold E_held at hh
  obtain ⟨⟨g1, g2, g3⟩, hh⟩ := gd_inv hh
  have gb : r64 (S.1 25) ∧ r64 (-(S.1 25)) := by unfold r64; omega
  have tail : ∀ (H : Heap) (locs : List Loc) (S2 : yS), NowW Z nw S2 H → S2.1 25 = S.1 25 → some (hB (S.1 25) v, S2) = some (z, S1) → va_S (hA (fE nw) s.heap.size) s.heap H locs → W p l e (rmS 2 80) s m args below meth c H locs 0 0 Q (F0 m 29 ls []) := by
    intro H locs S2 hN hb5 hh hS
    refine lv_aload_n hx hb dX4_held_29 rfl (lv_at hl 0 rfl) ?_
    refine h_get X.1 X.2.1 hN.1 nf_bound q227 rfl dX4_held_30 ?_
    rw [hb5]
    refine g_lneg hx hb dX4_held_33 ?_
    refine lv_aload_n hx hb dX4_held_34 rfl (lv_at hl 0 rfl) ?_
    refine h_get X.1 X.2.1 hN.1 nf_bound q227 rfl dX4_held_35 ?_
    rw [hb5]
    refine lv_lload_n hx hb dX4_held_38 rfl (lv_at hl 1 rfl) ?_
    have hm : Ma_min_2 (S.1 25) v = some (if S.1 25 ≤ v then S.1 25 else v) := by
      unfold Ma_min_2
      rw [gd_pos ⟨gb.1, g1⟩]
      by_cases h : S.1 25 ≤ v
      · rw [if_pos h, if_pos h]
      · rw [if_neg h, if_neg h]
    refine gcs_l (As := [.long (zl (S.1 25)), .long (zl v)]) (rest := [.long (zl (-(S.1 25)))]) X.1 hS (wMa_min_2 l (S.1 25) v hm) (lw_S q1013 q1014 q87 q1015) (show hdS yJ3_min_2 2 by decide +kernel) ⟨rfl, rfl⟩ ⟨by decide, by decide⟩ ⟨Nat.le_refl _, Nat.le_refl _⟩ hl.1 (Nat.le_of_ble_eq_true rfl) dX4_held_39 rfl (fun H1 locs1 hk1 hS => ?_)
    have hmx : Ma_max_2 (-(S.1 25)) (if S.1 25 ≤ v then S.1 25 else v) = some (hB (S.1 25) v) := by
      unfold Ma_max_2 hB
      rw [gd_pos ⟨gb.2, by split; exact gb.1; exact g1⟩]
      by_cases h : S.1 25 ≤ v
      · rw [if_pos h]
        by_cases h2 : v ≤ S.1 25
        · rw [if_pos h2]
          have : v = S.1 25 := by omega
          by_cases h3 : -(S.1 25) < S.1 25
          · rw [if_pos h3, this, if_pos h3]
          · rw [if_neg h3, this, if_neg h3]
        · rw [if_neg h2]
          by_cases h3 : -(S.1 25) < S.1 25
          · rw [if_pos h3]
          · rw [if_neg h3]; congr 1; omega
      · rw [if_neg h, if_pos (show v ≤ S.1 25 by omega)]
        by_cases h3 : -(S.1 25) < v
        · rw [if_pos h3, if_pos h3]
        · rw [if_neg h3, if_neg h3]
    refine gcs_l (As := [.long (zl (-(S.1 25))), .long (zl (if S.1 25 ≤ v then S.1 25 else v))]) (rest := []) X.1 hS (wMa_max_2 l _ _ hmx) (lw_S q1016 q1017 q87 q1018) (show hdS yJ3_max_2 2 by decide +kernel) ⟨rfl, rfl⟩ ⟨by decide, by decide⟩ ⟨Nat.le_refl _, Nat.le_refl _⟩ hl.1 (Nat.le_of_ble_eq_true rfl) dX4_held_42 rfl (fun H2 locs2 hk2 hS => ?_)
    have h1 := rt1 hh
    have h2 := rt2 hh
    exact hret _ _ _ _ _ dX4_held_45 ⟨by rw [h1], by rw [← h2]; exact (hN.keep hk1).keep hk2⟩ hS
  have over : ¬ (v ≤ S.1 25 ∧ -(S.1 25) ≤ v) → W p l e (rmS 2 80) s m args below meth c s.heap [] 0 0 Q (F0 m 19 ls []) := by
    intro ho
    replace hh := it_f ho hh
    refine lv_aload_n hx hb dX4_held_19 rfl (lv_at hl 0 rfl) ?_
    refine lv_dup hx hb dX4_held_20 rfl ?_
    refine h_get X.1 X.2.1 hP.1 nf_over q225 rfl dX4_held_21 ?_
    refine lv_iconst (v := zi 1) hx hb dX4_held_24 rfl ?_
    refine g_iadd hx hb dX4_held_25 ?_
    refine h_put X.1 X.2.1 hS hP.1 (np_over (S.1 24 + 1)) q225 (Nat.le_of_ble_eq_true rfl) (Or.inl rfl) dX4_held_26 (fun H1 locs1 hA hq => ?_)
    exact tail H1 locs1 (cfs S 24 (S.1 24 + 1)) ⟨hA, va_at_keep hP.2.1 (hq.2.1 _ (by omega)), va_at_keep hP.2.2.1 (hq.2.1 _ (by omega)), va_at_keep hP.2.2.2.1 (hq.2.1 _ (by omega)), hP.2.2.2.2⟩ rfl hh hq.2.2
  refine lv_lload_n hx hb dX4_held_0 rfl (lv_at hl 1 rfl) ?_
  refine lv_aload_n hx hb dX4_held_1 rfl (lv_at hl 0 rfl) ?_
  refine h_get X.1 X.2.1 hP.1 nf_bound q227 rfl dX4_held_2 ?_
  refine g_lcmp_gt (tgt := 19) hx hb ⟨g1, gb.1⟩ dX4_held_5 dX4_held_6 (by decide) (fun c1 => ?_) (fun c1 => over (fun w => c1 w.1))
  refine lv_lload_n hx hb dX4_held_9 rfl (lv_at hl 1 rfl) ?_
  refine lv_aload_n hx hb dX4_held_10 rfl (lv_at hl 0 rfl) ?_
  refine h_get X.1 X.2.1 hP.1 nf_bound q227 rfl dX4_held_11 ?_
  refine g_lneg hx hb dX4_held_14 ?_
  refine g_lcmp_ge (tgt := 29) hx hb ⟨g1, gb.2⟩ dX4_held_15 dX4_held_16 (by decide) (fun c2 => over (fun w => absurd w.2 (by omega))) (fun c2 => ?_)
  replace hh := it_t ⟨c1, by omega⟩ hh
  exact tail s.heap [] S hP rfl hh hS
/-- the value of a sum's tree, and Now behind it -/
abbrev mV (l : Launch) (y : MethodName) (bytes : ByteArray) (maxL f L : Nat) (Z : hZ) (nw a : Nat) (S : yS) (z : Int) (S1 : yS) (P : Heap → Prop) (n0 : Nat) : Prop := mH l y bytes maxL (some .long) (rmS f L) Z [.ref a, .ref nw] n0 (fun H => NowW Z nw S H ∧ P H) (fun w H => w = some (.long (zl z)) ∧ NowW Z nw S1 H) (fE nw) 0 0
section EH
variable {p : Program} {l : Launch} {e : Env} {R : Room} {s : State} {m : MethodId} {args : Array Value} {below : List Frame} {meth : Method} {c : Code} {H : Heap} {locs : List Loc} {Q : State → Prop} {cc : ByteArray} {pc nL : Nat} {ls : Array Slot} {rest : List Value} {Z : hZ} {nw : Nat} {S : yS} {own : String} {idx : Nat}
theorem tk_held (X : hCx own p c cc nL s m args Z) (hS : va_S (hA (fE nw) s.heap.size) s.heap H locs) (hN : NowW Z nw S H) {v z : Int} {S1 : yS} (hh : E_held S v = some (z, S1)) (hl0 : Cond.methodLink own idx yX4_held ∈ lw_all) (hR : 3 ≤ R.frames ∧ 102 ≤ R.locals) (hls : ls.size = nL) (hro : (rest.map fun v => v.category).sum ≤ 8) (hdg : decode cc pc = .ok (.invokevirtual idx, 3))
    (kk : ∀ (H1 : Heap) (locs1 : List Loc), NowW Z nw S1 H1 → hFr (fE nw) H H1 → va_S (hA (fE nw) s.heap.size) s.heap H1 locs1 → W p l e R s m args below meth c H1 locs1 0 0 Q (F0 m (pc + 3) ls (.long (zl z) :: rest))) : W p l e R s m args below meth c H locs 0 0 Q (F0 m pc ls (.long (zl v) :: .ref nw :: rest)) := by
  refine hcV (As := [.long (zl v)]) X hS (fun a h => by rw [h]; exact hN.2.2.2.2) (wE_held l Z nw S v H.size hh) hN (fun a h => Or.inl h) (hN.recv X.2) (lw_V hl0 q1010 q1011 q86 q1012) (show hdV yX4_held "ManyEyes$Now" 1 by decide +kernel) ⟨rfl, rfl⟩ ⟨hR.1, hR.2⟩ ⟨Nat.zero_le _, Nat.zero_le _⟩ hls hro hdg rfl (fun v H1 locs1 hv hfr hS => ?_)
  obtain ⟨rfl, h1⟩ := hv
  exact kk H1 locs1 h1 hfr hS
end EH
theorem vf_X11 : hCl tcl lw_all 5 0 "ManyEyes$Plain" "v" "I" := ⟨TX11, 1, RX11, rfl, in_X11, by decide, rfl, rfl, rfl⟩
theorem vf_X12 : hCl tcl lw_all 6 0 "ManyEyes$Letter" "k" "I" := ⟨TX12, 1, RX12, rfl, in_X12, by decide, rfl, rfl, rfl⟩
theorem vf_X13 : hCl tcl lw_all 7 0 "ManyEyes$Lens" "k" "I" := ⟨TX13, 1, RX13, rfl, in_X13, by decide, rfl, rfl, rfl⟩
theorem vf_X14 : hCl tcl lw_all 8 0 "ManyEyes$Paired" "k" "I" := ⟨TX14, 1, RX14, rfl, in_X14, by decide, rfl, rfl, rfl⟩
theorem wE_X11 (l : Launch) (Z : hZ) (nw a : Nat) (S : yS) (v : Int) (n0 : Nat) {z : Int} {S1 : yS} (gv : r32 v) (hh : E_held S (v) = some (z, S1)) : mV l yX11_of cX11_of 2 3 110 Z nw a S z S1 (va_at Z.D tcl (a, .inr (5, [.int (zi v)]))) n0 := by
  refine goHl (by decide +kernel) (Nat.le_of_ble_eq_true rfl) ?_
  intro p e s m args below meth c Q ls X hret hl hP hn hS hnm
  subst hn
  have hx := X.1.1
  have hb := X.1.2.1
  obtain ⟨hP, hA⟩ := hP
  replace hl : lv_has ls 2 [(0, .ref a), (1, .ref nw)] := hl
  refine lv_aload_n hx hb dX11_of_0 rfl (lv_at hl 1 rfl) ?_
  refine lv_aload_n hx hb dX11_of_1 rfl (lv_at hl 0 rfl) ?_
  refine h_get X.1 X.2.1 hA vf_X11 q798 rfl dX11_of_2 ?_
  refine g_i2l hx hb gv dX11_of_5 ?_
  refine tk_held (rest := []) X hS hP hh q1047 ⟨by decide, by decide⟩ hl.1 (Nat.le_of_ble_eq_true rfl) dX11_of_6 (fun H1 locs1 hN hfr hS => ?_)
  exact hret _ _ _ _ _ dX11_of_9 ⟨rfl, hN⟩ hS
theorem wE_X12 (l : Launch) (Z : hZ) (nw a : Nat) (S : yS) (v : Int) (n0 : Nat) {z : Int} {S1 : yS} (gv : (0 : Int) ≤ v ∧ v < 8) (hh : E_held S (S.2 661 v) = some (z, S1)) : mV l yX12_of cX12_of 2 3 110 Z nw a S z S1 (va_at Z.D tcl (a, .inr (6, [.int (zi v)]))) n0 := by
  refine goHl (by decide +kernel) (Nat.le_of_ble_eq_true rfl) ?_
  intro p e s m args below meth c Q ls X hret hl hP hn hS hnm
  subst hn
  have hx := X.1.1
  have hb := X.1.2.1
  obtain ⟨hP, hA⟩ := hP
  replace hl : lv_has ls 2 [(0, .ref a), (1, .ref nw)] := hl
  refine lv_aload_n hx hb dX12_of_0 rfl (lv_at hl 1 rfl) ?_
  refine lv_aload_n hx hb dX12_of_1 rfl (lv_at hl 1 rfl) ?_
  refine h_getN X.1 X.2.1 hP.1 nf_letter (X.2.2.1.NW _ q221 rfl) rfl dX12_of_2 ?_
  refine lv_aload_n hx hb dX12_of_5 rfl (lv_at hl 0 rfl) ?_
  refine h_get X.1 X.2.1 hA vf_X12 q808 rfl dX12_of_6 ?_
  refine va_lald hx hb X.2.1 (va_one hP.2.2.2.1) 0 4 rfl rfl (zi_in gv (by decide)) dX12_of_9 ?_
  show W p l e _ s m args below meth c _ _ _ _ Q (F0 m _ ls (.long (zl (S.2 661 (((zi v).toNatClampNeg : Nat) : Int))) :: _))
  rw [zi_cast ⟨gv.1, by omega⟩]
  refine tk_held (rest := []) X hS hP hh q1025 ⟨by decide, by decide⟩ hl.1 (Nat.le_of_ble_eq_true rfl) dX12_of_10 (fun H1 locs1 hN hfr hS => ?_)
  exact hret _ _ _ _ _ dX12_of_13 ⟨rfl, hN⟩ hS
theorem wE_X13 (l : Launch) (Z : hZ) (nw a : Nat) (S : yS) (v : Int) (n0 : Nat) {z : Int} {S1 : yS} (gv : (0 : Int) ≤ v ∧ v < 16) (gw : r32 (S.2 659 v)) (hh : E_held S (S.2 659 v) = some (z, S1)) : mV l yX13_of cX13_of 2 3 110 Z nw a S z S1 (va_at Z.D tcl (a, .inr (7, [.int (zi v)]))) n0 := by
  refine goHl (by decide +kernel) (Nat.le_of_ble_eq_true rfl) ?_
  intro p e s m args below meth c Q ls X hret hl hP hn hS hnm
  subst hn
  have hx := X.1.1
  have hb := X.1.2.1
  obtain ⟨hP, hA⟩ := hP
  replace hl : lv_has ls 2 [(0, .ref a), (1, .ref nw)] := hl
  refine lv_aload_n hx hb dX13_of_0 rfl (lv_at hl 1 rfl) ?_
  refine lv_aload_n hx hb dX13_of_1 rfl (lv_at hl 1 rfl) ?_
  refine h_getN X.1 X.2.1 hP.1 nf_take (X.2.2.1.NW _ q215 rfl) rfl dX13_of_2 ?_
  refine lv_aload_n hx hb dX13_of_5 rfl (lv_at hl 0 rfl) ?_
  refine h_get X.1 X.2.1 hA vf_X13 q818 rfl dX13_of_6 ?_
  refine va_iald hx hb X.2.1 (va_one hP.2.1) 0 3 rfl rfl (zi_in gv (by decide)) dX13_of_9 ?_
  show W p l e _ s m args below meth c _ _ _ _ Q (F0 m _ ls (.int (zi (S.2 659 (((zi v).toNatClampNeg : Nat) : Int))) :: _))
  rw [zi_cast ⟨gv.1, by omega⟩]
  refine g_i2l hx hb gw dX13_of_10 ?_
  refine tk_held (rest := []) X hS hP hh q1009 ⟨by decide, by decide⟩ hl.1 (Nat.le_of_ble_eq_true rfl) dX13_of_11 (fun H1 locs1 hN hfr hS => ?_)
  exact hret _ _ _ _ _ dX13_of_14 ⟨rfl, hN⟩ hS
theorem wE_X14 (l : Launch) (Z : hZ) (nw a : Nat) (S : yS) (v : Int) (n0 : Nat) {z : Int} {S1 : yS} (gv : (0 : Int) ≤ v ∧ v < 16) (gw : r32 (S.2 660 v)) (hh : E_held S (S.2 660 v) = some (z, S1)) : mV l yX14_of cX14_of 2 3 110 Z nw a S z S1 (va_at Z.D tcl (a, .inr (8, [.int (zi v)]))) n0 := by
  refine goHl (by decide +kernel) (Nat.le_of_ble_eq_true rfl) ?_
  intro p e s m args below meth c Q ls X hret hl hP hn hS hnm
  subst hn
  have hx := X.1.1
  have hb := X.1.2.1
  obtain ⟨hP, hA⟩ := hP
  replace hl : lv_has ls 2 [(0, .ref a), (1, .ref nw)] := hl
  refine lv_aload_n hx hb dX14_of_0 rfl (lv_at hl 1 rfl) ?_
  refine lv_aload_n hx hb dX14_of_1 rfl (lv_at hl 1 rfl) ?_
  refine h_getN X.1 X.2.1 hP.1 nf_pair (X.2.2.1.NW _ q218 rfl) rfl dX14_of_2 ?_
  refine lv_aload_n hx hb dX14_of_5 rfl (lv_at hl 0 rfl) ?_
  refine h_get X.1 X.2.1 hA vf_X14 q828 rfl dX14_of_6 ?_
  refine va_iald hx hb X.2.1 (va_one hP.2.2.1) 0 3 rfl rfl (zi_in gv (by decide)) dX14_of_9 ?_
  show W p l e _ s m args below meth c _ _ _ _ Q (F0 m _ ls (.int (zi (S.2 660 (((zi v).toNatClampNeg : Nat) : Int))) :: _))
  rw [zi_cast ⟨gv.1, by omega⟩]
  refine g_i2l hx hb gw dX14_of_10 ?_
  refine tk_held (rest := []) X hS hP hh q1040 ⟨by decide, by decide⟩ hl.1 (Nat.le_of_ble_eq_true rfl) dX14_of_11 (fun H1 locs1 hN hfr hS => ?_)
  exact hret _ _ _ _ _ dX14_of_14 ⟨rfl, hN⟩ hS
theorem wE_X15 (l : Launch) (Z : hZ) (nw a : Nat) (S : yS) (n0 : Nat) {z : Int} {S1 : yS} (gv : r32 (S.1 23)) (hh : E_held S (S.1 23) = some (z, S1)) : mV l yX15_of cX15_of 2 3 110 Z nw a S z S1 (va_at Z.D tcl (a, .inr (9, []))) n0 := by
  refine goHl (by decide +kernel) (Nat.le_of_ble_eq_true rfl) ?_
  intro p e s m args below meth c Q ls X hret hl hP hn hS hnm
  subst hn
  have hx := X.1.1
  have hb := X.1.2.1
  obtain ⟨hP, hA⟩ := hP
  replace hl : lv_has ls 2 [(0, .ref a), (1, .ref nw)] := hl
  refine lv_aload_n hx hb dX15_of_0 rfl (lv_at hl 1 rfl) ?_
  refine lv_aload_n hx hb dX15_of_1 rfl (lv_at hl 1 rfl) ?_
  refine h_getN X.1 X.2.1 hP.1 nf_tick (X.2.2.1.NW _ q223 rfl) rfl dX15_of_2 ?_
  refine g_i2l hx hb gv dX15_of_5 ?_
  refine tk_held (rest := []) X hS hP hh q1054 ⟨by decide, by decide⟩ hl.1 (Nat.le_of_ble_eq_true rfl) dX15_of_6 (fun H1 locs1 hN hfr hS => ?_)
  exact hret _ _ _ _ _ dX15_of_9 ⟨rfl, hN⟩ hS
