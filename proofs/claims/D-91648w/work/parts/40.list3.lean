/-! ArrayList: add, get, size, isEmpty -/
set_option maxRecDepth 100000
def ncap (L : List Nat) (c : Nat) : Nat := if L.length = c then gcap c else c
def acc (L : List Nat) (c : Nat) : Nat := if L.length = c then 1 else 0
def acs (L : List Nat) (c : Nat) : Nat := if L.length = c then gcap c else 0
abbrev edN (L : List Nat) (c ed n0 ed' : Nat) : Prop := (L.length = c ∧ n0 ≤ ed') ∨ (L.length ≠ c ∧ ed' = ed)
theorem w_grow (l : Launch) (Z : hZ) (a c ed : Nat) (L : List Nat) (hf : L.length = c) (hc : c < 40000) (n0 : Nat) : mH l yJ2_grow cJ2_grow 1 (some (.array (.object "java/lang/Object"))) ({ frames := 6, cells := 1, slots := gcap c, locals := 240 } : Room) Z [.ref a] n0 (Lst Z a L c ed) (fun v H => ∃ ed', v = some (.ref ed') ∧ n0 ≤ ed' ∧ Lst Z a L (gcap c) ed' H) (lF a c ed) 1 (gcap c) := by
  refine goHr (by decide +kernel) (Nat.le_of_ble_eq_true rfl) (Or.inr ⟨_, rfl⟩) ?_
  intro p e s m args below meth cd Q ls X hret hl hP hn hS hnm
  subst hn
  have hx := X.1.1
  have hbb := X.1.2.1
  have hF := hP.F
  obtain ⟨mm, h2⟩ := hP.2.1
  replace hl : lv_has ls 1 [(0, .ref a)] := hl
  refine lv_aload_n hx hbb dJ2_grow_0 rfl (lv_at hl 0 rfl) ?_
  refine lv_aload_n hx hbb dJ2_grow_1 rfl (lv_at hl 0 rfl) ?_
  refine h_get X.1 X.2.1 h2 af_size q148 rfl dJ2_grow_2 ?_
  refine lv_iconst (v := zi 1) hx hbb dJ2_grow_5 rfl ?_
  refine g_iadd hx hbb dJ2_grow_6 ?_
  rw [hf]
  refine hcV (As := [.int (zi (c + 1 : Int))]) (rest := []) X hS hF (w_grow2 l Z a c ed L hf hc s.heap.size) hP (fun x h => Or.inl h) (hP.recv X.2) (lw_V q329 q331 qs2 q84 q332) (show hdV yJ2_grow_2 "java/util/ArrayList" 1 by decide +kernel) ⟨rfl, rfl⟩ ⟨Nat.le_of_ble_eq_true rfl, Nat.le_of_ble_eq_true rfl⟩ ⟨Nat.le_refl _, by show 0 + gcap c ≤ gcap c; omega⟩ hl.1 (Nat.le_of_ble_eq_true rfl) dJ2_grow_7 rfl (fun v H locs hv hfr hS => ?_)
  obtain ⟨ed', rfl, h3, h4⟩ := hv
  refine W.widen (k := 1) (n := gcap c) (Nat.le_refl _) (by omega) ?_
  exact hret _ _ _ _ _ dJ2_grow_10 ⟨ed', rfl, h3, h4⟩ hS
theorem o_arr {Z : hZ} {s : State} {H : Heap} {x n : Nat} {f : Nat → Option Nat} (h : HE Z s) (h1 : oAny Z H x) (h2 : oArr Z x n f H) : False := by
  obtain ⟨cell, ci, b1, b2, b3, b4⟩ := h1
  have q : H[x]? = some (vp_cell (Z.d 2) (n, .inr (.inr (.inr (.inr f))))) := h2
  cases b1.symm.trans q
  have hl : ci < tcl.length := Nat.lt_of_lt_of_le b3 (by decide)
  obtain ⟨-, hfc, kC, hkC, hkind⟩ := h.1.1 ci _ (List.getElem?_eq_getElem hl)
  obtain ⟨-, kA, comp, k1, k2, -⟩ := h.1.2 2 (Z.d 2, .object "java/lang/Object") rfl
  have b5 : Z.d 2 = Z.D.1 ci := b4
  rw [← b5] at hkC
  cases hkC.symm.trans k1
  rw [hkind] at k2
  cases k2
theorem va_up_app {L : List Nat} {x : Nat} : va_up (fun j => L[j]?) L.length (some x) = fun j => (L ++ [x])[j]? := by
  funext j
  unfold va_up
  by_cases h : j = L.length
  · rw [if_pos h, h]; simp
  · rw [if_neg h]
    by_cases h2 : j < L.length
    · rw [List.getElem?_append_left h2]
    · show L[j]? = _
      rw [List.getElem?_eq_none (show L.length ≤ j by omega), List.getElem?_eq_none (show (L ++ [x]).length ≤ j by simp; omega)]
set_option maxHeartbeats 1000000 in
theorem w_add2 (l : Launch) (Z : hZ) (a c ed x : Nat) (L : List Nat) (hc : c < 40000) (n0 : Nat) : mH l yJ2_add_2 cJ2_add_2 4 none ({ frames := 7, cells := acc L c, slots := acs L c, locals := 280 } : Room) Z [.ref a, .ref x, .ref ed, .int (zi (L.length : Int))] n0 (fun H => Lst Z a L c ed H ∧ oAny Z H x) (fun v H => v = none ∧ ∃ ed', edN L c ed n0 ed' ∧ Lst Z a (L ++ [x]) (ncap L c) ed' H) (lF a c ed) (acc L c) (acs L c) := by
  refine goHv (by decide +kernel) (Nat.le_of_ble_eq_true rfl) ?_
  intro p e s m args below meth cd Q ls X hret hl hP hn hS hnm
  subst hn
  obtain ⟨hP, hX⟩ := hP
  have hx := X.1.1
  have hbb := X.1.2.1
  have hF := hP.F
  have hsz := hP.size_lt
  replace hl : lv_has ls 4 [(0, .ref a), (1, .ref x), (2, .ref ed), (3, .int (zi (L.length : Int)))] := hl
  have tail : ∀ (H : Heap) (locs : List Loc) (ls : Array Slot) (c' ed' k n : Nat), Lst Z a L c' ed' H → oAny Z H x → L.length < c' → c' = ncap L c → edN L c ed s.heap.size ed' → hA (lF a c ed) s.heap.size ed' → k = acc L c → n = acs L c → va_S (hA (lF a c ed) s.heap.size) s.heap H locs → lv_has ls 4 [(0, .ref a), (1, .ref x), (2, .ref ed'), (3, .int (zi (L.length : Int)))] → W p l e ({ frames := 7, cells := acc L c, slots := acs L c, locals := 280 } : Room) s m args below meth cd H locs k n Q (F0 m 11 ls []) := by
    intro H locs ls c' ed' k n hL hX hlt hcc hed hAe hk hn hS hl
    subst hk hn
    obtain ⟨h1, ⟨mm, h2⟩, h3, h4, h5⟩ := hL
    rcases h3 with ⟨e1, e2, e3⟩ | ⟨g1, g2, g3, g4, g5⟩
    · omega
    refine lv_aload_n hx hbb dJ2_add_2_11 rfl (lv_at hl 2 rfl) ?_
    refine lv_iload_n hx hbb dJ2_add_2_12 rfl (lv_at hl 3 rfl) ?_
    refine lv_aload_n hx hbb dJ2_add_2_13 rfl (lv_at hl 1 rfl) ?_
    refine h_aast X hS g5 hX (by omega) (by omega) hAe dJ2_add_2_14 (fun H1 locs1 hN hq => ?_)
    rw [show ((L.length : Int)).toNat = L.length by omega, va_up_app] at hN
    have h2' := va_at_keep h2 (hq.2.1 a (Ne.symm h4))
    refine lv_aload_n hx hbb dJ2_add_2_15 rfl (lv_at hl 0 rfl) ?_
    refine lv_iload_n hx hbb dJ2_add_2_16 rfl (lv_at hl 3 rfl) ?_
    refine lv_iconst (v := zi 1) hx hbb dJ2_add_2_17 rfl ?_
    refine g_iadd hx hbb dJ2_add_2_18 ?_
    refine h_put X.1 X.2.1 hq.2.2 h2' (ap_size ((L.length : Int) + 1)) q148 (Nat.le_of_ble_eq_true rfl) (Or.inl (Or.inl rfl)) dJ2_add_2_19 (fun H2 locs2 hA hq2 => ?_)
    have hany : ∀ y, oAny Z H y → oAny Z H2 y := by
      intro y hy
      by_cases hya : y = a
      · rw [hya]; exact oAny.of hA (by decide)
      · by_cases hye : y = ed'
        · rw [hye] at hy ⊢
          obtain ⟨cell, ci, b1, b2, b3, b4⟩ := hy
          have q1 : H[ed']? = _ := g5
          have q2 : H1[ed']? = _ := hN
          cases b1.symm.trans q1
          exact ⟨_, ci, (hq2.2.1 ed' h4).trans q2, rfl, b3, b4⟩
        · exact (hy.keep (hq.2.1 y hye)).keep (hq2.2.1 y hya)
    refine hret _ _ _ _ dJ2_add_2_22 ⟨rfl, ed', hed, h1, ⟨mm, ?_⟩, Or.inr ⟨by omega, by omega, by simp; omega, g4, ?_⟩, h4, fun y hy => ?_⟩ hq2.2.2
    · rw [show (((L ++ [x]).length : Nat) : Int) = (L.length : Int) + 1 by simp]
      exact hA
    · rw [← hcc]
      exact va_at_keep hN (hq2.2.1 ed' h4)
    · rcases List.mem_append.mp hy with h | h
      · exact hany y (h5 y h)
      · rw [List.mem_singleton.mp h]; exact hany x hX
  refine lv_iload_n hx hbb dJ2_add_2_0 rfl (lv_at hl 3 rfl) ?_
  refine lv_aload_n hx hbb dJ2_add_2_1 rfl (lv_at hl 2 rfl) ?_
  have hlen : ∀ (k : W p l e ({ frames := 7, cells := acc L c, slots := acs L c, locals := 280 } : Room) s m args below meth cd s.heap [] 0 0 Q (F0 m 3 ls [.int (zi (c : Int)), .int (zi (L.length : Int))])), W p l e ({ frames := 7, cells := acc L c, slots := acs L c, locals := 280 } : Room) s m args below meth cd s.heap [] 0 0 Q (F0 m 2 ls [.ref ed, .int (zi (L.length : Int))]) := by
    intro k
    rcases hP.2.2.1 with ⟨e1, e2, e3⟩ | ⟨g1, g2, g3, g4, g5⟩
    · subst e1 e2
      exact va_tlen hx hbb (gS_eD X.2).2 (hA_b X.2 hF hS) (v := zi 0) (by decide) dJ2_add_2_2 k
    · exact h_alen X g5 (by omega) dJ2_add_2_2 k
  refine hlen ?_
  refine g_icmp_ne (tgt := 11) hx hbb (show r32 (L.length : Int) ∧ r32 (c : Int) by unfold r32; omega) dJ2_add_2_3 (by decide) (fun c1 => ?_) (fun c1 => ?_)
  · have hf : L.length = c := by omega
    refine lv_aload_n hx hbb dJ2_add_2_6 rfl (lv_at hl 0 rfl) ?_
    refine hcV (As := []) (rest := []) X hS hF (w_grow l Z a c ed L hf hc s.heap.size) hP (fun x h => Or.inl h) (hP.recv X.2) (lw_V q325 q327 qs1 q84 q328) (show hdV yJ2_grow "java/util/ArrayList" 0 by decide +kernel) ⟨rfl, rfl⟩ ⟨Nat.le_of_ble_eq_true rfl, Nat.le_of_ble_eq_true rfl⟩ ⟨by show 0 + 1 ≤ acc L c; unfold acc; rw [if_pos hf]; omega, by show 0 + gcap c ≤ acs L c; unfold acs; rw [if_pos hf]; omega⟩ hl.1 (Nat.le_of_ble_eq_true rfl) dJ2_add_2_7 rfl (fun v H locs hv hfr hS => ?_)
    obtain ⟨ed', rfl, h3, h4⟩ := hv
    refine lv_astore_n (lv' := [(2, .ref ed'), (0, .ref a), (1, .ref x), (3, .int (zi (L.length : Int)))]) hx hbb dJ2_add_2_10 rfl hl (by decide) rfl (fun ls hl => ?_)
    replace hl := lv_sub hl [1, 2, 0, 3] rfl
    have hx2 : oAny Z H x := by
      by_cases hxa : x = a
      · obtain ⟨m2, q2⟩ := h4.2.1
        rw [hxa]; exact oAny.of q2 (by decide)
      · by_cases hxe : x = ed ∧ 10 ≤ c
        · exfalso
          rcases hP.2.2.1 with ⟨e1, e2, e3⟩ | ⟨g1, g2, g3, g4, g5⟩
          · omega
          · rw [hxe.1] at hX
            exact o_arr X.2 hX g5
        · exact hX.keep (hfr.2 x hX.lt (fun z => z.elim hxa hxe))
    have hcc : c = 0 ∨ 10 ≤ c := hP.2.2.1.elim (fun z => Or.inl z.1) (fun z => Or.inr z.1)
    exact tail H locs ls (gcap c) ed' _ _ h4 hx2 (by unfold gcap; split <;> omega) (by unfold ncap; rw [if_pos hf]) (Or.inl ⟨hf, h3⟩) (Or.inr h3) (by unfold acc; rw [if_pos hf]) (by unfold acs; rw [if_pos hf]; omega) hS hl
  · have hf : L.length ≠ c := by omega
    have h10 : 10 ≤ c := by
      rcases hP.2.2.1 with ⟨e1, e2, e3⟩ | ⟨g1, -⟩
      · rw [e3, e1] at hf; exact absurd rfl hf
      · exact g1
    exact tail s.heap [] ls c ed 0 0 hP hX (by omega) (by unfold ncap; rw [if_neg hf]) (Or.inr ⟨hf, rfl⟩) (Or.inl (Or.inr ⟨rfl, h10⟩)) (by unfold acc; rw [if_neg hf]) (by unfold acs; rw [if_neg hf]) hS hl
theorem w_add (l : Launch) (Z : hZ) (a c ed x : Nat) (L : List Nat) (hc : c < 40000) (n0 : Nat) : mH l yJ2_add cJ2_add 2 (some .boolean) ({ frames := 8, cells := acc L c, slots := acs L c, locals := 320 } : Room) Z [.ref a, .ref x] n0 (fun H => Lst Z a L c ed H ∧ oAny Z H x) (fun v H => v = some (.int (zi 1)) ∧ ∃ ed', edN L c ed n0 ed' ∧ Lst Z a (L ++ [x]) (ncap L c) ed' H) (lF a c ed) (acc L c) (acs L c) := by
  refine goHi (by decide +kernel) (Nat.le_of_ble_eq_true rfl) (fun v _ h => by have h1 := Option.some.inj h.1; rw [h1]; rfl) ?_
  intro p e s m args below meth cd Q ls X hret hl hP hn hS hnm
  subst hn
  obtain ⟨hP, hX⟩ := hP
  have hx := X.1.1
  have hbb := X.1.2.1
  have hF := hP.F
  obtain ⟨mm, h2⟩ := hP.2.1
  replace hl : lv_has ls 2 [(0, .ref a), (1, .ref x)] := hl
  refine lv_aload_n hx hbb dJ2_add_0 rfl (lv_at hl 0 rfl) ?_
  refine lv_dup hx hbb dJ2_add_1 rfl ?_
  refine h_getS X h2 af_mod q150 q151 rfl dJ2_add_2 ?_
  refine lv_iconst (v := zi 1) hx hbb dJ2_add_5 rfl ?_
  refine g_iadd hx hbb dJ2_add_6 ?_
  refine h_putS X hS h2 (ap_mod (mm + 1)) q150 q151 (Nat.le_of_ble_eq_true rfl) (Or.inl (Or.inl rfl)) dJ2_add_7 (fun H locs hA hq => ?_)
  have hany : ∀ y, oAny Z s.heap y → oAny Z H y := by
    intro y hy
    by_cases hya : y = a
    · rw [hya]; exact oAny.of hA (by decide)
    · exact hy.keep (hq.2.1 y hya)
  have hP1 : Lst Z a L c ed H := by
    obtain ⟨h1, -, h3, h4, h5⟩ := hP
    refine ⟨h1, ⟨mm + 1, hA⟩, ?_, h4, fun y hy => hany y (h5 y hy)⟩
    rcases h3 with h | ⟨g1, g2, g3, g4, g5⟩
    · exact Or.inl h
    · exact Or.inr ⟨g1, g2, g3, g4, va_at_keep g5 (hq.2.1 ed h4)⟩
  refine lv_aload_n hx hbb dJ2_add_10 rfl (lv_at hl 0 rfl) ?_
  refine lv_aload_n hx hbb dJ2_add_11 rfl (lv_at hl 1 rfl) ?_
  refine lv_aload_n hx hbb dJ2_add_12 rfl (lv_at hl 0 rfl) ?_
  refine h_get X.1 X.2.1 hA af_ed q147 rfl dJ2_add_13 ?_
  refine lv_aload_n hx hbb dJ2_add_16 rfl (lv_at hl 0 rfl) ?_
  refine h_get X.1 X.2.1 hA af_size q148 rfl dJ2_add_17 ?_
  have hsz : H.size = s.heap.size := hq.1
  refine hcV (As := [.ref x, .ref ed, .int (zi (L.length : Int))]) (rest := []) X hq.2.2 hF (w_add2 l Z a c ed x L hc H.size) ⟨hP1, hany x hX⟩ (fun x h => Or.inl h) (hP1.recv X.2) (lw_V q321 q323 qs0 q84 q324) (show hdV yJ2_add_2 "java/util/ArrayList" 3 by decide +kernel) ⟨rfl, rfl⟩ ⟨Nat.le_of_ble_eq_true rfl, Nat.le_of_ble_eq_true rfl⟩ ⟨by show 0 + acc L c ≤ acc L c; omega, by show 0 + acs L c ≤ acs L c; omega⟩ hl.1 (Nat.le_of_ble_eq_true rfl) dJ2_add_20 rfl (fun v H1 locs1 hv hfr hS => ?_)
  obtain ⟨rfl, ed', h3, h4⟩ := hv
  refine lv_iconst (v := zi 1) hx hbb dJ2_add_23 rfl ?_
  refine W.widen (k := acc L c) (n := acs L c) (by omega) (by omega) ?_
  exact hret _ _ _ _ _ dJ2_add_24 ⟨rfl, ed', by rw [← hsz]; exact h3, h4⟩ hS
theorem w_size (l : Launch) (Z : hZ) (a c ed : Nat) (L : List Nat) (n0 : Nat) : mH l yJ2_size cJ2_size 1 (some .int) (rmS 1 40) Z [.ref a] n0 (Lst Z a L c ed) (fun v _ => v = some (.int (zi (L.length : Int)))) F0_ 0 0 := by
  refine goHi (by decide +kernel) (Nat.le_of_ble_eq_true rfl) (fun v _ h => rfl) ?_
  intro p e s m args below meth cd Q ls X hret hl hP hn hS hnm
  subst hn
  obtain ⟨mm, h2⟩ := hP.2.1
  replace hl : lv_has ls 1 [(0, .ref a)] := hl
  refine lv_aload_n X.1.1 X.1.2.1 dJ2_size_0 rfl (lv_at hl 0 rfl) ?_
  refine h_get X.1 X.2.1 h2 af_size q148 rfl dJ2_size_1 ?_
  exact hret _ _ _ _ _ dJ2_size_4 rfl hS
theorem w_isE (l : Launch) (Z : hZ) (a c ed : Nat) (L : List Nat) (n0 : Nat) : mH l yJ2_isEmpty cJ2_isEmpty 1 (some .boolean) (rmS 1 40) Z [.ref a] n0 (Lst Z a L c ed) (fun v _ => v = some (.int (zi (bz (decide (L = [])))))) F0_ 0 0 := by
  refine goHi (by decide +kernel) (Nat.le_of_ble_eq_true rfl) (fun v _ h => by have h1 := Option.some.inj h; rw [h1]; cases decide (L = []) <;> rfl) ?_
  intro p e s m args below meth cd Q ls X hret hl hP hn hS hnm
  subst hn
  have hsz := hP.size_lt
  obtain ⟨mm, h2⟩ := hP.2.1
  replace hl : lv_has ls 1 [(0, .ref a)] := hl
  refine lv_aload_n X.1.1 X.1.2.1 dJ2_isEmpty_0 rfl (lv_at hl 0 rfl) ?_
  refine h_get X.1 X.2.1 h2 af_size q148 rfl dJ2_isEmpty_1 ?_
  refine g_if_ne (tgt := 11) X.1.1 X.1.2.1 (show r32 (L.length : Int) by unfold r32; omega) dJ2_isEmpty_4 (by decide) (fun c1 => ?_) (fun c1 => ?_)
  · refine lv_iconst (v := zi 1) X.1.1 X.1.2.1 dJ2_isEmpty_7 rfl ?_
    refine lv_goto (tgt := 12) X.1.1 X.1.2.1 dJ2_isEmpty_8 (by decide) ?_
    have : L = [] := List.length_eq_zero_iff.mp (by omega)
    exact hret _ _ _ _ _ dJ2_isEmpty_12 (by rw [this]; rfl) hS
  · refine lv_iconst (v := zi 0) X.1.1 X.1.2.1 dJ2_isEmpty_11 rfl ?_
    have : ¬ L = [] := fun h => c1 (by rw [h]; rfl)
    exact hret _ _ _ _ _ dJ2_isEmpty_12 (by rw [decide_eq_false this]; rfl) hS
theorem w_elD (l : Launch) (Z : hZ) (a c ed : Nat) (L : List Nat) (i : Int) (y : Nat) (hi : 0 ≤ i ∧ L[i.toNat]? = some y) (n0 : Nat) : mH l yJ2_elementData cJ2_elementData 2 (some (.object "java/lang/Object")) (rmS 1 40) Z [.ref a, .int (zi i)] n0 (Lst Z a L c ed) (fun v _ => v = some (.ref y)) F0_ 0 0 := by
  refine goHr (by decide +kernel) (Nat.le_of_ble_eq_true rfl) (Or.inl ⟨_, rfl⟩) ?_
  intro p e s m args below meth cd Q ls X hret hl hP hn hS hnm
  subst hn
  have hlt := (List.getElem?_eq_some_iff.mp hi.2).1
  obtain ⟨mm, h2⟩ := hP.2.1
  replace hl : lv_has ls 2 [(0, .ref a), (1, .int (zi i))] := hl
  refine lv_aload_n X.1.1 X.1.2.1 dJ2_elementData_0 rfl (lv_at hl 0 rfl) ?_
  refine h_get X.1 X.2.1 h2 af_ed q147 rfl dJ2_elementData_1 ?_
  refine lv_iload_n X.1.1 X.1.2.1 dJ2_elementData_4 rfl (lv_at hl 1 rfl) ?_
  rcases hP.2.2.1 with ⟨e1, e2, e3⟩ | ⟨g1, g2, g3, g4, g5⟩
  · rw [e3] at hlt; exact absurd hlt (Nat.not_lt_zero _)
  · refine h_aald X g5 (by omega) (by omega) dJ2_elementData_5 ?_
    rw [hi.2]
    exact hret _ _ _ _ _ dJ2_elementData_6 rfl hS
theorem w_lget (l : Launch) (Z : hZ) (a c ed : Nat) (L : List Nat) (i : Int) (y : Nat) (hi : 0 ≤ i ∧ L[i.toNat]? = some y) (n0 : Nat) : mH l yJ2_get cJ2_get 2 (some (.object "java/lang/Object")) (rmS 3 120) Z [.ref a, .int (zi i)] n0 (Lst Z a L c ed) (fun v _ => v = some (.ref y)) F0_ 0 0 := by
  refine goHr (by decide +kernel) (Nat.le_of_ble_eq_true rfl) (Or.inl ⟨_, rfl⟩) ?_
  intro p e s m args below meth cd Q ls X hret hl hP hn hS hnm
  subst hn
  have hx := X.1.1
  have hbb := X.1.2.1
  have hlt := (List.getElem?_eq_some_iff.mp hi.2).1
  have hsz := hP.size_lt
  obtain ⟨mm, h2⟩ := hP.2.1
  replace hl : lv_has ls 2 [(0, .ref a), (1, .int (zi i))] := hl
  refine lv_iload_n hx hbb dJ2_get_0 rfl (lv_at hl 1 rfl) ?_
  refine lv_aload_n hx hbb dJ2_get_1 rfl (lv_at hl 0 rfl) ?_
  refine h_get X.1 X.2.1 h2 af_size q148 rfl dJ2_get_2 ?_
  refine gcs_i (As := [.int (zi i), .int (zi (L.length : Int))]) (rest := []) X.1 hS (w_chkN l i (L.length : Int) (by omega)) (lw_S q307 q308 q89 q309) (show hdS yJ4_checkIndex 2 by decide +kernel) ⟨rfl, rfl⟩ ⟨by decide, by decide⟩ ⟨Nat.le_refl _, Nat.le_refl _⟩ hl.1 (Nat.le_of_ble_eq_true rfl) dJ2_get_5 rfl (fun H locs hk hS => ?_)
  refine lv_pop hx hbb dJ2_get_8 rfl ?_
  refine lv_aload_n hx hbb dJ2_get_9 rfl (lv_at hl 0 rfl) ?_
  refine lv_iload_n hx hbb dJ2_get_10 rfl (lv_at hl 1 rfl) ?_
  have hP1 := hP.keep (fun x _ hx => hk x hx)
  refine hcV (As := [.int (zi i)]) (rest := []) X hS (fun x h => h.elim) (w_elD l Z a c ed L i y hi H.size) hP1 (fun x h => h.elim) (hP1.recv X.2) (lw_V q313 q314 q315 q84 q316) (show hdV yJ2_elementData "java/util/ArrayList" 1 by decide +kernel) ⟨rfl, rfl⟩ ⟨by decide, by decide⟩ ⟨Nat.le_refl _, Nat.le_refl _⟩ hl.1 (Nat.le_of_ble_eq_true rfl) dJ2_get_11 rfl (fun v H1 locs1 hv hfr hS => ?_)
  subst hv
  exact hret _ _ _ _ _ dJ2_get_14 rfl hS
