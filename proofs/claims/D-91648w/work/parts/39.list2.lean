/-! ArrayList: growing, adding, reading -/
set_option maxRecDepth 100000
theorem w_copy1 (l : Launch) (Z : hZ) (ed c : Nat) (n : Int) (f : Nat → Option Nat) (hb : Z.b ≤ ed) (g : (c : Int) ≤ n ∧ n < 100000) (n0 : Nat) : mH l yJ7_copyOf cJ7_copyOf 2 (some (.array (.object "java/lang/Object"))) ({ frames := 4, cells := 1, slots := n.toNat, locals := 160 } : Room) Z [.ref ed, .int (zi n)] n0 (fun H => oArr Z ed c f H ∧ ∀ j y, j < c → f j = some y → oAny Z H y) (fun v H => v = some (.ref n0) ∧ oArr Z n0 n.toNat (cpF f c) H ∧ oArr Z ed c f H) (fE ed) 1 n.toNat := by
  refine goHr (by decide +kernel) (Nat.le_of_ble_eq_true rfl) (Or.inr ⟨_, rfl⟩) ?_
  intro p e s m args below meth cd Q ls X hret hl hP hn hS hnm
  subst hn
  have hx := X.1.1
  have hbb := X.1.2.1
  have hts := X.1.2.2.2.2
  have hown := X.1.2.2.2.1
  replace hl : lv_has ls 2 [(0, .ref ed), (1, .int (zi n))] := hl
  refine lv_aload_n hx hbb dJ7_copyOf_0 rfl (lv_at hl 0 rfl) ?_
  refine lv_iload_n hx hbb dJ7_copyOf_1 rfl (lv_at hl 1 rfl) ?_
  refine lv_aload_n hx hbb dJ7_copyOf_2 rfl (lv_at hl 0 rfl) ?_
  refine va_getC (rest := [.int (zi n), .ref ed]) hx hbb (X.1.2.2.1.trans hl.1.symm) hown (hts _ q344) ((X.2.2.1.NW _ q1656 rfl).use rfl) (hts _ q1655) (hts _ q345) (hts _ q368) (gS_mi X.2) ⟨_, hP.1, rfl, oA_cls X.2⟩ (Nat.le_of_ble_eq_true rfl) (Nat.le_of_ble_eq_true rfl) dJ7_copyOf_3 ?_
  refine hcS (As := [.ref ed, .int (zi n), .ref Z.G.mi]) (rest := []) X hS (fun x h => by rw [h]; exact hb) (w_copy2 l Z ed c n f hb g s.heap.size) hP (fun x h => Or.inl h) (lw_S q369 q370 q92 q371) (show hdS yJ7_copyOf_2 3 by decide +kernel) ⟨rfl, rfl⟩ ⟨Nat.le_of_ble_eq_true rfl, Nat.le_of_ble_eq_true rfl⟩ ⟨Nat.le_refl _, by show 0 + n.toNat ≤ n.toNat; omega⟩ hl.1 (Nat.le_of_ble_eq_true rfl) dJ7_copyOf_6 rfl (fun v H locs hv hfr hS => ?_)
  obtain ⟨rfl, h1, h2⟩ := hv
  refine W.widen (k := 1) (n := n.toNat) (Nat.le_refl _) (by omega) ?_
  exact hret _ _ _ _ _ dJ7_copyOf_9 ⟨rfl, h1, h2⟩ hS
/-- an ArrayList at a: its contents L, the room c of its array at ed -/
def LstA (Z : hZ) (L : List Nat) (c ed : Nat) (H : Heap) : Prop := (c = 0 ∧ ed = Z.G.eD ∧ L = []) ∨ (10 ≤ c ∧ c < 60000 ∧ L.length ≤ c ∧ Z.b ≤ ed ∧ oArr Z ed c (fun j => L[j]?) H)
def Lst (Z : hZ) (a : Nat) (L : List Nat) (c ed : Nat) (H : Heap) : Prop := Z.b ≤ a ∧ (∃ m : Int, va_at Z.D tcl (a, .inr (14, [.int (zi m), .ref ed, .int (zi (L.length : Int))])) H) ∧ LstA Z L c ed H ∧ ed ≠ a ∧ ∀ y ∈ L, oAny Z H y
def gcap (c : Nat) : Nat := if c = 0 then 10 else c + c / 2
/-- what adding may change -/
def lF (a c ed : Nat) : Nat → Prop := fun x => x = a ∨ (x = ed ∧ 10 ≤ c)
theorem Lst.F {Z : hZ} {a c ed : Nat} {L : List Nat} {H : Heap} (h : Lst Z a L c ed H) : ∀ x, lF a c ed x → Z.b ≤ x := by
  intro x hx
  rcases hx with rfl | ⟨rfl, h10⟩
  · exact h.1
  · rcases h.2.2.1 with hq | hq
    · omega
    · exact hq.2.2.2.1
theorem Lst.keep {Z : hZ} {a c ed : Nat} {L : List Nat} {H H1 : Heap} (h : Lst Z a L c ed H) (hk : ∀ x, x = a ∨ (x = ed ∧ 10 ≤ c) ∨ x ∈ L → x < H.size → H1[x]? = H[x]?) : Lst Z a L c ed H1 := by
  obtain ⟨h1, ⟨m, h2⟩, h3, h4, h5⟩ := h
  refine ⟨h1, ⟨m, va_at_keep h2 (hk a (Or.inl rfl) (va_at_lt h2))⟩, ?_, h4, fun y hy => (h5 y hy).keep (hk y (Or.inr (Or.inr hy)) (h5 y hy).lt)⟩
  rcases h3 with h | ⟨g1, g2, g3, g4, g5⟩
  · exact Or.inl h
  · exact Or.inr ⟨g1, g2, g3, g4, va_at_keep g5 (hk ed (Or.inr (Or.inl ⟨rfl, g1⟩)) (va_at_lt g5))⟩
theorem Lst.size_lt {Z : hZ} {a c ed : Nat} {L : List Nat} {H : Heap} (h : Lst Z a L c ed H) : L.length < 60000 ∧ L.length ≤ c := by
  rcases h.2.2.1 with ⟨h1, h2, h3⟩ | h1
  · rw [h3]; exact ⟨by decide, Nat.zero_le _⟩
  · omega
theorem Lst.recv {Z : hZ} {a c ed : Nat} {L : List Nat} {s : State} {H : Heap} (X : HE Z s) (h : Lst Z a L c ed H) : ∃ cell : Cell, H[a]? = some cell ∧ cell.vm.isStatics = false ∧ s.vm.findClass "java/util/ArrayList" = some cell.cls := by
  obtain ⟨h1, ⟨m, h2⟩, -⟩ := h
  exact va_recv X.1 (va_one h2) (ci := 14) (q0 := 0) rfl rfl
theorem cpF_full {L : List Nat} {c : Nat} (h : L.length = c) : cpF (fun j => L[j]?) c = fun j => L[j]? := by
  funext j
  unfold cpF
  by_cases hj : j < c
  · rw [if_pos hj]
  · rw [if_neg hj, List.getElem?_eq_none (by omega)]
set_option maxHeartbeats 1000000 in
theorem w_grow2 (l : Launch) (Z : hZ) (a c ed : Nat) (L : List Nat) (hf : L.length = c) (hc : c < 40000) (n0 : Nat) : mH l yJ2_grow_2 cJ2_grow_2 4 (some (.array (.object "java/lang/Object"))) ({ frames := 5, cells := 1, slots := gcap c, locals := 200 } : Room) Z [.ref a, .int (zi (c + 1 : Int))] n0 (Lst Z a L c ed) (fun v H => ∃ ed', v = some (.ref ed') ∧ n0 ≤ ed' ∧ Lst Z a L (gcap c) ed' H) (lF a c ed) 1 (gcap c) := by
  refine goHr (by decide +kernel) (Nat.le_of_ble_eq_true rfl) (Or.inr ⟨_, rfl⟩) ?_
  intro p e s m args below meth cd Q ls X hret hl hP hn hS hnm
  subst hn
  have hx := X.1.1
  have hbb := X.1.2.1
  have hts := X.1.2.2.2.2
  have hown := X.1.2.2.2.1
  have hF := hP.F
  obtain ⟨h1, ⟨mm, h2⟩, h3, h4, h5⟩ := hP
  replace hl : lv_has ls 4 [(0, .ref a), (1, .int (zi (c + 1 : Int)))] := hl
  refine lv_aload_n hx hbb dJ2_grow_2_0 rfl (lv_at hl 0 rfl) ?_
  refine h_get X.1 X.2.1 h2 af_ed q147 rfl dJ2_grow_2_1 ?_
  rcases h3 with ⟨e1, e2, e3⟩ | ⟨g1, g2, g3, g4, g5⟩
  · subst e1 e2
    refine va_tlen hx hbb (gS_eD X.2).2 (hA_b X.2 hF hS) (v := zi 0) (by decide) dJ2_grow_2_4 ?_
    refine lv_istore_n (lv' := [(2, .int (zi 0)), (0, .ref a), (1, .int (zi ((0 : Nat) + 1 : Int)))]) hx hbb dJ2_grow_2_5 rfl hl (by decide) rfl (fun ls hl => ?_)
    refine lv_iload_n hx hbb dJ2_grow_2_6 rfl (lv_at hl 0 rfl) ?_
    refine g_if_gt (tgt := 20) hx hbb (by decide) dJ2_grow_2_7 (by decide) (fun c1 => ?_) (fun c1 => absurd (Int.le_refl 0) c1)
    refine lv_aload_n hx hbb dJ2_grow_2_10 rfl (lv_at hl 1 rfl) ?_
    refine h_get X.1 X.2.1 h2 af_ed q147 rfl dJ2_grow_2_11 ?_
    refine va_gets hx hbb (gS_eD X.2).1 (hA_b X.2 hF hS) hown (hts _ q145) (fun x h => h) dJ2_grow_2_14 ?_
    refine lv_acmp_eq (rx := some Z.G.eD) (ry := some Z.G.eD) (tgt := 45) hx hbb dJ2_grow_2_17 (by decide) (fun c1 => ?_) (fun c1 => absurd rfl c1)
    refine lv_aload_n hx hbb dJ2_grow_2_45 rfl (lv_at hl 1 rfl) ?_
    refine lv_bipush (v := zi 10) hx hbb dJ2_grow_2_46 (by decide) ?_
    refine lv_iload_n hx hbb dJ2_grow_2_48 rfl (lv_at hl 2 rfl) ?_
    have hm : Ma_max 10 ((0 : Nat) + 1 : Int) = some 10 := by decide
    refine gcs_i (As := [.int (zi 10), .int (zi ((0 : Nat) + 1 : Int))]) (rest := [.ref a]) X.1 hS (wMa_max l 10 ((0 : Nat) + 1 : Int) hm) (lw_S q377 q283 q87 q284) (show hdS yJ3_max 2 by decide +kernel) ⟨rfl, rfl⟩ ⟨Nat.le_of_ble_eq_true rfl, Nat.le_of_ble_eq_true rfl⟩ ⟨Nat.zero_le _, Nat.zero_le _⟩ hl.1 (Nat.le_of_ble_eq_true rfl) dJ2_grow_2_49 rfl (fun H locs hk hS => ?_)
    have hS0 := hS.1
    refine h_newq X hS (show (0 : Int) ≤ 10 ∧ (10 : Int) < 100000 by decide) q378 (Nat.le_refl _) (Nat.le_of_ble_eq_true rfl) dJ2_grow_2_52 (fun H1 hN z1 o1 hS => ?_)
    have h2a : H1[a]? = s.heap[a]? := (o1 a (Nat.lt_of_lt_of_le (va_at_lt h2) hS0)).trans (hk a (va_at_lt h2))
    refine lv_dup_x1 hx hbb dJ2_grow_2_55 rfl rfl ?_
    refine h_put X.1 X.2.1 hS (va_at_keep h2 h2a) (ap_ed H.size) q147 (Nat.le_of_ble_eq_true rfl) (Or.inl (Or.inl rfl)) dJ2_grow_2_56 (fun H2 locs2 hA hq => ?_)
    have hea : H.size ≠ a := by have := va_at_lt h2; omega
    refine hret _ _ _ _ _ dJ2_grow_2_59 ⟨H.size, rfl, hS0, h1, ⟨mm, hA⟩, Or.inr ⟨by decide, by decide, by omega, Nat.le_trans X.2.2.2 hS0, ?_⟩, hea, fun y hy => by rw [e3] at hy; cases hy⟩ hq.2.2
    have hN2 := va_at_keep hN (hq.2.1 H.size hea)
    rw [e3]
    exact hN2
  · refine h_alen X g5 (by omega) dJ2_grow_2_4 ?_
    refine lv_istore_n (lv' := [(2, .int (zi (c : Int))), (0, .ref a), (1, .int (zi (c + 1 : Int)))]) hx hbb dJ2_grow_2_5 rfl hl (by decide) rfl (fun ls hl => ?_)
    refine lv_iload_n hx hbb dJ2_grow_2_6 rfl (lv_at hl 0 rfl) ?_
    refine g_if_gt (tgt := 20) hx hbb (show r32 (c : Int) by unfold r32; omega) dJ2_grow_2_7 (by decide) (fun c1 => absurd c1 (by omega)) (fun c1 => ?_)
    refine lv_iload_n hx hbb dJ2_grow_2_20 rfl (lv_at hl 0 rfl) ?_
    refine lv_iload_n hx hbb dJ2_grow_2_21 rfl (lv_at hl 2 rfl) ?_
    refine lv_iload_n hx hbb dJ2_grow_2_22 rfl (lv_at hl 0 rfl) ?_
    refine g_isub hx hbb dJ2_grow_2_23 ?_
    rw [show (c + 1 : Int) - (c : Int) = 1 by omega]
    refine lv_iload_n hx hbb dJ2_grow_2_24 rfl (lv_at hl 0 rfl) ?_
    refine lv_iconst (v := zi 1) hx hbb dJ2_grow_2_25 rfl ?_
    refine g_ishr hx hbb (show r32 (c : Int) ∧ (0 : Int) ≤ 1 ∧ (1 : Int) ≤ 31 by unfold r32; omega) dJ2_grow_2_26 ?_
    rw [show (c : Int) / 2 ^ (1 : Int).toNat = (c : Int) / 2 from rfl]
    refine gcs_i (As := [.int (zi (c : Int)), .int (zi 1), .int (zi ((c : Int) / 2))]) (rest := []) X.1 hS (w_newLen l (c : Int) (by omega)) (lw_S q333 q334 q91 q335) (show hdS yJ6_newLength 3 by decide +kernel) ⟨rfl, rfl⟩ ⟨Nat.le_of_ble_eq_true rfl, Nat.le_of_ble_eq_true rfl⟩ ⟨Nat.zero_le _, Nat.zero_le _⟩ hl.1 (Nat.le_of_ble_eq_true rfl) dJ2_grow_2_27 rfl (fun H locs hk hS => ?_)
    have hS0 := hS.1
    refine lv_istore_n (lv' := [(3, .int (zi ((c : Int) + (c : Int) / 2))), (2, .int (zi (c : Int))), (0, .ref a), (1, .int (zi (c + 1 : Int)))]) hx hbb dJ2_grow_2_30 rfl hl (by decide) rfl (fun ls hl => ?_)
    have h2H := va_at_keep h2 (hk a (va_at_lt h2))
    have g5H := va_at_keep g5 (hk ed (va_at_lt g5))
    have hgc : ((c : Int) + (c : Int) / 2).toNat = gcap c := by unfold gcap; rw [if_neg (by omega)]; omega
    refine lv_aload_n hx hbb dJ2_grow_2_31 rfl (lv_at hl 2 rfl) ?_
    refine lv_aload_n hx hbb dJ2_grow_2_32 rfl (lv_at hl 2 rfl) ?_
    refine h_get X.1 X.2.1 h2H af_ed q147 rfl dJ2_grow_2_33 ?_
    refine lv_iload_n hx hbb dJ2_grow_2_36 rfl (lv_at hl 0 rfl) ?_
    refine hcS (As := [.ref ed, .int (zi ((c : Int) + (c : Int) / 2))]) (rest := [.ref a]) X hS hF (w_copy1 l Z ed c ((c : Int) + (c : Int) / 2) (fun j => L[j]?) g4 (by omega) H.size) ⟨g5H, fun j y hj hy => (h5 y (List.mem_of_getElem? hy)).keep (hk y (h5 y (List.mem_of_getElem? hy)).lt)⟩ (fun x h => Or.inl (Or.inr ⟨h, g1⟩)) (lw_S q341 q342 q92 q343) (show hdS yJ7_copyOf 2 by decide +kernel) ⟨rfl, rfl⟩ ⟨Nat.le_of_ble_eq_true rfl, Nat.le_of_ble_eq_true rfl⟩ ⟨Nat.le_refl _, by rw [hgc]; show 0 + gcap c ≤ gcap c; omega⟩ hl.1 (Nat.le_of_ble_eq_true rfl) dJ2_grow_2_37 rfl (fun v H1 locs1 hv hfr hS => ?_)
    obtain ⟨rfl, hN, hE⟩ := hv
    rw [hgc, cpF_full hf] at hN
    rw [hgc]
    have hlt2 := va_at_lt h2
    have h2a : H1[a]? = s.heap[a]? := (hfr.2 a (by omega) (fun z => h4 z.symm)).trans (hk a hlt2)
    refine lv_dup_x1 hx hbb dJ2_grow_2_40 rfl rfl ?_
    refine h_put X.1 X.2.1 hS (va_at_keep h2 h2a) (ap_ed H.size) q147 (Nat.le_of_ble_eq_true rfl) (Or.inl (Or.inl rfl)) dJ2_grow_2_41 (fun H2 locs2 hA hq => ?_)
    have hea : H.size ≠ a := by omega
    refine W.widen (k := 1) (n := gcap c) (Nat.le_refl _) (by omega) ?_
    refine hret _ _ _ _ _ dJ2_grow_2_44 ⟨H.size, rfl, hS0, h1, ⟨mm, hA⟩, Or.inr ⟨by omega, by omega, by omega, Nat.le_trans X.2.2.2 hS0, va_at_keep hN (hq.2.1 H.size hea)⟩, hea, fun y hy => ?_⟩ hq.2.2
    have hy0 := h5 y hy
    have hylt := hy0.lt
    by_cases hya : y = a
    · rw [hya]; exact oAny.of hA (by decide)
    · have hyH := hy0.keep (hk y hylt)
      by_cases hye : y = ed
      · refine (hyH.keep ?_).keep (hq.2.1 y hya)
        have q1 : H1[ed]? = _ := hE
        have q2 : H[ed]? = _ := g5H
        rw [hye, q1, q2]
      · exact (hyH.keep (hfr.2 y (by omega) hye)).keep (hq.2.1 y hya)
