/-! ArrayList.clear: the room stays -/
set_option maxRecDepth 100000
theorem h_aastN {p : Program} {l : Launch} {e : Env} {R : Room} {s : State} {m : MethodId} {args : Array Value} {below : List Frame} {meth : Method} {c : Code} {H : Heap} {locs : List Loc} {cells slots : Nat} {Q : State → Prop} {cc : ByteArray} {pc nL : Nat} {ls : Array Slot} {rest : List Value} {Z : hZ} {own : String} {F : Nat → Prop} {a : Nat} (X : hCx own p c cc nL s m args Z) (hS : va_S (hA F s.heap.size) s.heap H locs) {n : Nat} {f : Nat → Option Nat} (h : oArr Z a n f H) {i : Int} (g : 0 ≤ i ∧ i < (n : Int)) (hn : n < 2147483648) (ha : hA F s.heap.size a) (hdg : decode cc pc = .ok (.aastore, 1))
    (kk : ∀ (H1 : Heap) (locs1 : List Loc), oArr Z a n (va_up f i.toNat none) H1 → hq_ (hA F s.heap.size) s.heap H H1 locs1 a → W p l e R s m args below meth c H1 locs1 cells slots Q (F0 m (pc + 1) ls rest)) : W p l e R s m args below meth c H locs cells slots Q (F0 m pc ls (.null :: .int (zi i) :: .ref a :: rest)) := by
  have hci : (zi i).toNatClampNeg = i.toNat := zi_cl ⟨g.1, by omega⟩
  refine va_WaastN (C := "java/lang/Object") X.1.1 X.1.2.1 h ((X.2.1.2 2 (Z.d 2, .object "java/lang/Object") rfl).1 n (fun j => va_rf (f j))) (fun h => by cases h) (by show ¬ (zi i < 0 ∨ (arrV _ _ _).slots.size ≤ _); rw [arrV_size]; exact zi_in g hn) rfl rfl hdg fun H1 e z oq => ?_
  refine kk H1 _ ?_ ⟨z, oq, hS.put z oq ha⟩
  show H1[a]? = some (vp_cell _ _)
  rw [e]
  rw [vp_cell_q, vp_cell_q, arrV_store, ← hci]
  congr 2
  funext q
  by_cases hq : q = (zi i).toNatClampNeg
  · subst hq
    simp [updV, va_up, va_rf]
  · simp [updV, va_up, hq]
set_option maxHeartbeats 1000000 in
theorem w_clear (l : Launch) (Z : hZ) (a c ed : Nat) (L : List Nat) (n0 : Nat) : mH l yJ2_clear cJ2_clear 4 none (rmS 1 40) Z [.ref a] n0 (Lst Z a L c ed) (fun v H => v = none ∧ Lst Z a [] c ed H) (lF a c ed) 0 0 := by
  refine goHv (by decide +kernel) (Nat.le_of_ble_eq_true rfl) ?_
  intro p e s m args below meth cd Q ls X hret hl hP hn hS hnm
  subst hn
  have hx := X.1.1
  have hbb := X.1.2.1
  have hsz := hP.size_lt
  obtain ⟨h1, ⟨mm, h2⟩, h3, h4, h5⟩ := hP
  replace hl : lv_has ls 4 [(0, .ref a)] := hl
  refine lv_aload_n hx hbb dJ2_clear_0 rfl (lv_at hl 0 rfl) ?_
  refine lv_dup hx hbb dJ2_clear_1 rfl ?_
  refine h_getS X h2 af_mod q150 q151 rfl dJ2_clear_2 ?_
  refine lv_iconst (v := zi 1) hx hbb dJ2_clear_5 rfl ?_
  refine g_iadd hx hbb dJ2_clear_6 ?_
  refine h_putS X hS h2 (ap_mod (mm + 1)) q150 q151 (Nat.le_of_ble_eq_true rfl) (Or.inl (Or.inl rfl)) dJ2_clear_7 (fun H1 locs1 hA1 hq1 => ?_)
  refine lv_aload_n hx hbb dJ2_clear_10 rfl (lv_at hl 0 rfl) ?_
  refine h_get X.1 X.2.1 hA1 af_ed q147 rfl dJ2_clear_11 ?_
  refine lv_astore_n (lv' := [(1, .ref ed), (0, .ref a)]) hx hbb dJ2_clear_14 rfl hl (by decide) rfl (fun ls hl => ?_)
  refine lv_aload_n hx hbb dJ2_clear_15 rfl (lv_at hl 1 rfl) ?_
  refine h_get X.1 X.2.1 hA1 af_size q148 rfl dJ2_clear_16 ?_
  refine lv_istore_n (lv' := [(2, .int (zi (L.length : Int))), (1, .ref ed), (0, .ref a)]) hx hbb dJ2_clear_19 rfl hl (by decide) rfl (fun ls hl => ?_)
  refine lv_aload_n hx hbb dJ2_clear_20 rfl (lv_at hl 2 rfl) ?_
  refine lv_iconst (v := zi 0) hx hbb dJ2_clear_21 rfl ?_
  refine lv_dup_x1 hx hbb dJ2_clear_22 rfl rfl ?_
  refine h_put X.1 X.2.1 hq1.2.2 hA1 (ap_size 0) q148 (Nat.le_of_ble_eq_true rfl) (Or.inl (Or.inl rfl)) dJ2_clear_23 (fun H2 locs2 hA2 hq2 => ?_)
  refine lv_istore_n (lv' := [(3, .int (zi 0)), (2, .int (zi (L.length : Int))), (1, .ref ed), (0, .ref a)]) hx hbb dJ2_clear_26 rfl hl (by decide) rfl (fun ls hl => ?_)
  have k2 : ∀ x, x ≠ a → H2[x]? = s.heap[x]? := fun x hx => (hq2.2.1 x hx).trans (hq1.2.1 x hx)
  rcases h3 with ⟨e1, e2, e3⟩ | ⟨g1, g2, g3, g4, g5⟩
  · refine lv_iload_n hx hbb dJ2_clear_27 rfl (lv_at hl 0 rfl) ?_
    refine lv_iload_n hx hbb dJ2_clear_28 rfl (lv_at hl 1 rfl) ?_
    refine g_icmp_ge (tgt := 42) hx hbb (show r32 0 ∧ r32 (L.length : Int) by unfold r32; omega) dJ2_clear_29 (by decide) (fun d1 => absurd d1 (by rw [e3]; decide)) (fun d1 => ?_)
    exact hret _ _ _ _ dJ2_clear_42 ⟨rfl, h1, ⟨mm + 1, hA2⟩, Or.inl ⟨e1, e2, rfl⟩, h4, fun y hy => by cases hy⟩ hq2.2.2
  · have hed : hA (lF a c ed) s.heap.size ed := Or.inl (Or.inr ⟨rfl, g1⟩)
    have loop : ∀ (k i : Nat) (H : Heap) (locs : List Loc) (ls : Array Slot), i + k = L.length → va_at Z.D tcl (a, .inr (14, [.int (zi (mm + 1)), .ref ed, .int (zi 0)])) H → oArr Z ed c (fun j => if j < i then none else L[j]?) H → va_S (hA (lF a c ed) s.heap.size) s.heap H locs → lv_has ls 4 [(3, .int (zi (i : Int))), (2, .int (zi (L.length : Int))), (1, .ref ed), (0, .ref a)] → W p l e (rmS 1 40) s m args below meth cd H locs 0 0 Q (F0 m 27 ls []) := by
      intro k
      induction k with
      | zero =>
        intro i H locs ls hik hA hO hS hl
        refine lv_iload_n hx hbb dJ2_clear_27 rfl (lv_at hl 0 rfl) ?_
        refine lv_iload_n hx hbb dJ2_clear_28 rfl (lv_at hl 1 rfl) ?_
        refine g_icmp_ge (tgt := 42) hx hbb (show r32 (i : Int) ∧ r32 (L.length : Int) by unfold r32; omega) dJ2_clear_29 (by decide) (fun d1 => absurd d1 (by omega)) (fun d1 => ?_)
        have ef : (fun j => if j < i then none else L[j]?) = fun j => ([] : List Nat)[j]? := by
          funext j
          by_cases hj : j < i
          · rw [if_pos hj]; rfl
          · rw [if_neg hj, List.getElem?_eq_none (by omega)]; rfl
        rw [ef] at hO
        exact hret _ _ _ _ dJ2_clear_42 ⟨rfl, h1, ⟨mm + 1, hA⟩, Or.inr ⟨g1, g2, Nat.zero_le _, g4, hO⟩, h4, fun y hy => by cases hy⟩ hS
      | succ k ih =>
        intro i H locs ls hik hA hO hS hl
        refine lv_iload_n hx hbb dJ2_clear_27 rfl (lv_at hl 0 rfl) ?_
        refine lv_iload_n hx hbb dJ2_clear_28 rfl (lv_at hl 1 rfl) ?_
        refine g_icmp_ge (tgt := 42) hx hbb (show r32 (i : Int) ∧ r32 (L.length : Int) by unfold r32; omega) dJ2_clear_29 (by decide) (fun d1 => ?_) (fun d1 => absurd (show (i : Int) < (L.length : Int) by omega) d1)
        refine lv_aload_n hx hbb dJ2_clear_32 rfl (lv_at hl 2 rfl) ?_
        refine lv_iload_n hx hbb dJ2_clear_33 rfl (lv_at hl 0 rfl) ?_
        refine lv_null hx hbb dJ2_clear_34 ?_
        refine h_aastN X hS hO (by omega) (by omega) hed dJ2_clear_35 (fun H3 locs3 hO3 hq3 => ?_)
        refine lv_iinc (v := zi ((i : Int) + 1)) (lv' := [(3, .int (zi ((i : Int) + 1))), (2, .int (zi (L.length : Int))), (1, .ref ed), (0, .ref a)]) hx hbb dJ2_clear_36 hl (k := 0) rfl (zi_add _ _) (by decide) rfl (fun ls hl => ?_)
        refine lv_goto (tgt := 27) hx hbb dJ2_clear_39 (by decide) ?_
        have ef : va_up (fun j => if j < i then none else L[j]?) (i : Int).toNat none = fun j => if j < i + 1 then none else L[j]? := by
          funext j
          unfold va_up
          rw [show ((i : Int)).toNat = i by omega]
          by_cases hj : j = i
          · rw [if_pos hj, if_pos (by omega)]
          · rw [if_neg hj]
            show (if j < i then none else L[j]?) = _
            by_cases hj2 : j < i
            · rw [if_pos hj2, if_pos (by omega)]
            · rw [if_neg hj2, if_neg (by omega)]
        rw [ef] at hO3
        refine ih (i + 1) H3 locs3 ls (by omega) (va_at_keep hA (hq3.2.1 a (Ne.symm h4))) hO3 hq3.2.2 ?_
        rw [show (((i + 1 : Nat)) : Int) = (i : Int) + 1 by omega]
        exact hl
    have hO2 : oArr Z ed c (fun j => if j < 0 then none else L[j]?) H2 := by
      have : (fun j => if j < 0 then none else L[j]?) = fun j : Nat => L[j]? := by funext j; rw [if_neg (by omega)]
      rw [this]
      exact va_at_keep g5 (k2 ed h4)
    exact loop L.length 0 H2 locs2 ls (by omega) hA2 hO2 hq2.2.2 hl
