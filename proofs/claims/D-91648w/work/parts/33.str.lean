/-! texts: length, charAt -/
set_option maxRecDepth 100000
abbrev hdS (y : MethodName) (n : Nat) : Prop := y.cls ≠ "java/lang/invoke/MethodHandle" ∧ y.cls ≠ "java/lang/invoke/VarHandle" ∧ (parseMethodDescriptor y.desc).map (fun d => d.parameters.length) = some n
abbrev hdV (y : MethodName) (C : String) (n : Nat) : Prop := y.cls = C ∧ y.cls ≠ "java/lang/invoke/MethodHandle" ∧ y.cls ≠ "java/lang/invoke/VarHandle" ∧ (parseMethodDescriptor y.desc).map (fun d => d.parameters.length) = some n
abbrev rmS (f n : Nat) : Room := { frames := f, cells := 0, slots := 0, locals := n }
theorem w_chk (l : Launch) (i n : Int) (o : Option Nat) (g : 0 ≤ i ∧ i < n ∧ n < 2147483648) : ms_i l yJ5_checkIndex cJ5_checkIndex 3 (some .int) (rmS 1 40) [.int (zi i), .int (zi n), va_rf o] i := by
  refine go_i (by decide +kernel) (by cases o <;> exact Nat.le_of_ble_eq_true rfl) ?_
  intro p e s m args below meth c Q ls X hret hl hM
  have hx := X.1
  have hb := X.2.1
  replace hl : lv_has ls 3 [(0, .int (zi i)), (1, .int (zi n)), (2, va_rf o)] := by cases o <;> exact hl
  refine lv_iload_n hx hb dJ5_checkIndex_0 rfl (lv_at hl 0 rfl) ?_
  refine g_if_lt (tgt := 9) hx hb (show r32 i by unfold r32; omega) dJ5_checkIndex_1 (by decide) (fun c1 => ?_) (fun c1 => ?_)
  · exact absurd g.1 (by omega)
  · refine lv_iload_n hx hb dJ5_checkIndex_4 rfl (lv_at hl 0 rfl) ?_
    refine lv_iload_n hx hb dJ5_checkIndex_5 rfl (lv_at hl 1 rfl) ?_
    refine g_icmp_lt (tgt := 16) hx hb (show r32 i ∧ r32 n by unfold r32; omega) dJ5_checkIndex_6 (by decide) (fun c2 => ?_) (fun c2 => ?_)
    · refine lv_iload_n hx hb dJ5_checkIndex_16 rfl (lv_at hl 0 rfl) ?_
      exact hret _ _ _ _ _ rfl dJ5_checkIndex_17 hM
    · exact absurd g.2.1 (by omega)
theorem w_chkN (l : Launch) (i n : Int) (g : 0 ≤ i ∧ i < n ∧ n < 2147483648) : ms_i l yJ4_checkIndex cJ4_checkIndex 2 (some .int) (rmS 2 80) [.int (zi i), .int (zi n)] i := by
  refine go_i (by decide +kernel) (Nat.le_of_ble_eq_true rfl) ?_
  intro p e s m args below meth c Q ls X hret hl hM
  have hx := X.1
  have hb := X.2.1
  replace hl : lv_has ls 2 [(0, .int (zi i)), (1, .int (zi n))] := hl
  refine lv_iload_n hx hb dJ4_checkIndex_0 rfl (lv_at hl 0 rfl) ?_
  refine lv_iload_n hx hb dJ4_checkIndex_1 rfl (lv_at hl 1 rfl) ?_
  refine lv_null hx hb dJ4_checkIndex_2 ?_
  refine gc0_i (rest := []) X hM (w_chk l i n none g) (lw_S q310 q311 q90 q312) (show hdS yJ5_checkIndex 3 by decide +kernel) ⟨rfl, rfl⟩ ⟨by decide, by decide⟩ ⟨Nat.le_refl _, Nat.le_refl _⟩ hl.1 (Nat.le_of_ble_eq_true rfl) dJ4_checkIndex_3 rfl (fun H locs hM => ?_)
  exact hret _ _ _ _ _ rfl dJ4_checkIndex_6 hM
theorem w_chkS (l : Launch) (G : gP) (b0 : Nat) (i n : Int) (g : 0 ≤ i ∧ i < n ∧ n < 2147483648) : mgv l yJ8_checkIndex cJ8_checkIndex 2 (rmS 2 80) G b0 [.int (zi i), .int (zi n)] := by
  refine rgov (by decide +kernel) (Nat.le_of_ble_eq_true rfl) ?_
  intro p e s m args below meth c Q ls X hG hret hl hM
  have hx := X.1
  have hb := X.2.1
  replace hl : lv_has ls 2 [(0, .int (zi i)), (1, .int (zi n))] := hl
  refine lv_iload_n hx hb dJ8_checkIndex_0 rfl (lv_at hl 0 rfl) ?_
  refine lv_iload_n hx hb dJ8_checkIndex_1 rfl (lv_at hl 1 rfl) ?_
  have hz : ∃ o : Option Nat, va_Z "jdk/internal/util/Preconditions" "SIOOBE_FORMATTER" "Ljava/util/function/BiFunction;" (va_rf o) (gB b0) s s.heap := by
    rcases hG.2.2.2.2.1 with h | ⟨t, h⟩
    · exact ⟨none, h⟩
    · exact ⟨some t, h⟩
  obtain ⟨o, hz⟩ := hz
  refine va_gets hx hb hz (hM.mono (fun q h => h.elim)) X.2.2.2.1 (X.2.2.2.2 _ q620) (fun x h => h) dJ8_checkIndex_2 ?_
  refine gc0_i (rest := []) X hM (w_chk l i n o g) (lw_S q622 q311 q90 q312) (show hdS yJ5_checkIndex 3 by decide +kernel) ⟨rfl, rfl⟩ ⟨by decide, by decide⟩ ⟨Nat.le_refl _, Nat.le_refl _⟩ hl.1 (Nat.le_of_ble_eq_true rfl) dJ8_checkIndex_5 rfl (fun H locs hM => ?_)
  refine lv_pop hx hb dJ8_checkIndex_8 rfl ?_
  exact hret _ _ _ _ dJ8_checkIndex_9 hM
theorem gS_len (i : Nat) : gLn i < 13 ∧ 0 ≤ gLn i := by
  have h : ∀ i, i < 13 → gLn i < 13 ∧ 0 ≤ gLn i := by decide +kernel
  by_cases hi : i < 13
  · exact h i hi
  · have : gLn i = 0 := by
      unfold gLn
      rw [List.getD_eq_getElem?_getD, List.getElem?_eq_none (show gLen.length ≤ i by show 13 ≤ i; omega)]; rfl
    omega
theorem gS_sg {i : Nat} (hi : i < 13) {k : Int} (hk : 0 ≤ k ∧ k < gLn i) : (Value.int ((gByt.getD i []).getD k.toNat 0) = .int (zi (gSg i k))) ∧ 0 ≤ gSg i k ∧ gSg i k < 128 := by
  have h : ∀ i, i < 13 → ∀ k, k < 12 → (gByt.getD i []).getD k 0 = zi (gSg i (k : Int)) ∧ 0 ≤ gSg i (k : Int) ∧ gSg i (k : Int) < 128 := by decide +kernel
  have h1 := h i hi k.toNat (by have := (gS_len i).1; omega)
  have e1 : ((k.toNat : Nat) : Int) = k := by omega
  rw [e1] at h1
  exact ⟨by rw [h1.1], h1.2⟩
theorem w_cat1 (l : Launch) (G : gP) (b0 i : Nat) (hi : i < 13) (k : Int) (g : 0 ≤ k ∧ k < gLn i) : mg l yJ9_charAt cJ9_charAt 2 (some .char) (rmS 3 120) G b0 [.ref (G.adV i), .int (zi k)] (gSg i k) := by
  obtain ⟨g1, g2, g3⟩ := gS_sg hi g
  have gl := gS_len i
  refine rgo (by decide +kernel) (Nat.le_of_ble_eq_true rfl) (by
    have h : ∀ n : Nat, n < 128 → narrow .char (.int (zi (n : Int))) = .int (zi (n : Int)) := by decide +kernel
    have := h (gSg i k).toNat (by omega)
    rw [show (((gSg i k).toNat : Nat) : Int) = gSg i k by omega] at this
    exact this) ?_
  intro p e s m args below meth c Q ls X hG hret hl hM
  have hx := X.1
  have hb := X.2.1
  replace hl : lv_has ls 2 [(0, .ref (G.adV i)), (1, .int (zi k))] := hl
  have hT := (hG.1.1 i hi).2.2.2
  refine lv_iload_n hx hb dJ9_charAt_0 rfl (lv_at hl 1 rfl) ?_
  refine lv_aload_n hx hb dJ9_charAt_1 rfl (lv_at hl 0 rfl) ?_
  refine va_tlen hx hb hT (hM.mono (fun q h => h.elim)) (v := zi (gLn i)) (by
    have h : ∀ i, i < 13 → Int32.ofNat (gLen.getD i 0) = zi (gLn i) := by decide +kernel
    exact h i hi) dJ9_charAt_2 ?_
  refine gcgSv (rest := []) X hG hM (fun q h => h.elim) (w_chkS l G b0 k (gLn i) ⟨g.1, g.2, by omega⟩) (lw_S q617 q618 q95 q619) (show hdS yJ8_checkIndex 2 by decide +kernel) ⟨rfl, rfl⟩ ⟨by decide, by decide⟩ ⟨Nat.le_refl _, Nat.le_refl _⟩ hl.1 (Nat.le_of_ble_eq_true rfl) dJ9_charAt_3 rfl (fun H locs _ _ hM => ?_)
  refine lv_aload_n hx hb dJ9_charAt_6 rfl (lv_at hl 0 rfl) ?_
  refine lv_iload_n hx hb dJ9_charAt_7 rfl (lv_at hl 1 rfl) ?_
  refine va_tb hx hb hT (hM.mono (fun q h => h.elim)) (i := zi k) (zi_in (n := gLen.getD i 0) ⟨g.1, g.2⟩ (by have := gl.1; unfold gLn at this; omega)) (v := .int (zi (gSg i k))) (by show Value.int _ = _; rw [zi_cl ⟨g.1, by omega⟩]; exact g1) dJ9_charAt_8 ?_
  refine lv_sipush (v := zi 255) hx hb dJ9_charAt_9 rfl ?_
  refine lv_iand hx hb dJ9_charAt_12 ?_
  have hv : ∀ n : Nat, n < 128 → (((zi (n : Int) &&& zi 255) : Int32).toUInt32 % 65536).toInt32 = zi (n : Int) := by decide +kernel
  refine lv_i2c (v := zi (gSg i k)) hx hb dJ9_charAt_13 (by
    have := hv (gSg i k).toNat (by omega)
    rw [show (((gSg i k).toNat : Nat) : Int) = gSg i k by omega] at this
    exact this) ?_
  exact hret _ _ _ _ _ rfl dJ9_charAt_14 hM
theorem w_coder (l : Launch) (G : gP) (b0 i : Nat) (hi : i < 13) : mg l yJ8_coder cJ8_coder 1 (some .byte) (rmS 1 40) G b0 [.ref (G.adK i)] 0 := by
  refine rgo (by decide +kernel) (Nat.le_of_ble_eq_true rfl) rfl ?_
  intro p e s m args below meth c Q ls X hG hret hl hM
  have hx := X.1
  have hb := X.2.1
  replace hl : lv_has ls 1 [(0, .ref (G.adK i))] := hl
  refine va_gets hx hb hG.2.2.2.1 (hM.mono (fun q h => h.elim)) X.2.2.2.1 (X.2.2.2.2 _ q604) (fun x h => h) dJ8_coder_0 ?_
  refine g_if_eq (a := 1) (tgt := 13) hx hb (by decide) dJ8_coder_3 (by decide) (fun c1 => absurd c1 (by decide)) (fun c1 => ?_)
  refine lv_aload_n hx hb dJ8_coder_6 rfl (lv_at hl 0 rfl) ?_
  refine vk_getf hx hb (hG.1.1 i hi).2.1 (hM.mono (fun q h => h.elim)) X.2.2.2.1 (X.2.2.2.2 _ q1664) (fun x h => h) dJ8_coder_7 ?_
  refine lv_goto (tgt := 14) hx hb dJ8_coder_10 (by decide) ?_
  exact hret _ _ _ _ _ rfl dJ8_coder_14 hM
theorem w_isL1 (l : Launch) (G : gP) (b0 i : Nat) (hi : i < 13) : mg l yJ8_isLatin1 cJ8_isLatin1 1 (some .boolean) (rmS 1 40) G b0 [.ref (G.adK i)] 1 := by
  refine rgo (by decide +kernel) (Nat.le_of_ble_eq_true rfl) rfl ?_
  intro p e s m args below meth c Q ls X hG hret hl hM
  have hx := X.1
  have hb := X.2.1
  replace hl : lv_has ls 1 [(0, .ref (G.adK i))] := hl
  refine va_gets hx hb hG.2.2.2.1 (hM.mono (fun q h => h.elim)) X.2.2.2.1 (X.2.2.2.2 _ q604) (fun x h => h) dJ8_isLatin1_0 ?_
  refine g_if_eq (a := 1) (tgt := 17) hx hb (by decide) dJ8_isLatin1_3 (by decide) (fun c1 => absurd c1 (by decide)) (fun c1 => ?_)
  refine lv_aload_n hx hb dJ8_isLatin1_6 rfl (lv_at hl 0 rfl) ?_
  refine vk_getf hx hb (hG.1.1 i hi).2.1 (hM.mono (fun q h => h.elim)) X.2.2.2.1 (X.2.2.2.2 _ q1664) (fun x h => h) dJ8_isLatin1_7 ?_
  refine g_if_ne (a := 0) (tgt := 17) hx hb (by decide) dJ8_isLatin1_10 (by decide) (fun c1 => ?_) (fun c1 => absurd rfl c1)
  refine lv_iconst (v := zi 1) hx hb dJ8_isLatin1_13 rfl ?_
  refine lv_goto (tgt := 18) hx hb dJ8_isLatin1_14 (by decide) ?_
  exact hret _ _ _ _ _ rfl dJ8_isLatin1_18 hM
theorem w_slen (l : Launch) (G : gP) (b0 i : Nat) (hi : i < 13) : mg l yJ8_length cJ8_length 1 (some .int) (rmS 2 80) G b0 [.ref (G.adK i)] (gLn i) := by
  refine rgo (by decide +kernel) (Nat.le_of_ble_eq_true rfl) rfl ?_
  intro p e s m args below meth c Q ls X hG hret hl hM
  have hx := X.1
  have hb := X.2.1
  replace hl : lv_has ls 1 [(0, .ref (G.adK i))] := hl
  have hT := (hG.1.1 i hi).2.2.2
  refine lv_aload_n hx hb dJ8_length_0 rfl (lv_at hl 0 rfl) ?_
  refine vk_getf hx hb (hG.1.1 i hi).2.2.1 (hM.mono (fun q h => h.elim)) X.2.2.2.1 (X.2.2.2.2 _ q1663) (fun x h => h) dJ8_length_1 ?_
  refine va_tlen hx hb hT (hM.mono (fun q h => h.elim)) (v := zi (gLn i)) (by
    have h : ∀ i, i < 13 → Int32.ofNat (gLen.getD i 0) = zi (gLn i) := by decide +kernel
    exact h i hi) dJ8_length_4 ?_
  refine lv_aload_n hx hb dJ8_length_5 rfl (lv_at hl 0 rfl) ?_
  refine gcgV (As := []) (rest := [.int (zi (gLn i))]) X hG hM (fun q h => h.elim) (w_coder l G b0 i hi) (vk_recv hG.1 hi (hM.mono (fun q h => h.elim))) (lw_V q600 q601 q602 q95 q603) (show hdV yJ8_coder "java/lang/String" 0 by decide +kernel) ⟨rfl, rfl⟩ ⟨by decide, by decide⟩ ⟨Nat.le_refl _, Nat.le_refl _⟩ hl.1 (Nat.le_of_ble_eq_true rfl) dJ8_length_6 rfl (fun H locs _ _ hM => ?_)
  refine g_ishr hx hb (show r32 (gLn i) ∧ (0 : Int) ≤ 0 ∧ (0 : Int) ≤ 31 by have := gS_len i; unfold r32; omega) dJ8_length_9 ?_
  exact hret _ _ _ _ _ (by simp) dJ8_length_10 hM
theorem w_cat (l : Launch) (G : gP) (b0 i : Nat) (hi : i < 13) (k : Int) (g : 0 ≤ k ∧ k < gLn i) : mg l yJ8_charAt cJ8_charAt 2 (some .char) (rmS 4 160) G b0 [.ref (G.adK i), .int (zi k)] (gSg i k) := by
  obtain ⟨g1, g2, g3⟩ := gS_sg hi g
  refine rgo (by decide +kernel) (Nat.le_of_ble_eq_true rfl) (by
    have h : ∀ n : Nat, n < 128 → narrow .char (.int (zi (n : Int))) = .int (zi (n : Int)) := by decide +kernel
    have := h (gSg i k).toNat (by omega)
    rw [show (((gSg i k).toNat : Nat) : Int) = gSg i k by omega] at this
    exact this) ?_
  intro p e s m args below meth c Q ls X hG hret hl hM
  have hx := X.1
  have hb := X.2.1
  replace hl : lv_has ls 2 [(0, .ref (G.adK i)), (1, .int (zi k))] := hl
  refine lv_aload_n hx hb dJ8_charAt_0 rfl (lv_at hl 0 rfl) ?_
  refine gcgV (As := []) (rest := []) X hG hM (fun q h => h.elim) (w_isL1 l G b0 i hi) (vk_recv hG.1 hi (hM.mono (fun q h => h.elim))) (lw_V q610 q611 q612 q95 q613) (show hdV yJ8_isLatin1 "java/lang/String" 0 by decide +kernel) ⟨rfl, rfl⟩ ⟨by decide, by decide⟩ ⟨Nat.le_refl _, Nat.le_refl _⟩ hl.1 (Nat.le_of_ble_eq_true rfl) dJ8_charAt_1 rfl (fun H locs _ _ hM => ?_)
  refine g_if_eq (a := 1) (tgt := 16) hx hb (by decide) dJ8_charAt_4 (by decide) (fun c1 => absurd c1 (by decide)) (fun c1 => ?_)
  refine lv_aload_n hx hb dJ8_charAt_7 rfl (lv_at hl 0 rfl) ?_
  refine vk_getf hx hb (hG.1.1 i hi).2.2.1 (hM.mono (fun q h => h.elim)) X.2.2.2.1 (X.2.2.2.2 _ q1663) (fun x h => h) dJ8_charAt_8 ?_
  refine lv_iload_n hx hb dJ8_charAt_11 rfl (lv_at hl 1 rfl) ?_
  refine gcgS (As := [.ref (G.adV i), .int (zi k)]) (rest := []) X hG hM (fun q h => h.elim) (w_cat1 l G b0 i hi k g) (lw_S q614 q615 q96 q616) (show hdS yJ9_charAt 2 by decide +kernel) ⟨rfl, rfl⟩ ⟨by decide, by decide⟩ ⟨Nat.le_refl _, Nat.le_refl _⟩ hl.1 (Nat.le_of_ble_eq_true rfl) dJ8_charAt_12 rfl (fun H locs _ _ hM => ?_)
  exact hret _ _ _ _ _ rfl dJ8_charAt_15 hM
