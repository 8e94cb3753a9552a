set_option maxRecDepth 100000
/-- the signs differ -/
abbrev zsd (a b : Int) : Prop := (a < 0 ∧ 0 ≤ b) ∨ (0 ≤ a ∧ b < 0)
theorem zi_xor {a b : Int} (ha : r32 a) (hb : r32 b) : zi a ^^^ zi b < 0 ↔ zsd a b := by
  have e0 : (zi a ^^^ zi b < 0) ↔ (zi a ^^^ zi b).toBitVec.msb = true := by
    rw [Int32.lt_iff_toInt_lt, BitVec.msb_eq_toInt, decide_eq_true_eq]
    exact Iff.rfl
  have ea : (zi a).toBitVec.msb = decide (a < 0) := by
    rw [BitVec.msb_eq_toInt]
    have h : (zi a).toBitVec.toInt = a := zi_toInt ha
    rw [h]
  have eb : (zi b).toBitVec.msb = decide (b < 0) := by
    rw [BitVec.msb_eq_toInt]
    have h : (zi b).toBitVec.toInt = b := zi_toInt hb
    rw [h]
  rw [e0]
  have ex : (zi a ^^^ zi b).toBitVec = (zi a).toBitVec ^^^ (zi b).toBitVec := rfl
  rw [ex, BitVec.msb_xor, ea, eb]
  by_cases h1 : a < 0 <;> by_cases h2 : b < 0 <;> simp [h1, h2, zsd] <;> omega
section GX
variable {p : Program} {l : Launch} {e : Env} {R : Room} {s : State} {m : MethodId} {args : Array Value} {below : List Frame} {meth : Method} {c : Code} {H : Heap} {locs : List Loc} {cells slots : Nat} {Q : State → Prop}
variable {cc : ByteArray} {pc : Nat} {ls : Array Slot} {rest : List Value}
theorem g_xor_ge (hx : p.tables.exec = Jvm.exec) (hb : c.code = cc) {a b : Int} (g : r32 a ∧ r32 b) {off : Int} {tgt : Nat} (hd0 : decode cc pc = .ok (.ixor, 1)) (hdg : decode cc (pc + 1) = .ok (.ifCond .ge off, 3)) (ht : ((pc + 1 : Nat) : Int) + off = (tgt : Int)) (ky : zsd a b → W p l e R s m args below meth c H locs cells slots Q (F0 m (pc + 1 + 3) ls rest)) (kn : ¬ zsd a b → W p l e R s m args below meth c H locs cells slots Q (F0 m tgt ls rest)) : W p l e R s m args below meth c H locs cells slots Q (F0 m pc ls (.int (zi b) :: .int (zi a) :: rest)) :=
  lv_ixor hx hb hd0 (lv_if_ge hx hb hdg ht (fun q => kn (fun z => absurd ((zi_xor g.1 g.2).mpr z) (Int32.not_lt.mpr q))) (fun q => ky ((zi_xor g.1 g.2).mp (Int32.not_le.mp q))))
end GX
def Ma_min (x0 : Int) (x1 : Int) : Option Int := gd (r32 (x0) ∧ r32 (x1)) (if x0 ≤ x1 then (some ((x0 : Int))) else (some ((x1 : Int))))
set_option maxHeartbeats 4000000 in
theorem wMa_min (l : Launch) (x0 x1 : Int) {r : Int} (hh : Ma_min x0 x1 = some r) : ms_i l yJ3_min cJ3_min 2 (some .int) ({ frames := 1, cells := 0, slots := 0, locals := 40 } : Room) [.int (zi x0), .int (zi x1)] r := by
  refine go_i (by decide +kernel) (Nat.le_of_ble_eq_true rfl) ?_
  intro p e s m args below meth c Q ls X hret hl hM
  have hx := X.1
  have hb := X.2.1
  have hown := X.2.2.2.1
  have hts := X.2.2.2.2
  replace hl : lv_has ls 2 [(0, .int (zi (x0))), (1, .int (zi (x1)))] := hl
  unfold Ma_min at hh
  refine lv_iload_n hx hb dJ3_min_0 rfl (lv_at hl 0 rfl) ?_
  refine lv_iload_n hx hb dJ3_min_1 rfl (lv_at hl 1 rfl) ?_
  obtain ⟨g2, hh⟩ := gd_inv hh
  refine g_icmp_gt (tgt := 9) hx hb g2 dJ3_min_2 (by decide) (fun c1 => ?_) (fun c1 => ?_)
  · replace hh := it_t c1 hh
    refine lv_iload_n hx hb dJ3_min_5 rfl (lv_at hl 0 rfl) ?_
    refine lv_goto (tgt := 10) hx hb dJ3_min_6 (by decide) ?_
    exact hret _ _ _ _ _ (rt0 hh) dJ3_min_10 hM
  · replace hh := it_f c1 hh
    refine lv_iload_n hx hb dJ3_min_9 rfl (lv_at hl 1 rfl) ?_
    exact hret _ _ _ _ _ (rt0 hh) dJ3_min_10 hM
def Ma_max (x0 : Int) (x1 : Int) : Option Int := gd (r32 (x0) ∧ r32 (x1)) (if x0 < x1 then (some ((x1 : Int))) else (some ((x0 : Int))))
set_option maxHeartbeats 4000000 in
theorem wMa_max (l : Launch) (x0 x1 : Int) {r : Int} (hh : Ma_max x0 x1 = some r) : ms_i l yJ3_max cJ3_max 2 (some .int) ({ frames := 1, cells := 0, slots := 0, locals := 40 } : Room) [.int (zi x0), .int (zi x1)] r := by
  refine go_i (by decide +kernel) (Nat.le_of_ble_eq_true rfl) ?_
  intro p e s m args below meth c Q ls X hret hl hM
  have hx := X.1
  have hb := X.2.1
  have hown := X.2.2.2.1
  have hts := X.2.2.2.2
  replace hl : lv_has ls 2 [(0, .int (zi (x0))), (1, .int (zi (x1)))] := hl
  unfold Ma_max at hh
  refine lv_iload_n hx hb dJ3_max_0 rfl (lv_at hl 0 rfl) ?_
  refine lv_iload_n hx hb dJ3_max_1 rfl (lv_at hl 1 rfl) ?_
  obtain ⟨g2, hh⟩ := gd_inv hh
  refine g_icmp_lt (tgt := 9) hx hb g2 dJ3_max_2 (by decide) (fun c1 => ?_) (fun c1 => ?_)
  · replace hh := it_t c1 hh
    refine lv_iload_n hx hb dJ3_max_9 rfl (lv_at hl 1 rfl) ?_
    exact hret _ _ _ _ _ (rt0 hh) dJ3_max_10 hM
  · replace hh := it_f c1 hh
    refine lv_iload_n hx hb dJ3_max_5 rfl (lv_at hl 0 rfl) ?_
    refine lv_goto (tgt := 10) hx hb dJ3_max_6 (by decide) ?_
    exact hret _ _ _ _ _ (rt0 hh) dJ3_max_10 hM
def Ma_floorDiv (x0 : Int) (x1 : Int) : Option Int := gd (r32 (x0) ∧ r32 (x1) ∧ (x1 : Int) ≠ 0) (nm (Int.tdiv x0 x1) (fun v2 => gd (r32 (x0) ∧ r32 (x1)) (if zsd x0 x1 then (gd (r32 (v2 * x1) ∧ r32 (x0)) (if (v2 * x1) = x0 then (some ((v2 : Int))) else (some ((v2 - 1 : Int))))) else (some ((v2 : Int))))))
set_option maxHeartbeats 4000000 in
theorem wMa_floorDiv (l : Launch) (x0 x1 : Int) {r : Int} (hh : Ma_floorDiv x0 x1 = some r) : ms_i l yJ3_floorDiv cJ3_floorDiv 3 (some .int) ({ frames := 1, cells := 0, slots := 0, locals := 40 } : Room) [.int (zi x0), .int (zi x1)] r := by
  refine go_i (by decide +kernel) (Nat.le_of_ble_eq_true rfl) ?_
  intro p e s m args below meth c Q ls X hret hl hM
  have hx := X.1
  have hb := X.2.1
  have hown := X.2.2.2.1
  have hts := X.2.2.2.2
  replace hl : lv_has ls 3 [(0, .int (zi (x0))), (1, .int (zi (x1)))] := hl
  unfold Ma_floorDiv at hh
  refine lv_iload_n hx hb dJ3_floorDiv_0 rfl (lv_at hl 0 rfl) ?_
  refine lv_iload_n hx hb dJ3_floorDiv_1 rfl (lv_at hl 1 rfl) ?_
  obtain ⟨g1, hh⟩ := gd_inv hh
  refine g_idiv hx hb g1 dJ3_floorDiv_2 ?_
  refine g_nmi hx hb (fun v2 e3 => ?_)
  replace hh := nm_inv hh v2 e3
  refine lv_istore_n (lv' := [(2, .int (zi (v2))), (0, .int (zi (x0))), (1, .int (zi (x1)))]) hx hb dJ3_floorDiv_3 rfl hl (by decide) rfl (fun ls hl => ?_)
  refine lv_iload_n hx hb dJ3_floorDiv_4 rfl (lv_at hl 1 rfl) ?_
  refine lv_iload_n hx hb dJ3_floorDiv_5 rfl (lv_at hl 2 rfl) ?_
  obtain ⟨g5, hh⟩ := gd_inv hh
  refine g_xor_ge (tgt := 21) hx hb g5 dJ3_floorDiv_6 dJ3_floorDiv_7 (by decide) (fun c4 => ?_) (fun c4 => ?_)
  · replace hh := it_t c4 hh
    refine lv_iload_n hx hb dJ3_floorDiv_10 rfl (lv_at hl 0 rfl) ?_
    refine lv_iload_n hx hb dJ3_floorDiv_11 rfl (lv_at hl 2 rfl) ?_
    refine g_imul hx hb dJ3_floorDiv_12 ?_
    refine lv_iload_n hx hb dJ3_floorDiv_13 rfl (lv_at hl 1 rfl) ?_
    obtain ⟨g7, hh⟩ := gd_inv hh
    refine g_icmp_eq (tgt := 21) hx hb g7 dJ3_floorDiv_14 (by decide) (fun c6 => ?_) (fun c6 => ?_)
    · replace hh := it_t c6 hh
      refine lv_iload_n hx hb dJ3_floorDiv_21 rfl (lv_at hl 0 rfl) ?_
      exact hret _ _ _ _ _ (rt0 hh) dJ3_floorDiv_22 hM
    · replace hh := it_f c6 hh
      refine lv_iload_n hx hb dJ3_floorDiv_17 rfl (lv_at hl 0 rfl) ?_
      refine lv_iconst (v := zi 1) hx hb dJ3_floorDiv_18 rfl ?_
      refine g_isub hx hb dJ3_floorDiv_19 ?_
      exact hret _ _ _ _ _ (rt0 hh) dJ3_floorDiv_20 hM
  · replace hh := it_f c4 hh
    refine lv_iload_n hx hb dJ3_floorDiv_21 rfl (lv_at hl 0 rfl) ?_
    exact hret _ _ _ _ _ (rt0 hh) dJ3_floorDiv_22 hM
def Ma_abs (x0 : Int) : Option Int := gd (r32 (x0)) (if x0 < 0 then (some ((-x0 : Int))) else (some ((x0 : Int))))
set_option maxHeartbeats 4000000 in
theorem wMa_abs (l : Launch) (x0 : Int) {r : Int} (hh : Ma_abs x0 = some r) : ms_i l yJ3_abs cJ3_abs 1 (some .int) ({ frames := 1, cells := 0, slots := 0, locals := 40 } : Room) [.int (zi x0)] r := by
  refine go_i (by decide +kernel) (Nat.le_of_ble_eq_true rfl) ?_
  intro p e s m args below meth c Q ls X hret hl hM
  have hx := X.1
  have hb := X.2.1
  have hown := X.2.2.2.1
  have hts := X.2.2.2.2
  replace hl : lv_has ls 1 [(0, .int (zi (x0)))] := hl
  unfold Ma_abs at hh
  refine lv_iload_n hx hb dJ3_abs_0 rfl (lv_at hl 0 rfl) ?_
  obtain ⟨g2, hh⟩ := gd_inv hh
  refine g_if_ge (tgt := 9) hx hb g2 dJ3_abs_1 (by decide) (fun c1 => ?_) (fun c1 => ?_)
  · replace hh := it_t c1 hh
    refine lv_iload_n hx hb dJ3_abs_4 rfl (lv_at hl 0 rfl) ?_
    refine g_ineg hx hb dJ3_abs_5 ?_
    refine lv_goto (tgt := 10) hx hb dJ3_abs_6 (by decide) ?_
    exact hret _ _ _ _ _ (rt0 hh) dJ3_abs_10 hM
  · replace hh := it_f c1 hh
    refine lv_iload_n hx hb dJ3_abs_9 rfl (lv_at hl 0 rfl) ?_
    exact hret _ _ _ _ _ (rt0 hh) dJ3_abs_10 hM
def Ma_floorMod (x0 : Int) (x1 : Int) : Option Int := gd (r32 (x0) ∧ r32 (x1) ∧ (x1 : Int) ≠ 0) (nm (Int.tmod x0 x1) (fun v2 => gd (r32 (x0) ∧ r32 (x1)) (if zsd x0 x1 then (gd (r32 (v2)) (if v2 = 0 then (some ((v2 : Int))) else (some ((v2 + x1 : Int))))) else (some ((v2 : Int))))))
set_option maxHeartbeats 4000000 in
theorem wMa_floorMod (l : Launch) (x0 x1 : Int) {r : Int} (hh : Ma_floorMod x0 x1 = some r) : ms_i l yJ3_floorMod cJ3_floorMod 3 (some .int) ({ frames := 1, cells := 0, slots := 0, locals := 40 } : Room) [.int (zi x0), .int (zi x1)] r := by
  refine go_i (by decide +kernel) (Nat.le_of_ble_eq_true rfl) ?_
  intro p e s m args below meth c Q ls X hret hl hM
  have hx := X.1
  have hb := X.2.1
  have hown := X.2.2.2.1
  have hts := X.2.2.2.2
  replace hl : lv_has ls 3 [(0, .int (zi (x0))), (1, .int (zi (x1)))] := hl
  unfold Ma_floorMod at hh
  refine lv_iload_n hx hb dJ3_floorMod_0 rfl (lv_at hl 0 rfl) ?_
  refine lv_iload_n hx hb dJ3_floorMod_1 rfl (lv_at hl 1 rfl) ?_
  obtain ⟨g1, hh⟩ := gd_inv hh
  refine g_irem hx hb g1 dJ3_floorMod_2 ?_
  refine g_nmi hx hb (fun v2 e3 => ?_)
  replace hh := nm_inv hh v2 e3
  refine lv_istore_n (lv' := [(2, .int (zi (v2))), (0, .int (zi (x0))), (1, .int (zi (x1)))]) hx hb dJ3_floorMod_3 rfl hl (by decide) rfl (fun ls hl => ?_)
  refine lv_iload_n hx hb dJ3_floorMod_4 rfl (lv_at hl 1 rfl) ?_
  refine lv_iload_n hx hb dJ3_floorMod_5 rfl (lv_at hl 2 rfl) ?_
  obtain ⟨g5, hh⟩ := gd_inv hh
  refine g_xor_ge (tgt := 18) hx hb g5 dJ3_floorMod_6 dJ3_floorMod_7 (by decide) (fun c4 => ?_) (fun c4 => ?_)
  · replace hh := it_t c4 hh
    refine lv_iload_n hx hb dJ3_floorMod_10 rfl (lv_at hl 0 rfl) ?_
    obtain ⟨g7, hh⟩ := gd_inv hh
    refine g_if_eq (tgt := 18) hx hb g7 dJ3_floorMod_11 (by decide) (fun c6 => ?_) (fun c6 => ?_)
    · replace hh := it_t c6 hh
      refine lv_iload_n hx hb dJ3_floorMod_18 rfl (lv_at hl 0 rfl) ?_
      exact hret _ _ _ _ _ (rt0 hh) dJ3_floorMod_19 hM
    · replace hh := it_f c6 hh
      refine lv_iload_n hx hb dJ3_floorMod_14 rfl (lv_at hl 0 rfl) ?_
      refine lv_iload_n hx hb dJ3_floorMod_15 rfl (lv_at hl 2 rfl) ?_
      refine g_iadd hx hb dJ3_floorMod_16 ?_
      exact hret _ _ _ _ _ (rt0 hh) dJ3_floorMod_17 hM
  · replace hh := it_f c4 hh
    refine lv_iload_n hx hb dJ3_floorMod_18 rfl (lv_at hl 0 rfl) ?_
    exact hret _ _ _ _ _ (rt0 hh) dJ3_floorMod_19 hM
def Ma_min_2 (x0 : Int) (x2 : Int) : Option Int := gd (r64 (x0) ∧ r64 (x2)) (if x0 ≤ x2 then (some ((x0 : Int))) else (some ((x2 : Int))))
set_option maxHeartbeats 4000000 in
theorem wMa_min_2 (l : Launch) (x0 x2 : Int) {r : Int} (hh : Ma_min_2 x0 x2 = some r) : ms_l l yJ3_min_2 cJ3_min_2 4 (some .long) ({ frames := 1, cells := 0, slots := 0, locals := 40 } : Room) [.long (zl x0), .long (zl x2)] r := by
  refine go_l (by decide +kernel) (Nat.le_of_ble_eq_true rfl) ?_
  intro p e s m args below meth c Q ls X hret hl hM
  have hx := X.1
  have hb := X.2.1
  have hown := X.2.2.2.1
  have hts := X.2.2.2.2
  replace hl : lv_has ls 4 [(0, .long (zl (x0))), (2, .long (zl (x2)))] := hl
  unfold Ma_min_2 at hh
  refine lv_lload_n hx hb dJ3_min_2_0 rfl (lv_at hl 0 rfl) ?_
  refine lv_lload_n hx hb dJ3_min_2_1 rfl (lv_at hl 1 rfl) ?_
  obtain ⟨g2, hh⟩ := gd_inv hh
  refine g_lcmp_gt (tgt := 10) hx hb g2 dJ3_min_2_2 dJ3_min_2_3 (by decide) (fun c1 => ?_) (fun c1 => ?_)
  · replace hh := it_t c1 hh
    refine lv_lload_n hx hb dJ3_min_2_6 rfl (lv_at hl 0 rfl) ?_
    refine lv_goto (tgt := 11) hx hb dJ3_min_2_7 (by decide) ?_
    exact hret _ _ _ _ _ (rt0 hh) dJ3_min_2_11 hM
  · replace hh := it_f c1 hh
    refine lv_lload_n hx hb dJ3_min_2_10 rfl (lv_at hl 1 rfl) ?_
    exact hret _ _ _ _ _ (rt0 hh) dJ3_min_2_11 hM
def Ma_max_2 (x0 : Int) (x2 : Int) : Option Int := gd (r64 (x0) ∧ r64 (x2)) (if x0 < x2 then (some ((x2 : Int))) else (some ((x0 : Int))))
set_option maxHeartbeats 4000000 in
theorem wMa_max_2 (l : Launch) (x0 x2 : Int) {r : Int} (hh : Ma_max_2 x0 x2 = some r) : ms_l l yJ3_max_2 cJ3_max_2 4 (some .long) ({ frames := 1, cells := 0, slots := 0, locals := 40 } : Room) [.long (zl x0), .long (zl x2)] r := by
  refine go_l (by decide +kernel) (Nat.le_of_ble_eq_true rfl) ?_
  intro p e s m args below meth c Q ls X hret hl hM
  have hx := X.1
  have hb := X.2.1
  have hown := X.2.2.2.1
  have hts := X.2.2.2.2
  replace hl : lv_has ls 4 [(0, .long (zl (x0))), (2, .long (zl (x2)))] := hl
  unfold Ma_max_2 at hh
  refine lv_lload_n hx hb dJ3_max_2_0 rfl (lv_at hl 0 rfl) ?_
  refine lv_lload_n hx hb dJ3_max_2_1 rfl (lv_at hl 1 rfl) ?_
  obtain ⟨g2, hh⟩ := gd_inv hh
  refine g_lcmp_lt (tgt := 10) hx hb g2 dJ3_max_2_2 dJ3_max_2_3 (by decide) (fun c1 => ?_) (fun c1 => ?_)
  · replace hh := it_t c1 hh
    refine lv_lload_n hx hb dJ3_max_2_10 rfl (lv_at hl 1 rfl) ?_
    exact hret _ _ _ _ _ (rt0 hh) dJ3_max_2_11 hM
  · replace hh := it_f c1 hh
    refine lv_lload_n hx hb dJ3_max_2_6 rfl (lv_at hl 0 rfl) ?_
    refine lv_goto (tgt := 11) hx hb dJ3_max_2_7 (by decide) ?_
    exact hret _ _ _ _ _ (rt0 hh) dJ3_max_2_11 hM
