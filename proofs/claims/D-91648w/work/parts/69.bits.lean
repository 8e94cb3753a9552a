/-! Integer.bitCount -/
set_option maxRecDepth 100000
def ush (x y : Int32) : Int32 := (x.toUInt32 >>> (y.toUInt32 &&& Int32.toUInt32 31)).toInt32
def bc1 (i : Int32) : Int32 := i - (ush i 1 &&& 1431655765)
def bc2 (i : Int32) : Int32 := (i &&& 858993459) + (ush i 2 &&& 858993459)
def bc3 (i : Int32) : Int32 := (i + ush i 4) &&& 252645135
def bc4 (i : Int32) : Int32 := i + ush i 8
def bc5 (i : Int32) : Int32 := i + ush i 16
def bcI (i : Int32) : Int32 := bc5 (bc4 (bc3 (bc2 (bc1 i)))) &&& 63
def In_bitCount (x0 : Int) : Option Int := some ((bcI (zi x0)).toInt)
theorem wIn_bitCount (l : Launch) (x0 : Int) {r : Int} (hh : In_bitCount x0 = some r) : ms_i l yJ15_bitCount cJ15_bitCount 1 (some .int) ({ frames := 1, cells := 0, slots := 0, locals := 40 } : Room) [.int (zi x0)] r := by
  refine go_i (by decide +kernel) (Nat.le_of_ble_eq_true rfl) ?_
  intro p e s m args below meth c Q ls X hret hl hM
  have hx := X.1
  have hb := X.2.1
  have hown := X.2.2.2.1
  have hts := X.2.2.2.2
  cases Option.some.inj hh
  replace hl : lv_has ls 1 [(0, .int (zi x0))] := hl
  refine lv_iload_n hx hb dJ15_bitCount_0 rfl (lv_at hl 0 rfl) ?_
  refine lv_iload_n hx hb dJ15_bitCount_1 rfl (lv_at hl 0 rfl) ?_
  refine lv_iconst (v := 1) hx hb dJ15_bitCount_2 rfl ?_
  refine lv_iushr (v := ush (zi x0) 1) hx hb dJ15_bitCount_3 rfl ?_
  refine lv_ldcw (v := 1431655765) hx hb hown (hts _ q1139) dJ15_bitCount_4 ?_
  refine lv_iand hx hb dJ15_bitCount_7 ?_
  refine lv_isub hx hb dJ15_bitCount_8 ?_
  refine lv_istore_n (lv' := [(0, .int (bc1 (zi x0)))]) hx hb dJ15_bitCount_9 rfl hl (by decide) rfl (fun ls hl => ?_)
  generalize hi : bc1 (zi x0) = i at hl
  refine lv_iload_n hx hb dJ15_bitCount_10 rfl (lv_at hl 0 rfl) ?_
  refine lv_ldcw (v := 858993459) hx hb hown (hts _ q1140) dJ15_bitCount_11 ?_
  refine lv_iand hx hb dJ15_bitCount_14 ?_
  refine lv_iload_n hx hb dJ15_bitCount_15 rfl (lv_at hl 0 rfl) ?_
  refine lv_iconst (v := 2) hx hb dJ15_bitCount_16 rfl ?_
  refine lv_iushr (v := ush i 2) hx hb dJ15_bitCount_17 rfl ?_
  refine lv_ldcw (v := 858993459) hx hb hown (hts _ q1140) dJ15_bitCount_18 ?_
  refine lv_iand hx hb dJ15_bitCount_21 ?_
  refine lv_iadd hx hb dJ15_bitCount_22 ?_
  refine lv_istore_n (lv' := [(0, .int (bc2 i))]) hx hb dJ15_bitCount_23 rfl hl (by decide) rfl (fun ls hl => ?_)
  generalize hj : bc2 i = j at hl
  refine lv_iload_n hx hb dJ15_bitCount_24 rfl (lv_at hl 0 rfl) ?_
  refine lv_iload_n hx hb dJ15_bitCount_25 rfl (lv_at hl 0 rfl) ?_
  refine lv_iconst (v := 4) hx hb dJ15_bitCount_26 rfl ?_
  refine lv_iushr (v := ush j 4) hx hb dJ15_bitCount_27 rfl ?_
  refine lv_iadd hx hb dJ15_bitCount_28 ?_
  refine lv_ldcw (v := 252645135) hx hb hown (hts _ q1141) dJ15_bitCount_29 ?_
  refine lv_iand hx hb dJ15_bitCount_32 ?_
  refine lv_istore_n (lv' := [(0, .int (bc3 j))]) hx hb dJ15_bitCount_33 rfl hl (by decide) rfl (fun ls hl => ?_)
  generalize hk : bc3 j = k at hl
  refine lv_iload_n hx hb dJ15_bitCount_34 rfl (lv_at hl 0 rfl) ?_
  refine lv_iload_n hx hb dJ15_bitCount_35 rfl (lv_at hl 0 rfl) ?_
  refine lv_bipush (v := 8) hx hb dJ15_bitCount_36 (by decide) ?_
  refine lv_iushr (v := ush k 8) hx hb dJ15_bitCount_38 rfl ?_
  refine lv_iadd hx hb dJ15_bitCount_39 ?_
  refine lv_istore_n (lv' := [(0, .int (bc4 k))]) hx hb dJ15_bitCount_40 rfl hl (by decide) rfl (fun ls hl => ?_)
  generalize hn : bc4 k = n at hl
  refine lv_iload_n hx hb dJ15_bitCount_41 rfl (lv_at hl 0 rfl) ?_
  refine lv_iload_n hx hb dJ15_bitCount_42 rfl (lv_at hl 0 rfl) ?_
  refine lv_bipush (v := 16) hx hb dJ15_bitCount_43 (by decide) ?_
  refine lv_iushr (v := ush n 16) hx hb dJ15_bitCount_45 rfl ?_
  refine lv_iadd hx hb dJ15_bitCount_46 ?_
  refine lv_istore_n (lv' := [(0, .int (bc5 n))]) hx hb dJ15_bitCount_47 rfl hl (by decide) rfl (fun ls hl => ?_)
  refine lv_iload_n hx hb dJ15_bitCount_48 rfl (lv_at hl 0 rfl) ?_
  refine lv_bipush (v := 63) hx hb dJ15_bitCount_49 (by decide) ?_
  refine lv_iand hx hb dJ15_bitCount_51 ?_
  have e : bc5 n &&& 63 = zi ((bcI (zi x0)).toInt) := by
    unfold bcI
    rw [hi, hj, hk, hn]
    exact (Int32.ofInt_toInt _).symm
  rw [e]
  exact hret _ _ _ _ _ rfl dJ15_bitCount_52 hM
