set_option maxRecDepth 100000
theorem cm_alenR {p : Program} {l : Launch} {e : Env} {R : Room} {s : State} {m : MethodId} {args : Array Value} {below : List Frame} {meth : Method} {c : Code} {H : Heap} {locs : List Loc} {cells slots : Nat} {Q : State → Prop} {cc : ByteArray} {pc nL : Nat} {ls : Array Slot} {rest : List Value} {DC : va_G} {dA : Nat → ClassId} {hC : Nat} {S : yS} {own : String} {A : Nat → Prop} (X : cCx own p c cc nL s m args DC dA) (hM : CX DC dA hC A S s H locs) {q t0 : Nat} {cA : ClassId} {x : vp_A} {ty : FieldType} {z : Int} (hq6 : q < 662) (hc : cC dA hC S q = .inl (cA, x)) (ht : (cty dA)[t0]? = some (cA, ty)) {a : Nat} (hq : a = hC + q) (hv : Int32.ofNat x.1 = zi z) (hdg : decode cc pc = .ok (.arraylength, 1))
    (kk : W p l e R s m args below meth c H locs cells slots Q (F0 m (pc + 1) ls (.int (zi z) :: rest))) : W p l e R s m args below meth c H locs cells slots Q (F0 m pc ls (.ref a :: rest)) := by
  subst hq
  exact va_alen X.1.1 X.1.2.1 X.2.1 hM.1 q t0 (by rw [cw_at hq6, hc]) ht hv hdg kk

def C_cp4_239_b2 (K2 : yS → Int → Option yS) (S : yS) (x2 : Int) : Option yS := gd (r32 (x2)) (if x2 < 6 then (gd ((0 : Int) ≤ x2 ∧ (x2 : Int) < 6) (gd ((0 : Int) ≤ x2 ∧ (x2 : Int) < 6) (gd ((0 : Int) ≤ x2 ∧ (x2 : Int) < 6) (nm (ccp S (4 + 1 + x2) (239 + 1 + x2) (4 : Int)) (fun S6 => nm ((x2 + 1) : Int) (fun v8 => K2 S6 v8)))))) else (some S))
def C_cp4_239_L2 : Nat → yS → Int → Option yS
  | 0 => fun _ _ => none
  | n + 1 => fun S x2 => C_cp4_239_b2  (C_cp4_239_L2  n) S x2
def C_cp4_239 (S : yS) : Option yS := C_cp4_239_L2 FU S (0 : Int)
set_option maxHeartbeats 4000000 in
theorem wC_cp4_239 (l : Launch) (DC : va_G) (dA : Nat → ClassId) (hC : Nat) (S : yS) {S1 : yS} (hh : C_cp4_239 S = some S1) : ct_v l yX2_copy cX2_copy 3 (rmS 2 80) DC dA hC [.ref (hC + 4), .ref (hC + 239)] S S1 := by
  refine co_v (by decide) (Nat.le_of_ble_eq_true rfl) ?_
  intro p e s m args below meth c Q ls X hret hl hM
  have hx := X.1.1
  have hb := X.1.2.1
  have hown := X.1.2.2.2.1
  have hts := X.1.2.2.2.2
  have hL2 : ∀ (n : Nat) (S : yS) (x2 : Int), C_cp4_239_L2 n S x2 = some S1 → ∀ (H : Heap) (locs : List Loc) (ls : Array Slot), CX DC dA hC (cA hC) S s H locs → lv_has ls 3 [(0, .ref (hC + 4)), (1, .ref (hC + 239)), (2, .int (zi (x2)))] → W p l e (rmS 2 80) s m args below meth c H locs 0 0 Q (F0 m 2 ls []) := by
    intro   n
    induction n with
    | zero => intro S x2 hh; exact no_some hh
    | succ n ih =>
      intro S x2 hh H locs ls hM hl
      replace hh : C_cp4_239_b2 (C_cp4_239_L2 n) S x2 = some S1 := hh
      unfold C_cp4_239_b2 at hh
      have hK2 := ih
      refine lv_iload_n hx hb dX2_copy_2 rfl (lv_at hl 2 rfl) ?_
      refine lv_aload_n hx hb dX2_copy_3 rfl (lv_at hl 0 rfl) ?_
      refine cm_alenR (q := 4) (z := 6) (t0 := 4) X hM (by decide) rfl rfl rfl (show Int32.ofNat 6 = zi 6 by decide) dX2_copy_4 ?_
      obtain ⟨g2, hh⟩ := gd_inv hh
      refine g_icmp_ge (tgt := 29) hx hb ⟨g2, by decide⟩ dX2_copy_5 (by decide) (fun c1 => ?_) (fun c1 => ?_)
      · replace hh := it_t c1 hh
        refine lv_aload_n hx hb dX2_copy_8 rfl (lv_at hl 0 rfl) ?_
        refine lv_iload_n hx hb dX2_copy_9 rfl (lv_at hl 2 rfl) ?_
        obtain ⟨g3, hh⟩ := gd_inv hh
        refine cm_aald X hM (by decide) rfl (by decide) rfl g3 dX2_copy_10 ?_
        refine lv_iconst (v := zi 0) hx hb dX2_copy_11 rfl ?_
        refine lv_aload_n hx hb dX2_copy_12 rfl (lv_at hl 1 rfl) ?_
        refine lv_iload_n hx hb dX2_copy_13 rfl (lv_at hl 2 rfl) ?_
        obtain ⟨g4, hh⟩ := gd_inv hh
        refine cm_aald X hM (by decide) rfl (by decide) rfl g4 dX2_copy_14 ?_
        refine lv_iconst (v := zi 0) hx hb dX2_copy_15 rfl ?_
        refine lv_aload_n hx hb dX2_copy_16 rfl (lv_at hl 0 rfl) ?_
        refine lv_iload_n hx hb dX2_copy_17 rfl (lv_at hl 2 rfl) ?_
        obtain ⟨g5, hh⟩ := gd_inv hh
        refine cm_aald X hM (by decide) rfl (by decide) rfl g5 dX2_copy_18 ?_
        refine cm_alenR (z := 4) (t0 := 0) X hM (cr_4 g5).1 ((cr_4 g5).cell _ _ _) rfl rfl (show Int32.ofNat 4 = zi 4 by decide) dX2_copy_19 ?_
        refine cm_copy (z0 := (4 + 1 + x2)) (z1 := (239 + 1 + x2)) (rest := []) X hM (cr_4 g5) (cr_239 g4) (by have := g5.1; omega) (by have := g4.1; omega) rfl rfl (by decide) q289 q291 q290 q88 hl.1 (Nat.le_of_ble_eq_true rfl) (Nat.le_of_ble_eq_true rfl) dX2_copy_20 (fun H locs S6 e7 hM => ?_)
        replace hh := nm_inv hh S6 e7
        obtain ⟨v8, e9⟩ : ∃ z : Int, z = x2 + 1 := ⟨_, rfl⟩
        replace hh := nm_inv hh v8 e9
        refine lv_iinc (v := zi v8) (lv' := [(2, .int (zi (v8))), (0, .ref (hC + 4)), (1, .ref (hC + 239))]) hx hb dX2_copy_23 hl (k := 2) rfl (by rw [e9]; exact zi_add _ _) (by decide) rfl (fun ls hl => ?_)
        refine lv_goto (tgt := 2) hx hb dX2_copy_26 (by decide) ?_
        exact hK2 S6 v8 hh _ _ _ hM (lv_sub hl [1, 2, 0] rfl)
      · replace hh := it_f c1 hh
        exact hret _ _ _ _ _ (rt0 hh) dX2_copy_29 hM
  replace hl : lv_has ls 3 [(0, .ref (hC + 4)), (1, .ref (hC + 239))] := hl
  unfold C_cp4_239 at hh
  refine lv_iconst (v := zi 0) hx hb dX2_copy_0 rfl ?_
  refine lv_istore_n (lv' := [(2, .int (zi (0))), (0, .ref (hC + 4)), (1, .ref (hC + 239))]) hx hb dX2_copy_1 rfl hl (by decide) rfl (fun ls hl => ?_)
  exact hL2 FU S (0 : Int) hh _ _ _ hM (lv_sub hl [1, 2, 0] rfl)
def C_cp239_4_b2 (K2 : yS → Int → Option yS) (S : yS) (x2 : Int) : Option yS := gd (r32 (x2)) (if x2 < 6 then (gd ((0 : Int) ≤ x2 ∧ (x2 : Int) < 6) (gd ((0 : Int) ≤ x2 ∧ (x2 : Int) < 6) (gd ((0 : Int) ≤ x2 ∧ (x2 : Int) < 6) (nm (ccp S (239 + 1 + x2) (4 + 1 + x2) (4 : Int)) (fun S6 => nm ((x2 + 1) : Int) (fun v8 => K2 S6 v8)))))) else (some S))
def C_cp239_4_L2 : Nat → yS → Int → Option yS
  | 0 => fun _ _ => none
  | n + 1 => fun S x2 => C_cp239_4_b2  (C_cp239_4_L2  n) S x2
def C_cp239_4 (S : yS) : Option yS := C_cp239_4_L2 FU S (0 : Int)
set_option maxHeartbeats 4000000 in
theorem wC_cp239_4 (l : Launch) (DC : va_G) (dA : Nat → ClassId) (hC : Nat) (S : yS) {S1 : yS} (hh : C_cp239_4 S = some S1) : ct_v l yX2_copy cX2_copy 3 (rmS 2 80) DC dA hC [.ref (hC + 239), .ref (hC + 4)] S S1 := by
  refine co_v (by decide) (Nat.le_of_ble_eq_true rfl) ?_
  intro p e s m args below meth c Q ls X hret hl hM
  have hx := X.1.1
  have hb := X.1.2.1
  have hown := X.1.2.2.2.1
  have hts := X.1.2.2.2.2
  have hL2 : ∀ (n : Nat) (S : yS) (x2 : Int), C_cp239_4_L2 n S x2 = some S1 → ∀ (H : Heap) (locs : List Loc) (ls : Array Slot), CX DC dA hC (cA hC) S s H locs → lv_has ls 3 [(0, .ref (hC + 239)), (1, .ref (hC + 4)), (2, .int (zi (x2)))] → W p l e (rmS 2 80) s m args below meth c H locs 0 0 Q (F0 m 2 ls []) := by
    intro   n
    induction n with
    | zero => intro S x2 hh; exact no_some hh
    | succ n ih =>
      intro S x2 hh H locs ls hM hl
      replace hh : C_cp239_4_b2 (C_cp239_4_L2 n) S x2 = some S1 := hh
      unfold C_cp239_4_b2 at hh
      have hK2 := ih
      refine lv_iload_n hx hb dX2_copy_2 rfl (lv_at hl 2 rfl) ?_
      refine lv_aload_n hx hb dX2_copy_3 rfl (lv_at hl 0 rfl) ?_
      refine cm_alenR (q := 239) (z := 6) (t0 := 4) X hM (by decide) rfl rfl rfl (show Int32.ofNat 6 = zi 6 by decide) dX2_copy_4 ?_
      obtain ⟨g2, hh⟩ := gd_inv hh
      refine g_icmp_ge (tgt := 29) hx hb ⟨g2, by decide⟩ dX2_copy_5 (by decide) (fun c1 => ?_) (fun c1 => ?_)
      · replace hh := it_t c1 hh
        refine lv_aload_n hx hb dX2_copy_8 rfl (lv_at hl 0 rfl) ?_
        refine lv_iload_n hx hb dX2_copy_9 rfl (lv_at hl 2 rfl) ?_
        obtain ⟨g3, hh⟩ := gd_inv hh
        refine cm_aald X hM (by decide) rfl (by decide) rfl g3 dX2_copy_10 ?_
        refine lv_iconst (v := zi 0) hx hb dX2_copy_11 rfl ?_
        refine lv_aload_n hx hb dX2_copy_12 rfl (lv_at hl 1 rfl) ?_
        refine lv_iload_n hx hb dX2_copy_13 rfl (lv_at hl 2 rfl) ?_
        obtain ⟨g4, hh⟩ := gd_inv hh
        refine cm_aald X hM (by decide) rfl (by decide) rfl g4 dX2_copy_14 ?_
        refine lv_iconst (v := zi 0) hx hb dX2_copy_15 rfl ?_
        refine lv_aload_n hx hb dX2_copy_16 rfl (lv_at hl 0 rfl) ?_
        refine lv_iload_n hx hb dX2_copy_17 rfl (lv_at hl 2 rfl) ?_
        obtain ⟨g5, hh⟩ := gd_inv hh
        refine cm_aald X hM (by decide) rfl (by decide) rfl g5 dX2_copy_18 ?_
        refine cm_alenR (z := 4) (t0 := 0) X hM (cr_239 g5).1 ((cr_239 g5).cell _ _ _) rfl rfl (show Int32.ofNat 4 = zi 4 by decide) dX2_copy_19 ?_
        refine cm_copy (z0 := (239 + 1 + x2)) (z1 := (4 + 1 + x2)) (rest := []) X hM (cr_239 g5) (cr_4 g4) (by have := g5.1; omega) (by have := g4.1; omega) rfl rfl (by decide) q289 q291 q290 q88 hl.1 (Nat.le_of_ble_eq_true rfl) (Nat.le_of_ble_eq_true rfl) dX2_copy_20 (fun H locs S6 e7 hM => ?_)
        replace hh := nm_inv hh S6 e7
        obtain ⟨v8, e9⟩ : ∃ z : Int, z = x2 + 1 := ⟨_, rfl⟩
        replace hh := nm_inv hh v8 e9
        refine lv_iinc (v := zi v8) (lv' := [(2, .int (zi (v8))), (0, .ref (hC + 239)), (1, .ref (hC + 4))]) hx hb dX2_copy_23 hl (k := 2) rfl (by rw [e9]; exact zi_add _ _) (by decide) rfl (fun ls hl => ?_)
        refine lv_goto (tgt := 2) hx hb dX2_copy_26 (by decide) ?_
        exact hK2 S6 v8 hh _ _ _ hM (lv_sub hl [1, 2, 0] rfl)
      · replace hh := it_f c1 hh
        exact hret _ _ _ _ _ (rt0 hh) dX2_copy_29 hM
  replace hl : lv_has ls 3 [(0, .ref (hC + 239)), (1, .ref (hC + 4))] := hl
  unfold C_cp239_4 at hh
  refine lv_iconst (v := zi 0) hx hb dX2_copy_0 rfl ?_
  refine lv_istore_n (lv' := [(2, .int (zi (0))), (0, .ref (hC + 239)), (1, .ref (hC + 4))]) hx hb dX2_copy_1 rfl hl (by decide) rfl (fun ls hl => ?_)
  exact hL2 FU S (0 : Int) hh _ _ _ hM (lv_sub hl [1, 2, 0] rfl)
def C_cp11_246_b2 (K2 : yS → Int → Option yS) (S : yS) (x2 : Int) : Option yS := gd (r32 (x2)) (if x2 < 16 then (gd ((0 : Int) ≤ x2 ∧ (x2 : Int) < 16) (gd ((0 : Int) ≤ x2 ∧ (x2 : Int) < 16) (gd ((0 : Int) ≤ x2 ∧ (x2 : Int) < 16) (nm (ccp S (11 + 1 + x2) (246 + 1 + x2) (2 : Int)) (fun S6 => nm ((x2 + 1) : Int) (fun v8 => K2 S6 v8)))))) else (some S))
def C_cp11_246_L2 : Nat → yS → Int → Option yS
  | 0 => fun _ _ => none
  | n + 1 => fun S x2 => C_cp11_246_b2  (C_cp11_246_L2  n) S x2
def C_cp11_246 (S : yS) : Option yS := C_cp11_246_L2 FU S (0 : Int)
set_option maxHeartbeats 4000000 in
theorem wC_cp11_246 (l : Launch) (DC : va_G) (dA : Nat → ClassId) (hC : Nat) (S : yS) {S1 : yS} (hh : C_cp11_246 S = some S1) : ct_v l yX2_copy cX2_copy 3 (rmS 2 80) DC dA hC [.ref (hC + 11), .ref (hC + 246)] S S1 := by
  refine co_v (by decide) (Nat.le_of_ble_eq_true rfl) ?_
  intro p e s m args below meth c Q ls X hret hl hM
  have hx := X.1.1
  have hb := X.1.2.1
  have hown := X.1.2.2.2.1
  have hts := X.1.2.2.2.2
  have hL2 : ∀ (n : Nat) (S : yS) (x2 : Int), C_cp11_246_L2 n S x2 = some S1 → ∀ (H : Heap) (locs : List Loc) (ls : Array Slot), CX DC dA hC (cA hC) S s H locs → lv_has ls 3 [(0, .ref (hC + 11)), (1, .ref (hC + 246)), (2, .int (zi (x2)))] → W p l e (rmS 2 80) s m args below meth c H locs 0 0 Q (F0 m 2 ls []) := by
    intro   n
    induction n with
    | zero => intro S x2 hh; exact no_some hh
    | succ n ih =>
      intro S x2 hh H locs ls hM hl
      replace hh : C_cp11_246_b2 (C_cp11_246_L2 n) S x2 = some S1 := hh
      unfold C_cp11_246_b2 at hh
      have hK2 := ih
      refine lv_iload_n hx hb dX2_copy_2 rfl (lv_at hl 2 rfl) ?_
      refine lv_aload_n hx hb dX2_copy_3 rfl (lv_at hl 0 rfl) ?_
      refine cm_alenR (q := 11) (z := 16) (t0 := 4) X hM (by decide) rfl rfl rfl (show Int32.ofNat 16 = zi 16 by decide) dX2_copy_4 ?_
      obtain ⟨g2, hh⟩ := gd_inv hh
      refine g_icmp_ge (tgt := 29) hx hb ⟨g2, by decide⟩ dX2_copy_5 (by decide) (fun c1 => ?_) (fun c1 => ?_)
      · replace hh := it_t c1 hh
        refine lv_aload_n hx hb dX2_copy_8 rfl (lv_at hl 0 rfl) ?_
        refine lv_iload_n hx hb dX2_copy_9 rfl (lv_at hl 2 rfl) ?_
        obtain ⟨g3, hh⟩ := gd_inv hh
        refine cm_aald X hM (by decide) rfl (by decide) rfl g3 dX2_copy_10 ?_
        refine lv_iconst (v := zi 0) hx hb dX2_copy_11 rfl ?_
        refine lv_aload_n hx hb dX2_copy_12 rfl (lv_at hl 1 rfl) ?_
        refine lv_iload_n hx hb dX2_copy_13 rfl (lv_at hl 2 rfl) ?_
        obtain ⟨g4, hh⟩ := gd_inv hh
        refine cm_aald X hM (by decide) rfl (by decide) rfl g4 dX2_copy_14 ?_
        refine lv_iconst (v := zi 0) hx hb dX2_copy_15 rfl ?_
        refine lv_aload_n hx hb dX2_copy_16 rfl (lv_at hl 0 rfl) ?_
        refine lv_iload_n hx hb dX2_copy_17 rfl (lv_at hl 2 rfl) ?_
        obtain ⟨g5, hh⟩ := gd_inv hh
        refine cm_aald X hM (by decide) rfl (by decide) rfl g5 dX2_copy_18 ?_
        refine cm_alenR (z := 2) (t0 := 0) X hM (cr_11 g5).1 ((cr_11 g5).cell _ _ _) rfl rfl (show Int32.ofNat 2 = zi 2 by decide) dX2_copy_19 ?_
        refine cm_copy (z0 := (11 + 1 + x2)) (z1 := (246 + 1 + x2)) (rest := []) X hM (cr_11 g5) (cr_246 g4) (by have := g5.1; omega) (by have := g4.1; omega) rfl rfl (by decide) q289 q291 q290 q88 hl.1 (Nat.le_of_ble_eq_true rfl) (Nat.le_of_ble_eq_true rfl) dX2_copy_20 (fun H locs S6 e7 hM => ?_)
        replace hh := nm_inv hh S6 e7
        obtain ⟨v8, e9⟩ : ∃ z : Int, z = x2 + 1 := ⟨_, rfl⟩
        replace hh := nm_inv hh v8 e9
        refine lv_iinc (v := zi v8) (lv' := [(2, .int (zi (v8))), (0, .ref (hC + 11)), (1, .ref (hC + 246))]) hx hb dX2_copy_23 hl (k := 2) rfl (by rw [e9]; exact zi_add _ _) (by decide) rfl (fun ls hl => ?_)
        refine lv_goto (tgt := 2) hx hb dX2_copy_26 (by decide) ?_
        exact hK2 S6 v8 hh _ _ _ hM (lv_sub hl [1, 2, 0] rfl)
      · replace hh := it_f c1 hh
        exact hret _ _ _ _ _ (rt0 hh) dX2_copy_29 hM
  replace hl : lv_has ls 3 [(0, .ref (hC + 11)), (1, .ref (hC + 246))] := hl
  unfold C_cp11_246 at hh
  refine lv_iconst (v := zi 0) hx hb dX2_copy_0 rfl ?_
  refine lv_istore_n (lv' := [(2, .int (zi (0))), (0, .ref (hC + 11)), (1, .ref (hC + 246))]) hx hb dX2_copy_1 rfl hl (by decide) rfl (fun ls hl => ?_)
  exact hL2 FU S (0 : Int) hh _ _ _ hM (lv_sub hl [1, 2, 0] rfl)
def C_cp246_11_b2 (K2 : yS → Int → Option yS) (S : yS) (x2 : Int) : Option yS := gd (r32 (x2)) (if x2 < 16 then (gd ((0 : Int) ≤ x2 ∧ (x2 : Int) < 16) (gd ((0 : Int) ≤ x2 ∧ (x2 : Int) < 16) (gd ((0 : Int) ≤ x2 ∧ (x2 : Int) < 16) (nm (ccp S (246 + 1 + x2) (11 + 1 + x2) (2 : Int)) (fun S6 => nm ((x2 + 1) : Int) (fun v8 => K2 S6 v8)))))) else (some S))
def C_cp246_11_L2 : Nat → yS → Int → Option yS
  | 0 => fun _ _ => none
  | n + 1 => fun S x2 => C_cp246_11_b2  (C_cp246_11_L2  n) S x2
def C_cp246_11 (S : yS) : Option yS := C_cp246_11_L2 FU S (0 : Int)
set_option maxHeartbeats 4000000 in
theorem wC_cp246_11 (l : Launch) (DC : va_G) (dA : Nat → ClassId) (hC : Nat) (S : yS) {S1 : yS} (hh : C_cp246_11 S = some S1) : ct_v l yX2_copy cX2_copy 3 (rmS 2 80) DC dA hC [.ref (hC + 246), .ref (hC + 11)] S S1 := by
  refine co_v (by decide) (Nat.le_of_ble_eq_true rfl) ?_
  intro p e s m args below meth c Q ls X hret hl hM
  have hx := X.1.1
  have hb := X.1.2.1
  have hown := X.1.2.2.2.1
  have hts := X.1.2.2.2.2
  have hL2 : ∀ (n : Nat) (S : yS) (x2 : Int), C_cp246_11_L2 n S x2 = some S1 → ∀ (H : Heap) (locs : List Loc) (ls : Array Slot), CX DC dA hC (cA hC) S s H locs → lv_has ls 3 [(0, .ref (hC + 246)), (1, .ref (hC + 11)), (2, .int (zi (x2)))] → W p l e (rmS 2 80) s m args below meth c H locs 0 0 Q (F0 m 2 ls []) := by
    intro   n
    induction n with
    | zero => intro S x2 hh; exact no_some hh
    | succ n ih =>
      intro S x2 hh H locs ls hM hl
      replace hh : C_cp246_11_b2 (C_cp246_11_L2 n) S x2 = some S1 := hh
      unfold C_cp246_11_b2 at hh
      have hK2 := ih
      refine lv_iload_n hx hb dX2_copy_2 rfl (lv_at hl 2 rfl) ?_
      refine lv_aload_n hx hb dX2_copy_3 rfl (lv_at hl 0 rfl) ?_
      refine cm_alenR (q := 246) (z := 16) (t0 := 4) X hM (by decide) rfl rfl rfl (show Int32.ofNat 16 = zi 16 by decide) dX2_copy_4 ?_
      obtain ⟨g2, hh⟩ := gd_inv hh
      refine g_icmp_ge (tgt := 29) hx hb ⟨g2, by decide⟩ dX2_copy_5 (by decide) (fun c1 => ?_) (fun c1 => ?_)
      · replace hh := it_t c1 hh
        refine lv_aload_n hx hb dX2_copy_8 rfl (lv_at hl 0 rfl) ?_
        refine lv_iload_n hx hb dX2_copy_9 rfl (lv_at hl 2 rfl) ?_
        obtain ⟨g3, hh⟩ := gd_inv hh
        refine cm_aald X hM (by decide) rfl (by decide) rfl g3 dX2_copy_10 ?_
        refine lv_iconst (v := zi 0) hx hb dX2_copy_11 rfl ?_
        refine lv_aload_n hx hb dX2_copy_12 rfl (lv_at hl 1 rfl) ?_
        refine lv_iload_n hx hb dX2_copy_13 rfl (lv_at hl 2 rfl) ?_
        obtain ⟨g4, hh⟩ := gd_inv hh
        refine cm_aald X hM (by decide) rfl (by decide) rfl g4 dX2_copy_14 ?_
        refine lv_iconst (v := zi 0) hx hb dX2_copy_15 rfl ?_
        refine lv_aload_n hx hb dX2_copy_16 rfl (lv_at hl 0 rfl) ?_
        refine lv_iload_n hx hb dX2_copy_17 rfl (lv_at hl 2 rfl) ?_
        obtain ⟨g5, hh⟩ := gd_inv hh
        refine cm_aald X hM (by decide) rfl (by decide) rfl g5 dX2_copy_18 ?_
        refine cm_alenR (z := 2) (t0 := 0) X hM (cr_246 g5).1 ((cr_246 g5).cell _ _ _) rfl rfl (show Int32.ofNat 2 = zi 2 by decide) dX2_copy_19 ?_
        refine cm_copy (z0 := (246 + 1 + x2)) (z1 := (11 + 1 + x2)) (rest := []) X hM (cr_246 g5) (cr_11 g4) (by have := g5.1; omega) (by have := g4.1; omega) rfl rfl (by decide) q289 q291 q290 q88 hl.1 (Nat.le_of_ble_eq_true rfl) (Nat.le_of_ble_eq_true rfl) dX2_copy_20 (fun H locs S6 e7 hM => ?_)
        replace hh := nm_inv hh S6 e7
        obtain ⟨v8, e9⟩ : ∃ z : Int, z = x2 + 1 := ⟨_, rfl⟩
        replace hh := nm_inv hh v8 e9
        refine lv_iinc (v := zi v8) (lv' := [(2, .int (zi (v8))), (0, .ref (hC + 246)), (1, .ref (hC + 11))]) hx hb dX2_copy_23 hl (k := 2) rfl (by rw [e9]; exact zi_add _ _) (by decide) rfl (fun ls hl => ?_)
        refine lv_goto (tgt := 2) hx hb dX2_copy_26 (by decide) ?_
        exact hK2 S6 v8 hh _ _ _ hM (lv_sub hl [1, 2, 0] rfl)
      · replace hh := it_f c1 hh
        exact hret _ _ _ _ _ (rt0 hh) dX2_copy_29 hM
  replace hl : lv_has ls 3 [(0, .ref (hC + 246)), (1, .ref (hC + 11))] := hl
  unfold C_cp246_11 at hh
  refine lv_iconst (v := zi 0) hx hb dX2_copy_0 rfl ?_
  refine lv_istore_n (lv' := [(2, .int (zi (0))), (0, .ref (hC + 246)), (1, .ref (hC + 11))]) hx hb dX2_copy_1 rfl hl (by decide) rfl (fun ls hl => ?_)
  exact hL2 FU S (0 : Int) hh _ _ _ hM (lv_sub hl [1, 2, 0] rfl)
def C_cp28_263_b2 (K2 : yS → Int → Option yS) (S : yS) (x2 : Int) : Option yS := gd (r32 (x2)) (if x2 < 16 then (gd ((0 : Int) ≤ x2 ∧ (x2 : Int) < 16) (gd ((0 : Int) ≤ x2 ∧ (x2 : Int) < 16) (gd ((0 : Int) ≤ x2 ∧ (x2 : Int) < 16) (nm (ccp S (28 + 1 + x2) (263 + 1 + x2) (3 : Int)) (fun S6 => nm ((x2 + 1) : Int) (fun v8 => K2 S6 v8)))))) else (some S))
def C_cp28_263_L2 : Nat → yS → Int → Option yS
  | 0 => fun _ _ => none
  | n + 1 => fun S x2 => C_cp28_263_b2  (C_cp28_263_L2  n) S x2
def C_cp28_263 (S : yS) : Option yS := C_cp28_263_L2 FU S (0 : Int)
set_option maxHeartbeats 4000000 in
theorem wC_cp28_263 (l : Launch) (DC : va_G) (dA : Nat → ClassId) (hC : Nat) (S : yS) {S1 : yS} (hh : C_cp28_263 S = some S1) : ct_v l yX2_copy cX2_copy 3 (rmS 2 80) DC dA hC [.ref (hC + 28), .ref (hC + 263)] S S1 := by
  refine co_v (by decide) (Nat.le_of_ble_eq_true rfl) ?_
  intro p e s m args below meth c Q ls X hret hl hM
  have hx := X.1.1
  have hb := X.1.2.1
  have hown := X.1.2.2.2.1
  have hts := X.1.2.2.2.2
  have hL2 : ∀ (n : Nat) (S : yS) (x2 : Int), C_cp28_263_L2 n S x2 = some S1 → ∀ (H : Heap) (locs : List Loc) (ls : Array Slot), CX DC dA hC (cA hC) S s H locs → lv_has ls 3 [(0, .ref (hC + 28)), (1, .ref (hC + 263)), (2, .int (zi (x2)))] → W p l e (rmS 2 80) s m args below meth c H locs 0 0 Q (F0 m 2 ls []) := by
    intro   n
    induction n with
    | zero => intro S x2 hh; exact no_some hh
    | succ n ih =>
      intro S x2 hh H locs ls hM hl
      replace hh : C_cp28_263_b2 (C_cp28_263_L2 n) S x2 = some S1 := hh
      unfold C_cp28_263_b2 at hh
      have hK2 := ih
      refine lv_iload_n hx hb dX2_copy_2 rfl (lv_at hl 2 rfl) ?_
      refine lv_aload_n hx hb dX2_copy_3 rfl (lv_at hl 0 rfl) ?_
      refine cm_alenR (q := 28) (z := 16) (t0 := 4) X hM (by decide) rfl rfl rfl (show Int32.ofNat 16 = zi 16 by decide) dX2_copy_4 ?_
      obtain ⟨g2, hh⟩ := gd_inv hh
      refine g_icmp_ge (tgt := 29) hx hb ⟨g2, by decide⟩ dX2_copy_5 (by decide) (fun c1 => ?_) (fun c1 => ?_)
      · replace hh := it_t c1 hh
        refine lv_aload_n hx hb dX2_copy_8 rfl (lv_at hl 0 rfl) ?_
        refine lv_iload_n hx hb dX2_copy_9 rfl (lv_at hl 2 rfl) ?_
        obtain ⟨g3, hh⟩ := gd_inv hh
        refine cm_aald X hM (by decide) rfl (by decide) rfl g3 dX2_copy_10 ?_
        refine lv_iconst (v := zi 0) hx hb dX2_copy_11 rfl ?_
        refine lv_aload_n hx hb dX2_copy_12 rfl (lv_at hl 1 rfl) ?_
        refine lv_iload_n hx hb dX2_copy_13 rfl (lv_at hl 2 rfl) ?_
        obtain ⟨g4, hh⟩ := gd_inv hh
        refine cm_aald X hM (by decide) rfl (by decide) rfl g4 dX2_copy_14 ?_
        refine lv_iconst (v := zi 0) hx hb dX2_copy_15 rfl ?_
        refine lv_aload_n hx hb dX2_copy_16 rfl (lv_at hl 0 rfl) ?_
        refine lv_iload_n hx hb dX2_copy_17 rfl (lv_at hl 2 rfl) ?_
        obtain ⟨g5, hh⟩ := gd_inv hh
        refine cm_aald X hM (by decide) rfl (by decide) rfl g5 dX2_copy_18 ?_
        refine cm_alenR (z := 3) (t0 := 0) X hM (cr_28 g5).1 ((cr_28 g5).cell _ _ _) rfl rfl (show Int32.ofNat 3 = zi 3 by decide) dX2_copy_19 ?_
        refine cm_copy (z0 := (28 + 1 + x2)) (z1 := (263 + 1 + x2)) (rest := []) X hM (cr_28 g5) (cr_263 g4) (by have := g5.1; omega) (by have := g4.1; omega) rfl rfl (by decide) q289 q291 q290 q88 hl.1 (Nat.le_of_ble_eq_true rfl) (Nat.le_of_ble_eq_true rfl) dX2_copy_20 (fun H locs S6 e7 hM => ?_)
        replace hh := nm_inv hh S6 e7
        obtain ⟨v8, e9⟩ : ∃ z : Int, z = x2 + 1 := ⟨_, rfl⟩
        replace hh := nm_inv hh v8 e9
        refine lv_iinc (v := zi v8) (lv' := [(2, .int (zi (v8))), (0, .ref (hC + 28)), (1, .ref (hC + 263))]) hx hb dX2_copy_23 hl (k := 2) rfl (by rw [e9]; exact zi_add _ _) (by decide) rfl (fun ls hl => ?_)
        refine lv_goto (tgt := 2) hx hb dX2_copy_26 (by decide) ?_
        exact hK2 S6 v8 hh _ _ _ hM (lv_sub hl [1, 2, 0] rfl)
      · replace hh := it_f c1 hh
        exact hret _ _ _ _ _ (rt0 hh) dX2_copy_29 hM
  replace hl : lv_has ls 3 [(0, .ref (hC + 28)), (1, .ref (hC + 263))] := hl
  unfold C_cp28_263 at hh
  refine lv_iconst (v := zi 0) hx hb dX2_copy_0 rfl ?_
  refine lv_istore_n (lv' := [(2, .int (zi (0))), (0, .ref (hC + 28)), (1, .ref (hC + 263))]) hx hb dX2_copy_1 rfl hl (by decide) rfl (fun ls hl => ?_)
  exact hL2 FU S (0 : Int) hh _ _ _ hM (lv_sub hl [1, 2, 0] rfl)
def C_cp263_28_b2 (K2 : yS → Int → Option yS) (S : yS) (x2 : Int) : Option yS := gd (r32 (x2)) (if x2 < 16 then (gd ((0 : Int) ≤ x2 ∧ (x2 : Int) < 16) (gd ((0 : Int) ≤ x2 ∧ (x2 : Int) < 16) (gd ((0 : Int) ≤ x2 ∧ (x2 : Int) < 16) (nm (ccp S (263 + 1 + x2) (28 + 1 + x2) (3 : Int)) (fun S6 => nm ((x2 + 1) : Int) (fun v8 => K2 S6 v8)))))) else (some S))
def C_cp263_28_L2 : Nat → yS → Int → Option yS
  | 0 => fun _ _ => none
  | n + 1 => fun S x2 => C_cp263_28_b2  (C_cp263_28_L2  n) S x2
def C_cp263_28 (S : yS) : Option yS := C_cp263_28_L2 FU S (0 : Int)
set_option maxHeartbeats 4000000 in
theorem wC_cp263_28 (l : Launch) (DC : va_G) (dA : Nat → ClassId) (hC : Nat) (S : yS) {S1 : yS} (hh : C_cp263_28 S = some S1) : ct_v l yX2_copy cX2_copy 3 (rmS 2 80) DC dA hC [.ref (hC + 263), .ref (hC + 28)] S S1 := by
  refine co_v (by decide) (Nat.le_of_ble_eq_true rfl) ?_
  intro p e s m args below meth c Q ls X hret hl hM
  have hx := X.1.1
  have hb := X.1.2.1
  have hown := X.1.2.2.2.1
  have hts := X.1.2.2.2.2
  have hL2 : ∀ (n : Nat) (S : yS) (x2 : Int), C_cp263_28_L2 n S x2 = some S1 → ∀ (H : Heap) (locs : List Loc) (ls : Array Slot), CX DC dA hC (cA hC) S s H locs → lv_has ls 3 [(0, .ref (hC + 263)), (1, .ref (hC + 28)), (2, .int (zi (x2)))] → W p l e (rmS 2 80) s m args below meth c H locs 0 0 Q (F0 m 2 ls []) := by
    intro   n
    induction n with
    | zero => intro S x2 hh; exact no_some hh
    | succ n ih =>
      intro S x2 hh H locs ls hM hl
      replace hh : C_cp263_28_b2 (C_cp263_28_L2 n) S x2 = some S1 := hh
      unfold C_cp263_28_b2 at hh
      have hK2 := ih
      refine lv_iload_n hx hb dX2_copy_2 rfl (lv_at hl 2 rfl) ?_
      refine lv_aload_n hx hb dX2_copy_3 rfl (lv_at hl 0 rfl) ?_
      refine cm_alenR (q := 263) (z := 16) (t0 := 4) X hM (by decide) rfl rfl rfl (show Int32.ofNat 16 = zi 16 by decide) dX2_copy_4 ?_
      obtain ⟨g2, hh⟩ := gd_inv hh
      refine g_icmp_ge (tgt := 29) hx hb ⟨g2, by decide⟩ dX2_copy_5 (by decide) (fun c1 => ?_) (fun c1 => ?_)
      · replace hh := it_t c1 hh
        refine lv_aload_n hx hb dX2_copy_8 rfl (lv_at hl 0 rfl) ?_
        refine lv_iload_n hx hb dX2_copy_9 rfl (lv_at hl 2 rfl) ?_
        obtain ⟨g3, hh⟩ := gd_inv hh
        refine cm_aald X hM (by decide) rfl (by decide) rfl g3 dX2_copy_10 ?_
        refine lv_iconst (v := zi 0) hx hb dX2_copy_11 rfl ?_
        refine lv_aload_n hx hb dX2_copy_12 rfl (lv_at hl 1 rfl) ?_
        refine lv_iload_n hx hb dX2_copy_13 rfl (lv_at hl 2 rfl) ?_
        obtain ⟨g4, hh⟩ := gd_inv hh
        refine cm_aald X hM (by decide) rfl (by decide) rfl g4 dX2_copy_14 ?_
        refine lv_iconst (v := zi 0) hx hb dX2_copy_15 rfl ?_
        refine lv_aload_n hx hb dX2_copy_16 rfl (lv_at hl 0 rfl) ?_
        refine lv_iload_n hx hb dX2_copy_17 rfl (lv_at hl 2 rfl) ?_
        obtain ⟨g5, hh⟩ := gd_inv hh
        refine cm_aald X hM (by decide) rfl (by decide) rfl g5 dX2_copy_18 ?_
        refine cm_alenR (z := 3) (t0 := 0) X hM (cr_263 g5).1 ((cr_263 g5).cell _ _ _) rfl rfl (show Int32.ofNat 3 = zi 3 by decide) dX2_copy_19 ?_
        refine cm_copy (z0 := (263 + 1 + x2)) (z1 := (28 + 1 + x2)) (rest := []) X hM (cr_263 g5) (cr_28 g4) (by have := g5.1; omega) (by have := g4.1; omega) rfl rfl (by decide) q289 q291 q290 q88 hl.1 (Nat.le_of_ble_eq_true rfl) (Nat.le_of_ble_eq_true rfl) dX2_copy_20 (fun H locs S6 e7 hM => ?_)
        replace hh := nm_inv hh S6 e7
        obtain ⟨v8, e9⟩ : ∃ z : Int, z = x2 + 1 := ⟨_, rfl⟩
        replace hh := nm_inv hh v8 e9
        refine lv_iinc (v := zi v8) (lv' := [(2, .int (zi (v8))), (0, .ref (hC + 263)), (1, .ref (hC + 28))]) hx hb dX2_copy_23 hl (k := 2) rfl (by rw [e9]; exact zi_add _ _) (by decide) rfl (fun ls hl => ?_)
        refine lv_goto (tgt := 2) hx hb dX2_copy_26 (by decide) ?_
        exact hK2 S6 v8 hh _ _ _ hM (lv_sub hl [1, 2, 0] rfl)
      · replace hh := it_f c1 hh
        exact hret _ _ _ _ _ (rt0 hh) dX2_copy_29 hM
  replace hl : lv_has ls 3 [(0, .ref (hC + 263)), (1, .ref (hC + 28))] := hl
  unfold C_cp263_28 at hh
  refine lv_iconst (v := zi 0) hx hb dX2_copy_0 rfl ?_
  refine lv_istore_n (lv' := [(2, .int (zi (0))), (0, .ref (hC + 263)), (1, .ref (hC + 28))]) hx hb dX2_copy_1 rfl hl (by decide) rfl (fun ls hl => ?_)
  exact hL2 FU S (0 : Int) hh _ _ _ hM (lv_sub hl [1, 2, 0] rfl)
def C_cp45_280_b2 (K2 : yS → Int → Option yS) (S : yS) (x2 : Int) : Option yS := gd (r32 (x2)) (if x2 < 6 then (gd ((0 : Int) ≤ x2 ∧ (x2 : Int) < 6) (gd ((0 : Int) ≤ x2 ∧ (x2 : Int) < 6) (gd ((0 : Int) ≤ x2 ∧ (x2 : Int) < 6) (nm (ccp S (45 + 1 + x2) (280 + 1 + x2) (24 : Int)) (fun S6 => nm ((x2 + 1) : Int) (fun v8 => K2 S6 v8)))))) else (some S))
def C_cp45_280_L2 : Nat → yS → Int → Option yS
  | 0 => fun _ _ => none
  | n + 1 => fun S x2 => C_cp45_280_b2  (C_cp45_280_L2  n) S x2
def C_cp45_280 (S : yS) : Option yS := C_cp45_280_L2 FU S (0 : Int)
set_option maxHeartbeats 4000000 in
theorem wC_cp45_280 (l : Launch) (DC : va_G) (dA : Nat → ClassId) (hC : Nat) (S : yS) {S1 : yS} (hh : C_cp45_280 S = some S1) : ct_v l yX2_copy cX2_copy 3 (rmS 2 80) DC dA hC [.ref (hC + 45), .ref (hC + 280)] S S1 := by
  refine co_v (by decide) (Nat.le_of_ble_eq_true rfl) ?_
  intro p e s m args below meth c Q ls X hret hl hM
  have hx := X.1.1
  have hb := X.1.2.1
  have hown := X.1.2.2.2.1
  have hts := X.1.2.2.2.2
  have hL2 : ∀ (n : Nat) (S : yS) (x2 : Int), C_cp45_280_L2 n S x2 = some S1 → ∀ (H : Heap) (locs : List Loc) (ls : Array Slot), CX DC dA hC (cA hC) S s H locs → lv_has ls 3 [(0, .ref (hC + 45)), (1, .ref (hC + 280)), (2, .int (zi (x2)))] → W p l e (rmS 2 80) s m args below meth c H locs 0 0 Q (F0 m 2 ls []) := by
    intro   n
    induction n with
    | zero => intro S x2 hh; exact no_some hh
    | succ n ih =>
      intro S x2 hh H locs ls hM hl
      replace hh : C_cp45_280_b2 (C_cp45_280_L2 n) S x2 = some S1 := hh
      unfold C_cp45_280_b2 at hh
      have hK2 := ih
      refine lv_iload_n hx hb dX2_copy_2 rfl (lv_at hl 2 rfl) ?_
      refine lv_aload_n hx hb dX2_copy_3 rfl (lv_at hl 0 rfl) ?_
      refine cm_alenR (q := 45) (z := 6) (t0 := 4) X hM (by decide) rfl rfl rfl (show Int32.ofNat 6 = zi 6 by decide) dX2_copy_4 ?_
      obtain ⟨g2, hh⟩ := gd_inv hh
      refine g_icmp_ge (tgt := 29) hx hb ⟨g2, by decide⟩ dX2_copy_5 (by decide) (fun c1 => ?_) (fun c1 => ?_)
      · replace hh := it_t c1 hh
        refine lv_aload_n hx hb dX2_copy_8 rfl (lv_at hl 0 rfl) ?_
        refine lv_iload_n hx hb dX2_copy_9 rfl (lv_at hl 2 rfl) ?_
        obtain ⟨g3, hh⟩ := gd_inv hh
        refine cm_aald X hM (by decide) rfl (by decide) rfl g3 dX2_copy_10 ?_
        refine lv_iconst (v := zi 0) hx hb dX2_copy_11 rfl ?_
        refine lv_aload_n hx hb dX2_copy_12 rfl (lv_at hl 1 rfl) ?_
        refine lv_iload_n hx hb dX2_copy_13 rfl (lv_at hl 2 rfl) ?_
        obtain ⟨g4, hh⟩ := gd_inv hh
        refine cm_aald X hM (by decide) rfl (by decide) rfl g4 dX2_copy_14 ?_
        refine lv_iconst (v := zi 0) hx hb dX2_copy_15 rfl ?_
        refine lv_aload_n hx hb dX2_copy_16 rfl (lv_at hl 0 rfl) ?_
        refine lv_iload_n hx hb dX2_copy_17 rfl (lv_at hl 2 rfl) ?_
        obtain ⟨g5, hh⟩ := gd_inv hh
        refine cm_aald X hM (by decide) rfl (by decide) rfl g5 dX2_copy_18 ?_
        refine cm_alenR (z := 24) (t0 := 0) X hM (cr_45 g5).1 ((cr_45 g5).cell _ _ _) rfl rfl (show Int32.ofNat 24 = zi 24 by decide) dX2_copy_19 ?_
        refine cm_copy (z0 := (45 + 1 + x2)) (z1 := (280 + 1 + x2)) (rest := []) X hM (cr_45 g5) (cr_280 g4) (by have := g5.1; omega) (by have := g4.1; omega) rfl rfl (by decide) q289 q291 q290 q88 hl.1 (Nat.le_of_ble_eq_true rfl) (Nat.le_of_ble_eq_true rfl) dX2_copy_20 (fun H locs S6 e7 hM => ?_)
        replace hh := nm_inv hh S6 e7
        obtain ⟨v8, e9⟩ : ∃ z : Int, z = x2 + 1 := ⟨_, rfl⟩
        replace hh := nm_inv hh v8 e9
        refine lv_iinc (v := zi v8) (lv' := [(2, .int (zi (v8))), (0, .ref (hC + 45)), (1, .ref (hC + 280))]) hx hb dX2_copy_23 hl (k := 2) rfl (by rw [e9]; exact zi_add _ _) (by decide) rfl (fun ls hl => ?_)
        refine lv_goto (tgt := 2) hx hb dX2_copy_26 (by decide) ?_
        exact hK2 S6 v8 hh _ _ _ hM (lv_sub hl [1, 2, 0] rfl)
      · replace hh := it_f c1 hh
        exact hret _ _ _ _ _ (rt0 hh) dX2_copy_29 hM
  replace hl : lv_has ls 3 [(0, .ref (hC + 45)), (1, .ref (hC + 280))] := hl
  unfold C_cp45_280 at hh
  refine lv_iconst (v := zi 0) hx hb dX2_copy_0 rfl ?_
  refine lv_istore_n (lv' := [(2, .int (zi (0))), (0, .ref (hC + 45)), (1, .ref (hC + 280))]) hx hb dX2_copy_1 rfl hl (by decide) rfl (fun ls hl => ?_)
  exact hL2 FU S (0 : Int) hh _ _ _ hM (lv_sub hl [1, 2, 0] rfl)
def C_cp280_45_b2 (K2 : yS → Int → Option yS) (S : yS) (x2 : Int) : Option yS := gd (r32 (x2)) (if x2 < 6 then (gd ((0 : Int) ≤ x2 ∧ (x2 : Int) < 6) (gd ((0 : Int) ≤ x2 ∧ (x2 : Int) < 6) (gd ((0 : Int) ≤ x2 ∧ (x2 : Int) < 6) (nm (ccp S (280 + 1 + x2) (45 + 1 + x2) (24 : Int)) (fun S6 => nm ((x2 + 1) : Int) (fun v8 => K2 S6 v8)))))) else (some S))
def C_cp280_45_L2 : Nat → yS → Int → Option yS
  | 0 => fun _ _ => none
  | n + 1 => fun S x2 => C_cp280_45_b2  (C_cp280_45_L2  n) S x2
def C_cp280_45 (S : yS) : Option yS := C_cp280_45_L2 FU S (0 : Int)
set_option maxHeartbeats 4000000 in
theorem wC_cp280_45 (l : Launch) (DC : va_G) (dA : Nat → ClassId) (hC : Nat) (S : yS) {S1 : yS} (hh : C_cp280_45 S = some S1) : ct_v l yX2_copy cX2_copy 3 (rmS 2 80) DC dA hC [.ref (hC + 280), .ref (hC + 45)] S S1 := by
  refine co_v (by decide) (Nat.le_of_ble_eq_true rfl) ?_
  intro p e s m args below meth c Q ls X hret hl hM
  have hx := X.1.1
  have hb := X.1.2.1
  have hown := X.1.2.2.2.1
  have hts := X.1.2.2.2.2
  have hL2 : ∀ (n : Nat) (S : yS) (x2 : Int), C_cp280_45_L2 n S x2 = some S1 → ∀ (H : Heap) (locs : List Loc) (ls : Array Slot), CX DC dA hC (cA hC) S s H locs → lv_has ls 3 [(0, .ref (hC + 280)), (1, .ref (hC + 45)), (2, .int (zi (x2)))] → W p l e (rmS 2 80) s m args below meth c H locs 0 0 Q (F0 m 2 ls []) := by
    intro   n
    induction n with
    | zero => intro S x2 hh; exact no_some hh
    | succ n ih =>
      intro S x2 hh H locs ls hM hl
      replace hh : C_cp280_45_b2 (C_cp280_45_L2 n) S x2 = some S1 := hh
      unfold C_cp280_45_b2 at hh
      have hK2 := ih
      refine lv_iload_n hx hb dX2_copy_2 rfl (lv_at hl 2 rfl) ?_
      refine lv_aload_n hx hb dX2_copy_3 rfl (lv_at hl 0 rfl) ?_
      refine cm_alenR (q := 280) (z := 6) (t0 := 4) X hM (by decide) rfl rfl rfl (show Int32.ofNat 6 = zi 6 by decide) dX2_copy_4 ?_
      obtain ⟨g2, hh⟩ := gd_inv hh
      refine g_icmp_ge (tgt := 29) hx hb ⟨g2, by decide⟩ dX2_copy_5 (by decide) (fun c1 => ?_) (fun c1 => ?_)
      · replace hh := it_t c1 hh
        refine lv_aload_n hx hb dX2_copy_8 rfl (lv_at hl 0 rfl) ?_
        refine lv_iload_n hx hb dX2_copy_9 rfl (lv_at hl 2 rfl) ?_
        obtain ⟨g3, hh⟩ := gd_inv hh
        refine cm_aald X hM (by decide) rfl (by decide) rfl g3 dX2_copy_10 ?_
        refine lv_iconst (v := zi 0) hx hb dX2_copy_11 rfl ?_
        refine lv_aload_n hx hb dX2_copy_12 rfl (lv_at hl 1 rfl) ?_
        refine lv_iload_n hx hb dX2_copy_13 rfl (lv_at hl 2 rfl) ?_
        obtain ⟨g4, hh⟩ := gd_inv hh
        refine cm_aald X hM (by decide) rfl (by decide) rfl g4 dX2_copy_14 ?_
        refine lv_iconst (v := zi 0) hx hb dX2_copy_15 rfl ?_
        refine lv_aload_n hx hb dX2_copy_16 rfl (lv_at hl 0 rfl) ?_
        refine lv_iload_n hx hb dX2_copy_17 rfl (lv_at hl 2 rfl) ?_
        obtain ⟨g5, hh⟩ := gd_inv hh
        refine cm_aald X hM (by decide) rfl (by decide) rfl g5 dX2_copy_18 ?_
        refine cm_alenR (z := 24) (t0 := 0) X hM (cr_280 g5).1 ((cr_280 g5).cell _ _ _) rfl rfl (show Int32.ofNat 24 = zi 24 by decide) dX2_copy_19 ?_
        refine cm_copy (z0 := (280 + 1 + x2)) (z1 := (45 + 1 + x2)) (rest := []) X hM (cr_280 g5) (cr_45 g4) (by have := g5.1; omega) (by have := g4.1; omega) rfl rfl (by decide) q289 q291 q290 q88 hl.1 (Nat.le_of_ble_eq_true rfl) (Nat.le_of_ble_eq_true rfl) dX2_copy_20 (fun H locs S6 e7 hM => ?_)
        replace hh := nm_inv hh S6 e7
        obtain ⟨v8, e9⟩ : ∃ z : Int, z = x2 + 1 := ⟨_, rfl⟩
        replace hh := nm_inv hh v8 e9
        refine lv_iinc (v := zi v8) (lv' := [(2, .int (zi (v8))), (0, .ref (hC + 280)), (1, .ref (hC + 45))]) hx hb dX2_copy_23 hl (k := 2) rfl (by rw [e9]; exact zi_add _ _) (by decide) rfl (fun ls hl => ?_)
        refine lv_goto (tgt := 2) hx hb dX2_copy_26 (by decide) ?_
        exact hK2 S6 v8 hh _ _ _ hM (lv_sub hl [1, 2, 0] rfl)
      · replace hh := it_f c1 hh
        exact hret _ _ _ _ _ (rt0 hh) dX2_copy_29 hM
  replace hl : lv_has ls 3 [(0, .ref (hC + 280)), (1, .ref (hC + 45))] := hl
  unfold C_cp280_45 at hh
  refine lv_iconst (v := zi 0) hx hb dX2_copy_0 rfl ?_
  refine lv_istore_n (lv' := [(2, .int (zi (0))), (0, .ref (hC + 280)), (1, .ref (hC + 45))]) hx hb dX2_copy_1 rfl hl (by decide) rfl (fun ls hl => ?_)
  exact hL2 FU S (0 : Int) hh _ _ _ hM (lv_sub hl [1, 2, 0] rfl)
def C_cp52_287_b2 (K2 : yS → Int → Option yS) (S : yS) (x2 : Int) : Option yS := gd (r32 (x2)) (if x2 < 60 then (gd ((0 : Int) ≤ x2 ∧ (x2 : Int) < 60) (gd ((0 : Int) ≤ x2 ∧ (x2 : Int) < 60) (gd ((0 : Int) ≤ x2 ∧ (x2 : Int) < 60) (nm (ccp S (52 + 1 + x2) (287 + 1 + x2) (5 : Int)) (fun S6 => nm ((x2 + 1) : Int) (fun v8 => K2 S6 v8)))))) else (some S))
def C_cp52_287_L2 : Nat → yS → Int → Option yS
  | 0 => fun _ _ => none
  | n + 1 => fun S x2 => C_cp52_287_b2  (C_cp52_287_L2  n) S x2
def C_cp52_287 (S : yS) : Option yS := C_cp52_287_L2 FU S (0 : Int)
set_option maxHeartbeats 4000000 in
theorem wC_cp52_287 (l : Launch) (DC : va_G) (dA : Nat → ClassId) (hC : Nat) (S : yS) {S1 : yS} (hh : C_cp52_287 S = some S1) : ct_v l yX2_copy cX2_copy 3 (rmS 2 80) DC dA hC [.ref (hC + 52), .ref (hC + 287)] S S1 := by
  refine co_v (by decide) (Nat.le_of_ble_eq_true rfl) ?_
  intro p e s m args below meth c Q ls X hret hl hM
  have hx := X.1.1
  have hb := X.1.2.1
  have hown := X.1.2.2.2.1
  have hts := X.1.2.2.2.2
  have hL2 : ∀ (n : Nat) (S : yS) (x2 : Int), C_cp52_287_L2 n S x2 = some S1 → ∀ (H : Heap) (locs : List Loc) (ls : Array Slot), CX DC dA hC (cA hC) S s H locs → lv_has ls 3 [(0, .ref (hC + 52)), (1, .ref (hC + 287)), (2, .int (zi (x2)))] → W p l e (rmS 2 80) s m args below meth c H locs 0 0 Q (F0 m 2 ls []) := by
    intro   n
    induction n with
    | zero => intro S x2 hh; exact no_some hh
    | succ n ih =>
      intro S x2 hh H locs ls hM hl
      replace hh : C_cp52_287_b2 (C_cp52_287_L2 n) S x2 = some S1 := hh
      unfold C_cp52_287_b2 at hh
      have hK2 := ih
      refine lv_iload_n hx hb dX2_copy_2 rfl (lv_at hl 2 rfl) ?_
      refine lv_aload_n hx hb dX2_copy_3 rfl (lv_at hl 0 rfl) ?_
      refine cm_alenR (q := 52) (z := 60) (t0 := 4) X hM (by decide) rfl rfl rfl (show Int32.ofNat 60 = zi 60 by decide) dX2_copy_4 ?_
      obtain ⟨g2, hh⟩ := gd_inv hh
      refine g_icmp_ge (tgt := 29) hx hb ⟨g2, by decide⟩ dX2_copy_5 (by decide) (fun c1 => ?_) (fun c1 => ?_)
      · replace hh := it_t c1 hh
        refine lv_aload_n hx hb dX2_copy_8 rfl (lv_at hl 0 rfl) ?_
        refine lv_iload_n hx hb dX2_copy_9 rfl (lv_at hl 2 rfl) ?_
        obtain ⟨g3, hh⟩ := gd_inv hh
        refine cm_aald X hM (by decide) rfl (by decide) rfl g3 dX2_copy_10 ?_
        refine lv_iconst (v := zi 0) hx hb dX2_copy_11 rfl ?_
        refine lv_aload_n hx hb dX2_copy_12 rfl (lv_at hl 1 rfl) ?_
        refine lv_iload_n hx hb dX2_copy_13 rfl (lv_at hl 2 rfl) ?_
        obtain ⟨g4, hh⟩ := gd_inv hh
        refine cm_aald X hM (by decide) rfl (by decide) rfl g4 dX2_copy_14 ?_
        refine lv_iconst (v := zi 0) hx hb dX2_copy_15 rfl ?_
        refine lv_aload_n hx hb dX2_copy_16 rfl (lv_at hl 0 rfl) ?_
        refine lv_iload_n hx hb dX2_copy_17 rfl (lv_at hl 2 rfl) ?_
        obtain ⟨g5, hh⟩ := gd_inv hh
        refine cm_aald X hM (by decide) rfl (by decide) rfl g5 dX2_copy_18 ?_
        refine cm_alenR (z := 5) (t0 := 0) X hM (cr_52 g5).1 ((cr_52 g5).cell _ _ _) rfl rfl (show Int32.ofNat 5 = zi 5 by decide) dX2_copy_19 ?_
        refine cm_copy (z0 := (52 + 1 + x2)) (z1 := (287 + 1 + x2)) (rest := []) X hM (cr_52 g5) (cr_287 g4) (by have := g5.1; omega) (by have := g4.1; omega) rfl rfl (by decide) q289 q291 q290 q88 hl.1 (Nat.le_of_ble_eq_true rfl) (Nat.le_of_ble_eq_true rfl) dX2_copy_20 (fun H locs S6 e7 hM => ?_)
        replace hh := nm_inv hh S6 e7
        obtain ⟨v8, e9⟩ : ∃ z : Int, z = x2 + 1 := ⟨_, rfl⟩
        replace hh := nm_inv hh v8 e9
        refine lv_iinc (v := zi v8) (lv' := [(2, .int (zi (v8))), (0, .ref (hC + 52)), (1, .ref (hC + 287))]) hx hb dX2_copy_23 hl (k := 2) rfl (by rw [e9]; exact zi_add _ _) (by decide) rfl (fun ls hl => ?_)
        refine lv_goto (tgt := 2) hx hb dX2_copy_26 (by decide) ?_
        exact hK2 S6 v8 hh _ _ _ hM (lv_sub hl [1, 2, 0] rfl)
      · replace hh := it_f c1 hh
        exact hret _ _ _ _ _ (rt0 hh) dX2_copy_29 hM
  replace hl : lv_has ls 3 [(0, .ref (hC + 52)), (1, .ref (hC + 287))] := hl
  unfold C_cp52_287 at hh
  refine lv_iconst (v := zi 0) hx hb dX2_copy_0 rfl ?_
  refine lv_istore_n (lv' := [(2, .int (zi (0))), (0, .ref (hC + 52)), (1, .ref (hC + 287))]) hx hb dX2_copy_1 rfl hl (by decide) rfl (fun ls hl => ?_)
  exact hL2 FU S (0 : Int) hh _ _ _ hM (lv_sub hl [1, 2, 0] rfl)
def C_cp287_52_b2 (K2 : yS → Int → Option yS) (S : yS) (x2 : Int) : Option yS := gd (r32 (x2)) (if x2 < 60 then (gd ((0 : Int) ≤ x2 ∧ (x2 : Int) < 60) (gd ((0 : Int) ≤ x2 ∧ (x2 : Int) < 60) (gd ((0 : Int) ≤ x2 ∧ (x2 : Int) < 60) (nm (ccp S (287 + 1 + x2) (52 + 1 + x2) (5 : Int)) (fun S6 => nm ((x2 + 1) : Int) (fun v8 => K2 S6 v8)))))) else (some S))
def C_cp287_52_L2 : Nat → yS → Int → Option yS
  | 0 => fun _ _ => none
  | n + 1 => fun S x2 => C_cp287_52_b2  (C_cp287_52_L2  n) S x2
def C_cp287_52 (S : yS) : Option yS := C_cp287_52_L2 FU S (0 : Int)
set_option maxHeartbeats 4000000 in
theorem wC_cp287_52 (l : Launch) (DC : va_G) (dA : Nat → ClassId) (hC : Nat) (S : yS) {S1 : yS} (hh : C_cp287_52 S = some S1) : ct_v l yX2_copy cX2_copy 3 (rmS 2 80) DC dA hC [.ref (hC + 287), .ref (hC + 52)] S S1 := by
  refine co_v (by decide) (Nat.le_of_ble_eq_true rfl) ?_
  intro p e s m args below meth c Q ls X hret hl hM
  have hx := X.1.1
  have hb := X.1.2.1
  have hown := X.1.2.2.2.1
  have hts := X.1.2.2.2.2
  have hL2 : ∀ (n : Nat) (S : yS) (x2 : Int), C_cp287_52_L2 n S x2 = some S1 → ∀ (H : Heap) (locs : List Loc) (ls : Array Slot), CX DC dA hC (cA hC) S s H locs → lv_has ls 3 [(0, .ref (hC + 287)), (1, .ref (hC + 52)), (2, .int (zi (x2)))] → W p l e (rmS 2 80) s m args below meth c H locs 0 0 Q (F0 m 2 ls []) := by
    intro   n
    induction n with
    | zero => intro S x2 hh; exact no_some hh
    | succ n ih =>
      intro S x2 hh H locs ls hM hl
      replace hh : C_cp287_52_b2 (C_cp287_52_L2 n) S x2 = some S1 := hh
      unfold C_cp287_52_b2 at hh
      have hK2 := ih
      refine lv_iload_n hx hb dX2_copy_2 rfl (lv_at hl 2 rfl) ?_
      refine lv_aload_n hx hb dX2_copy_3 rfl (lv_at hl 0 rfl) ?_
      refine cm_alenR (q := 287) (z := 60) (t0 := 4) X hM (by decide) rfl rfl rfl (show Int32.ofNat 60 = zi 60 by decide) dX2_copy_4 ?_
      obtain ⟨g2, hh⟩ := gd_inv hh
      refine g_icmp_ge (tgt := 29) hx hb ⟨g2, by decide⟩ dX2_copy_5 (by decide) (fun c1 => ?_) (fun c1 => ?_)
      · replace hh := it_t c1 hh
        refine lv_aload_n hx hb dX2_copy_8 rfl (lv_at hl 0 rfl) ?_
        refine lv_iload_n hx hb dX2_copy_9 rfl (lv_at hl 2 rfl) ?_
        obtain ⟨g3, hh⟩ := gd_inv hh
        refine cm_aald X hM (by decide) rfl (by decide) rfl g3 dX2_copy_10 ?_
        refine lv_iconst (v := zi 0) hx hb dX2_copy_11 rfl ?_
        refine lv_aload_n hx hb dX2_copy_12 rfl (lv_at hl 1 rfl) ?_
        refine lv_iload_n hx hb dX2_copy_13 rfl (lv_at hl 2 rfl) ?_
        obtain ⟨g4, hh⟩ := gd_inv hh
        refine cm_aald X hM (by decide) rfl (by decide) rfl g4 dX2_copy_14 ?_
        refine lv_iconst (v := zi 0) hx hb dX2_copy_15 rfl ?_
        refine lv_aload_n hx hb dX2_copy_16 rfl (lv_at hl 0 rfl) ?_
        refine lv_iload_n hx hb dX2_copy_17 rfl (lv_at hl 2 rfl) ?_
        obtain ⟨g5, hh⟩ := gd_inv hh
        refine cm_aald X hM (by decide) rfl (by decide) rfl g5 dX2_copy_18 ?_
        refine cm_alenR (z := 5) (t0 := 0) X hM (cr_287 g5).1 ((cr_287 g5).cell _ _ _) rfl rfl (show Int32.ofNat 5 = zi 5 by decide) dX2_copy_19 ?_
        refine cm_copy (z0 := (287 + 1 + x2)) (z1 := (52 + 1 + x2)) (rest := []) X hM (cr_287 g5) (cr_52 g4) (by have := g5.1; omega) (by have := g4.1; omega) rfl rfl (by decide) q289 q291 q290 q88 hl.1 (Nat.le_of_ble_eq_true rfl) (Nat.le_of_ble_eq_true rfl) dX2_copy_20 (fun H locs S6 e7 hM => ?_)
        replace hh := nm_inv hh S6 e7
        obtain ⟨v8, e9⟩ : ∃ z : Int, z = x2 + 1 := ⟨_, rfl⟩
        replace hh := nm_inv hh v8 e9
        refine lv_iinc (v := zi v8) (lv' := [(2, .int (zi (v8))), (0, .ref (hC + 287)), (1, .ref (hC + 52))]) hx hb dX2_copy_23 hl (k := 2) rfl (by rw [e9]; exact zi_add _ _) (by decide) rfl (fun ls hl => ?_)
        refine lv_goto (tgt := 2) hx hb dX2_copy_26 (by decide) ?_
        exact hK2 S6 v8 hh _ _ _ hM (lv_sub hl [1, 2, 0] rfl)
      · replace hh := it_f c1 hh
        exact hret _ _ _ _ _ (rt0 hh) dX2_copy_29 hM
  replace hl : lv_has ls 3 [(0, .ref (hC + 287)), (1, .ref (hC + 52))] := hl
  unfold C_cp287_52 at hh
  refine lv_iconst (v := zi 0) hx hb dX2_copy_0 rfl ?_
  refine lv_istore_n (lv' := [(2, .int (zi (0))), (0, .ref (hC + 287)), (1, .ref (hC + 52))]) hx hb dX2_copy_1 rfl hl (by decide) rfl (fun ls hl => ?_)
  exact hL2 FU S (0 : Int) hh _ _ _ hM (lv_sub hl [1, 2, 0] rfl)
def C_cp113_348_b2 (K2 : yS → Int → Option yS) (S : yS) (x2 : Int) : Option yS := gd (r32 (x2)) (if x2 < 60 then (gd ((0 : Int) ≤ x2 ∧ (x2 : Int) < 60) (gd ((0 : Int) ≤ x2 ∧ (x2 : Int) < 60) (gd ((0 : Int) ≤ x2 ∧ (x2 : Int) < 60) (nm (ccp S (113 + 1 + x2) (348 + 1 + x2) (16 : Int)) (fun S6 => nm ((x2 + 1) : Int) (fun v8 => K2 S6 v8)))))) else (some S))
def C_cp113_348_L2 : Nat → yS → Int → Option yS
  | 0 => fun _ _ => none
  | n + 1 => fun S x2 => C_cp113_348_b2  (C_cp113_348_L2  n) S x2
def C_cp113_348 (S : yS) : Option yS := C_cp113_348_L2 FU S (0 : Int)
set_option maxHeartbeats 4000000 in
theorem wC_cp113_348 (l : Launch) (DC : va_G) (dA : Nat → ClassId) (hC : Nat) (S : yS) {S1 : yS} (hh : C_cp113_348 S = some S1) : ct_v l yX2_copy cX2_copy 3 (rmS 2 80) DC dA hC [.ref (hC + 113), .ref (hC + 348)] S S1 := by
  refine co_v (by decide) (Nat.le_of_ble_eq_true rfl) ?_
  intro p e s m args below meth c Q ls X hret hl hM
  have hx := X.1.1
  have hb := X.1.2.1
  have hown := X.1.2.2.2.1
  have hts := X.1.2.2.2.2
  have hL2 : ∀ (n : Nat) (S : yS) (x2 : Int), C_cp113_348_L2 n S x2 = some S1 → ∀ (H : Heap) (locs : List Loc) (ls : Array Slot), CX DC dA hC (cA hC) S s H locs → lv_has ls 3 [(0, .ref (hC + 113)), (1, .ref (hC + 348)), (2, .int (zi (x2)))] → W p l e (rmS 2 80) s m args below meth c H locs 0 0 Q (F0 m 2 ls []) := by
    intro   n
    induction n with
    | zero => intro S x2 hh; exact no_some hh
    | succ n ih =>
      intro S x2 hh H locs ls hM hl
      replace hh : C_cp113_348_b2 (C_cp113_348_L2 n) S x2 = some S1 := hh
      unfold C_cp113_348_b2 at hh
      have hK2 := ih
      refine lv_iload_n hx hb dX2_copy_2 rfl (lv_at hl 2 rfl) ?_
      refine lv_aload_n hx hb dX2_copy_3 rfl (lv_at hl 0 rfl) ?_
      refine cm_alenR (q := 113) (z := 60) (t0 := 4) X hM (by decide) rfl rfl rfl (show Int32.ofNat 60 = zi 60 by decide) dX2_copy_4 ?_
      obtain ⟨g2, hh⟩ := gd_inv hh
      refine g_icmp_ge (tgt := 29) hx hb ⟨g2, by decide⟩ dX2_copy_5 (by decide) (fun c1 => ?_) (fun c1 => ?_)
      · replace hh := it_t c1 hh
        refine lv_aload_n hx hb dX2_copy_8 rfl (lv_at hl 0 rfl) ?_
        refine lv_iload_n hx hb dX2_copy_9 rfl (lv_at hl 2 rfl) ?_
        obtain ⟨g3, hh⟩ := gd_inv hh
        refine cm_aald X hM (by decide) rfl (by decide) rfl g3 dX2_copy_10 ?_
        refine lv_iconst (v := zi 0) hx hb dX2_copy_11 rfl ?_
        refine lv_aload_n hx hb dX2_copy_12 rfl (lv_at hl 1 rfl) ?_
        refine lv_iload_n hx hb dX2_copy_13 rfl (lv_at hl 2 rfl) ?_
        obtain ⟨g4, hh⟩ := gd_inv hh
        refine cm_aald X hM (by decide) rfl (by decide) rfl g4 dX2_copy_14 ?_
        refine lv_iconst (v := zi 0) hx hb dX2_copy_15 rfl ?_
        refine lv_aload_n hx hb dX2_copy_16 rfl (lv_at hl 0 rfl) ?_
        refine lv_iload_n hx hb dX2_copy_17 rfl (lv_at hl 2 rfl) ?_
        obtain ⟨g5, hh⟩ := gd_inv hh
        refine cm_aald X hM (by decide) rfl (by decide) rfl g5 dX2_copy_18 ?_
        refine cm_alenR (z := 16) (t0 := 0) X hM (cr_113 g5).1 ((cr_113 g5).cell _ _ _) rfl rfl (show Int32.ofNat 16 = zi 16 by decide) dX2_copy_19 ?_
        refine cm_copy (z0 := (113 + 1 + x2)) (z1 := (348 + 1 + x2)) (rest := []) X hM (cr_113 g5) (cr_348 g4) (by have := g5.1; omega) (by have := g4.1; omega) rfl rfl (by decide) q289 q291 q290 q88 hl.1 (Nat.le_of_ble_eq_true rfl) (Nat.le_of_ble_eq_true rfl) dX2_copy_20 (fun H locs S6 e7 hM => ?_)
        replace hh := nm_inv hh S6 e7
        obtain ⟨v8, e9⟩ : ∃ z : Int, z = x2 + 1 := ⟨_, rfl⟩
        replace hh := nm_inv hh v8 e9
        refine lv_iinc (v := zi v8) (lv' := [(2, .int (zi (v8))), (0, .ref (hC + 113)), (1, .ref (hC + 348))]) hx hb dX2_copy_23 hl (k := 2) rfl (by rw [e9]; exact zi_add _ _) (by decide) rfl (fun ls hl => ?_)
        refine lv_goto (tgt := 2) hx hb dX2_copy_26 (by decide) ?_
        exact hK2 S6 v8 hh _ _ _ hM (lv_sub hl [1, 2, 0] rfl)
      · replace hh := it_f c1 hh
        exact hret _ _ _ _ _ (rt0 hh) dX2_copy_29 hM
  replace hl : lv_has ls 3 [(0, .ref (hC + 113)), (1, .ref (hC + 348))] := hl
  unfold C_cp113_348 at hh
  refine lv_iconst (v := zi 0) hx hb dX2_copy_0 rfl ?_
  refine lv_istore_n (lv' := [(2, .int (zi (0))), (0, .ref (hC + 113)), (1, .ref (hC + 348))]) hx hb dX2_copy_1 rfl hl (by decide) rfl (fun ls hl => ?_)
  exact hL2 FU S (0 : Int) hh _ _ _ hM (lv_sub hl [1, 2, 0] rfl)
def C_cp348_113_b2 (K2 : yS → Int → Option yS) (S : yS) (x2 : Int) : Option yS := gd (r32 (x2)) (if x2 < 60 then (gd ((0 : Int) ≤ x2 ∧ (x2 : Int) < 60) (gd ((0 : Int) ≤ x2 ∧ (x2 : Int) < 60) (gd ((0 : Int) ≤ x2 ∧ (x2 : Int) < 60) (nm (ccp S (348 + 1 + x2) (113 + 1 + x2) (16 : Int)) (fun S6 => nm ((x2 + 1) : Int) (fun v8 => K2 S6 v8)))))) else (some S))
def C_cp348_113_L2 : Nat → yS → Int → Option yS
  | 0 => fun _ _ => none
  | n + 1 => fun S x2 => C_cp348_113_b2  (C_cp348_113_L2  n) S x2
def C_cp348_113 (S : yS) : Option yS := C_cp348_113_L2 FU S (0 : Int)
set_option maxHeartbeats 4000000 in
theorem wC_cp348_113 (l : Launch) (DC : va_G) (dA : Nat → ClassId) (hC : Nat) (S : yS) {S1 : yS} (hh : C_cp348_113 S = some S1) : ct_v l yX2_copy cX2_copy 3 (rmS 2 80) DC dA hC [.ref (hC + 348), .ref (hC + 113)] S S1 := by
  refine co_v (by decide) (Nat.le_of_ble_eq_true rfl) ?_
  intro p e s m args below meth c Q ls X hret hl hM
  have hx := X.1.1
  have hb := X.1.2.1
  have hown := X.1.2.2.2.1
  have hts := X.1.2.2.2.2
  have hL2 : ∀ (n : Nat) (S : yS) (x2 : Int), C_cp348_113_L2 n S x2 = some S1 → ∀ (H : Heap) (locs : List Loc) (ls : Array Slot), CX DC dA hC (cA hC) S s H locs → lv_has ls 3 [(0, .ref (hC + 348)), (1, .ref (hC + 113)), (2, .int (zi (x2)))] → W p l e (rmS 2 80) s m args below meth c H locs 0 0 Q (F0 m 2 ls []) := by
    intro   n
    induction n with
    | zero => intro S x2 hh; exact no_some hh
    | succ n ih =>
      intro S x2 hh H locs ls hM hl
      replace hh : C_cp348_113_b2 (C_cp348_113_L2 n) S x2 = some S1 := hh
      unfold C_cp348_113_b2 at hh
      have hK2 := ih
      refine lv_iload_n hx hb dX2_copy_2 rfl (lv_at hl 2 rfl) ?_
      refine lv_aload_n hx hb dX2_copy_3 rfl (lv_at hl 0 rfl) ?_
      refine cm_alenR (q := 348) (z := 60) (t0 := 4) X hM (by decide) rfl rfl rfl (show Int32.ofNat 60 = zi 60 by decide) dX2_copy_4 ?_
      obtain ⟨g2, hh⟩ := gd_inv hh
      refine g_icmp_ge (tgt := 29) hx hb ⟨g2, by decide⟩ dX2_copy_5 (by decide) (fun c1 => ?_) (fun c1 => ?_)
      · replace hh := it_t c1 hh
        refine lv_aload_n hx hb dX2_copy_8 rfl (lv_at hl 0 rfl) ?_
        refine lv_iload_n hx hb dX2_copy_9 rfl (lv_at hl 2 rfl) ?_
        obtain ⟨g3, hh⟩ := gd_inv hh
        refine cm_aald X hM (by decide) rfl (by decide) rfl g3 dX2_copy_10 ?_
        refine lv_iconst (v := zi 0) hx hb dX2_copy_11 rfl ?_
        refine lv_aload_n hx hb dX2_copy_12 rfl (lv_at hl 1 rfl) ?_
        refine lv_iload_n hx hb dX2_copy_13 rfl (lv_at hl 2 rfl) ?_
        obtain ⟨g4, hh⟩ := gd_inv hh
        refine cm_aald X hM (by decide) rfl (by decide) rfl g4 dX2_copy_14 ?_
        refine lv_iconst (v := zi 0) hx hb dX2_copy_15 rfl ?_
        refine lv_aload_n hx hb dX2_copy_16 rfl (lv_at hl 0 rfl) ?_
        refine lv_iload_n hx hb dX2_copy_17 rfl (lv_at hl 2 rfl) ?_
        obtain ⟨g5, hh⟩ := gd_inv hh
        refine cm_aald X hM (by decide) rfl (by decide) rfl g5 dX2_copy_18 ?_
        refine cm_alenR (z := 16) (t0 := 0) X hM (cr_348 g5).1 ((cr_348 g5).cell _ _ _) rfl rfl (show Int32.ofNat 16 = zi 16 by decide) dX2_copy_19 ?_
        refine cm_copy (z0 := (348 + 1 + x2)) (z1 := (113 + 1 + x2)) (rest := []) X hM (cr_348 g5) (cr_113 g4) (by have := g5.1; omega) (by have := g4.1; omega) rfl rfl (by decide) q289 q291 q290 q88 hl.1 (Nat.le_of_ble_eq_true rfl) (Nat.le_of_ble_eq_true rfl) dX2_copy_20 (fun H locs S6 e7 hM => ?_)
        replace hh := nm_inv hh S6 e7
        obtain ⟨v8, e9⟩ : ∃ z : Int, z = x2 + 1 := ⟨_, rfl⟩
        replace hh := nm_inv hh v8 e9
        refine lv_iinc (v := zi v8) (lv' := [(2, .int (zi (v8))), (0, .ref (hC + 348)), (1, .ref (hC + 113))]) hx hb dX2_copy_23 hl (k := 2) rfl (by rw [e9]; exact zi_add _ _) (by decide) rfl (fun ls hl => ?_)
        refine lv_goto (tgt := 2) hx hb dX2_copy_26 (by decide) ?_
        exact hK2 S6 v8 hh _ _ _ hM (lv_sub hl [1, 2, 0] rfl)
      · replace hh := it_f c1 hh
        exact hret _ _ _ _ _ (rt0 hh) dX2_copy_29 hM
  replace hl : lv_has ls 3 [(0, .ref (hC + 348)), (1, .ref (hC + 113))] := hl
  unfold C_cp348_113 at hh
  refine lv_iconst (v := zi 0) hx hb dX2_copy_0 rfl ?_
  refine lv_istore_n (lv' := [(2, .int (zi (0))), (0, .ref (hC + 348)), (1, .ref (hC + 113))]) hx hb dX2_copy_1 rfl hl (by decide) rfl (fun ls hl => ?_)
  exact hL2 FU S (0 : Int) hh _ _ _ hM (lv_sub hl [1, 2, 0] rfl)
def C_cp174_409_b2 (K2 : yS → Int → Option yS) (S : yS) (x2 : Int) : Option yS := gd (r32 (x2)) (if x2 < 60 then (gd ((0 : Int) ≤ x2 ∧ (x2 : Int) < 60) (gd ((0 : Int) ≤ x2 ∧ (x2 : Int) < 60) (gd ((0 : Int) ≤ x2 ∧ (x2 : Int) < 60) (nm (ccp S (174 + 1 + x2) (409 + 1 + x2) (16 : Int)) (fun S6 => nm ((x2 + 1) : Int) (fun v8 => K2 S6 v8)))))) else (some S))
def C_cp174_409_L2 : Nat → yS → Int → Option yS
  | 0 => fun _ _ => none
  | n + 1 => fun S x2 => C_cp174_409_b2  (C_cp174_409_L2  n) S x2
def C_cp174_409 (S : yS) : Option yS := C_cp174_409_L2 FU S (0 : Int)
set_option maxHeartbeats 4000000 in
theorem wC_cp174_409 (l : Launch) (DC : va_G) (dA : Nat → ClassId) (hC : Nat) (S : yS) {S1 : yS} (hh : C_cp174_409 S = some S1) : ct_v l yX2_copy cX2_copy 3 (rmS 2 80) DC dA hC [.ref (hC + 174), .ref (hC + 409)] S S1 := by
  refine co_v (by decide) (Nat.le_of_ble_eq_true rfl) ?_
  intro p e s m args below meth c Q ls X hret hl hM
  have hx := X.1.1
  have hb := X.1.2.1
  have hown := X.1.2.2.2.1
  have hts := X.1.2.2.2.2
  have hL2 : ∀ (n : Nat) (S : yS) (x2 : Int), C_cp174_409_L2 n S x2 = some S1 → ∀ (H : Heap) (locs : List Loc) (ls : Array Slot), CX DC dA hC (cA hC) S s H locs → lv_has ls 3 [(0, .ref (hC + 174)), (1, .ref (hC + 409)), (2, .int (zi (x2)))] → W p l e (rmS 2 80) s m args below meth c H locs 0 0 Q (F0 m 2 ls []) := by
    intro   n
    induction n with
    | zero => intro S x2 hh; exact no_some hh
    | succ n ih =>
      intro S x2 hh H locs ls hM hl
      replace hh : C_cp174_409_b2 (C_cp174_409_L2 n) S x2 = some S1 := hh
      unfold C_cp174_409_b2 at hh
      have hK2 := ih
      refine lv_iload_n hx hb dX2_copy_2 rfl (lv_at hl 2 rfl) ?_
      refine lv_aload_n hx hb dX2_copy_3 rfl (lv_at hl 0 rfl) ?_
      refine cm_alenR (q := 174) (z := 60) (t0 := 4) X hM (by decide) rfl rfl rfl (show Int32.ofNat 60 = zi 60 by decide) dX2_copy_4 ?_
      obtain ⟨g2, hh⟩ := gd_inv hh
      refine g_icmp_ge (tgt := 29) hx hb ⟨g2, by decide⟩ dX2_copy_5 (by decide) (fun c1 => ?_) (fun c1 => ?_)
      · replace hh := it_t c1 hh
        refine lv_aload_n hx hb dX2_copy_8 rfl (lv_at hl 0 rfl) ?_
        refine lv_iload_n hx hb dX2_copy_9 rfl (lv_at hl 2 rfl) ?_
        obtain ⟨g3, hh⟩ := gd_inv hh
        refine cm_aald X hM (by decide) rfl (by decide) rfl g3 dX2_copy_10 ?_
        refine lv_iconst (v := zi 0) hx hb dX2_copy_11 rfl ?_
        refine lv_aload_n hx hb dX2_copy_12 rfl (lv_at hl 1 rfl) ?_
        refine lv_iload_n hx hb dX2_copy_13 rfl (lv_at hl 2 rfl) ?_
        obtain ⟨g4, hh⟩ := gd_inv hh
        refine cm_aald X hM (by decide) rfl (by decide) rfl g4 dX2_copy_14 ?_
        refine lv_iconst (v := zi 0) hx hb dX2_copy_15 rfl ?_
        refine lv_aload_n hx hb dX2_copy_16 rfl (lv_at hl 0 rfl) ?_
        refine lv_iload_n hx hb dX2_copy_17 rfl (lv_at hl 2 rfl) ?_
        obtain ⟨g5, hh⟩ := gd_inv hh
        refine cm_aald X hM (by decide) rfl (by decide) rfl g5 dX2_copy_18 ?_
        refine cm_alenR (z := 16) (t0 := 0) X hM (cr_174 g5).1 ((cr_174 g5).cell _ _ _) rfl rfl (show Int32.ofNat 16 = zi 16 by decide) dX2_copy_19 ?_
        refine cm_copy (z0 := (174 + 1 + x2)) (z1 := (409 + 1 + x2)) (rest := []) X hM (cr_174 g5) (cr_409 g4) (by have := g5.1; omega) (by have := g4.1; omega) rfl rfl (by decide) q289 q291 q290 q88 hl.1 (Nat.le_of_ble_eq_true rfl) (Nat.le_of_ble_eq_true rfl) dX2_copy_20 (fun H locs S6 e7 hM => ?_)
        replace hh := nm_inv hh S6 e7
        obtain ⟨v8, e9⟩ : ∃ z : Int, z = x2 + 1 := ⟨_, rfl⟩
        replace hh := nm_inv hh v8 e9
        refine lv_iinc (v := zi v8) (lv' := [(2, .int (zi (v8))), (0, .ref (hC + 174)), (1, .ref (hC + 409))]) hx hb dX2_copy_23 hl (k := 2) rfl (by rw [e9]; exact zi_add _ _) (by decide) rfl (fun ls hl => ?_)
        refine lv_goto (tgt := 2) hx hb dX2_copy_26 (by decide) ?_
        exact hK2 S6 v8 hh _ _ _ hM (lv_sub hl [1, 2, 0] rfl)
      · replace hh := it_f c1 hh
        exact hret _ _ _ _ _ (rt0 hh) dX2_copy_29 hM
  replace hl : lv_has ls 3 [(0, .ref (hC + 174)), (1, .ref (hC + 409))] := hl
  unfold C_cp174_409 at hh
  refine lv_iconst (v := zi 0) hx hb dX2_copy_0 rfl ?_
  refine lv_istore_n (lv' := [(2, .int (zi (0))), (0, .ref (hC + 174)), (1, .ref (hC + 409))]) hx hb dX2_copy_1 rfl hl (by decide) rfl (fun ls hl => ?_)
  exact hL2 FU S (0 : Int) hh _ _ _ hM (lv_sub hl [1, 2, 0] rfl)
def C_cp409_174_b2 (K2 : yS → Int → Option yS) (S : yS) (x2 : Int) : Option yS := gd (r32 (x2)) (if x2 < 60 then (gd ((0 : Int) ≤ x2 ∧ (x2 : Int) < 60) (gd ((0 : Int) ≤ x2 ∧ (x2 : Int) < 60) (gd ((0 : Int) ≤ x2 ∧ (x2 : Int) < 60) (nm (ccp S (409 + 1 + x2) (174 + 1 + x2) (16 : Int)) (fun S6 => nm ((x2 + 1) : Int) (fun v8 => K2 S6 v8)))))) else (some S))
def C_cp409_174_L2 : Nat → yS → Int → Option yS
  | 0 => fun _ _ => none
  | n + 1 => fun S x2 => C_cp409_174_b2  (C_cp409_174_L2  n) S x2
def C_cp409_174 (S : yS) : Option yS := C_cp409_174_L2 FU S (0 : Int)
set_option maxHeartbeats 4000000 in
theorem wC_cp409_174 (l : Launch) (DC : va_G) (dA : Nat → ClassId) (hC : Nat) (S : yS) {S1 : yS} (hh : C_cp409_174 S = some S1) : ct_v l yX2_copy cX2_copy 3 (rmS 2 80) DC dA hC [.ref (hC + 409), .ref (hC + 174)] S S1 := by
  refine co_v (by decide) (Nat.le_of_ble_eq_true rfl) ?_
  intro p e s m args below meth c Q ls X hret hl hM
  have hx := X.1.1
  have hb := X.1.2.1
  have hown := X.1.2.2.2.1
  have hts := X.1.2.2.2.2
  have hL2 : ∀ (n : Nat) (S : yS) (x2 : Int), C_cp409_174_L2 n S x2 = some S1 → ∀ (H : Heap) (locs : List Loc) (ls : Array Slot), CX DC dA hC (cA hC) S s H locs → lv_has ls 3 [(0, .ref (hC + 409)), (1, .ref (hC + 174)), (2, .int (zi (x2)))] → W p l e (rmS 2 80) s m args below meth c H locs 0 0 Q (F0 m 2 ls []) := by
    intro   n
    induction n with
    | zero => intro S x2 hh; exact no_some hh
    | succ n ih =>
      intro S x2 hh H locs ls hM hl
      replace hh : C_cp409_174_b2 (C_cp409_174_L2 n) S x2 = some S1 := hh
      unfold C_cp409_174_b2 at hh
      have hK2 := ih
      refine lv_iload_n hx hb dX2_copy_2 rfl (lv_at hl 2 rfl) ?_
      refine lv_aload_n hx hb dX2_copy_3 rfl (lv_at hl 0 rfl) ?_
      refine cm_alenR (q := 409) (z := 60) (t0 := 4) X hM (by decide) rfl rfl rfl (show Int32.ofNat 60 = zi 60 by decide) dX2_copy_4 ?_
      obtain ⟨g2, hh⟩ := gd_inv hh
      refine g_icmp_ge (tgt := 29) hx hb ⟨g2, by decide⟩ dX2_copy_5 (by decide) (fun c1 => ?_) (fun c1 => ?_)
      · replace hh := it_t c1 hh
        refine lv_aload_n hx hb dX2_copy_8 rfl (lv_at hl 0 rfl) ?_
        refine lv_iload_n hx hb dX2_copy_9 rfl (lv_at hl 2 rfl) ?_
        obtain ⟨g3, hh⟩ := gd_inv hh
        refine cm_aald X hM (by decide) rfl (by decide) rfl g3 dX2_copy_10 ?_
        refine lv_iconst (v := zi 0) hx hb dX2_copy_11 rfl ?_
        refine lv_aload_n hx hb dX2_copy_12 rfl (lv_at hl 1 rfl) ?_
        refine lv_iload_n hx hb dX2_copy_13 rfl (lv_at hl 2 rfl) ?_
        obtain ⟨g4, hh⟩ := gd_inv hh
        refine cm_aald X hM (by decide) rfl (by decide) rfl g4 dX2_copy_14 ?_
        refine lv_iconst (v := zi 0) hx hb dX2_copy_15 rfl ?_
        refine lv_aload_n hx hb dX2_copy_16 rfl (lv_at hl 0 rfl) ?_
        refine lv_iload_n hx hb dX2_copy_17 rfl (lv_at hl 2 rfl) ?_
        obtain ⟨g5, hh⟩ := gd_inv hh
        refine cm_aald X hM (by decide) rfl (by decide) rfl g5 dX2_copy_18 ?_
        refine cm_alenR (z := 16) (t0 := 0) X hM (cr_409 g5).1 ((cr_409 g5).cell _ _ _) rfl rfl (show Int32.ofNat 16 = zi 16 by decide) dX2_copy_19 ?_
        refine cm_copy (z0 := (409 + 1 + x2)) (z1 := (174 + 1 + x2)) (rest := []) X hM (cr_409 g5) (cr_174 g4) (by have := g5.1; omega) (by have := g4.1; omega) rfl rfl (by decide) q289 q291 q290 q88 hl.1 (Nat.le_of_ble_eq_true rfl) (Nat.le_of_ble_eq_true rfl) dX2_copy_20 (fun H locs S6 e7 hM => ?_)
        replace hh := nm_inv hh S6 e7
        obtain ⟨v8, e9⟩ : ∃ z : Int, z = x2 + 1 := ⟨_, rfl⟩
        replace hh := nm_inv hh v8 e9
        refine lv_iinc (v := zi v8) (lv' := [(2, .int (zi (v8))), (0, .ref (hC + 409)), (1, .ref (hC + 174))]) hx hb dX2_copy_23 hl (k := 2) rfl (by rw [e9]; exact zi_add _ _) (by decide) rfl (fun ls hl => ?_)
        refine lv_goto (tgt := 2) hx hb dX2_copy_26 (by decide) ?_
        exact hK2 S6 v8 hh _ _ _ hM (lv_sub hl [1, 2, 0] rfl)
      · replace hh := it_f c1 hh
        exact hret _ _ _ _ _ (rt0 hh) dX2_copy_29 hM
  replace hl : lv_has ls 3 [(0, .ref (hC + 409)), (1, .ref (hC + 174))] := hl
  unfold C_cp409_174 at hh
  refine lv_iconst (v := zi 0) hx hb dX2_copy_0 rfl ?_
  refine lv_istore_n (lv' := [(2, .int (zi (0))), (0, .ref (hC + 409)), (1, .ref (hC + 174))]) hx hb dX2_copy_1 rfl hl (by decide) rfl (fun ls hl => ?_)
  exact hL2 FU S (0 : Int) hh _ _ _ hM (lv_sub hl [1, 2, 0] rfl)
def C_cp475_52_b2 (K2 : yS → Int → Option yS) (S : yS) (x2 : Int) : Option yS := gd (r32 (x2)) (if x2 < 60 then (gd ((0 : Int) ≤ x2 ∧ (x2 : Int) < 60) (gd ((0 : Int) ≤ x2 ∧ (x2 : Int) < 60) (gd ((0 : Int) ≤ x2 ∧ (x2 : Int) < 60) (nm (ccp S (475 + 1 + x2) (52 + 1 + x2) (5 : Int)) (fun S6 => nm ((x2 + 1) : Int) (fun v8 => K2 S6 v8)))))) else (some S))
def C_cp475_52_L2 : Nat → yS → Int → Option yS
  | 0 => fun _ _ => none
  | n + 1 => fun S x2 => C_cp475_52_b2  (C_cp475_52_L2  n) S x2
def C_cp475_52 (S : yS) : Option yS := C_cp475_52_L2 FU S (0 : Int)
set_option maxHeartbeats 4000000 in
theorem wC_cp475_52 (l : Launch) (DC : va_G) (dA : Nat → ClassId) (hC : Nat) (S : yS) {S1 : yS} (hh : C_cp475_52 S = some S1) : ct_v l yX2_copy cX2_copy 3 (rmS 2 80) DC dA hC [.ref (hC + 475), .ref (hC + 52)] S S1 := by
  refine co_v (by decide) (Nat.le_of_ble_eq_true rfl) ?_
  intro p e s m args below meth c Q ls X hret hl hM
  have hx := X.1.1
  have hb := X.1.2.1
  have hown := X.1.2.2.2.1
  have hts := X.1.2.2.2.2
  have hL2 : ∀ (n : Nat) (S : yS) (x2 : Int), C_cp475_52_L2 n S x2 = some S1 → ∀ (H : Heap) (locs : List Loc) (ls : Array Slot), CX DC dA hC (cA hC) S s H locs → lv_has ls 3 [(0, .ref (hC + 475)), (1, .ref (hC + 52)), (2, .int (zi (x2)))] → W p l e (rmS 2 80) s m args below meth c H locs 0 0 Q (F0 m 2 ls []) := by
    intro   n
    induction n with
    | zero => intro S x2 hh; exact no_some hh
    | succ n ih =>
      intro S x2 hh H locs ls hM hl
      replace hh : C_cp475_52_b2 (C_cp475_52_L2 n) S x2 = some S1 := hh
      unfold C_cp475_52_b2 at hh
      have hK2 := ih
      refine lv_iload_n hx hb dX2_copy_2 rfl (lv_at hl 2 rfl) ?_
      refine lv_aload_n hx hb dX2_copy_3 rfl (lv_at hl 0 rfl) ?_
      refine cm_alenR (q := 475) (z := 60) (t0 := 4) X hM (by decide) rfl rfl rfl (show Int32.ofNat 60 = zi 60 by decide) dX2_copy_4 ?_
      obtain ⟨g2, hh⟩ := gd_inv hh
      refine g_icmp_ge (tgt := 29) hx hb ⟨g2, by decide⟩ dX2_copy_5 (by decide) (fun c1 => ?_) (fun c1 => ?_)
      · replace hh := it_t c1 hh
        refine lv_aload_n hx hb dX2_copy_8 rfl (lv_at hl 0 rfl) ?_
        refine lv_iload_n hx hb dX2_copy_9 rfl (lv_at hl 2 rfl) ?_
        obtain ⟨g3, hh⟩ := gd_inv hh
        refine cm_aald X hM (by decide) rfl (by decide) rfl g3 dX2_copy_10 ?_
        refine lv_iconst (v := zi 0) hx hb dX2_copy_11 rfl ?_
        refine lv_aload_n hx hb dX2_copy_12 rfl (lv_at hl 1 rfl) ?_
        refine lv_iload_n hx hb dX2_copy_13 rfl (lv_at hl 2 rfl) ?_
        obtain ⟨g4, hh⟩ := gd_inv hh
        refine cm_aald X hM (by decide) rfl (by decide) rfl g4 dX2_copy_14 ?_
        refine lv_iconst (v := zi 0) hx hb dX2_copy_15 rfl ?_
        refine lv_aload_n hx hb dX2_copy_16 rfl (lv_at hl 0 rfl) ?_
        refine lv_iload_n hx hb dX2_copy_17 rfl (lv_at hl 2 rfl) ?_
        obtain ⟨g5, hh⟩ := gd_inv hh
        refine cm_aald X hM (by decide) rfl (by decide) rfl g5 dX2_copy_18 ?_
        refine cm_alenR (z := 5) (t0 := 0) X hM (cr_475 g5).1 ((cr_475 g5).cell _ _ _) rfl rfl (show Int32.ofNat 5 = zi 5 by decide) dX2_copy_19 ?_
        refine cm_copy (z0 := (475 + 1 + x2)) (z1 := (52 + 1 + x2)) (rest := []) X hM (cr_475 g5) (cr_52 g4) (by have := g5.1; omega) (by have := g4.1; omega) rfl rfl (by decide) q289 q291 q290 q88 hl.1 (Nat.le_of_ble_eq_true rfl) (Nat.le_of_ble_eq_true rfl) dX2_copy_20 (fun H locs S6 e7 hM => ?_)
        replace hh := nm_inv hh S6 e7
        obtain ⟨v8, e9⟩ : ∃ z : Int, z = x2 + 1 := ⟨_, rfl⟩
        replace hh := nm_inv hh v8 e9
        refine lv_iinc (v := zi v8) (lv' := [(2, .int (zi (v8))), (0, .ref (hC + 475)), (1, .ref (hC + 52))]) hx hb dX2_copy_23 hl (k := 2) rfl (by rw [e9]; exact zi_add _ _) (by decide) rfl (fun ls hl => ?_)
        refine lv_goto (tgt := 2) hx hb dX2_copy_26 (by decide) ?_
        exact hK2 S6 v8 hh _ _ _ hM (lv_sub hl [1, 2, 0] rfl)
      · replace hh := it_f c1 hh
        exact hret _ _ _ _ _ (rt0 hh) dX2_copy_29 hM
  replace hl : lv_has ls 3 [(0, .ref (hC + 475)), (1, .ref (hC + 52))] := hl
  unfold C_cp475_52 at hh
  refine lv_iconst (v := zi 0) hx hb dX2_copy_0 rfl ?_
  refine lv_istore_n (lv' := [(2, .int (zi (0))), (0, .ref (hC + 475)), (1, .ref (hC + 52))]) hx hb dX2_copy_1 rfl hl (by decide) rfl (fun ls hl => ?_)
  exact hL2 FU S (0 : Int) hh _ _ _ hM (lv_sub hl [1, 2, 0] rfl)
def C_cp536_113_b2 (K2 : yS → Int → Option yS) (S : yS) (x2 : Int) : Option yS := gd (r32 (x2)) (if x2 < 60 then (gd ((0 : Int) ≤ x2 ∧ (x2 : Int) < 60) (gd ((0 : Int) ≤ x2 ∧ (x2 : Int) < 60) (gd ((0 : Int) ≤ x2 ∧ (x2 : Int) < 60) (nm (ccp S (536 + 1 + x2) (113 + 1 + x2) (16 : Int)) (fun S6 => nm ((x2 + 1) : Int) (fun v8 => K2 S6 v8)))))) else (some S))
def C_cp536_113_L2 : Nat → yS → Int → Option yS
  | 0 => fun _ _ => none
  | n + 1 => fun S x2 => C_cp536_113_b2  (C_cp536_113_L2  n) S x2
def C_cp536_113 (S : yS) : Option yS := C_cp536_113_L2 FU S (0 : Int)
set_option maxHeartbeats 4000000 in
theorem wC_cp536_113 (l : Launch) (DC : va_G) (dA : Nat → ClassId) (hC : Nat) (S : yS) {S1 : yS} (hh : C_cp536_113 S = some S1) : ct_v l yX2_copy cX2_copy 3 (rmS 2 80) DC dA hC [.ref (hC + 536), .ref (hC + 113)] S S1 := by
  refine co_v (by decide) (Nat.le_of_ble_eq_true rfl) ?_
  intro p e s m args below meth c Q ls X hret hl hM
  have hx := X.1.1
  have hb := X.1.2.1
  have hown := X.1.2.2.2.1
  have hts := X.1.2.2.2.2
  have hL2 : ∀ (n : Nat) (S : yS) (x2 : Int), C_cp536_113_L2 n S x2 = some S1 → ∀ (H : Heap) (locs : List Loc) (ls : Array Slot), CX DC dA hC (cA hC) S s H locs → lv_has ls 3 [(0, .ref (hC + 536)), (1, .ref (hC + 113)), (2, .int (zi (x2)))] → W p l e (rmS 2 80) s m args below meth c H locs 0 0 Q (F0 m 2 ls []) := by
    intro   n
    induction n with
    | zero => intro S x2 hh; exact no_some hh
    | succ n ih =>
      intro S x2 hh H locs ls hM hl
      replace hh : C_cp536_113_b2 (C_cp536_113_L2 n) S x2 = some S1 := hh
      unfold C_cp536_113_b2 at hh
      have hK2 := ih
      refine lv_iload_n hx hb dX2_copy_2 rfl (lv_at hl 2 rfl) ?_
      refine lv_aload_n hx hb dX2_copy_3 rfl (lv_at hl 0 rfl) ?_
      refine cm_alenR (q := 536) (z := 60) (t0 := 4) X hM (by decide) rfl rfl rfl (show Int32.ofNat 60 = zi 60 by decide) dX2_copy_4 ?_
      obtain ⟨g2, hh⟩ := gd_inv hh
      refine g_icmp_ge (tgt := 29) hx hb ⟨g2, by decide⟩ dX2_copy_5 (by decide) (fun c1 => ?_) (fun c1 => ?_)
      · replace hh := it_t c1 hh
        refine lv_aload_n hx hb dX2_copy_8 rfl (lv_at hl 0 rfl) ?_
        refine lv_iload_n hx hb dX2_copy_9 rfl (lv_at hl 2 rfl) ?_
        obtain ⟨g3, hh⟩ := gd_inv hh
        refine cm_aald X hM (by decide) rfl (by decide) rfl g3 dX2_copy_10 ?_
        refine lv_iconst (v := zi 0) hx hb dX2_copy_11 rfl ?_
        refine lv_aload_n hx hb dX2_copy_12 rfl (lv_at hl 1 rfl) ?_
        refine lv_iload_n hx hb dX2_copy_13 rfl (lv_at hl 2 rfl) ?_
        obtain ⟨g4, hh⟩ := gd_inv hh
        refine cm_aald X hM (by decide) rfl (by decide) rfl g4 dX2_copy_14 ?_
        refine lv_iconst (v := zi 0) hx hb dX2_copy_15 rfl ?_
        refine lv_aload_n hx hb dX2_copy_16 rfl (lv_at hl 0 rfl) ?_
        refine lv_iload_n hx hb dX2_copy_17 rfl (lv_at hl 2 rfl) ?_
        obtain ⟨g5, hh⟩ := gd_inv hh
        refine cm_aald X hM (by decide) rfl (by decide) rfl g5 dX2_copy_18 ?_
        refine cm_alenR (z := 16) (t0 := 0) X hM (cr_536 g5).1 ((cr_536 g5).cell _ _ _) rfl rfl (show Int32.ofNat 16 = zi 16 by decide) dX2_copy_19 ?_
        refine cm_copy (z0 := (536 + 1 + x2)) (z1 := (113 + 1 + x2)) (rest := []) X hM (cr_536 g5) (cr_113 g4) (by have := g5.1; omega) (by have := g4.1; omega) rfl rfl (by decide) q289 q291 q290 q88 hl.1 (Nat.le_of_ble_eq_true rfl) (Nat.le_of_ble_eq_true rfl) dX2_copy_20 (fun H locs S6 e7 hM => ?_)
        replace hh := nm_inv hh S6 e7
        obtain ⟨v8, e9⟩ : ∃ z : Int, z = x2 + 1 := ⟨_, rfl⟩
        replace hh := nm_inv hh v8 e9
        refine lv_iinc (v := zi v8) (lv' := [(2, .int (zi (v8))), (0, .ref (hC + 536)), (1, .ref (hC + 113))]) hx hb dX2_copy_23 hl (k := 2) rfl (by rw [e9]; exact zi_add _ _) (by decide) rfl (fun ls hl => ?_)
        refine lv_goto (tgt := 2) hx hb dX2_copy_26 (by decide) ?_
        exact hK2 S6 v8 hh _ _ _ hM (lv_sub hl [1, 2, 0] rfl)
      · replace hh := it_f c1 hh
        exact hret _ _ _ _ _ (rt0 hh) dX2_copy_29 hM
  replace hl : lv_has ls 3 [(0, .ref (hC + 536)), (1, .ref (hC + 113))] := hl
  unfold C_cp536_113 at hh
  refine lv_iconst (v := zi 0) hx hb dX2_copy_0 rfl ?_
  refine lv_istore_n (lv' := [(2, .int (zi (0))), (0, .ref (hC + 536)), (1, .ref (hC + 113))]) hx hb dX2_copy_1 rfl hl (by decide) rfl (fun ls hl => ?_)
  exact hL2 FU S (0 : Int) hh _ _ _ hM (lv_sub hl [1, 2, 0] rfl)
def C_cp597_174_b2 (K2 : yS → Int → Option yS) (S : yS) (x2 : Int) : Option yS := gd (r32 (x2)) (if x2 < 60 then (gd ((0 : Int) ≤ x2 ∧ (x2 : Int) < 60) (gd ((0 : Int) ≤ x2 ∧ (x2 : Int) < 60) (gd ((0 : Int) ≤ x2 ∧ (x2 : Int) < 60) (nm (ccp S (597 + 1 + x2) (174 + 1 + x2) (16 : Int)) (fun S6 => nm ((x2 + 1) : Int) (fun v8 => K2 S6 v8)))))) else (some S))
def C_cp597_174_L2 : Nat → yS → Int → Option yS
  | 0 => fun _ _ => none
  | n + 1 => fun S x2 => C_cp597_174_b2  (C_cp597_174_L2  n) S x2
def C_cp597_174 (S : yS) : Option yS := C_cp597_174_L2 FU S (0 : Int)
set_option maxHeartbeats 4000000 in
theorem wC_cp597_174 (l : Launch) (DC : va_G) (dA : Nat → ClassId) (hC : Nat) (S : yS) {S1 : yS} (hh : C_cp597_174 S = some S1) : ct_v l yX2_copy cX2_copy 3 (rmS 2 80) DC dA hC [.ref (hC + 597), .ref (hC + 174)] S S1 := by
  refine co_v (by decide) (Nat.le_of_ble_eq_true rfl) ?_
  intro p e s m args below meth c Q ls X hret hl hM
  have hx := X.1.1
  have hb := X.1.2.1
  have hown := X.1.2.2.2.1
  have hts := X.1.2.2.2.2
  have hL2 : ∀ (n : Nat) (S : yS) (x2 : Int), C_cp597_174_L2 n S x2 = some S1 → ∀ (H : Heap) (locs : List Loc) (ls : Array Slot), CX DC dA hC (cA hC) S s H locs → lv_has ls 3 [(0, .ref (hC + 597)), (1, .ref (hC + 174)), (2, .int (zi (x2)))] → W p l e (rmS 2 80) s m args below meth c H locs 0 0 Q (F0 m 2 ls []) := by
    intro   n
    induction n with
    | zero => intro S x2 hh; exact no_some hh
    | succ n ih =>
      intro S x2 hh H locs ls hM hl
      replace hh : C_cp597_174_b2 (C_cp597_174_L2 n) S x2 = some S1 := hh
      unfold C_cp597_174_b2 at hh
      have hK2 := ih
      refine lv_iload_n hx hb dX2_copy_2 rfl (lv_at hl 2 rfl) ?_
      refine lv_aload_n hx hb dX2_copy_3 rfl (lv_at hl 0 rfl) ?_
      refine cm_alenR (q := 597) (z := 60) (t0 := 4) X hM (by decide) rfl rfl rfl (show Int32.ofNat 60 = zi 60 by decide) dX2_copy_4 ?_
      obtain ⟨g2, hh⟩ := gd_inv hh
      refine g_icmp_ge (tgt := 29) hx hb ⟨g2, by decide⟩ dX2_copy_5 (by decide) (fun c1 => ?_) (fun c1 => ?_)
      · replace hh := it_t c1 hh
        refine lv_aload_n hx hb dX2_copy_8 rfl (lv_at hl 0 rfl) ?_
        refine lv_iload_n hx hb dX2_copy_9 rfl (lv_at hl 2 rfl) ?_
        obtain ⟨g3, hh⟩ := gd_inv hh
        refine cm_aald X hM (by decide) rfl (by decide) rfl g3 dX2_copy_10 ?_
        refine lv_iconst (v := zi 0) hx hb dX2_copy_11 rfl ?_
        refine lv_aload_n hx hb dX2_copy_12 rfl (lv_at hl 1 rfl) ?_
        refine lv_iload_n hx hb dX2_copy_13 rfl (lv_at hl 2 rfl) ?_
        obtain ⟨g4, hh⟩ := gd_inv hh
        refine cm_aald X hM (by decide) rfl (by decide) rfl g4 dX2_copy_14 ?_
        refine lv_iconst (v := zi 0) hx hb dX2_copy_15 rfl ?_
        refine lv_aload_n hx hb dX2_copy_16 rfl (lv_at hl 0 rfl) ?_
        refine lv_iload_n hx hb dX2_copy_17 rfl (lv_at hl 2 rfl) ?_
        obtain ⟨g5, hh⟩ := gd_inv hh
        refine cm_aald X hM (by decide) rfl (by decide) rfl g5 dX2_copy_18 ?_
        refine cm_alenR (z := 16) (t0 := 0) X hM (cr_597 g5).1 ((cr_597 g5).cell _ _ _) rfl rfl (show Int32.ofNat 16 = zi 16 by decide) dX2_copy_19 ?_
        refine cm_copy (z0 := (597 + 1 + x2)) (z1 := (174 + 1 + x2)) (rest := []) X hM (cr_597 g5) (cr_174 g4) (by have := g5.1; omega) (by have := g4.1; omega) rfl rfl (by decide) q289 q291 q290 q88 hl.1 (Nat.le_of_ble_eq_true rfl) (Nat.le_of_ble_eq_true rfl) dX2_copy_20 (fun H locs S6 e7 hM => ?_)
        replace hh := nm_inv hh S6 e7
        obtain ⟨v8, e9⟩ : ∃ z : Int, z = x2 + 1 := ⟨_, rfl⟩
        replace hh := nm_inv hh v8 e9
        refine lv_iinc (v := zi v8) (lv' := [(2, .int (zi (v8))), (0, .ref (hC + 597)), (1, .ref (hC + 174))]) hx hb dX2_copy_23 hl (k := 2) rfl (by rw [e9]; exact zi_add _ _) (by decide) rfl (fun ls hl => ?_)
        refine lv_goto (tgt := 2) hx hb dX2_copy_26 (by decide) ?_
        exact hK2 S6 v8 hh _ _ _ hM (lv_sub hl [1, 2, 0] rfl)
      · replace hh := it_f c1 hh
        exact hret _ _ _ _ _ (rt0 hh) dX2_copy_29 hM
  replace hl : lv_has ls 3 [(0, .ref (hC + 597)), (1, .ref (hC + 174))] := hl
  unfold C_cp597_174 at hh
  refine lv_iconst (v := zi 0) hx hb dX2_copy_0 rfl ?_
  refine lv_istore_n (lv' := [(2, .int (zi (0))), (0, .ref (hC + 597)), (1, .ref (hC + 174))]) hx hb dX2_copy_1 rfl hl (by decide) rfl (fun ls hl => ?_)
  exact hL2 FU S (0 : Int) hh _ _ _ hM (lv_sub hl [1, 2, 0] rfl)
