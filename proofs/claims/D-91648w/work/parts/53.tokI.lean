/-! the constructor of Tokens: its two arrays lie behind it -/
set_option maxRecDepth 100000
section TI
variable {p : Program} {l : Launch} {e : Env} {R : Room} {s : State} {m : MethodId} {args : Array Value} {below : List Frame} {meth : Method} {c : Code} {H : Heap} {locs : List Loc} {cells slots : Nat} {Q : State → Prop}
variable {cc : ByteArray} {pc nL : Nat} {ls : Array Slot} {rest : List Value} {Z : hZ} {own : String} {F : Nat → Prop}
theorem h_newz (X : hCx own p c cc nL s m args Z) (hS : va_S (hA F s.heap.size) s.heap H locs) {n : Nat} (hn : n < 1000000) (hcells : cells + 1 ≤ R.cells) (hslots : slots + n ≤ R.slots) (hdg : decode cc pc = .ok (.newarray .boolean, 2))
    (kk : ∀ (H1 : Heap), va_at Z.D tcl (H.size, .inl (Z.d 0, n, .inl (fun _ => zi 0))) H1 → H1.size = H.size + 1 → (∀ q, q < H.size → H1[q]? = H[q]?) → va_S (hA F s.heap.size) s.heap H1 locs → W p l e R s m args below meth c H1 locs (cells + 1) (slots + n) Q (F0 m (pc + 2) ls (.ref H.size :: rest))) : W p l e R s m args below meth c H locs cells slots Q (F0 m pc ls (.int (zi n) :: rest)) := by
  have hz : (zi (n : Int)).toNatClampNeg = n := by rw [zi_cl ⟨by omega, by omega⟩]; omega
  have hneg : ¬ zi (n : Int) < 0 := fun hh => by
    have := (zi_lt (a := (n : Int)) (b := 0) ⟨by omega, by omega⟩ (by decide)).mp hh
    omega
  refine va_newaK X.1.1 X.1.2.1 (atype := .boolean) (X.1.2.2.2.2 _ q576) rfl hdg rfl hneg hz (by show n * 1 ≤ _; omega) hcells hslots rfl fun H1 cA e1 z1 o1 hAr hNm => ?_
  have h2 := (X.2.1.2 0 (Z.d 0, .boolean) rfl).2
  have hcA : cA = Z.d 0 := Option.some.inj (hNm.symm.trans h2)
  subst hcA
  exact kk H1 e1 z1 o1 ⟨Nat.le_trans hS.1 (by omega), fun x h1 h2 => (o1 x (Nat.lt_of_lt_of_le h1 hS.1)).trans (hS.2.1 x h1 h2), hS.2.2⟩
end TI
theorem tpF_told (z : Nat) : hPl tcl lw_all 0 2 "ManyEyes$Tokens" "told" "[Z" (.ref z) true := ⟨TX6, 9, RX6, tyX6, rfl, in_X6, by decide, rfl, rfl, rfl, rfl, tyX6_ok, nmX6, rfl, rfl⟩
theorem tpF_twice (z : Nat) : hPl tcl lw_all 0 3 "ManyEyes$Tokens" "twice" "[Z" (.ref z) true := ⟨TX6, 9, RX6, tyX6, rfl, in_X6, by decide, rfl, rfl, rfl, rfl, tyX6_ok, nmX6, rfl, rfl⟩
theorem tpF_text (z : Nat) : hPl tcl lw_all 0 0 "ManyEyes$Tokens" "text" "[B" (.ref z) true := ⟨TX6, 9, RX6, tyX6, rfl, in_X6, by decide, rfl, rfl, rfl, rfl, tyX6_ok, nmX6, rfl, rfl⟩
theorem tpF_size (z : Int) : hPl tcl lw_all 0 1 "ManyEyes$Tokens" "size" "I" (.int (zi z)) true := ⟨TX6, 9, RX6, tyX6, rfl, in_X6, by decide, rfl, rfl, rfl, rfl, tyX6_ok, nmX6, rfl, rfl⟩
/-- a Tokens as it is made -/
def tk0S (n : Int) (tx : Int → Int) : yS := (fun k => if k = 1 then n else 0, fun a => if a = 0 then tx else fun _ => 0)
theorem w_tkI (l : Launch) (Z : hZ) (q t : Nat) (hb : Z.b ≤ q) (ht : t < q) (n : Int) (tx : Int → Int) : mH l yX6_init cX6_init 3 none ({ frames := 2, cells := 2, slots := 12, locals := 80 } : Room) Z [.ref q, .ref t, .int (zi n)] (q + 1) (fun H => va_at Z.D tcl (q, .inr (0, [.null, .int 0, .null, .null, .int 0, .int 0, .int 0, .int 0, .int 0])) H ∧ va_at Z.D tcl (t, .inl (Z.d 1, 300, .inl (fun j => zi (tx j)))) H) (fun v H => v = none ∧ TKW Z q t (tk0S n tx) H) (fE q) 2 12 := by
  refine goHv (by decide +kernel) (Nat.le_of_ble_eq_true rfl) ?_
  intro p e s m args below meth c Q ls X hret hl hP hn hS hnm
  have hx := X.1.1
  have hbb := X.1.2.1
  have hts := X.1.2.2.2.2
  obtain ⟨hP, hT⟩ := hP
  rw [← hn] at hret
  replace hl : lv_has ls 3 [(0, .ref q), (1, .ref t), (2, .int (zi n))] := hl
  refine lv_aload_n hx hbb dX6_init_0 rfl (lv_at hl 0 rfl) ?_
  refine W.objInit hx hbb X.1.2.2.2.1 (hts _ q547) (hts _ q123) (hts _ q124) rfl (hl.1.trans X.1.2.2.1.symm) rfl dX6_init_1 (by decide) (Nat.le_of_ble_eq_true rfl) ?_
  refine lv_aload_n hx hbb dX6_init_4 rfl (lv_at hl 0 rfl) ?_
  refine lv_bipush (v := zi ((8 : Nat) : Int)) hx hbb dX6_init_5 (by decide) ?_
  refine h_newz (n := 8) X hS (by decide) (Nat.le_of_ble_eq_true rfl) (Nat.le_of_ble_eq_true rfl) dX6_init_7 (fun H1 hN1 z1 o1 hS1 => ?_)
  refine h_putF X.1 X.2.1 hS1 (va_at_keep hP (o1 q (by omega))) (tpF_told s.heap.size) hnm q550 (Nat.le_of_ble_eq_true rfl) (Or.inl rfl) dX6_init_9 (fun H2 locs2 hP2 hq2 => ?_)
  have z2 : H2.size = H1.size := hq2.1
  refine lv_aload_n hx hbb dX6_init_12 rfl (lv_at hl 0 rfl) ?_
  refine lv_iconst (v := zi ((4 : Nat) : Int)) hx hbb dX6_init_13 rfl ?_
  refine h_newz (n := 4) X hq2.2.2 (by decide) (Nat.le_of_ble_eq_true rfl) (Nat.le_of_ble_eq_true rfl) dX6_init_14 (fun H3 hN3 z3 o3 hS3 => ?_)
  refine h_putF X.1 X.2.1 hS3 (va_at_keep hP2 (o3 q (by omega))) (tpF_twice H2.size) hnm q551 (Nat.le_of_ble_eq_true rfl) (Or.inl rfl) dX6_init_16 (fun H4 locs4 hP4 hq4 => ?_)
  refine lv_aload_n hx hbb dX6_init_19 rfl (lv_at hl 0 rfl) ?_
  refine lv_aload_n hx hbb dX6_init_20 rfl (lv_at hl 1 rfl) ?_
  refine h_putF X.1 X.2.1 hq4.2.2 hP4 (tpF_text t) hnm q548 (Nat.le_of_ble_eq_true rfl) (Or.inl rfl) dX6_init_21 (fun H5 locs5 hP5 hq5 => ?_)
  refine lv_aload_n hx hbb dX6_init_24 rfl (lv_at hl 0 rfl) ?_
  refine lv_iload_n hx hbb dX6_init_25 rfl (lv_at hl 2 rfl) ?_
  refine h_putF X.1 X.2.1 hq5.2.2 hP5 (tpF_size n) hnm q549 (Nat.le_of_ble_eq_true rfl) (Or.inl rfl) dX6_init_26 (fun H6 locs6 hP6 hq6 => ?_)
  have k46 : ∀ x, x ≠ q → H6[x]? = H3[x]? := fun x hx => ((hq6.2.1 x hx).trans (hq5.2.1 x hx)).trans (hq4.2.1 x hx)
  have e1 : s.heap.size = q + 1 := hn
  have e2 : H2.size = q + 2 := by omega
  have hA1 : va_at Z.D tcl (q + 1, .inl (Z.d 0, 8, .inl (fun _ => zi 0))) H6 := by
    rw [← e1]
    exact va_at_keep (va_at_keep (va_at_keep hN1 (hq2.2.1 _ (by omega))) (o3 _ (by omega))) (k46 _ (by omega))
  have hA2 : va_at Z.D tcl (q + 2, .inl (Z.d 0, 4, .inl (fun _ => zi 0))) H6 := by
    rw [← e2]
    exact va_at_keep hN3 (k46 _ (by omega))
  have hA3 := va_at_keep (va_at_keep (va_at_keep (va_at_keep hT (o1 t (by omega))) (hq2.2.1 t (by omega))) (o3 t (by omega))) (k46 t (by omega))
  rw [e1, e2] at hP6
  refine W.widen (k := 2) (n := 12) (by decide) (by decide) ?_
  exact hret _ _ _ _ dX6_init_29 ⟨rfl, hP6, hA1, hA2, hA3, hb, by omega, by omega, by omega⟩ hq6.2.2
