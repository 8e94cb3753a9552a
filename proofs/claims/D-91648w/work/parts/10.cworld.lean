/-! the world of ManyEyes: 662 cells at hC .. hC + 661, in the order in which its constructor makes them; S.1: its numbers, S.2: its arrays by their cell -/
set_option maxRecDepth 100000
abbrev yS : Type := (Nat → Int) × (Int → Int → Int)
def cfs (S : yS) (k : Nat) (z : Int) : yS := (fun j => if j = k then z else S.1 j, S.2)
def cas (S : yS) (a i z : Int) : yS := (S.1, fun b => if b = a then (fun j => if j = i then z else S.2 a j) else S.2 b)
def th_fs (hC : Nat) (S : yS) : List Value := [.ref (hC + 1), .ref (hC + 236), .int (zi (S.1 2)), .int (zi (S.1 3)), .ref (hC + 471), .int (zi (S.1 5)), .int (zi (S.1 6)), .int (zi (S.1 7)), .ref (hC + 472), .int (zi (S.1 9)), .ref (hC + 473), .ref (hC + 474)]
def st_fs (hC b : Nat) : List Value := [.ref (hC + (b + 1)), .ref (hC + (b + 2)), .ref (hC + (b + 3)), .ref (hC + (b + 10)), .ref (hC + (b + 27)), .ref (hC + (b + 44)), .ref (hC + (b + 51)), .ref (hC + (b + 112)), .ref (hC + (b + 173)), .ref (hC + (b + 234))]
def fl_fs (hC : Nat) (S : yS) : List Value := [.ref (hC + 475), .ref (hC + 536), .ref (hC + 597), .ref (hC + 658), .int (zi (S.1 14)), .int (zi (S.1 15)), .int (zi (S.1 16)), .int (zi (S.1 17)), .int (zi (S.1 18)), .int (zi (S.1 19))]
def nw_fs (hC : Nat) (S : yS) : List Value := [.ref (hC + 659), .ref (hC + 660), .ref (hC + 661), .int (zi (S.1 23)), .int (zi (S.1 24)), .long (zl (S.1 25))]
def al_fs (k : Nat) (S : yS) : List Value := [.int (zi (S.1 k)), .ref (Int.toNat (S.1 (k + 1))), .int (zi (S.1 (k + 2)))]
def nrC (i : Nat) : Nat := if i = 4 then 6 else if i = 11 then 16 else if i = 28 then 16 else if i = 45 then 6 else if i = 52 then 60 else if i = 113 then 60 else if i = 174 then 60 else if i = 239 then 6 else if i = 246 then 16 else if i = 263 then 16 else if i = 280 then 6 else if i = 287 then 60 else if i = 348 then 60 else if i = 409 then 60 else if i = 475 then 60 else if i = 536 then 60 else if i = 597 then 60 else 0
def lenC (i : Nat) : Nat := if i = 2 then 14 else if i = 3 then 576 else if i = 237 then 14 else if i = 238 then 576 else if i = 472 then 576 else if i = 473 then 16 else if i = 659 then 16 else if i = 660 then 16 else if 5 ≤ i ∧ i ≤ 10 then 4 else if 12 ≤ i ∧ i ≤ 27 then 2 else if 29 ≤ i ∧ i ≤ 44 then 3 else if 46 ≤ i ∧ i ≤ 51 then 24 else if 53 ≤ i ∧ i ≤ 112 then 5 else if 114 ≤ i ∧ i ≤ 173 then 16 else if 175 ≤ i ∧ i ≤ 234 then 16 else if 240 ≤ i ∧ i ≤ 245 then 4 else if 247 ≤ i ∧ i ≤ 262 then 2 else if 264 ≤ i ∧ i ≤ 279 then 3 else if 281 ≤ i ∧ i ≤ 286 then 24 else if 288 ≤ i ∧ i ≤ 347 then 5 else if 349 ≤ i ∧ i ≤ 408 then 16 else if 410 ≤ i ∧ i ≤ 469 then 16 else if 476 ≤ i ∧ i ≤ 535 then 5 else if 537 ≤ i ∧ i ≤ 596 then 16 else if 598 ≤ i ∧ i ≤ 657 then 16 else 0
def spC (i : Nat) : Bool := [0, 1, 4, 11, 28, 45, 52, 113, 174, 235, 236, 239, 246, 263, 280, 287, 348, 409, 470, 471, 474, 475, 536, 597, 658, 661].elem i
def cO (dA : Nat → ClassId) (hC : Nat) (S : yS) (i : Nat) : va_E :=
  if i = 0 then .inr (0, th_fs hC S)
  else if i = 1 then .inr (1, st_fs hC 1)
  else if i = 236 then .inr (1, st_fs hC 236)
  else if i = 474 then .inr (2, fl_fs hC S)
  else if i = 658 then .inr (3, nw_fs hC S)
  else if i = 235 then .inr (4, al_fs 40 S)
  else if i = 470 then .inr (4, al_fs 50 S)
  else if i = 471 then .inl (dA 3, 300, .inl (fun j => zi (S.2 i j)))
  else if i = 661 then .inl (dA 1, 8, .inr (.inl (fun j => zl (S.2 i j))))
  else .inl (dA 4, nrC i, .inr (.inr (.inr (.inr (fun j => some (hC + (i + 1 + j)))))))
def cC (dA : Nat → ClassId) (hC : Nat) (S : yS) (i : Nat) : va_E := if spC i = true then cO dA hC S i else .inl (dA 0, lenC i, .inl (fun j => zi (S.2 i j)))
def cw (dA : Nat → ClassId) (hC : Nat) (S : yS) : va_W := (List.range 662).map (fun i => (hC + i, cC dA hC S i))
abbrev ccl : List vw_C := [(RX1, TX1, 12), (RX2, TX2, 10), (RX3, TX3, 10), (RX4, TX4, 6), (RJ2, TJ2, 3)]
abbrev cty (dA : Nat → ClassId) : List (ClassId × FieldType) := [(dA 0, .int), (dA 1, .long), (dA 2, .boolean), (dA 3, .byte), (dA 4, .array .int)]
def cA (hC : Nat) : Nat → Prop := fun q => hC ≤ q ∧ q < hC + 662
theorem cw_at {dA : Nat → ClassId} {hC : Nat} {S : yS} {i : Nat} (hi : i < 662) : (cw dA hC S)[i]? = some (hC + i, cC dA hC S i) := by
  unfold cw
  rw [List.getElem?_map, List.getElem?_range hi]
  rfl
theorem cw_in {dA : Nat → ClassId} {hC : Nat} {S : yS} {i : Nat} {q : Nat × va_E} (h : (cw dA hC S)[i]? = some q) : i < 662 ∧ q = (hC + i, cC dA hC S i) := by
  have hi : i < 662 := by
    have := (List.getElem?_eq_some_iff.mp h).1
    simpa [cw] using this
  rw [cw_at hi] at h
  exact ⟨hi, (Option.some.inj h).symm⟩
theorem cw_D {dA : Nat → ClassId} {hC : Nat} {S : yS} : va_D (cA hC) (cw dA hC S) := by
  refine ⟨fun i j p q hi hj hpq => ?_, fun k q hk => ?_⟩
  · have h1 := (cw_in hi).2
    have h2 := (cw_in hj).2
    subst h1 h2
    have : hC + i = hC + j := hpq
    omega
  · obtain ⟨h1, h2⟩ := cw_in hk
    subst h2
    show hC ≤ hC + k ∧ hC + k < hC + 662
    omega
theorem cw_set {dA : Nat → ClassId} {hC : Nat} {S S' : yS} {i : Nat} {e : va_E} (hi : i < 662) (h1 : cC dA hC S' i = e) (h2 : ∀ j, j < 662 → j ≠ i → cC dA hC S' j = cC dA hC S j) : (cw dA hC S).set i (hC + i, e) = cw dA hC S' := by
  apply List.ext_getElem?
  intro j
  by_cases hj : j = i
  · subst hj
    rw [List.getElem?_set_self (by simpa [cw] using hi), cw_at hi, h1]
  · rw [List.getElem?_set_ne (Ne.symm hj)]
    by_cases hjl : j < 662
    · rw [cw_at hjl, cw_at hjl, h2 j hjl hj]
    · rw [List.getElem?_eq_none (by simpa [cw] using hjl), List.getElem?_eq_none (by simpa [cw] using hjl)]
theorem cC_congr {dA : Nat → ClassId} {hC : Nat} {S S' : yS} {i : Nat} (h1 : S'.1 = S.1) (h2 : S'.2 i = S.2 i) : cC dA hC S' i = cC dA hC S i := by
  obtain ⟨a, b⟩ := S
  obtain ⟨a', b'⟩ := S'
  simp only at h1 h2
  subst h1
  unfold cC cO
  dsimp only
  rw [h2]
  rfl
def cI (q n : Nat) : Prop := q < 662 ∧ spC q = false ∧ lenC q = n ∧ n < 2147483648
theorem cI.cell {q n : Nat} (h : cI q n) (dA : Nat → ClassId) (hC : Nat) (S : yS) : cC dA hC S q = .inl (dA 0, n, .inl (fun j => zi (S.2 q j))) := by
  obtain ⟨h1, h2, h3, -⟩ := h
  unfold cC
  rw [if_neg (by rw [h2]; decide), h3]
theorem ci_2 : cI 2 14 := ⟨by decide, by decide, by decide, by decide⟩
theorem ci_3 : cI 3 576 := ⟨by decide, by decide, by decide, by decide⟩
theorem ci_237 : cI 237 14 := ⟨by decide, by decide, by decide, by decide⟩
theorem ci_238 : cI 238 576 := ⟨by decide, by decide, by decide, by decide⟩
theorem ci_472 : cI 472 576 := ⟨by decide, by decide, by decide, by decide⟩
theorem ci_473 : cI 473 16 := ⟨by decide, by decide, by decide, by decide⟩
theorem ci_659 : cI 659 16 := ⟨by decide, by decide, by decide, by decide⟩
theorem ci_660 : cI 660 16 := ⟨by decide, by decide, by decide, by decide⟩
theorem cr_4 {z : Int} (g : 0 ≤ z ∧ z < 6) : cI (4 + 1 + Int.toNat z) 4 := by
  have h : ∀ j, j < 6 → spC (4 + 1 + j) = false ∧ lenC (4 + 1 + j) = 4 := by decide +kernel
  have h1 := h z.toNat (by omega)
  exact ⟨by omega, h1.1, h1.2, by decide⟩
theorem cr_11 {z : Int} (g : 0 ≤ z ∧ z < 16) : cI (11 + 1 + Int.toNat z) 2 := by
  have h : ∀ j, j < 16 → spC (11 + 1 + j) = false ∧ lenC (11 + 1 + j) = 2 := by decide +kernel
  have h1 := h z.toNat (by omega)
  exact ⟨by omega, h1.1, h1.2, by decide⟩
theorem cr_28 {z : Int} (g : 0 ≤ z ∧ z < 16) : cI (28 + 1 + Int.toNat z) 3 := by
  have h : ∀ j, j < 16 → spC (28 + 1 + j) = false ∧ lenC (28 + 1 + j) = 3 := by decide +kernel
  have h1 := h z.toNat (by omega)
  exact ⟨by omega, h1.1, h1.2, by decide⟩
theorem cr_45 {z : Int} (g : 0 ≤ z ∧ z < 6) : cI (45 + 1 + Int.toNat z) 24 := by
  have h : ∀ j, j < 6 → spC (45 + 1 + j) = false ∧ lenC (45 + 1 + j) = 24 := by decide +kernel
  have h1 := h z.toNat (by omega)
  exact ⟨by omega, h1.1, h1.2, by decide⟩
theorem cr_52 {z : Int} (g : 0 ≤ z ∧ z < 60) : cI (52 + 1 + Int.toNat z) 5 := by
  have h : ∀ j, j < 60 → spC (52 + 1 + j) = false ∧ lenC (52 + 1 + j) = 5 := by decide +kernel
  have h1 := h z.toNat (by omega)
  exact ⟨by omega, h1.1, h1.2, by decide⟩
theorem cr_113 {z : Int} (g : 0 ≤ z ∧ z < 60) : cI (113 + 1 + Int.toNat z) 16 := by
  have h : ∀ j, j < 60 → spC (113 + 1 + j) = false ∧ lenC (113 + 1 + j) = 16 := by decide +kernel
  have h1 := h z.toNat (by omega)
  exact ⟨by omega, h1.1, h1.2, by decide⟩
theorem cr_174 {z : Int} (g : 0 ≤ z ∧ z < 60) : cI (174 + 1 + Int.toNat z) 16 := by
  have h : ∀ j, j < 60 → spC (174 + 1 + j) = false ∧ lenC (174 + 1 + j) = 16 := by decide +kernel
  have h1 := h z.toNat (by omega)
  exact ⟨by omega, h1.1, h1.2, by decide⟩
theorem cr_239 {z : Int} (g : 0 ≤ z ∧ z < 6) : cI (239 + 1 + Int.toNat z) 4 := by
  have h : ∀ j, j < 6 → spC (239 + 1 + j) = false ∧ lenC (239 + 1 + j) = 4 := by decide +kernel
  have h1 := h z.toNat (by omega)
  exact ⟨by omega, h1.1, h1.2, by decide⟩
theorem cr_246 {z : Int} (g : 0 ≤ z ∧ z < 16) : cI (246 + 1 + Int.toNat z) 2 := by
  have h : ∀ j, j < 16 → spC (246 + 1 + j) = false ∧ lenC (246 + 1 + j) = 2 := by decide +kernel
  have h1 := h z.toNat (by omega)
  exact ⟨by omega, h1.1, h1.2, by decide⟩
theorem cr_263 {z : Int} (g : 0 ≤ z ∧ z < 16) : cI (263 + 1 + Int.toNat z) 3 := by
  have h : ∀ j, j < 16 → spC (263 + 1 + j) = false ∧ lenC (263 + 1 + j) = 3 := by decide +kernel
  have h1 := h z.toNat (by omega)
  exact ⟨by omega, h1.1, h1.2, by decide⟩
theorem cr_280 {z : Int} (g : 0 ≤ z ∧ z < 6) : cI (280 + 1 + Int.toNat z) 24 := by
  have h : ∀ j, j < 6 → spC (280 + 1 + j) = false ∧ lenC (280 + 1 + j) = 24 := by decide +kernel
  have h1 := h z.toNat (by omega)
  exact ⟨by omega, h1.1, h1.2, by decide⟩
theorem cr_287 {z : Int} (g : 0 ≤ z ∧ z < 60) : cI (287 + 1 + Int.toNat z) 5 := by
  have h : ∀ j, j < 60 → spC (287 + 1 + j) = false ∧ lenC (287 + 1 + j) = 5 := by decide +kernel
  have h1 := h z.toNat (by omega)
  exact ⟨by omega, h1.1, h1.2, by decide⟩
theorem cr_348 {z : Int} (g : 0 ≤ z ∧ z < 60) : cI (348 + 1 + Int.toNat z) 16 := by
  have h : ∀ j, j < 60 → spC (348 + 1 + j) = false ∧ lenC (348 + 1 + j) = 16 := by decide +kernel
  have h1 := h z.toNat (by omega)
  exact ⟨by omega, h1.1, h1.2, by decide⟩
theorem cr_409 {z : Int} (g : 0 ≤ z ∧ z < 60) : cI (409 + 1 + Int.toNat z) 16 := by
  have h : ∀ j, j < 60 → spC (409 + 1 + j) = false ∧ lenC (409 + 1 + j) = 16 := by decide +kernel
  have h1 := h z.toNat (by omega)
  exact ⟨by omega, h1.1, h1.2, by decide⟩
theorem cr_475 {z : Int} (g : 0 ≤ z ∧ z < 60) : cI (475 + 1 + Int.toNat z) 5 := by
  have h : ∀ j, j < 60 → spC (475 + 1 + j) = false ∧ lenC (475 + 1 + j) = 5 := by decide +kernel
  have h1 := h z.toNat (by omega)
  exact ⟨by omega, h1.1, h1.2, by decide⟩
theorem cr_536 {z : Int} (g : 0 ≤ z ∧ z < 60) : cI (536 + 1 + Int.toNat z) 16 := by
  have h : ∀ j, j < 60 → spC (536 + 1 + j) = false ∧ lenC (536 + 1 + j) = 16 := by decide +kernel
  have h1 := h z.toNat (by omega)
  exact ⟨by omega, h1.1, h1.2, by decide⟩
theorem cr_597 {z : Int} (g : 0 ≤ z ∧ z < 60) : cI (597 + 1 + Int.toNat z) 16 := by
  have h : ∀ j, j < 60 → spC (597 + 1 + j) = false ∧ lenC (597 + 1 + j) = 16 := by decide +kernel
  have h1 := h z.toNat (by omega)
  exact ⟨by omega, h1.1, h1.2, by decide⟩
/-- words of the tables that don't ride in the lists -/
def nestW : Cond → Bool
  | .fieldLinkNest .. => true
  | .methodLinkNest .. => true
  | .castable .. => true
  | .declares .. => true
  | _ => false
def NWs (U : State) : Prop := ∀ w ∈ lw_tbl, nestW w = true → va_Nw w U
theorem nestW_on {w : Cond} (h : nestW w = true) : w.onTables = true := by cases w <;> first | rfl | cases h
theorem NWs.of {args : Array Value} {U : State} (h : ∀ w ∈ lw_tbl, w.before args U = true) : NWs U := fun w hw hn => va_Nw.of (nestW_on hn) (h w hw)
theorem NWs.same {u U : State} (h : u.vm = U.vm) (hN : NWs u) : NWs U := fun w hw hn => va_Nw.same (nestW_on hn) h (hN w hw hn)
theorem NWs.warm {s U : State} (hW : s.WarmedH U.vm) (hN : NWs s) : NWs U := by
  intro w hw hn
  have h := hN w hw hn
  cases w <;> first | exact va_Nw.warmF hW h | exact va_Nw.warmM hW h | exact va_Nw.warmC hW h | exact va_Nw.warmD hW h | cases hn
def CU (DC : va_G) (dA : Nat → ClassId) (hC : Nat) (S : yS) (U : State) : Prop := va_P DC ccl (cw dA hC S) U.heap ∧ va_K DC ccl (cty dA) U ∧ NWs U
def CX (DC : va_G) (dA : Nat → ClassId) (hC : Nat) (A : Nat → Prop) (S : yS) (s : State) (H : Heap) (locs : List Loc) : Prop := va_P DC ccl (cw dA hC S) H ∧ va_S A s.heap H locs ∧ ∀ q, cA hC q → A q
theorem cw_DA {dA : Nat → ClassId} {hC : Nat} {S : yS} {A : Nat → Prop} (h : ∀ q, cA hC q → A q) : va_D A (cw dA hC S) := cw_D.weaken (fun _ _ _ hq => h _ hq)
def cCx (own : String) (p : Program) (c : Code) (cc : ByteArray) (nL : Nat) (s : State) (m : MethodId) (args : Array Value) (DC : va_G) (dA : Nat → ClassId) : Prop := CallFix p m c cc nL s args lw_all own ∧ va_K DC ccl (cty dA) s ∧ NWs s
/-- field k of the object at cell q holds v -/
def cF (dA : Nat → ClassId) (hC : Nat) (S : yS) (q k : Nat) (C nme dsc : String) (v : Value) : Prop := ∃ (ci : Nat) (T : u_T) (N : Nat) (fs : List Value), q < 662 ∧ ccl[ci]? = some (C, T, N) ∧ (∀ w ∈ u_ws C T N, w ∈ lw_all) ∧ k < N ∧ (T k).2.1 = nme ∧ (T k).2.2.1 = dsc ∧ (T k).1 = C ∧ cC dA hC S q = .inr (ci, fs) ∧ fs[k]? = some v
def cP (dA : Nat → ClassId) (hC : Nat) (S : yS) (q k : Nat) (C nme dsc : String) (v : Value) (S1 : yS) : Prop := ∃ (ci : Nat) (T : u_T) (N : Nat) (fs : List Value) (ty : Nat → FieldType), q < 662 ∧ ccl[ci]? = some (C, T, N) ∧ (∀ w ∈ u_ws C T N, w ∈ lw_all) ∧ k < N ∧ (T k).2.1 = nme ∧ (T k).2.2.1 = dsc ∧ (T k).1 = C ∧ cC dA hC S q = .inr (ci, fs) ∧ k < fs.length ∧ (T k).2.2.2 = false ∧ (∀ k, k < N → parseFieldDescriptor (T k).2.2.1 = some (ty k)) ∧ (∀ a, a < N → ∀ b, b < N → a ≠ b → (T a).2.1 ≠ (T b).2.1) ∧ narrow (ty k) v = v ∧ fits (ty k) v = true ∧ cC dA hC S1 q = .inr (ci, fs.set k v) ∧ ∀ j, j < 662 → j ≠ q → cC dA hC S1 j = cC dA hC S j
theorem cf_0_0 (dA : Nat → ClassId) (hC : Nat) (S : yS) : cF dA hC S 0 0 "ManyEyes" "now" "LManyEyes$State;" (.ref (hC + 1)) := ⟨0, TX1, 12, th_fs hC S, by decide, rfl, in_X1, by decide, rfl, rfl, rfl, rfl, rfl⟩
theorem cf_0_1 (dA : Nat → ClassId) (hC : Nat) (S : yS) : cF dA hC S 0 1 "ManyEyes" "image" "LManyEyes$State;" (.ref (hC + 236)) := ⟨0, TX1, 12, th_fs hC S, by decide, rfl, in_X1, by decide, rfl, rfl, rfl, rfl, rfl⟩
theorem cf_0_2 (dA : Nat → ClassId) (hC : Nat) (S : yS) : cF dA hC S 0 2 "ManyEyes" "w" "I" (.int (zi (S.1 2))) := ⟨0, TX1, 12, th_fs hC S, by decide, rfl, in_X1, by decide, rfl, rfl, rfl, rfl, rfl⟩
theorem cf_0_3 (dA : Nat → ClassId) (hC : Nat) (S : yS) : cF dA hC S 0 3 "ManyEyes" "h" "I" (.int (zi (S.1 3))) := ⟨0, TX1, 12, th_fs hC S, by decide, rfl, in_X1, by decide, rfl, rfl, rfl, rfl, rfl⟩
theorem cf_0_4 (dA : Nat → ClassId) (hC : Nat) (S : yS) : cF dA hC S 0 4 "ManyEyes" "tape" "[B" (.ref (hC + 471)) := ⟨0, TX1, 12, th_fs hC S, by decide, rfl, in_X1, by decide, rfl, rfl, rfl, rfl, rfl⟩
theorem cf_0_5 (dA : Nat → ClassId) (hC : Nat) (S : yS) : cF dA hC S 0 5 "ManyEyes" "taped" "I" (.int (zi (S.1 5))) := ⟨0, TX1, 12, th_fs hC S, by decide, rfl, in_X1, by decide, rfl, rfl, rfl, rfl, rfl⟩
theorem cf_0_6 (dA : Nat → ClassId) (hC : Nat) (S : yS) : cF dA hC S 0 6 "ManyEyes" "fault" "I" (.int (zi (S.1 6))) := ⟨0, TX1, 12, th_fs hC S, by decide, rfl, in_X1, by decide, rfl, rfl, rfl, rfl, rfl⟩
theorem cf_0_7 (dA : Nat → ClassId) (hC : Nat) (S : yS) : cF dA hC S 0 7 "ManyEyes" "faultAt" "I" (.int (zi (S.1 7))) := ⟨0, TX1, 12, th_fs hC S, by decide, rfl, in_X1, by decide, rfl, rfl, rfl, rfl, rfl⟩
theorem cf_0_8 (dA : Nat → ClassId) (hC : Nat) (S : yS) : cF dA hC S 0 8 "ManyEyes" "world" "[I" (.ref (hC + 472)) := ⟨0, TX1, 12, th_fs hC S, by decide, rfl, in_X1, by decide, rfl, rfl, rfl, rfl, rfl⟩
theorem cf_0_9 (dA : Nat → ClassId) (hC : Nat) (S : yS) : cF dA hC S 0 9 "ManyEyes" "far" "I" (.int (zi (S.1 9))) := ⟨0, TX1, 12, th_fs hC S, by decide, rfl, in_X1, by decide, rfl, rfl, rfl, rfl, rfl⟩
theorem cf_0_10 (dA : Nat → ClassId) (hC : Nat) (S : yS) : cF dA hC S 0 10 "ManyEyes" "takes" "[I" (.ref (hC + 473)) := ⟨0, TX1, 12, th_fs hC S, by decide, rfl, in_X1, by decide, rfl, rfl, rfl, rfl, rfl⟩
theorem cf_0_11 (dA : Nat → ClassId) (hC : Nat) (S : yS) : cF dA hC S 0 11 "ManyEyes" "flight" "LManyEyes$Flight;" (.ref (hC + 474)) := ⟨0, TX1, 12, th_fs hC S, by decide, rfl, in_X1, by decide, rfl, rfl, rfl, rfl, rfl⟩
theorem cf_1_0 (dA : Nat → ClassId) (hC : Nat) (S : yS) : cF dA hC S 1 0 "ManyEyes$State" "n" "[I" (.ref (hC + (1 + 1))) := ⟨1, TX2, 10, st_fs hC 1, by decide, rfl, in_X2, by decide, rfl, rfl, rfl, rfl, rfl⟩
theorem cf_1_1 (dA : Nat → ClassId) (hC : Nat) (S : yS) : cF dA hC S 1 1 "ManyEyes$State" "mark" "[I" (.ref (hC + (1 + 2))) := ⟨1, TX2, 10, st_fs hC 1, by decide, rfl, in_X2, by decide, rfl, rfl, rfl, rfl, rfl⟩
theorem cf_1_2 (dA : Nat → ClassId) (hC : Nat) (S : yS) : cF dA hC S 1 2 "ManyEyes$State" "body" "[[I" (.ref (hC + (1 + 3))) := ⟨1, TX2, 10, st_fs hC 1, by decide, rfl, in_X2, by decide, rfl, rfl, rfl, rfl, rfl⟩
theorem cf_1_3 (dA : Nat → ClassId) (hC : Nat) (S : yS) : cF dA hC S 1 3 "ManyEyes$State" "lens" "[[I" (.ref (hC + (1 + 10))) := ⟨1, TX2, 10, st_fs hC 1, by decide, rfl, in_X2, by decide, rfl, rfl, rfl, rfl, rfl⟩
theorem cf_1_4 (dA : Nat → ClassId) (hC : Nat) (S : yS) : cF dA hC S 1 4 "ManyEyes$State" "pair" "[[I" (.ref (hC + (1 + 27))) := ⟨1, TX2, 10, st_fs hC 1, by decide, rfl, in_X2, by decide, rfl, rfl, rfl, rfl, rfl⟩
theorem cf_1_5 (dA : Nat → ClassId) (hC : Nat) (S : yS) : cF dA hC S 1 5 "ManyEyes$State" "read" "[[I" (.ref (hC + (1 + 44))) := ⟨1, TX2, 10, st_fs hC 1, by decide, rfl, in_X2, by decide, rfl, rfl, rfl, rfl, rfl⟩
theorem cf_1_6 (dA : Nat → ClassId) (hC : Nat) (S : yS) : cF dA hC S 1 6 "ManyEyes$State" "tick" "[[I" (.ref (hC + (1 + 51))) := ⟨1, TX2, 10, st_fs hC 1, by decide, rfl, in_X2, by decide, rfl, rfl, rfl, rfl, rfl⟩
theorem cf_1_7 (dA : Nat → ClassId) (hC : Nat) (S : yS) : cF dA hC S 1 7 "ManyEyes$State" "take" "[[I" (.ref (hC + (1 + 112))) := ⟨1, TX2, 10, st_fs hC 1, by decide, rfl, in_X2, by decide, rfl, rfl, rfl, rfl, rfl⟩
theorem cf_1_8 (dA : Nat → ClassId) (hC : Nat) (S : yS) : cF dA hC S 1 8 "ManyEyes$State" "pairs" "[[I" (.ref (hC + (1 + 173))) := ⟨1, TX2, 10, st_fs hC 1, by decide, rfl, in_X2, by decide, rfl, rfl, rfl, rfl, rfl⟩
theorem cf_1_9 (dA : Nat → ClassId) (hC : Nat) (S : yS) : cF dA hC S 1 9 "ManyEyes$State" "rules" "Ljava/util/ArrayList;" (.ref (hC + (1 + 234))) := ⟨1, TX2, 10, st_fs hC 1, by decide, rfl, in_X2, by decide, rfl, rfl, rfl, rfl, rfl⟩
theorem cf_236_0 (dA : Nat → ClassId) (hC : Nat) (S : yS) : cF dA hC S 236 0 "ManyEyes$State" "n" "[I" (.ref (hC + (236 + 1))) := ⟨1, TX2, 10, st_fs hC 236, by decide, rfl, in_X2, by decide, rfl, rfl, rfl, rfl, rfl⟩
theorem cf_236_1 (dA : Nat → ClassId) (hC : Nat) (S : yS) : cF dA hC S 236 1 "ManyEyes$State" "mark" "[I" (.ref (hC + (236 + 2))) := ⟨1, TX2, 10, st_fs hC 236, by decide, rfl, in_X2, by decide, rfl, rfl, rfl, rfl, rfl⟩
theorem cf_236_2 (dA : Nat → ClassId) (hC : Nat) (S : yS) : cF dA hC S 236 2 "ManyEyes$State" "body" "[[I" (.ref (hC + (236 + 3))) := ⟨1, TX2, 10, st_fs hC 236, by decide, rfl, in_X2, by decide, rfl, rfl, rfl, rfl, rfl⟩
theorem cf_236_3 (dA : Nat → ClassId) (hC : Nat) (S : yS) : cF dA hC S 236 3 "ManyEyes$State" "lens" "[[I" (.ref (hC + (236 + 10))) := ⟨1, TX2, 10, st_fs hC 236, by decide, rfl, in_X2, by decide, rfl, rfl, rfl, rfl, rfl⟩
theorem cf_236_4 (dA : Nat → ClassId) (hC : Nat) (S : yS) : cF dA hC S 236 4 "ManyEyes$State" "pair" "[[I" (.ref (hC + (236 + 27))) := ⟨1, TX2, 10, st_fs hC 236, by decide, rfl, in_X2, by decide, rfl, rfl, rfl, rfl, rfl⟩
theorem cf_236_5 (dA : Nat → ClassId) (hC : Nat) (S : yS) : cF dA hC S 236 5 "ManyEyes$State" "read" "[[I" (.ref (hC + (236 + 44))) := ⟨1, TX2, 10, st_fs hC 236, by decide, rfl, in_X2, by decide, rfl, rfl, rfl, rfl, rfl⟩
theorem cf_236_6 (dA : Nat → ClassId) (hC : Nat) (S : yS) : cF dA hC S 236 6 "ManyEyes$State" "tick" "[[I" (.ref (hC + (236 + 51))) := ⟨1, TX2, 10, st_fs hC 236, by decide, rfl, in_X2, by decide, rfl, rfl, rfl, rfl, rfl⟩
theorem cf_236_7 (dA : Nat → ClassId) (hC : Nat) (S : yS) : cF dA hC S 236 7 "ManyEyes$State" "take" "[[I" (.ref (hC + (236 + 112))) := ⟨1, TX2, 10, st_fs hC 236, by decide, rfl, in_X2, by decide, rfl, rfl, rfl, rfl, rfl⟩
theorem cf_236_8 (dA : Nat → ClassId) (hC : Nat) (S : yS) : cF dA hC S 236 8 "ManyEyes$State" "pairs" "[[I" (.ref (hC + (236 + 173))) := ⟨1, TX2, 10, st_fs hC 236, by decide, rfl, in_X2, by decide, rfl, rfl, rfl, rfl, rfl⟩
theorem cf_236_9 (dA : Nat → ClassId) (hC : Nat) (S : yS) : cF dA hC S 236 9 "ManyEyes$State" "rules" "Ljava/util/ArrayList;" (.ref (hC + (236 + 234))) := ⟨1, TX2, 10, st_fs hC 236, by decide, rfl, in_X2, by decide, rfl, rfl, rfl, rfl, rfl⟩
theorem cf_474_0 (dA : Nat → ClassId) (hC : Nat) (S : yS) : cF dA hC S 474 0 "ManyEyes$Flight" "tick" "[[I" (.ref (hC + 475)) := ⟨2, TX3, 10, fl_fs hC S, by decide, rfl, in_X3, by decide, rfl, rfl, rfl, rfl, rfl⟩
theorem cf_474_1 (dA : Nat → ClassId) (hC : Nat) (S : yS) : cF dA hC S 474 1 "ManyEyes$Flight" "take" "[[I" (.ref (hC + 536)) := ⟨2, TX3, 10, fl_fs hC S, by decide, rfl, in_X3, by decide, rfl, rfl, rfl, rfl, rfl⟩
theorem cf_474_2 (dA : Nat → ClassId) (hC : Nat) (S : yS) : cF dA hC S 474 2 "ManyEyes$Flight" "pairs" "[[I" (.ref (hC + 597)) := ⟨2, TX3, 10, fl_fs hC S, by decide, rfl, in_X3, by decide, rfl, rfl, rfl, rfl, rfl⟩
theorem cf_474_3 (dA : Nat → ClassId) (hC : Nat) (S : yS) : cF dA hC S 474 3 "ManyEyes$Flight" "asked" "LManyEyes$Now;" (.ref (hC + 658)) := ⟨2, TX3, 10, fl_fs hC S, by decide, rfl, in_X3, by decide, rfl, rfl, rfl, rfl, rfl⟩
theorem cf_474_4 (dA : Nat → ClassId) (hC : Nat) (S : yS) : cF dA hC S 474 4 "ManyEyes$Flight" "x" "I" (.int (zi (S.1 14))) := ⟨2, TX3, 10, fl_fs hC S, by decide, rfl, in_X3, by decide, rfl, rfl, rfl, rfl, rfl⟩
theorem cf_474_5 (dA : Nat → ClassId) (hC : Nat) (S : yS) : cF dA hC S 474 5 "ManyEyes$Flight" "y" "I" (.int (zi (S.1 15))) := ⟨2, TX3, 10, fl_fs hC S, by decide, rfl, in_X3, by decide, rfl, rfl, rfl, rfl, rfl⟩
theorem cf_474_6 (dA : Nat → ClassId) (hC : Nat) (S : yS) : cF dA hC S 474 6 "ManyEyes$Flight" "head" "I" (.int (zi (S.1 16))) := ⟨2, TX3, 10, fl_fs hC S, by decide, rfl, in_X3, by decide, rfl, rfl, rfl, rfl, rfl⟩
theorem cf_474_7 (dA : Nat → ClassId) (hC : Nat) (S : yS) : cF dA hC S 474 7 "ManyEyes$Flight" "many" "I" (.int (zi (S.1 17))) := ⟨2, TX3, 10, fl_fs hC S, by decide, rfl, in_X3, by decide, rfl, rfl, rfl, rfl, rfl⟩
theorem cf_474_8 (dA : Nat → ClassId) (hC : Nat) (S : yS) : cF dA hC S 474 8 "ManyEyes$Flight" "hit" "Z" (.int (zi (S.1 18))) := ⟨2, TX3, 10, fl_fs hC S, by decide, rfl, in_X3, by decide, rfl, rfl, rfl, rfl, rfl⟩
theorem cf_474_9 (dA : Nat → ClassId) (hC : Nat) (S : yS) : cF dA hC S 474 9 "ManyEyes$Flight" "rested" "Z" (.int (zi (S.1 19))) := ⟨2, TX3, 10, fl_fs hC S, by decide, rfl, in_X3, by decide, rfl, rfl, rfl, rfl, rfl⟩
theorem cf_658_0 (dA : Nat → ClassId) (hC : Nat) (S : yS) : cF dA hC S 658 0 "ManyEyes$Now" "take" "[I" (.ref (hC + 659)) := ⟨3, TX4, 6, nw_fs hC S, by decide, rfl, in_X4, by decide, rfl, rfl, rfl, rfl, rfl⟩
theorem cf_658_1 (dA : Nat → ClassId) (hC : Nat) (S : yS) : cF dA hC S 658 1 "ManyEyes$Now" "pair" "[I" (.ref (hC + 660)) := ⟨3, TX4, 6, nw_fs hC S, by decide, rfl, in_X4, by decide, rfl, rfl, rfl, rfl, rfl⟩
theorem cf_658_2 (dA : Nat → ClassId) (hC : Nat) (S : yS) : cF dA hC S 658 2 "ManyEyes$Now" "letter" "[J" (.ref (hC + 661)) := ⟨3, TX4, 6, nw_fs hC S, by decide, rfl, in_X4, by decide, rfl, rfl, rfl, rfl, rfl⟩
theorem cf_658_3 (dA : Nat → ClassId) (hC : Nat) (S : yS) : cF dA hC S 658 3 "ManyEyes$Now" "tick" "I" (.int (zi (S.1 23))) := ⟨3, TX4, 6, nw_fs hC S, by decide, rfl, in_X4, by decide, rfl, rfl, rfl, rfl, rfl⟩
theorem cf_658_4 (dA : Nat → ClassId) (hC : Nat) (S : yS) : cF dA hC S 658 4 "ManyEyes$Now" "over" "I" (.int (zi (S.1 24))) := ⟨3, TX4, 6, nw_fs hC S, by decide, rfl, in_X4, by decide, rfl, rfl, rfl, rfl, rfl⟩
theorem cf_658_5 (dA : Nat → ClassId) (hC : Nat) (S : yS) : cF dA hC S 658 5 "ManyEyes$Now" "bound" "J" (.long (zl (S.1 25))) := ⟨3, TX4, 6, nw_fs hC S, by decide, rfl, in_X4, by decide, rfl, rfl, rfl, rfl, rfl⟩
theorem cp_0_5 (dA : Nat → ClassId) (hC : Nat) (S : yS) (z : Int) : cP dA hC S 0 5 "ManyEyes" "taped" "I" (.int (zi z)) (cfs S 5 z) := ⟨0, TX1, 12, th_fs hC S, tyX1, by decide, rfl, in_X1, by decide, rfl, rfl, rfl, rfl, Nat.le_of_ble_eq_true rfl, rfl, tyX1_ok, nmX1, rfl, rfl, rfl, fun j _ hj => by unfold cC cO; rw [if_neg hj, if_neg hj]; rfl⟩
theorem cp_0_6 (dA : Nat → ClassId) (hC : Nat) (S : yS) (z : Int) : cP dA hC S 0 6 "ManyEyes" "fault" "I" (.int (zi z)) (cfs S 6 z) := ⟨0, TX1, 12, th_fs hC S, tyX1, by decide, rfl, in_X1, by decide, rfl, rfl, rfl, rfl, Nat.le_of_ble_eq_true rfl, rfl, tyX1_ok, nmX1, rfl, rfl, rfl, fun j _ hj => by unfold cC cO; rw [if_neg hj, if_neg hj]; rfl⟩
theorem cp_0_7 (dA : Nat → ClassId) (hC : Nat) (S : yS) (z : Int) : cP dA hC S 0 7 "ManyEyes" "faultAt" "I" (.int (zi z)) (cfs S 7 z) := ⟨0, TX1, 12, th_fs hC S, tyX1, by decide, rfl, in_X1, by decide, rfl, rfl, rfl, rfl, Nat.le_of_ble_eq_true rfl, rfl, tyX1_ok, nmX1, rfl, rfl, rfl, fun j _ hj => by unfold cC cO; rw [if_neg hj, if_neg hj]; rfl⟩
theorem cp_0_9 (dA : Nat → ClassId) (hC : Nat) (S : yS) (z : Int) : cP dA hC S 0 9 "ManyEyes" "far" "I" (.int (zi z)) (cfs S 9 z) := ⟨0, TX1, 12, th_fs hC S, tyX1, by decide, rfl, in_X1, by decide, rfl, rfl, rfl, rfl, Nat.le_of_ble_eq_true rfl, rfl, tyX1_ok, nmX1, rfl, rfl, rfl, fun j _ hj => by unfold cC cO; rw [if_neg hj, if_neg hj]; rfl⟩
theorem cp_474_4 (dA : Nat → ClassId) (hC : Nat) (S : yS) (z : Int) : cP dA hC S 474 4 "ManyEyes$Flight" "x" "I" (.int (zi z)) (cfs S 14 z) := ⟨2, TX3, 10, fl_fs hC S, tyX3, by decide, rfl, in_X3, by decide, rfl, rfl, rfl, rfl, Nat.le_of_ble_eq_true rfl, rfl, tyX3_ok, nmX3, rfl, rfl, rfl, fun j _ hj => by unfold cC cO; simp only [hj, if_false]; rfl⟩
theorem cp_474_5 (dA : Nat → ClassId) (hC : Nat) (S : yS) (z : Int) : cP dA hC S 474 5 "ManyEyes$Flight" "y" "I" (.int (zi z)) (cfs S 15 z) := ⟨2, TX3, 10, fl_fs hC S, tyX3, by decide, rfl, in_X3, by decide, rfl, rfl, rfl, rfl, Nat.le_of_ble_eq_true rfl, rfl, tyX3_ok, nmX3, rfl, rfl, rfl, fun j _ hj => by unfold cC cO; simp only [hj, if_false]; rfl⟩
theorem cp_474_6 (dA : Nat → ClassId) (hC : Nat) (S : yS) (z : Int) : cP dA hC S 474 6 "ManyEyes$Flight" "head" "I" (.int (zi z)) (cfs S 16 z) := ⟨2, TX3, 10, fl_fs hC S, tyX3, by decide, rfl, in_X3, by decide, rfl, rfl, rfl, rfl, Nat.le_of_ble_eq_true rfl, rfl, tyX3_ok, nmX3, rfl, rfl, rfl, fun j _ hj => by unfold cC cO; simp only [hj, if_false]; rfl⟩
theorem cp_474_7 (dA : Nat → ClassId) (hC : Nat) (S : yS) (z : Int) : cP dA hC S 474 7 "ManyEyes$Flight" "many" "I" (.int (zi z)) (cfs S 17 z) := ⟨2, TX3, 10, fl_fs hC S, tyX3, by decide, rfl, in_X3, by decide, rfl, rfl, rfl, rfl, Nat.le_of_ble_eq_true rfl, rfl, tyX3_ok, nmX3, rfl, rfl, rfl, fun j _ hj => by unfold cC cO; simp only [hj, if_false]; rfl⟩
theorem cp_474_8 (dA : Nat → ClassId) (hC : Nat) (S : yS) {z : Int} (g : z = 0 ∨ z = 1) : cP dA hC S 474 8 "ManyEyes$Flight" "hit" "Z" (.int (zi z)) (cfs S 18 z) := ⟨2, TX3, 10, fl_fs hC S, tyX3, by decide, rfl, in_X3, by decide, rfl, rfl, rfl, rfl, Nat.le_of_ble_eq_true rfl, rfl, tyX3_ok, nmX3, by rcases g with rfl | rfl <;> decide, by rcases g with rfl | rfl <;> decide, rfl, fun j _ hj => by unfold cC cO; simp only [hj, if_false]; rfl⟩
theorem cp_474_9 (dA : Nat → ClassId) (hC : Nat) (S : yS) {z : Int} (g : z = 0 ∨ z = 1) : cP dA hC S 474 9 "ManyEyes$Flight" "rested" "Z" (.int (zi z)) (cfs S 19 z) := ⟨2, TX3, 10, fl_fs hC S, tyX3, by decide, rfl, in_X3, by decide, rfl, rfl, rfl, rfl, Nat.le_of_ble_eq_true rfl, rfl, tyX3_ok, nmX3, by rcases g with rfl | rfl <;> decide, by rcases g with rfl | rfl <;> decide, rfl, fun j _ hj => by unfold cC cO; simp only [hj, if_false]; rfl⟩
theorem cp_658_3 (dA : Nat → ClassId) (hC : Nat) (S : yS) (z : Int) : cP dA hC S 658 3 "ManyEyes$Now" "tick" "I" (.int (zi z)) (cfs S 23 z) := ⟨3, TX4, 6, nw_fs hC S, tyX4, by decide, rfl, in_X4, by decide, rfl, rfl, rfl, rfl, Nat.le_of_ble_eq_true rfl, rfl, tyX4_ok, nmX4, rfl, rfl, rfl, fun j _ hj => by unfold cC cO; simp only [hj, if_false]; rfl⟩
theorem cp_658_4 (dA : Nat → ClassId) (hC : Nat) (S : yS) (z : Int) : cP dA hC S 658 4 "ManyEyes$Now" "over" "I" (.int (zi z)) (cfs S 24 z) := ⟨3, TX4, 6, nw_fs hC S, tyX4, by decide, rfl, in_X4, by decide, rfl, rfl, rfl, rfl, Nat.le_of_ble_eq_true rfl, rfl, tyX4_ok, nmX4, rfl, rfl, rfl, fun j _ hj => by unfold cC cO; simp only [hj, if_false]; rfl⟩
theorem cp_658_5 (dA : Nat → ClassId) (hC : Nat) (S : yS) (z : Int) : cP dA hC S 658 5 "ManyEyes$Now" "bound" "J" (.long (zl z)) (cfs S 25 z) := ⟨3, TX4, 6, nw_fs hC S, tyX4, by decide, rfl, in_X4, by decide, rfl, rfl, rfl, rfl, Nat.le_of_ble_eq_true rfl, rfl, tyX4_ok, nmX4, rfl, rfl, rfl, fun j _ hj => by unfold cC cO; simp only [hj, if_false]; rfl⟩
section CR
variable {p : Program} {l : Launch} {e : Env} {R : Room} {s : State} {m : MethodId} {args : Array Value} {below : List Frame} {meth : Method} {c : Code} {H : Heap} {locs : List Loc} {cells slots : Nat} {Q : State → Prop}
variable {cc : ByteArray} {pc nL : Nat} {ls : Array Slot} {rest : List Value} {DC : va_G} {dA : Nat → ClassId} {hC : Nat} {S : yS} {own : String} {A : Nat → Prop}
theorem cm_get (X : cCx own p c cc nL s m args DC dA) (hM : CX DC dA hC A S s H locs) {q k idx : Nat} {C nme dsc : String} {v : Value} (hl : Cond.fieldLink own idx C nme dsc ∈ lw_all) (hf : cF dA hC S q k C nme dsc v) {a : Nat} (hq : a = hC + q) (hdg : decode cc pc = .ok (.getfield idx, 3))
    (kk : W p l e R s m args below meth c H locs cells slots Q (F0 m (pc + 3) ls (v :: rest))) : W p l e R s m args below meth c H locs cells slots Q (F0 m pc ls (.ref a :: rest)) := by
  subst hq
  obtain ⟨ci, T, N, fs, h1, h2, h3, h4, rfl, rfl, h5, h6, h7⟩ := hf
  exact va_get X.1.1 X.1.2.1 X.1.2.2.2.2 h3 X.1.2.2.2.1 X.2.1 hM.1 q (by rw [cw_at h1, h6]) h2 k h4 (X.1.2.2.2.2 _ hl) (fun x hx => by rw [h5] at hx; exact hx) h7 hdg kk
theorem cm_getN (X : cCx own p c cc nL s m args DC dA) (hM : CX DC dA hC A S s H locs) {q k idx : Nat} {C nme dsc : String} {host : String} {v : Value} (hl : Cond.fieldLinkNest own idx C nme dsc host ∈ lw_tbl) (hf : cF dA hC S q k C nme dsc v) {a : Nat} (hq : a = hC + q) (hdg : decode cc pc = .ok (.getfield idx, 3))
    (kk : W p l e R s m args below meth c H locs cells slots Q (F0 m (pc + 3) ls (v :: rest))) : W p l e R s m args below meth c H locs cells slots Q (F0 m pc ls (.ref a :: rest)) := by
  subst hq
  obtain ⟨ci, T, N, fs, h1, h2, h3, h4, rfl, rfl, h5, h6, h7⟩ := hf
  exact va_getN X.1.1 X.1.2.1 X.1.2.2.2.2 h3 X.1.2.2.2.1 X.2.1 hM.1 q (by rw [cw_at h1, h6]) h2 k h4 ((X.2.2 _ hl rfl).use rfl) (fun x hx => by rw [h5] at hx; exact hx) h7 hdg kk
theorem cm_put (X : cCx own p c cc nL s m args DC dA) (hM : CX DC dA hC A S s H locs) {q k idx : Nat} {C nme dsc : String} {v : Value} {S1 : yS} (hl : Cond.fieldLink own idx C nme dsc ∈ lw_all) (hf : cP dA hC S q k C nme dsc v S1) {a : Nat} (hq : a = hC + q) (hdg : decode cc pc = .ok (.putfield idx, 3))
    (kk : ∀ (H1 : Heap) (locs1 : List Loc) (S2 : yS), S2 = S1 → CX DC dA hC A S2 s H1 locs1 → W p l e R s m args below meth c H1 locs1 cells slots Q (F0 m (pc + 3) ls rest)) : W p l e R s m args below meth c H locs cells slots Q (F0 m pc ls (v :: .ref a :: rest)) := by
  subst hq
  obtain ⟨ci, T, N, fs, ty, h1, h2, h3, h4, rfl, rfl, h5, h6, h7, h8, h9, h10, h11, h12, h13, h14⟩ := hf
  refine va_put X.1.1 X.1.2.1 X.1.2.2.2.2 h3 ty h9 h10 X.1.2.2.2.1 X.2.1 hM.1 (cw_DA hM.2.2) hM.2.1 q (by rw [cw_at h1, h6]) h2 k h4 (X.1.2.2.2.2 _ hl) (fun x hx => by rw [h5] at hx; exact hx) h8 (h9 k h4) h11 h12 h7 hdg (fun H1 locs1 hP _ hS => kk H1 locs1 S1 rfl ⟨?_, hS, hM.2.2⟩)
  rw [← cw_set h1 h13 h14]
  exact hP
theorem cm_putN (X : cCx own p c cc nL s m args DC dA) (hM : CX DC dA hC A S s H locs) {q k idx : Nat} {C nme dsc : String} {host : String} {v : Value} {S1 : yS} (hl : Cond.fieldLinkNest own idx C nme dsc host ∈ lw_tbl) (hf : cP dA hC S q k C nme dsc v S1) {a : Nat} (hq : a = hC + q) (hdg : decode cc pc = .ok (.putfield idx, 3))
    (kk : ∀ (H1 : Heap) (locs1 : List Loc) (S2 : yS), S2 = S1 → CX DC dA hC A S2 s H1 locs1 → W p l e R s m args below meth c H1 locs1 cells slots Q (F0 m (pc + 3) ls rest)) : W p l e R s m args below meth c H locs cells slots Q (F0 m pc ls (v :: .ref a :: rest)) := by
  subst hq
  obtain ⟨ci, T, N, fs, ty, h1, h2, h3, h4, rfl, rfl, h5, h6, h7, h8, h9, h10, h11, h12, h13, h14⟩ := hf
  refine va_putN X.1.1 X.1.2.1 X.1.2.2.2.2 h3 ty h9 h10 X.1.2.2.2.1 X.2.1 hM.1 (cw_DA hM.2.2) hM.2.1 q (by rw [cw_at h1, h6]) h2 k h4 ((X.2.2 _ hl rfl).use rfl) (fun x hx => by rw [h5] at hx; exact hx) h8 (h9 k h4) h11 h12 h7 hdg (fun H1 locs1 hP _ hS => kk H1 locs1 S1 rfl ⟨?_, hS, hM.2.2⟩)
  rw [← cw_set h1 h13 h14]
  exact hP
theorem cm_iald (X : cCx own p c cc nL s m args DC dA) (hM : CX DC dA hC A S s H locs) {q n : Nat} {qz : Int} (ha : cI q n) (hz : (q : Int) = qz) {a : Nat} (hq : a = hC + q) {i : Int} (g : 0 ≤ i ∧ i < (n : Int)) (hdg : decode cc pc = .ok (.iaload, 1))
    (kk : W p l e R s m args below meth c H locs cells slots Q (F0 m (pc + 1) ls (.int (zi (S.2 qz i)) :: rest))) : W p l e R s m args below meth c H locs cells slots Q (F0 m pc ls (.int (zi i) :: .ref a :: rest)) := by
  subst hq hz
  have hn := ha.2.2.2
  refine va_iald X.1.1 X.1.2.1 X.2.1 hM.1 q 0 (by rw [cw_at ha.1, ha.cell]) rfl (zi_in g hn) hdg ?_
  show W p l e R s m args below meth c H locs cells slots Q (F0 m (pc + 1) ls (.int (zi (S.2 q (((zi i).toNatClampNeg : Nat) : Int))) :: rest))
  rw [zi_cast ⟨g.1, by omega⟩]
  exact kk
theorem cm_iast (X : cCx own p c cc nL s m args DC dA) (hM : CX DC dA hC A S s H locs) {q n : Nat} {qz : Int} (ha : cI q n) (hz : (q : Int) = qz) {a : Nat} (hq : a = hC + q) {i z : Int} (g : 0 ≤ i ∧ i < (n : Int)) (hdg : decode cc pc = .ok (.iastore, 1))
    (kk : ∀ (H1 : Heap) (locs1 : List Loc) (S2 : yS), S2 = cas S qz i z → CX DC dA hC A S2 s H1 locs1 → W p l e R s m args below meth c H1 locs1 cells slots Q (F0 m (pc + 1) ls rest)) : W p l e R s m args below meth c H locs cells slots Q (F0 m pc ls (.int (zi z) :: .int (zi i) :: .ref a :: rest)) := by
  subst hq hz
  have hn := ha.2.2.2
  refine va_iast X.1.1 X.1.2.1 X.2.1 hM.1 (cw_DA hM.2.2) hM.2.1 q 0 (by rw [cw_at ha.1, ha.cell]) rfl (zi_in g hn) hdg (fun H1 locs1 hP _ hS => kk H1 locs1 _ rfl ⟨?_, hS, hM.2.2⟩)
  rw [zi_cl ⟨g.1, by omega⟩, updz (S.2 q) z g.1] at hP
  rw [← cw_set (S := S) (S' := cas S q i z) (i := q) ha.1 (ha.cell dA hC (cas S q i z)) (fun j _ hj => cC_congr rfl (by show (if (j : Int) = (q : Int) then _ else S.2 j) = _; rw [if_neg (by omega)]))]
  have e : (fun j : Nat => zi ((cas S q i z).2 q j)) = fun j : Nat => zi ((fun r : Int => if r = i then z else S.2 q r) j) := by
    funext j
    show zi ((if (q : Int) = (q : Int) then (fun r : Int => if r = i then z else S.2 q r) else S.2 q) (j : Int)) = _
    rw [if_pos rfl]
  rw [e]
  exact hP
theorem cm_aald (X : cCx own p c cc nL s m args DC dA) (hM : CX DC dA hC A S s H locs) {q n : Nat} (hq6 : q < 662) (hc : cC dA hC S q = .inl (dA 4, n, .inr (.inr (.inr (.inr (fun j => some (hC + (q + 1 + j)))))))) (hn : n < 2147483648) {a : Nat} (hq : a = hC + q) {i : Int} (g : 0 ≤ i ∧ i < (n : Int)) (hdg : decode cc pc = .ok (.aaload, 1))
    (kk : W p l e R s m args below meth c H locs cells slots Q (F0 m (pc + 1) ls (.ref (hC + (q + 1 + Int.toNat i)) :: rest))) : W p l e R s m args below meth c H locs cells slots Q (F0 m pc ls (.int (zi i) :: .ref a :: rest)) := by
  subst hq
  have hcell := hM.1 q _ (cw_at hq6)
  unfold va_at at hcell
  rw [hc] at hcell
  have hlt : (zi i).toNatClampNeg < n := by rw [zi_cl ⟨g.1, by omega⟩]; omega
  refine W.aald (v := va_rf (some (hC + (q + 1 + (zi i).toNatClampNeg)))) (ty := .array .int) X.1.1 X.1.2.1 hcell ((X.2.1.2 4 (dA 4, .array .int) rfl).1 n (fun j => va_rf (some (hC + (q + 1 + j))))) rfl (fun q => by cases q) (by show ¬ (zi i < 0 ∨ (arrV _ _ _).slots.size ≤ _); rw [arrV_size]; exact zi_in g hn) (by show (arrV _ _ _).slots[_]? = _; rw [arrV_read _ _ hlt]) rfl rfl hdg ?_
  show W p l e R s m args below meth c H locs cells slots Q (F0 m (pc + 1) ls (.ref (hC + (q + 1 + (zi i).toNatClampNeg)) :: rest))
  rw [zi_cl ⟨g.1, by omega⟩]
  exact kk
theorem cC_sp {dA : Nat → ClassId} {hC : Nat} {S : yS} {q : Nat} (h : spC q = true) : cC dA hC S q = cO dA hC S q := by
  unfold cC
  rw [if_pos h]
theorem cm_lald (X : cCx own p c cc nL s m args DC dA) (hM : CX DC dA hC A S s H locs) {a : Nat} (hq : a = hC + 661) {i : Int} (g : 0 ≤ i ∧ i < 8) (hdg : decode cc pc = .ok (.laload, 1))
    (kk : W p l e R s m args below meth c H locs cells slots Q (F0 m (pc + 1) ls (.long (zl (S.2 661 i)) :: rest))) : W p l e R s m args below meth c H locs cells slots Q (F0 m pc ls (.int (zi i) :: .ref a :: rest)) := by
  subst hq
  refine va_lald X.1.1 X.1.2.1 X.2.1 hM.1 661 1 (n := 8) (f := fun j => zl (S.2 661 j)) (cw_at (by decide)) rfl (zi_in g (by decide)) hdg ?_
  show W p l e R s m args below meth c H locs cells slots Q (F0 m (pc + 1) ls (.long (zl (S.2 661 (((zi i).toNatClampNeg : Nat) : Int))) :: rest))
  rw [zi_cast ⟨g.1, by omega⟩]
  exact kk
theorem cm_lst (X : cCx own p c cc nL s m args DC dA) (hM : CX DC dA hC A S s H locs) {a : Nat} (hq : a = hC + 661) {i z : Int} (g : 0 ≤ i ∧ i < 8) (hdg : decode cc pc = .ok (.lastore, 1))
    (kk : ∀ (H1 : Heap) (locs1 : List Loc) (S2 : yS), S2 = cas S 661 i z → CX DC dA hC A S2 s H1 locs1 → W p l e R s m args below meth c H1 locs1 cells slots Q (F0 m (pc + 1) ls rest)) : W p l e R s m args below meth c H locs cells slots Q (F0 m pc ls (.long (zl z) :: .int (zi i) :: .ref a :: rest)) := by
  subst hq
  refine va_last X.1.1 X.1.2.1 X.2.1 hM.1 (cw_DA hM.2.2) hM.2.1 661 1 (n := 8) (f := fun j => zl (S.2 661 j)) (cw_at (by decide)) rfl (zi_in g (by decide)) hdg (fun H1 locs1 hP _ hS => kk H1 locs1 _ rfl ⟨?_, hS, hM.2.2⟩)
  rw [zi_cl ⟨g.1, by omega⟩, updzL (S.2 661) z g.1] at hP
  rw [← cw_set (S := S) (S' := cas S 661 i z) (i := 661) (by decide) rfl (fun j _ hj => cC_congr rfl (by show (if (j : Int) = 661 then _ else S.2 j) = _; rw [if_neg (by omega)]))]
  exact hP
theorem cm_bast (X : cCx own p c cc nL s m args DC dA) (hM : CX DC dA hC A S s H locs) {a : Nat} (hq : a = hC + 471) {i z : Int} (g : 0 ≤ i ∧ i < 300) (gz : -128 ≤ z ∧ z ≤ 127) (hdg : decode cc pc = .ok (.bastore, 1))
    (kk : ∀ (H1 : Heap) (locs1 : List Loc) (S2 : yS), S2 = cas S 471 i z → CX DC dA hC A S2 s H1 locs1 → W p l e R s m args below meth c H1 locs1 cells slots Q (F0 m (pc + 1) ls rest)) : W p l e R s m args below meth c H locs cells slots Q (F0 m pc ls (.int (zi z) :: .int (zi i) :: .ref a :: rest)) := by
  subst hq
  have hz : vp_nar .byte (zi z) = zi z := by
    rw [vp_nar_byte, zi_b]
    congr 1
    exact Int.bmod_eq_of_le (by omega) (by omega)
  refine va_bast X.1.1 X.1.2.1 X.2.1 hM.1 (cw_DA hM.2.2) hM.2.1 471 3 (n := 300) (f := fun j => zi (S.2 471 j)) (cw_at (by decide)) rfl (zi_in g (by decide)) hdg (fun H1 locs1 hP _ hS => kk H1 locs1 _ rfl ⟨?_, hS, hM.2.2⟩)
  rw [hz, zi_cl ⟨g.1, by omega⟩, updz (S.2 471) z g.1] at hP
  rw [← cw_set (S := S) (S' := cas S 471 i z) (i := 471) (by decide) rfl (fun j _ hj => cC_congr rfl (by show (if (j : Int) = 471 then _ else S.2 j) = _; rw [if_neg (by omega)]))]
  exact hP
/-- System.arraycopy from 0 to 0 between two int arrays -/
def ccp (S : yS) (a b n : Int) : yS := (S.1, fun q => if q = b then (fun j => if 0 ≤ j ∧ j < n then S.2 a j else S.2 b j) else S.2 q)
theorem cm_copy (X : cCx own p c cc nL s m args DC dA) (hM : CX DC dA hC A S s H locs) {q0 q1 n0 n1 : Nat} {z0 z1 : Int} (h0 : cI q0 n0) (h1 : cI q1 n1) (e0 : (q0 : Int) = z0) (e1 : (q1 : Int) = z1) {a0 a1 idx : Nat} (hq0 : a0 = hC + q0) (hq1 : a1 = hC + q1) {n : Int} (g : 0 ≤ n ∧ n ≤ (n0 : Int) ∧ n ≤ (n1 : Int))
    (hl : Cond.methodLink own idx arraycopyName ∈ lw_all) (hnat : Cond.native arraycopyName ∈ lw_all) (hstat : Cond.static arraycopyName ∈ lw_all) (hini : Cond.initialized "java/lang/System" ∈ lw_all) (hls : ls.size = nL) (hfr : 1 ≤ R.frames) (hlo : (rest.map fun v => v.category).sum + (nativeFrameWords "java/lang/System" "arraycopy" 5 + 11) ≤ R.locals) (hdg : decode cc pc = .ok (.invokestatic idx, 3))
    (kk : ∀ (H1 : Heap) (locs1 : List Loc) (S2 : yS), S2 = ccp S z0 z1 n → CX DC dA hC A S2 s H1 locs1 → W p l e R s m args below meth c H1 locs1 cells slots Q (F0 m (pc + 3) ls rest)) : W p l e R s m args below meth c H locs cells slots Q (F0 m pc ls (.int (zi n) :: .int (zi 0) :: .ref a1 :: .int (zi 0) :: .ref a0 :: rest)) := by
  subst hq0 hq1 e0 e1
  have l0 := h0.2.2.2
  have l1 := h1.2.2.2
  have c0 : (zi 0).toNatClampNeg = 0 := by decide
  have cn : (zi n).toNatClampNeg = n.toNat := zi_cl ⟨g.1, by omega⟩
  have p0 : ¬ zi 0 < 0 := by decide
  have pn : ¬ zi n < 0 := fun hh => by
    have := (zi_lt (a := n) (b := 0) ⟨by omega, by omega⟩ (by decide)).mp hh
    omega
  refine va_copyi X.1.1 X.1.2.1 (by rw [hls]; exact X.1.2.2.1) X.1.2.2.2.1 (X.1.2.2.2.2 _ hl) (X.1.2.2.2.2 _ hnat) (X.1.2.2.2.2 _ hstat) (X.1.2.2.2.2 _ hini) X.2.1 hM.1 (cw_DA hM.2.2) hM.2.1 q0 q1 0 0 (by rw [cw_at h0.1, h0.cell]) (by rw [cw_at h1.1, h1.cell]) rfl rfl rfl p0 p0 pn (by rw [c0, cn]; omega) (by rw [c0, cn]; omega) (fun i _ => rfl) hfr hlo hdg (fun H1 locs1 hP _ hS => kk H1 locs1 _ rfl ⟨?_, hS, hM.2.2⟩)
  rw [c0, cn] at hP
  rw [← cw_set (S := S) (S' := ccp S q0 q1 n) (i := q1) h1.1 (h1.cell dA hC (ccp S q0 q1 n)) (fun j _ hj => cC_congr rfl (by show (if (j : Int) = (q1 : Int) then _ else S.2 j) = _; rw [if_neg (by omega)]))]
  have e : (fun j : Nat => zi ((ccp S q0 q1 n).2 q1 j)) = va_cpy (fun j : Nat => zi (S.2 q0 j)) (fun j : Nat => zi (S.2 q1 j)) 0 0 n.toNat := by
    funext j
    show zi ((if (q1 : Int) = (q1 : Int) then (fun j : Int => if 0 ≤ j ∧ j < n then S.2 q0 j else S.2 q1 j) else _) (j : Int)) = if 0 ≤ j ∧ j < 0 + n.toNat then zi (S.2 q0 ((0 + (j - 0) : Nat) : Int)) else zi (S.2 q1 j)
    rw [if_pos rfl]
    by_cases hj : (j : Int) < n
    · have b1 : (0 : Int) ≤ (j : Int) ∧ (j : Int) < n := ⟨by omega, hj⟩
      have b2 : 0 ≤ j ∧ j < 0 + n.toNat := ⟨by omega, by omega⟩
      rw [if_pos b2]
      show zi (if 0 ≤ (j : Int) ∧ (j : Int) < n then S.2 q0 j else S.2 q1 j) = _
      rw [if_pos b1, Nat.zero_add, Nat.sub_zero]
    · have b1 : ¬ ((0 : Int) ≤ (j : Int) ∧ (j : Int) < n) := fun b => hj b.2
      have b2 : ¬ (0 ≤ j ∧ j < 0 + n.toNat) := by omega
      rw [if_neg b2]
      show zi (if 0 ≤ (j : Int) ∧ (j : Int) < n then S.2 q0 j else S.2 q1 j) = _
      rw [if_neg b1]
  rw [e]
  exact hP
variable {y : MethodName} {bytes : ByteArray} {maxL idx : Nat} {ret : Option FieldType} {rm : Room} {As st : List Value}
theorem cu_blind {Bs : List Value} : FrameBlind (va_Pc Bs (CU DC dA hC S)) := fun a U g mk q => ⟨q.1, q.2.1, va_K.moved (u := U) (U := U.calling g mk a) (Vm.Alike.refl U.vm) q.2.2.1, NWs.same (u := U) (U := U.calling g mk a) rfl q.2.2.2⟩
theorem cu_of (X : cCx own p c cc nL s m args DC dA) (hP : va_P DC ccl (cw dA hC S) H) {U : State} (hU : U.heap = H) (hW : s.WarmedH U.vm) : CU DC dA hC S U := ⟨by rw [hU]; exact hP, va_K.moved hW.alike X.2.1, NWs.warm hW X.2.2⟩
abbrev ct_i (l : Launch) (y : MethodName) (bytes : ByteArray) (maxL : Nat) (ret : Option FieldType) (rm : Room) (DC : va_G) (dA : Nat → ClassId) (hC : Nat) (As : List Value) (S : yS) (r : Int) (S1 : yS) : Prop := Met l y (ws_ y bytes maxL ret) rm (va_Pc As (CU DC dA hC S)) (va_Qi (fun (v : Int32) (u : yS) => v = zi r ∧ u = S1) (fun u t => CU DC dA hC u t) (cA hC)) 0 0 (cA hC)
theorem cc_i (X : cCx "ManyEyes" p c cc nL s m args DC dA) (hM : CX DC dA hC A S s H locs) {r : Int} {S1 : yS} (met : ct_i l y bytes maxL ret rm DC dA hC (.ref hC :: As) S r S1) (hT : GoodIn lw_all (wsV "ManyEyes" idx "ManyEyes" y (ws_ y bytes maxL ret))) (hd : y.cls = "ManyEyes" ∧ y.cls ≠ "java/lang/invoke/MethodHandle" ∧ y.cls ≠ "java/lang/invoke/VarHandle" ∧ (parseMethodDescriptor y.desc).map (fun d => d.parameters.length) = some As.length) (hrm : rm.cells = 0 ∧ rm.slots = 0) (hR : rm.frames + 1 ≤ R.frames ∧ 8 + (maxL + 11) + rm.locals ≤ R.locals) (hcs : cells ≤ R.cells ∧ slots ≤ R.slots) (hls : ls.size = nL) (hro : (rest.map fun v => v.category).sum ≤ 8) (hdg : decode cc pc = .ok (.invokevirtual idx, 3)) (hst : st = As.reverse ++ .ref hC :: rest)
    (kk : ∀ (H1 : Heap) (locs1 : List Loc), CX DC dA hC A S1 s H1 locs1 → W p l e R s m args below meth c H1 locs1 cells slots Q (F0 m (pc + 3) ls (.int (zi r) :: rest))) : W p l e R s m args below meth c H locs cells slots Q (F0 m pc ls st) := by
  subst hst
  refine va_calli (va_runV (As := As) (rest := rest) X.1 met (cwV As.length X.1.2.2.2.2 hT rfl hrm.1 hrm.2 hd hR) ⟨cu_blind, va_recv X.2.1 hM.1 (ci := 0) (q0 := 0) rfl (cw_at (by decide)), fun U hU hW => ⟨rfl, cu_of X hM.1 hU hW⟩⟩ rfl rfl hls rfl (lv_room hro) hdg ⟨hcs.1, hcs.2⟩) hM.2.1 (fun q _ hq => hM.2.2 q hq) (fun q hq => hM.2.2 q hq) (fun v u t H1 locs1 ht hvm hp hB hz hk hS => ?_)
  obtain ⟨rfl, rfl⟩ := hp
  exact kk H1 locs1 ⟨by rw [← ht]; exact hB.1, hS, hM.2.2⟩
theorem ccs_i (X : cCx own p c cc nL s m args DC dA) (hM : CX DC dA hC A S s H locs) {r : Int} (met : ms_i l y bytes maxL ret rm As r) (hT : GoodIn lw_all (va_wsS own idx y (ws_ y bytes maxL ret))) (hd : y.cls ≠ "java/lang/invoke/MethodHandle" ∧ y.cls ≠ "java/lang/invoke/VarHandle" ∧ (parseMethodDescriptor y.desc).map (fun d => d.parameters.length) = some As.length) (hrm : rm.cells = 0 ∧ rm.slots = 0) (hR : rm.frames + 1 ≤ R.frames ∧ 8 + (maxL + 11) + rm.locals ≤ R.locals) (hcs : cells ≤ R.cells ∧ slots ≤ R.slots) (hls : ls.size = nL) (hro : (rest.map fun v => v.category).sum ≤ 8) (hdg : decode cc pc = .ok (.invokestatic idx, 3)) (hst : st = As.reverse ++ rest)
    (kk : ∀ (H1 : Heap) (locs1 : List Loc), CX DC dA hC A S s H1 locs1 → W p l e R s m args below meth c H1 locs1 cells slots Q (F0 m (pc + 3) ls (.int (zi r) :: rest))) : W p l e R s m args below meth c H locs cells slots Q (F0 m pc ls st) :=
  gcs_i X.1 hM.2.1 met hT hd hrm hR hcs hls hro hdg hst (fun H1 locs1 hk hS => kk H1 locs1 ⟨hM.1.kept (fun k q hq => hk q.1 ((hM.1 k q hq).lt)), hS, hM.2.2⟩)
abbrev ct_z (l : Launch) (y : MethodName) (bytes : ByteArray) (maxL : Nat) (ret : Option FieldType) (rm : Room) (DC : va_G) (dA : Nat → ClassId) (hC : Nat) (As : List Value) (S : yS) (r : Bool) (S1 : yS) : Prop := Met l y (ws_ y bytes maxL ret) rm (va_Pc As (CU DC dA hC S)) (va_Qi (fun (v : Int32) (u : yS) => v = zi (bz r) ∧ u = S1) (fun u t => CU DC dA hC u t) (cA hC)) 0 0 (cA hC)
theorem cc_z (X : cCx "ManyEyes" p c cc nL s m args DC dA) (hM : CX DC dA hC A S s H locs) {r : Bool} {S1 : yS} (met : ct_z l y bytes maxL ret rm DC dA hC (.ref hC :: As) S r S1) (hT : GoodIn lw_all (wsV "ManyEyes" idx "ManyEyes" y (ws_ y bytes maxL ret))) (hd : y.cls = "ManyEyes" ∧ y.cls ≠ "java/lang/invoke/MethodHandle" ∧ y.cls ≠ "java/lang/invoke/VarHandle" ∧ (parseMethodDescriptor y.desc).map (fun d => d.parameters.length) = some As.length) (hrm : rm.cells = 0 ∧ rm.slots = 0) (hR : rm.frames + 1 ≤ R.frames ∧ 8 + (maxL + 11) + rm.locals ≤ R.locals) (hcs : cells ≤ R.cells ∧ slots ≤ R.slots) (hls : ls.size = nL) (hro : (rest.map fun v => v.category).sum ≤ 8) (hdg : decode cc pc = .ok (.invokevirtual idx, 3)) (hst : st = As.reverse ++ .ref hC :: rest)
    (kk : ∀ (H1 : Heap) (locs1 : List Loc), CX DC dA hC A S1 s H1 locs1 → W p l e R s m args below meth c H1 locs1 cells slots Q (F0 m (pc + 3) ls (.int (zi (bz r)) :: rest))) : W p l e R s m args below meth c H locs cells slots Q (F0 m pc ls st) := by
  subst hst
  refine va_calli (va_runV (As := As) (rest := rest) X.1 met (cwV As.length X.1.2.2.2.2 hT rfl hrm.1 hrm.2 hd hR) ⟨cu_blind, va_recv X.2.1 hM.1 (ci := 0) (q0 := 0) rfl (cw_at (by decide)), fun U hU hW => ⟨rfl, cu_of X hM.1 hU hW⟩⟩ rfl rfl hls rfl (lv_room hro) hdg ⟨hcs.1, hcs.2⟩) hM.2.1 (fun q _ hq => hM.2.2 q hq) (fun q hq => hM.2.2 q hq) (fun v u t H1 locs1 ht hvm hp hB hz hk hS => ?_)
  obtain ⟨rfl, rfl⟩ := hp
  exact kk H1 locs1 ⟨by rw [← ht]; exact hB.1, hS, hM.2.2⟩
theorem ccs_z (X : cCx own p c cc nL s m args DC dA) (hM : CX DC dA hC A S s H locs) {r : Bool} (met : ms_z l y bytes maxL ret rm As r) (hT : GoodIn lw_all (va_wsS own idx y (ws_ y bytes maxL ret))) (hd : y.cls ≠ "java/lang/invoke/MethodHandle" ∧ y.cls ≠ "java/lang/invoke/VarHandle" ∧ (parseMethodDescriptor y.desc).map (fun d => d.parameters.length) = some As.length) (hrm : rm.cells = 0 ∧ rm.slots = 0) (hR : rm.frames + 1 ≤ R.frames ∧ 8 + (maxL + 11) + rm.locals ≤ R.locals) (hcs : cells ≤ R.cells ∧ slots ≤ R.slots) (hls : ls.size = nL) (hro : (rest.map fun v => v.category).sum ≤ 8) (hdg : decode cc pc = .ok (.invokestatic idx, 3)) (hst : st = As.reverse ++ rest)
    (kk : ∀ (H1 : Heap) (locs1 : List Loc), CX DC dA hC A S s H1 locs1 → W p l e R s m args below meth c H1 locs1 cells slots Q (F0 m (pc + 3) ls (.int (zi (bz r)) :: rest))) : W p l e R s m args below meth c H locs cells slots Q (F0 m pc ls st) :=
  gcs_z X.1 hM.2.1 met hT hd hrm hR hcs hls hro hdg hst (fun H1 locs1 hk hS => kk H1 locs1 ⟨hM.1.kept (fun k q hq => hk q.1 ((hM.1 k q hq).lt)), hS, hM.2.2⟩)
abbrev ct_l (l : Launch) (y : MethodName) (bytes : ByteArray) (maxL : Nat) (ret : Option FieldType) (rm : Room) (DC : va_G) (dA : Nat → ClassId) (hC : Nat) (As : List Value) (S : yS) (r : Int) (S1 : yS) : Prop := Met l y (ws_ y bytes maxL ret) rm (va_Pc As (CU DC dA hC S)) (va_Ql (fun (v : Int64) (u : yS) => v = zl r ∧ u = S1) (fun u t => CU DC dA hC u t) (cA hC)) 0 0 (cA hC)
theorem cc_l (X : cCx "ManyEyes" p c cc nL s m args DC dA) (hM : CX DC dA hC A S s H locs) {r : Int} {S1 : yS} (met : ct_l l y bytes maxL ret rm DC dA hC (.ref hC :: As) S r S1) (hT : GoodIn lw_all (wsV "ManyEyes" idx "ManyEyes" y (ws_ y bytes maxL ret))) (hd : y.cls = "ManyEyes" ∧ y.cls ≠ "java/lang/invoke/MethodHandle" ∧ y.cls ≠ "java/lang/invoke/VarHandle" ∧ (parseMethodDescriptor y.desc).map (fun d => d.parameters.length) = some As.length) (hrm : rm.cells = 0 ∧ rm.slots = 0) (hR : rm.frames + 1 ≤ R.frames ∧ 8 + (maxL + 11) + rm.locals ≤ R.locals) (hcs : cells ≤ R.cells ∧ slots ≤ R.slots) (hls : ls.size = nL) (hro : (rest.map fun v => v.category).sum ≤ 8) (hdg : decode cc pc = .ok (.invokevirtual idx, 3)) (hst : st = As.reverse ++ .ref hC :: rest)
    (kk : ∀ (H1 : Heap) (locs1 : List Loc), CX DC dA hC A S1 s H1 locs1 → W p l e R s m args below meth c H1 locs1 cells slots Q (F0 m (pc + 3) ls (.long (zl r) :: rest))) : W p l e R s m args below meth c H locs cells slots Q (F0 m pc ls st) := by
  subst hst
  refine va_calll (va_runV (As := As) (rest := rest) X.1 met (cwV As.length X.1.2.2.2.2 hT rfl hrm.1 hrm.2 hd hR) ⟨cu_blind, va_recv X.2.1 hM.1 (ci := 0) (q0 := 0) rfl (cw_at (by decide)), fun U hU hW => ⟨rfl, cu_of X hM.1 hU hW⟩⟩ rfl rfl hls rfl (lv_room hro) hdg ⟨hcs.1, hcs.2⟩) hM.2.1 (fun q _ hq => hM.2.2 q hq) (fun q hq => hM.2.2 q hq) (fun v u t H1 locs1 ht hvm hp hB hz hk hS => ?_)
  obtain ⟨rfl, rfl⟩ := hp
  exact kk H1 locs1 ⟨by rw [← ht]; exact hB.1, hS, hM.2.2⟩
theorem ccs_l (X : cCx own p c cc nL s m args DC dA) (hM : CX DC dA hC A S s H locs) {r : Int} (met : ms_l l y bytes maxL ret rm As r) (hT : GoodIn lw_all (va_wsS own idx y (ws_ y bytes maxL ret))) (hd : y.cls ≠ "java/lang/invoke/MethodHandle" ∧ y.cls ≠ "java/lang/invoke/VarHandle" ∧ (parseMethodDescriptor y.desc).map (fun d => d.parameters.length) = some As.length) (hrm : rm.cells = 0 ∧ rm.slots = 0) (hR : rm.frames + 1 ≤ R.frames ∧ 8 + (maxL + 11) + rm.locals ≤ R.locals) (hcs : cells ≤ R.cells ∧ slots ≤ R.slots) (hls : ls.size = nL) (hro : (rest.map fun v => v.category).sum ≤ 8) (hdg : decode cc pc = .ok (.invokestatic idx, 3)) (hst : st = As.reverse ++ rest)
    (kk : ∀ (H1 : Heap) (locs1 : List Loc), CX DC dA hC A S s H1 locs1 → W p l e R s m args below meth c H1 locs1 cells slots Q (F0 m (pc + 3) ls (.long (zl r) :: rest))) : W p l e R s m args below meth c H locs cells slots Q (F0 m pc ls st) :=
  gcs_l X.1 hM.2.1 met hT hd hrm hR hcs hls hro hdg hst (fun H1 locs1 hk hS => kk H1 locs1 ⟨hM.1.kept (fun k q hq => hk q.1 ((hM.1 k q hq).lt)), hS, hM.2.2⟩)
abbrev ct_v (l : Launch) (y : MethodName) (bytes : ByteArray) (maxL : Nat) (rm : Room) (DC : va_G) (dA : Nat → ClassId) (hC : Nat) (As : List Value) (S : yS) (S1 : yS) : Prop := Met l y (ws_ y bytes maxL none) rm (va_Pc As (CU DC dA hC S)) (va_Qv (fun (u : yS) => u = S1) (fun u t => CU DC dA hC u t) (cA hC)) 0 0 (cA hC)
theorem cc_v (X : cCx "ManyEyes" p c cc nL s m args DC dA) (hM : CX DC dA hC A S s H locs) {S1 : yS} (met : ct_v l y bytes maxL rm DC dA hC (.ref hC :: As) S S1) (hT : GoodIn lw_all (wsV "ManyEyes" idx "ManyEyes" y (ws_ y bytes maxL none))) (hd : y.cls = "ManyEyes" ∧ y.cls ≠ "java/lang/invoke/MethodHandle" ∧ y.cls ≠ "java/lang/invoke/VarHandle" ∧ (parseMethodDescriptor y.desc).map (fun d => d.parameters.length) = some As.length) (hrm : rm.cells = 0 ∧ rm.slots = 0) (hR : rm.frames + 1 ≤ R.frames ∧ 8 + (maxL + 11) + rm.locals ≤ R.locals) (hcs : cells ≤ R.cells ∧ slots ≤ R.slots) (hls : ls.size = nL) (hro : (rest.map fun v => v.category).sum ≤ 8) (hdg : decode cc pc = .ok (.invokevirtual idx, 3)) (hst : st = As.reverse ++ .ref hC :: rest)
    (kk : ∀ (H1 : Heap) (locs1 : List Loc), CX DC dA hC A S1 s H1 locs1 → W p l e R s m args below meth c H1 locs1 cells slots Q (F0 m (pc + 3) ls rest)) : W p l e R s m args below meth c H locs cells slots Q (F0 m pc ls st) := by
  subst hst
  refine va_callv (va_runV (As := As) (rest := rest) X.1 met (cwV As.length X.1.2.2.2.2 hT rfl hrm.1 hrm.2 hd hR) ⟨cu_blind, va_recv X.2.1 hM.1 (ci := 0) (q0 := 0) rfl (cw_at (by decide)), fun U hU hW => ⟨rfl, cu_of X hM.1 hU hW⟩⟩ rfl rfl hls rfl (lv_room hro) hdg ⟨hcs.1, hcs.2⟩) hM.2.1 (fun q _ hq => hM.2.2 q hq) (fun q hq => hM.2.2 q hq) (fun u t H1 locs1 ht hvm hp hB hz hk hS => ?_)
  subst hp
  exact kk H1 locs1 ⟨by rw [← ht]; exact hB.1, hS, hM.2.2⟩
end CR
theorem co_i {l : Launch} {y : MethodName} {cc : ByteArray} {nL : Nat} {rm : Room} {DC : va_G} {dA : Nat → ClassId} {hC : Nat} {As : List Value} {S S1 : yS} {r : Int} (hy : plainName y.cls = true) (hAs : (lg_sl As).length ≤ nL) (body : ∀ (p : Program) (e : Env) (s : State) (m : MethodId) (args : Array Value) (below : List Frame) (meth : Method) (c : Code) (Q : State → Prop) (ls : Array Slot), cCx y.cls p c cc nL s m args DC dA → (∀ (pc : Nat) (ls : Array Slot) (H : Heap) (locs : List Loc) (v : Int) (S2 : yS), v = r → S2 = S1 → decode cc pc = .ok (.ireturn, 1) → CX DC dA hC (cA hC) S2 s H locs → W p l e rm s m args below meth c H locs 0 0 Q (F0 m pc ls [.int (zi v)])) → lv_has ls nL (lv_args 0 As) → CX DC dA hC (cA hC) S s s.heap [] → W p l e rm s m args below meth c s.heap [] 0 0 Q (F0 m 0 ls [])) : ct_i l y cc nL (some .int) rm DC dA hC As S r S1 := by
  refine Met.ofW (cc := cc) (maxL := nL) (ret := (some .int)) hy rfl ?_
  intro p e s m args below meth c s₁ B hml hv
  obtain ⟨rfl, hP, hK, hN⟩ := hv
  have hx := B.exec
  have hb := B.bytes
  have hr := B.returns
  have hlocks := B.notSynchronized
  have hts := atoms_spec (ws := ws_ y cc nL (some .int)) B.pre
  have hts : ∀ w ∈ lw_all, w.before _ s = true := fun w h => hts w (List.mem_cons_of_mem _ h)
  have hown : s.vm.findClass y.cls = some m.cls := findClass_of_methodNamed B.named
  have hl := lv_entry As (n := nL) hAs
  rw [lg_entry_eq]
  generalize (lg_sl As ++ List.replicate (nL - (lg_sl As).length) Slot.unset).toArray = ls at hl ⊢
  refine body p e s m _ below meth c _ ls ⟨⟨hx, hb, hml, hown, hts⟩, hK, hN⟩ ?_ hl ⟨hP, va_S.rf, fun _ h => h⟩
  intro pc ls H locs v S2 e1 e2 hd hM
  subst e1
  subst e2
  exact W.iret hx hb hr (fun t ht hW => ⟨⟨_, _, rfl, ⟨rfl, rfl⟩, by rw [ht]; exact hM.1, va_K.moved hW.alike hK, NWs.warm hW hN⟩, hM.2.1.F ht⟩) hM.2.1.2.2 hd
theorem co_z {l : Launch} {y : MethodName} {cc : ByteArray} {nL : Nat} {rm : Room} {DC : va_G} {dA : Nat → ClassId} {hC : Nat} {As : List Value} {S S1 : yS} {r : Bool} (hy : plainName y.cls = true) (hAs : (lg_sl As).length ≤ nL) (body : ∀ (p : Program) (e : Env) (s : State) (m : MethodId) (args : Array Value) (below : List Frame) (meth : Method) (c : Code) (Q : State → Prop) (ls : Array Slot), cCx y.cls p c cc nL s m args DC dA → (∀ (pc : Nat) (ls : Array Slot) (H : Heap) (locs : List Loc) (v : Bool) (S2 : yS), v = r → S2 = S1 → decode cc pc = .ok (.ireturn, 1) → CX DC dA hC (cA hC) S2 s H locs → W p l e rm s m args below meth c H locs 0 0 Q (F0 m pc ls [.int (zi (bz v))])) → lv_has ls nL (lv_args 0 As) → CX DC dA hC (cA hC) S s s.heap [] → W p l e rm s m args below meth c s.heap [] 0 0 Q (F0 m 0 ls [])) : ct_z l y cc nL (some .boolean) rm DC dA hC As S r S1 := by
  refine Met.ofW (cc := cc) (maxL := nL) (ret := (some .boolean)) hy rfl ?_
  intro p e s m args below meth c s₁ B hml hv
  obtain ⟨rfl, hP, hK, hN⟩ := hv
  have hx := B.exec
  have hb := B.bytes
  have hr := B.returns
  have hlocks := B.notSynchronized
  have hts := atoms_spec (ws := ws_ y cc nL (some .boolean)) B.pre
  have hts : ∀ w ∈ lw_all, w.before _ s = true := fun w h => hts w (List.mem_cons_of_mem _ h)
  have hown : s.vm.findClass y.cls = some m.cls := findClass_of_methodNamed B.named
  have hl := lv_entry As (n := nL) hAs
  rw [lg_entry_eq]
  generalize (lg_sl As ++ List.replicate (nL - (lg_sl As).length) Slot.unset).toArray = ls at hl ⊢
  refine body p e s m _ below meth c _ ls ⟨⟨hx, hb, hml, hown, hts⟩, hK, hN⟩ ?_ hl ⟨hP, va_S.rf, fun _ h => h⟩
  intro pc ls H locs v S2 e1 e2 hd hM
  subst e1
  subst e2
  exact W.zret hx hb hr (bz_nar _) (fun t ht hW => ⟨⟨_, _, rfl, ⟨rfl, rfl⟩, by rw [ht]; exact hM.1, va_K.moved hW.alike hK, NWs.warm hW hN⟩, hM.2.1.F ht⟩) hM.2.1.2.2 hd
theorem co_l {l : Launch} {y : MethodName} {cc : ByteArray} {nL : Nat} {rm : Room} {DC : va_G} {dA : Nat → ClassId} {hC : Nat} {As : List Value} {S S1 : yS} {r : Int} (hy : plainName y.cls = true) (hAs : (lg_sl As).length ≤ nL) (body : ∀ (p : Program) (e : Env) (s : State) (m : MethodId) (args : Array Value) (below : List Frame) (meth : Method) (c : Code) (Q : State → Prop) (ls : Array Slot), cCx y.cls p c cc nL s m args DC dA → (∀ (pc : Nat) (ls : Array Slot) (H : Heap) (locs : List Loc) (v : Int) (S2 : yS), v = r → S2 = S1 → decode cc pc = .ok (.lreturn, 1) → CX DC dA hC (cA hC) S2 s H locs → W p l e rm s m args below meth c H locs 0 0 Q (F0 m pc ls [.long (zl v)])) → lv_has ls nL (lv_args 0 As) → CX DC dA hC (cA hC) S s s.heap [] → W p l e rm s m args below meth c s.heap [] 0 0 Q (F0 m 0 ls [])) : ct_l l y cc nL (some .long) rm DC dA hC As S r S1 := by
  refine Met.ofW (cc := cc) (maxL := nL) (ret := (some .long)) hy rfl ?_
  intro p e s m args below meth c s₁ B hml hv
  obtain ⟨rfl, hP, hK, hN⟩ := hv
  have hx := B.exec
  have hb := B.bytes
  have hr := B.returns
  have hlocks := B.notSynchronized
  have hts := atoms_spec (ws := ws_ y cc nL (some .long)) B.pre
  have hts : ∀ w ∈ lw_all, w.before _ s = true := fun w h => hts w (List.mem_cons_of_mem _ h)
  have hown : s.vm.findClass y.cls = some m.cls := findClass_of_methodNamed B.named
  have hl := lv_entry As (n := nL) hAs
  rw [lg_entry_eq]
  generalize (lg_sl As ++ List.replicate (nL - (lg_sl As).length) Slot.unset).toArray = ls at hl ⊢
  refine body p e s m _ below meth c _ ls ⟨⟨hx, hb, hml, hown, hts⟩, hK, hN⟩ ?_ hl ⟨hP, va_S.rf, fun _ h => h⟩
  intro pc ls H locs v S2 e1 e2 hd hM
  subst e1
  subst e2
  exact W.lret hx hb hr (fun t ht hW => ⟨⟨_, _, rfl, ⟨rfl, rfl⟩, by rw [ht]; exact hM.1, va_K.moved hW.alike hK, NWs.warm hW hN⟩, hM.2.1.F ht⟩) hM.2.1.2.2 hd
theorem co_v {l : Launch} {y : MethodName} {cc : ByteArray} {nL : Nat} {rm : Room} {DC : va_G} {dA : Nat → ClassId} {hC : Nat} {As : List Value} {S S1 : yS} (hy : plainName y.cls = true) (hAs : (lg_sl As).length ≤ nL) (body : ∀ (p : Program) (e : Env) (s : State) (m : MethodId) (args : Array Value) (below : List Frame) (meth : Method) (c : Code) (Q : State → Prop) (ls : Array Slot), cCx y.cls p c cc nL s m args DC dA → (∀ (pc : Nat) (ls : Array Slot) (H : Heap) (locs : List Loc) (S2 : yS), S2 = S1 → decode cc pc = .ok (.return_, 1) → CX DC dA hC (cA hC) S2 s H locs → W p l e rm s m args below meth c H locs 0 0 Q (F0 m pc ls [])) → lv_has ls nL (lv_args 0 As) → CX DC dA hC (cA hC) S s s.heap [] → W p l e rm s m args below meth c s.heap [] 0 0 Q (F0 m 0 ls [])) : ct_v l y cc nL rm DC dA hC As S S1 := by
  refine Met.ofW (cc := cc) (maxL := nL) (ret := none) hy rfl ?_
  intro p e s m args below meth c s₁ B hml hv
  obtain ⟨rfl, hP, hK, hN⟩ := hv
  have hx := B.exec
  have hb := B.bytes
  have hr := B.returns
  have hlocks := B.notSynchronized
  have hts := atoms_spec (ws := ws_ y cc nL none) B.pre
  have hts : ∀ w ∈ lw_all, w.before _ s = true := fun w h => hts w (List.mem_cons_of_mem _ h)
  have hown : s.vm.findClass y.cls = some m.cls := findClass_of_methodNamed B.named
  have hl := lv_entry As (n := nL) hAs
  rw [lg_entry_eq]
  generalize (lg_sl As ++ List.replicate (nL - (lg_sl As).length) Slot.unset).toArray = ls at hl ⊢
  refine body p e s m _ below meth c _ ls ⟨⟨hx, hb, hml, hown, hts⟩, hK, hN⟩ ?_ hl ⟨hP, va_S.rf, fun _ h => h⟩
  intro pc ls H locs S2 e2 hd hM
  skip
  subst e2
  exact W.vret hx hb hr (fun t ht hW => ⟨⟨_, rfl, rfl, by rw [ht]; exact hM.1, va_K.moved hW.alike hK, NWs.warm hW hN⟩, hM.2.1.F ht⟩) hM.2.1.2.2 hd
