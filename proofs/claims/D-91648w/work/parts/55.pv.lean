/-! a sum's steps worked on a pile, over Now; the call of Sum.of -/
set_option maxRecDepth 100000
abbrev pS : Type := List Int × List Bool × yS
def pvH (st : pS) (v : Int) : Option pS := bd2 (E_held st.2.2 v) (fun z S => some (z :: st.1, st.2.1, S))
def pv2 (o : Int) (x y : Int) (vs : List Int) (bs : List Bool) (S : yS) : Option pS :=
  if o = 3 then gd (r64 x ∧ r64 y) (pvH (vs, bs, S) (x + y))
  else if o = 4 then gd (r64 x ∧ r64 y) (pvH (vs, bs, S) (x - y))
  else if o = 5 then gd (r64 x ∧ r64 y) (pvH (vs, bs, S) (x * y))
  else if o = 6 then gd (r64 x ∧ r64 y) (if y = 0 then pvH (vs, bs, S) 0 else pvH (vs, bs, S) (x.tdiv y))
  else if o = 7 then gd (r64 x ∧ r64 y) (some ((if x ≤ y then x else y) :: vs, bs, S))
  else if o = 8 then gd (r64 x ∧ r64 y) (some ((if x < y then y else x) :: vs, bs, S))
  else gd (r64 x ∧ r64 y ∧ r64 (x - y)) (some (vs, (if o = 10 then decide (x - y < 0) else if o = 11 then decide (x - y ≤ 0) else if o = 12 then decide (0 < x - y) else if o = 13 then decide (0 ≤ x - y) else if o = 14 then decide (x - y = 0) else (!decide (x - y = 0))) :: bs, S))
def pv1 (o v : Int) (st : pS) : Option pS :=
  if o = 0 then gd (r32 v) (pvH st v)
  else if o = 1 then gd ((0 : Int) ≤ v ∧ v < 8) (pvH st (st.2.2.2 661 v))
  else if o = 30 then gd (r32 (st.2.2.1 23)) (pvH st (st.2.2.1 23))
  else if o = 31 then gd ((0 : Int) ≤ v ∧ v < 16) (gd (r32 (st.2.2.2 659 v)) (pvH st (st.2.2.2 659 v)))
  else if o = 32 then gd ((0 : Int) ≤ v ∧ v < 16) (gd (r32 (st.2.2.2 660 v)) (pvH st (st.2.2.2 660 v)))
  else if o = 2 then match st.1 with
    | x :: vs => some ((-x) :: vs, st.2.1, st.2.2)
    | [] => none
  else if o = 20 then match st.2.1 with
    | b :: bs => some (st.1, (!b) :: bs, st.2.2)
    | [] => none
  else if o = 21 then match st.2.1 with
    | b :: a :: bs => some (st.1, (a && b) :: bs, st.2.2)
    | _ => none
  else if o = 22 then match st.2.1 with
    | b :: a :: bs => some (st.1, (a || b) :: bs, st.2.2)
    | _ => none
  else match st.1 with
    | y :: x :: vs => pv2 o x y vs st.2.1 st.2.2
    | _ => none
def pv : tC → pS → Option pS
  | [], st => some st
  | (o, v) :: c, st => bd (pv1 o v st) (pv c)
theorem pv_app (a b : tC) : ∀ st, pv (a ++ b) st = bd (pv a st) (pv b) := by
  induction a with
  | nil => intro st; rfl
  | cons w a ih =>
    intro st
    obtain ⟨o, v⟩ := w
    show bd (pv1 o v st) (pv (a ++ b)) = bd (bd (pv1 o v st) (pv a)) (pv b)
    cases h : pv1 o v st with
    | none => rfl
    | some s1 => exact ih s1
theorem pv_inv {a b : tC} {st r : pS} (h : pv (a ++ b) st = some r) : ∃ st1, pv a st = some st1 ∧ pv b st1 = some r := by
  rw [pv_app] at h
  exact bd_inv h
theorem pv_one {o v : Int} {st r : pS} (h : pv [(o, v)] st = some r) : pv1 o v st = some r := by
  obtain ⟨s1, h1, h2⟩ := bd_inv h
  cases Option.some.inj h2
  exact h1
theorem pvH_inv {st r : pS} {v : Int} (h : pvH st v = some r) : ∃ z S1, E_held st.2.2 v = some (z, S1) ∧ r = (z :: st.1, st.2.1, S1) := by
  obtain ⟨z, S1, h1, h2⟩ := bd2_inv h
  exact ⟨z, S1, h1, (Option.some.inj h2).symm⟩
theorem mH.pre {l : Launch} {y : MethodName} {bytes : ByteArray} {maxL : Nat} {ret : Option FieldType} {rm : Room} {Z : hZ} {As : List Value} {n0 : Nat} {Pre Pre' : Heap → Prop} {Rr : Option Value → Heap → Prop} {F : Nat → Prop} {mc ms : Nat} (h : mH l y bytes maxL ret rm Z As n0 Pre Rr F mc ms) (hp : ∀ H, Pre' H → Pre H) : mH l y bytes maxL ret rm Z As n0 Pre' Rr F mc ms := by
  intro p e hA hC hK s m args below hfr happ h2 hk
  exact h p e hA hC hK s m args below hfr happ ⟨h2.1, h2.2.1, h2.2.2.1, hp _ h2.2.2.2⟩ hk
/-- Sum.of of the cell a, at the heap H: what it answers -/
def EvP (l : Launch) (Z : hZ) (nw N : Nat) (H : Heap) (a : Nat) (z : Int) (S1 : yS) : Prop := ∃ (C : String) (ci fN : Nat) (T : u_T) (bytes : ByteArray) (maxL f L : Nat) (fs : List Value), tcl[ci]? = some (C, T, fN) ∧ va_at Z.D tcl (a, .inr (ci, fs)) H ∧ C ∈ gSumC ∧ Cond.selects C xOf (yOf C) ∈ lw_all ∧ Cond.instanceMethod (yOf C) ∈ lw_all ∧ Cond.initialized C ∈ lw_all ∧ Cond.code (yOf C) bytes maxL (some .long) ∈ lw_all ∧ maxL ≤ 8 ∧ f ≤ 6 + N ∧ L ≤ 200 + 40 * N ∧ mH l (yOf C) bytes maxL (some .long) (rmS f L) Z [.ref a, .ref nw] H.size (fun H' => H' = H) (fun w H' => w = some (.long (zl z)) ∧ NowW Z nw S1 H') (fE nw) 0 0
section EO
variable {p : Program} {l : Launch} {e : Env} {R : Room} {s : State} {m : MethodId} {args : Array Value} {below : List Frame} {meth : Method} {c : Code} {H : Heap} {locs : List Loc} {Q : State → Prop} {cc : ByteArray} {pc nL : Nat} {ls : Array Slot} {rest : List Value} {Z : hZ} {nw a N : Nat} {S1 : yS} {own : String} {idx count : Nat}
theorem tk_of (X : hCx own p c cc nL s m args Z) (hb : Z.b ≤ nw) (hS : va_S (hA (fE nw) s.heap.size) s.heap H locs) {z : Int} (hE : EvP l Z nw N H a z S1) (hl0 : Cond.methodLink own idx xOf ∈ lw_all) (hR : 7 + N ≤ R.frames ∧ 227 + 40 * N ≤ R.locals) (hls : ls.size = nL) (hro : (rest.map fun v => v.category).sum ≤ 8) (hdg : decode cc pc = .ok (.invokeinterface idx count, 5))
    (kk : ∀ (H1 : Heap) (locs1 : List Loc), NowW Z nw S1 H1 → hFr (fE nw) H H1 → va_S (hA (fE nw) s.heap.size) s.heap H1 locs1 → W p l e R s m args below meth c H1 locs1 0 0 Q (F0 m (pc + 5) ls (.long (zl z) :: rest))) : W p l e R s m args below meth c H locs 0 0 Q (F0 m pc ls (.ref nw :: .ref a :: rest)) := by
  obtain ⟨C, ci, fN, T, bytes, maxL, f, L, fs, h1, h2, h3, h4, h5, h6, h7, h8, h9, h10, h11⟩ := hE
  obtain ⟨-, hat⟩ := X.2.1.1 ci _ h1
  refine hcF (As := [.ref nw]) (C := C) X hS (fun a h => by rw [h]; exact hb) h11 rfl (fun a h => Or.inl h) (va_recv X.2.1 (va_one h2) (q0 := 0) h1 rfl) hat (lw_F hl0 h4 h5 h6 h7) (X.2.2.1.2.2.2.2.2.2.2.1.2.2.2.2.2.1 C h3) (show hdS xOf 1 by decide +kernel) ⟨rfl, rfl⟩ ⟨by show f + 1 ≤ R.frames; omega, by show 8 + (maxL + 11) + L ≤ R.locals; omega⟩ ⟨Nat.zero_le _, Nat.zero_le _⟩ hls hro hdg rfl (fun v H1 locs1 hv hfr hS => ?_)
  obtain ⟨rfl, hN⟩ := hv
  exact kk H1 locs1 hN hfr hS
end EO
theorem EvP.up {l : Launch} {Z : hZ} {nw N M : Nat} {H : Heap} {a : Nat} {z : Int} {S1 : yS} (h : EvP l Z nw N H a z S1) (hm : N ≤ M) : EvP l Z nw M H a z S1 := by
  obtain ⟨C, ci, fN, T, bytes, maxL, f, L, fs, h1, h2, h3, h4, h5, h6, h7, h8, h9, h10, h11⟩ := h
  exact ⟨C, ci, fN, T, bytes, maxL, f, L, fs, h1, h2, h3, h4, h5, h6, h7, h8, by omega, by omega, h11⟩
theorem vf_X16 : hCl tcl lw_all 10 0 "ManyEyes$Minus" "x" "LManyEyes$Sum;" := ⟨TX16, 1, RX16, rfl, in_X16, by decide, rfl, rfl, rfl⟩
theorem vf_X17m : hCl tcl lw_all 11 0 "ManyEyes$Least" "most" "Z" := ⟨TX17, 3, RX17, rfl, in_X17, by decide, rfl, rfl, rfl⟩
theorem vf_X17a : hCl tcl lw_all 11 1 "ManyEyes$Least" "a" "LManyEyes$Sum;" := ⟨TX17, 3, RX17, rfl, in_X17, by decide, rfl, rfl, rfl⟩
theorem vf_X17b : hCl tcl lw_all 11 2 "ManyEyes$Least" "b" "LManyEyes$Sum;" := ⟨TX17, 3, RX17, rfl, in_X17, by decide, rfl, rfl, rfl⟩
/-- a sum's tree: what working its steps leaves, Sum.of answers -/
def EvS (l : Launch) (Z : hZ) (nw N : Nat) : Prop := ∀ (A : Nat → Prop) (H : Heap) (code : tC) (a : Nat) (S : yS) (vs : List Int) (bs : List Bool) (r : pS), SumH Z N A H code a → ¬ A nw → NowW Z nw S H → pv code (vs, bs, S) = some r → ∃ z S1, r = (z :: vs, bs, S1) ∧ EvP l Z nw N H a z S1
theorem w_minus (l : Launch) (Z : hZ) (nw N : Nat) (H : Heap) (a x : Nat) (S1 : yS) (z : Int) (hb : Z.b ≤ nw) (hA : va_at Z.D tcl (a, .inr (10, [.ref x])) H) (hE : EvP l Z nw N H x z S1) : mH l yX16_of cX16_of 2 (some .long) (rmS (7 + N) (240 + 40 * N)) Z [.ref a, .ref nw] H.size (fun H' => H' = H) (fun w H' => w = some (.long (zl (-z))) ∧ NowW Z nw S1 H') (fE nw) 0 0 := by
  refine goHl (by decide +kernel) (Nat.le_of_ble_eq_true rfl) ?_
  intro p e s m args below meth c Q ls X hret hl hP hn hS hnm
  subst hP
  have hx := X.1.1
  have hbb := X.1.2.1
  replace hl : lv_has ls 2 [(0, .ref a), (1, .ref nw)] := hl
  refine lv_aload_n hx hbb dX16_of_0 rfl (lv_at hl 0 rfl) ?_
  refine h_get X.1 X.2.1 hA vf_X16 q849 rfl dX16_of_1 ?_
  refine lv_aload_n hx hbb dX16_of_4 rfl (lv_at hl 1 rfl) ?_
  refine tk_of (rest := []) X hb hS hE q1033 ⟨Nat.le_refl _, by show 227 + 40 * N ≤ 240 + 40 * N; omega⟩ hl.1 (Nat.le_of_ble_eq_true rfl) dX16_of_5 (fun H1 locs1 hN hfr hS => ?_)
  refine g_lneg hx hbb dX16_of_10 ?_
  exact hret _ _ _ _ _ dX16_of_11 ⟨rfl, hN⟩ hS
