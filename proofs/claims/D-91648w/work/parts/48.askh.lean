/-! asks on the heap -/
set_option maxRecDepth 100000
def cmO (s : Int) : Int := if s = 60 then 10 else if s = 303 then 11 else if s = 62 then 12 else if s = 304 then 13 else if s = 61 then 14 else 15
abbrev isCm (s : Int) : Prop := s = 60 ∨ s = 62 ∨ s = 61 ∨ s = 35 ∨ s = 303 ∨ s = 304
def joinA (b : Bool) : List tC → tC
  | [] => []
  | c :: cs => c ++ (cs.map (fun x => x ++ [((if b then 21 else 22 : Int), (0 : Int))])).flatten
theorem joinA_app (b : Bool) {cs : List tC} (h : cs ≠ []) (c : tC) : joinA b (cs ++ [c]) = joinA b cs ++ (c ++ [((if b then 21 else 22 : Int), 0)]) := by
  cases cs with
  | nil => exact absurd rfl h
  | cons a cs => simp [joinA]
def AskH (Z : hZ) : Nat → (Nat → Prop) → Heap → tC → Nat → Prop
  | 0, _, _, _, _ => False
  | n + 1, A, H, code, a => A a ∧ (
    (∃ x cx, va_at Z.D tcl (a, .inr (3, [.ref x])) H ∧ AskH Z n A H cx x ∧ code = cx ++ [(20, 0)]) ∨
    (∃ (s : Int) (x y : Nat) (cx cy : tC), va_at Z.D tcl (a, .inr (12, [.int (zi s), .ref x, .ref y])) H ∧ SumH Z n A H cx x ∧ SumH Z n A H cy y ∧ isCm s ∧ code = cx ++ cy ++ [(cmO s, 0)]) ∨
    (∃ (b : Bool) (lst : Nat) (L : List Nat) (c ed : Nat) (cs : List tC), va_at Z.D tcl (a, .inr (13, [.int (zi (bz b)), .ref lst])) H ∧ Lst Z lst L c ed H ∧ (∀ x, lF lst c ed x → A x) ∧ 2 ≤ cs.length ∧ cs.length = L.length ∧ (∀ w ∈ cs.zip L, AskH Z n A H w.1 w.2) ∧ code = joinA b cs))
theorem zip_all {cs : List tC} {L : List Nat} {P : tC → Nat → Prop} (hl : cs.length = L.length) (h : ∀ w ∈ cs.zip L, P w.1 w.2) {a : Nat} (ha : a ∈ L) : ∃ c, P c a := by
  obtain ⟨i, hi, he⟩ := List.getElem_of_mem ha
  have hm : (cs[i]'(by omega), L[i]) ∈ cs.zip L := by
    rw [List.mem_iff_getElem]
    exact ⟨i, by simp; omega, by simp⟩
  exact ⟨_, by rw [← he]; exact h _ hm⟩
theorem AskH.A {Z : hZ} {n : Nat} {A : Nat → Prop} {H : Heap} {code : tC} {a : Nat} (h : AskH Z n A H code a) : A a := by
  cases n with
  | zero => exact h.elim
  | succ n => exact h.1
theorem AskH.keep {Z : hZ} {A : Nat → Prop} {H H1 : Heap} (hk : ∀ x, A x ∨ x < Z.b → x < H.size → H1[x]? = H[x]?) : ∀ {n : Nat} {code : tC} {a : Nat}, AskH Z n A H code a → AskH Z n A H1 code a := by
  intro n
  induction n with
  | zero => intro code a h; exact h.elim
  | succ n ih =>
    intro code a h
    obtain ⟨hA, h⟩ := h
    refine ⟨hA, ?_⟩
    have ka : ∀ {x : va_E}, va_at Z.D tcl (a, x) H → va_at Z.D tcl (a, x) H1 := fun w => va_at_keep w (hk a (Or.inl hA) (va_at_lt w))
    rcases h with ⟨x, cx, h1, h2, h3⟩ | ⟨s, x, y, cx, cy, h1, h2, h3, h4, h5⟩ | ⟨b, lst, L, c, ed, cs, h1, h2, h3, h4, h5, h6, h7⟩
    · exact Or.inl ⟨x, cx, ka h1, ih h2, h3⟩
    · exact Or.inr (Or.inl ⟨s, x, y, cx, cy, ka h1, h2.keep hk, h3.keep hk, h4, h5⟩)
    · refine Or.inr (Or.inr ⟨b, lst, L, c, ed, cs, ka h1, h2.keep (fun x hx hl => hk x (Or.inl ?_) hl), h3, h4, h5, fun w hw => ih (h6 w hw), h7⟩)
      rcases hx with w | w | w
      · exact h3 x (Or.inl w)
      · exact h3 x (Or.inr w)
      · obtain ⟨c0, hc⟩ := zip_all h5 h6 w
        exact hc.A
theorem AskH.mono {Z : hZ} {A B : Nat → Prop} {H : Heap} (hAB : ∀ x, A x → B x) : ∀ {n : Nat} {code : tC} {a : Nat}, AskH Z n A H code a → AskH Z n B H code a := by
  intro n
  induction n with
  | zero => intro code a h; exact h.elim
  | succ n ih =>
    intro code a h
    obtain ⟨hA, h⟩ := h
    refine ⟨hAB a hA, ?_⟩
    rcases h with ⟨x, cx, h1, h2, h3⟩ | ⟨s, x, y, cx, cy, h1, h2, h3, h4, h5⟩ | ⟨b, lst, L, c, ed, cs, h1, h2, h3, h4, h5, h6, h7⟩
    · exact Or.inl ⟨x, cx, h1, ih h2, h3⟩
    · exact Or.inr (Or.inl ⟨s, x, y, cx, cy, h1, h2.mono hAB, h3.mono hAB, h4, h5⟩)
    · exact Or.inr (Or.inr ⟨b, lst, L, c, ed, cs, h1, h2, fun x hx => hAB x (h3 x hx), h4, h5, fun w hw => ih (h6 w hw), h7⟩)
theorem AskH.up1 {Z : hZ} {A : Nat → Prop} {H : Heap} : ∀ {n : Nat} {code : tC} {a : Nat}, AskH Z n A H code a → AskH Z (n + 1) A H code a := by
  intro n
  induction n with
  | zero => intro code a h; exact h.elim
  | succ n ih =>
    intro code a h
    obtain ⟨hA, h⟩ := h
    refine ⟨hA, ?_⟩
    rcases h with ⟨x, cx, h1, h2, h3⟩ | ⟨s, x, y, cx, cy, h1, h2, h3, h4, h5⟩ | ⟨b, lst, L, c, ed, cs, h1, h2, h3, h4, h5, h6, h7⟩
    · exact Or.inl ⟨x, cx, h1, ih h2, h3⟩
    · exact Or.inr (Or.inl ⟨s, x, y, cx, cy, h1, h2.up1, h3.up1, h4, h5⟩)
    · exact Or.inr (Or.inr ⟨b, lst, L, c, ed, cs, h1, h2, h3, h4, h5, fun w hw => ih (h6 w hw), h7⟩)
theorem AskH.up {Z : hZ} {A : Nat → Prop} {H : Heap} {n m : Nat} {code : tC} {a : Nat} (h : AskH Z n A H code a) (hm : n ≤ m) : AskH Z m A H code a := by
  induction m with
  | zero => rw [show n = 0 by omega] at h; exact h
  | succ m ih =>
    by_cases hn : n = m + 1
    · rw [← hn]; exact h
    · exact (ih (by omega)).up1
theorem AskH.any {Z : hZ} {n : Nat} {A : Nat → Prop} {H : Heap} {code : tC} {a : Nat} (h : AskH Z n A H code a) : oAny Z H a := by
  cases n with
  | zero => exact h.elim
  | succ n =>
    obtain ⟨hA, h⟩ := h
    rcases h with ⟨x, cx, h1, h2, h3⟩ | ⟨s, x, y, cx, cy, h1, h2, h3, h4, h5⟩ | ⟨b, lst, L, c, ed, cs, h1, h2, h3, h4, h5, h6, h7⟩
    · exact oAny.of h1 (by decide)
    · exact oAny.of h1 (by decide)
    · exact oAny.of h1 (by decide)
theorem AskH.cast {Z : hZ} {n : Nat} {A : Nat → Prop} {s : State} {H : Heap} {code : tC} {a : Nat} (X : HE Z s) (h : AskH Z n A H code a) : ∃ C : String, va_Nw (.castable C "ManyEyes$Asked") s ∧ ∃ cell : Cell, H[a]? = some cell ∧ cell.vm.isStatics = false ∧ s.vm.findClass C = some cell.cls := by
  have hN := X.2.1.NW
  cases n with
  | zero => exact h.elim
  | succ n =>
    obtain ⟨hA, h⟩ := h
    rcases h with ⟨x, cx, h1, h2, h3⟩ | ⟨s, x, y, cx, cy, h1, h2, h3, h4, h5⟩ | ⟨b, lst, L, c, ed, cs, h1, h2, h3, h4, h5, h6, h7⟩
    · exact ⟨_, hN _ q1094 rfl, va_recv X.1 (va_one h1) (ci := 3) (q0 := 0) rfl rfl⟩
    · exact ⟨_, hN _ q1086 rfl, va_recv X.1 (va_one h1) (ci := 12) (q0 := 0) rfl rfl⟩
    · exact ⟨_, hN _ q1075 rfl, va_recv X.1 (va_one h1) (ci := 13) (q0 := 0) rfl rfl⟩
/-- a method of Tokens that gives an ask -/
abbrev mK (l : Launch) (y : MethodName) (bytes : ByteArray) (maxL : Nat) (f L : Nat) (Z : hZ) (q t : Nat) (S : yS) (r : tR tC) (N n0 : Nat) : Prop := mX l y bytes maxL (some (.object "ManyEyes$Asked")) ({ frames := f, cells := r.2.2.1, slots := r.2.2.2, locals := L } : Room) Z [.ref q] n0 (TKW Z q t S) (fun v H => ∃ c a, r.1 = .inl c ∧ v = some (.ref a) ∧ TKW Z q t r.2.1 H ∧ AskH Z N (rg n0 H.size) H c a) (xI Z r.1) (tF q) r.2.2.1 r.2.2.2
section TA
variable {p : Program} {l : Launch} {e : Env} {R : Room} {s : State} {m : MethodId} {args : Array Value} {below : List Frame} {meth : Method} {c : Code} {H : Heap} {locs : List Loc} {cells slots : Nat} {Q : State → Prop}
variable {cc : ByteArray} {pc nL : Nat} {ls : Array Slot} {rest : List Value} {Z : hZ} {q t : Nat} {S : yS} {y : MethodName} {bytes : ByteArray} {maxL idx f L N : Nat}
theorem tk_ask (X : hCx "ManyEyes$Tokens" p c cc nL s m args Z) (hM : TKX Z q t S s H locs) {r : tR tC} (met : mK l y bytes maxL f L Z q t S r N H.size) (hT : GoodIn lw_all (wsV "ManyEyes$Tokens" idx "ManyEyes$Tokens" y (ws_ y bytes maxL (some (.object "ManyEyes$Asked"))))) (hd : hdV y "ManyEyes$Tokens" 0) (hR : f + 1 ≤ R.frames ∧ 8 + (maxL + 11) + L ≤ R.locals) (hcs : cells + r.2.2.1 ≤ R.cells ∧ slots + r.2.2.2 ≤ R.slots) (hls : ls.size = nL) (hro : (rest.map fun v => v.category).sum ≤ 8) (hdg : decode cc pc = .ok (.invokevirtual idx, 3))
    (kk : ∀ (c0 : tC) (a : Nat) (H1 : Heap) (locs1 : List Loc), r.1 = .inl c0 → TKX Z q t r.2.1 s H1 locs1 → AskH Z N (rg H.size H1.size) H1 c0 a → hFr (tF q) H H1 → W p l e R s m args below meth c H1 locs1 (cells + r.2.2.1) (slots + r.2.2.2) Q (F0 m (pc + 3) ls (.ref a :: rest)))
    (kx : ∀ (x : Nat) (H1 : Heap) (locs1 : List Loc), xI Z r.1 x H1 → va_S (hA (tF q) s.heap.size) s.heap H1 locs1 → WX p l e R s m args below meth c H1 locs1 (cells + r.2.2.1) (slots + r.2.2.2) Q (F0 m pc ls rest) x) : W p l e R s m args below meth c H locs cells slots Q (F0 m pc ls (.ref q :: rest)) := by
  refine hcX (As := []) X hM.2 hM.1.F met hM.1 (fun a h => Or.inl h) (hM.1.recv X.2) hT hd ⟨rfl, rfl⟩ hR hcs hls hro hdg rfl (fun v H1 locs1 hv hfr hS => ?_) (fun x H1 locs1 hx hfr hS => kx x H1 locs1 hx hS)
  obtain ⟨c0, a, h1, rfl, h2, h3⟩ := hv
  exact kk c0 a H1 locs1 h1 ⟨h2, hS⟩ h3 hfr
end TA
