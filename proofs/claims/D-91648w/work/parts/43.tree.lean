/-! trees of sums and asks on the heap, read as steps one behind the other (the steps that the reference writes) -/
set_option maxRecDepth 100000
abbrev tC : Type := List (Int × Int)
def sgO (s : Int) : Int := if s = 43 then 3 else if s = 45 then 4 else if s = 42 then 5 else 6
def flat (xs : List (Int × tC)) : tC := (xs.map (fun p => p.2 ++ [(sgO p.1, (0 : Int))])).flatten
theorem flat_app (xs : List (Int × tC)) (s : Int) (c : tC) : flat (xs ++ [(s, c)]) = flat xs ++ (c ++ [(sgO s, 0)]) := by simp [flat]
def Itm (Z : hZ) (P : tC → Nat → Prop) (xs : List (Int × tC)) (L1 L2 : List Nat) : Prop := xs.length = L1.length ∧ L2 = xs.map (fun p => Z.G.ad (p.1 + 128).toNat) ∧ (∀ w ∈ xs.zip L1, P w.1.2 w.2) ∧ ∀ p ∈ xs, p.1 = 42 ∨ p.1 = 43 ∨ p.1 = 45 ∨ p.1 = 47
def SumH (Z : hZ) : Nat → (Nat → Prop) → Heap → tC → Nat → Prop
  | 0, _, _, _, _ => False
  | n + 1, A, H, code, a => A a ∧ (
    (∃ v : Int, va_at Z.D tcl (a, .inr (5, [.int (zi v)])) H ∧ code = [(0, v)]) ∨
    (∃ v : Int, va_at Z.D tcl (a, .inr (6, [.int (zi v)])) H ∧ code = [(1, v)]) ∨
    (∃ v : Int, va_at Z.D tcl (a, .inr (7, [.int (zi v)])) H ∧ code = [(31, v)]) ∨
    (∃ v : Int, va_at Z.D tcl (a, .inr (8, [.int (zi v)])) H ∧ code = [(32, v)]) ∨
    (va_at Z.D tcl (a, .inr (9, [])) H ∧ code = [(30, 0)]) ∨
    (∃ x cx, va_at Z.D tcl (a, .inr (10, [.ref x])) H ∧ SumH Z n A H cx x ∧ code = cx ++ [(2, 0)]) ∨
    (∃ (b : Bool) (x y : Nat) (cx cy : tC), va_at Z.D tcl (a, .inr (11, [.int (zi (bz b)), .ref x, .ref y])) H ∧ SumH Z n A H cx x ∧ SumH Z n A H cy y ∧ code = cx ++ cy ++ [(if b then 8 else 7, 0)]) ∨
    (∃ (f am as : Nat) (L1 L2 : List Nat) (cm em cs es : Nat) (cf : tC) (xs : List (Int × tC)), ChW Z a f am as L1 L2 cm em cs es H ∧ (∀ x, cO_ a am as cm em cs es x → A x) ∧ xs ≠ [] ∧ SumH Z n A H cf f ∧ Itm Z (SumH Z n A H) xs L1 L2 ∧ code = cf ++ flat xs))
theorem ChW.keep {Z : hZ} {c f am as cm em cs es : Nat} {L1 L2 : List Nat} {H H1 : Heap} (h : ChW Z c f am as L1 L2 cm em cs es H) (hk : ∀ x, cO_ c am as cm em cs es x ∨ x ∈ L1 ∨ x ∈ L2 → x < H.size → H1[x]? = H[x]?) : ChW Z c f am as L1 L2 cm em cs es H1 := by
  obtain ⟨h1, h2, h3, h4⟩ := h
  refine ⟨va_at_keep h1 (hk c (Or.inl (Or.inl rfl)) (va_at_lt h1)), h2.keep (fun x hx hl => hk x ?_ hl), h3.keep (fun x hx hl => hk x ?_ hl), h4⟩
  · rcases hx with rfl | ⟨rfl, w⟩ | w
    · exact Or.inl (Or.inr (Or.inl (Or.inl rfl)))
    · exact Or.inl (Or.inr (Or.inl (Or.inr ⟨rfl, w⟩)))
    · exact Or.inr (Or.inl w)
  · rcases hx with rfl | ⟨rfl, w⟩ | w
    · exact Or.inl (Or.inr (Or.inr (Or.inl rfl)))
    · exact Or.inl (Or.inr (Or.inr (Or.inr ⟨rfl, w⟩)))
    · exact Or.inr (Or.inr w)
theorem Itm.imp {Z : hZ} {P P' : tC → Nat → Prop} {xs : List (Int × tC)} {L1 L2 : List Nat} (h : Itm Z P xs L1 L2) (hi : ∀ c a, a ∈ L1 → P c a → P' c a) : Itm Z P' xs L1 L2 := by
  obtain ⟨h1, h2, h3, h4⟩ := h
  exact ⟨h1, h2, fun w hw => hi _ _ (List.of_mem_zip hw).2 (h3 w hw), h4⟩
theorem Itm.all {Z : hZ} {P : tC → Nat → Prop} {xs : List (Int × tC)} {L1 L2 : List Nat} (h : Itm Z P xs L1 L2) {a : Nat} (ha : a ∈ L1) : ∃ c, P c a := by
  obtain ⟨h1, h2, h3, h4⟩ := h
  obtain ⟨i, hi, he⟩ := List.getElem_of_mem ha
  have hix : i < xs.length := by omega
  have hm : (xs[i], L1[i]) ∈ xs.zip L1 := by
    rw [List.mem_iff_getElem]
    exact ⟨i, by simp; omega, by simp⟩
  exact ⟨xs[i].2, by rw [← he]; exact h3 _ hm⟩
theorem SumH.A {Z : hZ} {n : Nat} {A : Nat → Prop} {H : Heap} {code : tC} {a : Nat} (h : SumH Z n A H code a) : A a := by
  cases n with
  | zero => exact h.elim
  | succ n => exact h.1
theorem SumH.keep {Z : hZ} {A : Nat → Prop} {H H1 : Heap} (hk : ∀ x, A x ∨ x < Z.b → x < H.size → H1[x]? = H[x]?) : ∀ {n : Nat} {code : tC} {a : Nat}, SumH Z n A H code a → SumH Z n A H1 code a := by
  intro n
  induction n with
  | zero => intro code a h; exact h.elim
  | succ n ih =>
    intro code a h
    obtain ⟨hA, h⟩ := h
    refine ⟨hA, ?_⟩
    have ka : ∀ {x : va_E}, va_at Z.D tcl (a, x) H → va_at Z.D tcl (a, x) H1 := fun w => va_at_keep w (hk a (Or.inl hA) (va_at_lt w))
    rcases h with ⟨v, h1, h2⟩ | ⟨v, h1, h2⟩ | ⟨v, h1, h2⟩ | ⟨v, h1, h2⟩ | ⟨h1, h2⟩ | ⟨x, cx, h1, h2, h3⟩ | ⟨b, x, y, cx, cy, h1, h2, h3, h4⟩ | ⟨f, am, as, L1, L2, cm, em, cs, es, cf, xs, h1, h2, h3, h4, h5, h6⟩
    · exact Or.inl ⟨v, ka h1, h2⟩
    · exact Or.inr (Or.inl ⟨v, ka h1, h2⟩)
    · exact Or.inr (Or.inr (Or.inl ⟨v, ka h1, h2⟩))
    · exact Or.inr (Or.inr (Or.inr (Or.inl ⟨v, ka h1, h2⟩)))
    · exact Or.inr (Or.inr (Or.inr (Or.inr (Or.inl ⟨ka h1, h2⟩))))
    · exact Or.inr (Or.inr (Or.inr (Or.inr (Or.inr (Or.inl ⟨x, cx, ka h1, ih h2, h3⟩)))))
    · exact Or.inr (Or.inr (Or.inr (Or.inr (Or.inr (Or.inr (Or.inl ⟨b, x, y, cx, cy, ka h1, ih h2, ih h3, h4⟩))))))
    · refine Or.inr (Or.inr (Or.inr (Or.inr (Or.inr (Or.inr (Or.inr ⟨f, am, as, L1, L2, cm, em, cs, es, cf, xs, h1.keep (fun x hx hl => hk x ?_ hl), h2, h3, ih h4, h5.imp (fun c a _ w => ih w), h6⟩))))))
      rcases hx with w | w | w
      · exact Or.inl (h2 x w)
      · obtain ⟨c, hc⟩ := h5.all w
        exact Or.inl hc.A
      · exact Or.inr (h1.2.2.2.2.2.2.2.2.2.2.2 x w)
theorem SumH.mono {Z : hZ} {A B : Nat → Prop} {H : Heap} (hAB : ∀ x, A x → B x) : ∀ {n : Nat} {code : tC} {a : Nat}, SumH Z n A H code a → SumH Z n B H code a := by
  intro n
  induction n with
  | zero => intro code a h; exact h.elim
  | succ n ih =>
    intro code a h
    obtain ⟨hA, h⟩ := h
    refine ⟨hAB a hA, ?_⟩
    rcases h with h | h | h | h | h | ⟨x, cx, h1, h2, h3⟩ | ⟨b, x, y, cx, cy, h1, h2, h3, h4⟩ | ⟨f, am, as, L1, L2, cm, em, cs, es, cf, xs, h1, h2, h3, h4, h5, h6⟩
    · exact Or.inl h
    · exact Or.inr (Or.inl h)
    · exact Or.inr (Or.inr (Or.inl h))
    · exact Or.inr (Or.inr (Or.inr (Or.inl h)))
    · exact Or.inr (Or.inr (Or.inr (Or.inr (Or.inl h))))
    · exact Or.inr (Or.inr (Or.inr (Or.inr (Or.inr (Or.inl ⟨x, cx, h1, ih h2, h3⟩)))))
    · exact Or.inr (Or.inr (Or.inr (Or.inr (Or.inr (Or.inr (Or.inl ⟨b, x, y, cx, cy, h1, ih h2, ih h3, h4⟩))))))
    · exact Or.inr (Or.inr (Or.inr (Or.inr (Or.inr (Or.inr (Or.inr ⟨f, am, as, L1, L2, cm, em, cs, es, cf, xs, h1, fun x hx => hAB x (h2 x hx), h3, ih h4, h5.imp (fun c a _ w => ih w), h6⟩))))))
theorem SumH.up1 {Z : hZ} {A : Nat → Prop} {H : Heap} : ∀ {n : Nat} {code : tC} {a : Nat}, SumH Z n A H code a → SumH Z (n + 1) A H code a := by
  intro n
  induction n with
  | zero => intro code a h; exact h.elim
  | succ n ih =>
    intro code a h
    obtain ⟨hA, h⟩ := h
    refine ⟨hA, ?_⟩
    rcases h with h | h | h | h | h | ⟨x, cx, h1, h2, h3⟩ | ⟨b, x, y, cx, cy, h1, h2, h3, h4⟩ | ⟨f, am, as, L1, L2, cm, em, cs, es, cf, xs, h1, h2, h3, h4, h5, h6⟩
    · exact Or.inl h
    · exact Or.inr (Or.inl h)
    · exact Or.inr (Or.inr (Or.inl h))
    · exact Or.inr (Or.inr (Or.inr (Or.inl h)))
    · exact Or.inr (Or.inr (Or.inr (Or.inr (Or.inl h))))
    · exact Or.inr (Or.inr (Or.inr (Or.inr (Or.inr (Or.inl ⟨x, cx, h1, ih h2, h3⟩)))))
    · exact Or.inr (Or.inr (Or.inr (Or.inr (Or.inr (Or.inr (Or.inl ⟨b, x, y, cx, cy, h1, ih h2, ih h3, h4⟩))))))
    · exact Or.inr (Or.inr (Or.inr (Or.inr (Or.inr (Or.inr (Or.inr ⟨f, am, as, L1, L2, cm, em, cs, es, cf, xs, h1, h2, h3, ih h4, h5.imp (fun c a _ w => ih w), h6⟩))))))
theorem SumH.up {Z : hZ} {A : Nat → Prop} {H : Heap} {n m : Nat} {code : tC} {a : Nat} (h : SumH Z n A H code a) (hm : n ≤ m) : SumH Z m A H code a := by
  induction m with
  | zero => rw [show n = 0 by omega] at h; exact h
  | succ m ih =>
    by_cases hn : n = m + 1
    · rw [← hn]; exact h
    · exact (ih (by omega)).up1
theorem SumH.any {Z : hZ} {n : Nat} {A : Nat → Prop} {H : Heap} {code : tC} {a : Nat} (h : SumH Z n A H code a) : oAny Z H a := by
  cases n with
  | zero => exact h.elim
  | succ n =>
    obtain ⟨hA, h⟩ := h
    rcases h with ⟨v, h1, h2⟩ | ⟨v, h1, h2⟩ | ⟨v, h1, h2⟩ | ⟨v, h1, h2⟩ | ⟨h1, h2⟩ | ⟨x, cx, h1, h2, h3⟩ | ⟨b, x, y, cx, cy, h1, h2, h3, h4⟩ | ⟨f, am, as, L1, L2, cm, em, cs, es, cf, xs, h1, h2, h3, h4, h5, h6⟩
    · exact oAny.of h1 (by decide)
    · exact oAny.of h1 (by decide)
    · exact oAny.of h1 (by decide)
    · exact oAny.of h1 (by decide)
    · exact oAny.of h1 (by decide)
    · exact oAny.of h1 (by decide)
    · exact oAny.of h1 (by decide)
    · exact oAny.of h1.1 (by decide)
/-- the cells from n0 to n1 -/
abbrev rg (n0 n1 : Nat) : Nat → Prop := fun x => n0 ≤ x ∧ x < n1
/-! the steps of the parser, with the cells and elements that they make -/
abbrev tR (α : Type) : Type := (α ⊕ (Int × Int)) × yS × Nat × Nat
def tb {α β : Type} (x : Option (tR α)) (k n : Nat) (f : α → yS → Nat → Nat → Option (tR β)) : Option (tR β) := match x with
  | none => none
  | some (.inr e, S, k', n') => some (.inr e, S, k + k', n + n')
  | some (.inl a, S, k', n') => f a S (k + k') (n + n')
theorem tb_inv {α β : Type} {x : Option (tR α)} {k n : Nat} {f : α → yS → Nat → Nat → Option (tR β)} {r : tR β} (h : tb x k n f = some r) : (∃ e S k' n', x = some (.inr e, S, k', n') ∧ r = (.inr e, S, k + k', n + n')) ∨ ∃ a S k' n', x = some (.inl a, S, k', n') ∧ f a S (k + k') (n + n') = some r := by
  match x, h with
  | some (.inr e, S, k', n'), h => exact Or.inl ⟨e, S, k', n', rfl, (Option.some.inj h).symm⟩
  | some (.inl a, S, k', n'), h => exact Or.inr ⟨a, S, k', n', rfl, h⟩
/-- what may throw, at the cost of a Wrong -/
def lE (x : Option (tE × yS)) : Option (tR Unit) := match x with
  | none => none
  | some (none, S) => some (.inl (), S, 1, 8)
  | some (some e, S) => some (.inr e, S, 1, 8)
def lQ (x : Option ((Int ⊕ (Int × Int)) × yS)) : Option (tR Int) := match x with
  | none => none
  | some (v, S) => some (v, S, 1, 8)
