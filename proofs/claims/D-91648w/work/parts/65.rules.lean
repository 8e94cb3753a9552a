/-! the rules that ManyEyes holds: they lie outside its own 662 cells -/
set_option maxRecDepth 100000
/-- a list of rules: its array and the rules themselves, all outside the cells of ManyEyes -/
def RO (Z : hZ) (hC : Nat) (A : Nat → Prop) (L : List Nat) (c ed : Nat) (rs : List (List tCl)) (H : Heap) : Prop := Z.b ≤ hC ∧ LstA Z L c ed H ∧ (10 ≤ c → ¬ cA hC ed) ∧ rs.length = L.length ∧ (∀ w ∈ rs.zip L, RlH Z 40 A H w.1 w.2) ∧ (∀ x, A x → ¬ cA hC x) ∧ Z.G.eD < Z.b
theorem LstA.keep {Z : hZ} {c ed : Nat} {L : List Nat} {H H1 : Heap} (h : LstA Z L c ed H) (hk : 10 ≤ c → ed < H.size → H1[ed]? = H[ed]?) : LstA Z L c ed H1 := by
  rcases h with h | ⟨h1, h2, h3, h4, h5⟩
  · exact Or.inl h
  · exact Or.inr ⟨h1, h2, h3, h4, va_at_keep h5 (hk h1 (va_at_lt h5))⟩
theorem RO.keep {Z : hZ} {hC : Nat} {A : Nat → Prop} {L : List Nat} {c ed : Nat} {rs : List (List tCl)} {H H1 : Heap} (h : RO Z hC A L c ed rs H) (hk : ∀ x, x < H.size → ¬ cA hC x → H1[x]? = H[x]?) : RO Z hC A L c ed rs H1 := by
  obtain ⟨h0, h1, h2, h3, h4, h5, h6⟩ := h
  refine ⟨h0, h1.keep (fun q w => hk ed w (h2 q)), h2, h3, fun w hw => (h4 w hw).keep (fun x hx hl => hk x hl ?_), h5, h6⟩
  rcases hx with v | v
  · exact h5 x v
  · intro z
    have := z.1
    omega
theorem RlH.any {Z : hZ} {N : Nat} {A : Nat → Prop} {H : Heap} {cs : List tCl} {a : Nat} (h : RlH Z N A H cs a) : oAny Z H a := by
  obtain ⟨L, c, ed, h1, -⟩ := h
  obtain ⟨-, ⟨m, hm⟩, -⟩ := h1
  exact oAny.of hm (by decide)
theorem zip_allR {rs : List (List tCl)} {L : List Nat} {P : List tCl → Nat → Prop} (hl : rs.length = L.length) (h : ∀ w ∈ rs.zip L, P w.1 w.2) {a : Nat} (ha : a ∈ L) : ∃ c, P c a := by
  obtain ⟨i, hi, he⟩ := List.getElem_of_mem ha
  have hm : (rs[i]'(by omega), L[i]) ∈ rs.zip L := by
    rw [List.mem_iff_getElem]
    exact ⟨i, by simp; omega, by simp⟩
  exact ⟨_, by rw [← he]; exact h _ hm⟩
theorem zip_atR {α : Type} {rs : List α} {L : List Nat} {P : α → Nat → Prop} (hl : rs.length = L.length) (h : ∀ w ∈ rs.zip L, P w.1 w.2) {i : Nat} {c : α} (hc : rs[i]? = some c) : ∃ a, L[i]? = some a ∧ P c a := by
  obtain ⟨hi, he⟩ := List.getElem?_eq_some_iff.mp hc
  have hiL : i < L.length := by omega
  have hm : (rs[i], L[i]) ∈ rs.zip L := by
    rw [List.mem_iff_getElem]
    exact ⟨i, by simp; omega, by simp⟩
  exact ⟨L[i], List.getElem?_eq_getElem hiL, by rw [← he]; exact h _ hm⟩
/-- the list of rules, out of ManyEyes' world -/
theorem RO.lst {s : State} {DC : va_G} {dA : Nat → ClassId} {Z : hZ} {hC : Nat} {A : Nat → Prop} {L : List Nat} {c ed : Nat} {rs : List (List tCl)} {H : Heap} {S : yS} (hK : va_K DC ccl (cty dA) s) (hE : HE Z s) (h : RO Z hC A L c ed rs H) (hP : va_P DC ccl (cw dA hC S) H) (g : S.1 41 = (ed : Int) ∧ S.1 42 = (rs.length : Int)) : Lst Z (hC + 235) L c ed H := by
  obtain ⟨h0, h1, h2, h3, h4, h5, h6⟩ := h
  have q := hP 235 _ (cw_at (by decide))
  refine ⟨by omega, ⟨S.1 40, ?_⟩, h1, ?_, fun y hy => ?_⟩
  · have q1 := (lk_lst hK hE).mp q
    have e : al_fs 40 S = [.int (zi (S.1 40)), .ref ed, .int (zi (L.length : Int))] := by
      unfold al_fs
      rw [g.1, g.2, h3]
      rfl
    rw [← e]
    exact q1
  · rcases h1 with w | w
    · have := w.2.1
      omega
    · intro z
      exact h2 w.1 ⟨by omega, by omega⟩
  · obtain ⟨cs, hc⟩ := zip_allR h3 h4 hy
    exact hc.any
/-- the list of the image's rules, out of ManyEyes' world -/
theorem RO.lstI {s : State} {DC : va_G} {dA : Nat → ClassId} {Z : hZ} {hC : Nat} {A : Nat → Prop} {L : List Nat} {c ed : Nat} {rs : List (List tCl)} {H : Heap} {S : yS} (hK : va_K DC ccl (cty dA) s) (hE : HE Z s) (h : RO Z hC A L c ed rs H) (hP : va_P DC ccl (cw dA hC S) H) (g : S.1 51 = (ed : Int) ∧ S.1 52 = (rs.length : Int)) : Lst Z (hC + 470) L c ed H := by
  obtain ⟨h0, h1, h2, h3, h4, h5, h6⟩ := h
  have q := hP 470 _ (cw_at (by decide))
  refine ⟨by omega, ⟨S.1 50, ?_⟩, h1, ?_, fun y hy => ?_⟩
  · have q1 := (lk_lst hK hE).mp q
    have e : al_fs 50 S = [.int (zi (S.1 50)), .ref ed, .int (zi (L.length : Int))] := by
      unfold al_fs
      rw [g.1, g.2, h3]
      rfl
    rw [← e]
    exact q1
  · rcases h1 with w | w
    · have := w.2.1
      omega
    · intro z
      exact h2 w.1 ⟨by omega, by omega⟩
  · obtain ⟨cs, hc⟩ := zip_allR h3 h4 hy
    exact hc.any
/-- what a value's working leaves: back into ManyEyes' world -/
theorem lk_back {s : State} {DC : va_G} {dA : Nat → ClassId} {Z : hZ} {hC : Nat} {H H1 : Heap} {S S1 : yS} (hK : va_K DC ccl (cty dA) s) (hE : HE Z s) (hP : va_P DC ccl (cw dA hC S) H) (hN : NowW Z (hC + 658) S1 H1) (hk : ∀ x, x < H.size → x ≠ hC + 658 → H1[x]? = H[x]?) (hS1 : S1 = cfs S 24 (S1.1 24)) : va_P DC ccl (cw dA hC S1) H1 := by
  intro k q hq
  obtain ⟨hi, rfl⟩ := cw_in hq
  by_cases h : k = 658
  · subst h
    exact (lk_now hK hE).mpr hN.1
  · have e : cC dA hC S1 k = cC dA hC S k := by
      rw [hS1]
      obtain ⟨_, _, _, _, _, _, _, _, _, _, _, _, _, _, _, _, _, _, _, _, h14⟩ := cp_658_4 dA hC S (S1.1 24)
      exact h14 k hi h
    rw [e]
    have w := hP k _ (cw_at hi)
    exact va_at_keep w (hk _ (va_at_lt w) (by omega))
