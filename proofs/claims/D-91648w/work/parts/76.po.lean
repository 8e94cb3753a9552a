set_option maxRecDepth 100000
theorem stq_mem {L : Int} : ∀ {p : List Int} {x : Int}, x ∈ stq L p → x ∈ p := by
  intro p
  induction p with
  | nil => intro x h; exact h
  | cons y p ih =>
    intro x h
    unfold stq at h
    by_cases c : y < 40 ∧ L ≤ y
    · rw [if_pos c] at h; exact List.mem_cons_of_mem _ (ih h)
    · rw [if_neg c] at h; exact h
theorem hp_of {p : List Int} {x : Int} (h : x ∈ p) (hx : 40 ≤ x) : hp p = true := by
  unfold hp
  rw [List.any_eq_true]
  exact ⟨x, h, by simpa using hx⟩
theorem PS.top {S : yS} {Sm : xS} {x : Int} {p : List Int} {o : Int} {e : List (Int × Int)} {b z : Int} (h : PS S Sm (x :: p) o e b) (hz : 2 ≤ z ∧ z ≤ 50) : PS S (aset Sm 23 (Sm.1 24 - 1) z) (z :: p) o e b ∧ mFr Sm (aset Sm 23 (Sm.1 24 - 1) z) := by
  obtain ⟨h1, ⟨h2, h2'⟩, h3, h4, h6, h7, h8⟩ := h
  simp only [List.length_cons] at h2
  refine ⟨⟨h1.eqM rfl rfl rfl rfl rfl rfl rfl, ⟨by show Sm.1 24 = _; simp only [List.length_cons]; omega, ?_, hz, h2'.2.2.cong (fun i h0 h1 => ?_)⟩, h3, h4, h6, h7, h8⟩, fun k a1 a2 a3 a4 a5 => rfl, fun a a1 a2 => aset_ne _ _ _ a2, fun j hj => rfl⟩
  · show (if (p.length : Int) = Sm.1 24 - 1 then z else Sm.2 23 p.length) = z
    rw [if_pos (by omega)]
  · show (if i = Sm.1 24 - 1 then z else Sm.2 23 i) = _
    rw [if_neg (by omega)]
section CL
variable {S : yS} {Sm : xS} {q p : List Int} {w o : Int} {f : List (Int × Int)}
theorem PS.paren (h : PS S Sm q o f 1) (he : f.length + q.length ≤ 340 ∧ q.length ≤ 140) (hq : stq 3 q = w :: p) (hw : 40 ≤ w) (hs : S.1 6 = 41 ∨ S.1 6 = 44) : M_goesOn Sm = some true := by
  rw [h.goesOn (by omega)]
  unfold gOn
  rw [hp_of (stq_mem (L := 3) (by rw [hq]; exact List.mem_cons_self)) hw, decide_eq_true (show S.1 6 = 44 ∨ S.1 6 = 41 by omega)]
  simp
theorem PS.close (h : PS S Sm q o f 1) (he : f.length + q.length ≤ 340 ∧ q.length ≤ 140) (hq : stq 3 q = w :: p) (hw : w = 40 ∨ w = 43 ∨ w = 44) (hs : S.1 6 = 41) (ho : 1 ≤ o ∧ o ≤ 100) : ∃ S' Sm', T_next S = some S' ∧ Rch Sm Sm' 1 ∧ PS S' Sm' (whp p) (o - 1 - whn p) (f ++ sto 3 q ++ (if w = 40 then [] else [(if w = 43 then 7 else 8, 0)]) ++ List.replicate (whn p) (2, 0)) 1 ∧ mFr Sm Sm' ∧ nF S S' ∧ S.1 4 ≤ S'.1 5 := by
  have hg := h.paren he hq (by omega) (Or.inl hs)
  have htk : Sm.1 15 = 41 := (h.1.sg (s := 41) (by unfold isSg; omega)).mp hs
  obtain ⟨X, w1, w2, w3⟩ := h.settle (L := 3) (by decide) (by omega)
  have hl := st_len 3 q
  rw [hq] at w2 hl
  simp only [List.length_cons] at hl
  obtain ⟨q1, q2, q3, q4, q5⟩ := w2.pop
  obtain ⟨r1, r2⟩ := q1.opens ((fset X 24 (X.1 24 - 1)).1 25 - 1)
  have ho2 : (fset X 24 (X.1 24 - 1)).1 25 - 1 = o - 1 := by rw [show (fset X 24 (X.1 24 - 1)).1 25 = X.1 25 from rfl, w2.2.2.1]
  have fin : ∀ (Y : xS) (e : List (Int × Int)), PS S Y p (o - 1) e 1 → mFr Sm Y → e.length ≤ f.length + (sto 3 q).length + 1 → ∃ S' Sm', T_next S = some S' ∧ M_behindOne_B204 Y = some (0, Sm') ∧ PS S' Sm' (whp p) (o - 1 - whn p) (e ++ List.replicate (whn p) (2, 0)) 1 ∧ mFr Sm Sm' ∧ nF S S' ∧ S.1 4 ≤ S'.1 5 := by
    intro Y e hY hm hle
    obtain ⟨V, v1, v2, v3⟩ := hY.whole (by omega) (by omega)
    obtain ⟨S', Z, z1, z2, z3, z4, z5, z6⟩ := v2.next
    refine ⟨S', Z, z1, ?_, z3, hm.trans (v3.trans z4), z5, z6⟩
    unfold M_behindOne_B204 M_behindOne_B208
    rw [v1, bd_some, z2, bd_some]
  have hr : r32 w := by omega
  have main : ∀ Z, (if w ≤ 40 then M_behindOne_B204 (fset (fset X 24 (X.1 24 - 1)) 25 ((fset X 24 (X.1 24 - 1)).1 25 - 1)) else if w = 43 then M_behindOne_B200 (fset (fset X 24 (X.1 24 - 1)) 25 ((fset X 24 (X.1 24 - 1)).1 25 - 1)) 7 else M_behindOne_B200 (fset (fset X 24 (X.1 24 - 1)) 25 ((fset X 24 (X.1 24 - 1)).1 25 - 1)) 8) = some (0, Z) → Rch Sm Z 1 := by
    intro Z hZ
    refine Rch.behind h.2.2.2.2.1 hg ?_
    unfold M_behindOne
    rw [nm_eq, htk, gd_pos (by decide), if_neg (by decide), gd_pos (by decide), if_neg (by decide), gd_pos (by decide), if_neg (by decide), gd_pos (by decide), if_neg (by decide), w1, bd_some, gd_pos (by omega), nm_eq, q4, gd_pos (by decide), if_neg (by decide), gd_pos hr, if_neg (by omega), gd_pos hr, if_neg (by omega), nm_eq, nm_eq, gd_pos hr, gd_pos hr]
    exact hZ
  simp only [ho2] at r1 r2 main
  by_cases h40 : w = 40
  · obtain ⟨S', Z, z1, z2, z3, z4, z5, z6⟩ := fin _ _ r1 (w3.trans (q2.trans r2)) (by simp only [List.length_append]; omega)
    refine ⟨S', Z, z1, main Z (by rw [if_pos (by omega)]; exact z2), ?_, z4, z5, z6⟩
    rw [if_pos h40, List.append_nil]
    exact z3
  · by_cases h43 : w = 43
    · obtain ⟨Y, y1, y2, y3⟩ := r1.emit (by simp only [List.length_append]; omega) 7 0
      obtain ⟨S', Z, z1, z2, z3, z4, z5, z6⟩ := fin _ _ y2 (w3.trans (q2.trans (r2.trans y3))) (by simp only [List.length_append, List.length_cons, List.length_nil]; omega)
      refine ⟨S', Z, z1, main Z ?_, ?_, z4, z5, z6⟩
      · rw [if_neg (by omega), if_pos h43]
        unfold M_behindOne_B200
        rw [y1, bd_some]
        exact z2
      · rw [if_neg h40, if_pos h43]
        exact z3
    · obtain ⟨Y, y1, y2, y3⟩ := r1.emit (by simp only [List.length_append]; omega) 8 0
      obtain ⟨S', Z, z1, z2, z3, z4, z5, z6⟩ := fin _ _ y2 (w3.trans (q2.trans (r2.trans y3))) (by simp only [List.length_append, List.length_cons, List.length_nil]; omega)
      refine ⟨S', Z, z1, main Z ?_, ?_, z4, z5, z6⟩
      · rw [if_neg (by omega), if_neg h43]
        unfold M_behindOne_B200
        rw [y1, bd_some]
        exact z2
      · rw [if_neg h40, if_neg h43]
        exact z3
theorem PS.badClose (h : PS S Sm q o f 1) (he : f.length + q.length ≤ 340 ∧ q.length ≤ 140) (hq : stq 3 q = w :: p) (hw : w = 41 ∨ w = 42) (hs : S.1 6 = 41) : ∃ Sm', Fls Sm 1 Sm' 1 ∧ PS S Sm' (w :: p) o (f ++ sto 3 q) 1 ∧ mFr Sm Sm' := by
  have hg := h.paren he hq (by omega) (Or.inl hs)
  have htk : Sm.1 15 = 41 := (h.1.sg (s := 41) (by unfold isSg; omega)).mp hs
  obtain ⟨X, w1, w2, w3⟩ := h.settle (L := 3) (by decide) (by omega)
  have hl := st_len 3 q
  rw [hq] at w2 hl
  simp only [List.length_cons] at hl
  obtain ⟨q1, q2, q3, q4, q5⟩ := w2.pop
  have hr : r32 w := by omega
  refine ⟨X, Fls.behind h.2.2.2.2.1 hg ?_ (by decide) (by decide), w2, w3⟩
  unfold M_behindOne
  rw [nm_eq, htk, gd_pos (by decide), if_neg (by decide), gd_pos (by decide), if_neg (by decide), gd_pos (by decide), if_neg (by decide), gd_pos (by decide), if_neg (by decide), w1, bd_some, gd_pos (by omega), nm_eq, q4, gd_pos (by decide), if_neg (by decide), gd_pos hr]
  by_cases h41 : w = 41
  · rw [if_pos h41]
  · rw [if_neg h41, gd_pos hr, if_pos (by omega)]
theorem PS.comma (h : PS S Sm q o f 1) (he : f.length + q.length ≤ 340 ∧ q.length ≤ 140) (hq : stq 3 q = w :: p) (hw : w = 41 ∨ w = 42) (hs : S.1 6 = 44) : ∃ S' Sm', T_next S = some S' ∧ Rch Sm Sm' 1 ∧ PS S' Sm' ((w + 2) :: p) o (f ++ sto 3 q) 0 ∧ mFr Sm Sm' ∧ nF S S' ∧ S.1 4 ≤ S'.1 5 := by
  have hg := h.paren he hq (by omega) (Or.inr hs)
  have htk : Sm.1 15 = 44 := (h.1.sg (s := 44) (by unfold isSg; omega)).mp hs
  obtain ⟨X, w1, w2, w3⟩ := h.settle (L := 3) (by decide) (by omega)
  have hl := st_len 3 q
  rw [hq] at w2 hl
  simp only [List.length_cons] at hl
  obtain ⟨q1, q2, q3, q4, q5⟩ := w2.pop
  obtain ⟨t1, t2⟩ := w2.top (z := w + 2) (by omega)
  obtain ⟨v1, v2⟩ := t1.whl 0
  obtain ⟨S', Z, z1, z2, z3, z4, z5, z6⟩ := v1.next
  have hr : r32 w := by omega
  have hB : M_behindOne_B123 X = some (0, Z) := by
    unfold M_behindOne_B123 M_behindOne_B208
    rw [gd_pos (by omega), gd_pos (by omega), nm_eq, nm_eq, q4, z2, bd_some]
  refine ⟨S', Z, z1, Rch.behind h.2.2.2.2.1 hg ?_, z3, w3.trans (t2.trans (v2.trans z4)), z5, z6⟩
  unfold M_behindOne
  rw [nm_eq, htk, gd_pos (by decide), if_neg (by decide), gd_pos (by decide), if_neg (by decide), gd_pos (by decide), if_neg (by decide), gd_pos (by decide), if_neg (by decide), w1, bd_some, gd_pos (by omega), nm_eq, q4, gd_pos (by decide), if_pos rfl, gd_pos hr, hB]
  by_cases h41 : w = 41
  · rw [if_pos h41]
  · rw [if_neg h41, gd_pos hr, if_pos (by omega)]
theorem PS.badComma (h : PS S Sm q o f 1) (he : f.length + q.length ≤ 340 ∧ q.length ≤ 140) (hq : stq 3 q = w :: p) (hw : w = 40 ∨ w = 43 ∨ w = 44) (hs : S.1 6 = 44) : ∃ Sm', Fls Sm 1 Sm' 1 ∧ PS S Sm' (w :: p) o (f ++ sto 3 q) 1 ∧ mFr Sm Sm' := by
  have hg := h.paren he hq (by omega) (Or.inr hs)
  have htk : Sm.1 15 = 44 := (h.1.sg (s := 44) (by unfold isSg; omega)).mp hs
  obtain ⟨X, w1, w2, w3⟩ := h.settle (L := 3) (by decide) (by omega)
  have hl := st_len 3 q
  rw [hq] at w2 hl
  simp only [List.length_cons] at hl
  obtain ⟨q1, q2, q3, q4, q5⟩ := w2.pop
  have hr : r32 w := by omega
  refine ⟨X, Fls.behind h.2.2.2.2.1 hg ?_ (by decide) (by decide), w2, w3⟩
  unfold M_behindOne
  rw [nm_eq, htk, gd_pos (by decide), if_neg (by decide), gd_pos (by decide), if_neg (by decide), gd_pos (by decide), if_neg (by decide), gd_pos (by decide), if_neg (by decide), w1, bd_some, gd_pos (by omega), nm_eq, q4, gd_pos (by decide), if_pos rfl, gd_pos hr, if_neg (by omega), gd_pos hr, if_neg (by omega)]
end CL
