set_option maxRecDepth 100000
theorem LX.tk {S : yS} {Sm : xS} (h : LX S Sm) : TKR (S.1 6) (S.1 7) (Sm.1 15) (Sm.1 16) (Sm.1 17) := h.2.2.2.2.2.2
theorem LX.isWord {S : yS} {Sm : xS} (h : LX S Sm) {w : Nat} (hw : w < 12) {z : Int} (hz : z = wc w) : M_isWord Sm z = some (decide (S.1 6 = 200 + (w : Int))) := by
  have hk := h.tk
  have hi := hk.2.2.2.1 w hw
  have hzr : ∀ w, w < 12 → r64 (wc w) := by decide
  unfold M_isWord
  rw [hz, gd_pos hk.1.2.1]
  by_cases h2 : Sm.1 15 = 2
  · rw [if_pos h2, gd_pos ⟨hk.1.2.2 h2, hzr w hw⟩]
    by_cases h3 : Sm.1 17 = wc w
    · rw [if_pos h3, decide_eq_true (hi.mpr ⟨h2, h3⟩)]
    · rw [if_neg h3, decide_eq_false (fun g => h3 (hi.mp g).2)]
  · rw [if_neg h2, decide_eq_false (fun g => h2 (hi.mp g).1)]
theorem LX.letterOf {S : yS} {Sm : xS} (h : LX S Sm) : M_letterOf Sm = some (if S.1 6 = 305 then S.1 7 else -1) := by
  have hk := h.tk
  have hi := hk.2.2.2.2.1
  have hn := hk.2.2.2.2.2.1
  unfold M_letterOf
  rw [gd_pos hk.1.2.1]
  by_cases h5 : S.1 6 = 305
  · obtain ⟨g1, g2, g3⟩ := hi.mp h5
    rw [if_pos h5, if_pos g1, gd_pos (hk.1.2.2 g1), if_neg (by omega), gd_pos (hk.1.2.2 g1), if_pos g3, hn h5]
  · rw [if_neg h5]
    by_cases h2 : Sm.1 15 = 2
    · rw [if_pos h2, gd_pos (hk.1.2.2 h2)]
      by_cases h3 : Sm.1 17 < 65
      · rw [if_pos h3]
      · rw [if_neg h3, gd_pos (hk.1.2.2 h2), if_neg (fun g => h5 (hi.mpr ⟨h2, by omega, g⟩))]
    · rw [if_neg h2]
theorem LX.sg {S : yS} {Sm : xS} (h : LX S Sm) {s : Int} (hs : isSg s) : S.1 6 = s ↔ Sm.1 15 = s := h.tk.2.1 s hs
theorem pileR.mem {f : Int → Int} : ∀ {p : List Int}, pileR f p → ∀ x ∈ p, ∃ j : Int, 0 ≤ j ∧ j < p.length ∧ f j = x := by
  intro p
  induction p with
  | nil => intro _ x hx; cases hx
  | cons y p ih =>
    intro h x hx
    rcases List.mem_cons.mp hx with rfl | hx
    · exact ⟨p.length, by omega, by simp only [List.length_cons]; omega, h.1⟩
    · obtain ⟨j, h0, h1, h2⟩ := ih h.2.2 x hx
      exact ⟨j, h0, by simp only [List.length_cons]; omega, h2⟩
theorem pileR.idx {f : Int → Int} : ∀ {p : List Int}, pileR f p → ∀ j : Int, 0 ≤ j → j < p.length → f j ∈ p ∧ 2 ≤ f j ∧ f j ≤ 50 := by
  intro p
  induction p with
  | nil => intro _ j h0 h1; simp at h1; omega
  | cons y p ih =>
    intro h j h0 h1
    simp only [List.length_cons] at h1
    by_cases e : j = p.length
    · rw [e, h.1]
      exact ⟨List.mem_cons_self, h.2.1⟩
    · obtain ⟨g1, g2⟩ := ih h.2.2 j h0 (by omega)
      exact ⟨List.mem_cons_of_mem _ g1, g2⟩
def hp (p : List Int) : Bool := p.any (fun x => decide (40 ≤ x))
theorem PS.hasParen {S : yS} {Sm : xS} {p : List Int} {o : Int} {e : List (Int × Int)} {b : Int} (h : PS S Sm p o e b) (hl : p.length ≤ 150) : M_hasParen Sm = some (hp p) := by
  obtain ⟨h2, h2'⟩ := h.2.1
  have key : ∀ (m : Nat) (i : Int), 0 ≤ i → i ≤ p.length → (p.length : Int) - i ≤ m → ∀ n, m < n → ∃ bb, M_hasParen_L2 Sm n i = some bb ∧ (bb = true ↔ ∃ j, i ≤ j ∧ j < p.length ∧ 40 ≤ Sm.2 23 j) := by
    intro m
    induction m with
    | zero =>
      intro i h0 h1 hm n hn
      obtain ⟨n, rfl⟩ : ∃ k, n = k + 1 := ⟨n - 1, by omega⟩
      refine ⟨false, ?_, fun g => (by cases g), fun ⟨j, g1, g2, g3⟩ => by omega⟩
      show M_hasParen_b2 _ _ _ = _
      unfold M_hasParen_b2
      rw [gd_pos (by omega), if_neg (by omega)]
    | succ m ih =>
      intro i h0 h1 hm n hn
      obtain ⟨n, rfl⟩ : ∃ k, n = k + 1 := ⟨n - 1, by omega⟩
      have hX : M_hasParen_L2 Sm (n + 1) i = M_hasParen_b2 Sm (M_hasParen_L2 Sm n) i := rfl
      rw [hX]
      unfold M_hasParen_b2
      by_cases hi : i < p.length
      · have hx := (h2'.idx i h0 hi).2
        rw [gd_pos (by omega), if_pos (by omega), gd_pos (by omega), gd_pos (by omega)]
        by_cases h40 : Sm.2 23 i < 40
        · obtain ⟨bb, q1, q2⟩ := ih (i + 1) (by omega) (by omega) (by omega) n (by omega)
          refine ⟨bb, by rw [if_pos h40, nm_eq, q1], q2.trans ⟨fun ⟨j, g1, g2, g3⟩ => ⟨j, by omega, g2, g3⟩, fun ⟨j, g1, g2, g3⟩ => ⟨j, ?_, g2, g3⟩⟩⟩
          by_cases e : j = i
          · subst e; omega
          · omega
        · exact ⟨true, by rw [if_neg h40], fun _ => ⟨i, Int.le_refl _, hi, by omega⟩, fun _ => rfl⟩
      · exact ⟨false, by rw [gd_pos (by omega), if_neg (by omega)], fun g => (by cases g), fun ⟨j, g1, g2, g3⟩ => by omega⟩
  obtain ⟨bb, q1, q2⟩ := key 150 0 (Int.le_refl _) (by omega) (by omega) FU (by decide)
  unfold M_hasParen
  rw [q1]
  refine congrArg some ?_
  have hh : hp p = true ↔ ∃ j : Int, 0 ≤ j ∧ j < p.length ∧ 40 ≤ Sm.2 23 j := by
    unfold hp
    rw [List.any_eq_true]
    constructor
    · rintro ⟨x, hx, g⟩
      obtain ⟨j, g0, g1, g2⟩ := h2'.mem x hx
      exact ⟨j, g0, g1, by rw [g2]; simpa using g⟩
    · rintro ⟨j, g0, g1, g2⟩
      exact ⟨_, (h2'.idx j g0 g1).1, by simpa using g2⟩
  cases bb <;> cases hq : hp p
  · rfl
  · exact absurd (q2.mpr (hh.mp hq)) (by simp)
  · have := hh.mpr (q2.mp rfl)
    rw [hq] at this
    exact this.symm
  · rfl
def gOn (so : Int) (p : List Int) : Bool := decide (so = 43 ∨ so = 45 ∨ so = 42 ∨ so = 47) || (decide (so = 44 ∨ so = 41) && hp p)
theorem PS.goesOn {S : yS} {Sm : xS} {p : List Int} {o : Int} {e : List (Int × Int)} {b : Int} (h : PS S Sm p o e b) (hl : p.length ≤ 150) : M_goesOn Sm = some (gOn (S.1 6) p) := by
  have hr := h.1.tk.1.2.1
  have s1 := h.1.sg (s := 43) (by unfold isSg; omega)
  have s2 := h.1.sg (s := 45) (by unfold isSg; omega)
  have s3 := h.1.sg (s := 42) (by unfold isSg; omega)
  have s4 := h.1.sg (s := 47) (by unfold isSg; omega)
  have s5 := h.1.sg (s := 44) (by unfold isSg; omega)
  have s6 := h.1.sg (s := 41) (by unfold isSg; omega)
  have hB : M_goesOn_B54 Sm = some (hp p) := by
    unfold M_goesOn_B54
    rw [h.hasParen hl, bd_some]
    cases hp p <;> rfl
  unfold M_goesOn gOn
  rw [hB]
  by_cases c1 : Sm.1 15 = 43
  · rw [gd_pos hr, if_pos c1, decide_eq_true (by omega)]; rfl
  by_cases c2 : Sm.1 15 = 45
  · rw [gd_pos hr, if_neg c1, gd_pos hr, if_pos c2, decide_eq_true (by omega)]; rfl
  by_cases c3 : Sm.1 15 = 42
  · rw [gd_pos hr, if_neg c1, gd_pos hr, if_neg c2, gd_pos hr, if_pos c3, decide_eq_true (by omega)]; rfl
  by_cases c4 : Sm.1 15 = 47
  · rw [gd_pos hr, if_neg c1, gd_pos hr, if_neg c2, gd_pos hr, if_neg c3, gd_pos hr, if_pos c4, decide_eq_true (by omega)]; rfl
  by_cases c5 : Sm.1 15 = 44
  · rw [gd_pos hr, if_neg c1, gd_pos hr, if_neg c2, gd_pos hr, if_neg c3, gd_pos hr, if_neg c4, gd_pos hr, if_pos c5, decide_eq_false (by omega), decide_eq_true (by omega)]; rfl
  by_cases c6 : Sm.1 15 = 41
  · rw [gd_pos hr, if_neg c1, gd_pos hr, if_neg c2, gd_pos hr, if_neg c3, gd_pos hr, if_neg c4, gd_pos hr, if_neg c5, gd_pos hr, if_pos c6, decide_eq_false (by omega), decide_eq_true (by omega)]; rfl
  · rw [gd_pos hr, if_neg c1, gd_pos hr, if_neg c2, gd_pos hr, if_neg c3, gd_pos hr, if_neg c4, gd_pos hr, if_neg c5, gd_pos hr, if_neg c6, decide_eq_false (by omega), decide_eq_false (by omega)]; rfl
/-- the loop goes on from A to B in c turns -/
def Rch (A B : xS) (c : Nat) : Prop := ∀ n, M_summed_L10 (n + c) A = M_summed_L10 n B
theorem Rch.trans {A B C : xS} {c d : Nat} (h : Rch A B c) (g : Rch B C d) : Rch A C (d + c) := fun n => by rw [← Nat.add_assoc, h, g]
def Fls (A : xS) (f : Int) (B : xS) (c : Nat) : Prop := ∀ n, M_summed_L10 (n + c) A = some (f, B)
theorem Rch.fls {A B C : xS} {f : Int} {c d : Nat} (h : Rch A B c) (g : Fls B f C d) : Fls A f C (d + c) := fun n => by rw [← Nat.add_assoc, h, g]
theorem Rch.begin_ {A B : xS} (h : A.1 26 = 0) (hb : M_beginOne A = some (0, B)) : Rch A B 1 := by
  intro n
  show M_summed_b10 (M_summed_L10 n) A = _
  unfold M_summed_b10 M_summed_B24 M_summed_B42
  rw [h, gd_pos (by decide), if_pos rfl, gd_pos (by decide), if_pos rfl, hb, bd2_some, gd_pos (by decide), if_pos rfl]
theorem Fls.begin_ {A B : xS} {f : Int} (h : A.1 26 = 0) (hb : M_beginOne A = some (f, B)) (hf : f ≠ 0) (hr : r32 f) : Fls A f B 1 := by
  intro n
  show M_summed_b10 (M_summed_L10 n) A = _
  unfold M_summed_b10 M_summed_B24 M_summed_B42
  rw [h, gd_pos (by decide), if_pos rfl, gd_pos (by decide), if_pos rfl, hb, bd2_some, gd_pos hr, if_neg hf]
theorem Rch.behind {A B : xS} (h : A.1 26 = 1) (hg : M_goesOn A = some true) (hb : M_behindOne A = some (0, B)) : Rch A B 1 := by
  intro n
  show M_summed_b10 (M_summed_L10 n) A = _
  unfold M_summed_b10 M_summed_B24 M_summed_B42
  rw [h, gd_pos (by decide), if_neg (by decide), hg, bd_some, if_pos rfl, gd_pos (by decide), if_neg (by decide), hb, bd2_some, gd_pos (by decide), if_pos rfl]
theorem Fls.behind {A B : xS} {f : Int} (h : A.1 26 = 1) (hg : M_goesOn A = some true) (hb : M_behindOne A = some (f, B)) (hf : f ≠ 0) (hr : r32 f) : Fls A f B 1 := by
  intro n
  show M_summed_b10 (M_summed_L10 n) A = _
  unfold M_summed_b10 M_summed_B24 M_summed_B42
  rw [h, gd_pos (by decide), if_neg (by decide), hg, bd_some, if_pos rfl, gd_pos (by decide), if_neg (by decide), hb, bd2_some, gd_pos hr, if_neg hf]
theorem PS.end_ {S : yS} {Sm : xS} {p : List Int} {o : Int} {e : List (Int × Int)} (h : PS S Sm p o e 1) (he : e.length + p.length ≤ 340 ∧ p.length ≤ 150) (hg : gOn (S.1 6) p = false) : ∃ Sm', Fls Sm (if stq 3 p = [] then 0 else 1) Sm' 1 ∧ PS S Sm' (stq 3 p) o (e ++ sto 3 p) 1 ∧ mFr Sm Sm' := by
  obtain ⟨X, w1, w2, w3⟩ := h.settle (L := 3) (by decide) he
  refine ⟨X, fun n => ?_, w2, w3⟩
  show M_summed_b10 (M_summed_L10 n) Sm = _
  unfold M_summed_b10
  rw [h.2.2.2.2.1, gd_pos (by decide), if_neg (by decide), h.goesOn he.2, hg, bd_some, if_neg (by decide), w1, bd_some]
  have hx := w2.2.1.1
  have hl := st_len 3 p
  rw [gd_pos (by omega)]
  by_cases hq : stq 3 p = []
  · rw [if_pos hq, if_pos (by rw [hx, hq]; decide)]
  · rw [if_neg hq, if_neg]
    intro g
    exact hq (List.length_eq_zero_iff.mp (by omega))
/-- a sign between two -/
theorem PS.op {S : yS} {Sm : xS} {p : List Int} {o : Int} {e : List (Int × Int)} (h : PS S Sm p o e 1) (he : e.length + p.length ≤ 340 ∧ p.length ≤ 140) {L : Int} (hs : (S.1 6 = 43 ∨ S.1 6 = 45) ∧ L = 3 ∨ (S.1 6 = 42 ∨ S.1 6 = 47) ∧ L = 5) : ∃ S' Sm', T_next S = some S' ∧ Rch Sm Sm' 1 ∧ PS S' Sm' (sgO (S.1 6) :: stq L p) o (e ++ sto L p) 0 ∧ mFr Sm Sm' ∧ nF S S' ∧ S.1 4 ≤ S'.1 5 := by
  have hr := h.1.tk.1.2.1
  have s1 := h.1.sg (s := 43) (by unfold isSg; omega)
  have s2 := h.1.sg (s := 45) (by unfold isSg; omega)
  have s3 := h.1.sg (s := 42) (by unfold isSg; omega)
  have s4 := h.1.sg (s := 47) (by unfold isSg; omega)
  have hg : M_goesOn Sm = some true := by
    rw [h.goesOn (by omega)]
    unfold gOn
    rw [decide_eq_true (by omega)]
    rfl
  obtain ⟨X, w1, w2, w3⟩ := h.settle (L := L) (by omega) (by omega)
  have hl := st_len L p
  have fin : ∀ t, 2 ≤ t ∧ t ≤ 50 → ∃ Y S' Z, M_push X t = some Y ∧ T_next S = some S' ∧ M_behindOne_B208 (fset Y 26 0) = some (0, Z) ∧ PS S' Z (t :: stq L p) o (e ++ sto L p) 0 ∧ mFr Sm Z ∧ nF S S' ∧ S.1 4 ≤ S'.1 5 := by
    intro t ht
    obtain ⟨Y, y1, y2, y3⟩ := w2.push (x := t) (by omega) ht
    obtain ⟨v1, v2⟩ := y2.whl 0
    obtain ⟨S', Z, z1, z2, z3, z4, z5, z6⟩ := v1.next
    refine ⟨Y, S', Z, y1, z1, ?_, z3, w3.trans (y3.trans (v2.trans z4)), z5, z6⟩
    unfold M_behindOne_B208
    rw [z2, bd_some]
  rcases hs with ⟨hs, rfl⟩ | ⟨hs, rfl⟩
  · rcases hs with hs | hs
    · obtain ⟨Y, S', Z, f1, f2, f3, f4, f5, f6, f7⟩ := fin 3 (by decide)
      refine ⟨S', Z, f2, Rch.behind h.2.2.2.2.1 hg ?_, by rw [hs]; exact f4, f5, f6, f7⟩
      unfold M_behindOne M_behindOne_B17 M_behindOne_B34
      rw [nm_eq, s1.mp hs, gd_pos (by decide), if_pos rfl, w1, bd_some, gd_pos (by decide), if_pos rfl, f1, bd_some, nm_eq, f3]
    · obtain ⟨Y, S', Z, f1, f2, f3, f4, f5, f6, f7⟩ := fin 4 (by decide)
      refine ⟨S', Z, f2, Rch.behind h.2.2.2.2.1 hg ?_, by rw [hs]; exact f4, f5, f6, f7⟩
      unfold M_behindOne M_behindOne_B17 M_behindOne_B34
      rw [nm_eq, s2.mp hs, gd_pos (by decide), if_neg (by decide), gd_pos (by decide), if_pos rfl, w1, bd_some, gd_pos (by decide), if_neg (by decide), f1, bd_some, nm_eq, f3]
  · rcases hs with hs | hs
    · obtain ⟨Y, S', Z, f1, f2, f3, f4, f5, f6, f7⟩ := fin 5 (by decide)
      refine ⟨S', Z, f2, Rch.behind h.2.2.2.2.1 hg ?_, by rw [hs]; exact f4, f5, f6, f7⟩
      unfold M_behindOne M_behindOne_B57 M_behindOne_B75
      rw [nm_eq, s3.mp hs, gd_pos (by decide), if_neg (by decide), gd_pos (by decide), if_neg (by decide), gd_pos (by decide), if_pos rfl, w1, bd_some, gd_pos (by decide), if_pos rfl, f1, bd_some, nm_eq, f3]
    · obtain ⟨Y, S', Z, f1, f2, f3, f4, f5, f6, f7⟩ := fin 6 (by decide)
      refine ⟨S', Z, f2, Rch.behind h.2.2.2.2.1 hg ?_, by rw [hs]; exact f4, f5, f6, f7⟩
      unfold M_behindOne M_behindOne_B57 M_behindOne_B75
      rw [nm_eq, s4.mp hs, gd_pos (by decide), if_neg (by decide), gd_pos (by decide), if_neg (by decide), gd_pos (by decide), if_neg (by decide), gd_pos (by decide), if_pos rfl, w1, bd_some, gd_pos (by decide), if_neg (by decide), f1, bd_some, nm_eq, f3]
