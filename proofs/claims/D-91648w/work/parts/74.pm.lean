set_option maxRecDepth 100000
/-! the reference's parser: what lies on its pile, what it has written -/
def pileR (f : Int → Int) : List Int → Prop
  | [] => True
  | x :: p => f p.length = x ∧ (2 ≤ x ∧ x ≤ 50) ∧ pileR f p
theorem pileR.cong {f g : Int → Int} : ∀ {p : List Int}, pileR f p → (∀ i : Int, 0 ≤ i → i < p.length → g i = f i) → pileR g p := by
  intro p
  induction p with
  | nil => intro _ _; trivial
  | cons x p ih =>
    intro h hg
    refine ⟨by rw [hg _ (by omega) (by simp only [List.length_cons]; omega)]; exact h.1, h.2.1, ih h.2.2 (fun i h0 h1 => hg i h0 (by simp only [List.length_cons]; omega))⟩
def codeR (f : Int → Int) (b : Int) (e : List (Int × Int)) : Prop := ∀ (i : Nat) (h : i < e.length), f (b + 2 * (i : Int)) = e[i].1 ∧ f (b + 2 * (i : Int) + 1) = e[i].2
theorem codeR.cong {f g : Int → Int} {b : Int} {e : List (Int × Int)} (h : codeR f b e) (hg : ∀ j : Int, b ≤ j → j < b + 2 * e.length → g j = f j) : codeR g b e := by
  intro i hi
  obtain ⟨h1, h2⟩ := h i hi
  rw [hg _ (by omega) (by omega), hg _ (by omega) (by omega)]
  exact ⟨h1, h2⟩
def ltR (S : yS) (Sm : xS) : Prop := (0 ≤ Sm.1 22 ∧ Sm.1 22 < 256) ∧ ∀ k : Nat, k < 8 → S.2 1 (k : Int) = (Sm.1 22 / 2 ^ k) % 2
def PS (S : yS) (Sm : xS) (p : List Int) (o : Int) (e : List (Int × Int)) (b : Int) : Prop := LX S Sm ∧ (Sm.1 24 = p.length ∧ pileR (Sm.2 23) p) ∧ Sm.1 25 = o ∧ (Sm.1 20 = e.length ∧ codeR (Sm.2 4) (Sm.1 18 + 80) e) ∧ Sm.1 26 = b ∧ (0 ≤ Sm.1 18 ∧ Sm.1 18 ≤ 5600) ∧ ltR S Sm
/-- what the parser of sums leaves -/
def mFr (S S' : xS) : Prop := (∀ k, (k < 13 ∨ 17 < k) → k ≠ 20 → k ≠ 24 → k ≠ 25 → k ≠ 26 → S'.1 k = S.1 k) ∧ (∀ a, a ≠ 4 → a ≠ 23 → S'.2 a = S.2 a) ∧ ∀ j, ¬ (S.1 18 + 80 ≤ j ∧ j < S.1 18 + 800) → S'.2 4 j = S.2 4 j
theorem mFr.rfl_ (S : xS) : mFr S S := ⟨fun _ _ _ _ _ _ => rfl, fun _ _ _ => rfl, fun _ _ => rfl⟩
theorem mFr.trans {S X Y : xS} (h : mFr S X) (g : mFr X Y) : mFr S Y := by
  refine ⟨fun k a1 a2 a3 a4 a5 => (g.1 k a1 a2 a3 a4 a5).trans (h.1 k a1 a2 a3 a4 a5), fun a a1 a2 => (g.2.1 a a1 a2).trans (h.2.1 a a1 a2), fun j hj => (g.2.2 j ?_).trans (h.2.2 j hj)⟩
  rw [h.1 18 (by decide) (by decide) (by decide) (by decide) (by decide)]
  exact hj
theorem LX.eqM {S : yS} {X Y : xS} (h : LX S X) (h10 : Y.1 10 = X.1 10) (h13 : Y.1 13 = X.1 13) (h14 : Y.1 14 = X.1 14) (h15 : Y.1 15 = X.1 15) (h16 : Y.1 16 = X.1 16) (h17 : Y.1 17 = X.1 17) (h9 : Y.2 9 = X.2 9) : LX S Y := by
  unfold LX TxR
  rw [h10, h13, h14, h15, h16, h17, h9]
  exact h
theorem PS.emit {S : yS} {Sm : xS} {p : List Int} {o : Int} {e : List (Int × Int)} {b : Int} (h : PS S Sm p o e b) (he : e.length ≤ 340) (x v : Int) : ∃ Sm', M_emit Sm x v = some Sm' ∧ PS S Sm' p o (e ++ [(x, v)]) b ∧ mFr Sm Sm' := by
  obtain ⟨h1, h2, h3, ⟨h4, h5⟩, h6, h7, h8⟩ := h
  refine ⟨fset (aset (aset Sm 4 (Sm.1 18 + 80 + 2 * Sm.1 20) x) 4 (Sm.1 18 + 80 + 2 * Sm.1 20 + 1) v) 20 (Sm.1 20 + 1), ?_, ⟨h1.eqM rfl rfl rfl rfl rfl rfl rfl, h2, h3, ⟨?_, ?_⟩, h6, h7, h8⟩, ?_⟩
  · unfold M_emit
    rw [gd_pos (by omega), nm_eq, gd_pos (by show 0 ≤ Sm.1 18 + 80 + 2 * Sm.1 20 + 1 ∧ Sm.1 18 + 80 + 2 * Sm.1 20 + 1 < 6400; omega), nm_eq, nm_eq]
    rfl
  · show Sm.1 20 + 1 = _
    rw [h4]
    simp
  · intro i hi
    show (if Sm.1 18 + 80 + 2 * (i : Int) = Sm.1 18 + 80 + 2 * Sm.1 20 + 1 then v else if Sm.1 18 + 80 + 2 * (i : Int) = Sm.1 18 + 80 + 2 * Sm.1 20 then x else Sm.2 4 (Sm.1 18 + 80 + 2 * (i : Int))) = _ ∧ (if Sm.1 18 + 80 + 2 * (i : Int) + 1 = Sm.1 18 + 80 + 2 * Sm.1 20 + 1 then v else if Sm.1 18 + 80 + 2 * (i : Int) + 1 = Sm.1 18 + 80 + 2 * Sm.1 20 then x else Sm.2 4 (Sm.1 18 + 80 + 2 * (i : Int) + 1)) = _
    simp only [List.length_append, List.length_cons, List.length_nil] at hi
    by_cases hie : i < e.length
    · rw [if_neg (by omega), if_neg (by omega), if_neg (by omega), if_neg (by omega), List.getElem_append_left hie]
      exact h5 i hie
    · have : i = e.length := by omega
      subst this
      rw [if_neg (by omega), if_pos (by omega), if_pos (by omega), List.getElem_append_right (Nat.le_refl _)]
      simp
  · refine ⟨fun k a1 a2 a3 a4 a5 => fset_ne _ _ a2, fun a a1 a2 => ?_, fun j hj => ?_⟩
    · show (aset (aset Sm 4 _ x) 4 _ v).2 a = _
      rw [aset_ne _ _ _ a1, aset_ne _ _ _ a1]
    · show (if j = Sm.1 18 + 80 + 2 * Sm.1 20 + 1 then v else if j = Sm.1 18 + 80 + 2 * Sm.1 20 then x else Sm.2 4 j) = _
      rw [if_neg (by omega), if_neg (by omega)]
theorem PS.push {S : yS} {Sm : xS} {p : List Int} {o : Int} {e : List (Int × Int)} {b : Int} (h : PS S Sm p o e b) (hp : p.length < 150) {x : Int} (hx : 2 ≤ x ∧ x ≤ 50) : ∃ Sm', M_push Sm x = some Sm' ∧ PS S Sm' (x :: p) o e b ∧ mFr Sm Sm' := by
  obtain ⟨h1, ⟨h2, h2'⟩, h3, h4, h6, h7, h8⟩ := h
  refine ⟨fset (aset Sm 23 (Sm.1 24) x) 24 (Sm.1 24 + 1), ?_, ⟨h1.eqM rfl rfl rfl rfl rfl rfl rfl, ⟨?_, ?_, hx, h2'.cong (fun i h0 h1 => ?_)⟩, h3, h4, h6, h7, h8⟩, ?_⟩
  · unfold M_push
    rw [gd_pos (by omega), nm_eq, nm_eq]
    rfl
  · show Sm.1 24 + 1 = _
    rw [h2]
    simp
  · show (if (p.length : Int) = Sm.1 24 then x else Sm.2 23 p.length) = x
    rw [if_pos h2.symm]
  · show (if i = Sm.1 24 then x else Sm.2 23 i) = _
    rw [if_neg (by omega)]
  · refine ⟨fun k a1 a2 a3 a4 a5 => fset_ne _ _ a3, fun a a1 a2 => ?_, fun j hj => rfl⟩
    show (aset Sm 23 _ x).2 a = _
    rw [aset_ne _ _ _ a2]
theorem PS.opens {S : yS} {Sm : xS} {p : List Int} {o : Int} {e : List (Int × Int)} {b : Int} (h : PS S Sm p o e b) (z : Int) : PS S (fset Sm 25 z) p z e b ∧ mFr Sm (fset Sm 25 z) := by
  obtain ⟨h1, h2, h3, h4, h6, h7, h8⟩ := h
  exact ⟨⟨h1.eqM rfl rfl rfl rfl rfl rfl rfl, h2, rfl, h4, h6, h7, h8⟩, fun k a1 a2 a3 a4 a5 => fset_ne _ _ a4, fun _ _ _ => rfl, fun _ _ => rfl⟩
theorem PS.whl {S : yS} {Sm : xS} {p : List Int} {o : Int} {e : List (Int × Int)} {b : Int} (h : PS S Sm p o e b) (z : Int) : PS S (fset Sm 26 z) p o e z ∧ mFr Sm (fset Sm 26 z) := by
  obtain ⟨h1, h2, h3, h4, h6, h7, h8⟩ := h
  exact ⟨⟨h1.eqM rfl rfl rfl rfl rfl rfl rfl, h2, h3, h4, rfl, h7, h8⟩, fun k a1 a2 a3 a4 a5 => fset_ne _ _ a5, fun _ _ _ => rfl, fun _ _ => rfl⟩
theorem PS.pop {S : yS} {Sm : xS} {x : Int} {p : List Int} {o : Int} {e : List (Int × Int)} {b : Int} (h : PS S Sm (x :: p) o e b) : PS S (fset Sm 24 (Sm.1 24 - 1)) p o e b ∧ mFr Sm (fset Sm 24 (Sm.1 24 - 1)) ∧ Sm.1 24 = p.length + 1 ∧ Sm.2 23 (Sm.1 24 - 1) = x ∧ (2 ≤ x ∧ x ≤ 50) := by
  obtain ⟨h1, ⟨h2, h2'⟩, h3, h4, h6, h7, h8⟩ := h
  simp only [List.length_cons] at h2
  refine ⟨⟨h1.eqM rfl rfl rfl rfl rfl rfl rfl, ⟨show Sm.1 24 - 1 = _ by omega, h2'.2.2⟩, h3, h4, h6, h7, h8⟩, ⟨fun k a1 a2 a3 a4 a5 => fset_ne _ _ a3, fun _ _ _ => rfl, fun _ _ => rfl⟩, by omega, ?_, h2'.2.1⟩
  rw [show Sm.1 24 - 1 = p.length by omega]
  exact h2'.1
theorem PS.next {S : yS} {Sm : xS} {p : List Int} {o : Int} {e : List (Int × Int)} {b : Int} (h : PS S Sm p o e b) : ∃ S' Sm', T_next S = some S' ∧ M_nextToken Sm = some Sm' ∧ PS S' Sm' p o e b ∧ mFr Sm Sm' ∧ nF S S' ∧ S.1 4 ≤ S'.1 5 := by
  obtain ⟨h1, h2, h3, h4, h6, h7, h8⟩ := h
  obtain ⟨S', Sm', q1, q2, q3, q4, q5, q6⟩ := h1.nx
  have hf : ∀ k, k ≠ 13 → k ≠ 14 → k ≠ 15 → k ≠ 16 → k ≠ 17 → Sm'.1 k = Sm.1 k := q5.2
  refine ⟨S', Sm', q1, q2, ⟨q3, ?_, ?_, ?_, ?_, ?_, ?_⟩, ⟨fun k a1 a2 a3 a4 a5 => hf k (by omega) (by omega) (by omega) (by omega) (by omega), fun a _ _ => by rw [q5.1], fun j _ => by rw [q5.1]⟩, q4, q6⟩
  · rw [q5.1, hf 24 (by decide) (by decide) (by decide) (by decide) (by decide)]; exact h2
  · rw [hf 25 (by decide) (by decide) (by decide) (by decide) (by decide)]; exact h3
  · rw [q5.1, hf 20 (by decide) (by decide) (by decide) (by decide) (by decide), hf 18 (by decide) (by decide) (by decide) (by decide) (by decide)]; exact h4
  · rw [hf 26 (by decide) (by decide) (by decide) (by decide) (by decide)]; exact h6
  · rw [hf 18 (by decide) (by decide) (by decide) (by decide) (by decide)]; exact h7
  · unfold ltR
    rw [hf 22 (by decide) (by decide) (by decide) (by decide) (by decide), q4.1]; exact h8
/-- minus signs that wait -/
def whp : List Int → List Int
  | [] => []
  | x :: p => if x = 2 then whp p else x :: p
def whn : List Int → Nat
  | [] => 0
  | x :: p => if x = 2 then whn p + 1 else 0
theorem wh_len : ∀ p : List Int, (whp p).length + whn p = p.length := by
  intro p
  induction p with
  | nil => rfl
  | cons x p ih =>
    unfold whp whn
    by_cases h : x = 2
    · rw [if_pos h, if_pos h]; simp only [List.length_cons]; omega
    · rw [if_neg h, if_neg h]; rfl
theorem PS.wholeL : ∀ (p : List Int) {S : yS} {Sm : xS} {o : Int} {e : List (Int × Int)} {b : Int}, PS S Sm p o e b → e.length + p.length ≤ 340 ∧ p.length ≤ 150 → ∀ n, p.length < n → (-100000 ≤ o - p.length ∧ o ≤ 100000) → ∃ Sm', M_whole_L5 n Sm = some Sm' ∧ PS S Sm' (whp p) (o - whn p) (e ++ List.replicate (whn p) (2, 0)) b ∧ mFr Sm Sm' := by
  intro p
  induction p with
  | nil =>
    intro S Sm o e b h he n hn ho
    obtain ⟨n, rfl⟩ : ∃ k, n = k + 1 := ⟨n - 1, by simp at hn; omega⟩
    have h2 : Sm.1 24 = 0 := h.2.1.1
    refine ⟨Sm, ?_, ?_, mFr.rfl_ _⟩
    · show M_whole_b5 _ _ = _
      unfold M_whole_b5
      rw [h2, gd_pos (by decide), if_pos (by decide)]
    · show PS S Sm [] (o - 0) (e ++ []) b
      rw [Int.sub_zero, List.append_nil]
      exact h
  | cons x p ih =>
    intro S Sm o e b h he n hn ho
    simp only [List.length_cons] at hn he ho
    obtain ⟨n, rfl⟩ : ∃ k, n = k + 1 := ⟨n - 1, by omega⟩
    obtain ⟨q1, q2, q3, q4, q5⟩ := h.pop
    have hX : M_whole_L5 (n + 1) Sm = M_whole_b5 (M_whole_L5 n) Sm := rfl
    rw [hX]
    unfold M_whole_b5
    rw [gd_pos (by omega), if_neg (by omega), gd_pos (by omega), q4, gd_pos (by omega)]
    unfold whp whn
    by_cases hx : x = 2
    · rw [if_pos hx, if_pos hx, if_pos hx, nm_eq, nm_eq]
      obtain ⟨r1, r2⟩ := q1.opens ((fset Sm 24 (Sm.1 24 - 1)).1 25 - 1)
      obtain ⟨X, w1, w2, w3⟩ := r1.emit (by omega) 2 0
      rw [w1, bd_some]
      have ho2 : (fset Sm 24 (Sm.1 24 - 1)).1 25 - 1 = o - 1 := by rw [show (fset Sm 24 (Sm.1 24 - 1)).1 25 = Sm.1 25 from rfl, h.2.2.1]
      rw [ho2] at w2
      obtain ⟨Y, y1, y2, y3⟩ := ih w2 (by simp only [List.length_append, List.length_cons, List.length_nil]; omega) n (by omega) (by omega)
      refine ⟨Y, y1, ?_, q2.trans (r2.trans (w3.trans y3))⟩
      rw [show e ++ List.replicate (whn p + 1) ((2 : Int), (0 : Int)) = e ++ [(2, 0)] ++ List.replicate (whn p) (2, 0) by rw [List.replicate_succ, List.append_assoc]; rfl, show o - ((whn p + 1 : Nat) : Int) = o - 1 - (whn p : Int) by omega]
      exact y2
    · rw [if_neg hx, if_neg hx, if_neg hx]
      refine ⟨Sm, rfl, ?_, mFr.rfl_ _⟩
      show PS S Sm (x :: p) (o - 0) (e ++ []) b
      rw [Int.sub_zero, List.append_nil]
      exact h
theorem PS.whole {S : yS} {Sm : xS} {p : List Int} {o : Int} {e : List (Int × Int)} {b : Int} (h : PS S Sm p o e b) (he : e.length + p.length ≤ 340 ∧ p.length ≤ 150) (ho : 0 ≤ o ∧ o ≤ 100) : ∃ Sm', M_whole Sm = some Sm' ∧ PS S Sm' (whp p) (o - whn p) (e ++ List.replicate (whn p) (2, 0)) 1 ∧ mFr Sm Sm' := by
  obtain ⟨q1, q2⟩ := h.whl 1
  obtain ⟨X, w1, w2, w3⟩ := PS.wholeL p q1 he FU (Nat.lt_of_le_of_lt he.2 (by decide)) (by omega)
  refine ⟨X, ?_, w2, q2.trans w3⟩
  unfold M_whole
  rw [nm_eq]
  exact w1
/-- settling -/
def stq (L : Int) : List Int → List Int
  | [] => []
  | x :: p => if x < 40 ∧ L ≤ x then stq L p else x :: p
def sto (L : Int) : List Int → List (Int × Int)
  | [] => []
  | x :: p => if x < 40 ∧ L ≤ x then (x, 0) :: sto L p else []
theorem st_len (L : Int) : ∀ p : List Int, (stq L p).length + (sto L p).length = p.length := by
  intro p
  induction p with
  | nil => rfl
  | cons x p ih =>
    unfold stq sto
    by_cases h : x < 40 ∧ L ≤ x
    · rw [if_pos h, if_pos h]; simp only [List.length_cons]; omega
    · rw [if_neg h, if_neg h]; rfl
theorem PS.settleL {L : Int} (hL : r32 L) : ∀ (p : List Int) {S : yS} {Sm : xS} {o : Int} {e : List (Int × Int)} {b : Int}, PS S Sm p o e b → e.length + p.length ≤ 340 ∧ p.length ≤ 150 → ∀ n, p.length < n → ∃ Sm', M_settle_L0 L n Sm = some Sm' ∧ PS S Sm' (stq L p) o (e ++ sto L p) b ∧ mFr Sm Sm' := by
  intro p
  induction p with
  | nil =>
    intro S Sm o e b h he n hn
    obtain ⟨n, rfl⟩ : ∃ k, n = k + 1 := ⟨n - 1, by simp at hn; omega⟩
    have h2 : Sm.1 24 = 0 := h.2.1.1
    refine ⟨Sm, ?_, ?_, mFr.rfl_ _⟩
    · show M_settle_b0 _ _ _ = _
      unfold M_settle_b0
      rw [h2, gd_pos (by decide), if_pos (by decide)]
    · show PS S Sm [] o (e ++ []) b
      rw [List.append_nil]
      exact h
  | cons x p ih =>
    intro S Sm o e b h he n hn
    simp only [List.length_cons] at hn he
    obtain ⟨n, rfl⟩ : ∃ k, n = k + 1 := ⟨n - 1, by omega⟩
    obtain ⟨q1, q2, q3, q4, q5⟩ := h.pop
    have hX : M_settle_L0 L (n + 1) Sm = M_settle_b0 L (M_settle_L0 L n) Sm := rfl
    rw [hX]
    unfold M_settle_b0
    have hsame : PS S Sm (x :: p) o (e ++ []) b := by rw [List.append_nil]; exact h
    rw [gd_pos (by omega), if_neg (by omega), gd_pos (by omega), q4, gd_pos (by omega)]
    unfold stq sto
    by_cases hx : x < 40
    · rw [if_pos hx, gd_pos (by omega), gd_pos (by omega)]
      by_cases hx2 : x < L
      · rw [if_pos hx2, if_neg (by omega), if_neg (by omega)]
        exact ⟨Sm, rfl, hsame, mFr.rfl_ _⟩
      · rw [if_neg hx2, nm_eq, if_pos (by omega), if_pos (by omega)]
        rw [show (fset Sm 24 (Sm.1 24 - 1)).1 24 = Sm.1 24 - 1 from rfl, show (fset Sm 24 (Sm.1 24 - 1)).2 = Sm.2 from rfl, gd_pos (by omega), q4]
        obtain ⟨X, w1, w2, w3⟩ := q1.emit (by omega) x 0
        rw [w1, bd_some]
        obtain ⟨Y, y1, y2, y3⟩ := ih w2 (by simp only [List.length_append, List.length_cons, List.length_nil]; omega) n (by omega)
        refine ⟨Y, y1, ?_, q2.trans (w3.trans y3)⟩
        rw [show e ++ (x, (0 : Int)) :: sto L p = e ++ [(x, 0)] ++ sto L p by rw [List.append_assoc]; rfl]
        exact y2
    · rw [if_neg hx, if_neg (by omega), if_neg (by omega)]
      exact ⟨Sm, rfl, hsame, mFr.rfl_ _⟩
theorem PS.settle {L : Int} (hL : r32 L) {S : yS} {Sm : xS} {p : List Int} {o : Int} {e : List (Int × Int)} {b : Int} (h : PS S Sm p o e b) (he : e.length + p.length ≤ 340 ∧ p.length ≤ 150) : ∃ Sm', M_settle Sm L = some Sm' ∧ PS S Sm' (stq L p) o (e ++ sto L p) b ∧ mFr Sm Sm' :=
  PS.settleL hL p h he FU (Nat.lt_of_le_of_lt he.2 (by decide))
