set_option maxRecDepth 100000
/-- between sums -/
def PC (S : yS) (Sm : xS) (o : Int) (e : List (Int × Int)) : Prop := LX S Sm ∧ Sm.1 25 = o ∧ (Sm.1 20 = e.length ∧ codeR (Sm.2 4) (Sm.1 18 + 80) e) ∧ (0 ≤ Sm.1 18 ∧ Sm.1 18 ≤ 5600) ∧ ltR S Sm
theorem PC.ps {S : yS} {Sm : xS} {o : Int} {e : List (Int × Int)} (h : PC S Sm o e) : PS S (fset (fset Sm 24 0) 26 0) [] o e 0 ∧ mFr Sm (fset (fset Sm 24 0) 26 0) := by
  obtain ⟨h1, h2, h3, h4, h5⟩ := h
  exact ⟨⟨h1.eqM rfl rfl rfl rfl rfl rfl rfl, ⟨rfl, trivial⟩, h2, h3, rfl, h4, h5⟩, fun k a1 a2 a3 a4 a5 => by rw [fset_ne _ _ a5, fset_ne _ _ a3], fun _ _ _ => rfl, fun _ _ => rfl⟩
theorem PS.pc {S : yS} {Sm : xS} {p : List Int} {o b : Int} {e : List (Int × Int)} (h : PS S Sm p o e b) : PC S Sm o e := ⟨h.1, h.2.2.1, h.2.2.2.1, h.2.2.2.2.2.1, h.2.2.2.2.2.2⟩
/-- what a parser gives, and the reference's own in one call: M gives a fault or 0 -/
def ParR (kc ks : Nat) (S : yS) (Sm : xS) (m : Option (Int × xS)) (r : tR (List (Int × Int))) (Pq : List (Int × Int) → xS → Prop) : Prop :=
  ((r.2.2.1 : Int) ≤ 40 * (r.2.1.1 5 - S.1 5) + kc ∧ (r.2.2.2 : Int) ≤ 100 * (r.2.1.1 5 - S.1 5) + ks ∧ S.1 5 ≤ r.2.1.1 5 ∧ r.2.1.1 5 ≤ S.1 1) ∧
  ((∃ c Sm', r.1 = .inl c ∧ m = some (0, Sm') ∧ Pq c Sm' ∧ mFr Sm Sm' ∧ nF S r.2.1 ∧ S.1 5 < r.2.1.1 5) ∨
   (∃ ft pl Sm', r.1 = .inr (ft, pl) ∧ m = some (ft, Sm') ∧ (1 ≤ ft ∧ ft ≤ 6) ∧ Sm'.1 14 = pl ∧ r32 pl ∧ mFr Sm Sm'))
theorem hp_st {q : List Int} (h : stq 3 q = []) : hp q = false := by
  induction q with
  | nil => rfl
  | cons x q ih =>
    unfold stq at h
    by_cases c : x < 40 ∧ 3 ≤ x
    · rw [if_pos c] at h
      have := ih h
      unfold hp at this ⊢
      rw [List.any_cons, this, decide_eq_false (by omega)]
      rfl
    · rw [if_neg c] at h
      cases h
theorem summed_ok (d : Nat) {S : yS} {Sm : xS} {e : List (Int × Int)} (h : PC S Sm (S.1 8) e) (h8 : 0 ≤ S.1 8 ∧ S.1 8 ≤ 8) (hd : 9 ≤ S.1 8 + d) {zz : Nat} (hl : ((e.length + zz : Nat) : Int) ≤ S.1 5) : ∃ r, T_sum d S = some r ∧ ParR 41 75 S Sm (M_summed Sm) r (fun c Sm' => PC r.2.1 Sm' (S.1 8) (e ++ c) ∧ (((e ++ c).length + zz : Nat) : Int) ≤ r.2.1.1 5 ∧ ckS c) := by
  obtain ⟨p1, p2⟩ := h.ps
  obtain ⟨r, w1, ⟨w2, w3, w4, w5⟩, w6⟩ := sum_ok d S _ [] e zz p1 h8 (by omega) (by simp; omega) rfl rfl (by simpa using hl)
  have b5 := h.1.b5
  refine ⟨r, w1, ⟨w2, w3, w4, w5⟩, ?_⟩
  have hM : M_summed Sm = M_summed_L10 FU (fset (fset Sm 24 0) 26 0) := rfl
  rw [hM]
  rcases w6 with ⟨c, q, f, o1, Y, t, v1, v2, v3, v4, ⟨v5, v6, v7, v8, v14⟩, v9, v10, v11, v12, v13, v15⟩ | ⟨ft, pl, Y, t, v1, v2, v3, v4, v5, v6, v7⟩
  · left
    have hg : gOn (r.2.1.1 6) q = false := by
      have hE' : ((True ∧ r.2.1.1 6 ≠ 42 ∧ r.2.1.1 6 ≠ 47) ∧ r.2.1.1 6 ≠ 43 ∧ r.2.1.1 6 ≠ 45) := v12
      unfold gOn
      rw [hp_st v5, decide_eq_false (by omega)]
      simp
    simp only [List.length_nil] at v14
    obtain ⟨Z, z1, z2, z3⟩ := v4.end_ (by omega) hg
    rw [if_pos v5] at z1
    rw [v6] at z2
    refine ⟨c, Z, v1, ?_, ⟨by rw [← v8]; exact z2.pc, ?_, v15⟩, p2.trans (v9.trans z3), v10, v11⟩
    · have q1 := v2 (FU - t)
      have q2 := z1 (FU - t - 1)
      rw [show FU - t + t = FU by unfold FU; omega] at q1
      rw [show FU - t - 1 + 1 = FU - t by unfold FU; omega] at q2
      rw [q1, q2]
    · have : (f ++ sto 3 q).length = (e ++ c).length := by rw [v6]
      have h2 := st_len 3 q
      rw [v5] at h2
      simp only [List.length_append, List.length_nil] at this h2 ⊢
      omega
  · right
    refine ⟨ft, pl, Y, v1, ?_, v4, v5, v6, p2.trans v7⟩
    have q1 := v2 (FU - t)
    rw [show FU - t + t = FU by unfold FU; omega] at q1
    exact q1
theorem PC.next {S : yS} {Sm : xS} {o : Int} {e : List (Int × Int)} (h : PC S Sm o e) : ∃ S' Sm', T_next S = some S' ∧ M_nextToken Sm = some Sm' ∧ PC S' Sm' o e ∧ mFr Sm Sm' ∧ nF S S' ∧ S.1 4 ≤ S'.1 5 := by
  obtain ⟨h1, h3, h4, h7, h8⟩ := h
  obtain ⟨S', Sm', q1, q2, q3, q4, q5, q6⟩ := h1.nx
  have hf : ∀ k, k ≠ 13 → k ≠ 14 → k ≠ 15 → k ≠ 16 → k ≠ 17 → Sm'.1 k = Sm.1 k := q5.2
  refine ⟨S', Sm', q1, q2, ⟨q3, ?_, ?_, ?_, ?_⟩, ⟨fun k a1 a2 a3 a4 a5 => hf k (by omega) (by omega) (by omega) (by omega) (by omega), fun a _ _ => by rw [q5.1], fun j _ => by rw [q5.1]⟩, q4, q6⟩
  · rw [hf 25 (by decide) (by decide) (by decide) (by decide) (by decide)]; exact h3
  · rw [q5.1, hf 20 (by decide) (by decide) (by decide) (by decide) (by decide), hf 18 (by decide) (by decide) (by decide) (by decide) (by decide)]; exact h4
  · rw [hf 18 (by decide) (by decide) (by decide) (by decide) (by decide)]; exact h7
  · unfold ltR
    rw [hf 22 (by decide) (by decide) (by decide) (by decide) (by decide), q4.1]; exact h8
theorem PC.emit {S : yS} {Sm : xS} {o : Int} {e : List (Int × Int)} (h : PC S Sm o e) (he : e.length ≤ 340) (x v : Int) : ∃ Sm', M_emit Sm x v = some Sm' ∧ PC S Sm' o (e ++ [(x, v)]) ∧ mFr Sm Sm' := by
  obtain ⟨h1, h3, ⟨h4, h5⟩, h7, h8⟩ := h
  refine ⟨fset (aset (aset Sm 4 (Sm.1 18 + 80 + 2 * Sm.1 20) x) 4 (Sm.1 18 + 80 + 2 * Sm.1 20 + 1) v) 20 (Sm.1 20 + 1), ?_, ⟨h1.eqM rfl rfl rfl rfl rfl rfl rfl, h3, ⟨?_, ?_⟩, h7, h8⟩, ?_⟩
  · unfold M_emit
    rw [gd_pos (by omega), nm_eq, gd_pos (by show 0 ≤ Sm.1 18 + 80 + 2 * Sm.1 20 + 1 ∧ Sm.1 18 + 80 + 2 * Sm.1 20 + 1 < 6400; omega), nm_eq, nm_eq]
    rfl
  · show Sm.1 20 + 1 = _
    rw [h4]
    simp
  · intro i hi
    show (if Sm.1 18 + 80 + 2 * (i : Int) = Sm.1 18 + 80 + 2 * Sm.1 20 + 1 then v else if Sm.1 18 + 80 + 2 * (i : Int) = Sm.1 18 + 80 + 2 * Sm.1 20 then x else Sm.2 4 (Sm.1 18 + 80 + 2 * (i : Int))) = _ ∧ (if Sm.1 18 + 80 + 2 * (i : Int) + 1 = Sm.1 18 + 80 + 2 * Sm.1 20 + 1 then v else if Sm.1 18 + 80 + 2 * (i : Int) + 1 = Sm.1 18 + 80 + 2 * Sm.1 20 then x else Sm.2 4 (Sm.1 18 + 80 + 2 * (i : Int) + 1)) = _
    simp only [List.length_append, List.length_cons, List.length_nil] at hi
    by_cases hie : i < e.length
    · rw [if_neg (by omega), if_neg (by omega), if_neg (by omega), if_neg (by omega), List.getElem_append_left hie]
      exact h5 i hie
    · have : i = e.length := by omega
      subst this
      rw [if_neg (by omega), if_pos (by omega), if_pos (by omega), List.getElem_append_right (Nat.le_refl _)]
      simp
  · refine ⟨fun k a1 a2 a3 a4 a5 => fset_ne _ _ a2, fun a a1 a2 => ?_, fun j hj => ?_⟩
    · show (aset (aset Sm 4 _ x) 4 _ v).2 a = _
      rw [aset_ne _ _ _ a1, aset_ne _ _ _ a1]
    · show (if j = Sm.1 18 + 80 + 2 * Sm.1 20 + 1 then v else if j = Sm.1 18 + 80 + 2 * Sm.1 20 then x else Sm.2 4 j) = _
      rw [if_neg (by omega), if_neg (by omega)]
theorem PC.opens {S : yS} {Sm : xS} {o : Int} {e : List (Int × Int)} (h : PC S Sm o e) (z : Int) : PC S (fset Sm 25 z) z e ∧ mFr Sm (fset Sm 25 z) := by
  obtain ⟨h1, h3, h4, h7, h8⟩ := h
  exact ⟨⟨h1.eqM rfl rfl rfl rfl rfl rfl rfl, rfl, h4, h7, h8⟩, fun k a1 a2 a3 a4 a5 => fset_ne _ _ a4, fun _ _ _ => rfl, fun _ _ => rfl⟩
theorem PC.t8 {S : yS} {Sm : xS} {o z : Int} {e : List (Int × Int)} (h : PC S Sm o e) : PC (cfs S 8 z) Sm o e := h
/-- the nots that are written behind -/
theorem PC.nots {S : yS} : ∀ (m : Nat) {Sm : xS} {o x1 k : Int} {e : List (Int × Int)}, PC S Sm o e → x1 - k = m → (0 ≤ k ∧ x1 ≤ 8) → e.length + m ≤ 340 → ∀ n, m < n → ∃ Sm', M_ask_L105 x1 n Sm k = some (0, Sm') ∧ PC S Sm' o (e ++ List.replicate m (20, 0)) ∧ mFr Sm Sm' := by
  intro m
  induction m with
  | zero =>
    intro Sm o x1 k e h hk hb he n hn
    obtain ⟨n, rfl⟩ : ∃ k, n = k + 1 := ⟨n - 1, by omega⟩
    refine ⟨Sm, ?_, by simpa using h, mFr.rfl_ _⟩
    show M_ask_b105 _ _ _ _ = _
    unfold M_ask_b105
    rw [gd_pos (by omega), if_neg (by omega)]
  | succ m ih =>
    intro Sm o x1 k e h hk hb he n hn
    obtain ⟨n, rfl⟩ : ∃ k, n = k + 1 := ⟨n - 1, by omega⟩
    obtain ⟨X, y1, y2, y3⟩ := h.emit (by omega) 20 0
    obtain ⟨Y, z1, z2, z3⟩ := ih y2 (k := k + 1) (x1 := x1) (by omega) (by omega) (by simp only [List.length_append, List.length_cons, List.length_nil]; omega) n (by omega)
    refine ⟨Y, ?_, ?_, y3.trans z3⟩
    · show M_ask_b105 _ _ _ _ = _
      unfold M_ask_b105
      rw [gd_pos (by omega), if_pos (by omega), y1, bd_some, nm_eq, z1]
    · rw [List.replicate_succ, show e ++ (20, (0 : Int)) :: List.replicate m (20, 0) = e ++ [(20, 0)] ++ List.replicate m (20, 0) by rw [List.append_assoc]; rfl]
      exact z2
theorem LX.compareOf {S : yS} {Sm : xS} (h : LX S Sm) : M_compareOf Sm = some (if isCm (S.1 6) then cmO (S.1 6) else -1) := by
  have hr := h.tk.1.2.1
  have s1 := h.sg (s := 60) (by unfold isSg; omega)
  have s2 := h.sg (s := 62) (by unfold isSg; omega)
  have s3 := h.sg (s := 61) (by unfold isSg; omega)
  have s4 := h.sg (s := 35) (by unfold isSg; omega)
  have s5 := h.tk.2.2.1.2.2.1
  have s6 := h.tk.2.2.1.2.2.2
  unfold M_compareOf isCm cmO
  by_cases c1 : S.1 6 = 60
  · rw [gd_pos hr, if_pos (s1.mp c1), c1]; rfl
  by_cases c2 : S.1 6 = 303
  · rw [gd_pos hr, if_neg (by omega), gd_pos hr, if_pos (s5.mp c2), c2]; rfl
  by_cases c3 : S.1 6 = 62
  · rw [gd_pos hr, if_neg (by omega), gd_pos hr, if_neg (by omega), gd_pos hr, if_pos (s2.mp c3), c3]; rfl
  by_cases c4 : S.1 6 = 304
  · rw [gd_pos hr, if_neg (by omega), gd_pos hr, if_neg (by omega), gd_pos hr, if_neg (by omega), gd_pos hr, if_pos (s6.mp c4), c4]; rfl
  by_cases c5 : S.1 6 = 61
  · rw [gd_pos hr, if_neg (by omega), gd_pos hr, if_neg (by omega), gd_pos hr, if_neg (by omega), gd_pos hr, if_neg (by omega), gd_pos hr, if_pos (s3.mp c5), c5]; rfl
  by_cases c6 : S.1 6 = 35
  · rw [gd_pos hr, if_neg (by omega), gd_pos hr, if_neg (by omega), gd_pos hr, if_neg (by omega), gd_pos hr, if_neg (by omega), gd_pos hr, if_neg (by omega), gd_pos hr, if_pos (s4.mp c6), c6]; rfl
  · rw [gd_pos hr, if_neg (by omega), gd_pos hr, if_neg (by omega), gd_pos hr, if_neg (by omega), gd_pos hr, if_neg (by omega), gd_pos hr, if_neg (by omega), gd_pos hr, if_neg (by omega), if_neg (by omega)]
