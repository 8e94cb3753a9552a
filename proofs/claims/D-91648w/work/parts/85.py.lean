set_option maxRecDepth 100000
/-- a rule that lies in the reference's texts -/
def RuleR (f : Int → Int) (t : Int) (cs : List tCl) : Prop := hdR f t cs ∧ codeR f (t + 80) (cd cs) ∧ (∀ c ∈ cs, okC1 c) ∧ (cd cs).length ≤ 300 ∧ cs.length ≤ 10
theorem RuleR.cong {f g : Int → Int} {t : Int} {cs : List tCl} (h : RuleR f t cs) (hg : ∀ j, t + 1 ≤ j → j < t + 800 → g j = f j) : RuleR g t cs := by
  obtain ⟨h1, h2, h3, h4, h5⟩ := h
  exact ⟨h1.cong (fun j a b => hg j a (by omega)), h2.cong (fun j a b => hg j (by omega) (by omega)), h3, h4, h5⟩
/-- THE READING OF A TEXT, of both -/
theorem read_ok {Sm : xS} {n : Int} {tx : Int → Int} (hn : n = Sm.1 10) (hn2 : 0 ≤ n ∧ n ≤ 300) (ht : ∀ j, 0 ≤ j → j < 300 → tx j = Int.bmod (Sm.2 9 j) 256 ∧ 0 ≤ Sm.2 9 j ∧ Sm.2 9 j ≤ 255) (hr : 0 ≤ Sm.2 2 3 ∧ Sm.2 2 3 ≤ 7) :
    ∃ x S' k m f Sm', T_rd (T_sum 9) (T_either 9 9) (tk0S n tx) = some (x, S', k, m) ∧ M_readText Sm = some (f, Sm') ∧ (∀ j, (j < 13 ∨ 26 < j) → Sm'.1 j = Sm.1 j) ∧ Sm'.1 18 = 800 * Sm.2 2 3 ∧ (∀ a, a ≠ 4 → a ≠ 23 → Sm'.2 a = Sm.2 a) ∧ (∀ j, ¬ (800 * Sm.2 2 3 ≤ j ∧ j < 800 * Sm.2 2 3 + 800) → Sm'.2 4 j = Sm.2 4 j) ∧ (k : Int) ≤ 60 * n + 80 ∧ (m : Int) ≤ 140 * n + 260 ∧
      ((∃ cs, x = .inl cs ∧ f = 0 ∧ Sm'.1 19 = cs.length ∧ RuleR (Sm'.2 4) (800 * Sm.2 2 3) cs) ∨ (∃ pl, x = .inr (f, pl) ∧ (1 ≤ f ∧ f ≤ 6) ∧ Sm'.1 14 = pl ∧ r32 pl)) := by
  obtain ⟨A, hA⟩ : ∃ A : xS, A = fset (fset (fset (fset (fset (fset (fset Sm 18 (800 * (Sm.2 2 3))) 19 0) 20 0) 25 0) 21 0) 22 0) 13 0 := ⟨_, rfl⟩
  have hTx : TxR (tk0S n tx) A := by
    rw [hA]
    exact ⟨hn, hn2, ht⟩
  obtain ⟨S1, X, y1, y2, y3, y4, y5, y6⟩ := nx_tok hTx (by rw [hA]; rfl) (Int.le_refl _) (by show (0 : Int) ≤ n; omega)
  have hM : M_readText Sm = M_readText_L48 FU X := by
    have : M_readText Sm = bd (M_nextToken A) (fun S16 => M_readText_L48 FU S16) := by rw [hA]; rfl
    rw [this, y2, bd_some]
  have hT : T_rd (T_sum 9) (T_either 9 9) (tk0S n tx) = T_rdL (T_sum 9) (T_either 9 9) FU [] S1 1 3 := by
    unfold T_rd
    rw [y1, bd_some]
  have f := y5.2
  have hF0 : ∀ j, j ≠ 13 → j ≠ 18 → j ≠ 19 → j ≠ 20 → j ≠ 21 → j ≠ 22 → j ≠ 25 → A.1 j = Sm.1 j := by
    intro j a1 a2 a3 a4 a5 a6 a7
    rw [hA, fset_ne _ _ a1, fset_ne _ _ a6, fset_ne _ _ a5, fset_ne _ _ a7, fset_ne _ _ a4, fset_ne _ _ a3, fset_ne _ _ a2]
  have A2 : A.2 = Sm.2 := by rw [hA]; rfl
  have x18 : X.1 18 = 800 * Sm.2 2 3 := by rw [f 18 (by decide) (by decide) (by decide) (by decide) (by decide), hA]; rfl
  have x0 : X.1 19 = 0 ∧ X.1 20 = 0 ∧ X.1 21 = 0 ∧ X.1 22 = 0 ∧ X.1 25 = 0 := by
    refine ⟨?_, ?_, ?_, ?_, ?_⟩
    · rw [f 19 (by decide) (by decide) (by decide) (by decide) (by decide), hA]; rfl
    · rw [f 20 (by decide) (by decide) (by decide) (by decide) (by decide), hA]; rfl
    · rw [f 21 (by decide) (by decide) (by decide) (by decide) (by decide), hA]; rfl
    · rw [f 22 (by decide) (by decide) (by decide) (by decide) (by decide), hA]; rfl
    · rw [f 25 (by decide) (by decide) (by decide) (by decide) (by decide), hA]; rfl
  have s0 : ∀ a : Int, a ≠ 0 → S1.2 a = fun _ => 0 := by
    intro a ha
    rw [y4.1]
    show (if a = 0 then tx else fun _ => 0) = _
    rw [if_neg ha]
  have hz : ∀ k : Nat, ((0 : Int) / 2 ^ k) % 2 = 0 := by intro k; rw [Int.zero_ediv]; rfl
  have hRI : rdI S1 X [] := by
    refine ⟨⟨y3, x0.2.2.2.2, ⟨x0.2.1, fun i hi => absurd hi (Nat.not_lt_zero _)⟩, by rw [x18]; omega, ?_⟩, ?_, ⟨x0.1, Nat.zero_le _⟩, fun i hi => absurd hi (Nat.not_lt_zero _), ?_, fun c hc => (by cases hc), ?_⟩
    · unfold ltR
      rw [x0.2.2.2.1, s0 1 (by decide)]
      exact ⟨by decide, fun k _ => (hz k).symm⟩
    · rw [y4.2 8 (by decide) (by decide) (by decide) (by decide)]; rfl
    · unfold cmR
      rw [x0.2.2.1, s0 2 (by decide)]
      exact ⟨by decide, fun k _ => (hz (k + 1)).symm⟩
    · show (0 : Int) ≤ S1.1 5
      exact y3.b5.1
  have b5 := y3.b5
  have h11 : S1.1 1 = n := y4.2 1 (by decide) (by decide) (by decide) (by decide)
  rcases rdL_ok 9 9 (by decide) (by decide) (by decide) 300 S1 X [] 1 3 (by omega) hRI FU FU (by decide) (by decide) with ⟨cs, S2, Y, k, m, e1, e2, e3, e4, e5, e6, e7⟩ | ⟨ft, pl, S2, Y, k, m, e1, e2, e3, e4, e5, e6, e7, e8, e9⟩
  · refine ⟨.inl cs, S2, k, m, 0, Y, hT.trans e1, hM.trans e2, fun j hj => ?_, e4.2.1.trans x18, fun a a1 a2 => ?_, fun j hj => ?_, by omega, by omega, Or.inl ⟨cs, rfl, rfl, e3.2.2.1.1, ?_⟩⟩
    · rw [e4.1 j hj, f j (by omega) (by omega) (by omega) (by omega) (by omega), hF0 j (by omega) (by omega) (by omega) (by omega) (by omega) (by omega) (by omega)]
    · rw [e4.2.2.1 a a1 a2, y5.1, A2]
    · rw [e4.2.2.2 j (by rw [x18]; exact hj), y5.1, A2]
    · have y18 : Y.1 18 = 800 * Sm.2 2 3 := e4.2.1.trans x18
      have b52 := e3.1.1.b5
      rw [← y18]
      exact ⟨e3.2.2.2.1, e3.1.2.2.1.2, e3.2.2.2.2.2.1, by have := e3.2.2.2.2.2.2; omega, e3.2.2.1.2⟩
  · refine ⟨.inr (ft, pl), S2, k, m, ft, Y, hT.trans e1, hM.trans e2, fun j hj => ?_, e6.2.1.trans x18, fun a a1 a2 => ?_, fun j hj => ?_, by omega, by omega, Or.inr ⟨pl, rfl, e3, e4, e5⟩⟩
    · rw [e6.1 j hj, f j (by omega) (by omega) (by omega) (by omega) (by omega), hF0 j (by omega) (by omega) (by omega) (by omega) (by omega) (by omega) (by omega)]
    · rw [e6.2.2.1 a a1 a2, y5.1, A2]
    · rw [e6.2.2.2 j (by rw [x18]; exact hj), y5.1, A2]
