set_option maxRecDepth 100000
def LtR (S : yS) (Sm : xS) : Prop := ∀ k, 0 ≤ k → k < 8 → S.2 661 k = Sm.2 36 k ∧ (-1000000 ≤ Sm.2 36 k ∧ Sm.2 36 k ≤ 1000000)
/-- the ticks of a flight -/
theorem loop_ok {ed : Nat} {rs : List (List tCl)} {x1 x5 : Int} (hx1 : 0 ≤ x1 ∧ x1 < rs.length) (hx5 : 0 ≤ x5 ∧ x5 ≤ 60) : ∀ (m : Nat) (S : yS) (Sm : xS), x5 - Sm.1 29 ≤ m → RC S Sm → FR S Sm → RlR S Sm ed rs → (Sm.1 34 = 1 → Sm.1 29 < x5) → (Sm.1 34 = 0 → Sm.1 33 = 0 → Sm.1 29 ≤ x5) → Sm.1 29 ≤ x5 → ∀ n1 n2, m + 1 < n1 → m < n2 → ∃ S' Sm', C_flies_L79 ed rs x1 x5 n1 S = some S' ∧ M_run_L36 x1 x5 n2 Sm = some Sm' ∧ RC S' Sm' ∧ RlR S' Sm' ed rs ∧ FR S' Sm' ∧ fC S S' ∧ fM Sm Sm' ∧ Sm'.1 27 = Sm.1 27 ∧ Sm'.1 29 ≤ x5 ∧ (Sm'.1 34 = 1 → Sm'.1 29 < x5) ∧ (Sm.1 29 < Sm'.1 29 ∨ Sm.1 29 = Sm'.1 29 ∧ (Sm'.1 34 = 1 ∨ Sm.1 33 = 1 ∨ x5 ≤ Sm.1 29)) := by
  intro m
  induction m with
  | zero =>
    intro S Sm hm R hF hL h34 h33 h29 n1 n2 q1 q2
    obtain ⟨n1, rfl⟩ : ∃ k, n1 = k + 1 := ⟨n1 - 1, by omega⟩
    obtain ⟨n2, rfl⟩ : ∃ k, n2 = k + 1 := ⟨n2 - 1, by omega⟩
    have f17 := hF.1.1.2.2.2.1
    have ftk := hF.1.2.2.1
    refine ⟨S, Sm, ?_, ?_, R, hL, hF, fC.rf S, fM.rf Sm, rfl, h29, h34, Or.inr ⟨rfl, Or.inr (Or.inr (by omega))⟩⟩
    · show C_flies_b79 _ _ _ _ _ _ = _
      unfold C_flies_b79
      rw [gd_pos (by omega), if_neg (by omega)]
    · show M_run_b36 _ _ _ _ = _
      unfold M_run_b36
      rw [gd_pos (by omega), if_neg (by omega)]
  | succ m ih =>
    intro S Sm hm R hF hL h34 h33 h29 n1 n2 q1 q2
    obtain ⟨n1, rfl⟩ : ∃ k, n1 = k + 1 := ⟨n1 - 1, by omega⟩
    obtain ⟨n2, rfl⟩ : ∃ k, n2 = k + 1 := ⟨n2 - 1, by omega⟩
    have ⟨f14, f15, f16, f17, f18, f19⟩ := hF.1.1
    have ftk := hF.1.2.2.1
    have b33 := hF.1.2.2.2.1
    have b34 := hF.1.2.2.2.2.1
    have eC : C_flies_L79 ed rs x1 x5 (n1 + 1) S = C_flies_b79 ed rs x1 x5 (C_flies_L79 ed rs x1 x5 n1) S := rfl
    have eM : M_run_L36 x1 x5 (n2 + 1) Sm = M_run_b36 x1 x5 (M_run_L36 x1 x5 n2) Sm := rfl
    by_cases c1 : Sm.1 29 < x5
    · by_cases c2 : Sm.1 33 = 0
      · by_cases c3 : Sm.1 34 = 0
        · obtain ⟨S1, M1, a1, a2, a3, a4, a5, a6, a7, a8, a9⟩ := tick_ok R hF hL hx1 c2 c3 (by omega)
          have hC : C_flies_L79 ed rs x1 x5 (n1 + 1) S = C_flies_L79 ed rs x1 x5 n1 S1 := by
            rw [eC]
            unfold C_flies_b79
            rw [gd_pos (by omega), if_pos (by omega), gd_pos (by omega), if_pos (by omega), gd_pos (by omega), if_pos (by omega), a1, bd_some]
          have hM := a2 (M_run_L36 x1 x5 n2) x5 (by omega) c1
          have g19 := a5.1.1.2.2.2.2.2
          have g17 := a5.1.1.2.2.2.1
          have g18 := a5.1.1.2.2.2.2.1
          have gh := a5.1.2.2.2.1
          by_cases c4 : S1.1 19 = 1
          · rw [if_pos c4] at hM
            obtain ⟨n1, rfl⟩ : ∃ k, n1 = k + 1 := ⟨n1 - 1, by omega⟩
            have h29' : M1.1 29 = Sm.1 29 := by
              rcases a8 with a8 | a8
              · exact a8.2
              · omega
            refine ⟨S1, M1, ?_, by rw [eM, hM], a3, a4, a5, a6, a7, a9, by omega, fun _ => by omega, Or.inr ⟨h29'.symm, Or.inl (by omega)⟩⟩
            rw [hC]
            show C_flies_b79 _ _ _ _ _ _ = _
            unfold C_flies_b79
            rw [gd_pos (by omega), if_pos (by omega), gd_pos (by omega)]
            by_cases c5 : S1.1 18 = 0
            · rw [if_pos c5, gd_pos (by omega), if_neg (by omega)]
            · rw [if_neg c5]
          · rw [if_neg c4] at hM
            have h29' : M1.1 29 = Sm.1 29 + 1 := by
              rcases a8 with a8 | a8
              · exact absurd a8.1 c4
              · exact a8.2
            obtain ⟨S2, M2, b1, b2, b3, b4, b5, b6, b7, b8, b9, b10, b11⟩ := ih S1 M1 (by omega) a3 a5 a4 (fun w => by have := a5.1.2.2.2.2.1; omega) (fun _ _ => by omega) (by omega) n1 n2 (by omega) (by omega)
            exact ⟨S2, M2, by rw [hC, b1], by rw [eM, hM, b2], b3, b4, b5, a6.tr b6, a7.tr b7, b8.trans a9, b9, b10, Or.inl (by omega)⟩
        · refine ⟨S, Sm, ?_, ?_, R, hL, hF, fC.rf S, fM.rf Sm, rfl, h29, h34, Or.inr ⟨rfl, Or.inl (by omega)⟩⟩
          · rw [eC]
            unfold C_flies_b79
            rw [gd_pos (by omega), if_pos (by omega), gd_pos (by omega), if_pos (by omega), gd_pos (by omega), if_neg (by omega)]
          · rw [eM]
            unfold M_run_b36
            rw [gd_pos (by omega), if_pos c1, gd_pos (by omega), if_pos c2, gd_pos (by omega), if_neg c3]
      · refine ⟨S, Sm, ?_, ?_, R, hL, hF, fC.rf S, fM.rf Sm, rfl, h29, h34, Or.inr ⟨rfl, Or.inr (Or.inl (by omega))⟩⟩
        · rw [eC]
          unfold C_flies_b79
          rw [gd_pos (by omega), if_pos (by omega), gd_pos (by omega), if_neg (by omega)]
        · rw [eM]
          unfold M_run_b36
          rw [gd_pos (by omega), if_pos c1, gd_pos (by omega), if_neg c2]
    · refine ⟨S, Sm, ?_, ?_, R, hL, hF, fC.rf S, fM.rf Sm, rfl, h29, h34, Or.inr ⟨rfl, Or.inr (Or.inr (by omega))⟩⟩
      · rw [eC]
        unfold C_flies_b79
        rw [gd_pos (by omega), if_neg (by omega)]
      · rw [eM]
        unfold M_run_b36
        rw [gd_pos (by omega), if_neg c1]
/-- A FLIGHT, of both -/
theorem flies_ok {S : yS} {Sm : xS} {ed : Nat} {rs : List (List tCl)} {x1 x y head n bits : Int} (R : RC S Sm) (hL : RlR S Sm ed rs) (hl : LtR S Sm) (hx1 : 0 ≤ x1 ∧ x1 < rs.length) (P : okP (Sm.1 0) (Sm.1 1) x y) (hd : 0 ≤ head ∧ head ≤ 63) (hn : 0 ≤ n ∧ n ≤ 60) (hb : bits = 0 ∧ Sm.1 27 = 1000000 ∨ (4 ≤ bits ∧ bits ≤ 20) ∧ Sm.1 27 = (1 : Int) * 2 ^ (Int.toNat (bits - 1)) - 1) : ∃ S' Sm', C_flies ed rs S x1 x y head n bits = some S' ∧ M_run Sm x1 x y head n = some Sm' ∧ RC S' Sm' ∧ RlR S' Sm' ed rs ∧ FR S' Sm' ∧ fC S S' ∧ fM Sm Sm' ∧ Sm'.1 27 = Sm.1 27 ∧ Sm'.1 29 ≤ n ∧ (n = 1 → (Sm'.1 34 = 1 ↔ Sm'.1 29 = 0)) := by
  obtain ⟨A, hA⟩ : ∃ A : yS, A = cfs (cfs (cfs (cfs (cfs (cfs (cfs (cfs S 14 x) 15 y) 16 head) 17 0) 18 0) 19 0) 24 0) 25 (Sm.1 27) := ⟨_, rfl⟩
  obtain ⟨B, hB⟩ : ∃ B : xS, B = fset (fset (fset (fset (fset (fset (fset Sm 29 0) 30 x) 31 y) 32 head) 33 0) 34 0) 28 0 := ⟨_, rfl⟩
  have pw : ∀ b : Int, 4 ≤ b → b ≤ 20 → 7 ≤ (1 : Int) * 2 ^ (Int.toNat (b - 1)) - 1 ∧ (1 : Int) * 2 ^ (Int.toNat (b - 1)) - 1 ≤ 1000000 := by
    intro b b1 b2
    have key : ∀ k, 3 ≤ k → k ≤ 19 → 7 ≤ (1 : Int) * 2 ^ k - 1 ∧ (1 : Int) * 2 ^ k - 1 ≤ 1000000 := by
      intro k k1 k2
      rcases (by omega : k = 3 ∨ k = 4 ∨ k = 5 ∨ k = 6 ∨ k = 7 ∨ k = 8 ∨ k = 9 ∨ k = 10 ∨ k = 11 ∨ k = 12 ∨ k = 13 ∨ k = 14 ∨ k = 15 ∨ k = 16 ∨ k = 17 ∨ k = 18 ∨ k = 19) with rfl | rfl | rfl | rfl | rfl | rfl | rfl | rfl | rfl | rfl | rfl | rfl | rfl | rfl | rfl | rfl | rfl <;> decide
    exact key _ (by omega) (by omega)
  have h27 : 0 ≤ Sm.1 27 ∧ Sm.1 27 ≤ 1000000 := by
    rcases hb with ⟨-, h⟩ | ⟨h1, h⟩
    · omega
    · have := pw bits h1.1 h1.2
      omega
  have A2 : A.2 = S.2 := by rw [hA]; rfl
  have B2 : B.2 = Sm.2 := by rw [hB]; rfl
  have A1 : ∀ k, k ≠ 14 → k ≠ 15 → k ≠ 16 → k ≠ 17 → k ≠ 18 → k ≠ 19 → k ≠ 24 → k ≠ 25 → A.1 k = S.1 k := fun k a b c d e f g h => by rw [hA, cfs_ne _ _ h, cfs_ne _ _ g, cfs_ne _ _ f, cfs_ne _ _ e, cfs_ne _ _ d, cfs_ne _ _ c, cfs_ne _ _ b, cfs_ne _ _ a]
  have B1 : ∀ k, k ≠ 29 → k ≠ 30 → k ≠ 31 → k ≠ 32 → k ≠ 33 → k ≠ 34 → k ≠ 28 → B.1 k = Sm.1 k := fun k a b c d e f g => by rw [hB, fset_ne _ _ g, fset_ne _ _ f, fset_ne _ _ e, fset_ne _ _ d, fset_ne _ _ c, fset_ne _ _ b, fset_ne _ _ a]
  have fA : fC S A := ⟨fun k hk => A1 k (by omega) (by omega) (by omega) (by omega) (by omega) (by omega) (by omega) (by omega), fun k hk => A1 k (by omega) (by omega) (by omega) (by omega) (by omega) (by omega) (by omega) (by omega), fun q _ => by rw [A2]⟩
  have fB : fM Sm B := ⟨⟨B1 0 (by decide) (by decide) (by decide) (by decide) (by decide) (by decide) (by decide), B1 1 (by decide) (by decide) (by decide) (by decide) (by decide) (by decide) (by decide), B1 10 (by decide) (by decide) (by decide) (by decide) (by decide) (by decide) (by decide), B1 11 (by decide) (by decide) (by decide) (by decide) (by decide) (by decide) (by decide), B1 12 (by decide) (by decide) (by decide) (by decide) (by decide) (by decide) (by decide)⟩, by rw [B2], by rw [B2], by rw [B2], fun _ _ => by rw [B2]⟩
  have B27 : B.1 27 = Sm.1 27 := B1 27 (by decide) (by decide) (by decide) (by decide) (by decide) (by decide) (by decide)
  have e29 : B.1 29 = 0 := by rw [hB]; rfl
  have e30 : B.1 30 = x := by rw [hB]; rfl
  have e31 : B.1 31 = y := by rw [hB]; rfl
  have e32 : B.1 32 = head := by rw [hB]; rfl
  have e33 : B.1 33 = 0 := by rw [hB]; rfl
  have e34 : B.1 34 = 0 := by rw [hB]; rfl
  have e28 : B.1 28 = 0 := by rw [hB]; rfl
  have hFR : FR A B := by
    refine ⟨⟨⟨?_, ?_, ?_, ?_, ?_, ?_⟩, by rw [e32]; exact hd, by rw [e29]; decide, Or.inl e33, Or.inl e34, fun _ => ?_⟩, ⟨⟨?_, ?_⟩, ?_⟩, ?_, fun t t0 t1 => by rw [e29] at t1; omega⟩
    · rw [e30, hA]; rfl
    · rw [e31, hA]; rfl
    · rw [e32, hA]; rfl
    · rw [e29, hA]; rfl
    · rw [e33, hA]; rfl
    · rw [e34, hA]; rfl
    · rw [e30, e31, fB.1.1, fB.1.2.1]; exact P
    · rw [B27, hA]; rfl
    · rw [B27]; exact h27
    · rw [e28, hA]; rfl
    · rw [A2, B2]; exact hl
  obtain ⟨S', M', b1, b2, b3, b4, b5, b6, b7, b8, b9, b10, b11⟩ := loop_ok (ed := ed) (rs := rs) hx1 hn 60 A B (by rw [e29]; omega) (R.fl fA fB) hFR (hL.fl fA fB) (fun w => by omega) (fun _ _ => by omega) (by omega) FU FU (by decide) (by decide)
  refine ⟨S', M', ?_, ?_, b3, b4, b5, fA.tr b6, fB.tr b7, b8.trans B27, b9, fun h1 => ?_⟩
  · unfold C_flies C_flies_B76
    rw [nm_eq, nm_eq, nm_eq, nm_eq, nm_eq, nm_eq, nm_eq]
    rcases hb with ⟨q1, q2⟩ | ⟨q1, q2⟩
    · rw [gd_pos (by omega), if_pos q1, nm_eq, ← q2, ← hA, b1]
    · have := pw bits q1.1 q1.2
      rw [gd_pos (by omega), if_neg (by omega), gd_pos ⟨by decide, by omega, by omega⟩, nm_eq, ← q2, ← hA, b1]
  · unfold M_run
    rw [nm_eq, nm_eq, nm_eq, nm_eq, nm_eq, nm_eq, nm_eq, ← hB, b2]
  · have q := b5.1.2.2.1
    have q2 := b5.1.2.2.2.2.1
    constructor
    · intro w
      have := b10 w
      omega
    · intro w
      rcases b11 with w2 | ⟨w2, w3 | w3 | w3⟩
      · omega
      · exact w3
      · omega
      · omega
/-- where a flight may start, of both -/
theorem start_ok {S : yS} {Sm : xS} {x y head : Int} (R : RC S Sm) (hx : r32 x) (hy : r32 y) (hd : r32 head) : ∃ b S', C_isStart S x y head = some (b, S') ∧ sc S S' ∧ (b = true → okP (Sm.1 0) (Sm.1 1) x y ∧ 0 ≤ head ∧ head ≤ 63) ∧ (∃ c, M_isStart Sm x y = some c ∧ ((0 ≤ head ∧ head ≤ 63) → b = c)) := by
  have HC := R.HC
  obtain ⟨H, ew, eh⟩ := R.1
  have OA := R.2.1
  unfold C_isStart M_isStart
  rw [C_isPlace_e HC hx hy, M_isPlace_e H hx hy, bd_some, bd_some, ew, eh]
  by_cases P : okP (Sm.1 0) (Sm.1 1) x y
  · have hxw := H.1
    have hyw := H.2
    rw [decide_eq_true P, if_pos rfl, if_pos rfl, C_isHead_e hd, bd_some]
    obtain ⟨S1, a1, a2, a3, a4, a5⟩ := R.lays (t := 0) (by decide)
    obtain ⟨b, e1, e2, e3⟩ := empty_ok (S1 := S1) (Sm := Sm) (x := x) (y := y) (t := 0) H OA (by rw [a2]; exact ew) (by rw [a2]; exact eh) a4 (by omega) (by omega) (by decide)
    obtain ⟨v, v1, v2, v3⟩ := e3 P
    rw [gd_pos hy, gd_pos hx, v1, bd_some, gd_pos (by omega)]
    have hc : (if v = 0 then some true else some false) = some b := by
      cases b
      · rw [if_neg (fun w => by have := v3.mpr w; cases this)]
      · rw [if_pos (v3.mp rfl)]
    rw [hc]
    by_cases q : 0 ≤ head ∧ head ≤ 63
    · rw [if_pos (decide_eq_true q), a1, bd_some, e1, bd_some]
      exact ⟨b, S1, rfl, lays_sc a2 a3, fun _ => ⟨P, q⟩, b, rfl, fun _ => rfl⟩
    · rw [if_neg (by rw [decide_eq_true_eq]; exact q)]
      exact ⟨false, S, rfl, sc.rf S, fun h => (by cases h), b, rfl, fun w => absurd w q⟩
  · rw [decide_eq_false P, if_neg (by decide), if_neg (by decide)]
    exact ⟨false, S, rfl, sc.rf S, fun h => (by cases h), false, rfl, fun _ => rfl⟩
