set_option maxRecDepth 100000
section SAFE
variable {ed : Nat} {rs : List (List tCl)} {x1 x3 x4 x5 x6 x7 x8 x9 : Int}
/-- heads at a place that is no start are passed over -/
theorem safe_skip {Sm : xS} {K : yS → Int → Option (Int × yS)} (h9 : r32 x9) (h4 : r32 x4) (h6 : 0 ≤ x6 ∧ x6 ≤ 63) (hc : M_isStart Sm x9 x4 = some false) : ∀ (m : Nat) (S : yS) (x10 : Int), FL S Sm ed rs → 0 ≤ x10 → x6 + 1 - x10 = m → ∀ n, m < n → ∃ S', C_safe_L116 ed rs K x1 x3 x4 x5 x6 x7 x8 x9 n S x10 = K S' (x9 + 16) ∧ sc S S' := by
  intro m
  induction m with
  | zero =>
    intro S x10 h h0 hm n hn
    obtain ⟨n, rfl⟩ : ∃ k, n = k + 1 := ⟨n - 1, by omega⟩
    refine ⟨S, ?_, sc.rf S⟩
    show C_safe_b116 ed rs K x1 x3 x4 x5 x6 x7 x8 x9 (C_safe_L116 ed rs K x1 x3 x4 x5 x6 x7 x8 x9 n) S x10 = _
    unfold C_safe_b116
    rw [gd_pos (by omega), if_neg (by omega), nm_eq]
  | succ m ih =>
    intro S x10 h h0 hm n hn
    obtain ⟨n, rfl⟩ : ∃ k, n = k + 1 := ⟨n - 1, by omega⟩
    obtain ⟨b, S1, s1, s2, s3, c, s4, s5⟩ := start_ok (S := S) (Sm := Sm) (x := x9) (y := x4) (head := x10) h.1 h9 h4 (by omega)
    have eb : b = false := by
      rw [hc] at s4
      rw [s5 (by omega)]
      exact (Option.some.inj s4).symm
    obtain ⟨S2, t1, t2⟩ := ih S1 (x10 + 1) (h.sc s2) (by omega) (by omega) n (by omega)
    refine ⟨S2, ?_, s2.tr t2⟩
    rw [← t1]
    show C_safe_b116 ed rs K x1 x3 x4 x5 x6 x7 x8 x9 (C_safe_L116 ed rs K x1 x3 x4 x5 x6 x7 x8 x9 n) S x10 = _
    unfold C_safe_b116
    rw [gd_pos (by omega), if_pos (by omega), s1, bd2_some, eb, if_neg (by decide), nm_eq]
theorem safe_in {K : yS → Int → Option (Int × yS)} {K' : xS → Int → Option (Int × xS)} (hx1 : 0 ≤ x1 ∧ x1 < rs.length) (h6 : 0 ≤ x6 ∧ x6 ≤ 63) (h7 : 1 ≤ x7 ∧ x7 ≤ 60) (h8 : r32 x8) : ∀ (m : Nat) (S : yS) (Sm : xS) (x10 : Int), FL S Sm ed rs → Sm.1 27 = 1000000 → okP (Sm.1 0) (Sm.1 1) x9 x4 → 0 ≤ x10 → x6 + 1 - x10 = m → ∀ n1 n2, m < n1 → m < n2 → (∃ r S' Sm', C_safe_L116 ed rs K x1 x3 x4 x5 x6 x7 x8 x9 n1 S x10 = some (r, S') ∧ M_safe_L122 K' x1 x3 x4 x5 x6 x7 x8 x9 n2 Sm x10 = some (r, Sm') ∧ FL S' Sm' ed rs ∧ fC S S' ∧ fM Sm Sm') ∨ (∃ S' Sm', C_safe_L116 ed rs K x1 x3 x4 x5 x6 x7 x8 x9 n1 S x10 = K S' (x9 + 16) ∧ M_safe_L122 K' x1 x3 x4 x5 x6 x7 x8 x9 n2 Sm x10 = K' Sm' (x9 + 16) ∧ FL S' Sm' ed rs ∧ fC S S' ∧ fM Sm Sm' ∧ Sm'.1 27 = 1000000) := by
  intro m
  induction m with
  | zero =>
    intro S Sm x10 h h27 P h0 hm n1 n2 q1 q2
    obtain ⟨n1, rfl⟩ : ∃ k, n1 = k + 1 := ⟨n1 - 1, by omega⟩
    obtain ⟨n2, rfl⟩ : ∃ k, n2 = k + 1 := ⟨n2 - 1, by omega⟩
    right
    refine ⟨S, Sm, ?_, ?_, h, fC.rf S, fM.rf Sm, h27⟩
    · show C_safe_b116 ed rs K x1 x3 x4 x5 x6 x7 x8 x9 (C_safe_L116 ed rs K x1 x3 x4 x5 x6 x7 x8 x9 n1) S x10 = _
      unfold C_safe_b116
      rw [gd_pos (by omega), if_neg (by omega), nm_eq]
    · show M_safe_b122 K' x1 x3 x4 x5 x6 x7 x8 x9 (M_safe_L122 K' x1 x3 x4 x5 x6 x7 x8 x9 n2) Sm x10 = _
      unfold M_safe_b122
      rw [gd_pos (by omega), if_neg (by omega), nm_eq]
  | succ m ih =>
    intro S Sm x10 h h27 P h0 hm n1 n2 q1 q2
    obtain ⟨n1, rfl⟩ : ∃ k, n1 = k + 1 := ⟨n1 - 1, by omega⟩
    obtain ⟨n2, rfl⟩ : ∃ k, n2 = k + 1 := ⟨n2 - 1, by omega⟩
    have hw := h.1.1.1
    have h9 : r32 x9 := by have := hw.1; omega
    have h4 : r32 x4 := by have := hw.2; omega
    obtain ⟨b, S1, s1, s2, s3, c, s4, s5⟩ := start_ok (S := S) (Sm := Sm) (x := x9) (y := x4) (head := x10) h.1 h9 h4 (by omega)
    have ebc := s5 (by omega)
    subst ebc
    have eM : M_safe_L122 K' x1 x3 x4 x5 x6 x7 x8 x9 (n2 + 1) Sm x10 = M_safe_b122 K' x1 x3 x4 x5 x6 x7 x8 x9 (M_safe_L122 K' x1 x3 x4 x5 x6 x7 x8 x9 n2) Sm x10 := rfl
    cases b with
    | false =>
      obtain ⟨S2, t1, t2⟩ := safe_skip (ed := ed) (rs := rs) (x1 := x1) (x3 := x3) (x5 := x5) (x7 := x7) (x8 := x8) (K := K) h9 h4 h6 s4 (m + 1) S x10 h h0 hm (n1 + 1) q1
      right
      refine ⟨S2, Sm, t1, ?_, h.sc t2, t2.f, fM.rf Sm, h27⟩
      rw [eM]
      unfold M_safe_b122
      rw [gd_pos (by omega), if_pos (by omega), s4, bd_some, if_neg (by decide), nm_eq]
    | true =>
      obtain ⟨S2, M2, r1, r2, r3, r4, r5, r6, r7, r8, r9⟩ := run_ok (x1 := x1) (x := x9) (y := x4) (head := x10) (n := x7) (h.sc s2) h27 hx1 P (by omega) (by omega)
      have g18 := r4.1.1.2.2.2.2.1
      have gb := r4.1.2.2.2.1
      have eC : C_safe_L116 ed rs K x1 x3 x4 x5 x6 x7 x8 x9 (n1 + 1) S x10 = C_safe_b116 ed rs K x1 x3 x4 x5 x6 x7 x8 x9 (C_safe_L116 ed rs K x1 x3 x4 x5 x6 x7 x8 x9 n1) S x10 := rfl
      rw [eC, eM]
      unfold C_safe_b116 M_safe_b122
      rw [gd_pos (show r32 x10 ∧ r32 x6 by omega), if_pos (show x10 ≤ x6 by omega), s1, bd2_some, if_pos rfl, r1, bd_some, gd_pos (show r32 (S2.1 18) by omega), g18]
      rw [gd_pos (show r32 x10 ∧ r32 x6 by omega), if_pos (show x10 ≤ x6 by omega), s4, bd_some, if_pos rfl, r2, bd_some, gd_pos (show r32 (M2.1 33) by omega)]
      by_cases g : M2.1 33 = 0
      · rw [if_pos g, if_pos g, nm_eq, nm_eq]
        have m0 : okP (M2.1 0) (M2.1 1) x9 x4 := by rw [r6.1.1, r6.1.2.1]; exact P
        rcases ih S2 M2 (x10 + 1) r3 r7 m0 (by omega) (by omega) n1 n2 (by omega) (by omega) with ⟨r, S3, M3, u1, u2, u3, u4, u5⟩ | ⟨S3, M3, u1, u2, u3, u4, u5, u6⟩
        · exact Or.inl ⟨r, S3, M3, u1, u2, u3, (s2.f.tr r5).tr u4, r6.tr u5⟩
        · exact Or.inr ⟨S3, M3, u1, u2, u3, (s2.f.tr r5).tr u4, r6.tr u5, u6⟩
      · rw [if_neg g, if_neg g, gd_pos h8, gd_pos h8]
        left
        by_cases g8 : x8 = 0
        · rw [if_pos g8, if_pos g8]
          exact ⟨x9, S2, M2, rfl, rfl, r3, s2.f.tr r5, r6⟩
        · rw [if_neg g8, if_neg g8]
          exact ⟨x10, S2, M2, rfl, rfl, r3, s2.f.tr r5, r6⟩
theorem safe_out (hx1 : 0 ≤ x1 ∧ x1 < rs.length) (h5 : 0 ≤ x5 ∧ x5 ≤ 63) (h6 : 0 ≤ x6 ∧ x6 ≤ 63) (h56 : x5 ≤ x6) (h7 : 1 ≤ x7 ∧ x7 ≤ 60) (h8 : r32 x8) : ∀ (m : Nat) (S : yS) (Sm : xS) (x9 : Int), FL S Sm ed rs → Sm.1 27 = 1000000 → okP (Sm.1 0) (Sm.1 1) x3 x4 → 0 ≤ x9 → x9 ≤ 1000 → x3 + 1 - x9 ≤ m → ∀ n1 n2, m < n1 → m < n2 → ∃ r S' Sm', C_safe_L106 ed rs x1 x3 x4 x5 x6 x7 x8 n1 S x9 = some (r, S') ∧ M_safe_L112 x1 x3 x4 x5 x6 x7 x8 n2 Sm x9 = some (r, Sm') ∧ FL S' Sm' ed rs ∧ fC S S' ∧ fM Sm Sm' := by
  intro m
  induction m with
  | zero =>
    intro S Sm x9 h h27 P h0 h1 hm n1 n2 q1 q2
    obtain ⟨n1, rfl⟩ : ∃ k, n1 = k + 1 := ⟨n1 - 1, by omega⟩
    obtain ⟨n2, rfl⟩ : ∃ k, n2 = k + 1 := ⟨n2 - 1, by omega⟩
    refine ⟨-1, S, Sm, ?_, ?_, h, fC.rf S, fM.rf Sm⟩
    · show C_safe_b106 ed rs x1 x3 x4 x5 x6 x7 x8 (C_safe_L106 ed rs x1 x3 x4 x5 x6 x7 x8 n1) S x9 = _
      unfold C_safe_b106
      rw [gd_pos (by omega), if_neg (by omega)]
    · show M_safe_b112 x1 x3 x4 x5 x6 x7 x8 (M_safe_L112 x1 x3 x4 x5 x6 x7 x8 n2) Sm x9 = _
      unfold M_safe_b112
      rw [gd_pos (by omega), if_neg (by omega)]
  | succ m ih =>
    intro S Sm x9 h h27 P h0 h1 hm n1 n2 q1 q2
    obtain ⟨n1, rfl⟩ : ∃ k, n1 = k + 1 := ⟨n1 - 1, by omega⟩
    obtain ⟨n2, rfl⟩ : ∃ k, n2 = k + 1 := ⟨n2 - 1, by omega⟩
    have hw := h.1.1.1.1
    have eC : C_safe_L106 ed rs x1 x3 x4 x5 x6 x7 x8 (n1 + 1) S x9 = C_safe_b106 ed rs x1 x3 x4 x5 x6 x7 x8 (C_safe_L106 ed rs x1 x3 x4 x5 x6 x7 x8 n1) S x9 := rfl
    have eM : M_safe_L112 x1 x3 x4 x5 x6 x7 x8 (n2 + 1) Sm x9 = M_safe_b112 x1 x3 x4 x5 x6 x7 x8 (M_safe_L112 x1 x3 x4 x5 x6 x7 x8 n2) Sm x9 := rfl
    rw [eC, eM]
    unfold C_safe_b106 M_safe_b112
    rw [gd_pos (show r32 x9 ∧ r32 x3 by omega), gd_pos (show r32 x9 ∧ r32 x3 by omega)]
    by_cases g : x9 ≤ x3
    · rw [if_pos g, if_pos g]
      have P9 : okP (Sm.1 0) (Sm.1 1) x9 x4 := ⟨⟨h0, by omega⟩, P.2⟩
      rcases safe_in (ed := ed) (rs := rs) (x1 := x1) (x3 := x3) (x4 := x4) (x5 := x5) (x6 := x6) (x7 := x7) (x8 := x8) (x9 := x9) (K := C_safe_L106 ed rs x1 x3 x4 x5 x6 x7 x8 n1) (K' := M_safe_L112 x1 x3 x4 x5 x6 x7 x8 n2) hx1 h6 h7 h8 (x6 + 1 - x5).toNat S Sm x5 h h27 P9 h5.1 (by omega) FU FU (by unfold FU; omega) (by unfold FU; omega) with ⟨r, S3, M3, u1, u2, u3, u4, u5⟩ | ⟨S3, M3, u1, u2, u3, u4, u5, u6⟩
      · exact ⟨r, S3, M3, u1, u2, u3, u4, u5⟩
      · rw [u1, u2]
        obtain ⟨r, S4, M4, v1, v2, v3, v4, v5⟩ := ih S3 M3 (x9 + 16) u3 u6 (by rw [u5.1.1, u5.1.2.1]; exact P) (by omega) (by omega) (by omega) n1 n2 (by omega) (by omega)
        exact ⟨r, S4, M4, v1, v2, v3, u4.tr v4, u5.tr v5⟩
    · rw [if_neg g, if_neg g]
      exact ⟨-1, S, Sm, rfl, rfl, h, fC.rf S, fM.rf Sm⟩
end SAFE
/-- SAFE -/
theorem op_safe {S : yS} {Sm : xS} {ed : Nat} {rs : List (List tCl)} {x1 x2 x3 x4 x5 x6 x7 x8 : Int} (h : FL S Sm ed rs) (h1 : r32 x1) (h2 : r32 x2) (h3 : r32 x3) (h4 : r32 x4) (h5 : r32 x5) (h6 : r32 x6) (h7 : r32 x7) (h8 : r32 x8) : ∃ r S' Sm', C_safe ed rs S x1 x2 x3 x4 x5 x6 x7 x8 = some (r, S') ∧ M_safe Sm x1 x2 x3 x4 x5 x6 x7 x8 = some (r, Sm') ∧ RC S' Sm' ∧ LtR S' Sm' ∧ kF S S' Sm Sm' := by
  have n3 := h.1.n0 (k := 3) (by decide)
  have hrl := h.2.1.2.2.1
  have hr8 := h.2.1.2.2.2.1
  have HC := h.1.HC
  obtain ⟨H, ew, eh⟩ := h.1.1
  have no : ∃ r S' Sm', some (((-1) : Int), S) = some (r, S') ∧ some (((-1) : Int), Sm) = some (r, Sm') ∧ RC S' Sm' ∧ LtR S' Sm' ∧ kF S S' Sm Sm' := ⟨-1, S, Sm, rfl, rfl, h.1, h.2.2, kF.rf S Sm⟩
  unfold C_safe M_safe M_isRule
  rw [C_isOne_e (by decide) h1 (by omega), M_isIn_e h1 (by decide) (by omega), bd_some, bd_some, bd_some, n3]
  by_cases q1 : 0 ≤ x1 ∧ x1 ≤ Sm.2 2 3 - 1
  · rw [decide_eq_true q1, if_pos rfl, if_pos rfl, C_isPlace_e HC h2 h4, M_isPlace_e H h2 h4, bd_some, bd_some, ew, eh]
    by_cases q2 : okP (Sm.1 0) (Sm.1 1) x2 x4
    · rw [decide_eq_true q2, if_pos rfl, if_pos rfl, C_isPlace_e HC h3 h4, M_isPlace_e H h3 h4, bd_some, bd_some, ew, eh]
      by_cases q3 : okP (Sm.1 0) (Sm.1 1) x3 x4
      · have hxw := H.1
        have hyw := H.2
        rw [decide_eq_true q3, if_pos rfl, if_pos rfl, gd_pos (show r32 x3 ∧ r32 x2 from ⟨h3, h2⟩), gd_pos (show r32 x2 ∧ r32 x3 from ⟨h2, h3⟩)]
        by_cases q4 : x2 ≤ x3
        · rw [if_neg (show ¬ x3 < x2 by omega), if_pos q4, C_isHead_e h5, M_isSide_e h5, bd_some, bd_some]
          by_cases q5 : 0 ≤ x5 ∧ x5 ≤ 63
          · rw [decide_eq_true q5, if_pos rfl, if_pos rfl, C_isHead_e h6, M_isSide_e h6, bd_some, bd_some]
            by_cases q6 : 0 ≤ x6 ∧ x6 ≤ 63
            · rw [decide_eq_true q6, if_pos rfl, if_pos rfl, gd_pos (show r32 x6 ∧ r32 x5 from ⟨h6, h5⟩), gd_pos (show r32 x5 ∧ r32 x6 from ⟨h5, h6⟩)]
              by_cases q7 : x5 ≤ x6
              · rw [if_neg (show ¬ x6 < x5 by omega), if_pos q7, C_in_e h7 (by decide) (by decide), M_isIn_e h7 (by decide) (by decide), bd_some, bd_some]
                by_cases q8 : 1 ≤ x7 ∧ x7 ≤ 60
                · rw [decide_eq_true q8, if_pos rfl, if_pos rfl, C_in_e h8 (by decide) (by decide), M_isIn_e h8 (by decide) (by decide), bd_some, bd_some]
                  by_cases q9 : 0 ≤ x8 ∧ x8 ≤ 1
                  · have e16 : Int.tdiv (x3 - x2) 16 = (x3 - x2) / 16 := Int.tdiv_eq_ediv_of_nonneg (by omega)
                    have hpr := mul_nn (a := (x3 - x2) / 16 + 1) (b := x6 - x5 + 1) (m := 100) (n := 64) (by omega) (by omega)
                    rw [decide_eq_true q9, if_pos rfl, if_pos rfl, e16, gd_pos (show r32 (x3 - x2) by omega), gd_pos (show r32 (((x3 - x2) / 16 + 1) * (x6 - x5 + 1)) by omega), gd_pos (show r32 (x3 - x2) by omega), gd_pos (show r32 (((x3 - x2) / 16 + 1) * (x6 - x5 + 1)) by omega)]
                    by_cases q10 : ((x3 - x2) / 16 + 1) * (x6 - x5 + 1) ≤ 64
                    · rw [if_pos q10, if_pos q10, nm_eq]
                      obtain ⟨g1, g2⟩ := h.m27 1000000
                      obtain ⟨r, S', M', v1, v2, v3, v4, v5⟩ := safe_out (ed := ed) (rs := rs) (x1 := x1) (x3 := x3) (x4 := x4) (x5 := x5) (x6 := x6) (x7 := x7) (x8 := x8) (by omega) q5 q6 q7 q8 h8 400 S (fset Sm 27 1000000) x2 g1 (fset_eq _ _ _) q3 q2.1.1 (by omega) (by omega) FU FU (by decide) (by decide)
                      exact ⟨r, S', M', v1, v2, v3.1, v3.2.2, kF.of v4 (g2.tr v5)⟩
                    · rw [if_neg q10, if_neg q10]; exact no
                  · rw [decide_eq_false q9, if_neg (by decide), if_neg (by decide)]; exact no
                · rw [decide_eq_false q8, if_neg (by decide), if_neg (by decide)]; exact no
              · rw [if_pos (show x6 < x5 by omega), if_neg q7]; exact no
            · rw [decide_eq_false q6, if_neg (by decide), if_neg (by decide)]; exact no
          · rw [decide_eq_false q5, if_neg (by decide), if_neg (by decide)]; exact no
        · rw [if_pos (show x3 < x2 by omega), if_neg q4]; exact no
      · rw [decide_eq_false q3, if_neg (by decide), if_neg (by decide)]; exact no
    · rw [decide_eq_false q2, if_neg (by decide), if_neg (by decide)]; exact no
  · rw [decide_eq_false q1, if_neg (by decide), if_neg (by decide)]; exact no
