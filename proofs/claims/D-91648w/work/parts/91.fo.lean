set_option maxRecDepth 100000
/-- what the rules hang on stays -/
def kF (S S' : yS) (Sm Sm' : xS) : Prop := (∀ k, 40 ≤ k → S'.1 k = S.1 k) ∧ Sm'.2 4 = Sm.2 4 ∧ Sm'.2 2 3 = Sm.2 2 3 ∧ Sm'.2 3 3 = Sm.2 3 3
theorem kF.of {S S' : yS} {Sm Sm' : xS} (h : fC S S') (hm : fM Sm Sm') : kF S S' Sm Sm' := ⟨h.2.1, hm.2.2.2.1, by rw [hm.2.1], by rw [hm.2.2.1]⟩
theorem sc.f {S S' : yS} (h : sc S S') : fC S S' := ⟨h.1, h.2.1, fun q hq => h.2.2 q (Or.inl hq)⟩
theorem LtR.sc {S S' : yS} {Sm : xS} (h : LtR S Sm) (hs : sc S S') : LtR S' Sm := by
  intro k k0 k1
  rw [hs.2.2 661 (Or.inr rfl)]
  exact h k k0 k1
theorem kF.tr {S S1 S2 : yS} {M M1 M2 : xS} (h : kF S S1 M M1) (g : kF S1 S2 M1 M2) : kF S S2 M M2 := ⟨fun k hk => (g.1 k hk).trans (h.1 k hk), g.2.1.trans h.2.1, g.2.2.1.trans h.2.2.1, g.2.2.2.trans h.2.2.2⟩
theorem kF.rf (S : yS) (M : xS) : kF S S M M := ⟨fun _ _ => rfl, rfl, rfl, rfl⟩
theorem cp475_L (S0 : yS) : ∀ (m : Nat) (S : yS) (k : Int), 0 ≤ k → 60 - k = m → S.1 = S0.1 → (∀ q, ¬ (53 ≤ q ∧ q < 113) → S.2 q = S0.2 q) → ∀ n, m < n → ∃ S', C_cp475_52_L2 n S k = some S' ∧ S'.1 = S0.1 ∧ (∀ q, ¬ (53 ≤ q ∧ q < 113) → S'.2 q = S0.2 q) ∧ (∀ t, 0 ≤ t → t < k → S'.2 (53 + t) = S.2 (53 + t)) ∧ ∀ t, k ≤ t → t < 60 → ∀ j, 0 ≤ j → j < 5 → S'.2 (53 + t) j = S0.2 (476 + t) j := by
  intro m
  induction m with
  | zero =>
    intro S k hk hm h1 h2 n hn
    obtain ⟨n, rfl⟩ : ∃ k, n = k + 1 := ⟨n - 1, by omega⟩
    refine ⟨S, ?_, h1, h2, fun _ _ _ => rfl, fun t t0 t1 => by omega⟩
    show C_cp475_52_b2 _ _ _ = _
    unfold C_cp475_52_b2
    rw [gd_pos (by omega), if_neg (by omega)]
  | succ m ih =>
    intro S k hk hm h1 h2 n hn
    obtain ⟨n, rfl⟩ : ∃ k, n = k + 1 := ⟨n - 1, by omega⟩
    obtain ⟨S', c1, c2, c3, c4, c5⟩ := ih (ccp S (475 + 1 + k) (52 + 1 + k) 5) (k + 1) (by omega) (by omega) h1 (fun q hq => by rw [ccp_ne _ _ (by omega)]; exact h2 q hq) n (by omega)
    refine ⟨S', ?_, c2, c3, fun t t0 t1 => ?_, fun t t0 t1 j j0 j1 => ?_⟩
    · rw [← c1]
      show C_cp475_52_b2 _ _ _ = _
      unfold C_cp475_52_b2
      rw [gd_pos (by omega), if_pos (by omega), gd_pos (by omega), gd_pos (by omega), gd_pos (by omega), nm_eq, nm_eq]
    · rw [c4 t t0 (by omega), ccp_ne _ _ (by omega)]
    · by_cases e : t = k
      · rw [e, c4 k hk (by omega), show (53 : Int) + k = 52 + 1 + k by omega, ccp_at, if_pos ⟨j0, j1⟩, h2 _ (by omega), show (475 : Int) + 1 + k = 476 + k by omega]
      · exact c5 t (by omega) t1 j j0 j1
theorem cp475_e (S : yS) : ∃ S', C_cp475_52 S = some S' ∧ S'.1 = S.1 ∧ (∀ q, ¬ (53 ≤ q ∧ q < 113) → S'.2 q = S.2 q) ∧ ∀ t, 0 ≤ t → t < 60 → ∀ j, 0 ≤ j → j < 5 → S'.2 (53 + t) j = S.2 (476 + t) j := by
  obtain ⟨S', c1, c2, c3, c4, c5⟩ := cp475_L S 60 S 0 (Int.le_refl _) (by decide) rfl (fun _ _ => rfl) FU (by decide)
  exact ⟨S', c1, c2, c3, c5⟩
theorem cp536_L (S0 : yS) : ∀ (m : Nat) (S : yS) (k : Int), 0 ≤ k → 60 - k = m → S.1 = S0.1 → (∀ q, ¬ (114 ≤ q ∧ q < 174) → S.2 q = S0.2 q) → ∀ n, m < n → ∃ S', C_cp536_113_L2 n S k = some S' ∧ S'.1 = S0.1 ∧ (∀ q, ¬ (114 ≤ q ∧ q < 174) → S'.2 q = S0.2 q) ∧ (∀ t, 0 ≤ t → t < k → S'.2 (114 + t) = S.2 (114 + t)) ∧ ∀ t, k ≤ t → t < 60 → ∀ j, 0 ≤ j → j < 16 → S'.2 (114 + t) j = S0.2 (537 + t) j := by
  intro m
  induction m with
  | zero =>
    intro S k hk hm h1 h2 n hn
    obtain ⟨n, rfl⟩ : ∃ k, n = k + 1 := ⟨n - 1, by omega⟩
    refine ⟨S, ?_, h1, h2, fun _ _ _ => rfl, fun t t0 t1 => by omega⟩
    show C_cp536_113_b2 _ _ _ = _
    unfold C_cp536_113_b2
    rw [gd_pos (by omega), if_neg (by omega)]
  | succ m ih =>
    intro S k hk hm h1 h2 n hn
    obtain ⟨n, rfl⟩ : ∃ k, n = k + 1 := ⟨n - 1, by omega⟩
    obtain ⟨S', c1, c2, c3, c4, c5⟩ := ih (ccp S (536 + 1 + k) (113 + 1 + k) 16) (k + 1) (by omega) (by omega) h1 (fun q hq => by rw [ccp_ne _ _ (by omega)]; exact h2 q hq) n (by omega)
    refine ⟨S', ?_, c2, c3, fun t t0 t1 => ?_, fun t t0 t1 j j0 j1 => ?_⟩
    · rw [← c1]
      show C_cp536_113_b2 _ _ _ = _
      unfold C_cp536_113_b2
      rw [gd_pos (by omega), if_pos (by omega), gd_pos (by omega), gd_pos (by omega), gd_pos (by omega), nm_eq, nm_eq]
    · rw [c4 t t0 (by omega), ccp_ne _ _ (by omega)]
    · by_cases e : t = k
      · rw [e, c4 k hk (by omega), show (114 : Int) + k = 113 + 1 + k by omega, ccp_at, if_pos ⟨j0, j1⟩, h2 _ (by omega), show (536 : Int) + 1 + k = 537 + k by omega]
      · exact c5 t (by omega) t1 j j0 j1
theorem cp536_e (S : yS) : ∃ S', C_cp536_113 S = some S' ∧ S'.1 = S.1 ∧ (∀ q, ¬ (114 ≤ q ∧ q < 174) → S'.2 q = S.2 q) ∧ ∀ t, 0 ≤ t → t < 60 → ∀ j, 0 ≤ j → j < 16 → S'.2 (114 + t) j = S.2 (537 + t) j := by
  obtain ⟨S', c1, c2, c3, c4, c5⟩ := cp536_L S 60 S 0 (Int.le_refl _) (by decide) rfl (fun _ _ => rfl) FU (by decide)
  exact ⟨S', c1, c2, c3, c5⟩
theorem cp597_L (S0 : yS) : ∀ (m : Nat) (S : yS) (k : Int), 0 ≤ k → 60 - k = m → S.1 = S0.1 → (∀ q, ¬ (175 ≤ q ∧ q < 235) → S.2 q = S0.2 q) → ∀ n, m < n → ∃ S', C_cp597_174_L2 n S k = some S' ∧ S'.1 = S0.1 ∧ (∀ q, ¬ (175 ≤ q ∧ q < 235) → S'.2 q = S0.2 q) ∧ (∀ t, 0 ≤ t → t < k → S'.2 (175 + t) = S.2 (175 + t)) ∧ ∀ t, k ≤ t → t < 60 → ∀ j, 0 ≤ j → j < 16 → S'.2 (175 + t) j = S0.2 (598 + t) j := by
  intro m
  induction m with
  | zero =>
    intro S k hk hm h1 h2 n hn
    obtain ⟨n, rfl⟩ : ∃ k, n = k + 1 := ⟨n - 1, by omega⟩
    refine ⟨S, ?_, h1, h2, fun _ _ _ => rfl, fun t t0 t1 => by omega⟩
    show C_cp597_174_b2 _ _ _ = _
    unfold C_cp597_174_b2
    rw [gd_pos (by omega), if_neg (by omega)]
  | succ m ih =>
    intro S k hk hm h1 h2 n hn
    obtain ⟨n, rfl⟩ : ∃ k, n = k + 1 := ⟨n - 1, by omega⟩
    obtain ⟨S', c1, c2, c3, c4, c5⟩ := ih (ccp S (597 + 1 + k) (174 + 1 + k) 16) (k + 1) (by omega) (by omega) h1 (fun q hq => by rw [ccp_ne _ _ (by omega)]; exact h2 q hq) n (by omega)
    refine ⟨S', ?_, c2, c3, fun t t0 t1 => ?_, fun t t0 t1 j j0 j1 => ?_⟩
    · rw [← c1]
      show C_cp597_174_b2 _ _ _ = _
      unfold C_cp597_174_b2
      rw [gd_pos (by omega), if_pos (by omega), gd_pos (by omega), gd_pos (by omega), gd_pos (by omega), nm_eq, nm_eq]
    · rw [c4 t t0 (by omega), ccp_ne _ _ (by omega)]
    · by_cases e : t = k
      · rw [e, c4 k hk (by omega), show (175 : Int) + k = 174 + 1 + k by omega, ccp_at, if_pos ⟨j0, j1⟩, h2 _ (by omega), show (597 : Int) + 1 + k = 598 + k by omega]
      · exact c5 t (by omega) t1 j j0 j1
theorem cp597_e (S : yS) : ∃ S', C_cp597_174 S = some S' ∧ S'.1 = S.1 ∧ (∀ q, ¬ (175 ≤ q ∧ q < 235) → S'.2 q = S.2 q) ∧ ∀ t, 0 ≤ t → t < 60 → ∀ j, 0 ≤ j → j < 16 → S'.2 (175 + t) j = S.2 (598 + t) j := by
  obtain ⟨S', c1, c2, c3, c4, c5⟩ := cp597_L S 60 S 0 (Int.le_refl _) (by decide) rfl (fun _ _ => rfl) FU (by decide)
  exact ⟨S', c1, c2, c3, c5⟩
theorem gdif {α : Type} {v : Int} (hv : v = 0 ∨ v = 1) (f : Int → Option α) {r : Option α} (h : f v = r) : gd (r32 v) (if v = 0 then f 0 else f 1) = r := by
  rcases hv with rfl | rfl
  · rw [gd_pos (by decide), if_pos rfl]; exact h
  · rw [gd_pos (by decide), if_neg (by decide)]; exact h
theorem gdif' {α : Type} {v w : Int} (e : v = w) (hv : w = 0 ∨ w = 1) (f : Int → Option α) {r : Option α} (h : f w = r) : gd (r32 v) (if v = 0 then f 0 else f 1) = r := by
  subst e
  exact gdif hv f h
theorem m219 : ∀ (m : Nat) (S : xS) (k : Int) (S0 : xS), 0 ≤ k → 38 * S0.1 29 - k = m → (0 ≤ S0.1 29 ∧ S0.1 29 ≤ 60) → S.1 = S0.1 → (∀ q, q ≠ 2 → S.2 q = S0.2 q) → ∀ n, m < n → ∃ S', M_fly_L219 n S k = some (S0.1 29, S') ∧ S'.1 = S0.1 ∧ (∀ q, q ≠ 2 → S'.2 q = S0.2 q) ∧ ∀ j, S'.2 2 j = if 890 + k ≤ j ∧ j < 890 + 38 * S0.1 29 then S0.2 35 (j - 890) else S.2 2 j := by
  intro m
  induction m with
  | zero =>
    intro S k S0 hk hm h29 h1 h2 n hn
    obtain ⟨n, rfl⟩ : ∃ k, n = k + 1 := ⟨n - 1, by omega⟩
    refine ⟨S, ?_, h1, h2, fun j => by rw [if_neg (by omega)]⟩
    show M_fly_b219 _ _ _ = _
    unfold M_fly_b219
    rw [h1, gd_pos (by omega), if_neg (by omega)]
  | succ m ih =>
    intro S k S0 hk hm h29 h1 h2 n hn
    obtain ⟨n, rfl⟩ : ∃ k, n = k + 1 := ⟨n - 1, by omega⟩
    obtain ⟨S', c1, c2, c3, c4⟩ := ih (aset S 2 (890 + k) (S.2 35 k)) (k + 1) S0 (by omega) (by omega) h29 h1 (fun q hq => by rw [aset_ne _ _ _ hq]; exact h2 q hq) n (by omega)
    refine ⟨S', ?_, c2, c3, fun j => ?_⟩
    · rw [← c1]
      show M_fly_b219 _ _ _ = _
      unfold M_fly_b219
      rw [h1, gd_pos (by omega), if_pos (by omega), gd_pos (by omega), gd_pos (by omega), nm_eq, nm_eq]
    · rw [c4 j, aset_at]
      by_cases e : j = 890 + k
      · rw [if_neg (by omega), if_pos e, if_pos (by omega), e, h2 35 (by decide), show 890 + k - 890 = k by omega]
      · rw [if_neg e]
        by_cases g : 890 + (k + 1) ≤ j ∧ j < 890 + 38 * S0.1 29
        · rw [if_pos g, if_pos (by omega)]
        · rw [if_neg g, if_neg (by omega)]
/-- FLY -/
theorem op_fly {S : yS} {Sm : xS} {ed : Nat} {rs : List (List tCl)} {x1 x2 x3 x4 x5 x6 : Int} (R : RC S Sm) (hL : RlR S Sm ed rs) (hl : LtR S Sm) (h1 : r32 x1) (h2 : r32 x2) (h3 : r32 x3) (h4 : r32 x4) (h5 : r32 x5) (h6 : r32 x6) : ∃ r S' Sm', C_fly ed rs S x1 x2 x3 x4 x5 x6 = some (r, S') ∧ M_fly Sm x1 x2 x3 x4 x5 x6 = some (r, Sm') ∧ RC S' Sm' ∧ LtR S' Sm' ∧ kF S S' Sm Sm' := by
  have n3 := R.n0 (k := 3) (by decide)
  have hrl := hL.2.2.1
  have hr8 := hL.2.2.2.1
  unfold C_fly M_fly M_isRule C_isBits
  rw [C_isOne_e (by decide) h1 (by omega), M_isIn_e h1 (by decide) (by omega), bd_some, bd_some, bd_some, n3, C_in_e h5 (by decide) (by decide)]
  by_cases q1 : 0 ≤ x1 ∧ x1 ≤ Sm.2 2 3 - 1
  · rw [decide_eq_true q1, if_pos rfl, if_pos rfl, bd_some]
    obtain ⟨b, S1, s1, s2, s3, c, s4, s5⟩ := start_ok (S := S) (Sm := Sm) (x := x2) (y := x3) (head := x4) R h2 h3 h4
    rw [s4, bd_some]
    by_cases q5 : 1 ≤ x5 ∧ x5 ≤ 60
    · rw [decide_eq_true q5, if_pos rfl]
      have hbits : (gd (r32 x6) (if x6 = 0 then some true else bd (C_in x6 4 20) (fun v3 => if v3 = true then some true else some false))) = some (decide (x6 = 0 ∨ (4 ≤ x6 ∧ x6 ≤ 20))) := by
        rw [gd_pos h6]
        by_cases c0 : x6 = 0
        · rw [if_pos c0, decide_eq_true (Or.inl c0)]
        · rw [if_neg c0, C_in_e h6 (by decide) (by decide), bd_some]
          by_cases c1 : 4 ≤ x6 ∧ x6 ≤ 20
          · rw [if_pos (decide_eq_true c1), decide_eq_true (Or.inr c1)]
          · rw [if_neg (by rw [decide_eq_true_eq]; exact c1), decide_eq_false (fun w => w.elim c0 c1)]
      rw [hbits, bd_some]
      by_cases q6 : x6 = 0 ∨ (4 ≤ x6 ∧ x6 ≤ 20)
      · rw [decide_eq_true q6, if_pos rfl, s1, bd2_some, M_isSide_e h4]
        by_cases qh : 0 ≤ x4 ∧ x4 ≤ 63
        · have ebc := s5 qh
          subst ebc
          cases b with
          | false =>
            rw [if_neg (by decide), if_neg (by decide)]
            obtain ⟨r1, r2⟩ := R.sc s2 (scM.rf Sm)
            exact ⟨_, _, _, rfl, rfl, r1, hl.sc s2, kF.of s2.f (fM.rf Sm)⟩
          | true =>
            rw [if_pos rfl, if_pos rfl, bd_some, decide_eq_true qh, if_pos rfl, M_isIn_e h5 (by decide) (by decide), bd_some, decide_eq_true q5, if_pos rfl]
            obtain ⟨P, -⟩ := s3 rfl
            -- the bound
            obtain ⟨bd_, hbd⟩ : ∃ z : Int, z = if x6 = 0 then 1000000 else (1 : Int) * 2 ^ (Int.toNat (x6 - 1)) - 1 := ⟨_, rfl⟩
            have hM54 : (gd (r32 x6) (if x6 = 0 then (M_fly_B54 Sm x1 x2 x3 x4 x5 x6) else (bd (M_isIn x6 (4 : Int) (20 : Int)) (fun v55 => if v55 = true then (M_fly_B54 Sm x1 x2 x3 x4 x5 x6) else (some (((-1) : Int), Sm)))))) = M_fly_B74 Sm x1 x2 x3 x4 x5 bd_ := by
              rw [gd_pos h6]
              have h54 : M_fly_B54 Sm x1 x2 x3 x4 x5 x6 = M_fly_B74 Sm x1 x2 x3 x4 x5 bd_ := by
                unfold M_fly_B54
                rw [gd_pos h6]
                by_cases c0 : x6 = 0
                · rw [if_pos c0, hbd, if_pos c0]
                · have c1 : 4 ≤ x6 ∧ x6 ≤ 20 := by omega
                  have hpw : (1 : Int) * 2 ^ (Int.toNat (x6 - 1)) < 18446744073709551616 := by
                    have key : ∀ k, k ≤ 19 → (1 : Int) * 2 ^ k < 18446744073709551616 := by
                      intro k hk
                      have q : (2 : Nat) ^ k ≤ 2 ^ 19 := Nat.pow_le_pow_right (by decide) hk
                      have q2 : (2 : Int) ^ k ≤ 2 ^ 19 := by exact_mod_cast q
                      omega
                    exact key _ (by omega)
                  rw [if_neg c0, gd_pos ⟨by decide, by omega, hpw⟩, hbd, if_neg c0]
              by_cases c0 : x6 = 0
              · rw [if_pos c0, h54]
              · rw [if_neg c0, M_isIn_e h6 (by decide) (by decide), bd_some, if_pos (decide_eq_true (by omega)), h54]
            rw [hM54]
            unfold M_fly_B74
            rw [nm_eq]
            have R1 := (R.sc s2 (scM.rf Sm)).1
            have fB0 : fM Sm (fset Sm 27 bd_) := ⟨⟨rfl, rfl, rfl, rfl, rfl⟩, rfl, rfl, rfl, fun _ _ => rfl⟩
            obtain ⟨S2, M2, f1, f2, f3, f4, f5, f6, f7, f8, f9, f10⟩ := flies_ok (S := S1) (Sm := fset Sm 27 bd_) (ed := ed) (rs := rs) (x1 := x1) (x := x2) (y := x3) (head := x4) (n := x5) (bits := x6) (R1.fl (fC.rf S1) fB0) (hL.fl s2.f fB0) (hl.sc s2) (by omega) P qh (by omega) (by
              rw [fset_eq, hbd]
              rcases q6 with c0 | c0
              · exact Or.inl ⟨c0, by rw [if_pos c0]⟩
              · exact Or.inr ⟨c0, by rw [if_neg (by omega)]⟩)
            rw [f1, bd_some, f2, bd_some]
            obtain ⟨S3, a1, a2, a3, a4⟩ := cp475_e S2
            obtain ⟨S4, b1, b2, b3, b4⟩ := cp536_e S3
            obtain ⟨S5, c1, c2, c3, c4⟩ := cp597_e S4
            rw [a1, bd_some, b1, bd_some, c1, bd_some, nm_eq, nm_eq, nm_eq, nm_eq]
            have ⟨⟨g14, g15, g16, g17, g18, g19⟩, ghd, gtk, gh1, gh2, gP⟩ := f5.1
            have e51 : S5.1 = S2.1 := by rw [c2, b2, a2]
            -- the component's end
            obtain ⟨F, hF⟩ : ∃ F : yS, F = cas (cas (cas (cas (cas (cas (cas (cas (cas S5 2 5 (M2.1 29)) 2 6 (M2.1 30)) 2 7 (M2.1 31)) 2 8 (M2.1 32)) 2 9 (M2.1 33)) 2 10 (M2.1 34)) 2 11 (M2.1 28)) 2 12 (S5.2 2 1)) 2 13 (S5.2 2 2) := ⟨_, rfl⟩
            have F1 : F.1 = S2.1 := by rw [hF, ← e51]; rfl
            have Fq : ∀ q, q ≠ 2 → F.2 q = S5.2 q := fun q hq => by rw [hF, cas_ne _ _ _ hq, cas_ne _ _ _ hq, cas_ne _ _ _ hq, cas_ne _ _ _ hq, cas_ne _ _ _ hq, cas_ne _ _ _ hq, cas_ne _ _ _ hq, cas_ne _ _ _ hq, cas_ne _ _ _ hq]
            have Fr : ∀ j, F.2 2 j = if j = 13 then S5.2 2 2 else if j = 12 then S5.2 2 1 else if j = 11 then M2.1 28 else if j = 10 then M2.1 34 else if j = 9 then M2.1 33 else if j = 8 then M2.1 32 else if j = 7 then M2.1 31 else if j = 6 then M2.1 30 else if j = 5 then M2.1 29 else S5.2 2 j := fun j => by rw [hF, cas_at, cas_at, cas_at, cas_at, cas_at, cas_at, cas_at, cas_at, cas_at]
            have hCend : (gd (r32 ((cas (cas (cas (cas S5 2 5 (S5.1 17)) 2 6 ((cas S5 2 5 (S5.1 17)).1 14)) 2 7 ((cas (cas S5 2 5 (S5.1 17)) 2 6 ((cas S5 2 5 (S5.1 17)).1 14)).1 15)) 2 8 ((cas (cas (cas S5 2 5 (S5.1 17)) 2 6 ((cas S5 2 5 (S5.1 17)).1 14)) 2 7 ((cas (cas S5 2 5 (S5.1 17)) 2 6 ((cas S5 2 5 (S5.1 17)).1 14)).1 15)).1 16)).1 18)) (if ((cas (cas (cas (cas S5 2 5 (S5.1 17)) 2 6 ((cas S5 2 5 (S5.1 17)).1 14)) 2 7 ((cas (cas S5 2 5 (S5.1 17)) 2 6 ((cas S5 2 5 (S5.1 17)).1 14)).1 15)) 2 8 ((cas (cas (cas S5 2 5 (S5.1 17)) 2 6 ((cas S5 2 5 (S5.1 17)).1 14)) 2 7 ((cas (cas S5 2 5 (S5.1 17)) 2 6 ((cas S5 2 5 (S5.1 17)).1 14)).1 15)).1 16)).1 18) = 0 then (C_fly_B186 ed rs (cas (cas (cas (cas S5 2 5 (S5.1 17)) 2 6 ((cas S5 2 5 (S5.1 17)).1 14)) 2 7 ((cas (cas S5 2 5 (S5.1 17)) 2 6 ((cas S5 2 5 (S5.1 17)).1 14)).1 15)) 2 8 ((cas (cas (cas S5 2 5 (S5.1 17)) 2 6 ((cas S5 2 5 (S5.1 17)).1 14)) 2 7 ((cas (cas S5 2 5 (S5.1 17)) 2 6 ((cas S5 2 5 (S5.1 17)).1 14)).1 15)).1 16)) (0 : Int) (9 : Int)) else (C_fly_B186 ed rs (cas (cas (cas (cas S5 2 5 (S5.1 17)) 2 6 ((cas S5 2 5 (S5.1 17)).1 14)) 2 7 ((cas (cas S5 2 5 (S5.1 17)) 2 6 ((cas S5 2 5 (S5.1 17)).1 14)).1 15)) 2 8 ((cas (cas (cas S5 2 5 (S5.1 17)) 2 6 ((cas S5 2 5 (S5.1 17)).1 14)) 2 7 ((cas (cas S5 2 5 (S5.1 17)) 2 6 ((cas S5 2 5 (S5.1 17)).1 14)).1 15)).1 16)) (1 : Int) (9 : Int)))) = some (M2.1 29, F) := by
              have e17 : S5.1 17 = M2.1 29 := by rw [e51]; exact g17
              have e14 : S5.1 14 = M2.1 30 := by rw [e51]; exact g14
              have e15 : S5.1 15 = M2.1 31 := by rw [e51]; exact g15
              have e16 : S5.1 16 = M2.1 32 := by rw [e51]; exact g16
              have e18 : S5.1 18 = M2.1 33 := by rw [e51]; exact g18
              have e19 : S5.1 19 = M2.1 34 := by rw [e51]; exact g19
              have e24 : S5.1 24 = M2.1 28 := by rw [e51]; exact f5.2.1.2
              have h209 : ∀ (X : yS), X.1 = S5.1 → X.2 2 1 = S5.2 2 1 → X.2 2 2 = S5.2 2 2 → C_fly_B209 ed rs X (M2.1 34) 10 = some (M2.1 29, cas (cas (cas (cas X 2 10 (M2.1 34)) 2 11 (M2.1 28)) 2 12 (S5.2 2 1)) 2 13 (S5.2 2 2)) := by
                intro X x1 x2 x3
                unfold C_fly_B209
                rw [gd_pos (by decide), nm_eq, nm_eq, nm_eq, nm_eq]
                simp only [cas_1, x1, e24, e17]
                rw [show (cas (cas X 2 10 (M2.1 34)) 2 11 (M2.1 28)).2 2 1 = S5.2 2 1 by rw [cas_at, if_neg (by decide), cas_at, if_neg (by decide), x2], show (cas (cas (cas X 2 10 (M2.1 34)) 2 11 (M2.1 28)) 2 12 (S5.2 2 1)).2 2 2 = S5.2 2 2 by rw [cas_at, if_neg (by decide), cas_at, if_neg (by decide), cas_at, if_neg (by decide), x3]]
              have h186 : C_fly_B186 ed rs (cas (cas (cas (cas S5 2 5 (M2.1 29)) 2 6 (M2.1 30)) 2 7 (M2.1 31)) 2 8 (M2.1 32)) (M2.1 33) 9 = some (M2.1 29, F) := by
                unfold C_fly_B186
                rw [gd_pos (by decide), nm_eq]
                have x2 : (cas (cas (cas (cas (cas S5 2 5 (M2.1 29)) 2 6 (M2.1 30)) 2 7 (M2.1 31)) 2 8 (M2.1 32)) 2 9 (M2.1 33)).2 2 1 = S5.2 2 1 := by rw [cas_at, if_neg (by decide), cas_at, if_neg (by decide), cas_at, if_neg (by decide), cas_at, if_neg (by decide), cas_at, if_neg (by decide)]
                have x3 : (cas (cas (cas (cas (cas S5 2 5 (M2.1 29)) 2 6 (M2.1 30)) 2 7 (M2.1 31)) 2 8 (M2.1 32)) 2 9 (M2.1 33)).2 2 2 = S5.2 2 2 := by rw [cas_at, if_neg (by decide), cas_at, if_neg (by decide), cas_at, if_neg (by decide), cas_at, if_neg (by decide), cas_at, if_neg (by decide)]
                have h9 := h209 (cas (cas (cas (cas (cas S5 2 5 (M2.1 29)) 2 6 (M2.1 30)) 2 7 (M2.1 31)) 2 8 (M2.1 32)) 2 9 (M2.1 33)) rfl x2 x3
                rw [← hF] at h9
                have e19' : (cas (cas (cas (cas (cas S5 2 5 (M2.1 29)) 2 6 (M2.1 30)) 2 7 (M2.1 31)) 2 8 (M2.1 32)) 2 9 (M2.1 33)).1 19 = M2.1 34 := e19
                exact gdif' (e19') gh2 (fun z => C_fly_B209 ed rs (cas (cas (cas (cas (cas S5 2 5 (M2.1 29)) 2 6 (M2.1 30)) 2 7 (M2.1 31)) 2 8 (M2.1 32)) 2 9 (M2.1 33)) z 10) h9
              exact gdif' (e18) gh1 (fun z => C_fly_B186 ed rs (cas (cas (cas (cas S5 2 5 (S5.1 17)) 2 6 (S5.1 14)) 2 7 (S5.1 15)) 2 8 (S5.1 16)) z 9) (by
                show C_fly_B186 ed rs (cas (cas (cas (cas S5 2 5 (S5.1 17)) 2 6 (S5.1 14)) 2 7 (S5.1 15)) 2 8 (S5.1 16)) (M2.1 33) 9 = _
                rw [e17, e14, e15, e16]
                exact h186)
            rw [hCend]
            -- the reference's end
            obtain ⟨G, hG⟩ : ∃ G : xS, G = aset (aset (aset (aset (aset (aset (aset (aset (aset M2 2 880 (M2.1 29)) 2 881 (M2.1 30)) 2 882 (M2.1 31)) 2 883 (M2.1 32)) 2 884 (M2.1 33)) 2 885 (M2.1 34)) 2 886 (M2.1 28)) 2 887 (M2.2 2 1)) 2 888 (M2.2 2 2) := ⟨_, rfl⟩
            have G1 : G.1 = M2.1 := by rw [hG]; rfl
            have Gq : ∀ q, q ≠ 2 → G.2 q = M2.2 q := fun q hq => by rw [hG, aset_ne _ _ _ hq, aset_ne _ _ _ hq, aset_ne _ _ _ hq, aset_ne _ _ _ hq, aset_ne _ _ _ hq, aset_ne _ _ _ hq, aset_ne _ _ _ hq, aset_ne _ _ _ hq, aset_ne _ _ _ hq]
            have Gr : ∀ j, G.2 2 j = if j = 888 then M2.2 2 2 else if j = 887 then M2.2 2 1 else if j = 886 then M2.1 28 else if j = 885 then M2.1 34 else if j = 884 then M2.1 33 else if j = 883 then M2.1 32 else if j = 882 then M2.1 31 else if j = 881 then M2.1 30 else if j = 880 then M2.1 29 else M2.2 2 j := fun j => by rw [hG, aset_at, aset_at, aset_at, aset_at, aset_at, aset_at, aset_at, aset_at, aset_at]
            obtain ⟨V, v1, v2, v3, v4⟩ := m219 (38 * M2.1 29).toNat G 0 G (Int.le_refl _) (by rw [G1]; omega) (by rw [G1]; exact gtk) rfl (fun _ _ => rfl) FU (by unfold FU; omega)
            rw [G1] at v1 v4
            have hMend : M_fly_L219 FU G 0 = some (M2.1 29, V) := v1
            have h175 : ∀ (X : xS), X.1 = M2.1 → X.2 2 1 = M2.2 2 1 → X.2 2 2 = M2.2 2 2 → M_fly_B175 X (M2.1 34) 885 = M_fly_L219 FU (aset (aset (aset (aset X 2 885 (M2.1 34)) 2 886 (M2.1 28)) 2 887 (M2.2 2 1)) 2 888 (M2.2 2 2)) 0 := by
              intro X x1 x2 x3
              unfold M_fly_B175
              rw [gd_pos (by decide), nm_eq, nm_eq, nm_eq, nm_eq]
              simp only [aset_1, x1]
              rw [show (aset (aset X 2 885 (M2.1 34)) 2 886 (M2.1 28)).2 2 1 = M2.2 2 1 by rw [aset_at, if_neg (by decide), aset_at, if_neg (by decide), x2], show (aset (aset (aset X 2 885 (M2.1 34)) 2 886 (M2.1 28)) 2 887 (M2.2 2 1)).2 2 2 = M2.2 2 2 by rw [aset_at, if_neg (by decide), aset_at, if_neg (by decide), aset_at, if_neg (by decide), x3]]
            have h155 : M_fly_B155 (aset (aset (aset (aset M2 2 880 (M2.1 29)) 2 881 (M2.1 30)) 2 882 (M2.1 31)) 2 883 (M2.1 32)) (M2.1 33) 884 = some (M2.1 29, V) := by
              unfold M_fly_B155
              rw [gd_pos (by decide), nm_eq]
              have x2 : (aset (aset (aset (aset (aset M2 2 880 (M2.1 29)) 2 881 (M2.1 30)) 2 882 (M2.1 31)) 2 883 (M2.1 32)) 2 884 (M2.1 33)).2 2 1 = M2.2 2 1 := by rw [aset_at, if_neg (by decide), aset_at, if_neg (by decide), aset_at, if_neg (by decide), aset_at, if_neg (by decide), aset_at, if_neg (by decide)]
              have x3 : (aset (aset (aset (aset (aset M2 2 880 (M2.1 29)) 2 881 (M2.1 30)) 2 882 (M2.1 31)) 2 883 (M2.1 32)) 2 884 (M2.1 33)).2 2 2 = M2.2 2 2 := by rw [aset_at, if_neg (by decide), aset_at, if_neg (by decide), aset_at, if_neg (by decide), aset_at, if_neg (by decide), aset_at, if_neg (by decide)]
              have h9 := h175 (aset (aset (aset (aset (aset M2 2 880 (M2.1 29)) 2 881 (M2.1 30)) 2 882 (M2.1 31)) 2 883 (M2.1 32)) 2 884 (M2.1 33)) rfl x2 x3
              rw [← hG, hMend] at h9
              exact gdif (v := M2.1 34) gh2 (fun z => M_fly_B175 (aset (aset (aset (aset (aset M2 2 880 (M2.1 29)) 2 881 (M2.1 30)) 2 882 (M2.1 31)) 2 883 (M2.1 32)) 2 884 (M2.1 33)) z 885) h9
            rw [nm_eq, nm_eq, nm_eq, nm_eq]
            have hMf := gdif (v := M2.1 33) gh1 (fun z => M_fly_B155 (aset (aset (aset (aset M2 2 880 (M2.1 29)) 2 881 (M2.1 30)) 2 882 (M2.1 31)) 2 883 (M2.1 32)) z 884) h155
            refine ⟨M2.1 29, F, V, rfl, hMf, ?_⟩
            have V1 : V.1 = M2.1 := v2.trans G1
            have Vq : ∀ q, q ≠ 2 → V.2 q = M2.2 q := fun q hq => (v3 q hq).trans (Gq q hq)
            have Vlo : ∀ j, j < 880 → V.2 2 j = M2.2 2 j := fun j hj => by rw [v4 j, if_neg (by omega), Gr j, if_neg (by omega), if_neg (by omega), if_neg (by omega), if_neg (by omega), if_neg (by omega), if_neg (by omega), if_neg (by omega), if_neg (by omega), if_neg (by omega)]
            have Vmid : ∀ j, j < 890 → V.2 2 j = G.2 2 j := fun j hj => by rw [v4 j, if_neg (by omega)]
            have Vrow : ∀ j, 0 ≤ j → j < 38 * M2.1 29 → V.2 2 (890 + j) = M2.2 35 j := fun j j0 j1 => by rw [v4, if_pos (by omega), Gq 35 (by decide), show 890 + j - 890 = j by omega]
            have g880 : V.2 2 880 = M2.1 29 := by rw [Vmid 880 (by decide), Gr, if_neg (by decide), if_neg (by decide), if_neg (by decide), if_neg (by decide), if_neg (by decide), if_neg (by decide), if_neg (by decide), if_neg (by decide), if_pos rfl]
            have g887 : V.2 2 887 = M2.2 2 1 := by rw [Vmid 887 (by decide), Gr, if_neg (by decide), if_pos rfl]
            have g888 : V.2 2 888 = M2.2 2 2 := by rw [Vmid 888 (by decide), Gr, if_pos rfl]
            have OA := f3.2.1
            have RN := f3.2.2.1
            have S5q : ∀ q, ¬ (53 ≤ q ∧ q < 235) → S5.2 q = S2.2 q := fun q hq => by rw [c3 q (by omega), b3 q (by omega), a3 q (by omega)]
            have F2 : ∀ q, q ≠ 2 → ¬ (53 ≤ q ∧ q < 235) → F.2 q = S2.2 q := fun q h1 h2 => by rw [Fq q h1, S5q q h2]
            have oln := OA.2.1.1
            have opn := OA.2.2.1.1
            have hnow := f3.now (S' := F) (Sm' := V) F1 V1 (Vq 3 (by decide)) (Vq 4 (by decide)) (Vq 9 (by decide)) (Vq 36 (by decide)) (fun q hq => F2 q (by omega) (by omega)) ⟨OA.1.cg (Vlo 0 (by decide)) (fun i _ i2 => Vlo i (by omega)), OA.2.1.cg (Vlo 1 (by decide)) (fun i _ i2 => Vlo i (by omega)), OA.2.2.1.cg (Vlo 1 (by decide)) (Vlo 2 (by decide)) (fun i _ i2 => Vlo i (by omega)), OA.2.2.2.1.cg (Vlo 4 (by decide)) (fun i _ i2 => Vlo i (by omega)), by rw [Vlo 3 (by decide)]; exact OA.2.2.2.2.1, by rw [g880]; omega, by rw [g887]; exact oln, by rw [g888]; exact opn⟩ ⟨⟨?_, ?_⟩, ?_, ?_, ?_, ?_, ?_, ?_⟩ (Vlo 3 (by decide))
            · refine ⟨hnow.1, ?_, ?_⟩
              · intro k k0 k1
                rw [F2 661 (by decide) (by decide), Vq 36 (by decide)]
                exact f5.2.2.1 k k0 k1
              · exact ((kF.of s2.f fB0).tr (kF.of f6 f7)).tr ⟨fun k hk => by rw [F1], Vq 4 (by decide), Vlo 3 (by decide), by rw [Vq 3 (by decide)]⟩
            · intro k k0 k1
              rw [Fr k, if_neg (by omega), if_neg (by omega), if_neg (by omega), if_neg (by omega), if_neg (by omega), if_neg (by omega), if_neg (by omega), if_neg (by omega), if_neg (by omega), S5q 2 (by decide), Vlo k (by omega)]
              exact RN.1.1 k k0 k1
            · intro k k0 k1
              rw [Fr, Vmid _ (by omega), Gr, S5q 2 (by decide)]
              have r1 := RN.1.1 1 (by decide) (by decide)
              have r2 := RN.1.1 2 (by decide) (by decide)
              rcases (by omega : k = 0 ∨ k = 1 ∨ k = 2 ∨ k = 3 ∨ k = 4 ∨ k = 5 ∨ k = 6 ∨ k = 7 ∨ k = 8) with rfl | rfl | rfl | rfl | rfl | rfl | rfl | rfl | rfl
              · rfl
              · rfl
              · rfl
              · rfl
              · rfl
              · rfl
              · rfl
              · show S2.2 2 1 = M2.2 2 1
                exact r1
              · show S2.2 2 2 = M2.2 2 2
                exact r2
            · exact RN.2.1.cg (F2 3 (by decide) (by decide)) (fun i _ i2 => Vlo i (by omega))
            · exact RN.2.2.1.cg (fun q _ _ => F2 q (by omega) (by omega)) (fun i _ i2 => Vlo i (by omega))
            · exact RN.2.2.2.1.cg (fun q _ _ => F2 q (by omega) (by omega)) (fun i _ i2 => Vlo i (by omega))
            · exact RN.2.2.2.2.1.cg (fun q _ _ => F2 q (by omega) (by omega)) (fun i _ i2 => Vlo i (by omega))
            · exact RN.2.2.2.2.2.1.cg (fun q _ _ => F2 q (by omega) (by omega)) (fun i _ i2 => Vlo i (by omega))
            · intro t t0 t1
              rw [g880] at t1
              rw [g887, g888]
              obtain ⟨w1, w2, w3, -⟩ := f5.2.2.2 t t0 t1
              refine ⟨fun j j0 j1 => ?_, fun j j0 j1 => ?_, fun j j0 j1 => ?_⟩
              · rw [Fq _ (by omega), show (52 : Int) + 1 + t = 53 + t by omega, c3 _ (by omega), b3 _ (by omega), a4 t t0 (by omega) j j0 j1, w1 j j0 j1, show 890 + 38 * t + j = 890 + (38 * t + j) by omega, Vrow _ (by omega) (by omega)]
              · rw [Fq _ (by omega), show (113 : Int) + 1 + t = 114 + t by omega, c3 _ (by omega), b4 t t0 (by omega) j j0 (by omega), a3 _ (by omega), (w2 j j0 j1).1, show 890 + 38 * t + 5 + j = 890 + (38 * t + 5 + j) by omega, Vrow _ (by omega) (by omega)]
              · rw [Fq _ (by omega), show (174 : Int) + 1 + t = 175 + t by omega, c4 t t0 (by omega) j j0 (by omega), b3 _ (by omega), a3 _ (by omega), w3 j j0 j1, show 890 + 38 * t + 21 + j = 890 + (38 * t + 21 + j) by omega, Vrow _ (by omega) (by omega)]
        · have hb : b = false := by
            cases b
            · rfl
            · exact absurd (s3 rfl).2 qh
          rw [hb, if_neg (by decide)]
          obtain ⟨r1, r2⟩ := R.sc s2 (scM.rf Sm)
          refine ⟨_, _, Sm, rfl, ?_, r1, hl.sc s2, kF.of s2.f (fM.rf Sm)⟩
          cases c
          · rw [if_neg (by decide)]
          · rw [if_pos rfl, bd_some, decide_eq_false qh, if_neg (by decide)]
      · rw [decide_eq_false q6, if_neg (by decide)]
        obtain ⟨r1, r2⟩ := R.rf
        refine ⟨_, _, Sm, rfl, ?_, r1, hl, kF.rf S Sm⟩
        cases c
        · rw [if_neg (by decide)]
        · rw [if_pos rfl, M_isSide_e h4, bd_some]
          by_cases qh : 0 ≤ x4 ∧ x4 ≤ 63
          · rw [decide_eq_true qh, if_pos rfl, M_isIn_e h5 (by decide) (by decide), bd_some, decide_eq_true q5, if_pos rfl, gd_pos h6, if_neg (by omega), M_isIn_e h6 (by decide) (by decide), bd_some, decide_eq_false (by omega), if_neg (by decide)]
          · rw [decide_eq_false qh, if_neg (by decide)]
    · rw [decide_eq_false q5, if_neg (by decide)]
      obtain ⟨r1, r2⟩ := R.rf
      refine ⟨_, _, Sm, rfl, ?_, r1, hl, kF.rf S Sm⟩
      cases c
      · rw [if_neg (by decide)]
      · rw [if_pos rfl, M_isSide_e h4, bd_some]
        by_cases qh : 0 ≤ x4 ∧ x4 ≤ 63
        · rw [decide_eq_true qh, if_pos rfl, M_isIn_e h5 (by decide) (by decide), bd_some, decide_eq_false q5, if_neg (by decide)]
        · rw [decide_eq_false qh, if_neg (by decide)]
  · rw [decide_eq_false q1, if_neg (by decide), if_neg (by decide)]
    obtain ⟨r1, r2⟩ := R.rf
    exact ⟨_, _, Sm, rfl, rfl, r1, hl, kF.rf S Sm⟩
