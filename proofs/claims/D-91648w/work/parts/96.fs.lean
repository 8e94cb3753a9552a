set_option maxRecDepth 100000
/-- the rules that are kept, as bits and as an array -/
theorem keeps_L2 {ed : Nat} {rs : List (List tCl)} {x1 x2 : Int} : ∀ (m : Nat) (S : yS) (Sm : xS) (k set : Nat), FL S Sm ed rs → rs.length - k = m → k ≤ rs.length → set < 2 ^ k → (∀ r : Nat, r < k → Sm.2 42 (r : Int) = ((set / 2 ^ r) % 2 : Nat)) → ∀ n1 n2, m < n1 → m < n2 → ∃ set' S' Sm', C_keeps_L4 ed rs n1 S (set : Int) k = some (((set' : Nat) : Int), S') ∧ M_parts_L27 x1 x2 n2 Sm k = M_parts_L72 x1 x2 FU Sm' 1 (-1) (-1) 0 ∧ set' < 2 ^ rs.length ∧ FL S' Sm' ed rs ∧ fC S S' ∧ kF S S' Sm Sm' ∧ Sm'.1 27 = 1000000 ∧ (∀ r : Nat, r < rs.length → Sm'.2 42 (r : Int) = ((set' / 2 ^ r) % 2 : Nat)) ∧ (Sm'.1 0 = Sm.1 0 ∧ Sm'.1 1 = Sm.1 1) := by
  intro m
  induction m with
  | zero =>
    intro S Sm k set h hm hk hs h42 n1 n2 q1 q2
    obtain ⟨n1, rfl⟩ : ∃ k, n1 = k + 1 := ⟨n1 - 1, by omega⟩
    obtain ⟨n2, rfl⟩ : ∃ k, n2 = k + 1 := ⟨n2 - 1, by omega⟩
    have e : k = rs.length := by omega
    have n3 := h.1.n0 (k := 3) (by decide)
    have hrl := h.2.1.2.2.1
    have hr8 := h.2.1.2.2.2.1
    obtain ⟨g1, g2⟩ := h.m27 1000000
    refine ⟨set, S, fset Sm 27 1000000, ?_, ?_, by rw [← e]; exact hs, g1, fC.rf S, kF.of (fC.rf S) g2, fset_eq _ _ _, by rw [← e]; exact h42, rfl, rfl⟩
    · show C_keeps_b4 ed rs (C_keeps_L4 ed rs n1) S set k = _
      unfold C_keeps_b4
      rw [n3, gd_pos (by omega), if_neg (by omega)]
    · show M_parts_b27 x1 x2 (M_parts_L27 x1 x2 n2) Sm k = _
      unfold M_parts_b27
      rw [gd_pos (by omega), if_neg (by omega), nm_eq]
  | succ m ih =>
    intro S Sm k set h hm hk hs h42 n1 n2 q1 q2
    obtain ⟨n1, rfl⟩ : ∃ k, n1 = k + 1 := ⟨n1 - 1, by omega⟩
    obtain ⟨n2, rfl⟩ : ∃ k, n2 = k + 1 := ⟨n2 - 1, by omega⟩
    have n3 := h.1.n0 (k := 3) (by decide)
    have hrl := h.2.1.2.2.1
    have hr8 := h.2.1.2.2.2.1
    obtain ⟨b, S1, M1, a1, a2, a3, a4, a5, a6⟩ := isKept_ok (x1 := (k : Int)) h (by omega)
    have eC : C_keeps_L4 ed rs (n1 + 1) S (set : Int) k = C_keeps_b4 ed rs (C_keeps_L4 ed rs n1) S set k := rfl
    have eM : M_parts_L27 x1 x2 (n2 + 1) Sm k = M_parts_b27 x1 x2 (M_parts_L27 x1 x2 n2) Sm k := rfl
    rw [eC, eM]
    unfold C_keeps_b4 M_parts_b27
    rw [n3, gd_pos (show r32 (k : Int) ∧ r32 (Sm.2 2 3) by omega), if_pos (show (k : Int) < Sm.2 2 3 by omega), a1, bd2_some]
    rw [gd_pos (show r32 (k : Int) ∧ r32 (Sm.2 2 3) by omega), if_pos (show (k : Int) < Sm.2 2 3 by omega), a2, bd2_some, gd_pos (show (0 : Int) ≤ k ∧ (k : Int) < 8 by omega), nm_eq, nm_eq]
    unfold C_keeps_B33
    have tw := two_s (s := k) (by omega)
    obtain ⟨A, hA⟩ : ∃ A : xS, A = aset M1 42 (k : Int) (bz b) := ⟨_, rfl⟩
    rw [← hA]
    have Aq : ∀ q, q ≠ 42 → A.2 q = M1.2 q := fun q hq => by rw [hA]; exact aset_ne _ _ _ hq
    have A1 : A.1 = M1.1 := by rw [hA]; rfl
    have hFA : FL S1 A ed rs := by
      obtain ⟨r1, r2, r3⟩ := a3
      refine ⟨?_, ?_, ?_⟩
      · have hs2 : scM M1 A := ⟨⟨by rw [A1], by rw [A1], by rw [A1], by rw [A1], by rw [A1]⟩, Aq 2 (by decide), Aq 3 (by decide), Aq 4 (by decide), fun j hj => Aq j (by omega)⟩
        exact (r1.sc (sc.rf S1) hs2).1
      · unfold RlR
        rw [Aq 2 (by decide), Aq 4 (by decide)]
        exact r2
      · intro j j0 j1
        rw [Aq 36 (by decide)]
        exact r3 j j0 j1
    have kA : kF S S1 Sm A := ⟨a4.2.1, (Aq 4 (by decide)).trans a5.2.2.2.1, by rw [Aq 2 (by decide), a5.2.1], by rw [Aq 3 (by decide), a5.2.2.1]⟩
    have A42 : ∀ j, A.2 42 j = if j = (k : Int) then bz b else Sm.2 42 j := fun j => by rw [hA, aset_at, a5.2.2.2.2 42 (Or.inr rfl)]
    cases b with
    | false =>
      rw [if_neg (by decide), gd_pos (show (0 : Int) ≤ set ∧ (0 : Int) ≤ 0 by omega), nm_eq, nm_eq, zor_0 (by omega)]
      obtain ⟨s', S2, M2, b1, b2, b3, b4, b5, b6, b7, b8, b9⟩ := ih S1 A (k + 1) set hFA (by omega) (by omega) (by rw [Nat.pow_succ]; omega) (fun r hr => by
        rw [A42]
        by_cases c : r = k
        · rw [if_pos (by omega), c, Nat.div_eq_of_lt hs]; rfl
        · rw [if_neg (by omega)]; exact h42 r (by omega)) n1 n2 (by omega) (by omega)
      exact ⟨s', S2, M2, by rw [show ((k : Int) + 1) = ((k + 1 : Nat) : Int) by omega, b1], by rw [show ((k : Int) + 1) = ((k + 1 : Nat) : Int) by omega, b2], b3, b4, a4.tr b5, kA.tr b6, b7, b8, by rw [b9.1, A1]; exact a5.1.1, by rw [b9.2, A1]; exact a5.1.2.1⟩
    | true =>
      rw [if_pos rfl, Int.toNat_natCast, gd_pos ⟨by decide, by omega, tw.2⟩, gd_pos (show (0 : Int) ≤ set ∧ (0 : Int) ≤ (1 : Int) * 2 ^ k from ⟨by omega, tw.1⟩), nm_eq, nm_eq, zor_pow (by omega), Int.toNat_natCast]
      obtain ⟨s', S2, M2, b1, b2, b3, b4, b5, b6, b7, b8, b9⟩ := ih S1 A (k + 1) (set ||| 2 ^ k) hFA (by omega) (by omega) (nor_lt (by rw [Nat.pow_succ]; omega) (by omega)) (fun r hr => by
        rw [A42, nor_bit]
        by_cases c : r = k
        · rw [if_pos (by omega), if_pos c]; rfl
        · rw [if_neg (by omega), if_neg c]; exact h42 r (by omega)) n1 n2 (by omega) (by omega)
      exact ⟨s', S2, M2, by rw [show ((k : Int) + 1) = ((k + 1 : Nat) : Int) by omega, b1], by rw [show ((k : Int) + 1) = ((k + 1 : Nat) : Int) by omega, b2], b3, b4, a4.tr b5, kA.tr b6, b7, b8, by rw [b9.1, A1]; exact a5.1.1, by rw [b9.2, A1]; exact a5.1.2.1⟩
/-- how many unlike turns, of both -/
theorem unlike_L {ed : Nat} {rs : List (List tCl)} {set : Nat} {x y head : Int} (hset : set < 256) (hd : 0 ≤ head ∧ head ≤ 63) : ∀ (m : Nat) (S : yS) (Sm : xS) (k tn : Nat), FL S Sm ed rs → Sm.1 27 = 1000000 → okP (Sm.1 0) (Sm.1 1) x y → rs.length - k = m → k ≤ rs.length → tn < 131072 → (∀ r : Nat, r < rs.length → Sm.2 42 (r : Int) = ((set / 2 ^ r) % 2 : Nat)) → ∀ n1 n2, m < n1 → m < n2 → ∃ (c : Nat) (S' : yS) (Sm' : xS), C_unlike_L6 ed rs (set : Int) x y head n1 S (tn : Int) k = some ((c : Int), S') ∧ M_unlike_L9 x y head n2 Sm (tn : Int) (pop 17 tn : Int) k = some ((c : Int), Sm') ∧ c ≤ 17 ∧ FL S' Sm' ed rs ∧ fC S S' ∧ fM Sm Sm' ∧ Sm'.1 27 = 1000000 := by
  have pop_le : ∀ n a, pop n a ≤ n := by
    intro n
    induction n with
    | zero => intro a; exact Nat.le_refl _
    | succ n ih => intro a; show a % 2 + pop n (a / 2) ≤ n + 1; have := ih (a / 2); omega
  intro m
  induction m with
  | zero =>
    intro S Sm k tn h h27 P hm hk htn h42 n1 n2 q1 q2
    obtain ⟨n1, rfl⟩ : ∃ k, n1 = k + 1 := ⟨n1 - 1, by omega⟩
    obtain ⟨n2, rfl⟩ : ∃ k, n2 = k + 1 := ⟨n2 - 1, by omega⟩
    have e : k = rs.length := by omega
    have n3 := h.1.n0 (k := 3) (by decide)
    have hrl := h.2.1.2.2.1
    have hr8 := h.2.1.2.2.2.1
    refine ⟨pop 17 tn, S, Sm, ?_, ?_, pop_le 17 tn, h, fC.rf S, fM.rf Sm, h27⟩
    · show C_unlike_b6 ed rs set x y head (C_unlike_L6 ed rs set x y head n1) S tn k = _
      unfold C_unlike_b6
      rw [n3, gd_pos (by omega), if_neg (by omega), bit_count (by omega), bd_some, Int.toNat_natCast]
    · show M_unlike_b9 x y head (M_unlike_L9 x y head n2) Sm tn _ k = _
      unfold M_unlike_b9
      rw [gd_pos (by omega), if_neg (by omega)]
  | succ m ih =>
    intro S Sm k tn h h27 P hm hk htn h42 n1 n2 q1 q2
    obtain ⟨n1, rfl⟩ : ∃ k, n1 = k + 1 := ⟨n1 - 1, by omega⟩
    obtain ⟨n2, rfl⟩ : ∃ k, n2 = k + 1 := ⟨n2 - 1, by omega⟩
    have n3 := h.1.n0 (k := 3) (by decide)
    have hrl := h.2.1.2.2.1
    have hr8 := h.2.1.2.2.2.1
    have eC : C_unlike_L6 ed rs (set : Int) x y head (n1 + 1) S (tn : Int) k = C_unlike_b6 ed rs set x y head (C_unlike_L6 ed rs set x y head n1) S tn k := rfl
    have eM : M_unlike_L9 x y head (n2 + 1) Sm (tn : Int) (pop 17 tn : Int) k = M_unlike_b9 x y head (M_unlike_L9 x y head n2) Sm tn (pop 17 tn : Int) k := rfl
    have hk42 := h42 k (by omega)
    have hmod : (set / 2 ^ k) % 2 < 2 := Nat.mod_lt _ (by decide)
    have hsh : ((set : Int) / 2 ^ (Int.toNat (k : Int))) % 2 ^ 1 = (((set / 2 ^ k) % 2 : Nat) : Int) := by
      rw [Int.toNat_natCast]
      have p : (2 : Int) ^ k = ((2 ^ k : Nat) : Int) := by norm_cast
      rw [p, ← Int.natCast_ediv, show (2 : Int) ^ 1 = ((2 : Nat) : Int) from rfl, ← Int.natCast_emod]
    rw [eC, eM]
    unfold C_unlike_b6 M_unlike_b9
    rw [n3, gd_pos (show r32 (k : Int) ∧ r32 (Sm.2 2 3) by omega), if_pos (show (k : Int) < Sm.2 2 3 by omega), gd_pos (show r32 (set : Int) ∧ (0 : Int) ≤ k ∧ (k : Int) ≤ 31 from ⟨by omega, by omega, by omega⟩), hsh, gd_pos (show r32 (((set / 2 ^ k) % 2 : Nat) : Int) by omega)]
    rw [gd_pos (show r32 (k : Int) ∧ r32 (Sm.2 2 3) by omega), if_pos (show (k : Int) < Sm.2 2 3 by omega), gd_pos (show (0 : Int) ≤ k ∧ (k : Int) < 8 by omega), hk42, gd_pos (show r32 (((set / 2 ^ k) % 2 : Nat) : Int) by omega)]
    by_cases g : (((set / 2 ^ k) % 2 : Nat) : Int) = 0
    · rw [if_pos g, if_pos g, nm_eq, nm_eq, show ((k : Int) + 1) = ((k + 1 : Nat) : Int) by omega]
      exact ih S Sm (k + 1) tn h h27 P (by omega) (by omega) htn h42 n1 n2 (by omega) (by omega)
    · rw [if_neg g, if_neg g]
      obtain ⟨S2, M2, r1, r2, r3, r4, r5, r6, r7, r8, r9⟩ := run_ok (x1 := (k : Int)) (x := x) (y := y) (head := head) (n := 1) h h27 (by omega) P hd (by decide)
      have g17 := r4.1.1.2.2.2.1
      have gtk := r4.1.2.2.1
      have g34 := r4.1.2.2.2.2.1
      have hiff := r9 rfl
      rw [r1, bd_some, r2, bd_some, gd_pos (show r32 (S2.1 17) by omega), gd_pos (show r32 (M2.1 34) by omega), g17]
      -- the turn of both
      have step : ∀ t0 : Int, -8 ≤ t0 → t0 ≤ 8 → ∃ (c : Nat) (S' : yS) (Sm' : xS), C_unlike_B74 ed rs (C_unlike_L6 ed rs set x y head n1) S2 set x y head k t0 8 1 tn = some ((c : Int), S') ∧ M_unlike_B60 (M_unlike_L9 x y head n2) M2 x y head tn (pop 17 tn : Int) k t0 = some ((c : Int), Sm') ∧ c ≤ 17 ∧ FL S' Sm' ed rs ∧ fC S2 S' ∧ fM M2 Sm' ∧ Sm'.1 27 = 1000000 := by
        intro t0 l1 l2
        obtain ⟨s, hs⟩ : ∃ s : Nat, 8 + t0 = s := ⟨(8 + t0).toNat, by omega⟩
        have hs2 : t0 + 8 = (s : Int) := by omega
        have tw := two_s (s := s) (by omega)
        have htb : ((tn : Int) / 2 ^ (Int.toNat (s : Int))) % 2 ^ 1 = (((tn / 2 ^ s) % 2 : Nat) : Int) := by
          rw [Int.toNat_natCast]
          have p : (2 : Int) ^ s = ((2 ^ s : Nat) : Int) := by norm_cast
          rw [p, ← Int.natCast_ediv, show (2 : Int) ^ 1 = ((2 : Nat) : Int) from rfl, ← Int.natCast_emod]
        have hmod2 : (tn / 2 ^ s) % 2 < 2 := Nat.mod_lt _ (by decide)
        have hpo := pop_or 17 tn s (by omega)
        have hlt : (tn ||| 2 ^ s) < 131072 := nor_lt (n := 17) htn (by omega)
        obtain ⟨c, S3, M3, v1, v2, v3, v4, v5, v6, v7⟩ := ih S2 M2 (k + 1) (tn ||| 2 ^ s) r3 r7 (by rw [r6.1.1, r6.1.2.1]; exact P) (by omega) (by omega) hlt (fun r hr => by rw [r6.2.2.2.2 42 (Or.inr rfl)]; exact h42 r hr) n1 n2 (by omega) (by omega)
        refine ⟨c, S3, M3, ?_, ?_, v3, v4, v5, v6, v7⟩
        · unfold C_unlike_B74
          rw [hs, Int.toNat_natCast, gd_pos ⟨by decide, by omega, tw.2⟩, gd_pos (show (0 : Int) ≤ tn ∧ (0 : Int) ≤ (1 : Int) * 2 ^ s from ⟨by omega, tw.1⟩), nm_eq, nm_eq, zor_pow (by omega), Int.toNat_natCast, show ((k : Int) + 1) = ((k + 1 : Nat) : Int) by omega, v1]
        · have h78 : ∀ z : Int, M_unlike_B78 (M_unlike_L9 x y head n2) M2 x y head tn z k t0 = M_unlike_L9 x y head n2 M2 ((tn ||| 2 ^ s : Nat) : Int) z ((k + 1 : Nat) : Int) := by
            intro z
            unfold M_unlike_B78
            rw [hs2, Int.toNat_natCast, gd_pos ⟨by decide, by omega, tw.2⟩, gd_pos (show (0 : Int) ≤ tn ∧ (0 : Int) ≤ (1 : Int) * 2 ^ s from ⟨by omega, tw.1⟩), nm_eq, nm_eq, zor_pow (by omega), Int.toNat_natCast, show ((k : Int) + 1) = ((k + 1 : Nat) : Int) by omega]
          unfold M_unlike_B60
          rw [hs2, gd_pos (show r32 (tn : Int) ∧ (0 : Int) ≤ s ∧ (s : Int) ≤ 31 from ⟨by omega, by omega, by omega⟩), htb, gd_pos (show r32 (((tn / 2 ^ s) % 2 : Nat) : Int) by omega), nm_eq, h78, h78]
          by_cases gz : (((tn / 2 ^ s) % 2 : Nat) : Int) = 0
          · rw [if_pos gz, ← v2, hpo, if_pos (by omega), show (((pop 17 tn + 1 : Nat)) : Int) = (pop 17 tn : Int) + 1 by omega]
          · rw [if_neg gz, ← v2, hpo, if_neg (by omega), show pop 17 tn + 0 = pop 17 tn from Nat.add_zero _]
      by_cases c0 : M2.1 29 = 0
      · have c1 : M2.1 34 = 1 := hiff.mpr c0
        rw [if_pos c0, if_neg (show ¬ M2.1 34 = 0 by omega)]
        obtain ⟨c, S3, M3, v1, v2, v3, v4, v5, v6, v7⟩ := step 0 (by decide) (by decide)
        exact ⟨c, S3, M3, v1, v2, v3, v4, r5.tr v5, r6.tr v6, v7⟩
      · have c1 : M2.1 34 = 0 := by
          rcases g34 with w | w
          · exact w
          · exact absurd (hiff.mp w) c0
        obtain ⟨w1, -, -, w4⟩ := r4.2.2.2 0 (Int.le_refl _) (by omega)
        have e0 := w1 0 (by decide) (by decide)
        rw [if_neg c0, if_pos c1, show (475 : Int) + 1 + 0 = 476 + 0 by decide, e0, show (38 : Int) * 0 + 0 = 0 by decide]
        rw [show (38 : Int) * 0 = 0 by decide] at w4
        obtain ⟨c, S3, M3, v1, v2, v3, v4, v5, v6, v7⟩ := step (M2.2 35 0) w4.1 w4.2
        exact ⟨c, S3, M3, v1, v2, v3, v4, r5.tr v5, r6.tr v6, v7⟩
theorem unlike_ok {ed : Nat} {rs : List (List tCl)} {set : Nat} {x y head : Int} {S : yS} {Sm : xS} (hset : set < 256) (hd : 0 ≤ head ∧ head ≤ 63) (h : FL S Sm ed rs) (h27 : Sm.1 27 = 1000000) (P : okP (Sm.1 0) (Sm.1 1) x y) (h42 : ∀ r : Nat, r < rs.length → Sm.2 42 (r : Int) = ((set / 2 ^ r) % 2 : Nat)) : ∃ (c : Nat) (S' : yS) (Sm' : xS), C_unlike ed rs S (set : Int) x y head = some ((c : Int), S') ∧ M_unlike Sm x y head = some ((c : Int), Sm') ∧ c ≤ 17 ∧ FL S' Sm' ed rs ∧ fC S S' ∧ fM Sm Sm' ∧ Sm'.1 27 = 1000000 := by
  have hr8 := h.2.1.2.2.2.1
  obtain ⟨c, S', M', v1, v2, v⟩ := unlike_L (x := x) (y := y) hset hd rs.length S Sm 0 0 h h27 P (by omega) (Nat.zero_le _) (by decide) h42 FU FU (by unfold FU; omega) (by unfold FU; omega)
  exact ⟨c, S', M', v1, v2, v⟩
section PARTS
variable {ed : Nat} {rs : List (List tCl)} {x1 x2 : Int} {set : Nat}
/-- heads at a place that is no start are passed over -/
theorem parts_skip {Sm : xS} {xx : Int} {K : yS → Int → Int → Int → Int → Option (Int × yS)} {x4 x5 x6 : Int} (h9 : r32 xx) (h4 : r32 (16 * x1 + 8)) (hc : M_isStart Sm xx (16 * x1 + 8) = some false) : ∀ (m : Nat) (S : yS) (hd : Int), FL S Sm ed rs → 0 ≤ hd → hd ≤ 64 → 64 - hd ≤ 8 * m → (∃ q, hd = 8 * q) → ∀ n, m < n → ∃ S', C_parts_L58 ed rs K x1 x2 (set : Int) xx n S x4 x5 x6 hd = K S' x4 x5 x6 (xx + 16) ∧ sc S S' := by
  intro m
  induction m with
  | zero =>
    intro S hd h h0 h1 hm hq n hn
    obtain ⟨n, rfl⟩ : ∃ k, n = k + 1 := ⟨n - 1, by omega⟩
    refine ⟨S, ?_, sc.rf S⟩
    show C_parts_b58 ed rs K x1 x2 set xx (C_parts_L58 ed rs K x1 x2 set xx n) S x4 x5 x6 hd = _
    unfold C_parts_b58
    rw [gd_pos (by omega), if_neg (by omega), nm_eq]
  | succ m ih =>
    intro S hd h h0 h1 hm hq n hn
    obtain ⟨n, rfl⟩ : ∃ k, n = k + 1 := ⟨n - 1, by omega⟩
    by_cases g : hd < 64
    · obtain ⟨b, S1, s1, s2, s3, c, s4, s5⟩ := start_ok (S := S) (Sm := Sm) (x := xx) (y := 16 * x1 + 8) (head := hd) h.1 h9 h4 (by omega)
      have eb : b = false := by
        rw [hc] at s4
        rw [s5 (by omega)]
        exact (Option.some.inj s4).symm
      obtain ⟨q, hq⟩ := hq
      obtain ⟨S2, t1, t2⟩ := ih S1 (hd + 8) (h.sc s2) (by omega) (by omega) (by omega) ⟨q + 1, by omega⟩ n (by omega)
      refine ⟨S2, ?_, s2.tr t2⟩
      rw [← t1]
      show C_parts_b58 ed rs K x1 x2 set xx (C_parts_L58 ed rs K x1 x2 set xx n) S x4 x5 x6 hd = _
      unfold C_parts_b58
      rw [gd_pos (by omega), if_pos g, s1, bd2_some, eb, if_neg (by decide), nm_eq]
    · refine ⟨S, ?_, sc.rf S⟩
      show C_parts_b58 ed rs K x1 x2 set xx (C_parts_L58 ed rs K x1 x2 set xx n) S x4 x5 x6 hd = _
      unfold C_parts_b58
      rw [gd_pos (by omega), if_neg g, nm_eq]
theorem parts_in {k : Int} {K : yS → Int → Int → Int → Int → Option (Int × yS)} {K' : xS → Int → Int → Int → Int → Option (Int × xS)} (hset : set < 256) : ∀ (m : Nat) (S : yS) (Sm : xS) (x4 x5 x6 hd : Int), FL S Sm ed rs → Sm.1 27 = 1000000 → okP (Sm.1 0) (Sm.1 1) (16 * k + 8) (16 * x1 + 8) → (∀ r : Nat, r < rs.length → Sm.2 42 (r : Int) = ((set / 2 ^ r) % 2 : Nat)) → (1 ≤ x4 ∧ x4 ≤ 17) → 0 ≤ hd → hd ≤ 64 → 64 - hd ≤ 8 * m → (∃ q, hd = 8 * q) → (x5 = -1 ∨ 0 ≤ x5 ∧ x5 ≤ 1000) → (-1 ≤ x6 ∧ x6 ≤ 64) → ∀ n1 n2, m < n1 → m < n2 → ∃ S' Sm' y4 y5 y6, C_parts_L58 ed rs K x1 x2 (set : Int) (16 * k + 8) n1 S x4 x5 x6 hd = K S' y4 y5 y6 (16 * (k + 1) + 8) ∧ M_parts_L84 K' x1 x2 k n2 Sm x4 x5 x6 hd = K' Sm' y4 y5 y6 (k + 1) ∧ FL S' Sm' ed rs ∧ fC S S' ∧ fM Sm Sm' ∧ Sm'.1 27 = 1000000 ∧ (1 ≤ y4 ∧ y4 ≤ 17) ∧ (y5 = -1 ∨ 0 ≤ y5 ∧ y5 ≤ 1000) ∧ (-1 ≤ y6 ∧ y6 ≤ 64) := by
  intro m
  induction m with
  | zero =>
    intro S Sm x4 x5 x6 hd h h27 P h42 h4 h0 h1 hm hq h5 h6 n1 n2 q1 q2
    obtain ⟨n1, rfl⟩ : ∃ k, n1 = k + 1 := ⟨n1 - 1, by omega⟩
    obtain ⟨n2, rfl⟩ : ∃ k, n2 = k + 1 := ⟨n2 - 1, by omega⟩
    refine ⟨S, Sm, x4, x5, x6, ?_, ?_, h, fC.rf S, fM.rf Sm, h27, h4, h5, h6⟩
    · show C_parts_b58 ed rs K x1 x2 set (16 * k + 8) (C_parts_L58 ed rs K x1 x2 set (16 * k + 8) n1) S x4 x5 x6 hd = _
      unfold C_parts_b58
      rw [gd_pos (by omega), if_neg (by omega), nm_eq, show 16 * k + 8 + 16 = 16 * (k + 1) + 8 by omega]
    · show M_parts_b84 K' x1 x2 k (M_parts_L84 K' x1 x2 k n2) Sm x4 x5 x6 hd = _
      unfold M_parts_b84
      rw [gd_pos (by omega), if_neg (by omega), nm_eq]
  | succ m ih =>
    intro S Sm x4 x5 x6 hd h h27 P h42 h4 h0 h1 hm hq h5 h6 n1 n2 q1 q2
    obtain ⟨n1, rfl⟩ : ∃ k, n1 = k + 1 := ⟨n1 - 1, by omega⟩
    obtain ⟨n2, rfl⟩ : ∃ k, n2 = k + 1 := ⟨n2 - 1, by omega⟩
    have hw := h.1.1.1
    have eC : C_parts_L58 ed rs K x1 x2 (set : Int) (16 * k + 8) (n1 + 1) S x4 x5 x6 hd = C_parts_b58 ed rs K x1 x2 set (16 * k + 8) (C_parts_L58 ed rs K x1 x2 set (16 * k + 8) n1) S x4 x5 x6 hd := rfl
    have eM : M_parts_L84 K' x1 x2 k (n2 + 1) Sm x4 x5 x6 hd = M_parts_b84 K' x1 x2 k (M_parts_L84 K' x1 x2 k n2) Sm x4 x5 x6 hd := rfl
    by_cases g : hd < 64
    · have hx : r32 (16 * k + 8) := by have := hw.1; omega
      have hy : r32 (16 * x1 + 8) := by have := hw.2; omega
      obtain ⟨b, S1, s1, s2, s3, c, s4, s5⟩ := start_ok (S := S) (Sm := Sm) (x := 16 * k + 8) (y := 16 * x1 + 8) (head := hd) h.1 hx hy (by omega)
      have ebc := s5 (by omega)
      subst ebc
      cases b with
      | false =>
        obtain ⟨S2, t1, t2⟩ := parts_skip (ed := ed) (rs := rs) (x1 := x1) (x2 := x2) (set := set) (K := K) (x4 := x4) (x5 := x5) (x6 := x6) hx hy s4 (m + 1) S hd h h0 h1 hm hq (n1 + 1) q1
        refine ⟨S2, Sm, x4, x5, x6, by rw [t1, show 16 * k + 8 + 16 = 16 * (k + 1) + 8 by omega], ?_, h.sc t2, t2.f, fM.rf Sm, h27, h4, h5, h6⟩
        rw [eM]
        unfold M_parts_b84
        rw [gd_pos (by omega), if_pos g, s4, bd_some, if_neg (by decide), nm_eq]
      | true =>
        obtain ⟨c, S2, M2, r1, r2, r3, r4, r5, r6, r7⟩ := unlike_ok (set := set) (x := 16 * k + 8) (y := 16 * x1 + 8) (head := hd) hset (by omega) (h.sc s2) h27 P h42
        obtain ⟨q, hq⟩ := hq
        have P2 : okP (M2.1 0) (M2.1 1) (16 * k + 8) (16 * x1 + 8) := by rw [r6.1.1, r6.1.2.1]; exact P
        have h422 : ∀ r : Nat, r < rs.length → M2.2 42 (r : Int) = ((set / 2 ^ r) % 2 : Nat) := fun r hr => by rw [r6.2.2.2.2 42 (Or.inr rfl)]; exact h42 r hr
        rw [eC, eM]
        unfold C_parts_b58 M_parts_b84
        rw [gd_pos (show r32 hd by omega), if_pos g, s1, bd2_some, if_pos rfl, r1, bd2_some, gd_pos (show r32 (c : Int) ∧ r32 x4 by omega)]
        rw [gd_pos (show r32 hd by omega), if_pos g, s4, bd_some, if_pos rfl, r2, bd2_some, gd_pos (show r32 (c : Int) ∧ r32 x4 by omega)]
        by_cases gc : (c : Int) ≤ x4
        · rw [if_pos gc, if_pos gc, nm_eq, nm_eq]
          obtain ⟨S3, M3, y4, y5, y6, u1, u2, u3, u4, u5, u6⟩ := ih S2 M2 x4 x5 x6 (hd + 8) r4 r7 P2 h422 h4 (by omega) (by omega) (by omega) ⟨q + 1, by omega⟩ h5 h6 n1 n2 (by omega) (by omega)
          exact ⟨S3, M3, y4, y5, y6, u1, u2, u3, (s2.f.tr r5).tr u4, r6.tr u5, u6⟩
        · rw [if_neg gc, if_neg gc, nm_eq, nm_eq, nm_eq]
          obtain ⟨S3, M3, y4, y5, y6, u1, u2, u3, u4, u5, u6⟩ := ih S2 M2 c (16 * k + 8) hd (hd + 8) r4 r7 P2 h422 (by omega) (by omega) (by omega) (by omega) ⟨q + 1, by omega⟩ (by have := hw.1; omega) (by omega) n1 n2 (by omega) (by omega)
          exact ⟨S3, M3, y4, y5, y6, u1, u2, u3, (s2.f.tr r5).tr u4, r6.tr u5, u6⟩
    · refine ⟨S, Sm, x4, x5, x6, ?_, ?_, h, fC.rf S, fM.rf Sm, h27, h4, h5, h6⟩
      · rw [eC]
        unfold C_parts_b58
        rw [gd_pos (by omega), if_neg g, nm_eq, show 16 * k + 8 + 16 = 16 * (k + 1) + 8 by omega]
      · rw [eM]
        unfold M_parts_b84
        rw [gd_pos (by omega), if_neg g, nm_eq]
theorem parts_out (hset : set < 256) (hx2 : 0 ≤ x2 ∧ x2 ≤ 2) : ∀ (m : Nat) (S : yS) (Sm : xS) (x4 x5 x6 k : Int), FL S Sm ed rs → Sm.1 27 = 1000000 → (0 ≤ x1 ∧ x1 ≤ Sm.1 1 - 1) → (∀ r : Nat, r < rs.length → Sm.2 42 (r : Int) = ((set / 2 ^ r) % 2 : Nat)) → (1 ≤ x4 ∧ x4 ≤ 17) → 0 ≤ k → k ≤ Sm.1 0 → Sm.1 0 - k = m → (x5 = -1 ∨ 0 ≤ x5 ∧ x5 ≤ 1000) → (-1 ≤ x6 ∧ x6 ≤ 64) → ∀ n1 n2, m < n1 → m < n2 → ∃ r S' Sm', C_parts_L43 ed rs x1 x2 (set : Int) n1 S x4 x5 x6 (16 * k + 8) = some (r, S') ∧ M_parts_L72 x1 x2 n2 Sm x4 x5 x6 k = some (r, Sm') ∧ FL S' Sm' ed rs ∧ fC S S' ∧ fM Sm Sm' := by
  intro m
  induction m with
  | zero =>
    intro S Sm x4 x5 x6 k h h27 hx1 h42 h4 h0 h1 hm h5 h6 n1 n2 q1 q2
    obtain ⟨n1, rfl⟩ : ∃ k, n1 = k + 1 := ⟨n1 - 1, by omega⟩
    obtain ⟨n2, rfl⟩ : ∃ k, n2 = k + 1 := ⟨n2 - 1, by omega⟩
    have hw := h.1.1.1.1
    have ew := h.1.1.2.1
    have eC : C_parts_L43 ed rs x1 x2 (set : Int) (n1 + 1) S x4 x5 x6 (16 * k + 8) = C_parts_b43 ed rs x1 x2 set (C_parts_L43 ed rs x1 x2 set n1) S x4 x5 x6 (16 * k + 8) := rfl
    have eM : M_parts_L72 x1 x2 (n2 + 1) Sm x4 x5 x6 k = M_parts_b72 x1 x2 (M_parts_L72 x1 x2 n2) Sm x4 x5 x6 k := rfl
    rw [eC, eM]
    unfold C_parts_b43 M_parts_b72
    rw [ew, gd_pos (show r32 (16 * k + 8) ∧ r32 (16 * Sm.1 0) by omega), if_neg (show ¬ 16 * k + 8 < 16 * Sm.1 0 by omega), gd_pos (show r32 x5 by omega)]
    rw [gd_pos (show r32 k ∧ r32 (Sm.1 0) by omega), if_neg (show ¬ k < Sm.1 0 by omega), gd_pos (show r32 x5 by omega)]
    by_cases c : x5 = -1
    · rw [if_pos c, if_pos (show x5 < 0 by omega)]
      exact ⟨-1, S, Sm, rfl, rfl, h, fC.rf S, fM.rf Sm⟩
    · rw [if_neg c, if_neg (show ¬ x5 < 0 by omega), gd_pos (show r32 x2 by omega), gd_pos (show r32 x2 by omega), gd_pos (show r32 x2 by omega), gd_pos (show r32 x2 by omega)]
      by_cases c0 : x2 = 0
      · rw [if_pos c0, if_pos c0]
        exact ⟨x5, S, Sm, rfl, rfl, h, fC.rf S, fM.rf Sm⟩
      · rw [if_neg c0, if_neg c0]
        by_cases c1 : x2 = 1
        · rw [if_pos c1, if_pos c1]
          exact ⟨x6, S, Sm, rfl, rfl, h, fC.rf S, fM.rf Sm⟩
        · rw [if_neg c1, if_neg c1]
          exact ⟨x4, S, Sm, rfl, rfl, h, fC.rf S, fM.rf Sm⟩
  | succ m ih =>
    intro S Sm x4 x5 x6 k h h27 hx1 h42 h4 h0 h1 hm h5 h6 n1 n2 q1 q2
    obtain ⟨n1, rfl⟩ : ∃ k, n1 = k + 1 := ⟨n1 - 1, by omega⟩
    obtain ⟨n2, rfl⟩ : ∃ k, n2 = k + 1 := ⟨n2 - 1, by omega⟩
    have hw := h.1.1.1
    have ew := h.1.1.2.1
    have eC : C_parts_L43 ed rs x1 x2 (set : Int) (n1 + 1) S x4 x5 x6 (16 * k + 8) = C_parts_b43 ed rs x1 x2 set (C_parts_L43 ed rs x1 x2 set n1) S x4 x5 x6 (16 * k + 8) := rfl
    have eM : M_parts_L72 x1 x2 (n2 + 1) Sm x4 x5 x6 k = M_parts_b72 x1 x2 (M_parts_L72 x1 x2 n2) Sm x4 x5 x6 k := rfl
    rw [eC, eM]
    unfold C_parts_b43 M_parts_b72
    have hwx := hw.1
    have hwy := hw.2
    rw [ew, gd_pos (show r32 (16 * k + 8) ∧ r32 (16 * Sm.1 0) by omega), if_pos (show 16 * k + 8 < 16 * Sm.1 0 by omega)]
    rw [gd_pos (show r32 k ∧ r32 (Sm.1 0) by omega), if_pos (show k < Sm.1 0 by omega)]
    have P : okP (Sm.1 0) (Sm.1 1) (16 * k + 8) (16 * x1 + 8) := ⟨⟨by omega, by omega⟩, by omega, by omega⟩
    obtain ⟨S3, M3, y4, y5, y6, u1, u2, u3, u4, u5, u6, u7, u8, u9⟩ := parts_in (ed := ed) (rs := rs) (x1 := x1) (x2 := x2) (set := set) (k := k) (K := C_parts_L43 ed rs x1 x2 set n1) (K' := M_parts_L72 x1 x2 n2) hset 8 S Sm x4 x5 x6 0 h h27 P h42 h4 (Int.le_refl _) (by decide) (by decide) ⟨0, rfl⟩ h5 h6 FU FU (by decide) (by decide)
    rw [u1, u2]
    obtain ⟨r, S4, M4, v1, v2, v3, v4, v5⟩ := ih S3 M3 y4 y5 y6 (k + 1) u3 u6 (by rw [u5.1.2.1]; exact hx1) (fun r hr => by rw [u5.2.2.2.2 42 (Or.inr rfl)]; exact h42 r hr) u7 (by omega) (by rw [u5.1.1]; omega) (by rw [u5.1.1]; omega) u8 u9 n1 n2 (by omega) (by omega)
    exact ⟨r, S4, M4, v1, v2, v3, u4.tr v4, u5.tr v5⟩
end PARTS
/-- PARTS -/
theorem op_parts {S : yS} {Sm : xS} {ed : Nat} {rs : List (List tCl)} {x1 x2 : Int} (h : FL S Sm ed rs) (h1 : r32 x1) (h2 : r32 x2) : ∃ r S' Sm', C_parts ed rs S x1 x2 = some (r, S') ∧ M_parts Sm x1 x2 = some (r, Sm') ∧ RC S' Sm' ∧ LtR S' Sm' ∧ kF S S' Sm Sm' := by
  obtain ⟨H, ew, eh⟩ := h.1.1
  have hr8 := h.2.1.2.2.2.1
  have hwx := H.1
  have hwy := H.2
  unfold C_parts M_parts
  rw [eh, C_in_e h1 (by decide) (by omega), M_isIn_e h1 (by decide) (by omega), bd_some, bd_some]
  by_cases q1 : 0 ≤ x1 ∧ x1 ≤ Sm.1 1 - 1
  · rw [decide_eq_true q1, if_pos rfl, if_pos rfl, C_in_e h2 (by decide) (by decide), M_isIn_e h2 (by decide) (by decide), bd_some, bd_some]
    by_cases q2 : 0 ≤ x2 ∧ x2 ≤ 2
    · rw [decide_eq_true q2, if_pos rfl, if_pos rfl]
      obtain ⟨s', S2, M2, b1, b2, b3, b4, b5, b6, b7, b8, b9⟩ := keeps_L2 (x1 := x1) (x2 := x2) rs.length S Sm 0 0 h (by omega) (Nat.zero_le _) (by decide) (fun r hr => absurd hr (Nat.not_lt_zero _)) FU FU (by unfold FU; omega) (by unfold FU; omega)
      have hb : s' < 256 := by
        have : 2 ^ rs.length ≤ 2 ^ 8 := Nat.pow_le_pow_right (by decide) hr8
        omega
      have hC : C_keeps ed rs S = some (((s' : Nat) : Int), S2) := b1
      have hM : M_parts_L27 x1 x2 FU Sm 0 = M_parts_L72 x1 x2 FU M2 1 (-1) (-1) 0 := b2
      rw [hC, bd2_some, hM]
      obtain ⟨r, S3, M3, v1, v2, v3, v4, v5⟩ := parts_out (ed := ed) (rs := rs) (x1 := x1) (x2 := x2) (set := s') hb q2 (Sm.1 0).toNat S2 M2 1 (-1) (-1) 0 b4 b7 (by rw [b9.2]; exact q1) b8 (by decide) (Int.le_refl _) (by rw [b9.1]; omega) (by rw [b9.1]; omega) (Or.inl rfl) (by decide) FU FU (by unfold FU; omega) (by unfold FU; omega)
      have v1' : C_parts_L43 ed rs x1 x2 (s' : Int) FU S2 1 (-1) (-1) 8 = some (r, S3) := v1
      exact ⟨r, S3, M3, v1', v2, v3.1, v3.2.2, b6.tr (kF.of v4 v5)⟩
    · rw [decide_eq_false q2, if_neg (by decide), if_neg (by decide)]
      exact ⟨-1, S, Sm, rfl, rfl, h.1, h.2.2, kF.rf S Sm⟩
  · rw [decide_eq_false q1, if_neg (by decide), if_neg (by decide)]
    exact ⟨-1, S, Sm, rfl, rfl, h.1, h.2.2, kF.rf S Sm⟩
