set_option maxRecDepth 100000
/-! rules that are kept; how many unlike turns -/
theorem nor_bit (a s k : Nat) : ((a ||| 2 ^ s) / 2 ^ k) % 2 = if k = s then 1 else (a / 2 ^ k) % 2 := by
  have h1 : ((a ||| 2 ^ s) / 2 ^ k) % 2 = ((a ||| 2 ^ s).testBit k).toNat := by
    rw [Nat.testBit_eq_decide_div_mod_eq]
    by_cases h : (a ||| 2 ^ s) / 2 ^ k % 2 = 1
    · rw [decide_eq_true h, h]; rfl
    · rw [decide_eq_false h]
      show _ = 0
      omega
  have h2 : (a / 2 ^ k) % 2 = (a.testBit k).toNat := by
    rw [Nat.testBit_eq_decide_div_mod_eq]
    by_cases h : a / 2 ^ k % 2 = 1
    · rw [decide_eq_true h, h]; rfl
    · rw [decide_eq_false h]
      show _ = 0
      omega
  rw [h1, h2, Nat.testBit_or, Nat.testBit_two_pow]
  by_cases e : k = s
  · subst e
    simp
  · rw [if_neg e, decide_eq_false (by omega)]
    simp
theorem nor_lt {a s n : Nat} (ha : a < 2 ^ n) (hs : s < n) : (a ||| 2 ^ s) < 2 ^ n := Nat.or_lt_two_pow ha (Nat.pow_lt_pow_right (by decide) hs)
theorem pop_or : ∀ (n a s : Nat), s < n → pop n (a ||| 2 ^ s) = pop n a + (if (a / 2 ^ s) % 2 = 0 then 1 else 0) := by
  intro n
  induction n with
  | zero => intro a s h; omega
  | succ n ih =>
    intro a s hs
    show (a ||| 2 ^ s) % 2 + pop n ((a ||| 2 ^ s) / 2) = a % 2 + pop n (a / 2) + _
    cases s with
    | zero =>
      have e1 : (a ||| 2 ^ 0) % 2 = 1 := by
        have := nor_bit a 0 0
        simpa using this
      have e2 : (a ||| 2 ^ 0) / 2 = a / 2 := by
        rw [Nat.or_div_two]
        simp
      rw [e1, e2]
      by_cases h : a % 2 = 0
      · rw [if_pos (by simpa using h)]; omega
      · rw [if_neg (by simpa using h)]; omega
    | succ s =>
      have e1 : (a ||| 2 ^ (s + 1)) % 2 = a % 2 := by
        have := nor_bit a (s + 1) 0
        simpa using this
      have e2 : (a ||| 2 ^ (s + 1)) / 2 = a / 2 ||| 2 ^ s := by
        rw [Nat.or_div_two, Nat.pow_succ, Nat.mul_div_cancel _ (by decide)]
      have e3 : a / 2 ^ (s + 1) = a / 2 / 2 ^ s := by
        rw [Nat.div_div_eq_div_mul, Nat.pow_succ, Nat.mul_comm]
      rw [e1, e2, ih (a / 2) s (by omega), e3]
      omega
theorem pop_0 : ∀ n, pop n 0 = 0 := by
  intro n
  induction n with
  | zero => rfl
  | succ n ih => show 0 % 2 + pop n (0 / 2) = 0; rw [show (0 : Nat) / 2 = 0 from rfl, ih]
theorem zor_pow {a : Int} {s : Nat} (ha : 0 ≤ a) : zor a ((1 : Int) * 2 ^ s) = ((a.toNat ||| 2 ^ s : Nat) : Int) := by
  have e1 : ((1 : Int) * 2 ^ s).toNat = 2 ^ s := by
    rw [Int.one_mul]
    have : (2 : Int) ^ s = ((2 ^ s : Nat) : Int) := by norm_cast
    rw [this]
    rfl
  unfold zor
  rw [e1]
theorem two_s {s : Nat} (h : s ≤ 30) : 0 ≤ (1 : Int) * 2 ^ s ∧ (1 : Int) * 2 ^ s < 4294967296 := by
  have q : (2 : Nat) ^ s ≤ 2 ^ 30 := Nat.pow_le_pow_right (by decide) h
  have q2 : (2 : Int) ^ s ≤ 2 ^ 30 := by exact_mod_cast q
  have q3 := Int.pow_pos (n := 2) (m := s) (by decide)
  omega
/-- the rules that are kept, as bits and counted -/
theorem keeps_L {ed : Nat} {rs : List (List tCl)} : ∀ (m : Nat) (S : yS) (Sm : xS) (k set : Nat), FL S Sm ed rs → rs.length - k = m → k ≤ rs.length → set < 2 ^ k → ∀ n1 n2, m < n1 → m < n2 → ∃ set' S' Sm', C_keeps_L4 ed rs n1 S (set : Int) k = some (((set' : Nat) : Int), S') ∧ M_kept_L35 n2 Sm (pop 17 set : Int) k = some ((pop 17 set' : Int), Sm') ∧ set' < 2 ^ rs.length ∧ FL S' Sm' ed rs ∧ fC S S' ∧ fM Sm Sm' := by
  intro m
  induction m with
  | zero =>
    intro S Sm k set h hm hk hs n1 n2 q1 q2
    obtain ⟨n1, rfl⟩ : ∃ k, n1 = k + 1 := ⟨n1 - 1, by omega⟩
    obtain ⟨n2, rfl⟩ : ∃ k, n2 = k + 1 := ⟨n2 - 1, by omega⟩
    have e : k = rs.length := by omega
    have n3 := h.1.n0 (k := 3) (by decide)
    have hrl := h.2.1.2.2.1
    have hr8 := h.2.1.2.2.2.1
    refine ⟨set, S, Sm, ?_, ?_, by rw [← e]; exact hs, h, fC.rf S, fM.rf Sm⟩
    · show C_keeps_b4 ed rs (C_keeps_L4 ed rs n1) S set k = _
      unfold C_keeps_b4
      rw [n3, gd_pos (by omega), if_neg (by omega)]
    · show M_kept_b35 (M_kept_L35 n2) Sm _ k = _
      unfold M_kept_b35
      rw [gd_pos (by omega), if_neg (by omega)]
  | succ m ih =>
    intro S Sm k set h hm hk hs n1 n2 q1 q2
    obtain ⟨n1, rfl⟩ : ∃ k, n1 = k + 1 := ⟨n1 - 1, by omega⟩
    obtain ⟨n2, rfl⟩ : ∃ k, n2 = k + 1 := ⟨n2 - 1, by omega⟩
    have n3 := h.1.n0 (k := 3) (by decide)
    have hrl := h.2.1.2.2.1
    have hr8 := h.2.1.2.2.2.1
    obtain ⟨b, S1, M1, a1, a2, a3, a4, a5, a6⟩ := isKept_ok (x1 := (k : Int)) h (by omega)
    have eC : C_keeps_L4 ed rs (n1 + 1) S (set : Int) k = C_keeps_b4 ed rs (C_keeps_L4 ed rs n1) S set k := rfl
    have eM : M_kept_L35 (n2 + 1) Sm (pop 17 set : Int) k = M_kept_b35 (M_kept_L35 n2) Sm (pop 17 set : Int) k := rfl
    rw [eC, eM]
    unfold C_keeps_b4 M_kept_b35
    rw [n3, gd_pos (show r32 (k : Int) ∧ r32 (Sm.2 2 3) by omega), if_pos (show (k : Int) < Sm.2 2 3 by omega), a1, bd2_some]
    rw [gd_pos (show r32 (k : Int) ∧ r32 (Sm.2 2 3) by omega), if_pos (show (k : Int) < Sm.2 2 3 by omega), a2, bd2_some]
    unfold C_keeps_B33 M_kept_B59
    have tw := two_s (s := k) (by omega)
    cases b with
    | false =>
      rw [if_neg (by decide), if_neg (by decide), gd_pos (show (0 : Int) ≤ set ∧ (0 : Int) ≤ 0 by omega), nm_eq, nm_eq, nm_eq, nm_eq, zor_0 (by omega), Int.add_zero]
      obtain ⟨s', S2, M2, b1, b2, b3, b4, b5, b6⟩ := ih S1 M1 (k + 1) set a3 (by omega) (by omega) (by rw [Nat.pow_succ]; omega) n1 n2 (by omega) (by omega)
      exact ⟨s', S2, M2, by rw [show ((k : Int) + 1) = ((k + 1 : Nat) : Int) by omega, b1], by rw [show ((k : Int) + 1) = ((k + 1 : Nat) : Int) by omega, b2], b3, b4, a4.tr b5, a5.tr b6⟩
    | true =>
      rw [if_pos rfl, if_pos rfl, Int.toNat_natCast, gd_pos ⟨by decide, by omega, tw.2⟩, gd_pos (show (0 : Int) ≤ set ∧ (0 : Int) ≤ (1 : Int) * 2 ^ k from ⟨by omega, tw.1⟩), nm_eq, nm_eq, nm_eq, nm_eq, zor_pow (by omega), Int.toNat_natCast]
      have hp : pop 17 (set ||| 2 ^ k) = pop 17 set + 1 := by
        rw [pop_or 17 set k (by omega), if_pos (by rw [Nat.div_eq_of_lt hs])]
      obtain ⟨s', S2, M2, b1, b2, b3, b4, b5, b6⟩ := ih S1 M1 (k + 1) (set ||| 2 ^ k) a3 (by omega) (by omega) (nor_lt (by rw [Nat.pow_succ]; omega) (by omega)) n1 n2 (by omega) (by omega)
      refine ⟨s', S2, M2, by rw [show ((k : Int) + 1) = ((k + 1 : Nat) : Int) by omega, b1], ?_, b3, b4, a4.tr b5, a5.tr b6⟩
      rw [show ((k : Int) + 1) = ((k + 1 : Nat) : Int) by omega, ← b2, hp]
      rfl
/-- KEPT -/
theorem op_kept {S : yS} {Sm : xS} {ed : Nat} {rs : List (List tCl)} {x1 : Int} (h : FL S Sm ed rs) (h1 : r32 x1) : ∃ r S' Sm', C_kept ed rs S x1 = some (r, S') ∧ M_kept Sm x1 = some (r, Sm') ∧ RC S' Sm' ∧ LtR S' Sm' ∧ kF S S' Sm Sm' := by
  have n3 := h.1.n0 (k := 3) (by decide)
  have hrl := h.2.1.2.2.1
  have hr8 := h.2.1.2.2.2.1
  unfold C_kept M_kept M_isRule
  rw [gd_pos h1, gd_pos h1]
  by_cases c : x1 = -1
  · rw [if_pos c, if_pos c]
    obtain ⟨s', S2, M2, b1, b2, b3, b4, b5, b6⟩ := keeps_L rs.length S Sm 0 0 h (by omega) (Nat.zero_le _) (by decide) FU FU (by unfold FU; omega) (by unfold FU; omega)
    have hb : s' < 131072 := by
      have : 2 ^ rs.length ≤ 2 ^ 8 := Nat.pow_le_pow_right (by decide) hr8
      omega
    have hC : C_keeps ed rs S = some (((s' : Nat) : Int), S2) := b1
    have hM : M_kept_L35 FU Sm 0 0 = some ((pop 17 s' : Int), M2) := b2
    rw [hC, bd2_some, bit_count (by omega), Int.toNat_natCast, bd_some, hM]
    exact ⟨_, S2, M2, rfl, rfl, b4.1, b4.2.2, kF.of b5 b6⟩
  · rw [if_neg c, if_neg c, C_isOne_e (by decide) h1 (by omega), M_isIn_e h1 (by decide) (by omega), bd_some, bd_some, bd_some, n3]
    by_cases q : 0 ≤ x1 ∧ x1 ≤ Sm.2 2 3 - 1
    · obtain ⟨b, S1, M1, a1, a2, a3, a4, a5, a6⟩ := isKept_ok (x1 := x1) h (by omega)
      rw [decide_eq_true q, if_pos rfl, if_pos rfl, a1, a2, bd2_some, bd2_some]
      cases b
      · exact ⟨0, S1, M1, rfl, rfl, a3.1, a3.2.2, kF.of a4 a5⟩
      · exact ⟨1, S1, M1, rfl, rfl, a3.1, a3.2.2, kF.of a4 a5⟩
    · rw [decide_eq_false q, if_neg (by decide), if_neg (by decide)]
      exact ⟨-1, S, Sm, rfl, rfl, h.1, h.2.2, kF.rf S Sm⟩
