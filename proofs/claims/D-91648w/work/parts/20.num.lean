/-! the plain law: numbers, ranges, lists of codes -/
set_option maxRecDepth 100000
theorem mul_bd {a b m n : Int} (ha : -m ≤ a ∧ a ≤ m) (hb : -n ≤ b ∧ b ≤ n) : -(m * n) ≤ a * b ∧ a * b ≤ m * n := by
  have h0 : 0 ≤ m := by omega
  have h1 : 0 ≤ n := by omega
  have h2 : (a * b).natAbs ≤ (m * n).natAbs := by
    rw [Int.natAbs_mul, Int.natAbs_mul]
    exact Nat.mul_le_mul (by omega) (by omega)
  have h3 : 0 ≤ m * n := Int.mul_nonneg h0 h1
  omega
theorem mul_nn {a b m n : Int} (ha : 0 ≤ a ∧ a ≤ m) (hb : 0 ≤ b ∧ b ≤ n) : 0 ≤ a * b ∧ a * b ≤ m * n := by
  have h1 := mul_bd (a := a) (b := b) (m := m) (n := n) ⟨by omega, ha.2⟩ ⟨by omega, hb.2⟩
  exact ⟨Int.mul_nonneg ha.1 hb.1, h1.2⟩
def okW (w h : Int) : Prop := (4 ≤ w ∧ w ≤ 24) ∧ (4 ≤ h ∧ h ≤ 24)
theorem wh_bd {w h : Int} (H : okW w h) : 16 ≤ w * h ∧ w * h ≤ 576 := by
  obtain ⟨⟨h1, h2⟩, h3, h4⟩ := H
  have q1 : w * h ≤ 24 * 24 := Int.mul_le_mul h2 h4 (by omega) (by omega)
  have q2 : 4 * 4 ≤ w * h := Int.mul_le_mul h1 h3 (by decide) (by omega)
  omega
theorem cell_bd {w h x y : Int} (H : okW w h) (hx : 0 ≤ x ∧ x ≤ w - 1) (hy : 0 ≤ y ∧ y ≤ h - 1) : 0 ≤ y * w + x ∧ y * w + x < w * h := by
  obtain ⟨⟨h1, h2⟩, h3, h4⟩ := H
  have q1 : y * w ≤ (h - 1) * w := Int.mul_le_mul_of_nonneg_right hy.2 (by omega)
  have q2 : (h - 1) * w = w * h - w := by rw [Int.sub_mul, Int.mul_comm, Int.one_mul]
  have q3 : 0 ≤ y * w := Int.mul_nonneg hy.1 (by omega)
  omega
theorem cell_x {w h c : Int} (H : okW w h) (hc : 0 ≤ c ∧ c < w * h) : 0 ≤ c.tmod w ∧ c.tmod w ≤ w - 1 ∧ 0 ≤ c.tdiv w ∧ c.tdiv w ≤ h - 1 := by
  obtain ⟨⟨h1, h2⟩, h3, h4⟩ := H
  rw [Int.tmod_eq_emod_of_nonneg hc.1, Int.tdiv_eq_ediv_of_nonneg hc.1]
  have q1 := Int.emod_nonneg c (show w ≠ 0 by omega)
  have q2 := Int.emod_lt_of_pos c (show 0 < w by omega)
  have q3 : 0 ≤ c / w := Int.ediv_nonneg hc.1 (by omega)
  have q4 : c / w < h := Int.ediv_lt_of_lt_mul (by omega) (by rw [Int.mul_comm]; exact hc.2)
  omega
theorem some_r {α : Type} {a b : α} (h : a = b) : some a = some b := by rw [h]
/-- the test 'within' of both classes -/
theorem M_isIn_e {x a b : Int} (hx : r32 x) (ha : r32 a) (hb : r32 b) : M_isIn x a b = some (decide (a ≤ x ∧ x ≤ b)) := by
  unfold M_isIn
  rw [gd_pos ⟨hx, ha⟩]
  by_cases h : x < a
  · rw [if_pos h, decide_eq_false (by omega)]
  · rw [if_neg h, gd_pos ⟨hx, hb⟩]
    by_cases h2 : x ≤ b
    · rw [if_pos h2, decide_eq_true (by omega)]
    · rw [if_neg h2, decide_eq_false (by omega)]
theorem C_in_e {x a b : Int} (hx : r32 x) (ha : r32 a) (hb : r32 b) : C_in x a b = some (decide (a ≤ x ∧ x ≤ b)) := by
  unfold C_in
  rw [gd_pos ⟨hx, ha⟩]
  by_cases h : x < a
  · rw [if_pos h, decide_eq_false (by omega)]
  · rw [if_neg h, gd_pos ⟨hx, hb⟩]
    by_cases h2 : x ≤ b
    · rw [if_pos h2, decide_eq_true (by omega)]
    · rw [if_neg h2, decide_eq_false (by omega)]
theorem M_isSide_e {x : Int} (hx : r32 x) : M_isSide x = some (decide (0 ≤ x ∧ x ≤ 63)) := by
  unfold M_isSide
  rw [M_isIn_e hx (by decide) (by decide)]
  rfl
theorem C_isHead_e {x : Int} (hx : r32 x) : C_isHead x = some (decide (0 ≤ x ∧ x ≤ 63)) := by
  unfold C_isHead
  rw [C_in_e hx (by decide) (by decide)]
  rfl
theorem M_isTick_e {x : Int} (hx : r32 x) : M_isTick x = some (decide (0 ≤ x ∧ x ≤ 999)) := by
  unfold M_isTick
  rw [M_isIn_e hx (by decide) (by decide)]
  rfl
theorem C_isWay_e {x : Int} (hx : r32 x) : C_isWay x = some (decide (-2 ≤ x ∧ x ≤ 2)) := by
  unfold C_isWay
  rw [C_in_e hx (by decide) (by decide)]
  rfl
theorem M_abs_e {x : Int} (hx : r32 x) : M_abs x = some (x.natAbs : Int) := by
  unfold M_abs
  rw [gd_pos hx]
  by_cases h : x < 0
  · rw [if_pos h]; exact some_r (by omega)
  · rw [if_neg h]; exact some_r (by omega)
theorem Ma_abs_e {x : Int} (hx : r32 x) : Ma_abs x = some (x.natAbs : Int) := by
  unfold Ma_abs
  rw [gd_pos hx]
  by_cases h : x < 0
  · rw [if_pos h]; exact some_r (by omega)
  · rw [if_neg h]; exact some_r (by omega)
theorem Ma_max_e {x y : Int} (hx : r32 x) (hy : r32 y) : Ma_max x y = some (max x y) := by
  unfold Ma_max
  rw [gd_pos ⟨hx, hy⟩]
  by_cases h : x < y
  · rw [if_pos h]; exact some_r (by omega)
  · rw [if_neg h]; exact some_r (by omega)
theorem Ma_min_e {x y : Int} (hx : r32 x) (hy : r32 y) : Ma_min x y = some (min x y) := by
  unfold Ma_min
  rw [gd_pos ⟨hx, hy⟩]
  by_cases h : x ≤ y
  · rw [if_pos h]; exact some_r (by omega)
  · rw [if_neg h]; exact some_r (by omega)
theorem Ma_max2_e {x y : Int} (hx : r64 x) (hy : r64 y) : Ma_max_2 x y = some (max x y) := by
  unfold Ma_max_2
  rw [gd_pos ⟨hx, hy⟩]
  by_cases h : x < y
  · rw [if_pos h]; exact some_r (by omega)
  · rw [if_neg h]; exact some_r (by omega)
theorem Ma_min2_e {x y : Int} (hx : r64 x) (hy : r64 y) : Ma_min_2 x y = some (min x y) := by
  unfold Ma_min_2
  rw [gd_pos ⟨hx, hy⟩]
  by_cases h : x ≤ y
  · rw [if_pos h]; exact some_r (by omega)
  · rw [if_neg h]; exact some_r (by omega)
theorem tdiv_fl {x d : Int} (hd : 0 < d) : x.tdiv d = if x < 0 then -((-x) / d) else x / d := by
  by_cases h : x < 0
  · rw [if_pos h]
    have : x.tdiv d = -((-x).tdiv d) := by rw [Int.neg_tdiv, Int.neg_neg]
    rw [this, Int.tdiv_eq_ediv_of_nonneg (by omega)]
  · rw [if_neg h, Int.tdiv_eq_ediv_of_nonneg (by omega)]
/-- floors by a divisor that is positive: the quotient rounded down -/
theorem fl_neg {x d : Int} (hd : 0 < d) : -((d - 1 - x) / d) = x / d := by
  have h1 := Int.mul_ediv_add_emod x d
  have h2 := Int.emod_nonneg x (show d ≠ 0 by omega)
  have h3 := Int.emod_lt_of_pos x hd
  have h4 : (d - 1 - x) / d = -(x / d) := by
    have e : d - 1 - x = (d - 1 - x % d) + d * (-(x / d)) := by rw [Int.mul_neg]; omega
    rw [e, Int.add_mul_ediv_left _ _ (by omega), Int.ediv_eq_zero_of_lt (by omega) (by omega)]
    omega
  omega
theorem M_floor_e {x d : Int} (hx : -100000000 ≤ x ∧ x ≤ 100000000) (hd : 0 < d ∧ d ≤ 1000000) : M_floor x d = some (x / d) := by
  unfold M_floor
  rw [gd_pos ⟨by omega, by omega⟩]
  by_cases h : x < 0
  · rw [if_pos h, gd_pos ⟨⟨by omega, by omega⟩, ⟨by omega, by omega⟩, by omega⟩]
    rw [Int.tdiv_eq_ediv_of_nonneg (by omega)]
    exact some_r (fl_neg hd.1)
  · rw [if_neg h, gd_pos ⟨⟨by omega, by omega⟩, ⟨by omega, by omega⟩, by omega⟩]
    rw [Int.tdiv_eq_ediv_of_nonneg (by omega)]
theorem Ma_floorDiv_e {x d : Int} (hx : -100000000 ≤ x ∧ x ≤ 100000000) (hd : 0 < d ∧ d ≤ 1000000) : Ma_floorDiv x d = some (x / d) := by
  have h1 := Int.mul_ediv_add_emod x d
  have h2 := Int.emod_nonneg x (show d ≠ 0 by omega)
  have h3 := Int.emod_lt_of_pos x hd.1
  have hp : 0 ≤ x → 0 ≤ x / d := fun h => Int.ediv_nonneg h (by omega)
  unfold Ma_floorDiv
  rw [gd_pos ⟨⟨by omega, by omega⟩, ⟨by omega, by omega⟩, by omega⟩, nm_eq, gd_pos ⟨⟨by omega, by omega⟩, ⟨by omega, by omega⟩⟩]
  by_cases h : x < 0
  · rw [if_pos (Or.inl ⟨h, by omega⟩)]
    have e1 : x.tdiv d = -((-x) / d) := by rw [tdiv_fl hd.1, if_pos h]
    have m1 := Int.mul_ediv_add_emod (-x) d
    have m2 := Int.emod_nonneg (-x) (show d ≠ 0 by omega)
    have m3 := Int.emod_lt_of_pos (-x) hd.1
    have e2 : -((-x) / d) * d = x + (-x) % d := by rw [Int.neg_mul, Int.mul_comm]; omega
    rw [e1, gd_pos ⟨⟨by rw [e2]; omega, by rw [e2]; omega⟩, ⟨by omega, by omega⟩⟩]
    by_cases hz : -((-x) / d) * d = x
    · rw [if_pos hz]
      refine some_r ?_
      have : x = d * (-((-x) / d)) := by rw [Int.mul_comm]; exact hz.symm
      conv => rhs; rw [this]
      rw [Int.mul_ediv_cancel_left _ (by omega)]
    · rw [if_neg hz]
      refine some_r ?_
      have hne : (-x) % d ≠ 0 := by intro q; exact hz (by rw [e2, q]; omega)
      have e3 : x = d * (-((-x) / d) - 1) + (d - (-x) % d) := by rw [Int.mul_sub, Int.mul_neg]; omega
      have e4 : x / d = -((-x) / d) - 1 := by
        conv => lhs; rw [e3]
        rw [Int.add_comm, Int.add_mul_ediv_left _ _ (by omega), Int.ediv_eq_zero_of_lt (by omega) (by omega)]
        omega
      exact e4.symm
  · rw [if_neg (by intro q; rcases q with q | q <;> omega)]
    rw [tdiv_fl hd.1, if_neg h]
theorem Ma_floorMod_e {x d : Int} (hx : -100000000 ≤ x ∧ x ≤ 100000000) (hd : 0 < d ∧ d ≤ 1000000) : Ma_floorMod x d = some (x % d) := by
  have h2 := Int.emod_nonneg x (show d ≠ 0 by omega)
  have h3 := Int.emod_lt_of_pos x hd.1
  have m2 := Int.emod_nonneg (-x) (show d ≠ 0 by omega)
  have m3 := Int.emod_lt_of_pos (-x) hd.1
  unfold Ma_floorMod
  rw [gd_pos ⟨⟨by omega, by omega⟩, ⟨by omega, by omega⟩, by omega⟩, nm_eq, gd_pos ⟨⟨by omega, by omega⟩, ⟨by omega, by omega⟩⟩]
  by_cases h : x < 0
  · rw [if_pos (Or.inl ⟨h, by omega⟩)]
    have e1 : x.tmod d = -((-x) % d) := by
      have : x.tmod d = -((-x).tmod d) := by rw [Int.neg_tmod, Int.neg_neg]
      rw [this, Int.tmod_eq_emod_of_nonneg (by omega)]
    rw [e1, gd_pos ⟨by omega, by omega⟩]
    have k1 := Int.mul_ediv_add_emod x d
    have k2 := Int.mul_ediv_add_emod (-x) d
    have e5 : x % d = (-((-x) % d)) % d := by
      have : -((-x) % d) = x + d * ((-x) / d) := by omega
      rw [this, Int.add_mul_emod_self_left]
    by_cases hz : -((-x) % d) = 0
    · rw [if_pos hz]
      refine some_r ?_
      rw [e5, hz]; simp
    · rw [if_neg hz]
      refine some_r ?_
      have key : ∀ r : Int, r ≠ 0 → 0 ≤ r → r < d → -r % d = -r + d := by
        intro r r0 r1 r2
        have : -r % d = (-r + d * 1) % d := by rw [Int.add_mul_emod_self_left]
        rw [this, Int.mul_one, Int.emod_eq_of_lt (by omega) (by omega)]
      rw [e5, key _ (by omega) m2 m3]
  · rw [if_neg (by intro q; rcases q with q | q <;> omega)]
    rw [Int.tmod_eq_emod_of_nonneg (by omega)]
