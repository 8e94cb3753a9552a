/-! the plain law: the tape, flights' rows that are asked for, counts -/
set_option maxRecDepth 100000
theorem op_fault {S : yS} {Sm : xS} {k : Int} (R : RC S Sm) (hk : r32 k) : ∃ r, C_fault S k = some r ∧ M_fault Sm k = some r := by
  obtain ⟨t1, t2, t3, t4, t5, t6, t7⟩ := R.2.2.2.2.2
  unfold C_fault M_fault
  rw [gd_pos hk, gd_pos hk, gd_pos hk, gd_pos hk, t4, t5]
  by_cases q : k = 0
  · rw [if_pos q]; exact ⟨_, rfl, rfl⟩
  · rw [if_neg q]
    by_cases q1 : k = 1
    · rw [if_pos q1]; exact ⟨_, rfl, rfl⟩
    · rw [if_neg q1]; exact ⟨_, rfl, rfl⟩
theorem RC.tape {S S' : yS} {Sm Sm' : xS} (R : RC S Sm) (s1 : ∀ k, k ≠ 5 → S'.1 k = S.1 k) (m1 : ∀ k, k ≠ 10 → Sm'.1 k = Sm.1 k) (s2 : ∀ q, q ≠ 471 → S'.2 q = S.2 q) (m2 : ∀ j, j ≠ 9 → Sm'.2 j = Sm.2 j) (t : rTape S' Sm') : RC S' Sm' ∧ kR S S' Sm Sm' := by
  obtain ⟨⟨w1, w2, w3⟩, o1, r1, o2, r2, -⟩ := R
  refine ⟨⟨⟨by rw [m1 0 (by decide), m1 1 (by decide)]; exact w1, by rw [m1 0 (by decide), s1 2 (by decide)]; exact w2, by rw [m1 1 (by decide), s1 3 (by decide)]; exact w3⟩, by rw [m1 0 (by decide), m1 1 (by decide), m2 2 (by decide)]; exact o1, by rw [m2 2 (by decide)]; exact r1.cg o1.2.2.2.2 (fun q hq => s2 q (by omega)), by rw [m1 0 (by decide), m1 1 (by decide), m2 3 (by decide)]; exact o2, by rw [m2 3 (by decide)]; exact r2.cg o2.2.2.2.2 (fun q hq => s2 _ (by omega)), t⟩, fun k hk => s1 k (by omega), m2 4 (by decide), by rw [m2 2 (by decide)], by rw [m2 3 (by decide)], s2 661 (by decide), m2 36 (by decide)⟩
theorem op_end {S : yS} {Sm : xS} {n : Int} (R : RC S Sm) (hn : r32 n) : ∃ r S' Sm', C_end S n = some (r, S') ∧ M_end Sm n = some (r, Sm') ∧ RC S' Sm' ∧ kR S S' Sm Sm' := by
  obtain ⟨t1, t2, t3, t4, t5, t6, t7⟩ := R.2.2.2.2.2
  unfold C_end M_end
  rw [t1, C_in_e hn (by decide) ⟨by omega, by omega⟩, M_isIn_e hn (by decide) ⟨by omega, by omega⟩, bd_some, bd_some]
  by_cases q : 0 ≤ n ∧ n ≤ Sm.1 10
  · rw [decide_eq_true q, if_pos rfl, if_pos rfl, nm_eq, nm_eq]
    refine ex3 rfl rfl rfl ?_
    exact R.tape (fun k hk => cfs_ne _ _ hk) (fun k hk => fset_ne _ _ hk) (fun _ _ => rfl) (fun _ _ => rfl) ⟨by rw [cfs_eq, fset_eq], by rw [fset_eq]; omega, t3, by rw [cfs_ne _ _ (by decide), fset_ne _ _ (by decide)]; exact t4, by rw [cfs_ne _ _ (by decide), fset_ne _ _ (by decide)]; exact t5, by rw [fset_ne _ _ (by decide)]; exact t6, by rw [fset_ne _ _ (by decide)]; exact t7⟩
  · rw [decide_eq_false q, if_neg (by decide), if_neg (by decide)]
    exact ⟨_, _, _, rfl, rfl, R.rf⟩
theorem put_L {x : Int} (hx : r32 x) : ∀ (m n : Nat) (S : yS) (Sm : xS), m ≤ 4 → m < n → rTape S Sm → Sm.1 10 + m ≤ 300 → ∃ S' Sm', C_put_L3 x n S (8 * (m : Int) - 8) = some S' ∧ M_four_L3 x n Sm (8 * (m : Int) - 8) = some Sm' ∧ rTape S' Sm' ∧ Sm'.1 10 = Sm.1 10 + m ∧ (∀ k, k ≠ 5 → S'.1 k = S.1 k) ∧ (∀ k, k ≠ 10 → Sm'.1 k = Sm.1 k) ∧ (∀ q, q ≠ 471 → S'.2 q = S.2 q) ∧ (∀ j, j ≠ 9 → Sm'.2 j = Sm.2 j) := by
  intro m
  induction m with
  | zero =>
    intro n S Sm _ hn T hT
    cases n with
    | zero => omega
    | succ n =>
      refine ⟨S, Sm, ?_, ?_, T, by omega, fun _ _ => rfl, fun _ _ => rfl, fun _ _ => rfl, fun _ _ => rfl⟩
      · show C_put_b3 x (C_put_L3 x n) S _ = _
        unfold C_put_b3
        rw [gd_pos ⟨by omega, by omega⟩, if_pos (by omega)]
      · show M_four_b3 x (M_four_L3 x n) Sm _ = _
        unfold M_four_b3
        rw [gd_pos ⟨by omega, by omega⟩, if_pos (by omega)]
  | succ m ih =>
    intro n S Sm hm hn T hT
    cases n with
    | zero => omega
    | succ n =>
      obtain ⟨t1, t2, t3, t4, t5, t6, t7⟩ := T
      have ek : (8 * ((m + 1 : Nat) : Int) - 8) = 8 * (m : Int) := by omega
      have ek2 : 8 * (m : Int) + -8 = 8 * (m : Int) - 8 := by omega
      obtain ⟨z, hz⟩ : ∃ z : Int, z = x / 2 ^ (Int.toNat (8 * (m : Int))) := ⟨_, rfl⟩
      have hb1 : -128 ≤ Int.bmod z 256 := Int.le_bmod (by decide)
      have hb2 : Int.bmod z 256 < 128 := Int.bmod_lt (by decide)
      have T' : rTape (cfs (cas S 471 (Sm.1 10) (Int.bmod z 256)) 5 (Sm.1 10 + 1)) (fset (aset Sm 9 (Sm.1 10) (z % 2 ^ 8)) 10 (Sm.1 10 + 1)) := by
        refine ⟨by rw [cfs_eq, fset_eq], by rw [fset_eq]; omega, fun i i1 i2 => ?_, by rw [cfs_ne _ _ (by decide), fset_ne _ _ (by decide)]; exact t4, by rw [cfs_ne _ _ (by decide), fset_ne _ _ (by decide)]; exact t5, by rw [fset_ne _ _ (by decide)]; exact t6, by rw [fset_ne _ _ (by decide)]; exact t7⟩
        rw [cfs_2, fset_2, cas_at, aset_at]
        by_cases hi : i = Sm.1 10
        · rw [if_pos hi, if_pos hi]
          refine ⟨?_, by omega, by omega⟩
          show Int.bmod z 256 = Int.bmod (z % ((256 : Nat) : Int)) 256
          rw [Int.emod_bmod]
        · rw [if_neg hi, if_neg hi]
          exact t3 i i1 i2
      obtain ⟨S', Sm', a1, a2, a3, a4, a5, a6, a7, a8⟩ := ih n _ _ (by omega) (by omega) T' (by rw [fset_eq]; omega)
      refine ⟨S', Sm', ?_, ?_, a3, by rw [a4, fset_eq]; omega, fun k hk => by rw [a5 k hk, cfs_ne _ _ hk, cas_1], fun k hk => by rw [a6 k hk, fset_ne _ _ hk, aset_1], fun q hq => by rw [a7 q hq, cfs_2, cas_ne _ _ _ hq], fun j hj => by rw [a8 j hj, fset_2, aset_ne _ _ _ hj]⟩
      · show C_put_b3 x (C_put_L3 x n) S _ = _
        unfold C_put_b3
        rw [ek, ← hz, t1, gd_pos ⟨by omega, by omega⟩, if_neg (by omega), gd_pos ⟨hx, by omega, by omega⟩, gd_pos (by omega), gd_pos ⟨hb1, by omega⟩, nm_eq, nm_eq, nm_eq, cas_1, t1, ek2]
        exact a1
      · show M_four_b3 x (M_four_L3 x n) Sm _ = _
        unfold M_four_b3
        rw [ek, ← hz, gd_pos ⟨by omega, by omega⟩, if_neg (by omega), gd_pos ⟨hx, by omega, by omega⟩, gd_pos (by omega), nm_eq, nm_eq, nm_eq, aset_1, ek2]
        exact a2
theorem put_e {x : Int} (hx : r32 x) {S : yS} {Sm : xS} (T : rTape S Sm) (h : Sm.1 10 + 4 ≤ 300) : ∃ S' Sm', C_put S x = some S' ∧ M_four Sm x = some Sm' ∧ rTape S' Sm' ∧ Sm'.1 10 = Sm.1 10 + 4 ∧ (∀ k, k ≠ 5 → S'.1 k = S.1 k) ∧ (∀ k, k ≠ 10 → Sm'.1 k = Sm.1 k) ∧ (∀ q, q ≠ 471 → S'.2 q = S.2 q) ∧ (∀ j, j ≠ 9 → Sm'.2 j = Sm.2 j) := put_L hx 4 FU S Sm (by decide) (by decide) T h
theorem op_feed {S : yS} {Sm : xS} {x1 x2 x3 x4 x5 : Int} (R : RC S Sm) (h1 : r32 x1) (h2 : r32 x2) (h3 : r32 x3) (h4 : r32 x4) (h5 : r32 x5) : ∃ r S' Sm', C_feed S x1 x2 x3 x4 x5 = some (r, S') ∧ M_feed Sm x1 x2 x3 x4 x5 = some (r, Sm') ∧ RC S' Sm' ∧ kR S S' Sm Sm' := by
  have T := R.2.2.2.2.2
  have t1 := T.1
  have t2 := T.2.1
  unfold C_feed M_feed
  rw [t1, gd_pos ⟨by omega, by omega⟩, gd_pos ⟨by omega, by omega⟩]
  by_cases q : Sm.1 10 + 20 ≤ 300
  · obtain ⟨S1, M1, a1, a2, a3, a4, a5, a6, a7, a8⟩ := put_e h1 T (by omega)
    obtain ⟨S2, M2, b1, b2, b3, b4, b5, b6, b7, b8⟩ := put_e h2 a3 (by omega)
    obtain ⟨S3, M3, c1, c2, c3, c4, c5, c6, c7, c8⟩ := put_e h3 b3 (by omega)
    obtain ⟨S4, M4, d1, d2, d3, d4, d5, d6, d7, d8⟩ := put_e h4 c3 (by omega)
    obtain ⟨S5, M5, e1, e2, e3, e4, e5, e6, e7, e8⟩ := put_e h5 d3 (by omega)
    rw [if_pos q, if_pos q, a1, bd_some, b1, bd_some, c1, bd_some, d1, bd_some, e1, bd_some, a2, bd_some, b2, bd_some, c2, bd_some, d2, bd_some, e2, bd_some]
    refine ex3 rfl rfl e3.1.symm ?_
    exact R.tape (fun k hk => by rw [e5 k hk, d5 k hk, c5 k hk, b5 k hk, a5 k hk]) (fun k hk => by rw [e6 k hk, d6 k hk, c6 k hk, b6 k hk, a6 k hk]) (fun k hk => by rw [e7 k hk, d7 k hk, c7 k hk, b7 k hk, a7 k hk]) (fun k hk => by rw [e8 k hk, d8 k hk, c8 k hk, b8 k hk, a8 k hk]) e3
  · rw [if_neg q, if_neg q]
    exact ⟨_, _, _, rfl, rfl, R.rf⟩
theorem op_flown {S : yS} {Sm : xS} {k : Int} (R : RC S Sm) (hk : r32 k) : ∃ r, C_flown S k = some r ∧ M_flown Sm k = some r := by
  have o5 := R.2.1.2.2.2.2
  have r1 := R.2.2.1.1.2
  have e5 : S.2 2 5 = Sm.2 2 880 := r1 0 (by decide) (by decide)
  have hc := o5.2.1
  unfold C_flown M_flown
  have hr : r32 (Sm.2 2 880) := ⟨by omega, by omega⟩
  rw [e5, gd_pos hr, gd_pos hr]
  by_cases q : Sm.2 2 880 < 0
  · rw [if_pos q, if_pos (by omega)]; exact ⟨_, rfl, rfl⟩
  · rw [if_neg q, if_neg (by omega), C_in_e hk (by decide) (by decide), M_isIn_e hk (by decide) (by decide), bd_some, bd_some]
    by_cases q1 : 0 ≤ k ∧ k ≤ 5
    · rw [decide_eq_true q1, if_pos rfl, if_pos rfl, gd_pos (by omega), gd_pos (by omega)]
      have e6 : S.2 2 (6 + k) = Sm.2 2 (881 + k) := by
        have := r1 (1 + k) (by omega) (by omega)
        rw [show 5 + (1 + k) = 6 + k by omega, show 880 + (1 + k) = 881 + k by omega] at this
        exact this
      rw [e6]
      exact ⟨_, rfl, rfl⟩
    · rw [decide_eq_false q1, if_neg (by decide), if_neg (by decide)]
      exact ⟨_, rfl, rfl⟩
def tkSp (a : Int → Int) (t k : Int) : Int := if 0 ≤ t ∧ t ≤ a 880 - 1 then (if 0 ≤ k ∧ k ≤ 4 then a (890 + 38 * t + k) else if 100 ≤ k ∧ k ≤ 99 + a 887 then a (890 + 38 * t + 5 + (k - 100)) else if 200 ≤ k ∧ k ≤ 199 + a 888 then a (890 + 38 * t + 21 + (k - 200)) else -10000000) else -10000000
theorem C_tick_e {S : yS} {a : Int → Int} {t k : Int} (o5 : okC a) (r1 : rCnt S.2 a) (r7 : rTick S.2 a) (ht : r32 t) (hk : r32 k) : C_tick S t k = some (tkSp a t k) := by
  have e5 : S.2 2 5 = a 880 := r1.2 0 (by decide) (by decide)
  have e12 : S.2 2 12 = a 887 := r1.2 7 (by decide) (by decide)
  have e13 : S.2 2 13 = a 888 := r1.2 8 (by decide) (by decide)
  obtain ⟨c1, c2, c3, c4⟩ := o5
  have t1 : true = true := rfl
  have t2 : ¬ (false = true) := by decide
  unfold C_tick tkSp
  rw [e5, e12, e13, C_in_e ht (by decide) ⟨by omega, by omega⟩, bd_some]
  by_cases q : 0 ≤ t ∧ t ≤ a 880 - 1
  · obtain ⟨f1, f2, f3⟩ := r7 t q.1 (by omega)
    rw [decide_eq_true q, if_pos t1, if_pos q, C_in_e hk (by decide) (by decide), bd_some]
    by_cases q1 : 0 ≤ k ∧ k ≤ 4
    · rw [decide_eq_true q1, if_pos t1, if_pos q1, gd_pos (by omega), gd_pos (by omega), f1 k q1.1 (by omega)]
    · rw [decide_eq_false q1, if_neg t2, if_neg q1, C_in_e hk (by decide) ⟨by omega, by omega⟩, bd_some]
      by_cases q2 : 100 ≤ k ∧ k ≤ 99 + a 887
      · rw [decide_eq_true q2, if_pos t1, if_pos q2, gd_pos (by omega), gd_pos (by omega), f2 (k - 100) (by omega) (by omega)]
      · rw [decide_eq_false q2, if_neg t2, if_neg q2, C_in_e hk (by decide) ⟨by omega, by omega⟩, bd_some]
        by_cases q3 : 200 ≤ k ∧ k ≤ 199 + a 888
        · rw [decide_eq_true q3, if_pos t1, if_pos q3, gd_pos (by omega), gd_pos (by omega), f3 (k - 200) (by omega) (by omega)]
        · rw [decide_eq_false q3, if_neg t2, if_neg q3]
  · rw [decide_eq_false q, if_neg t2, if_neg q]
theorem M_tick_e {Sm : xS} {t k : Int} (o5 : okC (Sm.2 2)) (ht : r32 t) (hk : r32 k) : M_tick Sm t k = some (tkSp (Sm.2 2) t k) := by
  obtain ⟨c1, c2, c3, c4⟩ := o5
  have t1 : true = true := rfl
  have t2 : ¬ (false = true) := by decide
  unfold M_tick M_tick_B84 M_tick_B125 tkSp
  rw [M_isIn_e ht (by decide) ⟨by omega, by omega⟩, bd_some]
  by_cases q : 0 ≤ t ∧ t ≤ Sm.2 2 880 - 1
  · rw [decide_eq_true q, if_pos t1, if_pos q, nm_eq, M_isIn_e hk (by decide) (by decide), bd_some]
    by_cases q1 : 0 ≤ k ∧ k ≤ 4
    · rw [decide_eq_true q1, if_pos t1, if_pos q1, gd_pos (by omega)]
    · rw [decide_eq_false q1, if_neg t2, if_neg q1, gd_pos hk, gd_pos hk, gd_pos (And.intro hk (show r32 (100 + Sm.2 2 887) from ⟨by omega, by omega⟩)), gd_pos (And.intro hk (show r32 (200 + Sm.2 2 888) from ⟨by omega, by omega⟩))]
      by_cases z1 : k < 100
      · rw [if_pos z1, if_pos (show k < 200 by omega), if_neg (by omega), if_neg (by omega)]
      · rw [if_neg z1]
        by_cases z2 : k < 100 + Sm.2 2 887
        · rw [if_pos z2, gd_pos (by omega), if_pos (by omega), show 890 + 38 * t + 5 + k - 100 = 890 + 38 * t + 5 + (k - 100) by omega]
        · rw [if_neg z2, if_neg (show ¬ (100 ≤ k ∧ k ≤ 99 + Sm.2 2 887) by omega)]
          by_cases z3 : k < 200
          · rw [if_pos z3, if_neg (by omega)]
          · rw [if_neg z3]
            by_cases z4 : k < 200 + Sm.2 2 888
            · rw [if_pos z4, gd_pos (by omega), if_pos (by omega), show 890 + 38 * t + 21 + k - 200 = 890 + 38 * t + 21 + (k - 200) by omega]
            · rw [if_neg z4, if_neg (by omega)]
  · rw [decide_eq_false q, if_neg t2, if_neg q]
theorem op_tick {S : yS} {Sm : xS} {t k : Int} (R : RC S Sm) (ht : r32 t) (hk : r32 k) : ∃ r, C_tick S t k = some r ∧ M_tick Sm t k = some r := ⟨_, C_tick_e R.2.1.2.2.2.2 R.2.2.1.1 R.2.2.1.2.2.2.2.2.2 ht hk, M_tick_e R.2.1.2.2.2.2 ht hk⟩
def abF (a : Int → Int) : Nat → Int → Int → Int
  | 0, acc, _ => acc
  | n + 1, acc, c => abF a n (acc + if a (10 + c) ≤ 0 then 0 else 1) (c + 1)
theorem about_L {S : yS} {Sm : xS} (R : RC S Sm) : ∀ (m n : Nat) (acc c : Int), 0 ≤ c → c + m = Sm.1 0 * Sm.1 1 → m < n → C_about_L70 S n acc c = some (abF (Sm.2 2) m acc c) ∧ M_about_L106 Sm n acc c = some (abF (Sm.2 2) m acc c) := by
  obtain ⟨H, ew, eh⟩ := R.1
  have h1 := wh_bd H
  have o1 := R.2.1.1.2.1
  have r2 := R.2.2.1.2.1
  intro m
  induction m with
  | zero =>
    intro n acc c c1 c2 c3
    cases n with
    | zero => omega
    | succ n =>
      constructor
      · show C_about_b70 S (C_about_L70 S n) acc c = _
        unfold C_about_b70
        rw [ew, eh, gd_pos ⟨⟨by omega, by omega⟩, ⟨by omega, by omega⟩⟩, if_neg (by omega)]
        rfl
      · show M_about_b106 Sm (M_about_L106 Sm n) acc c = _
        unfold M_about_b106
        rw [gd_pos ⟨⟨by omega, by omega⟩, ⟨by omega, by omega⟩⟩, if_neg (by omega)]
        rfl
  | succ m ih =>
    intro n acc c c1 c2 c3
    cases n with
    | zero => omega
    | succ n =>
      have hm := o1 c c1 (by omega)
      constructor
      · show C_about_b70 S (C_about_L70 S n) acc c = _
        unfold C_about_b70 C_about_B101 abF
        rw [ew, eh, r2 c c1 (by omega), gd_pos ⟨⟨by omega, by omega⟩, ⟨by omega, by omega⟩⟩, if_pos (by omega), gd_pos (by omega), gd_pos ⟨by omega, by omega⟩]
        by_cases hz : Sm.2 2 (10 + c) ≤ 0
        · rw [if_pos hz, if_pos hz, nm_eq, nm_eq]
          exact (ih n _ _ (by omega) (by omega) (by omega)).1
        · rw [if_neg hz, if_neg hz, nm_eq, nm_eq]
          exact (ih n _ _ (by omega) (by omega) (by omega)).1
      · show M_about_b106 Sm (M_about_L106 Sm n) acc c = _
        unfold M_about_b106 M_about_B137 abF
        rw [gd_pos ⟨⟨by omega, by omega⟩, ⟨by omega, by omega⟩⟩, if_pos (by omega), gd_pos (by omega), gd_pos ⟨by omega, by omega⟩]
        by_cases hz : Sm.2 2 (10 + c) ≤ 0
        · rw [if_pos hz, if_pos hz, nm_eq, nm_eq]
          exact (ih n _ _ (by omega) (by omega) (by omega)).2
        · rw [if_neg hz, if_neg hz, nm_eq, nm_eq]
          exact (ih n _ _ (by omega) (by omega) (by omega)).2
theorem op_about {S : yS} {Sm : xS} {k : Int} (R : RC S Sm) (hk : r32 k) : ∃ r, C_about S k = some r ∧ M_about Sm k = some r := by
  obtain ⟨H, ew, eh⟩ := R.1
  have h1 := wh_bd H
  have rc := R.2.2.1.1.1
  have tp := R.2.2.2.2.2.1
  have t1 : true = true := rfl
  have t2 : ¬ (false = true) := by decide
  obtain ⟨l1, l2⟩ := about_L R (Sm.1 0 * Sm.1 1).toNat FU 0 0 (by omega) (by omega) (by unfold FU; omega)
  unfold C_about M_about
  rw [ew, eh, tp, l1, l2, gd_pos hk, gd_pos hk, gd_pos hk, gd_pos hk, C_in_e hk (by decide) (by decide), bd_some]
  by_cases q0 : k = 0
  · rw [decide_eq_true (show 0 ≤ k ∧ k ≤ 1 by omega), if_pos t1, if_pos q0, if_pos q0]; exact ⟨_, rfl, rfl⟩
  · by_cases q1 : k = 1
    · rw [decide_eq_true (show 0 ≤ k ∧ k ≤ 1 by omega), if_pos t1, if_neg q0, if_neg q0, if_pos q1]; exact ⟨_, rfl, rfl⟩
    · rw [decide_eq_false (show ¬ (0 ≤ k ∧ k ≤ 1) by omega), if_neg t2, if_neg q0, if_neg q1, C_in_e hk (by decide) (by decide), bd_some]
      by_cases q2 : 2 ≤ k ∧ k ≤ 6
      · rw [decide_eq_true q2, if_pos t1, gd_pos (by omega), rc (k - 2) (by omega) (by omega)]
        by_cases z2 : k = 2
        · rw [if_pos z2, z2]; exact ⟨_, rfl, rfl⟩
        · rw [if_neg z2]
          by_cases z3 : k = 3
          · rw [if_pos z3, z3]; exact ⟨_, rfl, rfl⟩
          · rw [if_neg z3]
            by_cases z4 : k = 4
            · rw [if_pos z4, z4]; exact ⟨_, rfl, rfl⟩
            · rw [if_neg z4]
              by_cases z5 : k = 5
              · rw [if_pos z5, z5]; exact ⟨_, rfl, rfl⟩
              · have z6 : k = 6 := by omega
                rw [if_neg z5, if_pos z6, z6]; exact ⟨_, rfl, rfl⟩
      · rw [decide_eq_false q2, if_neg t2, if_neg (show ¬ k = 2 by omega), if_neg (show ¬ k = 3 by omega), if_neg (show ¬ k = 4 by omega), if_neg (show ¬ k = 5 by omega), if_neg (show ¬ k = 6 by omega)]
        by_cases z7 : k = 7
        · rw [if_pos z7]; exact ⟨_, rfl, rfl⟩
        · rw [if_neg z7]
          by_cases z8 : k = 8
          · rw [if_pos z8]; exact ⟨_, rfl, rfl⟩
          · rw [if_neg z8]; exact ⟨_, rfl, rfl⟩
theorem op_turned {S : yS} {Sm : xS} {f tn : Int} (R : RC S Sm) (hf : r32 f) (htn : r32 tn) : ∃ r S' Sm', C_turned S f tn = some (r, S') ∧ M_turned Sm f tn = some (r, Sm') ∧ RC S' Sm' ∧ kR S S' Sm Sm' := by
  obtain ⟨H, ew, eh⟩ := R.1
  obtain ⟨o1, o2, o3, o4, o5⟩ := R.2.1
  obtain ⟨r1, r2, r3, r4, r5, r6, r7⟩ := R.2.2.1
  have n4 := R.n0 (k := 4) (by decide)
  have hn := o4.1
  unfold C_turned M_turned
  rw [C_isOne_e (by decide) hf (by omega), M_isIn_e hf (by decide) ⟨by omega, by omega⟩, bd_some, bd_some, n4]
  by_cases q : 0 ≤ f ∧ f ≤ Sm.2 2 4 - 1
  · rw [decide_eq_true q, if_pos rfl, if_pos rfl, C_in_e htn (by decide) (by decide), M_isIn_e htn (by decide) (by decide), bd_some, bd_some]
    by_cases q1 : -8 ≤ tn ∧ tn ≤ 8
    · have e3 : S.2 (45 + 1 + f) 3 = Sm.2 2 (720 + 24 * f + 3) := r6 f 3 (by omega) (by omega) (by omega) (by omega)
      have hc := (o4.2.1 f q.1 (by omega)).2.2
      rw [decide_eq_true q1, if_pos rfl, if_pos rfl, nm_eq (720 + 24 * f), e3, gd_pos (show 0 ≤ f ∧ f < 6 by omega), gd_pos (show 0 ≤ 720 + 24 * f + 3 ∧ 720 + 24 * f + 3 < 3170 by omega)]
      generalize hC : Sm.2 2 (720 + 24 * f + 3) = c at *
      rw [gd_pos (show r32 c from ⟨by omega, by omega⟩), gd_pos (show r32 c from ⟨by omega, by omega⟩)]
      by_cases q2 : c = 20
      · rw [if_pos q2, if_pos q2]
        exact ⟨_, _, _, rfl, rfl, R.rf⟩
      · rw [if_neg q2, if_neg q2, gd_pos (show 0 ≤ f ∧ f < 6 by omega), gd_pos (show 0 ≤ 4 + c ∧ 4 + c < 24 by omega), nm_eq, nm_eq, gd_pos (show 0 ≤ 720 + 24 * f + 3 ∧ 720 + 24 * f + 3 < 3170 by omega), gd_pos (show 0 ≤ 720 + 24 * f + 4 + c ∧ 720 + 24 * f + 4 + c < 3170 by omega), nm_eq, gd_pos (show 0 ≤ 720 + 24 * f + 3 ∧ 720 + 24 * f + 3 < 3170 by omega), gd_pos (show 0 ≤ 720 + 24 * f + 3 ∧ 720 + 24 * f + 3 < 3170 by omega), nm_eq, gd_pos (show 0 ≤ 720 + 24 * f + 3 ∧ 720 + 24 * f + 3 < 3170 by omega)]
        have eS : (cas S (45 + 1 + f) (4 + c) tn).2 (45 + 1 + f) 3 = c := by rw [cas_at, if_neg (by omega), e3]
        have eM : (aset Sm 2 (720 + 24 * f + 4 + c) tn).2 2 (720 + 24 * f + 3) = c := by rw [aset_at, if_neg (by omega), hC]
        rw [eS, eM]
        refine ex3 rfl rfl (by rw [aset_at, if_pos rfl, cas_at, if_pos rfl]) ?_
        have an : ∀ j, j ≠ 720 + 24 * f + 3 → j ≠ 720 + 24 * f + 4 + c → (aset (aset Sm 2 (720 + 24 * f + 4 + c) tn) 2 (720 + 24 * f + 3) (c + 1)).2 2 j = Sm.2 2 j := fun j j1 j2 => by rw [aset_at, if_neg j1, aset_at, if_neg j2]
        have sn : ∀ q, q ≠ 45 + 1 + f → (cas (cas S (45 + 1 + f) (4 + c) tn) (45 + 1 + f) 3 (c + 1)).2 q = S.2 q := fun q hq => by rw [cas_ne _ _ _ hq, cas_ne _ _ _ hq]
        have a3 : (aset (aset Sm 2 (720 + 24 * f + 4 + c) tn) 2 (720 + 24 * f + 3) (c + 1)).2 2 (720 + 24 * f + 3) = c + 1 := by rw [aset_at, if_pos rfl]
        have ANI : ∀ lo hi : Int, (hi ≤ 720 ∨ 864 ≤ lo) → ∀ i, lo ≤ i → i < hi → (aset (aset Sm 2 (720 + 24 * f + 4 + c) tn) 2 (720 + 24 * f + 3) (c + 1)).2 2 i = Sm.2 2 i := fun lo hi h i i1 i2 => an i (by omega) (by omega)
        refine R.now rfl rfl rfl rfl rfl rfl (fun q hq => sn q (by omega)) ⟨o1.cg (an _ (by omega) (by omega)) (ANI _ _ (by omega)), o2.cg (an _ (by omega) (by omega)) (ANI _ _ (by omega)), o3.cg (an _ (by omega) (by omega)) (an _ (by omega) (by omega)) (ANI _ _ (by omega)), ⟨by rw [an _ (by omega) (by omega)]; exact o4.1, fun i i1 i2 => ?_, fun i i1 i2 => ?_⟩, o5.cg (an _ (by omega) (by omega)) (ANI _ _ (by omega))⟩ ⟨r1.cg (sn _ (by omega)) (fun i _ _ => an i (by omega) (by omega)) (ANI _ _ (by omega)), r2.cg (sn _ (by omega)) (ANI _ _ (by omega)), r3.cg (fun q _ _ => sn q (by omega)) (ANI _ _ (by omega)), r4.cg (fun q _ _ => sn q (by omega)) (ANI _ _ (by omega)), r5.cg (fun q _ _ => sn q (by omega)) (ANI _ _ (by omega)), fun i j i1 i2 j1 j2 => ?_, r7.cg (by have := o5.2; omega) (by have := o5.2; omega) (by have := o5.2; omega) (fun q _ _ => sn q (by omega)) (ANI _ _ (by omega))⟩ (an _ (by omega) (by omega))
        · rw [an 4 (by omega) (by omega)] at i2
          have hh := o4.2.1 i i1 i2
          by_cases hi : i = f
          · rw [hi, a3, an _ (by omega) (by omega), an _ (by omega) (by omega), an _ (by omega) (by omega)]
            rw [hi] at hh
            exact ⟨hh.1, hh.2.1, by omega⟩
          · rw [an _ (by omega) (by omega), an _ (by omega) (by omega), an _ (by omega) (by omega), an _ (by omega) (by omega)]
            exact hh
        · by_cases h3 : i = 720 + 24 * f + 3
          · rw [h3, a3]; exact ⟨by omega, by omega⟩
          · by_cases h4 : i = 720 + 24 * f + 4 + c
            · rw [aset_at, if_neg h3, aset_at, if_pos h4]; exact ⟨by omega, by omega⟩
            · rw [an i h3 h4]; exact o4.2.2 i i1 i2
        · by_cases hi : i = f
          · rw [hi, cas_at, cas_at, aset_at, aset_at]
            by_cases h3 : j = 3
            · rw [if_pos h3, if_pos (by omega)]
            · rw [if_neg h3, if_neg (show ¬ 720 + 24 * f + j = 720 + 24 * f + 3 by omega)]
              by_cases h4 : j = 4 + c
              · rw [if_pos h4, if_pos (show 720 + 24 * f + j = 720 + 24 * f + 4 + c by omega)]
              · rw [if_neg h4, if_neg (show ¬ 720 + 24 * f + j = 720 + 24 * f + 4 + c by omega)]
                exact r6 f j (by omega) (by omega) j1 j2
          · rw [sn _ (by omega), an _ (by omega) (by omega)]
            exact r6 i j i1 i2 j1 j2
    · rw [decide_eq_false q1, if_neg (by decide), if_neg (by decide)]
      exact ⟨_, _, _, rfl, rfl, R.rf⟩
  · rw [decide_eq_false q, if_neg (by decide), if_neg (by decide)]
    exact ⟨_, _, _, rfl, rfl, R.rf⟩
