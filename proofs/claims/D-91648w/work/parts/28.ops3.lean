/-! the plain law: calls that write down something -/
set_option maxRecDepth 100000
theorem ccT_1 (S : yS) (b n : Int) (f : Int → Int) : (ccT S b n f).1 = S.1 := rfl
theorem ccT_ne (S : yS) {b q : Int} (n : Int) (f : Int → Int) (h : q ≠ b) : (ccT S b n f).2 q = S.2 q := if_neg h
theorem ccT_at (S : yS) (b n : Int) (f : Int → Int) (j : Int) : (ccT S b n f).2 b j = if 0 ≤ j ∧ j < n then f j else S.2 b j := by
  show (if b = b then (fun j => if 0 ≤ j ∧ j < n then f j else S.2 b j) else S.2 b) j = _
  rw [if_pos rfl]
theorem RC.now {S S' : yS} {Sm Sm' : xS} (R : RC S Sm) (s1 : S'.1 = S.1) (m1 : Sm'.1 = Sm.1) (m3 : Sm'.2 3 = Sm.2 3) (m4 : Sm'.2 4 = Sm.2 4) (m9 : Sm'.2 9 = Sm.2 9) (m36 : Sm'.2 36 = Sm.2 36) (sA : ∀ q, 235 ≤ q → S'.2 q = S.2 q) (o : okA (Sm.1 0) (Sm.1 1) (Sm'.2 2)) (r : rN S'.2 (Sm'.2 2)) (e3 : Sm'.2 2 3 = Sm.2 2 3) : RC S' Sm' ∧ kR S S' Sm Sm' := by
  obtain ⟨⟨w1, w2, w3⟩, o1, r1, o2, r2, t1, t2, t3, t4, t5, t6, t7⟩ := R
  refine ⟨⟨⟨by rw [m1]; exact w1, by rw [m1, s1]; exact w2, by rw [m1, s1]; exact w3⟩, by rw [m1]; exact o, r, by rw [m1, m3]; exact o2, ?_, by rw [m1, s1]; exact t1, by rw [m1]; exact t2, fun i i1 i2 => by rw [m9, sA 471 (by decide)]; exact t3 i i1 i2, by rw [m1, s1]; exact t4, by rw [m1, s1]; exact t5, by rw [m1]; exact t6, by rw [m1]; exact t7⟩, fun k _ => by rw [s1], m4, e3, by rw [m3], sA 661 (by decide), m36⟩
  rw [m3]
  obtain ⟨h1, h2, h3, h4, h5, h6, h7⟩ := r2
  have c := o2.2.2.2.2
  exact ⟨h1.cg (sA _ (by decide)) (fun _ _ _ => rfl) (fun _ _ _ => rfl), h2.cg (sA _ (by decide)) (fun _ _ _ => rfl), h3.cg (fun q _ _ => sA _ (by omega)) (fun _ _ _ => rfl), h4.cg (fun q _ _ => sA _ (by omega)) (fun _ _ _ => rfl), h5.cg (fun q _ _ => sA _ (by omega)) (fun _ _ _ => rfl), h6.cg (fun q _ _ => sA _ (by omega)) (fun _ _ _ => rfl), h7.cg (by have := c.2; omega) (by have := c.2; omega) (by have := c.2; omega) (fun q _ _ => sA _ (by omega)) (fun _ _ _ => rfl)⟩
theorem ex3 {α : Type} {C : Option (α × yS)} {M : Option (α × xS)} {P : yS → xS → Prop} {r r' : α} {S' : yS} {Sm' : xS} (hC : C = some (r, S')) (hM : M = some (r', Sm')) (e : r' = r) (p : P S' Sm') : ∃ r S' Sm', C = some (r, S') ∧ M = some (r, Sm') ∧ P S' Sm' := ⟨r, S', Sm', hC, by rw [hM, e], p⟩
theorem op_mark {S : yS} {Sm : xS} {c k : Int} (R : RC S Sm) (hc : r32 c) (hk : r32 k) : ∃ r S' Sm', C_mark S c k = some (r, S') ∧ M_mark Sm c k = some (r, Sm') ∧ RC S' Sm' ∧ kR S S' Sm Sm' := by
  have HC := R.HC
  obtain ⟨H, ew, eh⟩ := R.1
  obtain ⟨o1, o2, o3, o4, o5⟩ := R.2.1
  obtain ⟨r1, r2, r3, r4, r5, r6, r7⟩ := R.2.2.1
  have h1 := wh_bd H
  unfold C_mark M_mark
  rw [C_isCell_e HC hc, M_isCell_e H hc, bd_some, bd_some, ew, eh]
  by_cases q : 0 ≤ c ∧ c ≤ Sm.1 0 * Sm.1 1 - 1
  · rw [decide_eq_true q, if_pos rfl, if_pos rfl, C_in_e hk (by decide) (by decide), M_isIn_e hk (by decide) (by decide), bd_some, bd_some]
    by_cases q2 : 0 ≤ k ∧ k ≤ 255
    · rw [decide_eq_true q2, if_pos rfl, if_pos rfl, gd_pos (by omega), gd_pos (by omega), nm_eq, nm_eq]
      refine ⟨_, _, _, rfl, rfl, ?_⟩
      have an : ∀ j, j ≠ 10 + c → (aset Sm 2 (10 + c) k).2 2 j = Sm.2 2 j := fun j hj => by rw [aset_at, if_neg hj]
      have cn : okC (Sm.2 2) := o5
      refine R.now rfl rfl rfl rfl rfl rfl (fun q hq => cas_ne _ _ _ (by omega)) ⟨⟨by rw [an 0 (by omega)]; exact o1.1, fun i i1 i2 => ?_, fun b b1 b2 => ?_⟩, o2.cg (an _ (by omega)) (fun i _ _ => an i (by omega)), o3.cg (an _ (by omega)) (an _ (by omega)) (fun i _ _ => an i (by omega)), o4.cg (an _ (by omega)) (fun i _ _ => an i (by omega)), o5.cg (an _ (by omega)) (fun i _ _ => an i (by omega))⟩ ⟨r1.cg (cas_ne _ _ _ (by decide)) (fun i _ _ => an i (by omega)) (fun i _ _ => an i (by omega)), fun i i1 i2 => ?_, r3.cg (fun q _ _ => cas_ne _ _ _ (by omega)) (fun i _ _ => an i (by omega)), r4.cg (fun q _ _ => cas_ne _ _ _ (by omega)) (fun i _ _ => an i (by omega)), r5.cg (fun q _ _ => cas_ne _ _ _ (by omega)) (fun i _ _ => an i (by omega)), r6.cg (fun q _ _ => cas_ne _ _ _ (by omega)) (fun i _ _ => an i (by omega)), r7.cg (by have := cn.2; omega) (by have := cn.2; omega) (by have := cn.2; omega) (fun q _ _ => cas_ne _ _ _ (by omega)) (fun i _ _ => an i (by omega))⟩ (an _ (by omega))
      · rw [aset_at]
        by_cases hi : 10 + i = 10 + c
        · rw [if_pos hi]; exact q2
        · rw [if_neg hi]; exact o1.2.1 i i1 i2
      · rw [an 0 (by omega)] at b2
        exact (o1.2.2 b b1 b2).cg ⟨b1, by have := o1.1; omega⟩ (fun i _ _ => an i (by omega))
      · rw [cas_at, aset_at]
        by_cases hi : i = c
        · rw [if_pos hi, if_pos (by omega)]
        · rw [if_neg hi, if_neg (by omega)]; exact r2 i i1 i2
    · rw [decide_eq_false q2, if_neg (by decide), if_neg (by decide)]
      exact ⟨_, _, _, rfl, rfl, R.rf⟩
  · rw [decide_eq_false q, if_neg (by decide), if_neg (by decide)]
    exact ⟨_, _, _, rfl, rfl, R.rf⟩
theorem op_body {S : yS} {Sm : xS} {c wx wy k : Int} (R : RC S Sm) (hc : r32 c) (hwx : r32 wx) (hwy : r32 wy) (hk : r32 k) : ∃ r S' Sm', C_body S c wx wy k = some (r, S') ∧ M_body Sm c wx wy k = some (r, Sm') ∧ RC S' Sm' ∧ kR S S' Sm Sm' := by
  have HC := R.HC
  obtain ⟨H, ew, eh⟩ := R.1
  obtain ⟨o1, o2, o3, o4, o5⟩ := R.2.1
  obtain ⟨r1, r2, r3, r4, r5, r6, r7⟩ := R.2.2.1
  have h1 := wh_bd H
  have n0 := R.n0 (k := 0) (by decide)
  have hn := o1.1
  unfold C_body M_body
  rw [C_isCell_e HC hc, M_isCell_e H hc, bd_some, bd_some, ew, eh]
  by_cases q : 0 ≤ c ∧ c ≤ Sm.1 0 * Sm.1 1 - 1
  · rw [decide_eq_true q, if_pos rfl, if_pos rfl, C_isWay_e hwx, M_isIn_e hwx (by decide) (by decide), bd_some, bd_some]
    by_cases q1 : -2 ≤ wx ∧ wx ≤ 2
    · rw [decide_eq_true q1, if_pos rfl, if_pos rfl, C_isWay_e hwy, M_isIn_e hwy (by decide) (by decide), bd_some, bd_some]
      by_cases q2 : -2 ≤ wy ∧ wy ≤ 2
      · rw [decide_eq_true q2, if_pos rfl, if_pos rfl, C_in_e hk (by decide) (by decide), M_isIn_e hk (by decide) (by decide), bd_some, bd_some]
        by_cases q3 : 1 ≤ k ∧ k ≤ 255
        · rw [decide_eq_true q3, if_pos rfl, if_pos rfl, n0, gd_pos ⟨by omega, by omega⟩, gd_pos ⟨by omega, by omega⟩]
          by_cases q4 : Sm.2 2 0 = 6
          · rw [if_pos q4, if_pos q4]
            exact ⟨_, _, _, rfl, rfl, R.rf⟩
          · rw [if_neg q4, if_neg q4, nm_eq, gd_pos (by omega), nm_eq, nm_eq, nm_eq, nm_eq, nm_eq]
            unfold C_adds4
            rw [gd_pos (by decide), nm_eq, gd_pos (by decide), gd_pos (by decide), nm_eq, gd_pos (by decide), bd2_some]
            rw [nm_eq, gd_pos (by omega), nm_eq, gd_pos (by omega), nm_eq, gd_pos (by omega), nm_eq, gd_pos (by omega), nm_eq, nm_eq]
            generalize hb : Sm.2 2 0 = b at *
            have e2 : ∀ (f : Int → Int), (ccT S (4 + 1 + b) 4 f).2 2 0 = b := fun f => by rw [ccT_ne _ _ _ (by omega)]; exact n0
            refine ex3 rfl rfl ?_ ?_
            · rw [aset_at, if_pos rfl, cas_at, if_pos rfl, e2]
              simp only [aset_at]
              rw [if_neg (by omega), if_neg (by omega), if_neg (by omega), if_neg (by omega), hb]
            · have an : ∀ j, j ≠ 0 → (j < 590 + 4 * b ∨ 590 + 4 * b + 4 ≤ j) → (aset (aset (aset (aset (aset Sm 2 (590 + 4 * b) c) 2 (590 + 4 * b + 1) wx) 2 (590 + 4 * b + 2) wy) 2 (590 + 4 * b + 3) k) 2 0 ((aset (aset (aset (aset Sm 2 (590 + 4 * b) c) 2 (590 + 4 * b + 1) wx) 2 (590 + 4 * b + 2) wy) 2 (590 + 4 * b + 3) k).2 2 0 + 1)).2 2 j = Sm.2 2 j := fun j j1 j2 => by
                simp only [aset_at]
                rw [if_neg j1, if_neg (by omega), if_neg (by omega), if_neg (by omega), if_neg (by omega)]
              have a0 : (aset (aset (aset (aset (aset Sm 2 (590 + 4 * b) c) 2 (590 + 4 * b + 1) wx) 2 (590 + 4 * b + 2) wy) 2 (590 + 4 * b + 3) k) 2 0 ((aset (aset (aset (aset Sm 2 (590 + 4 * b) c) 2 (590 + 4 * b + 1) wx) 2 (590 + 4 * b + 2) wy) 2 (590 + 4 * b + 3) k).2 2 0 + 1)).2 2 0 = b + 1 := by
                simp only [aset_at]
                rw [if_pos trivial, if_neg (by omega), if_neg (by omega), if_neg (by omega), if_neg (by omega), hb]
              have ab : ∀ j, 0 ≤ j → j < 4 → (aset (aset (aset (aset (aset Sm 2 (590 + 4 * b) c) 2 (590 + 4 * b + 1) wx) 2 (590 + 4 * b + 2) wy) 2 (590 + 4 * b + 3) k) 2 0 ((aset (aset (aset (aset Sm 2 (590 + 4 * b) c) 2 (590 + 4 * b + 1) wx) 2 (590 + 4 * b + 2) wy) 2 (590 + 4 * b + 3) k).2 2 0 + 1)).2 2 (590 + 4 * b + j) = if j = 3 then k else if j = 2 then wy else if j = 1 then wx else c := fun j j1 j2 => by
                simp only [aset_at]
                rw [if_neg (by omega)]
                by_cases t3 : j = 3
                · rw [if_pos (by omega), if_pos t3]
                · rw [if_neg (by omega), if_neg t3]
                  by_cases t2 : j = 2
                  · rw [if_pos (by omega), if_pos t2]
                  · rw [if_neg (by omega), if_neg t2]
                    by_cases t1 : j = 1
                    · rw [if_pos (by omega), if_pos t1]
                    · rw [if_neg (by omega), if_neg t1, if_pos (by omega)]
              generalize hM : aset (aset (aset (aset (aset Sm 2 (590 + 4 * b) c) 2 (590 + 4 * b + 1) wx) 2 (590 + 4 * b + 2) wy) 2 (590 + 4 * b + 3) k) 2 0 ((aset (aset (aset (aset Sm 2 (590 + 4 * b) c) 2 (590 + 4 * b + 1) wx) 2 (590 + 4 * b + 2) wy) 2 (590 + 4 * b + 3) k).2 2 0 + 1) = M' at an a0 ab ⊢
              have mk : ∀ j, j ≠ 2 → M'.2 j = Sm.2 j := fun j hj => by rw [← hM]; simp only [aset_ne _ _ _ hj]
              have m1 : M'.1 = Sm.1 := by rw [← hM]; rfl
              have sn : ∀ (f : Int → Int) (z q : Int), q ≠ 2 → q ≠ 4 + 1 + b → (cas (ccT S (4 + 1 + b) 4 f) 2 0 z).2 q = S.2 q := fun f z q h2 h3 => by rw [cas_ne _ _ _ h2, ccT_ne _ _ _ h3]
              refine R.now rfl m1 (mk 3 (by decide)) (mk 4 (by decide)) (mk 9 (by decide)) (mk 36 (by decide)) (fun q hq => sn _ _ q (by omega) (by omega)) ⟨⟨by rw [a0]; omega, fun i i1 i2 => by rw [an _ (by omega) (by omega)]; exact o1.2.1 i i1 i2, fun i i1 i2 => ?_⟩, o2.cg (an _ (by omega) (by omega)) (fun i _ _ => an i (by omega) (by omega)), o3.cg (an _ (by omega) (by omega)) (an _ (by omega) (by omega)) (fun i _ _ => an i (by omega) (by omega)), o4.cg (an _ (by omega) (by omega)) (fun i _ _ => an i (by omega) (by omega)), o5.cg (an _ (by omega) (by omega)) (fun i _ _ => an i (by omega) (by omega))⟩ ⟨⟨fun i i1 i2 => ?_, fun i i1 i2 => ?_⟩, r2.cg (sn _ _ _ (by omega) (by omega)) (fun i _ _ => an i (by omega) (by omega)), fun i j i1 i2 j1 j2 => ?_, r4.cg (fun q _ _ => sn _ _ _ (by omega) (by omega)) (fun i _ _ => an i (by omega) (by omega)), r5.cg (fun q _ _ => sn _ _ _ (by omega) (by omega)) (fun i _ _ => an i (by omega) (by omega)), r6.cg (fun q _ _ => sn _ _ _ (by omega) (by omega)) (fun i _ _ => an i (by omega) (by omega)), r7.cg (by have := o5.2; omega) (by have := o5.2; omega) (by have := o5.2; omega) (fun q _ _ => sn _ _ _ (by omega) (by omega)) (fun i _ _ => an i (by omega) (by omega))⟩ (an _ (by omega) (by omega))
              · rw [a0] at i2
                by_cases hi : i = b
                · have t0 := ab 0 (by omega) (by omega)
                  rw [if_neg (by decide), if_neg (by decide), if_neg (by decide), Int.add_zero] at t0
                  have t1 := ab 1 (by omega) (by omega)
                  rw [if_neg (by decide), if_neg (by decide), if_pos rfl] at t1
                  have t2 := ab 2 (by omega) (by omega)
                  rw [if_neg (by decide), if_pos rfl] at t2
                  have t3 := ab 3 (by omega) (by omega)
                  rw [if_pos rfl] at t3
                  unfold okB
                  rw [hi, t0, t1, t2, t3]
                  exact ⟨by omega, q1, q2, q3⟩
                · have hh := o1.2.2 i i1 (by omega)
                  unfold okB at hh ⊢
                  rw [an _ (by omega) (by omega), an _ (by omega) (by omega), an _ (by omega) (by omega), an _ (by omega) (by omega)]
                  exact hh
              · rw [cas_at]
                by_cases hi : i = 0
                · rw [if_pos hi, e2, hi, a0]
                · rw [if_neg hi, ccT_ne _ _ _ (by omega), an i hi (by omega)]
                  exact r1.1 i i1 i2
              · rw [cas_at, if_neg (by omega), ccT_ne _ _ _ (by omega), an _ (by omega) (by omega)]
                exact r1.2 i i1 i2
              · by_cases hi : i = b
                · rw [hi, cas_ne _ _ _ (by omega), ccT_at, if_pos (by omega), ab j j1 j2]
                  unfold tst
                  by_cases t3 : j = 3
                  · rw [if_pos t3, if_pos t3]
                  · rw [if_neg t3, if_neg t3]
                    by_cases t2 : j = 2
                    · rw [if_pos t2, if_pos t2]
                    · rw [if_neg t2, if_neg t2]
                      by_cases t1 : j = 1
                      · rw [if_pos t1, if_pos t1]
                      · rw [if_neg t1, if_neg t1, if_pos (by omega)]
                · rw [sn _ _ _ (by omega) (by omega), an _ (by omega) (by omega)]
                  exact r3 i j i1 i2 j1 j2
        · rw [decide_eq_false q3, if_neg (by decide), if_neg (by decide)]
          exact ⟨_, _, _, rfl, rfl, R.rf⟩
      · rw [decide_eq_false q2, if_neg (by decide), if_neg (by decide)]
        exact ⟨_, _, _, rfl, rfl, R.rf⟩
    · rw [decide_eq_false q1, if_neg (by decide), if_neg (by decide)]
      exact ⟨_, _, _, rfl, rfl, R.rf⟩
  · rw [decide_eq_false q, if_neg (by decide), if_neg (by decide)]
    exact ⟨_, _, _, rfl, rfl, R.rf⟩
