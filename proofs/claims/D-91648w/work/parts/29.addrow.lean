/-! the plain law: lens, pair, read -/
set_option maxRecDepth 100000
theorem op_lens {S : yS} {Sm : xS} {s wd : Int} (R : RC S Sm) (hs : r32 s) (hwd : r32 wd) : ∃ r S' Sm', C_lens S s wd = some (r, S') ∧ M_lens Sm s wd = some (r, Sm') ∧ RC S' Sm' ∧ kR S S' Sm Sm' := by
  have HC := R.HC
  obtain ⟨H, ew, eh⟩ := R.1
  obtain ⟨o1, o2, o3, o4, o5⟩ := R.2.1
  obtain ⟨r1, r2, r3, r4, r5, r6, r7⟩ := R.2.2.1
  have h1 := wh_bd H
  have w1 := H.1
  have w2 := H.2
  have n0 := R.n0 (k := 1) (by decide)
  have n1 := R.n0 (k := 1) (by decide)
  have hn1 := o2.1
  have hn : 0 ≤ Sm.2 2 1 ∧ Sm.2 2 1 ≤ 16 := o2.1
  unfold C_lens M_lens
  rw [C_isHead_e hs, M_isSide_e hs, bd_some, bd_some]
  by_cases q1 : 0 ≤ s ∧ s ≤ 63
  · rw [decide_eq_true q1, if_pos rfl, if_pos rfl]
    rw [C_in_e hwd (by decide) (by decide), M_isIn_e hwd (by decide) (by decide), bd_some, bd_some]
    by_cases q2 : 0 ≤ wd ∧ wd ≤ 7
    · rw [decide_eq_true q2, if_pos rfl, if_pos rfl]
      rw [n0, gd_pos ⟨by omega, by omega⟩, gd_pos ⟨by omega, by omega⟩]
      by_cases q4 : Sm.2 2 1 = 16
      · rw [if_pos q4, if_pos q4]
        exact ⟨_, _, _, rfl, rfl, R.rf⟩
      · rw [if_neg q4, if_neg q4, nm_eq, gd_pos (by omega), nm_eq, nm_eq, nm_eq]
        unfold C_adds11
        rw [gd_pos (by decide), nm_eq, gd_pos (by decide), gd_pos (by decide), nm_eq, gd_pos (by decide), bd2_some]
        have t1 : (aset Sm 2 (620 + 2 * Sm.2 2 1) s).2 2 1 = Sm.2 2 1 := by rw [aset_at, if_neg (by omega)]
        rw [gd_pos (by omega), nm_eq, t1, gd_pos (by omega), nm_eq, nm_eq]
        generalize hb : Sm.2 2 1 = b at *
        have e2 : ∀ (f : Int → Int), (ccT S (11 + 1 + b) 2 f).2 2 1 = b := fun f => by rw [ccT_ne _ _ _ (by omega)]; exact n0
        refine ex3 rfl rfl ?_ ?_
        · rw [aset_at, if_pos rfl, cas_at, if_pos rfl, e2]
          simp only [aset_at]
          rw [if_neg (by omega), if_neg (by omega), hb]
        · have an : ∀ j, j ≠ 1 → (j < 620 + 2 * b ∨ 620 + 2 * b + 2 ≤ j) → (aset (aset (aset Sm 2 (620 + 2 * b) s) 2 (620 + 2 * b + 1) wd) 2 1 ((aset (aset Sm 2 (620 + 2 * b) s) 2 (620 + 2 * b + 1) wd).2 2 1 + 1)).2 2 j = Sm.2 2 j := fun j j1 j2 => by
            simp only [aset_at]
            rw [if_neg j1, if_neg (by omega), if_neg (by omega)]
          have a0 : (aset (aset (aset Sm 2 (620 + 2 * b) s) 2 (620 + 2 * b + 1) wd) 2 1 ((aset (aset Sm 2 (620 + 2 * b) s) 2 (620 + 2 * b + 1) wd).2 2 1 + 1)).2 2 1 = b + 1 := by
            simp only [aset_at]
            rw [if_pos trivial, if_neg (by omega), if_neg (by omega), hb]
          have ab : ∀ j, 0 ≤ j → j < 2 → (aset (aset (aset Sm 2 (620 + 2 * b) s) 2 (620 + 2 * b + 1) wd) 2 1 ((aset (aset Sm 2 (620 + 2 * b) s) 2 (620 + 2 * b + 1) wd).2 2 1 + 1)).2 2 (620 + 2 * b + j) = if j = 1 then wd else s := fun j j1 j2 => by
            simp only [aset_at]
            rw [if_neg (by omega)]
            by_cases t1 : j = 1
            · rw [if_pos (by omega), if_pos t1]
            · rw [if_neg (by omega), if_neg t1, if_pos (by omega)]
          generalize hM : aset (aset (aset Sm 2 (620 + 2 * b) s) 2 (620 + 2 * b + 1) wd) 2 1 ((aset (aset Sm 2 (620 + 2 * b) s) 2 (620 + 2 * b + 1) wd).2 2 1 + 1) = M' at an a0 ab ⊢
          have mk : ∀ j, j ≠ 2 → M'.2 j = Sm.2 j := fun j hj => by rw [← hM]; simp only [aset_ne _ _ _ hj]
          have m1 : M'.1 = Sm.1 := by rw [← hM]; rfl
          have sn : ∀ (f : Int → Int) (z q : Int), q ≠ 2 → q ≠ 11 + 1 + b → (cas (ccT S (11 + 1 + b) 2 f) 2 1 z).2 q = S.2 q := fun f z q h2 h3 => by rw [cas_ne _ _ _ h2, ccT_ne _ _ _ h3]
          refine R.now rfl m1 (mk 3 (by decide)) (mk 4 (by decide)) (mk 9 (by decide)) (mk 36 (by decide)) (fun q hq => sn _ _ q (by omega) (by omega)) ⟨o1.cg (an _ (by omega) (by omega)) (fun i _ _ => an i (by omega) (by omega)), ⟨by rw [a0]; omega, fun i i1 i2 => ?_⟩, ?_, o4.cg (an _ (by omega) (by omega)) (fun i _ _ => an i (by omega) (by omega)), o5.cg (an _ (by omega) (by omega)) (fun i _ _ => an i (by omega) (by omega))⟩ ⟨⟨fun i i1 i2 => ?_, fun i i1 i2 => ?_⟩, r2.cg (sn _ _ _ (by omega) (by omega)) (fun i _ _ => an i (by omega) (by omega)), r3.cg (fun q _ _ => sn _ _ _ (by omega) (by omega)) (fun i _ _ => an i (by omega) (by omega)), fun i j i1 i2 j1 j2 => ?_, r5.cg (fun q _ _ => sn _ _ _ (by omega) (by omega)) (fun i _ _ => an i (by omega) (by omega)), r6.cg (fun q _ _ => sn _ _ _ (by omega) (by omega)) (fun i _ _ => an i (by omega) (by omega)), r7.cg (by have := o5.2; omega) (by have := o5.2; omega) (by have := o5.2; omega) (fun q _ _ => sn _ _ _ (by omega) (by omega)) (fun i _ _ => an i (by omega) (by omega))⟩ (an _ (by omega) (by omega))
          · rw [a0] at i2
            by_cases hi : i = b
            · have t0 := ab 0 (by omega) (by omega)
              rw [if_neg (by decide), Int.add_zero] at t0
              have t1 := ab 1 (by omega) (by omega)
              rw [if_pos rfl] at t1
              rw [hi, t0, t1]
              exact ⟨q1, q2⟩
            · have hh := o2.2 i i1 (by omega)
              rw [an _ (by omega) (by omega), an _ (by omega) (by omega)]
              exact hh
          · refine ⟨by rw [an _ (by omega) (by omega)]; exact o3.1, fun i i1 i2 => ?_⟩
            rw [an _ (by omega) (by omega)] at i2
            have hh := o3.2 i i1 i2
            have hp := o3.1
            rw [a0, an _ (by omega) (by omega), an _ (by omega) (by omega), an _ (by omega) (by omega)]
            rw [hb] at hh
            exact ⟨⟨hh.1.1, by omega⟩, ⟨hh.2.1.1, by omega⟩, hh.2.2⟩
          · rw [cas_at]
            by_cases hi : i = 1
            · rw [if_pos hi, e2, hi, a0]
            · rw [if_neg hi, ccT_ne _ _ _ (by omega), an i hi (by omega)]
              exact r1.1 i i1 i2
          · rw [cas_at, if_neg (by omega), ccT_ne _ _ _ (by omega), an _ (by omega) (by omega)]
            exact r1.2 i i1 i2
          · by_cases hi : i = b
            · rw [hi, cas_ne _ _ _ (by omega), ccT_at, if_pos (by omega), ab j j1 j2]
              unfold tst
              by_cases t1 : j = 1
              · rw [if_pos t1, if_pos t1]
              · rw [if_neg t1, if_neg t1, if_pos (by omega)]
            · rw [sn _ _ _ (by omega) (by omega), an _ (by omega) (by omega)]
              exact r4 i j i1 i2 j1 j2
    · rw [decide_eq_false q2, if_neg (by decide), if_neg (by decide)]
      exact ⟨_, _, _, rfl, rfl, R.rf⟩
  · rw [decide_eq_false q1, if_neg (by decide), if_neg (by decide)]
    exact ⟨_, _, _, rfl, rfl, R.rf⟩
theorem op_pair {S : yS} {Sm : xS} {p1 p2 dl : Int} (R : RC S Sm) (hp1 : r32 p1) (hp2 : r32 p2) (hdl : r32 dl) : ∃ r S' Sm', C_pair S p1 p2 dl = some (r, S') ∧ M_pair Sm p1 p2 dl = some (r, Sm') ∧ RC S' Sm' ∧ kR S S' Sm Sm' := by
  have HC := R.HC
  obtain ⟨H, ew, eh⟩ := R.1
  obtain ⟨o1, o2, o3, o4, o5⟩ := R.2.1
  obtain ⟨r1, r2, r3, r4, r5, r6, r7⟩ := R.2.2.1
  have h1 := wh_bd H
  have w1 := H.1
  have w2 := H.2
  have n0 := R.n0 (k := 2) (by decide)
  have n1 := R.n0 (k := 1) (by decide)
  have hn1 := o2.1
  have hn : 0 ≤ Sm.2 2 2 ∧ Sm.2 2 2 ≤ 16 := o3.1
  unfold C_pair M_pair
  rw [C_isOne_e (by decide) hp1 (by omega), M_isLens_e hp1 hn1, bd_some, bd_some, n1]
  by_cases q1 : 0 ≤ p1 ∧ p1 ≤ Sm.2 2 1 - 1
  · rw [decide_eq_true q1, if_pos rfl, if_pos rfl]
    rw [C_isOne_e (by decide) hp2 (by omega), M_isLens_e hp2 hn1, bd_some, bd_some, n1]
    by_cases q2 : 0 ≤ p2 ∧ p2 ≤ Sm.2 2 1 - 1
    · rw [decide_eq_true q2, if_pos rfl, if_pos rfl]
      rw [gd_pos (And.intro hp1 hp2), gd_pos (And.intro hp1 hp2)]
      by_cases qe : p1 = p2
      · rw [if_pos qe, if_pos qe]
        exact ⟨_, _, _, rfl, rfl, R.rf⟩
      rw [if_neg qe, if_neg qe]
      rw [C_in_e hdl (by decide) (by decide), M_isIn_e hdl (by decide) (by decide), bd_some, bd_some]
      by_cases q3 : 1 ≤ dl ∧ dl ≤ 8
      · rw [decide_eq_true q3, if_pos rfl, if_pos rfl]
        rw [n0, gd_pos ⟨by omega, by omega⟩, gd_pos ⟨by omega, by omega⟩]
        by_cases q4 : Sm.2 2 2 = 16
        · rw [if_pos q4, if_pos q4]
          exact ⟨_, _, _, rfl, rfl, R.rf⟩
        · rw [if_neg q4, if_neg q4, nm_eq, gd_pos (by omega), nm_eq, nm_eq, nm_eq, nm_eq]
          unfold C_adds28
          rw [gd_pos (by decide), nm_eq, gd_pos (by decide), gd_pos (by decide), nm_eq, gd_pos (by decide), bd2_some]
          rw [nm_eq, gd_pos (by omega), nm_eq, gd_pos (by omega), nm_eq, gd_pos (by omega), nm_eq, nm_eq]
          generalize hb : Sm.2 2 2 = b at *
          have e2 : ∀ (f : Int → Int), (ccT S (28 + 1 + b) 3 f).2 2 2 = b := fun f => by rw [ccT_ne _ _ _ (by omega)]; exact n0
          refine ex3 rfl rfl ?_ ?_
          · rw [aset_at, if_pos rfl, cas_at, if_pos rfl, e2]
            simp only [aset_at]
            rw [if_neg (by omega), if_neg (by omega), if_neg (by omega), hb]
          · have an : ∀ j, j ≠ 2 → (j < 660 + 3 * b ∨ 660 + 3 * b + 3 ≤ j) → (aset (aset (aset (aset Sm 2 (660 + 3 * b) p1) 2 (660 + 3 * b + 1) p2) 2 (660 + 3 * b + 2) dl) 2 2 ((aset (aset (aset Sm 2 (660 + 3 * b) p1) 2 (660 + 3 * b + 1) p2) 2 (660 + 3 * b + 2) dl).2 2 2 + 1)).2 2 j = Sm.2 2 j := fun j j1 j2 => by
              simp only [aset_at]
              rw [if_neg j1, if_neg (by omega), if_neg (by omega), if_neg (by omega)]
            have a0 : (aset (aset (aset (aset Sm 2 (660 + 3 * b) p1) 2 (660 + 3 * b + 1) p2) 2 (660 + 3 * b + 2) dl) 2 2 ((aset (aset (aset Sm 2 (660 + 3 * b) p1) 2 (660 + 3 * b + 1) p2) 2 (660 + 3 * b + 2) dl).2 2 2 + 1)).2 2 2 = b + 1 := by
              simp only [aset_at]
              rw [if_pos trivial, if_neg (by omega), if_neg (by omega), if_neg (by omega), hb]
            have ab : ∀ j, 0 ≤ j → j < 3 → (aset (aset (aset (aset Sm 2 (660 + 3 * b) p1) 2 (660 + 3 * b + 1) p2) 2 (660 + 3 * b + 2) dl) 2 2 ((aset (aset (aset Sm 2 (660 + 3 * b) p1) 2 (660 + 3 * b + 1) p2) 2 (660 + 3 * b + 2) dl).2 2 2 + 1)).2 2 (660 + 3 * b + j) = if j = 2 then dl else if j = 1 then p2 else p1 := fun j j1 j2 => by
              simp only [aset_at]
              rw [if_neg (by omega)]
              by_cases t2 : j = 2
              · rw [if_pos (by omega), if_pos t2]
              rw [if_neg (by omega), if_neg t2]
              by_cases t1 : j = 1
              · rw [if_pos (by omega), if_pos t1]
              · rw [if_neg (by omega), if_neg t1, if_pos (by omega)]
            generalize hM : aset (aset (aset (aset Sm 2 (660 + 3 * b) p1) 2 (660 + 3 * b + 1) p2) 2 (660 + 3 * b + 2) dl) 2 2 ((aset (aset (aset Sm 2 (660 + 3 * b) p1) 2 (660 + 3 * b + 1) p2) 2 (660 + 3 * b + 2) dl).2 2 2 + 1) = M' at an a0 ab ⊢
            have mk : ∀ j, j ≠ 2 → M'.2 j = Sm.2 j := fun j hj => by rw [← hM]; simp only [aset_ne _ _ _ hj]
            have m1 : M'.1 = Sm.1 := by rw [← hM]; rfl
            have sn : ∀ (f : Int → Int) (z q : Int), q ≠ 2 → q ≠ 28 + 1 + b → (cas (ccT S (28 + 1 + b) 3 f) 2 2 z).2 q = S.2 q := fun f z q h2 h3 => by rw [cas_ne _ _ _ h2, ccT_ne _ _ _ h3]
            refine R.now rfl m1 (mk 3 (by decide)) (mk 4 (by decide)) (mk 9 (by decide)) (mk 36 (by decide)) (fun q hq => sn _ _ q (by omega) (by omega)) ⟨o1.cg (an _ (by omega) (by omega)) (fun i _ _ => an i (by omega) (by omega)), o2.cg (an _ (by omega) (by omega)) (fun i _ _ => an i (by omega) (by omega)), ⟨by rw [a0]; omega, fun i i1 i2 => ?_⟩, o4.cg (an _ (by omega) (by omega)) (fun i _ _ => an i (by omega) (by omega)), o5.cg (an _ (by omega) (by omega)) (fun i _ _ => an i (by omega) (by omega))⟩ ⟨⟨fun i i1 i2 => ?_, fun i i1 i2 => ?_⟩, r2.cg (sn _ _ _ (by omega) (by omega)) (fun i _ _ => an i (by omega) (by omega)), r3.cg (fun q _ _ => sn _ _ _ (by omega) (by omega)) (fun i _ _ => an i (by omega) (by omega)), r4.cg (fun q _ _ => sn _ _ _ (by omega) (by omega)) (fun i _ _ => an i (by omega) (by omega)), fun i j i1 i2 j1 j2 => ?_, r6.cg (fun q _ _ => sn _ _ _ (by omega) (by omega)) (fun i _ _ => an i (by omega) (by omega)), r7.cg (by have := o5.2; omega) (by have := o5.2; omega) (by have := o5.2; omega) (fun q _ _ => sn _ _ _ (by omega) (by omega)) (fun i _ _ => an i (by omega) (by omega))⟩ (an _ (by omega) (by omega))
            · rw [a0] at i2
              by_cases hi : i = b
              · have t0 := ab 0 (by omega) (by omega)
                rw [if_neg (by decide), if_neg (by decide), Int.add_zero] at t0
                have t1 := ab 1 (by omega) (by omega)
                rw [if_neg (by decide), if_pos rfl] at t1
                have t2 := ab 2 (by omega) (by omega)
                rw [if_pos rfl] at t2
                rw [hi, t0, t1, t2, an _ (by omega) (by omega)]
                exact ⟨by omega, by omega, q3⟩
              · have hh := o3.2 i i1 (by omega)
                rw [an _ (by omega) (by omega), an _ (by omega) (by omega), an _ (by omega) (by omega), an _ (by omega) (by omega)]
                exact hh
            · rw [cas_at]
              by_cases hi : i = 2
              · rw [if_pos hi, e2, hi, a0]
              · rw [if_neg hi, ccT_ne _ _ _ (by omega), an i hi (by omega)]
                exact r1.1 i i1 i2
            · rw [cas_at, if_neg (by omega), ccT_ne _ _ _ (by omega), an _ (by omega) (by omega)]
              exact r1.2 i i1 i2
            · by_cases hi : i = b
              · rw [hi, cas_ne _ _ _ (by omega), ccT_at, if_pos (by omega), ab j j1 j2]
                unfold tst
                by_cases t2 : j = 2
                · rw [if_pos t2, if_pos t2]
                rw [if_neg t2, if_neg t2]
                by_cases t1 : j = 1
                · rw [if_pos t1, if_pos t1]
                · rw [if_neg t1, if_neg t1, if_pos (by omega)]
              · rw [sn _ _ _ (by omega) (by omega), an _ (by omega) (by omega)]
                exact r5 i j i1 i2 j1 j2
      · rw [decide_eq_false q3, if_neg (by decide), if_neg (by decide)]
        exact ⟨_, _, _, rfl, rfl, R.rf⟩
    · rw [decide_eq_false q2, if_neg (by decide), if_neg (by decide)]
      exact ⟨_, _, _, rfl, rfl, R.rf⟩
  · rw [decide_eq_false q1, if_neg (by decide), if_neg (by decide)]
    exact ⟨_, _, _, rfl, rfl, R.rf⟩
theorem op_read {S : yS} {Sm : xS} {x y hd : Int} (R : RC S Sm) (hx : r32 x) (hy : r32 y) (hhd : r32 hd) : ∃ r S' Sm', C_read S x y hd = some (r, S') ∧ M_read Sm x y hd = some (r, Sm') ∧ RC S' Sm' ∧ kR S S' Sm Sm' := by
  have HC := R.HC
  obtain ⟨H, ew, eh⟩ := R.1
  obtain ⟨o1, o2, o3, o4, o5⟩ := R.2.1
  obtain ⟨r1, r2, r3, r4, r5, r6, r7⟩ := R.2.2.1
  have h1 := wh_bd H
  have w1 := H.1
  have w2 := H.2
  have n0 := R.n0 (k := 4) (by decide)
  have n1 := R.n0 (k := 1) (by decide)
  have hn1 := o2.1
  have hn : 0 ≤ Sm.2 2 4 ∧ Sm.2 2 4 ≤ 6 := o4.1
  unfold C_read M_read
  rw [C_isPlace_e HC hx hy, M_isPlace_e H hx hy, bd_some, bd_some, ew, eh]
  by_cases q1 : okP (Sm.1 0) (Sm.1 1) x y
  · rw [decide_eq_true q1, if_pos rfl, if_pos rfl]
    rw [C_isHead_e hhd, M_isSide_e hhd, bd_some, bd_some]
    by_cases q2 : 0 ≤ hd ∧ hd ≤ 63
    · rw [decide_eq_true q2, if_pos rfl, if_pos rfl]
      rw [n0, gd_pos ⟨by omega, by omega⟩, gd_pos ⟨by omega, by omega⟩]
      by_cases q4 : Sm.2 2 4 = 6
      · rw [if_pos q4, if_pos q4]
        exact ⟨_, _, _, rfl, rfl, R.rf⟩
      · rw [if_neg q4, if_neg q4, nm_eq, gd_pos (by omega), nm_eq, nm_eq, nm_eq, nm_eq, nm_eq]
        unfold C_adds45
        rw [gd_pos (by decide), nm_eq, gd_pos (by decide), gd_pos (by decide), nm_eq, gd_pos (by decide), bd2_some]
        rw [nm_eq, gd_pos (by omega), nm_eq, gd_pos (by omega), nm_eq, gd_pos (by omega), nm_eq, gd_pos (by omega), nm_eq, nm_eq]
        generalize hb : Sm.2 2 4 = b at *
        have e2 : ∀ (f : Int → Int), (ccT S (45 + 1 + b) 4 f).2 2 4 = b := fun f => by rw [ccT_ne _ _ _ (by omega)]; exact n0
        refine ex3 rfl rfl ?_ ?_
        · rw [aset_at, if_pos rfl, cas_at, if_pos rfl, e2]
          simp only [aset_at]
          rw [if_neg (by omega), if_neg (by omega), if_neg (by omega), if_neg (by omega), hb]
        · have an : ∀ j, j ≠ 4 → (j < 720 + 24 * b ∨ 720 + 24 * b + 4 ≤ j) → (aset (aset (aset (aset (aset Sm 2 (720 + 24 * b) x) 2 (720 + 24 * b + 1) y) 2 (720 + 24 * b + 2) hd) 2 (720 + 24 * b + 3) 0) 2 4 ((aset (aset (aset (aset Sm 2 (720 + 24 * b) x) 2 (720 + 24 * b + 1) y) 2 (720 + 24 * b + 2) hd) 2 (720 + 24 * b + 3) 0).2 2 4 + 1)).2 2 j = Sm.2 2 j := fun j j1 j2 => by
            simp only [aset_at]
            rw [if_neg j1, if_neg (by omega), if_neg (by omega), if_neg (by omega), if_neg (by omega)]
          have a0 : (aset (aset (aset (aset (aset Sm 2 (720 + 24 * b) x) 2 (720 + 24 * b + 1) y) 2 (720 + 24 * b + 2) hd) 2 (720 + 24 * b + 3) 0) 2 4 ((aset (aset (aset (aset Sm 2 (720 + 24 * b) x) 2 (720 + 24 * b + 1) y) 2 (720 + 24 * b + 2) hd) 2 (720 + 24 * b + 3) 0).2 2 4 + 1)).2 2 4 = b + 1 := by
            simp only [aset_at]
            rw [if_pos trivial, if_neg (by omega), if_neg (by omega), if_neg (by omega), if_neg (by omega), hb]
          have ab : ∀ j, 0 ≤ j → j < 4 → (aset (aset (aset (aset (aset Sm 2 (720 + 24 * b) x) 2 (720 + 24 * b + 1) y) 2 (720 + 24 * b + 2) hd) 2 (720 + 24 * b + 3) 0) 2 4 ((aset (aset (aset (aset Sm 2 (720 + 24 * b) x) 2 (720 + 24 * b + 1) y) 2 (720 + 24 * b + 2) hd) 2 (720 + 24 * b + 3) 0).2 2 4 + 1)).2 2 (720 + 24 * b + j) = if j = 3 then 0 else if j = 2 then hd else if j = 1 then y else x := fun j j1 j2 => by
            simp only [aset_at]
            rw [if_neg (by omega)]
            by_cases t3 : j = 3
            · rw [if_pos (by omega), if_pos t3]
            rw [if_neg (by omega), if_neg t3]
            by_cases t2 : j = 2
            · rw [if_pos (by omega), if_pos t2]
            rw [if_neg (by omega), if_neg t2]
            by_cases t1 : j = 1
            · rw [if_pos (by omega), if_pos t1]
            · rw [if_neg (by omega), if_neg t1, if_pos (by omega)]
          generalize hM : aset (aset (aset (aset (aset Sm 2 (720 + 24 * b) x) 2 (720 + 24 * b + 1) y) 2 (720 + 24 * b + 2) hd) 2 (720 + 24 * b + 3) 0) 2 4 ((aset (aset (aset (aset Sm 2 (720 + 24 * b) x) 2 (720 + 24 * b + 1) y) 2 (720 + 24 * b + 2) hd) 2 (720 + 24 * b + 3) 0).2 2 4 + 1) = M' at an a0 ab ⊢
          have mk : ∀ j, j ≠ 2 → M'.2 j = Sm.2 j := fun j hj => by rw [← hM]; simp only [aset_ne _ _ _ hj]
          have m1 : M'.1 = Sm.1 := by rw [← hM]; rfl
          have sn : ∀ (f : Int → Int) (z q : Int), q ≠ 2 → q ≠ 45 + 1 + b → (cas (ccT S (45 + 1 + b) 4 f) 2 4 z).2 q = S.2 q := fun f z q h2 h3 => by rw [cas_ne _ _ _ h2, ccT_ne _ _ _ h3]
          refine R.now rfl m1 (mk 3 (by decide)) (mk 4 (by decide)) (mk 9 (by decide)) (mk 36 (by decide)) (fun q hq => sn _ _ q (by omega) (by omega)) ⟨o1.cg (an _ (by omega) (by omega)) (fun i _ _ => an i (by omega) (by omega)), o2.cg (an _ (by omega) (by omega)) (fun i _ _ => an i (by omega) (by omega)), o3.cg (an _ (by omega) (by omega)) (an _ (by omega) (by omega)) (fun i _ _ => an i (by omega) (by omega)), ⟨by rw [a0]; omega, fun i i1 i2 => ?_, fun i i1 i2 => ?_⟩, o5.cg (an _ (by omega) (by omega)) (fun i _ _ => an i (by omega) (by omega))⟩ ⟨⟨fun i i1 i2 => ?_, fun i i1 i2 => ?_⟩, r2.cg (sn _ _ _ (by omega) (by omega)) (fun i _ _ => an i (by omega) (by omega)), r3.cg (fun q _ _ => sn _ _ _ (by omega) (by omega)) (fun i _ _ => an i (by omega) (by omega)), r4.cg (fun q _ _ => sn _ _ _ (by omega) (by omega)) (fun i _ _ => an i (by omega) (by omega)), r5.cg (fun q _ _ => sn _ _ _ (by omega) (by omega)) (fun i _ _ => an i (by omega) (by omega)), fun i j i1 i2 j1 j2 => ?_, r7.cg (by have := o5.2; omega) (by have := o5.2; omega) (by have := o5.2; omega) (fun q _ _ => sn _ _ _ (by omega) (by omega)) (fun i _ _ => an i (by omega) (by omega))⟩ (an _ (by omega) (by omega))
          · rw [a0] at i2
            by_cases hi : i = b
            · have t0 := ab 0 (by omega) (by omega)
              rw [if_neg (by decide), if_neg (by decide), if_neg (by decide), Int.add_zero] at t0
              have t1 := ab 1 (by omega) (by omega)
              rw [if_neg (by decide), if_neg (by decide), if_pos rfl] at t1
              have t2 := ab 2 (by omega) (by omega)
              rw [if_neg (by decide), if_pos rfl] at t2
              have t3 := ab 3 (by omega) (by omega)
              rw [if_pos rfl] at t3
              rw [hi, t0, t1, t2, t3]
              exact ⟨q1, q2, by omega⟩
            · have hh := o4.2.1 i i1 (by omega)
              rw [an _ (by omega) (by omega), an _ (by omega) (by omega), an _ (by omega) (by omega), an _ (by omega) (by omega)]
              exact hh
          · by_cases hi : 720 + 24 * b ≤ i ∧ i < 720 + 24 * b + 4
            · have t := ab (i - (720 + 24 * b)) (by omega) (by omega)
              rw [show 720 + 24 * b + (i - (720 + 24 * b)) = i by omega] at t
              rw [t]
              split
              · decide
              · split
                · exact hhd
                · split
                  · exact hy
                  · exact hx
            · rw [an _ (by omega) (by omega)]
              exact o4.2.2 i i1 i2
          · rw [cas_at]
            by_cases hi : i = 4
            · rw [if_pos hi, e2, hi, a0]
            · rw [if_neg hi, ccT_ne _ _ _ (by omega), an i hi (by omega)]
              exact r1.1 i i1 i2
          · rw [cas_at, if_neg (by omega), ccT_ne _ _ _ (by omega), an _ (by omega) (by omega)]
            exact r1.2 i i1 i2
          · by_cases hi : i = b
            · rw [hi, cas_ne _ _ _ (by omega), ccT_at]
              by_cases hj4 : j < 4
              · rw [if_pos (by omega), ab j j1 hj4]
                unfold tst
                by_cases t3 : j = 3
                · rw [if_pos t3, if_pos t3]
                rw [if_neg t3, if_neg t3]
                by_cases t2 : j = 2
                · rw [if_pos t2, if_pos t2]
                rw [if_neg t2, if_neg t2]
                by_cases t1 : j = 1
                · rw [if_pos t1, if_pos t1]
                · rw [if_neg t1, if_neg t1, if_pos (by omega)]
              · rw [if_neg (by omega), an _ (by omega) (by omega)]
                exact r6 b j (by omega) (by omega) j1 j2
            · rw [sn _ _ _ (by omega) (by omega), an _ (by omega) (by omega)]
              exact r6 i j i1 i2 j1 j2
    · rw [decide_eq_false q2, if_neg (by decide), if_neg (by decide)]
      exact ⟨_, _, _, rfl, rfl, R.rf⟩
  · rw [decide_eq_false q1, if_neg (by decide), if_neg (by decide)]
    exact ⟨_, _, _, rfl, rfl, R.rf⟩
