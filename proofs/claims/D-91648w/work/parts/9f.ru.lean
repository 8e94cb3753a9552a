set_option maxRecDepth 100000
theorem RC.ru {S S' : yS} {Sm Sm' : xS} (R : RC S Sm) (h0 : Sm'.1 0 = Sm.1 0) (h1 : Sm'.1 1 = Sm.1 1) (s2 : S'.1 2 = S.1 2) (s3 : S'.1 3 = S.1 3) (s5 : S'.1 5 = 0) (m10 : Sm'.1 10 = 0) (s6 : S'.1 6 = Sm'.1 11) (s7 : S'.1 7 = Sm'.1 12) (r6 : r32 (Sm'.1 11)) (r7 : r32 (Sm'.1 12)) (m3 : Sm'.2 3 = Sm.2 3) (m9 : Sm'.2 9 = Sm.2 9) (sA : ∀ q, q ≠ 2 → S'.2 q = S.2 q) (cm : ∀ i, i ≠ 3 → Sm'.2 2 i = Sm.2 2 i) (cs : ∀ i, i ≠ 3 → S'.2 2 i = S.2 2 i) (e3 : S'.2 2 3 = Sm'.2 2 3) (b3 : 0 ≤ Sm'.2 2 3 ∧ Sm'.2 2 3 ≤ 8) : RC S' Sm' := by
  obtain ⟨⟨w1, w2, w3⟩, o1, r1, o2, r2, t1, t2, t3, t4, t5, t6, t7⟩ := R
  obtain ⟨p1, p2, p3, p4, p5⟩ := o1
  obtain ⟨q1, q2, q3, q4, q5, q6, q7⟩ := r1
  refine ⟨⟨by rw [h0, h1]; exact w1, by rw [s2, h0]; exact w2, by rw [s3, h1]; exact w3⟩, ?_, ?_, by rw [h0, h1, m3]; exact o2, ?_, by rw [s5, m10], by rw [m10]; decide, fun i i1 i2 => by rw [m9, sA 471 (by decide)]; exact t3 i i1 i2, s6, s7, r6, r7⟩
  · rw [h0, h1]
    refine ⟨p1.cg (cm 0 (by decide)) (fun i a b => cm i (by omega)), p2.cg (cm 1 (by decide)) (fun i a b => cm i (by omega)), p3.cg (cm 1 (by decide)) (cm 2 (by decide)) (fun i a b => cm i (by omega)), p4.cg (cm 4 (by decide)) (fun i a b => cm i (by omega)), b3, ?_, ?_, ?_⟩
    · rw [cm 880 (by decide)]; exact p5.2.1
    · rw [cm 887 (by decide)]; exact p5.2.2.1
    · rw [cm 888 (by decide)]; exact p5.2.2.2
  · refine ⟨⟨fun k k1 k2 => ?_, fun k k1 k2 => by rw [cs _ (by omega), cm _ (by omega)]; exact q1.2 k k1 k2⟩, q2.cg (sA 3 (by decide)) (fun i a b => cm i (by omega)), q3.cg (fun q a b => sA q (by omega)) (fun i a b => cm i (by omega)), q4.cg (fun q a b => sA q (by omega)) (fun i a b => cm i (by omega)), q5.cg (fun q a b => sA q (by omega)) (fun i a b => cm i (by omega)), q6.cg (fun q a b => sA q (by omega)) (fun i a b => cm i (by omega)), q7.cg p5.2.1.2 p5.2.2.1.2 p5.2.2.2.2 (fun q a b => sA q (by omega)) (fun i a b => cm i (by omega))⟩
    by_cases h : k = 3
    · rw [h]; exact e3
    · rw [cs k h, cm k h]; exact q1.1 k k1 k2
  · rw [m3]
    obtain ⟨h1, h2, h3, h4, h5, h6, h7⟩ := r2
    have c := o2.2.2.2.2
    exact ⟨h1.cg (sA _ (by decide)) (fun _ _ _ => rfl) (fun _ _ _ => rfl), h2.cg (sA _ (by decide)) (fun _ _ _ => rfl), h3.cg (fun q _ _ => sA _ (by omega)) (fun _ _ _ => rfl), h4.cg (fun q _ _ => sA _ (by omega)) (fun _ _ _ => rfl), h5.cg (fun q _ _ => sA _ (by omega)) (fun _ _ _ => rfl), h6.cg (fun q _ _ => sA _ (by omega)) (fun _ _ _ => rfl), h7.cg (by have := c.2; omega) (by have := c.2; omega) (by have := c.2; omega) (fun q _ _ => sA _ (by omega)) (fun _ _ _ => rfl)⟩
theorem op_rule8 {S : yS} {Sm : xS} {ed : Nat} {rs : List (List tCl)} {edI : Nat} {rsI : List (List tCl)} (h : JJ S Sm ed rs edI rsI) (h8 : rs.length = 8) : S.2 2 3 = 8 ∧ M_rule Sm = some (-1, Sm) := by
  obtain ⟨⟨R, hL, hl⟩, hI, hle⟩ := h
  have e1 : S.2 2 3 = Sm.2 2 3 := R.2.2.1.1.1 3 (by decide) (by decide)
  have e2 : Sm.2 2 3 = 8 := by rw [hL.2.2.1, h8]; rfl
  refine ⟨e1.trans e2, ?_⟩
  unfold M_rule
  rw [gd_pos (by rw [e2]; decide), if_pos e2]
theorem op_rule {S : yS} {Sm : xS} {ed : Nat} {rs : List (List tCl)} {edI : Nat} {rsI : List (List tCl)} (h : JJ S Sm ed rs edI rsI) (h7 : rs.length ≤ 7) : S.2 2 3 ≠ 8 ∧ r32 (S.2 2 3) ∧ ∃ x S0 k m, T_rd (T_sum 9) (T_either 9 9) (tk0S (S.1 5) (S.2 471)) = some (x, S0, k, m) ∧ (k : Int) ≤ 60 * S.1 5 + 80 ∧ (m : Int) ≤ 140 * S.1 5 + 260 ∧
    ((∃ f pl Sm', x = .inr (f, pl) ∧ M_rule Sm = some (-1, Sm') ∧ JJ (ruE S f pl) Sm' ed rs edI rsI) ∨ ∃ cs Sm', x = .inl cs ∧ M_rule Sm = some (S.2 2 3 + 1 - 1, Sm') ∧ r32 (S.2 2 3 + 1 - 1) ∧ ∀ (m : Int) (ed' : Nat), JJ (ruO S m ed' ((rs.length : Int) + 1)) Sm' ed' (rs ++ [cs]) edI rsI) := by
  obtain ⟨⟨R, hL, hl⟩, hI, hle⟩ := h
  have R' := R
  obtain ⟨⟨w1, w2, w3⟩, o1, r1, o2, r2, t1, t2, t3, t4, t5, t6, t7⟩ := R
  obtain ⟨l1, l2, l3, l4, l5⟩ := hL
  obtain ⟨i1, i2, i3, i4, i5⟩ := hI
  have e1 : S.2 2 3 = Sm.2 2 3 := r1.1.1 3 (by decide) (by decide)
  have b3 : 0 ≤ Sm.2 2 3 ∧ Sm.2 2 3 ≤ 7 := by rw [l3]; omega
  obtain ⟨x, S0, k, m, f, X, c1, c2, c3, c4, c5, c6, c7, c8, c9⟩ := read_ok (Sm := Sm) (n := S.1 5) (tx := S.2 471) t1 (by rw [t1]; exact t2) t3 b3
  refine ⟨by rw [e1]; omega, by rw [e1]; unfold r32; omega, x, S0, k, m, c1, c7, c8, ?_⟩
  have hM : M_rule Sm = nm (fset X 11 f) (fun S6 => gd (r32 (S6.1 11)) (if (S6.1 11) = 0 then (M_rule_B37 S6 ((-1) : Int)) else (M_rule_B37 S6 (S6.1 14)))) := by
    unfold M_rule
    rw [gd_pos (by unfold r32; omega), if_neg (by omega), c2, bd2_some]
  rcases c9 with ⟨cs, rfl, rfl, d1, d2⟩ | ⟨pl, rfl, d1, d2, d3⟩
  · refine Or.inr ⟨cs, aset (aset (fset (fset (fset X 11 0) 12 (-1)) 10 0) 4 (800 * Sm.2 2 3) (cs.length : Int)) 2 3 (Sm.2 2 3 + 1), rfl, ?_, by rw [e1]; unfold r32; omega, fun m' ed' => ?_⟩
    · rw [hM, nm_eq, gd_pos (show r32 ((fset X 11 0).1 11) from (by show r32 0; decide)), if_pos (show (fset X 11 0).1 11 = 0 from rfl)]
      unfold M_rule_B37
      have g18 : (fset (fset (fset X 11 0) 12 (-1)) 10 0).1 18 = 800 * Sm.2 2 3 := c4
      have g19 : (fset (fset (fset X 11 0) 12 (-1)) 10 0).1 19 = (cs.length : Int) := d1
      have g2 : (fset (fset (fset X 11 0) 12 (-1)) 10 0).2 2 = Sm.2 2 := c5 2 (by decide) (by decide)
      rw [nm_eq, nm_eq, gd_pos (show r32 ((fset (fset (fset X 11 0) 12 (-1)) 10 0).1 11) from (by show r32 0; decide)), if_pos (show (fset (fset (fset X 11 0) 12 (-1)) 10 0).1 11 = 0 from rfl), g18, g19, gd_pos (by omega), nm_eq, nm_eq]
      have g3 : (aset (fset (fset (fset X 11 0) 12 (-1)) 10 0) 4 (800 * Sm.2 2 3) (cs.length : Int)).2 2 3 = Sm.2 2 3 := by rw [aset_ne _ _ _ (by decide), g2]
      rw [g3, aset_at, if_pos rfl, e1]
    · obtain ⟨Y, hY⟩ : ∃ Y : xS, Y = aset (aset (fset (fset (fset X 11 0) 12 (-1)) 10 0) 4 (800 * Sm.2 2 3) (cs.length : Int)) 2 3 (Sm.2 2 3 + 1) := ⟨_, rfl⟩
      rw [← hY]
      have y1 : ∀ j, (j < 10 ∨ 26 < j) → Y.1 j = Sm.1 j := by
        intro j hj
        rw [← c3 j (by omega), hY]
        show (if j = 10 then _ else if j = 12 then _ else if j = 11 then _ else X.1 j) = _
        rw [if_neg (by omega), if_neg (by omega), if_neg (by omega)]
      have y10 : Y.1 10 = 0 ∧ Y.1 11 = 0 ∧ Y.1 12 = -1 := by rw [hY]; exact ⟨rfl, rfl, rfl⟩
      have y2 : ∀ q, q ≠ 2 → q ≠ 4 → q ≠ 23 → Y.2 q = Sm.2 q := by
        intro q a b c
        rw [hY, aset_ne _ _ _ a, aset_ne _ _ _ b]
        exact c5 q b c
      have y22 : ∀ i, Y.2 2 i = if i = 3 then Sm.2 2 3 + 1 else Sm.2 2 i := by
        intro i
        rw [hY, aset_at, aset_ne _ _ _ (by decide)]
        show (if i = 3 then _ else X.2 2 i) = _
        rw [c5 2 (by decide) (by decide)]
      have y4 : ∀ i, Y.2 4 i = if i = 800 * Sm.2 2 3 then (cs.length : Int) else X.2 4 i := by
        intro i
        rw [hY, aset_ne _ _ _ (by decide), aset_at]
        rfl
      have y4o : ∀ i, ¬ (800 * Sm.2 2 3 ≤ i ∧ i < 800 * Sm.2 2 3 + 800) → Y.2 4 i = Sm.2 4 i := by
        intro i hi
        rw [y4, if_neg (by omega), c6 i hi]
      have hlt : ∀ (r : Nat) (hr : r < rs.length), RuleR (Y.2 4) (800 * (r : Int)) rs[r] ∧ Y.2 4 (800 * (r : Int)) = (rs[r].length : Int) := by
        intro r hr
        obtain ⟨a, b⟩ := l5 r hr
        exact ⟨a.cong (fun j j1 j2 => y4o j (by rw [l3]; omega)), by rw [y4o _ (by rw [l3]; omega)]; exact b⟩
      have hltI : ∀ (r : Nat) (hr : r < rsI.length), RuleR (Y.2 4) (800 * (r : Int)) rsI[r] ∧ Y.2 4 (800 * (r : Int)) = (rsI[r].length : Int) := by
        intro r hr
        obtain ⟨a, b⟩ := i5 r hr
        exact ⟨a.cong (fun j j1 j2 => y4o j (by rw [l3]; omega)), by rw [y4o _ (by rw [l3]; omega)]; exact b⟩
      have hlen : ((rs ++ [cs]).length : Int) = (rs.length : Int) + 1 := by rw [List.length_append]; rfl
      refine ⟨⟨R'.ru (y1 0 (by decide)) (y1 1 (by decide)) rfl rfl rfl y10.1 (by rw [y10.2.1]; rfl) (by rw [y10.2.2]; rfl) (by rw [y10.2.1]; decide) (by rw [y10.2.2]; decide) (y2 3 (by decide) (by decide) (by decide)) (y2 9 (by decide) (by decide) (by decide)) (fun q hq => ?_) (fun i hi => by rw [y22, if_neg hi]) (fun i hi => ?_) ?_ ?_, ⟨rfl, hlen.symm, ?_, ?_, fun r hr => ?_⟩, fun k k0 k1 => ?_⟩, ⟨i1, i2, ?_, i4, hltI⟩, ?_⟩
      · show (if q = 2 then _ else S.2 q) = _
        rw [if_neg hq]
      · show (if (2 : Int) = 2 then (fun r : Int => if r = 3 then S.2 2 3 + 1 else S.2 2 r) else S.2 2) i = _
        rw [if_pos rfl]
        show (if i = 3 then _ else S.2 2 i) = _
        rw [if_neg hi]
      · rw [y22, if_pos rfl, ← e1]
        rfl
      · rw [y22, if_pos rfl]; omega
      · rw [y22, if_pos rfl, hlen, l3]
      · rw [List.length_append]; show rs.length + 1 ≤ 8; omega
      · by_cases q : r < rs.length
        · rw [List.getElem_append_left q]
          exact hlt r q
        · have hr' : r = rs.length := by rw [List.length_append] at hr; change r < rs.length + 1 at hr; omega
          subst hr'
          rw [List.getElem_append_right (Nat.le_refl _)]
          simp only [Nat.sub_self, List.getElem_cons_zero]
          rw [← l3]
          exact ⟨d2.cong (fun j j1 j2 => by rw [y4, if_neg (by omega)]), by rw [y4, if_pos rfl]⟩
      · show S.2 661 k = _ ∧ _
        rw [y2 36 (by decide) (by decide) (by decide)]
        exact hl k k0 k1
      · rw [y2 3 (by decide) (by decide) (by decide)]; exact i3
      · rw [List.length_append]; omega
  · refine Or.inl ⟨f, pl, fset (fset (fset X 11 f) 12 pl) 10 0, rfl, ?_, ?_⟩
    · have g14 : (fset X 11 f).1 14 = pl := d2
      rw [hM, nm_eq, gd_pos (show r32 ((fset X 11 f).1 11) from (by show r32 f; unfold r32; omega)), if_neg (show ¬ (fset X 11 f).1 11 = 0 from fun z => by have z : f = 0 := z; omega), g14]
      unfold M_rule_B37
      rw [nm_eq, nm_eq, gd_pos (show r32 ((fset (fset (fset X 11 f) 12 pl) 10 0).1 11) from (by show r32 f; unfold r32; omega)), if_neg (show ¬ (fset (fset (fset X 11 f) 12 pl) 10 0).1 11 = 0 from fun z => by have z : f = 0 := z; omega)]
    · obtain ⟨Y, hY⟩ : ∃ Y : xS, Y = fset (fset (fset X 11 f) 12 pl) 10 0 := ⟨_, rfl⟩
      rw [← hY]
      have y1 : ∀ j, (j < 10 ∨ 26 < j) → Y.1 j = Sm.1 j := by
        intro j hj
        rw [← c3 j (by omega), hY]
        show (if j = 10 then _ else if j = 12 then _ else if j = 11 then _ else X.1 j) = _
        rw [if_neg (by omega), if_neg (by omega), if_neg (by omega)]
      have y10 : Y.1 10 = 0 ∧ Y.1 11 = f ∧ Y.1 12 = pl := by rw [hY]; exact ⟨rfl, rfl, rfl⟩
      have y2 : ∀ q, q ≠ 4 → q ≠ 23 → Y.2 q = Sm.2 q := by
        intro q b c
        rw [hY]
        exact c5 q b c
      have y4o : ∀ i, ¬ (800 * Sm.2 2 3 ≤ i ∧ i < 800 * Sm.2 2 3 + 800) → Y.2 4 i = Sm.2 4 i := by
        intro i hi
        rw [hY]
        exact c6 i hi
      have y22 : Y.2 2 = Sm.2 2 := y2 2 (by decide) (by decide)
      refine ⟨⟨R'.ru (y1 0 (by decide)) (y1 1 (by decide)) rfl rfl rfl y10.1 (by rw [y10.2.1]; rfl) (by rw [y10.2.2]; rfl) (by rw [y10.2.1]; unfold r32; omega) (by rw [y10.2.2]; exact d3) (y2 3 (by decide) (by decide)) (y2 9 (by decide) (by decide)) (fun q hq => rfl) (fun i hi => by rw [y22]) (fun i hi => rfl) (by rw [y22]; exact e1) (by rw [y22]; omega), ⟨l1, l2, by rw [y22]; exact l3, l4, fun r hr => ?_⟩, fun k k0 k1 => ?_⟩, ⟨i1, i2, by rw [y2 3 (by decide) (by decide)]; exact i3, i4, fun r hr => ?_⟩, hle⟩
      · obtain ⟨a, b⟩ := l5 r hr
        exact ⟨a.cong (fun j j1 j2 => y4o j (by rw [l3]; omega)), by rw [y4o _ (by rw [l3]; omega)]; exact b⟩
      · show S.2 661 k = _ ∧ _
        rw [y2 36 (by decide) (by decide)]
        exact hl k k0 k1
      · obtain ⟨a, b⟩ := i5 r hr
        exact ⟨a.cong (fun j j1 j2 => y4o j (by rw [l3]; omega)), by rw [y4o _ (by rw [l3]; omega)]; exact b⟩
