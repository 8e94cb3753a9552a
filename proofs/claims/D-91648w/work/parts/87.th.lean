set_option maxRecDepth 100000
theorem codeR.sub {f : Int → Int} {b : Int} {a c d : List (Int × Int)} (h : codeR f b (a ++ c ++ d)) : codeR f (b + 2 * (a.length : Int)) c := by
  intro i hi
  have := h (a.length + i) (by simp only [List.length_append]; omega)
  rw [show b + 2 * (a.length : Int) + 2 * (i : Int) = b + 2 * ((a.length + i : Nat) : Int) by omega]
  have e : (a ++ c ++ d)[a.length + i]'(by simp only [List.length_append]; omega) = c[i] := by
    rw [List.getElem_append_left (by simp only [List.length_append]; omega), List.getElem_append_right (by omega)]
    simp
  rw [e] at this
  exact this
/-- what thinking leaves alone -/
def thF (S S' : yS) : Prop := (∀ a, a ≠ 661 → S'.2 a = S.2 a) ∧ ∀ k, k ≠ 24 → k ≠ 19 → S'.1 k = S.1 k
def thM (S S' : xS) : Prop := (∀ k, k ≠ 28 → k ≠ 40 → k ≠ 41 → S'.1 k = S.1 k) ∧ ∀ a, a ≠ 36 → a ≠ 37 → a ≠ 38 → S'.2 a = S.2 a
theorem thF.rfl_ (S : yS) : thF S S := ⟨fun _ _ => rfl, fun _ _ _ => rfl⟩
theorem thM.rfl_ (S : xS) : thM S S := ⟨fun _ _ _ _ => rfl, fun _ _ _ _ => rfl⟩
theorem thF.trans {S X Y : yS} (h : thF S X) (g : thF X Y) : thF S Y := ⟨fun a h1 => (g.1 a h1).trans (h.1 a h1), fun k a b => (g.2 k a b).trans (h.2 k a b)⟩
theorem thM.trans {S X Y : xS} (h : thM S X) (g : thM X Y) : thM S Y := ⟨fun k a b c => (g.1 k a b c).trans (h.1 k a b c), fun a a1 a2 a3 => (g.2 a a1 a2 a3).trans (h.2 a a1 a2 a3)⟩
theorem evF.th {S X : yS} (h : evF S X) : thF S X := ⟨fun a _ => by rw [h.1], fun k a _ => h.2 k a⟩
theorem evM.th {S X : xS} (h : evM S X) : thM S X := ⟨fun k a _ _ => h.1 k a, fun a _ a2 a3 => h.2 a a2 a3⟩
theorem ER.fr2 {S S' : yS} {Sm Sm' : xS} (h : ER S Sm) (h1 : thF S S') (h2 : thM Sm Sm') (ho : S'.1 24 = Sm'.1 28) (hl : ∀ k, 0 ≤ k → k < 8 → S'.2 661 k = Sm'.2 36 k ∧ (-1000000 ≤ Sm'.2 36 k ∧ Sm'.2 36 k ≤ 1000000)) : ER S' Sm' := by
  obtain ⟨a, b, c, d, e, f⟩ := h
  unfold ER
  rw [h1.1 659 (by decide), h1.1 660 (by decide), h1.2 25 (by decide) (by decide), h1.2 23 (by decide) (by decide), h2.1 27 (by decide) (by decide) (by decide), h2.1 39 (by decide) (by decide) (by decide), h2.2 35 (by decide) (by decide) (by decide), h2.2 2 (by decide) (by decide) (by decide)]
  exact ⟨a, ho, c, hl, e, f⟩
theorem clamp_e {lo hi z : Int} (h1 : r64 lo) (h2 : r64 hi) (hz : r64 z) (hlh : lo ≤ hi) : ∃ w, bd (Ma_min_2 hi z) (fun v => Ma_max_2 lo v) = some w ∧ w = (if z < lo then lo else if z ≤ hi then z else hi) := by
  unfold Ma_min_2 Ma_max_2
  rw [gd_pos ⟨h2, hz⟩]
  by_cases c1 : hi ≤ z
  · rw [if_pos c1, bd_some, gd_pos ⟨h1, h2⟩]
    refine ⟨hi, ?_, ?_⟩
    · by_cases c2 : lo < hi
      · rw [if_pos c2]
      · rw [if_neg c2, show lo = hi by omega]
    · rw [if_neg (by omega)]
      by_cases c3 : z ≤ hi
      · rw [if_pos c3]; omega
      · rw [if_neg c3]
  · rw [if_neg c1, bd_some, gd_pos ⟨h1, hz⟩]
    by_cases c2 : z < lo
    · refine ⟨lo, ?_, by rw [if_pos c2]⟩
      rw [if_neg (by omega)]
    · refine ⟨z, ?_, by rw [if_neg c2, if_pos (by omega)]⟩
      by_cases c3 : lo < z
      · rw [if_pos c3]
      · rw [if_neg c3, show lo = z by omega]
def tgO (tg : Int × Int) : Prop := (-8 ≤ tg.1 ∧ tg.1 ≤ 8) ∧ (0 ≤ tg.2 ∧ tg.2 ≤ 16)
theorem cl1_ok {S : yS} {Sm : xS} {c : tCl} {t : Int} {i off : Nat} {tg : Int × Int} (hE : ER S Sm) (hc : okC1 c) (ht : 0 ≤ t ∧ t ≤ 5600) (hcnt : (i : Int) < Sm.2 4 t ∧ Sm.2 4 t ≤ 10) (h1 : Sm.2 4 (t + 1 + 4 * (i : Int)) = c.1 - 199) (h2 : c.1 = 200 → Sm.2 4 (t + 1 + 4 * (i : Int) + 1) = c.2.1) (h3 : Sm.2 4 (t + 1 + 4 * (i : Int) + 2) = off) (h4 : Sm.2 4 (t + 1 + 4 * (i : Int) + 3) = ((off + c.2.2.length : Nat) : Int)) (hl : off + c.2.2.length ≤ 300) (hcd : codeR (Sm.2 4) (t + 80 + 2 * (off : Int)) c.2.2) (g1 : Sm.1 40 = tg.1) (g2 : Sm.1 41 = tg.2) (htg : tgO tg) (h19 : S.1 19 = 0 ∨ S.1 19 = 1) (K : xS → Int → Int → Option (Bool × xS)) : ∃ tg' S' Sm', C_cl1 c tg S = some (tg', S') ∧ M_think_b21 t K Sm (S.1 19) i = K Sm' (S'.1 19) ((i : Int) + 1) ∧ ER S' Sm' ∧ (Sm'.1 40 = tg'.1 ∧ Sm'.1 41 = tg'.2) ∧ tgO tg' ∧ (S'.1 19 = 0 ∨ S'.1 19 = 1) ∧ thF S S' ∧ thM Sm Sm' := by
  obtain ⟨so, le, code⟩ := c
  obtain ⟨hso, hA, hS, hle⟩ := hc
  dsimp only at h1 h2 h4 hl hcd hso hA hS hle
  have hW : WS S Sm [] [] := ⟨hE, trivial, trivial⟩
  unfold M_think_b21
  rw [gd_pos (by omega), gd_pos (by omega), if_pos hcnt.1, nm_eq, gd_pos (by omega), gd_pos (by omega), h3, h4]
  have b100 : ∀ (X : xS), X.2 4 = Sm.2 4 → so ≠ 201 → M_think_B100 K X t (S.1 19) i (t + 1 + 4 * (i : Int)) = M_think_B158 K X t (S.1 19) i (t + 1 + 4 * (i : Int)) := by
    intro X hX hn
    unfold M_think_B100
    rw [gd_pos (by omega), hX, h1, gd_pos (by omega), if_neg (by omega)]
  have b158 : ∀ (X : xS), X.2 4 = Sm.2 4 → so ≠ 202 → M_think_B158 K X t (S.1 19) i (t + 1 + 4 * (i : Int)) = M_think_B213 K X t (S.1 19) i (t + 1 + 4 * (i : Int)) := by
    intro X hX hn
    unfold M_think_B158
    rw [gd_pos (by omega), hX, h1, gd_pos (by omega), if_neg (by omega)]
  have b213 : ∀ (X : xS), X.2 4 = Sm.2 4 → so ≠ 203 → M_think_B213 K X t (S.1 19) i (t + 1 + 4 * (i : Int)) = K X (S.1 19) ((i : Int) + 1) := by
    intro X hX hn
    unfold M_think_B213
    rw [gd_pos (by omega), hX, h1, gd_pos (by omega), if_neg (by omega), nm_eq]
  by_cases c3 : so = 203
  · obtain ⟨vs', bs', S', X, w1, w2, w3, w4, w5, w6, w7⟩ := work_ok (x1 := t + 80) (x3 := ((off + code.length : Nat) : Int)) (by omega) (by omega) code (i := off) hW (hA c3 0 0) (by simp; omega) (by simp; omega) (by omega) hcd FU (by unfold FU; omega)
    match vs', bs', w4, w5 with
    | [], [b], _, _ =>
      have hwk : M_work Sm (t + 80) off ((off + code.length : Nat) : Int) = some X := w2
      have hX4 : X.2 4 = Sm.2 4 := w7.2 4 (by decide) (by decide)
      refine ⟨tg, cfs S' 19 (bz b), X, ?_, ?_, ?_, ?_, htg, ?_, ?_, w7.th⟩
      · unfold C_cl1
        rw [if_pos (show (so, le, code).1 = 203 from c3), w1, bd_some]
      · rw [hwk, bd_some, gd_pos (by omega), hX4, h1, gd_pos (by omega), if_neg (by omega), b100 X hX4 (by omega), b158 X hX4 (by omega)]
        unfold M_think_B213
        have hb0 : X.2 38 0 = bz b := w3.2.2.1
        rw [gd_pos (by omega), hX4, h1, gd_pos (by omega), if_pos (by omega), nm_eq, nm_eq, hb0, cfs_eq]
      · exact w3.1.fr2 (S' := cfs S' 19 (bz b)) ⟨fun _ _ => rfl, fun k _ k2 => cfs_ne _ _ k2⟩ (thM.rfl_ _) w3.1.2.1 w3.1.2.2.2.1
      · rw [w7.1 40 (by decide), w7.1 41 (by decide)]
        exact ⟨g1, g2⟩
      · rw [cfs_eq]; cases b
        · exact Or.inl rfl
        · exact Or.inr rfl
      · exact w6.th.trans ⟨fun _ _ => rfl, fun k _ k2 => cfs_ne _ _ k2⟩
  · obtain ⟨vs', bs', S', X, w1, w2, w3, w4, w5, w6, w7⟩ := work_ok (x1 := t + 80) (x3 := ((off + code.length : Nat) : Int)) (by omega) (by omega) code (i := off) hW (hS c3 0 0) (by simp; omega) (by simp; omega) (by omega) hcd FU (by unfold FU; omega)
    match vs', bs', w4, w5 with
    | [z], [], _, _ =>
      have hwk : M_work Sm (t + 80) off ((off + code.length : Nat) : Int) = some X := w2
      have hX4 : X.2 4 = Sm.2 4 := w7.2 4 (by decide) (by decide)
      have hz0 : X.2 37 0 = z := w3.2.1.1
      have hzb : -1000000 ≤ z ∧ z ≤ 1000000 := w3.2.1.2.1
      have hg : X.1 40 = tg.1 ∧ X.1 41 = tg.2 := by
        rw [w7.1 40 (by decide), w7.1 41 (by decide)]
        exact ⟨g1, g2⟩
      have s19 : S'.1 19 = S.1 19 := w6.2 19 (by decide)
      rw [hwk, bd_some, gd_pos (by omega), hX4, h1, gd_pos (by omega)]
      by_cases c0 : so = 200
      · have hl2 := h2 c0
        have hl3 := hle c0
        have hC : C_cl1 (so, le, code) tg S = some (tg, cas S' 661 le z) := by
          unfold C_cl1
          rw [if_neg (show ¬ (so, le, code).1 = 203 from c3), w1, bd_some]
          show (if so = 200 then gd ((0 : Int) ≤ le ∧ le < 8) (some (tg, cas S' 661 le z)) else _) = _
          rw [if_pos c0, gd_pos hl3]
        refine ⟨tg, cas S' 661 le z, aset X 36 le z, hC, ?_, ?_, hg, htg, by rw [cas_1, s19]; exact h19, ?_, ?_⟩
        · rw [if_pos (by omega), gd_pos (by omega), hl2, gd_pos hl3, nm_eq, hz0]
          have e4 : (aset X 36 le z).2 4 = Sm.2 4 := by rw [aset_ne _ _ _ (by decide)]; exact hX4
          rw [b100 _ e4 (by omega), b158 _ e4 (by omega), b213 _ e4 c3, cas_1, s19]
        · refine w3.1.fr2 (S' := cas S' 661 le z) (Sm' := aset X 36 le z) ⟨fun a ha => cas_ne _ _ _ ha, fun _ _ _ => rfl⟩ ⟨fun _ _ _ _ => rfl, fun a a1 _ _ => aset_ne _ _ _ a1⟩ w3.1.2.1 (fun k k0 k1 => ?_)
          rw [cas_at, aset_at]
          by_cases q : k = le
          · rw [if_pos q, if_pos q]; exact ⟨rfl, hzb⟩
          · rw [if_neg q, if_neg q]; exact w3.1.2.2.2.1 k k0 k1
        · exact w6.th.trans ⟨fun a ha => cas_ne _ _ _ ha, fun _ _ _ => rfl⟩
        · exact w7.th.trans ⟨fun _ _ _ _ => rfl, fun a a1 _ _ => aset_ne _ _ _ a1⟩
      · rw [if_neg (by omega)]
        by_cases c1 : so = 201
        · obtain ⟨w, e1, e2⟩ := clamp_e (lo := -8) (hi := 8) (z := z) (by decide) (by decide) (by omega) (by decide)
          have hC : C_cl1 (so, le, code) tg S = some ((w, tg.2), S') := by
            unfold C_cl1
            rw [if_neg (show ¬ (so, le, code).1 = 203 from c3), w1, bd_some]
            show (if so = 200 then gd ((0 : Int) ≤ le ∧ le < 8) (some (tg, cas S' 661 le z)) else if so = 201 then bd (Ma_min_2 8 z) (fun v => bd (Ma_max_2 (-8) v) (fun w => some ((w, tg.2), S'))) else _) = _
            rw [if_neg c0, if_pos c1]
            obtain ⟨v, q1, q2⟩ := bd_inv e1
            rw [q1, bd_some, q2, bd_some]
          refine ⟨(w, tg.2), S', fset X 40 w, hC, ?_, ?_, ⟨fset_eq _ _ _, hg.2⟩, ⟨?_, htg.2⟩, by rw [s19]; exact h19, w6.th, w7.th.trans ⟨fun k _ k2 _ => fset_ne _ _ k2, fun _ _ _ _ => rfl⟩⟩
          · have e4 : (fset X 40 w).2 4 = Sm.2 4 := hX4
            have hB : ∀ q, q = w → M_think_B155 K X t (S.1 19) i (t + 1 + 4 * (i : Int)) q = K (fset X 40 w) (S'.1 19) ((i : Int) + 1) := by
              intro q hq
              unfold M_think_B155
              rw [nm_eq, hq, b158 _ e4 (by omega), b213 _ e4 c3, s19]
            unfold M_think_B100
            rw [gd_pos (by omega), hX4, h1, gd_pos (by omega), if_pos (by omega), hz0, gd_pos (by omega)]
            by_cases q1 : z < -8
            · rw [if_pos q1]; exact hB _ (by rw [e2, if_pos q1])
            · rw [if_neg q1, gd_pos (by omega)]
              by_cases q2 : z ≤ 8
              · rw [if_pos q2]; exact hB _ (by rw [e2, if_neg q1, if_pos q2])
              · rw [if_neg q2]; exact hB _ (by rw [e2, if_neg q1, if_neg q2])
          · exact w3.1.fr2 (Sm' := fset X 40 w) (thF.rfl_ _) ⟨fun k _ k2 _ => fset_ne _ _ k2, fun _ _ _ _ => rfl⟩ w3.1.2.1 w3.1.2.2.2.1
          · show -8 ≤ w ∧ w ≤ 8
            rw [e2]; repeat' split
            all_goals omega
        · obtain ⟨w, e1, e2⟩ := clamp_e (lo := 0) (hi := 16) (z := z) (by decide) (by decide) (by omega) (by decide)
          have c2 : so = 202 := by omega
          have hC : C_cl1 (so, le, code) tg S = some ((tg.1, w), S') := by
            unfold C_cl1
            rw [if_neg (show ¬ (so, le, code).1 = 203 from c3), w1, bd_some]
            show (if so = 200 then gd ((0 : Int) ≤ le ∧ le < 8) (some (tg, cas S' 661 le z)) else if so = 201 then bd (Ma_min_2 8 z) (fun v => bd (Ma_max_2 (-8) v) (fun w => some ((w, tg.2), S'))) else if so = 202 then bd (Ma_min_2 16 z) (fun v => bd (Ma_max_2 0 v) (fun w => some ((tg.1, w), S'))) else none) = _
            rw [if_neg c0, if_neg c1, if_pos c2]
            obtain ⟨v, q1, q2⟩ := bd_inv e1
            rw [q1, bd_some, q2, bd_some]
          refine ⟨(tg.1, w), S', fset X 41 w, hC, ?_, ?_, ⟨hg.1, fset_eq _ _ _⟩, ⟨htg.1, ?_⟩, by rw [s19]; exact h19, w6.th, w7.th.trans ⟨fun k _ _ k2 => fset_ne _ _ k2, fun _ _ _ _ => rfl⟩⟩
          · have e4 : (fset X 41 w).2 4 = Sm.2 4 := hX4
            have hB : ∀ q, q = w → M_think_B210 K X t (S.1 19) i (t + 1 + 4 * (i : Int)) q = K (fset X 41 w) (S'.1 19) ((i : Int) + 1) := by
              intro q hq
              unfold M_think_B210
              rw [nm_eq, hq, b213 _ e4 c3, s19]
            rw [b100 X hX4 c1]
            unfold M_think_B158
            rw [gd_pos (by omega), hX4, h1, gd_pos (by omega), if_pos (by omega), hz0, gd_pos (by omega)]
            by_cases q1 : z < 0
            · rw [if_pos q1]; exact hB _ (by rw [e2, if_pos q1])
            · rw [if_neg q1, gd_pos (by omega)]
              by_cases q2 : z ≤ 16
              · rw [if_pos q2]; exact hB _ (by rw [e2, if_neg q1, if_pos q2])
              · rw [if_neg q2]; exact hB _ (by rw [e2, if_neg q1, if_neg q2])
          · exact w3.1.fr2 (Sm' := fset X 41 w) (thF.rfl_ _) ⟨fun k _ _ k2 => fset_ne _ _ k2, fun _ _ _ _ => rfl⟩ w3.1.2.1 w3.1.2.2.2.1
          · show 0 ≤ w ∧ w ≤ 16
            rw [e2]; repeat' split
            all_goals omega
theorem cd_cat (a b : List tCl) (c : tCl) : cd (a ++ c :: b) = cd a ++ c.2.2 ++ cd b := by simp [cd]
theorem cd_split (cs : List tCl) (i : Nat) (hi : i < cs.length) : cd cs = cd (cs.take i) ++ cs[i].2.2 ++ cd (cs.drop (i + 1)) := by
  rw [← cd_cat, ← List.drop_eq_getElem_cons hi, List.take_append_drop]
theorem cd_take (cs : List tCl) (i : Nat) (hi : i < cs.length) : cd (cs.take (i + 1)) = cd (cs.take i) ++ cs[i].2.2 := by
  rw [List.take_succ_eq_append_getElem hi, cd_app]
/-- all clauses of a rule -/
theorem cls_ok {cs : List tCl} {t : Int} (ht : 0 ≤ t ∧ t ≤ 5600) : ∀ (m : Nat) {S : yS} {Sm : xS} {i : Nat} {tg : Int × Int}, ER S Sm → RuleR (Sm.2 4) t cs → Sm.2 4 t = cs.length → cs.length - i = m → i ≤ cs.length → Sm.1 40 = tg.1 ∧ Sm.1 41 = tg.2 → tgO tg → (S.1 19 = 0 ∨ S.1 19 = 1) → ∀ n, m < n → ∃ tg' S' Sm', C_cls (cs.drop i) tg S = some (tg', S') ∧ M_think_L21 t n Sm (S.1 19) i = some (decide (S'.1 19 = 1), Sm') ∧ ER S' Sm' ∧ (Sm'.1 40 = tg'.1 ∧ Sm'.1 41 = tg'.2) ∧ tgO tg' ∧ (S'.1 19 = 0 ∨ S'.1 19 = 1) ∧ thF S S' ∧ thM Sm Sm' := by
  intro m
  induction m with
  | zero =>
    intro S Sm i tg hE hR hn hm hi hg htg h19 n hnn
    obtain ⟨n, rfl⟩ : ∃ k, n = k + 1 := ⟨n - 1, by omega⟩
    have e : i = cs.length := by omega
    have h10 := hR.2.2.2.2
    refine ⟨tg, S, Sm, ?_, ?_, hE, hg, htg, h19, thF.rfl_ _, thM.rfl_ _⟩
    · rw [e, List.drop_length]; rfl
    · show M_think_b21 _ _ _ _ _ = _
      unfold M_think_b21
      rw [gd_pos (by omega), gd_pos (by omega), if_neg (by omega), gd_pos h19]
  | succ m ih =>
    intro S Sm i tg hE hR hn hm hi hg htg h19 n hnn
    obtain ⟨n, rfl⟩ : ∃ k, n = k + 1 := ⟨n - 1, by omega⟩
    have hil : i < cs.length := by omega
    have h10 := hR.2.2.2.2
    obtain ⟨d1, d2, d3, d4⟩ := hR.1 i hil
    have hct := cd_take cs i hil
    have hsp := cd_split cs i hil
    have h300 := hR.2.2.2.1
    rw [hsp] at h300
    simp only [List.length_append] at h300
    obtain ⟨tg1, S1, X, a1, a2, a3, a4, a5, a6, a7, a8⟩ := cl1_ok (c := cs[i]) (t := t) (i := i) (off := (cd (cs.take i)).length) (tg := tg) hE (hR.2.2.1 _ (List.getElem_mem hil)) ht ⟨by omega, by omega⟩ d1 d2 d3 (by rw [d4, hct, List.length_append]) (by omega) (by
      have hcR := hR.2.1
      rw [hsp] at hcR
      exact hcR.sub) hg.1 hg.2 htg h19 (M_think_L21 t n)
    have x4 : X.2 4 = Sm.2 4 := a8.2 4 (by decide) (by decide) (by decide)
    obtain ⟨tg2, S2, Y, b1, b2, b3, b4, b5, b6, b7, b8⟩ := ih (S := S1) (Sm := X) (i := i + 1) (tg := tg1) a3 (by rw [x4]; exact hR) (by rw [x4]; exact hn) (by omega) (by omega) a4 a5 a6 n (by omega)
    refine ⟨tg2, S2, Y, ?_, ?_, b3, b4, b5, b6, a7.trans b7, a8.trans b8⟩
    · rw [List.drop_eq_getElem_cons hil]
      show bd2 (C_cl1 cs[i] tg S) (fun tg S => C_cls (cs.drop (i + 1)) tg S) = _
      rw [a1, bd2_some, b1]
    · show M_think_b21 t (M_think_L21 t n) Sm (S.1 19) i = _
      rw [a2, show ((i : Int) + 1) = ((i + 1 : Nat) : Int) by omega, b2]
/-- the rules on both sides -/
def RlR (S : yS) (Sm : xS) (ed : Nat) (rs : List (List tCl)) : Prop := S.1 41 = (ed : Int) ∧ S.1 42 = (rs.length : Int) ∧ Sm.2 2 3 = (rs.length : Int) ∧ rs.length ≤ 8 ∧ ∀ (r : Nat) (h : r < rs.length), RuleR (Sm.2 4) (800 * (r : Int)) rs[r] ∧ Sm.2 4 (800 * (r : Int)) = (rs[r].length : Int)
/-- A RULE IS ASKED, on both sides -/
theorem rl_ok {S : yS} {Sm : xS} {ed : Nat} {rs : List (List tCl)} (hE : ER S Sm) (hR : RlR S Sm ed rs) {x : Int} (hx : 0 ≤ x ∧ x < rs.length) (h19 : S.1 19 = 0) : ∃ tg S' Sm', C_rl ed rs S x = some (tg, S') ∧ M_think Sm x = some (decide (S'.1 19 = 1), Sm') ∧ ER S' Sm' ∧ (Sm'.1 40 = tg.1 ∧ Sm'.1 41 = tg.2) ∧ tgO tg ∧ (S'.1 19 = 0 ∨ S'.1 19 = 1) ∧ thF S S' ∧ thM Sm Sm' := by
  obtain ⟨h1, h2, h3, h4, h5⟩ := hR
  have hxl : x.toNat < rs.length := by omega
  obtain ⟨r1, r2⟩ := h5 x.toNat hxl
  rw [show ((x.toNat : Nat) : Int) = x by omega] at r1 r2
  obtain ⟨A, hA⟩ : ∃ A : xS, A = fset (fset Sm 40 0) 41 0 := ⟨_, rfl⟩
  have fA : thM Sm A := by rw [hA]; exact ⟨fun k _ k2 k3 => by rw [fset_ne _ _ k3, fset_ne _ _ k2], fun _ _ _ _ => rfl⟩
  have A2 : A.2 = Sm.2 := by rw [hA]; rfl
  have hEA : ER S A := hE.fr2 (thF.rfl_ S) fA (by rw [hA]; exact hE.2.1) (by rw [A2]; exact hE.2.2.2.1)
  obtain ⟨tg, S', Y, b1, b2, b3, b4, b5, b6, b7, b8⟩ := cls_ok (cs := rs[x.toNat]) (t := 800 * x) (by omega) _ (S := S) (Sm := A) (i := 0) (tg := (0, 0)) hEA (by rw [A2]; exact r1) (by rw [A2]; exact r2) rfl (Nat.zero_le _) (by rw [hA]; exact ⟨rfl, rfl⟩) ⟨by decide, by decide⟩ (Or.inl h19) FU (by have := r1.2.2.2.2; unfold FU; omega)
  refine ⟨tg, S', Y, ?_, ?_, b3, b4, b5, b6, b7, fA.trans b8⟩
  · unfold C_rl
    rw [gd_pos ⟨⟨h1, h2⟩, hx.1⟩, List.getElem?_eq_getElem hxl]
    exact b1
  · unfold M_think
    rw [nm_eq, nm_eq, nm_eq, ← hA]
    rw [h19] at b2
    exact b2
