set_option maxRecDepth 100000
theorem SubR.ok1 {S0 : yS} {A0 : xS} {p : List Int} {e c : List (Int × Int)} {X : yS} {B : xS} {q : List Int} {f : List (Int × Int)} {o o' : Int} {n k m zz : Nat} (hP : PS X B q o' f 1) (hR : Rch A0 B n) (hq : q = whp p) (hf : f = e ++ c ++ List.replicate (whn p) (2, 0)) (ho : o' = o - whn p) (hm : mFr A0 B) (hF : nF S0 X) (hn : (n : Int) ≤ X.1 5 - S0.1 5) (h5 : S0.1 5 < X.1 5) (hk : (k : Int) ≤ 40 * (X.1 5 - S0.1 5) + 8) (hm2 : (m : Int) ≤ 100 * (X.1 5 - S0.1 5) + 12) (hl : ((f.length + q.length + zz : Nat) : Int) ≤ X.1 5) (hW : ckS c) : SubR (fun _ => True) 8 12 zz S0 A0 (.inl c, X, k, m) (Pq1 p o e) := by
  have b5 := hP.1.b5
  have h11 := hF.2 1 (by decide) (by decide) (by decide) (by decide)
  exact ⟨⟨hk, hm2, show S0.1 5 ≤ X.1 5 by omega, show X.1 5 ≤ S0.1 1 by omega⟩, Or.inl ⟨c, q, f, o', B, n, rfl, hR, hn, hP, ⟨hq, hf, ho⟩, hm, hF, h5, trivial, hl, hW⟩⟩
theorem leaf_len {p : List Int} {e : List (Int × Int)} {a : Int × Int} : (e ++ [a] ++ List.replicate (whn p) ((2 : Int), (0 : Int))).length + (whp p).length = e.length + 1 + p.length := by
  have := wh_len p
  simp only [List.length_append, List.length_replicate, List.length_cons, List.length_nil]
  omega
theorem SubR.fail2 {E : Int → Prop} {kc ks zz : Nat} {S0 S2 : yS} {A0 A1 Y : xS} {ft pl : Int} {t a k n : Nat} {Pq : List (Int × Int) → List Int → List (Int × Int) → Int → Prop} (hR : Rch A0 A1 a) (hm0 : mFr A0 A1) (hF : Fls A1 ft Y t) (h14 : Y.1 14 = pl) (hr : r32 pl) (hf : 1 ≤ ft ∧ ft ≤ 6) (hm : mFr A1 Y) (hn : ((t + a : Nat) : Int) ≤ S2.1 5 - S0.1 5 + 1) (h5 : S0.1 5 ≤ S2.1 5) (h1 : S2.1 5 ≤ S0.1 1) (hk : (k : Int) ≤ 40 * (S2.1 5 - S0.1 5) + kc) (hn2 : (n : Int) ≤ 100 * (S2.1 5 - S0.1 5) + ks) : SubR E kc ks zz S0 A0 (.inr (ft, pl), S2, k, n) Pq :=
  ⟨⟨hk, hn2, h5, h1⟩, Or.inr ⟨ft, pl, Y, _, rfl, hR.fls hF, hn, hf, h14, hr, hm0.trans hm⟩⟩
theorem T_number_e {S : yS} {Sm : xS} (h : LX S Sm) {hi : Int} (hh : hi = 9999 ∨ hi = 15) : T_number S 0 hi = if S.1 6 = 300 then (if Sm.1 16 ≤ hi then bd (T_next S) (fun S1 => some (.inl (S.1 7), S1)) else some (.inr (2, S.1 5), S)) else some (.inr (1, S.1 5), S) := by
  unfold T_number
  rw [gd_pos h.tk.1.1]
  by_cases h3 : S.1 6 = 300
  · have hN := h.tk.2.2.2.2.2.2 h3
    rw [if_pos h3, if_pos h3, gd_pos (by omega), if_neg (by omega), gd_pos (by omega)]
    by_cases g : Sm.1 16 ≤ hi
    · rw [if_pos g, if_pos (by omega)]
    · rw [if_neg g, if_neg (by omega)]
  · rw [if_neg h3, if_neg h3]
theorem T_opens_e {S S1 : yS} (h8 : 0 ≤ S.1 8 ∧ S.1 8 < 8) (h : T_next (cfs S 8 (S.1 8 + 1)) = some S1) : lE (T_opens S) = some (.inl (), S1, 1, 8) := by
  unfold T_opens
  rw [gd_pos (by omega), if_neg (by omega), nm_eq, h]
  rfl
theorem T_opens_8 {S : yS} (h8 : S.1 8 = 8) : lE (T_opens S) = some (.inr (3, S.1 5), S, 1, 8) := by
  unfold T_opens
  rw [h8, gd_pos (by decide), if_pos rfl]
  rfl
theorem T_want_y {S S1 : yS} {z : Int} (hr : r32 (S.1 6)) (hz : S.1 6 = z) (h : T_next S = some S1) : lE (T_want S z) = some (.inl (), S1, 1, 8) := by
  unfold T_want
  rw [gd_pos ⟨hr, by rw [← hz]; exact hr⟩, if_pos hz, h]
  rfl
theorem T_want_n {S : yS} {z : Int} (hr : r32 (S.1 6)) (hz : S.1 6 ≠ z) (hzr : r32 z) : lE (T_want S z) = some (.inr (1, S.1 5), S, 1, 8) := by
  unfold T_want
  rw [gd_pos ⟨hr, hzr⟩, if_neg hz]
  rfl
/-- a sign that opens -/
theorem PS.open_ {S : yS} {Sm : xS} {p : List Int} {e : List (Int × Int)} (h : PS S Sm p (S.1 8) e 0) (h8 : 0 ≤ S.1 8 ∧ S.1 8 < 8) (hl : p.length ≤ 140) {t : Int} (ht : t = 2 ∨ (40 ≤ t ∧ t ≤ 42)) : ∃ S1 X, T_next (cfs S 8 (S.1 8 + 1)) = some S1 ∧ M_beginOne_B280 Sm t = some (0, X) ∧ PS S1 X (t :: p) (S1.1 8) e 0 ∧ mFr Sm X ∧ nF (cfs S 8 (S.1 8 + 1)) S1 ∧ S.1 4 ≤ S1.1 5 ∧ S1.1 8 = S.1 8 + 1 := by
  obtain ⟨a1, a2⟩ := h.opens (Sm.1 25 + 1)
  obtain ⟨Y, b1, b2, b3⟩ := a1.push (x := t) (by omega) (by omega)
  have e25 : Sm.1 25 = S.1 8 := h.2.2.1
  obtain ⟨S1, X, c1, c2, c3, c4, c5, c6⟩ := (b2.t8 (z := S.1 8 + 1)).next
  have h81 : S1.1 8 = S.1 8 + 1 := by rw [c5.2 8 (by decide) (by decide) (by decide) (by decide), cfs_eq]
  refine ⟨S1, X, c1, ?_, by rw [h81, ← e25]; exact c3, a2.trans (b3.trans c4), c5, c6, h81⟩
  unfold M_beginOne_B280
  rw [e25, gd_pos (by omega), if_neg (by omega), nm_eq]
  rw [e25] at b1
  rw [b1, bd_some, c2, bd_some]
theorem B280_8 {Sm : xS} {t : Int} (h : Sm.1 25 = 8) : M_beginOne_B280 Sm t = some (3, Sm) := by
  unfold M_beginOne_B280
  rw [h, gd_pos (by decide), if_pos rfl]
def E4 : Int → Prop := fun s => (True ∧ s ≠ 42 ∧ s ≠ 47) ∧ s ≠ 43 ∧ s ≠ 45
/-- where a sum within brackets ends, and its closing sign isn't there -/
theorem PS.noClose {S : yS} {Sm : xS} {q p : List Int} {w o : Int} {f : List (Int × Int)} (h : PS S Sm q o f 1) (he : f.length + q.length ≤ 340 ∧ q.length ≤ 140) (hq : stq 3 q = w :: p) (hE : E4 (S.1 6)) (hw : (w = 40 ∨ w = 43 ∨ w = 44) ∧ S.1 6 ≠ 41 ∨ (w = 41 ∨ w = 42) ∧ S.1 6 ≠ 44) : ∃ Sm', Fls Sm 1 Sm' 1 ∧ PS S Sm' (w :: p) o (f ++ sto 3 q) 1 ∧ mFr Sm Sm' := by
  have hE' : ((True ∧ S.1 6 ≠ 42 ∧ S.1 6 ≠ 47) ∧ S.1 6 ≠ 43 ∧ S.1 6 ≠ 45) := hE
  by_cases h1 : S.1 6 = 41
  · rcases hw with hw | hw
    · exact absurd h1 hw.2
    · exact h.badClose he hq hw.1 h1
  · by_cases h2 : S.1 6 = 44
    · rcases hw with hw | hw
      · exact h.badComma he hq hw.1 h2
      · exact absurd h2 hw.2
    · have hg : gOn (S.1 6) q = false := by
        unfold gOn
        rw [decide_eq_false (by omega), decide_eq_false (by omega)]
        rfl
      obtain ⟨X, x1, x2, x3⟩ := h.end_ (by omega) hg
      rw [hq] at x1 x2
      rw [if_neg (by simp)] at x1
      exact ⟨X, x1, x2, x3⟩
theorem tb_inl {α β : Type} {a : α} {S : yS} {k' n' k n : Nat} {f : α → yS → Nat → Nat → Option (tR β)} : tb (some (.inl a, S, k', n')) k n f = f a S (k + k') (n + n') := rfl
theorem tb_inr {α β : Type} {a : Int × Int} {S : yS} {k' n' k n : Nat} {f : α → yS → Nat → Nat → Option (tR β)} : tb (some (.inr a, S, k', n')) k n f = some (.inr a, S, k + k', n + n') := rfl
/-- one -/
theorem oneB_ok {sum one : yS → Option (tR (List (Int × Int)))} {o0 : Int} (hsum : SubOK sum 3 0 E4 41 75 (o0 + 1)) (hone : OneOK one (o0 + 1)) : OneOK (T_oneB sum one) o0 := by
  intro S Sm p e zz hP h8 ho hp1 hlen
  have b5 := hP.1.b5
  have hr := hP.1.tk.1.1
  have hst := hP.1.2.2.2.2.2.1.2.2
  have h26 : Sm.1 26 = 0 := hP.2.2.2.2.1
  have hfail : ∀ ft : Int, 1 ≤ ft ∧ ft ≤ 6 → M_beginOne Sm = some (ft, Sm) → ∀ k n : Nat, k ≤ 8 → n ≤ 12 → SubR (fun _ => True) 8 12 zz S Sm (.inr (ft, S.1 5), S, k, n) (Pq1 p (S.1 8) e) := by
    intro ft hft hM k n hk hn
    exact hP.fail1 (Fls.begin_ h26 hM (by omega) (by omega)) (mFr.rfl_ _) hft (by omega) rfl (by omega) (by omega) (by omega) rfl
  have hleaf : ∀ (x v : Int) (k n : Nat), S.1 6 ≠ 301 → ckS [(x, v)] → k ≤ 8 → n ≤ 12 → M_beginOne Sm = bd (M_emit Sm x v) (fun S82 => bd (M_nextToken S82) (fun S84 => bd (M_whole S84) (fun S86 => some ((0 : Int), S86)))) → ∃ S', T_next S = some S' ∧ SubR (fun _ => True) 8 12 zz S Sm (.inl [(x, v)], S', k, n) (Pq1 p (S.1 8) e) := by
    intro x v k n hne hW hk hn hM
    obtain ⟨S', X, y1, y2, y3, y4, y5, y6⟩ := hP.leaf (by omega) (by omega) x v
    rw [y2] at hM
    have := hst hne
    exact ⟨S', y1, SubR.ok1 y3 (Rch.begin_ h26 hM) rfl rfl rfl y4 y5 (by omega) (by omega) (by omega) (by omega) (by rw [leaf_len]; omega) hW⟩
  unfold T_oneB
  rw [gd_pos hr]
  by_cases c1 : S.1 6 = 300
  · rw [if_pos c1, T_number_e hP.1 (Or.inl rfl), if_pos c1]
    have hk1 := hP.1.is1.mp c1
    have hN := hP.1.tk.2.2.2.2.2.2 c1
    by_cases g : Sm.1 16 ≤ 9999
    · have hM : M_beginOne Sm = bd (M_emit Sm 0 (S.1 7)) (fun S82 => bd (M_nextToken S82) (fun S84 => bd (M_whole S84) (fun S86 => some ((0 : Int), S86)))) := by
        unfold M_beginOne
        rw [gd_pos hP.1.tk.1.2.1, if_pos hk1, gd_pos (by omega), if_pos g, show S.1 7 = Sm.1 16 by omega]
      obtain ⟨S', y1, y2⟩ := hleaf 0 (S.1 7) (1 + 1) (1 + 8) (by omega) (ckS.leaf (by omega)) (by decide) (by decide) hM
      rw [if_pos g, y1, bd_some]
      exact ⟨_, rfl, y2⟩
    · have hM : M_beginOne Sm = some (2, Sm) := by
        unfold M_beginOne
        rw [gd_pos hP.1.tk.1.2.1, if_pos hk1, gd_pos (by omega), if_neg g]
      rw [if_neg g]
      exact ⟨_, rfl, hfail 2 (by decide) hM (1 + 1) (1 + 8) (by decide) (by decide)⟩
  rw [if_neg c1]
  by_cases c2 : S.1 6 = 305
  · have h7 : 0 ≤ S.1 7 ∧ S.1 7 < 8 := by
      have := hP.1.tk.2.2.2.2.1.mp c2
      have := hP.1.tk.2.2.2.2.2.1 c2
      omega
    obtain ⟨l1, l2⟩ := hP.2.2.2.2.2.2
    have l3 := l2 (S.1 7).toNat (by omega)
    rw [show (((S.1 7).toNat : Nat) : Int) = S.1 7 by omega] at l3
    have hM := hP.1.bo_let c2 (by omega) h7
    rw [show (2 : Int) ^ 1 = 2 by decide, ← l3] at hM
    have m1 := Int.emod_nonneg (Sm.1 22 / 2 ^ (Int.toNat (S.1 7))) (show (2 : Int) ≠ 0 by decide)
    have m2 := Int.emod_lt_of_pos (Sm.1 22 / 2 ^ (Int.toNat (S.1 7))) (show (0 : Int) < 2 by decide)
    rw [if_pos c2, gd_pos h7, gd_pos (by omega)]
    by_cases g : S.2 1 (S.1 7) = 0
    · rw [if_pos g] at hM ⊢
      exact ⟨_, rfl, hfail 5 (by decide) hM 1 8 (by decide) (by decide)⟩
    · rw [if_neg g] at hM ⊢
      obtain ⟨S', y1, y2⟩ := hleaf 1 (S.1 7) 1 1 (by omega) (ckS.leaf (by omega)) (by decide) (by decide) hM
      rw [y1, bd_some]
      exact ⟨_, rfl, y2⟩
  rw [if_neg c2]
  have eye : ∀ x : Int, (S.1 6 = 207 ∧ x = 31 ∨ S.1 6 = 208 ∧ x = 32) → ∃ r, bd (T_next S) (fun S1 => tb (lQ (T_number S1 0 15)) 1 1 (T_lf x)) = some r ∧ SubR (fun _ => True) 8 12 zz S Sm r (Pq1 p (S.1 8) e) := by
    intro x hx
    have hM := hP.1.bo_eye (by omega)
    rw [show (if S.1 6 = 207 then (31 : Int) else 32) = x by rcases hx with ⟨g1, g2⟩ | ⟨g1, g2⟩ <;> rw [g1, g2] <;> decide] at hM
    have hlt := hst (by omega)
    obtain ⟨S1, X, y1, y2, y3, y4, y5, y6⟩ := hP.next
    rw [y1, bd_some, T_number_e y3.1 (Or.inr rfl)]
    have h11 := y5.2 1 (by decide) (by decide) (by decide) (by decide)
    have h81 := y5.2 8 (by decide) (by decide) (by decide) (by decide)
    have b51 := y3.1.b5
    unfold M_eye at hM
    rw [y2, bd_some, gd_pos y3.1.tk.1.2.1] at hM
    by_cases g1 : S1.1 6 = 300
    · have hN := y3.1.tk.2.2.2.2.2.2 g1
      rw [if_pos (y3.1.is1.mp g1), M_isIn_e (by omega) (by decide) (by decide), bd_some] at hM
      rw [if_pos g1]
      by_cases g2 : X.1 16 ≤ 15
      · rw [if_pos (decide_eq_true (by omega))] at hM
        obtain ⟨S2, Y, z1, z2, z3, z4, z5, z6⟩ := y3.leaf (by omega) (by omega) x (X.1 16)
        rw [z2] at hM
        have hst1 := y3.1.2.2.2.2.2.1.2.2 (by omega)
        rw [if_pos g2, z1, bd_some, show S1.1 7 = X.1 16 by omega]
        refine ⟨_, rfl, SubR.ok1 (k := 1 + 1) (m := 1 + 8) z3 (Rch.begin_ h26 hM) rfl rfl rfl (y4.trans z4) (y5.trans z5) (by omega) (by omega) (by omega) (by omega) (by rw [leaf_len]; omega) (ckS.leaf (by omega))⟩
      · rw [if_neg (by rw [decide_eq_true_eq]; omega)] at hM
        rw [if_neg g2]
        exact ⟨_, rfl, y3.fail1 (k := 1 + 1) (m := 1 + 8) (Fls.begin_ h26 hM (by decide) (by decide)) y4 (by decide) (by omega) h11 (by omega) (by omega) (by omega) rfl⟩
    · rw [if_neg (fun w => g1 (y3.1.is1.mpr w))] at hM
      rw [if_neg g1]
      exact ⟨_, rfl, y3.fail1 (k := 1 + 1) (m := 1 + 8) (Fls.begin_ h26 hM (by decide) (by decide)) y4 (by decide) (by omega) h11 (by omega) (by omega) (by omega) rfl⟩
  by_cases c3 : S.1 6 = 207
  · rw [if_pos c3]
    exact eye 31 (Or.inl ⟨c3, rfl⟩)
  rw [if_neg c3]
  by_cases c4 : S.1 6 = 208
  · rw [if_pos c4]
    exact eye 32 (Or.inr ⟨c4, rfl⟩)
  rw [if_neg c4]
  clear eye
  by_cases c5 : S.1 6 = 209
  · obtain ⟨S', y1, y2⟩ := hleaf 30 0 1 0 (by omega) (ckS.leaf (by omega)) (by decide) (by decide) (hP.1.bo_tick c5)
    rw [if_pos c5, y1, bd_some]
    exact ⟨_, rfl, y2⟩
  rw [if_neg c5]
  have hM := hP.1.bo_w c1 c2 c5 c3 c4
  have h25 : Sm.1 25 = S.1 8 := hP.2.2.1
  have h252 : ∀ t, 2 ≤ t ∧ t ≤ 40 → M_beginOne_B252 Sm t = M_beginOne_B280 Sm t := by
    intro t ht
    unfold M_beginOne_B252
    rw [gd_pos (by omega), if_neg (by omega), gd_pos (by omega), if_pos (by omega)]
  by_cases c6 : S.1 6 = 40
  · rw [if_pos c6]
    rw [if_neg (by omega), if_neg (by omega), if_pos c6, h252 40 (by decide)] at hM
    have hlt := hst (by omega)
    by_cases g8 : S.1 8 = 8
    · rw [B280_8 (by omega)] at hM
      rw [T_opens_8 g8, tb_inr]
      exact ⟨_, rfl, hfail 3 (by decide) hM (0 + 1) (0 + 8) (by decide) (by decide)⟩
    · obtain ⟨S1, X, y1, y2, y3, y4, y5, y6, y7⟩ := hP.open_ (t := 40) (by omega) (by omega) (by omega)
      rw [y2] at hM
      rw [T_opens_e (by omega) y1, tb_inl]
      have h11 : S1.1 1 = S.1 1 := y5.2 1 (by decide) (by decide) (by decide) (by decide)
      have hrb := Rch.begin_ h26 hM
      obtain ⟨r, w1, ⟨w2, w3, w4, w4'⟩, w5⟩ := hsum S1 X (40 :: p) e zz y3 (by omega) (by omega) (by simp only [List.length_cons]; omega) (stq_keep (by decide)) (whp_cons (by decide)) (by simp only [List.length_cons]; omega)
      obtain ⟨rr, S2, k2, n2⟩ := r
      dsimp only at w2 w3 w4 w4' w5
      show ∃ r, tb (sum S1) (0 + 1) (0 + 8) T_par1 = some r ∧ _
      rw [w1]
      rcases w5 with ⟨cc, q1, f1, o1, Y, t, v1, v2, v3, v4, ⟨v5, v6, v7, v8, v14⟩, v9, v10, v11, v12, v13, v15⟩ | ⟨ft, pl, Y, t, v1, v2, v3, v4, v5, v6, v7⟩
      · subst v1
        rw [tb_inl]
        show ∃ r, tb (lE (T_want S2 41)) (0 + 1 + k2) (0 + 8 + n2) (T_par2 cc) = some r ∧ _
        have h12 : S2.1 1 = S1.1 1 := v10.2 1 (by decide) (by decide) (by decide) (by decide)
        have h82 : S2.1 8 = S1.1 8 := v10.2 8 (by decide) (by decide) (by decide) (by decide)
        have b52 := v4.1.b5
        have qlen : q1.length ≤ 140 := by simp only [List.length_cons] at v14; omega
        by_cases g : S2.1 6 = 41
        · obtain ⟨S3, Z, z1, z2, z3, z4, z5, z6⟩ := v4.close (by omega) v5 (Or.inl rfl) g (by omega)
          have hst2 := v4.1.2.2.2.2.2.1.2.2 (by omega)
          rw [T_want_y v4.1.tk.1.1 g z1, tb_inl]
          have hsl := st_len 3 q1
          rw [v5] at hsl
          have hwl := wh_len p
          refine ⟨_, rfl, SubR.ok1 (X := cfs S3 8 (S3.1 8 - 1)) (B := Z) (z3.t8) (hrb.trans (v2.trans z2)) rfl ?_ (by omega) (y4.trans (v9.trans z4)) (nF.t8 ((y5.trans v10).trans z5)) ?_ ?_ ?_ ?_ ?_ v15⟩
          · rw [if_pos rfl, List.append_nil, v6]
          · show ((1 + t + 1 : Nat) : Int) ≤ S3.1 5 - S.1 5
            omega
          · show S.1 5 < S3.1 5
            omega
          · show ((0 + 1 + k2 + 1 : Nat) : Int) ≤ 40 * (S3.1 5 - S.1 5) + 8
            omega
          · show ((0 + 8 + n2 + 8 : Nat) : Int) ≤ 100 * (S3.1 5 - S.1 5) + 12
            omega
          · show _ ≤ S3.1 5
            simp only [List.length_append, List.length_replicate, List.length_cons, List.length_nil, if_true] at hsl ⊢
            omega
        · obtain ⟨Z, z1, z2, z3⟩ := v4.noClose (by omega) v5 v12 (Or.inl ⟨Or.inl rfl, g⟩)
          rw [T_want_n v4.1.tk.1.1 g (by decide), tb_inr]
          exact ⟨_, rfl, z2.fail1 (k := 0 + 1 + k2 + 1) (m := 0 + 8 + n2 + 8) (hrb.fls (v2.fls z1)) (y4.trans (v9.trans z3)) (by decide) (by omega) (by omega) (by omega) (by omega) (by omega) rfl⟩
      · subst v1
        rw [tb_inr]
        exact ⟨_, rfl, SubR.fail2 hrb y4 v2 v5 v6 v4 v7 (by omega) (by omega) (by omega) (by omega) (by omega)⟩
  rw [if_neg c6]
  by_cases c7 : S.1 6 = 45
  · rw [if_pos c7]
    rw [if_neg (by omega), if_neg (by omega), if_neg c6, if_pos c7, h252 2 (by decide)] at hM
    have hlt := hst (by omega)
    by_cases g8 : S.1 8 = 8
    · rw [B280_8 (by omega)] at hM
      rw [T_opens_8 g8, tb_inr]
      exact ⟨_, rfl, hfail 3 (by decide) hM (0 + 1) (0 + 8) (by decide) (by decide)⟩
    · obtain ⟨S1, X, y1, y2, y3, y4, y5, y6, y7⟩ := hP.open_ (t := 2) (by omega) (by omega) (by omega)
      rw [y2] at hM
      rw [T_opens_e (by omega) y1, tb_inl]
      have h11 : S1.1 1 = S.1 1 := y5.2 1 (by decide) (by decide) (by decide) (by decide)
      have hrb := Rch.begin_ h26 hM
      obtain ⟨r, w1, ⟨w2, w3, w4, w4'⟩, w5⟩ := hone S1 X (2 :: p) e zz y3 (by omega) (by omega) (by simp only [List.length_cons]; omega) (by simp only [List.length_cons]; omega)
      obtain ⟨rr, S2, k2, n2⟩ := r
      dsimp only at w2 w3 w4 w4' w5
      show ∃ r, tb (one S1) (0 + 1 + 1) (0 + 8 + 1) T_min1 = some r ∧ _
      rw [w1]
      rcases w5 with ⟨cc, q1, f1, o1, Y, t, v1, v2, v3, v4, ⟨v5, v6, v7⟩, v9, v10, v11, v12, v13, v15⟩ | ⟨ft, pl, Y, t, v1, v2, v3, v4, v5, v6, v7⟩
      · subst v1
        rw [tb_inl]
        have ewn : whn (2 :: p) = whn p + 1 := if_pos rfl
        have ewp : whp (2 :: p) = whp p := if_pos rfl
        rw [ewn] at v6 v7
        rw [ewp] at v5
        refine ⟨_, rfl, SubR.ok1 (X := cfs S2 8 (S2.1 8 - 1)) (B := Y) (v4.t8) (hrb.trans v2) v5 ?_ (by omega) (y4.trans v9) (nF.t8 (y5.trans v10)) ?_ ?_ ?_ ?_ v13 v15.neg⟩
        · rw [v6, List.replicate_succ]
          simp only [List.append_assoc, List.cons_append, List.nil_append]
        · show ((t + 1 : Nat) : Int) ≤ S2.1 5 - S.1 5
          omega
        · show S.1 5 < S2.1 5
          omega
        · show ((0 + 1 + 1 + k2 : Nat) : Int) ≤ 40 * (S2.1 5 - S.1 5) + 8
          omega
        · show ((0 + 8 + 1 + n2 : Nat) : Int) ≤ 100 * (S2.1 5 - S.1 5) + 12
          omega
      · subst v1
        rw [tb_inr]
        exact ⟨_, rfl, SubR.fail2 hrb y4 v2 v5 v6 v4 v7 (by omega) (by omega) (by omega) (by omega) (by omega)⟩
  rw [if_neg c7]
  have mm : ∀ b : Bool, (b = false ∧ S.1 6 = 210 ∨ b = true ∧ S.1 6 = 211) → ∃ r, T_mm sum b S = some r ∧ SubR (fun _ => True) 8 12 zz S Sm r (Pq1 p (S.1 8) e) := by
    intro b hb
    obtain ⟨w, hw⟩ : ∃ w : Int, w = if S.1 6 = 210 then 41 else 42 := ⟨_, rfl⟩
    have hw2 : w = 41 ∧ b = false ∨ w = 42 ∧ b = true := by
      rw [hw]
      rcases hb with ⟨g1, g2⟩ | ⟨g1, g2⟩ <;> rw [g1, g2] <;> decide
    have hM2 : M_beginOne Sm = M_beginOne_B252 Sm w := by
      rw [hM, hw]
      rcases hb with ⟨g1, g2⟩ | ⟨g1, g2⟩ <;> rw [g2] <;> rfl
    have hlt := hst (by omega)
    clear hM
    unfold T_mm
    obtain ⟨S0, X0, a1, a2, a3, a4, a5, a6⟩ := hP.next
    have h80 : S0.1 8 = S.1 8 := a5.2 8 (by decide) (by decide) (by decide) (by decide)
    have h10 : S0.1 1 = S.1 1 := a5.2 1 (by decide) (by decide) (by decide) (by decide)
    rw [a1, bd_some, gd_pos a3.1.tk.1.1]
    unfold M_beginOne_B252 at hM2
    rw [gd_pos (by omega), if_neg (by omega), gd_pos (by omega), if_neg (by omega), a2, bd_some, gd_pos a3.1.tk.1.2.1] at hM2
    have s40 := a3.1.sg (s := 40) (by unfold isSg; omega)
    by_cases g40 : S0.1 6 = 40
    · rw [if_pos (s40.mp g40)] at hM2
      rw [if_pos g40]
      rw [← h80] at a3
      have hlt0 := a3.1.2.2.2.2.2.1.2.2 (by omega)
      by_cases g8 : S0.1 8 = 8
      · rw [B280_8 (by have := a3.2.2.1; omega)] at hM2
        rw [T_opens_8 g8, tb_inr]
        exact ⟨_, rfl, a3.fail1 (k := 0 + 1) (m := 0 + 8) (Fls.begin_ h26 hM2 (by decide) (by decide)) a4 (by decide) (by omega) h10 (by omega) (by omega) (by omega) rfl⟩
      · obtain ⟨S1, X, y1, y2, y3, y4, y5, y6, y7⟩ := a3.open_ (t := w) (by omega) (by omega) (by omega)
        rw [y2] at hM2
        rw [T_opens_e (by omega) y1, tb_inl]
        have h11 : S1.1 1 = S0.1 1 := y5.2 1 (by decide) (by decide) (by decide) (by decide)
        have hrb := Rch.begin_ h26 hM2
        obtain ⟨r, w1, ⟨w2, w3, w4, w4'⟩, w5⟩ := hsum S1 X (w :: p) e zz y3 (by omega) (by omega) (by simp only [List.length_cons]; omega) (stq_keep (by omega)) (whp_cons (by omega)) (by simp only [List.length_cons]; omega)
        obtain ⟨rr, S2, k2, n2⟩ := r
        dsimp only at w2 w3 w4 w4' w5
        show ∃ r, tb (sum S1) (0 + 1) (0 + 8) (T_mm1 sum b) = some r ∧ _
        rw [w1]
        rcases w5 with ⟨cc, q1, f1, o1, Y, t, v1, v2, v3, v4, ⟨v5, v6, v7, v8, v14⟩, v9, v10, v11, v12, v13, v15⟩ | ⟨ft, pl, Y, t, v1, v2, v3, v4, v5, v6, v7⟩
        · subst v1
          rw [tb_inl]
          show ∃ r, tb (lE (T_want S2 44)) (0 + 1 + k2) (0 + 8 + n2) (T_mm2 sum b cc) = some r ∧ _
          have h12 : S2.1 1 = S1.1 1 := v10.2 1 (by decide) (by decide) (by decide) (by decide)
          have h82 : S2.1 8 = S1.1 8 := v10.2 8 (by decide) (by decide) (by decide) (by decide)
          have b52 := v4.1.b5
          have qlen : q1.length ≤ 140 := by simp only [List.length_cons] at v14; omega
          by_cases g : S2.1 6 = 44
          · obtain ⟨S3, Z, z1, z2, z3, z4, z5, z6⟩ := v4.comma (by omega) v5 (by omega) g
            have hst2 := v4.1.2.2.2.2.2.1.2.2 (by omega)
            have h13 : S3.1 1 = S2.1 1 := z5.2 1 (by decide) (by decide) (by decide) (by decide)
            have h83 : S3.1 8 = S2.1 8 := z5.2 8 (by decide) (by decide) (by decide) (by decide)
            rw [T_want_y v4.1.tk.1.1 g z1, tb_inl]
            have hsl := st_len 3 q1
            rw [v5] at hsl
            simp only [List.length_cons] at hsl
            have hfl : (f1 ++ sto 3 q1).length = (e ++ cc).length := by rw [v6]
            simp only [List.length_append] at hfl
            rw [v6, v8, ← h82, ← h83] at z3
            show ∃ r, tb (sum S3) (0 + 1 + k2 + 1 + 1) (0 + 8 + n2 + 8 + 3) (T_mm3 b cc) = some r ∧ _
            obtain ⟨r, w1, ⟨w2b, w3b, w4b, w4b'⟩, w5⟩ := hsum S3 Z ((w + 2) :: p) (e ++ cc) zz z3 (by omega) (by omega) (by simp only [List.length_cons]; omega) (stq_keep (by omega)) (whp_cons (by omega)) (by simp only [List.length_cons, List.length_append]; omega)
            obtain ⟨rr, S4, k4, n4⟩ := r
            dsimp only at w2b w3b w4b w4b' w5
            rw [w1]
            rcases w5 with ⟨cd, q3, f3, o3, V, t3, u1, u2, u3, u4, ⟨u5, u6, u7, u8, u14⟩, u9, u10, u11, u12, u13, u15⟩ | ⟨ft, pl, V, t3, u1, u2, u3, u4, u5, u6, u7⟩
            · subst u1
              rw [tb_inl]
              show ∃ r, tb (lE (T_want S4 41)) (0 + 1 + k2 + 1 + 1 + k4) (0 + 8 + n2 + 8 + 3 + n4) (T_par2 (cc ++ cd ++ [(if b then 8 else 7, 0)])) = some r ∧ _
              have h14 : S4.1 1 = S3.1 1 := u10.2 1 (by decide) (by decide) (by decide) (by decide)
              have h84 : S4.1 8 = S3.1 8 := u10.2 8 (by decide) (by decide) (by decide) (by decide)
              have b54 := u4.1.b5
              have qlen2 : q3.length ≤ 140 := by simp only [List.length_cons] at u14; omega
              by_cases g5 : S4.1 6 = 41
              · obtain ⟨S5, T5, x1, x2, x3, x4, x5, x6⟩ := u4.close (by omega) u5 (by omega) g5 (by omega)
                have hst4 := u4.1.2.2.2.2.2.1.2.2 (by omega)
                rw [T_want_y u4.1.tk.1.1 g5 x1, tb_inl]
                have hsl3 := st_len 3 q3
                rw [u5] at hsl3
                simp only [List.length_cons] at hsl3
                have hwl := wh_len p
                have ew : (if w + 2 = 40 then [] else [((if w + 2 = 43 then (7 : Int) else 8), (0 : Int))]) = [(if b then 8 else 7, 0)] := by
                  rcases hw2 with ⟨rfl, rfl⟩ | ⟨rfl, rfl⟩ <;> rfl
                rw [ew, u6] at x3
                refine ⟨_, rfl, SubR.ok1 (X := cfs S5 8 (S5.1 8 - 1)) (B := T5) (x3.t8) (hrb.trans (v2.trans (z2.trans (u2.trans x2)))) rfl ?_ (by omega) (a4.trans (y4.trans (v9.trans (z4.trans (u9.trans x4))))) ?_ ?_ ?_ ?_ ?_ ?_ (by rw [List.append_assoc]; exact v15.two u15 (by cases b <;> decide))⟩
                · simp only [List.append_assoc]
                · exact a5.trans (nF.t8 ((((y5.trans v10).trans z5).trans u10).trans x5))
                · show ((1 + t3 + 1 + t + 1 : Nat) : Int) ≤ S5.1 5 - S.1 5
                  omega
                · show S.1 5 < S5.1 5
                  omega
                · show ((0 + 1 + k2 + 1 + 1 + k4 + 1 : Nat) : Int) ≤ 40 * (S5.1 5 - S.1 5) + 8
                  omega
                · show ((0 + 8 + n2 + 8 + 3 + n4 + 8 : Nat) : Int) ≤ 100 * (S5.1 5 - S.1 5) + 12
                  omega
                · show _ ≤ S5.1 5
                  have hfl2 : (f3 ++ sto 3 q3).length = (e ++ cc ++ cd).length := by rw [u6]
                  simp only [List.length_append, List.length_replicate, List.length_cons, List.length_nil] at hfl2 ⊢
                  omega
              · obtain ⟨T5, x1, x2, x3⟩ := u4.noClose (by omega) u5 u12 (Or.inl ⟨by omega, g5⟩)
                rw [T_want_n u4.1.tk.1.1 g5 (by decide), tb_inr]
                exact ⟨_, rfl, x2.fail1 (k := 0 + 1 + k2 + 1 + 1 + k4 + 1) (m := 0 + 8 + n2 + 8 + 3 + n4 + 8) (hrb.fls (v2.fls (z2.fls (u2.fls x1)))) (a4.trans (y4.trans (v9.trans (z4.trans (u9.trans x3))))) (by decide) (by omega) (by omega) (by omega) (by omega) (by omega) rfl⟩
            · subst u1
              rw [tb_inr]
              exact ⟨_, rfl, SubR.fail2 (hrb.trans (v2.trans z2)) (a4.trans (y4.trans (v9.trans z4))) u2 u5 u6 u4 u7 (by omega) (by omega) (by omega) (by omega) (by omega)⟩
          · obtain ⟨Z, z1, z2, z3⟩ := v4.noClose (by omega) v5 v12 (Or.inr ⟨by omega, g⟩)
            rw [T_want_n v4.1.tk.1.1 g (by decide), tb_inr]
            exact ⟨_, rfl, z2.fail1 (k := 0 + 1 + k2 + 1) (m := 0 + 8 + n2 + 8) (hrb.fls (v2.fls z1)) (a4.trans (y4.trans (v9.trans z3))) (by decide) (by omega) (by omega) (by omega) (by omega) (by omega) rfl⟩
        · subst v1
          rw [tb_inr]
          exact ⟨_, rfl, SubR.fail2 hrb (a4.trans y4) v2 v5 v6 v4 v7 (by omega) (by omega) (by omega) (by omega) (by omega)⟩
    · rw [if_neg (fun w => g40 (s40.mpr w))] at hM2
      rw [if_neg g40]
      exact ⟨_, rfl, a3.fail1 (k := 1) (m := 8) (Fls.begin_ h26 hM2 (by decide) (by decide)) a4 (by decide) (by omega) h10 (by omega) (by omega) (by omega) rfl⟩
  by_cases c8 : S.1 6 = 210
  · rw [if_pos c8]
    exact mm false (Or.inl ⟨rfl, c8⟩)
  rw [if_neg c8]
  by_cases c9 : S.1 6 = 211
  · rw [if_pos c9]
    exact mm true (Or.inr ⟨rfl, c9⟩)
  rw [if_neg c9]
  rw [if_neg c8, if_neg c9, if_neg c6, if_neg c7] at hM
  have hB : M_beginOne_B252 Sm 0 = some (1, Sm) := by
    unfold M_beginOne_B252
    rw [gd_pos (by decide), if_pos rfl]
  rw [hB] at hM
  exact ⟨_, rfl, hfail 1 (by decide) hM 1 8 (by decide) (by decide)⟩
theorem one_ok : ∀ d : Nat, OneOK (T_one d) (9 - d) := by
  intro d
  induction d with
  | zero =>
    intro S Sm p e zz hP h8 ho
    omega
  | succ d ih =>
    have e1 : (9 : Int) - ((d + 1 : Nat) : Int) + 1 = 9 - d := by omega
    have h1 : SubOK (T_ch 42 47 (T_one d)) 5 1 (fun s => True ∧ s ≠ 42 ∧ s ≠ 47) 19 33 (9 - d) := ch_ok (L' := 40) (hgt := 1) ih.sub (by decide) (by decide) (by decide) (Or.inr ⟨rfl, rfl, rfl, rfl⟩)
    have h2 : SubOK (T_ch 43 45 (T_ch 42 47 (T_one d))) 3 0 E4 41 75 (9 - d) := ch_ok (L' := 5) (hgt := 0) h1 (by decide) (by decide) (by decide) (Or.inl ⟨rfl, rfl, rfl, rfl⟩)
    exact oneB_ok (by rw [e1]; exact h2) (by rw [e1]; exact ih)
/-- a sum -/
theorem sum_ok (d : Nat) : SubOK (T_sum d) 3 0 E4 41 75 (9 - d) := by
  have h1 : SubOK (T_ch 42 47 (T_one d)) 5 1 (fun s => True ∧ s ≠ 42 ∧ s ≠ 47) 19 33 (9 - d) := ch_ok (L' := 40) (hgt := 1) (one_ok d).sub (by decide) (by decide) (by decide) (Or.inr ⟨rfl, rfl, rfl, rfl⟩)
  exact ch_ok (L' := 5) (hgt := 0) h1 (by decide) (by decide) (by decide) (Or.inl ⟨rfl, rfl, rfl, rfl⟩)
