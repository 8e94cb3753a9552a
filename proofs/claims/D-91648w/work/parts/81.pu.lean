set_option maxRecDepth 100000
/-- asks: the component goes down, the reference counts its nots -/
theorem ask_ok (d : Nat) : ∀ (n : Nat) {S : yS} {Sm : xS} {e : List (Int × Int)} {x1 zz : Nat}, PC S Sm (S.1 8) e → (0 ≤ S.1 8 ∧ S.1 8 ≤ 8) → 9 ≤ S.1 8 + d → 9 ≤ S.1 8 + n → (x1 : Int) ≤ S.1 8 → ((e.length + x1 + zz : Nat) : Int) ≤ S.1 5 → ∀ fu, n < fu → ∃ r, T_ask (T_sum d) n S = some r ∧ ParR 50 100 S Sm (M_ask_L2 fu Sm x1) r (fun c Sm' => PC r.2.1 Sm' (S.1 8 - x1) (e ++ c ++ List.replicate x1 (20, 0)) ∧ (((e ++ c ++ List.replicate x1 ((20 : Int), (0 : Int))).length + zz : Nat) : Int) ≤ r.2.1.1 5 ∧ S.1 5 + 3 ≤ r.2.1.1 5 ∧ ckA c) := by
  intro n
  induction n with
  | zero => intro S Sm e x1 zz h h8 hd hn; omega
  | succ n ih =>
    intro S Sm e x1 zz h h8 hd hn hx hl fu hfu
    obtain ⟨fu, rfl⟩ : ∃ k, fu = k + 1 := ⟨fu - 1, by omega⟩
    have b5 := h.1.b5
    have hr := h.1.tk.1.1
    have hst := h.1.2.2.2.2.2.1.2.2
    have hMu : M_ask_L2 (fu + 1) Sm x1 = M_ask_b2 (M_ask_L2 fu) Sm x1 := rfl
    have hTu : T_ask (T_sum d) (n + 1) S = T_askB (T_sum d) (T_ask (T_sum d) n) S := rfl
    rw [hMu, hTu]
    unfold T_askB M_ask_b2
    rw [gd_pos hr, wrd_not, bd_some, h.1.isWord (w := 6) (by decide) rfl, bd_some]
    have h25 : Sm.1 25 = S.1 8 := h.2.1
    by_cases c1 : S.1 6 = 206
    · have hlt := hst (by omega)
      rw [if_pos c1, if_pos (decide_eq_true (by omega)), h25, gd_pos (by omega)]
      by_cases g8 : S.1 8 = 8
      · rw [T_opens_8 g8, tb_inr, if_pos g8]
        exact ⟨_, rfl, ⟨by show ((0 + 1 : Nat) : Int) ≤ 40 * (S.1 5 - S.1 5) + 50; omega, by show ((0 + 8 : Nat) : Int) ≤ 100 * (S.1 5 - S.1 5) + 100; omega, Int.le_refl _, show S.1 5 ≤ S.1 1 by omega⟩, Or.inr ⟨3, S.1 5, Sm, rfl, rfl, by decide, h.1.2.2.2.2.1.symm, by omega, mFr.rfl_ _⟩⟩
      · rw [if_neg g8, nm_eq, nm_eq]
        obtain ⟨a1, a2⟩ := h.opens (S.1 8 + 1)
        obtain ⟨S1, X, y1, y2, y3, y4, y5, y6⟩ := (a1.t8 (z := S.1 8 + 1)).next
        have h81 : S1.1 8 = S.1 8 + 1 := by rw [y5.2 8 (by decide) (by decide) (by decide) (by decide), cfs_eq]
        have h11 : S1.1 1 = S.1 1 := y5.2 1 (by decide) (by decide) (by decide) (by decide)
        have y6' : S.1 4 ≤ S1.1 5 := y6
        rw [T_opens_e (by omega) y1, tb_inl, y2, bd_some]
        rw [← h81] at y3
        obtain ⟨r, w1, ⟨w2, w3, w4, w5⟩, w6⟩ := ih (x1 := x1 + 1) (zz := zz) y3 (by omega) (by omega) (by omega) (by omega) (by omega) fu (by omega)
        obtain ⟨rr, S2, k2, n2⟩ := r
        dsimp only at w2 w3 w4 w5 w6
        show ∃ r, tb (T_ask (T_sum d) n S1) (0 + 1 + 1) (0 + 8 + 1) T_nt1 = some r ∧ _
        rw [w1, show ((x1 : Int) + 1) = ((x1 + 1 : Nat) : Int) by omega]
        rcases w6 with ⟨c, Y, v1, v2, ⟨v3, v3', v3'', v7⟩, v4, v5, v6⟩ | ⟨ft, pl, Y, v1, v2, v3, v4, v5, v6⟩
        · subst v1
          rw [tb_inl]
          have hrep : e ++ c ++ List.replicate (x1 + 1) ((20 : Int), (0 : Int)) = e ++ (c ++ [(20, 0)]) ++ List.replicate x1 (20, 0) := by
            rw [List.replicate_succ]; simp only [List.append_assoc, List.cons_append, List.nil_append]
          refine ⟨_, rfl, ⟨?_, ?_, ?_, ?_⟩, Or.inl ⟨c ++ [(20, 0)], Y, rfl, v2, ⟨?_, ?_, show S.1 5 + 3 ≤ S2.1 5 by omega, v7.not_⟩, a2.trans (y4.trans v4), nF.t8 (y5.trans v5), ?_⟩⟩
          · show ((0 + 1 + 1 + k2 : Nat) : Int) ≤ 40 * (S2.1 5 - S.1 5) + 50
            omega
          · show ((0 + 8 + 1 + n2 : Nat) : Int) ≤ 100 * (S2.1 5 - S.1 5) + 100
            omega
          · show S.1 5 ≤ S2.1 5
            omega
          · show S2.1 5 ≤ S.1 1
            omega
          · rw [← hrep, show S.1 8 - (x1 : Int) = S1.1 8 - ((x1 + 1 : Nat) : Int) by omega]
            exact v3.t8
          · rw [← hrep]
            exact v3'
          · show S.1 5 < S2.1 5
            omega
        · subst v1
          rw [tb_inr]
          exact ⟨_, rfl, ⟨show ((0 + 1 + 1 + k2 : Nat) : Int) ≤ 40 * (S2.1 5 - S.1 5) + 50 by omega, show ((0 + 8 + 1 + n2 : Nat) : Int) ≤ 100 * (S2.1 5 - S.1 5) + 100 by omega, show S.1 5 ≤ S2.1 5 by omega, show S2.1 5 ≤ S.1 1 by omega⟩, Or.inr ⟨ft, pl, Y, rfl, v2, v3, v4, v5, a2.trans (y4.trans v6)⟩⟩
    · rw [if_neg c1, if_neg (by rw [decide_eq_true_eq]; omega)]
      obtain ⟨r, w1, ⟨w2, w3, w4, w5⟩, w6⟩ := summed_ok d h h8 hd (zz := x1 + zz) (by omega)
      obtain ⟨rr, S2, k2, n2⟩ := r
      dsimp only at w2 w3 w4 w5 w6
      rw [w1]
      rcases w6 with ⟨c, Y, v1, v2, ⟨v3, v3', v7⟩, v4, v5, v6⟩ | ⟨ft, pl, Y, v1, v2, v3, v4, v5, v6⟩
      · subst v1
        have h82 : S2.1 8 = S.1 8 := v5.2 8 (by decide) (by decide) (by decide) (by decide)
        have h12 : S2.1 1 = S.1 1 := v5.2 1 (by decide) (by decide) (by decide) (by decide)
        rw [tb_inl, v2, bd2_some, gd_pos (by decide), if_pos rfl, v3.1.compareOf, bd_some]
        show ∃ r, gd (r32 (S2.1 6)) _ = some r ∧ _
        rw [gd_pos v3.1.tk.1.1]
        by_cases g : isCm (S2.1 6)
        · rw [if_pos g, if_pos g]
          have hcm : 10 ≤ cmO (S2.1 6) ∧ cmO (S2.1 6) ≤ 15 := by
            unfold cmO; repeat' split
            all_goals omega
          have hlt2 := v3.1.2.2.2.2.2.1.2.2 (by omega)
          obtain ⟨S3, Z, y1, y2, y3, y4, y5, y6⟩ := v3.next
          have h83 : S3.1 8 = S2.1 8 := y5.2 8 (by decide) (by decide) (by decide) (by decide)
          have h13 : S3.1 1 = S2.1 1 := y5.2 1 (by decide) (by decide) (by decide) (by decide)
          rw [gd_pos (by omega), if_neg (by omega), y1, bd_some, y2, bd_some]
          rw [← h82, ← h83] at y3
          obtain ⟨r, w1, ⟨w2b, w3b, w4b, w5b⟩, w6⟩ := summed_ok d y3 (by omega) (by omega) (zz := x1 + zz + 1) (by omega)
          obtain ⟨rr, S4, k4, n4⟩ := r
          dsimp only at w2b w3b w4b w5b w6
          rw [w1]
          rcases w6 with ⟨c', V, u1, u2, ⟨u3, u3', u7⟩, u4, u5, u6⟩ | ⟨ft, pl, V, u1, u2, u3, u4, u5, u6⟩
          · subst u1
            rw [tb_inl, u2, bd2_some, gd_pos (by decide), if_pos rfl]
            have h84 : S4.1 8 = S3.1 8 := u5.2 8 (by decide) (by decide) (by decide) (by decide)
            have b54 := u3.1.b5
            obtain ⟨A, p1, p2, p3⟩ := u3.emit (by omega) (cmO (S2.1 6)) 0
            rw [p1, bd_some, nm_eq]
            obtain ⟨q1, q2⟩ := p2.opens (A.1 25 - x1)
            have hA : A.1 25 = S.1 8 := by rw [p2.2.1]; omega
            rw [hA] at q1 q2 ⊢
            obtain ⟨B, t1, t2, t3⟩ := q1.nots x1 (x1 := x1) (k := 0) (by omega) (by omega) (by simp only [List.length_append, List.length_cons, List.length_nil] at u3' ⊢; omega) FU (by have : (x1 : Int) ≤ 8 := (by omega); unfold FU; omega)
            rw [t1]
            have hcode : e ++ c ++ c' ++ [(cmO (S2.1 6), (0 : Int))] ++ List.replicate x1 ((20 : Int), (0 : Int)) = e ++ (c ++ c' ++ [(cmO (S2.1 6), 0)]) ++ List.replicate x1 (20, 0) := by simp only [List.append_assoc]
            refine ⟨_, rfl, ⟨show ((0 + k2 + 1 + k4 : Nat) : Int) ≤ 40 * (S4.1 5 - S.1 5) + 50 by omega, show ((0 + n2 + 3 + n4 : Nat) : Int) ≤ 100 * (S4.1 5 - S.1 5) + 100 by omega, show S.1 5 ≤ S4.1 5 by omega, show S4.1 5 ≤ S.1 1 by omega⟩, Or.inl ⟨c ++ c' ++ [(cmO (S2.1 6), 0)], B, rfl, rfl, ⟨by rw [← hcode]; exact t2, ?_, show S.1 5 + 3 ≤ S4.1 5 by omega, ckA.cmp v7 u7 hcm⟩, v4.trans (y4.trans (u4.trans (p3.trans (q2.trans t3)))), (v5.trans y5).trans u5, show S.1 5 < S4.1 5 by omega⟩⟩
            show _ ≤ S4.1 5
            simp only [List.length_append, List.length_replicate, List.length_cons, List.length_nil] at u3' ⊢
            omega
          · subst u1
            rw [tb_inr, u2, bd2_some, gd_pos (by omega), if_neg (by omega)]
            exact ⟨_, rfl, ⟨show ((0 + k2 + 1 + k4 : Nat) : Int) ≤ 40 * (S4.1 5 - S.1 5) + 50 by omega, show ((0 + n2 + 3 + n4 : Nat) : Int) ≤ 100 * (S4.1 5 - S.1 5) + 100 by omega, show S.1 5 ≤ S4.1 5 by omega, show S4.1 5 ≤ S.1 1 by omega⟩, Or.inr ⟨ft, pl, V, rfl, rfl, u3, u4, u5, v4.trans (y4.trans u6)⟩⟩
        · rw [if_neg g, if_neg g, gd_pos (by decide), if_pos (by decide)]
          have b52 := v3.1.b5
          exact ⟨_, rfl, ⟨show ((0 + k2 + 1 : Nat) : Int) ≤ 40 * (S2.1 5 - S.1 5) + 50 by omega, show ((0 + n2 + 8 : Nat) : Int) ≤ 100 * (S2.1 5 - S.1 5) + 100 by omega, w4, w5⟩, Or.inr ⟨1, S2.1 5, Y, rfl, rfl, by decide, v3.1.2.2.2.2.1.symm, by omega, v4⟩⟩
      · subst v1
        rw [tb_inr, v2, bd2_some, gd_pos (by omega), if_neg (by omega)]
        exact ⟨_, rfl, ⟨show ((0 + k2 : Nat) : Int) ≤ 40 * (S2.1 5 - S.1 5) + 50 by omega, show ((0 + n2 : Nat) : Int) ≤ 100 * (S2.1 5 - S.1 5) + 100 by omega, w4, w5⟩, Or.inr ⟨ft, pl, Y, rfl, rfl, v3, v4, v5, v6⟩⟩
theorem ask_ok0 (d : Nat) {S : yS} {Sm : xS} {e : List (Int × Int)} {zz : Nat} (h : PC S Sm (S.1 8) e) (h8 : 0 ≤ S.1 8 ∧ S.1 8 ≤ 8) (hd : 9 ≤ S.1 8 + d) {n : Nat} (hn : 9 ≤ S.1 8 + n) (hn2 : n < FU) (hl : ((e.length + zz : Nat) : Int) ≤ S.1 5) : ∃ r, T_ask (T_sum d) n S = some r ∧ ParR 50 100 S Sm (M_ask Sm) r (fun c Sm' => PC r.2.1 Sm' (S.1 8) (e ++ c) ∧ (((e ++ c).length + zz : Nat) : Int) ≤ r.2.1.1 5 ∧ S.1 5 + 3 ≤ r.2.1.1 5 ∧ ckA c) := by
  obtain ⟨r, w1, w2, w3⟩ := ask_ok d n (x1 := 0) (zz := zz) h h8 hd hn (by omega) (by omega) FU hn2
  refine ⟨r, w1, w2, ?_⟩
  rcases w3 with ⟨c, Y, v1, v2, ⟨v3, v3', v3'', v7⟩, v4, v5, v6⟩ | v
  · refine Or.inl ⟨c, Y, v1, v2, ⟨?_, ?_, v3'', v7⟩, v4, v5, v6⟩
    · simpa using v3
    · simpa using v3'
  · exact Or.inr v
