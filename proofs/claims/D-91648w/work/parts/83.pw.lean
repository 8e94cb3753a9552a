set_option maxRecDepth 100000
/-- behind one 'both' of the reference -/
def eR (fu : Nat) (Y : xS) (so : Int) : Option (Int × xS) := if so = 204 then bd (M_nextToken Y) (fun X => M_either_L6 fu X 0 1 1) else M_either_L6 fu Y 0 0 0
theorem either_loop (d n0 : Nat) (hn0 : n0 < FU) : ∀ (m0 : Nat) (S : yS) (Sm : xS) (e : List (Int × Int)) (cs : List tC) (k n N N' : Nat), 300 - S.1 5 ≤ m0 → PC S Sm (S.1 8) (e ++ joinA false cs) → (0 ≤ S.1 8 ∧ S.1 8 ≤ 8) → 9 ≤ S.1 8 + d → 9 ≤ S.1 8 + n0 → cs ≠ [] → (((e ++ joinA false cs).length : Nat) : Int) ≤ S.1 5 → (cs.length : Int) ≤ S.1 5 → ckA (joinA false cs) → k ≤ N' → n ≤ N + sA cs.length → ∀ fT, m0 < fT → ∃ r, T_lsL 204 false (T_both d n0) fT cs S k n = some r ∧ (S.1 5 ≤ r.2.1.1 5 ∧ r.2.1.1 5 ≤ S.1 1) ∧
    ((∃ c Sm' j, r.1 = .inl c ∧ (∀ fu, eR (fu + j) Sm (S.1 6) = some (0, Sm')) ∧ (j : Int) ≤ r.2.1.1 5 - S.1 5 + 1 ∧ PC r.2.1 Sm' (S.1 8) (e ++ c) ∧ (((e ++ c).length : Nat) : Int) ≤ r.2.1.1 5 ∧ mFr Sm Sm' ∧ nF S r.2.1 ∧ (r.2.2.1 : Int) ≤ N' + 60 * (r.2.1.1 5 - S.1 5) + 1 ∧ (r.2.2.2 : Int) ≤ N + 140 * (r.2.1.1 5 - S.1 5) + 10 * cs.length + 2 ∧ ckA c) ∨
     (∃ ft pl Sm' j, r.1 = .inr (ft, pl) ∧ (∀ fu, eR (fu + j) Sm (S.1 6) = some (ft, Sm')) ∧ (j : Int) ≤ r.2.1.1 5 - S.1 5 + 1 ∧ (1 ≤ ft ∧ ft ≤ 6) ∧ Sm'.1 14 = pl ∧ r32 pl ∧ mFr Sm Sm' ∧ (r.2.2.1 : Int) ≤ N' + 60 * (r.2.1.1 5 - S.1 5) + 52 ∧ (r.2.2.2 : Int) ≤ N + 140 * (r.2.1.1 5 - S.1 5) + 10 * cs.length + 120)) := by
  intro m0
  induction m0 with
  | zero =>
    intro S Sm e cs k n N N' hm hP h8 hd hn hc hl hcl hck hk hN fT hfT
    obtain ⟨fT, rfl⟩ : ∃ k, fT = k + 1 := ⟨fT - 1, by omega⟩
    have b5 := hP.1.b5
    have hend : S.1 6 = 301 := by
      have := hP.1.2.2.2.2.2.1.2.2
      by_cases g : S.1 6 = 301
      · exact g
      · have := this g; omega
    have sb := (sA_bd cs.length (by omega)).1
    have hX : T_lsL 204 false (T_both d n0) (fT + 1) cs S k n = gd (r32 (S.1 6)) (if S.1 6 = 204 then bd (T_next S) (fun S1 => tb (T_both d n0 S1) k n (fun c S2 k n => gd (capN cs.length < 40000) (T_lsL 204 false (T_both d n0) fT (cs ++ [c]) S2 (k + aC cs.length) (n + aS cs.length)))) else if cs.length = 1 then some (.inl (joinA false cs), S, k, n) else some (.inl (joinA false cs), S, k + 1, n + 2)) := rfl
    rw [hX, gd_pos (by rw [hend]; decide), if_neg (by omega)]
    have hR : ∀ fu, eR (fu + 1) Sm (S.1 6) = some (0, Sm) := fun fu => by unfold eR; rw [if_neg (by omega), L6_end]
    by_cases g1 : cs.length = 1
    · rw [if_pos g1]
      exact ⟨_, rfl, ⟨Int.le_refl _, show S.1 5 ≤ S.1 1 by omega⟩, Or.inl ⟨_, Sm, 1, rfl, hR, show (1 : Int) ≤ S.1 5 - S.1 5 + 1 by omega, hP, hl, mFr.rfl_ _, nF.rfl_ _, show (k : Int) ≤ N' + 60 * (S.1 5 - S.1 5) + 1 by omega, show (n : Int) ≤ N + 140 * (S.1 5 - S.1 5) + 10 * cs.length + 2 by omega, hck⟩⟩
    · rw [if_neg g1]
      exact ⟨_, rfl, ⟨Int.le_refl _, show S.1 5 ≤ S.1 1 by omega⟩, Or.inl ⟨_, Sm, 1, rfl, hR, show (1 : Int) ≤ S.1 5 - S.1 5 + 1 by omega, hP, hl, mFr.rfl_ _, nF.rfl_ _, show ((k + 1 : Nat) : Int) ≤ N' + 60 * (S.1 5 - S.1 5) + 1 by omega, show ((n + 2 : Nat) : Int) ≤ N + 140 * (S.1 5 - S.1 5) + 10 * cs.length + 2 by omega, hck⟩⟩
  | succ m0 ih =>
    intro S Sm e cs k n N N' hm hP h8 hd hn hc hl hcl hck hk hN fT hfT
    obtain ⟨fT, rfl⟩ : ∃ k, fT = k + 1 := ⟨fT - 1, by omega⟩
    have b5 := hP.1.b5
    have sb := (sA_bd cs.length (by omega)).1
    have hX : T_lsL 204 false (T_both d n0) (fT + 1) cs S k n = gd (r32 (S.1 6)) (if S.1 6 = 204 then bd (T_next S) (fun S1 => tb (T_both d n0 S1) k n (fun c S2 k n => gd (capN cs.length < 40000) (T_lsL 204 false (T_both d n0) fT (cs ++ [c]) S2 (k + aC cs.length) (n + aS cs.length)))) else if cs.length = 1 then some (.inl (joinA false cs), S, k, n) else some (.inl (joinA false cs), S, k + 1, n + 2)) := rfl
    rw [hX, gd_pos hP.1.tk.1.1]
    by_cases c5 : S.1 6 = 204
    · have hlt := hP.1.2.2.2.2.2.1.2.2 (by omega)
      obtain ⟨S1, X, y1, y2, y3, y4, y5, y6⟩ := hP.next
      have h81 := y5.f8
      have h11 := y5.f1
      rw [if_pos c5, y1, bd_some]
      have hB : ∀ fu, eR fu Sm (S.1 6) = M_either_L6 fu X 0 1 1 := fun fu => by unfold eR; rw [if_pos c5, y2, bd_some]
      rw [← h81] at y3
      obtain ⟨r, w1, ⟨w4, w5⟩, w6⟩ := both_ok d n0 hn0 1 (zz := 1) y3 (by omega) (by omega) (by omega) (by omega)
      obtain ⟨rr, S2, k2, n2⟩ := r
      dsimp only at w4 w5 w6
      rw [w1]
      rcases w6 with ⟨c, Y, j, v1, v2, v7, v3, v3', v4, v5, v8, v3'', v9, v10, v11⟩ | ⟨ft, pl, Y, j, v1, v2, v7, v3, v4, v5, v6, v8, v9⟩
      · subst v1
        rw [tb_inl, gd_pos (sA_bd cs.length (by omega)).2]
        have h82 := v5.f8
        have h12 := v5.f1
        have b52 := v3.1.b5
        obtain ⟨Z, z1, z2, z3⟩ := v3.emit (by omega) 22 0
        have hj : e ++ joinA false (cs ++ [c]) = e ++ joinA false cs ++ c ++ [(22, 0)] := by
          rw [joinA_app false hc]
          simp
        have hac := aC_le cs.length
        rw [← hj, ← h82] at z2
        obtain ⟨r, u1, ⟨u2, u3⟩, u4⟩ := ih S2 Z e (cs ++ [c]) (k + k2 + aC cs.length) (n + n2 + aS cs.length) (N + n2) (N' + k2 + 1) (by omega) z2 (by omega) (by omega) (by omega) (by simp) (by
          rw [hj]
          simp only [List.length_append, List.length_cons, List.length_nil] at v3' ⊢
          omega) (by simp only [List.length_append, List.length_cons, List.length_nil]; omega) (by rw [joinA_app false hc]; exact hck.two v11 (by decide)) (by omega) (by
          rw [List.length_append]
          show _ ≤ _ + (sA cs.length + aS cs.length)
          omega) fT (by omega)
        have hB2 : ∀ fu, eR (fu + j) Sm (S.1 6) = eR fu Z (S2.1 6) := fun fu => by
          rw [hB, v2, v3.1.B35_no v8 (Or.inr rfl), if_neg (by decide), z1, bd_some]
          rfl
        refine ⟨r, u1, ⟨by omega, by omega⟩, ?_⟩
        simp only [List.length_append, List.length_cons, List.length_nil] at u4
        rcases u4 with ⟨c', V, j2, t1, t2, t3, t4, t5, t6, t7, t9, t10, t11⟩ | ⟨ft, pl, V, j2, t1, t2, t3, t4, t5, t6, t7, t8, t9⟩
        · refine Or.inl ⟨c', V, j2 + j, t1, fun fu => ?_, by omega, by rw [← h81, ← h82]; exact t4, by simpa [List.length_append] using t5, y4.trans (v4.trans (z3.trans t6)), (y5.trans v5).trans t7, by omega, by omega, t11⟩
          rw [← Nat.add_assoc, hB2, t2]
        · refine Or.inr ⟨ft, pl, V, j2 + j, t1, fun fu => ?_, by omega, t4, t5, t6, y4.trans (v4.trans (z3.trans t7)), by omega, by omega⟩
          rw [← Nat.add_assoc, hB2, t2]
      · subst v1
        rw [tb_inr]
        refine ⟨_, rfl, ⟨show S.1 5 ≤ S2.1 5 by omega, show S2.1 5 ≤ S.1 1 by omega⟩, Or.inr ⟨ft, pl, Y, j, rfl, fun fu => by rw [hB, v2], show (j : Int) ≤ S2.1 5 - S.1 5 + 1 by omega, v3, v4, v5, y4.trans v6, show ((k + k2 : Nat) : Int) ≤ N' + 60 * (S2.1 5 - S.1 5) + 52 by omega, show ((n + n2 : Nat) : Int) ≤ N + 140 * (S2.1 5 - S.1 5) + 10 * cs.length + 120 by omega⟩⟩
    · have hR : ∀ fu, eR (fu + 1) Sm (S.1 6) = some (0, Sm) := fun fu => by unfold eR; rw [if_neg c5, L6_end]
      rw [if_neg c5]
      by_cases g1 : cs.length = 1
      · rw [if_pos g1]
        exact ⟨_, rfl, ⟨Int.le_refl _, show S.1 5 ≤ S.1 1 by omega⟩, Or.inl ⟨_, Sm, 1, rfl, hR, show (1 : Int) ≤ S.1 5 - S.1 5 + 1 by omega, hP, hl, mFr.rfl_ _, nF.rfl_ _, show (k : Int) ≤ N' + 60 * (S.1 5 - S.1 5) + 1 by omega, show (n : Int) ≤ N + 140 * (S.1 5 - S.1 5) + 10 * cs.length + 2 by omega, hck⟩⟩
      · rw [if_neg g1]
        exact ⟨_, rfl, ⟨Int.le_refl _, show S.1 5 ≤ S.1 1 by omega⟩, Or.inl ⟨_, Sm, 1, rfl, hR, show (1 : Int) ≤ S.1 5 - S.1 5 + 1 by omega, hP, hl, mFr.rfl_ _, nF.rfl_ _, show ((k + 1 : Nat) : Int) ≤ N' + 60 * (S.1 5 - S.1 5) + 1 by omega, show ((n + 2 : Nat) : Int) ≤ N + 140 * (S.1 5 - S.1 5) + 10 * cs.length + 2 by omega, hck⟩⟩
/-- as ParR, with the greater cost of asks -/
def ParE (kc ks : Nat) (S : yS) (Sm : xS) (m : Option (Int × xS)) (r : tR (List (Int × Int))) (Pq : List (Int × Int) → xS → Prop) : Prop :=
  ((r.2.2.1 : Int) ≤ 60 * (r.2.1.1 5 - S.1 5) + kc ∧ (r.2.2.2 : Int) ≤ 140 * (r.2.1.1 5 - S.1 5) + ks ∧ S.1 5 ≤ r.2.1.1 5 ∧ r.2.1.1 5 ≤ S.1 1) ∧
  ((∃ c Sm', r.1 = .inl c ∧ m = some (0, Sm') ∧ Pq c Sm' ∧ mFr Sm Sm' ∧ nF S r.2.1 ∧ S.1 5 < r.2.1.1 5) ∨
   (∃ ft pl Sm', r.1 = .inr (ft, pl) ∧ m = some (ft, Sm') ∧ (1 ≤ ft ∧ ft ≤ 6) ∧ Sm'.1 14 = pl ∧ r32 pl ∧ mFr Sm Sm'))
theorem ParR.e {kc ks kc' ks' : Nat} {S : yS} {Sm : xS} {m : Option (Int × xS)} {r : tR (List (Int × Int))} {Pq : List (Int × Int) → xS → Prop} (h : ParR kc ks S Sm m r Pq) (h1 : kc ≤ kc') (h2 : ks ≤ ks') : ParE kc' ks' S Sm m r Pq := by
  obtain ⟨⟨a, b, c, d⟩, e⟩ := h
  exact ⟨⟨by omega, by omega, c, d⟩, e⟩
/-- either -/
theorem either_ok (d n0 : Nat) (hn0 : n0 < FU) {S : yS} {Sm : xS} {e : List (Int × Int)} (h : PC S Sm (S.1 8) e) (h8 : 0 ≤ S.1 8 ∧ S.1 8 ≤ 8) (hd : 9 ≤ S.1 8 + d) (hn : 9 ≤ S.1 8 + n0) (hl : (e.length : Int) ≤ S.1 5) : ∃ r, T_either d n0 S = some r ∧ ParE 60 200 S Sm (M_either Sm) r (fun c Sm' => PC r.2.1 Sm' (S.1 8) (e ++ c) ∧ (((e ++ c).length : Nat) : Int) ≤ r.2.1.1 5 ∧ ckA c) := by
  have hX : T_either d n0 S = tb (T_both d n0 S) 1 3 (fun c S k n => T_lsL 204 false (T_both d n0) FU [c] S (k + aC 0) (n + aS 0)) := rfl
  have hM : M_either Sm = M_either_L6 FU Sm 0 0 1 := rfl
  have b5 := h.1.b5
  rw [hX, hM]
  obtain ⟨r, w1, ⟨w4, w5⟩, w6⟩ := both_ok d n0 hn0 0 (zz := 0) h h8 hd hn (by omega)
  obtain ⟨rr, S2, k2, n2⟩ := r
  dsimp only at w4 w5 w6
  rw [w1]
  rcases w6 with ⟨c, Y, j, v1, v2, v7, v3, v3', v4, v5, v8, v3'', v9, v10, v11⟩ | ⟨ft, pl, Y, j, v1, v2, v7, v3, v4, v5, v6, v8, v9⟩
  · subst v1
    rw [tb_inl]
    have h82 := v5.f8
    have h12 := v5.f1
    have b52 := v3.1.b5
    have hj : joinA false [c] = c := by simp [joinA]
    have hac := aC_le 0
    have has : aS 0 = 10 := by decide
    obtain ⟨r, u1, ⟨u2, u3⟩, u4⟩ := either_loop d n0 hn0 300 S2 Y e [c] (1 + k2 + aC 0) (3 + n2 + aS 0) (3 + n2) (1 + k2 + 1) (by omega) (by rw [hj, h82]; exact v3) (by omega) (by omega) (by omega) (by simp) (by rw [hj]; exact v3') (by simp; omega) (by rw [hj]; exact v11) (by omega) (by rw [has]; exact Nat.le_refl _) FU (by decide)
    have hB2 : ∀ fu, M_either_L6 (fu + j) Sm 0 0 1 = eR fu Y (S2.1 6) := fun fu => by
      rw [v2, v3.1.B35_no v8 (Or.inl rfl), if_pos rfl]
      rfl
    refine ⟨r, u1, ?_⟩
    simp only [List.length_cons, List.length_nil] at u4
    rcases u4 with ⟨c', V, j2, t1, t2, t3, t4, t5, t6, t7, t9, t10, t11⟩ | ⟨ft, pl, V, j2, t1, t2, t3, t4, t5, t6, t7, t8, t9⟩
    · refine ⟨⟨by omega, by omega, by omega, by omega⟩, Or.inl ⟨c', V, t1, ?_, ⟨by rw [← h82]; exact t4, t5, t11⟩, v4.trans t6, v5.trans t7, by omega⟩⟩
      have q1 := hB2 (FU - j)
      have q2 := t2 (FU - j - j2)
      rw [show FU - j + j = FU by unfold FU; omega] at q1
      rw [show FU - j - j2 + j2 = FU - j by unfold FU; omega] at q2
      rw [q1, q2]
    · refine ⟨⟨by omega, by omega, by omega, by omega⟩, Or.inr ⟨ft, pl, V, t1, ?_, t4, t5, t6, v4.trans t7⟩⟩
      have q1 := hB2 (FU - j)
      have q2 := t2 (FU - j - j2)
      rw [show FU - j + j = FU by unfold FU; omega] at q1
      rw [show FU - j - j2 + j2 = FU - j by unfold FU; omega] at q2
      rw [q1, q2]
  · subst v1
    rw [tb_inr]
    refine ⟨_, rfl, ⟨show ((1 + k2 : Nat) : Int) ≤ 60 * (S2.1 5 - S.1 5) + 60 by omega, show ((3 + n2 : Nat) : Int) ≤ 140 * (S2.1 5 - S.1 5) + 200 by omega, w4, w5⟩, Or.inr ⟨ft, pl, Y, rfl, ?_, v3, v4, v5, v6⟩⟩
    have q1 := v2 (FU - j)
    rw [show FU - j + j = FU by unfold FU; omega] at q1
    exact q1
