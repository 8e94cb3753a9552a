set_option maxRecDepth 100000
/-! either and both -/
section BE
variable {S : yS} {Sm : xS} {K : xS → Int → Int → Int → Option (Int × xS)} {x2 : Int}
theorem LX.or_ (h : LX S Sm) : S.1 6 = 204 ↔ (Sm.1 15 = 2 ∧ Sm.1 17 = 28530) := by
  have := h.tk.2.2.2.1 4 (by decide)
  rw [show wc 4 = 28530 by decide, show (200 : Int) + ((4 : Nat) : Int) = 204 by decide] at this
  exact this
theorem LX.B35 (h : LX S Sm) : M_either_B35 K Sm x2 = M_either_B73 K Sm (bz (decide (S.1 6 = 205))) x2 (bz (decide (S.1 6 = 204))) := by
  unfold M_either_B35
  rw [wrd_and, bd_some, h.isWord (w := 5) (by decide) rfl, bd_some, nm_eq, gd_pos h.tk.1.2.1]
  rw [show (200 : Int) + ((5 : Nat) : Int) = 205 by decide]
  have ho := h.or_
  by_cases c : S.1 6 = 204
  · rw [if_pos (ho.mp c).1, gd_pos (h.tk.1.2.2 (ho.mp c).1), if_pos (ho.mp c).2, show decide (S.1 6 = 204) = true from decide_eq_true c]
    rfl
  · rw [show decide (S.1 6 = 204) = false from decide_eq_false c]
    have h72 : M_either_B72 K Sm (bz (decide (S.1 6 = 205))) x2 = M_either_B73 K Sm (bz (decide (S.1 6 = 205))) x2 (bz false) := rfl
    rw [h72]
    by_cases g : Sm.1 15 = 2
    · rw [if_pos g, gd_pos (h.tk.1.2.2 g), if_neg (fun w => c (ho.mpr ⟨g, w⟩))]
    · rw [if_neg g]
theorem LX.B35_and (h : LX S Sm) (hs : S.1 6 = 205) : M_either_B35 K Sm x2 = bd (M_nextToken Sm) (fun X => K X 1 x2 1) := by
  rw [h.B35, show decide (S.1 6 = 205) = true from decide_eq_true hs, show decide (S.1 6 = 204) = false from decide_eq_false (by omega)]
  show M_either_B73 K Sm 1 x2 0 = _
  unfold M_either_B73 M_either_B93 M_either_B102 M_either_B107
  rw [gd_pos (by decide), if_neg (by decide), gd_pos (by decide), if_neg (by decide), gd_pos (by decide), if_neg (by decide)]
theorem LX.B35_no (h : LX S Sm) (hs : S.1 6 ≠ 205) (hx : x2 = 0 ∨ x2 = 1) : M_either_B35 K Sm x2 = (if x2 = 0 then (if S.1 6 = 204 then bd (M_nextToken Sm) (fun X => K X 0 1 1) else K Sm 0 0 0) else bd (M_emit Sm 22 0) (fun Y => if S.1 6 = 204 then bd (M_nextToken Y) (fun X => K X 0 1 1) else K Y 0 0 0)) := by
  rw [h.B35, show decide (S.1 6 = 205) = false from decide_eq_false hs]
  have hB : ∀ Y, M_either_B90 K Y 0 (bz (decide (S.1 6 = 204))) = if S.1 6 = 204 then bd (M_nextToken Y) (fun X => K X 0 1 1) else K Y 0 0 0 := by
    intro Y
    unfold M_either_B90 M_either_B93 M_either_B102 M_either_B107
    by_cases c : S.1 6 = 204
    · rw [show decide (S.1 6 = 204) = true from decide_eq_true c, if_pos c, gd_pos (by decide), if_pos rfl, gd_pos (by decide), if_neg (by decide), gd_pos (by decide), if_neg (by decide)]
      rfl
    · rw [show decide (S.1 6 = 204) = false from decide_eq_false c, if_neg c, gd_pos (by decide), if_pos rfl, gd_pos (by decide), if_pos (by decide), gd_pos (by decide), if_pos rfl]
      rfl
  show M_either_B73 K Sm 0 x2 _ = _
  unfold M_either_B73
  rw [gd_pos (by decide), if_pos rfl, gd_pos (by omega)]
  rcases hx with rfl | rfl
  · rw [if_pos rfl, if_pos rfl, hB]
  · rw [if_neg (by decide), if_neg (by decide)]
    congr 1
    funext Y
    exact hB Y
theorem L6_ask {fu : Nat} {x1 : Int} (hx : x1 = 0 ∨ x1 = 1) {X : xS} (hM : M_ask Sm = some (0, X)) : M_either_L6 (fu + 1) Sm x1 x2 1 = if x1 = 0 then M_either_B35 (M_either_L6 fu) X x2 else bd (M_emit X 21 0) (fun Y => M_either_B35 (M_either_L6 fu) Y x2) := by
  show M_either_b6 (M_either_L6 fu) Sm x1 x2 1 = _
  unfold M_either_b6
  rw [gd_pos (by decide), if_neg (by decide), hM, bd2_some, gd_pos (by decide), if_pos rfl, gd_pos (by omega)]
theorem L6_fail {fu : Nat} {x1 : Int} {X : xS} {f : Int} (hf : 1 ≤ f ∧ f ≤ 6) (hM : M_ask Sm = some (f, X)) : M_either_L6 (fu + 1) Sm x1 x2 1 = some (f, X) := by
  show M_either_b6 (M_either_L6 fu) Sm x1 x2 1 = _
  unfold M_either_b6
  rw [gd_pos (by decide), if_neg (by decide), hM, bd2_some, gd_pos (by omega), if_neg (by omega)]
theorem L6_end {fu : Nat} : M_either_L6 (fu + 1) Sm 0 0 0 = some (0, Sm) := by
  show M_either_b6 (M_either_L6 fu) Sm 0 0 0 = _
  unfold M_either_b6
  rw [gd_pos (by decide), if_pos rfl]
end BE
theorem aC_le (m : Nat) : aC m ≤ 1 := by unfold aC; split <;> omega
theorem nF.f1 {S X : yS} (h : nF S X) : X.1 1 = S.1 1 := h.2 1 (by decide) (by decide) (by decide) (by decide)
theorem nF.f8 {S X : yS} (h : nF S X) : X.1 8 = S.1 8 := h.2 8 (by decide) (by decide) (by decide) (by decide)
/-- the asks of one 'both', behind the first -/
theorem both_loop (d n0 : Nat) (hn0 : n0 < FU) (x2 : Int) : ∀ (m0 : Nat) (S : yS) (Sm : xS) (e : List (Int × Int)) (cs : List tC) (k n N N' zz : Nat), 300 - S.1 5 ≤ m0 → PC S Sm (S.1 8) (e ++ joinA true cs) → (0 ≤ S.1 8 ∧ S.1 8 ≤ 8) → 9 ≤ S.1 8 + d → 9 ≤ S.1 8 + n0 → cs ≠ [] → (((e ++ joinA true cs).length + zz : Nat) : Int) ≤ S.1 5 → (cs.length : Int) ≤ S.1 5 → ckA (joinA true cs) → k ≤ N' → n ≤ N + sA cs.length → ∀ fT, m0 < fT → ∃ r, T_lsL 205 true (T_ask (T_sum d) n0) fT cs S k n = some r ∧ (S.1 5 ≤ r.2.1.1 5 ∧ r.2.1.1 5 ≤ S.1 1) ∧
    ((∃ c Sm' j, r.1 = .inl c ∧ (∀ fu, M_either_B35 (M_either_L6 (fu + j)) Sm x2 = M_either_B35 (M_either_L6 fu) Sm' x2) ∧ (j : Int) ≤ r.2.1.1 5 - S.1 5 ∧ PC r.2.1 Sm' (S.1 8) (e ++ c) ∧ (((e ++ c).length + zz : Nat) : Int) ≤ r.2.1.1 5 ∧ mFr Sm Sm' ∧ nF S r.2.1 ∧ r.2.1.1 6 ≠ 205 ∧ (r.2.2.1 : Int) ≤ N' + 60 * (r.2.1.1 5 - S.1 5) + 1 ∧ (r.2.2.2 : Int) ≤ N + 140 * (r.2.1.1 5 - S.1 5) + 10 * cs.length + 2 ∧ ckA c) ∨
     (∃ ft pl Sm' j, r.1 = .inr (ft, pl) ∧ (∀ fu, M_either_B35 (M_either_L6 (fu + j)) Sm x2 = some (ft, Sm')) ∧ (j : Int) ≤ r.2.1.1 5 - S.1 5 + 1 ∧ (1 ≤ ft ∧ ft ≤ 6) ∧ Sm'.1 14 = pl ∧ r32 pl ∧ mFr Sm Sm' ∧ (r.2.2.1 : Int) ≤ N' + 60 * (r.2.1.1 5 - S.1 5) + 50 ∧ (r.2.2.2 : Int) ≤ N + 140 * (r.2.1.1 5 - S.1 5) + 10 * cs.length + 100)) := by
  intro m0
  induction m0 with
  | zero =>
    intro S Sm e cs k n N N' zz hm hP h8 hd hn hc hl hcl hck hk hN fT hfT
    obtain ⟨fT, rfl⟩ : ∃ k, fT = k + 1 := ⟨fT - 1, by omega⟩
    have b5 := hP.1.b5
    have hend : S.1 6 = 301 := by
      have := hP.1.2.2.2.2.2.1.2.2
      by_cases g : S.1 6 = 301
      · exact g
      · have := this g; omega
    have sb := (sA_bd cs.length (by omega)).1
    have hX : T_lsL 205 true (T_ask (T_sum d) n0) (fT + 1) cs S k n = gd (r32 (S.1 6)) (if S.1 6 = 205 then bd (T_next S) (fun S1 => tb (T_ask (T_sum d) n0 S1) k n (fun c S2 k n => gd (capN cs.length < 40000) (T_lsL 205 true (T_ask (T_sum d) n0) fT (cs ++ [c]) S2 (k + aC cs.length) (n + aS cs.length)))) else if cs.length = 1 then some (.inl (joinA true cs), S, k, n) else some (.inl (joinA true cs), S, k + 1, n + 2)) := rfl
    rw [hX, gd_pos (by rw [hend]; decide), if_neg (by omega)]
    by_cases g1 : cs.length = 1
    · rw [if_pos g1]
      exact ⟨_, rfl, ⟨Int.le_refl _, show S.1 5 ≤ S.1 1 by omega⟩, Or.inl ⟨_, Sm, 0, rfl, fun fu => rfl, show (0 : Int) ≤ S.1 5 - S.1 5 by omega, hP, hl, mFr.rfl_ _, nF.rfl_ _, show S.1 6 ≠ 205 by omega, show (k : Int) ≤ N' + 60 * (S.1 5 - S.1 5) + 1 by omega, show (n : Int) ≤ N + 140 * (S.1 5 - S.1 5) + 10 * cs.length + 2 by omega, hck⟩⟩
    · rw [if_neg g1]
      exact ⟨_, rfl, ⟨Int.le_refl _, show S.1 5 ≤ S.1 1 by omega⟩, Or.inl ⟨_, Sm, 0, rfl, fun fu => rfl, show (0 : Int) ≤ S.1 5 - S.1 5 by omega, hP, hl, mFr.rfl_ _, nF.rfl_ _, show S.1 6 ≠ 205 by omega, show ((k + 1 : Nat) : Int) ≤ N' + 60 * (S.1 5 - S.1 5) + 1 by omega, show ((n + 2 : Nat) : Int) ≤ N + 140 * (S.1 5 - S.1 5) + 10 * cs.length + 2 by omega, hck⟩⟩
  | succ m0 ih =>
    intro S Sm e cs k n N N' zz hm hP h8 hd hn hc hl hcl hck hk hN fT hfT
    obtain ⟨fT, rfl⟩ : ∃ k, fT = k + 1 := ⟨fT - 1, by omega⟩
    have b5 := hP.1.b5
    have sb := (sA_bd cs.length (by omega)).1
    have hX : T_lsL 205 true (T_ask (T_sum d) n0) (fT + 1) cs S k n = gd (r32 (S.1 6)) (if S.1 6 = 205 then bd (T_next S) (fun S1 => tb (T_ask (T_sum d) n0 S1) k n (fun c S2 k n => gd (capN cs.length < 40000) (T_lsL 205 true (T_ask (T_sum d) n0) fT (cs ++ [c]) S2 (k + aC cs.length) (n + aS cs.length)))) else if cs.length = 1 then some (.inl (joinA true cs), S, k, n) else some (.inl (joinA true cs), S, k + 1, n + 2)) := rfl
    rw [hX, gd_pos hP.1.tk.1.1]
    by_cases c5 : S.1 6 = 205
    · have hlt := hP.1.2.2.2.2.2.1.2.2 (by omega)
      obtain ⟨S1, X, y1, y2, y3, y4, y5, y6⟩ := hP.next
      have h81 := y5.f8
      have h11 := y5.f1
      rw [if_pos c5, y1, bd_some]
      have hB : ∀ fu, M_either_B35 (M_either_L6 fu) Sm x2 = M_either_L6 fu X 1 x2 1 := fun fu => by rw [hP.1.B35_and c5, y2, bd_some]
      rw [← h81] at y3
      obtain ⟨r, w1, ⟨w2, w3, w4, w5⟩, w6⟩ := ask_ok0 d (zz := zz + 1) y3 (by omega) (by omega) (n := n0) (by omega) hn0 (by omega)
      obtain ⟨rr, S2, k2, n2⟩ := r
      dsimp only at w2 w3 w4 w5 w6
      rw [w1]
      rcases w6 with ⟨c, Y, v1, v2, ⟨v3, v3', v3'', v7⟩, v4, v5, v6⟩ | ⟨ft, pl, Y, v1, v2, v3, v4, v5, v6⟩
      · subst v1
        rw [tb_inl, gd_pos (sA_bd cs.length (by omega)).2]
        have h82 := v5.f8
        have h12 := v5.f1
        have b52 := v3.1.b5
        obtain ⟨Z, z1, z2, z3⟩ := v3.emit (by omega) 21 0
        have hj : e ++ joinA true (cs ++ [c]) = e ++ joinA true cs ++ c ++ [(21, 0)] := by
          rw [joinA_app true hc]
          simp only [List.append_assoc, if_true]
        have hac := aC_le cs.length
        rw [← hj, ← h82] at z2
        obtain ⟨r, u1, ⟨u2, u3⟩, u4⟩ := ih S2 Z e (cs ++ [c]) (k + k2 + aC cs.length) (n + n2 + aS cs.length) (N + n2) (N' + k2 + 1) zz (by omega) z2 (by omega) (by omega) (by omega) (by simp) (by
          rw [hj]
          simp only [List.length_append, List.length_cons, List.length_nil] at v3' ⊢
          omega) (by simp only [List.length_append, List.length_cons, List.length_nil]; omega) (by rw [joinA_app true hc]; exact hck.two v7 (by decide)) (by omega) (by
          rw [List.length_append]
          show _ ≤ _ + (sA cs.length + aS cs.length)
          omega) fT (by omega)
        have hB2 : ∀ fu, M_either_B35 (M_either_L6 (fu + 1)) Sm x2 = M_either_B35 (M_either_L6 fu) Z x2 := fun fu => by rw [hB, L6_ask (Or.inr rfl) v2, if_neg (by decide), z1, bd_some]
        refine ⟨r, u1, ⟨by omega, by omega⟩, ?_⟩
        simp only [List.length_append, List.length_cons, List.length_nil] at u4
        rcases u4 with ⟨c', V, j, t1, t2, t3, t4, t5, t6, t7, t8, t9, t10, t11⟩ | ⟨ft, pl, V, j, t1, t2, t3, t4, t5, t6, t7, t8, t9⟩
        · refine Or.inl ⟨c', V, j + 1, t1, fun fu => ?_, by omega, by rw [← h81, ← h82]; exact t4, by simpa [List.length_append] using t5, y4.trans (v4.trans (z3.trans t6)), (y5.trans v5).trans t7, t8, by omega, by omega, t11⟩
          rw [← Nat.add_assoc, hB2, t2]
        · refine Or.inr ⟨ft, pl, V, j + 1, t1, fun fu => ?_, by omega, t4, t5, t6, y4.trans (v4.trans (z3.trans t7)), by omega, by omega⟩
          rw [← Nat.add_assoc, hB2, t2]
      · subst v1
        rw [tb_inr]
        refine ⟨_, rfl, ⟨show S.1 5 ≤ S2.1 5 by omega, show S2.1 5 ≤ S.1 1 by omega⟩, Or.inr ⟨ft, pl, Y, 1, rfl, fun fu => by rw [hB, L6_fail v3 v2], show ((1 : Nat) : Int) ≤ S2.1 5 - S.1 5 + 1 by omega, v3, v4, v5, y4.trans v6, show ((k + k2 : Nat) : Int) ≤ N' + 60 * (S2.1 5 - S.1 5) + 50 by omega, show ((n + n2 : Nat) : Int) ≤ N + 140 * (S2.1 5 - S.1 5) + 10 * cs.length + 100 by omega⟩⟩
    · rw [if_neg c5]
      by_cases g1 : cs.length = 1
      · rw [if_pos g1]
        exact ⟨_, rfl, ⟨Int.le_refl _, show S.1 5 ≤ S.1 1 by omega⟩, Or.inl ⟨_, Sm, 0, rfl, fun fu => rfl, show (0 : Int) ≤ S.1 5 - S.1 5 by omega, hP, hl, mFr.rfl_ _, nF.rfl_ _, c5, show (k : Int) ≤ N' + 60 * (S.1 5 - S.1 5) + 1 by omega, show (n : Int) ≤ N + 140 * (S.1 5 - S.1 5) + 10 * cs.length + 2 by omega, hck⟩⟩
      · rw [if_neg g1]
        exact ⟨_, rfl, ⟨Int.le_refl _, show S.1 5 ≤ S.1 1 by omega⟩, Or.inl ⟨_, Sm, 0, rfl, fun fu => rfl, show (0 : Int) ≤ S.1 5 - S.1 5 by omega, hP, hl, mFr.rfl_ _, nF.rfl_ _, c5, show ((k + 1 : Nat) : Int) ≤ N' + 60 * (S.1 5 - S.1 5) + 1 by omega, show ((n + 2 : Nat) : Int) ≤ N + 140 * (S.1 5 - S.1 5) + 10 * cs.length + 2 by omega, hck⟩⟩
/-- both -/
theorem both_ok (d n0 : Nat) (hn0 : n0 < FU) (x2 : Int) {S : yS} {Sm : xS} {e : List (Int × Int)} {zz : Nat} (h : PC S Sm (S.1 8) e) (h8 : 0 ≤ S.1 8 ∧ S.1 8 ≤ 8) (hd : 9 ≤ S.1 8 + d) (hn : 9 ≤ S.1 8 + n0) (hl : ((e.length + zz : Nat) : Int) ≤ S.1 5) : ∃ r, T_both d n0 S = some r ∧ (S.1 5 ≤ r.2.1.1 5 ∧ r.2.1.1 5 ≤ S.1 1) ∧
    ((∃ c Sm' j, r.1 = .inl c ∧ (∀ fu, M_either_L6 (fu + j) Sm 0 x2 1 = M_either_B35 (M_either_L6 fu) Sm' x2) ∧ (j : Int) ≤ r.2.1.1 5 - S.1 5 ∧ PC r.2.1 Sm' (S.1 8) (e ++ c) ∧ (((e ++ c).length + zz : Nat) : Int) ≤ r.2.1.1 5 ∧ mFr Sm Sm' ∧ nF S r.2.1 ∧ r.2.1.1 6 ≠ 205 ∧ S.1 5 + 3 ≤ r.2.1.1 5 ∧ (r.2.2.1 : Int) ≤ 60 * (r.2.1.1 5 - S.1 5) + 3 ∧ (r.2.2.2 : Int) ≤ 140 * (r.2.1.1 5 - S.1 5) + 20 ∧ ckA c) ∨
     (∃ ft pl Sm' j, r.1 = .inr (ft, pl) ∧ (∀ fu, M_either_L6 (fu + j) Sm 0 x2 1 = some (ft, Sm')) ∧ (j : Int) ≤ r.2.1.1 5 - S.1 5 + 1 ∧ (1 ≤ ft ∧ ft ≤ 6) ∧ Sm'.1 14 = pl ∧ r32 pl ∧ mFr Sm Sm' ∧ (r.2.2.1 : Int) ≤ 60 * (r.2.1.1 5 - S.1 5) + 52 ∧ (r.2.2.2 : Int) ≤ 140 * (r.2.1.1 5 - S.1 5) + 120)) := by
  have hX : T_both d n0 S = tb (T_ask (T_sum d) n0 S) 1 3 (fun c S k n => T_lsL 205 true (T_ask (T_sum d) n0) FU [c] S (k + aC 0) (n + aS 0)) := rfl
  rw [hX]
  obtain ⟨r, w1, ⟨w2, w3, w4, w5⟩, w6⟩ := ask_ok0 d (zz := zz) h h8 hd (n := n0) hn hn0 hl
  obtain ⟨rr, S2, k2, n2⟩ := r
  dsimp only at w2 w3 w4 w5 w6
  rw [w1]
  rcases w6 with ⟨c, Y, v1, v2, ⟨v3, v3', v3'', v7⟩, v4, v5, v6⟩ | ⟨ft, pl, Y, v1, v2, v3, v4, v5, v6⟩
  · subst v1
    rw [tb_inl]
    have h82 := v5.f8
    have h12 := v5.f1
    have b52 := v3.1.b5
    have hj : joinA true [c] = c := by simp [joinA]
    have hac := aC_le 0
    have has : aS 0 = 10 := by decide
    obtain ⟨r, u1, ⟨u2, u3⟩, u4⟩ := both_loop d n0 hn0 x2 300 S2 Y e [c] (1 + k2 + aC 0) (3 + n2 + aS 0) (3 + n2) (1 + k2 + 1) zz (by omega) (by rw [hj, h82]; exact v3) (by omega) (by omega) (by omega) (by simp) (by rw [hj]; exact v3') (by simp; omega) (by rw [hj]; exact v7) (by omega) (by rw [has]; exact Nat.le_refl _) FU (by decide)
    refine ⟨r, u1, ⟨by omega, by omega⟩, ?_⟩
    have hB2 : ∀ fu, M_either_L6 (fu + 1) Sm 0 x2 1 = M_either_B35 (M_either_L6 fu) Y x2 := fun fu => by rw [L6_ask (Or.inl rfl) v2, if_pos rfl]
    simp only [List.length_cons, List.length_nil] at u4
    rcases u4 with ⟨c', V, j, t1, t2, t3, t4, t5, t6, t7, t8, t9, t10, t11⟩ | ⟨ft, pl, V, j, t1, t2, t3, t4, t5, t6, t7, t8, t9⟩
    · refine Or.inl ⟨c', V, j + 1, t1, fun fu => ?_, by omega, by rw [← h82]; exact t4, t5, v4.trans t6, v5.trans t7, t8, by omega, by omega, by omega, t11⟩
      rw [← Nat.add_assoc, hB2, t2]
    · refine Or.inr ⟨ft, pl, V, j + 1, t1, fun fu => ?_, by omega, t4, t5, t6, v4.trans t7, by omega, by omega⟩
      rw [← Nat.add_assoc, hB2, t2]
  · subst v1
    rw [tb_inr]
    exact ⟨_, rfl, ⟨w4, w5⟩, Or.inr ⟨ft, pl, Y, 1, rfl, fun fu => L6_fail v3 v2, show ((1 : Nat) : Int) ≤ S2.1 5 - S.1 5 + 1 by omega, v3, v4, v5, v6, show ((1 + k2 : Nat) : Int) ≤ 60 * (S2.1 5 - S.1 5) + 52 by omega, show ((3 + n2 : Nat) : Int) ≤ 140 * (S2.1 5 - S.1 5) + 120 by omega⟩⟩
