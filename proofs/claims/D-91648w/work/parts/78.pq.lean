set_option maxRecDepth 100000
theorem wrd_tick : M_w4 116 105 99 107 = some (wc 9) := by decide +kernel
theorem wrd_lens : M_w4 108 101 110 115 = some (wc 7) := by decide +kernel
theorem wrd_pair : M_w4 112 97 105 114 = some (wc 8) := by decide +kernel
theorem wrd_min : M_w3 109 105 110 = some (wc 10) := by decide +kernel
theorem wrd_max : M_w3 109 97 120 = some (wc 11) := by decide +kernel
theorem wrd_not : M_w3 110 111 116 = some (wc 6) := by decide +kernel
theorem wrd_and : M_w3 97 110 100 = some (wc 5) := by decide +kernel
theorem wrd_let : M_w3 108 101 116 = some (wc 0) := by decide +kernel
theorem wrd_turn : M_w4 116 117 114 110 = some (wc 1) := by decide +kernel
theorem wrd_rest : M_w4 114 101 115 116 = some (wc 3) := by decide +kernel
theorem LX.is1 {S : yS} {Sm : xS} (h : LX S Sm) : S.1 6 = 300 ↔ Sm.1 15 = 1 := h.tk.2.2.1.2.1
section BO
variable {S : yS} {Sm : xS}
theorem LX.bo_let (h : LX S Sm) (hs : S.1 6 = 305) (hl : r32 (Sm.1 22)) (h7 : 0 ≤ S.1 7 ∧ S.1 7 < 8) : M_beginOne Sm = if ((Sm.1 22 / 2 ^ (Int.toNat (S.1 7))) % 2 ^ 1) = 0 then some (5, Sm) else bd (M_emit Sm 1 (S.1 7)) (fun S82 => bd (M_nextToken S82) (fun S84 => bd (M_whole S84) (fun S86 => some ((0 : Int), S86)))) := by
  have hk := h.tk
  unfold M_beginOne
  rw [gd_pos hk.1.2.1, if_neg (by rw [← h.is1]; omega), h.letterOf, if_pos hs, bd_some, gd_pos (by omega), if_neg (by omega), bd_some, gd_pos ⟨hl, by omega, by omega⟩]
  have h2 : r32 ((Sm.1 22 / 2 ^ (Int.toNat (S.1 7))) % 2 ^ 1) := by
    have a := Int.emod_nonneg (Sm.1 22 / 2 ^ (Int.toNat (S.1 7))) (show (2 : Int) ^ 1 ≠ 0 by decide)
    have b := Int.emod_lt_of_pos (Sm.1 22 / 2 ^ (Int.toNat (S.1 7))) (show (0 : Int) < 2 ^ 1 by decide)
    have c : (2 : Int) ^ 1 = 2 := by decide
    omega
  rw [gd_pos h2, bd_some]
theorem LX.bo_tick (h : LX S Sm) (hs : S.1 6 = 209) : M_beginOne Sm = bd (M_emit Sm 30 0) (fun S82 => bd (M_nextToken S82) (fun S84 => bd (M_whole S84) (fun S86 => some ((0 : Int), S86)))) := by
  have hk := h.tk
  unfold M_beginOne
  rw [gd_pos hk.1.2.1, if_neg (by rw [← h.is1]; omega), h.letterOf, if_neg (by omega), bd_some, gd_pos (by decide), if_pos (by decide), wrd_tick, bd_some, h.isWord (w := 9) (by decide) rfl, bd_some, if_pos (decide_eq_true (by omega))]
theorem LX.bo_eye (h : LX S Sm) (hs : S.1 6 = 207 ∨ S.1 6 = 208) : M_beginOne Sm = M_eye Sm (if S.1 6 = 207 then 31 else 32) := by
  have hk := h.tk
  have hE : ∀ t, M_beginOne_B178 Sm t = M_eye Sm t := by
    intro t
    unfold M_beginOne_B178
    cases hh : M_eye Sm t with
    | none => rfl
    | some v => rfl
  have hB : M_beginOne_B152 Sm = M_eye Sm (if S.1 6 = 207 then 31 else 32) := by
    unfold M_beginOne_B152
    rw [wrd_lens, bd_some, h.isWord (w := 7) (by decide) rfl, bd_some, hE, hE]
    by_cases g : S.1 6 = 207
    · rw [if_pos (decide_eq_true (by omega)), if_pos g]
    · rw [if_neg (by rw [decide_eq_true_eq]; omega), if_neg g]
  unfold M_beginOne
  rw [gd_pos hk.1.2.1, if_neg (by rw [← h.is1]; omega), h.letterOf, if_neg (by omega), bd_some, gd_pos (by decide), if_pos (by decide), wrd_tick, bd_some, h.isWord (w := 9) (by decide) rfl, bd_some, if_neg (by rw [decide_eq_true_eq]; omega), wrd_lens, bd_some, h.isWord (w := 7) (by decide) rfl, bd_some, hB, wrd_pair, bd_some, h.isWord (w := 8) (by decide) rfl, bd_some]
  by_cases g : S.1 6 = 207
  · rw [if_pos (decide_eq_true (by omega))]
  · rw [if_neg (by rw [decide_eq_true_eq]; omega), if_pos (decide_eq_true (by omega))]
theorem LX.bo_w (h : LX S Sm) (h1 : S.1 6 ≠ 300) (h2 : S.1 6 ≠ 305) (h3 : S.1 6 ≠ 209) (h4 : S.1 6 ≠ 207) (h5 : S.1 6 ≠ 208) : M_beginOne Sm = M_beginOne_B252 Sm (if S.1 6 = 210 then 41 else if S.1 6 = 211 then 42 else if S.1 6 = 40 then 40 else if S.1 6 = 45 then 2 else 0) := by
  have hk := h.tk
  unfold M_beginOne
  rw [gd_pos hk.1.2.1, if_neg (by rw [← h.is1]; omega), h.letterOf, if_neg (by omega), bd_some, gd_pos (by decide), if_pos (by decide), wrd_tick, bd_some, h.isWord (w := 9) (by decide) rfl, bd_some, if_neg (by rw [decide_eq_true_eq]; omega), wrd_lens, bd_some, h.isWord (w := 7) (by decide) rfl, bd_some, if_neg (by rw [decide_eq_true_eq]; omega), wrd_pair, bd_some, h.isWord (w := 8) (by decide) rfl, bd_some, if_neg (by rw [decide_eq_true_eq]; omega), wrd_min, bd_some, h.isWord (w := 10) (by decide) rfl, bd_some]
  by_cases g1 : S.1 6 = 210
  · rw [if_pos (decide_eq_true (by omega)), if_pos g1]
  · rw [if_neg (by rw [decide_eq_true_eq]; omega), if_neg g1, wrd_max, bd_some, h.isWord (w := 11) (by decide) rfl, bd_some]
    by_cases g2 : S.1 6 = 211
    · rw [if_pos (decide_eq_true (by omega)), if_pos g2]
    · rw [if_neg (by rw [decide_eq_true_eq]; omega), if_neg g2, gd_pos hk.1.2.1]
      have s1 := h.sg (s := 40) (by unfold isSg; omega)
      have s2 := h.sg (s := 45) (by unfold isSg; omega)
      by_cases g3 : S.1 6 = 40
      · rw [if_pos (s1.mp g3), if_pos g3]
      · rw [if_neg (fun w => g3 (s1.mpr w)), if_neg g3, gd_pos hk.1.2.1]
        by_cases g4 : S.1 6 = 45
        · rw [if_pos (s2.mp g4), if_pos g4]
        · rw [if_neg (fun w => g4 (s2.mpr w)), if_neg g4]
end BO
theorem PS.leaf {S : yS} {Sm : xS} {p : List Int} {o : Int} {e : List (Int × Int)} (h : PS S Sm p o e 0) (he : e.length + p.length ≤ 320 ∧ p.length ≤ 140) (ho : 0 ≤ o ∧ o ≤ 100) (x v : Int) : ∃ S' Sm', T_next S = some S' ∧ bd (M_emit Sm x v) (fun S82 => bd (M_nextToken S82) (fun S84 => bd (M_whole S84) (fun S86 => some ((0 : Int), S86)))) = some (0, Sm') ∧ PS S' Sm' (whp p) (o - whn p) (e ++ [(x, v)] ++ List.replicate (whn p) (2, 0)) 1 ∧ mFr Sm Sm' ∧ nF S S' ∧ S.1 4 ≤ S'.1 5 := by
  obtain ⟨X, x1, x2, x3⟩ := h.emit (by omega) x v
  obtain ⟨S', Y, y1, y2, y3, y4, y5, y6⟩ := x2.next
  obtain ⟨Z, z1, z2, z3⟩ := y3.whole (by simp only [List.length_append, List.length_cons, List.length_nil]; omega) ho
  exact ⟨S', Z, y1, by rw [x1, bd_some, y2, bd_some, z1, bd_some], z2, x3.trans (y4.trans z3), y5, y6⟩
theorem PS.t8 {S : yS} {Sm : xS} {p : List Int} {o b z : Int} {e : List (Int × Int)} (h : PS S Sm p o e b) : PS (cfs S 8 z) Sm p o e b := h
theorem nF.t8 {S X : yS} (h : nF (cfs S 8 (S.1 8 + 1)) X) : nF S (cfs X 8 (X.1 8 - 1)) := by
  refine ⟨h.1, fun k a1 a2 a3 a4 => ?_⟩
  by_cases g : k = 8
  · subst g
    have := h.2 8 (by decide) (by decide) (by decide) (by decide)
    rw [cfs_eq] at this
    rw [cfs_eq, this]
    omega
  · rw [cfs_ne _ _ g, h.2 k a1 a2 a3 a4, cfs_ne _ _ g]
theorem PS.fail1 {S : yS} {Sm : xS} {p : List Int} {o b : Int} {e : List (Int × Int)} {f : Int} {E : Int → Prop} {kc ks zz : Nat} {Pq : List (Int × Int) → List Int → List (Int × Int) → Int → Prop} {S0 : yS} {A0 : xS} (h : PS S Sm p o e b) {n : Nat} (hF : Fls A0 f Sm n) (hm : mFr A0 Sm) (hf : 1 ≤ f ∧ f ≤ 6) {k m : Nat} (hn : (n : Int) ≤ S.1 5 - S0.1 5 + 1) (h11 : S.1 1 = S0.1 1) (h5 : S0.1 5 ≤ S.1 5) (hk : (k : Int) ≤ 40 * (S.1 5 - S0.1 5) + kc) (hm2 : (m : Int) ≤ 100 * (S.1 5 - S0.1 5) + ks) {X : yS} (hX : X.1 5 = S.1 5) : SubR E kc ks zz S0 A0 (.inr (f, S.1 5), X, k, m) Pq := by
  have b5 := h.1.b5
  refine ⟨⟨?_, ?_, ?_, ?_⟩, Or.inr ⟨f, S.1 5, Sm, n, rfl, hF, ?_, hf, h.1.2.2.2.2.1.symm, by omega, hm⟩⟩
  · show (k : Int) ≤ 40 * (X.1 5 - S0.1 5) + kc
    rw [hX]; exact hk
  · show (m : Int) ≤ 100 * (X.1 5 - S0.1 5) + ks
    rw [hX]; exact hm2
  · show S0.1 5 ≤ X.1 5
    rw [hX]; exact h5
  · show X.1 5 ≤ S0.1 1
    rw [hX]; omega
  · show (n : Int) ≤ X.1 5 - S0.1 5 + 1
    rw [hX]; exact hn
def Pq1 (p : List Int) (o : Int) (e : List (Int × Int)) : List (Int × Int) → List Int → List (Int × Int) → Int → Prop := fun c q f o' => q = whp p ∧ f = e ++ c ++ List.replicate (whn p) (2, 0) ∧ o' = o - whn p
def OneOK (one : yS → Option (tR (List (Int × Int)))) (o0 : Int) : Prop := ∀ (S : yS) (Sm : xS) (p : List Int) (e : List (Int × Int)) (zz : Nat), PS S Sm p (S.1 8) e 0 → (0 ≤ S.1 8 ∧ S.1 8 ≤ 8) → o0 ≤ S.1 8 → (p.length : Int) ≤ 3 * S.1 8 + 2 → ((e.length + p.length + zz : Nat) : Int) ≤ S.1 5 → ∃ r, one S = some r ∧ SubR (fun _ => True) 8 12 zz S Sm r (Pq1 p (S.1 8) e)
theorem whn_0 {p : List Int} (h : whp p = p) : whn p = 0 := by
  have := wh_len p
  rw [h] at this
  omega
theorem OneOK.sub {one : yS → Option (tR (List (Int × Int)))} {o0 : Int} (h : OneOK one o0) : SubOK one 40 2 (fun _ => True) 8 12 o0 := by
  intro S Sm p e zz hP h8 ho hp1 hp2 hp3 hlen
  obtain ⟨r, w1, w2, w3⟩ := h S Sm p e zz hP h8 ho hp1 hlen
  refine ⟨r, w1, w2, ?_⟩
  rcases w3 with ⟨c1, q1, f1, o1, Y, t, v1, v2, v3, v4, ⟨v5, v6, v7⟩, v9, v10, v11, v12, v13, v15⟩ | v
  · refine Or.inl ⟨c1, q1, f1, o1, Y, t, v1, v2, v3, v4, ?_, v9, v10, v11, v12, v13, v15⟩
    have hw := whn_0 hp3
    rw [hp3] at v5
    rw [hw] at v6 v7
    subst v5
    refine ⟨hp2, ?_, hp3, by omega, by omega⟩
    rw [stq_sto hp2, List.append_nil, v6]
    simp
  · exact Or.inr v
