set_option maxRecDepth 100000
/-! the tokens of both parsers, side by side -/
def TxR (S : yS) (Sm : xS) : Prop := S.1 1 = Sm.1 10 ∧ (0 ≤ S.1 1 ∧ S.1 1 ≤ 300) ∧ ∀ j, 0 ≤ j → j < 300 → S.2 0 j = Int.bmod (Sm.2 9 j) 256 ∧ 0 ≤ Sm.2 9 j ∧ Sm.2 9 j ≤ 255
theorem bm_ch {c : Int} (h0 : 0 ≤ c) (h1 : c ≤ 255) : (c < 128 ∧ Int.bmod c 256 = c) ∨ (128 ≤ c ∧ Int.bmod c 256 = c - 256) := by
  have e : c % 256 = c := Int.emod_eq_of_lt h0 (by omega)
  have e2 : Int.bmod c 256 = if c % 256 < 128 then c % 256 else c % 256 - 256 := rfl
  rw [e2, e]
  by_cases h : c < 128
  · left; exact ⟨h, if_pos h⟩
  · right; exact ⟨by omega, if_neg h⟩
theorem TxR.ch {S : yS} {Sm : xS} (h : TxR S Sm) {j : Int} (h0 : 0 ≤ j) (h1 : j < 300) : 0 ≤ Sm.2 9 j ∧ Sm.2 9 j ≤ 255 ∧ ((Sm.2 9 j < 128 ∧ S.2 0 j = Sm.2 9 j) ∨ (128 ≤ Sm.2 9 j ∧ S.2 0 j = Sm.2 9 j - 256)) := by
  obtain ⟨e, a, b⟩ := h.2.2 j h0 h1
  rw [e]
  exact ⟨a, b, bm_ch a b⟩
theorem M_see_in {Sm : xS} {a : Int} (h0 : 0 ≤ a) (h1 : a < Sm.1 10) (h2 : Sm.1 10 ≤ 300) : M_see Sm a = some (Sm.2 9 a) := by
  unfold M_see
  rw [gd_pos ⟨by omega, by omega⟩, if_pos h1, gd_pos ⟨h0, by omega⟩]
theorem M_see_end {Sm : xS} {a : Int} (h0 : 0 ≤ a) (h1 : Sm.1 10 ≤ a) (h2 : a ≤ 300) (h3 : 0 ≤ Sm.1 10) : M_see Sm a = some (-1) := by
  unfold M_see
  rw [gd_pos ⟨by omega, by omega⟩, if_neg (by omega)]
abbrev isL (c : Int) : Prop := (97 ≤ c ∧ c ≤ 122) ∨ (65 ≤ c ∧ c ≤ 90)
theorem M_isLetter_e {c : Int} (h : r32 c) : M_isLetter c = some (decide (isL c)) := by
  unfold M_isLetter
  rw [M_isIn_e h (by decide) (by decide), bd_some]
  by_cases h1 : 97 ≤ c ∧ c ≤ 122
  · rw [if_pos (decide_eq_true h1), decide_eq_true (Or.inl h1)]
  · rw [if_neg (by simpa using h1), M_isIn_e h (by decide) (by decide), bd_some]
    by_cases h2 : 65 ≤ c ∧ c ≤ 90
    · rw [if_pos (decide_eq_true h2), decide_eq_true (Or.inr h2)]
    · rw [if_neg (by simpa using h2), decide_eq_false (fun w => w.elim h1 h2)]
theorem M_isDigit_e {c : Int} (h : r32 c) : M_isDigit c = some (decide (48 ≤ c ∧ c ≤ 57)) := by
  unfold M_isDigit
  rw [M_isIn_e h (by decide) (by decide), bd_some]
theorem T_isLetter_e {c : Int} (h : r32 c) : T_isLetter c = some (decide (isL c)) := by
  have hB : T_isLetter_B12 c = some (decide (65 ≤ c ∧ c ≤ 90)) := by
    unfold T_isLetter_B12
    rw [gd_pos h]
    by_cases h1 : c < 65
    · rw [if_pos h1, decide_eq_false (by omega)]
    · rw [if_neg h1, gd_pos h]
      by_cases h2 : c ≤ 90
      · rw [if_pos h2, decide_eq_true (by omega)]
      · rw [if_neg h2, decide_eq_false (by omega)]
  unfold T_isLetter
  rw [gd_pos h, hB]
  by_cases h1 : c < 97
  · rw [if_pos h1]
    exact congrArg some (decide_eq_decide.mpr (by omega))
  · rw [if_neg h1, gd_pos h]
    by_cases h2 : c ≤ 122
    · rw [if_pos h2, decide_eq_true (by omega)]
    · rw [if_neg h2]
      exact congrArg some (decide_eq_decide.mpr (by omega))
theorem T_isDigit_e {c : Int} (h : r32 c) : T_isDigit c = some (decide (48 ≤ c ∧ c ≤ 57)) := by
  unfold T_isDigit
  rw [gd_pos h]
  by_cases h1 : c < 48
  · rw [if_pos h1, decide_eq_false (by omega)]
  · rw [if_neg h1, gd_pos h]
    by_cases h2 : c ≤ 57
    · rw [if_pos h2, decide_eq_true (by omega)]
    · rw [if_neg h2, decide_eq_false (by omega)]
theorem cfs_cfs (S : yS) (k : Nat) (x y : Int) : cfs (cfs S k x) k y = cfs S k y := by
  unfold cfs
  refine Prod.ext (funext fun j => ?_) rfl
  show (if j = k then y else if j = k then x else S.1 j) = if j = k then y else S.1 j
  by_cases h : j = k
  · rw [if_pos h, if_pos h]
  · rw [if_neg h, if_neg h, if_neg h]
theorem fset_fset (S : xS) (k : Nat) (x y : Int) : fset (fset S k x) k y = fset S k y := by
  unfold fset
  refine Prod.ext (funext fun j => ?_) rfl
  show (if j = k then y else if j = k then x else S.1 j) = if j = k then y else S.1 j
  by_cases h : j = k
  · rw [if_pos h, if_pos h]
  · rw [if_neg h, if_neg h, if_neg h]
theorem fset_comm (S : xS) {k i : Nat} (hn : k ≠ i) (x y : Int) : fset (fset S k x) i y = fset (fset S i y) k x := by
  unfold fset
  refine Prod.ext (funext fun j => ?_) rfl
  show (if j = i then y else if j = k then x else S.1 j) = if j = k then x else if j = i then y else S.1 j
  by_cases h : j = i
  · rw [if_pos h, if_neg (by omega), if_pos h]
  · rw [if_neg h, if_neg h]
theorem fset_id (S : xS) (k : Nat) : fset S k (S.1 k) = S := by
  unfold fset
  refine Prod.ext (funext fun j => ?_) rfl
  show (if j = k then S.1 k else S.1 j) = S.1 j
  by_cases h : j = k
  · rw [if_pos h, h]
  · rw [if_neg h]
theorem cfs_id (S : yS) (k : Nat) : cfs S k (S.1 k) = S := by
  unfold cfs
  refine Prod.ext (funext fun j => ?_) rfl
  show (if j = k then S.1 k else S.1 j) = S.1 j
  by_cases h : j = k
  · rw [if_pos h, h]
  · rw [if_neg h]
/-- blanks are passed over -/
theorem nx_skip {S : yS} {Sm : xS} (ht : TxR S Sm) : ∀ (m : Nat) (a : Int), 0 ≤ a → a ≤ S.1 1 → S.1 1 - a ≤ m → ∀ n1 n2 : Nat, m < n1 → m < n2 → ∃ a', a ≤ a' ∧ a' ≤ S.1 1 ∧ (a' < S.1 1 → Sm.2 9 a' ≠ 32 ∧ Sm.2 9 a' ≠ 10) ∧ T_next_L0 n1 (cfs S 4 a) = T_next_B52 (cfs S 4 a') ∧ ∃ K, M_nextToken_L0 n2 (fset Sm 13 a) = M_nextToken_b0 K (fset Sm 13 a') := by
  intro m
  induction m with
  | zero =>
    intro a h0 h1 hm n1 n2 h3 h4
    obtain ⟨n1, rfl⟩ : ∃ k, n1 = k + 1 := ⟨n1 - 1, by omega⟩
    obtain ⟨n2, rfl⟩ : ∃ k, n2 = k + 1 := ⟨n2 - 1, by omega⟩
    refine ⟨a, Int.le_refl _, h1, fun h => by omega, ?_, _, rfl⟩
    show T_next_b0 _ _ = _
    unfold T_next_b0
    have hs := ht.2.1
    simp only [show (cfs S 4 a).1 4 = a from rfl, show (cfs S 4 a).1 1 = S.1 1 from rfl, show (cfs S 4 a).2 = S.2 from rfl]
    rw [gd_pos (by show r32 a ∧ r32 (S.1 1); omega), if_neg (show ¬ a < S.1 1 by omega)]
  | succ m ih =>
    intro a h0 h1 hm n1 n2 h3 h4
    obtain ⟨n1, rfl⟩ : ∃ k, n1 = k + 1 := ⟨n1 - 1, by omega⟩
    obtain ⟨n2, rfl⟩ : ∃ k, n2 = k + 1 := ⟨n2 - 1, by omega⟩
    have hs := ht.2.1
    have ha : (cfs S 4 a).1 4 = a := rfl
    have h10 := ht.1
    by_cases hl : a < S.1 1
    · obtain ⟨c0, c1, cc⟩ := ht.ch h0 (by omega)
      have hsee : M_see (fset Sm 13 a) a = some (Sm.2 9 a) := M_see_in (Sm := fset Sm 13 a) h0 (show a < Sm.1 10 by omega) (show Sm.1 10 ≤ 300 by omega)
      by_cases hb : Sm.2 9 a = 32 ∨ Sm.2 9 a = 10
      · obtain ⟨a', q1, q2, q3, q4, q5⟩ := ih (a + 1) (by omega) (by omega) (by omega) n1 n2 (by omega) (by omega)
        refine ⟨a', by omega, q2, q3, ?_, ?_⟩
        · rw [← q4]
          show T_next_b0 _ _ = _
          unfold T_next_b0
          simp only [show (cfs S 4 a).1 4 = a from rfl, show (cfs S 4 a).1 1 = S.1 1 from rfl, show (cfs S 4 a).2 = S.2 from rfl]
          rw [gd_pos (by show r32 a ∧ r32 (S.1 1); omega), if_pos (show a < S.1 1 from hl), gd_pos (by show 0 ≤ a ∧ a < 300; omega), gd_pos (show r32 (S.2 0 a) by omega)]
          have hn : T_next_B39 (T_next_L0 n1) (cfs S 4 a) = T_next_L0 n1 (cfs S 4 (a + 1)) := by
            unfold T_next_B39
            rw [nm_eq, cfs_cfs, cfs_eq]
          by_cases h32 : S.2 0 a = 32
          · rw [if_pos (show S.2 0 a = 32 from h32), hn]
          · rw [if_neg (show ¬ S.2 0 a = 32 from h32), gd_pos (by show 0 ≤ a ∧ a < 300; omega), gd_pos (show r32 (S.2 0 a) by omega), if_pos (show S.2 0 a = 10 by omega), hn]
        · obtain ⟨K, q5⟩ := q5
          refine ⟨K, ?_⟩
          rw [← q5]
          show M_nextToken_b0 _ _ = _
          unfold M_nextToken_b0
          have hn : M_nextToken_B26 (M_nextToken_L0 n2) (fset Sm 13 a) = M_nextToken_L0 n2 (fset Sm 13 (a + 1)) := by
            unfold M_nextToken_B26
            rw [nm_eq, fset_fset, fset_eq]
          rw [fset_eq, hsee, bd_some, gd_pos (show r32 (Sm.2 9 a) by omega), hn]
          by_cases h32 : Sm.2 9 a = 32
          · rw [if_pos h32]
          · rw [if_neg h32, bd_some, gd_pos (show r32 (Sm.2 9 a) by omega), if_pos (show Sm.2 9 a = 10 by omega)]
      · refine ⟨a, Int.le_refl _, h1, fun _ => by omega, ?_, _, rfl⟩
        show T_next_b0 _ _ = _
        unfold T_next_b0
        simp only [show (cfs S 4 a).1 4 = a from rfl, show (cfs S 4 a).1 1 = S.1 1 from rfl, show (cfs S 4 a).2 = S.2 from rfl]
        rw [gd_pos (by show r32 a ∧ r32 (S.1 1); omega), if_pos (show a < S.1 1 from hl), gd_pos (by show 0 ≤ a ∧ a < 300; omega), gd_pos (show r32 (S.2 0 a) by omega), if_neg (show ¬ S.2 0 a = 32 by omega), gd_pos (by show 0 ≤ a ∧ a < 300; omega), gd_pos (show r32 (S.2 0 a) by omega), if_neg (show ¬ S.2 0 a = 10 by omega)]
    · refine ⟨a, Int.le_refl _, h1, fun h => by omega, ?_, _, rfl⟩
      show T_next_b0 _ _ = _
      unfold T_next_b0
      simp only [show (cfs S 4 a).1 4 = a from rfl, show (cfs S 4 a).1 1 = S.1 1 from rfl, show (cfs S 4 a).2 = S.2 from rfl]
      rw [gd_pos (by show r32 a ∧ r32 (S.1 1); omega), if_neg (show ¬ a < S.1 1 by omega)]
theorem cfs_comm (S : yS) {k i : Nat} (hn : k ≠ i) (x y : Int) : cfs (cfs S k x) i y = cfs (cfs S i y) k x := by
  unfold cfs
  refine Prod.ext (funext fun j => ?_) rfl
  show (if j = i then y else if j = k then x else S.1 j) = if j = k then x else if j = i then y else S.1 j
  by_cases h : j = i
  · rw [if_pos h, if_neg (by omega), if_pos h]
  · rw [if_neg h, if_neg h]
abbrev NR (v w : Int) : Prop := (v = w ∧ 0 ≤ w ∧ w ≤ 99999) ∨ (v = 99999 ∧ 100000 ≤ w ∧ w ≤ 1000000)
/-- a number -/
theorem nx_dig {S : yS} {Sm : xS} (ht : TxR S Sm) : ∀ (m : Nat) (a v w : Int), 0 ≤ a → a ≤ S.1 1 → S.1 1 - a ≤ m → NR v w → ∀ n1 n2 : Nat, m < n1 → m < n2 → ∃ a' v' w', a ≤ a' ∧ a' ≤ S.1 1 ∧ (a < S.1 1 → 48 ≤ Sm.2 9 a ∧ Sm.2 9 a ≤ 57 → a < a') ∧ NR v' w' ∧ T_next_L259 n1 (cfs (cfs S 4 a) 7 v) = some (cfs (cfs S 4 a') 7 v') ∧ M_nextToken_L85 n2 (fset (fset Sm 13 a) 16 w) = some (fset (fset Sm 13 a') 16 w') := by
  intro m
  induction m with
  | zero =>
    intro a v w h0 h1 hm hN n1 n2 h3 h4
    obtain ⟨n1, rfl⟩ : ∃ k, n1 = k + 1 := ⟨n1 - 1, by omega⟩
    obtain ⟨n2, rfl⟩ : ∃ k, n2 = k + 1 := ⟨n2 - 1, by omega⟩
    have hs := ht.2.1
    have h10 := ht.1
    refine ⟨a, v, w, Int.le_refl _, h1, fun h => by omega, hN, ?_, ?_⟩
    · show T_next_b259 _ _ = _
      unfold T_next_b259
      simp only [show (cfs (cfs S 4 a) 7 v).1 4 = a from rfl, show (cfs (cfs S 4 a) 7 v).1 1 = S.1 1 from rfl]
      rw [gd_pos (by omega), if_neg (show ¬ a < S.1 1 by omega)]
    · show M_nextToken_b85 _ _ = _
      unfold M_nextToken_b85
      simp only [show (fset (fset Sm 13 a) 16 w).1 13 = a from rfl]
      rw [M_see_end (Sm := fset (fset Sm 13 a) 16 w) h0 (show Sm.1 10 ≤ a by omega) (by omega) (show 0 ≤ Sm.1 10 by omega), bd_some, M_isDigit_e (by decide), bd_some, if_neg (by decide)]
  | succ m ih =>
    intro a v w h0 h1 hm hN n1 n2 h3 h4
    obtain ⟨n1, rfl⟩ : ∃ k, n1 = k + 1 := ⟨n1 - 1, by omega⟩
    obtain ⟨n2, rfl⟩ : ∃ k, n2 = k + 1 := ⟨n2 - 1, by omega⟩
    have hs := ht.2.1
    have h10 := ht.1
    by_cases hl : a < S.1 1
    · obtain ⟨c0, c1, cc⟩ := ht.ch h0 (by omega)
      have hsee : M_see (fset (fset Sm 13 a) 16 w) a = some (Sm.2 9 a) := M_see_in (Sm := fset (fset Sm 13 a) 16 w) h0 (show a < Sm.1 10 by omega) (show Sm.1 10 ≤ 300 by omega)
      by_cases hd : 48 ≤ Sm.2 9 a ∧ Sm.2 9 a ≤ 57
      · have hdt : 48 ≤ S.2 0 a ∧ S.2 0 a ≤ 57 := by omega
        have hab : S.2 0 a = Sm.2 9 a := by omega
        have hmin : Ma_min 99999 (((10 * v) + S.2 0 a) - 48) = some (if 99999 ≤ ((10 * v) + S.2 0 a) - 48 then 99999 else ((10 * v) + S.2 0 a) - 48) := by
          unfold Ma_min
          rw [gd_pos (by omega)]
          by_cases q : 99999 ≤ ((10 * v) + S.2 0 a) - 48
          · rw [if_pos q, if_pos q]
          · rw [if_neg q, if_neg q]
        generalize hv' : (if 99999 ≤ ((10 * v) + S.2 0 a) - 48 then 99999 else ((10 * v) + S.2 0 a) - 48) = v' at hmin
        have hT : T_next_L259 (n1 + 1) (cfs (cfs S 4 a) 7 v) = T_next_L259 n1 (cfs (cfs S 4 (a + 1)) 7 v') := by
          show T_next_b259 _ _ = _
          unfold T_next_b259
          simp only [show (cfs (cfs S 4 a) 7 v).1 4 = a from rfl, show (cfs (cfs S 4 a) 7 v).1 1 = S.1 1 from rfl, show (cfs (cfs S 4 a) 7 v).2 = S.2 from rfl, show (cfs (cfs S 4 a) 7 v).1 7 = v from rfl]
          rw [gd_pos (by omega), if_pos hl, gd_pos (by omega), T_isDigit_e (by omega), bd_some, if_pos (decide_eq_true hdt), gd_pos (by omega), hmin, bd_some, nm_eq, nm_eq, cfs_cfs]
          rw [show (cfs (cfs S 4 a) 7 v').1 4 = a from rfl, cfs_comm _ (by decide), cfs_cfs]
        by_cases hw : w < 100000
        · have hM : M_nextToken_L85 (n2 + 1) (fset (fset Sm 13 a) 16 w) = M_nextToken_L85 n2 (fset (fset Sm 13 (a + 1)) 16 (((10 * w) + Sm.2 9 a) - 48)) := by
            show M_nextToken_b85 _ _ = _
            unfold M_nextToken_b85 M_nextToken_B131
            simp only [show (fset (fset Sm 13 a) 16 w).1 13 = a from rfl, show (fset (fset Sm 13 a) 16 w).1 16 = w from rfl]
            rw [hsee, bd_some, M_isDigit_e (by omega), bd_some, if_pos (decide_eq_true hd), gd_pos (by omega), if_pos hw, bd_some, nm_eq, nm_eq, fset_fset]
            rw [show (fset (fset Sm 13 a) 16 (((10 * w) + Sm.2 9 a) - 48)).1 13 = a from rfl, fset_comm _ (by decide), fset_fset]
          have hN' : NR v' (((10 * w) + Sm.2 9 a) - 48) := by
            rw [← hv']
            split <;> omega
          obtain ⟨a', v2, w2, q1, q2, q3, q4, q5, q6⟩ := ih (a + 1) v' _ (by omega) (by omega) (by omega) hN' n1 n2 (by omega) (by omega)
          exact ⟨a', v2, w2, by omega, q2, fun _ _ => by omega, q4, hT.trans q5, hM.trans q6⟩
        · have hM : M_nextToken_L85 (n2 + 1) (fset (fset Sm 13 a) 16 w) = M_nextToken_L85 n2 (fset (fset Sm 13 (a + 1)) 16 w) := by
            show M_nextToken_b85 _ _ = _
            unfold M_nextToken_b85 M_nextToken_B131
            simp only [show (fset (fset Sm 13 a) 16 w).1 13 = a from rfl, show (fset (fset Sm 13 a) 16 w).1 16 = w from rfl]
            rw [hsee, bd_some, M_isDigit_e (by omega), bd_some, if_pos (decide_eq_true hd), gd_pos (by omega), if_neg hw, nm_eq, fset_comm _ (by decide), fset_fset]
          have hN' : NR v' w := by
            rw [← hv']
            split <;> omega
          obtain ⟨a', v2, w2, q1, q2, q3, q4, q5, q6⟩ := ih (a + 1) v' _ (by omega) (by omega) (by omega) hN' n1 n2 (by omega) (by omega)
          exact ⟨a', v2, w2, by omega, q2, fun _ _ => by omega, q4, hT.trans q5, hM.trans q6⟩
      · refine ⟨a, v, w, Int.le_refl _, h1, fun _ h => absurd h hd, hN, ?_, ?_⟩
        · show T_next_b259 _ _ = _
          unfold T_next_b259
          simp only [show (cfs (cfs S 4 a) 7 v).1 4 = a from rfl, show (cfs (cfs S 4 a) 7 v).1 1 = S.1 1 from rfl, show (cfs (cfs S 4 a) 7 v).2 = S.2 from rfl]
          rw [gd_pos (by omega), if_pos hl, gd_pos (by omega), T_isDigit_e (by omega), bd_some, if_neg (by rw [decide_eq_true_eq]; omega)]
        · show M_nextToken_b85 _ _ = _
          unfold M_nextToken_b85
          simp only [show (fset (fset Sm 13 a) 16 w).1 13 = a from rfl]
          rw [hsee, bd_some, M_isDigit_e (by omega), bd_some, if_neg (by rw [decide_eq_true_eq]; omega)]
    · refine ⟨a, v, w, Int.le_refl _, h1, fun h => by omega, hN, ?_, ?_⟩
      · show T_next_b259 _ _ = _
        unfold T_next_b259
        simp only [show (cfs (cfs S 4 a) 7 v).1 4 = a from rfl, show (cfs (cfs S 4 a) 7 v).1 1 = S.1 1 from rfl]
        rw [gd_pos (by omega), if_neg (show ¬ a < S.1 1 by omega)]
      · show M_nextToken_b85 _ _ = _
        unfold M_nextToken_b85
        simp only [show (fset (fset Sm 13 a) 16 w).1 13 = a from rfl]
        rw [M_see_end (Sm := fset (fset Sm 13 a) 16 w) h0 (show Sm.1 10 ≤ a by omega) (by omega) (show 0 ≤ Sm.1 10 by omega), bd_some, M_isDigit_e (by decide), bd_some, if_neg (by decide)]
theorem zor_add {a b : Int} (ha : 0 ≤ a) (hb : 0 ≤ b) (h1 : b < 256) : zor (a * 2 ^ (Int.toNat 8)) b = a * 256 + b := by
  unfold zor
  have e : (a * 2 ^ (Int.toNat 8)).toNat = 2 ^ 8 * a.toNat := by
    rw [show Int.toNat 8 = 8 from rfl]
    omega
  rw [e, ← Nat.two_pow_add_eq_or_of_lt (show b.toNat < 2 ^ 8 by omega)]
  omega
/-- the signs of a word, read as a number -/
def wv (f : Int → Int) (p : Int) : Nat → Int
  | 0 => 0
  | k + 1 => wv f p k * 256 + f (p + k)
theorem wv_bd {f : Int → Int} {p : Int} : ∀ {k : Nat}, k ≤ 6 → (∀ j, 0 ≤ j → j < (k : Int) → 0 ≤ f (p + j) ∧ f (p + j) ≤ 255) → 0 ≤ wv f p k ∧ wv f p k < 256 ^ k := by
  intro k
  induction k with
  | zero => intro _ _; exact ⟨Int.le_refl _, show (0 : Int) < 256 ^ 0 by decide⟩
  | succ k ih =>
    intro hk hf
    have := ih (by omega) (fun j h0 h1 => hf j h0 (by omega))
    have h2 := hf k (by omega) (by omega)
    show 0 ≤ wv f p k * 256 + f (p + k) ∧ wv f p k * 256 + f (p + k) < 256 ^ (k + 1)
    rw [Int.pow_succ]
    omega
/-- a word -/
theorem nx_let {S : yS} {Sm : xS} (ht : TxR S Sm) (x1 p : Int) (hp : 0 ≤ p) (hpm : Sm.1 14 = p) : ∀ (m : Nat) (a wd : Int) (k : Nat), p ≤ a → a ≤ S.1 1 → S.1 1 - a ≤ m → k = (a - p).toNat → (∀ j, p ≤ j → j < a → isL (Sm.2 9 j)) → wd = wv (Sm.2 9) p (min k 6) → ∀ n1 n2 : Nat, m < n1 → m < n2 → ∃ a' wd', a ≤ a' ∧ a' ≤ S.1 1 ∧ (a < S.1 1 → isL (Sm.2 9 a) → a < a') ∧ (∀ j, p ≤ j → j < a' → isL (Sm.2 9 j)) ∧ wd' = (if a' - p ≤ 6 then wv (Sm.2 9) p (a' - p).toNat else 0) ∧ T_next_L106 x1 n1 (cfs S 4 a) = T_next_B145 (cfs S 4 a') x1 ∧ M_nextToken_L161 n2 (fset (fset Sm 13 a) 17 wd) = some (fset (fset Sm 13 a') 17 wd') := by
  intro m
  induction m with
  | zero =>
    intro a wd k h0 h1 hm hk hL hwd n1 n2 h3 h4
    obtain ⟨n1, rfl⟩ : ∃ k, n1 = k + 1 := ⟨n1 - 1, by omega⟩
    obtain ⟨n2, rfl⟩ : ∃ k, n2 = k + 1 := ⟨n2 - 1, by omega⟩
    have hs := ht.2.1
    have h10 := ht.1
    refine ⟨a, _, Int.le_refl _, h1, fun h => by omega, hL, rfl, ?_, ?_⟩
    · show T_next_b106 _ _ _ = _
      unfold T_next_b106
      simp only [show (cfs S 4 a).1 4 = a from rfl, show (cfs S 4 a).1 1 = S.1 1 from rfl]
      rw [gd_pos (by omega), if_neg (show ¬ a < S.1 1 by omega)]
    · show M_nextToken_b161 _ _ = _
      unfold M_nextToken_b161
      simp only [show (fset (fset Sm 13 a) 17 wd).1 13 = a from rfl, show (fset (fset Sm 13 a) 17 wd).1 14 = Sm.1 14 from rfl, hpm]
      rw [M_see_end (Sm := fset (fset Sm 13 a) 17 wd) (by omega) (show Sm.1 10 ≤ a by omega) (by omega) (show 0 ≤ Sm.1 10 by omega), bd_some, M_isLetter_e (by decide), bd_some, if_neg (by decide), gd_pos (by omega)]
      by_cases h6 : a - p ≤ 6
      · rw [if_pos h6, if_pos h6, hwd, show min k 6 = (a - p).toNat by omega]
      · rw [if_neg h6, if_neg h6, nm_eq, fset_fset]
  | succ m ih =>
    intro a wd k h0 h1 hm hk hL hwd n1 n2 h3 h4
    obtain ⟨n1, rfl⟩ : ∃ k, n1 = k + 1 := ⟨n1 - 1, by omega⟩
    obtain ⟨n2, rfl⟩ : ∃ k, n2 = k + 1 := ⟨n2 - 1, by omega⟩
    have hs := ht.2.1
    have h10 := ht.1
    by_cases hl : a < S.1 1
    · obtain ⟨c0, c1, cc⟩ := ht.ch (show 0 ≤ a by omega) (by omega)
      have hsee : M_see (fset (fset Sm 13 a) 17 wd) a = some (Sm.2 9 a) := M_see_in (Sm := fset (fset Sm 13 a) 17 wd) (by omega) (show a < Sm.1 10 by omega) (show Sm.1 10 ≤ 300 by omega)
      by_cases hd : isL (Sm.2 9 a)
      · have hdt : isL (S.2 0 a) := by unfold isL at *; omega
        have hT : T_next_L106 x1 (n1 + 1) (cfs S 4 a) = T_next_L106 x1 n1 (cfs S 4 (a + 1)) := by
          show T_next_b106 _ _ _ = _
          unfold T_next_b106
          simp only [show (cfs S 4 a).1 4 = a from rfl, show (cfs S 4 a).1 1 = S.1 1 from rfl, show (cfs S 4 a).2 = S.2 from rfl]
          rw [gd_pos (by omega), if_pos hl, gd_pos (by omega), T_isLetter_e (by omega), bd_some, if_pos (decide_eq_true hdt), nm_eq, cfs_cfs]
        have hL' : ∀ j, p ≤ j → j < a + 1 → isL (Sm.2 9 j) := by
          intro j q1 q2
          by_cases e : j = a
          · rw [e]; exact hd
          · exact hL j q1 (by omega)
        by_cases hw : a - p < 6
        · have hb := wv_bd (f := Sm.2 9) (p := p) (k := min k 6) (by omega) (fun j q0 q1 => by
            have := hL (p + j) (by omega) (by omega)
            unfold isL at this
            omega)
          have hb2 : (256 : Int) ^ (min k 6) ≤ 256 ^ 5 := by
            have q : (256 : Nat) ^ (min k 6) ≤ 256 ^ 5 := Nat.pow_le_pow_right (by decide) (by omega)
            exact_mod_cast q
          rw [← hwd] at hb
          have hM : M_nextToken_L161 (n2 + 1) (fset (fset Sm 13 a) 17 wd) = M_nextToken_L161 n2 (fset (fset Sm 13 (a + 1)) 17 (wd * 256 + Sm.2 9 a)) := by
            show M_nextToken_b161 _ _ = _
            unfold M_nextToken_b161 M_nextToken_B210
            simp only [show (fset (fset Sm 13 a) 17 wd).1 13 = a from rfl, show (fset (fset Sm 13 a) 17 wd).1 14 = Sm.1 14 from rfl, show (fset (fset Sm 13 a) 17 wd).1 17 = wd from rfl, hpm]
            have e8 : wd * 2 ^ (Int.toNat 8) = wd * 256 := rfl
            rw [hsee, bd_some, M_isLetter_e (by omega), bd_some, if_pos (decide_eq_true hd), gd_pos (by omega), if_pos hw, gd_pos ⟨hb.1, by decide, by rw [e8]; omega⟩, bd_some, gd_pos (by omega), gd_pos ⟨by rw [e8]; omega, c0⟩, nm_eq, nm_eq, zor_add hb.1 c0 (by omega), fset_fset]
            rw [show (fset (fset Sm 13 a) 17 (wd * 256 + Sm.2 9 a)).1 13 = a from rfl, fset_comm _ (by decide), fset_fset]
          have hwd' : wd * 256 + Sm.2 9 a = wv (Sm.2 9) p (min (k + 1) 6) := by
            rw [show min (k + 1) 6 = min k 6 + 1 by omega]
            show _ = wv (Sm.2 9) p (min k 6) * 256 + Sm.2 9 (p + (min k 6 : Nat))
            rw [← hwd, show p + ((min k 6 : Nat) : Int) = a by omega]
          obtain ⟨a', wd2, q1, q2, q3, q4, q5, q6, q7⟩ := ih (a + 1) _ (k + 1) (by omega) (by omega) (by omega) (by omega) hL' hwd' n1 n2 (by omega) (by omega)
          exact ⟨a', wd2, by omega, q2, fun _ _ => by omega, q4, q5, hT.trans q6, hM.trans q7⟩
        · have hM : M_nextToken_L161 (n2 + 1) (fset (fset Sm 13 a) 17 wd) = M_nextToken_L161 n2 (fset (fset Sm 13 (a + 1)) 17 wd) := by
            show M_nextToken_b161 _ _ = _
            unfold M_nextToken_b161 M_nextToken_B210
            simp only [show (fset (fset Sm 13 a) 17 wd).1 13 = a from rfl, show (fset (fset Sm 13 a) 17 wd).1 14 = Sm.1 14 from rfl, show (fset (fset Sm 13 a) 17 wd).1 17 = wd from rfl, hpm]
            rw [hsee, bd_some, M_isLetter_e (by omega), bd_some, if_pos (decide_eq_true hd), gd_pos (by omega), if_neg hw, nm_eq, fset_comm _ (by decide), fset_fset]
          have hwd' : wd = wv (Sm.2 9) p (min (k + 1) 6) := by
            rw [hwd, show min (k + 1) 6 = min k 6 by omega]
          obtain ⟨a', wd2, q1, q2, q3, q4, q5, q6, q7⟩ := ih (a + 1) _ (k + 1) (by omega) (by omega) (by omega) (by omega) hL' hwd' n1 n2 (by omega) (by omega)
          exact ⟨a', wd2, by omega, q2, fun _ _ => by omega, q4, q5, hT.trans q6, hM.trans q7⟩
      · refine ⟨a, _, Int.le_refl _, h1, fun _ h => absurd h hd, hL, rfl, ?_, ?_⟩
        · show T_next_b106 _ _ _ = _
          unfold T_next_b106
          simp only [show (cfs S 4 a).1 4 = a from rfl, show (cfs S 4 a).1 1 = S.1 1 from rfl, show (cfs S 4 a).2 = S.2 from rfl]
          rw [gd_pos (by omega), if_pos hl, gd_pos (by omega), T_isLetter_e (by omega), bd_some, if_neg (by rw [decide_eq_true_eq]; unfold isL at *; omega)]
        · show M_nextToken_b161 _ _ = _
          unfold M_nextToken_b161
          simp only [show (fset (fset Sm 13 a) 17 wd).1 13 = a from rfl, show (fset (fset Sm 13 a) 17 wd).1 14 = Sm.1 14 from rfl, hpm]
          rw [hsee, bd_some, M_isLetter_e (by omega), bd_some, if_neg (by rw [decide_eq_true_eq]; exact hd), gd_pos (by omega)]
          by_cases h6 : a - p ≤ 6
          · rw [if_pos h6, if_pos h6, hwd, show min k 6 = (a - p).toNat by omega]
          · rw [if_neg h6, if_neg h6, nm_eq, fset_fset]
    · refine ⟨a, _, Int.le_refl _, h1, fun h => by omega, hL, rfl, ?_, ?_⟩
      · show T_next_b106 _ _ _ = _
        unfold T_next_b106
        simp only [show (cfs S 4 a).1 4 = a from rfl, show (cfs S 4 a).1 1 = S.1 1 from rfl]
        rw [gd_pos (by omega), if_neg (show ¬ a < S.1 1 by omega)]
      · show M_nextToken_b161 _ _ = _
        unfold M_nextToken_b161
        simp only [show (fset (fset Sm 13 a) 17 wd).1 13 = a from rfl, show (fset (fset Sm 13 a) 17 wd).1 14 = Sm.1 14 from rfl, hpm]
        rw [M_see_end (Sm := fset (fset Sm 13 a) 17 wd) (by omega) (show Sm.1 10 ≤ a by omega) (by omega) (show 0 ≤ Sm.1 10 by omega), bd_some, M_isLetter_e (by decide), bd_some, if_neg (by decide), gd_pos (by omega)]
        by_cases h6 : a - p ≤ 6
        · rw [if_pos h6, if_pos h6, hwd, show min k 6 = (a - p).toNat by omega]
        · rw [if_neg h6, if_neg h6, nm_eq, fset_fset]
def wcL : List Int := [7103860, 1953854062, 26479, 1919251316, 28530, 6385252, 7237492, 1818586739, 1885432178, 1953063787, 7170414, 7168376]
def wc (w : Nat) : Int := wcL.getD w 0
theorem T_isWord_L_e {S : yS} {w : Nat} (hw : w < 12) {p : Int} (hp : S.1 5 = p) (h0 : 0 ≤ p) (hl : p + gLn w ≤ 300) (hr : ∀ j, 0 ≤ j → j < 300 → r32 (S.2 0 j)) : ∀ (m : Nat) (k : Int), 0 ≤ k → k ≤ gLn w → gLn w - k ≤ m → ∀ n, m < n → ∃ b, T_isWord_L20 S (w : Int) n k = some b ∧ (b = true ↔ ∀ j : Nat, k ≤ j → (j : Int) < gLn w → S.2 0 (p + j) = gSg w j) := by
  have hgl : 0 ≤ gLn w ∧ gLn w ≤ 4 := by
    have : ∀ w, w < 12 → 0 ≤ gLn w ∧ gLn w ≤ 4 := by decide
    exact this w hw
  have hgs : ∀ j : Nat, r32 (gSg w j) := by
    have : ∀ w, w < 12 → ∀ j, j < 4 → r32 (gSg w ((j : Nat) : Int)) := by decide
    intro j
    by_cases h : j < 4
    · exact this w hw j h
    · have h2 : ∀ w, w < 12 → ∀ j, 4 ≤ j → gSg w ((j : Nat) : Int) = 0 := by
        intro w hw j hj
        have hg : ∀ w, w < 12 → (gTx.getD w []).length ≤ 4 := by decide
        unfold gSg
        rw [Int.toNat_natCast, List.getD_eq_getElem?_getD (l := gTx.getD w []), List.getElem?_eq_none (by have := hg w hw; omega)]
        rfl
      rw [h2 w hw j (by omega)]
      decide
  intro m
  induction m with
  | zero =>
    intro k k0 k1 km n hn
    obtain ⟨n, rfl⟩ : ∃ k, n = k + 1 := ⟨n - 1, by omega⟩
    refine ⟨true, ?_, fun _ j h1 h2 => (by omega), fun _ => rfl⟩
    show T_isWord_b20 _ _ _ _ = _
    unfold T_isWord_b20
    rw [Int.toNat_natCast, gd_pos (by omega), if_neg (by omega)]
  | succ m ih =>
    intro k k0 k1 km n hn
    obtain ⟨n, rfl⟩ : ∃ k, n = k + 1 := ⟨n - 1, by omega⟩
    have hX : T_isWord_L20 S (w : Int) (n + 1) k = T_isWord_b20 S w (T_isWord_L20 S w n) k := rfl
    rw [hX]
    unfold T_isWord_b20
    rw [Int.toNat_natCast, gd_pos (by omega), hp]
    by_cases hk : k < gLn w
    · obtain ⟨kn, rfl⟩ : ∃ q : Nat, k = q := ⟨k.toNat, by omega⟩
      rw [if_pos hk, gd_pos (by omega), gd_pos (by omega), gd_pos ⟨hr _ (by omega) (by omega), hgs kn⟩]
      by_cases he : S.2 0 (p + kn) = gSg w kn
      · obtain ⟨b, hb, hi⟩ := ih ((kn : Int) + 1) (by omega) (by omega) (by omega) n (by omega)
        refine ⟨b, by rw [if_pos he, nm_eq, hb], fun h j q1 q2 => ?_, fun h => hi.mpr (fun j q1 q2 => h j (by omega) q2)⟩
        by_cases e : j = kn
        · rw [e]; exact he
        · exact hi.mp h j (by omega) q2
      · exact ⟨false, by rw [if_neg he], fun h => (by cases h), fun h => absurd (h kn (Int.le_refl _) hk) he⟩
    · exact ⟨true, by rw [if_neg hk], fun _ j h1 h2 => (by omega), fun _ => rfl⟩
theorem wd_lo {f : Int → Int} {p : Int} {n : Nat} (h5 : 5 ≤ n) (h6 : n ≤ 6) (hf : ∀ j : Nat, j < n → 65 ≤ f (p + j) ∧ f (p + j) ≤ 122) : 4294967296 ≤ wv f p n := by
  have e5 : wv f p 5 = ((((0 * 256 + f (p + (0 : Nat))) * 256 + f (p + (1 : Nat))) * 256 + f (p + (2 : Nat))) * 256 + f (p + (3 : Nat))) * 256 + f (p + (4 : Nat)) := rfl
  have q0 := hf 0 (by omega)
  have q1 := hf 1 (by omega)
  have q2 := hf 2 (by omega)
  have q3 := hf 3 (by omega)
  have q4 := hf 4 (by omega)
  rcases (by omega : n = 5 ∨ n = 6) with rfl | rfl
  · omega
  · have e6 : wv f p 6 = wv f p 5 * 256 + f (p + (5 : Nat)) := rfl
    have q5 := hf 5 (by omega)
    omega
theorem wd_iff {f : Int → Int} {p : Int} {n w : Nat} (hw : w < 12) (hn : 1 ≤ n) (hf : ∀ j : Nat, j < n → 65 ≤ f (p + j) ∧ f (p + j) ≤ 122) {wd : Int} (hwd : wd = if (n : Int) ≤ 6 then wv f p n else 0) : ((n : Int) = gLn w ∧ ∀ j : Nat, (0 : Int) ≤ j → (j : Int) < gLn w → f (p + j) = gSg w j) ↔ wd = wc w := by
  have e1 : wv f p 1 = (0 * 256 + f (p + (0 : Nat))) := rfl
  have e2 : wv f p 2 = (0 * 256 + f (p + (0 : Nat))) * 256 + f (p + (1 : Nat)) := rfl
  have e3 : wv f p 3 = ((0 * 256 + f (p + (0 : Nat))) * 256 + f (p + (1 : Nat))) * 256 + f (p + (2 : Nat)) := rfl
  have e4 : wv f p 4 = (((0 * 256 + f (p + (0 : Nat))) * 256 + f (p + (1 : Nat))) * 256 + f (p + (2 : Nat))) * 256 + f (p + (3 : Nat)) := rfl
  have hW : ∀ w, w < 12 → 26000 ≤ wc w ∧ wc w < 4294967296 ∧ (gLn w = 2 ∧ wc w = gSg w (0 : Nat) * 256 + gSg w (1 : Nat) ∧ wc w < 65536 ∧ (0 ≤ gSg w (0 : Nat) ∧ 0 ≤ gSg w (1 : Nat) ∧ gSg w (1 : Nat) < 256) ∨ gLn w = 3 ∧ wc w = (gSg w (0 : Nat) * 256 + gSg w (1 : Nat)) * 256 + gSg w (2 : Nat) ∧ 65536 ≤ wc w ∧ wc w < 16777216 ∧ (0 ≤ gSg w (0 : Nat) ∧ 0 ≤ gSg w (1 : Nat) ∧ gSg w (1 : Nat) < 256 ∧ 0 ≤ gSg w (2 : Nat) ∧ gSg w (2 : Nat) < 256) ∨ gLn w = 4 ∧ wc w = ((gSg w (0 : Nat) * 256 + gSg w (1 : Nat)) * 256 + gSg w (2 : Nat)) * 256 + gSg w (3 : Nat) ∧ 16777216 ≤ wc w ∧ (0 ≤ gSg w (0 : Nat) ∧ 0 ≤ gSg w (1 : Nat) ∧ gSg w (1 : Nat) < 256 ∧ 0 ≤ gSg w (2 : Nat) ∧ gSg w (2 : Nat) < 256 ∧ 0 ≤ gSg w (3 : Nat) ∧ gSg w (3 : Nat) < 256)) := by decide
  obtain ⟨b1, b2, hc⟩ := hW w hw
  constructor
  · rintro ⟨hl, hj⟩
    rcases hc with ⟨g, c, c2, -⟩ | ⟨g, c, c2, c3, -⟩ | ⟨g, c, c2, -⟩
    · have n2 : n = 2 := by omega
      subst n2
      rw [hwd, if_pos (by decide), e2, c, hj 0 (by omega) (by omega), hj 1 (by omega) (by omega)]
      omega
    · have n2 : n = 3 := by omega
      subst n2
      rw [hwd, if_pos (by decide), e3, c, hj 0 (by omega) (by omega), hj 1 (by omega) (by omega), hj 2 (by omega) (by omega)]
      omega
    · have n2 : n = 4 := by omega
      subst n2
      rw [hwd, if_pos (by decide), e4, c, hj 0 (by omega) (by omega), hj 1 (by omega) (by omega), hj 2 (by omega) (by omega), hj 3 (by omega) (by omega)]
      omega
  · intro he
    by_cases h6 : (n : Int) ≤ 6
    · rw [if_pos h6] at hwd
      by_cases h5 : 5 ≤ n
      · have := wd_lo h5 (by omega) hf
        omega
      · have q0 := hf 0 (by omega)
        rcases (by omega : n = 1 ∨ n = 2 ∨ n = 3 ∨ n = 4) with rfl | rfl | rfl | rfl
        · omega
        · have q1 := hf 1 (by omega)
          rcases hc with ⟨g, c, c2, d⟩ | ⟨g, c, c2, c3, d⟩ | ⟨g, c, c2, d⟩
          · refine ⟨by omega, fun j h0 h1 => ?_⟩
            rcases (by omega : j = 0 ∨ j = 1) with rfl | rfl <;> omega
          · omega
          · omega
        · have q1 := hf 1 (by omega)
          have q2 := hf 2 (by omega)
          rcases hc with ⟨g, c, c2, d⟩ | ⟨g, c, c2, c3, d⟩ | ⟨g, c, c2, d⟩
          · omega
          · refine ⟨by omega, fun j h0 h1 => ?_⟩
            rcases (by omega : j = 0 ∨ j = 1 ∨ j = 2) with rfl | rfl | rfl <;> omega
          · omega
        · have q1 := hf 1 (by omega)
          have q2 := hf 2 (by omega)
          have q3 := hf 3 (by omega)
          rcases hc with ⟨g, c, c2, d⟩ | ⟨g, c, c2, c3, d⟩ | ⟨g, c, c2, d⟩
          · omega
          · omega
          · refine ⟨by omega, fun j h0 h1 => ?_⟩
            rcases (by omega : j = 0 ∨ j = 1 ∨ j = 2 ∨ j = 3) with rfl | rfl | rfl | rfl <;> omega
    · rw [if_neg h6] at hwd
      omega
theorem wc_inj : ∀ w, w < 12 → ∀ v, v < 12 → wc w = wc v → w = v := by decide
theorem wc_big : ∀ w, w < 12 → 26000 ≤ wc w := by decide
/-- the twelve words are tried -/
theorem nx_words {wd : Int} : ∀ (m : Nat) (k : Nat) (X : yS), 12 - k ≤ m → k ≤ 12 → (∀ (w : Nat) (so : Int), w < 12 → ∃ b, T_isWord (cfs X 6 so) (w : Int) = some b ∧ (b = true ↔ wd = wc w)) → ∀ n, m < n → ∃ so, T_next_L194 n X (k : Int) = some (cfs X 6 so) ∧ ((∃ w : Nat, w < 12 ∧ wd = wc w ∧ so = 200 + (w : Int)) ∨ ((∀ w : Nat, k ≤ w → w < 12 → wd ≠ wc w) ∧ so = X.1 6)) := by
  intro m
  induction m with
  | zero =>
    intro k X hk hk2 hW n hn
    obtain ⟨n, rfl⟩ : ∃ k, n = k + 1 := ⟨n - 1, by omega⟩
    refine ⟨X.1 6, ?_, Or.inr ⟨fun w q1 q2 => by omega, rfl⟩⟩
    show T_next_b194 _ _ _ = _
    unfold T_next_b194
    rw [gd_pos (by omega), if_neg (by omega), cfs_id]
  | succ m ih =>
    intro k X hk hk2 hW n hn
    obtain ⟨n, rfl⟩ : ∃ k, n = k + 1 := ⟨n - 1, by omega⟩
    have hX : T_next_L194 (n + 1) X (k : Int) = T_next_b194 (T_next_L194 n) X k := rfl
    rw [hX]
    unfold T_next_b194
    by_cases hk3 : k < 12
    · obtain ⟨b, hb, hi⟩ := hW k (X.1 6) hk3
      rw [cfs_id] at hb
      rw [gd_pos (by omega), if_pos (by omega), gd_pos (by omega), hb, bd_some]
      by_cases hbt : b = true
      · rw [if_pos hbt, nm_eq, nm_eq]
        obtain ⟨so, q1, q2⟩ := ih (k + 1) (cfs X 6 (200 + (k : Int))) (by omega) (by omega) (fun w so hw => by rw [cfs_cfs]; exact hW w so hw) n (by omega)
        rw [show ((k : Int) + 1) = ((k + 1 : Nat) : Int) by omega]
        refine ⟨so, by rw [q1, cfs_cfs], ?_⟩
        rcases q2 with q2 | ⟨q2, q3⟩
        · exact Or.inl q2
        · exact Or.inl ⟨k, hk3, hi.mp hbt, q3⟩
      · rw [if_neg hbt, nm_eq]
        obtain ⟨so, q1, q2⟩ := ih (k + 1) X (by omega) (by omega) hW n (by omega)
        rw [show ((k : Int) + 1) = ((k + 1 : Nat) : Int) by omega]
        refine ⟨so, q1, ?_⟩
        rcases q2 with q2 | ⟨q2, q3⟩
        · exact Or.inl q2
        · refine Or.inr ⟨fun w h1 h2 => ?_, q3⟩
          by_cases e : w = k
          · rw [e]; exact fun h => hbt (hi.mpr h)
          · exact q2 w (by omega) h2
    · refine ⟨X.1 6, ?_, Or.inr ⟨fun w q1 q2 => by omega, rfl⟩⟩
      rw [gd_pos (by omega), if_neg (by omega), cfs_id]
def isSg (c : Int) : Prop := c = 60 ∨ c = 62 ∨ c = 61 ∨ c = 35 ∨ c = 43 ∨ c = 45 ∨ c = 42 ∨ c = 47 ∨ c = 40 ∨ c = 41 ∨ c = 44 ∨ c = 59
/-- the twelve signs are tried -/
theorem nx_signs {x1 : Int} (hx : r32 x1) : ∀ (m : Nat) (k : Nat) (X : yS), 12 - k ≤ m → k ≤ 12 → ∀ n, m < n → ∃ so, T_next_L356 x1 n X (k : Int) = (if x1 = 60 ∨ x1 = 62 then T_next_B398 (cfs X 6 so) x1 else some (cfs X 6 so)) ∧ (((∃ w : Nat, k ≤ w ∧ w < 12 ∧ gSg 12 w = x1) ∧ so = x1) ∨ ((∀ w : Nat, k ≤ w → w < 12 → gSg 12 w ≠ x1) ∧ so = X.1 6)) := by
  have hg : gLn 12 = 12 := by decide
  have hgr : ∀ w, w < 12 → r32 (gSg 12 ((w : Nat) : Int)) := by decide
  intro m
  have hend : ∀ X : yS, (gd (r32 (x1)) (if x1 = 60 then (T_next_B398 X x1) else (gd (r32 (x1)) (if x1 = 62 then (T_next_B398 X x1) else (some X))))) = if x1 = 60 ∨ x1 = 62 then T_next_B398 X x1 else some X := by
    intro X
    rw [gd_pos hx, gd_pos hx]
    by_cases h1 : x1 = 60
    · rw [if_pos h1, if_pos (Or.inl h1)]
    · rw [if_neg h1]
      by_cases h2 : x1 = 62
      · rw [if_pos h2, if_pos (Or.inr h2)]
      · rw [if_neg h2, if_neg (by omega)]
  induction m with
  | zero =>
    intro k X hk hk2 n hn
    obtain ⟨n, rfl⟩ : ∃ k, n = k + 1 := ⟨n - 1, by omega⟩
    refine ⟨X.1 6, ?_, Or.inr ⟨fun w q1 q2 => by omega, rfl⟩⟩
    show T_next_b356 _ _ _ _ = _
    unfold T_next_b356
    rw [hg, gd_pos (by omega), if_neg (by omega), cfs_id, hend]
  | succ m ih =>
    intro k X hk hk2 n hn
    obtain ⟨n, rfl⟩ : ∃ k, n = k + 1 := ⟨n - 1, by omega⟩
    have hX : T_next_L356 x1 (n + 1) X (k : Int) = T_next_b356 x1 (T_next_L356 x1 n) X k := rfl
    rw [hX]
    unfold T_next_b356
    rw [hg]
    by_cases hk3 : k < 12
    · rw [gd_pos (by omega), if_pos (by omega), gd_pos (by omega), gd_pos ⟨hgr k hk3, hx⟩]
      by_cases hbt : gSg 12 k = x1
      · rw [if_pos hbt, nm_eq, nm_eq]
        obtain ⟨so, q1, q2⟩ := ih (k + 1) (cfs X 6 x1) (by omega) (by omega) n (by omega)
        rw [show ((k : Int) + 1) = ((k + 1 : Nat) : Int) by omega]
        refine ⟨so, by rw [q1, cfs_cfs], Or.inl ⟨⟨k, Nat.le_refl _, hk3, hbt⟩, ?_⟩⟩
        rcases q2 with q2 | ⟨q2, q3⟩
        · exact q2.2
        · exact q3
      · rw [if_neg hbt, nm_eq]
        obtain ⟨so, q1, q2⟩ := ih (k + 1) X (by omega) (by omega) n (by omega)
        rw [show ((k : Int) + 1) = ((k + 1 : Nat) : Int) by omega]
        refine ⟨so, q1, ?_⟩
        rcases q2 with ⟨⟨w, h1, h2, h3⟩, q2⟩ | ⟨q2, q3⟩
        · exact Or.inl ⟨⟨w, by omega, h2, h3⟩, q2⟩
        · refine Or.inr ⟨fun w h1 h2 => ?_, q3⟩
          by_cases e : w = k
          · rw [e]; exact hbt
          · exact q2 w (by omega) h2
    · refine ⟨X.1 6, ?_, Or.inr ⟨fun w q1 q2 => by omega, rfl⟩⟩
      rw [gd_pos (by omega), if_neg (by omega), cfs_id, hend]
theorem sg_iff {x1 : Int} : (∃ w : Nat, 0 ≤ w ∧ w < 12 ∧ gSg 12 w = x1) ↔ isSg x1 := by
  unfold isSg
  constructor
  · rintro ⟨w, -, hw, h⟩
    have : ∀ w, w < 12 → isSg (gSg 12 ((w : Nat) : Int)) := by unfold isSg; decide
    rw [← h]
    exact this w hw
  · intro h
    rcases h with h | h | h | h | h | h | h | h | h | h | h | h
    · exact ⟨0, by decide, by decide, by rw [h]; decide⟩
    · exact ⟨1, by decide, by decide, by rw [h]; decide⟩
    · exact ⟨2, by decide, by decide, by rw [h]; decide⟩
    · exact ⟨3, by decide, by decide, by rw [h]; decide⟩
    · exact ⟨4, by decide, by decide, by rw [h]; decide⟩
    · exact ⟨5, by decide, by decide, by rw [h]; decide⟩
    · exact ⟨6, by decide, by decide, by rw [h]; decide⟩
    · exact ⟨7, by decide, by decide, by rw [h]; decide⟩
    · exact ⟨8, by decide, by decide, by rw [h]; decide⟩
    · exact ⟨9, by decide, by decide, by rw [h]; decide⟩
    · exact ⟨10, by decide, by decide, by rw [h]; decide⟩
    · exact ⟨11, by decide, by decide, by rw [h]; decide⟩
abbrev sgL : List Int := [60, 62, 61, 35, 43, 45, 42, 47, 40, 41, 44, 59]
def TKR (so nu tk nb wd : Int) : Prop := (r32 so ∧ r32 tk ∧ (tk = 2 → r64 wd)) ∧ (∀ s, isSg s → (so = s ↔ tk = s)) ∧ ((so = 301 ↔ tk = 0) ∧ (so = 300 ↔ tk = 1) ∧ (so = 303 ↔ tk = 4) ∧ (so = 304 ↔ tk = 5)) ∧ (∀ w : Nat, w < 12 → (so = 200 + (w : Int) ↔ tk = 2 ∧ wd = wc w)) ∧ (so = 305 ↔ tk = 2 ∧ 65 ≤ wd ∧ wd ≤ 72) ∧ (so = 305 → nu = wd - 65) ∧ (so = 300 → NR nu nb)
def LX (S : yS) (Sm : xS) : Prop := TxR S Sm ∧ S.1 4 = Sm.1 13 ∧ 0 ≤ S.1 4 ∧ S.1 4 ≤ S.1 1 ∧ S.1 5 = Sm.1 14 ∧ (0 ≤ S.1 5 ∧ S.1 5 ≤ S.1 4 ∧ (S.1 6 ≠ 301 → S.1 5 < S.1 4)) ∧ TKR (S.1 6) (S.1 7) (Sm.1 15) (Sm.1 16) (Sm.1 17)
def nF (S S' : yS) : Prop := S'.2 = S.2 ∧ ∀ k, k ≠ 4 → k ≠ 5 → k ≠ 6 → k ≠ 7 → S'.1 k = S.1 k
def nFm (S S' : xS) : Prop := S'.2 = S.2 ∧ ∀ k, k ≠ 13 → k ≠ 14 → k ≠ 15 → k ≠ 16 → k ≠ 17 → S'.1 k = S.1 k
theorem TxR.fr {S S' : yS} {Sm Sm' : xS} (h : TxR S Sm) (h1 : nF S S') (h2 : nFm Sm Sm') : TxR S' Sm' := by
  unfold TxR
  rw [h1.1, h2.1, h1.2 1 (by decide) (by decide) (by decide) (by decide), h2.2 10 (by decide) (by decide) (by decide) (by decide) (by decide)]
  exact h
theorem isSg_bd {s : Int} (h : isSg s) : 35 ≤ s ∧ s ≤ 62 := by unfold isSg at h; omega
def MT_rest (S11 : xS) (v14 : Int) : Option xS := gd (r32 (v14)) (if v14 < 0 then (nm (fset S11 15 (0)) (fun S17 => some S17)) else (bd (M_isDigit v14) (fun v20 => if v20 = true then (nm (fset S11 15 (1)) (fun S22 => nm (fset S22 16 (0)) (fun S24 => M_nextToken_L85 FU S24))) else (bd (M_isLetter v14) (fun v40 => if v40 = true then (nm (fset S11 15 (2)) (fun S42 => nm (fset S42 17 (0)) (fun S44 => M_nextToken_L161 FU S44))) else (nm (fset S11 13 ((S11.1 13) + 1)) (fun S66 => gd (r32 (v14)) (if v14 = 60 then (M_nextToken_B327 S66 v14) else (gd (r32 (v14)) (if v14 = 62 then (M_nextToken_B327 S66 v14) else (gd (r32 (v14)) (if v14 = 61 then (M_nextToken_B327 S66 v14) else (gd (r32 (v14)) (if v14 = 35 then (M_nextToken_B327 S66 v14) else (gd (r32 (v14)) (if v14 = 43 then (M_nextToken_B327 S66 v14) else (gd (r32 (v14)) (if v14 = 45 then (M_nextToken_B327 S66 v14) else (gd (r32 (v14)) (if v14 = 42 then (M_nextToken_B327 S66 v14) else (gd (r32 (v14)) (if v14 = 47 then (M_nextToken_B327 S66 v14) else (gd (r32 (v14)) (if v14 = 40 then (M_nextToken_B327 S66 v14) else (gd (r32 (v14)) (if v14 = 41 then (M_nextToken_B327 S66 v14) else (gd (r32 (v14)) (if v14 = 44 then (M_nextToken_B327 S66 v14) else (gd (r32 (v14)) (if v14 = 59 then (M_nextToken_B327 S66 v14) else (M_nextToken_B332 S66 v14 (0 : Int))))))))))))))))))))))))))))))))
theorem MT_rest_e {Sm : xS} {a c : Int} {K : xS → Option xS} (hs : M_see (fset Sm 13 a) a = some c) (hs2 : M_see (fset (fset Sm 13 a) 14 a) a = some c) (h1 : c ≠ 32) (h2 : c ≠ 10) (hr : r32 c) : M_nextToken_b0 K (fset Sm 13 a) = MT_rest (fset (fset Sm 13 a) 14 a) c := by
  unfold M_nextToken_b0
  simp only [show (fset Sm 13 a).1 13 = a from rfl]
  rw [hs, bd_some, gd_pos hr, if_neg h1, bd_some, gd_pos hr, if_neg h2, nm_eq]
  simp only [show (fset (fset Sm 13 a) 14 a).1 13 = a from rfl]
  rw [hs2, bd_some]
  rfl
theorem MT_sign {B : xS} {c : Int} (hr : r32 c) (h0 : ¬ c < 0) (hd : ¬ (48 ≤ c ∧ c ≤ 57)) (hl : ¬ isL c) : ∃ t, MT_rest B c = M_nextToken_B343 (fset B 13 (B.1 13 + 1)) c t ∧ (isSg c ∧ t = c ∨ ¬ isSg c ∧ t = 3) := by
  have hB : M_nextToken_B327 (fset B 13 (B.1 13 + 1)) c = M_nextToken_B343 (fset B 13 (B.1 13 + 1)) c c := by
    unfold M_nextToken_B327 M_nextToken_B332
    rw [gd_pos (by decide), if_neg (by decide)]
  unfold MT_rest
  rw [gd_pos hr, if_neg h0, M_isDigit_e hr, bd_some, if_neg (by rw [decide_eq_true_eq]; exact hd), M_isLetter_e hr, bd_some, if_neg (by rw [decide_eq_true_eq]; exact hl), nm_eq]
  by_cases g0 : c = 60
  · exact ⟨c, by rw [gd_pos hr, if_pos g0, hB], Or.inl ⟨by unfold isSg; omega, rfl⟩⟩
  by_cases g1 : c = 62
  · exact ⟨c, by rw [gd_pos hr, if_neg g0, gd_pos hr, if_pos g1, hB], Or.inl ⟨by unfold isSg; omega, rfl⟩⟩
  by_cases g2 : c = 61
  · exact ⟨c, by rw [gd_pos hr, if_neg g0, gd_pos hr, if_neg g1, gd_pos hr, if_pos g2, hB], Or.inl ⟨by unfold isSg; omega, rfl⟩⟩
  by_cases g3 : c = 35
  · exact ⟨c, by rw [gd_pos hr, if_neg g0, gd_pos hr, if_neg g1, gd_pos hr, if_neg g2, gd_pos hr, if_pos g3, hB], Or.inl ⟨by unfold isSg; omega, rfl⟩⟩
  by_cases g4 : c = 43
  · exact ⟨c, by rw [gd_pos hr, if_neg g0, gd_pos hr, if_neg g1, gd_pos hr, if_neg g2, gd_pos hr, if_neg g3, gd_pos hr, if_pos g4, hB], Or.inl ⟨by unfold isSg; omega, rfl⟩⟩
  by_cases g5 : c = 45
  · exact ⟨c, by rw [gd_pos hr, if_neg g0, gd_pos hr, if_neg g1, gd_pos hr, if_neg g2, gd_pos hr, if_neg g3, gd_pos hr, if_neg g4, gd_pos hr, if_pos g5, hB], Or.inl ⟨by unfold isSg; omega, rfl⟩⟩
  by_cases g6 : c = 42
  · exact ⟨c, by rw [gd_pos hr, if_neg g0, gd_pos hr, if_neg g1, gd_pos hr, if_neg g2, gd_pos hr, if_neg g3, gd_pos hr, if_neg g4, gd_pos hr, if_neg g5, gd_pos hr, if_pos g6, hB], Or.inl ⟨by unfold isSg; omega, rfl⟩⟩
  by_cases g7 : c = 47
  · exact ⟨c, by rw [gd_pos hr, if_neg g0, gd_pos hr, if_neg g1, gd_pos hr, if_neg g2, gd_pos hr, if_neg g3, gd_pos hr, if_neg g4, gd_pos hr, if_neg g5, gd_pos hr, if_neg g6, gd_pos hr, if_pos g7, hB], Or.inl ⟨by unfold isSg; omega, rfl⟩⟩
  by_cases g8 : c = 40
  · exact ⟨c, by rw [gd_pos hr, if_neg g0, gd_pos hr, if_neg g1, gd_pos hr, if_neg g2, gd_pos hr, if_neg g3, gd_pos hr, if_neg g4, gd_pos hr, if_neg g5, gd_pos hr, if_neg g6, gd_pos hr, if_neg g7, gd_pos hr, if_pos g8, hB], Or.inl ⟨by unfold isSg; omega, rfl⟩⟩
  by_cases g9 : c = 41
  · exact ⟨c, by rw [gd_pos hr, if_neg g0, gd_pos hr, if_neg g1, gd_pos hr, if_neg g2, gd_pos hr, if_neg g3, gd_pos hr, if_neg g4, gd_pos hr, if_neg g5, gd_pos hr, if_neg g6, gd_pos hr, if_neg g7, gd_pos hr, if_neg g8, gd_pos hr, if_pos g9, hB], Or.inl ⟨by unfold isSg; omega, rfl⟩⟩
  by_cases g10 : c = 44
  · exact ⟨c, by rw [gd_pos hr, if_neg g0, gd_pos hr, if_neg g1, gd_pos hr, if_neg g2, gd_pos hr, if_neg g3, gd_pos hr, if_neg g4, gd_pos hr, if_neg g5, gd_pos hr, if_neg g6, gd_pos hr, if_neg g7, gd_pos hr, if_neg g8, gd_pos hr, if_neg g9, gd_pos hr, if_pos g10, hB], Or.inl ⟨by unfold isSg; omega, rfl⟩⟩
  by_cases g11 : c = 59
  · exact ⟨c, by rw [gd_pos hr, if_neg g0, gd_pos hr, if_neg g1, gd_pos hr, if_neg g2, gd_pos hr, if_neg g3, gd_pos hr, if_neg g4, gd_pos hr, if_neg g5, gd_pos hr, if_neg g6, gd_pos hr, if_neg g7, gd_pos hr, if_neg g8, gd_pos hr, if_neg g9, gd_pos hr, if_neg g10, gd_pos hr, if_pos g11, hB], Or.inl ⟨by unfold isSg; omega, rfl⟩⟩
  refine ⟨3, ?_, Or.inr ⟨by unfold isSg; omega, rfl⟩⟩
  rw [gd_pos hr, if_neg g0, gd_pos hr, if_neg g1, gd_pos hr, if_neg g2, gd_pos hr, if_neg g3, gd_pos hr, if_neg g4, gd_pos hr, if_neg g5, gd_pos hr, if_neg g6, gd_pos hr, if_neg g7, gd_pos hr, if_neg g8, gd_pos hr, if_neg g9, gd_pos hr, if_neg g10, gd_pos hr, if_neg g11]
  unfold M_nextToken_B332
  rw [gd_pos (by decide), if_pos rfl]
theorem M_B343_e {B : xS} {c t : Int} (hr : r32 c) : M_nextToken_B343 B c t = if c = 60 ∨ c = 62 then M_nextToken_B358 (fset B 15 t) c else some (fset B 15 t) := by
  unfold M_nextToken_B343
  rw [nm_eq, gd_pos hr, gd_pos hr]
  by_cases h1 : c = 60
  · rw [if_pos h1, if_pos (Or.inl h1)]
  · rw [if_neg h1]
    by_cases h2 : c = 62
    · rw [if_pos h2, if_pos (Or.inr h2)]
    · rw [if_neg h2, if_neg (by omega)]
theorem TKR.sg {so nu tk nb wd : Int} (h : (isSg so ∧ tk = so) ∨ (so = 302 ∧ tk = 3) ∨ (so = 303 ∧ tk = 4) ∨ (so = 304 ∧ tk = 5) ∨ (so = 301 ∧ tk = 0)) : TKR so nu tk nb wd := by
  have hb : isSg so → 35 ≤ so ∧ so ≤ 62 := isSg_bd
  have h : ((35 ≤ so ∧ so ≤ 62) ∧ tk = so) ∨ (so = 302 ∧ tk = 3) ∨ (so = 303 ∧ tk = 4) ∨ (so = 304 ∧ tk = 5) ∨ (so = 301 ∧ tk = 0) := h.imp (fun h => ⟨hb h.1, h.2⟩) id
  refine ⟨⟨by omega, by omega, fun g => by omega⟩, fun s hs => ?_, by omega, fun w hw => by omega, by omega, by omega, by omega⟩
  have := isSg_bd hs
  omega
theorem nF.rfl_ (S : yS) : nF S S := ⟨rfl, fun _ _ _ _ _ => rfl⟩
theorem nF.s4 {S X : yS} {z : Int} (h : nF S X) : nF S (cfs X 4 z) := ⟨h.1, fun k a1 a2 a3 a4 => by rw [cfs_ne _ _ a1]; exact h.2 k a1 a2 a3 a4⟩
theorem nF.s5 {S X : yS} {z : Int} (h : nF S X) : nF S (cfs X 5 z) := ⟨h.1, fun k a1 a2 a3 a4 => by rw [cfs_ne _ _ a2]; exact h.2 k a1 a2 a3 a4⟩
theorem nF.s6 {S X : yS} {z : Int} (h : nF S X) : nF S (cfs X 6 z) := ⟨h.1, fun k a1 a2 a3 a4 => by rw [cfs_ne _ _ a3]; exact h.2 k a1 a2 a3 a4⟩
theorem nF.s7 {S X : yS} {z : Int} (h : nF S X) : nF S (cfs X 7 z) := ⟨h.1, fun k a1 a2 a3 a4 => by rw [cfs_ne _ _ a4]; exact h.2 k a1 a2 a3 a4⟩
theorem nFm.rfl_ (S : xS) : nFm S S := ⟨rfl, fun _ _ _ _ _ _ => rfl⟩
theorem nFm.s13 {S X : xS} {z : Int} (h : nFm S X) : nFm S (fset X 13 z) := ⟨h.1, fun k a1 a2 a3 a4 a5 => by rw [fset_ne _ _ a1]; exact h.2 k a1 a2 a3 a4 a5⟩
theorem nFm.s14 {S X : xS} {z : Int} (h : nFm S X) : nFm S (fset X 14 z) := ⟨h.1, fun k a1 a2 a3 a4 a5 => by rw [fset_ne _ _ a2]; exact h.2 k a1 a2 a3 a4 a5⟩
theorem nFm.s15 {S X : xS} {z : Int} (h : nFm S X) : nFm S (fset X 15 z) := ⟨h.1, fun k a1 a2 a3 a4 a5 => by rw [fset_ne _ _ a3]; exact h.2 k a1 a2 a3 a4 a5⟩
theorem nFm.s16 {S X : xS} {z : Int} (h : nFm S X) : nFm S (fset X 16 z) := ⟨h.1, fun k a1 a2 a3 a4 a5 => by rw [fset_ne _ _ a4]; exact h.2 k a1 a2 a3 a4 a5⟩
theorem nFm.s17 {S X : xS} {z : Int} (h : nFm S X) : nFm S (fset X 17 z) := ⟨h.1, fun k a1 a2 a3 a4 a5 => by rw [fset_ne _ _ a5]; exact h.2 k a1 a2 a3 a4 a5⟩
theorem nF.trans {S X Y : yS} (h : nF S X) (g : nF X Y) : nF S Y := ⟨g.1.trans h.1, fun k a1 a2 a3 a4 => (g.2 k a1 a2 a3 a4).trans (h.2 k a1 a2 a3 a4)⟩
theorem nFm.trans {S X Y : xS} (h : nFm S X) (g : nFm X Y) : nFm S Y := ⟨g.1.trans h.1, fun k a1 a2 a3 a4 a5 => (g.2 k a1 a2 a3 a4 a5).trans (h.2 k a1 a2 a3 a4 a5)⟩
/-- a word of letters begins -/
theorem nx_word {S : yS} {Sm : xS} {a : Int} (ht : TxR S Sm) (ha : 0 ≤ a) (hl : a < S.1 1) (hS5 : S.1 5 = a) (hM14 : Sm.1 14 = a) (hM15 : Sm.1 15 = 2) (hc : isL (Sm.2 9 a)) : ∃ S' Sm', T_next_L106 (S.2 0 a) FU (cfs S 4 a) = some S' ∧ M_nextToken_L161 FU (fset (fset Sm 13 a) 17 0) = some Sm' ∧ S'.1 4 = Sm'.1 13 ∧ a < S'.1 4 ∧ S'.1 4 ≤ S.1 1 ∧ S'.1 5 = a ∧ Sm'.1 14 = a ∧ TKR (S'.1 6) (S'.1 7) (Sm'.1 15) (Sm'.1 16) (Sm'.1 17) ∧ nF S S' ∧ nFm Sm Sm' ∧ S'.1 6 ≠ 301 := by
  have hs := ht.2.1
  have h10 := ht.1
  obtain ⟨e, wd, q1, q2, q3, q4, q5, q6, q7⟩ := nx_let ht (S.2 0 a) a ha hM14 300 a 0 0 (Int.le_refl _) (by omega) (by omega) (by omega) (fun j j1 j2 => by omega) rfl FU FU (by decide) (by decide)
  have hae := q3 hl hc
  obtain ⟨c0, c1, cc⟩ := ht.ch ha (by omega)
  have hca : S.2 0 a = Sm.2 9 a := by unfold isL at hc; omega
  obtain ⟨n, hn⟩ : ∃ n : Nat, e - a = n := ⟨(e - a).toNat, by omega⟩
  have hf : ∀ j : Nat, j < n → 65 ≤ Sm.2 9 (a + j) ∧ Sm.2 9 (a + j) ≤ 122 := by
    intro j hj
    have := q4 (a + j) (by omega) (by omega)
    unfold isL at this
    omega
  have hwd2 : wd = if (n : Int) ≤ 6 then wv (Sm.2 9) a n else 0 := by
    rw [q5, hn, Int.toNat_natCast]
  have hTf : ∀ j : Nat, j < n → S.2 0 (a + j) = Sm.2 9 (a + j) := by
    intro j hj
    obtain ⟨d0, d1, dd⟩ := ht.ch (j := a + j) (by omega) (by omega)
    have := hf j hj
    omega
  have hr : ∀ j, 0 ≤ j → j < 300 → r32 (S.2 0 j) := by
    intro j j0 j1
    obtain ⟨d0, d1, dd⟩ := ht.ch j0 j1
    omega
  have hW : ∀ (X : yS), X.1 4 = e → X.1 5 = a → X.2 = S.2 → ∀ (w : Nat), w < 12 → ∃ b, T_isWord X (w : Int) = some b ∧ (b = true ↔ wd = wc w) := by
    intro X x4 x5 x2 w hw
    have hgl : 0 ≤ gLn w ∧ gLn w ≤ 4 := by
      have : ∀ w, w < 12 → 0 ≤ gLn w ∧ gLn w ≤ 4 := by decide
      exact this w hw
    have hi := wd_iff (w := w) hw (by omega) hf hwd2
    unfold T_isWord
    rw [x4, x5, Int.toNat_natCast, gd_pos (by omega), hn]
    by_cases hg : (n : Int) = gLn w
    · rw [if_pos hg]
      obtain ⟨b, hb, hbi⟩ := T_isWord_L_e (S := X) hw x5 ha (by omega) (by rw [x2]; exact hr) 4 0 (Int.le_refl _) (by omega) (by omega) FU (by decide)
      refine ⟨b, hb, hbi.trans ⟨fun h => hi.mp ⟨hg, fun j j0 j1 => ?_⟩, fun h j j0 j1 => ?_⟩⟩
      · rw [← h j j0 j1, x2]
        exact (hTf j (by omega)).symm
      · rw [x2, hTf j (by omega)]
        exact (hi.mpr h).2 j j0 j1
    · rw [if_neg hg]
      exact ⟨false, rfl, fun h => (by cases h), fun h => absurd (hi.mpr h).1 hg⟩
  have hsmall : (wd ≤ 122 ∧ 0 < wd) ↔ n = 1 := by
    constructor
    · intro h
      by_cases h6 : (n : Int) ≤ 6
      · rw [if_pos h6] at hwd2
        by_cases h5 : 5 ≤ n
        · have := wd_lo h5 (by omega) hf
          omega
        · have q0 := hf 0 (by omega)
          rcases (by omega : n = 1 ∨ n = 2 ∨ n = 3 ∨ n = 4) with rfl | rfl | rfl | rfl
          · rfl
          · have g1 := hf 1 (by omega)
            have e2 : wv (Sm.2 9) a 2 = (0 * 256 + Sm.2 9 (a + (0 : Nat))) * 256 + Sm.2 9 (a + (1 : Nat)) := rfl
            omega
          · have g1 := hf 1 (by omega)
            have g2 := hf 2 (by omega)
            have e3 : wv (Sm.2 9) a 3 = ((0 * 256 + Sm.2 9 (a + (0 : Nat))) * 256 + Sm.2 9 (a + (1 : Nat))) * 256 + Sm.2 9 (a + (2 : Nat)) := rfl
            omega
          · have g1 := hf 1 (by omega)
            have g2 := hf 2 (by omega)
            have g3 := hf 3 (by omega)
            have e4 : wv (Sm.2 9) a 4 = (((0 * 256 + Sm.2 9 (a + (0 : Nat))) * 256 + Sm.2 9 (a + (1 : Nat))) * 256 + Sm.2 9 (a + (2 : Nat))) * 256 + Sm.2 9 (a + (3 : Nat)) := rfl
            omega
      · rw [if_neg h6] at hwd2
        omega
    · intro h
      subst h
      have q0 := hf 0 (by omega)
      have e1 : wv (Sm.2 9) a 1 = (0 * 256 + Sm.2 9 (a + (0 : Nat))) := rfl
      rw [if_pos (by decide)] at hwd2
      omega
  have hone : n = 1 → wd = Sm.2 9 a := by
    intro h
    subst h
    have e1 : wv (Sm.2 9) a 1 = (0 * 256 + Sm.2 9 (a + (0 : Nat))) := rfl
    rw [if_pos (by decide), e1, show a + ((0 : Nat) : Int) = a by omega] at hwd2
    omega
  have hwr : 0 ≤ wd ∧ r64 wd := by
    by_cases h6 : (n : Int) ≤ 6
    · rw [if_pos h6] at hwd2
      have hb := wv_bd (f := Sm.2 9) (p := a) (k := n) (by omega) (fun j j0 j1 => by
        have := hf j.toNat (by omega)
        rw [show ((j.toNat : Nat) : Int) = j by omega] at this
        omega)
      have hb2 : (256 : Int) ^ n ≤ 256 ^ 6 := by
        have q : (256 : Nat) ^ n ≤ 256 ^ 6 := Nat.pow_le_pow_right (by decide) (by omega)
        exact_mod_cast q
      omega
    · rw [if_neg h6] at hwd2
      omega
  -- the component's words
  have tail : ∀ (X : yS), X.1 4 = e → X.1 5 = a → X.2 = S.2 → nF S X → (X.1 6 = 302 ∧ ¬ (65 ≤ wd ∧ wd ≤ 72) ∨ X.1 6 = 305 ∧ (65 ≤ wd ∧ wd ≤ 72) ∧ X.1 7 = wd - 65) → ∃ S', T_next_B192 X = some S' ∧ S'.1 4 = e ∧ S'.1 5 = a ∧ TKR (S'.1 6) (S'.1 7) 2 (Sm.1 16) wd ∧ nF S S' ∧ S'.1 6 ≠ 301 := by
    intro X x4 x5 x2 xF x6
    obtain ⟨so, p1, p2⟩ := nx_words (wd := wd) 12 0 X (by omega) (by omega) (fun w so hw => hW (cfs X 6 so) x4 x5 x2 w hw) FU (by decide)
    refine ⟨cfs X 6 so, p1, x4, x5, ?_, xF.s6, ?_⟩
    · rw [cfs_eq, show (cfs X 6 so).1 7 = X.1 7 from rfl]
      rcases p2 with ⟨w, w1, w2, w3⟩ | ⟨w1, w2⟩
      · have wb := wc_big w w1
        refine ⟨⟨by omega, by decide, fun _ => hwr.2⟩, fun s hs => ?_, by omega, fun v hv => ⟨fun h => ⟨rfl, ?_⟩, fun h => ?_⟩, by omega, by omega, by omega⟩
        · have := isSg_bd hs
          omega
        · rw [w2, show w = v by omega]
        · have := wc_inj w w1 v hv (by rw [← w2, ← h.2])
          omega
      · refine ⟨⟨by omega, by decide, fun _ => hwr.2⟩, fun s hs => ?_, by omega, fun v hv => ⟨fun h => by omega, fun h => absurd h.2 (w1 v (by omega) hv)⟩, by omega, by omega, by omega⟩
        have := isSg_bd hs
        omega
    · rw [cfs_eq]
      rcases p2 with ⟨w, w1, w2, w3⟩ | ⟨w1, w2⟩ <;> omega
  have fin : ∃ S', T_next_B145 (cfs S 4 e) (S.2 0 a) = some S' ∧ S'.1 4 = e ∧ S'.1 5 = a ∧ TKR (S'.1 6) (S'.1 7) 2 (Sm.1 16) wd ∧ nF S S' ∧ S'.1 6 ≠ 301 := by
    unfold T_next_B145
    rw [nm_eq]
    simp only [show (cfs (cfs S 4 e) 6 302).1 4 = e from rfl, show (cfs (cfs S 4 e) 6 302).1 5 = S.1 5 from rfl, hS5]
    have hrc : r32 (S.2 0 a) := hr a ha (by omega)
    rw [gd_pos (by omega), gd_pos hrc, gd_pos hrc]
    by_cases hn1 : e - a = 1
    · have hw1 := hone (by omega)
      rw [if_pos hn1]
      by_cases h65 : S.2 0 a < 65
      · rw [if_pos h65]
        exact tail _ rfl hS5 rfl (nF.rfl_ S).s4.s6 (Or.inl ⟨rfl, by omega⟩)
      · rw [if_neg h65]
        by_cases h73 : S.2 0 a < 73
        · rw [if_pos h73, nm_eq, nm_eq]
          exact tail _ rfl hS5 rfl (nF.rfl_ S).s4.s6.s6.s7 (Or.inr ⟨rfl, by omega, show S.2 0 a - 65 = wd - 65 by omega⟩)
        · rw [if_neg h73]
          exact tail _ rfl hS5 rfl (nF.rfl_ S).s4.s6 (Or.inl ⟨rfl, by omega⟩)
    · rw [if_neg hn1]
      exact tail _ rfl hS5 rfl (nF.rfl_ S).s4.s6 (Or.inl ⟨rfl, fun h => by have := hsmall.mp (by omega); omega⟩)
  obtain ⟨S', f1, f2, f3, f4, f5, f6⟩ := fin
  refine ⟨S', _, q6.trans f1, q7, f2, by omega, by omega, f3, hM14, ?_, f5, (nFm.rfl_ Sm).s13.s17, f6⟩
  show TKR (S'.1 6) (S'.1 7) (Sm.1 15) (Sm.1 16) wd
  rw [hM15]
  exact f4
/-- THE NEXT TOKEN, of both -/
theorem nx_tok {S : yS} {Sm : xS} (ht : TxR S Sm) (h4 : S.1 4 = Sm.1 13) (h0 : 0 ≤ S.1 4) (h1 : S.1 4 ≤ S.1 1) : ∃ S' Sm', T_next S = some S' ∧ M_nextToken Sm = some Sm' ∧ LX S' Sm' ∧ nF S S' ∧ nFm Sm Sm' ∧ S.1 4 ≤ S'.1 5 := by
  have hs := ht.2.1
  have h10 := ht.1
  obtain ⟨a, q1, q2, q3, q4, K, q5⟩ := nx_skip ht 300 (S.1 4) h0 h1 (by omega) FU FU (by decide) (by decide)
  have eT : T_next S = T_next_B52 (cfs S 4 a) := by unfold T_next; rw [← q4, cfs_id]
  have eM : M_nextToken Sm = M_nextToken_b0 K (fset Sm 13 a) := by unfold M_nextToken; rw [← q5, h4, fset_id]
  clear q4 q5
  rw [eT, eM]
  have fF : nF S (cfs (cfs S 4 a) 5 a) := (nF.rfl_ S).s4.s5
  have fM : nFm Sm (fset (fset Sm 13 a) 14 a) := (nFm.rfl_ Sm).s13.s14
  by_cases hl : a < S.1 1
  · obtain ⟨c0, c1, cc⟩ := ht.ch (show 0 ≤ a by omega) (by omega)
    have nb := q3 hl
    have hr1 : r32 (S.2 0 a) := by omega
    have hr2 : r32 (Sm.2 9 a) := by omega
    rw [MT_rest_e (c := Sm.2 9 a) (M_see_in (Sm := fset Sm 13 a) (by omega) (show a < Sm.1 10 by omega) (show Sm.1 10 ≤ 300 by omega)) (M_see_in (Sm := fset (fset Sm 13 a) 14 a) (by omega) (show a < Sm.1 10 by omega) (show Sm.1 10 ≤ 300 by omega)) nb.1 nb.2 hr2]
    have eB : ∀ r, (∀ P : yS, P = cfs (cfs S 4 a) 5 a → (bd (T_isLetter (S.2 0 a)) (fun v18 => if v18 = true then (gd ((0 : Int) ≤ a ∧ (a : Int) < 300) (nm (S.2 0 a) (fun v22 => T_next_L106 v22 FU P))) else (gd ((0 : Int) ≤ a ∧ (a : Int) < 300) (bd (T_isDigit (S.2 0 a)) (fun v57 => if v57 = true then (nm (cfs P 6 (300)) (fun S60 => nm (cfs S60 7 (0)) (fun S62 => T_next_L259 FU S62))) else (gd ((0 : Int) ≤ a ∧ (a : Int) < 300) (nm (S.2 0 a) (fun v78 => nm (cfs P 4 (a + 1)) (fun S80 => nm (cfs S80 6 (302)) (fun S82 => T_next_L356 v78 FU S82 (0 : Int))))))))))) = r) → T_next_B52 (cfs S 4 a) = r := by
      intro r h
      unfold T_next_B52
      rw [nm_eq]
      simp only [show (cfs S 4 a).1 4 = a from rfl, show (cfs (cfs S 4 a) 5 a).1 4 = a from rfl, show (cfs (cfs S 4 a) 5 a).1 1 = S.1 1 from rfl, show (cfs (cfs S 4 a) 5 a).2 = S.2 from rfl]
      rw [gd_pos (by omega), if_neg (by omega), gd_pos (by omega)]
      exact h _ rfl
    by_cases hL : isL (Sm.2 9 a)
    · have hLt : isL (S.2 0 a) := by unfold isL at *; omega
      obtain ⟨S', Sm', w1, w2, w3, w4, w5, w6, w7, w8, w9, w10, w11⟩ := nx_word (S := cfs (cfs S 4 a) 5 a) (Sm := fset (fset (fset Sm 13 a) 14 a) 15 2) (a := a) (ht.fr fF fM.s15) (by omega) hl rfl rfl rfl hL
      refine ⟨S', Sm', eB _ (fun P hP => ?_), ?_, ⟨ht.fr (fF.trans w9) (fM.s15.trans w10), w3, by omega, ?_, by rw [w6, w7], by rw [w6]; omega, w8⟩, fF.trans w9, fM.s15.trans w10, by omega⟩
      · rw [T_isLetter_e hr1, bd_some, if_pos (decide_eq_true hLt), gd_pos (by omega), nm_eq, hP]
        have e5 : cfs (cfs (cfs S 4 a) 5 a) 4 a = cfs (cfs S 4 a) 5 a := cfs_id (cfs (cfs S 4 a) 5 a) 4
        rw [e5] at w1
        exact w1
      · unfold MT_rest
        rw [gd_pos hr2, if_neg (by omega), M_isDigit_e hr2, bd_some, if_neg (by rw [decide_eq_true_eq]; unfold isL at hL; omega), M_isLetter_e hr2, bd_some, if_pos (decide_eq_true hL), nm_eq, nm_eq]
        have e5 : fset (fset (fset (fset Sm 13 a) 14 a) 15 2) 13 a = fset (fset (fset Sm 13 a) 14 a) 15 2 := fset_id (fset (fset (fset Sm 13 a) 14 a) 15 2) 13
        rw [e5] at w2
        exact w2
      · rw [(fF.trans w9).2 1 (by decide) (by decide) (by decide) (by decide)]; exact w5
    · have hLt : ¬ isL (S.2 0 a) := by unfold isL at *; omega
      by_cases hD : 48 ≤ Sm.2 9 a ∧ Sm.2 9 a ≤ 57
      · have hDt : 48 ≤ S.2 0 a ∧ S.2 0 a ≤ 57 := by omega
        have tB := ht.fr fF.s6 fM.s15 (S' := cfs (cfs (cfs S 4 a) 5 a) 6 300) (Sm' := fset (fset (fset Sm 13 a) 14 a) 15 1)
        obtain ⟨e, v, w, p1, p2, p3, p4, p5, p6⟩ := nx_dig tB 300 a 0 0 (by omega) (show a ≤ S.1 1 by omega) (show S.1 1 - a ≤ 300 by omega) (by omega) FU FU (by decide) (by decide)
        have p2' : e ≤ S.1 1 := p2
        have hae : a < e := p3 hl hD
        refine ⟨cfs (cfs (cfs (cfs (cfs S 4 a) 5 a) 6 300) 4 e) 7 v, fset (fset (fset (fset (fset Sm 13 a) 14 a) 15 1) 13 e) 16 w, eB _ (fun P hP => ?_), ?_, ⟨ht.fr (fF.s6.s4.s7 (z := v)) (fM.s15.s13.s16 (z := w)), (rfl : e = e), show 0 ≤ e by omega, p2, (rfl : a = a), ⟨show 0 ≤ a by omega, show a ≤ e by omega, fun _ => hae⟩, ?_⟩, fF.s6.s4.s7, fM.s15.s13.s16, q1⟩
        · rw [T_isLetter_e hr1, bd_some, if_neg (by rw [decide_eq_true_eq]; exact hLt), gd_pos (by omega), T_isDigit_e hr1, bd_some, if_pos (decide_eq_true hDt), nm_eq, nm_eq, hP]
          have e5 : cfs (cfs (cfs (cfs S 4 a) 5 a) 6 300) 4 a = cfs (cfs (cfs S 4 a) 5 a) 6 300 := cfs_id (cfs (cfs (cfs S 4 a) 5 a) 6 300) 4
          rw [e5] at p5
          exact p5
        · unfold MT_rest
          rw [gd_pos hr2, if_neg (by omega), M_isDigit_e hr2, bd_some, if_pos (decide_eq_true hD), nm_eq, nm_eq]
          have e5 : fset (fset (fset (fset Sm 13 a) 14 a) 15 1) 13 a = fset (fset (fset Sm 13 a) 14 a) 15 1 := fset_id (fset (fset (fset Sm 13 a) 14 a) 15 1) 13
          rw [e5] at p6
          exact p6
        · show TKR 300 v 1 w (Sm.1 17)
          refine ⟨⟨by decide, by decide, fun h => absurd h (by decide)⟩, fun s hs => ?_, by decide, fun w hw => by omega, by omega, by omega, fun _ => p4⟩
          have := isSg_bd hs
          omega
      · have hDt : ¬ (48 ≤ S.2 0 a ∧ S.2 0 a ≤ 57) := by omega
        have hiff : isSg (S.2 0 a) ↔ isSg (Sm.2 9 a) := by unfold isSg; omega
        obtain ⟨t, m1, m2⟩ := MT_sign (B := fset (fset Sm 13 a) 14 a) hr2 (by omega) hD hL
        rw [show (fset (fset Sm 13 a) 14 a).1 13 = a from rfl, M_B343_e hr2] at m1
        obtain ⟨so, s1, s2⟩ := nx_signs hr1 12 0 (cfs (cfs (cfs (cfs S 4 a) 5 a) 4 (a + 1)) 6 302) (by omega) (by omega) FU (by decide)
        rw [cfs_cfs] at s1
        have hT : T_next_B52 (cfs S 4 a) = if S.2 0 a = 60 ∨ S.2 0 a = 62 then T_next_B398 (cfs (cfs (cfs (cfs S 4 a) 5 a) 4 (a + 1)) 6 so) (S.2 0 a) else some (cfs (cfs (cfs (cfs S 4 a) 5 a) 4 (a + 1)) 6 so) := by
          refine eB _ (fun P hP => ?_)
          rw [T_isLetter_e hr1, bd_some, if_neg (by rw [decide_eq_true_eq]; exact hLt), gd_pos (by omega), T_isDigit_e hr1, bd_some, if_neg (by rw [decide_eq_true_eq]; exact hDt), gd_pos (by omega), nm_eq, nm_eq, nm_eq, hP]
          exact s1
        rw [hT, m1]
        have hst : (isSg so ∧ t = so) ∨ (so = 302 ∧ t = 3) := by
          rcases s2 with ⟨⟨w, w1, w2, w3⟩, w4⟩ | ⟨w1, w2⟩
          · have g := sg_iff.mp ⟨w, w1, w2, w3⟩
            have g2 := isSg_bd g
            rcases m2 with ⟨y1, y2⟩ | ⟨y1, y2⟩
            · left; rw [w4]; exact ⟨g, by omega⟩
            · exact absurd (hiff.mp g) y1
          · rcases m2 with ⟨y1, y2⟩ | ⟨y1, y2⟩
            · obtain ⟨w, z1, z2, z3⟩ := sg_iff.mpr (hiff.mpr y1)
              exact absurd z3 (w1 w z1 z2)
            · exact Or.inr ⟨w2, y2⟩
        clear s2 m2
        have hst2 := TKR.sg (so := so) (tk := t) (nu := S.1 7) (nb := Sm.1 16) (wd := Sm.1 17) (hst.elim Or.inl (fun h => Or.inr (Or.inl h)))
        clear hst
        by_cases h60 : Sm.2 9 a = 60 ∨ Sm.2 9 a = 62
        · have hab : S.2 0 a = Sm.2 9 a := by omega
          rw [if_pos (by omega), if_pos h60]
          unfold T_next_B398 M_nextToken_B358
          simp only [show (cfs (cfs (cfs (cfs S 4 a) 5 a) 4 (a + 1)) 6 so).1 4 = a + 1 from rfl, show (cfs (cfs (cfs (cfs S 4 a) 5 a) 4 (a + 1)) 6 so).1 1 = S.1 1 from rfl, show (cfs (cfs (cfs (cfs S 4 a) 5 a) 4 (a + 1)) 6 so).2 = S.2 from rfl, show (fset (fset (fset (fset Sm 13 a) 14 a) 13 (a + 1)) 15 t).1 13 = a + 1 from rfl]
          rw [gd_pos (show r32 (a + 1) ∧ r32 (S.1 1) by omega)]
          by_cases hl2 : a + 1 < S.1 1
          · obtain ⟨d0, d1, dd⟩ := ht.ch (show 0 ≤ a + 1 by omega) (by omega)
            rw [if_pos hl2, gd_pos (show (0 : Int) ≤ a + 1 ∧ a + 1 < 300 by omega), gd_pos (show r32 (S.2 0 (a + 1)) by omega), M_see_in (Sm := fset (fset (fset (fset Sm 13 a) 14 a) 13 (a + 1)) 15 t) (by omega) (show a + 1 < Sm.1 10 by omega) (show Sm.1 10 ≤ 300 by omega), bd_some]
            rw [show (fset (fset (fset (fset Sm 13 a) 14 a) 13 (a + 1)) 15 t).2 = Sm.2 from rfl, gd_pos (show r32 (Sm.2 9 (a + 1)) by omega)]
            by_cases h61 : Sm.2 9 (a + 1) = 61
            · rw [if_pos (show S.2 0 (a + 1) = 61 by omega), if_pos h61, gd_pos hr1, nm_eq, gd_pos hr2]
              unfold T_next_B439 M_nextToken_B393
              rcases h60 with h60 | h60
              · rw [if_pos (show S.2 0 a = 60 by omega), if_pos h60, nm_eq, nm_eq, nm_eq]
                refine ⟨_, _, rfl, rfl, ⟨ht.fr fF.s4.s6.s6.s4 fM.s13.s15.s13.s15, (rfl : a + 1 + 1 = a + 1 + 1), show 0 ≤ a + 1 + 1 by omega, show a + 1 + 1 ≤ S.1 1 by omega, (rfl : a = a), ⟨show 0 ≤ a by omega, show a ≤ a + 1 + 1 by omega, fun _ => show a < a + 1 + 1 by omega⟩, ?_⟩, fF.s4.s6.s6.s4, fM.s13.s15.s13.s15, q1⟩
                exact TKR.sg (so := 303) (tk := 4) (by omega)
              · rw [if_neg (show ¬ S.2 0 a = 60 by omega), if_neg (by omega), nm_eq, nm_eq, nm_eq]
                refine ⟨_, _, rfl, rfl, ⟨ht.fr fF.s4.s6.s6.s4 fM.s13.s15.s13.s15, (rfl : a + 1 + 1 = a + 1 + 1), show 0 ≤ a + 1 + 1 by omega, show a + 1 + 1 ≤ S.1 1 by omega, (rfl : a = a), ⟨show 0 ≤ a by omega, show a ≤ a + 1 + 1 by omega, fun _ => show a < a + 1 + 1 by omega⟩, ?_⟩, fF.s4.s6.s6.s4, fM.s13.s15.s13.s15, q1⟩
                exact TKR.sg (so := 304) (tk := 5) (by omega)
            · rw [if_neg (show ¬ S.2 0 (a + 1) = 61 by omega), if_neg h61]
              refine ⟨_, _, rfl, rfl, ⟨ht.fr fF.s4.s6 fM.s13.s15, (rfl : a + 1 = a + 1), show 0 ≤ a + 1 by omega, show a + 1 ≤ S.1 1 by omega, (rfl : a = a), ⟨show 0 ≤ a by omega, show a ≤ a + 1 by omega, fun _ => show a < a + 1 by omega⟩, ?_⟩, fF.s4.s6, fM.s13.s15, q1⟩
              exact hst2
          · rw [if_neg hl2, M_see_end (Sm := fset (fset (fset (fset Sm 13 a) 14 a) 13 (a + 1)) 15 t) (by omega) (show Sm.1 10 ≤ a + 1 by omega) (by omega) (show 0 ≤ Sm.1 10 by omega), bd_some, gd_pos (by decide), if_neg (by decide)]
            refine ⟨_, _, rfl, rfl, ⟨ht.fr fF.s4.s6 fM.s13.s15, (rfl : a + 1 = a + 1), show 0 ≤ a + 1 by omega, show a + 1 ≤ S.1 1 by omega, (rfl : a = a), ⟨show 0 ≤ a by omega, show a ≤ a + 1 by omega, fun _ => show a < a + 1 by omega⟩, ?_⟩, fF.s4.s6, fM.s13.s15, q1⟩
            exact hst2
        · rw [if_neg (by omega), if_neg h60]
          refine ⟨_, _, rfl, rfl, ⟨ht.fr fF.s4.s6 fM.s13.s15, (rfl : a + 1 = a + 1), show 0 ≤ a + 1 by omega, show a + 1 ≤ S.1 1 by omega, (rfl : a = a), ⟨show 0 ≤ a by omega, show a ≤ a + 1 by omega, fun _ => show a < a + 1 by omega⟩, ?_⟩, fF.s4.s6, fM.s13.s15, q1⟩
          exact hst2
  · have hT : T_next_B52 (cfs S 4 a) = some (cfs (cfs (cfs S 4 a) 5 a) 6 301) := by
      unfold T_next_B52
      rw [nm_eq]
      simp only [show (cfs S 4 a).1 4 = a from rfl, show (cfs (cfs S 4 a) 5 a).1 4 = a from rfl, show (cfs (cfs S 4 a) 5 a).1 1 = S.1 1 from rfl]
      rw [gd_pos (by omega), if_pos (by omega), nm_eq]
    rw [hT, MT_rest_e (c := -1) (M_see_end (Sm := fset Sm 13 a) (by omega) (show Sm.1 10 ≤ a by omega) (by omega) (show 0 ≤ Sm.1 10 by omega)) (M_see_end (Sm := fset (fset Sm 13 a) 14 a) (by omega) (show Sm.1 10 ≤ a by omega) (by omega) (show 0 ≤ Sm.1 10 by omega)) (by decide) (by decide) (by decide)]
    unfold MT_rest
    rw [gd_pos (by decide), if_pos (by decide), nm_eq]
    refine ⟨_, _, rfl, rfl, ⟨ht.fr fF.s6 fM.s15, (rfl : a = a), show 0 ≤ a by omega, show a ≤ S.1 1 by omega, (rfl : a = a), ⟨show 0 ≤ a by omega, Int.le_refl a, fun h => absurd rfl h⟩, ?_⟩, fF.s6, fM.s15, q1⟩
    exact TKR.sg (so := 301) (tk := 0) (by omega)
theorem LX.nx {S : yS} {Sm : xS} (h : LX S Sm) : ∃ S' Sm', T_next S = some S' ∧ M_nextToken Sm = some Sm' ∧ LX S' Sm' ∧ nF S S' ∧ nFm Sm Sm' ∧ S.1 4 ≤ S'.1 5 := nx_tok h.1 h.2.1 h.2.2.1 h.2.2.2.1
