/-! the plain law: the world on a tick, rays, takes -/
set_option maxRecDepth 100000
def bX (a : Int → Int) (w b t : Int) : Int := (a (590 + 4 * b)).tmod w + t * a (590 + 4 * b + 1)
def bY (a : Int → Int) (w b t : Int) : Int := (a (590 + 4 * b)).tdiv w + t * a (590 + 4 * b + 2)
def bAt (a : Int → Int) (w h b t : Int) : Int := if (0 ≤ bX a w b t ∧ bX a w b t ≤ w - 1) ∧ (0 ≤ bY a w b t ∧ bY a w b t ≤ h - 1) then bY a w b t * w + bX a w b t else -1
def mkF (a : Int → Int) (w h c t : Int) : Nat → Int → Int
  | 0, _ => a (10 + c)
  | n + 1, b => if bAt a w h b t = c then a (590 + 4 * b + 3) else mkF a w h c t n (b + 1)
def mkAt (a : Int → Int) (w h c t : Int) : Int := mkF a w h c t (a 0).toNat 0
def okB (w h : Int) (a : Int → Int) (b : Int) : Prop := (0 ≤ a (590 + 4 * b) ∧ a (590 + 4 * b) < w * h) ∧ (-2 ≤ a (590 + 4 * b + 1) ∧ a (590 + 4 * b + 1) ≤ 2) ∧ (-2 ≤ a (590 + 4 * b + 2) ∧ a (590 + 4 * b + 2) ≤ 2) ∧ (1 ≤ a (590 + 4 * b + 3) ∧ a (590 + 4 * b + 3) ≤ 255)
/-- counts, marks and bodies -/
def okG (w h : Int) (a : Int → Int) : Prop := (0 ≤ a 0 ∧ a 0 ≤ 6) ∧ (∀ c, 0 ≤ c → c < 576 → 0 ≤ a (10 + c) ∧ a (10 + c) ≤ 255) ∧ ∀ b, 0 ≤ b → b < a 0 → okB w h a b
theorem bXY_bd {w h : Int} {a : Int → Int} {b t : Int} (H : okW w h) (hB : okB w h a b) (ht : 0 ≤ t ∧ t ≤ 1000) : (-3000 ≤ bX a w b t ∧ bX a w b t ≤ 3000) ∧ (-3000 ≤ bY a w b t ∧ bY a w b t ≤ 3000) := by
  obtain ⟨h1, h2, h3, -⟩ := hB
  have q1 := cell_x H h1
  have q2 := mul_bd (a := t) (b := a (590 + 4 * b + 1)) (m := 1000) (n := 2) ⟨by omega, by omega⟩ h2
  have q3 := mul_bd (a := t) (b := a (590 + 4 * b + 2)) (m := 1000) (n := 2) ⟨by omega, by omega⟩ h3
  obtain ⟨⟨w1, w2⟩, w3, w4⟩ := H
  unfold bX bY
  omega
theorem bAt_bd {w h : Int} {a : Int → Int} {b t : Int} (H : okW w h) : -1 ≤ bAt a w h b t ∧ bAt a w h b t < w * h := by
  unfold bAt
  have := wh_bd H
  split
  · rename_i q
    have := cell_bd H q.1 q.2
    omega
  · omega
theorem mkF_bd {w h : Int} {a : Int → Int} {c t : Int} (hc : 0 ≤ c ∧ c < 576) (hm : ∀ c, 0 ≤ c → c < 576 → 0 ≤ a (10 + c) ∧ a (10 + c) ≤ 255) : ∀ (k : Nat) (b : Int), (∀ i, b ≤ i → i < b + k → okB w h a i) → 0 ≤ mkF a w h c t k b ∧ mkF a w h c t k b ≤ 255 := by
  intro k
  induction k with
  | zero => intro b _; exact hm c hc.1 hc.2
  | succ k ih =>
    intro b hB
    unfold mkF
    split
    · have := (hB b (by omega) (by omega)).2.2.2
      omega
    · exact ih (b + 1) (fun i h1 h2 => hB i (by omega) (by omega))
theorem mkAt_bd {w h : Int} {a : Int → Int} {c t : Int} (G : okG w h a) (hc : 0 ≤ c ∧ c < 576) : 0 ≤ mkAt a w h c t ∧ mkAt a w h c t ≤ 255 := by
  refine mkF_bd hc G.2.1 _ _ (fun i h1 h2 => G.2.2 i h1 ?_)
  have := G.1
  omega
/-! the model -/
theorem M_bodyAt_e {S : xS} {b t : Int} (H : okW (S.1 0) (S.1 1)) (hB : okB (S.1 0) (S.1 1) (S.2 2) b) (hb : 0 ≤ b ∧ b < 6) (ht : 0 ≤ t ∧ t ≤ 1000) : M_bodyAt S b t = some (bAt (S.2 2) (S.1 0) (S.1 1) b t) := by
  have h1 := wh_bd H
  have h2 := bXY_bd H hB ht
  have h3 := hB.1
  have h4 := H.1
  have h5 := H.2
  unfold M_bodyAt
  rw [gd_pos (by omega), gd_pos ⟨⟨by omega, by omega⟩, ⟨by omega, by omega⟩, by omega⟩, gd_pos (by omega), nm_eq, gd_pos (by omega), gd_pos ⟨⟨by omega, by omega⟩, ⟨by omega, by omega⟩, by omega⟩, gd_pos (by omega), nm_eq]
  rw [show (S.2 2 (590 + 4 * b)).tmod (S.1 0) + t * S.2 2 (590 + 4 * b + 1) = bX (S.2 2) (S.1 0) b t from rfl, show (S.2 2 (590 + 4 * b)).tdiv (S.1 0) + t * S.2 2 (590 + 4 * b + 2) = bY (S.2 2) (S.1 0) b t from rfl]
  rw [M_isIn_e ⟨by omega, by omega⟩ (by decide) ⟨by omega, by omega⟩, bd_some]
  unfold bAt
  by_cases hx : 0 ≤ bX (S.2 2) (S.1 0) b t ∧ bX (S.2 2) (S.1 0) b t ≤ S.1 0 - 1
  · rw [decide_eq_true hx, if_pos rfl, M_isIn_e ⟨by omega, by omega⟩ (by decide) ⟨by omega, by omega⟩, bd_some]
    by_cases hy : 0 ≤ bY (S.2 2) (S.1 0) b t ∧ bY (S.2 2) (S.1 0) b t ≤ S.1 1 - 1
    · rw [decide_eq_true hy, if_pos rfl, if_pos ⟨hx, hy⟩]
    · rw [decide_eq_false hy, if_neg (by decide), if_neg (fun q => hy q.2)]
  · rw [decide_eq_false hx, if_neg (by decide), if_neg (fun q => hx q.1)]
theorem M_markAt_L {S : xS} {c t : Int} (H : okW (S.1 0) (S.1 1)) (G : okG (S.1 0) (S.1 1) (S.2 2)) (hc : 0 ≤ c ∧ c < 576) (ht : 0 ≤ t ∧ t ≤ 1000) : ∀ (k n : Nat) (b : Int), 0 ≤ b → b + k = S.2 2 0 → k < n → M_markAt_L2 S c t n b = some (mkF (S.2 2) (S.1 0) (S.1 1) c t k b) := by
  have g0 := G.1
  have h1 := wh_bd H
  intro k
  induction k with
  | zero =>
    intro n b hb e hn
    cases n with
    | zero => omega
    | succ n =>
      show M_markAt_b2 S c t (M_markAt_L2 S c t n) b = _
      unfold M_markAt_b2
      rw [gd_pos ⟨⟨by omega, by omega⟩, ⟨by omega, by omega⟩⟩, if_neg (by omega), gd_pos (by omega)]
      rfl
  | succ k ih =>
    intro n b hb e hn
    cases n with
    | zero => omega
    | succ n =>
      have hB := G.2.2 b hb (by omega)
      have q := bAt_bd (a := S.2 2) (b := b) (t := t) H
      show M_markAt_b2 S c t (M_markAt_L2 S c t n) b = _
      unfold M_markAt_b2
      rw [gd_pos ⟨⟨by omega, by omega⟩, ⟨by omega, by omega⟩⟩, if_pos (by omega), M_bodyAt_e H hB ⟨hb, by omega⟩ ht, bd_some, gd_pos ⟨⟨by omega, by omega⟩, ⟨by omega, by omega⟩⟩]
      unfold mkF
      by_cases hz : bAt (S.2 2) (S.1 0) (S.1 1) b t = c
      · rw [if_pos hz, if_pos hz, gd_pos (by omega)]
      · rw [if_neg hz, if_neg hz, nm_eq]
        exact ih n (b + 1) (by omega) (by omega) (by omega)
theorem M_markAt_e {S : xS} {c t : Int} (H : okW (S.1 0) (S.1 1)) (G : okG (S.1 0) (S.1 1) (S.2 2)) (hc : 0 ≤ c ∧ c < 576) (ht : 0 ≤ t ∧ t ≤ 1000) : M_markAt S c t = some (mkAt (S.2 2) (S.1 0) (S.1 1) c t) := by
  have g0 := G.1
  exact M_markAt_L H G hc ht (S.2 2 0).toNat FU 0 (by omega) (by omega) (by unfold FU; omega)
/-- all but some arrays of the model stay -/
def mKeep (S S' : xS) (F : List Nat) (A : List Nat) : Prop := (∀ k, k ∉ F → S'.1 k = S.1 k) ∧ ∀ j, j ∉ A → S'.2 j = S.2 j
theorem aset_1 (S : xS) (k : Nat) (i z : Int) : (aset S k i z).1 = S.1 := rfl
theorem aset_ne (S : xS) {k j : Nat} (i z : Int) (h : j ≠ k) : (aset S k i z).2 j = S.2 j := if_neg h
theorem aset_eq (S : xS) (k : Nat) (i z : Int) : (aset S k i z).2 k = fun j => if j = i then z else S.2 k j := if_pos rfl
theorem aset_at (S : xS) (k : Nat) (i z j : Int) : (aset S k i z).2 k j = if j = i then z else S.2 k j := by rw [aset_eq]
theorem fset_2 (S : xS) (k : Nat) (z : Int) : (fset S k z).2 = S.2 := rfl
theorem fset_eq (S : xS) (k : Nat) (z : Int) : (fset S k z).1 k = z := if_pos rfl
theorem fset_ne (S : xS) {k j : Nat} (z : Int) (h : j ≠ k) : (fset S k z).1 j = S.1 j := if_neg h
theorem M_lay_1 {t : Int} : ∀ (k n : Nat) (S : xS) (i : Int), okW (S.1 0) (S.1 1) → 0 ≤ i → i + k = S.1 0 * S.1 1 → k < n → ∃ S' : xS, S'.1 = S.1 ∧ (∀ j, j ≠ 5 → S'.2 j = S.2 j) ∧ (∀ c, S'.2 5 c = if i ≤ c ∧ c < S.1 0 * S.1 1 then S.2 2 (10 + c) else S.2 5 c) ∧ M_lay_L2 t n S i = M_lay_L45 t FU S' (S.2 2 0 - 1) := by
  intro k
  induction k with
  | zero =>
    intro n S i H hi e hn
    have h1 := wh_bd H
    cases n with
    | zero => omega
    | succ n =>
      refine ⟨S, rfl, fun _ _ => rfl, fun c => by rw [if_neg (by omega)], ?_⟩
      show M_lay_b2 t (M_lay_L2 t n) S i = _
      unfold M_lay_b2
      rw [gd_pos ⟨⟨by omega, by omega⟩, ⟨by omega, by omega⟩⟩, if_neg (by omega), nm_eq]
  | succ k ih =>
    intro n S i H hi e hn
    have h1 := wh_bd H
    cases n with
    | zero => omega
    | succ n =>
      obtain ⟨S', e1, e2, e3, e4⟩ := ih n (aset S 5 i (S.2 2 (10 + i))) (i + 1) H (by omega) (by rw [aset_1]; omega) (by omega)
      rw [aset_1] at e1 e3
      refine ⟨S', e1, fun j hj => by rw [e2 j hj, aset_ne _ _ _ hj], fun c => ?_, ?_⟩
      · rw [e3 c, aset_ne _ _ _ (by decide), aset_at]
        by_cases hc : c = i
        · subst hc
          rw [if_neg (by omega), if_pos rfl, if_pos (by omega)]
        · by_cases hd : i ≤ c ∧ c < S.1 0 * S.1 1
          · rw [if_pos (by omega), if_pos hd]
          · rw [if_neg (by omega), if_neg hc, if_neg hd]
      · show M_lay_b2 t (M_lay_L2 t n) S i = _
        unfold M_lay_b2
        rw [gd_pos ⟨⟨by omega, by omega⟩, ⟨by omega, by omega⟩⟩, if_pos (by omega), gd_pos (by omega), gd_pos (by omega), nm_eq, nm_eq, e4, aset_ne _ _ _ (by decide)]
theorem M_lay_2 {t : Int} (ht : 0 ≤ t ∧ t ≤ 1000) : ∀ (k n : Nat) (S : xS), okW (S.1 0) (S.1 1) → okG (S.1 0) (S.1 1) (S.2 2) → (k : Int) ≤ S.2 2 0 → k < n → (∀ c, 0 ≤ c → c < S.1 0 * S.1 1 → S.2 5 c = mkF (S.2 2) (S.1 0) (S.1 1) c t ((S.2 2 0).toNat - k) k) →
    ∃ S' : xS, S'.1 = S.1 ∧ (∀ j, j ≠ 5 → S'.2 j = S.2 j) ∧ (∀ c, 0 ≤ c → c < S.1 0 * S.1 1 → S'.2 5 c = mkAt (S.2 2) (S.1 0) (S.1 1) c t) ∧ M_lay_L45 t n S ((k : Int) - 1) = some S' := by
  intro k
  induction k with
  | zero =>
    intro n S H G hk hn hI
    cases n with
    | zero => omega
    | succ n =>
      refine ⟨S, rfl, fun _ _ => rfl, fun c h1 h2 => hI c h1 h2, ?_⟩
      show M_lay_b45 t (M_lay_L45 t n) S _ = _
      unfold M_lay_b45
      rw [gd_pos ⟨by omega, by omega⟩, if_pos (by omega)]
  | succ k ih =>
    intro n S H G hk hn hI
    have g0 := G.1
    have h1 := wh_bd H
    have hB := G.2.2 k (by omega) (by omega)
    have q := bAt_bd (a := S.2 2) (b := (k : Int)) (t := t) H
    cases n with
    | zero => omega
    | succ n =>
      have e0 : (((k + 1 : Nat) : Int) - 1) = (k : Int) := by omega
      have e1 : (k : Int) + -1 = (k : Int) - 1 := by omega
      have e9 : (S.2 2 0).toNat - k = ((S.2 2 0).toNat - (k + 1)) + 1 := by omega
      show ∃ S' : xS, _ ∧ _ ∧ _ ∧ M_lay_b45 t (M_lay_L45 t n) S _ = _
      rw [e0]
      unfold M_lay_b45
      rw [gd_pos ⟨by omega, by omega⟩, if_neg (by omega), M_bodyAt_e H hB ⟨by omega, by omega⟩ ht, bd_some, gd_pos ⟨by omega, by omega⟩]
      by_cases hz : bAt (S.2 2) (S.1 0) (S.1 1) k t < 0
      · rw [if_pos hz, nm_eq, e1]
        refine ih n S H G (by omega) (by omega) (fun c c1 c2 => ?_)
        rw [hI c c1 c2, e9]
        conv => rhs; unfold mkF
        rw [if_neg (by omega)]
        rfl
      · rw [if_neg hz, bd_some, gd_pos (by omega), gd_pos (by omega), nm_eq, nm_eq, e1]
        have ea : (aset S 5 (bAt (S.2 2) (S.1 0) (S.1 1) k t) (S.2 2 (590 + 4 * (k : Int) + 3))).2 2 = S.2 2 := aset_ne _ _ _ (by decide)
        obtain ⟨S', e2, e3, e4, e5⟩ := ih n (aset S 5 (bAt (S.2 2) (S.1 0) (S.1 1) k t) (S.2 2 (590 + 4 * (k : Int) + 3))) H (by rw [ea]; exact G) (by rw [ea]; omega) (by omega) (fun c c1 c2 => by
          rw [aset_at, ea, aset_1, e9]
          conv => rhs; unfold mkF
          by_cases hc : c = bAt (S.2 2) (S.1 0) (S.1 1) k t
          · rw [if_pos hc, if_pos hc.symm]
          · rw [if_neg hc, if_neg (fun z => hc z.symm), hI c c1 c2]
            rfl)
        rw [aset_1, ea] at e4
        exact ⟨S', e2, fun j hj => by rw [e3 j hj, aset_ne _ _ _ hj], e4, e5⟩
/-- the board of a tick -/
theorem M_lay_e {S : xS} {t : Int} (H : okW (S.1 0) (S.1 1)) (G : okG (S.1 0) (S.1 1) (S.2 2)) (ht : 0 ≤ t ∧ t ≤ 1000) : ∃ S' : xS, S'.1 = S.1 ∧ (∀ j, j ≠ 5 → S'.2 j = S.2 j) ∧ (∀ c, 0 ≤ c → c < S.1 0 * S.1 1 → S'.2 5 c = mkAt (S.2 2) (S.1 0) (S.1 1) c t) ∧ M_lay S t = some S' := by
  have g0 := G.1
  have h1 := wh_bd H
  obtain ⟨S1, a1, a2, a3, a4⟩ := M_lay_1 (t := t) (S.1 0 * S.1 1).toNat FU S 0 H (by omega) (by omega) (by unfold FU; omega)
  have e2 : S1.2 2 = S.2 2 := a2 2 (by decide)
  obtain ⟨S2, b1, b2, b3, b4⟩ := M_lay_2 (t := t) ht (S1.2 2 0).toNat FU S1 (by rw [a1]; exact H) (by rw [a1, e2]; exact G) (by rw [e2]; omega) (by rw [e2]; unfold FU; omega) (fun c c1 c2 => by
    rw [a1] at c2
    rw [a3 c, if_pos ⟨c1, c2⟩, Nat.sub_self, e2]
    rfl)
  refine ⟨S2, b1.trans a1, fun j hj => (b2 j hj).trans (a2 j hj), fun c c1 c2 => ?_, ?_⟩
  · rw [b3 c c1 (by rw [a1]; exact c2), e2, a1]
  · show M_lay_L2 t FU S 0 = _
    rw [a4, ← e2, ← b4]
    congr 1
    rw [e2]
    omega
