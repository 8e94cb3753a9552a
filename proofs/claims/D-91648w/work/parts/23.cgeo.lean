/-! the plain law: the world, rays and takes of the component -/
set_option maxRecDepth 100000
theorem cas_1 (S : yS) (a i z : Int) : (cas S a i z).1 = S.1 := rfl
theorem cas_ne (S : yS) {a b : Int} (i z : Int) (h : b ≠ a) : (cas S a i z).2 b = S.2 b := if_neg h
theorem cas_eq (S : yS) (a i z : Int) : (cas S a i z).2 a = fun j => if j = i then z else S.2 a j := if_pos rfl
theorem cas_at (S : yS) (a i z j : Int) : (cas S a i z).2 a j = if j = i then z else S.2 a j := by rw [cas_eq]
theorem cfs_2 (S : yS) (k : Nat) (z : Int) : (cfs S k z).2 = S.2 := rfl
theorem cfs_eq (S : yS) (k : Nat) (z : Int) : (cfs S k z).1 k = z := if_pos rfl
theorem cfs_ne (S : yS) {k j : Nat} (z : Int) (h : j ≠ k) : (cfs S k z).1 j = S.1 j := if_neg h
theorem ccp_1 (S : yS) (a b n : Int) : (ccp S a b n).1 = S.1 := rfl
theorem ccp_ne (S : yS) {a b q : Int} (n : Int) (h : q ≠ b) : (ccp S a b n).2 q = S.2 q := if_neg h
theorem ccp_at (S : yS) (a b n j : Int) : (ccp S a b n).2 b j = if 0 ≤ j ∧ j < n then S.2 a j else S.2 b j := by
  show (if b = b then (fun j => if 0 ≤ j ∧ j < n then S.2 a j else S.2 b j) else S.2 b) j = _
  rw [if_pos rfl]
/-- a state's arrays hold what the row a holds -/
def rCnt (A : Int → Int → Int) (a : Int → Int) : Prop := (∀ k, 0 ≤ k → k ≤ 4 → A 2 k = a k) ∧ ∀ k, 0 ≤ k → k ≤ 8 → A 2 (5 + k) = a (880 + k)
def rMark (A : Int → Int → Int) (a : Int → Int) : Prop := ∀ c, 0 ≤ c → c < 576 → A 3 c = a (10 + c)
def rBody (A : Int → Int → Int) (a : Int → Int) : Prop := ∀ b j, 0 ≤ b → b < 6 → 0 ≤ j → j < 4 → A (4 + 1 + b) j = a (590 + 4 * b + j)
def rLens (A : Int → Int → Int) (a : Int → Int) : Prop := ∀ k j, 0 ≤ k → k < 16 → 0 ≤ j → j < 2 → A (11 + 1 + k) j = a (620 + 2 * k + j)
def rPair (A : Int → Int → Int) (a : Int → Int) : Prop := ∀ p j, 0 ≤ p → p < 16 → 0 ≤ j → j < 3 → A (28 + 1 + p) j = a (660 + 3 * p + j)
def rRead (A : Int → Int → Int) (a : Int → Int) : Prop := ∀ f j, 0 ≤ f → f < 6 → 0 ≤ j → j < 24 → A (45 + 1 + f) j = a (720 + 24 * f + j)
def rTick (A : Int → Int → Int) (a : Int → Int) : Prop := ∀ t, 0 ≤ t → t < a 880 → (∀ j, 0 ≤ j → j < 5 → A (52 + 1 + t) j = a (890 + 38 * t + j)) ∧ (∀ k, 0 ≤ k → k < a 887 → A (113 + 1 + t) k = a (890 + 38 * t + 5 + k)) ∧ ∀ k, 0 ≤ k → k < a 888 → A (174 + 1 + t) k = a (890 + 38 * t + 21 + k)
def rN (A : Int → Int → Int) (a : Int → Int) : Prop := rCnt A a ∧ rMark A a ∧ rBody A a ∧ rLens A a ∧ rPair A a ∧ rRead A a ∧ rTick A a
theorem C_lays_L {a : Int → Int} {w h t : Int} (ht : 0 ≤ t ∧ t ≤ 1000) (H : okW w h) (G : okG w h a) : ∀ (k n : Nat) (S : yS), S.1 2 = w → S.1 3 = h → rBody S.2 a → (k : Int) ≤ a 0 → k < n → (∀ c, 0 ≤ c → c < w * h → S.2 472 c = mkF a w h c t ((a 0).toNat - k) k) →
    ∃ S' : yS, C_lays_L37 t n S ((k : Int) - 1) = some S' ∧ S'.1 = S.1 ∧ (∀ q, q ≠ 472 → S'.2 q = S.2 q) ∧ ∀ c, 0 ≤ c → c < w * h → S'.2 472 c = mkAt a w h c t := by
  have g0 := G.1
  have h1 := wh_bd H
  have w1 := H.1
  have w2 := H.2
  intro k
  induction k with
  | zero =>
    intro n S hw hh hB hk hn hI
    cases n with
    | zero => omega
    | succ n =>
      refine ⟨S, ?_, rfl, fun _ _ => rfl, hI⟩
      show C_lays_b37 t (C_lays_L37 t n) S _ = _
      unfold C_lays_b37
      rw [gd_pos ⟨by omega, by omega⟩, if_pos (by omega)]
  | succ k ih =>
    intro n S hw hh hB hk hn hI
    cases n with
    | zero => omega
    | succ n =>
      have hb := G.2.2 k (by omega) (by omega)
      have hxy := bXY_bd H hb ht
      have hb1 := hb.1
      have e0 : (((k + 1 : Nat) : Int) - 1) = (k : Int) := by omega
      have e1 : (k : Int) + -1 = (k : Int) - 1 := by omega
      have e9 : (a 0).toNat - k = ((a 0).toNat - (k + 1)) + 1 := by omega
      have b0 : S.2 (4 + 1 + (k : Int)) 0 = a (590 + 4 * (k : Int)) := by rw [hB k 0 (by omega) (by omega) (by omega) (by omega), Int.add_zero]
      have b1 : S.2 (4 + 1 + (k : Int)) 1 = a (590 + 4 * (k : Int) + 1) := hB k 1 (by omega) (by omega) (by omega) (by omega)
      have b2 : S.2 (4 + 1 + (k : Int)) 2 = a (590 + 4 * (k : Int) + 2) := hB k 2 (by omega) (by omega) (by omega) (by omega)
      have b3 : S.2 (4 + 1 + (k : Int)) 3 = a (590 + 4 * (k : Int) + 3) := hB k 3 (by omega) (by omega) (by omega) (by omega)
      have mk1 : ∀ c, mkF a w h c t ((a 0).toNat - k) k = if bAt a w h k t = c then a (590 + 4 * (k : Int) + 3) else mkF a w h c t ((a 0).toNat - (k + 1)) ((k : Int) + 1) := by intro c; rw [e9]; rfl
      show ∃ S' : yS, C_lays_b37 t (C_lays_L37 t n) S _ = some S' ∧ _
      rw [e0]
      unfold C_lays_b37
      rw [b0, b1, b2, b3, hw, hh, gd_pos ⟨by omega, by omega⟩, if_neg (by omega), gd_pos (by omega), gd_pos ⟨⟨by omega, by omega⟩, ⟨by omega, by omega⟩, by omega⟩, nm_eq, gd_pos ⟨⟨by omega, by omega⟩, ⟨by omega, by omega⟩, by omega⟩, nm_eq]
      rw [show (a (590 + 4 * (k : Int))).tmod w + t * a (590 + 4 * (k : Int) + 1) = bX a w k t from rfl, show (a (590 + 4 * (k : Int))).tdiv w + t * a (590 + 4 * (k : Int) + 2) = bY a w k t from rfl]
      rw [C_in_e ⟨by omega, by omega⟩ (by decide) ⟨by omega, by omega⟩, bd_some]
      by_cases hx : 0 ≤ bX a w k t ∧ bX a w k t ≤ w - 1
      · rw [decide_eq_true hx, if_pos rfl, C_in_e ⟨by omega, by omega⟩ (by decide) ⟨by omega, by omega⟩, bd_some]
        by_cases hy : 0 ≤ bY a w k t ∧ bY a w k t ≤ h - 1
        · have qc := cell_bd H hx hy
          have eb : bAt a w h k t = bY a w k t * w + bX a w k t := if_pos ⟨hx, hy⟩
          rw [decide_eq_true hy, if_pos rfl, gd_pos (by omega), nm_eq, nm_eq, e1]
          obtain ⟨S', e2, e3, e4, e5⟩ := ih n (cas S 472 (bY a w k t * w + bX a w k t) (a (590 + 4 * (k : Int) + 3))) hw hh (fun b j q1 q2 q3 q4 => by rw [cas_ne _ _ _ (by omega)]; exact hB b j q1 q2 q3 q4) (by omega) (by omega) (fun c c1 c2 => by
            rw [cas_at, mk1 c, eb]
            by_cases hc : c = bY a w k t * w + bX a w k t
            · rw [if_pos hc, if_pos hc.symm]
            · rw [if_neg hc, if_neg (fun z => hc z.symm), hI c c1 c2]
              rfl)
          exact ⟨S', e2, e3, fun q hq => by rw [e4 q hq, cas_ne _ _ _ hq], e5⟩
        · have eb : bAt a w h k t = -1 := if_neg (fun z => hy z.2)
          rw [decide_eq_false hy, if_neg (by decide), nm_eq, e1]
          refine ih n S hw hh hB (by omega) (by omega) (fun c c1 c2 => ?_)
          rw [mk1 c, if_neg (by omega), hI c c1 c2]
          rfl
      · have eb : bAt a w h k t = -1 := if_neg (fun z => hx z.1)
        rw [decide_eq_false hx, if_neg (by decide), nm_eq, e1]
        refine ih n S hw hh hB (by omega) (by omega) (fun c c1 c2 => ?_)
        rw [mk1 c, if_neg (by omega), hI c c1 c2]
        rfl
theorem C_lays_e {S : yS} {a : Int → Int} {t : Int} (H : okW (S.1 2) (S.1 3)) (G : okG (S.1 2) (S.1 3) a) (R0 : S.2 2 0 = a 0) (R3 : rMark S.2 a) (RB : rBody S.2 a) (ht : 0 ≤ t ∧ t ≤ 1000) :
    ∃ S' : yS, C_lays S t = some S' ∧ S'.1 = S.1 ∧ (∀ q, q ≠ 472 → S'.2 q = S.2 q) ∧ ∀ c, 0 ≤ c → c < S.1 2 * S.1 3 → S'.2 472 c = mkAt a (S.1 2) (S.1 3) c t := by
  have g0 := G.1
  have h1 := wh_bd H
  have e2 : (ccp S 3 472 (S.1 2 * S.1 3)).2 2 = S.2 2 := ccp_ne _ _ (by decide)
  have en : a 0 - 1 = (((a 0).toNat : Nat) : Int) - 1 := by omega
  unfold C_lays
  rw [gd_pos (by omega), nm_eq, nm_eq, e2, R0, en]
  obtain ⟨S', a1, a2, a3, a4⟩ := C_lays_L (t := t) ht H G (a 0).toNat FU (ccp S 3 472 (S.1 2 * S.1 3)) rfl rfl (fun b j q1 q2 q3 q4 => by rw [ccp_ne _ _ (by omega)]; exact RB b j q1 q2 q3 q4) (by omega) (by unfold FU; omega) (fun c c1 c2 => by
    rw [ccp_at, if_pos ⟨c1, c2⟩, Nat.sub_self, R3 c c1 (by omega)]
    rfl)
  exact ⟨S', a1, a2, fun q hq => by rw [a3 q hq, ccp_ne _ _ hq], a4⟩
/-- rays of the component: only 'far' changes -/
def cFar (S S' : yS) : Prop := S'.2 = S.2 ∧ ∀ j, j ≠ 9 → S'.1 j = S.1 j
theorem cFar.rf (S : yS) : cFar S S := ⟨rfl, fun _ _ => rfl⟩
theorem cFar.tr {S S' S'' : yS} (h : cFar S S') (h' : cFar S' S'') : cFar S S'' := ⟨h'.1.trans h.1, fun j hj => (h'.2 j hj).trans (h.2 j hj)⟩
theorem C_rayOf_L {x y dx dy : Int} (hdx : -16 ≤ dx ∧ dx ≤ 16) (hdy : -16 ≤ dy ∧ dy ≤ 16) : ∀ (m n : Nat) (S : yS) (k : Int), S.1 9 = k → okW (S.1 2) (S.1 3) → okP (S.1 2) (S.1 3) x y → okM (S.1 2) (S.1 3) (S.2 472) → 1 ≤ k → k + m = 41 → m < n →
    ∃ S' : yS, C_rayOf_L17 x y dx dy n S = some ((rayF (S.2 472) (S.1 2) (S.1 3) x y dx dy m k).1, S') ∧ cFar S S' ∧ S'.1 9 = (rayF (S.2 472) (S.1 2) (S.1 3) x y dx dy m k).2 := by
  intro m
  induction m with
  | zero =>
    intro n S k e9 H P hM hk e hn
    cases n with
    | zero => omega
    | succ n =>
      show ∃ S' : yS, C_rayOf_b17 x y dx dy (C_rayOf_L17 x y dx dy n) S = some (_, S') ∧ _
      unfold C_rayOf_b17 C_rayOf_B138
      rw [e9, gd_pos ⟨by omega, by omega⟩, if_neg (by omega), nm_eq]
      exact ⟨_, rfl, ⟨rfl, fun j hj => cfs_ne _ _ hj⟩, cfs_eq _ _ _⟩
  | succ m ih =>
    intro n S k e9 H P hM hk e hn
    cases n with
    | zero => omega
    | succ n =>
      have hb := step_bd (k := k) (dx := dx) (dy := dy) H P ⟨hk, by omega⟩ hdx hdy
      have w1 := H.1
      have w2 := H.2
      have hfx : -1000 ≤ (x + k * dx) / 16 ∧ (x + k * dx) / 16 ≤ 2000 := by omega
      have hfy : -1000 ≤ (y + k * dy) / 16 ∧ (y + k * dy) / 16 ≤ 2000 := by omega
      have h1 := wh_bd H
      show ∃ S' : yS, C_rayOf_b17 x y dx dy (C_rayOf_L17 x y dx dy n) S = some (_, S') ∧ _
      unfold C_rayOf_b17 C_rayOf_B138
      rw [e9, gd_pos ⟨by omega, by omega⟩, if_pos (by omega), Ma_floorDiv_e (by omega) (by decide), bd_some, Ma_floorDiv_e (by omega) (by decide), bd_some, C_in_e ⟨by omega, by omega⟩ (by decide) ⟨by omega, by omega⟩, bd_some]
      have er : rayF (S.2 472) (S.1 2) (S.1 3) x y dx dy (m + 1) k = if (0 ≤ (x + k * dx) / 16 ∧ (x + k * dx) / 16 ≤ S.1 2 - 1) ∧ (0 ≤ (y + k * dy) / 16 ∧ (y + k * dy) / 16 ≤ S.1 3 - 1) then (if S.2 472 ((y + k * dy) / 16 * S.1 2 + (x + k * dx) / 16) = 0 then rayF (S.2 472) (S.1 2) (S.1 3) x y dx dy m (k + 1) else (S.2 472 ((y + k * dy) / 16 * S.1 2 + (x + k * dx) / 16), k)) else (0, 41) := rfl
      by_cases hx : 0 ≤ (x + k * dx) / 16 ∧ (x + k * dx) / 16 ≤ S.1 2 - 1
      · rw [decide_eq_true hx, if_pos rfl, C_in_e ⟨by omega, by omega⟩ (by decide) ⟨by omega, by omega⟩, bd_some]
        by_cases hy : 0 ≤ (y + k * dy) / 16 ∧ (y + k * dy) / 16 ≤ S.1 3 - 1
        · have qc := cell_bd H hx hy
          have qm := hM _ qc.1 qc.2
          rw [if_pos (And.intro hx hy)] at er
          rw [decide_eq_true hy, if_pos rfl, gd_pos (by omega), gd_pos ⟨by omega, by omega⟩]
          by_cases hz : S.2 472 ((y + k * dy) / 16 * S.1 2 + (x + k * dx) / 16) = 0
          · rw [if_pos hz] at er
            rw [if_pos (by omega), nm_eq]
            obtain ⟨S', a1, a2, a3⟩ := ih n (cfs S 9 (k + 1)) (k + 1) (cfs_eq _ _ _) (by rw [cfs_ne _ _ (by decide), cfs_ne _ _ (by decide)]; exact H) (by rw [cfs_ne _ _ (by decide), cfs_ne _ _ (by decide)]; exact P) (by rw [cfs_ne _ _ (by decide), cfs_ne _ _ (by decide), cfs_2]; exact hM) (by omega) (by omega) (by omega)
            rw [cfs_2, cfs_ne _ _ (by decide), cfs_ne _ _ (by decide)] at a1 a3
            rw [er]
            exact ⟨S', a1, ⟨a2.1, fun j hj => by rw [a2.2 j hj, cfs_ne _ _ hj]⟩, a3⟩
          · rw [if_neg hz] at er
            rw [if_neg (by omega), gd_pos (by omega), er]
            exact ⟨S, rfl, cFar.rf S, e9⟩
        · rw [if_neg (fun q => hy q.2)] at er
          rw [decide_eq_false hy, if_neg (by decide), nm_eq, er]
          exact ⟨_, rfl, ⟨rfl, fun j hj => cfs_ne _ _ hj⟩, cfs_eq _ _ _⟩
      · rw [if_neg (fun q => hx q.1)] at er
        rw [decide_eq_false hx, if_neg (by decide), nm_eq, er]
        exact ⟨_, rfl, ⟨rfl, fun j hj => cfs_ne _ _ hj⟩, cfs_eq _ _ _⟩
theorem C_rayOf_e {S : yS} {x y s : Int} (hs : 0 ≤ s ∧ s ≤ 63) (H : okW (S.1 2) (S.1 3)) (P : okP (S.1 2) (S.1 3) x y) (hM : okM (S.1 2) (S.1 3) (S.2 472)) :
    ∃ S' : yS, C_rayOf S x y s = some ((rayS (S.2 472) (S.1 2) (S.1 3) x y s).1, S') ∧ cFar S S' ∧ S'.1 9 = (rayS (S.2 472) (S.1 2) (S.1 3) x y s).2 := by
  have hw := wXY_bd s
  unfold C_rayOf
  rw [C_wayX_e hs, bd_some, C_wayY_e hs, bd_some, nm_eq]
  obtain ⟨S', a1, a2, a3⟩ := C_rayOf_L (x := x) (y := y) hw.1 hw.2 40 FU (cfs S 9 1) 1 (cfs_eq _ _ _) (by rw [cfs_ne _ _ (by decide), cfs_ne _ _ (by decide)]; exact H) (by rw [cfs_ne _ _ (by decide), cfs_ne _ _ (by decide)]; exact P) (by rw [cfs_ne _ _ (by decide), cfs_ne _ _ (by decide), cfs_2]; exact hM) (by omega) (by omega) (by unfold FU; omega)
  rw [cfs_2, cfs_ne _ _ (by decide), cfs_ne _ _ (by decide)] at a1 a3
  exact ⟨S', a1, ⟨a2.1, fun j hj => by rw [a2.2 j hj, cfs_ne _ _ hj]⟩, a3⟩
theorem C_takeOf_L {side width head x y : Int} (hw : 0 ≤ width ∧ width ≤ 7) (hs : 0 ≤ side ∧ side ≤ 63) (hd : 0 ≤ head ∧ head ≤ 63) : ∀ (m n : Nat) (S : yS) (acc i : Int), okW (S.1 2) (S.1 3) → okP (S.1 2) (S.1 3) x y → okM (S.1 2) (S.1 3) (S.2 472) → -width ≤ i → i + m = width + 1 → m < n → 0 ≤ acc → acc ≤ 2040 * (15 - m) →
    ∃ S' : yS, C_takeOf_2_L7 side width x y head n S acc i = some ((tkF (fun s => (rayS (S.2 472) (S.1 2) (S.1 3) x y s).1) side width head m acc i).tdiv ((width + 1) * (width + 1)), S') ∧ cFar S S' := by
  have s := sq_bd hw
  intro m
  induction m with
  | zero =>
    intro n S acc i H P hM h1 h2 h3 h4 h5
    cases n with
    | zero => omega
    | succ n =>
      refine ⟨S, ?_, cFar.rf S⟩
      show C_takeOf_2_b7 side width x y head (C_takeOf_2_L7 side width x y head n) S acc i = _
      unfold C_takeOf_2_b7
      rw [gd_pos ⟨⟨by omega, by omega⟩, ⟨by omega, by omega⟩⟩, if_neg (by omega), gd_pos ⟨⟨by omega, by omega⟩, ⟨by omega, by omega⟩, by omega⟩]
      rfl
  | succ m ih =>
    intro n S acc i H P hM h1 h2 h3 h4 h5
    cases n with
    | zero => omega
    | succ n =>
      obtain ⟨S1, a1, a2, a3⟩ := C_rayOf_e (x := x) (y := y) (s := (head + side + i) % 64) ⟨by omega, by omega⟩ H P hM
      have q := (rayS_bd (x := x) (y := y) (s := (head + side + i) % 64) H hM).1
      have q2 := mul_nn (a := (width + 1) - (i.natAbs : Int)) (b := (rayS (S.2 472) (S.1 2) (S.1 3) x y ((head + side + i) % 64)).1) (m := 8) (n := 255) ⟨by omega, by omega⟩ q
      have e2 : S1.1 2 = S.1 2 := a2.2 2 (by decide)
      have e3 : S1.1 3 = S.1 3 := a2.2 3 (by decide)
      obtain ⟨S2, b1, b2⟩ := ih n S1 (acc + ((width + 1) - (i.natAbs : Int)) * (rayS (S.2 472) (S.1 2) (S.1 3) x y ((head + side + i) % 64)).1) (i + 1) (by rw [e2, e3]; exact H) (by rw [e2, e3]; exact P) (by rw [e2, e3, a2.1]; exact hM) (by omega) (by omega) (by omega) (by omega) (by omega)
      rw [e2, e3, a2.1] at b1
      refine ⟨S2, ?_, a2.tr b2⟩
      show C_takeOf_2_b7 side width x y head (C_takeOf_2_L7 side width x y head n) S acc i = _
      unfold C_takeOf_2_b7
      rw [gd_pos ⟨⟨by omega, by omega⟩, ⟨by omega, by omega⟩⟩, if_pos (by omega), Ma_abs_e ⟨by omega, by omega⟩, bd_some, Ma_floorMod_e (by omega) (by decide), bd_some, a1, bd2_some, nm_eq, nm_eq, b1]
      rfl
theorem C_takeOf2_e {S : yS} {side width head x y : Int} (hw : 0 ≤ width ∧ width ≤ 7) (hs : 0 ≤ side ∧ side ≤ 63) (hd : 0 ≤ head ∧ head ≤ 63) (H : okW (S.1 2) (S.1 3)) (P : okP (S.1 2) (S.1 3) x y) (hM : okM (S.1 2) (S.1 3) (S.2 472)) :
    ∃ S' : yS, C_takeOf_2 S side width x y head = some (tkS (fun s => (rayS (S.2 472) (S.1 2) (S.1 3) x y s).1) side width head, S') ∧ cFar S S' := by
  unfold C_takeOf_2
  rw [nm_eq]
  exact C_takeOf_L hw hs hd (2 * width + 1).toNat FU S 0 (-width) H P hM (by omega) (by omega) (by unfold FU; omega) (by omega) (by omega)
