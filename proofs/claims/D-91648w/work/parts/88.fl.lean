set_option maxRecDepth 100000
/-! flights: one tick of both -/
def fC (S S' : yS) : Prop := (∀ k, k ≤ 7 → S'.1 k = S.1 k) ∧ (∀ k, 40 ≤ k → S'.1 k = S.1 k) ∧ ∀ q, q < 472 → S'.2 q = S.2 q
def fM (S S' : xS) : Prop := (S'.1 0 = S.1 0 ∧ S'.1 1 = S.1 1 ∧ S'.1 10 = S.1 10 ∧ S'.1 11 = S.1 11 ∧ S'.1 12 = S.1 12) ∧ S'.2 2 = S.2 2 ∧ S'.2 3 = S.2 3 ∧ S'.2 4 = S.2 4 ∧ ∀ j, (j = 9 ∨ j = 42) → S'.2 j = S.2 j
theorem fC.rf (S : yS) : fC S S := ⟨fun _ _ => rfl, fun _ _ => rfl, fun _ _ => rfl⟩
theorem fM.rf (S : xS) : fM S S := ⟨⟨rfl, rfl, rfl, rfl, rfl⟩, rfl, rfl, rfl, fun _ _ => rfl⟩
theorem fC.tr {S S' S'' : yS} (h : fC S S') (h' : fC S' S'') : fC S S'' := ⟨fun k hk => (h'.1 k hk).trans (h.1 k hk), fun k hk => (h'.2.1 k hk).trans (h.2.1 k hk), fun k hk => (h'.2.2 k hk).trans (h.2.2 k hk)⟩
theorem fM.tr {S S' S'' : xS} (h : fM S S') (h' : fM S' S'') : fM S S'' := by
  obtain ⟨⟨a1, a2, a3, a4, a5⟩, a6, a7, a8, a9⟩ := h
  obtain ⟨⟨b1, b2, b3, b4, b5⟩, b6, b7, b8, b9⟩ := h'
  exact ⟨⟨b1.trans a1, b2.trans a2, b3.trans a3, b4.trans a4, b5.trans a5⟩, b6.trans a6, b7.trans a7, b8.trans a8, fun j hj => (b9 j hj).trans (a9 j hj)⟩
theorem RC.fl {S S' : yS} {Sm Sm' : xS} (R : RC S Sm) (h : fC S S') (hm : fM Sm Sm') : RC S' Sm' := by
  obtain ⟨⟨w1, w2, w3⟩, o1, r1, o2, r2, t1, t2, t3, t4, t5, t6, t7⟩ := R
  obtain ⟨⟨m1, m2, m3, m4, m5⟩, m6, m7, m8, m9⟩ := hm
  exact ⟨⟨by rw [m1, m2]; exact w1, by rw [m1, h.1 2 (by decide)]; exact w2, by rw [m2, h.1 3 (by decide)]; exact w3⟩, by rw [m1, m2, m6]; exact o1, by rw [m6]; exact r1.cg o1.2.2.2.2 (fun q hq => h.2.2 q (by omega)), by rw [m1, m2, m7]; exact o2, by rw [m7]; exact r2.cg o2.2.2.2.2 (fun q hq => h.2.2 (q + 235) (by omega)), by rw [m3, h.1 5 (by decide)]; exact t1, by rw [m3]; exact t2, fun i i1 i2 => by rw [m9 9 (Or.inl rfl), h.2.2 471 (by decide)]; exact t3 i i1 i2, by rw [m4, h.1 6 (by decide)]; exact t4, by rw [m5, h.1 7 (by decide)]; exact t5, by rw [m4]; exact t6, by rw [m5]; exact t7⟩
theorem RlR.fl {S S' : yS} {Sm Sm' : xS} {ed : Nat} {rs : List (List tCl)} (R : RlR S Sm ed rs) (h : fC S S') (hm : fM Sm Sm') : RlR S' Sm' ed rs := by
  obtain ⟨a, b, c, d, e⟩ := R
  unfold RlR
  rw [h.2.1 41 (by decide), h.2.1 42 (by decide), hm.2.1, hm.2.2.2.1]
  exact ⟨a, b, c, d, e⟩
/-- phase 1: the takes of the lenses, of the component -/
theorem g_takes {S0 : yS} {Sm : xS} (R : RC S0 Sm) {ed : Nat} {rs : List (List tCl)} {x1 t x y head : Int} (P : okP (Sm.1 0) (Sm.1 1) x y) (hd : 0 ≤ head ∧ head ≤ 63) (ht : 0 ≤ t ∧ t < 60) : ∀ (m : Nat) (S : yS) (k : Int), 0 ≤ k → Sm.2 2 1 - k = m → (∀ j, j ≠ 9 → S.1 j = S0.1 j) → S0.1 14 = x → S0.1 15 = y → S0.1 16 = head → (∀ q, q < 472 → S.2 q = S0.2 q) → (∀ c, 0 ≤ c → c < Sm.1 0 * Sm.1 1 → S.2 472 c = mkAt (Sm.2 2) (Sm.1 0) (Sm.1 1) c t) → ∀ n, m < n → ∃ S', C_goes_L18 ed rs x1 t n S k = C_goes_L68 ed rs x1 t FU S' 0 ∧ (∀ j, j ≠ 9 → S'.1 j = S0.1 j) ∧ (∀ q, q ≠ 537 + t → S'.2 q = S.2 q) ∧ ∀ j, S'.2 (537 + t) j = if k ≤ j ∧ j < Sm.2 2 1 then tkL (Sm.2 2) (Sm.1 0) (Sm.1 1) x y t head j else S.2 (537 + t) j := by
  have hn := R.2.1.2.1.1
  have n1 := R.n0 (k := 1) (by decide)
  intro m
  induction m with
  | zero =>
    intro S k hk hm h1 hx hy hh h2 h3 n hnn
    obtain ⟨n, rfl⟩ : ∃ k, n = k + 1 := ⟨n - 1, by omega⟩
    refine ⟨S, ?_, h1, fun _ _ => rfl, fun j => by rw [if_neg (by omega)]⟩
    show C_goes_b18 _ _ _ _ _ _ _ = _
    unfold C_goes_b18
    rw [h2 2 (by decide), n1, gd_pos (by omega), if_neg (by omega)]
  | succ m ih =>
    intro S k hk hm h1 hx hy hh h2 h3 n hnn
    obtain ⟨n, rfl⟩ : ∃ k, n = k + 1 := ⟨n - 1, by omega⟩
    obtain ⟨S', b1, b2⟩ := take_C R (S1 := S) (x := x) (y := y) (t := t) (k := k) (head := head) P (h1 2 (by decide)) (h1 3 (by decide)) (fun q _ _ => h2 q (by omega)) h3 ⟨hk, by omega⟩ hd
    have hq : ∀ q : Int, q ≠ 537 + t → (cas S' (537 + t) k (tkL (Sm.2 2) (Sm.1 0) (Sm.1 1) x y t head k)).2 q = S.2 q := fun q h => by rw [cas_ne _ _ _ h, b2.1]
    obtain ⟨S2, c1, c2, c3, c4⟩ := ih (cas S' (537 + t) k (tkL (Sm.2 2) (Sm.1 0) (Sm.1 1) x y t head k)) (k + 1) (by omega) (by omega) (fun j hj => (b2.2 j hj).trans (h1 j hj)) hx hy hh (fun q h => (hq q (by omega)).trans (h2 q h)) (fun c c0 c1 => by rw [hq 472 (by omega)]; exact h3 c c0 c1) n (by omega)
    refine ⟨S2, ?_, c2, fun q h => (c3 q h).trans (hq q h), fun j => ?_⟩
    · rw [← c1]
      show C_goes_b18 _ _ _ _ _ _ _ = _
      unfold C_goes_b18
      rw [h2 2 (by decide), n1, gd_pos (by omega), if_pos (by omega), gd_pos ht, h1 14 (by decide), h1 15 (by decide), h1 16 (by decide), hx, hy, hh, b1, bd2_some, gd_pos (by omega), nm_eq, nm_eq, show (536 : Int) + 1 + t = 537 + t by omega]
    · rw [c4 j, cas_at]
      by_cases e : j = k
      · rw [if_neg (by omega), if_pos e, if_pos (by omega), e]
      · rw [if_neg e, b2.1]
        by_cases g : k + 1 ≤ j ∧ j < Sm.2 2 1
        · rw [if_pos g, if_pos (by omega)]
        · rw [if_neg g, if_neg (by omega)]
/-- phase 1, of the reference -/
theorem m_takes {Sm0 : xS} {t x y head : Int} (H : okW (Sm0.1 0) (Sm0.1 1)) (OA : okA (Sm0.1 0) (Sm0.1 1) (Sm0.2 2)) (hd : 0 ≤ head ∧ head ≤ 63) (h32 : Sm0.1 32 = head) (ht : 0 ≤ t ∧ t < 60) : ∀ (m : Nat) (S : xS) (k : Int), 0 ≤ k → Sm0.2 2 1 - k = m → S.1 = Sm0.1 → S.2 2 = Sm0.2 2 → (∀ q, 0 ≤ q → q < 64 → S.2 6 q = rayT (Sm0.2 2) (Sm0.1 0) (Sm0.1 1) x y t q) → ∀ n, m < n → ∃ S', M_see_2_L26 (38 * t) n S k = M_see_2_L63 (38 * t) FU S' 0 ∧ S'.1 = Sm0.1 ∧ (∀ q, q ≠ 35 → S'.2 q = S.2 q) ∧ ∀ j, S'.2 35 j = if 38 * t + 5 + k ≤ j ∧ j < 38 * t + 5 + Sm0.2 2 1 then tkL (Sm0.2 2) (Sm0.1 0) (Sm0.1 1) x y t head (j - (38 * t + 5)) else S.2 35 j := by
  have hn := OA.2.1.1
  intro m
  induction m with
  | zero =>
    intro S k hk hm h1 h2 h6 n hnn
    obtain ⟨n, rfl⟩ : ∃ k, n = k + 1 := ⟨n - 1, by omega⟩
    refine ⟨S, ?_, h1, fun _ _ => rfl, fun j => by rw [if_neg (by omega)]⟩
    show M_see_2_b26 _ _ _ _ = _
    unfold M_see_2_b26
    rw [h2, gd_pos (by omega), if_neg (by omega)]
  | succ m ih =>
    intro S k hk hm h1 h2 h6 n hnn
    obtain ⟨n, rfl⟩ : ∃ k, n = k + 1 := ⟨n - 1, by omega⟩
    have hT := take_M (Sm := Sm0) (M1 := S) (x := x) (y := y) (t := t) (k := k) (head := head) H OA.1 h2 h6 OA.2.1 ⟨hk, by omega⟩ hd
    obtain ⟨S2, c1, c2, c3, c4⟩ := ih (aset S 35 (38 * t + 5 + k) (tkL (Sm0.2 2) (Sm0.1 0) (Sm0.1 1) x y t head k)) (k + 1) (by omega) (by omega) h1 (by rw [aset_ne _ _ _ (by decide)]; exact h2) (by rw [aset_ne _ _ _ (by decide)]; exact h6) n (by omega)
    refine ⟨S2, ?_, c2, fun q h => (c3 q h).trans (aset_ne _ _ _ h), fun j => ?_⟩
    · rw [← c1]
      show M_see_2_b26 _ _ _ _ = _
      unfold M_see_2_b26
      rw [h2, gd_pos (by omega), if_pos (by omega), show S.1 32 = head by rw [h1, h32], hT, bd_some, gd_pos (by omega), nm_eq, nm_eq]
    · rw [c4 j, aset_at]
      by_cases e : j = 38 * t + 5 + k
      · rw [if_neg (by omega), if_pos e, if_pos (by omega), e, show 38 * t + 5 + k - (38 * t + 5) = k by omega]
      · rw [if_neg e]
        by_cases g : 38 * t + 5 + (k + 1) ≤ j ∧ j < 38 * t + 5 + Sm0.2 2 1
        · rw [if_pos g, if_pos (by omega)]
        · rw [if_neg g, if_neg (by omega)]
/-- what a pair gives on a tick, out of the rows -/
def pvl (a R : Int → Int) (t p : Int) : Int := if t < a (660 + 3 * p + 2) then 0 else R (38 * (t - a (660 + 3 * p + 2)) + 5 + a (660 + 3 * p)) * R (38 * t + 5 + a (660 + 3 * p + 1)) - R (38 * t + 5 + a (660 + 3 * p)) * R (38 * (t - a (660 + 3 * p + 2)) + 5 + a (660 + 3 * p + 1))
theorem g_pairs {ed : Nat} {rs : List (List tCl)} {x1 t : Int} {a R : Int → Int} {S0 : yS} (ht : 0 ≤ t ∧ t < 60) (oP : okPs a) (oL : a 1 ≤ 16) (h22 : S0.2 2 2 = a 2) (hp : rPair S0.2 a) (hR : ∀ t', 0 ≤ t' → t' ≤ t → ∀ k, 0 ≤ k → k < a 1 → S0.2 (537 + t') k = R (38 * t' + 5 + k)) : ∀ (m : Nat) (S : yS) (k : Int), 0 ≤ k → a 2 - k = m → S.1 = S0.1 → (∀ q, q ≠ 598 + t → S.2 q = S0.2 q) → ∀ n, m < n → ∃ S', C_goes_L68 ed rs x1 t n S k = C_goes_L181 ed rs x1 t FU S' 0 ∧ S'.1 = S0.1 ∧ (∀ q, q ≠ 598 + t → S'.2 q = S0.2 q) ∧ ∀ j, S'.2 (598 + t) j = if k ≤ j ∧ j < a 2 then pvl a R t j else S.2 (598 + t) j := by
  have hn := oP.1
  intro m
  induction m with
  | zero =>
    intro S k hk hm h1 h2 n hnn
    obtain ⟨n, rfl⟩ : ∃ k, n = k + 1 := ⟨n - 1, by omega⟩
    refine ⟨S, ?_, h1, h2, fun j => by rw [if_neg (by omega)]⟩
    show C_goes_b68 _ _ _ _ _ _ _ = _
    unfold C_goes_b68
    rw [h2 2 (by omega), h22, gd_pos (by omega), if_neg (by omega)]
  | succ m ih =>
    intro S k hk hm h1 h2 n hnn
    obtain ⟨n, rfl⟩ : ∃ k, n = k + 1 := ⟨n - 1, by omega⟩
    obtain ⟨o1, o2, o3⟩ := oP.2 k hk (by omega)
    have e0 := hp k 0 hk (by omega) (by decide) (by decide)
    have e1 := hp k 1 hk (by omega) (by decide) (by decide)
    have e2 := hp k 2 hk (by omega) (by decide) (by decide)
    rw [show 660 + 3 * k + 0 = 660 + 3 * k by omega] at e0
    have f : S.2 (28 + 1 + k) = S0.2 (28 + 1 + k) := h2 _ (by omega)
    have hX : C_goes_L68 ed rs x1 t (n + 1) S k = C_goes_L68 ed rs x1 t n (cas S (598 + t) k (pvl a R t k)) (k + 1) := by
      show C_goes_b68 _ _ _ _ _ _ _ = _
      unfold C_goes_b68
      rw [h2 2 (by omega), h22, gd_pos (by omega), if_pos (by omega), gd_pos (by omega), gd_pos ht, f, e0, e1, e2, gd_pos (by omega)]
      unfold pvl C_goes_B171
      by_cases c : t < a (660 + 3 * k + 2)
      · rw [if_pos c, if_pos c, gd_pos (by omega), nm_eq, nm_eq, show (597 : Int) + 1 + t = 598 + t by omega]
      · rw [if_neg c, if_neg c, nm_eq, gd_pos (by omega), gd_pos (by omega), gd_pos ht, gd_pos (by omega), gd_pos ht, gd_pos (by omega), nm_eq, gd_pos (by omega), gd_pos (by omega), gd_pos (by omega), nm_eq, nm_eq, show (597 : Int) + 1 + t = 598 + t by omega]
        rw [show (536 : Int) + 1 + (t - a (660 + 3 * k + 2)) = 537 + (t - a (660 + 3 * k + 2)) by omega, show (536 : Int) + 1 + t = 537 + t by omega, h2 (537 + (t - a (660 + 3 * k + 2))) (by omega), h2 (537 + t) (by omega), hR (t - a (660 + 3 * k + 2)) (by omega) (by omega) _ o1.1 o1.2, hR (t - a (660 + 3 * k + 2)) (by omega) (by omega) _ o2.1 o2.2, hR t (by omega) (by omega) _ o1.1 o1.2, hR t (by omega) (by omega) _ o2.1 o2.2]
    obtain ⟨S2, c1, c2, c3, c4⟩ := ih (cas S (598 + t) k (pvl a R t k)) (k + 1) (by omega) (by omega) h1 (fun q hq => by rw [cas_ne _ _ _ hq]; exact h2 q hq) n (by omega)
    refine ⟨S2, hX.trans c1, c2, c3, fun j => ?_⟩
    rw [c4 j, cas_at]
    by_cases e : j = k
    · rw [if_neg (by omega), if_pos e, if_pos (by omega), e]
    · rw [if_neg e]
      by_cases g : k + 1 ≤ j ∧ j < a 2
      · rw [if_pos g, if_pos (by omega)]
      · rw [if_neg g, if_neg (by omega)]
theorem m_pairs {t : Int} {S0 : xS} (ht : 0 ≤ t ∧ t < 60) (oP : okPs (S0.2 2)) (oL : S0.2 2 1 ≤ 16) (h39 : S0.1 39 = t) : ∀ (m : Nat) (S : xS) (k : Int), 0 ≤ k → S0.2 2 2 - k = m → S.1 = S0.1 → (∀ q, q ≠ 35 → S.2 q = S0.2 q) → (∀ j, j < 38 * t + 21 → S.2 35 j = S0.2 35 j) → ∀ n, m < n → ∃ S', M_see_2_L63 (38 * t) n S k = some S' ∧ S'.1 = S0.1 ∧ (∀ q, q ≠ 35 → S'.2 q = S0.2 q) ∧ ∀ j, S'.2 35 j = if 38 * t + 21 + k ≤ j ∧ j < 38 * t + 21 + S0.2 2 2 then pvl (S0.2 2) (S0.2 35) t (j - (38 * t + 21)) else S.2 35 j := by
  have hn := oP.1
  intro m
  induction m with
  | zero =>
    intro S k hk hm h1 h2 h3 n hnn
    obtain ⟨n, rfl⟩ : ∃ k, n = k + 1 := ⟨n - 1, by omega⟩
    refine ⟨S, ?_, h1, h2, fun j => by rw [if_neg (by omega)]⟩
    show M_see_2_b63 _ _ _ _ = _
    unfold M_see_2_b63
    rw [h2 2 (by decide), gd_pos (by omega), if_neg (by omega)]
  | succ m ih =>
    intro S k hk hm h1 h2 h3 n hnn
    obtain ⟨n, rfl⟩ : ∃ k, n = k + 1 := ⟨n - 1, by omega⟩
    obtain ⟨o1, o2, o3⟩ := oP.2 k hk (by omega)
    have hX : M_see_2_L63 (38 * t) (n + 1) S k = M_see_2_L63 (38 * t) n (aset S 35 (38 * t + 21 + k) (pvl (S0.2 2) (S0.2 35) t k)) (k + 1) := by
      show M_see_2_b63 _ _ _ _ = _
      unfold M_see_2_b63
      rw [h2 2 (by decide), gd_pos (by omega), if_pos (by omega), nm_eq, gd_pos (by omega), nm_eq, gd_pos (by omega), h1, h39, gd_pos (by omega)]
      unfold pvl M_see_2_B192
      by_cases c : t < S0.2 2 (660 + 3 * k + 2)
      · rw [if_pos c, if_pos c, gd_pos (by omega), nm_eq, nm_eq]
      · rw [if_neg c, if_neg c, gd_pos (by omega), gd_pos (by omega), gd_pos (by omega), gd_pos (by omega), gd_pos (by omega), gd_pos (by omega), gd_pos (by omega), gd_pos (by omega), gd_pos (by omega), nm_eq, nm_eq]
        have ed : 38 * t - 38 * S0.2 2 (660 + 3 * k + 2) + 5 = 38 * (t - S0.2 2 (660 + 3 * k + 2)) + 5 := by omega
        rw [ed, h3 _ (by omega), h3 _ (by omega), h3 _ (by omega), h3 _ (by omega)]
    obtain ⟨S2, c1, c2, c3, c4⟩ := ih (aset S 35 (38 * t + 21 + k) (pvl (S0.2 2) (S0.2 35) t k)) (k + 1) (by omega) (by omega) h1 (fun q hq => by rw [aset_ne _ _ _ hq]; exact h2 q hq) (fun j hj => by rw [aset_at, if_neg (by omega)]; exact h3 j hj) n (by omega)
    refine ⟨S2, hX.trans c1, c2, c3, fun j => ?_⟩
    rw [c4 j, aset_at]
    by_cases e : j = 38 * t + 21 + k
    · rw [if_neg (by omega), if_pos e, if_pos (by omega), e, show 38 * t + 21 + k - (38 * t + 21) = k by omega]
    · rw [if_neg e]
      by_cases g : 38 * t + 21 + (k + 1) ≤ j ∧ j < 38 * t + 21 + S0.2 2 2
      · rw [if_pos g, if_pos (by omega)]
      · rw [if_neg g, if_neg (by omega)]
/-- the takes that are asked with -/
theorem g_ask1 {ed : Nat} {rs : List (List tCl)} {x1 t : Int} {S0 : yS} (ht : 0 ≤ t ∧ t < 60) (h21 : 0 ≤ S0.2 2 1 ∧ S0.2 2 1 ≤ 16) : ∀ (m : Nat) (S : yS) (k : Int), 0 ≤ k → 16 - k = m → S.1 = S0.1 → (∀ q, q ≠ 659 → S.2 q = S0.2 q) → ∀ n, m < n → ∃ S', C_goes_L181 ed rs x1 t n S k = C_goes_L234 ed rs x1 t FU S' 0 ∧ S'.1 = S0.1 ∧ (∀ q, q ≠ 659 → S'.2 q = S0.2 q) ∧ ∀ j, S'.2 659 j = if k ≤ j ∧ j < 16 then (if j < S0.2 2 1 then S0.2 (537 + t) j else 0) else S.2 659 j := by
  intro m
  induction m with
  | zero =>
    intro S k hk hm h1 h2 n hnn
    obtain ⟨n, rfl⟩ : ∃ k, n = k + 1 := ⟨n - 1, by omega⟩
    refine ⟨S, ?_, h1, h2, fun j => by rw [if_neg (by omega)]⟩
    show C_goes_b181 _ _ _ _ _ _ _ = _
    unfold C_goes_b181
    rw [gd_pos (by omega), if_neg (by omega)]
  | succ m ih =>
    intro S k hk hm h1 h2 n hnn
    obtain ⟨n, rfl⟩ : ∃ k, n = k + 1 := ⟨n - 1, by omega⟩
    have hX : C_goes_L181 ed rs x1 t (n + 1) S k = C_goes_L181 ed rs x1 t n (cas S 659 k (if k < S0.2 2 1 then S0.2 (537 + t) k else 0)) (k + 1) := by
      show C_goes_b181 _ _ _ _ _ _ _ = _
      unfold C_goes_b181 C_goes_B224
      rw [gd_pos (by omega), if_pos (by omega), h2 2 (by decide), gd_pos (by omega)]
      by_cases c : k < S0.2 2 1
      · rw [if_pos c, if_pos c, gd_pos ht, gd_pos (by omega), gd_pos (by omega), nm_eq, nm_eq, show (536 : Int) + 1 + t = 537 + t by omega, h2 (537 + t) (by omega)]
      · rw [if_neg c, if_neg c, gd_pos (by omega), nm_eq, nm_eq]
    obtain ⟨S2, c1, c2, c3, c4⟩ := ih (cas S 659 k (if k < S0.2 2 1 then S0.2 (537 + t) k else 0)) (k + 1) (by omega) (by omega) h1 (fun q hq => by rw [cas_ne _ _ _ hq]; exact h2 q hq) n (by omega)
    refine ⟨S2, hX.trans c1, c2, c3, fun j => ?_⟩
    rw [c4 j, cas_at]
    by_cases e : j = k
    · subst e
      rw [if_neg (show ¬ (j + 1 ≤ j ∧ j < 16) by omega), if_pos rfl, if_pos (show j ≤ j ∧ j < 16 by omega)]
    · rw [if_neg e]
      by_cases g : k + 1 ≤ j ∧ j < 16
      · rw [if_pos g, if_pos (show k ≤ j ∧ j < 16 by omega)]
      · rw [if_neg g, if_neg (show ¬ (k ≤ j ∧ j < 16) by omega)]
theorem g_ask2 {ed : Nat} {rs : List (List tCl)} {x1 t : Int} {S0 : yS} (ht : 0 ≤ t ∧ t < 60) (h21 : 0 ≤ S0.2 2 2 ∧ S0.2 2 2 ≤ 16) : ∀ (m : Nat) (S : yS) (k : Int), 0 ≤ k → 16 - k = m → S.1 = S0.1 → (∀ q, q ≠ 660 → S.2 q = S0.2 q) → ∀ n, m < n → ∃ S' K, C_goes_L234 ed rs x1 t n S k = C_goes_b234 ed rs x1 t K S' 16 ∧ S'.1 = S0.1 ∧ (∀ q, q ≠ 660 → S'.2 q = S0.2 q) ∧ ∀ j, S'.2 660 j = if k ≤ j ∧ j < 16 then (if j < S0.2 2 2 then S0.2 (598 + t) j else 0) else S.2 660 j := by
  intro m
  induction m with
  | zero =>
    intro S k hk hm h1 h2 n hnn
    obtain ⟨n, rfl⟩ : ∃ k, n = k + 1 := ⟨n - 1, by omega⟩
    refine ⟨S, C_goes_L234 ed rs x1 t n, ?_, h1, h2, fun j => by rw [if_neg (by omega)]⟩
    show C_goes_b234 ed rs x1 t (C_goes_L234 ed rs x1 t n) S k = _
    rw [show k = 16 by omega]
  | succ m ih =>
    intro S k hk hm h1 h2 n hnn
    obtain ⟨n, rfl⟩ : ∃ k, n = k + 1 := ⟨n - 1, by omega⟩
    have hX : C_goes_L234 ed rs x1 t (n + 1) S k = C_goes_L234 ed rs x1 t n (cas S 660 k (if k < S0.2 2 2 then S0.2 (598 + t) k else 0)) (k + 1) := by
      show C_goes_b234 _ _ _ _ _ _ _ = _
      unfold C_goes_b234 C_goes_B277
      rw [gd_pos (by omega), if_pos (by omega), h2 2 (by decide), gd_pos (by omega)]
      by_cases c : k < S0.2 2 2
      · rw [if_pos c, if_pos c, gd_pos ht, gd_pos (by omega), gd_pos (by omega), nm_eq, nm_eq, show (597 : Int) + 1 + t = 598 + t by omega, h2 (598 + t) (by omega)]
      · rw [if_neg c, if_neg c, gd_pos (by omega), nm_eq, nm_eq]
    obtain ⟨S2, K, c1, c2, c3, c4⟩ := ih (cas S 660 k (if k < S0.2 2 2 then S0.2 (598 + t) k else 0)) (k + 1) (by omega) (by omega) h1 (fun q hq => by rw [cas_ne _ _ _ hq]; exact h2 q hq) n (by omega)
    refine ⟨S2, K, hX.trans c1, c2, c3, fun j => ?_⟩
    rw [c4 j, cas_at]
    by_cases e : j = k
    · subst e
      rw [if_neg (show ¬ (j + 1 ≤ j ∧ j < 16) by omega), if_pos rfl, if_pos (show j ≤ j ∧ j < 16 by omega)]
    · rw [if_neg e]
      by_cases g : k + 1 ≤ j ∧ j < 16
      · rw [if_pos g, if_pos (show k ≤ j ∧ j < 16 by omega)]
      · rw [if_neg g, if_neg (show ¬ (k ≤ j ∧ j < 16) by omega)]
/-- the flight of both, at the head of a tick -/
def FR (S : yS) (Sm : xS) : Prop := ((S.1 14 = Sm.1 30 ∧ S.1 15 = Sm.1 31 ∧ S.1 16 = Sm.1 32 ∧ S.1 17 = Sm.1 29 ∧ S.1 18 = Sm.1 33 ∧ S.1 19 = Sm.1 34) ∧ (0 ≤ Sm.1 32 ∧ Sm.1 32 ≤ 63) ∧ (0 ≤ Sm.1 29 ∧ Sm.1 29 ≤ 60) ∧ (Sm.1 33 = 0 ∨ Sm.1 33 = 1) ∧ (Sm.1 34 = 0 ∨ Sm.1 34 = 1) ∧ (Sm.1 33 = 0 → okP (Sm.1 0) (Sm.1 1) (Sm.1 30) (Sm.1 31))) ∧
  ((S.1 25 = Sm.1 27 ∧ 0 ≤ Sm.1 27 ∧ Sm.1 27 ≤ 1000000) ∧ S.1 24 = Sm.1 28) ∧ (∀ k, 0 ≤ k → k < 8 → S.2 661 k = Sm.2 36 k ∧ (-1000000 ≤ Sm.2 36 k ∧ Sm.2 36 k ≤ 1000000)) ∧
  ∀ t, 0 ≤ t → t < Sm.1 29 → (∀ j, 0 ≤ j → j < 5 → S.2 (476 + t) j = Sm.2 35 (38 * t + j)) ∧ (∀ k, 0 ≤ k → k < Sm.2 2 1 → S.2 (537 + t) k = Sm.2 35 (38 * t + 5 + k) ∧ (0 ≤ Sm.2 35 (38 * t + 5 + k) ∧ Sm.2 35 (38 * t + 5 + k) ≤ 30600)) ∧ (∀ p, 0 ≤ p → p < Sm.2 2 2 → S.2 (598 + t) p = Sm.2 35 (38 * t + 21 + p)) ∧ (-8 ≤ Sm.2 35 (38 * t) ∧ Sm.2 35 (38 * t) ≤ 8)
theorem pvl_bd {a R : Int → Int} {t p : Int} (ht : 0 ≤ t) (o : okPs a) (hp : 0 ≤ p ∧ p < a 2) (hR : ∀ t', 0 ≤ t' → t' ≤ t → ∀ k, 0 ≤ k → k < a 1 → 0 ≤ R (38 * t' + 5 + k) ∧ R (38 * t' + 5 + k) ≤ 30600) : -936360000 ≤ pvl a R t p ∧ pvl a R t p ≤ 936360000 := by
  obtain ⟨o1, o2, o3⟩ := o.2 p hp.1 hp.2
  unfold pvl
  by_cases c : t < a (660 + 3 * p + 2)
  · rw [if_pos c]; decide
  · rw [if_neg c]
    have h1 := mul_nn (hR (t - a (660 + 3 * p + 2)) (by omega) (by omega) _ o1.1 o1.2) (hR t ht (Int.le_refl _) _ o2.1 o2.2)
    have h2 := mul_nn (hR t ht (Int.le_refl _) _ o1.1 o1.2) (hR (t - a (660 + 3 * p + 2)) (by omega) (by omega) _ o2.1 o2.2)
    omega
/-- what is seen on a tick, by both: all is ready for the rule -/
theorem see_ok {S : yS} {Sm : xS} {ed : Nat} {rs : List (List tCl)} {x1 : Int} (R : RC S Sm) (hF : FR S Sm) (hh : Sm.1 33 = 0) (h29 : Sm.1 29 < 60) : ∃ S' K Sm', C_goes ed rs S x1 = C_goes_b234 ed rs x1 (Sm.1 29) K S' 16 ∧ M_see_2 (fset Sm 39 (Sm.1 29)) = some Sm' ∧ ER (cfs S' 23 (Sm.1 29)) Sm' ∧ fC S S' ∧ fM Sm Sm' ∧ (∀ j, j ≠ 9 → S'.1 j = S.1 j) ∧ (∀ j, j ≠ 39 → Sm'.1 j = Sm.1 j) ∧ Sm'.1 39 = Sm.1 29 ∧ S'.2 661 = S.2 661 ∧ Sm'.2 36 = Sm.2 36 ∧
    (∀ t, 0 ≤ t → t < Sm.1 29 → (∀ j, 0 ≤ j → j < 5 → S'.2 (476 + t) j = Sm'.2 35 (38 * t + j)) ∧ (-8 ≤ Sm'.2 35 (38 * t) ∧ Sm'.2 35 (38 * t) ≤ 8)) ∧
    (∀ t, 0 ≤ t → t ≤ Sm.1 29 → (∀ k, 0 ≤ k → k < Sm.2 2 1 → S'.2 (537 + t) k = Sm'.2 35 (38 * t + 5 + k) ∧ (0 ≤ Sm'.2 35 (38 * t + 5 + k) ∧ Sm'.2 35 (38 * t + 5 + k) ≤ 30600)) ∧ (∀ p, 0 ≤ p → p < Sm.2 2 2 → S'.2 (598 + t) p = Sm'.2 35 (38 * t + 21 + p))) := by
  obtain ⟨⟨⟨f14, f15, f16, f17, f18, f19⟩, fhd, ftk, -, -, fP⟩, ⟨fb, fo⟩, fl, fr⟩ := hF
  have P := fP hh
  obtain ⟨H, ew, eh⟩ := R.1
  have OA := R.2.1
  have hln := OA.2.1.1
  have hpn := OA.2.2.1.1
  have RN := R.2.2.1
  -- the component
  obtain ⟨S1, a1, a2, a3, a4, a5⟩ := R.lays (t := Sm.1 29) ⟨ftk.1, by omega⟩
  obtain ⟨t, ht⟩ : ∃ t, Sm.1 29 = t := ⟨_, rfl⟩
  rw [ht] at ftk h29 a1 a4 fr f17 ⊢
  obtain ⟨S2, b1, b2, b3, b4⟩ := g_takes R (ed := ed) (rs := rs) (x1 := x1) (t := t) (x := Sm.1 30) (y := Sm.1 31) (head := Sm.1 32) P fhd ⟨ftk.1, h29⟩ (Sm.2 2 1).toNat S1 0 (Int.le_refl _) (by omega) (fun j _ => by rw [a2]) f14 f15 f16 (fun q hq => a3 q (by omega)) a4 FU (by unfold FU; omega)
  -- the reference
  obtain ⟨M0, hM0⟩ : ∃ M0 : xS, M0 = fset Sm 39 t := ⟨_, rfl⟩
  have m02 : M0.2 = Sm.2 := by rw [hM0]; rfl
  have m01 : ∀ j, j ≠ 39 → M0.1 j = Sm.1 j := fun j hj => by rw [hM0]; exact fset_ne _ _ hj
  have m039 : M0.1 39 = t := by rw [hM0]; exact fset_eq _ _ _
  obtain ⟨M1, c1, c2, c3, c4⟩ := M_look_e (S := M0) (x := Sm.1 30) (y := Sm.1 31) (t := t) (by rw [m01 0 (by decide), m01 1 (by decide)]; exact H) (by rw [m01 0 (by decide), m01 1 (by decide), m02]; exact OA.1) (by rw [m01 0 (by decide), m01 1 (by decide)]; exact P) ⟨ftk.1, by omega⟩
  obtain ⟨M2, d1, d2, d3, d4⟩ := m_takes (Sm0 := M1) (t := t) (x := Sm.1 30) (y := Sm.1 31) (head := Sm.1 32) (by rw [c2, m01 0 (by decide), m01 1 (by decide)]; exact H) (by rw [c2, m01 0 (by decide), m01 1 (by decide), c3 2 (by decide) (by decide) (by decide), m02]; exact OA) fhd (by rw [c2, m01 32 (by decide)]) ⟨ftk.1, h29⟩ (M1.2 2 1).toNat M1 0 (Int.le_refl _) (by rw [c3 2 (by decide) (by decide) (by decide), m02]; omega) rfl rfl (fun q q0 q1 => by rw [c4 q q0 q1, c2, c3 2 (by decide) (by decide) (by decide)]) FU (by rw [c3 2 (by decide) (by decide) (by decide), m02]; unfold FU; omega)
  have e2 : M1.2 2 = Sm.2 2 := by rw [c3 2 (by decide) (by decide) (by decide), m02]
  have e35 : M1.2 35 = Sm.2 35 := by rw [c3 35 (by decide) (by decide) (by decide), m02]
  have ew0 : M1.1 0 = Sm.1 0 := by rw [c2, m01 0 (by decide)]
  have ew1 : M1.1 1 = Sm.1 1 := by rw [c2, m01 1 (by decide)]
  rw [e2, e35, ew0, ew1] at d4
  have m22 : M2.2 2 = Sm.2 2 := (d3 2 (by decide)).trans e2
  have M2r : ∀ j, j < 38 * t + 5 → M2.2 35 j = Sm.2 35 j := fun j hj => by rw [d4 j, if_neg (by omega)]
  have M2t : ∀ k, 0 ≤ k → k < Sm.2 2 1 → M2.2 35 (38 * t + 5 + k) = tkL (Sm.2 2) (Sm.1 0) (Sm.1 1) (Sm.1 30) (Sm.1 31) t (Sm.1 32) k := fun k k0 k1 => by
    rw [d4, if_pos (by omega), show 38 * t + 5 + k - (38 * t + 5) = k by omega]
  have tkb : ∀ k, 0 ≤ k → k < Sm.2 2 1 → 0 ≤ tkL (Sm.2 2) (Sm.1 0) (Sm.1 1) (Sm.1 30) (Sm.1 31) t (Sm.1 32) k ∧ tkL (Sm.2 2) (Sm.1 0) (Sm.1 1) (Sm.1 30) (Sm.1 31) t (Sm.1 32) k ≤ 30600 := fun k k0 k1 => tkS_bd (rayT_ok H OA.1) (OA.2.1.2 k k0 k1).2
  -- rows of takes, of both, up to this tick
  have rows : ∀ t', 0 ≤ t' → t' ≤ t → ∀ k, 0 ≤ k → k < Sm.2 2 1 → S2.2 (537 + t') k = M2.2 35 (38 * t' + 5 + k) ∧ (0 ≤ M2.2 35 (38 * t' + 5 + k) ∧ M2.2 35 (38 * t' + 5 + k) ≤ 30600) := by
    intro t' t0 t1 k k0 k1
    by_cases c : t' = t
    · subst c
      rw [b4 k, if_pos ⟨k0, k1⟩, M2t k k0 k1]
      exact ⟨rfl, tkb k k0 k1⟩
    · rw [b3 _ (by omega), a3 _ (by omega), M2r _ (by omega)]
      exact (fr t' t0 (by omega)).2.1 k k0 k1
  obtain ⟨S3, g1, g2, g3, g4⟩ := g_pairs (ed := ed) (rs := rs) (x1 := x1) (t := t) (a := Sm.2 2) (R := M2.2 35) (S0 := S2) ⟨ftk.1, h29⟩ OA.2.2.1 hln.2 (by rw [b3 2 (by omega), a3 2 (by decide)]; exact RN.1.1 2 (by decide) (by decide)) (RN.2.2.2.2.1.cg (fun q q1 q2 => by rw [b3 q (by omega), a3 q (by omega)]) (fun _ _ _ => rfl)) (fun t' t0 t1 k k0 k1 => (rows t' t0 t1 k k0 k1).1) (Sm.2 2 2).toNat S2 0 (Int.le_refl _) (by omega) rfl (fun _ _ => rfl) FU (by unfold FU; omega)
  obtain ⟨M3, i1, i2, i3, i4⟩ := m_pairs (t := t) (S0 := M2) ⟨ftk.1, h29⟩ (by rw [m22]; exact OA.2.2.1) (by rw [m22]; exact hln.2) (by rw [d2, c2, m039]) (Sm.2 2 2).toNat M2 0 (Int.le_refl _) (by rw [m22]; omega) rfl (fun _ _ => rfl) (fun _ _ => rfl) FU (by unfold FU; omega)
  rw [m22] at i4
  have s3n : ∀ q, q ≠ 598 + t → q ≠ 537 + t → q ≠ 472 → S3.2 q = S.2 q := fun q h1 h2 h3 => by rw [g3 q h1, b3 q h2, a3 q h3]
  have s321 : S3.2 2 = S.2 2 := s3n 2 (by omega) (by omega) (by omega)
  have n1 := R.n0 (k := 1) (by decide)
  have n2 := R.n0 (k := 2) (by decide)
  obtain ⟨S4, k1, k2, k3, k4⟩ := g_ask1 (ed := ed) (rs := rs) (x1 := x1) (t := t) (S0 := S3) ⟨ftk.1, h29⟩ (by rw [s321, n1]; exact hln) 16 S3 0 (Int.le_refl _) (by decide) rfl (fun _ _ => rfl) FU (by decide)
  obtain ⟨S5, K, l1, l2, l3, l4⟩ := g_ask2 (ed := ed) (rs := rs) (x1 := x1) (t := t) (S0 := S4) ⟨ftk.1, h29⟩ (by rw [k3 2 (by decide), s321, n2]; exact hpn) 16 S4 0 (Int.le_refl _) (by decide) rfl (fun _ _ => rfl) FU (by decide)
  have s5n : ∀ q, q ≠ 598 + t → q ≠ 537 + t → q ≠ 472 → q ≠ 659 → q ≠ 660 → S5.2 q = S.2 q := fun q h1 h2 h3 h4 h5 => by rw [l3 q h5, k3 q h4, s3n q h1 h2 h3]
  have s51 : ∀ j, j ≠ 9 → S5.1 j = S.1 j := fun j hj => by rw [l2, k2, g2, b2 j hj]
  have m3n : ∀ q, q ≠ 35 → q ≠ 5 → q ≠ 6 → q ≠ 7 → M3.2 q = Sm.2 q := fun q h1 h5 h6 h7 => by rw [i3 q h1, d3 q h1, c3 q h5 h6 h7, m02]
  have m31 : ∀ j, j ≠ 39 → M3.1 j = Sm.1 j := fun j hj => by rw [i2, d2, c2, m01 j hj]
  have m339 : M3.1 39 = t := by rw [i2, d2, c2, m039]
  have m35a : ∀ j, j < 38 * t + 21 → M3.2 35 j = M2.2 35 j := fun j hj => by rw [i4 j, if_neg (by omega)]
  have rP : ∀ p, 0 ≤ p → p < Sm.2 2 2 → S5.2 (598 + t) p = M3.2 35 (38 * t + 21 + p) ∧ -936360000 ≤ S5.2 (598 + t) p ∧ S5.2 (598 + t) p ≤ 936360000 := by
    intro p p0 p1
    have e := g4 p
    rw [if_pos ⟨p0, p1⟩] at e
    rw [l3 _ (by omega), k3 _ (by omega), e, i4, if_pos (by omega), show 38 * t + 21 + p - (38 * t + 21) = p by omega]
    exact ⟨rfl, pvl_bd ftk.1 OA.2.2.1 ⟨p0, p1⟩ (fun t' t0 t1 k k0 k1 => (rows t' t0 t1 k k0 k1).2)⟩
  have rT : ∀ t', 0 ≤ t' → t' ≤ t → ∀ k, 0 ≤ k → k < Sm.2 2 1 → S5.2 (537 + t') k = M3.2 35 (38 * t' + 5 + k) ∧ (0 ≤ M3.2 35 (38 * t' + 5 + k) ∧ M3.2 35 (38 * t' + 5 + k) ≤ 30600) := by
    intro t' t0 t1 k k0 k1
    rw [l3 _ (by omega), k3 _ (by omega), g3 _ (by omega), m35a _ (by omega)]
    exact rows t' t0 t1 k k0 k1
  refine ⟨S5, K, M3, ?_, ?_, ⟨?_, ?_, ?_, ?_, ?_, ?_⟩, ?_, ?_, s51, m31, m339, s5n 661 (by omega) (by omega) (by decide) (by decide) (by decide), m3n 36 (by decide) (by decide) (by decide) (by decide), ?_, ?_⟩
  · unfold C_goes
    rw [nm_eq, f17, a1, bd_some, b1, g1, k1, l1]
  · unfold M_see_2
    rw [← hM0, nm_eq, m039, m01 30 (by decide), m01 31 (by decide), c1, bd_some, d1, i1]
  · rw [m31 27 (by decide), cfs_ne _ _ (by decide), s51 25 (by decide)]
    exact fb
  · rw [m31 28 (by decide), cfs_ne _ _ (by decide), s51 24 (by decide)]
    exact fo
  · rw [m339, cfs_eq]
    exact ⟨rfl, ftk.1, h29⟩
  · intro k k0 k1
    rw [m3n 36 (by decide) (by decide) (by decide) (by decide), show (cfs S5 23 t).2 = S5.2 from rfl, s5n 661 (by omega) (by omega) (by decide) (by decide) (by decide)]
    exact fl k k0 k1
  · rw [m3n 2 (by decide) (by decide) (by decide) (by decide), m339, show (cfs S5 23 t).2 = S5.2 from rfl]
    refine ⟨hln, fun k k0 k1 => ?_⟩
    have e := k4 k
    rw [if_pos ⟨k0, k1⟩, s321, n1] at e
    rw [l3 659 (by decide), e]
    by_cases c : k < Sm.2 2 1
    · rw [if_pos c, if_pos c]
      have := rT t ftk.1 (Int.le_refl _) k k0 c
      rw [l3 _ (by omega), k3 _ (by omega)] at this
      exact ⟨this.1, by rw [this.1]; omega⟩
    · rw [if_neg c, if_neg c]
      exact ⟨rfl, by decide⟩
  · rw [m3n 2 (by decide) (by decide) (by decide) (by decide), m339, show (cfs S5 23 t).2 = S5.2 from rfl]
    refine ⟨hpn, fun k k0 k1 => ?_⟩
    have e := l4 k
    rw [if_pos ⟨k0, k1⟩, k3 2 (by decide), s321, n2] at e
    rw [e]
    by_cases c : k < Sm.2 2 2
    · rw [if_pos c, if_pos c]
      have := rP k k0 c
      rw [l3 _ (by omega)] at this
      exact ⟨this.1, by omega⟩
    · rw [if_neg c, if_neg c]
      exact ⟨rfl, by decide⟩
  · exact ⟨fun k hk => s51 k (by omega), fun k hk => s51 k (by omega), fun q hq => s5n q (by omega) (by omega) (by omega) (by omega) (by omega)⟩
  · exact ⟨⟨m31 0 (by decide), m31 1 (by decide), m31 10 (by decide), m31 11 (by decide), m31 12 (by decide)⟩, m3n 2 (by decide) (by decide) (by decide) (by decide), m3n 3 (by decide) (by decide) (by decide) (by decide), m3n 4 (by decide) (by decide) (by decide) (by decide), fun j hj => m3n j (by omega) (by omega) (by omega) (by omega)⟩
  · intro t' t0 t1
    obtain ⟨h1, h2, h3, h4⟩ := fr t' t0 t1
    refine ⟨fun j j0 j1 => ?_, ?_⟩
    · rw [s5n _ (by omega) (by omega) (by omega) (by omega) (by omega), m35a _ (by omega), M2r _ (by omega)]
      exact h1 j j0 j1
    · rw [m35a _ (by omega), M2r _ (by omega)]
      exact h4
  · intro t' t0 t1
    refine ⟨fun k k0 k1 => rT t' t0 t1 k k0 k1, fun p p0 p1 => ?_⟩
    by_cases c : t' = t
    · subst c
      exact (rP p p0 p1).1
    · rw [s5n _ (by omega) (by omega) (by omega) (by omega) (by omega), m35a _ (by omega), M2r _ (by omega)]
      exact (fr t' t0 (by omega)).2.2.1 p p0 p1
