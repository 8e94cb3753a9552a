set_option maxRecDepth 100000
theorem cp4_239_L (S0 : yS) : ∀ (m : Nat) (S : yS) (k : Int), 0 ≤ k → 6 - k = m → S.1 = S0.1 → (∀ q, ¬ (240 ≤ q ∧ q < 246) → S.2 q = S0.2 q) → ∀ n, m < n → ∃ S', C_cp4_239_L2 n S k = some S' ∧ S'.1 = S0.1 ∧ (∀ q, ¬ (240 ≤ q ∧ q < 246) → S'.2 q = S0.2 q) ∧ (∀ t, 0 ≤ t → t < k → S'.2 (240 + t) = S.2 (240 + t)) ∧ ∀ t, k ≤ t → t < 6 → ∀ j, 0 ≤ j → j < 4 → S'.2 (240 + t) j = S0.2 (5 + t) j := by
  intro m
  induction m with
  | zero =>
    intro S k hk hm h1 h2 n hn
    obtain ⟨n, rfl⟩ : ∃ k, n = k + 1 := ⟨n - 1, by omega⟩
    refine ⟨S, ?_, h1, h2, fun _ _ _ => rfl, fun t t0 t1 => by omega⟩
    show C_cp4_239_b2 _ _ _ = _
    unfold C_cp4_239_b2
    rw [gd_pos (by omega), if_neg (by omega)]
  | succ m ih =>
    intro S k hk hm h1 h2 n hn
    obtain ⟨n, rfl⟩ : ∃ k, n = k + 1 := ⟨n - 1, by omega⟩
    obtain ⟨S', c1, c2, c3, c4, c5⟩ := ih (ccp S (4 + 1 + k) (239 + 1 + k) 4) (k + 1) (by omega) (by omega) h1 (fun q hq => by rw [ccp_ne _ _ (by omega)]; exact h2 q hq) n (by omega)
    refine ⟨S', ?_, c2, c3, fun t t0 t1 => ?_, fun t t0 t1 j j0 j1 => ?_⟩
    · rw [← c1]
      show C_cp4_239_b2 _ _ _ = _
      unfold C_cp4_239_b2
      rw [gd_pos (by omega), if_pos (by omega), gd_pos (by omega), gd_pos (by omega), gd_pos (by omega), nm_eq, nm_eq]
    · rw [c4 t t0 (by omega), ccp_ne _ _ (by omega)]
    · by_cases e : t = k
      · rw [e, c4 k hk (by omega), show (240 : Int) + k = 239 + 1 + k by omega, ccp_at, if_pos ⟨j0, j1⟩, h2 _ (by omega), show (4 : Int) + 1 + k = 5 + k by omega]
      · exact c5 t (by omega) t1 j j0 j1
theorem cp4_239_e (S : yS) : ∃ S', C_cp4_239 S = some S' ∧ S'.1 = S.1 ∧ (∀ q, ¬ (240 ≤ q ∧ q < 246) → S'.2 q = S.2 q) ∧ ∀ t, 0 ≤ t → t < 6 → ∀ j, 0 ≤ j → j < 4 → S'.2 (240 + t) j = S.2 (5 + t) j := by
  obtain ⟨S', c1, c2, c3, c4, c5⟩ := cp4_239_L S 6 S 0 (Int.le_refl _) (by decide) rfl (fun _ _ => rfl) FU (by decide)
  exact ⟨S', c1, c2, c3, c5⟩
theorem cp239_4_L (S0 : yS) : ∀ (m : Nat) (S : yS) (k : Int), 0 ≤ k → 6 - k = m → S.1 = S0.1 → (∀ q, ¬ (5 ≤ q ∧ q < 11) → S.2 q = S0.2 q) → ∀ n, m < n → ∃ S', C_cp239_4_L2 n S k = some S' ∧ S'.1 = S0.1 ∧ (∀ q, ¬ (5 ≤ q ∧ q < 11) → S'.2 q = S0.2 q) ∧ (∀ t, 0 ≤ t → t < k → S'.2 (5 + t) = S.2 (5 + t)) ∧ ∀ t, k ≤ t → t < 6 → ∀ j, 0 ≤ j → j < 4 → S'.2 (5 + t) j = S0.2 (240 + t) j := by
  intro m
  induction m with
  | zero =>
    intro S k hk hm h1 h2 n hn
    obtain ⟨n, rfl⟩ : ∃ k, n = k + 1 := ⟨n - 1, by omega⟩
    refine ⟨S, ?_, h1, h2, fun _ _ _ => rfl, fun t t0 t1 => by omega⟩
    show C_cp239_4_b2 _ _ _ = _
    unfold C_cp239_4_b2
    rw [gd_pos (by omega), if_neg (by omega)]
  | succ m ih =>
    intro S k hk hm h1 h2 n hn
    obtain ⟨n, rfl⟩ : ∃ k, n = k + 1 := ⟨n - 1, by omega⟩
    obtain ⟨S', c1, c2, c3, c4, c5⟩ := ih (ccp S (239 + 1 + k) (4 + 1 + k) 4) (k + 1) (by omega) (by omega) h1 (fun q hq => by rw [ccp_ne _ _ (by omega)]; exact h2 q hq) n (by omega)
    refine ⟨S', ?_, c2, c3, fun t t0 t1 => ?_, fun t t0 t1 j j0 j1 => ?_⟩
    · rw [← c1]
      show C_cp239_4_b2 _ _ _ = _
      unfold C_cp239_4_b2
      rw [gd_pos (by omega), if_pos (by omega), gd_pos (by omega), gd_pos (by omega), gd_pos (by omega), nm_eq, nm_eq]
    · rw [c4 t t0 (by omega), ccp_ne _ _ (by omega)]
    · by_cases e : t = k
      · rw [e, c4 k hk (by omega), show (5 : Int) + k = 4 + 1 + k by omega, ccp_at, if_pos ⟨j0, j1⟩, h2 _ (by omega), show (239 : Int) + 1 + k = 240 + k by omega]
      · exact c5 t (by omega) t1 j j0 j1
theorem cp239_4_e (S : yS) : ∃ S', C_cp239_4 S = some S' ∧ S'.1 = S.1 ∧ (∀ q, ¬ (5 ≤ q ∧ q < 11) → S'.2 q = S.2 q) ∧ ∀ t, 0 ≤ t → t < 6 → ∀ j, 0 ≤ j → j < 4 → S'.2 (5 + t) j = S.2 (240 + t) j := by
  obtain ⟨S', c1, c2, c3, c4, c5⟩ := cp239_4_L S 6 S 0 (Int.le_refl _) (by decide) rfl (fun _ _ => rfl) FU (by decide)
  exact ⟨S', c1, c2, c3, c5⟩
theorem cp11_246_L (S0 : yS) : ∀ (m : Nat) (S : yS) (k : Int), 0 ≤ k → 16 - k = m → S.1 = S0.1 → (∀ q, ¬ (247 ≤ q ∧ q < 263) → S.2 q = S0.2 q) → ∀ n, m < n → ∃ S', C_cp11_246_L2 n S k = some S' ∧ S'.1 = S0.1 ∧ (∀ q, ¬ (247 ≤ q ∧ q < 263) → S'.2 q = S0.2 q) ∧ (∀ t, 0 ≤ t → t < k → S'.2 (247 + t) = S.2 (247 + t)) ∧ ∀ t, k ≤ t → t < 16 → ∀ j, 0 ≤ j → j < 2 → S'.2 (247 + t) j = S0.2 (12 + t) j := by
  intro m
  induction m with
  | zero =>
    intro S k hk hm h1 h2 n hn
    obtain ⟨n, rfl⟩ : ∃ k, n = k + 1 := ⟨n - 1, by omega⟩
    refine ⟨S, ?_, h1, h2, fun _ _ _ => rfl, fun t t0 t1 => by omega⟩
    show C_cp11_246_b2 _ _ _ = _
    unfold C_cp11_246_b2
    rw [gd_pos (by omega), if_neg (by omega)]
  | succ m ih =>
    intro S k hk hm h1 h2 n hn
    obtain ⟨n, rfl⟩ : ∃ k, n = k + 1 := ⟨n - 1, by omega⟩
    obtain ⟨S', c1, c2, c3, c4, c5⟩ := ih (ccp S (11 + 1 + k) (246 + 1 + k) 2) (k + 1) (by omega) (by omega) h1 (fun q hq => by rw [ccp_ne _ _ (by omega)]; exact h2 q hq) n (by omega)
    refine ⟨S', ?_, c2, c3, fun t t0 t1 => ?_, fun t t0 t1 j j0 j1 => ?_⟩
    · rw [← c1]
      show C_cp11_246_b2 _ _ _ = _
      unfold C_cp11_246_b2
      rw [gd_pos (by omega), if_pos (by omega), gd_pos (by omega), gd_pos (by omega), gd_pos (by omega), nm_eq, nm_eq]
    · rw [c4 t t0 (by omega), ccp_ne _ _ (by omega)]
    · by_cases e : t = k
      · rw [e, c4 k hk (by omega), show (247 : Int) + k = 246 + 1 + k by omega, ccp_at, if_pos ⟨j0, j1⟩, h2 _ (by omega), show (11 : Int) + 1 + k = 12 + k by omega]
      · exact c5 t (by omega) t1 j j0 j1
theorem cp11_246_e (S : yS) : ∃ S', C_cp11_246 S = some S' ∧ S'.1 = S.1 ∧ (∀ q, ¬ (247 ≤ q ∧ q < 263) → S'.2 q = S.2 q) ∧ ∀ t, 0 ≤ t → t < 16 → ∀ j, 0 ≤ j → j < 2 → S'.2 (247 + t) j = S.2 (12 + t) j := by
  obtain ⟨S', c1, c2, c3, c4, c5⟩ := cp11_246_L S 16 S 0 (Int.le_refl _) (by decide) rfl (fun _ _ => rfl) FU (by decide)
  exact ⟨S', c1, c2, c3, c5⟩
theorem cp246_11_L (S0 : yS) : ∀ (m : Nat) (S : yS) (k : Int), 0 ≤ k → 16 - k = m → S.1 = S0.1 → (∀ q, ¬ (12 ≤ q ∧ q < 28) → S.2 q = S0.2 q) → ∀ n, m < n → ∃ S', C_cp246_11_L2 n S k = some S' ∧ S'.1 = S0.1 ∧ (∀ q, ¬ (12 ≤ q ∧ q < 28) → S'.2 q = S0.2 q) ∧ (∀ t, 0 ≤ t → t < k → S'.2 (12 + t) = S.2 (12 + t)) ∧ ∀ t, k ≤ t → t < 16 → ∀ j, 0 ≤ j → j < 2 → S'.2 (12 + t) j = S0.2 (247 + t) j := by
  intro m
  induction m with
  | zero =>
    intro S k hk hm h1 h2 n hn
    obtain ⟨n, rfl⟩ : ∃ k, n = k + 1 := ⟨n - 1, by omega⟩
    refine ⟨S, ?_, h1, h2, fun _ _ _ => rfl, fun t t0 t1 => by omega⟩
    show C_cp246_11_b2 _ _ _ = _
    unfold C_cp246_11_b2
    rw [gd_pos (by omega), if_neg (by omega)]
  | succ m ih =>
    intro S k hk hm h1 h2 n hn
    obtain ⟨n, rfl⟩ : ∃ k, n = k + 1 := ⟨n - 1, by omega⟩
    obtain ⟨S', c1, c2, c3, c4, c5⟩ := ih (ccp S (246 + 1 + k) (11 + 1 + k) 2) (k + 1) (by omega) (by omega) h1 (fun q hq => by rw [ccp_ne _ _ (by omega)]; exact h2 q hq) n (by omega)
    refine ⟨S', ?_, c2, c3, fun t t0 t1 => ?_, fun t t0 t1 j j0 j1 => ?_⟩
    · rw [← c1]
      show C_cp246_11_b2 _ _ _ = _
      unfold C_cp246_11_b2
      rw [gd_pos (by omega), if_pos (by omega), gd_pos (by omega), gd_pos (by omega), gd_pos (by omega), nm_eq, nm_eq]
    · rw [c4 t t0 (by omega), ccp_ne _ _ (by omega)]
    · by_cases e : t = k
      · rw [e, c4 k hk (by omega), show (12 : Int) + k = 11 + 1 + k by omega, ccp_at, if_pos ⟨j0, j1⟩, h2 _ (by omega), show (246 : Int) + 1 + k = 247 + k by omega]
      · exact c5 t (by omega) t1 j j0 j1
theorem cp246_11_e (S : yS) : ∃ S', C_cp246_11 S = some S' ∧ S'.1 = S.1 ∧ (∀ q, ¬ (12 ≤ q ∧ q < 28) → S'.2 q = S.2 q) ∧ ∀ t, 0 ≤ t → t < 16 → ∀ j, 0 ≤ j → j < 2 → S'.2 (12 + t) j = S.2 (247 + t) j := by
  obtain ⟨S', c1, c2, c3, c4, c5⟩ := cp246_11_L S 16 S 0 (Int.le_refl _) (by decide) rfl (fun _ _ => rfl) FU (by decide)
  exact ⟨S', c1, c2, c3, c5⟩
theorem cp28_263_L (S0 : yS) : ∀ (m : Nat) (S : yS) (k : Int), 0 ≤ k → 16 - k = m → S.1 = S0.1 → (∀ q, ¬ (264 ≤ q ∧ q < 280) → S.2 q = S0.2 q) → ∀ n, m < n → ∃ S', C_cp28_263_L2 n S k = some S' ∧ S'.1 = S0.1 ∧ (∀ q, ¬ (264 ≤ q ∧ q < 280) → S'.2 q = S0.2 q) ∧ (∀ t, 0 ≤ t → t < k → S'.2 (264 + t) = S.2 (264 + t)) ∧ ∀ t, k ≤ t → t < 16 → ∀ j, 0 ≤ j → j < 3 → S'.2 (264 + t) j = S0.2 (29 + t) j := by
  intro m
  induction m with
  | zero =>
    intro S k hk hm h1 h2 n hn
    obtain ⟨n, rfl⟩ : ∃ k, n = k + 1 := ⟨n - 1, by omega⟩
    refine ⟨S, ?_, h1, h2, fun _ _ _ => rfl, fun t t0 t1 => by omega⟩
    show C_cp28_263_b2 _ _ _ = _
    unfold C_cp28_263_b2
    rw [gd_pos (by omega), if_neg (by omega)]
  | succ m ih =>
    intro S k hk hm h1 h2 n hn
    obtain ⟨n, rfl⟩ : ∃ k, n = k + 1 := ⟨n - 1, by omega⟩
    obtain ⟨S', c1, c2, c3, c4, c5⟩ := ih (ccp S (28 + 1 + k) (263 + 1 + k) 3) (k + 1) (by omega) (by omega) h1 (fun q hq => by rw [ccp_ne _ _ (by omega)]; exact h2 q hq) n (by omega)
    refine ⟨S', ?_, c2, c3, fun t t0 t1 => ?_, fun t t0 t1 j j0 j1 => ?_⟩
    · rw [← c1]
      show C_cp28_263_b2 _ _ _ = _
      unfold C_cp28_263_b2
      rw [gd_pos (by omega), if_pos (by omega), gd_pos (by omega), gd_pos (by omega), gd_pos (by omega), nm_eq, nm_eq]
    · rw [c4 t t0 (by omega), ccp_ne _ _ (by omega)]
    · by_cases e : t = k
      · rw [e, c4 k hk (by omega), show (264 : Int) + k = 263 + 1 + k by omega, ccp_at, if_pos ⟨j0, j1⟩, h2 _ (by omega), show (28 : Int) + 1 + k = 29 + k by omega]
      · exact c5 t (by omega) t1 j j0 j1
theorem cp28_263_e (S : yS) : ∃ S', C_cp28_263 S = some S' ∧ S'.1 = S.1 ∧ (∀ q, ¬ (264 ≤ q ∧ q < 280) → S'.2 q = S.2 q) ∧ ∀ t, 0 ≤ t → t < 16 → ∀ j, 0 ≤ j → j < 3 → S'.2 (264 + t) j = S.2 (29 + t) j := by
  obtain ⟨S', c1, c2, c3, c4, c5⟩ := cp28_263_L S 16 S 0 (Int.le_refl _) (by decide) rfl (fun _ _ => rfl) FU (by decide)
  exact ⟨S', c1, c2, c3, c5⟩
theorem cp263_28_L (S0 : yS) : ∀ (m : Nat) (S : yS) (k : Int), 0 ≤ k → 16 - k = m → S.1 = S0.1 → (∀ q, ¬ (29 ≤ q ∧ q < 45) → S.2 q = S0.2 q) → ∀ n, m < n → ∃ S', C_cp263_28_L2 n S k = some S' ∧ S'.1 = S0.1 ∧ (∀ q, ¬ (29 ≤ q ∧ q < 45) → S'.2 q = S0.2 q) ∧ (∀ t, 0 ≤ t → t < k → S'.2 (29 + t) = S.2 (29 + t)) ∧ ∀ t, k ≤ t → t < 16 → ∀ j, 0 ≤ j → j < 3 → S'.2 (29 + t) j = S0.2 (264 + t) j := by
  intro m
  induction m with
  | zero =>
    intro S k hk hm h1 h2 n hn
    obtain ⟨n, rfl⟩ : ∃ k, n = k + 1 := ⟨n - 1, by omega⟩
    refine ⟨S, ?_, h1, h2, fun _ _ _ => rfl, fun t t0 t1 => by omega⟩
    show C_cp263_28_b2 _ _ _ = _
    unfold C_cp263_28_b2
    rw [gd_pos (by omega), if_neg (by omega)]
  | succ m ih =>
    intro S k hk hm h1 h2 n hn
    obtain ⟨n, rfl⟩ : ∃ k, n = k + 1 := ⟨n - 1, by omega⟩
    obtain ⟨S', c1, c2, c3, c4, c5⟩ := ih (ccp S (263 + 1 + k) (28 + 1 + k) 3) (k + 1) (by omega) (by omega) h1 (fun q hq => by rw [ccp_ne _ _ (by omega)]; exact h2 q hq) n (by omega)
    refine ⟨S', ?_, c2, c3, fun t t0 t1 => ?_, fun t t0 t1 j j0 j1 => ?_⟩
    · rw [← c1]
      show C_cp263_28_b2 _ _ _ = _
      unfold C_cp263_28_b2
      rw [gd_pos (by omega), if_pos (by omega), gd_pos (by omega), gd_pos (by omega), gd_pos (by omega), nm_eq, nm_eq]
    · rw [c4 t t0 (by omega), ccp_ne _ _ (by omega)]
    · by_cases e : t = k
      · rw [e, c4 k hk (by omega), show (29 : Int) + k = 28 + 1 + k by omega, ccp_at, if_pos ⟨j0, j1⟩, h2 _ (by omega), show (263 : Int) + 1 + k = 264 + k by omega]
      · exact c5 t (by omega) t1 j j0 j1
theorem cp263_28_e (S : yS) : ∃ S', C_cp263_28 S = some S' ∧ S'.1 = S.1 ∧ (∀ q, ¬ (29 ≤ q ∧ q < 45) → S'.2 q = S.2 q) ∧ ∀ t, 0 ≤ t → t < 16 → ∀ j, 0 ≤ j → j < 3 → S'.2 (29 + t) j = S.2 (264 + t) j := by
  obtain ⟨S', c1, c2, c3, c4, c5⟩ := cp263_28_L S 16 S 0 (Int.le_refl _) (by decide) rfl (fun _ _ => rfl) FU (by decide)
  exact ⟨S', c1, c2, c3, c5⟩
theorem cp45_280_L (S0 : yS) : ∀ (m : Nat) (S : yS) (k : Int), 0 ≤ k → 6 - k = m → S.1 = S0.1 → (∀ q, ¬ (281 ≤ q ∧ q < 287) → S.2 q = S0.2 q) → ∀ n, m < n → ∃ S', C_cp45_280_L2 n S k = some S' ∧ S'.1 = S0.1 ∧ (∀ q, ¬ (281 ≤ q ∧ q < 287) → S'.2 q = S0.2 q) ∧ (∀ t, 0 ≤ t → t < k → S'.2 (281 + t) = S.2 (281 + t)) ∧ ∀ t, k ≤ t → t < 6 → ∀ j, 0 ≤ j → j < 24 → S'.2 (281 + t) j = S0.2 (46 + t) j := by
  intro m
  induction m with
  | zero =>
    intro S k hk hm h1 h2 n hn
    obtain ⟨n, rfl⟩ : ∃ k, n = k + 1 := ⟨n - 1, by omega⟩
    refine ⟨S, ?_, h1, h2, fun _ _ _ => rfl, fun t t0 t1 => by omega⟩
    show C_cp45_280_b2 _ _ _ = _
    unfold C_cp45_280_b2
    rw [gd_pos (by omega), if_neg (by omega)]
  | succ m ih =>
    intro S k hk hm h1 h2 n hn
    obtain ⟨n, rfl⟩ : ∃ k, n = k + 1 := ⟨n - 1, by omega⟩
    obtain ⟨S', c1, c2, c3, c4, c5⟩ := ih (ccp S (45 + 1 + k) (280 + 1 + k) 24) (k + 1) (by omega) (by omega) h1 (fun q hq => by rw [ccp_ne _ _ (by omega)]; exact h2 q hq) n (by omega)
    refine ⟨S', ?_, c2, c3, fun t t0 t1 => ?_, fun t t0 t1 j j0 j1 => ?_⟩
    · rw [← c1]
      show C_cp45_280_b2 _ _ _ = _
      unfold C_cp45_280_b2
      rw [gd_pos (by omega), if_pos (by omega), gd_pos (by omega), gd_pos (by omega), gd_pos (by omega), nm_eq, nm_eq]
    · rw [c4 t t0 (by omega), ccp_ne _ _ (by omega)]
    · by_cases e : t = k
      · rw [e, c4 k hk (by omega), show (281 : Int) + k = 280 + 1 + k by omega, ccp_at, if_pos ⟨j0, j1⟩, h2 _ (by omega), show (45 : Int) + 1 + k = 46 + k by omega]
      · exact c5 t (by omega) t1 j j0 j1
theorem cp45_280_e (S : yS) : ∃ S', C_cp45_280 S = some S' ∧ S'.1 = S.1 ∧ (∀ q, ¬ (281 ≤ q ∧ q < 287) → S'.2 q = S.2 q) ∧ ∀ t, 0 ≤ t → t < 6 → ∀ j, 0 ≤ j → j < 24 → S'.2 (281 + t) j = S.2 (46 + t) j := by
  obtain ⟨S', c1, c2, c3, c4, c5⟩ := cp45_280_L S 6 S 0 (Int.le_refl _) (by decide) rfl (fun _ _ => rfl) FU (by decide)
  exact ⟨S', c1, c2, c3, c5⟩
theorem cp280_45_L (S0 : yS) : ∀ (m : Nat) (S : yS) (k : Int), 0 ≤ k → 6 - k = m → S.1 = S0.1 → (∀ q, ¬ (46 ≤ q ∧ q < 52) → S.2 q = S0.2 q) → ∀ n, m < n → ∃ S', C_cp280_45_L2 n S k = some S' ∧ S'.1 = S0.1 ∧ (∀ q, ¬ (46 ≤ q ∧ q < 52) → S'.2 q = S0.2 q) ∧ (∀ t, 0 ≤ t → t < k → S'.2 (46 + t) = S.2 (46 + t)) ∧ ∀ t, k ≤ t → t < 6 → ∀ j, 0 ≤ j → j < 24 → S'.2 (46 + t) j = S0.2 (281 + t) j := by
  intro m
  induction m with
  | zero =>
    intro S k hk hm h1 h2 n hn
    obtain ⟨n, rfl⟩ : ∃ k, n = k + 1 := ⟨n - 1, by omega⟩
    refine ⟨S, ?_, h1, h2, fun _ _ _ => rfl, fun t t0 t1 => by omega⟩
    show C_cp280_45_b2 _ _ _ = _
    unfold C_cp280_45_b2
    rw [gd_pos (by omega), if_neg (by omega)]
  | succ m ih =>
    intro S k hk hm h1 h2 n hn
    obtain ⟨n, rfl⟩ : ∃ k, n = k + 1 := ⟨n - 1, by omega⟩
    obtain ⟨S', c1, c2, c3, c4, c5⟩ := ih (ccp S (280 + 1 + k) (45 + 1 + k) 24) (k + 1) (by omega) (by omega) h1 (fun q hq => by rw [ccp_ne _ _ (by omega)]; exact h2 q hq) n (by omega)
    refine ⟨S', ?_, c2, c3, fun t t0 t1 => ?_, fun t t0 t1 j j0 j1 => ?_⟩
    · rw [← c1]
      show C_cp280_45_b2 _ _ _ = _
      unfold C_cp280_45_b2
      rw [gd_pos (by omega), if_pos (by omega), gd_pos (by omega), gd_pos (by omega), gd_pos (by omega), nm_eq, nm_eq]
    · rw [c4 t t0 (by omega), ccp_ne _ _ (by omega)]
    · by_cases e : t = k
      · rw [e, c4 k hk (by omega), show (46 : Int) + k = 45 + 1 + k by omega, ccp_at, if_pos ⟨j0, j1⟩, h2 _ (by omega), show (280 : Int) + 1 + k = 281 + k by omega]
      · exact c5 t (by omega) t1 j j0 j1
theorem cp280_45_e (S : yS) : ∃ S', C_cp280_45 S = some S' ∧ S'.1 = S.1 ∧ (∀ q, ¬ (46 ≤ q ∧ q < 52) → S'.2 q = S.2 q) ∧ ∀ t, 0 ≤ t → t < 6 → ∀ j, 0 ≤ j → j < 24 → S'.2 (46 + t) j = S.2 (281 + t) j := by
  obtain ⟨S', c1, c2, c3, c4, c5⟩ := cp280_45_L S 6 S 0 (Int.le_refl _) (by decide) rfl (fun _ _ => rfl) FU (by decide)
  exact ⟨S', c1, c2, c3, c5⟩
theorem cp52_287_L (S0 : yS) : ∀ (m : Nat) (S : yS) (k : Int), 0 ≤ k → 60 - k = m → S.1 = S0.1 → (∀ q, ¬ (288 ≤ q ∧ q < 348) → S.2 q = S0.2 q) → ∀ n, m < n → ∃ S', C_cp52_287_L2 n S k = some S' ∧ S'.1 = S0.1 ∧ (∀ q, ¬ (288 ≤ q ∧ q < 348) → S'.2 q = S0.2 q) ∧ (∀ t, 0 ≤ t → t < k → S'.2 (288 + t) = S.2 (288 + t)) ∧ ∀ t, k ≤ t → t < 60 → ∀ j, 0 ≤ j → j < 5 → S'.2 (288 + t) j = S0.2 (53 + t) j := by
  intro m
  induction m with
  | zero =>
    intro S k hk hm h1 h2 n hn
    obtain ⟨n, rfl⟩ : ∃ k, n = k + 1 := ⟨n - 1, by omega⟩
    refine ⟨S, ?_, h1, h2, fun _ _ _ => rfl, fun t t0 t1 => by omega⟩
    show C_cp52_287_b2 _ _ _ = _
    unfold C_cp52_287_b2
    rw [gd_pos (by omega), if_neg (by omega)]
  | succ m ih =>
    intro S k hk hm h1 h2 n hn
    obtain ⟨n, rfl⟩ : ∃ k, n = k + 1 := ⟨n - 1, by omega⟩
    obtain ⟨S', c1, c2, c3, c4, c5⟩ := ih (ccp S (52 + 1 + k) (287 + 1 + k) 5) (k + 1) (by omega) (by omega) h1 (fun q hq => by rw [ccp_ne _ _ (by omega)]; exact h2 q hq) n (by omega)
    refine ⟨S', ?_, c2, c3, fun t t0 t1 => ?_, fun t t0 t1 j j0 j1 => ?_⟩
    · rw [← c1]
      show C_cp52_287_b2 _ _ _ = _
      unfold C_cp52_287_b2
      rw [gd_pos (by omega), if_pos (by omega), gd_pos (by omega), gd_pos (by omega), gd_pos (by omega), nm_eq, nm_eq]
    · rw [c4 t t0 (by omega), ccp_ne _ _ (by omega)]
    · by_cases e : t = k
      · rw [e, c4 k hk (by omega), show (288 : Int) + k = 287 + 1 + k by omega, ccp_at, if_pos ⟨j0, j1⟩, h2 _ (by omega), show (52 : Int) + 1 + k = 53 + k by omega]
      · exact c5 t (by omega) t1 j j0 j1
theorem cp52_287_e (S : yS) : ∃ S', C_cp52_287 S = some S' ∧ S'.1 = S.1 ∧ (∀ q, ¬ (288 ≤ q ∧ q < 348) → S'.2 q = S.2 q) ∧ ∀ t, 0 ≤ t → t < 60 → ∀ j, 0 ≤ j → j < 5 → S'.2 (288 + t) j = S.2 (53 + t) j := by
  obtain ⟨S', c1, c2, c3, c4, c5⟩ := cp52_287_L S 60 S 0 (Int.le_refl _) (by decide) rfl (fun _ _ => rfl) FU (by decide)
  exact ⟨S', c1, c2, c3, c5⟩
theorem cp287_52_L (S0 : yS) : ∀ (m : Nat) (S : yS) (k : Int), 0 ≤ k → 60 - k = m → S.1 = S0.1 → (∀ q, ¬ (53 ≤ q ∧ q < 113) → S.2 q = S0.2 q) → ∀ n, m < n → ∃ S', C_cp287_52_L2 n S k = some S' ∧ S'.1 = S0.1 ∧ (∀ q, ¬ (53 ≤ q ∧ q < 113) → S'.2 q = S0.2 q) ∧ (∀ t, 0 ≤ t → t < k → S'.2 (53 + t) = S.2 (53 + t)) ∧ ∀ t, k ≤ t → t < 60 → ∀ j, 0 ≤ j → j < 5 → S'.2 (53 + t) j = S0.2 (288 + t) j := by
  intro m
  induction m with
  | zero =>
    intro S k hk hm h1 h2 n hn
    obtain ⟨n, rfl⟩ : ∃ k, n = k + 1 := ⟨n - 1, by omega⟩
    refine ⟨S, ?_, h1, h2, fun _ _ _ => rfl, fun t t0 t1 => by omega⟩
    show C_cp287_52_b2 _ _ _ = _
    unfold C_cp287_52_b2
    rw [gd_pos (by omega), if_neg (by omega)]
  | succ m ih =>
    intro S k hk hm h1 h2 n hn
    obtain ⟨n, rfl⟩ : ∃ k, n = k + 1 := ⟨n - 1, by omega⟩
    obtain ⟨S', c1, c2, c3, c4, c5⟩ := ih (ccp S (287 + 1 + k) (52 + 1 + k) 5) (k + 1) (by omega) (by omega) h1 (fun q hq => by rw [ccp_ne _ _ (by omega)]; exact h2 q hq) n (by omega)
    refine ⟨S', ?_, c2, c3, fun t t0 t1 => ?_, fun t t0 t1 j j0 j1 => ?_⟩
    · rw [← c1]
      show C_cp287_52_b2 _ _ _ = _
      unfold C_cp287_52_b2
      rw [gd_pos (by omega), if_pos (by omega), gd_pos (by omega), gd_pos (by omega), gd_pos (by omega), nm_eq, nm_eq]
    · rw [c4 t t0 (by omega), ccp_ne _ _ (by omega)]
    · by_cases e : t = k
      · rw [e, c4 k hk (by omega), show (53 : Int) + k = 52 + 1 + k by omega, ccp_at, if_pos ⟨j0, j1⟩, h2 _ (by omega), show (287 : Int) + 1 + k = 288 + k by omega]
      · exact c5 t (by omega) t1 j j0 j1
theorem cp287_52_e (S : yS) : ∃ S', C_cp287_52 S = some S' ∧ S'.1 = S.1 ∧ (∀ q, ¬ (53 ≤ q ∧ q < 113) → S'.2 q = S.2 q) ∧ ∀ t, 0 ≤ t → t < 60 → ∀ j, 0 ≤ j → j < 5 → S'.2 (53 + t) j = S.2 (288 + t) j := by
  obtain ⟨S', c1, c2, c3, c4, c5⟩ := cp287_52_L S 60 S 0 (Int.le_refl _) (by decide) rfl (fun _ _ => rfl) FU (by decide)
  exact ⟨S', c1, c2, c3, c5⟩
theorem cp113_348_L (S0 : yS) : ∀ (m : Nat) (S : yS) (k : Int), 0 ≤ k → 60 - k = m → S.1 = S0.1 → (∀ q, ¬ (349 ≤ q ∧ q < 409) → S.2 q = S0.2 q) → ∀ n, m < n → ∃ S', C_cp113_348_L2 n S k = some S' ∧ S'.1 = S0.1 ∧ (∀ q, ¬ (349 ≤ q ∧ q < 409) → S'.2 q = S0.2 q) ∧ (∀ t, 0 ≤ t → t < k → S'.2 (349 + t) = S.2 (349 + t)) ∧ ∀ t, k ≤ t → t < 60 → ∀ j, 0 ≤ j → j < 16 → S'.2 (349 + t) j = S0.2 (114 + t) j := by
  intro m
  induction m with
  | zero =>
    intro S k hk hm h1 h2 n hn
    obtain ⟨n, rfl⟩ : ∃ k, n = k + 1 := ⟨n - 1, by omega⟩
    refine ⟨S, ?_, h1, h2, fun _ _ _ => rfl, fun t t0 t1 => by omega⟩
    show C_cp113_348_b2 _ _ _ = _
    unfold C_cp113_348_b2
    rw [gd_pos (by omega), if_neg (by omega)]
  | succ m ih =>
    intro S k hk hm h1 h2 n hn
    obtain ⟨n, rfl⟩ : ∃ k, n = k + 1 := ⟨n - 1, by omega⟩
    obtain ⟨S', c1, c2, c3, c4, c5⟩ := ih (ccp S (113 + 1 + k) (348 + 1 + k) 16) (k + 1) (by omega) (by omega) h1 (fun q hq => by rw [ccp_ne _ _ (by omega)]; exact h2 q hq) n (by omega)
    refine ⟨S', ?_, c2, c3, fun t t0 t1 => ?_, fun t t0 t1 j j0 j1 => ?_⟩
    · rw [← c1]
      show C_cp113_348_b2 _ _ _ = _
      unfold C_cp113_348_b2
      rw [gd_pos (by omega), if_pos (by omega), gd_pos (by omega), gd_pos (by omega), gd_pos (by omega), nm_eq, nm_eq]
    · rw [c4 t t0 (by omega), ccp_ne _ _ (by omega)]
    · by_cases e : t = k
      · rw [e, c4 k hk (by omega), show (349 : Int) + k = 348 + 1 + k by omega, ccp_at, if_pos ⟨j0, j1⟩, h2 _ (by omega), show (113 : Int) + 1 + k = 114 + k by omega]
      · exact c5 t (by omega) t1 j j0 j1
theorem cp113_348_e (S : yS) : ∃ S', C_cp113_348 S = some S' ∧ S'.1 = S.1 ∧ (∀ q, ¬ (349 ≤ q ∧ q < 409) → S'.2 q = S.2 q) ∧ ∀ t, 0 ≤ t → t < 60 → ∀ j, 0 ≤ j → j < 16 → S'.2 (349 + t) j = S.2 (114 + t) j := by
  obtain ⟨S', c1, c2, c3, c4, c5⟩ := cp113_348_L S 60 S 0 (Int.le_refl _) (by decide) rfl (fun _ _ => rfl) FU (by decide)
  exact ⟨S', c1, c2, c3, c5⟩
theorem cp348_113_L (S0 : yS) : ∀ (m : Nat) (S : yS) (k : Int), 0 ≤ k → 60 - k = m → S.1 = S0.1 → (∀ q, ¬ (114 ≤ q ∧ q < 174) → S.2 q = S0.2 q) → ∀ n, m < n → ∃ S', C_cp348_113_L2 n S k = some S' ∧ S'.1 = S0.1 ∧ (∀ q, ¬ (114 ≤ q ∧ q < 174) → S'.2 q = S0.2 q) ∧ (∀ t, 0 ≤ t → t < k → S'.2 (114 + t) = S.2 (114 + t)) ∧ ∀ t, k ≤ t → t < 60 → ∀ j, 0 ≤ j → j < 16 → S'.2 (114 + t) j = S0.2 (349 + t) j := by
  intro m
  induction m with
  | zero =>
    intro S k hk hm h1 h2 n hn
    obtain ⟨n, rfl⟩ : ∃ k, n = k + 1 := ⟨n - 1, by omega⟩
    refine ⟨S, ?_, h1, h2, fun _ _ _ => rfl, fun t t0 t1 => by omega⟩
    show C_cp348_113_b2 _ _ _ = _
    unfold C_cp348_113_b2
    rw [gd_pos (by omega), if_neg (by omega)]
  | succ m ih =>
    intro S k hk hm h1 h2 n hn
    obtain ⟨n, rfl⟩ : ∃ k, n = k + 1 := ⟨n - 1, by omega⟩
    obtain ⟨S', c1, c2, c3, c4, c5⟩ := ih (ccp S (348 + 1 + k) (113 + 1 + k) 16) (k + 1) (by omega) (by omega) h1 (fun q hq => by rw [ccp_ne _ _ (by omega)]; exact h2 q hq) n (by omega)
    refine ⟨S', ?_, c2, c3, fun t t0 t1 => ?_, fun t t0 t1 j j0 j1 => ?_⟩
    · rw [← c1]
      show C_cp348_113_b2 _ _ _ = _
      unfold C_cp348_113_b2
      rw [gd_pos (by omega), if_pos (by omega), gd_pos (by omega), gd_pos (by omega), gd_pos (by omega), nm_eq, nm_eq]
    · rw [c4 t t0 (by omega), ccp_ne _ _ (by omega)]
    · by_cases e : t = k
      · rw [e, c4 k hk (by omega), show (114 : Int) + k = 113 + 1 + k by omega, ccp_at, if_pos ⟨j0, j1⟩, h2 _ (by omega), show (348 : Int) + 1 + k = 349 + k by omega]
      · exact c5 t (by omega) t1 j j0 j1
theorem cp348_113_e (S : yS) : ∃ S', C_cp348_113 S = some S' ∧ S'.1 = S.1 ∧ (∀ q, ¬ (114 ≤ q ∧ q < 174) → S'.2 q = S.2 q) ∧ ∀ t, 0 ≤ t → t < 60 → ∀ j, 0 ≤ j → j < 16 → S'.2 (114 + t) j = S.2 (349 + t) j := by
  obtain ⟨S', c1, c2, c3, c4, c5⟩ := cp348_113_L S 60 S 0 (Int.le_refl _) (by decide) rfl (fun _ _ => rfl) FU (by decide)
  exact ⟨S', c1, c2, c3, c5⟩
theorem cp174_409_L (S0 : yS) : ∀ (m : Nat) (S : yS) (k : Int), 0 ≤ k → 60 - k = m → S.1 = S0.1 → (∀ q, ¬ (410 ≤ q ∧ q < 470) → S.2 q = S0.2 q) → ∀ n, m < n → ∃ S', C_cp174_409_L2 n S k = some S' ∧ S'.1 = S0.1 ∧ (∀ q, ¬ (410 ≤ q ∧ q < 470) → S'.2 q = S0.2 q) ∧ (∀ t, 0 ≤ t → t < k → S'.2 (410 + t) = S.2 (410 + t)) ∧ ∀ t, k ≤ t → t < 60 → ∀ j, 0 ≤ j → j < 16 → S'.2 (410 + t) j = S0.2 (175 + t) j := by
  intro m
  induction m with
  | zero =>
    intro S k hk hm h1 h2 n hn
    obtain ⟨n, rfl⟩ : ∃ k, n = k + 1 := ⟨n - 1, by omega⟩
    refine ⟨S, ?_, h1, h2, fun _ _ _ => rfl, fun t t0 t1 => by omega⟩
    show C_cp174_409_b2 _ _ _ = _
    unfold C_cp174_409_b2
    rw [gd_pos (by omega), if_neg (by omega)]
  | succ m ih =>
    intro S k hk hm h1 h2 n hn
    obtain ⟨n, rfl⟩ : ∃ k, n = k + 1 := ⟨n - 1, by omega⟩
    obtain ⟨S', c1, c2, c3, c4, c5⟩ := ih (ccp S (174 + 1 + k) (409 + 1 + k) 16) (k + 1) (by omega) (by omega) h1 (fun q hq => by rw [ccp_ne _ _ (by omega)]; exact h2 q hq) n (by omega)
    refine ⟨S', ?_, c2, c3, fun t t0 t1 => ?_, fun t t0 t1 j j0 j1 => ?_⟩
    · rw [← c1]
      show C_cp174_409_b2 _ _ _ = _
      unfold C_cp174_409_b2
      rw [gd_pos (by omega), if_pos (by omega), gd_pos (by omega), gd_pos (by omega), gd_pos (by omega), nm_eq, nm_eq]
    · rw [c4 t t0 (by omega), ccp_ne _ _ (by omega)]
    · by_cases e : t = k
      · rw [e, c4 k hk (by omega), show (410 : Int) + k = 409 + 1 + k by omega, ccp_at, if_pos ⟨j0, j1⟩, h2 _ (by omega), show (174 : Int) + 1 + k = 175 + k by omega]
      · exact c5 t (by omega) t1 j j0 j1
theorem cp174_409_e (S : yS) : ∃ S', C_cp174_409 S = some S' ∧ S'.1 = S.1 ∧ (∀ q, ¬ (410 ≤ q ∧ q < 470) → S'.2 q = S.2 q) ∧ ∀ t, 0 ≤ t → t < 60 → ∀ j, 0 ≤ j → j < 16 → S'.2 (410 + t) j = S.2 (175 + t) j := by
  obtain ⟨S', c1, c2, c3, c4, c5⟩ := cp174_409_L S 60 S 0 (Int.le_refl _) (by decide) rfl (fun _ _ => rfl) FU (by decide)
  exact ⟨S', c1, c2, c3, c5⟩
theorem cp409_174_L (S0 : yS) : ∀ (m : Nat) (S : yS) (k : Int), 0 ≤ k → 60 - k = m → S.1 = S0.1 → (∀ q, ¬ (175 ≤ q ∧ q < 235) → S.2 q = S0.2 q) → ∀ n, m < n → ∃ S', C_cp409_174_L2 n S k = some S' ∧ S'.1 = S0.1 ∧ (∀ q, ¬ (175 ≤ q ∧ q < 235) → S'.2 q = S0.2 q) ∧ (∀ t, 0 ≤ t → t < k → S'.2 (175 + t) = S.2 (175 + t)) ∧ ∀ t, k ≤ t → t < 60 → ∀ j, 0 ≤ j → j < 16 → S'.2 (175 + t) j = S0.2 (410 + t) j := by
  intro m
  induction m with
  | zero =>
    intro S k hk hm h1 h2 n hn
    obtain ⟨n, rfl⟩ : ∃ k, n = k + 1 := ⟨n - 1, by omega⟩
    refine ⟨S, ?_, h1, h2, fun _ _ _ => rfl, fun t t0 t1 => by omega⟩
    show C_cp409_174_b2 _ _ _ = _
    unfold C_cp409_174_b2
    rw [gd_pos (by omega), if_neg (by omega)]
  | succ m ih =>
    intro S k hk hm h1 h2 n hn
    obtain ⟨n, rfl⟩ : ∃ k, n = k + 1 := ⟨n - 1, by omega⟩
    obtain ⟨S', c1, c2, c3, c4, c5⟩ := ih (ccp S (409 + 1 + k) (174 + 1 + k) 16) (k + 1) (by omega) (by omega) h1 (fun q hq => by rw [ccp_ne _ _ (by omega)]; exact h2 q hq) n (by omega)
    refine ⟨S', ?_, c2, c3, fun t t0 t1 => ?_, fun t t0 t1 j j0 j1 => ?_⟩
    · rw [← c1]
      show C_cp409_174_b2 _ _ _ = _
      unfold C_cp409_174_b2
      rw [gd_pos (by omega), if_pos (by omega), gd_pos (by omega), gd_pos (by omega), gd_pos (by omega), nm_eq, nm_eq]
    · rw [c4 t t0 (by omega), ccp_ne _ _ (by omega)]
    · by_cases e : t = k
      · rw [e, c4 k hk (by omega), show (175 : Int) + k = 174 + 1 + k by omega, ccp_at, if_pos ⟨j0, j1⟩, h2 _ (by omega), show (409 : Int) + 1 + k = 410 + k by omega]
      · exact c5 t (by omega) t1 j j0 j1
theorem cp409_174_e (S : yS) : ∃ S', C_cp409_174 S = some S' ∧ S'.1 = S.1 ∧ (∀ q, ¬ (175 ≤ q ∧ q < 235) → S'.2 q = S.2 q) ∧ ∀ t, 0 ≤ t → t < 60 → ∀ j, 0 ≤ j → j < 16 → S'.2 (175 + t) j = S.2 (410 + t) j := by
  obtain ⟨S', c1, c2, c3, c4, c5⟩ := cp409_174_L S 60 S 0 (Int.le_refl _) (by decide) rfl (fun _ _ => rfl) FU (by decide)
  exact ⟨S', c1, c2, c3, c5⟩
theorem beI_e (S : yS) : ∃ S1, C_beI S = some S1 ∧ S1.1 = S.1 ∧ (∀ q, ¬ (237 ≤ q ∧ q < 470) → S1.2 q = S.2 q) ∧ (∀ j, 0 ≤ j → j < 14 → S1.2 237 j = S.2 2 j) ∧ (∀ j, 0 ≤ j → j < 576 → S1.2 238 j = S.2 3 j) ∧ (∀ t, 0 ≤ t → t < 6 → ∀ j, 0 ≤ j → j < 4 → S1.2 (240 + t) j = S.2 (5 + t) j) ∧ (∀ t, 0 ≤ t → t < 16 → ∀ j, 0 ≤ j → j < 2 → S1.2 (247 + t) j = S.2 (12 + t) j) ∧ (∀ t, 0 ≤ t → t < 16 → ∀ j, 0 ≤ j → j < 3 → S1.2 (264 + t) j = S.2 (29 + t) j) ∧ (∀ t, 0 ≤ t → t < 6 → ∀ j, 0 ≤ j → j < 24 → S1.2 (281 + t) j = S.2 (46 + t) j) ∧ (∀ t, 0 ≤ t → t < 60 → ∀ j, 0 ≤ j → j < 5 → S1.2 (288 + t) j = S.2 (53 + t) j) ∧ (∀ t, 0 ≤ t → t < 60 → ∀ j, 0 ≤ j → j < 16 → S1.2 (349 + t) j = S.2 (114 + t) j) ∧ (∀ t, 0 ≤ t → t < 60 → ∀ j, 0 ≤ j → j < 16 → S1.2 (410 + t) j = S.2 (175 + t) j) := by
  obtain ⟨X, hX⟩ : ∃ X : yS, X = ccp (ccp S 2 237 14) 3 238 576 := ⟨_, rfl⟩
  have X1 : X.1 = S.1 := by rw [hX]; rfl
  have Xq : ∀ q, q ≠ 237 → q ≠ 238 → X.2 q = S.2 q := fun q h1 h2 => by rw [hX, ccp_ne _ _ h2, ccp_ne _ _ h1]
  have Xn : ∀ j, 0 ≤ j → j < 14 → X.2 237 j = S.2 2 j := fun j j0 j1 => by rw [hX, ccp_ne _ _ (by decide), ccp_at, if_pos ⟨j0, j1⟩]
  have Xm : ∀ j, 0 ≤ j → j < 576 → X.2 238 j = S.2 3 j := fun j j0 j1 => by rw [hX, ccp_at, if_pos ⟨j0, j1⟩, ccp_ne _ _ (by decide)]
  obtain ⟨T0, a0, b0, c0, d0⟩ := cp4_239_e X
  obtain ⟨T1, a1, b1, c1, d1⟩ := cp11_246_e T0
  obtain ⟨T2, a2, b2, c2, d2⟩ := cp28_263_e T1
  obtain ⟨T3, a3, b3, c3, d3⟩ := cp45_280_e T2
  obtain ⟨T4, a4, b4, c4, d4⟩ := cp52_287_e T3
  obtain ⟨T5, a5, b5, c5, d5⟩ := cp113_348_e T4
  obtain ⟨T6, a6, b6, c6, d6⟩ := cp174_409_e T5
  refine ⟨T6, ?_, ?_, ?_, ?_, ?_, ?_, ?_, ?_, ?_, ?_, ?_, ?_⟩
  · unfold C_beI
    rw [← hX, a0, bd_some, a1, bd_some, a2, bd_some, a3, bd_some, a4, bd_some, a5, bd_some, a6]
  · rw [b6, b5, b4, b3, b2, b1, b0, X1]
  · intro q hq
    rw [c6 _ (by omega), c5 _ (by omega), c4 _ (by omega), c3 _ (by omega), c2 _ (by omega), c1 _ (by omega), c0 _ (by omega), Xq q (by omega) (by omega)]
  · intro j j0 j1
    rw [c6 _ (by omega), c5 _ (by omega), c4 _ (by omega), c3 _ (by omega), c2 _ (by omega), c1 _ (by omega), c0 _ (by omega)]
    exact Xn j j0 j1
  · intro j j0 j1
    rw [c6 _ (by omega), c5 _ (by omega), c4 _ (by omega), c3 _ (by omega), c2 _ (by omega), c1 _ (by omega), c0 _ (by omega)]
    exact Xm j j0 j1
  · intro t t0 t1 j j0 j1
    rw [c6 _ (by omega), c5 _ (by omega), c4 _ (by omega), c3 _ (by omega), c2 _ (by omega), c1 _ (by omega), d0 t t0 t1 j j0 j1, Xq _ (by omega) (by omega)]
  · intro t t0 t1 j j0 j1
    rw [c6 _ (by omega), c5 _ (by omega), c4 _ (by omega), c3 _ (by omega), c2 _ (by omega), d1 t t0 t1 j j0 j1, c0 _ (by omega), Xq _ (by omega) (by omega)]
  · intro t t0 t1 j j0 j1
    rw [c6 _ (by omega), c5 _ (by omega), c4 _ (by omega), c3 _ (by omega), d2 t t0 t1 j j0 j1, c1 _ (by omega), c0 _ (by omega), Xq _ (by omega) (by omega)]
  · intro t t0 t1 j j0 j1
    rw [c6 _ (by omega), c5 _ (by omega), c4 _ (by omega), d3 t t0 t1 j j0 j1, c2 _ (by omega), c1 _ (by omega), c0 _ (by omega), Xq _ (by omega) (by omega)]
  · intro t t0 t1 j j0 j1
    rw [c6 _ (by omega), c5 _ (by omega), d4 t t0 t1 j j0 j1, c3 _ (by omega), c2 _ (by omega), c1 _ (by omega), c0 _ (by omega), Xq _ (by omega) (by omega)]
  · intro t t0 t1 j j0 j1
    rw [c6 _ (by omega), d5 t t0 t1 j j0 j1, c4 _ (by omega), c3 _ (by omega), c2 _ (by omega), c1 _ (by omega), c0 _ (by omega), Xq _ (by omega) (by omega)]
  · intro t t0 t1 j j0 j1
    rw [d6 t t0 t1 j j0 j1, c5 _ (by omega), c4 _ (by omega), c3 _ (by omega), c2 _ (by omega), c1 _ (by omega), c0 _ (by omega), Xq _ (by omega) (by omega)]
theorem beB_e (S : yS) : ∃ S1, C_beB S = some S1 ∧ S1.1 = S.1 ∧ (∀ q, ¬ (2 ≤ q ∧ q < 235) → S1.2 q = S.2 q) ∧ (∀ j, 0 ≤ j → j < 14 → S1.2 2 j = S.2 237 j) ∧ (∀ j, 0 ≤ j → j < 576 → S1.2 3 j = S.2 238 j) ∧ (∀ t, 0 ≤ t → t < 6 → ∀ j, 0 ≤ j → j < 4 → S1.2 (5 + t) j = S.2 (240 + t) j) ∧ (∀ t, 0 ≤ t → t < 16 → ∀ j, 0 ≤ j → j < 2 → S1.2 (12 + t) j = S.2 (247 + t) j) ∧ (∀ t, 0 ≤ t → t < 16 → ∀ j, 0 ≤ j → j < 3 → S1.2 (29 + t) j = S.2 (264 + t) j) ∧ (∀ t, 0 ≤ t → t < 6 → ∀ j, 0 ≤ j → j < 24 → S1.2 (46 + t) j = S.2 (281 + t) j) ∧ (∀ t, 0 ≤ t → t < 60 → ∀ j, 0 ≤ j → j < 5 → S1.2 (53 + t) j = S.2 (288 + t) j) ∧ (∀ t, 0 ≤ t → t < 60 → ∀ j, 0 ≤ j → j < 16 → S1.2 (114 + t) j = S.2 (349 + t) j) ∧ (∀ t, 0 ≤ t → t < 60 → ∀ j, 0 ≤ j → j < 16 → S1.2 (175 + t) j = S.2 (410 + t) j) := by
  obtain ⟨X, hX⟩ : ∃ X : yS, X = ccp (ccp S 237 2 14) 238 3 576 := ⟨_, rfl⟩
  have X1 : X.1 = S.1 := by rw [hX]; rfl
  have Xq : ∀ q, q ≠ 2 → q ≠ 3 → X.2 q = S.2 q := fun q h1 h2 => by rw [hX, ccp_ne _ _ h2, ccp_ne _ _ h1]
  have Xn : ∀ j, 0 ≤ j → j < 14 → X.2 2 j = S.2 237 j := fun j j0 j1 => by rw [hX, ccp_ne _ _ (by decide), ccp_at, if_pos ⟨j0, j1⟩]
  have Xm : ∀ j, 0 ≤ j → j < 576 → X.2 3 j = S.2 238 j := fun j j0 j1 => by rw [hX, ccp_at, if_pos ⟨j0, j1⟩, ccp_ne _ _ (by decide)]
  obtain ⟨T0, a0, b0, c0, d0⟩ := cp239_4_e X
  obtain ⟨T1, a1, b1, c1, d1⟩ := cp246_11_e T0
  obtain ⟨T2, a2, b2, c2, d2⟩ := cp263_28_e T1
  obtain ⟨T3, a3, b3, c3, d3⟩ := cp280_45_e T2
  obtain ⟨T4, a4, b4, c4, d4⟩ := cp287_52_e T3
  obtain ⟨T5, a5, b5, c5, d5⟩ := cp348_113_e T4
  obtain ⟨T6, a6, b6, c6, d6⟩ := cp409_174_e T5
  refine ⟨T6, ?_, ?_, ?_, ?_, ?_, ?_, ?_, ?_, ?_, ?_, ?_, ?_⟩
  · unfold C_beB
    rw [← hX, a0, bd_some, a1, bd_some, a2, bd_some, a3, bd_some, a4, bd_some, a5, bd_some, a6]
  · rw [b6, b5, b4, b3, b2, b1, b0, X1]
  · intro q hq
    rw [c6 _ (by omega), c5 _ (by omega), c4 _ (by omega), c3 _ (by omega), c2 _ (by omega), c1 _ (by omega), c0 _ (by omega), Xq q (by omega) (by omega)]
  · intro j j0 j1
    rw [c6 _ (by omega), c5 _ (by omega), c4 _ (by omega), c3 _ (by omega), c2 _ (by omega), c1 _ (by omega), c0 _ (by omega)]
    exact Xn j j0 j1
  · intro j j0 j1
    rw [c6 _ (by omega), c5 _ (by omega), c4 _ (by omega), c3 _ (by omega), c2 _ (by omega), c1 _ (by omega), c0 _ (by omega)]
    exact Xm j j0 j1
  · intro t t0 t1 j j0 j1
    rw [c6 _ (by omega), c5 _ (by omega), c4 _ (by omega), c3 _ (by omega), c2 _ (by omega), c1 _ (by omega), d0 t t0 t1 j j0 j1, Xq _ (by omega) (by omega)]
  · intro t t0 t1 j j0 j1
    rw [c6 _ (by omega), c5 _ (by omega), c4 _ (by omega), c3 _ (by omega), c2 _ (by omega), d1 t t0 t1 j j0 j1, c0 _ (by omega), Xq _ (by omega) (by omega)]
  · intro t t0 t1 j j0 j1
    rw [c6 _ (by omega), c5 _ (by omega), c4 _ (by omega), c3 _ (by omega), d2 t t0 t1 j j0 j1, c1 _ (by omega), c0 _ (by omega), Xq _ (by omega) (by omega)]
  · intro t t0 t1 j j0 j1
    rw [c6 _ (by omega), c5 _ (by omega), c4 _ (by omega), d3 t t0 t1 j j0 j1, c2 _ (by omega), c1 _ (by omega), c0 _ (by omega), Xq _ (by omega) (by omega)]
  · intro t t0 t1 j j0 j1
    rw [c6 _ (by omega), c5 _ (by omega), d4 t t0 t1 j j0 j1, c3 _ (by omega), c2 _ (by omega), c1 _ (by omega), c0 _ (by omega), Xq _ (by omega) (by omega)]
  · intro t t0 t1 j j0 j1
    rw [c6 _ (by omega), d5 t t0 t1 j j0 j1, c4 _ (by omega), c3 _ (by omega), c2 _ (by omega), c1 _ (by omega), c0 _ (by omega), Xq _ (by omega) (by omega)]
  · intro t t0 t1 j j0 j1
    rw [d6 t t0 t1 j j0 j1, c5 _ (by omega), c4 _ (by omega), c3 _ (by omega), c2 _ (by omega), c1 _ (by omega), c0 _ (by omega), Xq _ (by omega) (by omega)]
theorem okA.eq {w h : Int} {a a' : Int → Int} (e : ∀ i, 0 ≤ i → i < 3170 → a' i = a i) (ho : okA w h a) : okA w h a' := by
  obtain ⟨h1, h2, h3, h4, h5⟩ := ho
  exact ⟨h1.cg (e 0 (by decide) (by decide)) (fun i _ _ => e i (by omega) (by omega)), h2.cg (e 1 (by decide) (by decide)) (fun i _ _ => e i (by omega) (by omega)), h3.cg (e 1 (by decide) (by decide)) (e 2 (by decide) (by decide)) (fun i _ _ => e i (by omega) (by omega)), h4.cg (e 4 (by decide) (by decide)) (fun i _ _ => e i (by omega) (by omega)), h5.cg (e 3 (by decide) (by decide)) (fun i _ _ => e i (by omega) (by omega))⟩
theorem rN.cp {A A' : Int → Int → Int} {a a' : Int → Int} (hC : okC a) (e : ∀ i, 0 ≤ i → i < 3170 → a' i = a i) (xn : ∀ j, 0 ≤ j → j < 14 → A' 2 j = A 2 j) (xm : ∀ j, 0 ≤ j → j < 576 → A' 3 j = A 3 j)
    (x0 : ∀ t, 0 ≤ t → t < 6 → ∀ j, 0 ≤ j → j < 4 → A' (5 + t) j = A (5 + t) j) (x1 : ∀ t, 0 ≤ t → t < 16 → ∀ j, 0 ≤ j → j < 2 → A' (12 + t) j = A (12 + t) j) (x2 : ∀ t, 0 ≤ t → t < 16 → ∀ j, 0 ≤ j → j < 3 → A' (29 + t) j = A (29 + t) j) (x3 : ∀ t, 0 ≤ t → t < 6 → ∀ j, 0 ≤ j → j < 24 → A' (46 + t) j = A (46 + t) j) (x4 : ∀ t, 0 ≤ t → t < 60 → ∀ j, 0 ≤ j → j < 5 → A' (53 + t) j = A (53 + t) j) (x5 : ∀ t, 0 ≤ t → t < 60 → ∀ j, 0 ≤ j → j < 16 → A' (114 + t) j = A (114 + t) j) (x6 : ∀ t, 0 ≤ t → t < 60 → ∀ j, 0 ≤ j → j < 16 → A' (175 + t) j = A (175 + t) j) (h : rN A a) : rN A' a' := by
  obtain ⟨⟨h1, h1'⟩, h2, h3, h4, h5, h6, h7⟩ := h
  obtain ⟨-, c1, c2, c3⟩ := hC
  refine ⟨⟨fun k k1 k2 => by rw [xn k k1 (by omega), e k k1 (by omega)]; exact h1 k k1 k2, fun k k1 k2 => by rw [xn _ (by omega) (by omega), e _ (by omega) (by omega)]; exact h1' k k1 k2⟩, fun c q1 q2 => by rw [xm c q1 q2, e _ (by omega) (by omega)]; exact h2 c q1 q2, fun b j b1 b2 j1 j2 => ?_, fun b j b1 b2 j1 j2 => ?_, fun b j b1 b2 j1 j2 => ?_, fun b j b1 b2 j1 j2 => ?_, fun t t1 t2 => ?_⟩
  · have := h3 b j b1 b2 j1 j2
    rw [show (4 : Int) + 1 + b = 5 + b by omega] at this ⊢
    rw [x0 b b1 b2 j j1 j2, e _ (by omega) (by omega)]; exact this
  · have := h4 b j b1 b2 j1 j2
    rw [show (11 : Int) + 1 + b = 12 + b by omega] at this ⊢
    rw [x1 b b1 b2 j j1 j2, e _ (by omega) (by omega)]; exact this
  · have := h5 b j b1 b2 j1 j2
    rw [show (28 : Int) + 1 + b = 29 + b by omega] at this ⊢
    rw [x2 b b1 b2 j j1 j2, e _ (by omega) (by omega)]; exact this
  · have := h6 b j b1 b2 j1 j2
    rw [show (45 : Int) + 1 + b = 46 + b by omega] at this ⊢
    rw [x3 b b1 b2 j j1 j2, e _ (by omega) (by omega)]; exact this
  · rw [e 880 (by decide) (by decide)] at t2
    obtain ⟨g1, g2, g3⟩ := h7 t t1 t2
    rw [e 887 (by decide) (by decide), e 888 (by decide) (by decide)]
    refine ⟨fun j j1 j2 => ?_, fun j j1 j2 => ?_, fun j j1 j2 => ?_⟩
    · have := g1 j j1 j2
      rw [show (52 : Int) + 1 + t = 53 + t by omega] at this ⊢
      rw [x4 t t1 (by omega) j j1 j2, e _ (by omega) (by omega)]; exact this
    · have := g2 j j1 j2
      rw [show (113 : Int) + 1 + t = 114 + t by omega] at this ⊢
      rw [x5 t t1 (by omega) j j1 (by omega), e _ (by omega) (by omega)]; exact this
    · have := g3 j j1 j2
      rw [show (174 : Int) + 1 + t = 175 + t by omega] at this ⊢
      rw [x6 t t1 (by omega) j j1 (by omega), e _ (by omega) (by omega)]; exact this
theorem M_copy23_L (S0 : xS) : ∀ (m : Nat) (S : xS) (k : Int), 0 ≤ k → 3170 - k = m → S.1 = S0.1 → (∀ q, q ≠ 3 → S.2 q = S0.2 q) → ∀ n, m < n → ∃ S', M_copy23_L2 n S k = some S' ∧ S'.1 = S0.1 ∧ (∀ q, q ≠ 3 → S'.2 q = S0.2 q) ∧ (∀ i, 0 ≤ i → i < k → S'.2 3 i = S.2 3 i) ∧ ∀ i, k ≤ i → i < 3170 → S'.2 3 i = S0.2 2 i := by
  intro m
  induction m with
  | zero =>
    intro S k hk hm h1 h2 n hn
    obtain ⟨n, rfl⟩ : ∃ k, n = k + 1 := ⟨n - 1, by omega⟩
    refine ⟨S, ?_, h1, h2, fun _ _ _ => rfl, fun t t0 t1 => by omega⟩
    show M_copy23_b2 _ _ _ = _
    unfold M_copy23_b2
    rw [gd_pos (by omega), if_neg (by omega)]
  | succ m ih =>
    intro S k hk hm h1 h2 n hn
    obtain ⟨n, rfl⟩ : ∃ k, n = k + 1 := ⟨n - 1, by omega⟩
    obtain ⟨S', c1, c2, c3, c4, c5⟩ := ih (aset S 3 k (S.2 2 k)) (k + 1) (by omega) (by omega) h1 (fun q hq => by rw [aset_ne _ _ _ hq]; exact h2 q hq) n (by omega)
    refine ⟨S', ?_, c2, c3, fun t t0 t1 => ?_, fun t t0 t1 => ?_⟩
    · rw [← c1]
      show M_copy23_b2 _ _ _ = _
      unfold M_copy23_b2
      rw [gd_pos (by omega), if_pos (by omega), gd_pos (by omega), gd_pos (by omega), nm_eq, nm_eq]
    · rw [c4 t t0 (by omega), aset_at, if_neg (by omega)]
    · by_cases e : t = k
      · rw [e, c4 k hk (by omega), aset_at, if_pos rfl, h2 2 (by decide)]
      · exact c5 t (by omega) t1
theorem M_copy23_e (S : xS) : ∃ S', M_copy23 S = some S' ∧ S'.1 = S.1 ∧ (∀ q, q ≠ 3 → S'.2 q = S.2 q) ∧ ∀ i, 0 ≤ i → i < 3170 → S'.2 3 i = S.2 2 i := by
  obtain ⟨S', c1, c2, c3, c4, c5⟩ := M_copy23_L S 3170 S 0 (Int.le_refl _) (by decide) rfl (fun _ _ => rfl) FU (by decide)
  exact ⟨S', c1, c2, c3, c5⟩
theorem M_copy32_L (S0 : xS) : ∀ (m : Nat) (S : xS) (k : Int), 0 ≤ k → 3170 - k = m → S.1 = S0.1 → (∀ q, q ≠ 2 → S.2 q = S0.2 q) → ∀ n, m < n → ∃ S', M_copy32_L2 n S k = some S' ∧ S'.1 = S0.1 ∧ (∀ q, q ≠ 2 → S'.2 q = S0.2 q) ∧ (∀ i, 0 ≤ i → i < k → S'.2 2 i = S.2 2 i) ∧ ∀ i, k ≤ i → i < 3170 → S'.2 2 i = S0.2 3 i := by
  intro m
  induction m with
  | zero =>
    intro S k hk hm h1 h2 n hn
    obtain ⟨n, rfl⟩ : ∃ k, n = k + 1 := ⟨n - 1, by omega⟩
    refine ⟨S, ?_, h1, h2, fun _ _ _ => rfl, fun t t0 t1 => by omega⟩
    show M_copy32_b2 _ _ _ = _
    unfold M_copy32_b2
    rw [gd_pos (by omega), if_neg (by omega)]
  | succ m ih =>
    intro S k hk hm h1 h2 n hn
    obtain ⟨n, rfl⟩ : ∃ k, n = k + 1 := ⟨n - 1, by omega⟩
    obtain ⟨S', c1, c2, c3, c4, c5⟩ := ih (aset S 2 k (S.2 3 k)) (k + 1) (by omega) (by omega) h1 (fun q hq => by rw [aset_ne _ _ _ hq]; exact h2 q hq) n (by omega)
    refine ⟨S', ?_, c2, c3, fun t t0 t1 => ?_, fun t t0 t1 => ?_⟩
    · rw [← c1]
      show M_copy32_b2 _ _ _ = _
      unfold M_copy32_b2
      rw [gd_pos (by omega), if_pos (by omega), gd_pos (by omega), gd_pos (by omega), nm_eq, nm_eq]
    · rw [c4 t t0 (by omega), aset_at, if_neg (by omega)]
    · by_cases e : t = k
      · rw [e, c4 k hk (by omega), aset_at, if_pos rfl, h2 3 (by decide)]
      · exact c5 t (by omega) t1
theorem M_copy32_e (S : xS) : ∃ S', M_copy32 S = some S' ∧ S'.1 = S.1 ∧ (∀ q, q ≠ 2 → S'.2 q = S.2 q) ∧ ∀ i, 0 ≤ i → i < 3170 → S'.2 2 i = S.2 3 i := by
  obtain ⟨S', c1, c2, c3, c4, c5⟩ := M_copy32_L S 3170 S 0 (Int.le_refl _) (by decide) rfl (fun _ _ => rfl) FU (by decide)
  exact ⟨S', c1, c2, c3, c5⟩
