set_option maxRecDepth 100000
/-- all that a flight asks for -/
def FL (S : yS) (Sm : xS) (ed : Nat) (rs : List (List tCl)) : Prop := RC S Sm ∧ RlR S Sm ed rs ∧ LtR S Sm
theorem FL.sc {S S' : yS} {Sm : xS} {ed : Nat} {rs : List (List tCl)} (h : FL S Sm ed rs) (hs : sc S S') : FL S' Sm ed rs := ⟨(h.1.sc hs (scM.rf Sm)).1, h.2.1.fl hs.f (fM.rf Sm), h.2.2.sc hs⟩
theorem FL.m27 {S : yS} {Sm : xS} {ed : Nat} {rs : List (List tCl)} (h : FL S Sm ed rs) (z : Int) : FL S (fset Sm 27 z) ed rs ∧ fM Sm (fset Sm 27 z) := by
  have f : fM Sm (fset Sm 27 z) := ⟨⟨rfl, rfl, rfl, rfl, rfl⟩, rfl, rfl, rfl, fun _ _ => rfl⟩
  exact ⟨⟨h.1.fl (fC.rf S) f, h.2.1.fl (fC.rf S) f, h.2.2⟩, f⟩
theorem run_ok {S : yS} {Sm : xS} {ed : Nat} {rs : List (List tCl)} {x1 x y head n : Int} (h : FL S Sm ed rs) (h27 : Sm.1 27 = 1000000) (hx1 : 0 ≤ x1 ∧ x1 < rs.length) (P : okP (Sm.1 0) (Sm.1 1) x y) (hd : 0 ≤ head ∧ head ≤ 63) (hn : 0 ≤ n ∧ n ≤ 60) : ∃ S' Sm', C_flies ed rs S x1 x y head n 0 = some S' ∧ M_run Sm x1 x y head n = some Sm' ∧ FL S' Sm' ed rs ∧ FR S' Sm' ∧ fC S S' ∧ fM Sm Sm' ∧ Sm'.1 27 = 1000000 ∧ Sm'.1 29 ≤ n ∧ (n = 1 → (Sm'.1 34 = 1 ↔ Sm'.1 29 = 0)) := by
  obtain ⟨S', M', f1, f2, f3, f4, f5, f6, f7, f8, f9, f10⟩ := flies_ok (bits := 0) h.1 h.2.1 h.2.2 hx1 P hd hn (Or.inl ⟨rfl, h27⟩)
  exact ⟨S', M', f1, f2, ⟨f3, f4, f5.2.2.1⟩, f5, f6, f7, f8.trans h27, f9, f10⟩
/-- the turns of a flight that was read -/
theorem turns_ok {ed : Nat} {rs : List (List tCl)} {x1 k : Int} {S : yS} {Sm : xS} {K : yS → Int → Option (Bool × yS)} {K' : xS → Int → Option (Bool × xS)} (R : RC S Sm) (hF : FR S Sm) (hk : 0 ≤ k ∧ k < Sm.2 2 4) (hn : Sm.1 29 = Sm.2 2 (720 + 24 * k + 3)) : ∀ (m : Nat) (t : Int), 0 ≤ t → Sm.1 29 - t = m → ∀ n1 n2, m < n1 → m < n2 → (C_isKept_L79 ed rs K x1 k n1 S t = some (false, S) ∧ M_isKept_L106 K' x1 k (720 + 24 * k) n2 Sm t = some (false, Sm)) ∨ (C_isKept_L79 ed rs K x1 k n1 S t = K S (k + 1) ∧ M_isKept_L106 K' x1 k (720 + 24 * k) n2 Sm t = K' Sm (k + 1)) := by
  have oF := R.2.1.2.2.2.1
  have rR := R.2.2.1.2.2.2.2.2.1
  have h3 := rR k 3 hk.1 (by have := oF.1; omega) (by decide) (by decide)
  have ob := (oF.2.1 k hk.1 hk.2).2.2
  have okk := oF.1
  intro m
  induction m with
  | zero =>
    intro t t0 tm n1 n2 q1 q2
    obtain ⟨n1, rfl⟩ : ∃ k, n1 = k + 1 := ⟨n1 - 1, by omega⟩
    obtain ⟨n2, rfl⟩ : ∃ k, n2 = k + 1 := ⟨n2 - 1, by omega⟩
    right
    constructor
    · show C_isKept_b79 ed rs K x1 k (C_isKept_L79 ed rs K x1 k n1) S t = _
      unfold C_isKept_b79
      rw [h3, gd_pos (by omega), if_neg (by omega), nm_eq]
    · show M_isKept_b106 K' x1 k (720 + 24 * k) (M_isKept_L106 K' x1 k (720 + 24 * k) n2) Sm t = _
      unfold M_isKept_b106
      rw [gd_pos (by omega), if_neg (by omega), nm_eq]
  | succ m ih =>
    intro t t0 tm n1 n2 q1 q2
    obtain ⟨n1, rfl⟩ : ∃ k, n1 = k + 1 := ⟨n1 - 1, by omega⟩
    obtain ⟨n2, rfl⟩ : ∃ k, n2 = k + 1 := ⟨n2 - 1, by omega⟩
    obtain ⟨w1, -, -, w4⟩ := hF.2.2.2 t t0 (by omega)
    have e0 := w1 0 (by decide) (by decide)
    rw [show 38 * t + 0 = 38 * t by omega] at e0
    have e4 := rR k (4 + t) hk.1 (by omega) (by omega) (by omega)
    have r4 := oF.2.2 (720 + 24 * k + (4 + t)) (by omega) (by omega)
    have eC : C_isKept_L79 ed rs K x1 k (n1 + 1) S t = C_isKept_b79 ed rs K x1 k (C_isKept_L79 ed rs K x1 k n1) S t := rfl
    have eM : M_isKept_L106 K' x1 k (720 + 24 * k) (n2 + 1) Sm t = M_isKept_b106 K' x1 k (720 + 24 * k) (M_isKept_L106 K' x1 k (720 + 24 * k) n2) Sm t := rfl
    rw [eC, eM]
    unfold C_isKept_b79 M_isKept_b106
    rw [h3, gd_pos (show r32 t ∧ r32 (Sm.2 2 (720 + 24 * k + 3)) by omega), if_pos (show t < Sm.2 2 (720 + 24 * k + 3) by omega), gd_pos (show (0 : Int) ≤ t ∧ t < 60 by omega), gd_pos (show (0 : Int) ≤ 4 + t ∧ 4 + t < 24 by omega), show (475 : Int) + 1 + t = 476 + t by omega, e0, e4, gd_pos (show r32 (Sm.2 35 (38 * t)) ∧ r32 (Sm.2 2 (720 + 24 * k + (4 + t))) from ⟨by omega, r4⟩)]
    rw [gd_pos (show r32 t ∧ r32 (Sm.1 29) by omega), if_pos (show t < Sm.1 29 by omega), gd_pos (show (0 : Int) ≤ 38 * t ∧ 38 * t < 2280 by omega), show 720 + 24 * k + 4 + t = 720 + 24 * k + (4 + t) by omega, gd_pos (show (0 : Int) ≤ 720 + 24 * k + (4 + t) ∧ 720 + 24 * k + (4 + t) < 3170 by omega), gd_pos (show r32 (Sm.2 35 (38 * t)) ∧ r32 (Sm.2 2 (720 + 24 * k + (4 + t))) from ⟨by omega, r4⟩)]
    by_cases g : Sm.2 35 (38 * t) = Sm.2 2 (720 + 24 * k + (4 + t))
    · rw [if_pos g, if_pos g, nm_eq, nm_eq]
      exact ih (t + 1) (by omega) (by omega) n1 n2 (by omega) (by omega)
    · rw [if_neg g, if_neg g]
      exact Or.inl ⟨rfl, rfl⟩
/-- is a rule kept, of both -/
theorem kept_L {ed : Nat} {rs : List (List tCl)} {x1 : Int} (hx1 : 0 ≤ x1 ∧ x1 < rs.length) : ∀ (m : Nat) (S : yS) (Sm : xS) (k : Int), FL S Sm ed rs → Sm.1 27 = 1000000 → 0 ≤ k → Sm.2 2 4 - k = m → ∀ n1 n2, m < n1 → m < n2 → ∃ b S' Sm', C_isKept_L2 ed rs x1 n1 S k = some (b, S') ∧ M_isKept_L9 x1 n2 Sm k = some (b, Sm') ∧ FL S' Sm' ed rs ∧ fC S S' ∧ fM Sm Sm' ∧ Sm'.1 27 = 1000000 := by
  intro m
  induction m with
  | zero =>
    intro S Sm k h h27 hk hm n1 n2 q1 q2
    obtain ⟨n1, rfl⟩ : ∃ k, n1 = k + 1 := ⟨n1 - 1, by omega⟩
    obtain ⟨n2, rfl⟩ : ∃ k, n2 = k + 1 := ⟨n2 - 1, by omega⟩
    have n4 := h.1.n0 (k := 4) (by decide)
    have oF := h.1.2.1.2.2.2.1.1
    refine ⟨true, S, Sm, ?_, ?_, h, fC.rf S, fM.rf Sm, h27⟩
    · show C_isKept_b2 ed rs x1 (C_isKept_L2 ed rs x1 n1) S k = _
      unfold C_isKept_b2
      rw [n4, gd_pos (by omega), if_neg (by omega)]
    · show M_isKept_b9 x1 (M_isKept_L9 x1 n2) Sm k = _
      unfold M_isKept_b9
      rw [gd_pos (by omega), if_neg (by omega)]
  | succ m ih =>
    intro S Sm k h h27 hk hm n1 n2 q1 q2
    obtain ⟨n1, rfl⟩ : ∃ k, n1 = k + 1 := ⟨n1 - 1, by omega⟩
    obtain ⟨n2, rfl⟩ : ∃ k, n2 = k + 1 := ⟨n2 - 1, by omega⟩
    have n4 := h.1.n0 (k := 4) (by decide)
    have oF := h.1.2.1.2.2.2.1
    have rR := h.1.2.2.1.2.2.2.2.2.1
    have o1 := oF.1
    obtain ⟨oP, oh, on⟩ := oF.2.1 k hk (by omega)
    have e0 := rR k 0 hk (by omega) (by decide) (by decide)
    have e1 := rR k 1 hk (by omega) (by decide) (by decide)
    have e2 := rR k 2 hk (by omega) (by decide) (by decide)
    have e3 := rR k 3 hk (by omega) (by decide) (by decide)
    rw [show 720 + 24 * k + 0 = 720 + 24 * k by omega] at e0
    have hw := h.1.1.1
    have eC : C_isKept_L2 ed rs x1 (n1 + 1) S k = C_isKept_b2 ed rs x1 (C_isKept_L2 ed rs x1 n1) S k := rfl
    have eM : M_isKept_L9 x1 (n2 + 1) Sm k = M_isKept_b9 x1 (M_isKept_L9 x1 n2) Sm k := rfl
    rw [eC, eM]
    unfold C_isKept_b2 M_isKept_b9
    obtain ⟨b, S1, s1, s2, s3, c, s4, s5⟩ := start_ok (S := S) (Sm := Sm) (x := Sm.2 2 (720 + 24 * k)) (y := Sm.2 2 (720 + 24 * k + 1)) (head := Sm.2 2 (720 + 24 * k + 2)) h.1 (by have := hw.1; omega) (by have := hw.2; omega) (by omega)
    have ebc := s5 oh
    subst ebc
    rw [n4, gd_pos (show r32 k ∧ r32 (Sm.2 2 4) by omega), if_pos (show k < Sm.2 2 4 by omega), gd_pos (show (0 : Int) ≤ k ∧ k < 6 by omega), e0, e1, e2, s1, bd2_some]
    rw [gd_pos (show r32 k ∧ r32 (Sm.2 2 4) by omega), if_pos (show k < Sm.2 2 4 by omega), nm_eq, gd_pos (show (0 : Int) ≤ 720 + 24 * k ∧ 720 + 24 * k < 3170 by omega), gd_pos (show (0 : Int) ≤ 720 + 24 * k + 1 ∧ 720 + 24 * k + 1 < 3170 by omega), s4, bd_some]
    cases b with
    | false =>
      rw [if_neg (by decide), if_neg (by decide)]
      exact ⟨false, S1, Sm, rfl, rfl, h.sc s2, s2.f, fM.rf Sm, h27⟩
    | true =>
      have h1 := h.sc s2
      have f0 : S1.2 (45 + 1 + k) = S.2 (45 + 1 + k) := s2.2.2 _ (by omega)
      obtain ⟨S2, M2, r1, r2, r3, r4, r5, r6, r7, r8, r9⟩ := run_ok (x1 := x1) (x := Sm.2 2 (720 + 24 * k)) (y := Sm.2 2 (720 + 24 * k + 1)) (head := Sm.2 2 (720 + 24 * k + 2)) (n := Sm.2 2 (720 + 24 * k + 3)) h1 h27 hx1 oP oh (by omega)
      have f3 : S2.2 (45 + 1 + k) 3 = Sm.2 2 (720 + 24 * k + 3) := by rw [r5.2.2 _ (by omega), f0, e3]
      have m3 : M2.2 2 = Sm.2 2 := r6.2.1
      rw [if_pos rfl, if_pos rfl, f0, e0, e1, e2, e3, r1, bd_some, f3]
      rw [gd_pos (show (0 : Int) ≤ 720 + 24 * k ∧ 720 + 24 * k < 3170 by omega), gd_pos (show (0 : Int) ≤ 720 + 24 * k + 1 ∧ 720 + 24 * k + 1 < 3170 by omega), gd_pos (show (0 : Int) ≤ 720 + 24 * k + 2 ∧ 720 + 24 * k + 2 < 3170 by omega), gd_pos (show (0 : Int) ≤ 720 + 24 * k + 3 ∧ 720 + 24 * k + 3 < 3170 by omega), r2, bd_some, gd_pos (show (0 : Int) ≤ 720 + 24 * k + 3 ∧ 720 + 24 * k + 3 < 3170 by omega), m3]
      have g17 := r4.1.1.2.2.2.1
      have gtk := r4.1.2.2.1
      rw [g17, gd_pos (show r32 (M2.1 29) ∧ r32 (Sm.2 2 (720 + 24 * k + 3)) by omega), gd_pos (show r32 (M2.1 29) ∧ r32 (Sm.2 2 (720 + 24 * k + 3)) by omega)]
      by_cases g : M2.1 29 < Sm.2 2 (720 + 24 * k + 3)
      · rw [if_pos g, if_pos g]
        exact ⟨false, S2, M2, rfl, rfl, r3, s2.f.tr r5, r6, r7⟩
      · rw [if_neg g, if_neg g]
        have m4 : M2.2 2 4 = Sm.2 2 4 := by rw [m3]
        rcases turns_ok (ed := ed) (rs := rs) (x1 := x1) (K := C_isKept_L2 ed rs x1 n1) (K' := M_isKept_L9 x1 n2) r3.1 r4 (k := k) (by omega) (by rw [m3]; omega) (M2.1 29).toNat 0 (Int.le_refl _) (by omega) FU FU (by unfold FU; omega) (by unfold FU; omega) with ⟨u1, u2⟩ | ⟨u1, u2⟩
        · rw [u1, u2]
          exact ⟨false, S2, M2, rfl, rfl, r3, s2.f.tr r5, r6, r7⟩
        · rw [u1, u2]
          obtain ⟨b, S3, M3, v1, v2, v3, v4, v5, v6⟩ := ih S2 M2 (k + 1) r3 r7 (by omega) (by omega) n1 n2 (by omega) (by omega)
          exact ⟨b, S3, M3, v1, v2, v3, (s2.f.tr r5).tr v4, r6.tr v5, v6⟩
theorem isKept_ok {S : yS} {Sm : xS} {ed : Nat} {rs : List (List tCl)} {x1 : Int} (h : FL S Sm ed rs) (hx1 : 0 ≤ x1 ∧ x1 < rs.length) : ∃ b S' Sm', C_isKept ed rs S x1 = some (b, S') ∧ M_isKept Sm x1 = some (b, Sm') ∧ FL S' Sm' ed rs ∧ fC S S' ∧ fM Sm Sm' ∧ Sm'.1 27 = 1000000 := by
  obtain ⟨h1, h2⟩ := h.m27 1000000
  have o1 := h.1.2.1.2.2.2.1.1
  obtain ⟨b, S3, M3, v1, v2, v3, v4, v5, v6⟩ := kept_L hx1 (Sm.2 2 4).toNat S (fset Sm 27 1000000) 0 h1 (fset_eq _ _ _) (Int.le_refl _) (by show Sm.2 2 4 - 0 = _; omega) FU FU (by unfold FU; omega) (by unfold FU; omega)
  exact ⟨b, S3, M3, v1, v2, v3, v4, h2.tr v5, v6⟩
