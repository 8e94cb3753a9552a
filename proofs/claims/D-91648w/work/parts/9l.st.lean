set_option maxRecDepth 100000
theorem clW_ok (x : Int) : 4 ≤ clW x ∧ clW x ≤ 24 := by
  unfold clW
  by_cases a : x < 4
  · rw [if_pos a]; omega
  · rw [if_neg a]
    by_cases b : 24 < x
    · rw [if_pos b]; omega
    · rw [if_neg b]; omega
theorem okA_0 {w h : Int} {a : Int → Int} (ha : ∀ i, i ≠ 880 → a i = 0) (h8 : -1 ≤ a 880 ∧ a 880 ≤ 0) : okA w h a := by
  refine ⟨⟨by rw [ha 0 (by decide)]; decide, fun c c1 c2 => by rw [ha _ (by omega)]; decide, fun b b1 b2 => ?_⟩, ⟨by rw [ha 1 (by decide)]; decide, fun b b1 b2 => ?_⟩, ⟨by rw [ha 2 (by decide)]; decide, fun b b1 b2 => ?_⟩, ⟨by rw [ha 4 (by decide)]; decide, fun b b1 b2 => ?_, fun i i1 i2 => by rw [ha _ (by omega)]; decide⟩, by rw [ha 3 (by decide)]; decide, by omega, by rw [ha 887 (by decide)]; decide, by rw [ha 888 (by decide)]; decide⟩
  · rw [ha 0 (by decide)] at b2; omega
  · rw [ha 1 (by decide)] at b2; omega
  · rw [ha 2 (by decide)] at b2; omega
  · rw [ha 4 (by decide)] at b2; omega
theorem rN_0 {A : Int → Int → Int} {a : Int → Int} (hA : ∀ q i, 2 ≤ q → ¬ (q = 2 ∧ i = 5) → A q i = 0) (ha : ∀ i, i ≠ 880 → a i = 0) (e : A 2 5 = a 880) (h8 : -1 ≤ a 880 ∧ a 880 ≤ 0) : rN A a := by
  refine ⟨⟨fun k k1 k2 => by rw [hA 2 k (by decide) (by omega), ha k (by omega)], fun k k1 k2 => ?_⟩, fun c c1 c2 => by rw [hA _ _ (by omega) (by omega), ha _ (by omega)], fun b j b1 b2 j1 j2 => by rw [hA _ _ (by omega) (by omega), ha _ (by omega)], fun b j b1 b2 j1 j2 => by rw [hA _ _ (by omega) (by omega), ha _ (by omega)], fun b j b1 b2 j1 j2 => by rw [hA _ _ (by omega) (by omega), ha _ (by omega)], fun b j b1 b2 j1 j2 => by rw [hA _ _ (by omega) (by omega), ha _ (by omega)], fun t t1 t2 => by omega⟩
  by_cases h : k = 0
  · subst h
    exact e
  · rw [hA 2 _ (by decide) (by omega), ha _ (by omega)]
theorem S0_2 (eD : Nat) (w h : Int) : (∀ q i, ¬ (q = 2 ∧ i = 5) → (S0 eD w h).2 q i = 0) ∧ (S0 eD w h).2 2 5 = -1 := by
  refine ⟨fun q i hq => ?_, rfl⟩
  show (if q = 2 then (fun j : Int => if j = 5 then (-1 : Int) else 0) else fun _ => 0) i = 0
  by_cases e : q = 2
  · rw [if_pos e]
    show (if i = 5 then (-1 : Int) else 0) = 0
    rw [if_neg (fun z => hq ⟨e, z⟩)]
  · rw [if_neg e]
theorem M0_2 (w h : Int) : (∀ i, i ≠ 880 → (M0 w h).2 2 i = 0) ∧ (M0 w h).2 2 880 = -1 ∧ ∀ q, q ≠ 2 → (M0 w h).2 q = fun _ => 0 := by
  refine ⟨fun i hi => ?_, rfl, fun q hq => ?_⟩
  · unfold M0
    rw [aset_at, if_neg hi]
    rfl
  · unfold M0
    rw [aset_ne _ _ _ hq]
    rfl
theorem JJ_0 (eD : Nat) {w h : Int} (hw : okW w h) : JJ (S0 eD w h) (M0 w h) eD [] eD [] := by
  obtain ⟨a1, a2⟩ := S0_2 eD w h
  obtain ⟨b1, b2, b3⟩ := M0_2 w h
  have z3 : ∀ i, (M0 w h).2 3 i = 0 := fun i => by rw [b3 3 (by decide)]
  refine ⟨⟨⟨⟨hw, rfl, rfl⟩, okA_0 b1 (by rw [b2]; decide), rN_0 (fun q i _ => a1 q i) b1 (by rw [a2, b2]) (by rw [b2]; decide), okA_0 (fun i _ => z3 i) (by rw [z3]; decide), rN_0 (fun q i h2 hq => ?_) (fun i _ => z3 i) ?_ (by rw [z3]; decide), rfl, ⟨Int.le_refl 0, show (0 : Int) ≤ 300 by decide⟩, fun i i1 i2 => ?_, rfl, rfl, show r32 (-1) by decide, show r32 (-1) by decide⟩, ⟨rfl, rfl, b1 3 (by decide), by decide, fun r hr => absurd hr (Nat.not_lt_zero _)⟩, fun k k0 k1 => ?_⟩, ⟨rfl, rfl, z3 3, by decide, fun r hr => absurd hr (Nat.not_lt_zero _)⟩, Nat.le_refl _⟩
  · show (S0 eD w h).2 (q + 235) i = 0
    exact a1 _ _ (by omega)
  · show (S0 eD w h).2 (2 + 235) 5 = _
    rw [a1 _ _ (by decide), z3]
  · rw [a1 471 i (by omega), b3 9 (by decide)]
    exact ⟨show (0 : Int) = Int.bmod 0 256 by decide, Int.le_refl 0, show (0 : Int) ≤ 255 by decide⟩
  · rw [a1 661 k (by omega), b3 36 (by decide)]
    exact ⟨rfl, show (-1000000 : Int) ≤ 0 by decide, show (0 : Int) ≤ 1000000 by decide⟩
/-- as both are made -/
theorem start_JJ {eD : Nat} {x1 x2 : Int} {S1 : yS} {Sm : xS} (h1 : C_beI (S0 eD (clW x1) (clW x2)) = some S1) (h2 : M_copy23 (M0 (clW x1) (clW x2)) = some Sm) (m : Int) (ed' : Nat) : JJ (cfs (cfs (cfs S1 50 m) 51 ed') 52 0) Sm eD [] ed' [] := by
  obtain ⟨T1, Tm, c1, c2, -, c3⟩ := op_image (JJ_0 eD (w := clW x1) (h := clW x2) ⟨clW_ok x1, clW_ok x2⟩)
  cases Option.some.inj (c1.symm.trans h1)
  unfold M_image at c2
  rw [h2, bd_some] at c2
  have e : Sm = Tm := (Prod.mk.inj (Option.some.inj c2)).2
  subst e
  exact c3 m ed'
