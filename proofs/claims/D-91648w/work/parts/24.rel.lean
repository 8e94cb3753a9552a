/-! the plain law: what both sides hold, and that they hold the same -/
set_option maxRecDepth 100000
def okLs (a : Int → Int) : Prop := (0 ≤ a 1 ∧ a 1 ≤ 16) ∧ ∀ k, 0 ≤ k → k < a 1 → (0 ≤ a (620 + 2 * k) ∧ a (620 + 2 * k) ≤ 63) ∧ (0 ≤ a (620 + 2 * k + 1) ∧ a (620 + 2 * k + 1) ≤ 7)
def okPs (a : Int → Int) : Prop := (0 ≤ a 2 ∧ a 2 ≤ 16) ∧ ∀ p, 0 ≤ p → p < a 2 → (0 ≤ a (660 + 3 * p) ∧ a (660 + 3 * p) < a 1) ∧ (0 ≤ a (660 + 3 * p + 1) ∧ a (660 + 3 * p + 1) < a 1) ∧ (1 ≤ a (660 + 3 * p + 2) ∧ a (660 + 3 * p + 2) ≤ 8)
def okFs (w h : Int) (a : Int → Int) : Prop := (0 ≤ a 4 ∧ a 4 ≤ 6) ∧ (∀ f, 0 ≤ f → f < a 4 → okP w h (a (720 + 24 * f)) (a (720 + 24 * f + 1)) ∧ (0 ≤ a (720 + 24 * f + 2) ∧ a (720 + 24 * f + 2) ≤ 63) ∧ (0 ≤ a (720 + 24 * f + 3) ∧ a (720 + 24 * f + 3) ≤ 20)) ∧ ∀ i, 720 ≤ i → i < 864 → r32 (a i)
def okC (a : Int → Int) : Prop := (0 ≤ a 3 ∧ a 3 ≤ 8) ∧ (-1 ≤ a 880 ∧ a 880 ≤ 60) ∧ (0 ≤ a 887 ∧ a 887 ≤ 16) ∧ (0 ≤ a 888 ∧ a 888 ≤ 16)
def okA (w h : Int) (a : Int → Int) : Prop := okG w h a ∧ okLs a ∧ okPs a ∧ okFs w h a ∧ okC a
theorem okB.cg {w h : Int} {a a' : Int → Int} {b : Int} (hb : 0 ≤ b ∧ b < 6) (e : ∀ i, 590 ≤ i → i < 614 → a' i = a i) (ho : okB w h a b) : okB w h a' b := by
  unfold okB at *
  rw [e _ (by omega) (by omega), e _ (by omega) (by omega), e _ (by omega) (by omega), e _ (by omega) (by omega)]
  exact ho
theorem okG.cg {w h : Int} {a a' : Int → Int} (e0 : a' 0 = a 0) (e1 : ∀ i, 10 ≤ i → i < 614 → a' i = a i) (ho : okG w h a) : okG w h a' := by
  obtain ⟨h1, h2, h3⟩ := ho
  refine ⟨by rw [e0]; exact h1, fun c c1 c2 => by rw [e1 _ (by omega) (by omega)]; exact h2 c c1 c2, fun b b1 b2 => ?_⟩
  rw [e0] at b2
  exact (h3 b b1 b2).cg ⟨b1, by omega⟩ (fun i i1 i2 => e1 i (by omega) i2)
theorem okLs.cg {a a' : Int → Int} (e0 : a' 1 = a 1) (e1 : ∀ i, 620 ≤ i → i < 652 → a' i = a i) (h : okLs a) : okLs a' := by
  obtain ⟨h1, h3⟩ := h
  refine ⟨by rw [e0]; exact h1, fun b b1 b2 => ?_⟩
  rw [e0] at b2
  rw [e1 _ (by omega) (by omega), e1 _ (by omega) (by omega)]
  exact h3 b b1 b2
theorem okPs.cg {a a' : Int → Int} (e0 : a' 1 = a 1) (e2 : a' 2 = a 2) (e1 : ∀ i, 660 ≤ i → i < 708 → a' i = a i) (h : okPs a) : okPs a' := by
  obtain ⟨h1, h3⟩ := h
  refine ⟨by rw [e2]; exact h1, fun b b1 b2 => ?_⟩
  rw [e2] at b2
  rw [e0, e1 _ (by omega) (by omega), e1 _ (by omega) (by omega), e1 _ (by omega) (by omega)]
  exact h3 b b1 b2
theorem okFs.cg {w h : Int} {a a' : Int → Int} (e0 : a' 4 = a 4) (e1 : ∀ i, 720 ≤ i → i < 864 → a' i = a i) (ho : okFs w h a) : okFs w h a' := by
  obtain ⟨h1, h3, h4⟩ := ho
  refine ⟨by rw [e0]; exact h1, fun b b1 b2 => ?_, fun i i1 i2 => by rw [e1 i i1 i2]; exact h4 i i1 i2⟩
  rw [e0] at b2
  rw [e1 _ (by omega) (by omega), e1 _ (by omega) (by omega), e1 _ (by omega) (by omega), e1 _ (by omega) (by omega)]
  exact h3 b b1 b2
theorem okC.cg {a a' : Int → Int} (e0 : a' 3 = a 3) (e1 : ∀ i, 880 ≤ i → i < 889 → a' i = a i) (h : okC a) : okC a' := by
  unfold okC at *
  rw [e0, e1 880 (by omega) (by omega), e1 887 (by omega) (by omega), e1 888 (by omega) (by omega)]
  exact h
theorem rCnt.cg {A A' : Int → Int → Int} {a a' : Int → Int} (eA : A' 2 = A 2) (e0 : ∀ i, 0 ≤ i → i ≤ 4 → a' i = a i) (e1 : ∀ i, 880 ≤ i → i < 889 → a' i = a i) (h : rCnt A a) : rCnt A' a' := ⟨fun k k1 k2 => by rw [eA, e0 k k1 k2]; exact h.1 k k1 k2, fun k k1 k2 => by rw [eA, e1 _ (by omega) (by omega)]; exact h.2 k k1 k2⟩
theorem rMark.cg {A A' : Int → Int → Int} {a a' : Int → Int} (eA : A' 3 = A 3) (e : ∀ i, 10 ≤ i → i < 586 → a' i = a i) (h : rMark A a) : rMark A' a' := fun c c1 c2 => by rw [eA, e _ (by omega) (by omega)]; exact h c c1 c2
theorem rBody.cg {A A' : Int → Int → Int} {a a' : Int → Int} (eA : ∀ q, 5 ≤ q → q < 11 → A' q = A q) (e : ∀ i, 590 ≤ i → i < 614 → a' i = a i) (h : rBody A a) : rBody A' a' := fun b j h1 h2 h3 h4 => by rw [eA _ (by omega) (by omega), e _ (by omega) (by omega)]; exact h b j h1 h2 h3 h4
theorem rLens.cg {A A' : Int → Int → Int} {a a' : Int → Int} (eA : ∀ q, 12 ≤ q → q < 28 → A' q = A q) (e : ∀ i, 620 ≤ i → i < 652 → a' i = a i) (h : rLens A a) : rLens A' a' := fun b j h1 h2 h3 h4 => by rw [eA _ (by omega) (by omega), e _ (by omega) (by omega)]; exact h b j h1 h2 h3 h4
theorem rPair.cg {A A' : Int → Int → Int} {a a' : Int → Int} (eA : ∀ q, 29 ≤ q → q < 45 → A' q = A q) (e : ∀ i, 660 ≤ i → i < 708 → a' i = a i) (h : rPair A a) : rPair A' a' := fun b j h1 h2 h3 h4 => by rw [eA _ (by omega) (by omega), e _ (by omega) (by omega)]; exact h b j h1 h2 h3 h4
theorem rRead.cg {A A' : Int → Int → Int} {a a' : Int → Int} (eA : ∀ q, 46 ≤ q → q < 52 → A' q = A q) (e : ∀ i, 720 ≤ i → i < 864 → a' i = a i) (h : rRead A a) : rRead A' a' := fun b j h1 h2 h3 h4 => by rw [eA _ (by omega) (by omega), e _ (by omega) (by omega)]; exact h b j h1 h2 h3 h4
theorem rTick.cg {A A' : Int → Int → Int} {a a' : Int → Int} (h60 : a 880 ≤ 60) (hl : a 887 ≤ 16) (hp : a 888 ≤ 16) (eA : ∀ q, 53 ≤ q → q < 235 → A' q = A q) (e : ∀ i, 880 ≤ i → i < 3170 → a' i = a i) (h : rTick A a) : rTick A' a' := by
  intro t t1 t2
  rw [e 880 (by omega) (by omega)] at t2
  obtain ⟨h1, h2, h3⟩ := h t t1 t2
  rw [e 887 (by omega) (by omega), e 888 (by omega) (by omega)]
  exact ⟨fun j j1 j2 => by rw [eA _ (by omega) (by omega), e _ (by omega) (by omega)]; exact h1 j j1 j2, fun j j1 j2 => by rw [eA _ (by omega) (by omega), e _ (by omega) (by omega)]; exact h2 j j1 j2, fun j j1 j2 => by rw [eA _ (by omega) (by omega), e _ (by omega) (by omega)]; exact h3 j j1 j2⟩
theorem rN.cg {A A' : Int → Int → Int} {a : Int → Int} (hC : okC a) (eA : ∀ q, q < 235 → A' q = A q) (h : rN A a) : rN A' a := by
  obtain ⟨h1, h2, h3, h4, h5, h6, h7⟩ := h
  have c := hC.2
  exact ⟨h1.cg (eA 2 (by decide)) (fun _ _ _ => rfl) (fun _ _ _ => rfl), h2.cg (eA 3 (by decide)) (fun _ _ _ => rfl), h3.cg (fun q _ _ => eA q (by omega)) (fun _ _ _ => rfl), h4.cg (fun q _ _ => eA q (by omega)) (fun _ _ _ => rfl), h5.cg (fun q _ _ => eA q (by omega)) (fun _ _ _ => rfl), h6.cg (fun q _ _ => eA q (by omega)) (fun _ _ _ => rfl), h7.cg (by omega) (by omega) (by omega) (fun q _ _ => eA q (by omega)) (fun _ _ _ => rfl)⟩
/-- the tape of both, and the faults -/
def rTape (S : yS) (Sm : xS) : Prop := S.1 5 = Sm.1 10 ∧ (0 ≤ Sm.1 10 ∧ Sm.1 10 ≤ 300) ∧ (∀ i, 0 ≤ i → i < 300 → S.2 471 i = Int.bmod (Sm.2 9 i) 256 ∧ 0 ≤ Sm.2 9 i ∧ Sm.2 9 i ≤ 255) ∧ S.1 6 = Sm.1 11 ∧ S.1 7 = Sm.1 12 ∧ r32 (Sm.1 11) ∧ r32 (Sm.1 12)
/-- component and model hold the same -/
def RC (S : yS) (Sm : xS) : Prop := (okW (Sm.1 0) (Sm.1 1) ∧ S.1 2 = Sm.1 0 ∧ S.1 3 = Sm.1 1) ∧ okA (Sm.1 0) (Sm.1 1) (Sm.2 2) ∧ rN S.2 (Sm.2 2) ∧ okA (Sm.1 0) (Sm.1 1) (Sm.2 3) ∧ rN (fun q => S.2 (q + 235)) (Sm.2 3) ∧ rTape S Sm
/-- what the rules lie in stays -/
def kR (S S' : yS) (Sm Sm' : xS) : Prop := (∀ k, 40 ≤ k → S'.1 k = S.1 k) ∧ Sm'.2 4 = Sm.2 4 ∧ Sm'.2 2 3 = Sm.2 2 3 ∧ Sm'.2 3 3 = Sm.2 3 3 ∧ S'.2 661 = S.2 661 ∧ Sm'.2 36 = Sm.2 36
/-- only what is laid down anew in each call has changed -/
def sc (S S' : yS) : Prop := (∀ k, k ≤ 7 → S'.1 k = S.1 k) ∧ (∀ k, 40 ≤ k → S'.1 k = S.1 k) ∧ ∀ q, (q < 472 ∨ q = 661) → S'.2 q = S.2 q
def scM (S S' : xS) : Prop := (S'.1 0 = S.1 0 ∧ S'.1 1 = S.1 1 ∧ S'.1 10 = S.1 10 ∧ S'.1 11 = S.1 11 ∧ S'.1 12 = S.1 12) ∧ S'.2 2 = S.2 2 ∧ S'.2 3 = S.2 3 ∧ S'.2 4 = S.2 4 ∧ ∀ j, (j = 9 ∨ j = 36) → S'.2 j = S.2 j
theorem sc.rf (S : yS) : sc S S := ⟨fun _ _ => rfl, fun _ _ => rfl, fun _ _ => rfl⟩
theorem sc.tr {S S' S'' : yS} (h : sc S S') (h' : sc S' S'') : sc S S'' := ⟨fun k hk => (h'.1 k hk).trans (h.1 k hk), fun k hk => (h'.2.1 k hk).trans (h.2.1 k hk), fun k hk => (h'.2.2 k hk).trans (h.2.2 k hk)⟩
theorem scM.rf (S : xS) : scM S S := ⟨⟨rfl, rfl, rfl, rfl, rfl⟩, rfl, rfl, rfl, fun _ _ => rfl⟩
theorem scM.tr {S S' S'' : xS} (h : scM S S') (h' : scM S' S'') : scM S S'' := by
  obtain ⟨⟨a1, a2, a3, a4, a5⟩, a6, a7, a8, a9⟩ := h
  obtain ⟨⟨b1, b2, b3, b4, b5⟩, b6, b7, b8, b9⟩ := h'
  exact ⟨⟨b1.trans a1, b2.trans a2, b3.trans a3, b4.trans a4, b5.trans a5⟩, b6.trans a6, b7.trans a7, b8.trans a8, fun j hj => (b9 j hj).trans (a9 j hj)⟩
theorem RC.sc {S S' : yS} {Sm Sm' : xS} (R : RC S Sm) (h : sc S S') (hm : scM Sm Sm') : RC S' Sm' ∧ kR S S' Sm Sm' := by
  obtain ⟨⟨w1, w2, w3⟩, o1, r1, o2, r2, t1, t2, t3, t4, t5, t6, t7⟩ := R
  obtain ⟨⟨m1, m2, m3, m4, m5⟩, m6, m7, m8, m9⟩ := hm
  refine ⟨⟨⟨by rw [m1, m2]; exact w1, by rw [m1, h.1 2 (by decide)]; exact w2, by rw [m2, h.1 3 (by decide)]; exact w3⟩, by rw [m1, m2, m6]; exact o1, by rw [m6]; exact r1.cg o1.2.2.2.2 (fun q hq => h.2.2 q (by omega)), by rw [m1, m2, m7]; exact o2, by rw [m7]; exact r2.cg o2.2.2.2.2 (fun q hq => h.2.2 (q + 235) (by omega)), by rw [m3, h.1 5 (by decide)]; exact t1, by rw [m3]; exact t2, fun i i1 i2 => by rw [m9 9 (by decide), h.2.2 471 (by decide)]; exact t3 i i1 i2, by rw [m4, h.1 6 (by decide)]; exact t4, by rw [m5, h.1 7 (by decide)]; exact t5, by rw [m4]; exact t6, by rw [m5]; exact t7⟩, h.2.1, m8, by rw [m6], by rw [m7], h.2.2 661 (by decide), m9 36 (by decide)⟩
theorem RC.rf {S : yS} {Sm : xS} (R : RC S Sm) : RC S Sm ∧ kR S S Sm Sm := R.sc (sc.rf S) (scM.rf Sm)
theorem cFar.sc {S S' : yS} (h : cFar S S') : sc S S' := ⟨fun k hk => h.2 k (by omega), fun k hk => h.2 k (by omega), fun q _ => by rw [h.1]⟩
theorem lays_sc {S S' : yS} (h1 : S'.1 = S.1) (h2 : ∀ q, q ≠ 472 → S'.2 q = S.2 q) : sc S S' := ⟨fun k _ => by rw [h1], fun k _ => by rw [h1], fun q hq => h2 q (by omega)⟩
theorem look_sc {S S' : xS} (h1 : S'.1 = S.1) (h2 : ∀ j, j ≠ 5 → j ≠ 6 → j ≠ 7 → S'.2 j = S.2 j) : scM S S' := ⟨⟨by rw [h1], by rw [h1], by rw [h1], by rw [h1], by rw [h1]⟩, h2 2 (by decide) (by decide) (by decide), h2 3 (by decide) (by decide) (by decide), h2 4 (by decide) (by decide) (by decide), fun j hj => h2 j (by omega) (by omega) (by omega)⟩
/-! tests of both -/
theorem M_isCell_e {Sm : xS} {c : Int} (H : okW (Sm.1 0) (Sm.1 1)) (hc : r32 c) : M_isCell Sm c = some (decide (0 ≤ c ∧ c ≤ Sm.1 0 * Sm.1 1 - 1)) := by
  have := wh_bd H
  unfold M_isCell
  rw [M_isIn_e hc (by decide) ⟨by omega, by omega⟩]
  rfl
theorem C_isCell_e {S : yS} {c : Int} (H : okW (S.1 2) (S.1 3)) (hc : r32 c) : C_isCell S c = some (decide (0 ≤ c ∧ c ≤ S.1 2 * S.1 3 - 1)) := by
  have := wh_bd H
  unfold C_isCell
  rw [C_in_e hc (by decide) ⟨by omega, by omega⟩]
  rfl
theorem M_isPlace_e {Sm : xS} {x y : Int} (H : okW (Sm.1 0) (Sm.1 1)) (hx : r32 x) (hy : r32 y) : M_isPlace Sm x y = some (decide (okP (Sm.1 0) (Sm.1 1) x y)) := by
  have h1 := H.1
  have h2 := H.2
  unfold M_isPlace
  rw [M_isIn_e hx (by decide) ⟨by omega, by omega⟩, bd_some]
  by_cases q : 0 ≤ x ∧ x ≤ 16 * Sm.1 0 - 1
  · rw [decide_eq_true q, if_pos rfl, M_isIn_e hy (by decide) ⟨by omega, by omega⟩, bd_some]
    by_cases q2 : 0 ≤ y ∧ y ≤ 16 * Sm.1 1 - 1
    · rw [decide_eq_true q2, if_pos rfl, decide_eq_true (show okP _ _ _ _ from ⟨q, q2⟩)]
    · rw [decide_eq_false q2, if_neg (by decide), decide_eq_false (fun z : okP _ _ _ _ => q2 z.2)]
  · rw [decide_eq_false q, if_neg (by decide), decide_eq_false (fun z : okP _ _ _ _ => q z.1)]
theorem C_isPlace_e {S : yS} {x y : Int} (H : okW (S.1 2) (S.1 3)) (hx : r32 x) (hy : r32 y) : C_isPlace S x y = some (decide (okP (S.1 2) (S.1 3) x y)) := by
  have h1 := H.1
  have h2 := H.2
  unfold C_isPlace
  rw [C_in_e hx (by decide) ⟨by omega, by omega⟩, bd_some]
  by_cases q : 0 ≤ x ∧ x ≤ 16 * S.1 2 - 1
  · rw [decide_eq_true q, if_pos rfl, C_in_e hy (by decide) ⟨by omega, by omega⟩, bd_some]
    by_cases q2 : 0 ≤ y ∧ y ≤ 16 * S.1 3 - 1
    · rw [decide_eq_true q2, if_pos rfl, decide_eq_true (show okP _ _ _ _ from ⟨q, q2⟩)]
    · rw [decide_eq_false q2, if_neg (by decide), decide_eq_false (fun z : okP _ _ _ _ => q2 z.2)]
  · rw [decide_eq_false q, if_neg (by decide), decide_eq_false (fun z : okP _ _ _ _ => q z.1)]
theorem C_isOne_e {S : yS} {n k : Int} (hn : 0 ≤ n ∧ n < 14) (hk : r32 k) (hc : -100 ≤ S.2 2 n ∧ S.2 2 n ≤ 100) : C_isOne S n k = some (decide (0 ≤ k ∧ k ≤ S.2 2 n - 1)) := by
  unfold C_isOne
  rw [gd_pos hn, C_in_e hk (by decide) ⟨by omega, by omega⟩]
  rfl
theorem M_isLens_e {Sm : xS} {k : Int} (hk : r32 k) (hc : 0 ≤ Sm.2 2 1 ∧ Sm.2 2 1 ≤ 16) : M_isLens Sm k = some (decide (0 ≤ k ∧ k ≤ Sm.2 2 1 - 1)) := by
  unfold M_isLens
  rw [M_isIn_e hk (by decide) ⟨by omega, by omega⟩]
  rfl
/-- takes of a lens at a place on a tick -/
def tkL (a : Int → Int) (w h x y t head k : Int) : Int := tkS (rayT a w h x y t) (a (620 + 2 * k)) (a (620 + 2 * k + 1)) head
theorem rayT_ok {w h x y t : Int} {a : Int → Int} (H : okW w h) (G : okG w h a) : okT (rayT a w h x y t) := fun q _ _ => (rayS_bd H (okM_mk H G)).1
theorem M_lensTake_e {Sm : xS} {T : Int → Int} {k head : Int} (hT : okT T) (e : ∀ q, 0 ≤ q → q < 64 → Sm.2 6 q = T q) (hL : okLs (Sm.2 2)) (hk : 0 ≤ k ∧ k < Sm.2 2 1) (hd : 0 ≤ head ∧ head ≤ 63) : M_lensTake Sm k head = some (tkS T (Sm.2 2 (620 + 2 * k)) (Sm.2 2 (620 + 2 * k + 1)) head) := by
  have h1 := hL.1
  obtain ⟨h2, h3⟩ := hL.2 k hk.1 hk.2
  unfold M_lensTake
  rw [gd_pos (by omega), gd_pos (by omega), M_takeOf_e (fun q q1 q2 => by rw [e q q1 q2]; exact hT q q1 q2) h3 h2 hd, tkS_congr e]
  rfl
theorem C_takeOf_e {S : yS} {a : Int → Int} {T : Int → Int} {k head x y : Int} (H : okW (S.1 2) (S.1 3)) (P : okP (S.1 2) (S.1 3) x y) (hM : okM (S.1 2) (S.1 3) (S.2 472)) (e : ∀ q, 0 ≤ q → q < 64 → (rayS (S.2 472) (S.1 2) (S.1 3) x y q).1 = T q) (hL : okLs a) (rL : rLens S.2 a) (hk : 0 ≤ k ∧ k < a 1) (hd : 0 ≤ head ∧ head ≤ 63) :
    ∃ S' : yS, C_takeOf S k x y head = some (tkS T (a (620 + 2 * k)) (a (620 + 2 * k + 1)) head, S') ∧ cFar S S' := by
  have h1 := hL.1
  obtain ⟨h2, h3⟩ := hL.2 k hk.1 hk.2
  have e0 : S.2 (11 + 1 + k) 0 = a (620 + 2 * k) := by rw [rL k 0 (by omega) (by omega) (by omega) (by omega), Int.add_zero]
  have e1 : S.2 (11 + 1 + k) 1 = a (620 + 2 * k + 1) := rL k 1 (by omega) (by omega) (by omega) (by omega)
  obtain ⟨S', a1, a2⟩ := C_takeOf2_e (S := S) (side := a (620 + 2 * k)) (width := a (620 + 2 * k + 1)) (head := head) (x := x) (y := y) h3 h2 hd H P hM
  refine ⟨S', ?_, a2⟩
  unfold C_takeOf
  rw [gd_pos (by omega), gd_pos (by omega), e0, e1, a1, bd2_some, tkS_congr e]
