set_option maxRecDepth 100000
/-! the steps of a clause are worked: the component's tree (pv) against the reference's piles -/
def stV (f : Int → Int) : List Int → Prop
  | [] => True
  | x :: p => f p.length = x ∧ (-1000000 ≤ x ∧ x ≤ 1000000) ∧ stV f p
theorem stV.cong {f g : Int → Int} : ∀ {p : List Int}, stV f p → (∀ i : Int, 0 ≤ i → i < p.length → g i = f i) → stV g p := by
  intro p
  induction p with
  | nil => intro _ _; trivial
  | cons x p ih =>
    intro h hg
    exact ⟨by rw [hg _ (by omega) (by simp only [List.length_cons]; omega)]; exact h.1, h.2.1, ih h.2.2 (fun i h0 h1 => hg i h0 (by simp only [List.length_cons]; omega))⟩
def stB (f : Int → Int) : List Bool → Prop
  | [] => True
  | b :: p => f p.length = bz b ∧ stB f p
theorem stB.cong {f g : Int → Int} : ∀ {p : List Bool}, stB f p → (∀ i : Int, 0 ≤ i → i < p.length → g i = f i) → stB g p := by
  intro p
  induction p with
  | nil => intro _ _; trivial
  | cons x p ih =>
    intro h hg
    exact ⟨by rw [hg _ (by omega) (by simp only [List.length_cons]; omega)]; exact h.1, ih h.2 (fun i h0 h1 => hg i h0 (by simp only [List.length_cons]; omega))⟩
/-- what a rule is asked with, on both sides -/
def ER (S : yS) (Sm : xS) : Prop := (S.1 25 = Sm.1 27 ∧ 0 ≤ Sm.1 27 ∧ Sm.1 27 ≤ 1000000) ∧ S.1 24 = Sm.1 28 ∧ (S.1 23 = Sm.1 39 ∧ 0 ≤ Sm.1 39 ∧ Sm.1 39 < 60) ∧ (∀ k, 0 ≤ k → k < 8 → S.2 661 k = Sm.2 36 k ∧ (-1000000 ≤ Sm.2 36 k ∧ Sm.2 36 k ≤ 1000000)) ∧
  ((0 ≤ Sm.2 2 1 ∧ Sm.2 2 1 ≤ 16) ∧ ∀ k, 0 ≤ k → k < 16 → S.2 659 k = (if k < Sm.2 2 1 then Sm.2 35 (38 * Sm.1 39 + 5 + k) else 0) ∧ r32 (S.2 659 k)) ∧ ((0 ≤ Sm.2 2 2 ∧ Sm.2 2 2 ≤ 16) ∧ ∀ k, 0 ≤ k → k < 16 → S.2 660 k = (if k < Sm.2 2 2 then Sm.2 35 (38 * Sm.1 39 + 21 + k) else 0) ∧ r32 (S.2 660 k))
def evF (S S' : yS) : Prop := S'.2 = S.2 ∧ ∀ k, k ≠ 24 → S'.1 k = S.1 k
def evM (S S' : xS) : Prop := (∀ k, k ≠ 28 → S'.1 k = S.1 k) ∧ ∀ a, a ≠ 37 → a ≠ 38 → S'.2 a = S.2 a
theorem evF.rfl_ (S : yS) : evF S S := ⟨rfl, fun _ _ => rfl⟩
theorem evM.rfl_ (S : xS) : evM S S := ⟨fun _ _ => rfl, fun _ _ _ => rfl⟩
theorem evF.trans {S X Y : yS} (h : evF S X) (g : evF X Y) : evF S Y := ⟨g.1.trans h.1, fun k a => (g.2 k a).trans (h.2 k a)⟩
theorem evM.trans {S X Y : xS} (h : evM S X) (g : evM X Y) : evM S Y := ⟨fun k a => (g.1 k a).trans (h.1 k a), fun a a1 a2 => (g.2 a a1 a2).trans (h.2 a a1 a2)⟩
theorem ER.fr {S S' : yS} {Sm Sm' : xS} (h : ER S Sm) (h1 : evF S S') (h2 : evM Sm Sm') (ho : S'.1 24 = Sm'.1 28) : ER S' Sm' := by
  obtain ⟨a, b, c, d, e, f⟩ := h
  unfold ER
  rw [h1.1, h1.2 25 (by decide), h1.2 23 (by decide), h2.1 27 (by decide), h2.1 39 (by decide), h2.2 36 (by decide) (by decide), h2.2 35 (by decide) (by decide), h2.2 2 (by decide) (by decide)]
  exact ⟨a, ho, c, d, e, f⟩
/-- a value is held within the bound -/
theorem held_e {S : yS} {Sm : xS} (h : ER S Sm) {v : Int} (hv : -1000000000001 < v ∧ v < 1000000000001) : ∃ z S' Sm', E_held S v = some (z, S') ∧ M_bring Sm v = some (z, Sm') ∧ (-1000000 ≤ z ∧ z ≤ 1000000) ∧ ER S' Sm' ∧ evF S S' ∧ evM Sm Sm' ∧ Sm'.2 = Sm.2 := by
  have hb := h.1
  have ho := h.2.1
  have e27 : (fset Sm 28 (Sm.1 28 + 1)).1 27 = Sm.1 27 := rfl
  have h29 : ∀ X : xS, X.1 27 = Sm.1 27 → M_bring_B29 X v = some (hB (Sm.1 27) v, X) := by
    intro X hX
    unfold M_bring_B29 hB
    rw [hX, gd_pos (by omega)]
    by_cases c1 : v ≤ Sm.1 27
    · rw [if_pos c1, gd_pos (by omega), if_pos c1]
      by_cases c2 : v < -Sm.1 27
      · rw [if_pos c2, if_neg (by omega)]
      · rw [if_neg c2]
        by_cases c3 : -Sm.1 27 < v
        · rw [if_pos c3]
        · rw [if_neg c3, show v = -Sm.1 27 by omega]
    · rw [if_neg c1, if_neg c1]
  have hz : -1000000 ≤ hB (Sm.1 27) v ∧ hB (Sm.1 27) v ≤ 1000000 := by
    unfold hB
    repeat' split
    all_goals omega
  unfold E_held M_bring
  rw [hb.1, gd_pos (by omega), gd_pos (by omega)]
  by_cases c1 : v ≤ Sm.1 27 ∧ -(Sm.1 27) ≤ v
  · rw [if_pos c1, if_pos c1.1, gd_pos (by omega), if_neg (by omega), h29 Sm rfl]
    exact ⟨_, S, Sm, rfl, rfl, hz, h, evF.rfl_ _, evM.rfl_ _, rfl⟩
  · have f1 : evF S (cfs S 24 (S.1 24 + 1)) := ⟨rfl, fun k hk => cfs_ne _ _ hk⟩
    have f2 : evM Sm (fset Sm 28 (Sm.1 28 + 1)) := ⟨fun k hk => fset_ne _ _ hk, fun _ _ _ => rfl⟩
    have hR := h.fr f1 f2 (by rw [cfs_eq, fset_eq, ho])
    have h19 : M_bring_B19 Sm v = some (hB (Sm.1 27) v, fset Sm 28 (Sm.1 28 + 1)) := by
      unfold M_bring_B19
      rw [nm_eq, h29 _ e27]
    rw [if_neg c1]
    refine ⟨_, _, fset Sm 28 (Sm.1 28 + 1), rfl, ?_, hz, hR, f1, f2, rfl⟩
    by_cases c2 : v ≤ Sm.1 27
    · rw [if_pos c2, gd_pos (by omega), if_pos (by omega), h19]
    · rw [if_neg c2, h19]
def WS (S : yS) (Sm : xS) (vs : List Int) (bs : List Bool) : Prop := ER S Sm ∧ stV (Sm.2 37) vs ∧ stB (Sm.2 38) bs
theorem WS.pushV {S : yS} {Sm : xS} {vs : List Int} {bs : List Bool} (h : ER S Sm) (h1 : stV (Sm.2 37) vs) (h2 : stB (Sm.2 38) bs) {z : Int} (hz : -1000000 ≤ z ∧ z ≤ 1000000) : WS S (aset Sm 37 (vs.length : Int) z) (z :: vs) bs ∧ evM Sm (aset Sm 37 (vs.length : Int) z) := by
  have f : evM Sm (aset Sm 37 (vs.length : Int) z) := ⟨fun _ _ => rfl, fun a a1 a2 => aset_ne _ _ _ a1⟩
  refine ⟨⟨h.fr (evF.rfl_ S) f h.2.1, ⟨?_, hz, h1.cong (fun i h0 h3 => ?_)⟩, ?_⟩, f⟩
  · rw [aset_at, if_pos rfl]
  · rw [aset_at, if_neg (by omega)]
  · rw [aset_ne _ _ _ (by decide)]; exact h2
theorem WS.pushB {S : yS} {Sm : xS} {vs : List Int} {bs : List Bool} (h : ER S Sm) (h1 : stV (Sm.2 37) vs) (h2 : stB (Sm.2 38) bs) {b : Bool} : WS S (aset Sm 38 (bs.length : Int) (bz b)) vs (b :: bs) ∧ evM Sm (aset Sm 38 (bs.length : Int) (bz b)) := by
  have f : evM Sm (aset Sm 38 (bs.length : Int) (bz b)) := ⟨fun _ _ => rfl, fun a a1 a2 => aset_ne _ _ _ a2⟩
  refine ⟨⟨h.fr (evF.rfl_ S) f h.2.1, ?_, ⟨?_, h2.cong (fun i h0 h3 => ?_)⟩⟩, f⟩
  · rw [aset_ne _ _ _ (by decide)]; exact h1
  · rw [aset_at, if_pos rfl]
  · rw [aset_at, if_neg (by omega)]
theorem work_step {S : yS} {Sm : xS} {vs : List Int} {bs : List Bool} (h : WS S Sm vs bs) {o v x1 x3 : Int} {i : Nat} {h1 h2 : Nat} (hck : ck1 (o, v) (vs.length, bs.length) = some (h1, h2)) (hv : vs.length ≤ 320) (hbl : bs.length ≤ 320) (hi : (i : Int) < x3) (hx : 0 ≤ x1 ∧ x1 + 2 * (i : Int) + 1 < 6400) (hx3 : x3 ≤ 1000) (ho : Sm.2 4 (x1 + 2 * (i : Int)) = o) (hov : Sm.2 4 (x1 + 2 * (i : Int) + 1) = v) (K : xS → Int → Int → Int → Option xS) : ∃ vs' bs' S' Sm', pv1 o v (vs, bs, S) = some (vs', bs', S') ∧ M_work_b9 x1 x3 K Sm vs.length bs.length i = K Sm' vs'.length bs'.length ((i : Int) + 1) ∧ WS S' Sm' vs' bs' ∧ vs'.length = h1 ∧ bs'.length = h2 ∧ evF S S' ∧ evM Sm Sm' := by
  obtain ⟨hE, hV, hBs⟩ := h
  have e0 : M_work_b9 x1 x3 K Sm vs.length bs.length i = _ := rfl
  unfold M_work_b9 at e0 ⊢
  clear e0
  rw [gd_pos (by omega), if_pos hi, gd_pos (by omega), nm_eq, ho, gd_pos (by omega), nm_eq, hov]
  -- a leaf
  have leaf : ∀ w : Int, (-1000000000001 < w ∧ w < 1000000000001) → M_valueOf Sm o v = some w → pv1 o v (vs, bs, S) = pvH (vs, bs, S) w → h1 = vs.length + 1 → h2 = bs.length → ∃ vs' bs' S' Sm', pv1 o v (vs, bs, S) = some (vs', bs', S') ∧ M_work_B56 K Sm x1 x3 vs.length bs.length i o v = K Sm' vs'.length bs'.length ((i : Int) + 1) ∧ WS S' Sm' vs' bs' ∧ vs'.length = h1 ∧ bs'.length = h2 ∧ evF S S' ∧ evM Sm Sm' := by
    intro w hw hvo hpv q1 q2
    obtain ⟨z, S', X, a1, a2, a3, a4, a5, a6, a7⟩ := held_e hE hw
    obtain ⟨p1, p2⟩ := WS.pushV (Sm := X) a4 (by rw [a7]; exact hV) (by rw [a7]; exact hBs) a3
    refine ⟨z :: vs, bs, S', _, ?_, ?_, p1, by rw [q1]; rfl, q2.symm, a5, a6.trans p2⟩
    · rw [hpv]
      unfold pvH
      rw [a1, bd2_some]
    · unfold M_work_B56
      rw [hvo, bd_some, a2, bd2_some, gd_pos (by omega), nm_eq, nm_eq, nm_eq]
      simp only [List.length_cons]
      rfl
  unfold ck1 at hck
  by_cases c0 : o = 0
  · subst c0
    rw [if_pos (show ((0 : Int), v).1 = 0 from rfl)] at hck
    by_cases g : 0 ≤ v ∧ v ≤ 9999
    · rw [if_pos g] at hck
      cases Option.some.inj hck
      rw [gd_pos (by decide), if_pos (by decide)]
      refine leaf v (by omega) ?_ ?_ rfl rfl
      · unfold M_valueOf
        rw [gd_pos (by decide), if_pos rfl, gd_pos (by omega)]
      · unfold pv1
        rw [if_pos rfl, gd_pos (by omega)]
    · rw [if_neg g] at hck; cases hck
  rw [if_neg (show ¬ (o, v).1 = 0 from c0)] at hck
  by_cases c1 : o = 1
  · subst c1
    rw [if_pos (show ((1 : Int), v).1 = 1 from rfl)] at hck
    by_cases g : 0 ≤ v ∧ v < 8
    · rw [if_pos g] at hck
      cases Option.some.inj hck
      rw [gd_pos (by decide), if_pos (by decide)]
      obtain ⟨l1, l2⟩ := hE.2.2.2.1 v g.1 g.2
      refine leaf (Sm.2 36 v) (by omega) ?_ ?_ rfl rfl
      · unfold M_valueOf
        rw [gd_pos (by decide), if_neg (by decide), if_pos rfl, gd_pos g, gd_pos (by omega)]
      · unfold pv1
        rw [if_neg (by decide), if_pos rfl, gd_pos g]
        show pvH (vs, bs, S) (S.2 661 v) = _
        rw [l1]
    · rw [if_neg g] at hck; cases hck
  rw [if_neg (show ¬ (o, v).1 = 1 from c1)] at hck
  by_cases c30 : o = 30
  · subst c30
    rw [if_pos (show ((30 : Int), v).1 = 30 from rfl)] at hck
    cases Option.some.inj hck
    rw [gd_pos (by decide), if_neg (by decide), gd_pos (by decide), if_neg (by decide)]
    have ht := hE.2.2.1
    refine leaf (Sm.1 39) (by omega) ?_ ?_ rfl rfl
    · unfold M_valueOf
      rw [gd_pos (by decide), if_neg (by decide), if_neg (by decide), if_pos rfl, gd_pos (by omega)]
    · unfold pv1
      rw [if_neg (by decide), if_neg (by decide), if_pos rfl]
      show gd (r32 (S.1 23)) (pvH (vs, bs, S) (S.1 23)) = _
      rw [ht.1, gd_pos (by omega)]
  rw [if_neg (show ¬ (o, v).1 = 30 from c30)] at hck
  by_cases c31 : o = 31 ∨ o = 32
  · rw [if_pos (show (o, v).1 = 31 ∨ (o, v).1 = 32 from c31)] at hck
    by_cases g : 0 ≤ v ∧ v < 16
    · rw [if_pos (show 0 ≤ (o, v).2 ∧ (o, v).2 < 16 from g)] at hck
      cases Option.some.inj hck
      rw [gd_pos (by omega), if_neg (by omega), gd_pos (by omega), if_neg (by omega)]
      have ht := hE.2.2.1
      rcases c31 with rfl | rfl
      · obtain ⟨n1, n2⟩ := hE.2.2.2.2.1
        obtain ⟨t1, t2⟩ := n2 v g.1 g.2
        refine leaf (S.2 659 v) (by omega) ?_ ?_ rfl rfl
        · unfold M_valueOf
          rw [gd_pos (by decide), if_neg (by decide), if_neg (by decide), if_neg (by decide), if_pos rfl, gd_pos (by omega), t1]
          by_cases q : v < Sm.2 2 1
          · rw [if_pos q] at t1 ⊢
            rw [if_pos q, gd_pos (by omega), gd_pos (by rw [← t1]; exact t2)]
          · rw [if_neg q, if_neg q]
        · unfold pv1
          rw [if_neg (by decide), if_neg (by decide), if_neg (by decide), if_pos rfl, gd_pos g, gd_pos t2]
      · obtain ⟨n1, n2⟩ := hE.2.2.2.2.2
        obtain ⟨t1, t2⟩ := n2 v g.1 g.2
        refine leaf (S.2 660 v) (by omega) ?_ ?_ rfl rfl
        · unfold M_valueOf
          rw [gd_pos (by decide), if_neg (by decide), if_neg (by decide), if_neg (by decide), if_neg (by decide), gd_pos (by omega), t1]
          by_cases q : v < Sm.2 2 2
          · rw [if_pos q] at t1 ⊢
            rw [if_pos q, gd_pos (by omega), gd_pos (by rw [← t1]; exact t2)]
          · rw [if_neg q, if_neg q]
        · unfold pv1
          rw [if_neg (by decide), if_neg (by decide), if_neg (by decide), if_neg (by decide), if_pos rfl, gd_pos g, gd_pos t2]
    · rw [if_neg (show ¬ (0 ≤ (o, v).2 ∧ (o, v).2 < 16) from g)] at hck; cases hck
  rw [if_neg (show ¬ ((o, v).1 = 31 ∨ (o, v).1 = 32) from c31)] at hck
  clear leaf
  by_cases c2 : o = 2
  · subst c2
    rw [if_pos (show ((2 : Int), v).1 = 2 from rfl)] at hck
    cases vs with
    | nil => rw [if_neg (by simp)] at hck; cases hck
    | cons x vs =>
      rw [if_pos (by simp)] at hck
      cases Option.some.inj hck
      have hL : (x :: vs).length = vs.length + 1 := rfl
      rw [hL] at hv ⊢
      obtain ⟨v1, v2, v3⟩ := hV
      have e1 : ((vs.length + 1 : Nat) : Int) - 1 = vs.length := by omega
      obtain ⟨p1, p2⟩ := WS.pushV (z := -x) hE v3 hBs (by omega)
      refine ⟨(-x) :: vs, bs, S, _, rfl, ?_, p1, rfl, rfl, evF.rfl_ _, p2⟩
      rw [gd_pos (by decide), if_neg (by decide), gd_pos (by decide), if_pos (by decide), gd_pos (by decide), if_pos (show (2 : Int) = 2 from rfl), e1, gd_pos (by omega), gd_pos (by omega), nm_eq, nm_eq, v1]
      rfl
  rw [if_neg (show ¬ (o, v).1 = 2 from c2)] at hck
  by_cases c3 : 3 ≤ o ∧ o ≤ 8
  · rw [if_pos (show 3 ≤ (o, v).1 ∧ (o, v).1 ≤ 8 from c3)] at hck
    match vs, hV, hv, hck with
    | [], _, _, hck => rw [if_neg (by simp)] at hck; cases hck
    | [_], _, _, hck => rw [if_neg (by simp)] at hck; cases hck
    | y :: x :: vs, hV, hv, hck =>
      rw [if_pos (by simp)] at hck
      cases Option.some.inj hck
      simp only [List.length_cons] at hv ⊢
      obtain ⟨y1, y2, x1', x2, v3⟩ := hV
      simp only [List.length_cons] at y1
      have e1 : ((vs.length + 1 + 1 : Nat) : Int) + (-1) = ((vs.length + 1 : Nat) : Int) := by omega
      have e2 : ((vs.length + 1 : Nat) : Int) - 1 = (vs.length : Int) := by omega
      have hpv : pv1 o v (y :: x :: vs, bs, S) = pv2 o x y vs bs S := by
        unfold pv1
        rw [if_neg c0, if_neg c1, if_neg c30, if_neg (by omega), if_neg (by omega), if_neg c2, if_neg (by omega), if_neg (by omega), if_neg (by omega)]
      rw [hpv]
      have hxy := mul_bd (a := x) (b := y) (m := 1000000) (n := 1000000) (by omega) (by omega)
      -- what both make of the two
      have two : ∃ z S' X, pv2 o x y vs bs S = some (z :: vs, bs, S') ∧ M_two Sm o x y = some (z, X) ∧ (-1000000 ≤ z ∧ z ≤ 1000000) ∧ ER S' X ∧ evF S S' ∧ evM Sm X ∧ X.2 = Sm.2 := by
        have hold : ∀ w : Int, (-1000000000001 < w ∧ w < 1000000000001) → ∃ z S' X, pvH (vs, bs, S) w = some (z :: vs, bs, S') ∧ bd2 (M_bring Sm w) (fun v3 S4 => some ((v3 : Int), S4)) = some (z, X) ∧ (-1000000 ≤ z ∧ z ≤ 1000000) ∧ ER S' X ∧ evF S S' ∧ evM Sm X ∧ X.2 = Sm.2 := by
          intro w hw
          obtain ⟨z, S', X, a1, a2, a3, a4, a5, a6, a7⟩ := held_e hE hw
          refine ⟨z, S', X, ?_, by rw [a2, bd2_some], a3, a4, a5, a6, a7⟩
          unfold pvH
          rw [a1, bd2_some]
        unfold pv2 M_two
        rw [gd_pos (show r32 o by omega)]
        by_cases d3 : o = 3
        · rw [if_pos d3, if_pos d3, gd_pos (by omega)]
          exact hold (x + y) (by omega)
        rw [if_neg d3, if_neg d3]
        by_cases d4 : o = 4
        · rw [if_pos d4, if_pos d4, gd_pos (by omega)]
          exact hold (x - y) (by omega)
        rw [if_neg d4, if_neg d4]
        by_cases d5 : o = 5
        · rw [if_pos d5, if_pos d5, gd_pos (by omega)]
          exact hold (x * y) (by omega)
        rw [if_neg d5, if_neg d5]
        by_cases d6 : o = 6
        · rw [if_pos d6, if_pos d6, gd_pos (show r64 x ∧ r64 y by omega), gd_pos (show r64 y by omega)]
          by_cases y0 : y = 0
          · rw [if_pos y0, if_pos y0]
            refine ⟨0, S, Sm, ?_, rfl, by decide, hE, evF.rfl_ _, evM.rfl_ _, rfl⟩
            unfold pvH E_held
            have hb := hE.1
            show bd2 (gd (r64 0 ∧ (0 : Int) ≤ S.1 25 ∧ S.1 25 < 1000000000000) (if (0 : Int) ≤ S.1 25 ∧ -(S.1 25) ≤ 0 then some (hB (S.1 25) 0, S) else some (hB (S.1 25) 0, cfs S 24 (S.1 24 + 1)))) _ = _
            rw [gd_pos (by omega), if_pos (by omega), bd2_some]
            have : hB (S.1 25) 0 = 0 := by
              unfold hB
              rw [if_pos (by omega)]
              by_cases q : -S.1 25 < 0
              · rw [if_pos q]
              · rw [if_neg q]; omega
            rw [this]
          · rw [if_neg y0, if_neg y0, gd_pos (show r64 x ∧ r64 y ∧ y ≠ 0 from ⟨by omega, by omega, y0⟩)]
            have hd : -1000000 ≤ x.tdiv y ∧ x.tdiv y ≤ 1000000 := by
              have h1 : (x.tdiv y).natAbs ≤ x.natAbs := by
                rw [Int.natAbs_tdiv]
                exact Nat.div_le_self _ _
              omega
            exact hold (x.tdiv y) (by omega)
        rw [if_neg d6, if_neg d6]
        by_cases d7 : o = 7
        · rw [if_pos d7, if_pos d7, gd_pos (show r64 x ∧ r64 y by omega), gd_pos (show r64 x ∧ r64 y by omega)]
          refine ⟨if x ≤ y then x else y, S, Sm, rfl, ?_, by split <;> omega, hE, evF.rfl_ _, evM.rfl_ _, rfl⟩
          by_cases q : x < y
          · rw [if_pos q, if_pos (by omega)]
          · rw [if_neg q]
            by_cases q2 : x ≤ y
            · rw [if_pos q2, show x = y by omega]
            · rw [if_neg q2]
        · rw [if_neg d7, if_neg d7, if_pos (show o = 8 by omega), gd_pos (show r64 x ∧ r64 y by omega), gd_pos (show r64 x ∧ r64 y by omega)]
          refine ⟨if x < y then y else x, S, Sm, rfl, ?_, by split <;> omega, hE, evF.rfl_ _, evM.rfl_ _, rfl⟩
          by_cases q : x < y
          · rw [if_pos q, if_pos (by omega)]
          · rw [if_neg q]
            by_cases q2 : x ≤ y
            · rw [if_pos q2, show x = y by omega]
            · rw [if_neg q2]
      obtain ⟨z, S', X, t1, t2, t3, t4, t5, t6, t7⟩ := two
      obtain ⟨p1, p2⟩ := WS.pushV (Sm := X) (vs := vs) (bs := bs) (z := z) t4 (by rw [t7]; exact v3) (by rw [t7]; exact hBs) t3
      refine ⟨z :: vs, bs, S', _, t1, ?_, p1, rfl, rfl, t5, t6.trans p2⟩
      rw [gd_pos (show r32 o by omega), if_neg (by omega), gd_pos (show r32 o by omega), if_pos (show o < 30 by omega), gd_pos (show r32 o by omega), if_neg c2, gd_pos (show r32 o by omega), if_pos (show o < 10 by omega), nm_eq, e1, e2, gd_pos (by omega), gd_pos (by omega), x1', y1, t2, bd2_some, gd_pos (by omega), nm_eq, nm_eq]
      rfl
  rw [if_neg (show ¬ (3 ≤ (o, v).1 ∧ (o, v).1 ≤ 8) from c3)] at hck
  have hr : r32 o := by
    by_cases c : (10 ≤ o ∧ o ≤ 15) ∨ o = 20 ∨ o = 21 ∨ o = 22
    · omega
    · rw [if_neg (show ¬ (10 ≤ (o, v).1 ∧ (o, v).1 ≤ 15) from fun w => c (Or.inl w)), if_neg (show ¬ (o, v).1 = 20 from fun w => c (Or.inr (Or.inl w))), if_neg (show ¬ ((o, v).1 = 21 ∨ (o, v).1 = 22) from fun w => c (Or.inr (Or.inr w)))] at hck
      cases hck
  by_cases c10 : 10 ≤ o ∧ o ≤ 15
  · rw [if_pos (show 10 ≤ (o, v).1 ∧ (o, v).1 ≤ 15 from c10)] at hck
    match vs, hV, hv, hck with
    | [], _, _, hck => rw [if_neg (by simp)] at hck; cases hck
    | [_], _, _, hck => rw [if_neg (by simp)] at hck; cases hck
    | y :: x :: vs, hV, hv, hck =>
      rw [if_pos (by simp)] at hck
      cases Option.some.inj hck
      simp only [List.length_cons] at hv ⊢
      obtain ⟨y1, y2, x1', x2, v3⟩ := hV
      simp only [List.length_cons] at y1
      have e1 : ((vs.length + 1 + 1 : Nat) : Int) + (-2) = (vs.length : Int) := by omega
      have e2 : ((vs.length : Nat) : Int) + 1 = ((vs.length + 1 : Nat) : Int) := by omega
      obtain ⟨b, hb⟩ : ∃ b : Bool, b = if o = 10 then decide (x - y < 0) else if o = 11 then decide (x - y ≤ 0) else if o = 12 then decide (0 < x - y) else if o = 13 then decide (0 ≤ x - y) else if o = 14 then decide (x - y = 0) else (!decide (x - y = 0)) := ⟨_, rfl⟩
      have hpv : pv1 o v (y :: x :: vs, bs, S) = some (vs, b :: bs, S) := by
        unfold pv1
        rw [if_neg c0, if_neg c1, if_neg c30, if_neg (by omega), if_neg (by omega), if_neg c2, if_neg (by omega), if_neg (by omega), if_neg (by omega)]
        show pv2 o x y vs bs S = _
        unfold pv2
        rw [if_neg (by omega), if_neg (by omega), if_neg (by omega), if_neg (by omega), if_neg (by omega), if_neg (by omega), gd_pos (by omega), ← hb]
      have hA : M_isAsked o x y = some b := by
        rw [hb]
        unfold M_isAsked
        by_cases d0 : o = 10
        · rw [gd_pos hr, if_pos d0, gd_pos (by omega), if_pos d0]
          by_cases q : x < y
          · rw [if_pos q, decide_eq_true (by omega)]
          · rw [if_neg q, decide_eq_false (by omega)]
        by_cases d1 : o = 11
        · rw [gd_pos hr, if_neg d0, gd_pos hr, if_pos d1, gd_pos (by omega), if_neg d0, if_pos d1]
          by_cases q : x ≤ y
          · rw [if_pos q, decide_eq_true (by omega)]
          · rw [if_neg q, decide_eq_false (by omega)]
        by_cases d2 : o = 12
        · rw [gd_pos hr, if_neg d0, gd_pos hr, if_neg d1, gd_pos hr, if_pos d2, gd_pos (by omega), if_neg d0, if_neg d1, if_pos d2]
          by_cases q : x ≤ y
          · rw [if_pos q, decide_eq_false (by omega)]
          · rw [if_neg q, decide_eq_true (by omega)]
        by_cases d3 : o = 13
        · rw [gd_pos hr, if_neg d0, gd_pos hr, if_neg d1, gd_pos hr, if_neg d2, gd_pos hr, if_pos d3, gd_pos (by omega), if_neg d0, if_neg d1, if_neg d2, if_pos d3]
          by_cases q : x < y
          · rw [if_pos q, decide_eq_false (by omega)]
          · rw [if_neg q, decide_eq_true (by omega)]
        by_cases d4 : o = 14
        · rw [gd_pos hr, if_neg d0, gd_pos hr, if_neg d1, gd_pos hr, if_neg d2, gd_pos hr, if_neg d3, gd_pos hr, if_pos d4, gd_pos (by omega), if_neg d0, if_neg d1, if_neg d2, if_neg d3, if_pos d4]
          by_cases q : x = y
          · rw [if_pos q, decide_eq_true (by omega)]
          · rw [if_neg q, decide_eq_false (by omega)]
        · rw [gd_pos hr, if_neg d0, gd_pos hr, if_neg d1, gd_pos hr, if_neg d2, gd_pos hr, if_neg d3, gd_pos hr, if_neg d4, gd_pos (by omega), if_neg d0, if_neg d1, if_neg d2, if_neg d3, if_neg d4]
          by_cases q : x = y
          · rw [if_pos q, decide_eq_true (by omega)]; rfl
          · rw [if_neg q, decide_eq_false (by omega)]; rfl
      obtain ⟨p1, p2⟩ := WS.pushB (vs := vs) (b := b) hE v3 hBs
      refine ⟨vs, b :: bs, S, _, hpv, ?_, p1, rfl, rfl, evF.rfl_ _, p2⟩
      rw [gd_pos hr, if_neg (by omega), gd_pos hr, if_pos (show o < 30 by omega), gd_pos hr, if_neg c2, gd_pos hr, if_neg (show ¬ o < 10 by omega), gd_pos hr, if_pos (show o < 20 by omega), nm_eq, e1, gd_pos (by omega), gd_pos (by omega), x1', e2, y1, hA, bd_some, gd_pos (by omega), nm_eq, nm_eq, nm_eq]
      rfl
  rw [if_neg (show ¬ (10 ≤ (o, v).1 ∧ (o, v).1 ≤ 15) from c10)] at hck
  by_cases c20 : o = 20
  · subst c20
    rw [if_pos (show ((20 : Int), v).1 = 20 from rfl)] at hck
    cases bs with
    | nil => rw [if_neg (by simp)] at hck; cases hck
    | cons b bs =>
      rw [if_pos (by simp)] at hck
      cases Option.some.inj hck
      have hL : (b :: bs).length = bs.length + 1 := rfl
      rw [hL] at hbl ⊢
      obtain ⟨v1, v3⟩ := hBs
      have e1 : ((bs.length + 1 : Nat) : Int) - 1 = bs.length := by omega
      obtain ⟨p1, p2⟩ := WS.pushB (vs := vs) (b := !b) hE hV v3
      refine ⟨vs, (!b) :: bs, S, _, rfl, ?_, p1, rfl, rfl, evF.rfl_ _, p2⟩
      rw [gd_pos (show r32 (20 : Int) by decide), if_neg (show ¬ (20 : Int) ≤ 1 by decide), gd_pos (show r32 (20 : Int) by decide), if_pos (show (20 : Int) < 30 by decide), gd_pos (show r32 (20 : Int) by decide), if_neg (show ¬ (20 : Int) = 2 by decide), gd_pos (show r32 (20 : Int) by decide), if_neg (show ¬ (20 : Int) < 10 by decide), gd_pos (show r32 (20 : Int) by decide), if_neg (show ¬ (20 : Int) < 20 by decide), gd_pos (show r32 (20 : Int) by decide), if_pos rfl, e1, gd_pos (by omega), v1, gd_pos (bz_r b)]
      unfold M_work_B229
      cases b
      · rw [if_pos (show bz false = 0 from rfl), gd_pos (by omega), gd_pos (by decide), nm_eq, nm_eq]; rfl
      · rw [if_neg (show ¬ bz true = 0 by decide), gd_pos (by omega), gd_pos (by decide), nm_eq, nm_eq]; rfl
  rw [if_neg (show ¬ (o, v).1 = 20 from c20)] at hck
  by_cases c21 : o = 21 ∨ o = 22
  · rw [if_pos (show (o, v).1 = 21 ∨ (o, v).1 = 22 from c21)] at hck
    match bs, hBs, hbl, hck with
    | [], _, _, hck => rw [if_neg (by simp)] at hck; cases hck
    | [_], _, _, hck => rw [if_neg (by simp)] at hck; cases hck
    | b :: a :: bs, hBs, hbl, hck =>
      rw [if_pos (by simp)] at hck
      cases Option.some.inj hck
      have hL : (b :: a :: bs).length = bs.length + 1 + 1 := rfl
      rw [hL] at hbl ⊢
      obtain ⟨y1, x1', v3⟩ := hBs
      have yy : Sm.2 38 ((bs.length + 1 : Nat) : Int) = bz b := y1
      have e1 : ((bs.length + 1 + 1 : Nat) : Int) + (-1) = ((bs.length + 1 : Nat) : Int) := by omega
      have e2 : ((bs.length + 1 : Nat) : Int) - 1 = (bs.length : Int) := by omega
      rcases c21 with rfl | rfl
      · obtain ⟨p1, p2⟩ := WS.pushB (vs := vs) (b := a && b) hE hV v3
        refine ⟨vs, (a && b) :: bs, S, _, rfl, ?_, p1, rfl, rfl, evF.rfl_ _, p2⟩
        rw [gd_pos hr, if_neg (show ¬ (21 : Int) ≤ 1 by decide), gd_pos hr, if_pos (show (21 : Int) < 30 by decide), gd_pos hr, if_neg (show ¬ (21 : Int) = 2 by decide), gd_pos hr, if_neg (show ¬ (21 : Int) < 10 by decide), gd_pos hr, if_neg (show ¬ (21 : Int) < 20 by decide), gd_pos hr, if_neg (show ¬ (21 : Int) = 20 by decide), nm_eq, gd_pos hr, if_pos rfl, e1, e2, gd_pos (by omega), x1', gd_pos (bz_r a)]
        unfold M_work_B277 M_work_B308
        cases a
        · rw [if_pos (show bz false = 0 from rfl), gd_pos (by omega), gd_pos (by decide), nm_eq, nm_eq]; rfl
        · rw [if_neg (show ¬ bz true = 0 by decide), gd_pos (by omega), yy, gd_pos (bz_r b)]
          cases b
          · rw [if_pos (show bz false = 0 from rfl), gd_pos (by omega), gd_pos (by decide), nm_eq, nm_eq]; rfl
          · rw [if_neg (show ¬ bz true = 0 by decide), gd_pos (by omega), gd_pos (by decide), nm_eq, nm_eq]; rfl
      · obtain ⟨p1, p2⟩ := WS.pushB (vs := vs) (b := a || b) hE hV v3
        refine ⟨vs, (a || b) :: bs, S, _, rfl, ?_, p1, rfl, rfl, evF.rfl_ _, p2⟩
        rw [gd_pos hr, if_neg (show ¬ (22 : Int) ≤ 1 by decide), gd_pos hr, if_pos (show (22 : Int) < 30 by decide), gd_pos hr, if_neg (show ¬ (22 : Int) = 2 by decide), gd_pos hr, if_neg (show ¬ (22 : Int) < 10 by decide), gd_pos hr, if_neg (show ¬ (22 : Int) < 20 by decide), gd_pos hr, if_neg (show ¬ (22 : Int) = 20 by decide), nm_eq, gd_pos hr, if_neg (show ¬ (22 : Int) = 21 by decide), e1, e2, gd_pos (by omega), x1', gd_pos (bz_r a)]
        unfold M_work_B303 M_work_B308
        cases a
        · rw [if_pos (show bz false = 0 from rfl), gd_pos (by omega), yy, gd_pos (bz_r b)]
          cases b
          · rw [if_pos (show bz false = 0 from rfl), gd_pos (by omega), gd_pos (by decide), nm_eq, nm_eq]; rfl
          · rw [if_neg (show ¬ bz true = 0 by decide), gd_pos (by omega), gd_pos (by decide), nm_eq, nm_eq]; rfl
        · rw [if_neg (show ¬ bz true = 0 by decide), gd_pos (by omega), gd_pos (by decide), nm_eq, nm_eq]; rfl
  · rw [if_neg (show ¬ ((o, v).1 = 21 ∨ (o, v).1 = 22) from c21)] at hck
    cases hck
theorem ite_inj {c : Prop} [Decidable c] {a k : Nat × Nat} (h : (if c then some a else none) = some k) : k = a := by
  by_cases g : c
  · rw [if_pos g] at h; exact (Option.some.inj h).symm
  · rw [if_neg g] at h; cases h
theorem ck1_len {s : Int × Int} {h k : Nat × Nat} (hk : ck1 s h = some k) : k.1 ≤ h.1 + 1 ∧ k.2 ≤ h.2 + 1 := by
  unfold ck1 at hk
  by_cases c1 : s.1 = 0
  · rw [if_pos c1] at hk; rw [ite_inj hk]; exact ⟨Nat.le_refl _, Nat.le_add_right _ _⟩
  rw [if_neg c1] at hk
  by_cases c2 : s.1 = 1
  · rw [if_pos c2] at hk; rw [ite_inj hk]; exact ⟨Nat.le_refl _, Nat.le_add_right _ _⟩
  rw [if_neg c2] at hk
  by_cases c3 : s.1 = 30
  · rw [if_pos c3] at hk; rw [← Option.some.inj hk]; exact ⟨Nat.le_refl _, Nat.le_add_right _ _⟩
  rw [if_neg c3] at hk
  by_cases c4 : s.1 = 31 ∨ s.1 = 32
  · rw [if_pos c4] at hk; rw [ite_inj hk]; exact ⟨Nat.le_refl _, Nat.le_add_right _ _⟩
  rw [if_neg c4] at hk
  by_cases c5 : s.1 = 2
  · rw [if_pos c5] at hk; rw [ite_inj hk]; exact ⟨Nat.le_add_right _ _, Nat.le_add_right _ _⟩
  rw [if_neg c5] at hk
  by_cases c6 : 3 ≤ s.1 ∧ s.1 ≤ 8
  · rw [if_pos c6] at hk; rw [ite_inj hk]; exact ⟨show h.1 - 1 ≤ h.1 + 1 by omega, Nat.le_add_right _ _⟩
  rw [if_neg c6] at hk
  by_cases c7 : 10 ≤ s.1 ∧ s.1 ≤ 15
  · rw [if_pos c7] at hk; rw [ite_inj hk]; exact ⟨show h.1 - 2 ≤ h.1 + 1 by omega, Nat.le_refl _⟩
  rw [if_neg c7] at hk
  by_cases c8 : s.1 = 20
  · rw [if_pos c8] at hk; rw [ite_inj hk]; exact ⟨Nat.le_add_right _ _, Nat.le_add_right _ _⟩
  rw [if_neg c8] at hk
  by_cases c9 : s.1 = 21 ∨ s.1 = 22
  · rw [if_pos c9] at hk; rw [ite_inj hk]; exact ⟨Nat.le_add_right _ _, show h.2 - 1 ≤ h.2 + 1 by omega⟩
  rw [if_neg c9] at hk
  cases hk
/-- all steps -/
theorem work_ok {x1 x3 : Int} (hx3 : x3 ≤ 1000) (hx1 : 0 ≤ x1 ∧ x1 + 2 * x3 + 1 < 6400) : ∀ (c : List (Int × Int)) {S : yS} {Sm : xS} {vs : List Int} {bs : List Bool} {i : Nat} {h1 h2 : Nat}, WS S Sm vs bs → ck c (vs.length, bs.length) = some (h1, h2) → vs.length + c.length ≤ 320 → bs.length + c.length ≤ 320 → x3 = i + c.length → codeR (Sm.2 4) (x1 + 2 * (i : Int)) c → ∀ n, c.length < n → ∃ vs' bs' S' Sm', pv c (vs, bs, S) = some (vs', bs', S') ∧ M_work_L9 x1 x3 n Sm vs.length bs.length i = some Sm' ∧ WS S' Sm' vs' bs' ∧ vs'.length = h1 ∧ bs'.length = h2 ∧ evF S S' ∧ evM Sm Sm' := by
  intro c
  induction c with
  | nil =>
    intro S Sm vs bs i h1 h2 hW hck hv hb hx hc n hn
    obtain ⟨n, rfl⟩ : ∃ k, n = k + 1 := ⟨n - 1, by omega⟩
    cases Option.some.inj hck
    refine ⟨vs, bs, S, Sm, rfl, ?_, hW, rfl, rfl, evF.rfl_ _, evM.rfl_ _⟩
    show M_work_b9 _ _ _ _ _ _ _ = _
    unfold M_work_b9
    simp only [List.length_nil] at hx
    rw [gd_pos (by omega), if_neg (by omega)]
  | cons s c ih =>
    intro S Sm vs bs i h1 h2 hW hck hv hb hx hc n hn
    obtain ⟨o, v⟩ := s
    simp only [List.length_cons] at hv hb hx hn
    obtain ⟨n, rfl⟩ : ∃ k, n = k + 1 := ⟨n - 1, by omega⟩
    have hck' : (ck1 (o, v) (vs.length, bs.length)).bind (ck c) = some (h1, h2) := hck
    cases hk : ck1 (o, v) (vs.length, bs.length) with
    | none => rw [hk] at hck'; cases hck'
    | some k =>
      obtain ⟨k1, k2⟩ := k
      rw [hk] at hck'
      have hck2 : ck c (k1, k2) = some (h1, h2) := hck'
      obtain ⟨g1, g2⟩ := hc 0 (by simp)
      obtain ⟨vs', bs', S', X, a1, a2, a3, a4, a5, a6, a7⟩ := work_step hW (x1 := x1) (x3 := x3) (i := i) hk (by omega) (by omega) (by omega) (by omega) hx3 (by simpa using g1) (by simpa using g2) (M_work_L9 x1 x3 n)
      have hlen := ck1_len hk
      dsimp only at hlen
      obtain ⟨vs2, bs2, S2, Y, b1, b2, b3, b4, b5, b6, b7⟩ := ih (S := S') (Sm := X) (vs := vs') (bs := bs') (i := i + 1) (h1 := h1) (h2 := h2) a3 (by rw [a4, a5]; exact hck2) (by omega) (by omega) (by omega) (by
        rw [a7.2 4 (by decide) (by decide)]
        intro j hj
        have := hc (j + 1) (by simp; omega)
        rw [show x1 + 2 * ((i + 1 : Nat) : Int) + 2 * (j : Int) = x1 + 2 * (i : Int) + 2 * ((j + 1 : Nat) : Int) by omega]
        simpa using this) n (by omega)
      refine ⟨vs2, bs2, S2, Y, ?_, ?_, b3, b4, b5, a6.trans b6, a7.trans b7⟩
      · show bd (pv1 o v (vs, bs, S)) (pv c) = _
        rw [a1, bd_some, b1]
      · show M_work_b9 x1 x3 (M_work_L9 x1 x3 n) Sm vs.length bs.length i = _
        rw [a2, show ((i : Int) + 1) = ((i + 1 : Nat) : Int) by omega, b2]
