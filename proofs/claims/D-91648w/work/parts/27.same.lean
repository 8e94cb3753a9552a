/-! the plain law: same -/
set_option maxRecDepth 100000
def upz (f : Int → Int) (i z : Int) : Int → Int := fun j => if j = i then z else f j
theorem upz_ne {f : Int → Int} {i z j : Int} (h : j ≠ i) : upz f i z j = f j := if_neg h
theorem upz_eq {f : Int → Int} {i z : Int} : upz f i z i = z := if_pos rfl
theorem upz_back (f : Int → Int) (i z : Int) : upz (upz f i z) i (f i) = f := by
  funext j
  unfold upz
  by_cases h : j = i
  · rw [if_pos h, h]
  · rw [if_neg h, if_neg h]
def eqF (V1 V2 : Int → Int) : Nat → Int → Bool
  | 0, _ => true
  | n + 1, k => decide (V2 k = V1 k) && eqF V1 V2 n (k + 1)
theorem M_same_L2 {M1 : xS} {V1 V2 : Int → Int} {b head was : Int} (hb : 0 ≤ b ∧ b < 6) (h1 : 0 ≤ M1.2 2 1 ∧ M1.2 2 1 ≤ 16) (hV : ∀ k, 0 ≤ k → k < M1.2 2 1 → M_lensTake M1 k head = some (V2 k) ∧ M1.2 8 k = V1 k ∧ r32 (V1 k) ∧ r32 (V2 k)) :
    ∀ (m n : Nat) (s k : Int), (s = 0 ∨ s = 1) → 0 ≤ k → k + m = M1.2 2 1 → m < n → M_same_L208 b head was n M1 s k = some (if s = 1 ∧ eqF V1 V2 m k = true then 1 else 0, aset M1 2 (590 + 4 * b) was) := by
  intro m
  induction m with
  | zero =>
    intro n s k hs k1 k2 k3
    cases n with
    | zero => omega
    | succ n =>
      show M_same_b208 b head was (M_same_L208 b head was n) M1 s k = _
      unfold M_same_b208 eqF
      rw [gd_pos ⟨⟨by omega, by omega⟩, ⟨by omega, by omega⟩⟩, if_neg (by omega), gd_pos (by omega), nm_eq, gd_pos ⟨by omega, by omega⟩]
      rcases hs with rfl | rfl <;> rfl
  | succ m ih =>
    intro n s k hs k1 k2 k3
    cases n with
    | zero => omega
    | succ n =>
      obtain ⟨v1, v2, v3, v4⟩ := hV k k1 (by omega)
      have en : eqF V1 V2 (m + 1) k = (decide (V2 k = V1 k) && eqF V1 V2 m (k + 1)) := rfl
      show M_same_b208 b head was (M_same_L208 b head was n) M1 s k = _
      unfold M_same_b208 M_same_B246 M_same_B247
      rw [en, gd_pos ⟨⟨by omega, by omega⟩, ⟨by omega, by omega⟩⟩, if_pos (by omega), gd_pos ⟨by omega, by omega⟩]
      rcases hs with rfl | rfl
      · rw [if_pos rfl, nm_eq, ih n 0 (k + 1) (Or.inl rfl) (by omega) (by omega) (by omega)]
        rfl
      · rw [if_neg (by decide), v1, bd_some, v2, gd_pos (by omega), gd_pos ⟨v4, v3⟩]
        by_cases hz : V2 k = V1 k
        · rw [if_pos hz, nm_eq, ih n 1 (k + 1) (Or.inr rfl) (by omega) (by omega) (by omega), decide_eq_true hz]
          rfl
        · rw [if_neg hz, nm_eq, ih n 0 (k + 1) (Or.inl rfl) (by omega) (by omega) (by omega), decide_eq_false hz]
          rfl
theorem C_same_L2 {V1 V2 : Int → Int} {x y head w h nl : Int} {A : Int → Int → Int} (h1 : 0 ≤ nl ∧ nl ≤ 16) (hA : A 2 1 = nl) (hV : ∀ k, 0 ≤ k → k < nl → (∀ S1 : yS, S1.1 2 = w → S1.1 3 = h → S1.2 = A → ∃ S', C_takeOf S1 k x y head = some (V2 k, S') ∧ cFar S1 S') ∧ A 473 k = V1 k ∧ r32 (V1 k) ∧ r32 (V2 k)) :
    ∀ (m n : Nat) (S1 : yS) (k : Int), S1.1 2 = w → S1.1 3 = h → S1.2 = A → 0 ≤ k → k + m = nl → m < n → ∃ S', C_same_L202 x y head n S1 k = some (if eqF V1 V2 m k = true then 1 else 0, S') ∧ cFar S1 S' := by
  intro m
  induction m with
  | zero =>
    intro n S1 k t1 t2 t3 k1 k2 k3
    cases n with
    | zero => omega
    | succ n =>
      refine ⟨S1, ?_, cFar.rf S1⟩
      show C_same_b202 x y head (C_same_L202 x y head n) S1 k = _
      unfold C_same_b202 eqF
      rw [t3, hA, gd_pos ⟨⟨by omega, by omega⟩, ⟨by omega, by omega⟩⟩, if_neg (by omega)]
      rfl
  | succ m ih =>
    intro n S1 k t1 t2 t3 k1 k2 k3
    cases n with
    | zero => omega
    | succ n =>
      obtain ⟨v1, v2, v3, v4⟩ := hV k k1 (by omega)
      obtain ⟨S2, a1, a2⟩ := v1 S1 t1 t2 t3
      have en : eqF V1 V2 (m + 1) k = (decide (V2 k = V1 k) && eqF V1 V2 m (k + 1)) := rfl
      show ∃ S', C_same_b202 x y head (C_same_L202 x y head n) S1 k = some (_, S') ∧ _
      unfold C_same_b202
      rw [en, t3, hA, gd_pos ⟨⟨by omega, by omega⟩, ⟨by omega, by omega⟩⟩, if_pos (by omega), gd_pos (by omega), a1, bd2_some, v2, gd_pos ⟨v3, v4⟩]
      by_cases hz : V2 k = V1 k
      · obtain ⟨S3, b1, b2⟩ := ih n S2 (k + 1) ((a2.2 2 (by decide)).trans t1) ((a2.2 3 (by decide)).trans t2) (a2.1.trans t3) (by omega) (by omega) (by omega)
        rw [if_pos hz.symm, nm_eq, b1, decide_eq_true hz]
        exact ⟨S3, rfl, a2.tr b2⟩
      · rw [if_neg (fun q => hz q.symm), decide_eq_false hz]
        exact ⟨S2, rfl, a2⟩
theorem M_same_L1 {V1 : Int → Int} {b x y head was cx cy : Int} {T : Int → Int} {a : Int → Int} (h1 : 0 ≤ a 1 ∧ a 1 ≤ 16) (hV : ∀ k, 0 ≤ k → k < a 1 → ∀ M1 : xS, M1.2 2 = a → M1.2 6 = T → M_lensTake M1 k head = some (V1 k)) :
    ∀ (m n : Nat) (M1 : xS) (k : Int), M1.2 2 = a → M1.2 6 = T → 0 ≤ k → k + m = a 1 → m < n → (∀ q, 0 ≤ q → q < k → M1.2 8 q = V1 q) →
    ∃ M2 : xS, M2.1 = M1.1 ∧ (∀ j, j ≠ 8 → M2.2 j = M1.2 j) ∧ (∀ q, 0 ≤ q → q < a 1 → M2.2 8 q = V1 q) ∧ M_same_L139 b x y head was cx cy n M1 k = gd ((0 : Int) ≤ 590 + (4 * b) ∧ (590 + (4 * b) : Int) < 3170) (nm (aset M2 2 (590 + (4 * b)) ((cy * (M2.1 0)) + cx)) (fun S43 => bd (M_look S43 x y (0 : Int)) (fun S46 => M_same_L208 b head was FU S46 (1 : Int) (0 : Int)))) := by
  intro m
  induction m with
  | zero =>
    intro n M1 k t1 t2 k1 k2 k3 hI
    cases n with
    | zero => omega
    | succ n =>
      refine ⟨M1, rfl, fun _ _ => rfl, fun q q1 q2 => hI q q1 (by omega), ?_⟩
      show M_same_b139 b x y head was cx cy (M_same_L139 b x y head was cx cy n) M1 k = _
      conv => lhs; unfold M_same_b139
      rw [show M1.2 2 1 = a 1 from by rw [t1], gd_pos ⟨⟨by omega, by omega⟩, ⟨by omega, by omega⟩⟩, if_neg (by omega)]
  | succ m ih =>
    intro n M1 k t1 t2 k1 k2 k3 hI
    cases n with
    | zero => omega
    | succ n =>
      obtain ⟨M2, c1, c2, c3, c4⟩ := ih n (aset M1 8 k (V1 k)) (k + 1) (by rw [aset_ne _ _ _ (by decide)]; exact t1) (by rw [aset_ne _ _ _ (by decide)]; exact t2) (by omega) (by omega) (by omega) (fun q q1 q2 => by
        rw [aset_at]
        by_cases hq : q = k
        · rw [if_pos hq, hq]
        · rw [if_neg hq]; exact hI q q1 (by omega))
      refine ⟨M2, c1, fun j hj => by rw [c2 j hj, aset_ne _ _ _ hj], c3, ?_⟩
      show M_same_b139 b x y head was cx cy (M_same_L139 b x y head was cx cy n) M1 k = _
      conv => lhs; unfold M_same_b139
      rw [show M1.2 2 1 = a 1 from by rw [t1], gd_pos ⟨⟨by omega, by omega⟩, ⟨by omega, by omega⟩⟩, if_pos (by omega), hV k k1 (by omega) M1 t1 t2, bd_some, gd_pos (by omega), nm_eq, nm_eq]
      exact c4
theorem C_same_L1 {V1 : Int → Int} {b x y head cx cy w h nl : Int} {A : Int → Int → Int} (h1 : 0 ≤ nl ∧ nl ≤ 16) (hA : A 2 1 = nl) (hV : ∀ k, 0 ≤ k → k < nl → ∀ S1 : yS, S1.1 2 = w → S1.1 3 = h → (∀ q, q ≠ 473 → S1.2 q = A q) → ∃ S', C_takeOf S1 k x y head = some (V1 k, S') ∧ cFar S1 S') :
    ∀ (m n : Nat) (S1 : yS) (k : Int), S1.1 2 = w → S1.1 3 = h → (∀ q, q ≠ 473 → S1.2 q = A q) → 0 ≤ k → k + m = nl → m < n → (∀ q, 0 ≤ q → q < k → S1.2 473 q = V1 q) →
    ∃ S2 : yS, (∀ j, j ≠ 9 → S2.1 j = S1.1 j) ∧ (∀ q, q ≠ 473 → S2.2 q = A q) ∧ (∀ q, 0 ≤ q → q < nl → S2.2 473 q = V1 q) ∧ C_same_L129 b x y head cx cy n S1 k = nm (S2.2 (4 + 1 + b) 0) (fun v41 => nm (cas S2 (4 + 1 + b) (0 : Int) ((cy * (S2.1 2)) + cx)) (fun S43 => bd (C_lays S43 (0 : Int)) (fun S46 => nm (cas S46 (4 + 1 + b) (0 : Int) v41) (fun S47 => C_same_L202 x y head FU S47 (0 : Int))))) := by
  intro m
  induction m with
  | zero =>
    intro n S1 k t1 t2 t3 k1 k2 k3 hI
    cases n with
    | zero => omega
    | succ n =>
      refine ⟨S1, fun _ _ => rfl, t3, fun q q1 q2 => hI q q1 (by omega), ?_⟩
      show C_same_b129 b x y head cx cy (C_same_L129 b x y head cx cy n) S1 k = _
      conv => lhs; unfold C_same_b129
      rw [t3 2 (by decide), hA, gd_pos ⟨⟨by omega, by omega⟩, ⟨by omega, by omega⟩⟩, if_neg (by omega)]
  | succ m ih =>
    intro n S1 k t1 t2 t3 k1 k2 k3 hI
    cases n with
    | zero => omega
    | succ n =>
      obtain ⟨S2, a1, a2⟩ := hV k k1 (by omega) S1 t1 t2 t3
      obtain ⟨S3, c1, c2, c3, c4⟩ := ih n (cas S2 473 k (V1 k)) (k + 1) ((a2.2 2 (by decide)).trans t1) ((a2.2 3 (by decide)).trans t2) (fun q hq => by rw [cas_ne _ _ _ hq, a2.1]; exact t3 q hq) (by omega) (by omega) (by omega) (fun q q1 q2 => by
        rw [cas_at]
        by_cases hq : q = k
        · rw [if_pos hq, hq]
        · rw [if_neg hq, a2.1]; exact hI q q1 (by omega))
      refine ⟨S3, fun j hj => by rw [c1 j hj, cas_1, a2.2 j hj], c2, c3, ?_⟩
      show C_same_b129 b x y head cx cy (C_same_L129 b x y head cx cy n) S1 k = _
      conv => lhs; unfold C_same_b129
      rw [t3 2 (by decide), hA, gd_pos ⟨⟨by omega, by omega⟩, ⟨by omega, by omega⟩⟩, if_pos (by omega), a1, bd2_some, gd_pos (by omega), nm_eq, nm_eq]
      exact c4
theorem op_same {S : yS} {Sm : xS} {b mx my x y head : Int} (R : RC S Sm) (hb : r32 b) (hmx : r32 mx) (hmy : r32 my) (hx : r32 x) (hy : r32 y) (hd : r32 head) : ∃ r S' Sm', C_same S b mx my x y head = some (r, S') ∧ M_same Sm b mx my x y head = some (r, Sm') ∧ sc S S' ∧ scM Sm Sm' := by
  have HC := R.HC
  obtain ⟨H, ew, eh⟩ := R.1
  have OA := R.2.1
  have G := OA.1
  have hL := OA.2.1
  have h1 := wh_bd H
  have w1 := H.1
  have w2 := H.2
  have n0 := R.n0 (k := 0) (by decide)
  have n1 := R.n0 (k := 1) (by decide)
  have hnb := G.1
  have hnl := hL.1
  unfold C_same M_same
  rw [C_isOne_e (by decide) hb (by omega), M_isIn_e hb (by decide) ⟨by omega, by omega⟩, bd_some, bd_some, n0]
  by_cases q0 : 0 ≤ b ∧ b ≤ Sm.2 2 0 - 1
  · rw [decide_eq_true q0, if_pos rfl, if_pos rfl, C_isPlace_e HC hx hy, M_isPlace_e H hx hy, bd_some, bd_some, ew, eh]
    by_cases P : okP (Sm.1 0) (Sm.1 1) x y
    · rw [decide_eq_true P, if_pos rfl, if_pos rfl, C_isHead_e hd, M_isSide_e hd, bd_some, bd_some]
      by_cases q1 : 0 ≤ head ∧ head ≤ 63
      · have hB := G.2.2 b q0.1 (by omega)
        have hxy := cell_x H hB.1
        have hbc := hB.1
        have cb : S.2 (4 + 1 + b) 0 = Sm.2 2 (590 + 4 * b) := by rw [R.2.2.1.2.2.1 b 0 (by omega) (by omega) (by omega) (by omega), Int.add_zero]
        rw [decide_eq_true q1, if_pos rfl, if_pos rfl, cb, C_in_e hmx (by decide) (by decide), M_isIn_e hmx (by decide) (by decide), bd_some, bd_some]
        -- the moves
        by_cases qm : (-23 ≤ mx ∧ mx ≤ 23) ∧ (-23 ≤ my ∧ my ≤ 23)
        · rw [decide_eq_true (show -24 ≤ mx ∧ mx ≤ 24 by omega), decide_eq_true qm.1, if_pos rfl, if_pos rfl, C_in_e hmy (by decide) (by decide), M_isIn_e hmy (by decide) (by decide), bd_some, bd_some, decide_eq_true (show -24 ≤ my ∧ my ≤ 24 by omega), decide_eq_true qm.2, if_pos rfl, if_pos rfl]
          rw [gd_pos (by omega), gd_pos ⟨⟨by omega, by omega⟩, ⟨by omega, by omega⟩, by omega⟩, nm_eq, gd_pos ⟨⟨by omega, by omega⟩, ⟨by omega, by omega⟩, by omega⟩, nm_eq]
          rw [gd_pos (by omega), nm_eq, gd_pos ⟨⟨by omega, by omega⟩, ⟨by omega, by omega⟩, by omega⟩, nm_eq, gd_pos ⟨⟨by omega, by omega⟩, ⟨by omega, by omega⟩, by omega⟩, nm_eq]
          rw [C_in_e ⟨by omega, by omega⟩ (by decide) ⟨by omega, by omega⟩, M_isIn_e ⟨by omega, by omega⟩ (by decide) ⟨by omega, by omega⟩, bd_some, bd_some]
          generalize hcx : (Sm.2 2 (590 + 4 * b)).tmod (Sm.1 0) + mx = cx at *
          generalize hcy : (Sm.2 2 (590 + 4 * b)).tdiv (Sm.1 0) + my = cy at *
          by_cases qx : 0 ≤ cx ∧ cx ≤ Sm.1 0 - 1
          · rw [decide_eq_true qx, if_pos rfl, if_pos rfl, C_in_e ⟨by omega, by omega⟩ (by decide) ⟨by omega, by omega⟩, M_isIn_e ⟨by omega, by omega⟩ (by decide) ⟨by omega, by omega⟩, bd_some, bd_some]
            by_cases qy : 0 ≤ cy ∧ cy ≤ Sm.1 1 - 1
            · rw [decide_eq_true qy, if_pos rfl, if_pos rfl]
              have hcell := cell_bd H qx qy
              -- the first look
              obtain ⟨S1, a1, a2, a3, a4, a5⟩ := R.lays (t := 0) ⟨by omega, by omega⟩
              obtain ⟨M1, c1, c2, c3, c4⟩ := M_look_e (S := Sm) (x := x) (y := y) (t := 0) H G P ⟨by omega, by omega⟩
              have m2 : M1.2 2 = Sm.2 2 := c3 2 (by decide) (by decide) (by decide)
              obtain ⟨V1, hV1⟩ : ∃ V1 : Int → Int, V1 = tkL (Sm.2 2) (Sm.1 0) (Sm.1 1) x y 0 head := ⟨_, rfl⟩
              have hv : ∀ k, 0 ≤ k → k < Sm.2 2 1 → 0 ≤ V1 k ∧ V1 k ≤ 30600 := fun k k1 k2 => by rw [hV1]; exact tkS_bd (rayT_ok H G) (hL.2 k k1 k2).2
              obtain ⟨M2, d1, d2, d3, d4⟩ := M_same_L1 (V1 := V1) (b := b) (x := x) (y := y) (head := head) (was := Sm.2 2 (590 + 4 * b)) (cx := cx) (cy := cy) (T := M1.2 6) (a := Sm.2 2) hnl (fun k k1 k2 M3 t1 t2 => by rw [hV1]; exact take_M H G t1 (fun q q1 q2 => by rw [t2]; exact c4 q q1 q2) hL ⟨k1, k2⟩ q1) (Sm.2 2 1).toNat FU M1 0 m2 rfl (by omega) (by omega) (by unfold FU; omega) (fun q q1 q2 => by omega)
              obtain ⟨S2, e1, e2, e3, e4⟩ := C_same_L1 (V1 := V1) (b := b) (x := x) (y := y) (head := head) (cx := cx) (cy := cy) (w := S.1 2) (h := S.1 3) (nl := Sm.2 2 1) (A := S1.2) hnl (by rw [a3 2 (by decide)]; exact n1) (fun k k1 k2 S3 t1 t2 t3 => by
                rw [hV1]
                exact take_C R (S1 := S3) (k := k) (head := head) (t := 0) P t1 t2 (fun q i1 i2 => by rw [t3 q (by omega), a3 q (by omega)]) (fun c i1 i2 => by rw [t3 472 (by decide)]; exact a4 c i1 i2) ⟨k1, k2⟩ q1) (Sm.2 2 1).toNat FU S1 0 (by rw [a2]) (by rw [a2]) (fun _ _ => rfl) (by omega) (by omega) (by unfold FU; omega) (fun q q1 q2 => by omega)
              rw [a1, bd_some, c1, bd_some, d4, e4, gd_pos (by omega), nm_eq, nm_eq, nm_eq]
              have s2w : S2.1 2 = Sm.1 0 := by rw [e1 2 (by decide), a2]; exact ew
              have s2h : S2.1 3 = Sm.1 1 := by rw [e1 3 (by decide), a2]; exact eh
              have mw : M2.1 0 = Sm.1 0 := by rw [d1, c2]
              have mh : M2.1 1 = Sm.1 1 := by rw [d1, c2]
              have m22 : M2.2 2 = Sm.2 2 := by rw [d2 2 (by decide)]; exact m2
              have sb0 : S2.2 (4 + 1 + b) = S.2 (4 + 1 + b) := by rw [e2 _ (by omega), a3 _ (by omega)]
              rw [s2w, mw, sb0, cb]
              -- the moved world
              obtain ⟨a', ha'⟩ : ∃ a' : Int → Int, a' = upz (Sm.2 2) (590 + 4 * b) (cy * Sm.1 0 + cx) := ⟨_, rfl⟩
              have a'n : ∀ j, j ≠ 590 + 4 * b → a' j = Sm.2 2 j := fun j hj => by rw [ha']; exact upz_ne hj
              have a'e : a' (590 + 4 * b) = cy * Sm.1 0 + cx := by rw [ha']; exact upz_eq
              have G' : okG (Sm.1 0) (Sm.1 1) a' := by
                refine ⟨by rw [a'n 0 (by omega)]; exact hnb, fun c i1 i2 => by rw [a'n _ (by omega)]; exact G.2.1 c i1 i2, fun i i1 i2 => ?_⟩
                rw [a'n 0 (by omega)] at i2
                have hh := G.2.2 i i1 i2
                unfold okB at hh ⊢
                rw [a'n (590 + 4 * i + 1) (by omega), a'n (590 + 4 * i + 2) (by omega), a'n (590 + 4 * i + 3) (by omega)]
                by_cases hi : i = b
                · rw [hi, a'e]
                  rw [hi] at hh
                  exact ⟨hcell, hh.2⟩
                · rw [a'n _ (by omega)]
                  exact hh
              have aM : (aset M2 2 (590 + 4 * b) (cy * Sm.1 0 + cx)).2 2 = a' := by rw [aset_eq, m22, ha']; rfl
              obtain ⟨M3, f1, f2, f3, f4⟩ := M_look_e (S := aset M2 2 (590 + 4 * b) (cy * Sm.1 0 + cx)) (x := x) (y := y) (t := 0) (by rw [aset_1, mw, mh]; exact H) (by rw [aset_1, mw, mh, aM]; exact G') (by rw [aset_1, mw, mh]; exact P) ⟨by omega, by omega⟩
              rw [aset_1, mw, mh, aM] at f4
              have m32 : M3.2 2 = a' := by rw [f3 2 (by decide) (by decide) (by decide)]; exact aM
              have sB : rBody (cas S2 (4 + 1 + b) 0 (cy * Sm.1 0 + cx)).2 a' := by
                intro i j i1 i2 i3 i4
                by_cases hi : i = b
                · rw [hi, cas_at, sb0]
                  by_cases hj : j = 0
                  · rw [if_pos hj, hj, Int.add_zero, a'e]
                  · rw [if_neg hj, a'n _ (by omega)]
                    exact R.2.2.1.2.2.1 b j (by omega) (by omega) i3 i4
                · rw [cas_ne _ _ _ (by omega), a'n _ (by omega), e2 _ (by omega), a3 _ (by omega)]
                  exact R.2.2.1.2.2.1 i j i1 i2 i3 i4
              have sM : rMark (cas S2 (4 + 1 + b) 0 (cy * Sm.1 0 + cx)).2 a' := by
                intro c i1 i2
                rw [cas_ne _ _ _ (by omega), e2 3 (by decide), a3 3 (by decide), a'n _ (by omega)]
                exact R.2.2.1.2.1 c i1 i2
              have s20 : (cas S2 (4 + 1 + b) 0 (cy * Sm.1 0 + cx)).2 2 = S.2 2 := by rw [cas_ne _ _ _ (by omega), e2 2 (by decide), a3 2 (by decide)]
              obtain ⟨S4, g1, g2, g3, g4⟩ := C_lays_e (S := cas S2 (4 + 1 + b) 0 (cy * Sm.1 0 + cx)) (a := a') (t := 0) (by rw [cas_1, s2w, s2h]; exact H) (by rw [cas_1, s2w, s2h]; exact G') (by rw [s20, n0, a'n 0 (by omega)]) sM sB ⟨by omega, by omega⟩
              rw [cas_1, s2w, s2h] at g4
              rw [g1, bd_some, f1, bd_some, nm_eq]
              -- the second looks
              have hL' : okLs a' := hL.cg (a'n 1 (by omega)) (fun i i1 i2 => a'n i (by omega))
              obtain ⟨V2, hV2⟩ : ∃ V2 : Int → Int, V2 = tkL a' (Sm.1 0) (Sm.1 1) x y 0 head := ⟨_, rfl⟩
              have hv2 : ∀ k, 0 ≤ k → k < Sm.2 2 1 → 0 ≤ V2 k ∧ V2 k ≤ 30600 := fun k k1 k2 => by rw [hV2]; exact tkS_bd (rayT_ok H G') (hL'.2 k k1 (by rw [a'n 1 (by omega)]; exact k2)).2
              have eM := M_same_L2 (M1 := M3) (V1 := V1) (V2 := V2) (b := b) (head := head) (was := Sm.2 2 (590 + 4 * b)) ⟨by omega, by omega⟩ (by rw [m32, a'n 1 (by omega)]; exact hnl) (fun k k1 k2 => by
                rw [m32, a'n 1 (by omega)] at k2
                have t1 := hv k k1 k2
                have t2 := hv2 k k1 k2
                refine ⟨?_, ?_, ⟨by omega, by omega⟩, ⟨by omega, by omega⟩⟩
                · rw [M_lensTake_e (T := rayT a' (Sm.1 0) (Sm.1 1) x y 0) (rayT_ok H G') f4 (by rw [m32]; exact hL') (by rw [m32, a'n 1 (by omega)]; exact ⟨k1, k2⟩) q1, m32, hV2]
                  rfl
                · rw [f3 8 (by decide) (by decide) (by decide), aset_ne _ _ _ (by decide)]
                  exact d3 k k1 k2) (Sm.2 2 1).toNat FU 1 0 (Or.inr rfl) (by omega) (by rw [m32, a'n 1 (by omega)]; omega) (by unfold FU; omega)
              have hS5 : ∀ q, q ≠ 472 → q ≠ 473 → (cas S4 (4 + 1 + b) 0 (Sm.2 2 (590 + 4 * b))).2 q = S.2 q := by
                intro q hq hq2
                by_cases hqb : q = 4 + 1 + b
                · rw [hqb, cas_eq, g3 _ (by omega)]
                  funext j
                  show (if j = 0 then Sm.2 2 (590 + 4 * b) else (cas S2 (4 + 1 + b) 0 (cy * Sm.1 0 + cx)).2 (4 + 1 + b) j) = _
                  rw [cas_at, sb0]
                  by_cases hj : j = 0
                  · rw [if_pos hj, hj, cb]
                  · rw [if_neg hj, if_neg hj]
                · rw [cas_ne _ _ _ hqb, g3 q hq, cas_ne _ _ _ hqb, e2 q hq2, a3 q hq]
              have hS5a : (cas S4 (4 + 1 + b) 0 (Sm.2 2 (590 + 4 * b))).2 472 = S4.2 472 := cas_ne _ _ _ (by omega)
              have hS5b : (cas S4 (4 + 1 + b) 0 (Sm.2 2 (590 + 4 * b))).2 473 = S2.2 473 := by rw [cas_ne _ _ _ (by omega), g3 _ (by decide), cas_ne _ _ _ (by omega)]
              obtain ⟨S6, k1', k2'⟩ := C_same_L2 (V1 := V1) (V2 := V2) (x := x) (y := y) (head := head) (w := Sm.1 0) (h := Sm.1 1) (nl := Sm.2 2 1) (A := (cas S4 (4 + 1 + b) 0 (Sm.2 2 (590 + 4 * b))).2) hnl (by rw [hS5 2 (by decide) (by decide)]; exact n1) (fun k k1 k2 => by
                have t1 := hv k k1 k2
                have t2 := hv2 k k1 k2
                refine ⟨fun S7 u1 u2 u3 => ?_, by rw [hS5b]; exact e3 k k1 k2, ⟨by omega, by omega⟩, ⟨by omega, by omega⟩⟩
                rw [hV2]
                exact C_takeOf_e (S := S7) (a := a') (T := rayT a' (Sm.1 0) (Sm.1 1) x y 0) (by rw [u1, u2]; exact H) (by rw [u1, u2]; exact P) (by rw [u1, u2, u3, hS5a]; intro c i1 i2; rw [g4 c i1 i2]; exact okM_mk H G' c i1 i2) (fun q _ _ => by rw [u1, u2, u3, hS5a, rayS_congr H g4]; rfl) hL' (by rw [u3]; exact R.2.2.1.2.2.2.1.cg (fun q i1 i2 => hS5 q (by omega) (by omega)) (fun i i1 i2 => a'n i (by omega))) ⟨k1, by rw [a'n 1 (by omega)]; exact k2⟩ q1) (Sm.2 2 1).toNat FU (cas S4 (4 + 1 + b) 0 (Sm.2 2 (590 + 4 * b))) 0 (by rw [cas_1, g2, cas_1]; exact s2w) (by rw [cas_1, g2, cas_1]; exact s2h) rfl (by omega) (by omega) (by unfold FU; omega)
              rw [k1', eM]
              refine ⟨_, _, aset M3 2 (590 + 4 * b) (Sm.2 2 (590 + 4 * b)), rfl, ?_, ?_, ?_⟩
              · congr 2
                by_cases hz : eqF V1 V2 (Sm.2 2 1).toNat 0 = true
                · rw [if_pos ⟨rfl, hz⟩, if_pos hz]
                · rw [if_neg (fun z => hz z.2), if_neg hz]
              · refine sc.tr (S' := cas S4 (4 + 1 + b) 0 (Sm.2 2 (590 + 4 * b))) ⟨fun j hj => ?_, fun j hj => ?_, fun q hq => hS5 q (by omega) (by omega)⟩ k2'.sc
                · rw [cas_1, g2, cas_1, e1 j (by omega), a2]
                · rw [cas_1, g2, cas_1, e1 j (by omega), a2]
              · have hM : (aset M3 2 (590 + 4 * b) (Sm.2 2 (590 + 4 * b))).2 2 = Sm.2 2 := by
                  rw [aset_eq, m32, ha']
                  exact upz_back _ _ _
                have hk : ∀ j, j ≠ 2 → j ≠ 5 → j ≠ 6 → j ≠ 7 → j ≠ 8 → (aset M3 2 (590 + 4 * b) (Sm.2 2 (590 + 4 * b))).2 j = Sm.2 j := fun j j2 j5 j6 j7 j8 => by rw [aset_ne _ _ _ j2, f3 j j5 j6 j7, aset_ne _ _ _ j2, d2 j j8, c3 j j5 j6 j7]
                have hf : (aset M3 2 (590 + 4 * b) (Sm.2 2 (590 + 4 * b))).1 = Sm.1 := by rw [aset_1, f2, aset_1, d1, c2]
                exact ⟨⟨by rw [hf], by rw [hf], by rw [hf], by rw [hf], by rw [hf]⟩, hM, hk 3 (by decide) (by decide) (by decide) (by decide) (by decide), hk 4 (by decide) (by decide) (by decide) (by decide) (by decide), fun j hj => hk j (by omega) (by omega) (by omega) (by omega) (by omega)⟩
            · rw [decide_eq_false qy, if_neg (by decide), if_neg (by decide)]
              exact ⟨_, _, _, rfl, rfl, sc.rf S, scM.rf Sm⟩
          · rw [decide_eq_false qx, if_neg (by decide), if_neg (by decide)]
            exact ⟨_, _, _, rfl, rfl, sc.rf S, scM.rf Sm⟩
        · have t1 : true = true := rfl
          have t2 : ¬ (false = true) := by decide
          by_cases q3 : -23 ≤ mx ∧ mx ≤ 23
          · have q4 : ¬ (-23 ≤ my ∧ my ≤ 23) := fun z => qm ⟨q3, z⟩
            rw [decide_eq_true q3, decide_eq_true (show -24 ≤ mx ∧ mx ≤ 24 by omega), if_pos t1, if_pos t1, C_in_e hmy (by decide) (by decide), M_isIn_e hmy (by decide) (by decide), bd_some, bd_some, decide_eq_false q4, if_neg t2]
            by_cases q5 : -24 ≤ my ∧ my ≤ 24
            · rw [decide_eq_true q5, if_pos t1, gd_pos (by omega), gd_pos ⟨⟨by omega, by omega⟩, ⟨by omega, by omega⟩, by omega⟩, nm_eq, gd_pos ⟨⟨by omega, by omega⟩, ⟨by omega, by omega⟩, by omega⟩, nm_eq, C_in_e ⟨by omega, by omega⟩ (by decide) ⟨by omega, by omega⟩, bd_some]
              by_cases qx : 0 ≤ (Sm.2 2 (590 + 4 * b)).tmod (Sm.1 0) + mx ∧ (Sm.2 2 (590 + 4 * b)).tmod (Sm.1 0) + mx ≤ Sm.1 0 - 1
              · rw [decide_eq_true qx, if_pos t1, C_in_e ⟨by omega, by omega⟩ (by decide) ⟨by omega, by omega⟩, bd_some, decide_eq_false (by omega), if_neg t2]
                exact ⟨_, _, _, rfl, rfl, sc.rf S, scM.rf Sm⟩
              · rw [decide_eq_false qx, if_neg t2]
                exact ⟨_, _, _, rfl, rfl, sc.rf S, scM.rf Sm⟩
            · rw [decide_eq_false q5, if_neg t2]
              exact ⟨_, _, _, rfl, rfl, sc.rf S, scM.rf Sm⟩
          · rw [decide_eq_false q3, if_neg t2]
            by_cases q5 : -24 ≤ mx ∧ mx ≤ 24
            · rw [decide_eq_true q5, if_pos t1, C_in_e hmy (by decide) (by decide), bd_some]
              by_cases q6 : -24 ≤ my ∧ my ≤ 24
              · rw [decide_eq_true q6, if_pos t1, gd_pos (by omega), gd_pos ⟨⟨by omega, by omega⟩, ⟨by omega, by omega⟩, by omega⟩, nm_eq, gd_pos ⟨⟨by omega, by omega⟩, ⟨by omega, by omega⟩, by omega⟩, nm_eq, C_in_e ⟨by omega, by omega⟩ (by decide) ⟨by omega, by omega⟩, bd_some, decide_eq_false (by omega), if_neg t2]
                exact ⟨_, _, _, rfl, rfl, sc.rf S, scM.rf Sm⟩
              · rw [decide_eq_false q6, if_neg t2]
                exact ⟨_, _, _, rfl, rfl, sc.rf S, scM.rf Sm⟩
            · rw [decide_eq_false q5, if_neg t2]
              exact ⟨_, _, _, rfl, rfl, sc.rf S, scM.rf Sm⟩
      · rw [decide_eq_false q1, if_neg (by decide), if_neg (by decide)]
        exact ⟨_, _, _, rfl, rfl, sc.rf S, scM.rf Sm⟩
    · rw [decide_eq_false P, if_neg (by decide), if_neg (by decide)]
      exact ⟨_, _, _, rfl, rfl, sc.rf S, scM.rf Sm⟩
  · rw [decide_eq_false q0, if_neg (by decide), if_neg (by decide)]
    exact ⟨_, _, _, rfl, rfl, sc.rf S, scM.rf Sm⟩
