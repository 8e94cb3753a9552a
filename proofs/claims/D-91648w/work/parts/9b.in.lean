set_option maxRecDepth 100000
/-- the image's rules, of both -/
def RlI (S : yS) (Sm : xS) (ed : Nat) (rs : List (List tCl)) : Prop := S.1 51 = (ed : Int) ∧ S.1 52 = (rs.length : Int) ∧ Sm.2 3 3 = (rs.length : Int) ∧ rs.length ≤ 8 ∧ ∀ (r : Nat) (h : r < rs.length), RuleR (Sm.2 4) (800 * (r : Int)) rs[r] ∧ Sm.2 4 (800 * (r : Int)) = (rs[r].length : Int)
/-- all that component and model share between two calls -/
def JJ (S : yS) (Sm : xS) (ed : Nat) (rs : List (List tCl)) (edI : Nat) (rsI : List (List tCl)) : Prop := FL S Sm ed rs ∧ RlI S Sm edI rsI ∧ rsI.length ≤ rs.length
theorem RlR.kp {S S' : yS} {Sm Sm' : xS} {ed : Nat} {rs : List (List tCl)} (h : RlR S Sm ed rs) (k : kF S S' Sm Sm') : RlR S' Sm' ed rs := by
  obtain ⟨h1, h2, h3, h4, h5⟩ := h
  obtain ⟨k1, k2, k3, k4⟩ := k
  exact ⟨by rw [k1 41 (by decide)]; exact h1, by rw [k1 42 (by decide)]; exact h2, by rw [k3]; exact h3, h4, fun r hr => by rw [k2]; exact h5 r hr⟩
theorem RlI.kp {S S' : yS} {Sm Sm' : xS} {ed : Nat} {rs : List (List tCl)} (h : RlI S Sm ed rs) (k : kF S S' Sm Sm') : RlI S' Sm' ed rs := by
  obtain ⟨h1, h2, h3, h4, h5⟩ := h
  obtain ⟨k1, k2, k3, k4⟩ := k
  exact ⟨by rw [k1 51 (by decide)]; exact h1, by rw [k1 52 (by decide)]; exact h2, by rw [k4]; exact h3, h4, fun r hr => by rw [k2]; exact h5 r hr⟩
theorem JJ.kF {S S' : yS} {Sm Sm' : xS} {ed : Nat} {rs : List (List tCl)} {edI : Nat} {rsI : List (List tCl)} (h : JJ S Sm ed rs edI rsI) (hR : RC S' Sm') (hl : LtR S' Sm') (k : kF S S' Sm Sm') : JJ S' Sm' ed rs edI rsI := ⟨⟨hR, h.1.2.1.kp k, hl⟩, h.2.1.kp k, h.2.2⟩
theorem LtR.kR {S S' : yS} {Sm Sm' : xS} (h : LtR S Sm) (k : kR S S' Sm Sm') : LtR S' Sm' := fun j j0 j1 => by rw [k.2.2.2.2.1, k.2.2.2.2.2]; exact h j j0 j1
theorem JJ.kR {S S' : yS} {Sm Sm' : xS} {ed : Nat} {rs : List (List tCl)} {edI : Nat} {rsI : List (List tCl)} (h : JJ S Sm ed rs edI rsI) (hR : RC S' Sm') (k : kR S S' Sm Sm') : JJ S' Sm' ed rs edI rsI := h.kF hR (h.1.2.2.kR k) ⟨k.1, k.2.1, k.2.2.1, k.2.2.2.1⟩
theorem RC.f1 {S : yS} {Sm : xS} {f : Nat → Int} (R : RC S Sm) (h : ∀ k, k < 8 → f k = S.1 k) : RC (f, S.2) Sm := by
  obtain ⟨⟨w1, w2, w3⟩, o1, r1, o2, r2, t1, t2, t3, t4, t5, t6, t7⟩ := R
  exact ⟨⟨w1, (h 2 (by decide)).trans w2, (h 3 (by decide)).trans w3⟩, o1, r1, o2, r2, (h 5 (by decide)).trans t1, t2, t3, (h 6 (by decide)).trans t4, (h 7 (by decide)).trans t5, t6, t7⟩
theorem op_image {S : yS} {Sm : xS} {ed : Nat} {rs : List (List tCl)} {edI : Nat} {rsI : List (List tCl)} (h : JJ S Sm ed rs edI rsI) : ∃ (S1 : yS) (Sm' : xS), C_beI S = some S1 ∧ M_image Sm = some (S1.2 2 3, Sm') ∧ r32 (S1.2 2 3) ∧ ∀ (m : Int) (ed' : Nat), JJ (cfs (cfs (cfs S1 50 m) 51 ed') 52 rs.length) Sm' ed rs ed' rs := by
  obtain ⟨⟨R, hL, hl⟩, hI, hle⟩ := h
  obtain ⟨⟨w1, w2, w3⟩, o1, r1, o2, r2, t1, t2, t3, t4, t5, t6, t7⟩ := R
  obtain ⟨l1, l2, l3, l4, l5⟩ := hL
  obtain ⟨S1, a0, a1, a2, an, am, b0, b1, b2, b3, b4, b5, b6⟩ := beI_e S
  obtain ⟨Sm', m0, m1, m2, m3⟩ := M_copy23_e Sm
  have h23 : S1.2 2 3 = Sm.2 2 3 := by rw [a2 2 (by decide)]; exact r1.1.1 3 (by decide) (by decide)
  refine ⟨S1, Sm', a0, ?_, by rw [h23, l3]; omega, fun m ed' => ?_⟩
  · unfold M_image
    rw [m0, bd_some, h23, m2 2 (by decide)]
  · have hRC : RC S1 Sm' := by
      refine ⟨⟨by rw [m1]; exact w1, by rw [m1, a1]; exact w2, by rw [m1, a1]; exact w3⟩, by rw [m1, m2 2 (by decide)]; exact o1, by rw [m2 2 (by decide)]; exact r1.cg o1.2.2.2.2 (fun q hq => a2 q (by omega)), by rw [m1]; exact o1.eq m3, ?_, by rw [m1, a1]; exact t1, by rw [m1]; exact t2, fun i i1 i2 => by rw [m2 9 (by decide), a2 471 (by decide)]; exact t3 i i1 i2, by rw [m1, a1]; exact t4, by rw [m1, a1]; exact t5, by rw [m1]; exact t6, by rw [m1]; exact t7⟩
      refine r1.cp o1.2.2.2.2 m3 an am ?_ ?_ ?_ ?_ ?_ ?_ ?_
      · intro t t0 t1 j j0 j1; show S1.2 (5 + t + 235) j = S.2 (5 + t) j; rw [show (5 : Int) + t + 235 = 240 + t by omega]; exact b0 t t0 t1 j j0 j1
      · intro t t0 t1 j j0 j1; show S1.2 (12 + t + 235) j = S.2 (12 + t) j; rw [show (12 : Int) + t + 235 = 247 + t by omega]; exact b1 t t0 t1 j j0 j1
      · intro t t0 t1 j j0 j1; show S1.2 (29 + t + 235) j = S.2 (29 + t) j; rw [show (29 : Int) + t + 235 = 264 + t by omega]; exact b2 t t0 t1 j j0 j1
      · intro t t0 t1 j j0 j1; show S1.2 (46 + t + 235) j = S.2 (46 + t) j; rw [show (46 : Int) + t + 235 = 281 + t by omega]; exact b3 t t0 t1 j j0 j1
      · intro t t0 t1 j j0 j1; show S1.2 (53 + t + 235) j = S.2 (53 + t) j; rw [show (53 : Int) + t + 235 = 288 + t by omega]; exact b4 t t0 t1 j j0 j1
      · intro t t0 t1 j j0 j1; show S1.2 (114 + t + 235) j = S.2 (114 + t) j; rw [show (114 : Int) + t + 235 = 349 + t by omega]; exact b5 t t0 t1 j j0 j1
      · intro t t0 t1 j j0 j1; show S1.2 (175 + t + 235) j = S.2 (175 + t) j; rw [show (175 : Int) + t + 235 = 410 + t by omega]; exact b6 t t0 t1 j j0 j1
    have h4 : ∀ (r : Nat) (h : r < rs.length), RuleR (Sm'.2 4) (800 * (r : Int)) rs[r] ∧ Sm'.2 4 (800 * (r : Int)) = (rs[r].length : Int) := fun r hr => by rw [m2 4 (by decide)]; exact l5 r hr
    refine ⟨⟨hRC.f1 (fun k hk => ?_), ⟨?_, ?_, by rw [m2 2 (by decide)]; exact l3, l4, h4⟩, fun k k0 k1 => ?_⟩, ⟨?_, ?_, by rw [m3 3 (by decide) (by decide)]; exact l3, l4, h4⟩, Nat.le_refl _⟩
    · show (if k = 52 then _ else if k = 51 then _ else if k = 50 then _ else S1.1 k) = _
      rw [if_neg (by omega), if_neg (by omega), if_neg (by omega)]
    · show S1.1 41 = _; rw [a1]; exact l1
    · show S1.1 42 = _; rw [a1]; exact l2
    · show S1.2 661 k = _ ∧ _; rw [a2 661 (by decide), m2 36 (by decide)]; exact hl k k0 k1
    · rfl
    · rfl
theorem op_back {S : yS} {Sm : xS} {ed : Nat} {rs : List (List tCl)} {edI : Nat} {rsI : List (List tCl)} (h : JJ S Sm ed rs edI rsI) : ∃ (S1 : yS) (Sm' : xS), C_beB S = some S1 ∧ M_back Sm = some (S1.2 2 3, Sm') ∧ r32 (S1.2 2 3) ∧ ∀ (m : Int) (ed' : Nat), JJ (cfs (cfs (cfs S1 40 m) 41 ed') 42 rsI.length) Sm' ed' rsI edI rsI := by
  obtain ⟨⟨R, hL, hl⟩, hI, hle⟩ := h
  obtain ⟨⟨w1, w2, w3⟩, o1, r1, o2, r2, t1, t2, t3, t4, t5, t6, t7⟩ := R
  obtain ⟨l1, l2, l3, l4, l5⟩ := hI
  obtain ⟨S1, a0, a1, a2, an, am, b0, b1, b2, b3, b4, b5, b6⟩ := beB_e S
  obtain ⟨Sm', m0, m1, m2, m3⟩ := M_copy32_e Sm
  have h23 : S1.2 2 3 = Sm.2 3 3 := by rw [an 3 (by decide) (by decide)]; exact r2.1.1 3 (by decide) (by decide)
  refine ⟨S1, Sm', a0, ?_, by rw [h23, l3]; omega, fun m ed' => ?_⟩
  · unfold M_back
    rw [m0, bd_some, h23, m3 3 (by decide) (by decide)]
  · have hRC : RC S1 Sm' := by
      refine ⟨⟨by rw [m1]; exact w1, by rw [m1, a1]; exact w2, by rw [m1, a1]; exact w3⟩, by rw [m1]; exact o2.eq m3, ?_, by rw [m1, m2 3 (by decide)]; exact o2, by rw [m2 3 (by decide)]; exact r2.cp o2.2.2.2.2 (fun _ _ _ => rfl) (fun j _ _ => by rw [a2 _ (by omega)]) (fun j _ _ => by rw [a2 _ (by omega)]) (fun t _ _ j _ _ => by rw [a2 _ (by omega)]) (fun t _ _ j _ _ => by rw [a2 _ (by omega)]) (fun t _ _ j _ _ => by rw [a2 _ (by omega)]) (fun t _ _ j _ _ => by rw [a2 _ (by omega)]) (fun t _ _ j _ _ => by rw [a2 _ (by omega)]) (fun t _ _ j _ _ => by rw [a2 _ (by omega)]) (fun t _ _ j _ _ => by rw [a2 _ (by omega)]), by rw [m1, a1]; exact t1, by rw [m1]; exact t2, fun i i1 i2 => by rw [m2 9 (by decide), a2 471 (by decide)]; exact t3 i i1 i2, by rw [m1, a1]; exact t4, by rw [m1, a1]; exact t5, by rw [m1]; exact t6, by rw [m1]; exact t7⟩
      refine r2.cp o2.2.2.2.2 m3 an am ?_ ?_ ?_ ?_ ?_ ?_ ?_
      · intro t t0 t1 j j0 j1; show S1.2 (5 + t) j = S.2 (5 + t + 235) j; rw [show (5 : Int) + t + 235 = 240 + t by omega]; exact b0 t t0 t1 j j0 j1
      · intro t t0 t1 j j0 j1; show S1.2 (12 + t) j = S.2 (12 + t + 235) j; rw [show (12 : Int) + t + 235 = 247 + t by omega]; exact b1 t t0 t1 j j0 j1
      · intro t t0 t1 j j0 j1; show S1.2 (29 + t) j = S.2 (29 + t + 235) j; rw [show (29 : Int) + t + 235 = 264 + t by omega]; exact b2 t t0 t1 j j0 j1
      · intro t t0 t1 j j0 j1; show S1.2 (46 + t) j = S.2 (46 + t + 235) j; rw [show (46 : Int) + t + 235 = 281 + t by omega]; exact b3 t t0 t1 j j0 j1
      · intro t t0 t1 j j0 j1; show S1.2 (53 + t) j = S.2 (53 + t + 235) j; rw [show (53 : Int) + t + 235 = 288 + t by omega]; exact b4 t t0 t1 j j0 j1
      · intro t t0 t1 j j0 j1; show S1.2 (114 + t) j = S.2 (114 + t + 235) j; rw [show (114 : Int) + t + 235 = 349 + t by omega]; exact b5 t t0 t1 j j0 j1
      · intro t t0 t1 j j0 j1; show S1.2 (175 + t) j = S.2 (175 + t + 235) j; rw [show (175 : Int) + t + 235 = 410 + t by omega]; exact b6 t t0 t1 j j0 j1
    have h4 : ∀ (r : Nat) (h : r < rsI.length), RuleR (Sm'.2 4) (800 * (r : Int)) rsI[r] ∧ Sm'.2 4 (800 * (r : Int)) = (rsI[r].length : Int) := fun r hr => by rw [m2 4 (by decide)]; exact l5 r hr
    refine ⟨⟨hRC.f1 (fun k hk => ?_), ⟨?_, ?_, by rw [m3 3 (by decide) (by decide)]; exact l3, l4, h4⟩, fun k k0 k1 => ?_⟩, ⟨?_, ?_, by rw [m2 3 (by decide)]; exact l3, l4, h4⟩, Nat.le_refl _⟩
    · show (if k = 42 then _ else if k = 41 then _ else if k = 40 then _ else S1.1 k) = _
      rw [if_neg (by omega), if_neg (by omega), if_neg (by omega)]
    · rfl
    · rfl
    · show S1.2 661 k = _ ∧ _; rw [a2 661 (by decide), m2 36 (by decide)]; exact hl k k0 k1
    · show S1.1 51 = _; rw [a1]; exact l1
    · show S1.1 52 = _; rw [a1]; exact l2
