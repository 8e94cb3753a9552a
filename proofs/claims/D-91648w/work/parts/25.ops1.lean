/-! the plain law: calls that only ask about the world -/
set_option maxRecDepth 100000
theorem RC.HC {S : yS} {Sm : xS} (R : RC S Sm) : okW (S.1 2) (S.1 3) := by rw [R.1.2.1, R.1.2.2]; exact R.1.1
theorem RC.n0 {S : yS} {Sm : xS} (R : RC S Sm) {k : Int} (h : 0 ≤ k ∧ k ≤ 4) : S.2 2 k = Sm.2 2 k := R.2.2.1.1.1 k h.1 h.2
theorem RC.lays {S : yS} {Sm : xS} (R : RC S Sm) {t : Int} (ht : 0 ≤ t ∧ t ≤ 1000) : ∃ S' : yS, C_lays S t = some S' ∧ S'.1 = S.1 ∧ (∀ q, q ≠ 472 → S'.2 q = S.2 q) ∧ (∀ c, 0 ≤ c → c < Sm.1 0 * Sm.1 1 → S'.2 472 c = mkAt (Sm.2 2) (Sm.1 0) (Sm.1 1) c t) ∧ okM (Sm.1 0) (Sm.1 1) (S'.2 472) := by
  obtain ⟨⟨H, ew, eh⟩, OA, RN, -⟩ := R
  obtain ⟨S', a1, a2, a3, a4⟩ := C_lays_e (S := S) (a := Sm.2 2) (t := t) (by rw [ew, eh]; exact H) (by rw [ew, eh]; exact OA.1) (RN.1.1 0 (by decide) (by decide)) RN.2.1 RN.2.2.1 ht
  rw [ew, eh] at a4
  exact ⟨S', a1, a2, a3, a4, fun c c1 c2 => by rw [a4 c c1 c2]; exact okM_mk H OA.1 c c1 c2⟩
theorem op_markOf {S : yS} {Sm : xS} {c t : Int} (R : RC S Sm) (hc : r32 c) (ht : r32 t) : ∃ r S', C_markOf S c t = some (r, S') ∧ M_markOf Sm c t = some r ∧ sc S S' := by
  have HC := R.HC
  obtain ⟨H, ew, eh⟩ := R.1
  have OA := R.2.1
  have := wh_bd H
  unfold C_markOf M_markOf
  rw [C_isCell_e HC hc, M_isCell_e H hc, bd_some, bd_some, ew, eh]
  by_cases q : 0 ≤ c ∧ c ≤ Sm.1 0 * Sm.1 1 - 1
  · rw [decide_eq_true q, if_pos rfl, if_pos rfl, C_in_e ht (by decide) (by decide), M_isTick_e ht, bd_some, bd_some]
    by_cases q2 : 0 ≤ t ∧ t ≤ 999
    · obtain ⟨S', a1, a2, a3, a4, -⟩ := R.lays (t := t) ⟨q2.1, by omega⟩
      rw [decide_eq_true q2, if_pos rfl, if_pos rfl, a1, bd_some, gd_pos (by omega), M_markAt_e H OA.1 ⟨q.1, by omega⟩ ⟨q2.1, by omega⟩, bd_some, a4 c q.1 (by omega)]
      exact ⟨_, _, rfl, rfl, lays_sc a2 a3⟩
    · rw [decide_eq_false q2, if_neg (by decide), if_neg (by decide)]
      exact ⟨_, _, rfl, rfl, sc.rf S⟩
  · rw [decide_eq_false q, if_neg (by decide), if_neg (by decide)]
    exact ⟨_, _, rfl, rfl, sc.rf S⟩
theorem op_ray {S : yS} {Sm : xS} {x y s t f : Int} (R : RC S Sm) (hx : r32 x) (hy : r32 y) (hs : r32 s) (ht : r32 t) (hf : r32 f) : ∃ r S' Sm', C_ray S x y s t f = some (r, S') ∧ M_ray Sm x y s t f = some (r, Sm') ∧ sc S S' ∧ scM Sm Sm' := by
  have HC := R.HC
  obtain ⟨H, ew, eh⟩ := R.1
  have OA := R.2.1
  unfold C_ray M_ray
  rw [C_isPlace_e HC hx hy, M_isPlace_e H hx hy, bd_some, bd_some, ew, eh]
  by_cases P : okP (Sm.1 0) (Sm.1 1) x y
  · rw [decide_eq_true P, if_pos rfl, if_pos rfl, C_isHead_e hs, M_isSide_e hs, bd_some, bd_some]
    by_cases q1 : 0 ≤ s ∧ s ≤ 63
    · rw [decide_eq_true q1, if_pos rfl, if_pos rfl, C_in_e ht (by decide) (by decide), M_isTick_e ht, bd_some, bd_some]
      by_cases q2 : 0 ≤ t ∧ t ≤ 999
      · obtain ⟨S1, a1, a2, a3, a4, a5⟩ := R.lays (t := t) ⟨q2.1, by omega⟩
        have f2 : S1.1 2 = Sm.1 0 := by rw [a2]; exact ew
        have f3 : S1.1 3 = Sm.1 1 := by rw [a2]; exact eh
        obtain ⟨S2, b1, b2, b3⟩ := C_rayOf_e (S := S1) (x := x) (y := y) q1 (by rw [f2, f3]; exact H) (by rw [f2, f3]; exact P) (by rw [f2, f3]; exact a5)
        obtain ⟨M1, c1, c2, c3, c4⟩ := M_lay_e (S := Sm) (t := t) H OA.1 ⟨q2.1, by omega⟩
        have g0 : M1.1 0 = Sm.1 0 := by rw [c1]
        have g1 : M1.1 1 = Sm.1 1 := by rw [c1]
        obtain ⟨M2, d1, d2, d3, d4, d5⟩ := M_shoot_e (S := M1) (x := x) (y := y) q1 (by rw [g0, g1]; exact H) (by rw [g0, g1]; exact P) (by rw [g0, g1]; intro c e1 e2; rw [c3 c e1 e2]; exact okM_mk H OA.1 c e1 e2)
        have er : rayS (S1.2 472) (Sm.1 0) (Sm.1 1) x y s = rayS (M1.2 5) (Sm.1 0) (Sm.1 1) x y s := rayS_congr H (fun c e1 e2 => by rw [a4 c e1 e2, c3 c e1 e2])
        rw [decide_eq_true q2, if_pos rfl, if_pos rfl, a1, bd_some, b1, bd2_some, c4, bd_some, d1, bd_some, gd_pos hf, gd_pos hf]
        have hsc : sc S S2 := (lays_sc a2 a3).tr b2.sc
        have hscm : scM Sm M2 := look_sc (d2.trans c1) (fun j h5 h6 h7 => (d3 j h6 h7).trans (c2 j h5))
        rw [f2, f3] at b3 ⊢
        rw [g0, g1] at d4 d5
        by_cases qf : f = 0
        · rw [if_pos qf, if_pos qf, gd_pos (by omega), d4 s, if_pos rfl, er]
          exact ⟨_, _, _, rfl, rfl, hsc, hscm⟩
        · rw [if_neg qf, if_neg qf, gd_pos (by omega), d5 s, if_pos rfl, b3, er]
          exact ⟨_, _, _, rfl, rfl, hsc, hscm⟩
      · rw [decide_eq_false q2, if_neg (by decide), if_neg (by decide)]
        exact ⟨_, _, _, rfl, rfl, sc.rf S, scM.rf Sm⟩
    · rw [decide_eq_false q1, if_neg (by decide), if_neg (by decide)]
      exact ⟨_, _, _, rfl, rfl, sc.rf S, scM.rf Sm⟩
  · rw [decide_eq_false P, if_neg (by decide), if_neg (by decide)]
    exact ⟨_, _, _, rfl, rfl, sc.rf S, scM.rf Sm⟩
/-- with the world laid out: each lens of both takes the same -/
theorem take_C {S : yS} {Sm : xS} (R : RC S Sm) {S1 : yS} {x y t k head : Int} (P : okP (Sm.1 0) (Sm.1 1) x y) (e1 : S1.1 2 = S.1 2) (e2 : S1.1 3 = S.1 3) (e3 : ∀ q, 12 ≤ q → q < 28 → S1.2 q = S.2 q) (e4 : ∀ c, 0 ≤ c → c < Sm.1 0 * Sm.1 1 → S1.2 472 c = mkAt (Sm.2 2) (Sm.1 0) (Sm.1 1) c t) (hk : 0 ≤ k ∧ k < Sm.2 2 1) (hd : 0 ≤ head ∧ head ≤ 63) :
    ∃ S' : yS, C_takeOf S1 k x y head = some (tkL (Sm.2 2) (Sm.1 0) (Sm.1 1) x y t head k, S') ∧ cFar S1 S' := by
  obtain ⟨H, ew, eh⟩ := R.1
  have OA := R.2.1
  have f2 : S1.1 2 = Sm.1 0 := e1.trans ew
  have f3 : S1.1 3 = Sm.1 1 := e2.trans eh
  exact C_takeOf_e (a := Sm.2 2) (T := rayT (Sm.2 2) (Sm.1 0) (Sm.1 1) x y t) (by rw [f2, f3]; exact H) (by rw [f2, f3]; exact P) (by rw [f2, f3]; intro c c1 c2; rw [e4 c c1 c2]; exact okM_mk H OA.1 c c1 c2) (fun q _ _ => by rw [f2, f3, rayS_congr H e4]; rfl) OA.2.1 (R.2.2.1.2.2.2.1.cg e3 (fun _ _ _ => rfl)) hk hd
theorem take_M {Sm M1 : xS} {w h x y t k head : Int} (H : okW w h) (G : okG w h (Sm.2 2)) (e2 : M1.2 2 = Sm.2 2) (e6 : ∀ q, 0 ≤ q → q < 64 → M1.2 6 q = rayT (Sm.2 2) w h x y t q) (hL : okLs (Sm.2 2)) (hk : 0 ≤ k ∧ k < Sm.2 2 1) (hd : 0 ≤ head ∧ head ≤ 63) : M_lensTake M1 k head = some (tkL (Sm.2 2) w h x y t head k) := by
  rw [M_lensTake_e (T := rayT (Sm.2 2) w h x y t) (rayT_ok H G) e6 (by rw [e2]; exact hL) (by rw [e2]; exact hk) hd, e2]
  rfl
theorem op_take {S : yS} {Sm : xS} {k x y head t : Int} (R : RC S Sm) (hk : r32 k) (hx : r32 x) (hy : r32 y) (hd : r32 head) (ht : r32 t) : ∃ r S' Sm', C_take S k x y head t = some (r, S') ∧ M_take Sm k x y head t = some (r, Sm') ∧ sc S S' ∧ scM Sm Sm' := by
  have HC := R.HC
  obtain ⟨H, ew, eh⟩ := R.1
  have OA := R.2.1
  have n1 := R.n0 (k := 1) (by decide)
  have hl := OA.2.1.1
  unfold C_take M_take
  rw [C_isOne_e (by decide) hk (by omega), M_isLens_e hk hl, bd_some, bd_some, n1]
  by_cases q0 : 0 ≤ k ∧ k ≤ Sm.2 2 1 - 1
  · rw [decide_eq_true q0, if_pos rfl, if_pos rfl, C_isPlace_e HC hx hy, M_isPlace_e H hx hy, bd_some, bd_some, ew, eh]
    by_cases P : okP (Sm.1 0) (Sm.1 1) x y
    · rw [decide_eq_true P, if_pos rfl, if_pos rfl, C_isHead_e hd, M_isSide_e hd, bd_some, bd_some]
      by_cases q1 : 0 ≤ head ∧ head ≤ 63
      · rw [decide_eq_true q1, if_pos rfl, if_pos rfl, C_in_e ht (by decide) (by decide), M_isTick_e ht, bd_some, bd_some]
        by_cases q2 : 0 ≤ t ∧ t ≤ 999
        · obtain ⟨S1, a1, a2, a3, a4, a5⟩ := R.lays (t := t) ⟨q2.1, by omega⟩
          obtain ⟨S2, b1, b2⟩ := take_C R (S1 := S1) (k := k) (head := head) P (by rw [a2]) (by rw [a2]) (fun q h1 h2 => a3 q (by omega)) a4 ⟨q0.1, by omega⟩ q1
          obtain ⟨M1, c1, c2, c3, c4⟩ := M_look_e (S := Sm) (x := x) (y := y) (t := t) H OA.1 P ⟨q2.1, by omega⟩
          rw [decide_eq_true q2, if_pos rfl, if_pos rfl, a1, bd_some, b1, bd2_some, c1, bd_some, take_M H OA.1 (c3 2 (by decide) (by decide) (by decide)) c4 OA.2.1 ⟨q0.1, by omega⟩ q1, bd_some]
          exact ⟨_, _, _, rfl, rfl, (lays_sc a2 a3).tr b2.sc, look_sc c2 c3⟩
        · rw [decide_eq_false q2, if_neg (by decide), if_neg (by decide)]
          exact ⟨_, _, _, rfl, rfl, sc.rf S, scM.rf Sm⟩
      · rw [decide_eq_false q1, if_neg (by decide), if_neg (by decide)]
        exact ⟨_, _, _, rfl, rfl, sc.rf S, scM.rf Sm⟩
    · rw [decide_eq_false P, if_neg (by decide), if_neg (by decide)]
      exact ⟨_, _, _, rfl, rfl, sc.rf S, scM.rf Sm⟩
  · rw [decide_eq_false q0, if_neg (by decide), if_neg (by decide)]
    exact ⟨_, _, _, rfl, rfl, sc.rf S, scM.rf Sm⟩
/-! how far a side is from a lens's own -/
def cdi (l s : Int) : Int := min ((l - s).natAbs : Int) (64 - ((l - s).natAbs : Int))
theorem cdi_bd {l s : Int} (hl : 0 ≤ l ∧ l ≤ 63) (hs : 0 ≤ s ∧ s ≤ 63) : 0 ≤ cdi l s ∧ cdi l s ≤ 32 := by
  unfold cdi
  omega
theorem M_apart_e {Sm : xS} {k s : Int} (hL : okLs (Sm.2 2)) (hk : 0 ≤ k ∧ k < Sm.2 2 1) (hs : 0 ≤ s ∧ s ≤ 63) : M_apart Sm k s = some (cdi (Sm.2 2 (620 + 2 * k)) s) := by
  have h1 := hL.1
  obtain ⟨h2, h3⟩ := hL.2 k hk.1 hk.2
  unfold M_apart cdi
  rw [gd_pos (by omega), M_abs_e ⟨by omega, by omega⟩, bd_some, gd_pos ⟨⟨by omega, by omega⟩, ⟨by omega, by omega⟩⟩]
  split
  · exact some_r (by omega)
  · exact some_r (by omega)
theorem C_weight_e {S : yS} {a : Int → Int} {k s : Int} (hL : okLs a) (rL : rLens S.2 a) (hk : 0 ≤ k ∧ k < a 1) (hs : 0 ≤ s ∧ s ≤ 63) : C_weight S k s = some (max 0 (a (620 + 2 * k + 1) + 1 - cdi (a (620 + 2 * k)) s)) := by
  have h1 := hL.1
  obtain ⟨h2, h3⟩ := hL.2 k hk.1 hk.2
  have e0 : S.2 (11 + 1 + k) 0 = a (620 + 2 * k) := by rw [rL k 0 (by omega) (by omega) (by omega) (by omega), Int.add_zero]
  have e1 : S.2 (11 + 1 + k) 1 = a (620 + 2 * k + 1) := rL k 1 (by omega) (by omega) (by omega) (by omega)
  have ec : ((((s - a (620 + 2 * k) + 32) % 64 - 32).natAbs : Nat) : Int) = cdi (a (620 + 2 * k)) s := by
    unfold cdi
    omega
  unfold C_weight
  rw [e0, e1, gd_pos (by omega), Ma_floorMod_e (by omega) (by decide), bd_some, nm_eq, gd_pos (by omega), Ma_abs_e ⟨by omega, by omega⟩, bd_some, ec]
  have := cdi_bd h2 hs
  rw [Ma_max_e (by decide) ⟨by omega, by omega⟩, bd_some]
def cvF (a : Int → Int) (s : Int) : Nat → Int → Int → Int
  | 0, acc, _ => acc
  | n + 1, acc, k => cvF a s n (acc + if cdi (a (620 + 2 * k)) s ≤ a (620 + 2 * k + 1) then 1 else 0) (k + 1)
theorem M_coverOf_L {Sm : xS} {s : Int} (hL : okLs (Sm.2 2)) (hs : 0 ≤ s ∧ s ≤ 63) : ∀ (m n : Nat) (acc k : Int), 0 ≤ k → k + m = Sm.2 2 1 → m < n → M_coverOf_L4 Sm s n acc k = some (cvF (Sm.2 2) s m acc k) := by
  have h1 := hL.1
  intro m
  induction m with
  | zero =>
    intro n acc k h2 h3 h4
    cases n with
    | zero => omega
    | succ n =>
      show M_coverOf_b4 Sm s (M_coverOf_L4 Sm s n) acc k = _
      unfold M_coverOf_b4
      rw [gd_pos ⟨⟨by omega, by omega⟩, ⟨by omega, by omega⟩⟩, if_neg (by omega)]
      rfl
  | succ m ih =>
    intro n acc k h2 h3 h4
    cases n with
    | zero => omega
    | succ n =>
      obtain ⟨q1, q2⟩ := hL.2 k h2 (by omega)
      have := cdi_bd q1 hs
      show M_coverOf_b4 Sm s (M_coverOf_L4 Sm s n) acc k = _
      unfold M_coverOf_b4 M_coverOf_B43 cvF
      rw [gd_pos ⟨⟨by omega, by omega⟩, ⟨by omega, by omega⟩⟩, if_pos (by omega), M_apart_e hL ⟨h2, by omega⟩ hs, bd_some, gd_pos (by omega), gd_pos ⟨⟨by omega, by omega⟩, ⟨by omega, by omega⟩⟩]
      by_cases hz : cdi (Sm.2 2 (620 + 2 * k)) s ≤ Sm.2 2 (620 + 2 * k + 1)
      · rw [if_pos hz, if_pos hz, nm_eq, nm_eq, ih n _ _ (by omega) (by omega) (by omega)]
      · rw [if_neg hz, if_neg hz, nm_eq, nm_eq, ih n _ _ (by omega) (by omega) (by omega)]
theorem C_coveredBy_L {S : yS} {a : Int → Int} {s : Int} (hL : okLs a) (rL : rLens S.2 a) (e1 : S.2 2 1 = a 1) (hs : 0 ≤ s ∧ s ≤ 63) : ∀ (m n : Nat) (acc k : Int), 0 ≤ k → k + m = a 1 → m < n → C_coveredBy_L4 S s n acc k = some (cvF a s m acc k) := by
  have h1 := hL.1
  intro m
  induction m with
  | zero =>
    intro n acc k h2 h3 h4
    cases n with
    | zero => omega
    | succ n =>
      show C_coveredBy_b4 S s (C_coveredBy_L4 S s n) acc k = _
      unfold C_coveredBy_b4
      rw [e1, gd_pos ⟨⟨by omega, by omega⟩, ⟨by omega, by omega⟩⟩, if_neg (by omega)]
      rfl
  | succ m ih =>
    intro n acc k h2 h3 h4
    cases n with
    | zero => omega
    | succ n =>
      obtain ⟨q1, q2⟩ := hL.2 k h2 (by omega)
      have := cdi_bd q1 hs
      show C_coveredBy_b4 S s (C_coveredBy_L4 S s n) acc k = _
      unfold C_coveredBy_b4 C_coveredBy_B32 cvF
      rw [e1, gd_pos ⟨⟨by omega, by omega⟩, ⟨by omega, by omega⟩⟩, if_pos (by omega), C_weight_e hL rL ⟨h2, by omega⟩ hs, bd_some, gd_pos ⟨by omega, by omega⟩]
      by_cases hz : cdi (a (620 + 2 * k)) s ≤ a (620 + 2 * k + 1)
      · rw [if_pos hz, if_neg (by omega), nm_eq, nm_eq, ih n _ _ (by omega) (by omega) (by omega)]
      · rw [if_neg hz, if_pos (by omega), nm_eq, nm_eq, ih n _ _ (by omega) (by omega) (by omega)]
def cvS (a : Int → Int) (s : Int) : Int := cvF a s (a 1).toNat 0 0
theorem cvF_bd {a : Int → Int} {s : Int} : ∀ (m : Nat) (acc k : Int), acc ≤ cvF a s m acc k ∧ cvF a s m acc k ≤ acc + m := by
  intro m
  induction m with
  | zero => intro acc k; unfold cvF; omega
  | succ m ih =>
    intro acc k
    unfold cvF
    have := ih (acc + if cdi (a (620 + 2 * k)) s ≤ a (620 + 2 * k + 1) then 1 else 0) (k + 1)
    split at this <;> split <;> omega
theorem M_coverOf_e {Sm : xS} {s : Int} (hL : okLs (Sm.2 2)) (hs : 0 ≤ s ∧ s ≤ 63) : M_coverOf Sm s = some (cvS (Sm.2 2) s) := M_coverOf_L hL hs _ FU 0 0 (by omega) (by have := hL.1; omega) (by have := hL.1; unfold FU; omega)
theorem C_coveredBy_e {S : yS} {a : Int → Int} {s : Int} (hL : okLs a) (rL : rLens S.2 a) (e1 : S.2 2 1 = a 1) (hs : 0 ≤ s ∧ s ≤ 63) : C_coveredBy S s = some (cvS a s) := C_coveredBy_L hL rL e1 hs _ FU 0 0 (by omega) (by have := hL.1; omega) (by have := hL.1; unfold FU; omega)
theorem covered_L {S : yS} {Sm : xS} (hL : okLs (Sm.2 2)) (rL : rLens S.2 (Sm.2 2)) (e1 : S.2 2 1 = Sm.2 2 1) : ∀ (m n : Nat) (acc s : Int), 0 ≤ s → s + m = 64 → m < n → ∃ r, M_covered_L29 Sm n acc s = some r ∧ C_covered_L26 S n acc s = some r := by
  have h1 := hL.1
  intro m
  induction m with
  | zero =>
    intro n acc s h2 h3 h4
    cases n with
    | zero => omega
    | succ n =>
      show ∃ r, M_covered_b29 Sm (M_covered_L29 Sm n) acc s = some r ∧ C_covered_b26 S (C_covered_L26 S n) acc s = some r
      unfold M_covered_b29 C_covered_b26
      rw [gd_pos ⟨by omega, by omega⟩, gd_pos ⟨by omega, by omega⟩, if_neg (by omega), if_neg (by omega)]
      exact ⟨_, rfl, rfl⟩
  | succ m ih =>
    intro n acc s h2 h3 h4
    cases n with
    | zero => omega
    | succ n =>
      have hb := cvF_bd (a := Sm.2 2) (s := s) (Sm.2 2 1).toNat 0 0
      have hb' : 0 ≤ cvS (Sm.2 2) s ∧ cvS (Sm.2 2) s ≤ 16 := by unfold cvS; omega
      show ∃ r, M_covered_b29 Sm (M_covered_L29 Sm n) acc s = some r ∧ C_covered_b26 S (C_covered_L26 S n) acc s = some r
      unfold M_covered_b29 C_covered_b26 M_covered_B49 C_covered_B46
      rw [gd_pos ⟨by omega, by omega⟩, gd_pos ⟨by omega, by omega⟩, if_pos (by omega), if_pos (by omega), M_coverOf_e hL ⟨h2, by omega⟩, C_coveredBy_e hL rL e1 ⟨h2, by omega⟩, bd_some, bd_some, gd_pos ⟨by omega, by omega⟩, gd_pos ⟨by omega, by omega⟩]
      by_cases hz : cvS (Sm.2 2) s = 0
      · rw [if_pos hz, if_pos hz, nm_eq, nm_eq, nm_eq, nm_eq]
        exact ih n _ _ (by omega) (by omega) (by omega)
      · rw [if_neg hz, if_neg hz, nm_eq, nm_eq, nm_eq, nm_eq]
        exact ih n _ _ (by omega) (by omega) (by omega)
theorem op_covered {S : yS} {Sm : xS} {s : Int} (R : RC S Sm) (hs : r32 s) : ∃ r, C_covered S s = some r ∧ M_covered Sm s = some r := by
  have OA := R.2.1
  have n1 := R.n0 (k := 1) (by decide)
  unfold C_covered M_covered M_covered_B14
  rw [gd_pos hs, gd_pos hs, gd_pos hs]
  by_cases q : s = -1
  · rw [if_pos q, if_pos q, if_pos q]
    obtain ⟨r, a1, a2⟩ := covered_L OA.2.1 R.2.2.1.2.2.2.1 n1 64 FU 0 0 (by omega) (by omega) (by unfold FU; omega)
    exact ⟨r, a2, a1⟩
  · rw [if_neg q, if_neg q, if_neg q, C_isHead_e hs, M_isSide_e hs, bd_some, bd_some]
    by_cases q1 : 0 ≤ s ∧ s ≤ 63
    · rw [decide_eq_true q1, if_pos rfl, if_pos rfl, M_coverOf_e OA.2.1 q1, C_coveredBy_e OA.2.1 R.2.2.1.2.2.2.1 n1 q1, bd_some]
      exact ⟨_, rfl, rfl⟩
    · rw [decide_eq_false q1, if_neg (by decide), if_neg (by decide)]
      exact ⟨_, rfl, rfl⟩
