/-! the plain law: ends, width, same -/
set_option maxRecDepth 100000
def enLo (v all own : Int) : Int := -((-(v * all - 255 * (all - own))) / own)
def enUp (v all own : Int) : Int := ((v + 1) * all - 1) / own
def enF (a : Int → Int) (V : Int → Int) (s : Int) : Nat → Int → Int → Int → Int × Int
  | 0, le, mo, _ => (le, mo)
  | n + 1, le, mo, k => if cdi (a (620 + 2 * k)) s ≤ a (620 + 2 * k + 1) then enF a V s n (max le (enLo (V k) ((a (620 + 2 * k + 1) + 1) * (a (620 + 2 * k + 1) + 1)) (a (620 + 2 * k + 1) + 1 - cdi (a (620 + 2 * k)) s))) (min mo (enUp (V k) ((a (620 + 2 * k + 1) + 1) * (a (620 + 2 * k + 1) + 1)) (a (620 + 2 * k + 1) + 1 - cdi (a (620 + 2 * k)) s))) (k + 1) else enF a V s n le mo (k + 1)
theorem div_bd {z own m : Int} (hz : -m ≤ z ∧ z ≤ m) (ho : 1 ≤ own) : -m ≤ z / own ∧ z / own ≤ m := by
  have h0 : 0 ≤ m := by omega
  have h1 : -m * own ≤ -m := by
    have : m * 1 ≤ m * own := Int.mul_le_mul_of_nonneg_left ho h0
    rw [Int.neg_mul]; omega
  refine ⟨Int.le_ediv_of_mul_le (by omega) (by omega), ?_⟩
  rcases Int.lt_or_le z 0 with q | q
  · have : z / own < 0 := Int.ediv_neg_of_neg_of_pos q (by omega)
    omega
  · have := Int.ediv_le_self own q
    omega
theorem en_bd {v all own : Int} (hv : 0 ≤ v ∧ v ≤ 30600) (ha : 1 ≤ all ∧ all ≤ 64) (ho : 1 ≤ own ∧ own ≤ 8) : (-3000000 ≤ enLo v all own ∧ enLo v all own ≤ 3000000) ∧ (-3000000 ≤ enUp v all own ∧ enUp v all own ≤ 3000000) ∧ (-3000000 ≤ v * all - 255 * (all - own) ∧ v * all - 255 * (all - own) ≤ 3000000) ∧ (0 ≤ (v + 1) * all - 1 ∧ (v + 1) * all - 1 ≤ 3000000) := by
  have hp1 := mul_nn (a := v) (b := all) (m := 30600) (n := 64) hv ⟨by omega, ha.2⟩
  have hp2 := mul_nn (a := v + 1) (b := all) (m := 30601) (n := 64) ⟨by omega, by omega⟩ ⟨by omega, ha.2⟩
  have hp3 : 1 * 1 ≤ (v + 1) * all := Int.mul_le_mul (by omega) ha.1 (by omega) (by omega)
  have d1 := div_bd (z := -(v * all - 255 * (all - own))) (own := own) (m := 3000000) ⟨by omega, by omega⟩ ho.1
  have d2 := div_bd (z := (v + 1) * all - 1) (own := own) (m := 3000000) ⟨by omega, by omega⟩ ho.1
  unfold enLo enUp
  omega
theorem M_ends_L {M1 : xS} {V : Int → Int} {side head f : Int} (hL : okLs (M1.2 2)) (hs : 0 ≤ side ∧ side ≤ 63) (hf : r32 f) (hV : ∀ k, 0 ≤ k → k < M1.2 2 1 → M_lensTake M1 k head = some (V k) ∧ 0 ≤ V k ∧ V k ≤ 30600) :
    ∀ (m n : Nat) (least most k : Int), 0 ≤ k → k + m = M1.2 2 1 → m < n → (-100000000 ≤ least ∧ least ≤ 100000000) → (-100000000 ≤ most ∧ most ≤ 100000000) → M_ends_L44 side head f n M1 least most k = some (if f = 0 then (enF (M1.2 2) V side m least most k).1 else (enF (M1.2 2) V side m least most k).2, M1) := by
  have h1 := hL.1
  intro m
  induction m with
  | zero =>
    intro n least most k k1 k2 k3 _ _
    cases n with
    | zero => omega
    | succ n =>
      show M_ends_b44 side head f (M_ends_L44 side head f n) M1 least most k = _
      unfold M_ends_b44
      rw [gd_pos ⟨⟨by omega, by omega⟩, ⟨by omega, by omega⟩⟩, if_neg (by omega), gd_pos hf]
      by_cases qf : f = 0
      · rw [if_pos qf, if_pos qf]; rfl
      · rw [if_neg qf, if_neg qf]; rfl
  | succ m ih =>
    intro n least most k k1 k2 k3 hle hmo
    cases n with
    | zero => omega
    | succ n =>
      obtain ⟨q1, q2⟩ := hL.2 k k1 (by omega)
      have qc := cdi_bd q1 hs
      obtain ⟨v1, v2⟩ := hV k k1 (by omega)
      have hq := sq_bd q2
      show M_ends_b44 side head f (M_ends_L44 side head f n) M1 least most k = _
      unfold M_ends_b44 M_ends_B171 enF
      rw [gd_pos ⟨⟨by omega, by omega⟩, ⟨by omega, by omega⟩⟩, if_pos (by omega), gd_pos (by omega), nm_eq, M_apart_e hL ⟨k1, by omega⟩ hs, bd_some, gd_pos ⟨⟨by omega, by omega⟩, ⟨by omega, by omega⟩⟩]
      by_cases hz : cdi (M1.2 2 (620 + 2 * k)) side ≤ M1.2 2 (620 + 2 * k + 1)
      · have hb := en_bd (all := (M1.2 2 (620 + 2 * k + 1) + 1) * (M1.2 2 (620 + 2 * k + 1) + 1)) (own := M1.2 2 (620 + 2 * k + 1) + 1 - cdi (M1.2 2 (620 + 2 * k)) side) v2 hq ⟨by omega, by omega⟩
        obtain ⟨hb1, hb2, hb3, hb4⟩ := hb
        rw [if_pos hz, if_pos hz, bd_some, nm_eq, nm_eq, v1, bd_some, M_floor_e (by omega) (by omega), bd_some, nm_eq, gd_pos ⟨⟨by omega, by omega⟩, ⟨by omega, by omega⟩, by omega⟩, nm_eq, Int.tdiv_eq_ediv_of_nonneg hb4.1]
        rw [show -((-(V k * ((M1.2 2 (620 + 2 * k + 1) + 1) * (M1.2 2 (620 + 2 * k + 1) + 1)) - 255 * ((M1.2 2 (620 + 2 * k + 1) + 1) * (M1.2 2 (620 + 2 * k + 1) + 1) - (M1.2 2 (620 + 2 * k + 1) + 1 - cdi (M1.2 2 (620 + 2 * k)) side)))) / (M1.2 2 (620 + 2 * k + 1) + 1 - cdi (M1.2 2 (620 + 2 * k)) side)) = enLo (V k) ((M1.2 2 (620 + 2 * k + 1) + 1) * (M1.2 2 (620 + 2 * k + 1) + 1)) (M1.2 2 (620 + 2 * k + 1) + 1 - cdi (M1.2 2 (620 + 2 * k)) side) from rfl, show ((V k + 1) * ((M1.2 2 (620 + 2 * k + 1) + 1) * (M1.2 2 (620 + 2 * k + 1) + 1)) - 1) / (M1.2 2 (620 + 2 * k + 1) + 1 - cdi (M1.2 2 (620 + 2 * k)) side) = enUp (V k) ((M1.2 2 (620 + 2 * k + 1) + 1) * (M1.2 2 (620 + 2 * k + 1) + 1)) (M1.2 2 (620 + 2 * k + 1) + 1 - cdi (M1.2 2 (620 + 2 * k)) side) from rfl]
        generalize enLo (V k) ((M1.2 2 (620 + 2 * k + 1) + 1) * (M1.2 2 (620 + 2 * k + 1) + 1)) (M1.2 2 (620 + 2 * k + 1) + 1 - cdi (M1.2 2 (620 + 2 * k)) side) = lo at *
        generalize enUp (V k) ((M1.2 2 (620 + 2 * k + 1) + 1) * (M1.2 2 (620 + 2 * k + 1) + 1)) (M1.2 2 (620 + 2 * k + 1) + 1 - cdi (M1.2 2 (620 + 2 * k)) side) = up at *
        rw [gd_pos ⟨⟨by omega, by omega⟩, ⟨by omega, by omega⟩⟩]
        by_cases c1 : lo ≤ least
        · rw [if_pos c1, gd_pos ⟨⟨by omega, by omega⟩, ⟨by omega, by omega⟩⟩, show max least lo = least by omega]
          by_cases c2 : up < most
          · rw [if_pos c2, nm_eq, show min most up = up by omega]
            exact ih n _ _ _ (by omega) (by omega) (by omega) (by omega) (by omega)
          · rw [if_neg c2, nm_eq, show min most up = most by omega]
            exact ih n _ _ _ (by omega) (by omega) (by omega) (by omega) (by omega)
        · rw [if_neg c1, gd_pos ⟨⟨by omega, by omega⟩, ⟨by omega, by omega⟩⟩, show max least lo = lo by omega]
          by_cases c2 : up < most
          · rw [if_pos c2, nm_eq, show min most up = up by omega]
            exact ih n _ _ _ (by omega) (by omega) (by omega) (by omega) (by omega)
          · rw [if_neg c2, nm_eq, show min most up = most by omega]
            exact ih n _ _ _ (by omega) (by omega) (by omega) (by omega) (by omega)
      · rw [if_neg hz, if_neg hz, nm_eq]
        exact ih n least most (k + 1) (by omega) (by omega) (by omega) hle hmo
theorem C_ends_L {a : Int → Int} {V : Int → Int} {B : Int → Int} {side x y head f w h : Int} (hL : okLs a) (hs : 0 ≤ side ∧ side ≤ 63) (hf : r32 f) (hV : ∀ k, 0 ≤ k → k < a 1 → (∀ S1 : yS, S1.1 2 = w → S1.1 3 = h → rLens S1.2 a → S1.2 472 = B → ∃ S', C_takeOf S1 k x y head = some (V k, S') ∧ cFar S1 S') ∧ 0 ≤ V k ∧ V k ≤ 30600) :
    ∀ (m n : Nat) (S1 : yS) (least most k : Int), S1.1 2 = w → S1.1 3 = h → rLens S1.2 a → S1.2 2 1 = a 1 → S1.2 472 = B → 0 ≤ k → k + m = a 1 → m < n → (-100000000 ≤ least ∧ least ≤ 100000000) → (-100000000 ≤ most ∧ most ≤ 100000000) →
    ∃ S', C_ends_L42 side x y head f n S1 least most k = some (if f = 0 then (enF a V side m least most k).1 else (enF a V side m least most k).2, S') ∧ cFar S1 S' := by
  have h1 := hL.1
  intro m
  induction m with
  | zero =>
    intro n S1 least most k e1 e2 e3 e4 e5 k1 k2 k3 _ _
    cases n with
    | zero => omega
    | succ n =>
      refine ⟨S1, ?_, cFar.rf S1⟩
      show C_ends_b42 side x y head f (C_ends_L42 side x y head f n) S1 least most k = _
      unfold C_ends_b42
      rw [e4, gd_pos ⟨⟨by omega, by omega⟩, ⟨by omega, by omega⟩⟩, if_neg (by omega), gd_pos hf]
      by_cases qf : f = 0
      · rw [if_pos qf, if_pos qf]; rfl
      · rw [if_neg qf, if_neg qf]; rfl
  | succ m ih =>
    intro n S1 least most k e1 e2 e3 e4 e5 k1 k2 k3 hle hmo
    cases n with
    | zero => omega
    | succ n =>
      obtain ⟨q1, q2⟩ := hL.2 k k1 (by omega)
      have qc := cdi_bd q1 hs
      obtain ⟨v1, v2⟩ := hV k k1 (by omega)
      obtain ⟨S2, b1, b2⟩ := v1 S1 e1 e2 e3 e5
      have hq := sq_bd q2
      have cw : S1.2 (11 + 1 + k) 1 = a (620 + 2 * k + 1) := e3 k 1 (by omega) (by omega) (by omega) (by omega)
      show ∃ S', C_ends_b42 side x y head f (C_ends_L42 side x y head f n) S1 least most k = some (_, S') ∧ _
      unfold C_ends_b42
      rw [e4, cw, gd_pos ⟨⟨by omega, by omega⟩, ⟨by omega, by omega⟩⟩, if_pos (by omega), C_weight_e hL e3 ⟨k1, by omega⟩ hs, bd_some, gd_pos ⟨by omega, by omega⟩]
      by_cases hz : cdi (a (620 + 2 * k)) side ≤ a (620 + 2 * k + 1)
      · have ex : max 0 (a (620 + 2 * k + 1) + 1 - cdi (a (620 + 2 * k)) side) = a (620 + 2 * k + 1) + 1 - cdi (a (620 + 2 * k)) side := by omega
        have hb := en_bd (all := (a (620 + 2 * k + 1) + 1) * (a (620 + 2 * k + 1) + 1)) (own := a (620 + 2 * k + 1) + 1 - cdi (a (620 + 2 * k)) side) v2 hq ⟨by omega, by omega⟩
        have en : enF a V side (m + 1) least most k = enF a V side m (max least (enLo (V k) ((a (620 + 2 * k + 1) + 1) * (a (620 + 2 * k + 1) + 1)) (a (620 + 2 * k + 1) + 1 - cdi (a (620 + 2 * k)) side))) (min most (enUp (V k) ((a (620 + 2 * k + 1) + 1) * (a (620 + 2 * k + 1) + 1)) (a (620 + 2 * k + 1) + 1 - cdi (a (620 + 2 * k)) side))) (k + 1) := by
          conv => lhs; unfold enF
          rw [if_pos hz]
        obtain ⟨hb1, hb2, hb3, hb4⟩ := hb
        rw [en, ex, if_neg (by omega), gd_pos (by omega), gd_pos (by omega), nm_eq, b1, bd2_some, nm_eq, Ma_floorDiv_e (by omega) (by omega), bd_some]
        rw [show -((-(V k * ((a (620 + 2 * k + 1) + 1) * (a (620 + 2 * k + 1) + 1)) - 255 * ((a (620 + 2 * k + 1) + 1) * (a (620 + 2 * k + 1) + 1) - (a (620 + 2 * k + 1) + 1 - cdi (a (620 + 2 * k)) side)))) / (a (620 + 2 * k + 1) + 1 - cdi (a (620 + 2 * k)) side)) = enLo (V k) ((a (620 + 2 * k + 1) + 1) * (a (620 + 2 * k + 1) + 1)) (a (620 + 2 * k + 1) + 1 - cdi (a (620 + 2 * k)) side) from rfl]
        rw [Ma_max_e ⟨by omega, by omega⟩ ⟨by omega, by omega⟩, bd_some, gd_pos ⟨⟨by omega, by omega⟩, ⟨by omega, by omega⟩, by omega⟩, Int.tdiv_eq_ediv_of_nonneg hb4.1]
        rw [show ((V k + 1) * ((a (620 + 2 * k + 1) + 1) * (a (620 + 2 * k + 1) + 1)) - 1) / (a (620 + 2 * k + 1) + 1 - cdi (a (620 + 2 * k)) side) = enUp (V k) ((a (620 + 2 * k + 1) + 1) * (a (620 + 2 * k + 1) + 1)) (a (620 + 2 * k + 1) + 1 - cdi (a (620 + 2 * k)) side) from rfl]
        rw [Ma_min_e ⟨by omega, by omega⟩ ⟨by omega, by omega⟩, bd_some, nm_eq]
        generalize enLo (V k) ((a (620 + 2 * k + 1) + 1) * (a (620 + 2 * k + 1) + 1)) (a (620 + 2 * k + 1) + 1 - cdi (a (620 + 2 * k)) side) = lo at *
        generalize enUp (V k) ((a (620 + 2 * k + 1) + 1) * (a (620 + 2 * k + 1) + 1)) (a (620 + 2 * k + 1) + 1 - cdi (a (620 + 2 * k)) side) = up at *
        obtain ⟨S3, c1, c2⟩ := ih n S2 (max least lo) (min most up) (k + 1) ((b2.2 2 (by decide)).trans e1) ((b2.2 3 (by decide)).trans e2) (by rw [b2.1]; exact e3) (by rw [b2.1]; exact e4) (by rw [b2.1]; exact e5) (by omega) (by omega) (by omega) (by omega) (by omega)
        exact ⟨S3, c1, b2.tr c2⟩
      · have en : enF a V side (m + 1) least most k = enF a V side m least most (k + 1) := by
          conv => lhs; unfold enF
          rw [if_neg hz]
        rw [en, if_pos (by omega), nm_eq]
        exact ih n S1 least most (k + 1) e1 e2 e3 e4 e5 (by omega) (by omega) (by omega) hle hmo
theorem op_ends {S : yS} {Sm : xS} {s x y head f : Int} (R : RC S Sm) (hs : r32 s) (hx : r32 x) (hy : r32 y) (hd : r32 head) (hf : r32 f) : ∃ r S' Sm', C_ends S s x y head f = some (r, S') ∧ M_ends Sm s x y head f = some (r, Sm') ∧ sc S S' ∧ scM Sm Sm' := by
  have HC := R.HC
  obtain ⟨H, ew, eh⟩ := R.1
  have OA := R.2.1
  have n1 := R.n0 (k := 1) (by decide)
  have hl := OA.2.1.1
  unfold C_ends M_ends
  rw [C_isHead_e hs, M_isSide_e hs, bd_some, bd_some]
  by_cases q0 : 0 ≤ s ∧ s ≤ 63
  · rw [decide_eq_true q0, if_pos rfl, if_pos rfl, C_isPlace_e HC hx hy, M_isPlace_e H hx hy, bd_some, bd_some, ew, eh]
    by_cases P : okP (Sm.1 0) (Sm.1 1) x y
    · rw [decide_eq_true P, if_pos rfl, if_pos rfl, C_isHead_e hd, M_isSide_e hd, bd_some, bd_some]
      by_cases q1 : 0 ≤ head ∧ head ≤ 63
      · obtain ⟨S1, a1, a2, a3, a4, a5⟩ := R.lays (t := 0) ⟨by omega, by omega⟩
        obtain ⟨M1, c1, c2, c3, c4⟩ := M_look_e (S := Sm) (x := x) (y := y) (t := 0) H OA.1 P ⟨by omega, by omega⟩
        have m2 : M1.2 2 = Sm.2 2 := c3 2 (by decide) (by decide) (by decide)
        have hv : ∀ k, 0 ≤ k → k < Sm.2 2 1 → 0 ≤ tkL (Sm.2 2) (Sm.1 0) (Sm.1 1) x y 0 head k ∧ tkL (Sm.2 2) (Sm.1 0) (Sm.1 1) x y 0 head k ≤ 30600 := fun k k1 k2 => tkS_bd (rayT_ok H OA.1) (OA.2.1.2 k k1 k2).2
        have eM := M_ends_L (M1 := M1) (V := tkL (Sm.2 2) (Sm.1 0) (Sm.1 1) x y 0 head) (side := s) (head := head) (f := f) (by rw [m2]; exact OA.2.1) q0 hf (fun k k1 k2 => ⟨take_M H OA.1 m2 c4 OA.2.1 ⟨k1, by rw [m2] at k2; exact k2⟩ q1, hv k k1 (by rw [m2] at k2; exact k2)⟩) (Sm.2 2 1).toNat FU 0 255 0 (by omega) (by rw [m2]; omega) (by unfold FU; omega) (by omega) (by omega)
        obtain ⟨S2, b1, b2⟩ := C_ends_L (a := Sm.2 2) (V := tkL (Sm.2 2) (Sm.1 0) (Sm.1 1) x y 0 head) (B := S1.2 472) (w := S.1 2) (h := S.1 3) (x := x) (y := y) (head := head) (side := s) (f := f) OA.2.1 q0 hf (fun k k1 k2 => ⟨fun S3 t1 t2 t3 t4 => by
          have hh := C_takeOf_e (S := S3) (a := Sm.2 2) (T := rayT (Sm.2 2) (Sm.1 0) (Sm.1 1) x y 0) (k := k) (head := head) (x := x) (y := y) (by rw [t1, t2]; exact HC) (by rw [t1, t2, ew, eh]; exact P) (by rw [t1, t2, ew, eh, t4]; exact a5) (fun q _ _ => by rw [t1, t2, ew, eh, t4, rayS_congr H a4]; rfl) OA.2.1 t3 ⟨k1, k2⟩ q1
          exact hh, hv k k1 k2⟩) (Sm.2 2 1).toNat FU S1 0 255 0 (by rw [a2]) (by rw [a2]) (R.2.2.1.2.2.2.1.cg (fun q _ _ => a3 q (by omega)) (fun _ _ _ => rfl)) (by rw [a3 2 (by decide)]; exact n1) rfl (by omega) (by omega) (by unfold FU; omega) (by omega) (by omega)
        rw [decide_eq_true q1, if_pos rfl, if_pos rfl, a1, bd_some, c1, bd_some, eM, b1, m2]
        exact ⟨_, _, _, rfl, rfl, (lays_sc a2 a3).tr b2.sc, look_sc c2 c3⟩
      · rw [decide_eq_false q1, if_neg (by decide), if_neg (by decide)]
        exact ⟨_, _, _, rfl, rfl, sc.rf S, scM.rf Sm⟩
    · rw [decide_eq_false P, if_neg (by decide), if_neg (by decide)]
      exact ⟨_, _, _, rfl, rfl, sc.rf S, scM.rf Sm⟩
  · rw [decide_eq_false q0, if_neg (by decide), if_neg (by decide)]
    exact ⟨_, _, _, rfl, rfl, sc.rf S, scM.rf Sm⟩
/-! width -/
def wdF (D : Int → Int) : Nat → Int → Int → Int → Int
  | 0, best, _, _ => best
  | n + 1, best, most, v => if D v ≤ most then wdF D n best most (v + 1) else wdF D n v (D v) (v + 1)
theorem M_width_L {M1 : xS} {D : Int → Int} {one other head : Int} (hD : ∀ v, 0 ≤ v → v < 8 → ∃ p q, M_takeOf M1 one v head = some p ∧ M_takeOf M1 other v head = some q ∧ r32 (p - q) ∧ D v = ((p - q).natAbs : Int) ∧ D v ≤ 30600) :
    ∀ (m n : Nat) (best most v : Int), 0 ≤ v → v + m = 8 → m < n → (-1 ≤ most ∧ most ≤ 30600) → M_width_L51 one other head n M1 best most v = some (wdF D m best most v, M1) := by
  intro m
  induction m with
  | zero =>
    intro n best most v v1 v2 v3 h4
    cases n with
    | zero => omega
    | succ n =>
      show M_width_b51 one other head (M_width_L51 one other head n) M1 best most v = _
      unfold M_width_b51
      rw [gd_pos ⟨by omega, by omega⟩, if_neg (by omega)]
      rfl
  | succ m ih =>
    intro n best most v v1 v2 v3 h4
    cases n with
    | zero => omega
    | succ n =>
      obtain ⟨p, q, e1, e2, e3, e4, e5⟩ := hD v v1 (by omega)
      show M_width_b51 one other head (M_width_L51 one other head n) M1 best most v = _
      unfold M_width_b51 wdF
      rw [gd_pos ⟨by omega, by omega⟩, if_pos (by omega), e1, bd_some, e2, bd_some, M_abs_e e3, bd_some, ← e4, gd_pos ⟨⟨by omega, by omega⟩, ⟨by omega, by omega⟩⟩]
      by_cases hz : D v ≤ most
      · rw [if_pos hz, if_pos hz, nm_eq]
        exact ih n _ _ _ (by omega) (by omega) (by omega) h4
      · rw [if_neg hz, if_neg hz, nm_eq]
        exact ih n _ _ _ (by omega) (by omega) (by omega) (by omega)
theorem C_width_L {D : Int → Int} {one other head x y w h : Int} {A : Int → Int → Int} (hD : ∀ v, 0 ≤ v → v < 8 → ∃ p q, (∀ S1 : yS, S1.1 2 = w → S1.1 3 = h → S1.2 = A → (∃ S', C_takeOf_2 S1 one v x y head = some (p, S') ∧ cFar S1 S') ∧ ∃ S', C_takeOf_2 S1 other v x y head = some (q, S') ∧ cFar S1 S') ∧ r32 (p - q) ∧ D v = ((p - q).natAbs : Int) ∧ D v ≤ 30600) :
    ∀ (m n : Nat) (S1 : yS) (best most v : Int), S1.1 2 = w → S1.1 3 = h → S1.2 = A → 0 ≤ v → v + m = 8 → m < n → (-1 ≤ most ∧ most ≤ 30600) → ∃ S', C_width_L48 one other x y head n S1 best most v = some (wdF D m best most v, S') ∧ cFar S1 S' := by
  intro m
  induction m with
  | zero =>
    intro n S1 best most v t1 t2 t3 v1 v2 v3 h4
    cases n with
    | zero => omega
    | succ n =>
      refine ⟨S1, ?_, cFar.rf S1⟩
      show C_width_b48 one other x y head (C_width_L48 one other x y head n) S1 best most v = _
      unfold C_width_b48
      rw [gd_pos ⟨by omega, by omega⟩, if_neg (by omega)]
      rfl
  | succ m ih =>
    intro n S1 best most v t1 t2 t3 v1 v2 v3 h4
    cases n with
    | zero => omega
    | succ n =>
      obtain ⟨p, q, e1, e3, e4, e5⟩ := hD v v1 (by omega)
      obtain ⟨⟨S2, a1, a2⟩, -⟩ := e1 S1 t1 t2 t3
      have u1 : S2.1 2 = w := (a2.2 2 (by decide)).trans t1
      have u2 : S2.1 3 = h := (a2.2 3 (by decide)).trans t2
      have u3 : S2.2 = A := a2.1.trans t3
      obtain ⟨-, S3, b1, b2⟩ := e1 S2 u1 u2 u3
      have z1 : S3.1 2 = w := (b2.2 2 (by decide)).trans u1
      have z2 : S3.1 3 = h := (b2.2 3 (by decide)).trans u2
      have z3 : S3.2 = A := b2.1.trans u3
      show ∃ S', C_width_b48 one other x y head (C_width_L48 one other x y head n) S1 best most v = some (_, S') ∧ _
      unfold C_width_b48 wdF
      rw [gd_pos ⟨by omega, by omega⟩, if_pos (by omega), a1, bd2_some, b1, bd2_some, Ma_abs_e e3, bd_some, ← e4, gd_pos ⟨⟨by omega, by omega⟩, ⟨by omega, by omega⟩⟩]
      by_cases hz : D v ≤ most
      · rw [if_pos hz, if_pos hz, nm_eq]
        obtain ⟨S4, c1, c2⟩ := ih n S3 best most (v + 1) z1 z2 z3 (by omega) (by omega) (by omega) h4
        exact ⟨S4, c1, (a2.tr b2).tr c2⟩
      · rw [if_neg hz, if_neg hz, nm_eq]
        obtain ⟨S4, c1, c2⟩ := ih n S3 v (D v) (v + 1) z1 z2 z3 (by omega) (by omega) (by omega) (by omega)
        exact ⟨S4, c1, (a2.tr b2).tr c2⟩
theorem op_width {S : yS} {Sm : xS} {one other x y head : Int} (R : RC S Sm) (h1 : r32 one) (h2 : r32 other) (hx : r32 x) (hy : r32 y) (hd : r32 head) : ∃ r S' Sm', C_width S one other x y head = some (r, S') ∧ M_width Sm one other x y head = some (r, Sm') ∧ sc S S' ∧ scM Sm Sm' := by
  have HC := R.HC
  obtain ⟨H, ew, eh⟩ := R.1
  have OA := R.2.1
  unfold C_width M_width
  rw [C_isHead_e h1, M_isSide_e h1, bd_some, bd_some]
  by_cases q0 : 0 ≤ one ∧ one ≤ 63
  · rw [decide_eq_true q0, if_pos rfl, if_pos rfl, C_isHead_e h2, M_isSide_e h2, bd_some, bd_some]
    by_cases q2 : 0 ≤ other ∧ other ≤ 63
    · rw [decide_eq_true q2, if_pos rfl, if_pos rfl, C_isPlace_e HC hx hy, M_isPlace_e H hx hy, bd_some, bd_some, ew, eh]
      by_cases P : okP (Sm.1 0) (Sm.1 1) x y
      · rw [decide_eq_true P, if_pos rfl, if_pos rfl, C_isHead_e hd, M_isSide_e hd, bd_some, bd_some]
        by_cases q1 : 0 ≤ head ∧ head ≤ 63
        · obtain ⟨S1, a1, a2, a3, a4, a5⟩ := R.lays (t := 0) ⟨by omega, by omega⟩
          obtain ⟨M1, c1, c2, c3, c4⟩ := M_look_e (S := Sm) (x := x) (y := y) (t := 0) H OA.1 P ⟨by omega, by omega⟩
          have hT := rayT_ok (x := x) (y := y) (t := 0) H OA.1
          have hb : ∀ s v, 0 ≤ v → v < 8 → 0 ≤ tkS (rayT (Sm.2 2) (Sm.1 0) (Sm.1 1) x y 0) s v head ∧ tkS (rayT (Sm.2 2) (Sm.1 0) (Sm.1 1) x y 0) s v head ≤ 30600 := fun s v v1 v2 => tkS_bd hT ⟨v1, by omega⟩
          have eM := M_width_L (M1 := M1) (one := one) (other := other) (head := head) (D := fun v => ((tkS (rayT (Sm.2 2) (Sm.1 0) (Sm.1 1) x y 0) one v head - tkS (rayT (Sm.2 2) (Sm.1 0) (Sm.1 1) x y 0) other v head).natAbs : Int)) (fun v v1 v2 => by
            have b1 := hb one v v1 v2
            have b2 := hb other v v1 v2
            refine ⟨tkS (rayT (Sm.2 2) (Sm.1 0) (Sm.1 1) x y 0) one v head, tkS (rayT (Sm.2 2) (Sm.1 0) (Sm.1 1) x y 0) other v head, ?_, ?_, ⟨by omega, by omega⟩, rfl, by omega⟩
            · rw [M_takeOf_e (fun q e1 e2 => by rw [c4 q e1 e2]; exact hT q e1 e2) ⟨v1, by omega⟩ q0 q1, tkS_congr c4]
            · rw [M_takeOf_e (fun q e1 e2 => by rw [c4 q e1 e2]; exact hT q e1 e2) ⟨v1, by omega⟩ q2 q1, tkS_congr c4]) 8 FU 0 (-1) 0 (by omega) (by omega) (by unfold FU; omega) (by omega)
          obtain ⟨S2, b1, b2⟩ := C_width_L (D := fun v => ((tkS (rayT (Sm.2 2) (Sm.1 0) (Sm.1 1) x y 0) one v head - tkS (rayT (Sm.2 2) (Sm.1 0) (Sm.1 1) x y 0) other v head).natAbs : Int)) (one := one) (other := other) (head := head) (x := x) (y := y) (w := Sm.1 0) (h := Sm.1 1) (A := S1.2) (fun v v1 v2 => by
            have b1 := hb one v v1 v2
            have b2 := hb other v v1 v2
            refine ⟨tkS (rayT (Sm.2 2) (Sm.1 0) (Sm.1 1) x y 0) one v head, tkS (rayT (Sm.2 2) (Sm.1 0) (Sm.1 1) x y 0) other v head, fun S3 t1 t2 t3 => ⟨?_, ?_⟩, ⟨by omega, by omega⟩, rfl, by omega⟩
            · obtain ⟨S4, d1, d2⟩ := C_takeOf2_e (S := S3) (side := one) (width := v) (head := head) (x := x) (y := y) ⟨v1, by omega⟩ q0 q1 (by rw [t1, t2]; exact H) (by rw [t1, t2]; exact P) (by rw [t1, t2, t3]; exact a5)
              rw [tkS_congr (T' := rayT (Sm.2 2) (Sm.1 0) (Sm.1 1) x y 0) (fun q _ _ => by rw [t1, t2, t3, rayS_congr H a4]; rfl)] at d1
              exact ⟨S4, d1, d2⟩
            · obtain ⟨S4, d1, d2⟩ := C_takeOf2_e (S := S3) (side := other) (width := v) (head := head) (x := x) (y := y) ⟨v1, by omega⟩ q2 q1 (by rw [t1, t2]; exact H) (by rw [t1, t2]; exact P) (by rw [t1, t2, t3]; exact a5)
              rw [tkS_congr (T' := rayT (Sm.2 2) (Sm.1 0) (Sm.1 1) x y 0) (fun q _ _ => by rw [t1, t2, t3, rayS_congr H a4]; rfl)] at d1
              exact ⟨S4, d1, d2⟩) 8 FU S1 (-1) (-1) 0 (by rw [a2]; exact ew) (by rw [a2]; exact eh) rfl (by omega) (by omega) (by unfold FU; omega) (by omega)
          rw [decide_eq_true q1, if_pos rfl, if_pos rfl, a1, bd_some, c1, bd_some, eM, b1]
          refine ⟨_, _, _, rfl, ?_, (lays_sc a2 a3).tr b2.sc, look_sc c2 c3⟩
          congr 2
          show wdF _ 8 0 (-1) 0 = wdF _ 8 (-1) (-1) 0
          unfold wdF
          have b1 := hb one 0 (by omega) (by omega)
          have b2 := hb other 0 (by omega) (by omega)
          rw [if_neg (by omega), if_neg (by omega)]
        · rw [decide_eq_false q1, if_neg (by decide), if_neg (by decide)]
          exact ⟨_, _, _, rfl, rfl, sc.rf S, scM.rf Sm⟩
      · rw [decide_eq_false P, if_neg (by decide), if_neg (by decide)]
        exact ⟨_, _, _, rfl, rfl, sc.rf S, scM.rf Sm⟩
    · rw [decide_eq_false q2, if_neg (by decide), if_neg (by decide)]
      exact ⟨_, _, _, rfl, rfl, sc.rf S, scM.rf Sm⟩
  · rw [decide_eq_false q0, if_neg (by decide), if_neg (by decide)]
    exact ⟨_, _, _, rfl, rfl, sc.rf S, scM.rf Sm⟩
