/-! the plain law: rays and takes of the model -/
set_option maxRecDepth 100000
def wX (s : Int) : Int := if s < 16 then 16 else if s < 32 then -(2 * (s % 16) - 16) else if s < 48 then -16 else 2 * (s % 16) - 16
def wY (s : Int) : Int := if s < 16 then 2 * (s % 16) - 16 else if s < 32 then 16 else if s < 48 then -(2 * (s % 16) - 16) else -16
theorem wXY_bd (s : Int) : (-16 ≤ wX s ∧ wX s ≤ 16) ∧ (-16 ≤ wY s ∧ wY s ≤ 16) := by
  unfold wX wY
  refine ⟨?_, ?_⟩
  · split
    · omega
    · split
      · omega
      · split <;> omega
  · split
    · omega
    · split
      · omega
      · split <;> omega
theorem M_wayX_e {s : Int} (hs : 0 ≤ s ∧ s ≤ 63) : M_wayX s = some (wX s) := by
  unfold M_wayX wX
  rw [gd_pos ⟨by omega, by omega⟩, nm_eq, gd_pos ⟨by omega, by omega⟩, nm_eq, Int.tmod_eq_emod_of_nonneg hs.1, Int.tdiv_eq_ediv_of_nonneg hs.1, gd_pos ⟨by omega, by omega⟩]
  by_cases h1 : s < 16
  · rw [if_pos (by omega), if_pos h1]
  · rw [if_neg (by omega), if_neg h1, gd_pos ⟨by omega, by omega⟩]
    by_cases h2 : s < 32
    · rw [if_pos (by omega), if_pos h2]
    · rw [if_neg (by omega), if_neg h2, gd_pos ⟨by omega, by omega⟩]
      by_cases h3 : s < 48
      · rw [if_pos (by omega), if_pos h3]
      · rw [if_neg (by omega), if_neg h3]
theorem M_wayY_e {s : Int} (hs : 0 ≤ s ∧ s ≤ 63) : M_wayY s = some (wY s) := by
  unfold M_wayY wY
  rw [gd_pos ⟨by omega, by omega⟩, nm_eq, gd_pos ⟨by omega, by omega⟩, nm_eq, Int.tmod_eq_emod_of_nonneg hs.1, Int.tdiv_eq_ediv_of_nonneg hs.1, gd_pos ⟨by omega, by omega⟩]
  by_cases h1 : s < 16
  · rw [if_pos (by omega), if_pos h1]
  · rw [if_neg (by omega), if_neg h1, gd_pos ⟨by omega, by omega⟩]
    by_cases h2 : s < 32
    · rw [if_pos (by omega), if_pos h2]
    · rw [if_neg (by omega), if_neg h2, gd_pos ⟨by omega, by omega⟩]
      by_cases h3 : s < 48
      · rw [if_pos (by omega), if_pos h3]
      · rw [if_neg (by omega), if_neg h3]
theorem C_wayX_e {s : Int} (hs : 0 ≤ s ∧ s ≤ 63) : C_wayX s = some (wX s) := by
  unfold C_wayX wX
  rw [gd_pos ⟨by omega, by omega⟩, nm_eq, gd_pos ⟨by omega, by omega⟩, Int.tmod_eq_emod_of_nonneg hs.1]
  by_cases h1 : s < 16
  · rw [if_pos h1, if_pos h1]
  · rw [if_neg h1, if_neg h1, gd_pos ⟨by omega, by omega⟩]
    by_cases h2 : s < 32
    · rw [if_pos h2, if_pos h2]
    · rw [if_neg h2, if_neg h2, gd_pos ⟨by omega, by omega⟩]
      by_cases h3 : s < 48
      · rw [if_pos h3, if_pos h3]
      · rw [if_neg h3, if_neg h3]
theorem C_wayY_e {s : Int} (hs : 0 ≤ s ∧ s ≤ 63) : C_wayY s = some (wY s) := by
  unfold C_wayY wY
  rw [gd_pos ⟨by omega, by omega⟩, nm_eq, gd_pos ⟨by omega, by omega⟩, Int.tmod_eq_emod_of_nonneg hs.1]
  by_cases h1 : s < 16
  · rw [if_pos h1, if_pos h1]
  · rw [if_neg h1, if_neg h1, gd_pos ⟨by omega, by omega⟩]
    by_cases h2 : s < 32
    · rw [if_pos h2, if_pos h2]
    · rw [if_neg h2, if_neg h2, gd_pos ⟨by omega, by omega⟩]
      by_cases h3 : s < 48
      · rw [if_pos h3, if_pos h3]
      · rw [if_neg h3, if_neg h3]
def rayF (B : Int → Int) (w h x y dx dy : Int) : Nat → Int → Int × Int
  | 0, _ => (0, 41)
  | n + 1, k => if (0 ≤ (x + k * dx) / 16 ∧ (x + k * dx) / 16 ≤ w - 1) ∧ (0 ≤ (y + k * dy) / 16 ∧ (y + k * dy) / 16 ≤ h - 1) then (if B ((y + k * dy) / 16 * w + (x + k * dx) / 16) = 0 then rayF B w h x y dx dy n (k + 1) else (B ((y + k * dy) / 16 * w + (x + k * dx) / 16), k)) else (0, 41)
def rayS (B : Int → Int) (w h x y s : Int) : Int × Int := rayF B w h x y (wX s) (wY s) 40 1
/-- a place -/
abbrev okP (w h x y : Int) : Prop := (0 ≤ x ∧ x ≤ 16 * w - 1) ∧ (0 ≤ y ∧ y ≤ 16 * h - 1)
/-- a board of marks -/
def okM (w h : Int) (B : Int → Int) : Prop := ∀ c, 0 ≤ c → c < w * h → 0 ≤ B c ∧ B c ≤ 255
theorem rayF_bd {B : Int → Int} {w h x y dx dy : Int} (H : okW w h) (hM : okM w h B) : ∀ (n : Nat) (k : Int), 1 ≤ k → k + n = 41 → (0 ≤ (rayF B w h x y dx dy n k).1 ∧ (rayF B w h x y dx dy n k).1 ≤ 255) ∧ (1 ≤ (rayF B w h x y dx dy n k).2 ∧ (rayF B w h x y dx dy n k).2 ≤ 41) := by
  intro n
  induction n with
  | zero => intro k _ _; exact ⟨⟨show (0 : Int) ≤ 0 by decide, show (0 : Int) ≤ 255 by decide⟩, ⟨show (1 : Int) ≤ 41 by decide, show (41 : Int) ≤ 41 by decide⟩⟩
  | succ n ih =>
    intro k h1 h2
    unfold rayF
    split
    · rename_i q
      have qc := cell_bd H q.1 q.2
      have qm := hM _ qc.1 qc.2
      split
      · exact ih (k + 1) (by omega) (by omega)
      · exact ⟨qm, by constructor <;> dsimp only <;> omega⟩
    · exact ⟨⟨by decide, by decide⟩, ⟨by decide, by decide⟩⟩
theorem rayS_bd {B : Int → Int} {w h x y s : Int} (H : okW w h) (hM : okM w h B) : (0 ≤ (rayS B w h x y s).1 ∧ (rayS B w h x y s).1 ≤ 255) ∧ (1 ≤ (rayS B w h x y s).2 ∧ (rayS B w h x y s).2 ≤ 41) := rayF_bd H hM 40 1 (by omega) (by omega)
theorem rayF_congr {B B' : Int → Int} {w h x y dx dy : Int} (H : okW w h) (hB : ∀ c, 0 ≤ c → c < w * h → B c = B' c) : ∀ (n : Nat) (k : Int), rayF B w h x y dx dy n k = rayF B' w h x y dx dy n k := by
  intro n
  induction n with
  | zero => intro k; rfl
  | succ n ih =>
    intro k
    unfold rayF
    split
    · rename_i q
      have qc := cell_bd H q.1 q.2
      rw [hB _ qc.1 qc.2, ih]
    · rfl
theorem rayS_congr {B B' : Int → Int} {w h x y s : Int} (H : okW w h) (hB : ∀ c, 0 ≤ c → c < w * h → B c = B' c) : rayS B w h x y s = rayS B' w h x y s := rayF_congr H hB _ _
theorem step_bd {w h x y k dx dy : Int} (H : okW w h) (P : okP w h x y) (hk : 1 ≤ k ∧ k ≤ 41) (hx : -16 ≤ dx ∧ dx ≤ 16) (hy : -16 ≤ dy ∧ dy ≤ 16) : (-1000 ≤ x + k * dx ∧ x + k * dx ≤ 2000) ∧ (-1000 ≤ y + k * dy ∧ y + k * dy ≤ 2000) := by
  have q1 := mul_bd (a := k) (b := dx) (m := 41) (n := 16) ⟨by omega, by omega⟩ hx
  have q2 := mul_bd (a := k) (b := dy) (m := 41) (n := 16) ⟨by omega, by omega⟩ hy
  obtain ⟨⟨w1, w2⟩, w3, w4⟩ := H
  obtain ⟨⟨p1, p2⟩, p3, p4⟩ := P
  omega
theorem M_shoot_L {x y s : Int} (hs : 0 ≤ s ∧ s ≤ 63) : ∀ (m n : Nat) (S : xS) (k : Int), okW (S.1 0) (S.1 1) → okP (S.1 0) (S.1 1) x y → okM (S.1 0) (S.1 1) (S.2 5) → S.2 6 s = 0 → S.2 7 s = 41 → 1 ≤ k → k + m = 41 → m < n →
    ∃ S' : xS, M_shoot_L18 x y s n S k = some S' ∧ S'.1 = S.1 ∧ (∀ j, j ≠ 6 → j ≠ 7 → S'.2 j = S.2 j) ∧ (∀ q, S'.2 6 q = if q = s then (rayF (S.2 5) (S.1 0) (S.1 1) x y (wX s) (wY s) m k).1 else S.2 6 q) ∧ (∀ q, S'.2 7 q = if q = s then (rayF (S.2 5) (S.1 0) (S.1 1) x y (wX s) (wY s) m k).2 else S.2 7 q) := by
  intro m
  induction m with
  | zero =>
    intro n S k H P hM h6 h7 hk e hn
    cases n with
    | zero => omega
    | succ n =>
      refine ⟨S, ?_, rfl, fun _ _ _ => rfl, fun q => ?_, fun q => ?_⟩
      · show M_shoot_b18 x y s (M_shoot_L18 x y s n) S k = _
        unfold M_shoot_b18
        rw [gd_pos ⟨by omega, by omega⟩, if_neg (by omega)]
      · by_cases hq : q = s
        · rw [if_pos hq, hq]; exact h6
        · rw [if_neg hq]
      · by_cases hq : q = s
        · rw [if_pos hq, hq]; exact h7
        · rw [if_neg hq]
  | succ m ih =>
    intro n S k H P hM h6 h7 hk e hn
    cases n with
    | zero => omega
    | succ n =>
      have hw := wXY_bd s
      have hb := step_bd (k := k) (dx := wX s) (dy := wY s) H P ⟨hk, by omega⟩ hw.1 hw.2
      have w1 := H.1
      have w2 := H.2
      have hfx : -1000 ≤ (x + k * wX s) / 16 ∧ (x + k * wX s) / 16 ≤ 2000 := by omega
      have hfy : -1000 ≤ (y + k * wY s) / 16 ∧ (y + k * wY s) / 16 ≤ 2000 := by omega
      have h1 := wh_bd H
      show ∃ S' : xS, M_shoot_b18 x y s (M_shoot_L18 x y s n) S k = some S' ∧ _
      unfold M_shoot_b18
      rw [gd_pos ⟨by omega, by omega⟩, if_pos (by omega), M_wayX_e hs, bd_some, M_floor_e (by omega) (by decide), bd_some, M_wayY_e hs, bd_some, M_floor_e (by omega) (by decide), bd_some, M_isIn_e ⟨by omega, by omega⟩ (by decide) ⟨by omega, by omega⟩, bd_some]
      unfold rayF
      by_cases hx : 0 ≤ (x + k * wX s) / 16 ∧ (x + k * wX s) / 16 ≤ S.1 0 - 1
      · rw [decide_eq_true hx, if_pos rfl, M_isIn_e ⟨by omega, by omega⟩ (by decide) ⟨by omega, by omega⟩, bd_some]
        by_cases hy : 0 ≤ (y + k * wY s) / 16 ∧ (y + k * wY s) / 16 ≤ S.1 1 - 1
        · have qc := cell_bd H hx hy
          have qm := hM _ qc.1 qc.2
          rw [decide_eq_true hy, if_pos rfl, gd_pos (by omega), gd_pos ⟨by omega, by omega⟩, if_pos (And.intro hx hy)]
          by_cases hz : S.2 5 ((y + k * wY s) / 16 * S.1 0 + (x + k * wX s) / 16) = 0
          · rw [if_pos hz, if_pos hz, nm_eq]
            exact ih n S (k + 1) H P hM h6 h7 (by omega) (by omega) (by omega)
          · rw [if_neg hz, if_neg hz, gd_pos (by omega), gd_pos (by omega), nm_eq, gd_pos (by omega), nm_eq]
            refine ⟨_, rfl, rfl, fun j hj hj2 => by rw [aset_ne _ _ _ hj2, aset_ne _ _ _ hj], fun q => ?_, fun q => ?_⟩
            · rw [aset_ne _ _ _ (by decide), aset_at]
            · rw [aset_at, aset_ne _ _ _ (by decide)]
        · rw [decide_eq_false hy, if_neg (by decide), if_neg (fun q => hy q.2)]
          refine ⟨S, rfl, rfl, fun _ _ _ => rfl, fun q => ?_, fun q => ?_⟩
          · by_cases hq : q = s
            · rw [if_pos hq, hq]; exact h6
            · rw [if_neg hq]
          · by_cases hq : q = s
            · rw [if_pos hq, hq]; exact h7
            · rw [if_neg hq]
      · rw [decide_eq_false hx, if_neg (by decide), if_neg (fun q => hx q.1)]
        refine ⟨S, rfl, rfl, fun _ _ _ => rfl, fun q => ?_, fun q => ?_⟩
        · by_cases hq : q = s
          · rw [if_pos hq, hq]; exact h6
          · rw [if_neg hq]
        · by_cases hq : q = s
          · rw [if_pos hq, hq]; exact h7
          · rw [if_neg hq]
theorem M_shoot_e {x y s : Int} (hs : 0 ≤ s ∧ s ≤ 63) {S : xS} (H : okW (S.1 0) (S.1 1)) (P : okP (S.1 0) (S.1 1) x y) (hM : okM (S.1 0) (S.1 1) (S.2 5)) :
    ∃ S' : xS, M_shoot S x y s = some S' ∧ S'.1 = S.1 ∧ (∀ j, j ≠ 6 → j ≠ 7 → S'.2 j = S.2 j) ∧ (∀ q, S'.2 6 q = if q = s then (rayS (S.2 5) (S.1 0) (S.1 1) x y s).1 else S.2 6 q) ∧ (∀ q, S'.2 7 q = if q = s then (rayS (S.2 5) (S.1 0) (S.1 1) x y s).2 else S.2 7 q) := by
  unfold M_shoot
  rw [gd_pos (by omega), nm_eq, gd_pos (by omega), nm_eq]
  have e5 : (aset (aset S 6 s 0) 7 s 41).2 5 = S.2 5 := by rw [aset_ne _ _ _ (by decide), aset_ne _ _ _ (by decide)]
  obtain ⟨S', a1, a2, a3, a4, a5⟩ := M_shoot_L (x := x) (y := y) hs 40 FU (aset (aset S 6 s 0) 7 s 41) 1 H P (by rw [e5]; exact hM) (by rw [aset_ne _ _ _ (by decide), aset_at, if_pos rfl]) (by rw [aset_at, if_pos rfl]) (by omega) (by omega) (by unfold FU; omega)
  rw [e5] at a4 a5
  refine ⟨S', a1, a2, fun j hj hj2 => by rw [a3 j hj hj2, aset_ne _ _ _ hj2, aset_ne _ _ _ hj], fun q => ?_, fun q => ?_⟩
  · rw [a4 q, aset_ne _ _ _ (by decide), aset_at]
    by_cases hq : q = s
    · rw [if_pos hq, if_pos hq]; rfl
    · rw [if_neg hq, if_neg hq, if_neg hq]
  · rw [a5 q, aset_at, aset_ne _ _ _ (by decide)]
    by_cases hq : q = s
    · rw [if_pos hq, if_pos hq]; rfl
    · rw [if_neg hq, if_neg hq, if_neg hq]
theorem M_look_L {x y : Int} : ∀ (m n : Nat) (S : xS) (s : Int), okW (S.1 0) (S.1 1) → okP (S.1 0) (S.1 1) x y → okM (S.1 0) (S.1 1) (S.2 5) → 0 ≤ s → s + m = 64 → m < n → (∀ q, 0 ≤ q → q < s → S.2 6 q = (rayS (S.2 5) (S.1 0) (S.1 1) x y q).1) →
    ∃ S' : xS, M_look_L8 x y n S s = some S' ∧ S'.1 = S.1 ∧ (∀ j, j ≠ 6 → j ≠ 7 → S'.2 j = S.2 j) ∧ (∀ q, 0 ≤ q → q < 64 → S'.2 6 q = (rayS (S.2 5) (S.1 0) (S.1 1) x y q).1) := by
  intro m
  induction m with
  | zero =>
    intro n S s H P hM hs e hn hI
    cases n with
    | zero => omega
    | succ n =>
      refine ⟨S, ?_, rfl, fun _ _ _ => rfl, fun q q1 q2 => hI q q1 (by omega)⟩
      show M_look_b8 x y (M_look_L8 x y n) S s = _
      unfold M_look_b8
      rw [gd_pos ⟨by omega, by omega⟩, if_neg (by omega)]
  | succ m ih =>
    intro n S s H P hM hs e hn hI
    cases n with
    | zero => omega
    | succ n =>
      obtain ⟨S1, a1, a2, a3, a4, a5⟩ := M_shoot_e (x := x) (y := y) (s := s) ⟨hs, by omega⟩ H P hM
      have e5 : S1.2 5 = S.2 5 := a3 5 (by decide) (by decide)
      obtain ⟨S2, b1, b2, b3, b4⟩ := ih n S1 (s + 1) (by rw [a2]; exact H) (by rw [a2]; exact P) (by rw [a2, e5]; exact hM) (by omega) (by omega) (by omega) (fun q q1 q2 => by
        rw [a4 q, a2, e5]
        by_cases hq : q = s
        · rw [if_pos hq, hq]
        · rw [if_neg hq]; exact hI q q1 (by omega))
      rw [a2, e5] at b4
      refine ⟨S2, ?_, b2.trans a2, fun j hj hj2 => (b3 j hj hj2).trans (a3 j hj hj2), b4⟩
      show M_look_b8 x y (M_look_L8 x y n) S s = _
      unfold M_look_b8
      rw [gd_pos ⟨by omega, by omega⟩, if_pos (by omega), a1, bd_some, nm_eq]
      exact b1
/-- the rays of a place on a tick: what each takes -/
def rayT (a : Int → Int) (w h x y t : Int) : Int → Int := fun s => (rayS (fun c => mkAt a w h c t) w h x y s).1
theorem okM_mk {w h : Int} {a : Int → Int} {t : Int} (H : okW w h) (G : okG w h a) : okM w h (fun c => mkAt a w h c t) := fun c c1 c2 => mkAt_bd G ⟨c1, by have := wh_bd H; omega⟩
theorem M_look_e {S : xS} {x y t : Int} (H : okW (S.1 0) (S.1 1)) (G : okG (S.1 0) (S.1 1) (S.2 2)) (P : okP (S.1 0) (S.1 1) x y) (ht : 0 ≤ t ∧ t ≤ 1000) :
    ∃ S' : xS, M_look S x y t = some S' ∧ S'.1 = S.1 ∧ (∀ j, j ≠ 5 → j ≠ 6 → j ≠ 7 → S'.2 j = S.2 j) ∧ (∀ q, 0 ≤ q → q < 64 → S'.2 6 q = rayT (S.2 2) (S.1 0) (S.1 1) x y t q) := by
  obtain ⟨S1, a1, a2, a3, a4⟩ := M_lay_e H G ht
  have hM : okM (S1.1 0) (S1.1 1) (S1.2 5) := by
    rw [a1]
    intro c c1 c2
    rw [a3 c c1 c2]
    exact okM_mk H G c c1 c2
  obtain ⟨S2, b1, b2, b3, b4⟩ := M_look_L (x := x) (y := y) 64 FU S1 0 (by rw [a1]; exact H) (by rw [a1]; exact P) hM (by omega) (by omega) (by unfold FU; omega) (fun q q1 q2 => by omega)
  refine ⟨S2, ?_, b2.trans a1, fun j h5 h6 h7 => (b3 j h6 h7).trans (a2 j h5), fun q q1 q2 => ?_⟩
  · unfold M_look
    rw [a4, bd_some]
    exact b1
  · rw [b4 q q1 q2, a1]
    unfold rayT
    rw [rayS_congr H a3]
def tkF (T : Int → Int) (side width head : Int) : Nat → Int → Int → Int
  | 0, acc, _ => acc
  | n + 1, acc, i => tkF T side width head n (acc + ((width + 1) - (i.natAbs : Int)) * T ((head + side + i) % 64)) (i + 1)
def tkS (T : Int → Int) (side width head : Int) : Int := (tkF T side width head (2 * width + 1).toNat 0 (-width)).tdiv ((width + 1) * (width + 1))
def okT (T : Int → Int) : Prop := ∀ q, 0 ≤ q → q < 64 → 0 ≤ T q ∧ T q ≤ 255
theorem tkF_bd {T : Int → Int} {side width head : Int} (hT : okT T) (hw : 0 ≤ width ∧ width ≤ 7) : ∀ (n : Nat) (acc i : Int), -width ≤ i → i + n = width + 1 → 0 ≤ acc → 0 ≤ tkF T side width head n acc i ∧ tkF T side width head n acc i ≤ acc + 2040 * n := by
  intro n
  induction n with
  | zero => intro acc i _ _ h; unfold tkF; omega
  | succ n ih =>
    intro acc i h1 h2 h3
    have q := hT ((head + side + i) % 64) (by omega) (by omega)
    have q2 := mul_nn (a := (width + 1) - (i.natAbs : Int)) (b := T ((head + side + i) % 64)) (m := 8) (n := 255) ⟨by omega, by omega⟩ q
    have := ih (acc + ((width + 1) - (i.natAbs : Int)) * T ((head + side + i) % 64)) (i + 1) (by omega) (by omega) (by omega)
    unfold tkF
    omega
theorem sq_bd {width : Int} (hw : 0 ≤ width ∧ width ≤ 7) : 1 ≤ (width + 1) * (width + 1) ∧ (width + 1) * (width + 1) ≤ 64 := by
  have q1 : (width + 1) * (width + 1) ≤ 8 * 8 := Int.mul_le_mul (by omega) (by omega) (by omega) (by omega)
  have q2 : 1 * 1 ≤ (width + 1) * (width + 1) := Int.mul_le_mul (by omega) (by omega) (by omega) (by omega)
  omega
theorem tkS_bd {T : Int → Int} {side width head : Int} (hT : okT T) (hw : 0 ≤ width ∧ width ≤ 7) : 0 ≤ tkS T side width head ∧ tkS T side width head ≤ 30600 := by
  have q := tkF_bd (side := side) (head := head) hT hw (2 * width + 1).toNat 0 (-width) (by omega) (by omega) (by omega)
  have s := sq_bd hw
  unfold tkS
  generalize tkF T side width head (2 * width + 1).toNat 0 (-width) = z at q
  generalize (width + 1) * (width + 1) = d at s
  rw [Int.tdiv_eq_ediv_of_nonneg q.1]
  have q3 : 0 ≤ z / d := Int.ediv_nonneg q.1 (by omega)
  have q4 : z / d ≤ z := Int.ediv_le_self d q.1
  omega
theorem tkF_congr {T T' : Int → Int} {side width head : Int} (h : ∀ q, 0 ≤ q → q < 64 → T q = T' q) : ∀ (n : Nat) (acc i : Int), tkF T side width head n acc i = tkF T' side width head n acc i := by
  intro n
  induction n with
  | zero => intro acc i; rfl
  | succ n ih =>
    intro acc i
    unfold tkF
    rw [h _ (by omega) (by omega), ih]
theorem tkS_congr {T T' : Int → Int} {side width head : Int} (h : ∀ q, 0 ≤ q → q < 64 → T q = T' q) : tkS T side width head = tkS T' side width head := by
  unfold tkS
  rw [tkF_congr h]
theorem M_takeOf_L {S : xS} {side width head : Int} (hT : okT (S.2 6)) (hw : 0 ≤ width ∧ width ≤ 7) (hs : 0 ≤ side ∧ side ≤ 63) (hd : 0 ≤ head ∧ head ≤ 63) : ∀ (m n : Nat) (acc i : Int), -width ≤ i → i + m = width + 1 → m < n → 0 ≤ acc → acc ≤ 2040 * (15 - m) →
    M_takeOf_L7 S side width head n acc i = some ((tkF (S.2 6) side width head m acc i).tdiv ((width + 1) * (width + 1))) := by
  have s := sq_bd hw
  intro m
  induction m with
  | zero =>
    intro n acc i h1 h2 h3 h4 h5
    cases n with
    | zero => omega
    | succ n =>
      show M_takeOf_b7 S side width head (M_takeOf_L7 S side width head n) acc i = _
      unfold M_takeOf_b7
      rw [gd_pos ⟨⟨by omega, by omega⟩, ⟨by omega, by omega⟩⟩, if_neg (by omega), gd_pos ⟨⟨by omega, by omega⟩, ⟨by omega, by omega⟩, by omega⟩]
      rfl
  | succ m ih =>
    intro n acc i h1 h2 h3 h4 h5
    cases n with
    | zero => omega
    | succ n =>
      have et : (head + side + i + 64).tmod 64 = (head + side + i) % 64 := by
        rw [Int.tmod_eq_emod_of_nonneg (by omega)]
        omega
      have q := hT ((head + side + i) % 64) (by omega) (by omega)
      have q2 := mul_nn (a := (width + 1) - (i.natAbs : Int)) (b := S.2 6 ((head + side + i) % 64)) (m := 8) (n := 255) ⟨by omega, by omega⟩ q
      show M_takeOf_b7 S side width head (M_takeOf_L7 S side width head n) acc i = _
      unfold M_takeOf_b7
      rw [gd_pos ⟨⟨by omega, by omega⟩, ⟨by omega, by omega⟩⟩, if_pos (by omega), M_abs_e ⟨by omega, by omega⟩, bd_some, gd_pos ⟨by omega, by omega⟩, et, gd_pos (by omega), nm_eq, nm_eq]
      rw [ih n _ (i + 1) (by omega) (by omega) (by omega) (by omega) (by omega)]
      rfl
theorem M_takeOf_e {S : xS} {side width head : Int} (hT : okT (S.2 6)) (hw : 0 ≤ width ∧ width ≤ 7) (hs : 0 ≤ side ∧ side ≤ 63) (hd : 0 ≤ head ∧ head ≤ 63) : M_takeOf S side width head = some (tkS (S.2 6) side width head) := by
  unfold M_takeOf
  rw [nm_eq]
  exact M_takeOf_L hT hw hs hd (2 * width + 1).toNat FU 0 (-width) (by omega) (by omega) (by unfold FU; omega) (by omega) (by omega)
