set_option maxRecDepth 100000
theorem sg_cases {s : Int} (h : s = 42 ∨ s = 43 ∨ s = 45 ∨ s = 47) : sgO s = 3 ∨ sgO s = 4 ∨ sgO s = 5 ∨ sgO s = 6 := by
  rcases h with rfl | rfl | rfl | rfl <;> decide
/-- a step of a chain -/
def chV (s x y : Int) : Int := if s = 43 then x + y else if s = 45 then x - y else if s = 42 then x * y else if y = 0 then 0 else x.tdiv y
theorem pv1_ch {s x y : Int} (h : s = 42 ∨ s = 43 ∨ s = 45 ∨ s = 47) {vs : List Int} {bs : List Bool} {S : yS} {r : pS} (hh : pv1 (sgO s) 0 (y :: x :: vs, bs, S) = some r) : r64 x ∧ r64 y ∧ ∃ z S1, E_held S (chV s x y) = some (z, S1) ∧ r = (z :: vs, bs, S1) := by
  rcases h with rfl | rfl | rfl | rfl
  · have h1 : gd (r64 x ∧ r64 y) (pvH (vs, bs, S) (x * y)) = some r := hh
    obtain ⟨g, h1⟩ := gd_inv h1
    exact ⟨g.1, g.2, pvH_inv h1⟩
  · have h1 : gd (r64 x ∧ r64 y) (pvH (vs, bs, S) (x + y)) = some r := hh
    obtain ⟨g, h1⟩ := gd_inv h1
    exact ⟨g.1, g.2, pvH_inv h1⟩
  · have h1 : gd (r64 x ∧ r64 y) (pvH (vs, bs, S) (x - y)) = some r := hh
    obtain ⟨g, h1⟩ := gd_inv h1
    exact ⟨g.1, g.2, pvH_inv h1⟩
  · have h1 : gd (r64 x ∧ r64 y) (if y = 0 then pvH (vs, bs, S) 0 else pvH (vs, bs, S) (x.tdiv y)) = some r := hh
    obtain ⟨g, h1⟩ := gd_inv h1
    refine ⟨g.1, g.2, ?_⟩
    show ∃ z S1, E_held S (if y = 0 then 0 else x.tdiv y) = some (z, S1) ∧ r = (z :: vs, bs, S1)
    by_cases h0 : y = 0
    · rw [if_pos h0]; exact pvH_inv (it_t h0 h1)
    · rw [if_neg h0]; exact pvH_inv (it_f h0 h1)
/-- working a sum's steps leaves one value more -/
theorem ShS {Z : hZ} : ∀ {N : Nat} {A : Nat → Prop} {H : Heap} {code : tC} {a : Nat}, SumH Z N A H code a → ∀ (vs : List Int) (bs : List Bool) (S : yS) (r : pS), pv code (vs, bs, S) = some r → ∃ z S1, r = (z :: vs, bs, S1) := by
  intro N
  induction N with
  | zero => intro A H code a h; exact h.elim
  | succ n ih =>
    intro A H code a h vs bs S r hh
    obtain ⟨hA, h⟩ := h
    rcases h with ⟨v, h1, rfl⟩ | ⟨v, h1, rfl⟩ | ⟨v, h1, rfl⟩ | ⟨v, h1, rfl⟩ | ⟨h1, rfl⟩ | ⟨x, cx, h1, h2, rfl⟩ | ⟨b, x, y, cx, cy, h1, h2, h3, rfl⟩ | ⟨f, am, as, L1, L2, cm, em, cs, es, cf, xs, h1, h2, h3, h4, h5, rfl⟩
    · have h0 : gd (r32 v) (pvH (vs, bs, S) v) = some r := pv_one hh
      obtain ⟨g, h0⟩ := gd_inv h0
      obtain ⟨z, S1, -, h⟩ := pvH_inv h0
      exact ⟨z, S1, h⟩
    · have h0 : gd ((0 : Int) ≤ v ∧ v < 8) (pvH (vs, bs, S) (S.2 661 v)) = some r := pv_one hh
      obtain ⟨g, h0⟩ := gd_inv h0
      obtain ⟨z, S1, -, h⟩ := pvH_inv h0
      exact ⟨z, S1, h⟩
    · have h0 : gd ((0 : Int) ≤ v ∧ v < 16) (gd (r32 (S.2 659 v)) (pvH (vs, bs, S) (S.2 659 v))) = some r := pv_one hh
      obtain ⟨g, h0⟩ := gd_inv h0
      obtain ⟨g, h0⟩ := gd_inv h0
      obtain ⟨z, S1, -, h⟩ := pvH_inv h0
      exact ⟨z, S1, h⟩
    · have h0 : gd ((0 : Int) ≤ v ∧ v < 16) (gd (r32 (S.2 660 v)) (pvH (vs, bs, S) (S.2 660 v))) = some r := pv_one hh
      obtain ⟨g, h0⟩ := gd_inv h0
      obtain ⟨g, h0⟩ := gd_inv h0
      obtain ⟨z, S1, -, h⟩ := pvH_inv h0
      exact ⟨z, S1, h⟩
    · have h0 : gd (r32 (S.1 23)) (pvH (vs, bs, S) (S.1 23)) = some r := pv_one hh
      obtain ⟨g, h0⟩ := gd_inv h0
      obtain ⟨z, S1, -, h⟩ := pvH_inv h0
      exact ⟨z, S1, h⟩
    · obtain ⟨st1, k1, k2⟩ := pv_inv hh
      obtain ⟨z, S1, rfl⟩ := ih h2 _ _ _ _ k1
      have h0 : some (((-z) :: vs, bs, S1) : pS) = some r := pv_one k2
      exact ⟨-z, S1, (Option.some.inj h0).symm⟩
    · obtain ⟨st2, k2, k3⟩ := pv_inv hh
      obtain ⟨st1, k1, k2⟩ := pv_inv k2
      obtain ⟨z, S1, rfl⟩ := ih h2 _ _ _ _ k1
      obtain ⟨z2, S2, rfl⟩ := ih h3 _ _ _ _ k2
      cases b with
      | true =>
        have h0 : gd (r64 z ∧ r64 z2) (some (((if z < z2 then z2 else z) :: vs, bs, S2) : pS)) = some r := pv_one k3
        obtain ⟨g, h0⟩ := gd_inv h0
        exact ⟨_, S2, (Option.some.inj h0).symm⟩
      | false =>
        have h0 : gd (r64 z ∧ r64 z2) (some (((if z ≤ z2 then z else z2) :: vs, bs, S2) : pS)) = some r := pv_one k3
        obtain ⟨g, h0⟩ := gd_inv h0
        exact ⟨_, S2, (Option.some.inj h0).symm⟩
    · obtain ⟨st1, k1, k2⟩ := pv_inv hh
      obtain ⟨z, S1, rfl⟩ := ih h4 _ _ _ _ k1
      have hfl : ∀ (ys : List (Int × tC)) (L : List Nat) (z : Int) (S : yS) (r : pS), ys.length = L.length → (∀ w ∈ ys.zip L, SumH Z n A H w.1.2 w.2) → (∀ p ∈ ys, p.1 = 42 ∨ p.1 = 43 ∨ p.1 = 45 ∨ p.1 = 47) → pv (flat ys) (z :: vs, bs, S) = some r → ∃ z1 S1, r = (z1 :: vs, bs, S1) := by
        intro ys
        induction ys with
        | nil => intro L z S r _ _ _ hh; exact ⟨z, S, (Option.some.inj hh).symm⟩
        | cons w ys ihy =>
          intro L z S r hl hw hs hh
          obtain ⟨sg, c0⟩ := w
          cases L with
          | nil => cases hl
          | cons b L =>
            have hh : pv ((c0 ++ [(sgO sg, 0)]) ++ flat ys) (z :: vs, bs, S) = some r := hh
            obtain ⟨st2, k2, k3⟩ := pv_inv hh
            obtain ⟨st1, k1, k2⟩ := pv_inv k2
            obtain ⟨y, S1, rfl⟩ := ih (hw ((sg, c0), b) (by simp)) _ _ _ _ k1
            obtain ⟨-, -, z2, S2, -, rfl⟩ := pv1_ch (hs (sg, c0) (by simp)) (pv_one k2)
            exact ihy L z2 S2 r (by simpa using hl) (fun w hw' => hw w (by simp [hw'])) (fun p hp => hs p (by simp [hp])) k3
      exact hfl xs L1 z S1 r h5.1 h5.2.2.1 h5.2.2.2 k2
theorem w_least (l : Launch) (Z : hZ) (nw N : Nat) (H : Heap) (a x y : Nat) (b : Bool) (S1 S2 : yS) (z z2 : Int) (hb : Z.b ≤ nw) (hA : va_at Z.D tcl (a, .inr (11, [.int (zi (bz b)), .ref x, .ref y])) H) (han : a ≠ nw) (gz : r64 z ∧ r64 z2) (hE : EvP l Z nw N H x z S1) (hE2 : ∀ H1, NowW Z nw S1 H1 → hFr (fE nw) H H1 → EvP l Z nw N H1 y z2 S2) : mH l yX17_of cX17_of 6 (some .long) (rmS (7 + N) (240 + 40 * N)) Z [.ref a, .ref nw] H.size (fun H' => H' = H) (fun w H' => w = some (.long (zl (if b then (if z < z2 then z2 else z) else (if z ≤ z2 then z else z2)))) ∧ NowW Z nw S2 H') (fE nw) 0 0 := by
  refine goHl (by decide +kernel) (Nat.le_of_ble_eq_true rfl) ?_
  intro p e s m args below meth c Q ls X hret hl hP hn hS hnm
  subst hP
  have hx := X.1.1
  have hbb := X.1.2.1
  have hR : 7 + N ≤ (rmS (7 + N) (240 + 40 * N)).frames ∧ 227 + 40 * N ≤ (rmS (7 + N) (240 + 40 * N)).locals := ⟨Nat.le_refl _, by show 227 + 40 * N ≤ 240 + 40 * N; omega⟩
  replace hl : lv_has ls 6 [(0, .ref a), (1, .ref nw)] := hl
  refine lv_aload_n hx hbb dX17_of_0 rfl (lv_at hl 0 rfl) ?_
  refine h_get X.1 X.2.1 hA vf_X17a q860 rfl dX17_of_1 ?_
  refine lv_aload_n hx hbb dX17_of_4 rfl (lv_at hl 1 rfl) ?_
  refine tk_of (rest := []) X hb hS hE q1002 hR hl.1 (Nat.le_of_ble_eq_true rfl) dX17_of_5 (fun H1 locs1 hN hfr hS => ?_)
  refine lv_lstore_n (lv' := [(2, .long (zl z)), (0, .ref a), (1, .ref nw)]) hx hbb dX17_of_10 rfl hl (by decide) rfl (fun ls hl => ?_)
  have hA1 := va_at_keep hA (hfr.2 a (va_at_lt hA) han)
  refine lv_aload_n hx hbb dX17_of_11 rfl (lv_at hl 1 rfl) ?_
  refine h_get X.1 X.2.1 hA1 vf_X17b q861 rfl dX17_of_12 ?_
  refine lv_aload_n hx hbb dX17_of_15 rfl (lv_at hl 2 rfl) ?_
  refine tk_of (rest := []) X hb hS (hE2 H1 hN hfr) q1002 hR hl.1 (Nat.le_of_ble_eq_true rfl) dX17_of_16 (fun H2 locs2 hN2 hfr2 hS => ?_)
  refine lv_lstore (lv' := [(4, .long (zl z2)), (2, .long (zl z)), (0, .ref a), (1, .ref nw)]) hx hbb dX17_of_21 hl (by decide) rfl (fun ls hl => ?_)
  have hA2 := va_at_keep hA1 (hfr2.2 a (va_at_lt hA1) han)
  refine lv_aload_n hx hbb dX17_of_23 rfl (lv_at hl 2 rfl) ?_
  refine h_get X.1 X.2.1 hA2 vf_X17m q859 rfl dX17_of_24 ?_
  refine g_bif_eq (tgt := 39) hx hbb dX17_of_27 (by decide) (fun c1 => ?_) (fun c1 => ?_)
  · refine lv_lload_n hx hbb dX17_of_30 rfl (lv_at hl 1 rfl) ?_
    refine lv_lload hx hbb dX17_of_31 (lv_at hl 0 rfl) ?_
    have hm : Ma_max_2 z z2 = some (if z < z2 then z2 else z) := by
      unfold Ma_max_2
      rw [gd_pos gz]
      by_cases h : z < z2
      · rw [if_pos h, if_pos h]
      · rw [if_neg h, if_neg h]
    refine gcs_l (As := [.long (zl z), .long (zl z2)]) (rest := []) X.1 hS (wMa_max_2 l z z2 hm) (lw_S q1055 q1017 q87 q1018) (show hdS yJ3_max_2 2 by decide +kernel) ⟨rfl, rfl⟩ ⟨by show 1 + 1 ≤ 7 + N; omega, by show 8 + (4 + 11) + 40 ≤ 240 + 40 * N; omega⟩ ⟨Nat.le_refl _, Nat.le_refl _⟩ hl.1 (Nat.le_of_ble_eq_true rfl) dX17_of_33 rfl (fun H3 locs3 hk3 hS => ?_)
    refine lv_goto (tgt := 45) hx hbb dX17_of_36 (by decide) ?_
    exact hret _ _ _ _ _ dX17_of_45 ⟨by rw [c1]; rfl, hN2.keep hk3⟩ hS
  · refine lv_lload_n hx hbb dX17_of_39 rfl (lv_at hl 1 rfl) ?_
    refine lv_lload hx hbb dX17_of_40 (lv_at hl 0 rfl) ?_
    have hm : Ma_min_2 z z2 = some (if z ≤ z2 then z else z2) := by
      unfold Ma_min_2
      rw [gd_pos gz]
      by_cases h : z ≤ z2
      · rw [if_pos h, if_pos h]
      · rw [if_neg h, if_neg h]
    refine gcs_l (As := [.long (zl z), .long (zl z2)]) (rest := []) X.1 hS (wMa_min_2 l z z2 hm) (lw_S q1056 q1014 q87 q1015) (show hdS yJ3_min_2 2 by decide +kernel) ⟨rfl, rfl⟩ ⟨by show 1 + 1 ≤ 7 + N; omega, by show 8 + (4 + 11) + 40 ≤ 240 + 40 * N; omega⟩ ⟨Nat.le_refl _, Nat.le_refl _⟩ hl.1 (Nat.le_of_ble_eq_true rfl) dX17_of_42 rfl (fun H3 locs3 hk3 hS => ?_)
    have hbf : b = false := by cases b; rfl; exact absurd rfl c1
    exact hret _ _ _ _ _ dX17_of_45 ⟨by rw [hbf]; rfl, hN2.keep hk3⟩ hS
