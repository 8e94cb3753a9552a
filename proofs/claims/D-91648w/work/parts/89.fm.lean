set_option maxRecDepth 100000
theorem cas_cas (S : yS) (a i z : Int) (j : Int) (w : Int) : ∀ q, q ≠ a → (cas (cas S a i z) a j w).2 q = S.2 q := fun q h => by rw [cas_ne _ _ _ h, cas_ne _ _ _ h]
/-- whether a place is empty, of both -/
theorem empty_ok {S1 : yS} {Sm : xS} {x y t : Int} (H : okW (Sm.1 0) (Sm.1 1)) (OA : okA (Sm.1 0) (Sm.1 1) (Sm.2 2)) (e2 : S1.1 2 = Sm.1 0) (e3 : S1.1 3 = Sm.1 1) (e4 : ∀ c, 0 ≤ c → c < Sm.1 0 * Sm.1 1 → S1.2 472 c = mkAt (Sm.2 2) (Sm.1 0) (Sm.1 1) c t) (hx : -1000 ≤ x ∧ x ≤ 1000) (hy : -1000 ≤ y ∧ y ≤ 1000) (ht : 0 ≤ t ∧ t ≤ 1000) : ∃ b : Bool, C_isEmpty S1 x y = some b ∧ (b = true → okP (Sm.1 0) (Sm.1 1) x y) ∧
    (okP (Sm.1 0) (Sm.1 1) x y → ∃ v, M_markAt Sm ((Int.tdiv y 16) * (Sm.1 0) + Int.tdiv x 16) t = some v ∧ (0 ≤ v ∧ v ≤ 255) ∧ (b = true ↔ v = 0)) := by
  have HC : okW (S1.1 2) (S1.1 3) := by rw [e2, e3]; exact H
  unfold C_isEmpty
  rw [C_isPlace_e HC (by omega) (by omega), bd_some, e2, e3]
  by_cases P : okP (Sm.1 0) (Sm.1 1) x y
  · have hc := cell_bd H (x := Int.tdiv x 16) (y := Int.tdiv y 16) (by
      rw [Int.tdiv_eq_ediv_of_nonneg P.1.1]
      have := H.1
      omega) (by
      rw [Int.tdiv_eq_ediv_of_nonneg P.2.1]
      have := H.2
      omega)
    have hw := wh_bd H
    rw [if_pos (decide_eq_true P), gd_pos (by omega), gd_pos (by omega), gd_pos (by omega), e4 _ hc.1 hc.2]
    have hb := mkAt_bd (t := t) OA.1 (c := Int.tdiv y 16 * Sm.1 0 + Int.tdiv x 16) ⟨hc.1, by omega⟩
    rw [gd_pos (by omega)]
    have hM := M_markAt_e (S := Sm) (c := Int.tdiv y 16 * Sm.1 0 + Int.tdiv x 16) (t := t) H OA.1 ⟨hc.1, by omega⟩ ht
    by_cases g : mkAt (Sm.2 2) (Sm.1 0) (Sm.1 1) (Int.tdiv y 16 * Sm.1 0 + Int.tdiv x 16) t = 0
    · rw [if_pos g]
      exact ⟨true, rfl, fun _ => P, fun _ => ⟨_, hM, hb, fun _ => g, fun _ => rfl⟩⟩
    · rw [if_neg g]
      exact ⟨false, rfl, fun h => (by cases h), fun _ => ⟨_, hM, hb, fun h => (by cases h), fun h => absurd h g⟩⟩
  · rw [if_neg (by rw [decide_eq_true_eq]; exact P)]
    exact ⟨false, rfl, fun h => (by cases h), fun P' => absurd P' P⟩
/-- ONE TICK, of both -/
theorem tick_ok {S : yS} {Sm : xS} {ed : Nat} {rs : List (List tCl)} {x1 : Int} (R : RC S Sm) (hF : FR S Sm) (hL : RlR S Sm ed rs) (hx1 : 0 ≤ x1 ∧ x1 < rs.length) (hh : Sm.1 33 = 0) (h34 : Sm.1 34 = 0) (h29 : Sm.1 29 < 60) : ∃ S' Sm', C_goes ed rs S x1 = some S' ∧ (∀ K x5, r32 x5 → Sm.1 29 < x5 → M_run_b36 x1 x5 K Sm = if S'.1 19 = 1 then some Sm' else K Sm') ∧ RC S' Sm' ∧ RlR S' Sm' ed rs ∧ FR S' Sm' ∧ fC S S' ∧ fM Sm Sm' ∧ (S'.1 19 = 1 ∧ Sm'.1 29 = Sm.1 29 ∨ S'.1 19 = 0 ∧ Sm'.1 29 = Sm.1 29 + 1) ∧ Sm'.1 27 = Sm.1 27 := by
  obtain ⟨S5, K0, M3, s1, s2, s3, s4, s5, s6, s7, s8, s9, s10, s11, s12⟩ := see_ok (ed := ed) (rs := rs) (x1 := x1) R hF hh h29
  obtain ⟨⟨⟨f14, f15, f16, f17, f18, f19⟩, fhd, ftk, fh1, fh2, fP⟩, ⟨fb, fo⟩, fl, fr⟩ := hF
  obtain ⟨H, ew, eh⟩ := R.1
  have OA := R.2.1
  obtain ⟨t, ht⟩ : ∃ t, Sm.1 29 = t := ⟨_, rfl⟩
  have P := fP hh
  have hL3 : RlR (cfs S5 23 (Sm.1 29)) M3 ed rs := by
    have := hL.fl s4 s5
    exact this
  obtain ⟨tg, S6, M4, t1, t2, t3, t4, t5, t6, t7, t8⟩ := rl_ok s3 hL3 (x := x1) hx1 (by rw [cfs_ne _ _ (by decide), s6 19 (by decide), f19, h34])
  have c61 : ∀ k, k ≠ 24 → k ≠ 19 → k ≠ 9 → k ≠ 23 → S6.1 k = S.1 k := fun k k1 k2 k3 k4 => by rw [t7.2 k k1 k2, cfs_ne _ _ k4, s6 k k3]
  have m41 : ∀ k, k ≠ 28 → k ≠ 40 → k ≠ 41 → k ≠ 39 → M4.1 k = Sm.1 k := fun k k1 k2 k3 k4 => by rw [t8.1 k k1 k2 k3, s7 k k4]
  have c6q : ∀ q, q ≠ 661 → S6.2 q = S5.2 q := fun q hq => by rw [t7.1 q hq]; rfl
  have m4q : ∀ q, q ≠ 36 → q ≠ 37 → q ≠ 38 → M4.2 q = M3.2 q := fun q h1 h2 h3 => t8.2 q h1 h2 h3
  have m439 : M4.1 39 = t := by rw [t8.1 39 (by decide) (by decide) (by decide), s8, ht]
  have fC6 : fC S S6 := ⟨fun k hk => c61 k (by omega) (by omega) (by omega) (by omega), fun k hk => c61 k (by omega) (by omega) (by omega) (by omega), fun q hq => (c6q q (by omega)).trans (s4.2.2 q hq)⟩
  have fM4 : fM Sm M4 := ⟨⟨m41 0 (by decide) (by decide) (by decide) (by decide), m41 1 (by decide) (by decide) (by decide) (by decide), m41 10 (by decide) (by decide) (by decide) (by decide), m41 11 (by decide) (by decide) (by decide) (by decide), m41 12 (by decide) (by decide) (by decide) (by decide)⟩, (m4q 2 (by decide) (by decide) (by decide)).trans s5.2.1, (m4q 3 (by decide) (by decide) (by decide)).trans s5.2.2.1, (m4q 4 (by decide) (by decide) (by decide)).trans s5.2.2.2.1, fun j hj => (m4q j (by omega) (by omega) (by omega)).trans (s5.2.2.2.2 j hj)⟩
  have hb := t3.1
  have ho := t3.2.1
  have hl := t3.2.2.2.1
  have hC : C_goes ed rs S x1 = gd (r32 (S6.1 19)) (if (S6.1 19) = 0 then (gd ((0 : Int) ≤ t ∧ (t : Int) < 60) (nm (cas S6 (475 + 1 + t) (0 : Int) (tg.1)) (fun S69 => nm (cas S69 (475 + 1 + t) (1 : Int) (tg.2)) (fun S71 => nm (cas S71 (475 + 1 + t) (2 : Int) (S71.1 14)) (fun S73 => nm (cas S73 (475 + 1 + t) (3 : Int) (S73.1 15)) (fun S75 => nm (cas S75 (475 + 1 + t) (4 : Int) (S75.1 16)) (fun S77 => nm (cfs S77 17 ((S77.1 17) + 1)) (fun S79 => bd (Ma_floorMod ((S79.1 16) + (tg.1)) (64 : Int)) (fun v81 => nm (cfs S79 16 (v81)) (fun S83 => bd (C_wayX (S83.1 16)) (fun v85 => bd (Ma_floorDiv ((tg.2) * v85) (16 : Int)) (fun v87 => nm (cfs S83 14 ((S83.1 14) + v87)) (fun S89 => bd (C_wayY (S89.1 16)) (fun v91 => bd (Ma_floorDiv ((tg.2) * v91) (16 : Int)) (fun v93 => nm (cfs S89 15 ((S89.1 15) + v93)) (fun S95 => bd (C_lays S95 (t + 1)) (fun S98 => bd (C_isEmpty S98 (S98.1 14) (S98.1 15)) (fun v100 => if v100 = true then (C_goes_B645 ed rs S98 (0 : Int)) else (C_goes_B645 ed rs S98 (1 : Int)))))))))))))))))))) else (some S6)) := by
    rw [s1]
    unfold C_goes_b234
    rw [gd_pos (by decide), if_neg (by decide), nm_eq]
    rw [t1, bd2_some, ht]
  have hMb : ∀ K x5, r32 x5 → Sm.1 29 < x5 → ∃ Z : xS, Z = fset M4 34 (bz (decide (S6.1 19 = 1))) ∧ M_run_b36 x1 x5 K Sm = (if (Z.1 34) = 0 then (nm (38 * (Z.1 39)) (fun v32 => gd ((0 : Int) ≤ v32 ∧ (v32 : Int) < 2280) (nm (aset Z 35 v32 (Z.1 40)) (fun S35 => gd ((0 : Int) ≤ v32 + 1 ∧ (v32 + 1 : Int) < 2280) (nm (aset S35 35 (v32 + 1) (S35.1 41)) (fun S38 => gd ((0 : Int) ≤ v32 + 2 ∧ (v32 + 2 : Int) < 2280) (nm (aset S38 35 (v32 + 2) (S38.1 30)) (fun S41 => gd ((0 : Int) ≤ v32 + 3 ∧ (v32 + 3 : Int) < 2280) (nm (aset S41 35 (v32 + 3) (S41.1 31)) (fun S44 => gd ((0 : Int) ≤ v32 + 4 ∧ (v32 + 4 : Int) < 2280) (nm (aset S44 35 (v32 + 4) (S44.1 32)) (fun S47 => gd (r32 (((S47.1 32) + (S47.1 40)) + 64)) (nm (fset S47 32 (Int.tmod (((S47.1 32) + (S47.1 40)) + 64) 64)) (fun S50 => bd (M_wayX (S50.1 32)) (fun v53 => bd (M_floor ((S50.1 41) * v53) (16 : Int)) (fun v55 => nm (fset S50 30 ((S50.1 30) + v55)) (fun S56 => bd (M_wayY (S56.1 32)) (fun v59 => bd (M_floor ((S56.1 41) * v59) (16 : Int)) (fun v61 => nm (fset S56 31 ((S56.1 31) + v61)) (fun S62 => nm (fset S62 29 ((S62.1 29) + 1)) (fun S64 => bd (M_isPlace S64 (S64.1 30) (S64.1 31)) (fun v67 => if v67 = true then (gd (r32 (S64.1 31)) (gd (r32 (S64.1 30)) (bd (M_markAt S64 (((Int.tdiv (S64.1 31) 16) * (S64.1 0)) + (Int.tdiv (S64.1 30) 16)) (S64.1 29)) (fun v72 => gd (r32 (v72)) (if v72 ≤ 0 then (M_run_B293 K S64 x1 x5 (0 : Int)) else (M_run_B288 K S64 x1 x5)))))) else (M_run_B288 K S64 x1 x5))))))))))))))))))))))) else (some Z)) := by
    intro K x5 h5 h6
    refine ⟨_, rfl, ?_⟩
    unfold M_run_b36
    rw [gd_pos (by omega), if_pos h6, hh, gd_pos (by decide), if_pos rfl, h34, gd_pos (by decide), if_pos rfl, nm_eq, s2, bd_some, t2, bd2_some, nm_eq]
    rw [fset_eq, gd_pos (bz_r _)]
  rcases t6 with q19 | q19
  · -- it goes on
    obtain ⟨A, hA⟩ : ∃ A : yS, A = cas (cas (cas (cas (cas S6 (476 + t) 0 tg.1) (476 + t) 1 tg.2) (476 + t) 2 (S.1 14)) (476 + t) 3 (S.1 15)) (476 + t) 4 (S.1 16) := ⟨_, rfl⟩
    have A1 : A.1 = S6.1 := by rw [hA]; rfl
    have Aq : ∀ q, q ≠ 476 + t → A.2 q = S6.2 q := fun q hq => by rw [hA, cas_ne _ _ _ hq, cas_ne _ _ _ hq, cas_ne _ _ _ hq, cas_ne _ _ _ hq, cas_ne _ _ _ hq]
    have Ar : ∀ j, A.2 (476 + t) j = if j = 4 then S.1 16 else if j = 3 then S.1 15 else if j = 2 then S.1 14 else if j = 1 then tg.2 else if j = 0 then tg.1 else S6.2 (476 + t) j := fun j => by rw [hA, cas_at, cas_at, cas_at, cas_at, cas_at]
    have p14 : S6.1 14 = Sm.1 30 := (c61 14 (by decide) (by decide) (by decide) (by decide)).trans f14
    have p15 : S6.1 15 = Sm.1 31 := (c61 15 (by decide) (by decide) (by decide) (by decide)).trans f15
    have p16 : S6.1 16 = Sm.1 32 := (c61 16 (by decide) (by decide) (by decide) (by decide)).trans f16
    have p17 : S6.1 17 = t := (c61 17 (by decide) (by decide) (by decide) (by decide)).trans (f17.trans ht)
    obtain ⟨hd, hhd⟩ : ∃ hd, hd = (Sm.1 32 + tg.1) % 64 := ⟨_, rfl⟩
    have hdb : 0 ≤ hd ∧ hd ≤ 63 := by omega
    have wb := wXY_bd hd
    have vx := mul_bd (a := tg.2) (b := wX hd) (m := 16) (n := 16) (by have := t5.2; omega) (by omega)
    have vy := mul_bd (a := tg.2) (b := wY hd) (m := 16) (n := 16) (by have := t5.2; omega) (by omega)
    obtain ⟨nx, hnx⟩ : ∃ nx, nx = Sm.1 30 + tg.2 * wX hd / 16 := ⟨_, rfl⟩
    obtain ⟨ny, hny⟩ : ∃ ny, ny = Sm.1 31 + tg.2 * wY hd / 16 := ⟨_, rfl⟩
    have hxw := H.1
    have hyw := H.2
    have nxb : -1000 ≤ nx ∧ nx ≤ 1000 := by omega
    have nyb : -1000 ≤ ny ∧ ny ≤ 1000 := by omega
    -- the component's state before the world is laid out
    obtain ⟨B, hB⟩ : ∃ B : yS, B = cfs (cfs (cfs (cfs A 17 (t + 1)) 16 hd) 14 nx) 15 ny := ⟨_, rfl⟩
    have B2 : B.2 = A.2 := by rw [hB]; rfl
    have B1 : ∀ k, k ≠ 17 → k ≠ 16 → k ≠ 14 → k ≠ 15 → B.1 k = S6.1 k := fun k k1 k2 k3 k4 => by rw [hB, cfs_ne _ _ k4, cfs_ne _ _ k3, cfs_ne _ _ k2, cfs_ne _ _ k1, A1]
    have fCB : fC S6 B := ⟨fun k hk => B1 k (by omega) (by omega) (by omega) (by omega), fun k hk => B1 k (by omega) (by omega) (by omega) (by omega), fun q hq => by rw [B2, Aq q (by omega)]⟩
    have RB : RC B M4 := R.fl (fC6.tr fCB) fM4
    obtain ⟨S7, l1, l2, l3, l4, l5⟩ := RB.lays (t := t + 1) (by omega)
    have H4 : okW (M4.1 0) (M4.1 1) := RB.1.1
    obtain ⟨b, e1, e2, e3⟩ := empty_ok (S1 := S7) (Sm := M4) (x := nx) (y := ny) (t := t + 1) H4 RB.2.1 (by rw [l2]; exact RB.1.2.1) (by rw [l2]; exact RB.1.2.2) l4 nxb nyb (by omega)
    have B14 : B.1 14 = nx := by rw [hB]; rfl
    have B15 : B.1 15 = ny := by rw [hB]; rfl
    have B16 : B.1 16 = hd := by rw [hB]; rfl
    have B17 : B.1 17 = t + 1 := by rw [hB]; rfl
    have hCg : C_goes ed rs S x1 = some (cfs S7 18 (bz (!b))) := by
      rw [hC, q19, gd_pos (by decide), if_pos rfl, gd_pos (by omega), nm_eq, nm_eq, nm_eq, nm_eq, nm_eq, nm_eq]
      have eA : cas (cas (cas (cas (cas S6 (475 + 1 + t) 0 tg.1) (475 + 1 + t) 1 tg.2) (475 + 1 + t) 2 ((cas (cas S6 (475 + 1 + t) 0 tg.1) (475 + 1 + t) 1 tg.2).1 14)) (475 + 1 + t) 3 ((cas (cas (cas S6 (475 + 1 + t) 0 tg.1) (475 + 1 + t) 1 tg.2) (475 + 1 + t) 2 ((cas (cas S6 (475 + 1 + t) 0 tg.1) (475 + 1 + t) 1 tg.2).1 14)).1 15)) (475 + 1 + t) 4 ((cas (cas (cas (cas S6 (475 + 1 + t) 0 tg.1) (475 + 1 + t) 1 tg.2) (475 + 1 + t) 2 ((cas (cas S6 (475 + 1 + t) 0 tg.1) (475 + 1 + t) 1 tg.2).1 14)) (475 + 1 + t) 3 ((cas (cas (cas S6 (475 + 1 + t) 0 tg.1) (475 + 1 + t) 1 tg.2) (475 + 1 + t) 2 ((cas (cas S6 (475 + 1 + t) 0 tg.1) (475 + 1 + t) 1 tg.2).1 14)).1 15)).1 16) = A := by
        rw [hA, show (475 : Int) + 1 + t = 476 + t by omega]
        show cas (cas (cas (cas (cas S6 (476 + t) 0 tg.1) (476 + t) 1 tg.2) (476 + t) 2 (S6.1 14)) (476 + t) 3 (S6.1 15)) (476 + t) 4 (S6.1 16) = _
        rw [c61 14 (by decide) (by decide) (by decide) (by decide), c61 15 (by decide) (by decide) (by decide) (by decide), c61 16 (by decide) (by decide) (by decide) (by decide)]
      rw [eA, A1, p17]
      rw [show (cfs A 17 (t + 1)).1 16 = Sm.1 32 by rw [cfs_ne _ _ (by decide), A1, p16], Ma_floorMod_e (by have := t5.1; omega) (by decide), bd_some, ← hhd, nm_eq]
      rw [show (cfs (cfs A 17 (t + 1)) 16 hd).1 16 = hd from rfl, C_wayX_e hdb, bd_some, Ma_floorDiv_e (by omega) (by decide), bd_some, nm_eq]
      rw [show (cfs (cfs A 17 (t + 1)) 16 hd).1 14 + tg.2 * wX hd / 16 = nx by rw [cfs_ne _ _ (by decide), cfs_ne _ _ (by decide), A1, p14, hnx]]
      rw [show (cfs (cfs (cfs A 17 (t + 1)) 16 hd) 14 nx).1 16 = hd from rfl, C_wayY_e hdb, bd_some, Ma_floorDiv_e (by omega) (by decide), bd_some, nm_eq]
      rw [show (cfs (cfs (cfs A 17 (t + 1)) 16 hd) 14 nx).1 15 + tg.2 * wY hd / 16 = ny by rw [cfs_ne _ _ (by decide), cfs_ne _ _ (by decide), cfs_ne _ _ (by decide), A1, p15, hny]]
      rw [← hB, l1, bd_some, l2, B14, B15, e1, bd_some]
      unfold C_goes_B645
      cases b
      · rw [if_neg (by decide), gd_pos (by decide), nm_eq]; rfl
      · rw [if_pos rfl, gd_pos (by decide), nm_eq]; rfl
    -- the reference's state
    obtain ⟨Z, hZ⟩ : ∃ Z : xS, Z = fset M4 34 0 := ⟨_, rfl⟩
    obtain ⟨E, hE⟩ : ∃ E : xS, E = aset (aset (aset (aset (aset Z 35 (38 * t) tg.1) 35 (38 * t + 1) tg.2) 35 (38 * t + 2) (Sm.1 30)) 35 (38 * t + 3) (Sm.1 31)) 35 (38 * t + 4) (Sm.1 32) := ⟨_, rfl⟩
    obtain ⟨G, hG⟩ : ∃ G : xS, G = fset (fset (fset (fset E 32 hd) 30 nx) 31 ny) 29 (t + 1) := ⟨_, rfl⟩
    have Z1 : ∀ k, k ≠ 34 → Z.1 k = M4.1 k := fun k hk => by rw [hZ]; exact fset_ne _ _ hk
    have Z34 : Z.1 34 = 0 := by rw [hZ]; exact fset_eq _ _ _
    have E1 : E.1 = Z.1 := by rw [hE]; rfl
    have Eq : ∀ q, q ≠ 35 → E.2 q = M4.2 q := fun q hq => by rw [hE, aset_ne _ _ _ hq, aset_ne _ _ _ hq, aset_ne _ _ _ hq, aset_ne _ _ _ hq, aset_ne _ _ _ hq, hZ]; rfl
    have Er : ∀ j, E.2 35 j = if j = 38 * t + 4 then Sm.1 32 else if j = 38 * t + 3 then Sm.1 31 else if j = 38 * t + 2 then Sm.1 30 else if j = 38 * t + 1 then tg.2 else if j = 38 * t then tg.1 else M4.2 35 j := fun j => by rw [hE, aset_at, aset_at, aset_at, aset_at, aset_at, hZ]; rfl
    have G2 : G.2 = E.2 := by rw [hG]; rfl
    have G1 : ∀ k, k ≠ 32 → k ≠ 30 → k ≠ 31 → k ≠ 29 → k ≠ 34 → G.1 k = M4.1 k := fun k k1 k2 k3 k4 k5 => by rw [hG, fset_ne _ _ k4, fset_ne _ _ k3, fset_ne _ _ k2, fset_ne _ _ k1, E1, Z1 k k5]
    have G29 : G.1 29 = t + 1 := by rw [hG]; rfl
    have G30 : G.1 30 = nx := by rw [hG]; rfl
    have G31 : G.1 31 = ny := by rw [hG]; rfl
    have G32 : G.1 32 = hd := by rw [hG]; rfl
    have G34 : G.1 34 = 0 := by rw [hG, fset_ne _ _ (by decide), fset_ne _ _ (by decide), fset_ne _ _ (by decide), fset_ne _ _ (by decide), E1, Z34]
    have G0 : G.1 0 = M4.1 0 := G1 0 (by decide) (by decide) (by decide) (by decide) (by decide)
    have G01 : G.1 1 = M4.1 1 := G1 1 (by decide) (by decide) (by decide) (by decide) (by decide)
    have g22 : G.2 2 = M4.2 2 := by rw [G2, Eq 2 (by decide)]
    have m40 : M4.1 40 = tg.1 := t4.1
    have m441 : M4.1 41 = tg.2 := t4.2
    have z30 : Z.1 30 = Sm.1 30 := (Z1 30 (by decide)).trans (m41 30 (by decide) (by decide) (by decide) (by decide))
    have z31 : Z.1 31 = Sm.1 31 := (Z1 31 (by decide)).trans (m41 31 (by decide) (by decide) (by decide) (by decide))
    have z32 : Z.1 32 = Sm.1 32 := (Z1 32 (by decide)).trans (m41 32 (by decide) (by decide) (by decide) (by decide))
    have z29 : Z.1 29 = t := (Z1 29 (by decide)).trans ((m41 29 (by decide) (by decide) (by decide) (by decide)).trans ht)
    have hMr : ∀ K x5, r32 x5 → Sm.1 29 < x5 → M_run_b36 x1 x5 K Sm = K (fset G 33 (bz (!b))) := by
      intro K x5 h5 h6
      obtain ⟨Z', hZ', hrun⟩ := hMb K x5 h5 h6
      have eZ : Z' = Z := by rw [hZ', hZ, q19]; rfl
      rw [hrun, eZ, Z34, if_pos rfl, nm_eq, Z1 39 (by decide), m439, gd_pos (by omega), nm_eq, gd_pos (by omega), nm_eq, gd_pos (by omega), nm_eq, gd_pos (by omega), nm_eq, gd_pos (by omega), nm_eq]
      have eE : aset (aset (aset (aset (aset Z 35 (38 * t) (Z.1 40)) 35 (38 * t + 1) ((aset Z 35 (38 * t) (Z.1 40)).1 41)) 35 (38 * t + 2) ((aset (aset Z 35 (38 * t) (Z.1 40)) 35 (38 * t + 1) ((aset Z 35 (38 * t) (Z.1 40)).1 41)).1 30)) 35 (38 * t + 3) ((aset (aset (aset Z 35 (38 * t) (Z.1 40)) 35 (38 * t + 1) ((aset Z 35 (38 * t) (Z.1 40)).1 41)) 35 (38 * t + 2) ((aset (aset Z 35 (38 * t) (Z.1 40)) 35 (38 * t + 1) ((aset Z 35 (38 * t) (Z.1 40)).1 41)).1 30)).1 31)) 35 (38 * t + 4) ((aset (aset (aset (aset Z 35 (38 * t) (Z.1 40)) 35 (38 * t + 1) ((aset Z 35 (38 * t) (Z.1 40)).1 41)) 35 (38 * t + 2) ((aset (aset Z 35 (38 * t) (Z.1 40)) 35 (38 * t + 1) ((aset Z 35 (38 * t) (Z.1 40)).1 41)).1 30)) 35 (38 * t + 3) ((aset (aset (aset Z 35 (38 * t) (Z.1 40)) 35 (38 * t + 1) ((aset Z 35 (38 * t) (Z.1 40)).1 41)) 35 (38 * t + 2) ((aset (aset Z 35 (38 * t) (Z.1 40)) 35 (38 * t + 1) ((aset Z 35 (38 * t) (Z.1 40)).1 41)).1 30)).1 31)).1 32) = E := by
        rw [hE]
        show aset (aset (aset (aset (aset Z 35 (38 * t) (Z.1 40)) 35 (38 * t + 1) (Z.1 41)) 35 (38 * t + 2) (Z.1 30)) 35 (38 * t + 3) (Z.1 31)) 35 (38 * t + 4) (Z.1 32) = _
        rw [Z1 40 (by decide), Z1 41 (by decide), m40, m441, z30, z31, z32]
      rw [eE, E1, z32, Z1 40 (by decide), m40, gd_pos (by have := t5.1; omega), nm_eq]
      have ehd : Int.tmod (Sm.1 32 + tg.1 + 64) 64 = hd := by
        rw [Int.tmod_eq_emod_of_nonneg (by have := t5.1; omega), hhd]
        omega
      rw [ehd, show (fset E 32 hd).1 32 = hd from rfl, M_wayX_e hdb, bd_some, show (fset E 32 hd).1 41 = tg.2 by rw [fset_ne _ _ (by decide), E1, Z1 41 (by decide), m441], M_floor_e (by omega) (by decide), bd_some, nm_eq]
      rw [show (fset E 32 hd).1 30 + tg.2 * wX hd / 16 = nx by rw [fset_ne _ _ (by decide), E1, z30, hnx]]
      rw [show (fset (fset E 32 hd) 30 nx).1 32 = hd from rfl, M_wayY_e hdb, bd_some, show (fset (fset E 32 hd) 30 nx).1 41 = tg.2 by rw [fset_ne _ _ (by decide), fset_ne _ _ (by decide), E1, Z1 41 (by decide), m441], M_floor_e (by omega) (by decide), bd_some, nm_eq]
      rw [show (fset (fset E 32 hd) 30 nx).1 31 + tg.2 * wY hd / 16 = ny by rw [fset_ne _ _ (by decide), fset_ne _ _ (by decide), E1, z31, hny]]
      rw [show (fset (fset (fset E 32 hd) 30 nx) 31 ny).1 29 + 1 = t + 1 by rw [fset_ne _ _ (by decide), fset_ne _ _ (by decide), fset_ne _ _ (by decide), E1, z29]]
      rw [nm_eq, ← hG, G30, G31, G29, M_isPlace_e (by rw [G0, G01]; exact H4) (by omega) (by omega), bd_some, G0, G01]
      by_cases P2 : okP (M4.1 0) (M4.1 1) nx ny
      · obtain ⟨v, v1, v2, v3⟩ := e3 P2
        have hmk : M_markAt G (Int.tdiv ny 16 * M4.1 0 + Int.tdiv nx 16) (t + 1) = some v := by
          have hc := cell_bd H4 (x := Int.tdiv nx 16) (y := Int.tdiv ny 16) (by
            rw [Int.tdiv_eq_ediv_of_nonneg P2.1.1]; omega) (by
            rw [Int.tdiv_eq_ediv_of_nonneg P2.2.1]; omega)
          have hw := wh_bd H4
          rw [M_markAt_e (by rw [G0, G01]; exact H4) (by rw [G0, G01, g22]; exact RB.2.1.1) ⟨hc.1, by omega⟩ (by omega), G0, G01, g22]
          rw [M_markAt_e H4 RB.2.1.1 ⟨hc.1, by omega⟩ (by omega)] at v1
          exact v1
        rw [if_pos (decide_eq_true P2), gd_pos (by omega), gd_pos (by omega), hmk, bd_some, gd_pos (by omega)]
        unfold M_run_B288 M_run_B293
        cases b
        · rw [if_neg (fun w => by have := v3.mpr (by omega); cases this), gd_pos (by decide), nm_eq]; rfl
        · rw [if_pos (by rw [v3.mp rfl]; decide), gd_pos (by decide), nm_eq]; rfl
      · have hb0 : b = false := by
          cases b
          · rfl
          · exact absurd (e2 rfl) P2
        rw [if_neg (by rw [decide_eq_true_eq]; exact P2), hb0]
        unfold M_run_B288 M_run_B293
        rw [gd_pos (by decide), nm_eq]; rfl
    have fCS : fC S (cfs S7 18 (bz (!b))) := (fC6.tr fCB).tr ⟨fun k hk => by rw [cfs_ne _ _ (by omega), l2], fun k hk => by rw [cfs_ne _ _ (by omega), l2], fun q hq => l3 q (by omega)⟩
    have fMS : fM Sm (fset G 33 (bz (!b))) := fM4.tr ⟨⟨G0, G01, G1 10 (by decide) (by decide) (by decide) (by decide) (by decide), G1 11 (by decide) (by decide) (by decide) (by decide) (by decide), G1 12 (by decide) (by decide) (by decide) (by decide) (by decide)⟩, g22, by rw [show (fset G 33 (bz (!b))).2 = G.2 from rfl, G2, Eq 3 (by decide)], by rw [show (fset G 33 (bz (!b))).2 = G.2 from rfl, G2, Eq 4 (by decide)], fun j hj => by rw [show (fset G 33 (bz (!b))).2 = G.2 from rfl, G2, Eq j (by omega)]⟩
    have hbz : bz (!b) = 0 ∨ bz (!b) = 1 := by cases b <;> decide
    have S7f : ∀ k, k ≠ 17 → k ≠ 16 → k ≠ 14 → k ≠ 15 → k ≠ 18 → (cfs S7 18 (bz (!b))).1 k = S6.1 k := fun k k1 k2 k3 k4 k5 => by rw [cfs_ne _ _ k5, l2, B1 k k1 k2 k3 k4]
    have Gf : ∀ k, k ≠ 32 → k ≠ 30 → k ≠ 31 → k ≠ 29 → k ≠ 34 → k ≠ 33 → (fset G 33 (bz (!b))).1 k = M4.1 k := fun k k1 k2 k3 k4 k5 k6 => by rw [fset_ne _ _ k6, G1 k k1 k2 k3 k4 k5]
    have e19 : (cfs S7 18 (bz (!b))).1 19 = 0 := (S7f 19 (by decide) (by decide) (by decide) (by decide) (by decide)).trans q19
    refine ⟨cfs S7 18 (bz (!b)), fset G 33 (bz (!b)), hCg, fun K x5 h5 h6 => ?_, R.fl fCS fMS, hL.fl fCS fMS, ⟨⟨⟨?_, ?_, ?_, ?_, ?_, ?_⟩, ?_, ?_, ?_, ?_, ?_⟩, ⟨?_, ?_⟩, ?_, ?_⟩, fCS, fMS, Or.inr ⟨e19, ?_⟩, ?_⟩
    · rw [hMr K x5 h5 h6, if_neg (by rw [e19]; decide)]
    · rw [cfs_ne _ _ (by decide), l2, B14, fset_ne _ _ (by decide), G30]
    · rw [cfs_ne _ _ (by decide), l2, B15, fset_ne _ _ (by decide), G31]
    · rw [cfs_ne _ _ (by decide), l2, B16, fset_ne _ _ (by decide), G32]
    · rw [cfs_ne _ _ (by decide), l2, B17, fset_ne _ _ (by decide), G29]
    · rw [cfs_eq, fset_eq]
    · rw [e19, fset_ne _ _ (by decide), G34]
    · rw [fset_ne _ _ (by decide), G32]; exact hdb
    · rw [fset_ne _ _ (by decide), G29]; omega
    · rw [fset_eq]; exact hbz
    · rw [fset_ne _ _ (by decide), G34]; exact Or.inl rfl
    · intro h0
      rw [fset_eq] at h0
      have hb1 : b = true := by
        cases b
        · cases h0
        · rfl
      have P2 := e2 hb1
      rw [fset_ne _ _ (by decide), fset_ne _ _ (by decide), fset_ne _ _ (by decide), fset_ne _ _ (by decide), G0, G01, G30, G31]
      exact P2
    · rw [S7f 25 (by decide) (by decide) (by decide) (by decide) (by decide), Gf 27 (by decide) (by decide) (by decide) (by decide) (by decide) (by decide)]
      exact hb
    · rw [S7f 24 (by decide) (by decide) (by decide) (by decide) (by decide), Gf 28 (by decide) (by decide) (by decide) (by decide) (by decide) (by decide)]
      exact ho
    · intro k k0 k1
      rw [show (cfs S7 18 (bz (!b))).2 = S7.2 from rfl, l3 661 (by decide), B2, Aq 661 (by omega), show (fset G 33 (bz (!b))).2 = G.2 from rfl, G2, Eq 36 (by decide)]
      exact hl k k0 k1
    · intro t' t0 t1
      rw [fset_ne _ _ (by decide), G29] at t1
      rw [show (cfs S7 18 (bz (!b))).2 = S7.2 from rfl, show (fset G 33 (bz (!b))).2 = G.2 from rfl, G2, Eq 2 (by decide), m4q 2 (by decide) (by decide) (by decide), s5.2.1]
      have hln := OA.2.1.1
      have hpn := OA.2.2.1.1
      have q35 : ∀ j, j < 38 * t ∨ 38 * t + 5 ≤ j → E.2 35 j = M3.2 35 j := fun j hj => by
        rw [Er j, if_neg (by omega), if_neg (by omega), if_neg (by omega), if_neg (by omega), if_neg (by omega), m4q 35 (by decide) (by decide) (by decide)]
      have qC : ∀ q, q ≠ 476 + t → q ≠ 472 → q ≠ 661 → S7.2 q = S5.2 q := fun q h1 h2 h3 => by rw [l3 q h2, B2, Aq q h1, c6q q h3]
      refine ⟨fun j j0 j1 => ?_, fun k k0 k1 => ?_, fun p p0 p1 => ?_, ?_⟩
      · by_cases c : t' = t
        · subst c
          rw [l3 _ (by omega), B2, Ar j, Er]
          rcases (by omega : j = 0 ∨ j = 1 ∨ j = 2 ∨ j = 3 ∨ j = 4) with rfl | rfl | rfl | rfl | rfl
          · rw [if_neg (by omega), if_neg (by omega), if_neg (by omega), if_neg (by omega), if_pos (by omega), if_neg (by omega), if_neg (by omega), if_neg (by omega), if_neg (by omega), if_pos (by omega)]
          · rw [if_neg (by omega), if_neg (by omega), if_neg (by omega), if_pos (by omega), if_neg (by omega), if_neg (by omega), if_neg (by omega), if_pos (by omega)]
          · rw [if_neg (by omega), if_neg (by omega), if_pos (by omega), if_neg (by omega), if_neg (by omega), if_pos (by omega), f14]
          · rw [if_neg (by omega), if_pos (by omega), if_neg (by omega), if_pos (by omega), f15]
          · rw [if_pos (by omega), if_pos (by omega), f16]
        · rw [qC _ (by omega) (by omega) (by omega), q35 _ (by omega)]
          exact (s11 t' t0 (by omega)).1 j j0 j1
      · rw [qC _ (by omega) (by omega) (by omega), q35 _ (by omega)]
        exact (s12 t' t0 (by omega)).1 k k0 k1
      · rw [qC _ (by omega) (by omega) (by omega), q35 _ (by omega)]
        exact (s12 t' t0 (by omega)).2 p p0 p1
      · by_cases c : t' = t
        · subst c
          rw [Er, if_neg (by omega), if_neg (by omega), if_neg (by omega), if_neg (by omega), if_pos (by omega)]
          exact t5.1
        · rw [q35 _ (by omega)]
          exact (s11 t' t0 (by omega)).2
    · rw [fset_ne _ _ (by decide), G29, ht]
    · rw [Gf 27 (by decide) (by decide) (by decide) (by decide) (by decide) (by decide), m41 27 (by decide) (by decide) (by decide) (by decide)]
  · -- it rests
    have fMz : fM Sm (fset M4 34 1) := fM4.tr ⟨⟨rfl, rfl, rfl, rfl, rfl⟩, rfl, rfl, rfl, fun _ _ => rfl⟩
    have z1 : ∀ k, k ≠ 34 → (fset M4 34 1).1 k = M4.1 k := fun k hk => fset_ne _ _ hk
    refine ⟨S6, fset M4 34 1, ?_, ?_, R.fl fC6 fMz, hL.fl fC6 fMz, ⟨⟨⟨?_, ?_, ?_, ?_, ?_, ?_⟩, ?_, ?_, ?_, ?_, ?_⟩, ⟨?_, ?_⟩, hl, ?_⟩, fC6, fMz, Or.inl ⟨q19, by rw [z1 29 (by decide), m41 29 (by decide) (by decide) (by decide) (by decide)]⟩, ?_⟩
    · rw [hC, q19, gd_pos (by decide), if_neg (by decide)]
    · intro K x5 h5 h6
      obtain ⟨Z, hZ, hrun⟩ := hMb K x5 h5 h6
      have eZ : Z = fset M4 34 1 := by rw [hZ, q19]; rfl
      rw [hrun, eZ, fset_eq, if_neg (by decide), q19, if_pos rfl]
    · rw [z1 30 (by decide), m41 30 (by decide) (by decide) (by decide) (by decide), c61 14 (by decide) (by decide) (by decide) (by decide)]; exact f14
    · rw [z1 31 (by decide), m41 31 (by decide) (by decide) (by decide) (by decide), c61 15 (by decide) (by decide) (by decide) (by decide)]; exact f15
    · rw [z1 32 (by decide), m41 32 (by decide) (by decide) (by decide) (by decide), c61 16 (by decide) (by decide) (by decide) (by decide)]; exact f16
    · rw [z1 29 (by decide), m41 29 (by decide) (by decide) (by decide) (by decide), c61 17 (by decide) (by decide) (by decide) (by decide)]; exact f17
    · rw [z1 33 (by decide), m41 33 (by decide) (by decide) (by decide) (by decide), c61 18 (by decide) (by decide) (by decide) (by decide)]; exact f18
    · rw [fset_eq, q19]
    · rw [z1 32 (by decide), m41 32 (by decide) (by decide) (by decide) (by decide)]; exact fhd
    · rw [z1 29 (by decide), m41 29 (by decide) (by decide) (by decide) (by decide)]; exact ftk
    · rw [z1 33 (by decide), m41 33 (by decide) (by decide) (by decide) (by decide)]; exact fh1
    · rw [fset_eq]; exact Or.inr rfl
    · intro _
      rw [z1 0 (by decide), z1 1 (by decide), z1 30 (by decide), z1 31 (by decide), m41 0 (by decide) (by decide) (by decide) (by decide), m41 1 (by decide) (by decide) (by decide) (by decide), m41 30 (by decide) (by decide) (by decide) (by decide), m41 31 (by decide) (by decide) (by decide) (by decide)]
      exact P
    · rw [z1 27 (by decide)]; exact hb
    · rw [z1 28 (by decide)]; exact ho
    · intro t' t0 t1
      rw [z1 29 (by decide), m41 29 (by decide) (by decide) (by decide) (by decide)] at t1
      rw [show (fset M4 34 1).2 = M4.2 from rfl, m4q 2 (by decide) (by decide) (by decide), m4q 35 (by decide) (by decide) (by decide), s5.2.1]
      refine ⟨fun j j0 j1 => ?_, fun k k0 k1 => ?_, fun p p0 p1 => ?_, (s11 t' t0 t1).2⟩
      · rw [c6q _ (by omega)]; exact (s11 t' t0 t1).1 j j0 j1
      · rw [c6q _ (by omega)]; exact (s12 t' t0 (by omega)).1 k k0 k1
      · rw [c6q _ (by omega)]; exact (s12 t' t0 (by omega)).2 p p0 p1
    · rw [z1 27 (by decide), m41 27 (by decide) (by decide) (by decide) (by decide)]
