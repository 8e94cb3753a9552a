set_option maxRecDepth 100000
theorem NowW.fr {Z : hZ} {nw : Nat} {H H1 : Heap} {A : Nat → Prop} (hnA : ¬ A nw) (hb : Z.b ≤ nw) (hfr : hFr (fE nw) H H1) {N : Nat} {code : tC} {a : Nat} (h : SumH Z N A H code a) : SumH Z N A H1 code a :=
  h.keep (fun x hx hxl => hfr.2 x hxl (fun v => by
    have v : x = nw := v
    rw [v] at hx
    rcases hx with u | u
    · exact hnA u
    · omega))
theorem wE_sum (l : Launch) (Z : hZ) (nw : Nat) : ∀ N, EvS l Z nw N := by
  intro N
  induction N with
  | zero => intro A H code a S vs bs r h; exact h.elim
  | succ N ih =>
    intro A H code a S vs bs r h hnA hN hh
    have hb := hN.2.2.2.2
    obtain ⟨hAa, h⟩ := h
    have han : a ≠ nw := fun w => hnA (by rw [← w]; exact hAa)
    rcases h with ⟨v, h1, rfl⟩ | ⟨v, h1, rfl⟩ | ⟨v, h1, rfl⟩ | ⟨v, h1, rfl⟩ | ⟨h1, rfl⟩ | ⟨x, cx, h1, h2, rfl⟩ | ⟨b, x, y, cx, cy, h1, h2, h3, rfl⟩ | ⟨f, am, as, L1, L2, cm, em, cs, es, cf, xs, h1, h2, h3, h4, h5, rfl⟩
    · have h0 : gd (r32 v) (pvH (vs, bs, S) v) = some r := pv_one hh
      obtain ⟨g, h0⟩ := gd_inv h0
      obtain ⟨z, S1, hE, h⟩ := pvH_inv h0
      exact ⟨z, S1, h, "ManyEyes$Plain", 5, 1, TX11, cX11_of, 2, 3, 110, _, rfl, h1, by decide, q1042, q1044, q105, q1046, by decide, by omega, by omega, (wE_X11 l Z nw a S v H.size g hE).pre (fun H' e => by rw [e]; exact ⟨hN, h1⟩)⟩
    · have h0 : gd ((0 : Int) ≤ v ∧ v < 8) (pvH (vs, bs, S) (S.2 661 v)) = some r := pv_one hh
      obtain ⟨g, h0⟩ := gd_inv h0
      obtain ⟨z, S1, hE, h⟩ := pvH_inv h0
      exact ⟨z, S1, h, "ManyEyes$Letter", 6, 1, TX12, cX12_of, 2, 3, 110, _, rfl, h1, by decide, q1020, q1022, q106, q1024, by decide, by omega, by omega, (wE_X12 l Z nw a S v H.size g hE).pre (fun H' e => by rw [e]; exact ⟨hN, h1⟩)⟩
    · have h0 : gd ((0 : Int) ≤ v ∧ v < 16) (gd (r32 (S.2 659 v)) (pvH (vs, bs, S) (S.2 659 v))) = some r := pv_one hh
      obtain ⟨g, h0⟩ := gd_inv h0
      obtain ⟨g2, h0⟩ := gd_inv h0
      obtain ⟨z, S1, hE, h⟩ := pvH_inv h0
      exact ⟨z, S1, h, "ManyEyes$Lens", 7, 1, TX13, cX13_of, 2, 3, 110, _, rfl, h1, by decide, q1004, q1006, q107, q1008, by decide, by omega, by omega, (wE_X13 l Z nw a S v H.size g g2 hE).pre (fun H' e => by rw [e]; exact ⟨hN, h1⟩)⟩
    · have h0 : gd ((0 : Int) ≤ v ∧ v < 16) (gd (r32 (S.2 660 v)) (pvH (vs, bs, S) (S.2 660 v))) = some r := pv_one hh
      obtain ⟨g, h0⟩ := gd_inv h0
      obtain ⟨g2, h0⟩ := gd_inv h0
      obtain ⟨z, S1, hE, h⟩ := pvH_inv h0
      exact ⟨z, S1, h, "ManyEyes$Paired", 8, 1, TX14, cX14_of, 2, 3, 110, _, rfl, h1, by decide, q1035, q1037, q108, q1039, by decide, by omega, by omega, (wE_X14 l Z nw a S v H.size g g2 hE).pre (fun H' e => by rw [e]; exact ⟨hN, h1⟩)⟩
    · have h0 : gd (r32 (S.1 23)) (pvH (vs, bs, S) (S.1 23)) = some r := pv_one hh
      obtain ⟨g, h0⟩ := gd_inv h0
      obtain ⟨z, S1, hE, h⟩ := pvH_inv h0
      exact ⟨z, S1, h, "ManyEyes$Tick", 9, 0, TX15, cX15_of, 2, 3, 110, _, rfl, h1, by decide, q1049, q1051, q109, q1053, by decide, by omega, by omega, (wE_X15 l Z nw a S H.size g hE).pre (fun H' e => by rw [e]; exact ⟨hN, h1⟩)⟩
    · obtain ⟨st1, k1, k2⟩ := pv_inv hh
      obtain ⟨z, S1, rfl, hE⟩ := ih A H cx x S vs bs st1 h2 hnA hN k1
      have h0 : some (((-z) :: vs, bs, S1) : pS) = some r := pv_one k2
      exact ⟨-z, S1, (Option.some.inj h0).symm, "ManyEyes$Minus", 10, 1, TX16, cX16_of, 2, 7 + N, 240 + 40 * N, _, rfl, h1, by decide, q1027, q1029, q110, q1031, by decide, by omega, by omega, w_minus l Z nw N H a x S1 z hb h1 hE⟩
    · obtain ⟨st2, k2, k3⟩ := pv_inv hh
      obtain ⟨st1, k1, k2⟩ := pv_inv k2
      obtain ⟨z, S1, rfl, hE⟩ := ih A H cx x S vs bs st1 h2 hnA hN k1
      obtain ⟨z2, S2, rfl⟩ := ShS h3 _ _ _ _ k2
      have hE2 : ∀ H1, NowW Z nw S1 H1 → hFr (fE nw) H H1 → EvP l Z nw N H1 y z2 S2 := by
        intro H1 hN1 hfr
        obtain ⟨z3, S3, e3, hE3⟩ := ih A H1 cy y S1 (z :: vs) bs _ (NowW.fr hnA hb hfr h3) hnA hN1 k2
        cases e3
        exact hE3
      have hr : (r64 z ∧ r64 z2) ∧ r = ((if b then (if z < z2 then z2 else z) else (if z ≤ z2 then z else z2)) :: vs, bs, S2) := by
        cases b with
        | true =>
          have h0 : gd (r64 z ∧ r64 z2) (some (((if z < z2 then z2 else z) :: vs, bs, S2) : pS)) = some r := pv_one k3
          obtain ⟨g, h0⟩ := gd_inv h0
          exact ⟨g, (Option.some.inj h0).symm⟩
        | false =>
          have h0 : gd (r64 z ∧ r64 z2) (some (((if z ≤ z2 then z else z2) :: vs, bs, S2) : pS)) = some r := pv_one k3
          obtain ⟨g, h0⟩ := gd_inv h0
          exact ⟨g, (Option.some.inj h0).symm⟩
      exact ⟨_, S2, hr.2, "ManyEyes$Least", 11, 3, TX17, cX17_of, 6, 7 + N, 240 + 40 * N, _, rfl, h1, by decide, q996, q998, q111, q1000, by decide, by omega, by omega, w_least l Z nw N H a x y b S1 S2 z z2 hb h1 han hr.1 hE hE2⟩
    · obtain ⟨st1, k1, k2⟩ := pv_inv hh
      obtain ⟨z, S1, rfl, hE⟩ := ih A H cf f S vs bs st1 h4 hnA hN k1
      obtain ⟨zf, Sf, rfl⟩ := ShS (N := N + 1) (A := A) (H := H) (a := a) (code := cf ++ flat xs) ⟨hAa, Or.inr (Or.inr (Or.inr (Or.inr (Or.inr (Or.inr (Or.inr ⟨f, am, as, L1, L2, cm, em, cs, es, cf, xs, h1, h2, h3, h4, h5, rfl⟩))))))⟩ vs bs S r hh
      exact ⟨zf, Sf, rfl, "ManyEyes$Chain", 4, 3, TX10, cX10_of, 8, 7 + N, 240 + 40 * N, _, rfl, h1.1, by decide, q988, q990, q104, q992, by decide, by omega, by omega, w_chof l Z nw N ih A hnA H a f am as L1 L2 cm em cs es xs h1 h2 h5 z S1 hE hb vs bs zf Sf k2⟩
