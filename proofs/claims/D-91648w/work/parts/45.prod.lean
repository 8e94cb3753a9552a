set_option maxRecDepth 100000
theorem fsX10 : ∀ j, j < 3 → defaultValue (tyX10 j) = vp_V [.null, .null, .null] j := by
  intro j hj
  have : j = 0 ∨ j = 1 ∨ j = 2 := by omega
  rcases this with rfl | rfl | rfl <;> rfl
theorem T_chL_ge {x y : Int} {one : yS → Option (tR tC)} : ∀ {fu : Nat} {c0 : tC} {m : Nat} {S : yS} {k n : Nat} {r : tR tC}, T_chL x y one fu c0 m S k n = some r → k ≤ r.2.2.1 ∧ n ≤ r.2.2.2 := by
  intro fu
  induction fu with
  | zero => intro c0 m S k n r h; exact no_some h
  | succ fu ih =>
    intro c0 m S k n r h
    replace h : gd (r32 (S.1 6)) (if S.1 6 = x ∨ S.1 6 = y then bd (T_next S) (fun S1 => tb (one S1) k n (fun c1 S2 k n => gd (capN m < 40000) (T_chL x y one fu (c0 ++ (c1 ++ [(sgO (S.1 6), 0)])) (m + 1) S2 (k + (aC m + aC m)) (n + (aS m + aS m))))) else some (.inl c0, S, k, n)) = some r := h
    obtain ⟨g1, h⟩ := gd_inv h
    by_cases hs : S.1 6 = x ∨ S.1 6 = y
    · replace h := it_t hs h
      obtain ⟨S1, k1, h⟩ := bd_inv h
      rcases tb_inv h with ⟨e1, S2, k', n', -, hr⟩ | ⟨c1, S2, k', n', -, h⟩
      · rw [hr]; exact ⟨Nat.le_add_right _ _, Nat.le_add_right _ _⟩
      · obtain ⟨g2, h⟩ := gd_inv h
        have := ih h
        omega
    · replace h := it_f hs h
      cases Option.some.inj h
      exact ⟨Nat.le_refl _, Nat.le_refl _⟩
set_option maxHeartbeats 2000000 in
theorem wT_product (l : Launch) (Z : hZ) (q t : Nat) (one : yS → Option (tR tC)) (f L N : Nat) (gf : 12 ≤ f) (gL : 400 ≤ L) (hone : ∀ (S : yS) (r : tR tC) (n0 : Nat), one S = some r → mS l yX6_one cX6_one 4 f L Z q t S r N n0) (S : yS) (n0 : Nat) {r : tR tC} (hh : T_ch 42 47 one S = some r) : mS l yX6_product cX6_product 3 (f + 1) (L + 40) Z q t S r (N + 1) n0 := by
  refine goXr (by decide +kernel) (Nat.le_of_ble_eq_true rfl) (Or.inl ⟨_, rfl⟩) ?_
  intro p e s m args below meth cd Q ls X hret hthr hl hP hn hS hnm
  subst hn
  have hx := X.1.1
  have hbb := X.1.2.1
  have hts := X.1.2.2.2.2
  have lq := va_at_lt hP.1
  have lq1 := va_at_lt hP.2.1
  have lq2 := va_at_lt hP.2.2.1
  have lt_ := va_at_lt hP.2.2.2.1
  have hqb := hP.2.2.2.2.1
  have hsb := X.2.2.2
  have hF := hP.F
  have ntf : ∀ x, s.heap.size ≤ x ∨ x < Z.b → ¬ tF q x := by
    intro x hx w
    rcases w with rfl | rfl | rfl <;> omega
  replace hl : lv_has ls 3 [(0, .ref q)] := hl
  unfold T_ch at hh
  have hL : ∀ (fu : Nat) (c0 : tC) (mm : Nat) (S : yS) (k n : Nat) (H : Heap) (locs : List Loc) (ls : Array Slot), T_chL 42 47 one fu c0 mm S k n = some r → TKX Z q t S s H locs → CI Z N s.heap.size s.heap.size c0 mm H → lv_has ls 3 [(0, .ref q), (1, .ref s.heap.size)] → W p l e ({ frames := f + 1, cells := r.2.2.1, slots := r.2.2.2, locals := L + 40 } : Room) s m args below meth cd H locs k n Q (F0 m 12 ls []) := by
    intro fu
    induction fu with
    | zero => intro c0 mm S k n H locs ls hh; exact no_some hh
    | succ fu ih =>
      intro c0 mm S k n H locs ls hh hM hC hl
      have hge := T_chL_ge hh
      replace hh : gd (r32 (S.1 6)) (if S.1 6 = 42 ∨ S.1 6 = 47 then bd (T_next S) (fun S1 => tb (one S1) k n (fun c1 S2 k n => gd (capN mm < 40000) (T_chL 42 47 one fu (c0 ++ (c1 ++ [(sgO (S.1 6), 0)])) (mm + 1) S2 (k + (aC mm + aC mm)) (n + (aS mm + aS mm))))) else some (.inl c0, S, k, n)) = some r := hh
      obtain ⟨g1, hh⟩ := gd_inv hh
      have zH : s.heap.size ≤ H.size := hM.2.1
      have body : S.1 6 = 42 ∨ S.1 6 = 47 → W p l e ({ frames := f + 1, cells := r.2.2.1, slots := r.2.2.2, locals := L + 40 } : Room) s m args below meth cd H locs k n Q (F0 m 30 ls []) := by
        intro hs
        replace hh := it_t hs hh
        obtain ⟨S1, k1, hh⟩ := bd_inv hh
        refine lv_aload_n hx hbb dX6_product_30 rfl (lv_at hl 0 rfl) ?_
        refine tm_get X hM tf_sort q554 rfl dX6_product_31 ?_
        refine lv_istore_n (lv' := [(2, .int (zi (S.1 6))), (0, .ref q), (1, .ref s.heap.size)]) hx hbb dX6_product_34 rfl hl (by decide) rfl (fun ls hl => ?_)
        refine lv_aload_n hx hbb dX6_product_35 rfl (lv_at hl 1 rfl) ?_
        refine tk_next X hM k1 ⟨by show 7 ≤ f + 1; omega, by show 330 ≤ L + 40; omega⟩ hge hl.1 (Nat.le_of_ble_eq_true rfl) dX6_product_36 (fun H1 locs1 hM1 hfr1 => ?_)
        have hC1 := hC.keep hfr1.1 (fun x hx hxl => hfr1.2 x hxl (ntf x (hx.elim (fun w => Or.inl w.1) Or.inr)))
        refine lv_aload_n hx hbb dX6_product_39 rfl (lv_at hl 2 rfl) ?_
        refine lv_iload_n hx hbb dX6_product_40 rfl (lv_at hl 0 rfl) ?_
        refine lv_aload_n hx hbb dX6_product_41 rfl (lv_at hl 1 rfl) ?_
        rcases tb_inv hh with ⟨e1, S2, k', n', hone1, hr⟩ | ⟨c1, S2, k', n', hone1, hh⟩
        · subst hr
          refine tk_tree (rest := [.int (zi (S.1 6)), .ref s.heap.size]) X hM1 (hone S1 _ H1.size hone1) (lw_V q784 q786 qs25 q94 q787) (show hdV yX6_one "ManyEyes$Tokens" 0 by decide +kernel) ⟨Nat.le_refl _, by show 8 + (4 + 11) + L ≤ L + 40; omega⟩ ⟨Nat.le_refl _, Nat.le_refl _⟩ hl.1 (Nat.le_of_ble_eq_true rfl) dX6_product_42 (fun c2 a H2 locs2 hc => by cases hc) (fun x H2 locs2 hx hS => ?_)
          exact hthr _ _ _ _ _ _ hx hS
        · obtain ⟨g2, hh⟩ := gd_inv hh
          have hge2 := T_chL_ge hh
          refine tk_tree (rest := [.int (zi (S.1 6)), .ref s.heap.size]) X hM1 (hone S1 _ H1.size hone1) (lw_V q784 q786 qs25 q94 q787) (show hdV yX6_one "ManyEyes$Tokens" 0 by decide +kernel) ⟨Nat.le_refl _, by show 8 + (4 + 11) + L ≤ L + 40; omega⟩ ⟨by show k + k' ≤ r.2.2.1; omega, by show n + n' ≤ r.2.2.2; omega⟩ hl.1 (Nat.le_of_ble_eq_true rfl) dX6_product_42 (fun c2 a H2 locs2 hc hM2 hT2 hfr2 => ?_) (fun x H2 locs2 hx hS => by obtain ⟨f0, p0, hx, -⟩ := hx; cases hx)
          cases hc
          have hC2 := hC1.keep hfr2.1 (fun x hx hxl => hfr2.2 x hxl (ntf x (hx.elim (fun w => Or.inl w.1) Or.inr)))
          have hC1' := hC1
          obtain ⟨ff, am, as, L1, L2, em, es, cf, xs, h1, h2, h2', h3, h4, h5, h6⟩ := hC1
          have hown2 : ∀ x, cO_ s.heap.size am as (capN mm) em (capN mm) es x → x < H1.size := fun x hx => (h3 x hx).2
          have hk2 : ∀ x, rg s.heap.size H1.size x ∨ x < Z.b → x < H1.size → H2[x]? = H1[x]? := fun x hx hxl => hfr2.2 x hxl (ntf x (hx.elim (fun w => Or.inl w.1) Or.inr))
          have h1n : ChW Z s.heap.size ff am as L1 L2 (capN mm) em (capN mm) es H2 := h1.keep (fun x hx hxl => hk2 x (by
            rcases hx with w | w | w
            · exact Or.inl (h3 x w)
            · obtain ⟨c3, hc3⟩ := h5.all w
              exact Or.inl hc3.A.1
            · exact Or.inr (h1.below w)) hxl)
          have haA := hT2.A
          have hxo : ¬ cO_ s.heap.size am as (capN mm) em (capN mm) es a := fun w => by have := hown2 a w; omega
          have eC : acc L2 (capN mm) + acc L1 (capN mm) = aC mm + aC mm := by unfold acc aC; rw [h2, h2']
          have eS : acs L2 (capN mm) + acs L1 (capN mm) = aS mm + aS mm := by unfold acs aS; rw [h2, h2']
          have z12 := hfr1.1
          have z23 := hfr2.1
          refine hcV (As := [.int (zi (S.1 6)), .ref a]) (rest := []) X hM2.2 hF (w_chA l Z s.heap.size ff am as (capN mm) em (capN mm) es a (S.1 6) (by omega) L1 L2 g2 g2 hxo H2.size) ⟨h1n, hT2.any⟩ (fun x hx => Or.inr (by
            rcases hx with w | w
            · exact (h3 x (Or.inr (Or.inl w))).1
            · exact (h3 x (Or.inr (Or.inr w))).1)) (h1n.recv X.2) (lw_V q885 q886 q887 q104 q888) (show hdV yX10_add "ManyEyes$Chain" 2 by decide +kernel) ⟨rfl, rfl⟩ ⟨by show 9 + 1 ≤ f + 1; omega, by show 8 + (3 + 11) + 360 ≤ L + 40; omega⟩ ⟨by show k + k' + _ ≤ r.2.2.1; rw [eC]; omega, by show n + n' + _ ≤ r.2.2.2; rw [eS]; omega⟩ hl.1 (Nat.le_of_ble_eq_true rfl) dX6_product_45 rfl (fun v H3 locs3 hv hfr3 hS3 => ?_)
          obtain ⟨rfl, em', es', hem, hes, h1F⟩ := hv
          rw [eC, eS]
          refine lv_goto (tgt := 12) hx hbb dX6_product_48 (by decide) ?_
          have z34 := hfr3.1
          have hchb : ∀ x, chF am as (capN mm) em (capN mm) es x → s.heap.size ≤ x := fun x hx => by
            rcases hx with w | w
            · exact (h3 x (Or.inr (Or.inl w))).1
            · exact (h3 x (Or.inr (Or.inr w))).1
          have hTK : TKW Z q t S2 H3 := hM2.1.keep4 (fun x hx => hfr3.2 x (by
            rcases hx with rfl | rfl | rfl | rfl <;> omega) (fun w => by
            have := hchb x w
            rcases hx with rfl | rfl | rfl | rfl <;> omega))
          have ecap : ncap L1 (capN mm) = capN (mm + 1) := by unfold ncap; rw [h2]; rfl
          have ecap2 : ncap L2 (capN mm) = capN (mm + 1) := by unfold ncap; rw [h2']; rfl
          rw [ecap, ecap2] at h1F
          have hem' : H2.size ≤ em' ∨ (em' = em ∧ capN (mm + 1) = capN mm) := hem.elim (fun w => Or.inl w.2) (fun w => Or.inr ⟨w.2, by rw [← ecap]; unfold ncap; rw [if_neg w.1]⟩)
          have hes' : H2.size ≤ es' ∨ (es' = es ∧ capN (mm + 1) = capN mm) := hes.elim (fun w => Or.inl w.2) (fun w => Or.inr ⟨w.2, by rw [← ecap2]; unfold ncap; rw [if_neg w.1]⟩)
          have hownN : ∀ x, cO_ s.heap.size am as (capN (mm + 1)) em' (capN (mm + 1)) es' x → cO_ s.heap.size am as (capN mm) em (capN mm) es x ∨ H2.size ≤ x := by
            intro x hx
            rcases hx with w | (w | w) | (w | w)
            · exact Or.inl (Or.inl w)
            · exact Or.inl (Or.inr (Or.inl (Or.inl w)))
            · rcases hem' with v | ⟨v, v2⟩
              · exact Or.inr (by rw [w.1]; exact v)
              · exact Or.inl (Or.inr (Or.inl (Or.inr ⟨by rw [w.1, v], by rw [← v2]; exact w.2⟩)))
            · exact Or.inl (Or.inr (Or.inr (Or.inl w)))
            · rcases hes' with v | ⟨v, v2⟩
              · exact Or.inr (by rw [w.1]; exact v)
              · exact Or.inl (Or.inr (Or.inr (Or.inr ⟨by rw [w.1, v], by rw [← v2]; exact w.2⟩)))
          have lemN : em' < H3.size := by
            rcases h1F.2.1.2.2.1 with w | w
            · exact absurd w.2.2 (by simp)
            · exact va_at_lt w.2.2.2.2
          have lesN : es' < H3.size := by
            rcases h1F.2.2.1.2.2.1 with w | w
            · have := h1F.2.2.1.2.1; exact absurd w.2.2 (by simp)
            · exact va_at_lt w.2.2.2.2
          have hk3 : ∀ x, x < H2.size → ¬ cO_ s.heap.size am as (capN mm) em (capN mm) es x → H3[x]? = H2[x]? := fun x hxl hno => hfr3.2 x hxl (fun w => hno (Or.inr w))
          have tr : ∀ {c3 : tC} {y : Nat}, SumH Z N (fun x => rg s.heap.size H2.size x ∧ ¬ cO_ s.heap.size am as (capN mm) em (capN mm) es x) H2 c3 y → SumH Z N (fun x => rg s.heap.size H3.size x ∧ ¬ cO_ s.heap.size am as (capN (mm + 1)) em' (capN (mm + 1)) es' x) H3 c3 y := fun w => (w.keep (fun x hx hxl => hk3 x hxl (by
              rcases hx with v | v
              · exact v.2
              · intro u
                have := (h3 x u).1
                omega))).mono (fun x hx => ⟨⟨hx.1.1, by have := hx.1.2; omega⟩, fun u => by
              rcases hownN x u with v | v
              · exact hx.2 v
              · have := hx.1.2; omega⟩)
          have t12 : ∀ {c3 : tC} {y : Nat}, SumH Z N (fun x => rg s.heap.size H1.size x ∧ ¬ cO_ s.heap.size am as (capN mm) em (capN mm) es x) H1 c3 y → SumH Z N (fun x => rg s.heap.size H2.size x ∧ ¬ cO_ s.heap.size am as (capN mm) em (capN mm) es x) H2 c3 y := fun w => (w.keep (fun x hx hxl => hk2 x (hx.elim (fun v => Or.inl v.1) Or.inr) hxl)).mono (fun x hx => ⟨⟨hx.1.1, by have := hx.1.2; omega⟩, hx.2⟩)
          have hTa : SumH Z N (fun x => rg s.heap.size H2.size x ∧ ¬ cO_ s.heap.size am as (capN mm) em (capN mm) es x) H2 c1 a := hT2.mono (fun x hx => ⟨⟨by omega, hx.2⟩, fun w => by have := hown2 x w; omega⟩)
          refine ih _ _ _ _ _ H3 locs3 ls hh ⟨hTK, hS3⟩ ⟨ff, am, as, L1 ++ [a], L2 ++ [Z.G.ad (S.1 6 + 128).toNat], em', es', cf, xs ++ [(S.1 6, c1)], h1F, by simp [h2], by simp [h2'], fun x hx => ?_, tr (t12 h4), ⟨by simp [h5.1], by simp [h5.2.1], ?_, ?_⟩, ?_⟩ (lv_sub hl [1, 2] rfl)
          · rcases hx with w | (w | w) | (w | w)
            · exact ⟨by omega, by omega⟩
            · have := h3 x (Or.inr (Or.inl (Or.inl w))); exact ⟨this.1, by omega⟩
            · rw [w.1]; exact ⟨by rcases hownN x (Or.inr (Or.inl (Or.inr w))) with v | v; (have := h3 x v; omega); omega, lemN⟩
            · have := h3 x (Or.inr (Or.inr (Or.inl w))); exact ⟨this.1, by omega⟩
            · rw [w.1]; exact ⟨by rcases hownN x (Or.inr (Or.inr (Or.inr w))) with v | v; (have := h3 x v; omega); omega, lesN⟩
          · intro w hw
            rw [List.zip_append h5.1] at hw
            rcases List.mem_append.mp hw with v | v
            · exact tr (t12 (h5.2.2.1 w v))
            · have : w = ((S.1 6, c1), a) := by simpa using v
              rw [this]
              exact tr hTa
          · intro w hw
            rcases List.mem_append.mp hw with v | v
            · exact h5.2.2.2 w v
            · rw [List.mem_singleton.mp v]
              show S.1 6 = 42 ∨ S.1 6 = 43 ∨ S.1 6 = 45 ∨ S.1 6 = 47
              omega
          · rw [flat_app, h6, List.append_assoc]
      refine lv_aload_n hx hbb dX6_product_12 rfl (lv_at hl 0 rfl) ?_
      refine tm_get X hM tf_sort q554 rfl dX6_product_13 ?_
      refine lv_bipush (v := zi 42) hx hbb dX6_product_16 (by decide) ?_
      refine g_icmp_eq (tgt := 30) hx hbb ⟨g1, by decide⟩ dX6_product_18 (by decide) (fun c1 => body (Or.inl c1)) (fun c1 => ?_)
      refine lv_aload_n hx hbb dX6_product_21 rfl (lv_at hl 0 rfl) ?_
      refine tm_get X hM tf_sort q554 rfl dX6_product_22 ?_
      refine lv_bipush (v := zi 47) hx hbb dX6_product_25 (by decide) ?_
      refine g_icmp_ne (tgt := 51) hx hbb ⟨g1, by decide⟩ dX6_product_27 (by decide) (fun c2 => body (Or.inr c2)) (fun c2 => ?_)
      replace hh := it_f (fun w => w.elim c1 c2) hh
      cases Option.some.inj hh
      obtain ⟨ff, am, as, L1, L2, em, es, h1, h2⟩ := hC.done
      refine lv_aload_n hx hbb dX6_product_51 rfl (lv_at hl 1 rfl) ?_
      refine hcV (As := []) (rest := []) X hM.2 hF (w_chIt l Z s.heap.size ff am as (capN mm) em (capN mm) es L1 L2 H.size) h1 (fun x h => h.elim) (h1.recv X.2) (lw_V q910 q911 q912 q104 q913) (show hdV yX10_itself "ManyEyes$Chain" 0 by decide +kernel) ⟨rfl, rfl⟩ ⟨by show 2 + 1 ≤ f + 1; omega, by show 8 + (1 + 11) + 80 ≤ L + 40; omega⟩ ⟨Nat.le_refl _, Nat.le_refl _⟩ hl.1 (Nat.le_of_ble_eq_true rfl) dX6_product_52 rfl (fun v H1 locs1 hv hfr1 hS1 => ?_)
      subst hv
      have kk : ∀ x, x < H.size → H1[x]? = H[x]? := fun x hx => hfr1.2 x hx (fun w => w)
      exact hret _ _ _ _ _ dX6_product_55 ⟨c0, _, rfl, rfl, hM.1.keep kk, (h2.keep (fun x _ hxl => kk x hxl)).mono (fun x hx => ⟨hx.1, by have := hfr1.1; have := hx.2; omega⟩)⟩ hS1
  have hcost : 1 ≤ r.2.2.1 ∧ 3 ≤ r.2.2.2 := by
    rcases tb_inv hh with ⟨e1, S2, k', n', hone1, hr⟩ | ⟨c1, S2, k', n', hone1, hh⟩
    · rw [hr]; exact ⟨by show 1 ≤ 1 + k'; omega, by show 3 ≤ 3 + n'; omega⟩
    · have := T_chL_ge hh; omega
  refine h_new X.1 X.2.1 hS (fun q h => Or.inr h) (ci := 4) rfl in_X10 tyX10 tyX10_ok q778 q779 q104 fsX10 hcost.1 hcost.2 dX6_product_0 (fun H1 hN z1 o1 hS1 => ?_)
  have hM1 : TKX Z q t S s H1 [] := ⟨hP.keep o1, hS1⟩
  refine lv_dup hx hbb dX6_product_3 rfl ?_
  refine lv_aload_n hx hbb dX6_product_4 rfl (lv_at hl 0 rfl) ?_
  rcases tb_inv hh with ⟨e1, S2, k', n', hone1, hr⟩ | ⟨c1, S2, k', n', hone1, hh⟩
  · subst hr
    refine tk_tree (rest := [.ref s.heap.size, .ref s.heap.size]) X hM1 (hone S _ H1.size hone1) (lw_V q784 q786 qs25 q94 q787) (show hdV yX6_one "ManyEyes$Tokens" 0 by decide +kernel) ⟨Nat.le_refl _, by show 8 + (4 + 11) + L ≤ L + 40; omega⟩ ⟨by show 0 + 1 + k' ≤ 1 + k'; omega, by show 0 + 3 + n' ≤ 3 + n'; omega⟩ hl.1 (Nat.le_of_ble_eq_true rfl) dX6_product_5 (fun c2 a H2 locs2 hc => by cases hc) (fun x H2 locs2 hx hS => ?_)
    rw [show 0 + 1 + k' = 1 + k' by omega, show 0 + 3 + n' = 3 + n' by omega]
    exact hthr _ _ _ _ _ _ hx hS
  · have hge := T_chL_ge hh
    refine tk_tree (rest := [.ref s.heap.size, .ref s.heap.size]) X hM1 (hone S _ H1.size hone1) (lw_V q784 q786 qs25 q94 q787) (show hdV yX6_one "ManyEyes$Tokens" 0 by decide +kernel) ⟨Nat.le_refl _, by show 8 + (4 + 11) + L ≤ L + 40; omega⟩ ⟨by show 0 + 1 + k' ≤ r.2.2.1; omega, by show 0 + 3 + n' ≤ r.2.2.2; omega⟩ hl.1 (Nat.le_of_ble_eq_true rfl) dX6_product_5 (fun c2 a H2 locs2 hc hM2 hT2 hfr2 => ?_) (fun x H2 locs2 hx hS => by obtain ⟨f0, p0, hx, -⟩ := hx; cases hx)
    cases hc
    have hN2 := va_at_keep hN (hfr2.2 s.heap.size (by omega) (ntf _ (Or.inl (Nat.le_refl _))))
    have z2 := hfr2.1
    refine hcI (As := [.ref a]) (rest := [.ref s.heap.size]) (b := s.heap.size) X hM2.2 hF (w_chI l Z s.heap.size a X.2.2.2 H2.size) hN2 (fun x h => Or.inr (by rw [h]; exact Nat.le_refl _)) (cwI 1 hts (lw_meth q871) rfl rfl rfl (hts _ q104) (hts _ q869) (hts _ q870) rfl (show hdS yX10_init 1 by decide +kernel) ⟨by show 6 + 1 ≤ f + 1; omega, by show 8 + (2 + 11) + 200 ≤ L + 40; omega⟩) ⟨rfl, rfl⟩ ⟨by show 6 + 1 ≤ f + 1; omega, by show 8 + (2 + 11) + 200 ≤ L + 40; omega⟩ ⟨by show 0 + 1 + k' + 2 ≤ r.2.2.1; omega, by show 0 + 3 + n' + 6 ≤ r.2.2.2; omega⟩ hl.1 (Nat.le_of_ble_eq_true rfl) dX6_product_8 rfl (fun v H3 locs3 hv hfr3 hS3 => ?_)
    obtain ⟨rfl, am, as, ham, has, hW⟩ := hv
    have z3 := hfr3.1
    have lam := va_at_lt hW.2.1.2.1.choose_spec
    have las := va_at_lt hW.2.2.1.2.1.choose_spec
    have hTK : TKW Z q t S2 H3 := hM2.1.keep4 (fun x hx => hfr3.2 x (by rcases hx with rfl | rfl | rfl | rfl <;> omega) (by show ¬ x = _; rcases hx with rfl | rfl | rfl | rfl <;> omega))
    refine lv_astore_n (lv' := [(1, .ref s.heap.size), (0, .ref q)]) hx hbb dX6_product_11 rfl hl (by decide) rfl (fun ls hl => ?_)
    rw [show 0 + 1 + k' + 2 = 1 + k' + 2 by omega, show 0 + 3 + n' + 6 = 3 + n' + 6 by omega]
    refine hL FU _ _ _ _ _ H3 locs3 ls hh ⟨hTK, hS3⟩ ⟨a, am, as, [], [], Z.G.eD, Z.G.eD, c1, [], hW, rfl, rfl, fun x hx => ?_, ?_, ⟨rfl, rfl, fun w hw => (by cases hw), fun w hw => (by cases hw)⟩, by simp [flat]⟩ (lv_sub hl [1, 0] rfl)
    · rcases hx with w | (w | w) | (w | w)
      · exact ⟨by omega, by omega⟩
      · exact ⟨by omega, by omega⟩
      · exact absurd w.2 (by show ¬ 10 ≤ 0; omega)
      · exact ⟨by omega, by omega⟩
      · exact absurd w.2 (by show ¬ 10 ≤ 0; omega)
    · refine (hT2.keep (fun x hx hxl => hfr3.2 x hxl (by show ¬ x = _; rcases hx with v | v <;> omega))).mono (fun x hx => ⟨⟨by omega, by have := hx.2; omega⟩, fun w => ?_⟩)
      rcases w with w | (w | w) | (w | w)
      · omega
      · have := hx.2; omega
      · exact absurd w.2 (by show ¬ 10 ≤ 0; omega)
      · have := hx.2; omega
      · exact absurd w.2 (by show ¬ 10 ≤ 0; omega)
set_option maxHeartbeats 2000000 in
theorem wT_sum (l : Launch) (Z : hZ) (q t : Nat) (one : yS → Option (tR tC)) (f L N : Nat) (gf : 12 ≤ f) (gL : 400 ≤ L) (hone : ∀ (S : yS) (r : tR tC) (n0 : Nat), one S = some r → mS l yX6_product cX6_product 3 f L Z q t S r N n0) (S : yS) (n0 : Nat) {r : tR tC} (hh : T_ch 43 45 one S = some r) : mS l yX6_sum cX6_sum 3 (f + 1) (L + 40) Z q t S r (N + 1) n0 := by
  refine goXr (by decide +kernel) (Nat.le_of_ble_eq_true rfl) (Or.inl ⟨_, rfl⟩) ?_
  intro p e s m args below meth cd Q ls X hret hthr hl hP hn hS hnm
  subst hn
  have hx := X.1.1
  have hbb := X.1.2.1
  have hts := X.1.2.2.2.2
  have lq := va_at_lt hP.1
  have lq1 := va_at_lt hP.2.1
  have lq2 := va_at_lt hP.2.2.1
  have lt_ := va_at_lt hP.2.2.2.1
  have hqb := hP.2.2.2.2.1
  have hsb := X.2.2.2
  have hF := hP.F
  have ntf : ∀ x, s.heap.size ≤ x ∨ x < Z.b → ¬ tF q x := by
    intro x hx w
    rcases w with rfl | rfl | rfl <;> omega
  replace hl : lv_has ls 3 [(0, .ref q)] := hl
  unfold T_ch at hh
  have hL : ∀ (fu : Nat) (c0 : tC) (mm : Nat) (S : yS) (k n : Nat) (H : Heap) (locs : List Loc) (ls : Array Slot), T_chL 43 45 one fu c0 mm S k n = some r → TKX Z q t S s H locs → CI Z N s.heap.size s.heap.size c0 mm H → lv_has ls 3 [(0, .ref q), (1, .ref s.heap.size)] → W p l e ({ frames := f + 1, cells := r.2.2.1, slots := r.2.2.2, locals := L + 40 } : Room) s m args below meth cd H locs k n Q (F0 m 12 ls []) := by
    intro fu
    induction fu with
    | zero => intro c0 mm S k n H locs ls hh; exact no_some hh
    | succ fu ih =>
      intro c0 mm S k n H locs ls hh hM hC hl
      have hge := T_chL_ge hh
      replace hh : gd (r32 (S.1 6)) (if S.1 6 = 43 ∨ S.1 6 = 45 then bd (T_next S) (fun S1 => tb (one S1) k n (fun c1 S2 k n => gd (capN mm < 40000) (T_chL 43 45 one fu (c0 ++ (c1 ++ [(sgO (S.1 6), 0)])) (mm + 1) S2 (k + (aC mm + aC mm)) (n + (aS mm + aS mm))))) else some (.inl c0, S, k, n)) = some r := hh
      obtain ⟨g1, hh⟩ := gd_inv hh
      have zH : s.heap.size ≤ H.size := hM.2.1
      have body : S.1 6 = 43 ∨ S.1 6 = 45 → W p l e ({ frames := f + 1, cells := r.2.2.1, slots := r.2.2.2, locals := L + 40 } : Room) s m args below meth cd H locs k n Q (F0 m 30 ls []) := by
        intro hs
        replace hh := it_t hs hh
        obtain ⟨S1, k1, hh⟩ := bd_inv hh
        refine lv_aload_n hx hbb dX6_sum_30 rfl (lv_at hl 0 rfl) ?_
        refine tm_get X hM tf_sort q554 rfl dX6_sum_31 ?_
        refine lv_istore_n (lv' := [(2, .int (zi (S.1 6))), (0, .ref q), (1, .ref s.heap.size)]) hx hbb dX6_sum_34 rfl hl (by decide) rfl (fun ls hl => ?_)
        refine lv_aload_n hx hbb dX6_sum_35 rfl (lv_at hl 1 rfl) ?_
        refine tk_next X hM k1 ⟨by show 7 ≤ f + 1; omega, by show 330 ≤ L + 40; omega⟩ hge hl.1 (Nat.le_of_ble_eq_true rfl) dX6_sum_36 (fun H1 locs1 hM1 hfr1 => ?_)
        have hC1 := hC.keep hfr1.1 (fun x hx hxl => hfr1.2 x hxl (ntf x (hx.elim (fun w => Or.inl w.1) Or.inr)))
        refine lv_aload_n hx hbb dX6_sum_39 rfl (lv_at hl 2 rfl) ?_
        refine lv_iload_n hx hbb dX6_sum_40 rfl (lv_at hl 0 rfl) ?_
        refine lv_aload_n hx hbb dX6_sum_41 rfl (lv_at hl 1 rfl) ?_
        rcases tb_inv hh with ⟨e1, S2, k', n', hone1, hr⟩ | ⟨c1, S2, k', n', hone1, hh⟩
        · subst hr
          refine tk_tree (rest := [.int (zi (S.1 6)), .ref s.heap.size]) X hM1 (hone S1 _ H1.size hone1) (lw_V q780 q782 qs24 q94 q783) (show hdV yX6_product "ManyEyes$Tokens" 0 by decide +kernel) ⟨Nat.le_refl _, by show 8 + (3 + 11) + L ≤ L + 40; omega⟩ ⟨Nat.le_refl _, Nat.le_refl _⟩ hl.1 (Nat.le_of_ble_eq_true rfl) dX6_sum_42 (fun c2 a H2 locs2 hc => by cases hc) (fun x H2 locs2 hx hS => ?_)
          exact hthr _ _ _ _ _ _ hx hS
        · obtain ⟨g2, hh⟩ := gd_inv hh
          have hge2 := T_chL_ge hh
          refine tk_tree (rest := [.int (zi (S.1 6)), .ref s.heap.size]) X hM1 (hone S1 _ H1.size hone1) (lw_V q780 q782 qs24 q94 q783) (show hdV yX6_product "ManyEyes$Tokens" 0 by decide +kernel) ⟨Nat.le_refl _, by show 8 + (3 + 11) + L ≤ L + 40; omega⟩ ⟨by show k + k' ≤ r.2.2.1; omega, by show n + n' ≤ r.2.2.2; omega⟩ hl.1 (Nat.le_of_ble_eq_true rfl) dX6_sum_42 (fun c2 a H2 locs2 hc hM2 hT2 hfr2 => ?_) (fun x H2 locs2 hx hS => by obtain ⟨f0, p0, hx, -⟩ := hx; cases hx)
          cases hc
          have hC2 := hC1.keep hfr2.1 (fun x hx hxl => hfr2.2 x hxl (ntf x (hx.elim (fun w => Or.inl w.1) Or.inr)))
          have hC1' := hC1
          obtain ⟨ff, am, as, L1, L2, em, es, cf, xs, h1, h2, h2', h3, h4, h5, h6⟩ := hC1
          have hown2 : ∀ x, cO_ s.heap.size am as (capN mm) em (capN mm) es x → x < H1.size := fun x hx => (h3 x hx).2
          have hk2 : ∀ x, rg s.heap.size H1.size x ∨ x < Z.b → x < H1.size → H2[x]? = H1[x]? := fun x hx hxl => hfr2.2 x hxl (ntf x (hx.elim (fun w => Or.inl w.1) Or.inr))
          have h1n : ChW Z s.heap.size ff am as L1 L2 (capN mm) em (capN mm) es H2 := h1.keep (fun x hx hxl => hk2 x (by
            rcases hx with w | w | w
            · exact Or.inl (h3 x w)
            · obtain ⟨c3, hc3⟩ := h5.all w
              exact Or.inl hc3.A.1
            · exact Or.inr (h1.below w)) hxl)
          have haA := hT2.A
          have hxo : ¬ cO_ s.heap.size am as (capN mm) em (capN mm) es a := fun w => by have := hown2 a w; omega
          have eC : acc L2 (capN mm) + acc L1 (capN mm) = aC mm + aC mm := by unfold acc aC; rw [h2, h2']
          have eS : acs L2 (capN mm) + acs L1 (capN mm) = aS mm + aS mm := by unfold acs aS; rw [h2, h2']
          have z12 := hfr1.1
          have z23 := hfr2.1
          refine hcV (As := [.int (zi (S.1 6)), .ref a]) (rest := []) X hM2.2 hF (w_chA l Z s.heap.size ff am as (capN mm) em (capN mm) es a (S.1 6) (by omega) L1 L2 g2 g2 hxo H2.size) ⟨h1n, hT2.any⟩ (fun x hx => Or.inr (by
            rcases hx with w | w
            · exact (h3 x (Or.inr (Or.inl w))).1
            · exact (h3 x (Or.inr (Or.inr w))).1)) (h1n.recv X.2) (lw_V q885 q886 q887 q104 q888) (show hdV yX10_add "ManyEyes$Chain" 2 by decide +kernel) ⟨rfl, rfl⟩ ⟨by show 9 + 1 ≤ f + 1; omega, by show 8 + (3 + 11) + 360 ≤ L + 40; omega⟩ ⟨by show k + k' + _ ≤ r.2.2.1; rw [eC]; omega, by show n + n' + _ ≤ r.2.2.2; rw [eS]; omega⟩ hl.1 (Nat.le_of_ble_eq_true rfl) dX6_sum_45 rfl (fun v H3 locs3 hv hfr3 hS3 => ?_)
          obtain ⟨rfl, em', es', hem, hes, h1F⟩ := hv
          rw [eC, eS]
          refine lv_goto (tgt := 12) hx hbb dX6_sum_48 (by decide) ?_
          have z34 := hfr3.1
          have hchb : ∀ x, chF am as (capN mm) em (capN mm) es x → s.heap.size ≤ x := fun x hx => by
            rcases hx with w | w
            · exact (h3 x (Or.inr (Or.inl w))).1
            · exact (h3 x (Or.inr (Or.inr w))).1
          have hTK : TKW Z q t S2 H3 := hM2.1.keep4 (fun x hx => hfr3.2 x (by
            rcases hx with rfl | rfl | rfl | rfl <;> omega) (fun w => by
            have := hchb x w
            rcases hx with rfl | rfl | rfl | rfl <;> omega))
          have ecap : ncap L1 (capN mm) = capN (mm + 1) := by unfold ncap; rw [h2]; rfl
          have ecap2 : ncap L2 (capN mm) = capN (mm + 1) := by unfold ncap; rw [h2']; rfl
          rw [ecap, ecap2] at h1F
          have hem' : H2.size ≤ em' ∨ (em' = em ∧ capN (mm + 1) = capN mm) := hem.elim (fun w => Or.inl w.2) (fun w => Or.inr ⟨w.2, by rw [← ecap]; unfold ncap; rw [if_neg w.1]⟩)
          have hes' : H2.size ≤ es' ∨ (es' = es ∧ capN (mm + 1) = capN mm) := hes.elim (fun w => Or.inl w.2) (fun w => Or.inr ⟨w.2, by rw [← ecap2]; unfold ncap; rw [if_neg w.1]⟩)
          have hownN : ∀ x, cO_ s.heap.size am as (capN (mm + 1)) em' (capN (mm + 1)) es' x → cO_ s.heap.size am as (capN mm) em (capN mm) es x ∨ H2.size ≤ x := by
            intro x hx
            rcases hx with w | (w | w) | (w | w)
            · exact Or.inl (Or.inl w)
            · exact Or.inl (Or.inr (Or.inl (Or.inl w)))
            · rcases hem' with v | ⟨v, v2⟩
              · exact Or.inr (by rw [w.1]; exact v)
              · exact Or.inl (Or.inr (Or.inl (Or.inr ⟨by rw [w.1, v], by rw [← v2]; exact w.2⟩)))
            · exact Or.inl (Or.inr (Or.inr (Or.inl w)))
            · rcases hes' with v | ⟨v, v2⟩
              · exact Or.inr (by rw [w.1]; exact v)
              · exact Or.inl (Or.inr (Or.inr (Or.inr ⟨by rw [w.1, v], by rw [← v2]; exact w.2⟩)))
          have lemN : em' < H3.size := by
            rcases h1F.2.1.2.2.1 with w | w
            · exact absurd w.2.2 (by simp)
            · exact va_at_lt w.2.2.2.2
          have lesN : es' < H3.size := by
            rcases h1F.2.2.1.2.2.1 with w | w
            · have := h1F.2.2.1.2.1; exact absurd w.2.2 (by simp)
            · exact va_at_lt w.2.2.2.2
          have hk3 : ∀ x, x < H2.size → ¬ cO_ s.heap.size am as (capN mm) em (capN mm) es x → H3[x]? = H2[x]? := fun x hxl hno => hfr3.2 x hxl (fun w => hno (Or.inr w))
          have tr : ∀ {c3 : tC} {y : Nat}, SumH Z N (fun x => rg s.heap.size H2.size x ∧ ¬ cO_ s.heap.size am as (capN mm) em (capN mm) es x) H2 c3 y → SumH Z N (fun x => rg s.heap.size H3.size x ∧ ¬ cO_ s.heap.size am as (capN (mm + 1)) em' (capN (mm + 1)) es' x) H3 c3 y := fun w => (w.keep (fun x hx hxl => hk3 x hxl (by
              rcases hx with v | v
              · exact v.2
              · intro u
                have := (h3 x u).1
                omega))).mono (fun x hx => ⟨⟨hx.1.1, by have := hx.1.2; omega⟩, fun u => by
              rcases hownN x u with v | v
              · exact hx.2 v
              · have := hx.1.2; omega⟩)
          have t12 : ∀ {c3 : tC} {y : Nat}, SumH Z N (fun x => rg s.heap.size H1.size x ∧ ¬ cO_ s.heap.size am as (capN mm) em (capN mm) es x) H1 c3 y → SumH Z N (fun x => rg s.heap.size H2.size x ∧ ¬ cO_ s.heap.size am as (capN mm) em (capN mm) es x) H2 c3 y := fun w => (w.keep (fun x hx hxl => hk2 x (hx.elim (fun v => Or.inl v.1) Or.inr) hxl)).mono (fun x hx => ⟨⟨hx.1.1, by have := hx.1.2; omega⟩, hx.2⟩)
          have hTa : SumH Z N (fun x => rg s.heap.size H2.size x ∧ ¬ cO_ s.heap.size am as (capN mm) em (capN mm) es x) H2 c1 a := hT2.mono (fun x hx => ⟨⟨by omega, hx.2⟩, fun w => by have := hown2 x w; omega⟩)
          refine ih _ _ _ _ _ H3 locs3 ls hh ⟨hTK, hS3⟩ ⟨ff, am, as, L1 ++ [a], L2 ++ [Z.G.ad (S.1 6 + 128).toNat], em', es', cf, xs ++ [(S.1 6, c1)], h1F, by simp [h2], by simp [h2'], fun x hx => ?_, tr (t12 h4), ⟨by simp [h5.1], by simp [h5.2.1], ?_, ?_⟩, ?_⟩ (lv_sub hl [1, 2] rfl)
          · rcases hx with w | (w | w) | (w | w)
            · exact ⟨by omega, by omega⟩
            · have := h3 x (Or.inr (Or.inl (Or.inl w))); exact ⟨this.1, by omega⟩
            · rw [w.1]; exact ⟨by rcases hownN x (Or.inr (Or.inl (Or.inr w))) with v | v; (have := h3 x v; omega); omega, lemN⟩
            · have := h3 x (Or.inr (Or.inr (Or.inl w))); exact ⟨this.1, by omega⟩
            · rw [w.1]; exact ⟨by rcases hownN x (Or.inr (Or.inr (Or.inr w))) with v | v; (have := h3 x v; omega); omega, lesN⟩
          · intro w hw
            rw [List.zip_append h5.1] at hw
            rcases List.mem_append.mp hw with v | v
            · exact tr (t12 (h5.2.2.1 w v))
            · have : w = ((S.1 6, c1), a) := by simpa using v
              rw [this]
              exact tr hTa
          · intro w hw
            rcases List.mem_append.mp hw with v | v
            · exact h5.2.2.2 w v
            · rw [List.mem_singleton.mp v]
              show S.1 6 = 42 ∨ S.1 6 = 43 ∨ S.1 6 = 45 ∨ S.1 6 = 47
              omega
          · rw [flat_app, h6, List.append_assoc]
      refine lv_aload_n hx hbb dX6_sum_12 rfl (lv_at hl 0 rfl) ?_
      refine tm_get X hM tf_sort q554 rfl dX6_sum_13 ?_
      refine lv_bipush (v := zi 43) hx hbb dX6_sum_16 (by decide) ?_
      refine g_icmp_eq (tgt := 30) hx hbb ⟨g1, by decide⟩ dX6_sum_18 (by decide) (fun c1 => body (Or.inl c1)) (fun c1 => ?_)
      refine lv_aload_n hx hbb dX6_sum_21 rfl (lv_at hl 0 rfl) ?_
      refine tm_get X hM tf_sort q554 rfl dX6_sum_22 ?_
      refine lv_bipush (v := zi 45) hx hbb dX6_sum_25 (by decide) ?_
      refine g_icmp_ne (tgt := 51) hx hbb ⟨g1, by decide⟩ dX6_sum_27 (by decide) (fun c2 => body (Or.inr c2)) (fun c2 => ?_)
      replace hh := it_f (fun w => w.elim c1 c2) hh
      cases Option.some.inj hh
      obtain ⟨ff, am, as, L1, L2, em, es, h1, h2⟩ := hC.done
      refine lv_aload_n hx hbb dX6_sum_51 rfl (lv_at hl 1 rfl) ?_
      refine hcV (As := []) (rest := []) X hM.2 hF (w_chIt l Z s.heap.size ff am as (capN mm) em (capN mm) es L1 L2 H.size) h1 (fun x h => h.elim) (h1.recv X.2) (lw_V q910 q911 q912 q104 q913) (show hdV yX10_itself "ManyEyes$Chain" 0 by decide +kernel) ⟨rfl, rfl⟩ ⟨by show 2 + 1 ≤ f + 1; omega, by show 8 + (1 + 11) + 80 ≤ L + 40; omega⟩ ⟨Nat.le_refl _, Nat.le_refl _⟩ hl.1 (Nat.le_of_ble_eq_true rfl) dX6_sum_52 rfl (fun v H1 locs1 hv hfr1 hS1 => ?_)
      subst hv
      have kk : ∀ x, x < H.size → H1[x]? = H[x]? := fun x hx => hfr1.2 x hx (fun w => w)
      exact hret _ _ _ _ _ dX6_sum_55 ⟨c0, _, rfl, rfl, hM.1.keep kk, (h2.keep (fun x _ hxl => kk x hxl)).mono (fun x hx => ⟨hx.1, by have := hfr1.1; have := hx.2; omega⟩)⟩ hS1
  have hcost : 1 ≤ r.2.2.1 ∧ 3 ≤ r.2.2.2 := by
    rcases tb_inv hh with ⟨e1, S2, k', n', hone1, hr⟩ | ⟨c1, S2, k', n', hone1, hh⟩
    · rw [hr]; exact ⟨by show 1 ≤ 1 + k'; omega, by show 3 ≤ 3 + n'; omega⟩
    · have := T_chL_ge hh; omega
  refine h_new X.1 X.2.1 hS (fun q h => Or.inr h) (ci := 4) rfl in_X10 tyX10 tyX10_ok q778 q779 q104 fsX10 hcost.1 hcost.2 dX6_sum_0 (fun H1 hN z1 o1 hS1 => ?_)
  have hM1 : TKX Z q t S s H1 [] := ⟨hP.keep o1, hS1⟩
  refine lv_dup hx hbb dX6_sum_3 rfl ?_
  refine lv_aload_n hx hbb dX6_sum_4 rfl (lv_at hl 0 rfl) ?_
  rcases tb_inv hh with ⟨e1, S2, k', n', hone1, hr⟩ | ⟨c1, S2, k', n', hone1, hh⟩
  · subst hr
    refine tk_tree (rest := [.ref s.heap.size, .ref s.heap.size]) X hM1 (hone S _ H1.size hone1) (lw_V q780 q782 qs24 q94 q783) (show hdV yX6_product "ManyEyes$Tokens" 0 by decide +kernel) ⟨Nat.le_refl _, by show 8 + (3 + 11) + L ≤ L + 40; omega⟩ ⟨by show 0 + 1 + k' ≤ 1 + k'; omega, by show 0 + 3 + n' ≤ 3 + n'; omega⟩ hl.1 (Nat.le_of_ble_eq_true rfl) dX6_sum_5 (fun c2 a H2 locs2 hc => by cases hc) (fun x H2 locs2 hx hS => ?_)
    rw [show 0 + 1 + k' = 1 + k' by omega, show 0 + 3 + n' = 3 + n' by omega]
    exact hthr _ _ _ _ _ _ hx hS
  · have hge := T_chL_ge hh
    refine tk_tree (rest := [.ref s.heap.size, .ref s.heap.size]) X hM1 (hone S _ H1.size hone1) (lw_V q780 q782 qs24 q94 q783) (show hdV yX6_product "ManyEyes$Tokens" 0 by decide +kernel) ⟨Nat.le_refl _, by show 8 + (3 + 11) + L ≤ L + 40; omega⟩ ⟨by show 0 + 1 + k' ≤ r.2.2.1; omega, by show 0 + 3 + n' ≤ r.2.2.2; omega⟩ hl.1 (Nat.le_of_ble_eq_true rfl) dX6_sum_5 (fun c2 a H2 locs2 hc hM2 hT2 hfr2 => ?_) (fun x H2 locs2 hx hS => by obtain ⟨f0, p0, hx, -⟩ := hx; cases hx)
    cases hc
    have hN2 := va_at_keep hN (hfr2.2 s.heap.size (by omega) (ntf _ (Or.inl (Nat.le_refl _))))
    have z2 := hfr2.1
    refine hcI (As := [.ref a]) (rest := [.ref s.heap.size]) (b := s.heap.size) X hM2.2 hF (w_chI l Z s.heap.size a X.2.2.2 H2.size) hN2 (fun x h => Or.inr (by rw [h]; exact Nat.le_refl _)) (cwI 1 hts (lw_meth q871) rfl rfl rfl (hts _ q104) (hts _ q869) (hts _ q870) rfl (show hdS yX10_init 1 by decide +kernel) ⟨by show 6 + 1 ≤ f + 1; omega, by show 8 + (2 + 11) + 200 ≤ L + 40; omega⟩) ⟨rfl, rfl⟩ ⟨by show 6 + 1 ≤ f + 1; omega, by show 8 + (2 + 11) + 200 ≤ L + 40; omega⟩ ⟨by show 0 + 1 + k' + 2 ≤ r.2.2.1; omega, by show 0 + 3 + n' + 6 ≤ r.2.2.2; omega⟩ hl.1 (Nat.le_of_ble_eq_true rfl) dX6_sum_8 rfl (fun v H3 locs3 hv hfr3 hS3 => ?_)
    obtain ⟨rfl, am, as, ham, has, hW⟩ := hv
    have z3 := hfr3.1
    have lam := va_at_lt hW.2.1.2.1.choose_spec
    have las := va_at_lt hW.2.2.1.2.1.choose_spec
    have hTK : TKW Z q t S2 H3 := hM2.1.keep4 (fun x hx => hfr3.2 x (by rcases hx with rfl | rfl | rfl | rfl <;> omega) (by show ¬ x = _; rcases hx with rfl | rfl | rfl | rfl <;> omega))
    refine lv_astore_n (lv' := [(1, .ref s.heap.size), (0, .ref q)]) hx hbb dX6_sum_11 rfl hl (by decide) rfl (fun ls hl => ?_)
    rw [show 0 + 1 + k' + 2 = 1 + k' + 2 by omega, show 0 + 3 + n' + 6 = 3 + n' + 6 by omega]
    refine hL FU _ _ _ _ _ H3 locs3 ls hh ⟨hTK, hS3⟩ ⟨a, am, as, [], [], Z.G.eD, Z.G.eD, c1, [], hW, rfl, rfl, fun x hx => ?_, ?_, ⟨rfl, rfl, fun w hw => (by cases hw), fun w hw => (by cases hw)⟩, by simp [flat]⟩ (lv_sub hl [1, 0] rfl)
    · rcases hx with w | (w | w) | (w | w)
      · exact ⟨by omega, by omega⟩
      · exact ⟨by omega, by omega⟩
      · exact absurd w.2 (by show ¬ 10 ≤ 0; omega)
      · exact ⟨by omega, by omega⟩
      · exact absurd w.2 (by show ¬ 10 ≤ 0; omega)
    · refine (hT2.keep (fun x hx hxl => hfr3.2 x hxl (by show ¬ x = _; rcases hx with v | v <;> omega))).mono (fun x hx => ⟨⟨by omega, by have := hx.2; omega⟩, fun w => ?_⟩)
      rcases w with w | (w | w) | (w | w)
      · omega
      · have := hx.2; omega
      · exact absurd w.2 (by show ¬ 10 ≤ 0; omega)
      · have := hx.2; omega
      · exact absurd w.2 (by show ¬ 10 ≤ 0; omega)
