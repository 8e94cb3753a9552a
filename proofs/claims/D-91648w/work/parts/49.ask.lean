set_option maxRecDepth 100000
def T_nt1 : tC → yS → Nat → Nat → Option (tR tC) := fun c S k n => some (.inl (c ++ [(20, 0)]), cfs S 8 (S.1 8 - 1), k, n)
def T_nt0 (ask : yS → Option (tR tC)) : Unit → yS → Nat → Nat → Option (tR tC) := fun _ S k n => tb (ask S) (k + 1) (n + 1) T_nt1
def T_cm1 (s : Int) (c1 : tC) : tC → yS → Nat → Nat → Option (tR tC) := fun c2 S k n => some (.inl (c1 ++ c2 ++ [(cmO s, 0)]), S, k, n)
def T_cm0 (sum : yS → Option (tR tC)) : tC → yS → Nat → Nat → Option (tR tC) := fun c1 S k n => gd (r32 (S.1 6)) (if isCm (S.1 6) then bd (T_next S) (fun S1 => tb (sum S1) (k + 1) (n + 3) (T_cm1 (S.1 6) c1)) else some (.inr (1, S.1 5), S, k + 1, n + 8))
def T_askB (sum ask : yS → Option (tR tC)) (S : yS) : Option (tR tC) := gd (r32 (S.1 6)) (if S.1 6 = 206 then tb (lE (T_opens S)) 0 0 (T_nt0 ask) else tb (sum S) 0 0 (T_cm0 sum))
def T_ask (sum : yS → Option (tR tC)) : Nat → yS → Option (tR tC)
  | 0 => fun _ => none
  | d + 1 => T_askB sum (T_ask sum d)
theorem mon_nt1 : monF T_nt1 := fun _ _ _ _ _ h => by cases Option.some.inj h; exact ⟨Nat.le_refl _, Nat.le_refl _⟩
theorem mon_nt0 (ask : yS → Option (tR tC)) : monF (T_nt0 ask) := fun _ _ k n _ h => by have := tb_mon mon_nt1 h; omega
theorem mon_cm1 (s : Int) (c : tC) : monF (T_cm1 s c) := fun _ _ _ _ _ h => by cases Option.some.inj h; exact ⟨Nat.le_refl _, Nat.le_refl _⟩
theorem mon_cm0 (sum : yS → Option (tR tC)) : monF (T_cm0 sum) := fun c S k n r h => by
  unfold T_cm0 at h
  obtain ⟨g1, h⟩ := gd_inv h
  by_cases hs : isCm (S.1 6)
  · replace h := it_t hs h
    obtain ⟨S1, k1, h⟩ := bd_inv h
    have := tb_mon (mon_cm1 (S.1 6) c) h
    omega
  · replace h := it_f hs h
    cases Option.some.inj h
    exact ⟨Nat.le_add_right _ _, Nat.le_add_right _ _⟩
def T_lsL (sg : Int) (b : Bool) (ask : yS → Option (tR tC)) : Nat → List tC → yS → Nat → Nat → Option (tR tC)
  | 0 => fun _ _ _ _ => none
  | fu + 1 => fun cs S k n => gd (r32 (S.1 6)) (if S.1 6 = sg then bd (T_next S) (fun S1 => tb (ask S1) k n (fun c S2 k n => gd (capN cs.length < 40000) (T_lsL sg b ask fu (cs ++ [c]) S2 (k + aC cs.length) (n + aS cs.length)))) else if cs.length = 1 then some (.inl (joinA b cs), S, k, n) else some (.inl (joinA b cs), S, k + 1, n + 2))
def T_ls (sg : Int) (b : Bool) (ask : yS → Option (tR tC)) (S : yS) : Option (tR tC) := tb (ask S) 1 3 (fun c S k n => T_lsL sg b ask FU [c] S (k + aC 0) (n + aS 0))
theorem T_lsL_ge {sg : Int} {b : Bool} {ask : yS → Option (tR tC)} : ∀ {fu : Nat} {cs : List tC} {S : yS} {k n : Nat} {r : tR tC}, T_lsL sg b ask fu cs S k n = some r → k ≤ r.2.2.1 ∧ n ≤ r.2.2.2 := by
  intro fu
  induction fu with
  | zero => intro cs S k n r h; exact no_some h
  | succ fu ih =>
    intro cs S k n r h
    replace h : gd (r32 (S.1 6)) (if S.1 6 = sg then bd (T_next S) (fun S1 => tb (ask S1) k n (fun c S2 k n => gd (capN cs.length < 40000) (T_lsL sg b ask fu (cs ++ [c]) S2 (k + aC cs.length) (n + aS cs.length)))) else if cs.length = 1 then some (.inl (joinA b cs), S, k, n) else some (.inl (joinA b cs), S, k + 1, n + 2)) = some r := h
    obtain ⟨g1, h⟩ := gd_inv h
    by_cases hs : S.1 6 = sg
    · replace h := it_t hs h
      obtain ⟨S1, k1, h⟩ := bd_inv h
      rcases tb_inv h with ⟨e1, S2, k', n', -, hr⟩ | ⟨c1, S2, k', n', -, h⟩
      · rw [hr]; exact ⟨Nat.le_add_right _ _, Nat.le_add_right _ _⟩
      · obtain ⟨g2, h⟩ := gd_inv h
        have := ih h
        omega
    · replace h := it_f hs h
      by_cases hc : cs.length = 1
      · replace h := it_t hc h
        cases Option.some.inj h
        exact ⟨Nat.le_refl _, Nat.le_refl _⟩
      · replace h := it_f hc h
        cases Option.some.inj h
        exact ⟨Nat.le_add_right _ _, Nat.le_add_right _ _⟩
/-- a list of asks that is being made -/
def LI (Z : hZ) (N n0 lst : Nat) (cs : List tC) (H : Heap) : Prop := ∃ (L : List Nat) (ed : Nat), Lst Z lst L (capN cs.length) ed H ∧ cs.length = L.length ∧ (∀ x, lF lst (capN cs.length) ed x → rg n0 H.size x) ∧ ∀ w ∈ cs.zip L, AskH Z N (fun x => rg n0 H.size x ∧ ¬ lF lst (capN cs.length) ed x) H w.1 w.2
theorem LI.keep {Z : hZ} {N n0 lst : Nat} {cs : List tC} {H H1 : Heap} (h : LI Z N n0 lst cs H) (hz : H.size ≤ H1.size) (hk : ∀ x, rg n0 H.size x ∨ x < Z.b → x < H.size → H1[x]? = H[x]?) : LI Z N n0 lst cs H1 := by
  obtain ⟨L, ed, h1, h2, h3, h4⟩ := h
  refine ⟨L, ed, h1.keep (fun x hx hl => hk x (Or.inl ?_) hl), h2, fun x hx => ⟨(h3 x hx).1, Nat.lt_of_lt_of_le (h3 x hx).2 hz⟩, fun w hw => ((h4 w hw).keep (fun x hx hl => hk x (hx.elim (fun v => Or.inl v.1) Or.inr) hl)).mono (fun x hx => ⟨⟨hx.1.1, Nat.lt_of_lt_of_le hx.1.2 hz⟩, hx.2⟩)⟩
  rcases hx with w | w | w
  · exact h3 x (Or.inl w)
  · exact h3 x (Or.inr w)
  · obtain ⟨c0, hc⟩ := zip_all h2 h4 w
    exact hc.A.1
/-- a list grows by one -/
theorem LI.add {Z : hZ} {N n0 lst a : Nat} {cs : List tC} {c : tC} {H H1 : Heap} {L : List Nat} {ed ed' : Nat} (hn : Z.b ≤ n0) (h1 : Lst Z lst L (capN cs.length) ed H) (h2 : cs.length = L.length) (h3 : ∀ x, lF lst (capN cs.length) ed x → rg n0 H.size x) (h4 : ∀ w ∈ cs.zip L, AskH Z N (fun x => rg n0 H.size x ∧ ¬ lF lst (capN cs.length) ed x) H w.1 w.2) (ha : AskH Z N (fun x => rg n0 H.size x ∧ ¬ lF lst (capN cs.length) ed x) H c a) (hed : edN L (capN cs.length) ed H.size ed') (hN : Lst Z lst (L ++ [a]) (ncap L (capN cs.length)) ed' H1) (hz : H.size ≤ H1.size) (hk : ∀ x, x < H.size → ¬ lF lst (capN cs.length) ed x → H1[x]? = H[x]?) : LI Z N n0 lst (cs ++ [c]) H1 := by
  have ecap : ncap L (capN cs.length) = capN (cs ++ [c]).length := by
    rw [List.length_append]; unfold ncap; rw [← h2]; rfl
  rw [ecap] at hN
  have lem : ed' < H1.size := by
    rcases hN.2.2.1 with w | w
    · exact absurd w.2.2 (by simp)
    · exact va_at_lt w.2.2.2.2
  have hed' : H.size ≤ ed' ∨ (ed' = ed ∧ capN (cs ++ [c]).length = capN cs.length) := hed.elim (fun w => Or.inl w.2) (fun w => Or.inr ⟨w.2, by rw [← ecap]; unfold ncap; rw [if_neg w.1]⟩)
  have hown : ∀ x, lF lst (capN (cs ++ [c]).length) ed' x → lF lst (capN cs.length) ed x ∨ H.size ≤ x := by
    intro x hx
    rcases hx with w | w
    · exact Or.inl (Or.inl w)
    · rcases hed' with v | ⟨v, v2⟩
      · exact Or.inr (by rw [w.1]; exact v)
      · exact Or.inl (Or.inr ⟨by rw [w.1, v], by rw [← v2]; exact w.2⟩)
  have tr : ∀ {c3 : tC} {y : Nat}, AskH Z N (fun x => rg n0 H.size x ∧ ¬ lF lst (capN cs.length) ed x) H c3 y → AskH Z N (fun x => rg n0 H1.size x ∧ ¬ lF lst (capN (cs ++ [c]).length) ed' x) H1 c3 y := fun w => (w.keep (fun x hx hxl => hk x hxl (by
      rcases hx with v | v
      · exact v.2
      · intro u
        have := (h3 x u).1
        omega))).mono (fun x hx => ⟨⟨hx.1.1, by have := hx.1.2; omega⟩, fun u => by
      rcases hown x u with v | v
      · exact hx.2 v
      · have := hx.1.2; omega⟩)
  refine ⟨L ++ [a], ed', hN, by simp [h2], fun x hx => ?_, fun w hw => ?_⟩
  · rcases hown x hx with v | v
    · have := h3 x v; exact ⟨this.1, by omega⟩
    · rcases hx with u | u
      · have := h3 x (Or.inl u); omega
      · have h0 := h3 lst (Or.inl rfl)
        exact ⟨by omega, by rw [u.1]; exact lem⟩
  · rw [List.zip_append h2] at hw
    rcases List.mem_append.mp hw with v | v
    · exact tr (h4 w v)
    · have : w = (c, a) := by simpa using v
      rw [this]
      exact tr ha
set_option maxHeartbeats 2000000 in
theorem wT_both (l : Launch) (Z : hZ) (q t : Nat) (ask : yS → Option (tR tC)) (f L N : Nat) (gf : 12 ≤ f) (gL : 400 ≤ L) (hask : ∀ (S : yS) (r : tR tC) (n0 : Nat), ask S = some r → mK l yX6_ask cX6_ask 3 f L Z q t S r N n0) (S : yS) (n0 : Nat) {r : tR tC} (hh : T_ls 205 true ask S = some r) : mK l yX6_both cX6_both 2 (f + 1) (L + 40) Z q t S r (N + 1) n0 := by
  refine goXr (by decide +kernel) (Nat.le_of_ble_eq_true rfl) (Or.inl ⟨_, rfl⟩) ?_
  intro p e s m args below meth cd Q ls X hret hthr hl hP hn hS hnm
  subst hn
  have hx := X.1.1
  have hbb := X.1.2.1
  have hts := X.1.2.2.2.2
  have lq := va_at_lt hP.1
  have lq1 := va_at_lt hP.2.1
  have lq2 := va_at_lt hP.2.2.1
  have lt_ := va_at_lt hP.2.2.2.1
  have hqb := hP.2.2.2.2.1
  have hsb := X.2.2.2
  have hF := hP.F
  have ntf : ∀ x, s.heap.size ≤ x ∨ x < Z.b → ¬ tF q x := by
    intro x hx w
    rcases w with rfl | rfl | rfl <;> omega
  replace hl : lv_has ls 2 [(0, .ref q)] := hl
  unfold T_ls at hh
  have hL : ∀ (fu : Nat) (cs : List tC) (S : yS) (k n : Nat) (H : Heap) (locs : List Loc) (ls : Array Slot), T_lsL 205 true ask fu cs S k n = some r → TKX Z q t S s H locs → LI Z N s.heap.size s.heap.size cs H → 1 ≤ cs.length → lv_has ls 2 [(0, .ref q), (1, .ref s.heap.size)] → W p l e ({ frames := f + 1, cells := r.2.2.1, slots := r.2.2.2, locals := L + 40 } : Room) s m args below meth cd H locs k n Q (F0 m 17 ls []) := by
    intro fu
    induction fu with
    | zero => intro cs S k n H locs ls hh; exact no_some hh
    | succ fu ih =>
      intro cs S k n H locs ls hh hM hC hcs hl
      have hge := T_lsL_ge hh
      replace hh : gd (r32 (S.1 6)) (if S.1 6 = 205 then bd (T_next S) (fun S1 => tb (ask S1) k n (fun c S2 k n => gd (capN cs.length < 40000) (T_lsL 205 true ask fu (cs ++ [c]) S2 (k + aC cs.length) (n + aS cs.length)))) else if cs.length = 1 then some (.inl (joinA true cs), S, k, n) else some (.inl (joinA true cs), S, k + 1, n + 2)) = some r := hh
      obtain ⟨g1, hh⟩ := gd_inv hh
      have zH : s.heap.size ≤ H.size := hM.2.1
      refine lv_aload_n hx hbb dX6_both_17 rfl (lv_at hl 0 rfl) ?_
      refine tm_get X hM tf_sort q554 rfl dX6_both_18 ?_
      refine lv_sipush (v := zi 205) hx hbb dX6_both_21 (by decide) ?_
      refine g_icmp_ne (tgt := 43) hx hbb ⟨g1, by decide⟩ dX6_both_24 (by decide) (fun c1 => ?_) (fun c1 => ?_)
      · replace hh := it_t c1 hh
        obtain ⟨S1, k1, hh⟩ := bd_inv hh
        refine lv_aload_n hx hbb dX6_both_27 rfl (lv_at hl 0 rfl) ?_
        refine tk_next X hM k1 ⟨by show 7 ≤ f + 1; omega, by show 330 ≤ L + 40; omega⟩ hge hl.1 (Nat.le_of_ble_eq_true rfl) dX6_both_28 (fun H1 locs1 hM1 hfr1 => ?_)
        have hC1 := hC.keep hfr1.1 (fun x hx hxl => hfr1.2 x hxl (ntf x (hx.elim (fun w => Or.inl w.1) Or.inr)))
        refine lv_aload_n hx hbb dX6_both_31 rfl (lv_at hl 1 rfl) ?_
        refine lv_aload_n hx hbb dX6_both_32 rfl (lv_at hl 0 rfl) ?_
        rcases tb_inv hh with ⟨e1, S2, k', n', hone1, hr⟩ | ⟨c1', S2, k', n', hone1, hh⟩
        · subst hr
          refine tk_ask (rest := [.ref s.heap.size]) X hM1 (hask S1 _ H1.size hone1) (lw_V q753 q755 qs21 q94 q756) (show hdV yX6_ask "ManyEyes$Tokens" 0 by decide +kernel) ⟨Nat.le_refl _, by show 8 + (3 + 11) + L ≤ L + 40; omega⟩ ⟨Nat.le_refl _, Nat.le_refl _⟩ hl.1 (Nat.le_of_ble_eq_true rfl) dX6_both_33 (fun c2 a H2 locs2 hc => by cases hc) (fun x H2 locs2 hx hS => ?_)
          exact hthr _ _ _ _ _ _ hx hS
        · obtain ⟨g2, hh⟩ := gd_inv hh
          have hge2 := T_lsL_ge hh
          refine tk_ask (rest := [.ref s.heap.size]) X hM1 (hask S1 _ H1.size hone1) (lw_V q753 q755 qs21 q94 q756) (show hdV yX6_ask "ManyEyes$Tokens" 0 by decide +kernel) ⟨Nat.le_refl _, by show 8 + (3 + 11) + L ≤ L + 40; omega⟩ ⟨by show k + k' ≤ r.2.2.1; omega, by show n + n' ≤ r.2.2.2; omega⟩ hl.1 (Nat.le_of_ble_eq_true rfl) dX6_both_33 (fun c2 a H2 locs2 hc hM2 hT2 hfr2 => ?_) (fun x H2 locs2 hx hS => by obtain ⟨f0, p0, hx, -⟩ := hx; cases hx)
          cases hc
          obtain ⟨LL, ed, h1, h2, h3, h4⟩ := hC1
          have z12 := hfr2.1
          have hk2 : ∀ x, rg s.heap.size H1.size x ∨ x < Z.b → x < H1.size → H2[x]? = H1[x]? := fun x hx hxl => hfr2.2 x hxl (ntf x (hx.elim (fun w => Or.inl w.1) Or.inr))
          have zz1 : s.heap.size ≤ H1.size := hM1.2.1
          have h1n : Lst Z s.heap.size LL (capN cs.length) ed H2 := h1.keep (fun x hx hxl => hk2 x (Or.inl (by
            rcases hx with w | w | w
            · exact h3 x (Or.inl w)
            · exact h3 x (Or.inr w)
            · obtain ⟨c3, hc3⟩ := zip_all h2 h4 w
              exact hc3.A.1)) hxl)
          have h3n : ∀ x, lF s.heap.size (capN cs.length) ed x → rg s.heap.size H2.size x := fun x hx => ⟨(h3 x hx).1, by have := (h3 x hx).2; omega⟩
          have h4n : ∀ w ∈ cs.zip LL, AskH Z N (fun x => rg s.heap.size H2.size x ∧ ¬ lF s.heap.size (capN cs.length) ed x) H2 w.1 w.2 := fun w hw => ((h4 w hw).keep (fun x hx hxl => hk2 x (hx.elim (fun v => Or.inl v.1) Or.inr) hxl)).mono (fun x hx => ⟨⟨hx.1.1, by have := hx.1.2; omega⟩, hx.2⟩)
          have han : AskH Z N (fun x => rg s.heap.size H2.size x ∧ ¬ lF s.heap.size (capN cs.length) ed x) H2 c1' a := hT2.mono (fun x hx => ⟨⟨by omega, hx.2⟩, fun w => by have := (h3 x w).2; omega⟩)
          have eC : acc LL (capN cs.length) = aC cs.length := by unfold acc aC; rw [← h2]
          have eS : acs LL (capN cs.length) = aS cs.length := by unfold acs aS; rw [← h2]
          refine hcV (As := [.ref a]) (rest := []) X hM2.2 hF (w_add l Z s.heap.size (capN cs.length) ed a LL g2 H2.size) ⟨h1n, hT2.any⟩ (fun x hx => Or.inr (h3 x hx).1) (h1n.recv X.2) (lw_V q934 q318 q319 q84 q320) (show hdV yJ2_add "java/util/ArrayList" 1 by decide +kernel) ⟨rfl, rfl⟩ ⟨by show 8 + 1 ≤ f + 1; omega, by show 8 + (2 + 11) + 320 ≤ L + 40; omega⟩ ⟨by show k + k' + acc LL (capN cs.length) ≤ r.2.2.1; rw [eC]; exact hge2.1, by show n + n' + acs LL (capN cs.length) ≤ r.2.2.2; rw [eS]; exact hge2.2⟩ hl.1 (Nat.le_of_ble_eq_true rfl) dX6_both_36 rfl (fun v H3 locs3 hv hfr3 hS3 => ?_)
          obtain ⟨rfl, ed', hed, hNN⟩ := hv
          rw [eC, eS]
          refine lv_pop hx hbb dX6_both_39 rfl ?_
          have hC3 := LI.add hsb h1n h2 h3n h4n han hed hNN hfr3.1 (fun x hxl hno => hfr3.2 x hxl hno)
          have z34 := hfr3.1
          have hTK : TKW Z q t S2 H3 := hM2.1.keep4 (fun x hx => hfr3.2 x (by
            rcases hx with rfl | rfl | rfl | rfl <;> omega) (fun w => by
            have := (h3 x w).1
            rcases hx with rfl | rfl | rfl | rfl <;> omega))
          refine lv_goto (tgt := 17) hx hbb dX6_both_40 (by decide) ?_
          exact ih _ _ _ _ H3 locs3 ls hh ⟨hTK, hS3⟩ hC3 (by simp) hl
      · replace hh := it_f c1 hh
        obtain ⟨LL, ed, h1, h2, h3, h4⟩ := hC
        refine lv_aload_n hx hbb dX6_both_43 rfl (lv_at hl 1 rfl) ?_
        refine hcV (As := []) (rest := []) X hM.2 hF (w_size l Z s.heap.size (capN cs.length) ed LL H.size) h1 (fun x h => h.elim) (h1.recv X.2) (lw_V q716 q300 q301 q84 q302) (show hdV yJ2_size "java/util/ArrayList" 0 by decide +kernel) ⟨rfl, rfl⟩ ⟨by show 1 + 1 ≤ f + 1; omega, by show 8 + (1 + 11) + 40 ≤ L + 40; omega⟩ hge hl.1 (Nat.le_of_ble_eq_true rfl) dX6_both_44 rfl (fun v H1 locs1 hv hfr1 hS1 => ?_)
        subst hv
        have kk : ∀ x, x < H.size → H1[x]? = H[x]? := fun x hx => hfr1.2 x hx (fun w => w)
        have z1 := hfr1.1
        have h1' := h1.keep (fun x _ hxl => kk x hxl)
        have hszL := h1.size_lt
        have hM1 : TKX Z q t S s H1 locs1 := ⟨hM.1.keep kk, hS1⟩
        refine lv_iconst (v := zi 1) hx hbb dX6_both_47 rfl ?_
        refine g_icmp_ne (tgt := 62) hx hbb (show r32 (LL.length : Int) ∧ r32 1 by unfold r32; omega) dX6_both_48 (by decide) (fun c2 => ?_) (fun c2 => ?_)
        · have hc1 : cs.length = 1 := by omega
          replace hh := it_t hc1 hh
          cases Option.some.inj hh
          obtain ⟨a0, hLL⟩ : ∃ a0, LL = [a0] := List.length_eq_one_iff.mp (by omega)
          obtain ⟨c0, hcs0⟩ : ∃ c0, cs = [c0] := List.length_eq_one_iff.mp hc1
          subst hLL hcs0
          refine lv_aload_n hx hbb dX6_both_51 rfl (lv_at hl 1 rfl) ?_
          refine lv_iconst (v := zi 0) hx hbb dX6_both_52 rfl ?_
          refine hcV (As := [.int (zi 0)]) (rest := []) X hS1 hF (w_lget l Z s.heap.size _ ed [a0] 0 a0 ⟨Int.le_refl _, rfl⟩ H1.size) h1' (fun x h => h.elim) (h1'.recv X.2) (lw_V q935 q304 q305 q84 q306) (show hdV yJ2_get "java/util/ArrayList" 1 by decide +kernel) ⟨rfl, rfl⟩ ⟨by show 3 + 1 ≤ f + 1; omega, by show 8 + (2 + 11) + 120 ≤ L + 40; omega⟩ hge hl.1 (Nat.le_of_ble_eq_true rfl) dX6_both_53 rfl (fun v H2 locs2 hv hfr2 hS2 => ?_)
          subst hv
          have z2 := hfr2.1
          have kk2 : ∀ x, x < H.size → H2[x]? = H[x]? := fun x hx => (hfr2.2 x (by omega) (fun w => w)).trans (kk x hx)
          have hT2 : AskH Z N (rg s.heap.size H2.size) H2 c0 a0 := ((h4 (c0, a0) (by simp)).keep (fun x _ hxl => kk2 x hxl)).mono (fun x hx => ⟨hx.1.1, by have := hx.1.2; omega⟩)
          obtain ⟨C, hca, hrec⟩ := hT2.cast X.2
          refine va_castY (C := C) hx hbb X.1.2.2.2.1 (hts _ q936) hca hrec dX6_both_56 ?_
          refine lv_goto (tgt := 71) hx hbb dX6_both_59 (by decide) ?_
          refine hret _ _ _ _ _ dX6_both_71 ⟨_, a0, rfl, rfl, hM.1.keep kk2, ?_⟩ hS2
          rw [show joinA true [c0] = c0 by simp [joinA]]
          exact hT2.up1
        · have hc1 : ¬ cs.length = 1 := by omega
          replace hh := it_f hc1 hh
          cases Option.some.inj hh
          refine nw_X19 X hS1 (Nat.le_refl _) (Nat.le_refl _) dX6_both_62 (fun H2 hN z2 o2 hS2 => ?_)
          refine lv_dup hx hbb dX6_both_65 rfl ?_
          refine lv_iconst (v := zi (bz true)) hx hbb dX6_both_66 rfl ?_
          refine lv_aload_n hx hbb dX6_both_67 rfl (lv_at hl 1 rfl) ?_
          refine ni_X19 (rest := [.ref H1.size]) X hS2 hF (by omega) hN (Or.inr (by omega)) ⟨by show 4 ≤ f + 1; omega, by show 130 ≤ L + 40; omega⟩ ⟨Nat.le_refl _, Nat.le_refl _⟩ hl.1 (Nat.le_of_ble_eq_true rfl) dX6_both_68 (fun H3 locs3 hN3 hfr3 hS3 => ?_)
          have z3 := hfr3.1
          have kk3 : ∀ x, x < H.size → H3[x]? = H[x]? := fun x hx => ((hfr3.2 x (by omega) (by show ¬ x = _; omega)).trans (o2 x (by omega))).trans (kk x hx)
          refine hret _ _ _ _ _ dX6_both_71 ⟨_, H1.size, rfl, rfl, hM.1.keep kk3, ⟨by omega, by omega⟩, Or.inr (Or.inr ⟨true, s.heap.size, LL, _, ed, cs, hN3, h1.keep (fun x _ hxl => kk3 x hxl), fun x hx => ⟨(h3 x hx).1, by have := (h3 x hx).2; omega⟩, by omega, h2, fun w hw => ((h4 w hw).keep (fun x _ hxl => kk3 x hxl)).mono (fun x hx => ⟨hx.1.1, by have := hx.1.2; omega⟩), rfl⟩)⟩ hS3
  have hcost : 1 ≤ r.2.2.1 ∧ 3 ≤ r.2.2.2 := by
    rcases tb_inv hh with ⟨e1, S2, k', n', hone1, hr⟩ | ⟨c1, S2, k', n', hone1, hh⟩
    · rw [hr]; exact ⟨by show 1 ≤ 1 + k'; omega, by show 3 ≤ 3 + n'; omega⟩
    · have := T_lsL_ge hh; omega
  refine h_new X.1 X.2.1 hS (fun q h => Or.inr h) (ci := 14) rfl in_J2 tyJ2 tyJ2_ok q581 q134 q84 fsJ2 hcost.1 hcost.2 dX6_both_0 (fun H0 hN0 z0 o0 hS0 => ?_)
  refine lv_dup hx hbb dX6_both_3 rfl ?_
  refine hcI (As := []) (rest := [.ref s.heap.size]) (b := s.heap.size) X hS0 hF (w_alI l Z s.heap.size H0.size X.2.2.2 _ _ _) hN0 (fun x h => Or.inr (by rw [h]; exact Nat.le_refl _)) (cwI 0 hts (lw_meth q137) rfl rfl rfl (hts _ q84) (hts _ q582) (hts _ q136) rfl (show hdS yJ2_init 0 by decide +kernel) ⟨by show 4 + 1 ≤ f + 1; omega, by show 8 + (1 + 11) + 120 ≤ L + 40; omega⟩) ⟨rfl, rfl⟩ ⟨by show 4 + 1 ≤ f + 1; omega, by show 8 + (1 + 11) + 120 ≤ L + 40; omega⟩ ⟨hcost.1, hcost.2⟩ hl.1 (Nat.le_of_ble_eq_true rfl) dX6_both_4 rfl (fun v H1 locs1 hv hfr1 hS1 => ?_)
  obtain ⟨rfl, hL1⟩ := hv
  have z1 := hfr1.1
  have hLst := Lst.nil X.2 X.2.2.2 hL1
  have k01 : ∀ x, x < s.heap.size → H1[x]? = s.heap[x]? := fun x hx => (hfr1.2 x (by omega) (by show ¬ x = _; omega)).trans (o0 x hx)
  have hM1 : TKX Z q t S s H1 locs1 := ⟨hP.keep k01, hS1⟩
  refine lv_astore_n (lv' := [(1, .ref s.heap.size), (0, .ref q)]) hx hbb dX6_both_7 rfl hl (by decide) rfl (fun ls hl => ?_)
  have llst := va_at_lt hL1
  have hC1 : LI Z N s.heap.size s.heap.size [] H1 := ⟨[], Z.G.eD, hLst, rfl, fun x hx => by
    rcases hx with w | w
    · exact ⟨by omega, by omega⟩
    · exact absurd w.2 (by show ¬ 10 ≤ 0; omega), fun w hw => by cases hw⟩
  refine lv_aload_n hx hbb dX6_both_8 rfl (lv_at hl 0 rfl) ?_
  refine lv_aload_n hx hbb dX6_both_9 rfl (lv_at hl 1 rfl) ?_
  rcases tb_inv hh with ⟨e1, S2, k', n', hone1, hr⟩ | ⟨c1', S2, k', n', hone1, hh⟩
  · subst hr
    refine tk_ask (rest := [.ref s.heap.size]) X hM1 (hask S _ H1.size hone1) (lw_V q753 q755 qs21 q94 q756) (show hdV yX6_ask "ManyEyes$Tokens" 0 by decide +kernel) ⟨Nat.le_refl _, by show 8 + (3 + 11) + L ≤ L + 40; omega⟩ ⟨by show 0 + 1 + 0 + k' ≤ 1 + k'; omega, by show 0 + 3 + 0 + n' ≤ 3 + n'; omega⟩ hl.1 (Nat.le_of_ble_eq_true rfl) dX6_both_10 (fun c2 a H2 locs2 hc => by cases hc) (fun x H2 locs2 hx hS => ?_)
    rw [show 0 + 1 + 0 + k' = 1 + k' by omega, show 0 + 3 + 0 + n' = 3 + n' by omega]
    exact hthr _ _ _ _ _ _ hx hS
  · have hge2 := T_lsL_ge hh
    refine tk_ask (rest := [.ref s.heap.size]) X hM1 (hask S _ H1.size hone1) (lw_V q753 q755 qs21 q94 q756) (show hdV yX6_ask "ManyEyes$Tokens" 0 by decide +kernel) ⟨Nat.le_refl _, by show 8 + (3 + 11) + L ≤ L + 40; omega⟩ ⟨by show 0 + 1 + 0 + k' ≤ r.2.2.1; omega, by show 0 + 3 + 0 + n' ≤ r.2.2.2; omega⟩ hl.1 (Nat.le_of_ble_eq_true rfl) dX6_both_10 (fun c2 a H2 locs2 hc hM2 hT2 hfr2 => ?_) (fun x H2 locs2 hx hS => by obtain ⟨f0, p0, hx, -⟩ := hx; cases hx)
    cases hc
    rw [show 0 + 1 + 0 + k' = 1 + k' by omega, show 0 + 3 + 0 + n' = 3 + n' by omega]
    have g2 : capN ([] : List tC).length < 40000 := by decide
    obtain ⟨LL, ed, h1, h2, h3, h4⟩ := hC1
    have z12 := hfr2.1
    have hk2 : ∀ x, rg s.heap.size H1.size x ∨ x < Z.b → x < H1.size → H2[x]? = H1[x]? := fun x hx hxl => hfr2.2 x hxl (ntf x (hx.elim (fun w => Or.inl w.1) Or.inr))
    have zz1 : s.heap.size ≤ H1.size := hM1.2.1
    have h1n : Lst Z s.heap.size LL (capN ([] : List tC).length) ed H2 := h1.keep (fun x hx hxl => hk2 x (Or.inl (by
      rcases hx with w | w | w
      · exact h3 x (Or.inl w)
      · exact h3 x (Or.inr w)
      · obtain ⟨c3, hc3⟩ := zip_all h2 h4 w
        exact hc3.A.1)) hxl)
    have h3n : ∀ x, lF s.heap.size (capN ([] : List tC).length) ed x → rg s.heap.size H2.size x := fun x hx => ⟨(h3 x hx).1, by have := (h3 x hx).2; omega⟩
    have h4n : ∀ w ∈ ([] : List tC).zip LL, AskH Z N (fun x => rg s.heap.size H2.size x ∧ ¬ lF s.heap.size (capN ([] : List tC).length) ed x) H2 w.1 w.2 := fun w hw => ((h4 w hw).keep (fun x hx hxl => hk2 x (hx.elim (fun v => Or.inl v.1) Or.inr) hxl)).mono (fun x hx => ⟨⟨hx.1.1, by have := hx.1.2; omega⟩, hx.2⟩)
    have han : AskH Z N (fun x => rg s.heap.size H2.size x ∧ ¬ lF s.heap.size (capN ([] : List tC).length) ed x) H2 c1' a := hT2.mono (fun x hx => ⟨⟨by omega, hx.2⟩, fun w => by have := (h3 x w).2; omega⟩)
    have eC : acc LL (capN ([] : List tC).length) = aC ([] : List tC).length := by unfold acc aC; rw [← h2]
    have eS : acs LL (capN ([] : List tC).length) = aS ([] : List tC).length := by unfold acs aS; rw [← h2]
    refine hcV (As := [.ref a]) (rest := []) X hM2.2 hF (w_add l Z s.heap.size (capN ([] : List tC).length) ed a LL g2 H2.size) ⟨h1n, hT2.any⟩ (fun x hx => Or.inr (h3 x hx).1) (h1n.recv X.2) (lw_V q934 q318 q319 q84 q320) (show hdV yJ2_add "java/util/ArrayList" 1 by decide +kernel) ⟨rfl, rfl⟩ ⟨by show 8 + 1 ≤ f + 1; omega, by show 8 + (2 + 11) + 320 ≤ L + 40; omega⟩ ⟨by show 1 + k' + acc LL (capN ([] : List tC).length) ≤ r.2.2.1; rw [eC]; exact hge2.1, by show 3 + n' + acs LL (capN ([] : List tC).length) ≤ r.2.2.2; rw [eS]; exact hge2.2⟩ hl.1 (Nat.le_of_ble_eq_true rfl) dX6_both_13 rfl (fun v H3 locs3 hv hfr3 hS3 => ?_)
    obtain ⟨rfl, ed', hed, hNN⟩ := hv
    rw [eC, eS]
    refine lv_pop hx hbb dX6_both_16 rfl ?_
    have hC3 := LI.add hsb h1n h2 h3n h4n han hed hNN hfr3.1 (fun x hxl hno => hfr3.2 x hxl hno)
    have z34 := hfr3.1
    have hTK : TKW Z q t S2 H3 := hM2.1.keep4 (fun x hx => hfr3.2 x (by
      rcases hx with rfl | rfl | rfl | rfl <;> omega) (fun w => by
      have := (h3 x w).1
      rcases hx with rfl | rfl | rfl | rfl <;> omega))
    exact hL FU _ _ _ _ H3 locs3 ls hh ⟨hTK, hS3⟩ hC3 (by simp) (lv_sub hl [1, 0] rfl)
set_option maxHeartbeats 2000000 in
theorem wT_either (l : Launch) (Z : hZ) (q t : Nat) (ask : yS → Option (tR tC)) (f L N : Nat) (gf : 12 ≤ f) (gL : 400 ≤ L) (hask : ∀ (S : yS) (r : tR tC) (n0 : Nat), ask S = some r → mK l yX6_both cX6_both 2 f L Z q t S r N n0) (S : yS) (n0 : Nat) {r : tR tC} (hh : T_ls 204 false ask S = some r) : mK l yX6_either cX6_either 2 (f + 1) (L + 40) Z q t S r (N + 1) n0 := by
  refine goXr (by decide +kernel) (Nat.le_of_ble_eq_true rfl) (Or.inl ⟨_, rfl⟩) ?_
  intro p e s m args below meth cd Q ls X hret hthr hl hP hn hS hnm
  subst hn
  have hx := X.1.1
  have hbb := X.1.2.1
  have hts := X.1.2.2.2.2
  have lq := va_at_lt hP.1
  have lq1 := va_at_lt hP.2.1
  have lq2 := va_at_lt hP.2.2.1
  have lt_ := va_at_lt hP.2.2.2.1
  have hqb := hP.2.2.2.2.1
  have hsb := X.2.2.2
  have hF := hP.F
  have ntf : ∀ x, s.heap.size ≤ x ∨ x < Z.b → ¬ tF q x := by
    intro x hx w
    rcases w with rfl | rfl | rfl <;> omega
  replace hl : lv_has ls 2 [(0, .ref q)] := hl
  unfold T_ls at hh
  have hL : ∀ (fu : Nat) (cs : List tC) (S : yS) (k n : Nat) (H : Heap) (locs : List Loc) (ls : Array Slot), T_lsL 204 false ask fu cs S k n = some r → TKX Z q t S s H locs → LI Z N s.heap.size s.heap.size cs H → 1 ≤ cs.length → lv_has ls 2 [(0, .ref q), (1, .ref s.heap.size)] → W p l e ({ frames := f + 1, cells := r.2.2.1, slots := r.2.2.2, locals := L + 40 } : Room) s m args below meth cd H locs k n Q (F0 m 17 ls []) := by
    intro fu
    induction fu with
    | zero => intro cs S k n H locs ls hh; exact no_some hh
    | succ fu ih =>
      intro cs S k n H locs ls hh hM hC hcs hl
      have hge := T_lsL_ge hh
      replace hh : gd (r32 (S.1 6)) (if S.1 6 = 204 then bd (T_next S) (fun S1 => tb (ask S1) k n (fun c S2 k n => gd (capN cs.length < 40000) (T_lsL 204 false ask fu (cs ++ [c]) S2 (k + aC cs.length) (n + aS cs.length)))) else if cs.length = 1 then some (.inl (joinA false cs), S, k, n) else some (.inl (joinA false cs), S, k + 1, n + 2)) = some r := hh
      obtain ⟨g1, hh⟩ := gd_inv hh
      have zH : s.heap.size ≤ H.size := hM.2.1
      refine lv_aload_n hx hbb dX6_either_17 rfl (lv_at hl 0 rfl) ?_
      refine tm_get X hM tf_sort q554 rfl dX6_either_18 ?_
      refine lv_sipush (v := zi 204) hx hbb dX6_either_21 (by decide) ?_
      refine g_icmp_ne (tgt := 43) hx hbb ⟨g1, by decide⟩ dX6_either_24 (by decide) (fun c1 => ?_) (fun c1 => ?_)
      · replace hh := it_t c1 hh
        obtain ⟨S1, k1, hh⟩ := bd_inv hh
        refine lv_aload_n hx hbb dX6_either_27 rfl (lv_at hl 0 rfl) ?_
        refine tk_next X hM k1 ⟨by show 7 ≤ f + 1; omega, by show 330 ≤ L + 40; omega⟩ hge hl.1 (Nat.le_of_ble_eq_true rfl) dX6_either_28 (fun H1 locs1 hM1 hfr1 => ?_)
        have hC1 := hC.keep hfr1.1 (fun x hx hxl => hfr1.2 x hxl (ntf x (hx.elim (fun w => Or.inl w.1) Or.inr)))
        refine lv_aload_n hx hbb dX6_either_31 rfl (lv_at hl 1 rfl) ?_
        refine lv_aload_n hx hbb dX6_either_32 rfl (lv_at hl 0 rfl) ?_
        rcases tb_inv hh with ⟨e1, S2, k', n', hone1, hr⟩ | ⟨c1', S2, k', n', hone1, hh⟩
        · subst hr
          refine tk_ask (rest := [.ref s.heap.size]) X hM1 (hask S1 _ H1.size hone1) (lw_V q749 q751 qs20 q94 q752) (show hdV yX6_both "ManyEyes$Tokens" 0 by decide +kernel) ⟨Nat.le_refl _, by show 8 + (2 + 11) + L ≤ L + 40; omega⟩ ⟨Nat.le_refl _, Nat.le_refl _⟩ hl.1 (Nat.le_of_ble_eq_true rfl) dX6_either_33 (fun c2 a H2 locs2 hc => by cases hc) (fun x H2 locs2 hx hS => ?_)
          exact hthr _ _ _ _ _ _ hx hS
        · obtain ⟨g2, hh⟩ := gd_inv hh
          have hge2 := T_lsL_ge hh
          refine tk_ask (rest := [.ref s.heap.size]) X hM1 (hask S1 _ H1.size hone1) (lw_V q749 q751 qs20 q94 q752) (show hdV yX6_both "ManyEyes$Tokens" 0 by decide +kernel) ⟨Nat.le_refl _, by show 8 + (2 + 11) + L ≤ L + 40; omega⟩ ⟨by show k + k' ≤ r.2.2.1; omega, by show n + n' ≤ r.2.2.2; omega⟩ hl.1 (Nat.le_of_ble_eq_true rfl) dX6_either_33 (fun c2 a H2 locs2 hc hM2 hT2 hfr2 => ?_) (fun x H2 locs2 hx hS => by obtain ⟨f0, p0, hx, -⟩ := hx; cases hx)
          cases hc
          obtain ⟨LL, ed, h1, h2, h3, h4⟩ := hC1
          have z12 := hfr2.1
          have hk2 : ∀ x, rg s.heap.size H1.size x ∨ x < Z.b → x < H1.size → H2[x]? = H1[x]? := fun x hx hxl => hfr2.2 x hxl (ntf x (hx.elim (fun w => Or.inl w.1) Or.inr))
          have zz1 : s.heap.size ≤ H1.size := hM1.2.1
          have h1n : Lst Z s.heap.size LL (capN cs.length) ed H2 := h1.keep (fun x hx hxl => hk2 x (Or.inl (by
            rcases hx with w | w | w
            · exact h3 x (Or.inl w)
            · exact h3 x (Or.inr w)
            · obtain ⟨c3, hc3⟩ := zip_all h2 h4 w
              exact hc3.A.1)) hxl)
          have h3n : ∀ x, lF s.heap.size (capN cs.length) ed x → rg s.heap.size H2.size x := fun x hx => ⟨(h3 x hx).1, by have := (h3 x hx).2; omega⟩
          have h4n : ∀ w ∈ cs.zip LL, AskH Z N (fun x => rg s.heap.size H2.size x ∧ ¬ lF s.heap.size (capN cs.length) ed x) H2 w.1 w.2 := fun w hw => ((h4 w hw).keep (fun x hx hxl => hk2 x (hx.elim (fun v => Or.inl v.1) Or.inr) hxl)).mono (fun x hx => ⟨⟨hx.1.1, by have := hx.1.2; omega⟩, hx.2⟩)
          have han : AskH Z N (fun x => rg s.heap.size H2.size x ∧ ¬ lF s.heap.size (capN cs.length) ed x) H2 c1' a := hT2.mono (fun x hx => ⟨⟨by omega, hx.2⟩, fun w => by have := (h3 x w).2; omega⟩)
          have eC : acc LL (capN cs.length) = aC cs.length := by unfold acc aC; rw [← h2]
          have eS : acs LL (capN cs.length) = aS cs.length := by unfold acs aS; rw [← h2]
          refine hcV (As := [.ref a]) (rest := []) X hM2.2 hF (w_add l Z s.heap.size (capN cs.length) ed a LL g2 H2.size) ⟨h1n, hT2.any⟩ (fun x hx => Or.inr (h3 x hx).1) (h1n.recv X.2) (lw_V q934 q318 q319 q84 q320) (show hdV yJ2_add "java/util/ArrayList" 1 by decide +kernel) ⟨rfl, rfl⟩ ⟨by show 8 + 1 ≤ f + 1; omega, by show 8 + (2 + 11) + 320 ≤ L + 40; omega⟩ ⟨by show k + k' + acc LL (capN cs.length) ≤ r.2.2.1; rw [eC]; exact hge2.1, by show n + n' + acs LL (capN cs.length) ≤ r.2.2.2; rw [eS]; exact hge2.2⟩ hl.1 (Nat.le_of_ble_eq_true rfl) dX6_either_36 rfl (fun v H3 locs3 hv hfr3 hS3 => ?_)
          obtain ⟨rfl, ed', hed, hNN⟩ := hv
          rw [eC, eS]
          refine lv_pop hx hbb dX6_either_39 rfl ?_
          have hC3 := LI.add hsb h1n h2 h3n h4n han hed hNN hfr3.1 (fun x hxl hno => hfr3.2 x hxl hno)
          have z34 := hfr3.1
          have hTK : TKW Z q t S2 H3 := hM2.1.keep4 (fun x hx => hfr3.2 x (by
            rcases hx with rfl | rfl | rfl | rfl <;> omega) (fun w => by
            have := (h3 x w).1
            rcases hx with rfl | rfl | rfl | rfl <;> omega))
          refine lv_goto (tgt := 17) hx hbb dX6_either_40 (by decide) ?_
          exact ih _ _ _ _ H3 locs3 ls hh ⟨hTK, hS3⟩ hC3 (by simp) hl
      · replace hh := it_f c1 hh
        obtain ⟨LL, ed, h1, h2, h3, h4⟩ := hC
        refine lv_aload_n hx hbb dX6_either_43 rfl (lv_at hl 1 rfl) ?_
        refine hcV (As := []) (rest := []) X hM.2 hF (w_size l Z s.heap.size (capN cs.length) ed LL H.size) h1 (fun x h => h.elim) (h1.recv X.2) (lw_V q716 q300 q301 q84 q302) (show hdV yJ2_size "java/util/ArrayList" 0 by decide +kernel) ⟨rfl, rfl⟩ ⟨by show 1 + 1 ≤ f + 1; omega, by show 8 + (1 + 11) + 40 ≤ L + 40; omega⟩ hge hl.1 (Nat.le_of_ble_eq_true rfl) dX6_either_44 rfl (fun v H1 locs1 hv hfr1 hS1 => ?_)
        subst hv
        have kk : ∀ x, x < H.size → H1[x]? = H[x]? := fun x hx => hfr1.2 x hx (fun w => w)
        have z1 := hfr1.1
        have h1' := h1.keep (fun x _ hxl => kk x hxl)
        have hszL := h1.size_lt
        have hM1 : TKX Z q t S s H1 locs1 := ⟨hM.1.keep kk, hS1⟩
        refine lv_iconst (v := zi 1) hx hbb dX6_either_47 rfl ?_
        refine g_icmp_ne (tgt := 62) hx hbb (show r32 (LL.length : Int) ∧ r32 1 by unfold r32; omega) dX6_either_48 (by decide) (fun c2 => ?_) (fun c2 => ?_)
        · have hc1 : cs.length = 1 := by omega
          replace hh := it_t hc1 hh
          cases Option.some.inj hh
          obtain ⟨a0, hLL⟩ : ∃ a0, LL = [a0] := List.length_eq_one_iff.mp (by omega)
          obtain ⟨c0, hcs0⟩ : ∃ c0, cs = [c0] := List.length_eq_one_iff.mp hc1
          subst hLL hcs0
          refine lv_aload_n hx hbb dX6_either_51 rfl (lv_at hl 1 rfl) ?_
          refine lv_iconst (v := zi 0) hx hbb dX6_either_52 rfl ?_
          refine hcV (As := [.int (zi 0)]) (rest := []) X hS1 hF (w_lget l Z s.heap.size _ ed [a0] 0 a0 ⟨Int.le_refl _, rfl⟩ H1.size) h1' (fun x h => h.elim) (h1'.recv X.2) (lw_V q935 q304 q305 q84 q306) (show hdV yJ2_get "java/util/ArrayList" 1 by decide +kernel) ⟨rfl, rfl⟩ ⟨by show 3 + 1 ≤ f + 1; omega, by show 8 + (2 + 11) + 120 ≤ L + 40; omega⟩ hge hl.1 (Nat.le_of_ble_eq_true rfl) dX6_either_53 rfl (fun v H2 locs2 hv hfr2 hS2 => ?_)
          subst hv
          have z2 := hfr2.1
          have kk2 : ∀ x, x < H.size → H2[x]? = H[x]? := fun x hx => (hfr2.2 x (by omega) (fun w => w)).trans (kk x hx)
          have hT2 : AskH Z N (rg s.heap.size H2.size) H2 c0 a0 := ((h4 (c0, a0) (by simp)).keep (fun x _ hxl => kk2 x hxl)).mono (fun x hx => ⟨hx.1.1, by have := hx.1.2; omega⟩)
          obtain ⟨C, hca, hrec⟩ := hT2.cast X.2
          refine va_castY (C := C) hx hbb X.1.2.2.2.1 (hts _ q936) hca hrec dX6_either_56 ?_
          refine lv_goto (tgt := 71) hx hbb dX6_either_59 (by decide) ?_
          refine hret _ _ _ _ _ dX6_either_71 ⟨_, a0, rfl, rfl, hM.1.keep kk2, ?_⟩ hS2
          rw [show joinA false [c0] = c0 by simp [joinA]]
          exact hT2.up1
        · have hc1 : ¬ cs.length = 1 := by omega
          replace hh := it_f hc1 hh
          cases Option.some.inj hh
          refine nw_X19 X hS1 (Nat.le_refl _) (Nat.le_refl _) dX6_either_62 (fun H2 hN z2 o2 hS2 => ?_)
          refine lv_dup hx hbb dX6_either_65 rfl ?_
          refine lv_iconst (v := zi (bz false)) hx hbb dX6_either_66 rfl ?_
          refine lv_aload_n hx hbb dX6_either_67 rfl (lv_at hl 1 rfl) ?_
          refine ni_X19 (rest := [.ref H1.size]) X hS2 hF (by omega) hN (Or.inr (by omega)) ⟨by show 4 ≤ f + 1; omega, by show 130 ≤ L + 40; omega⟩ ⟨Nat.le_refl _, Nat.le_refl _⟩ hl.1 (Nat.le_of_ble_eq_true rfl) dX6_either_68 (fun H3 locs3 hN3 hfr3 hS3 => ?_)
          have z3 := hfr3.1
          have kk3 : ∀ x, x < H.size → H3[x]? = H[x]? := fun x hx => ((hfr3.2 x (by omega) (by show ¬ x = _; omega)).trans (o2 x (by omega))).trans (kk x hx)
          refine hret _ _ _ _ _ dX6_either_71 ⟨_, H1.size, rfl, rfl, hM.1.keep kk3, ⟨by omega, by omega⟩, Or.inr (Or.inr ⟨false, s.heap.size, LL, _, ed, cs, hN3, h1.keep (fun x _ hxl => kk3 x hxl), fun x hx => ⟨(h3 x hx).1, by have := (h3 x hx).2; omega⟩, by omega, h2, fun w hw => ((h4 w hw).keep (fun x _ hxl => kk3 x hxl)).mono (fun x hx => ⟨hx.1.1, by have := hx.1.2; omega⟩), rfl⟩)⟩ hS3
  have hcost : 1 ≤ r.2.2.1 ∧ 3 ≤ r.2.2.2 := by
    rcases tb_inv hh with ⟨e1, S2, k', n', hone1, hr⟩ | ⟨c1, S2, k', n', hone1, hh⟩
    · rw [hr]; exact ⟨by show 1 ≤ 1 + k'; omega, by show 3 ≤ 3 + n'; omega⟩
    · have := T_lsL_ge hh; omega
  refine h_new X.1 X.2.1 hS (fun q h => Or.inr h) (ci := 14) rfl in_J2 tyJ2 tyJ2_ok q581 q134 q84 fsJ2 hcost.1 hcost.2 dX6_either_0 (fun H0 hN0 z0 o0 hS0 => ?_)
  refine lv_dup hx hbb dX6_either_3 rfl ?_
  refine hcI (As := []) (rest := [.ref s.heap.size]) (b := s.heap.size) X hS0 hF (w_alI l Z s.heap.size H0.size X.2.2.2 _ _ _) hN0 (fun x h => Or.inr (by rw [h]; exact Nat.le_refl _)) (cwI 0 hts (lw_meth q137) rfl rfl rfl (hts _ q84) (hts _ q582) (hts _ q136) rfl (show hdS yJ2_init 0 by decide +kernel) ⟨by show 4 + 1 ≤ f + 1; omega, by show 8 + (1 + 11) + 120 ≤ L + 40; omega⟩) ⟨rfl, rfl⟩ ⟨by show 4 + 1 ≤ f + 1; omega, by show 8 + (1 + 11) + 120 ≤ L + 40; omega⟩ ⟨hcost.1, hcost.2⟩ hl.1 (Nat.le_of_ble_eq_true rfl) dX6_either_4 rfl (fun v H1 locs1 hv hfr1 hS1 => ?_)
  obtain ⟨rfl, hL1⟩ := hv
  have z1 := hfr1.1
  have hLst := Lst.nil X.2 X.2.2.2 hL1
  have k01 : ∀ x, x < s.heap.size → H1[x]? = s.heap[x]? := fun x hx => (hfr1.2 x (by omega) (by show ¬ x = _; omega)).trans (o0 x hx)
  have hM1 : TKX Z q t S s H1 locs1 := ⟨hP.keep k01, hS1⟩
  refine lv_astore_n (lv' := [(1, .ref s.heap.size), (0, .ref q)]) hx hbb dX6_either_7 rfl hl (by decide) rfl (fun ls hl => ?_)
  have llst := va_at_lt hL1
  have hC1 : LI Z N s.heap.size s.heap.size [] H1 := ⟨[], Z.G.eD, hLst, rfl, fun x hx => by
    rcases hx with w | w
    · exact ⟨by omega, by omega⟩
    · exact absurd w.2 (by show ¬ 10 ≤ 0; omega), fun w hw => by cases hw⟩
  refine lv_aload_n hx hbb dX6_either_8 rfl (lv_at hl 0 rfl) ?_
  refine lv_aload_n hx hbb dX6_either_9 rfl (lv_at hl 1 rfl) ?_
  rcases tb_inv hh with ⟨e1, S2, k', n', hone1, hr⟩ | ⟨c1', S2, k', n', hone1, hh⟩
  · subst hr
    refine tk_ask (rest := [.ref s.heap.size]) X hM1 (hask S _ H1.size hone1) (lw_V q749 q751 qs20 q94 q752) (show hdV yX6_both "ManyEyes$Tokens" 0 by decide +kernel) ⟨Nat.le_refl _, by show 8 + (2 + 11) + L ≤ L + 40; omega⟩ ⟨by show 0 + 1 + 0 + k' ≤ 1 + k'; omega, by show 0 + 3 + 0 + n' ≤ 3 + n'; omega⟩ hl.1 (Nat.le_of_ble_eq_true rfl) dX6_either_10 (fun c2 a H2 locs2 hc => by cases hc) (fun x H2 locs2 hx hS => ?_)
    rw [show 0 + 1 + 0 + k' = 1 + k' by omega, show 0 + 3 + 0 + n' = 3 + n' by omega]
    exact hthr _ _ _ _ _ _ hx hS
  · have hge2 := T_lsL_ge hh
    refine tk_ask (rest := [.ref s.heap.size]) X hM1 (hask S _ H1.size hone1) (lw_V q749 q751 qs20 q94 q752) (show hdV yX6_both "ManyEyes$Tokens" 0 by decide +kernel) ⟨Nat.le_refl _, by show 8 + (2 + 11) + L ≤ L + 40; omega⟩ ⟨by show 0 + 1 + 0 + k' ≤ r.2.2.1; omega, by show 0 + 3 + 0 + n' ≤ r.2.2.2; omega⟩ hl.1 (Nat.le_of_ble_eq_true rfl) dX6_either_10 (fun c2 a H2 locs2 hc hM2 hT2 hfr2 => ?_) (fun x H2 locs2 hx hS => by obtain ⟨f0, p0, hx, -⟩ := hx; cases hx)
    cases hc
    rw [show 0 + 1 + 0 + k' = 1 + k' by omega, show 0 + 3 + 0 + n' = 3 + n' by omega]
    have g2 : capN ([] : List tC).length < 40000 := by decide
    obtain ⟨LL, ed, h1, h2, h3, h4⟩ := hC1
    have z12 := hfr2.1
    have hk2 : ∀ x, rg s.heap.size H1.size x ∨ x < Z.b → x < H1.size → H2[x]? = H1[x]? := fun x hx hxl => hfr2.2 x hxl (ntf x (hx.elim (fun w => Or.inl w.1) Or.inr))
    have zz1 : s.heap.size ≤ H1.size := hM1.2.1
    have h1n : Lst Z s.heap.size LL (capN ([] : List tC).length) ed H2 := h1.keep (fun x hx hxl => hk2 x (Or.inl (by
      rcases hx with w | w | w
      · exact h3 x (Or.inl w)
      · exact h3 x (Or.inr w)
      · obtain ⟨c3, hc3⟩ := zip_all h2 h4 w
        exact hc3.A.1)) hxl)
    have h3n : ∀ x, lF s.heap.size (capN ([] : List tC).length) ed x → rg s.heap.size H2.size x := fun x hx => ⟨(h3 x hx).1, by have := (h3 x hx).2; omega⟩
    have h4n : ∀ w ∈ ([] : List tC).zip LL, AskH Z N (fun x => rg s.heap.size H2.size x ∧ ¬ lF s.heap.size (capN ([] : List tC).length) ed x) H2 w.1 w.2 := fun w hw => ((h4 w hw).keep (fun x hx hxl => hk2 x (hx.elim (fun v => Or.inl v.1) Or.inr) hxl)).mono (fun x hx => ⟨⟨hx.1.1, by have := hx.1.2; omega⟩, hx.2⟩)
    have han : AskH Z N (fun x => rg s.heap.size H2.size x ∧ ¬ lF s.heap.size (capN ([] : List tC).length) ed x) H2 c1' a := hT2.mono (fun x hx => ⟨⟨by omega, hx.2⟩, fun w => by have := (h3 x w).2; omega⟩)
    have eC : acc LL (capN ([] : List tC).length) = aC ([] : List tC).length := by unfold acc aC; rw [← h2]
    have eS : acs LL (capN ([] : List tC).length) = aS ([] : List tC).length := by unfold acs aS; rw [← h2]
    refine hcV (As := [.ref a]) (rest := []) X hM2.2 hF (w_add l Z s.heap.size (capN ([] : List tC).length) ed a LL g2 H2.size) ⟨h1n, hT2.any⟩ (fun x hx => Or.inr (h3 x hx).1) (h1n.recv X.2) (lw_V q934 q318 q319 q84 q320) (show hdV yJ2_add "java/util/ArrayList" 1 by decide +kernel) ⟨rfl, rfl⟩ ⟨by show 8 + 1 ≤ f + 1; omega, by show 8 + (2 + 11) + 320 ≤ L + 40; omega⟩ ⟨by show 1 + k' + acc LL (capN ([] : List tC).length) ≤ r.2.2.1; rw [eC]; exact hge2.1, by show 3 + n' + acs LL (capN ([] : List tC).length) ≤ r.2.2.2; rw [eS]; exact hge2.2⟩ hl.1 (Nat.le_of_ble_eq_true rfl) dX6_either_13 rfl (fun v H3 locs3 hv hfr3 hS3 => ?_)
    obtain ⟨rfl, ed', hed, hNN⟩ := hv
    rw [eC, eS]
    refine lv_pop hx hbb dX6_either_16 rfl ?_
    have hC3 := LI.add hsb h1n h2 h3n h4n han hed hNN hfr3.1 (fun x hxl hno => hfr3.2 x hxl hno)
    have z34 := hfr3.1
    have hTK : TKW Z q t S2 H3 := hM2.1.keep4 (fun x hx => hfr3.2 x (by
      rcases hx with rfl | rfl | rfl | rfl <;> omega) (fun w => by
      have := (h3 x w).1
      rcases hx with rfl | rfl | rfl | rfl <;> omega))
    exact hL FU _ _ _ _ H3 locs3 ls hh ⟨hTK, hS3⟩ hC3 (by simp) (lv_sub hl [1, 0] rfl)
