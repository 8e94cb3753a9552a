set_option maxRecDepth 100000
theorem kf_sort : hCl tcl lw_all 2 0 "ManyEyes$Clause" "sort" "I" := ⟨TX8, 4, RX8, rfl, in_X8, by decide, rfl, rfl, rfl⟩
theorem kf_letter : hCl tcl lw_all 2 1 "ManyEyes$Clause" "letter" "I" := ⟨TX8, 4, RX8, rfl, in_X8, by decide, rfl, rfl, rfl⟩
theorem kp_letter (z : Int) : hPl tcl lw_all 2 1 "ManyEyes$Clause" "letter" "I" (.int (zi z)) false := ⟨TX8, 4, RX8, tyX8, rfl, in_X8, by decide, rfl, rfl, rfl, rfl, tyX8_ok, nmX8, rfl, rfl⟩
theorem kp_sum (z : Nat) : hPl tcl lw_all 2 2 "ManyEyes$Clause" "sum" "LManyEyes$Sum;" (.ref z) false := ⟨TX8, 4, RX8, tyX8, rfl, in_X8, by decide, rfl, rfl, rfl, rfl, tyX8_ok, nmX8, rfl, rfl⟩
theorem kp_asked (z : Nat) : hPl tcl lw_all 2 3 "ManyEyes$Clause" "asked" "LManyEyes$Asked;" (.ref z) false := ⟨TX8, 4, RX8, tyX8, rfl, in_X8, by decide, rfl, rfl, rfl, rfl, tyX8_ok, nmX8, rfl, rfl⟩
section RD
variable {p : Program} {l : Launch} {e : Env} {R : Room} {s : State} {m : MethodId} {args : Array Value} {below : List Frame} {meth : Method} {c : Code} {H : Heap} {locs : List Loc} {cells slots : Nat} {Q : State → Prop}
variable {cc : ByteArray} {pc nL : Nat} {ls : Array Slot} {rest : List Value} {Z : hZ} {q t : Nat} {S S1 : yS} {own : String}
theorem tm_twice (X : hCx own p c cc nL s m args Z) (hM : TKX Z q t S s H locs) {i : Int} (g : 0 ≤ i ∧ i < 4) (hdg : decode cc pc = .ok (.baload, 1))
    (kk : W p l e R s m args below meth c H locs cells slots Q (F0 m (pc + 1) ls (.int (zi (S.2 2 i)) :: rest))) : W p l e R s m args below meth c H locs cells slots Q (F0 m pc ls (.int (zi i) :: .ref (q + 2) :: rest)) := h_zald X.1 X.2.1 0 hM.1.2.2.1 rfl g (by decide) hdg kk
theorem tca_at (S : yS) (a i z : Int) : (fun j : Nat => zi ((cas S a i z).2 a j)) = fun j : Nat => zi (tst (S.2 a) i z j) := by
  funext j
  show zi ((if a = a then (fun r : Int => if r = i then z else S.2 a r) else S.2 a) (j : Int)) = _
  rw [if_pos rfl]
  rfl
theorem tca_ne (S : yS) {a b : Int} (i z : Int) (h : b ≠ a) : (cas S a i z).2 b = S.2 b := by
  show (if b = a then _ else S.2 b) = _
  rw [if_neg h]
theorem tm_tst (X : hCx own p c cc nL s m args Z) (hM : TKX Z q t S s H locs) {i : Int} (g : 0 ≤ i ∧ i < 4) (hdg : decode cc pc = .ok (.bastore, 1))
    (kk : ∀ (H1 : Heap) (locs1 : List Loc), TKX Z q t (cas S 2 i 1) s H1 locs1 → hFr (tF q) H H1 → W p l e R s m args below meth c H1 locs1 cells slots Q (F0 m (pc + 1) ls rest)) : W p l e R s m args below meth c H locs cells slots Q (F0 m pc ls (.int (zi 1) :: .int (zi i) :: .ref (q + 2) :: rest)) := by
  refine h_zast X.1 X.2.1 hM.2 0 hM.1.2.2.1 rfl g (by decide) (Or.inr rfl) (Or.inl (Or.inr (Or.inr rfl))) hdg (fun H1 locs1 ha hq => ?_)
  obtain ⟨h1, h2, h3, h4, h5, h6, h7, h8⟩ := hM.1
  refine kk H1 locs1 ⟨⟨va_at_keep h1 (hq.2.1 q (by omega)), ?_, ?_, ?_, h5, h6, h7, h8⟩, hq.2.2⟩ ⟨Nat.le_of_eq hq.1.symm, fun x _ hx => hq.2.1 x (fun w => hx (Or.inr (Or.inr w)))⟩
  · rw [tca_ne S i 1 (show (1 : Int) ≠ 2 by decide)]; exact va_at_keep h2 (hq.2.1 (q + 1) (by omega))
  · rw [tca_at]; exact ha
  · rw [tca_ne S i 1 (show (0 : Int) ≠ 2 by decide)]; exact va_at_keep h4 (hq.2.1 t h8)
theorem tm_tod (X : hCx own p c cc nL s m args Z) (hM : TKX Z q t S s H locs) {i : Int} (g : 0 ≤ i ∧ i < 8) (hdg : decode cc pc = .ok (.bastore, 1))
    (kk : ∀ (H1 : Heap) (locs1 : List Loc), TKX Z q t (cas S 1 i 1) s H1 locs1 → hFr (tF q) H H1 → W p l e R s m args below meth c H1 locs1 cells slots Q (F0 m (pc + 1) ls rest)) : W p l e R s m args below meth c H locs cells slots Q (F0 m pc ls (.int (zi 1) :: .int (zi i) :: .ref (q + 1) :: rest)) := by
  refine h_zast X.1 X.2.1 hM.2 0 hM.1.2.1 rfl g (by decide) (Or.inr rfl) (Or.inl (Or.inr (Or.inl rfl))) hdg (fun H1 locs1 ha hq => ?_)
  obtain ⟨h1, h2, h3, h4, h5, h6, h7, h8⟩ := hM.1
  refine kk H1 locs1 ⟨⟨va_at_keep h1 (hq.2.1 q (by omega)), ?_, ?_, ?_, h5, h6, h7, h8⟩, hq.2.2⟩ ⟨Nat.le_of_eq hq.1.symm, fun x _ hx => hq.2.1 x (fun w => hx (Or.inr (Or.inl w)))⟩
  · rw [tca_at]; exact ha
  · rw [tca_ne S i 1 (show (2 : Int) ≠ 1 by decide)]; exact va_at_keep h3 (hq.2.1 (q + 2) (by omega))
  · rw [tca_ne S i 1 (show (0 : Int) ≠ 1 by decide)]; exact va_at_keep h4 (hq.2.1 t h7)
theorem tkLt (htr : l.stackTraces = false) (X : hCx "ManyEyes$Tokens" p c cc nL s m args Z) (hM : TKX Z q t S s H locs) {r : Int ⊕ (Int × Int)} (hh : T_letter S = some (r, S1)) (hR : 9 ≤ R.frames ∧ 400 ≤ R.locals) (hcs : cells + 1 ≤ R.cells ∧ slots + 8 ≤ R.slots) (hls : ls.size = nL) (hro : (rest.map fun v => v.category).sum ≤ 8) (hdg : decode cc pc = .ok (.invokevirtual 98, 3))
    (kk : ∀ (z : Int) (H1 : Heap) (locs1 : List Loc), r = .inl z → TKX Z q t S1 s H1 locs1 → hFr (tF q) H H1 → W p l e R s m args below meth c H1 locs1 (cells + 1) (slots + 8) Q (F0 m (pc + 3) ls (.int (zi z) :: rest)))
    (kx : ∀ (x : Nat) (H1 : Heap) (locs1 : List Loc) (f p0 : Int), r = .inr (f, p0) → WrO Z x f p0 H1 → va_S (hA (tF q) s.heap.size) s.heap H1 locs1 → WX p l e R s m args below meth c H1 locs1 (cells + 1) (slots + 8) Q (F0 m pc ls rest) x) : W p l e R s m args below meth c H locs cells slots Q (F0 m pc ls (.ref q :: rest)) := by
  refine hcX (As := []) X hM.2 hM.1.F (wT_letter l htr Z q t S H.size hh) hM.1 (fun a h => Or.inl h) (hM.1.recv X.2) (lw_V q741 q743 qs18 q94 q744) (show hdV yX6_letter "ManyEyes$Tokens" 0 by decide +kernel) ⟨rfl, rfl⟩ ⟨hR.1, Nat.le_trans (Nat.le_of_ble_eq_true rfl) hR.2⟩ hcs hls hro hdg rfl (fun v H1 locs1 hv hfr hS => ?_) (fun x H1 locs1 hx hfr hS => ?_)
  · obtain ⟨z, h1, rfl, h2⟩ := hv
    exact kk z H1 locs1 h1 ⟨h2, hS⟩ hfr
  · obtain ⟨f, p0, h1, h2⟩ := hx
    exact kx x H1 locs1 f p0 h1 h2 hS
end RD
theorem ClH.cell {Z : hZ} {N : Nat} {A : Nat → Prop} {H : Heap} {c : tCl} {a : Nat} (h : ClH Z N A H c a) : ∃ v w : Value, va_at Z.D tcl (a, .inr (2, [.int (zi c.1), .int (zi c.2.1), v, w])) H := by
  obtain ⟨hA, h⟩ := h
  rcases h with ⟨h1, x, h2, h3⟩ | ⟨h1, x, h2, h3⟩
  · exact ⟨_, _, h2⟩
  · exact ⟨_, _, h2⟩
set_option maxHeartbeats 4000000 in
theorem wT_read (l : Launch) (htr : l.stackTraces = false) (Z : hZ) (q t : Nat) (sum either : yS → Option (tR tC)) (f L N : Nat) (gf : 12 ≤ f) (gL : 400 ≤ L) (hsum : ∀ (S : yS) (r : tR tC) (n0 : Nat), sum S = some r → mS l yX6_sum cX6_sum 3 f L Z q t S r N n0) (heit : ∀ (S : yS) (r : tR tC) (n0 : Nat), either S = some r → mK l yX6_either cX6_either 2 f L Z q t S r N n0) (S : yS) (n0 : Nat) {r : rdR} (hh : T_rd sum either S = some r) : mX l yX6_read cX6_read 3 (some (.object "java/util/ArrayList")) ({ frames := f + 1, cells := r.2.2.1, slots := r.2.2.2, locals := L + 40 } : Room) Z [.ref q] n0 (TKW Z q t S) (fun v H => ∃ cs a, r.1 = .inl cs ∧ v = some (.ref a) ∧ RlH Z N (rg n0 H.size) H cs a) (xI Z r.1) (tF q) r.2.2.1 r.2.2.2 := by
  refine goXr (by decide +kernel) (Nat.le_of_ble_eq_true rfl) (Or.inl ⟨_, rfl⟩) ?_
  intro p e s m args below meth cd Q ls X hret hthr hl hP hn hS hnm
  subst hn
  have hx := X.1.1
  have hbb := X.1.2.1
  have hts := X.1.2.2.2.2
  have lq := va_at_lt hP.1
  have lq1 := va_at_lt hP.2.1
  have lq2 := va_at_lt hP.2.2.1
  have lt_ := va_at_lt hP.2.2.2.1
  have hqb := hP.2.2.2.2.1
  have hsb := X.2.2.2
  have hF := hP.F
  have ntf : ∀ x, s.heap.size ≤ x ∨ x < Z.b → ¬ tF q x := by
    intro x hx w
    rcases w with rfl | rfl | rfl <;> omega
  have rnx : 7 ≤ ({ frames := f + 1, cells := r.2.2.1, slots := r.2.2.2, locals := L + 40 } : Room).frames ∧ 330 ≤ ({ frames := f + 1, cells := r.2.2.1, slots := r.2.2.2, locals := L + 40 } : Room).locals := ⟨by show 7 ≤ f + 1; omega, by show 330 ≤ L + 40; omega⟩
  have rwr : 7 ≤ ({ frames := f + 1, cells := r.2.2.1, slots := r.2.2.2, locals := L + 40 } : Room).frames ∧ 141 ≤ ({ frames := f + 1, cells := r.2.2.1, slots := r.2.2.2, locals := L + 40 } : Room).locals := ⟨by show 7 ≤ f + 1; omega, by show 141 ≤ L + 40; omega⟩
  replace hl : lv_has ls 3 [(0, .ref q)] := hl
  unfold T_rd at hh
  obtain ⟨Sx, kx, hh⟩ := bd_inv hh
  have hL : ∀ (fu : Nat) (cs : List tCl) (S : yS) (k n : Nat) (H : Heap) (locs : List Loc) (ls : Array Slot), T_rdL sum either fu cs S k n = some r → TKX Z q t S s H locs → RI Z N s.heap.size s.heap.size cs H → lv_has ls 3 [(0, .ref q), (1, .ref s.heap.size)] → W p l e ({ frames := f + 1, cells := r.2.2.1, slots := r.2.2.2, locals := L + 40 } : Room) s m args below meth cd H locs k n Q (F0 m 12 ls []) := by
    intro fu
    induction fu with
    | zero => intro cs S k n H locs ls hh; exact no_some hh
    | succ fu ih =>
      intro cs S0 k0 n0 H0 locs0 ls0 hh hM0 hC hl0
      have mk := mon_rdL sum either fu
      have hge := mon_rdL sum either (fu + 1) _ _ _ _ _ hh
      have z0 : s.heap.size ≤ H0.size := hM0.2.1
      replace hh : gd (r32 (S0.1 6)) (if S0.1 6 = 301 then some (.inl cs, S0, k0, n0) else if S0.1 6 < 200 then some (.inr (1, S0.1 5), S0, k0 + 1, n0 + 8) else if S0.1 6 ≤ 203 then (if S0.1 6 = 200 then T_rdB sum either (T_rdL sum either fu) cs S0 k0 n0 else gd ((0 : Int) ≤ S0.1 6 - 200 ∧ S0.1 6 - 200 < 4) (gd (r32 (S0.2 2 (S0.1 6 - 200))) (if S0.2 2 (S0.1 6 - 200) = 0 then T_rdB sum either (T_rdL sum either fu) cs S0 k0 n0 else some (.inr (4, S0.1 5), S0, k0 + 1, n0 + 8)))) else some (.inr (1, S0.1 5), S0, k0 + 1, n0 + 8)) = some r := hh
      obtain ⟨g1, hh⟩ := gd_inv hh
      obtain ⟨LL, ed, c1, c2, c3, c4⟩ := hC
      have hG : ∀ (cl : tCl) (S : yS) (k n : Nat) (H : Heap) (locs : List Loc) (ls : Array Slot) (ac : Nat), T_rdG (T_rdL sum either fu) cs cl S k n = some r → TKX Z q t S s H locs → H0.size ≤ H.size → (∀ x, rg s.heap.size H0.size x ∨ x < Z.b → x < H0.size → H[x]? = H0[x]?) → ClH Z N (rg H0.size H.size) H cl ac → lv_has ls 3 [(0, .ref q), (1, .ref s.heap.size), (2, .ref ac)] → W p l e ({ frames := f + 1, cells := r.2.2.1, slots := r.2.2.2, locals := L + 40 } : Room) s m args below meth cd H locs k n Q (F0 m 199 ls []) := by
        intro cl S k n H locs ls ac hh hM zH hk0 hcl hl
        unfold T_rdG at hh
        obtain ⟨g2, hh⟩ := gd_inv hh
        have hge2 := mk _ _ _ _ _ hh
        have c1n : Lst Z s.heap.size LL (capN cs.length) ed H := c1.keep (fun x hx hxl => hk0 x (Or.inl (by
          rcases hx with w | w | w
          · exact c3 x (Or.inl w)
          · exact c3 x (Or.inr w)
          · obtain ⟨c5, hc5⟩ := zip_allC c2 c4 w
            exact hc5.1.1)) hxl)
        have c3n : ∀ x, lF s.heap.size (capN cs.length) ed x → rg s.heap.size H.size x := fun x hx => ⟨(c3 x hx).1, by have := (c3 x hx).2; omega⟩
        have c4n : ∀ w ∈ cs.zip LL, ClH Z N (fun x => rg s.heap.size H.size x ∧ ¬ lF s.heap.size (capN cs.length) ed x) H w.1 w.2 := fun w hw => ((c4 w hw).keep (fun x hx hxl => hk0 x (hx.elim (fun v => Or.inl v.1) Or.inr) hxl)).mono (fun x hx => ⟨⟨hx.1.1, by have := hx.1.2; omega⟩, hx.2⟩)
        have han : ClH Z N (fun x => rg s.heap.size H.size x ∧ ¬ lF s.heap.size (capN cs.length) ed x) H cl ac := hcl.mono (fun x hx => ⟨⟨by have := hx.1; omega, hx.2⟩, fun w => by have := (c3 x w).2; have := hx.1; omega⟩)
        have eC : acc LL (capN cs.length) = aC cs.length := by unfold acc aC; rw [← c2]
        have eS : acs LL (capN cs.length) = aS cs.length := by unfold acs aS; rw [← c2]
        refine lv_aload_n hx hbb dX6_read_199 rfl (lv_at hl 1 rfl) ?_
        refine lv_aload_n hx hbb dX6_read_200 rfl (lv_at hl 2 rfl) ?_
        refine hcV (As := [.ref ac]) (rest := []) X hM.2 hF (w_add l Z s.heap.size (capN cs.length) ed ac LL g2 H.size) ⟨c1n, hcl.any⟩ (fun x hx => Or.inr (c3 x hx).1) (c1n.recv X.2) (lw_V q934 q318 q319 q84 q320) (show hdV yJ2_add "java/util/ArrayList" 1 by decide +kernel) ⟨rfl, rfl⟩ ⟨by show 8 + 1 ≤ f + 1; omega, by show 8 + (2 + 11) + 320 ≤ L + 40; omega⟩ ⟨by show k + acc LL (capN cs.length) ≤ r.2.2.1; rw [eC]; exact hge2.1, by show n + acs LL (capN cs.length) ≤ r.2.2.2; rw [eS]; exact hge2.2⟩ hl.1 (Nat.le_of_ble_eq_true rfl) dX6_read_201 rfl (fun v H3 locs3 hv hfr3 hS3 => ?_)
        obtain ⟨rfl, ed', hed, hNN⟩ := hv
        rw [eC, eS]
        refine lv_pop hx hbb dX6_read_204 rfl ?_
        refine lv_goto (tgt := 12) hx hbb dX6_read_205 (by decide) ?_
        have hC3 := RI.add hsb c2 c3n c4n han hed hNN hfr3.1 (fun x hxl hno => hfr3.2 x hxl hno)
        have z34 := hfr3.1
        have hTK : TKW Z q t S H3 := hM.1.keep4 (fun x hx => hfr3.2 x (by
          rcases hx with rfl | rfl | rfl | rfl <;> omega) (fun w => by
          have := (c3 x w).1
          rcases hx with rfl | rfl | rfl | rfl <;> omega))
        exact ih _ _ _ _ H3 locs3 ls hh ⟨hTK, hS3⟩ hC3 (lv_sub hl [0, 1] rfl)
      have hE : ∀ (so le : Int) (code : tC) (S : yS) (k n : Nat) (H : Heap) (locs : List Loc) (ls : Array Slot) (ac : Nat), r32 so → T_rdE (T_rdL sum either fu) cs so le code S k n = some r → TKX Z q t S s H locs → H0.size ≤ H.size → (∀ x, rg s.heap.size H0.size x ∨ x < Z.b → x < H0.size → H[x]? = H0[x]?) → ClH Z N (rg H0.size H.size) H (so, le, code) ac → lv_has ls 3 [(0, .ref q), (1, .ref s.heap.size), (2, .ref ac)] → W p l e ({ frames := f + 1, cells := r.2.2.1, slots := r.2.2.2, locals := L + 40 } : Room) s m args below meth cd H locs k n Q (F0 m 173 ls []) := by
        intro so le code S k n H locs ls ac gso hh hM zH hk0 hcl hl
        obtain ⟨ra, Sa, ka, hgea, hxea, hxsa⟩ := tbE (mon_rdF mk cs so le code) hh
        refine lv_aload_n hx hbb dX6_read_173 rfl (lv_at hl 0 rfl) ?_
        refine lv_bipush (v := zi 59) hx hbb dX6_read_174 (by decide) ?_
        refine tkE (As := [.int (zi 59)]) (rest := []) X hM (wT_want l htr Z q t S 59 H.size ka) (lw_V q839 q841 qs27 q94 q842) (show hdV yX6_want "ManyEyes$Tokens" 1 by decide +kernel) ⟨by show 9 ≤ f + 1; omega, by show 8 + (2 + 11) + 360 ≤ L + 40; omega⟩ hgea hl.1 (Nat.le_of_ble_eq_true rfl) dX6_read_176 rfl (fun Ha locsa hz hMa hfra => ?_) (fun x H2 locs2 f0 p0 hz hO hS2 => by
          have hr := hxea (f0, p0) hz
          subst hr
          exact hthr _ _ _ _ _ _ ⟨f0, p0, rfl, hO⟩ hS2)
        replace hh := hxsa hz
        have za := hfra.1
        have hk1 : ∀ x, rg s.heap.size H0.size x ∨ x < Z.b → x < H0.size → Ha[x]? = H0[x]? := fun x hx hxl => (hfra.2 x (by omega) (ntf x (hx.elim (fun w => Or.inl w.1) Or.inr))).trans (hk0 x hx hxl)
        have hcl1 : ClH Z N (rg H0.size Ha.size) Ha (so, le, code) ac := (hcl.keep (fun x hx hxl => hfra.2 x hxl (ntf x (hx.elim (fun w => Or.inl (by have := w.1; omega)) Or.inr)))).mono (fun x hx => ⟨hx.1, by have := hx.2; omega⟩)
        obtain ⟨v0, w0, hcell⟩ := hcl1.cell
        refine lv_aload_n hx hbb dX6_read_179 rfl (lv_at hl 2 rfl) ?_
        refine h_get X.1 X.2.1 hcell kf_sort q724 rfl dX6_read_180 ?_
        refine lv_sipush (v := zi 200) hx hbb dX6_read_183 (by decide) ?_
        unfold T_rdF at hh
        refine g_icmp_ne (tgt := 199) hx hbb ⟨gso, by decide⟩ dX6_read_186 (by decide) (fun d1 => ?_) (fun d1 => ?_)
        · replace hh := it_t d1 hh
          obtain ⟨g3, hh⟩ := gd_inv hh
          replace hh := nm_inv hh _ rfl
          refine lv_aload_n hx hbb dX6_read_189 rfl (lv_at hl 0 rfl) ?_
          refine tm_get X hMa tf_told q550 rfl dX6_read_190 ?_
          refine lv_aload_n hx hbb dX6_read_193 rfl (lv_at hl 2 rfl) ?_
          refine h_get X.1 X.2.1 hcell kf_letter q726 rfl dX6_read_194 ?_
          refine lv_iconst (v := zi 1) hx hbb dX6_read_197 rfl ?_
          refine tm_tod X hMa g3 dX6_read_198 (fun Hb locsb hMb hfrb => ?_)
          have zb := hfrb.1
          exact hG _ _ _ _ Hb locsb ls ac hh hMb (by omega) (fun x hx hxl => (hfrb.2 x (by omega) (ntf x (hx.elim (fun w => Or.inl w.1) Or.inr))).trans (hk1 x hx hxl)) ((hcl1.keep (fun x hx hxl => hfrb.2 x hxl (ntf x (hx.elim (fun w => Or.inl (by have := w.1; omega)) Or.inr)))).mono (fun x hx => ⟨hx.1, by have := hx.2; omega⟩)) hl
        · replace hh := it_f d1 hh
          exact hG _ _ _ _ Ha locsa ls ac hh hMa (by omega) hk1 hcl1 hl
      have hD : ∀ (so le : Int) (S : yS) (k n : Nat) (H : Heap) (locs : List Loc) (ls : Array Slot) (ac : Nat), r32 so → T_rdD sum either (T_rdL sum either fu) cs so le S k n = some r → TKX Z q t S s H locs → H0.size ≤ H.size → (∀ x, rg s.heap.size H0.size x ∨ x < Z.b → x < H0.size → H[x]? = H0[x]?) → H0.size ≤ ac → va_at Z.D tcl (ac, .inr (2, [.int (zi so), .int (zi le), .null, .null])) H → lv_has ls 3 [(0, .ref q), (1, .ref s.heap.size), (2, .ref ac)] → W p l e ({ frames := f + 1, cells := r.2.2.1, slots := r.2.2.2, locals := L + 40 } : Room) s m args below meth cd H locs k n Q (F0 m 144 ls []) := by
        intro so le S k n H locs ls ac gso hh hM zH hk0 hac hcl hl
        unfold T_rdD at hh
        have lac := va_at_lt hcl
        refine lv_aload_n hx hbb dX6_read_144 rfl (lv_at hl 2 rfl) ?_
        refine h_get X.1 X.2.1 hcl kf_sort q724 rfl dX6_read_145 ?_
        refine lv_sipush (v := zi 203) hx hbb dX6_read_148 (by decide) ?_
        refine g_icmp_ne (tgt := 165) hx hbb ⟨gso, by decide⟩ dX6_read_151 (by decide) (fun d1 => ?_) (fun d1 => ?_)
        · replace hh := it_t d1 hh
          obtain ⟨rb, kb, hgeb, hxeb, hxsb⟩ := tbT (mon_rdE mk cs so le) hh
          refine lv_aload_n hx hbb dX6_read_154 rfl (lv_at hl 2 rfl) ?_
          refine lv_aload_n hx hbb dX6_read_155 rfl (lv_at hl 0 rfl) ?_
          refine tk_ask (rest := [.ref ac]) X hM (heit S rb H.size kb) (lw_V q745 q747 qs19 q94 q748) (show hdV yX6_either "ManyEyes$Tokens" 0 by decide +kernel) ⟨Nat.le_refl _, by show 8 + (2 + 11) + L ≤ L + 40; omega⟩ hgeb hl.1 (Nat.le_of_ble_eq_true rfl) dX6_read_156 (fun c1_ aT Hb locsb hc hMb hT hfrb => ?_) (fun x H2 locs2 hx hS2 => by
            obtain ⟨f0, p0, hz, hO⟩ := hx
            have hr := hxeb (f0, p0) hz
            subst hr
            exact hthr _ _ _ _ _ _ ⟨f0, p0, rfl, hO⟩ hS2)
          replace hh := hxsb c1_ hc
          have zb := hfrb.1
          have hcb := va_at_keep hcl (hfrb.2 ac lac (ntf _ (Or.inl (by omega))))
          refine h_put X.1 X.2.1 hMb.2 hcb (kp_asked aT) q730 (Nat.le_of_ble_eq_true rfl) (Or.inr (by omega)) dX6_read_159 (fun Hc locsc hA hq => ?_)
          have zc : Hc.size = Hb.size := hq.1
          refine lv_goto (tgt := 173) hx hbb dX6_read_162 (by decide) ?_
          have hTc : AskH Z N (rg H0.size Hc.size) Hc c1_ aT := (hT.keep (fun x hx hxl => hq.2.1 x (by rcases hx with v | v; (have := v.1; omega); omega))).mono (fun x hx => ⟨by have := hx.1; omega, by have := hx.2; omega⟩)
          exact hE so le c1_ _ _ _ Hc locsc ls ac gso hh ⟨hMb.1.keep4 (fun x hx => hq.2.1 x (by rcases hx with rfl | rfl | rfl | rfl <;> omega)), hq.2.2⟩ (by omega) (fun x hx hxl => ((hq.2.1 x (by omega)).trans (hfrb.2 x (by omega) (ntf x (hx.elim (fun w => Or.inl w.1) Or.inr)))).trans (hk0 x hx hxl)) ⟨⟨hac, by omega⟩, Or.inl ⟨d1, aT, hA, hTc⟩⟩ hl
        · replace hh := it_f d1 hh
          obtain ⟨rb, kb, hgeb, hxeb, hxsb⟩ := tbT (mon_rdE mk cs so le) hh
          refine lv_aload_n hx hbb dX6_read_165 rfl (lv_at hl 2 rfl) ?_
          refine lv_aload_n hx hbb dX6_read_166 rfl (lv_at hl 0 rfl) ?_
          refine tk_tree (rest := [.ref ac]) X hM (hsum S rb H.size kb) (lw_V q774 q776 qs23 q94 q777) (show hdV yX6_sum "ManyEyes$Tokens" 0 by decide +kernel) ⟨Nat.le_refl _, by show 8 + (3 + 11) + L ≤ L + 40; omega⟩ hgeb hl.1 (Nat.le_of_ble_eq_true rfl) dX6_read_167 (fun c1_ aT Hb locsb hc hMb hT hfrb => ?_) (fun x H2 locs2 hx hS2 => by
            obtain ⟨f0, p0, hz, hO⟩ := hx
            have hr := hxeb (f0, p0) hz
            subst hr
            exact hthr _ _ _ _ _ _ ⟨f0, p0, rfl, hO⟩ hS2)
          replace hh := hxsb c1_ hc
          have zb := hfrb.1
          have hcb := va_at_keep hcl (hfrb.2 ac lac (ntf _ (Or.inl (by omega))))
          refine h_put X.1 X.2.1 hMb.2 hcb (kp_sum aT) q728 (Nat.le_of_ble_eq_true rfl) (Or.inr (by omega)) dX6_read_170 (fun Hc locsc hA hq => ?_)
          have zc : Hc.size = Hb.size := hq.1
          have hTc : SumH Z N (rg H0.size Hc.size) Hc c1_ aT := (hT.keep (fun x hx hxl => hq.2.1 x (by rcases hx with v | v; (have := v.1; omega); omega))).mono (fun x hx => ⟨by have := hx.1; omega, by have := hx.2; omega⟩)
          exact hE so le c1_ _ _ _ Hc locsc ls ac gso hh ⟨hMb.1.keep4 (fun x hx => hq.2.1 x (by rcases hx with rfl | rfl | rfl | rfl <;> omega)), hq.2.2⟩ (by omega) (fun x hx hxl => ((hq.2.1 x (by omega)).trans (hfrb.2 x (by omega) (ntf x (hx.elim (fun w => Or.inl w.1) Or.inr)))).trans (hk0 x hx hxl)) ⟨⟨hac, by omega⟩, Or.inr ⟨d1, aT, hA, hTc⟩⟩ hl
      have hB : T_rdB sum either (T_rdL sum either fu) cs S0 k0 n0 = some r → W p l e ({ frames := f + 1, cells := r.2.2.1, slots := r.2.2.2, locals := L + 40 } : Room) s m args below meth cd H0 locs0 k0 n0 Q (F0 m 80 ls0 []) := by
        intro hh
        have hszL := c1.size_lt
        refine lv_aload_n hx hbb dX6_read_80 rfl (lv_at hl0 1 rfl) ?_
        refine hcV (As := []) (rest := []) X hM0.2 hF (w_size l Z s.heap.size (capN cs.length) ed LL H0.size) c1 (fun x h => h.elim) (c1.recv X.2) (lw_V q716 q300 q301 q84 q302) (show hdV yJ2_size "java/util/ArrayList" 0 by decide +kernel) ⟨rfl, rfl⟩ ⟨by show 1 + 1 ≤ f + 1; omega, by show 8 + (1 + 11) + 40 ≤ L + 40; omega⟩ hge hl0.1 (Nat.le_of_ble_eq_true rfl) dX6_read_81 rfl (fun v H1 locs1 hv hfr1 hS1 => ?_)
        subst hv
        have kk : ∀ x, x < H0.size → H1[x]? = H0[x]? := fun x hx => hfr1.2 x hx (fun w => w)
        have z1 := hfr1.1
        have hM1 : TKX Z q t S0 s H1 locs1 := ⟨hM0.1.keep kk, hS1⟩
        refine lv_bipush (v := zi 10) hx hbb dX6_read_84 (by decide) ?_
        unfold T_rdB at hh
        refine g_icmp_ne (tgt := 96) hx hbb (show r32 (LL.length : Int) ∧ r32 10 by unfold r32; omega) dX6_read_86 (by decide) (fun d1 => ?_) (fun d1 => ?_)
        · replace hh := it_t (show cs.length = 10 by omega) hh
          cases Option.some.inj hh
          refine lv_aload_n hx hbb dX6_read_89 rfl (lv_at hl0 0 rfl) ?_
          refine lv_bipush (v := zi 6) hx hbb dX6_read_90 (by decide) ?_
          refine tk_wrong (rest := []) htr X hM1 rwr ⟨Nat.le_refl _, Nat.le_refl _⟩ hl0.1 (Nat.le_of_ble_eq_true rfl) dX6_read_92 dX6_read_95 (fun x H1 locs1 hO hS => ?_)
          exact hthr _ _ _ _ _ _ ⟨6, S0.1 5, rfl, hO⟩ hS
        · replace hh := it_f (show ¬ cs.length = 10 by omega) hh
          obtain ⟨g2, hh⟩ := gd_inv hh
          replace hh := nm_inv hh _ rfl
          obtain ⟨S3, k3, hh⟩ := bd_inv hh
          refine lv_aload_n hx hbb dX6_read_96 rfl (lv_at hl0 0 rfl) ?_
          refine tm_get X hM1 tf_twice q551 rfl dX6_read_97 ?_
          refine lv_aload_n hx hbb dX6_read_100 rfl (lv_at hl0 0 rfl) ?_
          refine tm_get X hM1 tf_sort q554 rfl dX6_read_101 ?_
          refine lv_sipush (v := zi 200) hx hbb dX6_read_104 (by decide) ?_
          refine g_isub hx hbb dX6_read_107 ?_
          refine lv_iconst (v := zi 1) hx hbb dX6_read_108 rfl ?_
          refine tm_tst X hM1 g2 dX6_read_109 (fun H2 locs2 hM2 hfr2 => ?_)
          have z2 := hfr2.1
          have hgeB : k0 + 1 ≤ r.2.2.1 ∧ n0 + 4 ≤ r.2.2.2 := by
            by_cases h2 : S0.1 6 = 200
            · exact tb_mon (mon_rdD sum either mk cs (S0.1 6)) (it_t h2 hh)
            · exact mon_rdD sum either mk cs (S0.1 6) _ _ _ _ _ (it_f h2 hh)
          refine nw_X8 X hM2.2 hgeB.1 hgeB.2 dX6_read_110 (fun H3 hN3 z3 o3 hS3 => ?_)
          have hM3 : TKX Z q t (cas S0 2 (S0.1 6 - 200) 1) s H3 locs2 := ⟨hM2.1.keep o3, hS3⟩
          refine lv_dup hx hbb dX6_read_113 rfl ?_
          refine lv_aload_n hx hbb dX6_read_114 rfl (lv_at hl0 0 rfl) ?_
          refine tm_get X hM3 tf_sort q554 rfl dX6_read_115 ?_
          refine ni_X8 (x1 := S0.1 6) (rest := [.ref H2.size]) X hS3 hF (by omega) hN3 (Or.inr (by omega)) ⟨by show 4 ≤ f + 1; omega, by show 130 ≤ L + 40; omega⟩ hgeB hl0.1 (Nat.le_of_ble_eq_true rfl) dX6_read_118 (fun H4 locs4 hN4 hfr4 hS4 => ?_)
          have z4 := hfr4.1
          have hM4 : TKX Z q t (cas S0 2 (S0.1 6 - 200) 1) s H4 locs4 := ⟨hM3.1.keep4 (fun x hx => hfr4.2 x (by rcases hx with rfl | rfl | rfl | rfl <;> omega) (by show ¬ x = _; rcases hx with rfl | rfl | rfl | rfl <;> omega)), hS4⟩
          have hk4 : ∀ x, rg s.heap.size H0.size x ∨ x < Z.b → x < H0.size → H4[x]? = H0[x]? := fun x hx hxl => (((hfr4.2 x (by omega) (by show ¬ x = _; omega)).trans (o3 x (by omega))).trans (hfr2.2 x (by omega) (ntf x (hx.elim (fun w => Or.inl w.1) Or.inr)))).trans (kk x hxl)
          refine lv_astore_n (lv' := [(2, .ref H2.size), (0, .ref q), (1, .ref s.heap.size)]) hx hbb dX6_read_121 rfl hl0 (by decide) rfl (fun ls hl => ?_)
          replace hl := lv_sub hl [1, 2, 0] rfl
          refine lv_aload_n hx hbb dX6_read_122 rfl (lv_at hl 0 rfl) ?_
          refine tk_next X hM4 k3 rnx hgeB hl.1 (Nat.le_of_ble_eq_true rfl) dX6_read_123 (fun H5 locs5 hM5 hfr5 => ?_)
          have z5 := hfr5.1
          have hN5 := va_at_keep hN4 (hfr5.2 H2.size (by omega) (ntf _ (Or.inl (by omega))))
          have hk5 : ∀ x, rg s.heap.size H0.size x ∨ x < Z.b → x < H0.size → H5[x]? = H0[x]? := fun x hx hxl => (hfr5.2 x (by omega) (ntf x (hx.elim (fun w => Or.inl w.1) Or.inr))).trans (hk4 x hx hxl)
          refine lv_aload_n hx hbb dX6_read_126 rfl (lv_at hl 2 rfl) ?_
          refine h_get X.1 X.2.1 hN5 kf_sort q724 rfl dX6_read_127 ?_
          refine lv_sipush (v := zi 200) hx hbb dX6_read_130 (by decide) ?_
          refine g_icmp_ne (tgt := 144) hx hbb ⟨g1, by decide⟩ dX6_read_133 (by decide) (fun d2 => ?_) (fun d2 => ?_)
          · replace hh := it_t d2 hh
            obtain ⟨rc, Sc, kc, hgec, hxec, hxsc⟩ := tbN (mon_rdD sum either mk cs (S0.1 6)) hh
            refine lv_aload_n hx hbb dX6_read_136 rfl (lv_at hl 2 rfl) ?_
            refine lv_aload_n hx hbb dX6_read_137 rfl (lv_at hl 0 rfl) ?_
            refine tkLt (rest := [.ref H2.size]) htr X hM5 kc ⟨by show 9 ≤ f + 1; omega, by show 400 ≤ L + 40; omega⟩ hgec hl.1 (Nat.le_of_ble_eq_true rfl) dX6_read_138 (fun z H6 locs6 hz hM6 hfr6 => ?_) (fun x H2 locs2 f0 p0 hz hO hS2 => by
              have hr := hxec (f0, p0) hz
              subst hr
              exact hthr _ _ _ _ _ _ ⟨f0, p0, rfl, hO⟩ hS2)
            replace hh := hxsc z hz
            have z6 := hfr6.1
            have hN6 := va_at_keep hN5 (hfr6.2 H2.size (by omega) (ntf _ (Or.inl (by omega))))
            refine h_put X.1 X.2.1 hM6.2 hN6 (kp_letter z) q726 (Nat.le_of_ble_eq_true rfl) (Or.inr (by omega)) dX6_read_141 (fun H7 locs7 hA hq => ?_)
            have z7 : H7.size = H6.size := hq.1
            exact hD _ z _ _ _ H7 locs7 ls H2.size g1 hh ⟨hM6.1.keep4 (fun x hx => hq.2.1 x (by rcases hx with rfl | rfl | rfl | rfl <;> omega)), hq.2.2⟩ (by omega) (fun x hx hxl => ((hq.2.1 x (by omega)).trans (hfr6.2 x (by omega) (ntf x (hx.elim (fun w => Or.inl w.1) Or.inr)))).trans (hk5 x hx hxl)) (by omega) hA hl
          · replace hh := it_f d2 hh
            exact hD _ 0 _ _ _ H5 locs5 ls H2.size g1 hh hM5 (by omega) hk5 (by omega) hN5 hl
      have er : ∀ (r0 : rdR), some ((.inr (1, S0.1 5), S0, k0 + 1, n0 + 8) : rdR) = some r → W p l e ({ frames := f + 1, cells := r.2.2.1, slots := r.2.2.2, locals := L + 40 } : Room) s m args below meth cd H0 locs0 k0 n0 Q (F0 m 42 ls0 []) := by
        intro _ hh
        cases Option.some.inj hh
        refine lv_aload_n hx hbb dX6_read_42 rfl (lv_at hl0 0 rfl) ?_
        refine lv_iconst (v := zi 1) hx hbb dX6_read_43 rfl ?_
        refine tk_wrong (rest := []) htr X hM0 rwr ⟨Nat.le_refl _, Nat.le_refl _⟩ hl0.1 (Nat.le_of_ble_eq_true rfl) dX6_read_44 dX6_read_47 (fun x H1 locs1 hO hS => ?_)
        exact hthr _ _ _ _ _ _ ⟨1, S0.1 5, rfl, hO⟩ hS
      refine lv_aload_n hx hbb dX6_read_12 rfl (lv_at hl0 0 rfl) ?_
      refine tm_get X hM0 tf_sort q554 rfl dX6_read_13 ?_
      refine lv_sipush (v := zi 301) hx hbb dX6_read_16 (by decide) ?_
      refine g_icmp_eq (tgt := 208) hx hbb ⟨g1, by decide⟩ dX6_read_19 (by decide) (fun d1 => ?_) (fun d1 => ?_)
      · replace hh := it_t d1 hh
        cases Option.some.inj hh
        refine lv_aload_n hx hbb dX6_read_208 rfl (lv_at hl0 1 rfl) ?_
        exact hret _ _ _ _ _ dX6_read_209 ⟨cs, s.heap.size, rfl, rfl, LL, _, ed, c1, c2, c3, fun w hw => (c4 w hw).mono (fun x hx => hx.1)⟩ hM0.2
      replace hh := it_f d1 hh
      refine lv_aload_n hx hbb dX6_read_22 rfl (lv_at hl0 0 rfl) ?_
      refine tm_get X hM0 tf_sort q554 rfl dX6_read_23 ?_
      refine lv_sipush (v := zi 200) hx hbb dX6_read_26 (by decide) ?_
      refine g_icmp_lt (tgt := 42) hx hbb ⟨g1, by decide⟩ dX6_read_29 (by decide) (fun d2 => er r (it_t d2 hh)) (fun d2 => ?_)
      replace hh := it_f d2 hh
      refine lv_aload_n hx hbb dX6_read_32 rfl (lv_at hl0 0 rfl) ?_
      refine tm_get X hM0 tf_sort q554 rfl dX6_read_33 ?_
      refine lv_sipush (v := zi 203) hx hbb dX6_read_36 (by decide) ?_
      refine g_icmp_le (tgt := 48) hx hbb ⟨g1, by decide⟩ dX6_read_39 (by decide) (fun d3 => ?_) (fun d3 => er r (it_f d3 hh))
      replace hh := it_t d3 hh
      refine lv_aload_n hx hbb dX6_read_48 rfl (lv_at hl0 0 rfl) ?_
      refine tm_get X hM0 tf_sort q554 rfl dX6_read_49 ?_
      refine lv_sipush (v := zi 200) hx hbb dX6_read_52 (by decide) ?_
      refine g_icmp_eq (tgt := 80) hx hbb ⟨g1, by decide⟩ dX6_read_55 (by decide) (fun d4 => hB (it_t d4 hh)) (fun d4 => ?_)
      replace hh := it_f d4 hh
      obtain ⟨g4, hh⟩ := gd_inv hh
      obtain ⟨g5, hh⟩ := gd_inv hh
      refine lv_aload_n hx hbb dX6_read_58 rfl (lv_at hl0 0 rfl) ?_
      refine tm_get X hM0 tf_twice q551 rfl dX6_read_59 ?_
      refine lv_aload_n hx hbb dX6_read_62 rfl (lv_at hl0 0 rfl) ?_
      refine tm_get X hM0 tf_sort q554 rfl dX6_read_63 ?_
      refine lv_sipush (v := zi 200) hx hbb dX6_read_66 (by decide) ?_
      refine g_isub hx hbb dX6_read_69 ?_
      refine tm_twice X hM0 g4 dX6_read_70 ?_
      refine g_if_eq (tgt := 80) hx hbb g5 dX6_read_71 (by decide) (fun d5 => hB (it_t d5 hh)) (fun d5 => ?_)
      replace hh := it_f d5 hh
      cases Option.some.inj hh
      refine lv_aload_n hx hbb dX6_read_74 rfl (lv_at hl0 0 rfl) ?_
      refine lv_iconst (v := zi 4) hx hbb dX6_read_75 rfl ?_
      refine tk_wrong (rest := []) htr X hM0 rwr ⟨Nat.le_refl _, Nat.le_refl _⟩ hl0.1 (Nat.le_of_ble_eq_true rfl) dX6_read_76 dX6_read_79 (fun x H1 locs1 hO hS => ?_)
      exact hthr _ _ _ _ _ _ ⟨4, S0.1 5, rfl, hO⟩ hS
  have hcost := mon_rdL sum either FU _ _ _ _ _ hh
  refine h_new X.1 X.2.1 hS (fun q h => Or.inr h) (ci := 14) rfl in_J2 tyJ2 tyJ2_ok q581 q134 q84 fsJ2 hcost.1 hcost.2 dX6_read_0 (fun H0 hN0 z0 o0 hS0 => ?_)
  refine lv_dup hx hbb dX6_read_3 rfl ?_
  refine hcI (As := []) (rest := [.ref s.heap.size]) (b := s.heap.size) X hS0 hF (w_alI l Z s.heap.size H0.size X.2.2.2 _ _ _) hN0 (fun x h => Or.inr (by rw [h]; exact Nat.le_refl _)) (cwI 0 hts (lw_meth q137) rfl rfl rfl (hts _ q84) (hts _ q582) (hts _ q136) rfl (show hdS yJ2_init 0 by decide +kernel) ⟨by show 4 + 1 ≤ f + 1; omega, by show 8 + (1 + 11) + 120 ≤ L + 40; omega⟩) ⟨rfl, rfl⟩ ⟨by show 4 + 1 ≤ f + 1; omega, by show 8 + (1 + 11) + 120 ≤ L + 40; omega⟩ ⟨hcost.1, hcost.2⟩ hl.1 (Nat.le_of_ble_eq_true rfl) dX6_read_4 rfl (fun v H1 locs1 hv hfr1 hS1 => ?_)
  obtain ⟨rfl, hL1⟩ := hv
  have z1 := hfr1.1
  have hLst := Lst.nil X.2 X.2.2.2 hL1
  have k01 : ∀ x, x < s.heap.size → H1[x]? = s.heap[x]? := fun x hx => (hfr1.2 x (by omega) (by show ¬ x = _; omega)).trans (o0 x hx)
  have hM1 : TKX Z q t S s H1 locs1 := ⟨hP.keep k01, hS1⟩
  have llst := va_at_lt hL1
  refine lv_astore_n (lv' := [(1, .ref s.heap.size), (0, .ref q)]) hx hbb dX6_read_7 rfl hl (by decide) rfl (fun ls hl => ?_)
  refine lv_aload_n hx hbb dX6_read_8 rfl (lv_at hl 1 rfl) ?_
  refine tk_next X hM1 kx rnx ⟨hcost.1, hcost.2⟩ hl.1 (Nat.le_of_ble_eq_true rfl) dX6_read_9 (fun H2 locs2 hM2 hfr2 => ?_)
  have z2 := hfr2.1
  have hC1 : RI Z N s.heap.size s.heap.size [] H1 := ⟨[], Z.G.eD, hLst, rfl, fun x hx => by
    rcases hx with w | w
    · exact ⟨by omega, by omega⟩
    · exact absurd w.2 (by show ¬ 10 ≤ 0; omega), fun w hw => by cases hw⟩
  exact hL FU _ _ _ _ H2 locs2 ls hh hM2 (hC1.keep z2 (fun x hx hxl => hfr2.2 x hxl (ntf x (hx.elim (fun w => Or.inl w.1) Or.inr)))) (lv_sub hl [1, 0] rfl)
