/-! rows that ManyEyes.rule needs: writes that leave all else, contracts with more room -/
set_option maxRecDepth 100000
section RQ
variable {p : Program} {l : Launch} {e : Env} {R : Room} {s : State} {m : MethodId} {args : Array Value} {below : List Frame} {meth : Method} {c : Code} {H : Heap} {locs : List Loc} {cells slots : Nat} {Q : State → Prop}
variable {cc : ByteArray} {pc nL : Nat} {ls : Array Slot} {rest : List Value} {DC : va_G} {dA : Nat → ClassId} {hC : Nat} {S : yS} {own : String} {A : Nat → Prop}
theorem cw_upd {S1 : yS} {q : Nat} {x : va_E} {H1 : Heap} (hP : va_P DC ccl (cw dA hC S) H) (h1 : q < 662) (h13 : cC dA hC S1 q = x) (h14 : ∀ j, j < 662 → j ≠ q → cC dA hC S1 j = cC dA hC S j) (ha : va_at DC ccl (hC + q, x) H1) (hq : ∀ y, y ≠ hC + q → H1[y]? = H[y]?) : va_P DC ccl (cw dA hC S1) H1 := by
  intro k w hw
  obtain ⟨hi, rfl⟩ := cw_in hw
  by_cases h : k = q
  · subst h
    rw [h13]
    exact ha
  · rw [h14 k hi h]
    exact va_at_keep (hP k _ (cw_at hi)) (hq _ (by omega))
theorem cm_putQ (X : cCx own p c cc nL s m args DC dA) (hM : CX DC dA hC A S s H locs) {q k idx : Nat} {C nme dsc : String} {v : Value} {S1 : yS} (hl : Cond.fieldLink own idx C nme dsc ∈ lw_all) (hf : cP dA hC S q k C nme dsc v S1) {a : Nat} (hq : a = hC + q) (hdg : decode cc pc = .ok (.putfield idx, 3))
    (kk : ∀ (H1 : Heap) (locs1 : List Loc) (S2 : yS), S2 = S1 → CX DC dA hC A S2 s H1 locs1 → H1.size = H.size → (∀ x, x ≠ hC + q → H1[x]? = H[x]?) → W p l e R s m args below meth c H1 locs1 cells slots Q (F0 m (pc + 3) ls rest)) : W p l e R s m args below meth c H locs cells slots Q (F0 m pc ls (v :: .ref a :: rest)) := by
  subst hq
  obtain ⟨ci, T, N, fs, ty, h1, h2, h3, h4, rfl, rfl, h5, h6, h7, h8, h9, h10, h11, h12, h13, h14⟩ := hf
  have hat := hM.1 q _ (cw_at h1)
  rw [h6] at hat
  refine h_put X.1 X.2.1 hM.2.1 hat ⟨T, N, C, ty, h2, h3, h4, rfl, rfl, h5, h8, h9, h10, h11, h12⟩ hl h7 (hM.2.2 _ ⟨by omega, by omega⟩) hdg (fun H1 locs1 ha hq => ?_)
  exact kk H1 locs1 S1 rfl ⟨cw_upd hM.1 h1 h13 h14 ha hq.2.1, hq.2.2, hM.2.2⟩ hq.1 hq.2.1
theorem cm_iastQ (X : cCx own p c cc nL s m args DC dA) (hM : CX DC dA hC A S s H locs) {q n : Nat} {qz : Int} (ha : cI q n) (hz : (q : Int) = qz) {a : Nat} (hq : a = hC + q) {i z : Int} (g : 0 ≤ i ∧ i < (n : Int)) (hdg : decode cc pc = .ok (.iastore, 1))
    (kk : ∀ (H1 : Heap) (locs1 : List Loc) (S2 : yS), S2 = cas S qz i z → CX DC dA hC A S2 s H1 locs1 → H1.size = H.size → (∀ x, x ≠ hC + q → H1[x]? = H[x]?) → W p l e R s m args below meth c H1 locs1 cells slots Q (F0 m (pc + 1) ls rest)) : W p l e R s m args below meth c H locs cells slots Q (F0 m pc ls (.int (zi z) :: .int (zi i) :: .ref a :: rest)) := by
  subst hq hz
  have hn := ha.2.2.2
  have hat := hM.1 q _ (cw_at ha.1)
  rw [ha.cell] at hat
  refine W.iast X.1.1 X.1.2.1 hat ((X.2.1.2 0 _ rfl).1 n (fun j => .int (zi (S.2 q j)))) (fun q => by cases q) (by show ¬ (zi i < 0 ∨ (arrV _ _ _).slots.size ≤ _); rw [arrV_size]; exact zi_in g hn) rfl rfl hdg fun H1 e1 z1 oq => ?_
  refine kk H1 _ (cas S q i z) rfl ⟨cw_upd hM.1 ha.1 (ha.cell dA hC (cas S q i z)) (fun j _ hj => cC_congr rfl (by show (if (j : Int) = (q : Int) then _ else S.2 j) = _; rw [if_neg (by omega)])) ?_ oq, hM.2.1.put z1 oq (hM.2.2 _ ⟨by omega, by have := ha.1; omega⟩), hM.2.2⟩ z1 oq
  have e : (fun j : Nat => zi ((cas S q i z).2 q j)) = fun j : Nat => zi ((fun r : Int => if r = i then z else S.2 q r) j) := by
    funext j
    show zi ((if (q : Int) = (q : Int) then (fun r : Int => if r = i then z else S.2 q r) else S.2 q) (j : Int)) = _
    rw [if_pos rfl]
  rw [e]
  show H1[hC + q]? = some (vp_cell _ _)
  rw [e1, zi_cl ⟨g.1, by omega⟩]
  rw [vp_cell_i, arrV_store, ← updz (S.2 q) z g.1]
  show some (arrV (dA 0) n _) = some (vp_cell (dA 0) (n, .inl _))
  rw [vp_cell_i]
  congr 2
  funext y
  by_cases hy : y = i.toNat
  · subst hy
    simp [updV, upd]
  · simp [updV, upd, hy]
end RQ
theorem room_le {s : State} {pl : Platform} {r r' : Room} (hr : r.frames ≤ r'.frames ∧ r.locals ≤ r'.locals ∧ r.cells ≤ r'.cells ∧ r.slots ≤ r'.slots) (h : s.hasRoom pl r' = true) : s.hasRoom pl r = true := by
  obtain ⟨h1, h2, h3, h4⟩ := hr
  unfold State.hasRoom at h ⊢
  simp only [Bool.and_eq_true, decide_eq_true_eq] at h ⊢
  obtain ⟨⟨⟨⟨a1, a2, a3, a4, a5, a6⟩, a7⟩, a8⟩, a9⟩ := h
  exact ⟨⟨⟨⟨by omega, by omega, by omega, by omega, by omega, a6⟩, by omega⟩, by omega⟩, a9⟩
theorem MetT.up {l : Launch} {y : MethodName} {ws : List Cond} {rm rm' : Room} {Pc : Array Value → State → Prop} {Qc Qc' : Array Value → State → Outcome → State → Prop} {mc ms : Nat} {free : Addr → Prop} (h : MetT l y ws rm Pc Qc mc ms free) (hr : rm.frames ≤ rm'.frames ∧ rm.locals ≤ rm'.locals ∧ rm.cells ≤ rm'.cells ∧ rm.slots ≤ rm'.slots) (hq : ∀ a s o t, Qc a s o t → Qc' a s o t) : MetT l y ws rm' Pc Qc' mc ms free := by
  intro p e h1 h2 h3 s m args below hf happ hP hK
  have happ' : (headSpec ws rm).appliesLoose y e.platform s = true := by
    unfold Spec.appliesLoose at happ ⊢
    rw [hf] at happ ⊢
    simp only [Bool.and_eq_true] at happ ⊢
    obtain ⟨⟨a1, a2⟩, a3⟩ := happ
    exact ⟨⟨a1, room_le hr a2⟩, a3⟩
  obtain ⟨n, o, b1, b2, b3, b4, b5⟩ := h p e h1 h2 h3 s m args below hf happ' hP hK
  exact ⟨n, o, b1, b2, b3, hq _ _ _ _ b4, b5⟩
theorem wT_sumU (l : Launch) (htr : l.stackTraces = false) (Z : hZ) (q t : Nat) (S : yS) (r : tR tC) (n0 : Nat) (h : T_sum 9 S = some r) : mS l yX6_sum cX6_sum 3 53 2040 Z q t S r 40 n0 := by
  refine MetT.up (wT_sumD l htr Z q t 9 S n0 h) ⟨Nat.le_of_ble_eq_true rfl, Nat.le_of_ble_eq_true rfl, Nat.le_refl _, Nat.le_refl _⟩ (fun a s o t hq => ⟨?_, hq.2⟩)
  rcases hq.1 with ⟨v, e, c, a, e1, e2, e3, e4⟩ | hx
  · exact Or.inl ⟨v, e, c, a, e1, e2, e3, e4.up (by decide)⟩
  · exact Or.inr hx
theorem wT_readU (l : Launch) (htr : l.stackTraces = false) (Z : hZ) (q t : Nat) (S : yS) (n0 : Nat) {r : rdR} (hh : T_rd (T_sum 9) (T_either 9 9) S = some r) : mX l yX6_read cX6_read 3 (some (.object "java/util/ArrayList")) ({ frames := 54, cells := r.2.2.1, slots := r.2.2.2, locals := 2080 } : Room) Z [.ref q] n0 (TKW Z q t S) (fun v H => ∃ cs a, r.1 = .inl cs ∧ v = some (.ref a) ∧ RlH Z 40 (rg n0 H.size) H cs a) (xI Z r.1) (tF q) r.2.2.1 r.2.2.2 :=
  wT_read l htr Z q t (T_sum 9) (T_either 9 9) 53 2040 40 (by decide) (by decide) (wT_sumU l htr Z q t) (fun S r n0 h => wT_eitherD l htr Z q t 9 9 S n0 h) S n0 hh
