/-! one -/
set_option maxRecDepth 100000
def monF {α β : Type} (f : α → yS → Nat → Nat → Option (tR β)) : Prop := ∀ a S k n r, f a S k n = some r → k ≤ r.2.2.1 ∧ n ≤ r.2.2.2
theorem tb_mon {α β : Type} {x : Option (tR α)} {k n : Nat} {f : α → yS → Nat → Nat → Option (tR β)} {r : tR β} (mf : monF f) (h : tb x k n f = some r) : k ≤ r.2.2.1 ∧ n ≤ r.2.2.2 := by
  rcases tb_inv h with ⟨e, S, k', n', -, hr⟩ | ⟨a, S, k', n', -, h⟩
  · rw [hr]; exact ⟨Nat.le_add_right _ _, Nat.le_add_right _ _⟩
  · have := mf _ _ _ _ _ h
    omega
theorem monF.tb {α β γ : Type} {x : γ → yS → Option (tR α)} {f : γ → α → yS → Nat → Nat → Option (tR β)} {i j : Nat} (mf : ∀ c, monF (f c)) : monF (fun c S k n => Jvm.Pilot.CManyEyesLaw_law_r6865_3fce6d.tb (x c S) (k + i) (n + j) (f c)) := by
  intro c S k n r h
  have := tb_mon (mf c) h
  omega
theorem monF.end_ {α β : Type} {g : α → yS → (β ⊕ (Int × Int)) × yS} : monF (fun a S k n => some ((g a S).1, (g a S).2, k, n)) := by
  intro a S k n r h
  cases Option.some.inj h
  exact ⟨Nat.le_refl _, Nat.le_refl _⟩
theorem tbE {β : Type} {x : Option (tE × yS)} {k n : Nat} {f : Unit → yS → Nat → Nat → Option (tR β)} {r : tR β} (mf : monF f) (h : tb (lE x) k n f = some r) : ∃ r0 S1, x = some (r0, S1) ∧ (k + 1 ≤ r.2.2.1 ∧ n + 8 ≤ r.2.2.2) ∧ (∀ e, r0 = some e → r = (.inr e, S1, k + 1, n + 8)) ∧ (r0 = none → f () S1 (k + 1) (n + 8) = some r) := by
  match x, h with
  | some (none, S1), h => exact ⟨none, S1, rfl, mf _ _ _ _ _ h, fun e he => (by cases he), fun _ => h⟩
  | some (some e, S1), h =>
    cases Option.some.inj h
    exact ⟨some e, S1, rfl, ⟨Nat.le_refl _, Nat.le_refl _⟩, fun e' he => (by cases he; rfl), fun he => (by cases he)⟩
theorem tbT {α β : Type} {x : Option (tR α)} {k n : Nat} {f : α → yS → Nat → Nat → Option (tR β)} {r : tR β} (mf : monF f) (h : tb x k n f = some r) : ∃ r0 : tR α, x = some r0 ∧ (k + r0.2.2.1 ≤ r.2.2.1 ∧ n + r0.2.2.2 ≤ r.2.2.2) ∧ (∀ e, r0.1 = .inr e → r = (.inr e, r0.2.1, k + r0.2.2.1, n + r0.2.2.2)) ∧ ∀ a, r0.1 = .inl a → f a r0.2.1 (k + r0.2.2.1) (n + r0.2.2.2) = some r := by
  match x, h with
  | some (.inr e, S, k', n'), h =>
    cases Option.some.inj h
    exact ⟨(.inr e, S, k', n'), rfl, ⟨Nat.le_refl _, Nat.le_refl _⟩, fun e' he => (by cases he; rfl), fun a he => (by cases he)⟩
  | some (.inl a, S, k', n'), h => exact ⟨(.inl a, S, k', n'), rfl, mf _ _ _ _ _ h, fun e' he => (by cases he), fun a' he => (by cases he; exact h)⟩
theorem tbN {β : Type} {x : Option ((Int ⊕ (Int × Int)) × yS)} {k n : Nat} {f : Int → yS → Nat → Nat → Option (tR β)} {r : tR β} (mf : monF f) (h : tb (lQ x) k n f = some r) : ∃ r0 S1, x = some (r0, S1) ∧ (k + 1 ≤ r.2.2.1 ∧ n + 8 ≤ r.2.2.2) ∧ (∀ e, r0 = .inr e → r = (.inr e, S1, k + 1, n + 8)) ∧ ∀ z, r0 = .inl z → f z S1 (k + 1) (n + 8) = some r := by
  match x, h with
  | some (.inl z, S1), h => exact ⟨.inl z, S1, rfl, mf _ _ _ _ _ h, fun e he => (by cases he), fun z' he => (by cases he; exact h)⟩
  | some (.inr e, S1), h =>
    cases Option.some.inj h
    exact ⟨.inr e, S1, rfl, ⟨Nat.le_refl _, Nat.le_refl _⟩, fun e' he => (by cases he; rfl), fun z he => (by cases he)⟩
def oEnd (g : tC → tC) : tC → yS → Nat → Nat → Option (tR tC) := fun c S k n => some (.inl (g c), cfs S 8 (S.1 8 - 1), k, n)
def T_par2 (c : tC) : Unit → yS → Nat → Nat → Option (tR tC) := fun _ S k n => some (.inl c, cfs S 8 (S.1 8 - 1), k, n)
def T_par1 : tC → yS → Nat → Nat → Option (tR tC) := fun c S k n => tb (lE (T_want S 41)) k n (T_par2 c)
def T_par0 (sum : yS → Option (tR tC)) : Unit → yS → Nat → Nat → Option (tR tC) := fun _ S k n => tb (sum S) k n T_par1
def T_min1 : tC → yS → Nat → Nat → Option (tR tC) := fun c S k n => some (.inl (c ++ [(2, 0)]), cfs S 8 (S.1 8 - 1), k, n)
def T_min0 (one : yS → Option (tR tC)) : Unit → yS → Nat → Nat → Option (tR tC) := fun _ S k n => tb (one S) (k + 1) (n + 1) T_min1
def T_mm3 (b : Bool) (c1 : tC) : tC → yS → Nat → Nat → Option (tR tC) := fun c2 S k n => tb (lE (T_want S 41)) k n (T_par2 (c1 ++ c2 ++ [(if b then 8 else 7, 0)]))
def T_mm2 (sum : yS → Option (tR tC)) (b : Bool) (c1 : tC) : Unit → yS → Nat → Nat → Option (tR tC) := fun _ S k n => tb (sum S) (k + 1) (n + 3) (T_mm3 b c1)
def T_mm1 (sum : yS → Option (tR tC)) (b : Bool) : tC → yS → Nat → Nat → Option (tR tC) := fun c1 S k n => tb (lE (T_want S 44)) k n (T_mm2 sum b c1)
def T_mm0 (sum : yS → Option (tR tC)) (b : Bool) : Unit → yS → Nat → Nat → Option (tR tC) := fun _ S k n => tb (sum S) k n (T_mm1 sum b)
def T_mm (sum : yS → Option (tR tC)) (b : Bool) (S : yS) : Option (tR tC) := bd (T_next S) (fun S => gd (r32 (S.1 6)) (if S.1 6 = 40 then tb (lE (T_opens S)) 0 0 (T_mm0 sum b) else some (.inr (1, S.1 5), S, 1, 8)))
def T_lf (o : Int) : Int → yS → Nat → Nat → Option (tR tC) := fun v S k n => some (.inl [(o, v)], S, k, n)
def T_oneB (sum one : yS → Option (tR tC)) (S : yS) : Option (tR tC) := gd (r32 (S.1 6)) (
  if S.1 6 = 300 then tb (lQ (T_number S 0 9999)) 1 1 (T_lf 0)
  else if S.1 6 = 305 then gd ((0 : Int) ≤ S.1 7 ∧ S.1 7 < 8) (gd (r32 (S.2 1 (S.1 7))) (if S.2 1 (S.1 7) = 0 then some (.inr (5, S.1 5), S, 1, 8) else bd (T_next S) (fun S1 => some (.inl [(1, S.1 7)], S1, 1, 1))))
  else if S.1 6 = 207 then bd (T_next S) (fun S1 => tb (lQ (T_number S1 0 15)) 1 1 (T_lf 31))
  else if S.1 6 = 208 then bd (T_next S) (fun S1 => tb (lQ (T_number S1 0 15)) 1 1 (T_lf 32))
  else if S.1 6 = 209 then bd (T_next S) (fun S1 => some (.inl [(30, 0)], S1, 1, 0))
  else if S.1 6 = 40 then tb (lE (T_opens S)) 0 0 (T_par0 sum)
  else if S.1 6 = 45 then tb (lE (T_opens S)) 0 0 (T_min0 one)
  else if S.1 6 = 210 then T_mm sum false S
  else if S.1 6 = 211 then T_mm sum true S
  else some (.inr (1, S.1 5), S, 1, 8))
theorem mon_par2 (c : tC) : monF (T_par2 c) := fun _ _ _ _ _ h => by cases Option.some.inj h; exact ⟨Nat.le_refl _, Nat.le_refl _⟩
theorem mon_lf (o : Int) : monF (T_lf o) := fun _ _ _ _ _ h => by cases Option.some.inj h; exact ⟨Nat.le_refl _, Nat.le_refl _⟩
theorem mon_par1 : monF T_par1 := fun c _ _ _ _ h => tb_mon (mon_par2 c) h
theorem mon_par0 (sum : yS → Option (tR tC)) : monF (T_par0 sum) := fun _ _ _ _ _ h => tb_mon mon_par1 h
theorem mon_min1 : monF T_min1 := fun _ _ _ _ _ h => by cases Option.some.inj h; exact ⟨Nat.le_refl _, Nat.le_refl _⟩
theorem mon_min0 (one : yS → Option (tR tC)) : monF (T_min0 one) := fun _ _ k n _ h => by have := tb_mon mon_min1 h; omega
theorem mon_mm3 (b : Bool) (c : tC) : monF (T_mm3 b c) := fun _ _ _ _ _ h => tb_mon (mon_par2 _) h
theorem mon_mm2 (sum : yS → Option (tR tC)) (b : Bool) (c : tC) : monF (T_mm2 sum b c) := fun _ _ k n _ h => by have := tb_mon (mon_mm3 b c) h; omega
theorem mon_mm1 (sum : yS → Option (tR tC)) (b : Bool) : monF (T_mm1 sum b) := fun _ _ _ _ _ h => tb_mon (mon_mm2 sum b _) h
theorem mon_mm0 (sum : yS → Option (tR tC)) (b : Bool) : monF (T_mm0 sum b) := fun _ _ _ _ _ h => tb_mon (mon_mm1 sum b) h
section TO
variable {p : Program} {l : Launch} {e : Env} {R : Room} {s : State} {m : MethodId} {args : Array Value} {below : List Frame} {meth : Method} {c : Code} {H : Heap} {locs : List Loc} {cells slots : Nat} {Q : State → Prop}
variable {cc : ByteArray} {pc nL : Nat} {ls : Array Slot} {rest : List Value} {Z : hZ} {q t : Nat} {S S1 : yS} {y : MethodName} {bytes : ByteArray} {maxL idx : Nat} {As st : List Value}
theorem tkE (X : hCx "ManyEyes$Tokens" p c cc nL s m args Z) (hM : TKX Z q t S s H locs) {r : tE} (met : mX l y bytes maxL none (rmT 8 360) Z (.ref q :: As) H.size (TKW Z q t S) (fun v H => r = none ∧ v = none ∧ TKW Z q t S1 H) (xE Z r) (tF q) 1 8) (hT : GoodIn lw_all (wsV "ManyEyes$Tokens" idx "ManyEyes$Tokens" y (ws_ y bytes maxL none))) (hd : hdV y "ManyEyes$Tokens" As.length) (hR : 9 ≤ R.frames ∧ 8 + (maxL + 11) + 360 ≤ R.locals) (hcs : cells + 1 ≤ R.cells ∧ slots + 8 ≤ R.slots) (hls : ls.size = nL) (hro : (rest.map fun v => v.category).sum ≤ 8) (hdg : decode cc pc = .ok (.invokevirtual idx, 3)) (hst : st = As.reverse ++ .ref q :: rest)
    (kk : ∀ (H1 : Heap) (locs1 : List Loc), r = none → TKX Z q t S1 s H1 locs1 → hFr (tF q) H H1 → W p l e R s m args below meth c H1 locs1 (cells + 1) (slots + 8) Q (F0 m (pc + 3) ls rest))
    (kx : ∀ (x : Nat) (H1 : Heap) (locs1 : List Loc) (f p0 : Int), r = some (f, p0) → WrO Z x f p0 H1 → va_S (hA (tF q) s.heap.size) s.heap H1 locs1 → WX p l e R s m args below meth c H1 locs1 (cells + 1) (slots + 8) Q (F0 m pc ls rest) x) : W p l e R s m args below meth c H locs cells slots Q (F0 m pc ls st) := by
  refine hcX (As := As) X hM.2 hM.1.F met hM.1 (fun a h => Or.inl h) (hM.1.recv X.2) hT hd ⟨rfl, rfl⟩ hR hcs hls hro hdg hst (fun v H1 locs1 hv hfr hS => ?_) (fun x H1 locs1 hx hfr hS => ?_)
  · obtain ⟨h1, rfl, h2⟩ := hv
    exact kk H1 locs1 h1 ⟨h2, hS⟩ hfr
  · obtain ⟨f, p0, h1, h2⟩ := hx
    exact kx x H1 locs1 f p0 h1 h2 hS
theorem tkN (htr : l.stackTraces = false) (X : hCx "ManyEyes$Tokens" p c cc nL s m args Z) (hM : TKX Z q t S s H locs) {x1 x2 : Int} {r : Int ⊕ (Int × Int)} (hh : T_number S x1 x2 = some (r, S1)) (hR : 9 ≤ R.frames ∧ 400 ≤ R.locals) (hcs : cells + 1 ≤ R.cells ∧ slots + 8 ≤ R.slots) (hls : ls.size = nL) (hro : (rest.map fun v => v.category).sum ≤ 8) (hdg : decode cc pc = .ok (.invokevirtual 174, 3))
    (kk : ∀ (z : Int) (H1 : Heap) (locs1 : List Loc), r = .inl z → TKX Z q t S1 s H1 locs1 → hFr (tF q) H H1 → W p l e R s m args below meth c H1 locs1 (cells + 1) (slots + 8) Q (F0 m (pc + 3) ls (.int (zi z) :: rest)))
    (kx : ∀ (x : Nat) (H1 : Heap) (locs1 : List Loc) (f p0 : Int), r = .inr (f, p0) → WrO Z x f p0 H1 → va_S (hA (tF q) s.heap.size) s.heap H1 locs1 → WX p l e R s m args below meth c H1 locs1 (cells + 1) (slots + 8) Q (F0 m pc ls rest) x) : W p l e R s m args below meth c H locs cells slots Q (F0 m pc ls (.int (zi x2) :: .int (zi x1) :: .ref q :: rest)) := by
  refine hcX (As := [.int (zi x1), .int (zi x2)]) X hM.2 hM.1.F (wT_number l htr Z q t S x1 x2 H.size hh) hM.1 (fun a h => Or.inl h) (hM.1.recv X.2) (lw_V q790 q792 qs26 q94 q793) (show hdV yX6_number "ManyEyes$Tokens" 2 by decide +kernel) ⟨rfl, rfl⟩ ⟨hR.1, Nat.le_trans (Nat.le_of_ble_eq_true rfl) hR.2⟩ hcs hls hro hdg rfl (fun v H1 locs1 hv hfr hS => ?_) (fun x H1 locs1 hx hfr hS => ?_)
  · obtain ⟨z, h1, rfl, h2⟩ := hv
    exact kk z H1 locs1 h1 ⟨h2, hS⟩ hfr
  · obtain ⟨f, p0, h1, h2⟩ := hx
    exact kx x H1 locs1 f p0 h1 h2 hS
theorem tm_putF (X : hCx "ManyEyes$Tokens" p c cc nL s m args Z) (hM : TKX Z q t S s H locs) {z : Int} (hdg : decode cc pc = .ok (.putfield 84, 3))
    (kk : ∀ (H1 : Heap) (locs1 : List Loc), TKX Z q t (cfs S 8 z) s H1 locs1 → H1.size = H.size → (∀ a, a ≠ q → H1[a]? = H[a]?) → W p l e R s m args below meth c H1 locs1 cells slots Q (F0 m (pc + 3) ls rest)) : W p l e R s m args below meth c H locs cells slots Q (F0 m pc ls (.int (zi z) :: .ref q :: rest)) := by
  refine h_put X.1 X.2.1 hM.2 hM.1.1 (tp_open z) q556 (Nat.le_of_ble_eq_true rfl) (Or.inl (Or.inl rfl)) hdg (fun H1 locs1 ha hq => ?_)
  exact kk H1 locs1 ⟨hM.1.put rfl ha hq.2.1, hq.2.2⟩ hq.1 hq.2.1
end TO
