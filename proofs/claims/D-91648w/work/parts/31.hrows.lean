/-! rows over single cells: what is not written stays as it was -/
set_option maxRecDepth 100000
abbrev hq_ (A : Nat → Prop) (H0 H H1 : Heap) (locs1 : List Loc) (a : Nat) : Prop := H1.size = H.size ∧ (∀ q, q ≠ a → H1[q]? = H[q]?) ∧ va_S A H0 H1 locs1
theorem va_one {D : va_G} {cl : List vw_C} {q : Nat × va_E} {H : Heap} (h : va_at D cl q H) : va_P D cl [q] H := by
  intro k x hx
  have hz : k < 1 := (List.getElem?_eq_some_iff.mp hx).1
  rw [show k = 0 by omega] at hx
  cases hx
  exact h
section HR
variable {p : Program} {l : Launch} {e : Env} {R : Room} {s : State} {m : MethodId} {args : Array Value} {below : List Frame} {meth : Method} {c : Code} {H : Heap} {locs : List Loc} {cells slots : Nat} {Q : State → Prop}
variable {cc : ByteArray} {pc nL : Nat} {ls : Array Slot} {rest : List Value} {D : va_G} {cl : List vw_C} {tys : List (ClassId × FieldType)} {A : Nat → Prop} {a : Nat} {H0 : Heap} {own : String} {Ts : List Cond}
/-- a field of a class: its place, name, type -/
def hCl (cl : List vw_C) (Ts : List Cond) (ci k : Nat) (C nme dsc : String) : Prop := ∃ (T : u_T) (N : Nat) (C0 : String), cl[ci]? = some (C0, T, N) ∧ (∀ w ∈ u_ws C0 T N, w ∈ Ts) ∧ k < N ∧ (T k).2.1 = nme ∧ (T k).2.2.1 = dsc ∧ (T k).1 = C
theorem h_get (X : CallFix p m c cc nL s args Ts own) (hK : va_K D cl tys s) {ci k idx : Nat} {fs : List Value} {C nme dsc : String} {v : Value} (h : va_at D cl (a, .inr (ci, fs)) H) (hf : hCl cl Ts ci k C nme dsc) (hl : Cond.fieldLink own idx C nme dsc ∈ Ts) (hv : fs[k]? = some v) (hdg : decode cc pc = .ok (.getfield idx, 3))
    (kk : W p l e R s m args below meth c H locs cells slots Q (F0 m (pc + 3) ls (v :: rest))) : W p l e R s m args below meth c H locs cells slots Q (F0 m pc ls (.ref a :: rest)) := by
  obtain ⟨T, N, C0, h1, h2, h3, rfl, rfl, h5⟩ := hf
  exact va_get X.1 X.2.1 X.2.2.2.2 h2 X.2.2.2.1 hK (va_one h) 0 rfl h1 k h3 (X.2.2.2.2 _ hl) (fun x hx => by rw [h5] at hx; exact hx) hv hdg kk
theorem h_getN (X : CallFix p m c cc nL s args Ts own) (hK : va_K D cl tys s) {ci k idx : Nat} {fs : List Value} {C nme dsc host : String} {v : Value} (h : va_at D cl (a, .inr (ci, fs)) H) (hf : hCl cl Ts ci k C nme dsc) (hl : va_Nw (.fieldLinkNest own idx C nme dsc host) s) (hv : fs[k]? = some v) (hdg : decode cc pc = .ok (.getfield idx, 3))
    (kk : W p l e R s m args below meth c H locs cells slots Q (F0 m (pc + 3) ls (v :: rest))) : W p l e R s m args below meth c H locs cells slots Q (F0 m pc ls (.ref a :: rest)) := by
  obtain ⟨T, N, C0, h1, h2, h3, rfl, rfl, h5⟩ := hf
  exact va_getN X.1 X.2.1 X.2.2.2.2 h2 X.2.2.2.1 hK (va_one h) 0 rfl h1 k h3 (hl.use rfl) (fun x hx => by rw [h5] at hx; exact hx) hv hdg kk
/-- a field that is written: its type, and that it isn't final -/
def hPl (cl : List vw_C) (Ts : List Cond) (ci k : Nat) (C nme dsc : String) (v : Value) (fin : Bool) : Prop := ∃ (T : u_T) (N : Nat) (C0 : String) (ty : Nat → FieldType), cl[ci]? = some (C0, T, N) ∧ (∀ w ∈ u_ws C0 T N, w ∈ Ts) ∧ k < N ∧ (T k).2.1 = nme ∧ (T k).2.2.1 = dsc ∧ (T k).1 = C ∧ (T k).2.2.2 = fin ∧ (∀ k, k < N → parseFieldDescriptor (T k).2.2.1 = some (ty k)) ∧ (∀ a, a < N → ∀ b, b < N → a ≠ b → (T a).2.1 ≠ (T b).2.1) ∧ narrow (ty k) v = v ∧ fits (ty k) v = true
theorem h_put (X : CallFix p m c cc nL s args Ts own) (hK : va_K D cl tys s) (hS0 : va_S A H0 H locs) {ci k idx : Nat} {fs : List Value} {C nme dsc : String} {v : Value} (h : va_at D cl (a, .inr (ci, fs)) H) (hf : hPl cl Ts ci k C nme dsc v false) (hl : Cond.fieldLink own idx C nme dsc ∈ Ts) (hlen : k < fs.length) (ha : A a) (hdg : decode cc pc = .ok (.putfield idx, 3))
    (kk : ∀ (H1 : Heap) (locs1 : List Loc), va_at D cl (a, .inr (ci, fs.set k v)) H1 → hq_ A H0 H H1 locs1 a → W p l e R s m args below meth c H1 locs1 cells slots Q (F0 m (pc + 3) ls rest)) : W p l e R s m args below meth c H locs cells slots Q (F0 m pc ls (v :: .ref a :: rest)) := by
  obtain ⟨T, N, C0, ty, h1, h2, h3, rfl, rfl, h5, h6, h7, h8, h9, h10⟩ := hf
  have hap := va_apart (own := own) X.2.2.2.2 h2 ty h7 h8 hK h1
  obtain ⟨r, g1, cell, q1, q2, q3, q4⟩ := h
  have hr : r = (C0, T, N) := Option.some.inj (g1.symm.trans h1)
  subst hr
  obtain ⟨hSl, hfc, kC, hkC, hkind⟩ := hK.1 ci _ h1
  obtain ⟨cf, kf, fi, f, hi, hsl⟩ := hSl k h3
  have hlay := X.2.2.2.2 _ (h2 _ (u_in_lay h3))
  unfold u_lay at hlay
  rw [if_neg (by rw [h6]; decide)] at hlay
  have hst := (u_facts hfc hkC (u_lays X.2.2.2.2 h2 h3) hi).1
  have hs6 := u_store hfc hkC hkind hlay hi (h7 k h3) h9 h10
  refine W.putK X.1 X.2.1 (f := f) ⟨X.2.2.2.1, X.2.2.2.2 _ hl, ⟨_, _, _, by rw [← h5]; exact hi⟩, hst⟩ (by rw [q2]; exact hs6) q1 q3 (by rw [hsl]; exact k2_hasslot (q4 k h3)) rfl rfl hdg fun H' e1 e2 e3 => ?_
  rw [hsl] at e1 ⊢
  exact kk H' _ ⟨_, h1, t_OB.to (V := updV (vp_V fs) k v) ⟨_, e1, q2, q3, t_set q4 hap h3 v⟩ (fun j _ => vp_updV_set hlen v j)⟩ ⟨e2, e3, hS0.put e2 e3 ha⟩
theorem h_putF (X : CallFix p m c cc nL s args Ts own) (hK : va_K D cl tys s) (hS0 : va_S A H0 H locs) {ci k idx : Nat} {fs : List Value} {nme dsc : String} {v : Value} (h : va_at D cl (a, .inr (ci, fs)) H) (hf : hPl cl Ts ci k own nme dsc v true) (hin2 : meth.name = "<init>") (hl : Cond.fieldLink own idx own nme dsc ∈ Ts) (hlen : k < fs.length) (ha : A a) (hdg : decode cc pc = .ok (.putfield idx, 3))
    (kk : ∀ (H1 : Heap) (locs1 : List Loc), va_at D cl (a, .inr (ci, fs.set k v)) H1 → hq_ A H0 H H1 locs1 a → W p l e R s m args below meth c H1 locs1 cells slots Q (F0 m (pc + 3) ls rest)) : W p l e R s m args below meth c H locs cells slots Q (F0 m pc ls (v :: .ref a :: rest)) := by
  obtain ⟨T, N, C0, ty, h1, h2, h3, rfl, rfl, h5, h6, h7, h8, h9, h10⟩ := hf
  have hap := va_apart (own := own) X.2.2.2.2 h2 ty h7 h8 hK h1
  obtain ⟨r, g1, cell, q1, q2, q3, q4⟩ := h
  have hr : r = (C0, T, N) := Option.some.inj (g1.symm.trans h1)
  subst hr
  obtain ⟨hSl, hfc, kC, hkC, hkind⟩ := hK.1 ci _ h1
  obtain ⟨cf, kf, fi, f, hi, hsl⟩ := hSl k h3
  have hlay := X.2.2.2.2 _ (h2 _ (u_in_lay h3))
  unfold u_lay at hlay
  rw [if_pos h6] at hlay
  have hst := (u_facts hfc hkC (u_lays X.2.2.2.2 h2 h3) hi).1
  have hcf : m.cls = cf := by
    obtain ⟨_, _, c', _, _, _, -, -, hf', -, -, -, hown2, -⟩ := Cond.laysFinal_spec hlay
    have e1 : c' = cf := by have := hi.symm.trans hf'; simp at this; exact this.1.symm
    rw [h5] at hown2
    rw [← e1]; exact Option.some.inj (X.2.2.2.1.symm.trans hown2)
  have hs6 := u_fits hfc hkC hkind (Or.inr hlay) hi (h7 k h3) h9 h10
  refine W.putFinK X.1 X.2.1 X.2.2.2.1 (X.2.2.2.2 _ hl) (by rw [← h5]; exact hi) hst hcf hin2 (by rw [q2]; exact hs6) q1 q3 (by rw [hsl]; exact k2_hasslot (q4 k h3)) rfl rfl hdg fun H' e1 e2 e3 => ?_
  rw [hsl] at e1 ⊢
  exact kk H' _ ⟨_, h1, t_OB.to (V := updV (vp_V fs) k v) ⟨_, e1, q2, q3, t_set q4 hap h3 v⟩ (fun j _ => vp_updV_set hlen v j)⟩ ⟨e2, e3, hS0.put e2 e3 ha⟩
/-- a new object: its cell is the heap's next -/
theorem h_new (X : CallFix p m c cc nL s args Ts own) (hK : va_K D cl tys s) (hS : va_S A H0 H locs) (hA : ∀ q, H0.size ≤ q → A q) {ci idx N : Nat} {fs : List Value} {C : String} {T : u_T} (hc : cl[ci]? = some (C, T, N)) (hin : ∀ w ∈ u_ws C T N, w ∈ Ts) (ty : Nat → FieldType) (hty : ∀ k, k < N → parseFieldDescriptor (T k).2.2.1 = some (ty k)) (hcl : Cond.classLink own idx C ∈ Ts) (hinst : Cond.instantiable C N ∈ Ts) (hini : Cond.initialized C ∈ Ts) (hfs : ∀ j, j < N → defaultValue (ty j) = vp_V fs j) (hcells : cells + 1 ≤ R.cells) (hslots : slots + N ≤ R.slots) (hdg : decode cc pc = .ok (.new idx, 3))
    (kk : ∀ (H1 : Heap), va_at D cl (H.size, .inr (ci, fs)) H1 → H1.size = H.size + 1 → (∀ q, q < H.size → H1[q]? = H[q]?) → va_S A H0 H1 locs → W p l e R s m args below meth c H1 locs (cells + 1) (slots + N) Q (F0 m (pc + 3) ls (.ref H.size :: rest))) : W p l e R s m args below meth c H locs cells slots Q (F0 m pc ls rest) := by
  have hKn := hK.1 ci _ hc
  refine W.newcK X.1 X.2.1 X.2.2.2.1 (X.2.2.2.2 _ hcl) (X.2.2.2.2 _ hinst) (X.2.2.2.2 _ hini) rfl hdg hcells hslots hKn.2.1 rfl fun H1 kC hkC e1 z1 o1 => ?_
  exact kk H1 ⟨_, hc, (u_born ty X.2.2.2.2 hin hKn hkC e1 hty).to hfs⟩ z1 o1 ⟨Nat.le_trans hS.1 (by omega), fun x h1 h2 => (o1 x (Nat.lt_of_lt_of_le h1 hS.1)).trans (hS.2.1 x h1 h2), hS.2.2⟩
theorem h_zald (X : CallFix p m c cc nL s args Ts own) (hK : va_K D cl tys s) (t0 : Nat) {cA : ClassId} {n : Nat} {f : Int → Int} (h : va_at D cl (a, .inl (cA, n, .inl (fun j => zi (f j)))) H) (ht : tys[t0]? = some (cA, .boolean)) {i : Int} (g : 0 ≤ i ∧ i < (n : Int)) (hn : n < 2147483648) (hdg : decode cc pc = .ok (.baload, 1))
    (kk : W p l e R s m args below meth c H locs cells slots Q (F0 m (pc + 1) ls (.int (zi (f i)) :: rest))) : W p l e R s m args below meth c H locs cells slots Q (F0 m pc ls (.int (zi i) :: .ref a :: rest)) := by
  refine va_zald X.1 X.2.1 hK (va_one h) 0 t0 rfl ht (zi_in g hn) hdg ?_
  rw [zi_cast ⟨g.1, by omega⟩]
  exact kk
theorem h_zast (X : CallFix p m c cc nL s args Ts own) (hK : va_K D cl tys s) (hS0 : va_S A H0 H locs) (t0 : Nat) {cA : ClassId} {n : Nat} {f : Int → Int} (h : va_at D cl (a, .inl (cA, n, .inl (fun j => zi (f j)))) H) (ht : tys[t0]? = some (cA, .boolean)) {i z : Int} (g : 0 ≤ i ∧ i < (n : Int)) (hn : n < 2147483648) (gz : z = 0 ∨ z = 1) (ha : A a) (hdg : decode cc pc = .ok (.bastore, 1))
    (kk : ∀ (H1 : Heap) (locs1 : List Loc), va_at D cl (a, .inl (cA, n, .inl (fun j => zi (tst f i z j)))) H1 → hq_ A H0 H H1 locs1 a → W p l e R s m args below meth c H1 locs1 cells slots Q (F0 m (pc + 1) ls rest)) : W p l e R s m args below meth c H locs cells slots Q (F0 m pc ls (.int (zi z) :: .int (zi i) :: .ref a :: rest)) := by
  have hz : vp_nar .boolean (zi z) = zi z := by rcases gz with rfl | rfl <;> decide
  refine W.zast X.1 X.2.1 h ((hK.2 t0 _ ht).1 n (fun j => .int (zi (f j)))) (fun q => by cases q) (by show ¬ (zi i < 0 ∨ (arrV _ _ _).slots.size ≤ _); rw [arrV_size]; exact zi_in g hn) rfl rfl hdg fun H1 e1 z1 oq => ?_
  refine kk H1 _ ?_ ⟨z1, oq, hS0.put z1 oq ha⟩
  show H1[a]? = some (vp_cell _ _)
  rw [e1, vp_cell_i, vp_cell_i, arrV_store]
  congr 2
  funext q
  have hc : (zi i).toNatClampNeg = i.toNat := zi_cl ⟨g.1, by omega⟩
  by_cases hq : q = i.toNat
  · subst hq
    have : tst f i z ((i.toNat : Nat) : Int) = z := if_pos (by omega)
    rw [this]
    simp [updV, hc]
    have hz' : narrow .boolean (.int (zi z)) = .int (zi z) := by rcases gz with rfl | rfl <;> decide
    exact hz'
  · have : tst f i z (q : Int) = f q := if_neg (by omega)
    rw [this]
    simp [updV, hc, hq]
end HR
