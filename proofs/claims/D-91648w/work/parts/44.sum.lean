/-! product and sum -/
set_option maxRecDepth 100000
def capN : Nat → Nat
  | 0 => 0
  | m + 1 => if m = capN m then gcap (capN m) else capN m
def aC (m : Nat) : Nat := if m = capN m then 1 else 0
def aS (m : Nat) : Nat := if m = capN m then gcap (capN m) else 0
def T_chL (x y : Int) (one : yS → Option (tR tC)) : Nat → tC → Nat → yS → Nat → Nat → Option (tR tC)
  | 0 => fun _ _ _ _ _ => none
  | fu + 1 => fun c m S k n => gd (r32 (S.1 6)) (if S.1 6 = x ∨ S.1 6 = y then bd (T_next S) (fun S1 => tb (one S1) k n (fun c1 S2 k n => gd (capN m < 40000) (T_chL x y one fu (c ++ (c1 ++ [(sgO (S.1 6), 0)])) (m + 1) S2 (k + (aC m + aC m)) (n + (aS m + aS m))))) else some (.inl c, S, k, n))
def T_ch (x y : Int) (one : yS → Option (tR tC)) (S : yS) : Option (tR tC) := tb (one S) 1 3 (fun c S k n => T_chL x y one FU c 0 S (k + 2) (n + 6))
/-- a method of Tokens that gives a tree -/
abbrev mS (l : Launch) (y : MethodName) (bytes : ByteArray) (maxL : Nat) (f L : Nat) (Z : hZ) (q t : Nat) (S : yS) (r : tR tC) (N n0 : Nat) : Prop := mX l y bytes maxL (some (.object "ManyEyes$Sum")) ({ frames := f, cells := r.2.2.1, slots := r.2.2.2, locals := L } : Room) Z [.ref q] n0 (TKW Z q t S) (fun v H => ∃ c a, r.1 = .inl c ∧ v = some (.ref a) ∧ TKW Z q t r.2.1 H ∧ SumH Z N (rg n0 H.size) H c a) (xI Z r.1) (tF q) r.2.2.1 r.2.2.2
theorem TKW.keep4 {Z : hZ} {q t : Nat} {S : yS} {H H1 : Heap} (h : TKW Z q t S H) (hk : ∀ a, a = q ∨ a = q + 1 ∨ a = q + 2 ∨ a = t → H1[a]? = H[a]?) : TKW Z q t S H1 :=
  ⟨va_at_keep h.1 (hk _ (Or.inl rfl)), va_at_keep h.2.1 (hk _ (Or.inr (Or.inl rfl))), va_at_keep h.2.2.1 (hk _ (Or.inr (Or.inr (Or.inl rfl)))), va_at_keep h.2.2.2.1 (hk _ (Or.inr (Or.inr (Or.inr rfl)))), h.2.2.2.2⟩
section TS
variable {p : Program} {l : Launch} {e : Env} {R : Room} {s : State} {m : MethodId} {args : Array Value} {below : List Frame} {meth : Method} {c : Code} {H : Heap} {locs : List Loc} {cells slots : Nat} {Q : State → Prop}
variable {cc : ByteArray} {pc nL : Nat} {ls : Array Slot} {rest : List Value} {Z : hZ} {q t : Nat} {S : yS} {y : MethodName} {bytes : ByteArray} {maxL idx f L N : Nat}
theorem tk_tree (X : hCx "ManyEyes$Tokens" p c cc nL s m args Z) (hM : TKX Z q t S s H locs) {r : tR tC} (met : mS l y bytes maxL f L Z q t S r N H.size) (hT : GoodIn lw_all (wsV "ManyEyes$Tokens" idx "ManyEyes$Tokens" y (ws_ y bytes maxL (some (.object "ManyEyes$Sum"))))) (hd : hdV y "ManyEyes$Tokens" 0) (hR : f + 1 ≤ R.frames ∧ 8 + (maxL + 11) + L ≤ R.locals) (hcs : cells + r.2.2.1 ≤ R.cells ∧ slots + r.2.2.2 ≤ R.slots) (hls : ls.size = nL) (hro : (rest.map fun v => v.category).sum ≤ 8) (hdg : decode cc pc = .ok (.invokevirtual idx, 3))
    (kk : ∀ (c0 : tC) (a : Nat) (H1 : Heap) (locs1 : List Loc), r.1 = .inl c0 → TKX Z q t r.2.1 s H1 locs1 → SumH Z N (rg H.size H1.size) H1 c0 a → hFr (tF q) H H1 → W p l e R s m args below meth c H1 locs1 (cells + r.2.2.1) (slots + r.2.2.2) Q (F0 m (pc + 3) ls (.ref a :: rest)))
    (kx : ∀ (x : Nat) (H1 : Heap) (locs1 : List Loc), xI Z r.1 x H1 → va_S (hA (tF q) s.heap.size) s.heap H1 locs1 → WX p l e R s m args below meth c H1 locs1 (cells + r.2.2.1) (slots + r.2.2.2) Q (F0 m pc ls rest) x) : W p l e R s m args below meth c H locs cells slots Q (F0 m pc ls (.ref q :: rest)) := by
  refine hcX (As := []) X hM.2 hM.1.F met hM.1 (fun a h => Or.inl h) (hM.1.recv X.2) hT hd ⟨rfl, rfl⟩ hR hcs hls hro hdg rfl (fun v H1 locs1 hv hfr hS => ?_) (fun x H1 locs1 hx hfr hS => kx x H1 locs1 hx hS)
  obtain ⟨c0, a, h1, rfl, h2, h3⟩ := hv
  exact kk c0 a H1 locs1 h1 ⟨h2, hS⟩ h3 hfr
end TS
/-- a chain that is being made -/
def CI (Z : hZ) (N n0 ch : Nat) (c : tC) (m : Nat) (H : Heap) : Prop := ∃ (f am as : Nat) (L1 L2 : List Nat) (em es : Nat) (cf : tC) (xs : List (Int × tC)), ChW Z ch f am as L1 L2 (capN m) em (capN m) es H ∧ L1.length = m ∧ L2.length = m ∧ (∀ x, cO_ ch am as (capN m) em (capN m) es x → rg n0 H.size x) ∧ SumH Z N (fun x => rg n0 H.size x ∧ ¬ cO_ ch am as (capN m) em (capN m) es x) H cf f ∧ Itm Z (SumH Z N (fun x => rg n0 H.size x ∧ ¬ cO_ ch am as (capN m) em (capN m) es x) H) xs L1 L2 ∧ c = cf ++ flat xs
theorem ChW.below {Z : hZ} {c f am as cm em cs es : Nat} {L1 L2 : List Nat} {H : Heap} (h : ChW Z c f am as L1 L2 cm em cs es H) {x : Nat} (hx : x ∈ L2) : x < Z.b := h.2.2.2.2.2.2.2.2.2.2.2 x hx
theorem CI.keep {Z : hZ} {N n0 ch m : Nat} {c : tC} {H H1 : Heap} (h : CI Z N n0 ch c m H) (hz : H.size ≤ H1.size) (hk : ∀ x, rg n0 H.size x ∨ x < Z.b → x < H.size → H1[x]? = H[x]?) : CI Z N n0 ch c m H1 := by
  obtain ⟨f, am, as, L1, L2, em, es, cf, xs, h1, h2, h2', h3, h4, h5, h6⟩ := h
  have hm : ∀ x, (rg n0 H.size x ∧ ¬ cO_ ch am as (capN m) em (capN m) es x) → (rg n0 H1.size x ∧ ¬ cO_ ch am as (capN m) em (capN m) es x) := fun x hx => ⟨⟨hx.1.1, Nat.lt_of_lt_of_le hx.1.2 hz⟩, hx.2⟩
  have hs : ∀ {c0 : tC} {a : Nat}, SumH Z N (fun x => rg n0 H.size x ∧ ¬ cO_ ch am as (capN m) em (capN m) es x) H c0 a → SumH Z N (fun x => rg n0 H1.size x ∧ ¬ cO_ ch am as (capN m) em (capN m) es x) H1 c0 a := fun w => (w.keep (fun x hx hl => hk x (hx.elim (fun v => Or.inl v.1) Or.inr) hl)).mono hm
  refine ⟨f, am, as, L1, L2, em, es, cf, xs, h1.keep (fun x hx hl => hk x ?_ hl), h2, h2', fun x hx => ⟨(h3 x hx).1, Nat.lt_of_lt_of_le (h3 x hx).2 hz⟩, hs h4, h5.imp (fun c a _ w => hs w), h6⟩
  rcases hx with w | w | w
  · exact Or.inl (h3 x w)
  · obtain ⟨c0, hc⟩ := h5.all w
    exact Or.inl hc.A.1
  · exact Or.inr (h1.below w)
theorem CI.done {Z : hZ} {N n0 ch m : Nat} {c : tC} {H : Heap} (h : CI Z N n0 ch c m H) : ∃ (f am as : Nat) (L1 L2 : List Nat) (em es : Nat), ChW Z ch f am as L1 L2 (capN m) em (capN m) es H ∧ SumH Z (N + 1) (rg n0 H.size) H c (if L1 = [] then f else ch) := by
  obtain ⟨f, am, as, L1, L2, em, es, cf, xs, h1, h2, h2', h3, h4, h5, h6⟩ := h
  refine ⟨f, am, as, L1, L2, em, es, h1, ?_⟩
  by_cases hL : L1 = []
  · rw [if_pos hL]
    have hx : xs = [] := List.length_eq_zero_iff.mp (by rw [h5.1, hL]; rfl)
    rw [h6, hx]
    show SumH Z (N + 1) (rg n0 H.size) H (cf ++ flat []) f
    rw [show flat [] = [] from rfl, List.append_nil]
    exact (h4.mono (fun x hx => hx.1)).up1
  · rw [if_neg hL]
    have hx : xs ≠ [] := fun w => hL (List.length_eq_zero_iff.mp (by rw [← h5.1, w]; rfl))
    exact ⟨h3 ch (Or.inl rfl), Or.inr (Or.inr (Or.inr (Or.inr (Or.inr (Or.inr (Or.inr ⟨f, am, as, L1, L2, _, em, _, es, cf, xs, h1, h3, hx, h4.mono (fun x hx => hx.1), h5.imp (fun c a _ w => w.mono (fun x hx => hx.1)), h6⟩))))))⟩
