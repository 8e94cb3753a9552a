set_option maxRecDepth 100000
/-! sums: the component's descent against the reference's pile -/
def sA : Nat → Nat
  | 0 => 0
  | m + 1 => sA m + aS m
theorem sA_bd : ∀ m, m < 400 → sA m ≤ 10 * m ∧ capN m < 40000 := by
  have key : ∀ m, m < 400 → sA m ≤ 10 * m ∧ capN m < 40000 := by decide +kernel
  exact key
/-- the heights of the two piles: steps that can be worked -/
def ck1 (s : Int × Int) (h : Nat × Nat) : Option (Nat × Nat) :=
  if s.1 = 0 then (if 0 ≤ s.2 ∧ s.2 ≤ 9999 then some (h.1 + 1, h.2) else none)
  else if s.1 = 1 then (if 0 ≤ s.2 ∧ s.2 < 8 then some (h.1 + 1, h.2) else none)
  else if s.1 = 30 then some (h.1 + 1, h.2)
  else if s.1 = 31 ∨ s.1 = 32 then (if 0 ≤ s.2 ∧ s.2 < 16 then some (h.1 + 1, h.2) else none)
  else if s.1 = 2 then (if 1 ≤ h.1 then some h else none)
  else if 3 ≤ s.1 ∧ s.1 ≤ 8 then (if 2 ≤ h.1 then some (h.1 - 1, h.2) else none)
  else if 10 ≤ s.1 ∧ s.1 ≤ 15 then (if 2 ≤ h.1 then some (h.1 - 2, h.2 + 1) else none)
  else if s.1 = 20 then (if 1 ≤ h.2 then some h else none)
  else if s.1 = 21 ∨ s.1 = 22 then (if 2 ≤ h.2 then some (h.1, h.2 - 1) else none)
  else none
def ck : List (Int × Int) → Nat × Nat → Option (Nat × Nat)
  | [], h => some h
  | s :: c, h => (ck1 s h).bind (ck c)
theorem ck_app : ∀ (c d : List (Int × Int)) (h : Nat × Nat), ck (c ++ d) h = (ck c h).bind (ck d) := by
  intro c
  induction c with
  | nil => intro d h; rfl
  | cons s c ih =>
    intro d h
    show (ck1 s h).bind (ck (c ++ d)) = ((ck1 s h).bind (ck c)).bind (ck d)
    cases ck1 s h with
    | none => rfl
    | some k => exact ih d k
def ckS (c : List (Int × Int)) : Prop := ∀ v t, ck c (v, t) = some (v + 1, t)
def ckA (c : List (Int × Int)) : Prop := ∀ v t, ck c (v, t) = some (v, t + 1)
theorem ckS.two {c d : List (Int × Int)} (hc : ckS c) (hd : ckS d) {o z : Int} (ho : 3 ≤ o ∧ o ≤ 8) : ckS (c ++ (d ++ [(o, z)])) := by
  intro v t
  rw [ck_app, hc v t]
  show ck (d ++ [(o, z)]) (v + 1, t) = _
  rw [ck_app, hd (v + 1) t]
  show (ck1 (o, z) (v + 1 + 1, t)).bind (ck []) = _
  unfold ck1
  rw [if_neg (by show ¬ o = 0; omega), if_neg (by show ¬ o = 1; omega), if_neg (by show ¬ o = 30; omega), if_neg (by show ¬ (o = 31 ∨ o = 32); omega), if_neg (by show ¬ o = 2; omega), if_pos (by show 3 ≤ o ∧ o ≤ 8; exact ho), if_pos (by show 2 ≤ v + 1 + 1; omega)]
  rfl
theorem ckS.neg {c : List (Int × Int)} (hc : ckS c) : ckS (c ++ [(2, 0)]) := by
  intro v t
  rw [ck_app, hc v t]
  show (ck1 (2, 0) (v + 1, t)).bind (ck []) = _
  unfold ck1
  rw [if_neg (by decide), if_neg (by decide), if_neg (by decide), if_neg (by decide), if_pos rfl, if_pos (by show 1 ≤ v + 1; omega)]
  rfl
theorem ckA.cmp {c d : List (Int × Int)} (hc : ckS c) (hd : ckS d) {o z : Int} (ho : 10 ≤ o ∧ o ≤ 15) : ckA (c ++ d ++ [(o, z)]) := by
  intro v t
  rw [List.append_assoc, ck_app, hc v t]
  show ck (d ++ [(o, z)]) (v + 1, t) = _
  rw [ck_app, hd (v + 1) t]
  show (ck1 (o, z) (v + 1 + 1, t)).bind (ck []) = _
  unfold ck1
  rw [if_neg (by show ¬ o = 0; omega), if_neg (by show ¬ o = 1; omega), if_neg (by show ¬ o = 30; omega), if_neg (by show ¬ (o = 31 ∨ o = 32); omega), if_neg (by show ¬ o = 2; omega), if_neg (by show ¬ (3 ≤ o ∧ o ≤ 8); omega), if_pos (by show 10 ≤ o ∧ o ≤ 15; exact ho), if_pos (by show 2 ≤ v + 1 + 1; omega)]
  rfl
theorem ckA.not_ {c : List (Int × Int)} (hc : ckA c) : ckA (c ++ [(20, 0)]) := by
  intro v t
  rw [ck_app, hc v t]
  show (ck1 (20, 0) (v, t + 1)).bind (ck []) = _
  unfold ck1
  rw [if_neg (by decide), if_neg (by decide), if_neg (by decide), if_neg (by decide), if_neg (by decide), if_neg (by decide), if_neg (by decide), if_pos rfl, if_pos (by show 1 ≤ t + 1; omega)]
  rfl
theorem ckA.two {c d : List (Int × Int)} (hc : ckA c) (hd : ckA d) {o : Int} (ho : o = 21 ∨ o = 22) : ckA (c ++ (d ++ [(o, 0)])) := by
  intro v t
  rw [ck_app, hc v t]
  show ck (d ++ [(o, 0)]) (v, t + 1) = _
  rw [ck_app, hd v (t + 1)]
  show (ck1 (o, 0) (v, t + 1 + 1)).bind (ck []) = _
  unfold ck1
  rw [if_neg (by show ¬ o = 0; omega), if_neg (by show ¬ o = 1; omega), if_neg (by show ¬ o = 30; omega), if_neg (by show ¬ (o = 31 ∨ o = 32); omega), if_neg (by show ¬ o = 2; omega), if_neg (by show ¬ (3 ≤ o ∧ o ≤ 8); omega), if_neg (by show ¬ (10 ≤ o ∧ o ≤ 15); omega), if_neg (by show ¬ o = 20; omega), if_pos (by show o = 21 ∨ o = 22; exact ho), if_pos (by show 2 ≤ t + 1 + 1; omega)]
  rfl
theorem ckS.leaf {o x : Int} (h : (o = 0 ∧ 0 ≤ x ∧ x ≤ 9999) ∨ (o = 1 ∧ 0 ≤ x ∧ x < 8) ∨ o = 30 ∨ ((o = 31 ∨ o = 32) ∧ 0 ≤ x ∧ x < 16)) : ckS [(o, x)] := by
  intro v t
  show (ck1 (o, x) (v, t)).bind (ck []) = _
  unfold ck1
  rcases h with ⟨rfl, h⟩ | ⟨rfl, h⟩ | rfl | ⟨g, h⟩
  · rw [if_pos rfl, if_pos h]; rfl
  · rw [if_neg (show ¬ (1 : Int) = 0 by decide), if_pos rfl, if_pos h]; rfl
  · rw [if_neg (show ¬ (30 : Int) = 0 by decide), if_neg (show ¬ (30 : Int) = 1 by decide), if_pos rfl]; rfl
  · rw [if_neg (by show ¬ o = 0; omega), if_neg (by show ¬ o = 1; omega), if_neg (by show ¬ o = 30; omega), if_pos (by show o = 31 ∨ o = 32; exact g), if_pos h]; rfl
/-- what a parser of the component gives, and what the reference's loop does meanwhile. E: on which tokens it ends; kc, ks: what it costs beyond its tokens -/
def SubR (E : Int → Prop) (kc ks zz : Nat) (S : yS) (Sm : xS) (r : tR (List (Int × Int))) (Pq : List (Int × Int) → List Int → List (Int × Int) → Int → Prop) : Prop :=
  ((r.2.2.1 : Int) ≤ 40 * (r.2.1.1 5 - S.1 5) + kc ∧ (r.2.2.2 : Int) ≤ 100 * (r.2.1.1 5 - S.1 5) + ks ∧ S.1 5 ≤ r.2.1.1 5 ∧ r.2.1.1 5 ≤ S.1 1) ∧
  ((∃ c q f o Sm' n, r.1 = .inl c ∧ Rch Sm Sm' n ∧ (n : Int) ≤ r.2.1.1 5 - S.1 5 ∧ PS r.2.1 Sm' q o f 1 ∧ Pq c q f o ∧ mFr Sm Sm' ∧ nF S r.2.1 ∧ S.1 5 < r.2.1.1 5 ∧ E (r.2.1.1 6) ∧ ((f.length + q.length + zz : Nat) : Int) ≤ r.2.1.1 5 ∧ ckS c) ∨
   (∃ ft pl Sm' n, r.1 = .inr (ft, pl) ∧ Fls Sm ft Sm' n ∧ (n : Int) ≤ r.2.1.1 5 - S.1 5 + 1 ∧ (1 ≤ ft ∧ ft ≤ 6) ∧ Sm'.1 14 = pl ∧ r32 pl ∧ mFr Sm Sm'))
def PqL (L : Int) (hgt : Nat) (p : List Int) (o : Int) (e : List (Int × Int)) : List (Int × Int) → List Int → List (Int × Int) → Int → Prop := fun c q f o' => stq L q = p ∧ f ++ sto L q = e ++ c ∧ whp q = q ∧ o' = o ∧ q.length + hgt ≤ p.length + 2
def SubOK (sub : yS → Option (tR (List (Int × Int)))) (L : Int) (hgt : Nat) (E : Int → Prop) (kc ks : Nat) (o0 : Int) : Prop := ∀ (S : yS) (Sm : xS) (p : List Int) (e : List (Int × Int)) (zz : Nat), PS S Sm p (S.1 8) e 0 → (0 ≤ S.1 8 ∧ S.1 8 ≤ 8) → o0 ≤ S.1 8 → (p.length : Int) ≤ 3 * S.1 8 + hgt → stq L p = p → whp p = p → ((e.length + p.length + zz : Nat) : Int) ≤ S.1 5 → ∃ r, sub S = some r ∧ SubR E kc ks zz S Sm r (PqL L hgt p (S.1 8) e)
theorem stq_sto {L : Int} : ∀ {p : List Int}, stq L p = p → sto L p = [] := by
  intro p h
  have := st_len L p
  rw [h] at this
  exact List.length_eq_zero_iff.mp (by omega)
theorem stq_stq {L K : Int} (h : L ≤ K) : ∀ q : List Int, stq L (stq K q) = stq L q ∧ sto K q ++ sto L (stq K q) = sto L q := by
  intro q
  induction q with
  | nil => exact ⟨rfl, rfl⟩
  | cons x q ih =>
    by_cases c : x < 40 ∧ K ≤ x
    · have c' : x < 40 ∧ L ≤ x := ⟨c.1, by omega⟩
      have e1 : stq K (x :: q) = stq K q := if_pos c
      have e2 : stq L (x :: q) = stq L q := if_pos c'
      have e3 : sto K (x :: q) = (x, 0) :: sto K q := if_pos c
      have e4 : sto L (x :: q) = (x, 0) :: sto L q := if_pos c'
      rw [e1, e2, e3, e4]
      exact ⟨ih.1, by rw [List.cons_append, ih.2]⟩
    · have e1 : stq K (x :: q) = x :: q := if_neg c
      have e3 : sto K (x :: q) = [] := if_neg c
      rw [e1, e3]
      exact ⟨rfl, rfl⟩
theorem whp_cons {x : Int} {p : List Int} (h : x ≠ 2) : whp (x :: p) = x :: p := if_neg h
theorem stq_pop {L x : Int} {p : List Int} (h : x < 40 ∧ L ≤ x) : stq L (x :: p) = stq L p ∧ sto L (x :: p) = (x, 0) :: sto L p := ⟨if_pos h, if_pos h⟩
theorem stq_keep {L x : Int} {p : List Int} (h : ¬ (x < 40 ∧ L ≤ x)) : stq L (x :: p) = x :: p := if_neg h
theorem LX.b5 {S : yS} {Sm : xS} (h : LX S Sm) : 0 ≤ S.1 5 ∧ S.1 5 ≤ S.1 4 ∧ S.1 4 ≤ S.1 1 ∧ S.1 1 ≤ 300 := by
  have := h.1.2.1
  obtain ⟨-, -, h3, h4, -, h5, -⟩ := h
  omega
/-- a chain of like rank -/
theorem ch_loop {sub : yS → Option (tR (List (Int × Int)))} {L L' x y : Int} {hgt : Nat} {E : Int → Prop} {kc ks : Nat} {o0 : Int} (hs : SubOK sub L' (hgt + 1) E kc ks o0) (hh : hgt ≤ 2) (hkc : kc ≤ 20) (hks : ks ≤ 60) (hxy : (x = 43 ∧ y = 45 ∧ L = 3 ∧ L' = 5) ∨ (x = 42 ∧ y = 47 ∧ L = 5 ∧ L' = 40)) :
    ∀ (m0 : Nat) (S : yS) (Sm : xS) (p q : List Int) (e f c : List (Int × Int)) (m k n N N' zz : Nat), 300 - S.1 5 ≤ m0 → PS S Sm q (S.1 8) f 1 → (0 ≤ S.1 8 ∧ S.1 8 ≤ 8) → o0 ≤ S.1 8 → (p.length : Int) ≤ 3 * S.1 8 + hgt → stq L p = p → whp p = p → stq L q = p → f ++ sto L q = e ++ c → whp q = q → q.length + hgt ≤ p.length + 2 → E (S.1 6) → ((f.length + q.length + zz : Nat) : Int) ≤ S.1 5 → (m : Int) ≤ S.1 5 → ckS c → k ≤ N' → n ≤ N + 2 * sA m → ∀ fu, m0 < fu → ∃ r, T_chL x y sub fu c m S k n = some r ∧
      ((r.2.2.1 : Int) ≤ N' + 40 * (r.2.1.1 5 - S.1 5) + kc ∧ (r.2.2.2 : Int) ≤ N + 100 * (r.2.1.1 5 - S.1 5) + 20 * m + ks ∧ S.1 5 ≤ r.2.1.1 5 ∧ r.2.1.1 5 ≤ S.1 1) ∧
      ((∃ c' q' f' Sm' t, r.1 = .inl c' ∧ Rch Sm Sm' t ∧ (t : Int) ≤ r.2.1.1 5 - S.1 5 ∧ PS r.2.1 Sm' q' (S.1 8) f' 1 ∧ (stq L q' = p ∧ f' ++ sto L q' = e ++ c' ∧ whp q' = q' ∧ q'.length + hgt ≤ p.length + 2) ∧ mFr Sm Sm' ∧ nF S r.2.1 ∧ (E (r.2.1.1 6) ∧ r.2.1.1 6 ≠ x ∧ r.2.1.1 6 ≠ y) ∧ ((f'.length + q'.length + zz : Nat) : Int) ≤ r.2.1.1 5 ∧ ckS c') ∨
       (∃ ft pl Sm' t, r.1 = .inr (ft, pl) ∧ Fls Sm ft Sm' t ∧ (t : Int) ≤ r.2.1.1 5 - S.1 5 + 1 ∧ (1 ≤ ft ∧ ft ≤ 6) ∧ Sm'.1 14 = pl ∧ r32 pl ∧ mFr Sm Sm')) := by
  intro m0
  induction m0 with
  | zero =>
    intro S Sm p q e f c m k n N N' zz hm hP h8 ho hp1 hp2 hp3 hq1 hq2 hq3 hq4 hE hlen hmm hck hk hn fu hfu
    obtain ⟨fu, rfl⟩ : ∃ k, fu = k + 1 := ⟨fu - 1, by omega⟩
    have b5 := hP.1.b5
    have hend : S.1 6 = 301 := by
      have := hP.1.2.2.2.2.2.1.2.2
      by_cases g : S.1 6 = 301
      · exact g
      · have := this g; omega
    have sb := (sA_bd m (by omega)).1
    refine ⟨(.inl c, S, k, n), ?_, ?_, Or.inl ⟨c, q, f, Sm, 0, rfl, fun n => rfl, by show (0 : Int) ≤ S.1 5 - S.1 5; omega, hP, ⟨hq1, hq2, hq3, hq4⟩, mFr.rfl_ _, nF.rfl_ _, ⟨hE, ?_, ?_⟩, hlen, hck⟩⟩
    · show gd (r32 (S.1 6)) _ = _
      rw [gd_pos (by rw [hend]; decide), if_neg (by rw [hend]; omega)]
    · refine ⟨show (k : Int) ≤ N' + 40 * (S.1 5 - S.1 5) + kc by omega, show (n : Int) ≤ N + 100 * (S.1 5 - S.1 5) + 20 * m + ks by omega, Int.le_refl _, show S.1 5 ≤ S.1 1 by omega⟩
    · show S.1 6 ≠ x
      rw [hend]; omega
    · show S.1 6 ≠ y
      rw [hend]; omega
  | succ m0 ih =>
    intro S Sm p q e f c m k n N N' zz hm hP h8 ho hp1 hp2 hp3 hq1 hq2 hq3 hq4 hE hlen hmm hck hk hn fu hfu
    obtain ⟨fu, rfl⟩ : ∃ k, fu = k + 1 := ⟨fu - 1, by omega⟩
    have b5 := hP.1.b5
    have sb := (sA_bd m (by omega)).1
    have hr := hP.1.tk.1.1
    have hX : T_chL x y sub (fu + 1) c m S k n = gd (r32 (S.1 6)) (if S.1 6 = x ∨ S.1 6 = y then bd (T_next S) (fun S1 => tb (sub S1) k n (fun c1 S2 k n => gd (capN m < 40000) (T_chL x y sub fu (c ++ (c1 ++ [(sgO (S.1 6), 0)])) (m + 1) S2 (k + (aC m + aC m)) (n + (aS m + aS m))))) else some (.inl c, S, k, n)) := rfl
    rw [hX, gd_pos hr]
    have ql : (stq L q).length + (sto L q).length = q.length := st_len L q
    rw [hq1] at ql
    have hfl : (e ++ c).length + p.length = f.length + q.length := by
      rw [← hq2, List.length_append]; omega
    by_cases hop : S.1 6 = x ∨ S.1 6 = y
    · rw [if_pos hop]
      obtain ⟨S1, X, z1, z2, z3, z4, z5, z6⟩ := hP.op (L := L) (by omega) (by omega)
      rw [z1, bd_some]
      rw [hq1, hq2] at z3
      have h81 : S1.1 8 = S.1 8 := z5.2 8 (by decide) (by decide) (by decide) (by decide)
      have h11 : S1.1 1 = S.1 1 := z5.2 1 (by decide) (by decide) (by decide) (by decide)
      have hne : S.1 6 ≠ 301 := by omega
      have hst := hP.1.2.2.2.2.2.1.2.2 hne
      have hsg : 3 ≤ sgO (S.1 6) ∧ sgO (S.1 6) ≤ 6 ∧ L ≤ sgO (S.1 6) ∧ sgO (S.1 6) < L' := by
        unfold sgO
        rcases hxy with ⟨rfl, rfl, rfl, rfl⟩ | ⟨rfl, rfl, rfl, rfl⟩
        · rcases hop with g | g <;> rw [g] <;> decide
        · rcases hop with g | g <;> rw [g] <;> decide
      have hstq : stq L' (sgO (S.1 6) :: p) = sgO (S.1 6) :: p := stq_keep (by omega)
      obtain ⟨r1, w1, ⟨w2, w3, w4, w4'⟩, w5⟩ := hs S1 X (sgO (S.1 6) :: p) (e ++ c) zz (by rw [h81]; exact z3) (by omega) (by omega) (by simp only [List.length_cons]; omega) hstq (whp_cons (by omega)) (by simp only [List.length_cons]; omega)
      obtain ⟨rr, S2, k2, n2⟩ := r1
      dsimp only at w2 w3 w4 w4' w5
      rw [w1]
      rcases w5 with ⟨c1, q1, f1, o1, Y, t, v1, v2, v3, v4, ⟨v5, v6, v7, v8, v14⟩, v9, v10, v11, v12, v13, v15⟩ | ⟨ft, pl, Y, t, v1, v2, v3, v4, v5, v6, v7⟩
      · subst v1
        show ∃ r, gd (capN m < 40000) (T_chL x y sub fu (c ++ (c1 ++ [(sgO (S.1 6), 0)])) (m + 1) S2 (k + k2 + (aC m + aC m)) (n + n2 + (aS m + aS m))) = some r ∧ _
        rw [gd_pos (sA_bd m (by omega)).2]
        have h82 : S2.1 8 = S.1 8 := (v10.2 8 (by decide) (by decide) (by decide) (by decide)).trans h81
        have h12 : S2.1 1 = S.1 1 := (v10.2 1 (by decide) (by decide) (by decide) (by decide)).trans h11
        obtain ⟨sq1, sq2⟩ := stq_stq (L := L) (K := L') (by omega) q1
        rw [v5] at sq1 sq2
        obtain ⟨sp1, sp2⟩ := stq_pop (L := L) (x := sgO (S.1 6)) (p := p) (by omega)
        have hsto := stq_sto hp2
        have hac : aC m ≤ 1 := by unfold aC; split <;> omega
        subst v8
        obtain ⟨r, y1, ⟨y2, y3, y4, y4'⟩, y5⟩ := ih S2 Y p q1 e f1 (c ++ (c1 ++ [(sgO (S.1 6), 0)])) (m + 1) (k + k2 + (aC m + aC m)) (n + n2 + (aS m + aS m)) (N + (100 * (S2.1 5 - S1.1 5) + ks).toNat) (N' + k2 + 2) zz (by omega) (by rw [h82]; rw [h81] at v4; exact v4) (by omega) (by omega) (by omega) hp2 hp3 (by rw [← sq1, sp1, hp2]) (by
            rw [← sq2, sp2, hsto, ← List.append_assoc, v6]
            simp only [List.append_assoc]) v7 (by simp only [List.length_cons] at v14; omega) v12 v13 (by omega) (hck.two v15 (by omega)) (by omega) (by
            show n + n2 + (aS m + aS m) ≤ _ + 2 * (sA m + aS m)
            omega) fu (by omega)
        refine ⟨r, y1, ⟨by omega, by omega, by omega, by omega⟩, ?_⟩
        rcases y5 with ⟨c2, q2, f2, V, t2, u1, u2, u3, u4, u5, u6, u7, u8, u9, u10⟩ | ⟨ft, pl, V, t2, u1, u2, u3, u4, u5, u6, u7⟩
        · exact Or.inl ⟨c2, q2, f2, V, _, u1, z2.trans (v2.trans u2), by omega, by rw [← h82]; exact u4, u5, z4.trans (v9.trans u6), (z5.trans v10).trans u7, u8, u9, u10⟩
        · exact Or.inr ⟨ft, pl, V, _, u1, z2.fls (v2.fls u2), by omega, u4, u5, u6, z4.trans (v9.trans u7)⟩
      · subst v1
        refine ⟨(.inr (ft, pl), S2, k + k2, n + n2), rfl, ⟨show ((k + k2 : Nat) : Int) ≤ N' + 40 * (S2.1 5 - S.1 5) + kc by omega, show ((n + n2 : Nat) : Int) ≤ N + 100 * (S2.1 5 - S.1 5) + 20 * m + ks by omega, show S.1 5 ≤ S2.1 5 by omega, show S2.1 5 ≤ S.1 1 by omega⟩, Or.inr ⟨ft, pl, Y, _, rfl, z2.fls v2, show ((t + 1 : Nat) : Int) ≤ S2.1 5 - S.1 5 + 1 by omega, v4, v5, v6, z4.trans v7⟩⟩
    · rw [if_neg hop]
      refine ⟨(.inl c, S, k, n), rfl, ?_, Or.inl ⟨c, q, f, Sm, 0, rfl, fun n => rfl, by show (0 : Int) ≤ S.1 5 - S.1 5; omega, hP, ⟨hq1, hq2, hq3, hq4⟩, mFr.rfl_ _, nF.rfl_ _, ⟨hE, fun g => hop (Or.inl g), fun g => hop (Or.inr g)⟩, hlen, hck⟩⟩
      exact ⟨show (k : Int) ≤ N' + 40 * (S.1 5 - S.1 5) + kc by omega, show (n : Int) ≤ N + 100 * (S.1 5 - S.1 5) + 20 * m + ks by omega, Int.le_refl _, show S.1 5 ≤ S.1 1 by omega⟩
theorem ch_ok {sub : yS → Option (tR (List (Int × Int)))} {L L' x y : Int} {hgt : Nat} {E : Int → Prop} {kc ks : Nat} {o0 : Int} (hs : SubOK sub L' (hgt + 1) E kc ks o0) (hh : hgt ≤ 2) (hkc : kc ≤ 20) (hks : ks ≤ 60) (hxy : (x = 43 ∧ y = 45 ∧ L = 3 ∧ L' = 5) ∨ (x = 42 ∧ y = 47 ∧ L = 5 ∧ L' = 40)) : SubOK (T_ch x y sub) L hgt (fun s => E s ∧ s ≠ x ∧ s ≠ y) (kc + kc + 3) (ks + ks + 9) o0 := by
  intro S Sm p e zz hP h8 ho hp1 hp2 hp3 hlen
  have hpK : stq L' p = p := by
    have := stq_stq (L := L) (K := L') (by omega) p
    cases p with
    | nil => rfl
    | cons a p =>
      refine stq_keep (fun g => ?_)
      have g2 : stq L (a :: p) = stq L p := if_pos ⟨g.1, by omega⟩
      rw [g2] at hp2
      have h3 := st_len L p
      rw [hp2] at h3
      simp only [List.length_cons] at h3
      omega
  obtain ⟨r1, w1, ⟨w2, w3, w4, w4'⟩, w5⟩ := hs S Sm p e zz hP h8 ho (by omega) hpK hp3 hlen
  obtain ⟨rr, S2, k2, n2⟩ := r1
  dsimp only at w2 w3 w4 w4' w5
  have hX : T_ch x y sub S = tb (sub S) 1 3 (fun c S k n => T_chL x y sub FU c 0 S (k + 2) (n + 6)) := rfl
  rw [hX, w1]
  rcases w5 with ⟨c1, q1, f1, o1, Y, t, v1, v2, v3, v4, ⟨v5, v6, v7, v8, v14⟩, v9, v10, v11, v12, v13, v15⟩ | ⟨ft, pl, Y, t, v1, v2, v3, v4, v5, v6, v7⟩
  · subst v1
    show ∃ r, T_chL x y sub FU c1 0 S2 (1 + k2 + 2) (3 + n2 + 6) = some r ∧ _
    have h82 : S2.1 8 = S.1 8 := v10.2 8 (by decide) (by decide) (by decide) (by decide)
    have h12 : S2.1 1 = S.1 1 := v10.2 1 (by decide) (by decide) (by decide) (by decide)
    obtain ⟨sq1, sq2⟩ := stq_stq (L := L) (K := L') (by omega) q1
    rw [v5] at sq1 sq2
    subst v8
    obtain ⟨r, y1, ⟨y2, y3, y4, y4'⟩, y5⟩ := ch_loop hs hh hkc hks hxy 300 S2 Y p q1 e f1 c1 0 (1 + k2 + 2) (3 + n2 + 6) (3 + n2 + 6) (1 + k2 + 2) zz (by have := v4.1.b5; omega) (by rw [h82]; exact v4) (by omega) (by omega) (by omega) hp2 hp3 (by rw [← sq1, hp2]) (by rw [← sq2, stq_sto hp2, List.append_nil, v6]) v7 (by omega) v12 v13 (by omega) v15 (Nat.le_refl _) (Nat.le_add_right _ _) FU (by decide)
    refine ⟨r, y1, ⟨by omega, by omega, by omega, by omega⟩, ?_⟩
    rcases y5 with ⟨c2, q2, f2, V, t2, u1, u2, u3, u4, u5, u6, u7, u8, u9, u10⟩ | ⟨ft, pl, V, t2, u1, u2, u3, u4, u5, u6, u7⟩
    · exact Or.inl ⟨c2, q2, f2, _, V, _, u1, v2.trans u2, by omega, u4, ⟨u5.1, u5.2.1, u5.2.2.1, h82, u5.2.2.2⟩, v9.trans u6, v10.trans u7, by omega, u8, u9, u10⟩
    · exact Or.inr ⟨ft, pl, V, _, u1, v2.fls u2, by omega, u4, u5, u6, v9.trans u7⟩
  · subst v1
    exact ⟨(.inr (ft, pl), S2, 1 + k2, 3 + n2), rfl, ⟨show ((1 + k2 : Nat) : Int) ≤ 40 * (S2.1 5 - S.1 5) + _ by omega, show ((3 + n2 : Nat) : Int) ≤ 100 * (S2.1 5 - S.1 5) + _ by omega, w4, w4'⟩, Or.inr ⟨ft, pl, Y, t, rfl, v2, v3, v4, v5, v6, v7⟩⟩
