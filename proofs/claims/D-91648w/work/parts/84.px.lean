set_option maxRecDepth 100000
/-! clauses and rules -/
theorem bit_or : ∀ a, a < 256 → ∀ s, s < 8 → (∀ k, k < 8 → ((a ||| 2 ^ s) / 2 ^ k) % 2 = if k = s then 1 else (a / 2 ^ k) % 2) ∧ (a ||| 2 ^ s) < 256 := by decide +kernel
theorem zor_bit {a : Int} {s : Nat} (ha : 0 ≤ a ∧ a < 256) (hs : s < 8) : (0 ≤ zor a ((1 : Int) * 2 ^ s) ∧ zor a ((1 : Int) * 2 ^ s) < 256) ∧ ∀ k : Nat, k < 8 → (zor a ((1 : Int) * 2 ^ s) / 2 ^ k) % 2 = if k = s then 1 else (a / 2 ^ k) % 2 := by
  obtain ⟨n, rfl⟩ : ∃ n : Nat, a = n := ⟨a.toNat, by omega⟩
  obtain ⟨h1, h2⟩ := bit_or n (by omega) s hs
  have e1 : ((1 : Int) * 2 ^ s).toNat = 2 ^ s := by
    rw [Int.one_mul]
    have : (2 : Int) ^ s = ((2 ^ s : Nat) : Int) := by norm_cast
    rw [this]
    rfl
  have e2 : zor (n : Int) ((1 : Int) * 2 ^ s) = ((n ||| 2 ^ s : Nat) : Int) := by
    unfold zor
    rw [e1, Int.toNat_natCast]
  rw [e2]
  refine ⟨⟨by omega, by omega⟩, fun k hk => ?_⟩
  have := h1 k hk
  have p : (2 : Int) ^ k = ((2 ^ k : Nat) : Int) := by norm_cast
  rw [p, ← Int.natCast_ediv, ← Int.natCast_ediv, show (2 : Int) = ((2 : Nat) : Int) from rfl, ← Int.natCast_emod, ← Int.natCast_emod, this]
  split <;> rfl
def cd (cs : List tCl) : List (Int × Int) := (cs.map (fun c => c.2.2)).flatten
theorem cd_app (cs : List tCl) (c : tCl) : cd (cs ++ [c]) = cd cs ++ c.2.2 := by simp [cd]
def hdR (f : Int → Int) (t : Int) (cs : List tCl) : Prop := ∀ (i : Nat) (h : i < cs.length), f (t + 1 + 4 * (i : Int)) = cs[i].1 - 199 ∧ (cs[i].1 = 200 → f (t + 1 + 4 * (i : Int) + 1) = cs[i].2.1) ∧ f (t + 1 + 4 * (i : Int) + 2) = ((cd (cs.take i)).length : Nat) ∧ f (t + 1 + 4 * (i : Int) + 3) = ((cd (cs.take (i + 1))).length : Nat)
theorem hdR.cong {f g : Int → Int} {t : Int} {cs : List tCl} (h : hdR f t cs) (hg : ∀ j, t + 1 ≤ j → j < t + 1 + 4 * cs.length → g j = f j) : hdR g t cs := by
  intro i hi
  obtain ⟨h1, h2, h3, h4⟩ := h i hi
  rw [hg _ (by omega) (by omega), hg _ (by omega) (by omega), hg _ (by omega) (by omega), hg _ (by omega) (by omega)]
  exact ⟨h1, h2, h3, h4⟩
theorem hdR.snoc {f : Int → Int} {t : Int} {cs : List tCl} {c : tCl} (h : hdR f t cs) (h1 : f (t + 1 + 4 * (cs.length : Int)) = c.1 - 199) (h2 : c.1 = 200 → f (t + 1 + 4 * (cs.length : Int) + 1) = c.2.1) (h3 : f (t + 1 + 4 * (cs.length : Int) + 2) = ((cd cs).length : Nat)) (h4 : f (t + 1 + 4 * (cs.length : Int) + 3) = ((cd (cs ++ [c])).length : Nat)) : hdR f t (cs ++ [c]) := by
  intro i hi
  simp only [List.length_append, List.length_cons, List.length_nil] at hi
  by_cases e : i < cs.length
  · rw [List.getElem_append_left e, List.take_append_of_le_length (by omega), List.take_append_of_le_length (by omega)]
    exact h i e
  · have : i = cs.length := by omega
    subst this
    have e1 : (cs ++ [c])[cs.length]'(by simp) = c := by simp
    rw [e1]
    have t1 : (cs ++ [c]).take cs.length = cs := by simp
    have t2 : (cs ++ [c]).take (cs.length + 1) = cs ++ [c] := List.take_of_length_le (by simp)
    rw [t1, t2]
    exact ⟨h1, h2, h3, h4⟩
def cmR (S : yS) (Sm : xS) : Prop := (0 ≤ Sm.1 21 ∧ Sm.1 21 < 256) ∧ ∀ w : Nat, w < 4 → S.2 2 (w : Int) = (Sm.1 21 / 2 ^ (w + 1)) % 2
def okC1 (c : tCl) : Prop := (200 ≤ c.1 ∧ c.1 ≤ 203) ∧ (c.1 = 203 → ckA c.2.2) ∧ (c.1 ≠ 203 → ckS c.2.2) ∧ (c.1 = 200 → 0 ≤ c.2.1 ∧ c.2.1 < 8)
def rdI (S : yS) (Sm : xS) (cs : List tCl) : Prop := PC S Sm 0 (cd cs) ∧ S.1 8 = 0 ∧ (Sm.1 19 = cs.length ∧ cs.length ≤ 10) ∧ hdR (Sm.2 4) (Sm.1 18) cs ∧ cmR S Sm ∧ (∀ c ∈ cs, okC1 c) ∧ ((cd cs).length : Int) ≤ S.1 5
def rFr (S S' : xS) : Prop := (∀ k, (k < 13 ∨ 26 < k) → S'.1 k = S.1 k) ∧ S'.1 18 = S.1 18 ∧ (∀ a, a ≠ 4 → a ≠ 23 → S'.2 a = S.2 a) ∧ ∀ j, ¬ (S.1 18 ≤ j ∧ j < S.1 18 + 800) → S'.2 4 j = S.2 4 j
theorem rFr.rfl_ (S : xS) : rFr S S := ⟨fun _ _ => rfl, rfl, fun _ _ _ => rfl, fun _ _ => rfl⟩
theorem rFr.trans {S X Y : xS} (h : rFr S X) (g : rFr X Y) : rFr S Y := ⟨fun k a => (g.1 k a).trans (h.1 k a), g.2.1.trans h.2.1, fun a a1 a2 => (g.2.2.1 a a1 a2).trans (h.2.2.1 a a1 a2), fun j hj => (g.2.2.2 j (by rw [h.2.1]; exact hj)).trans (h.2.2.2 j hj)⟩
theorem mFr.r {S X : xS} (h : mFr S X) : rFr S X := ⟨fun k a => h.1 k (by omega) (by omega) (by omega) (by omega) (by omega), h.1 18 (by decide) (by decide) (by decide) (by decide) (by decide), h.2.1, fun j hj => h.2.2 j (by omega)⟩
theorem LX.sortOf {S : yS} {Sm : xS} (h : LX S Sm) : M_sortOf Sm = some (if 200 ≤ S.1 6 ∧ S.1 6 ≤ 203 then S.1 6 - 199 else 0) := by
  have hk := h.tk
  have g0 := hk.2.2.2.1 0 (by decide)
  have g1 := hk.2.2.2.1 1 (by decide)
  have g2 := hk.2.2.2.1 2 (by decide)
  have g3 := hk.2.2.2.1 3 (by decide)
  rw [show (200 : Int) + ((0 : Nat) : Int) = 200 by decide] at g0
  rw [show (200 : Int) + ((1 : Nat) : Int) = 201 by decide] at g1
  rw [show (200 : Int) + ((2 : Nat) : Int) = 202 by decide, show wc 2 = 26479 by decide] at g2
  rw [show (200 : Int) + ((3 : Nat) : Int) = 203 by decide] at g3
  have hzr : ∀ w, w < 12 → r64 (wc w) := by decide
  unfold M_sortOf
  rw [gd_pos hk.1.2.1]
  by_cases t2 : Sm.1 15 = 2
  · rw [if_pos t2, wrd_let, bd_some, gd_pos ⟨hk.1.2.2 t2, hzr 0 (by decide)⟩]
    by_cases c0 : Sm.1 17 = wc 0
    · rw [if_pos c0, g0.mpr ⟨t2, c0⟩]; rfl
    · have n0 : S.1 6 ≠ 200 := fun w => c0 (g0.mp w).2
      rw [if_neg c0, wrd_turn, bd_some, gd_pos ⟨hk.1.2.2 t2, hzr 1 (by decide)⟩]
      by_cases c1 : Sm.1 17 = wc 1
      · rw [if_pos c1, g1.mpr ⟨t2, c1⟩]; rfl
      · have n1 : S.1 6 ≠ 201 := fun w => c1 (g1.mp w).2
        rw [if_neg c1, gd_pos (hk.1.2.2 t2)]
        by_cases c2 : Sm.1 17 = 26479
        · rw [if_pos c2, g2.mpr ⟨t2, c2⟩]; rfl
        · have n2 : S.1 6 ≠ 202 := fun w => c2 (g2.mp w).2
          rw [if_neg c2, wrd_rest, bd_some, gd_pos ⟨hk.1.2.2 t2, hzr 3 (by decide)⟩]
          by_cases c3 : Sm.1 17 = wc 3
          · rw [if_pos c3, g3.mpr ⟨t2, c3⟩]; rfl
          · have n3 : S.1 6 ≠ 203 := fun w => c3 (g3.mp w).2
            rw [if_neg c3, if_neg (by omega)]
  · have n0 : S.1 6 ≠ 200 := fun w => t2 (g0.mp w).1
    have n1 : S.1 6 ≠ 201 := fun w => t2 (g1.mp w).1
    have n2 : S.1 6 ≠ 202 := fun w => t2 (g2.mp w).1
    have n3 : S.1 6 ≠ 203 := fun w => t2 (g3.mp w).1
    rw [if_neg t2, if_neg (by omega)]
theorem LX.eqT {S X : yS} {Sm : xS} (h : LX S Sm) (h1 : X.1 = S.1) (h2 : X.2 0 = S.2 0) : LX X Sm := by
  unfold LX TxR
  rw [h1, h2]
  exact h
theorem PC.hd {S : yS} {Sm : xS} {o : Int} {e : List (Int × Int)} (h : PC S Sm o e) {j v : Int} (hj : j < Sm.1 18 + 80) : PC S (aset Sm 4 j v) o e := by
  obtain ⟨h1, h3, ⟨h4, h5⟩, h7, h8⟩ := h
  refine ⟨h1.eqM rfl rfl rfl rfl rfl rfl rfl, h3, ⟨h4, h5.cong (fun i a1 a2 => ?_)⟩, h7, h8⟩
  show (if i = j then v else Sm.2 4 i) = _
  exact if_neg (fun w => by omega)
theorem PC.f19 {S : yS} {Sm : xS} {o z : Int} {e : List (Int × Int)} (h : PC S Sm o e) : PC S (fset Sm 19 z) o e := by
  obtain ⟨h1, h3, h4, h7, h8⟩ := h
  exact ⟨h1.eqM rfl rfl rfl rfl rfl rfl rfl, h3, h4, h7, h8⟩
theorem PC.f21 {S : yS} {Sm : xS} {o z : Int} {e : List (Int × Int)} (h : PC S Sm o e) : PC S (fset Sm 21 z) o e := by
  obtain ⟨h1, h3, h4, h7, h8⟩ := h
  exact ⟨h1.eqM rfl rfl rfl rfl rfl rfl rfl, h3, h4, h7, h8⟩
theorem PC.t2 {S : yS} {Sm : xS} {o i z : Int} {e : List (Int × Int)} (h : PC S Sm o e) : PC (cas S 2 i z) Sm o e := by
  obtain ⟨h1, h3, h4, h7, h8⟩ := h
  refine ⟨h1.eqT rfl (cas_ne _ _ _ (by decide)), h3, h4, h7, ?_⟩
  unfold ltR
  rw [cas_ne _ _ _ (by decide)]
  exact h8
/-- a letter is told -/
theorem PC.told {S : yS} {Sm : xS} {o : Int} {e : List (Int × Int)} (h : PC S Sm o e) {l : Nat} (hl : l < 8) : PC (cas S 1 (l : Int) 1) (fset Sm 22 (zor (Sm.1 22) ((1 : Int) * 2 ^ l))) o e := by
  obtain ⟨h1, h3, h4, h7, h8⟩ := h
  obtain ⟨z1, z2⟩ := zor_bit h8.1 hl
  refine ⟨(h1.eqM (Y := fset Sm 22 (zor (Sm.1 22) ((1 : Int) * 2 ^ l))) rfl rfl rfl rfl rfl rfl rfl).eqT rfl (cas_ne _ _ _ (by decide)), h3, h4, h7, z1, fun k hk => ?_⟩
  rw [fset_eq, z2 k hk, cas_at]
  by_cases c : k = l
  · rw [if_pos c, if_pos (by rw [c])]
  · rw [if_neg c, if_neg (by omega)]
    exact h8.2 k hk
theorem zor_0 {a : Int} (h : 0 ≤ a) : zor a 0 = a := by
  unfold zor
  rw [show (0 : Int).toNat = 0 from rfl, Nat.or_zero]
  omega
theorem rFr.f {S : xS} {k : Nat} {z : Int} (hk : 13 ≤ k ∧ k ≤ 26 ∧ k ≠ 18) : rFr S (fset S k z) := ⟨fun j hj => fset_ne _ _ (by omega), fset_ne _ _ (by omega), fun _ _ _ => rfl, fun _ _ => rfl⟩
theorem rFr.a {S : xS} {j z : Int} (hj : S.1 18 ≤ j ∧ j < S.1 18 + 800) : rFr S (aset S 4 j z) := ⟨fun _ _ => rfl, rfl, fun a a1 a2 => aset_ne _ _ _ a1, fun i hi => by
  show (if i = j then z else S.2 4 i) = _
  exact if_neg (fun w => hi (by omega))⟩
def T_rd1 (sum either : yS → Option (tR tC)) (K : rdK) (cs : List tCl) (S : yS) (k n : Nat) : Option rdR := if S.1 6 < 200 then some (.inr (1, S.1 5), S, k + 1, n + 8) else if S.1 6 ≤ 203 then (if S.1 6 = 200 then T_rdB sum either K cs S k n else gd ((0 : Int) ≤ S.1 6 - 200 ∧ S.1 6 - 200 < 4) (gd (r32 (S.2 2 (S.1 6 - 200))) (if S.2 2 (S.1 6 - 200) = 0 then T_rdB sum either K cs S k n else some (.inr (4, S.1 5), S, k + 1, n + 8)))) else some (.inr (1, S.1 5), S, k + 1, n + 8)
/-- what one clause gives, of both -/
def ClR (S : yS) (Sm : xS) (cs : List tCl) (k n : Nat) (K : rdK) (t : Option rdR) (m : Option (Int × xS)) : Prop :=
  (∃ cl S' Sm' k' n', t = K (cs ++ [cl]) S' k' n' ∧ m = some (0, Sm') ∧ rdI S' Sm' (cs ++ [cl]) ∧ rFr Sm Sm' ∧ S'.1 1 = S.1 1 ∧ S.1 5 < S'.1 5 ∧ (k' : Int) ≤ k + 60 * (S'.1 5 - S.1 5) ∧ (n' : Int) ≤ n + 140 * (S'.1 5 - S.1 5)) ∨
  (∃ ft pl S' Sm' k' n', t = some (.inr (ft, pl), S', k', n') ∧ m = some (ft, Sm') ∧ (1 ≤ ft ∧ ft ≤ 6) ∧ Sm'.1 14 = pl ∧ r32 pl ∧ rFr Sm Sm' ∧ (S.1 5 ≤ S'.1 5 ∧ S'.1 5 ≤ S.1 1) ∧ (k' : Int) ≤ k + 60 * (S'.1 5 - S.1 5) + 70 ∧ (n' : Int) ≤ n + 140 * (S'.1 5 - S.1 5) + 250)
theorem aS_10 : ∀ m, m < 10 → aS m ≤ 10 ∧ capN m < 40000 := by decide +kernel
/-- the steps of a clause, its sort and letter being read -/
theorem cl_tail (d n0 : Nat) (hd : 9 ≤ d) (hn : 9 ≤ n0) (hn0 : n0 < FU) {S : yS} {Sm : xS} {cs : List tCl} {S3 : yS} {X : xS} {so : Int} {le : Nat} (hP : PC S3 X 0 (cd cs)) (h8 : S3.1 8 = 0) (hso : 200 ≤ so ∧ so ≤ 203) (hle : le < 8) (h19 : X.1 19 = cs.length) (hcs : cs.length < 10) (hh : hdR (X.2 4) (X.1 18) cs) (h1 : X.2 4 (X.1 18 + 1 + 4 * (cs.length : Int)) = so - 199) (h2 : so = 200 → X.2 4 (X.1 18 + 1 + 4 * (cs.length : Int) + 1) = le) (h3 : X.2 4 (X.1 18 + 1 + 4 * (cs.length : Int) + 2) = ((cd cs).length : Nat)) (hcm : cmR S3 X) (hok : ∀ c ∈ cs, okC1 c) (hl : ((cd cs).length : Int) ≤ S3.1 5) (hF : rFr Sm X) (h11 : S3.1 1 = S.1 1) (h5 : S.1 5 < S3.1 5) (K : rdK) (k0 n0' k n : Nat) (hk : k ≤ k0 + 2) (hkn : n ≤ n0' + 12) : ClR S Sm cs k0 n0' K (T_rdD (T_sum d) (T_either d n0) K cs so (if so = 200 then (le : Int) else 0) S3 k n) (M_clause_B145 X (so - 199) (X.1 18 + 1 + 4 * (cs.length : Int)) (if so = 200 then (1 : Int) * 2 ^ le else 0)) := by
  have b5 := hP.1.b5
  have h18 := hP.2.2.2.1
  -- the steps
  have key : ∀ (r : tR (List (Int × Int))) (m : Option (Int × xS)) (P : List (Int × Int) → Prop), ParE 60 200 S3 X m r (fun c Sm' => PC r.2.1 Sm' (S3.1 8) (cd cs ++ c) ∧ (((cd cs ++ c).length : Nat) : Int) ≤ r.2.1.1 5 ∧ P c) → (∀ c, P c → okC1 (so, (if so = 200 then (le : Int) else 0), c)) → ClR S Sm cs k0 n0' K (tb (some r) k n (T_rdE K cs so (if so = 200 then (le : Int) else 0))) (bd2 m (fun v43 S44 => M_clause_B161 S44 (X.1 18 + 1 + 4 * (cs.length : Int)) (if so = 200 then (1 : Int) * 2 ^ le else 0) v43)) := by
    intro r m P hr hPc
    obtain ⟨⟨w2, w3, w4, w5⟩, w6⟩ := hr
    obtain ⟨rr, S2, k2, n2⟩ := r
    dsimp only at w2 w3 w4 w5 w6
    rcases w6 with ⟨c, Y, v1, v2, ⟨v3, v3', v7⟩, v4, v5, v6⟩ | ⟨ft, pl, Y, v1, v2, v3, v4, v5, v6⟩
    · subst v1
      rw [tb_inl, v2, bd2_some]
      show ClR S Sm cs k0 n0' K (tb (lE (T_want S2 59)) (k + k2) (n + n2) (T_rdF K cs so (if so = 200 then (le : Int) else 0) c)) _
      unfold M_clause_B161
      have y18 : Y.1 18 = X.1 18 := v4.r.2.1
      rw [gd_pos (by decide), if_pos rfl, gd_pos (by omega), nm_eq]
      have q1 := v3.hd (j := X.1 18 + 1 + 4 * (cs.length : Int) + 3) (v := Y.1 20) (by omega)
      have s59 := v3.1.sg (s := 59) (by unfold isSg; omega)
      have h12 := v5.f1
      have b52 := v3.1.b5
      have hFa : rFr Sm (aset Y 4 (X.1 18 + 1 + 4 * (cs.length : Int) + 3) (Y.1 20)) := hF.trans (v4.r.trans (rFr.a (by omega)))
      rw [show (aset Y 4 (X.1 18 + 1 + 4 * (cs.length : Int) + 3) (Y.1 20)).1 = Y.1 from rfl, gd_pos v3.1.tk.1.2.1]
      by_cases g : S2.1 6 = 59
      · have hlt := v3.1.2.2.2.2.2.1.2.2 (by omega)
        rw [if_pos (s59.mp g)]
        have hz : (0 : Int) ≤ (if so = 200 then (1 : Int) * 2 ^ le else 0) := by
          split
          · have := Int.pow_pos (n := 2) (m := le) (by decide); omega
          · decide
        rw [gd_pos ⟨v3.2.2.2.2.1.1, hz⟩, nm_eq, nm_eq]
        -- the state behind, before the next token
        obtain ⟨SS, hSS⟩ : ∃ SS : yS, SS = if so = 200 then cas S2 1 (le : Int) 1 else S2 := ⟨_, rfl⟩
        have q2 : PC SS (fset (aset Y 4 (X.1 18 + 1 + 4 * (cs.length : Int) + 3) (Y.1 20)) 22 (zor (Y.1 22) (if so = 200 then (1 : Int) * 2 ^ le else 0))) (S3.1 8) (cd cs ++ c) := by
          rw [hSS]
          by_cases c2 : so = 200
          · rw [if_pos c2, if_pos c2]
            exact q1.told hle
          · rw [if_neg c2, if_neg c2, zor_0 v3.2.2.2.2.1.1]
            have e22 : fset (aset Y 4 (X.1 18 + 1 + 4 * (cs.length : Int) + 3) (Y.1 20)) 22 (Y.1 22) = aset Y 4 (X.1 18 + 1 + 4 * (cs.length : Int) + 3) (Y.1 20) := fset_id (aset Y 4 (X.1 18 + 1 + 4 * (cs.length : Int) + 3) (Y.1 20)) 22
            rw [e22]
            exact q1
        have hq2 : PC S2 (fset (aset Y 4 (X.1 18 + 1 + 4 * (cs.length : Int) + 3) (Y.1 20)) 19 (Y.1 19 + 1)) (S3.1 8) (cd cs ++ c) := q1.f19
        obtain ⟨B, hB⟩ : ∃ B : xS, B = fset (fset (aset Y 4 (X.1 18 + 1 + 4 * (cs.length : Int) + 3) (Y.1 20)) 22 (zor (Y.1 22) (if so = 200 then (1 : Int) * 2 ^ le else 0))) 19 ((fset (aset Y 4 (X.1 18 + 1 + 4 * (cs.length : Int) + 3) (Y.1 20)) 22 (zor (Y.1 22) (if so = 200 then (1 : Int) * 2 ^ le else 0))).1 19 + 1) := ⟨_, rfl⟩
        have q3 : PC SS B (S3.1 8) (cd cs ++ c) := by rw [hB]; exact q2.f19
        rw [← hB]
        have hLX : LX S2 B := by rw [hB]; exact v3.1.eqM rfl rfl rfl rfl rfl rfl rfl
        obtain ⟨S4, Z, z1, z2, z3, z4, z5, z6⟩ := hLX.nx
        obtain ⟨S5, hS5⟩ : ∃ S5 : yS, S5 = if so = 200 then cas S4 1 (le : Int) 1 else S4 := ⟨_, rfl⟩
        have S51 : S5.1 = S4.1 := by rw [hS5]; split <;> rfl
        have S52 : S5.2 = SS.2 := by
          rw [hS5, hSS]; split
          · unfold cas
            rw [z4.1]
          · exact z4.1
        have S5t : S5.2 2 = S2.2 2 := by
          rw [S52, hSS]; split
          · exact cas_ne _ _ _ (by decide)
          · rfl
        have S50 : S5.2 0 = S4.2 0 := by
          rw [hS5]; split
          · exact cas_ne _ _ _ (by decide)
          · rfl
        have hz : ∀ j, j ≠ 13 → j ≠ 14 → j ≠ 15 → j ≠ 16 → j ≠ 17 → Z.1 j = B.1 j := z5.2
        have hz2 : Z.2 = B.2 := z5.1
        rw [T_want_y v3.1.tk.1.1 g z1, tb_inl, z2, bd_some]
        have hac := aC_le cs.length
        obtain ⟨has, hcap⟩ := aS_10 cs.length hcs
        have hT : T_rdF K cs so (if so = 200 then (le : Int) else 0) c () S4 (k + k2 + 1) (n + n2 + 8) = K (cs ++ [(so, (if so = 200 then (le : Int) else 0), c)]) S5 (k + k2 + 1 + aC cs.length) (n + n2 + 8 + aS cs.length) := by
          unfold T_rdF T_rdG
          rw [gd_pos hcap, hS5]
          by_cases c2 : so = 200
          · rw [if_pos c2, if_pos c2, if_pos c2, gd_pos (by omega), nm_eq, gd_pos hcap]
          · rw [if_neg c2, if_neg c2, if_neg c2]
        rw [hT]
        have b54 := z3.b5
        have h41 := z4.f1
        refine Or.inl ⟨(so, (if so = 200 then (le : Int) else 0), c), S5, Z, _, _, rfl, rfl, ⟨⟨z3.eqT S51 S50, ?_, ?_, ?_, ?_⟩, ?_, ?_, ?_, ?_, ?_, ?_⟩, ?_, ?_, ?_, ?_, ?_⟩
        · rw [hz 25 (by decide) (by decide) (by decide) (by decide) (by decide), q3.2.1, h8]
        · rw [hz2, hz 20 (by decide) (by decide) (by decide) (by decide) (by decide), hz 18 (by decide) (by decide) (by decide) (by decide) (by decide), cd_app]
          exact q3.2.2.1
        · rw [hz 18 (by decide) (by decide) (by decide) (by decide) (by decide)]
          exact q3.2.2.2.1
        · unfold ltR
          rw [hz 22 (by decide) (by decide) (by decide) (by decide) (by decide), S52]
          exact q3.2.2.2.2
        · rw [S51, z4.f8, v5.f8, h8]
        · rw [hz 19 (by decide) (by decide) (by decide) (by decide) (by decide), hB, fset_eq]
          rw [show (fset (aset Y 4 (X.1 18 + 1 + 4 * (cs.length : Int) + 3) (Y.1 20)) 22 (zor (Y.1 22) (if so = 200 then (1 : Int) * 2 ^ le else 0))).1 19 = Y.1 19 from rfl, v4.1 19 (by decide) (by decide) (by decide) (by decide) (by decide), h19]
          simp
          omega
        · rw [hz2, hz 18 (by decide) (by decide) (by decide) (by decide) (by decide), hB]
          show hdR (fun i => if i = X.1 18 + 1 + 4 * (cs.length : Int) + 3 then Y.1 20 else Y.2 4 i) (Y.1 18) _
          have hin : ∀ i, i < X.1 18 + 80 → Y.2 4 i = X.2 4 i := fun i hi => v4.2.2 i (by omega)
          rw [y18]
          refine hdR.snoc (hh.cong (fun i a1 a2 => ?_)) ?_ ?_ ?_ ?_
          · rw [if_neg (by omega), hin i (by omega)]
          · rw [if_neg (by omega), hin _ (by omega)]; exact h1
          · intro c2
            have c2' : so = 200 := c2
            rw [if_neg (by omega), hin _ (by omega)]
            show _ = (if so = 200 then (le : Int) else 0)
            rw [if_pos c2']; exact h2 c2'
          · rw [if_neg (by omega), hin _ (by omega)]; exact h3
          · rw [if_pos rfl, v3.2.2.1.1, cd_app]
        · unfold cmR
          rw [hz 21 (by decide) (by decide) (by decide) (by decide) (by decide), hB, S5t, v5.1]
          rw [show (fset (fset (aset Y 4 (X.1 18 + 1 + 4 * (cs.length : Int) + 3) (Y.1 20)) 22 (zor (Y.1 22) (if so = 200 then (1 : Int) * 2 ^ le else 0))) 19 ((fset (aset Y 4 (X.1 18 + 1 + 4 * (cs.length : Int) + 3) (Y.1 20)) 22 (zor (Y.1 22) (if so = 200 then (1 : Int) * 2 ^ le else 0))).1 19 + 1)).1 21 = Y.1 21 from rfl, v4.1 21 (by decide) (by decide) (by decide) (by decide) (by decide)]
          exact hcm
        · intro c' hc'
          rcases List.mem_append.mp hc' with h | h
          · exact hok c' h
          · rw [List.mem_singleton.mp h]
            exact hPc c v7
        · rw [cd_app, S51]
          show ((cd cs ++ c).length : Int) ≤ S4.1 5
          omega
        · refine hFa.trans ?_
          have f1 : rFr (aset Y 4 (X.1 18 + 1 + 4 * (cs.length : Int) + 3) (Y.1 20)) B := by
            rw [hB]
            exact (rFr.f (by decide)).trans (rFr.f (by decide))
          exact f1.trans ⟨fun k hk => hz k (by omega) (by omega) (by omega) (by omega) (by omega), hz 18 (by decide) (by decide) (by decide) (by decide) (by decide), fun a _ _ => by rw [hz2], fun j _ => by rw [hz2]⟩
        · rw [S51]; omega
        · rw [S51]; omega
        · rw [S51]; omega
        · rw [S51]; omega
      · rw [if_neg (fun w => g (s59.mpr w)), T_want_n v3.1.tk.1.1 g (by decide), tb_inr]
        refine Or.inr ⟨1, S2.1 5, S2, _, _, _, rfl, rfl, by decide, v3.1.2.2.2.2.1.symm, by omega, hFa, ⟨by omega, by omega⟩, by omega, by omega⟩
    · subst v1
      rw [tb_inr, v2, bd2_some]
      unfold M_clause_B161
      rw [gd_pos (by omega), if_neg (by omega)]
      exact Or.inr ⟨ft, pl, S2, Y, _, _, rfl, rfl, v3, v4, v5, hF.trans v6.r, ⟨by omega, by omega⟩, by omega, by omega⟩
  unfold T_rdD M_clause_B145
  rw [gd_pos (by omega)]
  by_cases c3 : so = 203
  · rw [if_pos c3, if_pos (show so - 199 = 4 by omega)]
    obtain ⟨r, w1, w2⟩ := either_ok d n0 hn0 (by rw [h8]; exact hP) (by omega) (by omega) (by omega) hl
    rw [w1]
    exact key r _ ckA w2 (fun c hc => ⟨hso, fun _ => hc, fun h => absurd c3 h, fun h => by have : so = 200 := h; omega⟩)
  · rw [if_neg c3, if_neg (show ¬ so - 199 = 4 by omega)]
    obtain ⟨r, w1, w2⟩ := summed_ok d (zz := 0) (by rw [h8]; exact hP) (by omega) (by omega) hl
    rw [w1]
    refine key r _ ckS (w2.e (by decide) (by decide)) (fun c hc => ⟨hso, fun h => absurd h c3, fun _ => hc, fun h => ?_⟩)
    have h' : so = 200 := h
    show 0 ≤ (if so = 200 then (le : Int) else 0) ∧ (if so = 200 then (le : Int) else 0) < 8
    rw [if_pos h']; omega
/-- a clause, of both -/
theorem clause_ok (d n0 : Nat) (hd : 9 ≤ d) (hn : 9 ≤ n0) (hn0 : n0 < FU) {S : yS} {Sm : xS} {cs : List tCl} (hI : rdI S Sm cs) (hne : S.1 6 ≠ 301) (K : rdK) (k n : Nat) : ClR S Sm cs k n K (T_rd1 (T_sum d) (T_either d n0) K cs S k n) (M_clause Sm) := by
  obtain ⟨hP, h8, ⟨h19, hcl⟩, hh, hcm, hok, hl⟩ := hI
  have b5 := hP.1.b5
  have h18 := hP.2.2.2.1
  have hlt := hP.1.2.2.2.2.2.1.2.2 hne
  have hfail : ∀ ft : Int, 1 ≤ ft ∧ ft ≤ 6 → ∀ (t : Option rdR) (m : Option (Int × xS)), t = some (.inr (ft, S.1 5), S, k + 1, n + 8) → m = some (ft, Sm) → ClR S Sm cs k n K t m := by
    intro ft hft t m ht hm
    exact Or.inr ⟨ft, S.1 5, S, Sm, k + 1, n + 8, ht, hm, hft, hP.1.2.2.2.2.1.symm, by omega, rFr.rfl_ _, ⟨by omega, by omega⟩, by omega, by omega⟩
  unfold T_rd1 M_clause
  rw [hP.1.sortOf, bd_some]
  by_cases hso : 200 ≤ S.1 6 ∧ S.1 6 ≤ 203
  · rw [if_neg (show ¬ S.1 6 < 200 by omega), if_pos hso.2, if_pos hso, gd_pos (show r32 (S.1 6 - 199) by omega), if_neg (show ¬ S.1 6 - 199 = 0 by omega), gd_pos (show r32 (S.1 6 - 199) by omega)]
    -- the clause itself
    have main : ClR S Sm cs k n K (T_rdB (T_sum d) (T_either d n0) K cs S k n) (M_clause_B30 Sm (S.1 6 - 199)) := by
      unfold T_rdB M_clause_B30
      rw [gd_pos (show r32 (Sm.1 19) by omega)]
      by_cases h10 : cs.length = 10
      · rw [if_pos h10, if_pos (show Sm.1 19 = 10 by omega)]
        exact hfail 6 (by decide) _ _ rfl rfl
      · obtain ⟨s, hs⟩ : ∃ s : Nat, S.1 6 = 199 + s := ⟨(S.1 6 - 199).toNat, by omega⟩
        have es : S.1 6 - 199 = s := by omega
        have es2 : S.1 6 - 200 = ((s - 1 : Nat) : Int) := by omega
        have hp4 : (1 : Int) * 2 ^ (Int.toNat (s : Int)) ≤ 16 ∧ 0 < (1 : Int) * 2 ^ (Int.toNat (s : Int)) := by
          rcases (by omega : s = 1 ∨ s = 2 ∨ s = 3 ∨ s = 4) with rfl | rfl | rfl | rfl <;> decide
        rw [if_neg h10, if_neg (show ¬ Sm.1 19 = 10 by omega), gd_pos (show (0 : Int) ≤ S.1 6 - 200 ∧ S.1 6 - 200 < 4 by omega), nm_eq, es, gd_pos ⟨by decide, by omega, by omega⟩, gd_pos ⟨hcm.1.1, by omega⟩, nm_eq, nm_eq, Int.toNat_natCast]
        obtain ⟨A, hA⟩ : ∃ A : xS, A = fset Sm 21 (zor (Sm.1 21) ((1 : Int) * 2 ^ s)) := ⟨_, rfl⟩
        rw [← hA]
        have A18 : A.1 18 = Sm.1 18 := by rw [hA]; rfl
        have A19 : A.1 19 = cs.length := by rw [hA]; exact h19
        have A2 : A.2 = Sm.2 := by rw [hA]; rfl
        have A20 : A.1 20 = ((cd cs).length : Nat) := by rw [hA]; exact hP.2.2.1.1
        rw [A19, gd_pos (by omega), nm_eq, gd_pos (by omega), nm_eq]
        obtain ⟨A', hA'⟩ : ∃ A' : xS, A' = aset (aset A 4 (A.1 18 + 1 + 4 * (cs.length : Int)) s) 4 (A.1 18 + 1 + 4 * (cs.length : Int) + 2) ((aset A 4 (A.1 18 + 1 + 4 * (cs.length : Int)) s).1 20) := ⟨_, rfl⟩
        rw [← hA']
        have hPA : PC (cas S 2 (S.1 6 - 200) 1) A' 0 (cd cs) := by
          rw [hA', hA]
          exact ((hP.f21.hd (by show _ < Sm.1 18 + 80; rw [show (fset Sm 21 (zor (Sm.1 21) ((1 : Int) * 2 ^ s))).1 18 = Sm.1 18 from rfl]; omega)).hd (by show _ < Sm.1 18 + 80; rw [show (fset Sm 21 (zor (Sm.1 21) ((1 : Int) * 2 ^ s))).1 18 = Sm.1 18 from rfl]; omega)).t2
        have hFA : rFr Sm A' := by
          rw [hA', hA]
          exact ((rFr.f (by decide)).trans (rFr.a (by rw [show (fset Sm 21 (zor (Sm.1 21) ((1 : Int) * 2 ^ s))).1 18 = Sm.1 18 from rfl]; omega))).trans (rFr.a (by rw [show (aset (fset Sm 21 (zor (Sm.1 21) ((1 : Int) * 2 ^ s))) 4 ((fset Sm 21 (zor (Sm.1 21) ((1 : Int) * 2 ^ s))).1 18 + 1 + 4 * (cs.length : Int)) s).1 18 = Sm.1 18 from rfl, show (fset Sm 21 (zor (Sm.1 21) ((1 : Int) * 2 ^ s))).1 18 = Sm.1 18 from rfl]; omega))
        have A'4 : ∀ i, A'.2 4 i = if i = Sm.1 18 + 1 + 4 * (cs.length : Int) + 2 then ((cd cs).length : Int) else if i = Sm.1 18 + 1 + 4 * (cs.length : Int) then (s : Int) else Sm.2 4 i := by
          intro i
          rw [hA', aset_at, aset_at, A2, A18, show (aset A 4 (Sm.1 18 + 1 + 4 * (cs.length : Int)) s).1 20 = A.1 20 from rfl, A20]
        have A'21 : A'.1 21 = zor (Sm.1 21) ((1 : Int) * 2 ^ s) := by rw [hA', hA]; rfl
        have A'18 : A'.1 18 = Sm.1 18 := hFA.2.1
        have A'19 : A'.1 19 = cs.length := by rw [hA', show (aset (aset A 4 (A.1 18 + 1 + 4 * (cs.length : Int)) s) 4 (A.1 18 + 1 + 4 * (cs.length : Int) + 2) ((aset A 4 (A.1 18 + 1 + 4 * (cs.length : Int)) s).1 20)).1 = A.1 from rfl]; exact A19
        obtain ⟨S3, X, y1, y2, y3, y4, y5, y6⟩ := hPA.next
        rw [y1, bd_some, y2, bd_some, gd_pos (by omega), A18]
        have h83 : S3.1 8 = 0 := y5.f8.trans h8
        have h13 : S3.1 1 = S.1 1 := y5.f1
        have y6' : S.1 4 ≤ S3.1 5 := y6
        have x18 : X.1 18 = Sm.1 18 := y4.r.2.1.trans A'18
        have x19 : X.1 19 = cs.length := (y4.1 19 (by decide) (by decide) (by decide) (by decide) (by decide)).trans A'19
        have x4 : ∀ i, i < Sm.1 18 + 80 → X.2 4 i = A'.2 4 i := fun i hi => y4.2.2 i (by omega)
        have hh3 : hdR (X.2 4) (X.1 18) cs := by
          rw [x18]
          refine hh.cong (fun i a1 a2 => ?_)
          rw [x4 i (by omega), A'4, if_neg (by omega), if_neg (by omega)]
        have hcm3 : cmR S3 X := by
          obtain ⟨z1, z2⟩ := zor_bit (s := s) hcm.1 (by omega)
          unfold cmR
          rw [y4.1 21 (by decide) (by decide) (by decide) (by decide) (by decide), A'21, y5.1]
          refine ⟨z1, fun w hw => ?_⟩
          rw [z2 (w + 1) (by omega), cas_at, es2]
          by_cases c : w + 1 = s
          · rw [if_pos c, if_pos (by omega)]
          · rw [if_neg c, if_neg (by omega)]
            exact hcm.2 w hw
        have hX1 : X.2 4 (X.1 18 + 1 + 4 * (cs.length : Int)) = S.1 6 - 199 := by
          rw [x18, x4 _ (by omega), A'4, if_neg (by omega), if_pos rfl, es]
        have hX3 : X.2 4 (X.1 18 + 1 + 4 * (cs.length : Int) + 2) = ((cd cs).length : Nat) := by
          rw [x18, x4 _ (by omega), A'4, if_pos rfl]
        by_cases c1 : S.1 6 = 200
        · rw [if_pos c1, if_pos (show (s : Int) = 1 by omega), y3.1.letterOf, bd_some]
          unfold T_letter
          rw [gd_pos y3.1.tk.1.1]
          have b53 := y3.1.b5
          by_cases g5 : S3.1 6 = 305
          · have h7 : 0 ≤ S3.1 7 ∧ S3.1 7 < 8 := by
              have := y3.1.tk.2.2.2.2.1.mp g5
              have := y3.1.tk.2.2.2.2.2.1 g5
              omega
            obtain ⟨l1, l2⟩ := y3.2.2.2.2
            have l3 := l2 (S3.1 7).toNat (by omega)
            rw [show (((S3.1 7).toNat : Nat) : Int) = S3.1 7 by omega] at l3
            have m1 := Int.emod_nonneg (X.1 22 / 2 ^ (Int.toNat (S3.1 7))) (show (2 : Int) ≠ 0 by decide)
            have m2 := Int.emod_lt_of_pos (X.1 22 / 2 ^ (Int.toNat (S3.1 7))) (show (0 : Int) < 2 by decide)
            rw [if_pos g5, if_pos g5, gd_pos (show r32 (S3.1 7) by omega), if_neg (show ¬ S3.1 7 < 0 by omega), gd_pos (show r32 (X.1 22) ∧ (0 : Int) ≤ S3.1 7 ∧ S3.1 7 ≤ 31 from ⟨by omega, by omega, by omega⟩), show (2 : Int) ^ 1 = 2 by decide, gd_pos (show r32 (X.1 22 / 2 ^ (Int.toNat (S3.1 7)) % 2) by omega), gd_pos h7, gd_pos (show r32 (S3.2 1 (S3.1 7)) by omega), ← l3]
            by_cases g0 : S3.2 1 (S3.1 7) = 0
            · have hlt3 := y3.1.2.2.2.2.2.1.2.2 (by omega)
              have hpl : (1 : Int) * 2 ^ (Int.toNat (S3.1 7)) ≤ 128 := by
                have : (S3.1 7).toNat ≤ 7 := by omega
                rcases (by omega : (S3.1 7).toNat = 0 ∨ (S3.1 7).toNat = 1 ∨ (S3.1 7).toNat = 2 ∨ (S3.1 7).toNat = 3 ∨ (S3.1 7).toNat = 4 ∨ (S3.1 7).toNat = 5 ∨ (S3.1 7).toNat = 6 ∨ (S3.1 7).toNat = 7) with e | e | e | e | e | e | e | e <;> rw [e] <;> decide
              rw [if_pos g0, if_neg (show ¬ S3.2 1 (S3.1 7) = 1 by omega), gd_pos (by omega), nm_eq, gd_pos ⟨by decide, by omega, by omega⟩, nm_eq]
              obtain ⟨B, hB⟩ : ∃ B : xS, B = aset X 4 (Sm.1 18 + 1 + 4 * (cs.length : Int) + 1) (S3.1 7) := ⟨_, rfl⟩
              rw [← hB]
              have hPB : PC S3 B 0 (cd cs) := by rw [hB]; exact y3.hd (by omega)
              obtain ⟨S4, V, u1, u2, u3, u4, u5, u6⟩ := hPB.next
              rw [u1, bd_some, u2, bd_some]
              have hFB : rFr X B := by rw [hB]; exact rFr.a (by omega)
              have v18 : V.1 18 = Sm.1 18 := u4.r.2.1.trans (hFB.2.1.trans x18)
              have B4 : ∀ i, B.2 4 i = if i = Sm.1 18 + 1 + 4 * (cs.length : Int) + 1 then S3.1 7 else X.2 4 i := fun i => by rw [hB, aset_at]
              have B18 : B.1 18 = Sm.1 18 := hFB.2.1.trans x18
              have v4 : ∀ i, i < Sm.1 18 + 80 → V.2 4 i = B.2 4 i := fun i hi => u4.2.2 i (by omega)
              have hf4 := u5.f1
              have b54 := u3.1.b5
              have := cl_tail d n0 hd hn hn0 (S := S) (Sm := Sm) (cs := cs) (S3 := S4) (X := V) (so := S.1 6) (le := (S3.1 7).toNat) u3 (u5.f8.trans h83) hso (by omega) ((u4.1 19 (by decide) (by decide) (by decide) (by decide) (by decide)).trans (by rw [hB]; exact x19)) (by omega) (by
                rw [v18]; rw [x18] at hh3
                refine hh3.cong (fun i a1 a2 => ?_)
                rw [v4 i (by omega), B4, if_neg (by omega)]) (by
                rw [v18, v4 _ (by omega), B4, if_neg (by omega), ← x18]; exact hX1) (by
                intro _
                rw [v18, v4 _ (by omega), B4, if_pos rfl]; omega) (by
                rw [v18, v4 _ (by omega), B4, if_neg (by omega), ← x18]; exact hX3) (by
                unfold cmR
                rw [u4.1 21 (by decide) (by decide) (by decide) (by decide) (by decide), u5.1, hB]
                exact hcm3) hok (by omega) (hFA.trans (y4.r.trans (hFB.trans u4.r))) (hf4.trans h13) (by omega) K k n (k + 1 + 1) (n + 4 + 8) (by omega) (by omega)
              rw [if_pos c1, if_pos c1, v18, es, show (((S3.1 7).toNat : Nat) : Int) = S3.1 7 by omega] at this
              exact this
            · rw [if_neg g0, if_pos (show S3.2 1 (S3.1 7) = 1 by omega)]
              exact Or.inr ⟨4, S3.1 5, S3, X, k + 1 + 1, n + 4 + 8, rfl, rfl, by decide, y3.1.2.2.2.2.1.symm, by omega, hFA.trans y4.r, ⟨by omega, by omega⟩, by omega, by omega⟩
          · rw [if_neg g5, if_neg g5, gd_pos (by decide), if_pos (by decide)]
            exact Or.inr ⟨1, S3.1 5, S3, X, k + 1 + 1, n + 4 + 8, rfl, rfl, by decide, y3.1.2.2.2.2.1.symm, by omega, hFA.trans y4.r, ⟨by omega, by omega⟩, by omega, by omega⟩
        · rw [if_neg c1, if_neg (show ¬ (s : Int) = 1 by omega)]
          have := cl_tail d n0 hd hn hn0 (S := S) (Sm := Sm) (cs := cs) (S3 := S3) (X := X) (so := S.1 6) (le := 0) y3 h83 hso (by decide) x19 (by omega) hh3 hX1 (fun h => absurd h c1) hX3 hcm3 hok (by omega) (hFA.trans y4.r) h13 (by omega) K k n (k + 1) (n + 4) (by omega) (by omega)
          rw [if_neg c1, if_neg c1, x18, es] at this
          exact this
    by_cases c1 : S.1 6 = 200
    · rw [if_pos c1, if_pos (show S.1 6 - 199 = 1 by omega)]
      exact main
    · obtain ⟨w, hw⟩ : ∃ w : Nat, S.1 6 = 200 + w := ⟨(S.1 6 - 200).toNat, by omega⟩
      have hc := hcm.2 w (by omega)
      have e1 : S.1 6 - 200 = w := by omega
      have e2 : Int.toNat (S.1 6 - 199) = w + 1 := by omega
      have m1 := Int.emod_nonneg (Sm.1 21 / 2 ^ (w + 1)) (show (2 : Int) ≠ 0 by decide)
      have m2 := Int.emod_lt_of_pos (Sm.1 21 / 2 ^ (w + 1)) (show (0 : Int) < 2 by decide)
      rw [if_neg c1, if_neg (show ¬ S.1 6 - 199 = 1 by omega), gd_pos (show (0 : Int) ≤ S.1 6 - 200 ∧ S.1 6 - 200 < 4 by omega), e1, hc, gd_pos (by omega), gd_pos ⟨by have := hcm.1; omega, by omega, by omega⟩, e2, show (2 : Int) ^ 1 = 2 by decide, gd_pos (by omega)]
      by_cases g : (Sm.1 21 / 2 ^ (w + 1)) % 2 = 0
      · rw [if_pos g, if_neg (by omega)]
        exact main
      · rw [if_neg g, if_pos (by omega)]
        exact hfail 4 (by decide) _ _ rfl rfl
  · rw [if_neg hso, gd_pos (show r32 (0 : Int) by decide), if_pos (show (0 : Int) = 0 from rfl)]
    by_cases h2 : S.1 6 < 200
    · rw [if_pos h2]
      exact hfail 1 (by decide) _ _ rfl rfl
    · rw [if_neg h2, if_neg (by omega)]
      exact hfail 1 (by decide) _ _ rfl rfl
/-- all clauses -/
theorem rdL_ok (d n0 : Nat) (hd : 9 ≤ d) (hn : 9 ≤ n0) (hn0 : n0 < FU) : ∀ (m0 : Nat) (S : yS) (Sm : xS) (cs : List tCl) (k n : Nat), 300 - S.1 5 ≤ m0 → rdI S Sm cs → ∀ f1 f2, m0 < f1 → m0 < f2 →
    (∃ cs' S' Sm' k' n', T_rdL (T_sum d) (T_either d n0) f1 cs S k n = some (.inl cs', S', k', n') ∧ M_readText_L48 f2 Sm = some (0, Sm') ∧ rdI S' Sm' cs' ∧ rFr Sm Sm' ∧ (S.1 5 ≤ S'.1 5 ∧ S'.1 5 ≤ S.1 1) ∧ (k' : Int) ≤ k + 60 * (S'.1 5 - S.1 5) ∧ (n' : Int) ≤ n + 140 * (S'.1 5 - S.1 5)) ∨
    (∃ ft pl S' Sm' k' n', T_rdL (T_sum d) (T_either d n0) f1 cs S k n = some (.inr (ft, pl), S', k', n') ∧ M_readText_L48 f2 Sm = some (ft, Sm') ∧ (1 ≤ ft ∧ ft ≤ 6) ∧ Sm'.1 14 = pl ∧ r32 pl ∧ rFr Sm Sm' ∧ (S.1 5 ≤ S'.1 5 ∧ S'.1 5 ≤ S.1 1) ∧ (k' : Int) ≤ k + 60 * (S'.1 5 - S.1 5) + 70 ∧ (n' : Int) ≤ n + 140 * (S'.1 5 - S.1 5) + 250) := by
  intro m0
  induction m0 with
  | zero =>
    intro S Sm cs k n hm hI f1 f2 h1 h2
    obtain ⟨f1, rfl⟩ : ∃ k, f1 = k + 1 := ⟨f1 - 1, by omega⟩
    obtain ⟨f2, rfl⟩ : ∃ k, f2 = k + 1 := ⟨f2 - 1, by omega⟩
    have b5 := hI.1.1.b5
    have hend : S.1 6 = 301 := by
      have := hI.1.1.2.2.2.2.2.1.2.2
      by_cases g : S.1 6 = 301
      · exact g
      · have := this g; omega
    left
    refine ⟨cs, S, Sm, k, n, ?_, ?_, hI, rFr.rfl_ _, ⟨by omega, by omega⟩, by omega, by omega⟩
    · show gd (r32 (S.1 6)) _ = _
      rw [gd_pos hI.1.1.tk.1.1, if_pos hend]
    · show M_readText_b48 _ _ = _
      unfold M_readText_b48
      rw [gd_pos hI.1.1.tk.1.2.1, if_pos (hI.1.1.tk.2.2.1.1.mp hend)]
  | succ m0 ih =>
    intro S Sm cs k n hm hI f1 f2 h1 h2
    obtain ⟨f1, rfl⟩ : ∃ k, f1 = k + 1 := ⟨f1 - 1, by omega⟩
    obtain ⟨f2, rfl⟩ : ∃ k, f2 = k + 1 := ⟨f2 - 1, by omega⟩
    have b5 := hI.1.1.b5
    have hi := hI.1.1.tk.2.2.1.1
    have eT : T_rdL (T_sum d) (T_either d n0) (f1 + 1) cs S k n = if S.1 6 = 301 then some (.inl cs, S, k, n) else T_rd1 (T_sum d) (T_either d n0) (T_rdL (T_sum d) (T_either d n0) f1) cs S k n := by
      show gd (r32 (S.1 6)) _ = _
      rw [gd_pos hI.1.1.tk.1.1]
      rfl
    have eM : M_readText_L48 (f2 + 1) Sm = if Sm.1 15 = 0 then some (0, Sm) else bd2 (M_clause Sm) (fun v20 S21 => gd (r32 v20) (if v20 = 0 then M_readText_L48 f2 S21 else some (v20, S21))) := by
      show M_readText_b48 _ _ = _
      unfold M_readText_b48
      rw [gd_pos hI.1.1.tk.1.2.1]
    rw [eT, eM]
    by_cases hend : S.1 6 = 301
    · left
      exact ⟨cs, S, Sm, k, n, by rw [if_pos hend], by rw [if_pos (hi.mp hend)], hI, rFr.rfl_ _, ⟨by omega, by omega⟩, by omega, by omega⟩
    · rw [if_neg hend, if_neg (fun w => hend (hi.mpr w))]
      rcases clause_ok d n0 hd hn hn0 hI hend (T_rdL (T_sum d) (T_either d n0) f1) k n with ⟨cl, S', Sm', k', n', c1, c2, c3, c4, c5, c6, c7, c8⟩ | ⟨ft, pl, S', Sm', k', n', c1, c2, c3, c4, c5, c6, c7, c8, c9⟩
      · rw [c1, c2, bd2_some, gd_pos (by decide), if_pos rfl]
        rcases ih S' Sm' (cs ++ [cl]) k' n' (by omega) c3 f1 f2 (by omega) (by omega) with ⟨cs2, S2, Sm2, k2, n2, e1, e2, e3, e4, e5, e6, e7⟩ | ⟨ft, pl, S2, Sm2, k2, n2, e1, e2, e3, e4, e5, e6, e7, e8, e9⟩
        · exact Or.inl ⟨cs2, S2, Sm2, k2, n2, e1, e2, e3, c4.trans e4, ⟨by omega, by omega⟩, by omega, by omega⟩
        · exact Or.inr ⟨ft, pl, S2, Sm2, k2, n2, e1, e2, e3, e4, e5, c4.trans e6, ⟨by omega, by omega⟩, by omega, by omega⟩
      · rw [c1, c2, bd2_some, gd_pos (by omega), if_neg (by omega)]
        exact Or.inr ⟨ft, pl, S', Sm', k', n', rfl, rfl, c3, c4, c5, c6, c7, c8, c9⟩
