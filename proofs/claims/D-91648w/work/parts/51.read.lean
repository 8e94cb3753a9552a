/-! read: the clauses of a text -/
set_option maxRecDepth 100000
abbrev tCl : Type := Int × Int × tC
def ClH (Z : hZ) (N : Nat) (A : Nat → Prop) (H : Heap) (c : tCl) (a : Nat) : Prop := A a ∧ ((c.1 = 203 ∧ ∃ x, va_at Z.D tcl (a, .inr (2, [.int (zi c.1), .int (zi c.2.1), .null, .ref x])) H ∧ AskH Z N A H c.2.2 x) ∨ (c.1 ≠ 203 ∧ ∃ x, va_at Z.D tcl (a, .inr (2, [.int (zi c.1), .int (zi c.2.1), .ref x, .null])) H ∧ SumH Z N A H c.2.2 x))
theorem ClH.keep {Z : hZ} {N : Nat} {A : Nat → Prop} {H H1 : Heap} {c : tCl} {a : Nat} (hk : ∀ x, A x ∨ x < Z.b → x < H.size → H1[x]? = H[x]?) (h : ClH Z N A H c a) : ClH Z N A H1 c a := by
  obtain ⟨hA, h⟩ := h
  have ka : ∀ {x : va_E}, va_at Z.D tcl (a, x) H → va_at Z.D tcl (a, x) H1 := fun w => va_at_keep w (hk a (Or.inl hA) (va_at_lt w))
  rcases h with ⟨h1, x, h2, h3⟩ | ⟨h1, x, h2, h3⟩
  · exact ⟨hA, Or.inl ⟨h1, x, ka h2, h3.keep hk⟩⟩
  · exact ⟨hA, Or.inr ⟨h1, x, ka h2, h3.keep hk⟩⟩
theorem ClH.mono {Z : hZ} {N : Nat} {A B : Nat → Prop} {H : Heap} {c : tCl} {a : Nat} (hAB : ∀ x, A x → B x) (h : ClH Z N A H c a) : ClH Z N B H c a := by
  obtain ⟨hA, h⟩ := h
  rcases h with ⟨h1, x, h2, h3⟩ | ⟨h1, x, h2, h3⟩
  · exact ⟨hAB a hA, Or.inl ⟨h1, x, h2, h3.mono hAB⟩⟩
  · exact ⟨hAB a hA, Or.inr ⟨h1, x, h2, h3.mono hAB⟩⟩
theorem ClH.any {Z : hZ} {N : Nat} {A : Nat → Prop} {H : Heap} {c : tCl} {a : Nat} (h : ClH Z N A H c a) : oAny Z H a := by
  obtain ⟨hA, h⟩ := h
  rcases h with ⟨h1, x, h2, h3⟩ | ⟨h1, x, h2, h3⟩
  · exact oAny.of h2 (by decide)
  · exact oAny.of h2 (by decide)
theorem zip_allC {cs : List tCl} {L : List Nat} {P : tCl → Nat → Prop} (hl : cs.length = L.length) (h : ∀ w ∈ cs.zip L, P w.1 w.2) {a : Nat} (ha : a ∈ L) : ∃ c, P c a := by
  obtain ⟨i, hi, he⟩ := List.getElem_of_mem ha
  have hm : (cs[i]'(by omega), L[i]) ∈ cs.zip L := by
    rw [List.mem_iff_getElem]
    exact ⟨i, by simp; omega, by simp⟩
  exact ⟨_, by rw [← he]; exact h _ hm⟩
/-- a rule on the heap: the list of its clauses -/
def RlH (Z : hZ) (N : Nat) (A : Nat → Prop) (H : Heap) (cs : List tCl) (a : Nat) : Prop := ∃ (L : List Nat) (c ed : Nat), Lst Z a L c ed H ∧ cs.length = L.length ∧ (∀ x, lF a c ed x → A x) ∧ ∀ w ∈ cs.zip L, ClH Z N A H w.1 w.2
theorem RlH.keep {Z : hZ} {N : Nat} {A : Nat → Prop} {H H1 : Heap} {cs : List tCl} {a : Nat} (hk : ∀ x, A x ∨ x < Z.b → x < H.size → H1[x]? = H[x]?) (h : RlH Z N A H cs a) : RlH Z N A H1 cs a := by
  obtain ⟨L, c, ed, h1, h2, h3, h4⟩ := h
  refine ⟨L, c, ed, h1.keep (fun x hx hl => hk x (Or.inl ?_) hl), h2, h3, fun w hw => (h4 w hw).keep hk⟩
  rcases hx with w | w | w
  · exact h3 x (Or.inl w)
  · exact h3 x (Or.inr w)
  · obtain ⟨c0, hc⟩ := zip_allC h2 h4 w
    exact hc.1
theorem RlH.mono {Z : hZ} {N : Nat} {A B : Nat → Prop} {H : Heap} {cs : List tCl} {a : Nat} (hAB : ∀ x, A x → B x) (h : RlH Z N A H cs a) : RlH Z N B H cs a := by
  obtain ⟨L, c, ed, h1, h2, h3, h4⟩ := h
  exact ⟨L, c, ed, h1, h2, fun x hx => hAB x (h3 x hx), fun w hw => (h4 w hw).mono hAB⟩
/-- a list of clauses that is being made -/
def RI (Z : hZ) (N n0 lst : Nat) (cs : List tCl) (H : Heap) : Prop := ∃ (L : List Nat) (ed : Nat), Lst Z lst L (capN cs.length) ed H ∧ cs.length = L.length ∧ (∀ x, lF lst (capN cs.length) ed x → rg n0 H.size x) ∧ ∀ w ∈ cs.zip L, ClH Z N (fun x => rg n0 H.size x ∧ ¬ lF lst (capN cs.length) ed x) H w.1 w.2
theorem RI.keep {Z : hZ} {N n0 lst : Nat} {cs : List tCl} {H H1 : Heap} (h : RI Z N n0 lst cs H) (hz : H.size ≤ H1.size) (hk : ∀ x, rg n0 H.size x ∨ x < Z.b → x < H.size → H1[x]? = H[x]?) : RI Z N n0 lst cs H1 := by
  obtain ⟨L, ed, h1, h2, h3, h4⟩ := h
  refine ⟨L, ed, h1.keep (fun x hx hl => hk x (Or.inl ?_) hl), h2, fun x hx => ⟨(h3 x hx).1, Nat.lt_of_lt_of_le (h3 x hx).2 hz⟩, fun w hw => ((h4 w hw).keep (fun x hx hl => hk x (hx.elim (fun v => Or.inl v.1) Or.inr) hl)).mono (fun x hx => ⟨⟨hx.1.1, Nat.lt_of_lt_of_le hx.1.2 hz⟩, hx.2⟩)⟩
  rcases hx with w | w | w
  · exact h3 x (Or.inl w)
  · exact h3 x (Or.inr w)
  · obtain ⟨c0, hc⟩ := zip_allC h2 h4 w
    exact hc.1.1
theorem RI.add {Z : hZ} {N n0 lst a : Nat} {cs : List tCl} {c : tCl} {H H1 : Heap} {L : List Nat} {ed ed' : Nat} (hn : Z.b ≤ n0) (h2 : cs.length = L.length) (h3 : ∀ x, lF lst (capN cs.length) ed x → rg n0 H.size x) (h4 : ∀ w ∈ cs.zip L, ClH Z N (fun x => rg n0 H.size x ∧ ¬ lF lst (capN cs.length) ed x) H w.1 w.2) (ha : ClH Z N (fun x => rg n0 H.size x ∧ ¬ lF lst (capN cs.length) ed x) H c a) (hed : edN L (capN cs.length) ed H.size ed') (hN : Lst Z lst (L ++ [a]) (ncap L (capN cs.length)) ed' H1) (hz : H.size ≤ H1.size) (hk : ∀ x, x < H.size → ¬ lF lst (capN cs.length) ed x → H1[x]? = H[x]?) : RI Z N n0 lst (cs ++ [c]) H1 := by
  have ecap : ncap L (capN cs.length) = capN (cs ++ [c]).length := by
    rw [List.length_append]; unfold ncap; rw [← h2]; rfl
  rw [ecap] at hN
  have lem : ed' < H1.size := by
    rcases hN.2.2.1 with w | w
    · exact absurd w.2.2 (by simp)
    · exact va_at_lt w.2.2.2.2
  have hed' : H.size ≤ ed' ∨ (ed' = ed ∧ capN (cs ++ [c]).length = capN cs.length) := hed.elim (fun w => Or.inl w.2) (fun w => Or.inr ⟨w.2, by rw [← ecap]; unfold ncap; rw [if_neg w.1]⟩)
  have hown : ∀ x, lF lst (capN (cs ++ [c]).length) ed' x → lF lst (capN cs.length) ed x ∨ H.size ≤ x := by
    intro x hx
    rcases hx with w | w
    · exact Or.inl (Or.inl w)
    · rcases hed' with v | ⟨v, v2⟩
      · exact Or.inr (by rw [w.1]; exact v)
      · exact Or.inl (Or.inr ⟨by rw [w.1, v], by rw [← v2]; exact w.2⟩)
  have tr : ∀ {c3 : tCl} {y : Nat}, ClH Z N (fun x => rg n0 H.size x ∧ ¬ lF lst (capN cs.length) ed x) H c3 y → ClH Z N (fun x => rg n0 H1.size x ∧ ¬ lF lst (capN (cs ++ [c]).length) ed' x) H1 c3 y := fun w => (w.keep (fun x hx hxl => hk x hxl (by
      rcases hx with v | v
      · exact v.2
      · intro u
        have := (h3 x u).1
        omega))).mono (fun x hx => ⟨⟨hx.1.1, by have := hx.1.2; omega⟩, fun u => by
      rcases hown x u with v | v
      · exact hx.2 v
      · have := hx.1.2; omega⟩)
  refine ⟨L ++ [a], ed', hN, by simp [h2], fun x hx => ?_, fun w hw => ?_⟩
  · rcases hown x hx with v | v
    · have := h3 x v; exact ⟨this.1, by omega⟩
    · rcases hx with u | u
      · have := h3 x (Or.inl u); omega
      · have h0 := h3 lst (Or.inl rfl)
        exact ⟨by omega, by rw [u.1]; exact lem⟩
  · rw [List.zip_append h2] at hw
    rcases List.mem_append.mp hw with v | v
    · exact tr (h4 w v)
    · have : w = (c, a) := by simpa using v
      rw [this]
      exact tr ha
abbrev rdR : Type := tR (List tCl)
abbrev rdK : Type := List tCl → yS → Nat → Nat → Option rdR
def T_rdG (K : rdK) (cs : List tCl) (cl : tCl) (S : yS) (k n : Nat) : Option rdR := gd (capN cs.length < 40000) (K (cs ++ [cl]) S (k + aC cs.length) (n + aS cs.length))
def T_rdF (K : rdK) (cs : List tCl) (so le : Int) (code : tC) : Unit → yS → Nat → Nat → Option rdR := fun _ S k n => if so = 200 then gd ((0 : Int) ≤ le ∧ le < 8) (nm (cas S 1 le 1) (fun S => T_rdG K cs (so, le, code) S k n)) else T_rdG K cs (so, le, code) S k n
def T_rdE (K : rdK) (cs : List tCl) (so le : Int) : tC → yS → Nat → Nat → Option rdR := fun code S k n => tb (lE (T_want S 59)) k n (T_rdF K cs so le code)
def T_rdD (sum either : yS → Option (tR tC)) (K : rdK) (cs : List tCl) (so : Int) : Int → yS → Nat → Nat → Option rdR := fun le S k n => if so = 203 then tb (either S) k n (T_rdE K cs so le) else tb (sum S) k n (T_rdE K cs so le)
def T_rdB (sum either : yS → Option (tR tC)) (K : rdK) (cs : List tCl) (S : yS) (k n : Nat) : Option rdR := if cs.length = 10 then some (.inr (6, S.1 5), S, k + 1, n + 8) else gd ((0 : Int) ≤ S.1 6 - 200 ∧ S.1 6 - 200 < 4) (nm (cas S 2 (S.1 6 - 200) 1) (fun S2 => bd (T_next S2) (fun S3 => if S.1 6 = 200 then tb (lQ (T_letter S3)) (k + 1) (n + 4) (T_rdD sum either K cs (S.1 6)) else T_rdD sum either K cs (S.1 6) 0 S3 (k + 1) (n + 4))))
def T_rdL (sum either : yS → Option (tR tC)) : Nat → rdK
  | 0 => fun _ _ _ _ => none
  | fu + 1 => fun cs S k n => gd (r32 (S.1 6)) (if S.1 6 = 301 then some (.inl cs, S, k, n) else if S.1 6 < 200 then some (.inr (1, S.1 5), S, k + 1, n + 8) else if S.1 6 ≤ 203 then (if S.1 6 = 200 then T_rdB sum either (T_rdL sum either fu) cs S k n else gd ((0 : Int) ≤ S.1 6 - 200 ∧ S.1 6 - 200 < 4) (gd (r32 (S.2 2 (S.1 6 - 200))) (if S.2 2 (S.1 6 - 200) = 0 then T_rdB sum either (T_rdL sum either fu) cs S k n else some (.inr (4, S.1 5), S, k + 1, n + 8)))) else some (.inr (1, S.1 5), S, k + 1, n + 8))
def T_rd (sum either : yS → Option (tR tC)) (S : yS) : Option rdR := bd (T_next S) (fun S1 => T_rdL sum either FU [] S1 1 3)
def monK (K : rdK) : Prop := ∀ cs S k n r, K cs S k n = some r → k ≤ r.2.2.1 ∧ n ≤ r.2.2.2
theorem mon_rdG {K : rdK} (mK_ : monK K) {cs : List tCl} {cl : tCl} {S : yS} {k n : Nat} {r : rdR} (h : T_rdG K cs cl S k n = some r) : k ≤ r.2.2.1 ∧ n ≤ r.2.2.2 := by
  obtain ⟨g1, h⟩ := gd_inv h
  have := mK_ _ _ _ _ _ h
  omega
theorem mon_rdF {K : rdK} (mK_ : monK K) (cs : List tCl) (so le : Int) (code : tC) : monF (T_rdF K cs so le code) := fun _ S k n r h => by
  unfold T_rdF at h
  by_cases hs : so = 200
  · replace h := it_t hs h
    obtain ⟨g1, h⟩ := gd_inv h
    exact mon_rdG mK_ (nm_inv h _ rfl)
  · replace h := it_f hs h
    exact mon_rdG mK_ h
theorem mon_rdE {K : rdK} (mK_ : monK K) (cs : List tCl) (so le : Int) : monF (T_rdE K cs so le) := fun _ _ _ _ _ h => tb_mon (mon_rdF mK_ cs so le _) h
theorem mon_rdD (sum either : yS → Option (tR tC)) {K : rdK} (mK_ : monK K) (cs : List tCl) (so : Int) : monF (T_rdD sum either K cs so) := fun le S k n r h => by
  unfold T_rdD at h
  by_cases hs : so = 203
  · exact tb_mon (mon_rdE mK_ cs so le) (it_t hs h)
  · exact tb_mon (mon_rdE mK_ cs so le) (it_f hs h)
theorem mon_rdB (sum either : yS → Option (tR tC)) {K : rdK} (mK_ : monK K) {cs : List tCl} {S : yS} {k n : Nat} {r : rdR} (h : T_rdB sum either K cs S k n = some r) : k ≤ r.2.2.1 ∧ n ≤ r.2.2.2 := by
  unfold T_rdB at h
  by_cases hs : cs.length = 10
  · replace h := it_t hs h
    cases Option.some.inj h
    exact ⟨Nat.le_add_right _ _, Nat.le_add_right _ _⟩
  · replace h := it_f hs h
    obtain ⟨g1, h⟩ := gd_inv h
    replace h := nm_inv h _ rfl
    obtain ⟨S3, k3, h⟩ := bd_inv h
    by_cases h2 : S.1 6 = 200
    · have := tb_mon (mon_rdD sum either mK_ cs (S.1 6)) (it_t h2 h)
      omega
    · have := mon_rdD sum either mK_ cs (S.1 6) _ _ _ _ _ (it_f h2 h)
      omega
theorem mon_rdL (sum either : yS → Option (tR tC)) : ∀ fu, monK (T_rdL sum either fu) := by
  intro fu
  induction fu with
  | zero => intro cs S k n r h; exact no_some h
  | succ fu ih =>
    intro cs S k n r h
    replace h : gd (r32 (S.1 6)) (if S.1 6 = 301 then some (.inl cs, S, k, n) else if S.1 6 < 200 then some (.inr (1, S.1 5), S, k + 1, n + 8) else if S.1 6 ≤ 203 then (if S.1 6 = 200 then T_rdB sum either (T_rdL sum either fu) cs S k n else gd ((0 : Int) ≤ S.1 6 - 200 ∧ S.1 6 - 200 < 4) (gd (r32 (S.2 2 (S.1 6 - 200))) (if S.2 2 (S.1 6 - 200) = 0 then T_rdB sum either (T_rdL sum either fu) cs S k n else some (.inr (4, S.1 5), S, k + 1, n + 8)))) else some (.inr (1, S.1 5), S, k + 1, n + 8)) = some r := h
    have er : ∀ {e : Int × Int}, some ((.inr e, S, k + 1, n + 8) : rdR) = some r → k ≤ r.2.2.1 ∧ n ≤ r.2.2.2 := fun h => by
      cases Option.some.inj h
      exact ⟨Nat.le_add_right _ _, Nat.le_add_right _ _⟩
    obtain ⟨g1, h⟩ := gd_inv h
    by_cases h1 : S.1 6 = 301
    · replace h := it_t h1 h
      cases Option.some.inj h
      exact ⟨Nat.le_refl _, Nat.le_refl _⟩
    replace h := it_f h1 h
    by_cases h2 : S.1 6 < 200
    · exact er (it_t h2 h)
    replace h := it_f h2 h
    by_cases h3 : S.1 6 ≤ 203
    · replace h := it_t h3 h
      by_cases h4 : S.1 6 = 200
      · exact mon_rdB sum either ih (it_t h4 h)
      · replace h := it_f h4 h
        obtain ⟨g2, h⟩ := gd_inv h
        obtain ⟨g3, h⟩ := gd_inv h
        by_cases h5 : S.2 2 (S.1 6 - 200) = 0
        · exact mon_rdB sum either ih (it_t h5 h)
        · exact er (it_f h5 h)
    · exact er (it_f h3 h)
