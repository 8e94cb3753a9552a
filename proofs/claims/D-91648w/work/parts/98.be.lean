/-! State.be, both ways -/
set_option maxRecDepth 100000
theorem RO.keep2 {Z : hZ} {hC : Nat} {A : Nat → Prop} {L : List Nat} {c ed : Nat} {rs : List (List tCl)} {H H1 : Heap} (h : RO Z hC A L c ed rs H) (hk : ∀ x, x < H.size → (10 ≤ c ∧ x = ed) ∨ A x ∨ x < Z.b → H1[x]? = H[x]?) : RO Z hC A L c ed rs H1 := by
  obtain ⟨h0, h1, h2, h3, h4, h5, h6⟩ := h
  exact ⟨h0, h1.keep (fun q w => hk ed w (Or.inl ⟨q, rfl⟩)), h2, h3, fun w hw => (h4 w hw).keep (fun x hx hl => hk x hl (Or.inr hx)), h5, h6⟩
/-- both lists of rules -/
def RO2 (Z : hZ) (hC : Nat) (A : Nat → Prop) (L : List Nat) (k ed : Nat) (rs : List (List tCl)) (LI : List Nat) (kI edI : Nat) (rsI : List (List tCl)) (H : Heap) : Prop := RO Z hC A L k ed rs H ∧ RO Z hC A LI kI edI rsI H ∧ (10 ≤ k → 10 ≤ kI → ed ≠ edI) ∧ (10 ≤ k → ¬ A ed) ∧ (10 ≤ kI → ¬ A edI) ∧ (∀ x, A x → x < H.size) ∧ (rs.length ≤ 8 ∧ k ≤ 10) ∧ rsI.length ≤ 8 ∧ kI ≤ 10
/-- the room of a list that takes the rules over -/
def beC (k i : Nat) : Nat := if k = 0 ∧ i ≠ 0 then 10 else k
def beX (k i : Nat) : Nat := if k = 0 ∧ i ≠ 0 then 1 else 0
def beF (hC k ed : Nat) : Nat → Prop := fun x => cA hC x ∨ (10 ≤ k ∧ x = ed)
theorem LstA.cap {Z : hZ} {L : List Nat} {c ed : Nat} {H : Heap} (h : LstA Z L c ed H) : (c = 0 ∨ 10 ≤ c) ∧ c < 60000 := by
  rcases h with h | h
  · exact ⟨Or.inl h.1, by omega⟩
  · exact ⟨Or.inr h.1, h.2.1⟩
theorem cf5_cf5 (S : yS) (a b c d e f : Int) : cf5 (cf5 S a b c) d e f = cf5 S d e f := by
  unfold cf5 cfs
  refine Prod.ext (funext fun j => ?_) rfl
  dsimp only
  by_cases h2 : j = 52 <;> by_cases h1 : j = 51 <;> by_cases h0 : j = 50 <;> simp [h2, h1, h0]
theorem cf4_cf4 (S : yS) (a b c d e f : Int) : cf4 (cf4 S a b c) d e f = cf4 S d e f := by
  unfold cf4 cfs
  refine Prod.ext (funext fun j => ?_) rfl
  dsimp only
  by_cases h2 : j = 42 <;> by_cases h1 : j = 41 <;> by_cases h0 : j = 40 <;> simp [h2, h1, h0]
theorem beC_next {L : List Nat} {k i : Nat} (hk : k = 0 ∨ 10 ≤ k) (hi : i < 8) (hl : L.length = i) : ncap L (beC k i) = beC k (i + 1) ∧ beX k i + acc L (beC k i) = beX k (i + 1) ∧ 10 * beX k i + acs L (beC k i) = 10 * beX k (i + 1) ∧ (L.length = beC k i ↔ k = 0 ∧ i = 0) := by
  have hB : (k = 0 ∧ i = 0 → beC k i = 0 ∧ beX k i = 0) ∧ (k = 0 ∧ i ≠ 0 → beC k i = 10 ∧ beX k i = 1) ∧ (10 ≤ k → beC k i = k ∧ beX k i = 0) := by
    unfold beC beX
    refine ⟨fun w => ?_, fun w => ?_, fun w => ?_⟩
    · rw [if_neg (fun z => z.2 w.2), if_neg (fun z => z.2 w.2)]; exact ⟨w.1, rfl⟩
    · rw [if_pos w, if_pos w]; exact ⟨rfl, rfl⟩
    · rw [if_neg (by omega), if_neg (by omega)]; exact ⟨rfl, rfl⟩
  have hN : (k = 0 → beC k (i + 1) = 10 ∧ beX k (i + 1) = 1) ∧ (10 ≤ k → beC k (i + 1) = k ∧ beX k (i + 1) = 0) := by
    unfold beC beX
    refine ⟨fun w => ?_, fun w => ?_⟩
    · rw [if_pos ⟨w, by omega⟩, if_pos ⟨w, by omega⟩]; exact ⟨rfl, rfl⟩
    · rw [if_neg (by omega), if_neg (by omega)]; exact ⟨rfl, rfl⟩
  have hq : (L.length = beC k i ↔ k = 0 ∧ i = 0) := by
    rcases hk with h | h
    · by_cases h0 : i = 0
      · have := hB.1 ⟨h, h0⟩; omega
      · have := hB.2.1 ⟨h, h0⟩; omega
    · have := hB.2.2 h; omega
  unfold ncap acc acs gcap
  by_cases c : k = 0 ∧ i = 0
  · obtain ⟨b1, b2⟩ := hB.1 c
    obtain ⟨d1, d2⟩ := hN.1 c.1
    rw [if_pos (hq.mpr c), if_pos (hq.mpr c), if_pos (hq.mpr c), b1, b2, d1, d2]
    refine ⟨rfl, rfl, rfl, ?_⟩
    rw [b1] at hq
    exact hq
  · rw [if_neg (fun w => c (hq.mp w)), if_neg (fun w => c (hq.mp w)), if_neg (fun w => c (hq.mp w))]
    rcases hk with h | h
    · have := hB.2.1 ⟨h, fun w => c ⟨h, w⟩⟩
      have := hN.1 h
      exact ⟨by omega, by omega, by omega, hq⟩
    · have := hB.2.2 h
      have := hN.2 h
      exact ⟨by omega, by omega, by omega, hq⟩
theorem take_snoc {α : Type} {l : List α} {i : Nat} (h : i < l.length) : l.take (i + 1) = l.take i ++ [l[i]] := List.take_succ_eq_append_getElem h
theorem zip_take {α : Type} {rs : List α} {L : List Nat} {P : α → Nat → Prop} {i : Nat} (h : ∀ w ∈ rs.zip L, P w.1 w.2) : ∀ w ∈ (rs.take i).zip (L.take i), P w.1 w.2 := by
  intro w hw
  obtain ⟨j, hj, rfl⟩ := List.getElem_of_mem hw
  simp only [List.length_zip, List.length_take] at hj
  refine h _ ?_
  rw [List.mem_iff_getElem]
  exact ⟨j, by simp; omega, by simp⟩
theorem cp_1_4_239 {S S1 : yS} (h : C_cp4_239 S = some S1) : S1.1 = S.1 := by
  have key : ∀ (n : Nat) (S : yS) (x : Int), C_cp4_239_L2 n S x = some S1 → S1.1 = S.1 := by
    intro n
    induction n with
    | zero => intro S x h; exact no_some h
    | succ n ih =>
      intro S x h
      replace h : C_cp4_239_b2 (C_cp4_239_L2 n) S x = some S1 := h
      unfold C_cp4_239_b2 at h
      obtain ⟨-, h⟩ := gd_inv h
      by_cases c : x < 6
      · replace h := it_t c h
        obtain ⟨-, h⟩ := gd_inv h
        obtain ⟨-, h⟩ := gd_inv h
        obtain ⟨-, h⟩ := gd_inv h
        have q := ih _ _ (nm_inv (nm_inv h _ rfl) _ rfl)
        exact q
      · replace h := it_f c h
        rw [← Option.some.inj h]
  exact key FU S 0 h
theorem cp_1_239_4 {S S1 : yS} (h : C_cp239_4 S = some S1) : S1.1 = S.1 := by
  have key : ∀ (n : Nat) (S : yS) (x : Int), C_cp239_4_L2 n S x = some S1 → S1.1 = S.1 := by
    intro n
    induction n with
    | zero => intro S x h; exact no_some h
    | succ n ih =>
      intro S x h
      replace h : C_cp239_4_b2 (C_cp239_4_L2 n) S x = some S1 := h
      unfold C_cp239_4_b2 at h
      obtain ⟨-, h⟩ := gd_inv h
      by_cases c : x < 6
      · replace h := it_t c h
        obtain ⟨-, h⟩ := gd_inv h
        obtain ⟨-, h⟩ := gd_inv h
        obtain ⟨-, h⟩ := gd_inv h
        have q := ih _ _ (nm_inv (nm_inv h _ rfl) _ rfl)
        exact q
      · replace h := it_f c h
        rw [← Option.some.inj h]
  exact key FU S 0 h
theorem cp_1_11_246 {S S1 : yS} (h : C_cp11_246 S = some S1) : S1.1 = S.1 := by
  have key : ∀ (n : Nat) (S : yS) (x : Int), C_cp11_246_L2 n S x = some S1 → S1.1 = S.1 := by
    intro n
    induction n with
    | zero => intro S x h; exact no_some h
    | succ n ih =>
      intro S x h
      replace h : C_cp11_246_b2 (C_cp11_246_L2 n) S x = some S1 := h
      unfold C_cp11_246_b2 at h
      obtain ⟨-, h⟩ := gd_inv h
      by_cases c : x < 16
      · replace h := it_t c h
        obtain ⟨-, h⟩ := gd_inv h
        obtain ⟨-, h⟩ := gd_inv h
        obtain ⟨-, h⟩ := gd_inv h
        have q := ih _ _ (nm_inv (nm_inv h _ rfl) _ rfl)
        exact q
      · replace h := it_f c h
        rw [← Option.some.inj h]
  exact key FU S 0 h
theorem cp_1_246_11 {S S1 : yS} (h : C_cp246_11 S = some S1) : S1.1 = S.1 := by
  have key : ∀ (n : Nat) (S : yS) (x : Int), C_cp246_11_L2 n S x = some S1 → S1.1 = S.1 := by
    intro n
    induction n with
    | zero => intro S x h; exact no_some h
    | succ n ih =>
      intro S x h
      replace h : C_cp246_11_b2 (C_cp246_11_L2 n) S x = some S1 := h
      unfold C_cp246_11_b2 at h
      obtain ⟨-, h⟩ := gd_inv h
      by_cases c : x < 16
      · replace h := it_t c h
        obtain ⟨-, h⟩ := gd_inv h
        obtain ⟨-, h⟩ := gd_inv h
        obtain ⟨-, h⟩ := gd_inv h
        have q := ih _ _ (nm_inv (nm_inv h _ rfl) _ rfl)
        exact q
      · replace h := it_f c h
        rw [← Option.some.inj h]
  exact key FU S 0 h
theorem cp_1_28_263 {S S1 : yS} (h : C_cp28_263 S = some S1) : S1.1 = S.1 := by
  have key : ∀ (n : Nat) (S : yS) (x : Int), C_cp28_263_L2 n S x = some S1 → S1.1 = S.1 := by
    intro n
    induction n with
    | zero => intro S x h; exact no_some h
    | succ n ih =>
      intro S x h
      replace h : C_cp28_263_b2 (C_cp28_263_L2 n) S x = some S1 := h
      unfold C_cp28_263_b2 at h
      obtain ⟨-, h⟩ := gd_inv h
      by_cases c : x < 16
      · replace h := it_t c h
        obtain ⟨-, h⟩ := gd_inv h
        obtain ⟨-, h⟩ := gd_inv h
        obtain ⟨-, h⟩ := gd_inv h
        have q := ih _ _ (nm_inv (nm_inv h _ rfl) _ rfl)
        exact q
      · replace h := it_f c h
        rw [← Option.some.inj h]
  exact key FU S 0 h
theorem cp_1_263_28 {S S1 : yS} (h : C_cp263_28 S = some S1) : S1.1 = S.1 := by
  have key : ∀ (n : Nat) (S : yS) (x : Int), C_cp263_28_L2 n S x = some S1 → S1.1 = S.1 := by
    intro n
    induction n with
    | zero => intro S x h; exact no_some h
    | succ n ih =>
      intro S x h
      replace h : C_cp263_28_b2 (C_cp263_28_L2 n) S x = some S1 := h
      unfold C_cp263_28_b2 at h
      obtain ⟨-, h⟩ := gd_inv h
      by_cases c : x < 16
      · replace h := it_t c h
        obtain ⟨-, h⟩ := gd_inv h
        obtain ⟨-, h⟩ := gd_inv h
        obtain ⟨-, h⟩ := gd_inv h
        have q := ih _ _ (nm_inv (nm_inv h _ rfl) _ rfl)
        exact q
      · replace h := it_f c h
        rw [← Option.some.inj h]
  exact key FU S 0 h
theorem cp_1_45_280 {S S1 : yS} (h : C_cp45_280 S = some S1) : S1.1 = S.1 := by
  have key : ∀ (n : Nat) (S : yS) (x : Int), C_cp45_280_L2 n S x = some S1 → S1.1 = S.1 := by
    intro n
    induction n with
    | zero => intro S x h; exact no_some h
    | succ n ih =>
      intro S x h
      replace h : C_cp45_280_b2 (C_cp45_280_L2 n) S x = some S1 := h
      unfold C_cp45_280_b2 at h
      obtain ⟨-, h⟩ := gd_inv h
      by_cases c : x < 6
      · replace h := it_t c h
        obtain ⟨-, h⟩ := gd_inv h
        obtain ⟨-, h⟩ := gd_inv h
        obtain ⟨-, h⟩ := gd_inv h
        have q := ih _ _ (nm_inv (nm_inv h _ rfl) _ rfl)
        exact q
      · replace h := it_f c h
        rw [← Option.some.inj h]
  exact key FU S 0 h
theorem cp_1_280_45 {S S1 : yS} (h : C_cp280_45 S = some S1) : S1.1 = S.1 := by
  have key : ∀ (n : Nat) (S : yS) (x : Int), C_cp280_45_L2 n S x = some S1 → S1.1 = S.1 := by
    intro n
    induction n with
    | zero => intro S x h; exact no_some h
    | succ n ih =>
      intro S x h
      replace h : C_cp280_45_b2 (C_cp280_45_L2 n) S x = some S1 := h
      unfold C_cp280_45_b2 at h
      obtain ⟨-, h⟩ := gd_inv h
      by_cases c : x < 6
      · replace h := it_t c h
        obtain ⟨-, h⟩ := gd_inv h
        obtain ⟨-, h⟩ := gd_inv h
        obtain ⟨-, h⟩ := gd_inv h
        have q := ih _ _ (nm_inv (nm_inv h _ rfl) _ rfl)
        exact q
      · replace h := it_f c h
        rw [← Option.some.inj h]
  exact key FU S 0 h
theorem cp_1_52_287 {S S1 : yS} (h : C_cp52_287 S = some S1) : S1.1 = S.1 := by
  have key : ∀ (n : Nat) (S : yS) (x : Int), C_cp52_287_L2 n S x = some S1 → S1.1 = S.1 := by
    intro n
    induction n with
    | zero => intro S x h; exact no_some h
    | succ n ih =>
      intro S x h
      replace h : C_cp52_287_b2 (C_cp52_287_L2 n) S x = some S1 := h
      unfold C_cp52_287_b2 at h
      obtain ⟨-, h⟩ := gd_inv h
      by_cases c : x < 60
      · replace h := it_t c h
        obtain ⟨-, h⟩ := gd_inv h
        obtain ⟨-, h⟩ := gd_inv h
        obtain ⟨-, h⟩ := gd_inv h
        have q := ih _ _ (nm_inv (nm_inv h _ rfl) _ rfl)
        exact q
      · replace h := it_f c h
        rw [← Option.some.inj h]
  exact key FU S 0 h
theorem cp_1_287_52 {S S1 : yS} (h : C_cp287_52 S = some S1) : S1.1 = S.1 := by
  have key : ∀ (n : Nat) (S : yS) (x : Int), C_cp287_52_L2 n S x = some S1 → S1.1 = S.1 := by
    intro n
    induction n with
    | zero => intro S x h; exact no_some h
    | succ n ih =>
      intro S x h
      replace h : C_cp287_52_b2 (C_cp287_52_L2 n) S x = some S1 := h
      unfold C_cp287_52_b2 at h
      obtain ⟨-, h⟩ := gd_inv h
      by_cases c : x < 60
      · replace h := it_t c h
        obtain ⟨-, h⟩ := gd_inv h
        obtain ⟨-, h⟩ := gd_inv h
        obtain ⟨-, h⟩ := gd_inv h
        have q := ih _ _ (nm_inv (nm_inv h _ rfl) _ rfl)
        exact q
      · replace h := it_f c h
        rw [← Option.some.inj h]
  exact key FU S 0 h
theorem cp_1_113_348 {S S1 : yS} (h : C_cp113_348 S = some S1) : S1.1 = S.1 := by
  have key : ∀ (n : Nat) (S : yS) (x : Int), C_cp113_348_L2 n S x = some S1 → S1.1 = S.1 := by
    intro n
    induction n with
    | zero => intro S x h; exact no_some h
    | succ n ih =>
      intro S x h
      replace h : C_cp113_348_b2 (C_cp113_348_L2 n) S x = some S1 := h
      unfold C_cp113_348_b2 at h
      obtain ⟨-, h⟩ := gd_inv h
      by_cases c : x < 60
      · replace h := it_t c h
        obtain ⟨-, h⟩ := gd_inv h
        obtain ⟨-, h⟩ := gd_inv h
        obtain ⟨-, h⟩ := gd_inv h
        have q := ih _ _ (nm_inv (nm_inv h _ rfl) _ rfl)
        exact q
      · replace h := it_f c h
        rw [← Option.some.inj h]
  exact key FU S 0 h
theorem cp_1_348_113 {S S1 : yS} (h : C_cp348_113 S = some S1) : S1.1 = S.1 := by
  have key : ∀ (n : Nat) (S : yS) (x : Int), C_cp348_113_L2 n S x = some S1 → S1.1 = S.1 := by
    intro n
    induction n with
    | zero => intro S x h; exact no_some h
    | succ n ih =>
      intro S x h
      replace h : C_cp348_113_b2 (C_cp348_113_L2 n) S x = some S1 := h
      unfold C_cp348_113_b2 at h
      obtain ⟨-, h⟩ := gd_inv h
      by_cases c : x < 60
      · replace h := it_t c h
        obtain ⟨-, h⟩ := gd_inv h
        obtain ⟨-, h⟩ := gd_inv h
        obtain ⟨-, h⟩ := gd_inv h
        have q := ih _ _ (nm_inv (nm_inv h _ rfl) _ rfl)
        exact q
      · replace h := it_f c h
        rw [← Option.some.inj h]
  exact key FU S 0 h
theorem cp_1_174_409 {S S1 : yS} (h : C_cp174_409 S = some S1) : S1.1 = S.1 := by
  have key : ∀ (n : Nat) (S : yS) (x : Int), C_cp174_409_L2 n S x = some S1 → S1.1 = S.1 := by
    intro n
    induction n with
    | zero => intro S x h; exact no_some h
    | succ n ih =>
      intro S x h
      replace h : C_cp174_409_b2 (C_cp174_409_L2 n) S x = some S1 := h
      unfold C_cp174_409_b2 at h
      obtain ⟨-, h⟩ := gd_inv h
      by_cases c : x < 60
      · replace h := it_t c h
        obtain ⟨-, h⟩ := gd_inv h
        obtain ⟨-, h⟩ := gd_inv h
        obtain ⟨-, h⟩ := gd_inv h
        have q := ih _ _ (nm_inv (nm_inv h _ rfl) _ rfl)
        exact q
      · replace h := it_f c h
        rw [← Option.some.inj h]
  exact key FU S 0 h
theorem cp_1_409_174 {S S1 : yS} (h : C_cp409_174 S = some S1) : S1.1 = S.1 := by
  have key : ∀ (n : Nat) (S : yS) (x : Int), C_cp409_174_L2 n S x = some S1 → S1.1 = S.1 := by
    intro n
    induction n with
    | zero => intro S x h; exact no_some h
    | succ n ih =>
      intro S x h
      replace h : C_cp409_174_b2 (C_cp409_174_L2 n) S x = some S1 := h
      unfold C_cp409_174_b2 at h
      obtain ⟨-, h⟩ := gd_inv h
      by_cases c : x < 60
      · replace h := it_t c h
        obtain ⟨-, h⟩ := gd_inv h
        obtain ⟨-, h⟩ := gd_inv h
        obtain ⟨-, h⟩ := gd_inv h
        have q := ih _ _ (nm_inv (nm_inv h _ rfl) _ rfl)
        exact q
      · replace h := it_f c h
        rw [← Option.some.inj h]
  exact key FU S 0 h
def C_beI (S : yS) : Option yS := bd (C_cp4_239 (ccp (ccp S 2 237 14) 3 238 576)) (fun S => bd (C_cp11_246 S) (fun S => bd (C_cp28_263 S) (fun S => bd (C_cp45_280 S) (fun S => bd (C_cp52_287 S) (fun S => bd (C_cp113_348 S) (fun S => C_cp174_409 S))))))
set_option maxHeartbeats 4000000 in
/-- image.be(now): k, ed, L, rs of the list that is copied; kI, edI, LI, rsI of the one that takes it over -/
theorem w_beI (l : Launch) (Z : hZ) (DC : va_G) (dA : Nat → ClassId) (hC : Nat) (A : Nat → Prop) (L : List Nat) (k ed : Nat) (rs : List (List tCl)) (LI : List Nat) (kI edI : Nat) (rsI : List (List tCl)) (S : yS) (n0 : Nat) {S1 : yS} (hh : C_beI S = some S1) (gS : S.1 41 = (ed : Int) ∧ S.1 42 = (rs.length : Int)) (gI : S.1 51 = (edI : Int) ∧ S.1 52 = (rsI.length : Int)) : mG l yX2_be cX2_be 3 none ({ frames := 9, cells := beX kI rs.length, slots := 10 * beX kI rs.length, locals := 350 } : Room) Z DC dA [.ref (hC + 236), .ref (hC + 1)] n0 (fun H => va_P DC ccl (cw dA hC S) H ∧ RO2 Z hC A L k ed rs LI kI edI rsI H) (fun v H => v = none ∧ ∃ (m : Int) (ed' : Nat), va_P DC ccl (cw dA hC (cf5 S1 m (ed' : Int) (rs.length : Int))) H ∧ RO2 Z hC A L k ed rs L (beC kI rs.length) ed' rs H) (beF hC kI edI) (beX kI rs.length) (10 * beX kI rs.length) := by
  refine goGv (by decide +kernel) (Nat.le_of_ble_eq_true rfl) ?_
  intro p e s m args below meth c Q ls X hret hl hP hn hS
  subst hn
  have XH := fcx_h X
  have XC := fcx_c X
  have hx := X.1.1
  have hb := X.1.2.1
  have hown := X.1.2.2.2.1
  have hts := X.1.2.2.2.2
  obtain ⟨hP, hO, hOI, hne, hA1, hA2, hAb, ⟨hr8, hk10⟩, hrI8, hkI10⟩ := hP
  have hbF : ∀ x, cA hC x → Z.b ≤ x := fun x h => Nat.le_trans hO.1 h.1
  have hM : CX DC dA hC (hA (cA hC) s.heap.size) S s s.heap [] := ⟨hP, va_S.rf, fun q h => Or.inl h⟩
  replace hl : lv_has ls 3 [(0, .ref (hC + 236)), (1, .ref (hC + 1))] := hl
  have hcI := hOI.2.1.cap
  have hlen := hO.2.2.2.1
  have hsz : ∀ x, cA hC x → x < s.heap.size := fun x h => by
    have w := va_at_lt (hP (x - hC) _ (cw_at (by have := h.1; have := h.2; omega)))
    have e : hC + (x - hC) = x := by have := h.1; omega
    rw [e] at w
    exact w
  unfold C_beI at hh
  refine lv_aload_n hx hb dX2_be_0 rfl (lv_at hl 1 rfl) ?_
  refine cm_get XC hM q160 (cf_1_0 _ _ _) rfl dX2_be_1 ?_
  refine lv_iconst (v := zi 0) hx hb dX2_be_4 rfl ?_
  refine lv_aload_n hx hb dX2_be_5 rfl (lv_at hl 0 rfl) ?_
  refine cm_get XC hM q160 (cf_236_0 _ _ _) rfl dX2_be_6 ?_
  refine lv_iconst (v := zi 0) hx hb dX2_be_9 rfl ?_
  refine lv_bipush (v := zi 14) hx hb dX2_be_10 (by decide) ?_
  refine cm_copy (z0 := 2) (z1 := 237) (rest := []) XC hM ci_2 ci_237 rfl rfl rfl rfl (by decide) q289 q291 q290 q88 hl.1 (Nat.le_of_ble_eq_true rfl) (Nat.le_of_ble_eq_true rfl) dX2_be_12 (fun H locs S2 e2 hM => ?_)
  subst e2
  refine lv_aload_n hx hb dX2_be_15 rfl (lv_at hl 1 rfl) ?_
  refine cm_get XC hM q162 (cf_1_1 _ _ _) rfl dX2_be_16 ?_
  refine lv_iconst (v := zi 0) hx hb dX2_be_19 rfl ?_
  refine lv_aload_n hx hb dX2_be_20 rfl (lv_at hl 0 rfl) ?_
  refine cm_get XC hM q162 (cf_236_1 _ _ _) rfl dX2_be_21 ?_
  refine lv_iconst (v := zi 0) hx hb dX2_be_24 rfl ?_
  refine lv_sipush (v := zi 576) hx hb dX2_be_25 (by decide) ?_
  refine cm_copy (z0 := 3) (z1 := 238) (rest := []) XC hM ci_3 ci_238 rfl rfl rfl rfl (by decide) q289 q291 q290 q88 hl.1 (Nat.le_of_ble_eq_true rfl) (Nat.le_of_ble_eq_true rfl) dX2_be_28 (fun H locs S2 e2 hM => ?_)
  subst e2
  have s0 : (ccp (ccp S 2 237 14) 3 238 576).1 = S.1 := rfl
  obtain ⟨T0, k0, hh⟩ := bd_inv hh
  refine lv_aload_n hx hb dX2_be_31 rfl (lv_at hl 1 rfl) ?_
  refine cm_get XC hM q164 (cf_1_2 _ _ _) rfl dX2_be_32 ?_
  refine lv_aload_n hx hb dX2_be_35 rfl (lv_at hl 0 rfl) ?_
  refine cm_get XC hM q164 (cf_236_2 _ _ _) rfl dX2_be_36 ?_
  refine ccs_v (As := [.ref (hC + 4), .ref (hC + 239)]) (rest := []) XC hM (wC_cp4_239 l DC dA hC _ k0) (lw_S q292 q293 q81 q294) (show hdS yX2_copy 2 by decide +kernel) ⟨rfl, rfl⟩ ⟨Nat.le_of_ble_eq_true rfl, Nat.le_of_ble_eq_true rfl⟩ ⟨Nat.zero_le _, Nat.zero_le _⟩ hl.1 (Nat.le_of_ble_eq_true rfl) dX2_be_39 rfl (fun H locs hM => ?_)
  have s1 : T0.1 = S.1 := (cp_1_4_239 k0).trans s0
  obtain ⟨T1, k1, hh⟩ := bd_inv hh
  refine lv_aload_n hx hb dX2_be_42 rfl (lv_at hl 1 rfl) ?_
  refine cm_get XC hM q166 (cf_1_3 _ _ _) rfl dX2_be_43 ?_
  refine lv_aload_n hx hb dX2_be_46 rfl (lv_at hl 0 rfl) ?_
  refine cm_get XC hM q166 (cf_236_3 _ _ _) rfl dX2_be_47 ?_
  refine ccs_v (As := [.ref (hC + 11), .ref (hC + 246)]) (rest := []) XC hM (wC_cp11_246 l DC dA hC _ k1) (lw_S q292 q293 q81 q294) (show hdS yX2_copy 2 by decide +kernel) ⟨rfl, rfl⟩ ⟨Nat.le_of_ble_eq_true rfl, Nat.le_of_ble_eq_true rfl⟩ ⟨Nat.zero_le _, Nat.zero_le _⟩ hl.1 (Nat.le_of_ble_eq_true rfl) dX2_be_50 rfl (fun H locs hM => ?_)
  have s2 : T1.1 = S.1 := (cp_1_11_246 k1).trans s1
  obtain ⟨T2, k2, hh⟩ := bd_inv hh
  refine lv_aload_n hx hb dX2_be_53 rfl (lv_at hl 1 rfl) ?_
  refine cm_get XC hM q168 (cf_1_4 _ _ _) rfl dX2_be_54 ?_
  refine lv_aload_n hx hb dX2_be_57 rfl (lv_at hl 0 rfl) ?_
  refine cm_get XC hM q168 (cf_236_4 _ _ _) rfl dX2_be_58 ?_
  refine ccs_v (As := [.ref (hC + 28), .ref (hC + 263)]) (rest := []) XC hM (wC_cp28_263 l DC dA hC _ k2) (lw_S q292 q293 q81 q294) (show hdS yX2_copy 2 by decide +kernel) ⟨rfl, rfl⟩ ⟨Nat.le_of_ble_eq_true rfl, Nat.le_of_ble_eq_true rfl⟩ ⟨Nat.zero_le _, Nat.zero_le _⟩ hl.1 (Nat.le_of_ble_eq_true rfl) dX2_be_61 rfl (fun H locs hM => ?_)
  have s3 : T2.1 = S.1 := (cp_1_28_263 k2).trans s2
  obtain ⟨T3, k3, hh⟩ := bd_inv hh
  refine lv_aload_n hx hb dX2_be_64 rfl (lv_at hl 1 rfl) ?_
  refine cm_get XC hM q170 (cf_1_5 _ _ _) rfl dX2_be_65 ?_
  refine lv_aload_n hx hb dX2_be_68 rfl (lv_at hl 0 rfl) ?_
  refine cm_get XC hM q170 (cf_236_5 _ _ _) rfl dX2_be_69 ?_
  refine ccs_v (As := [.ref (hC + 45), .ref (hC + 280)]) (rest := []) XC hM (wC_cp45_280 l DC dA hC _ k3) (lw_S q292 q293 q81 q294) (show hdS yX2_copy 2 by decide +kernel) ⟨rfl, rfl⟩ ⟨Nat.le_of_ble_eq_true rfl, Nat.le_of_ble_eq_true rfl⟩ ⟨Nat.zero_le _, Nat.zero_le _⟩ hl.1 (Nat.le_of_ble_eq_true rfl) dX2_be_72 rfl (fun H locs hM => ?_)
  have s4 : T3.1 = S.1 := (cp_1_45_280 k3).trans s3
  obtain ⟨T4, k4, hh⟩ := bd_inv hh
  refine lv_aload_n hx hb dX2_be_75 rfl (lv_at hl 1 rfl) ?_
  refine cm_get XC hM q172 (cf_1_6 _ _ _) rfl dX2_be_76 ?_
  refine lv_aload_n hx hb dX2_be_79 rfl (lv_at hl 0 rfl) ?_
  refine cm_get XC hM q172 (cf_236_6 _ _ _) rfl dX2_be_80 ?_
  refine ccs_v (As := [.ref (hC + 52), .ref (hC + 287)]) (rest := []) XC hM (wC_cp52_287 l DC dA hC _ k4) (lw_S q292 q293 q81 q294) (show hdS yX2_copy 2 by decide +kernel) ⟨rfl, rfl⟩ ⟨Nat.le_of_ble_eq_true rfl, Nat.le_of_ble_eq_true rfl⟩ ⟨Nat.zero_le _, Nat.zero_le _⟩ hl.1 (Nat.le_of_ble_eq_true rfl) dX2_be_83 rfl (fun H locs hM => ?_)
  have s5 : T4.1 = S.1 := (cp_1_52_287 k4).trans s4
  obtain ⟨T5, k5, hh⟩ := bd_inv hh
  refine lv_aload_n hx hb dX2_be_86 rfl (lv_at hl 1 rfl) ?_
  refine cm_get XC hM q174 (cf_1_7 _ _ _) rfl dX2_be_87 ?_
  refine lv_aload_n hx hb dX2_be_90 rfl (lv_at hl 0 rfl) ?_
  refine cm_get XC hM q174 (cf_236_7 _ _ _) rfl dX2_be_91 ?_
  refine ccs_v (As := [.ref (hC + 113), .ref (hC + 348)]) (rest := []) XC hM (wC_cp113_348 l DC dA hC _ k5) (lw_S q292 q293 q81 q294) (show hdS yX2_copy 2 by decide +kernel) ⟨rfl, rfl⟩ ⟨Nat.le_of_ble_eq_true rfl, Nat.le_of_ble_eq_true rfl⟩ ⟨Nat.zero_le _, Nat.zero_le _⟩ hl.1 (Nat.le_of_ble_eq_true rfl) dX2_be_94 rfl (fun H locs hM => ?_)
  have s6 : T5.1 = S.1 := (cp_1_113_348 k5).trans s5
  refine lv_aload_n hx hb dX2_be_97 rfl (lv_at hl 1 rfl) ?_
  refine cm_get XC hM q176 (cf_1_8 _ _ _) rfl dX2_be_98 ?_
  refine lv_aload_n hx hb dX2_be_101 rfl (lv_at hl 0 rfl) ?_
  refine cm_get XC hM q176 (cf_236_8 _ _ _) rfl dX2_be_102 ?_
  refine ccs_v (As := [.ref (hC + 174), .ref (hC + 409)]) (rest := []) XC hM (wC_cp174_409 l DC dA hC _ hh) (lw_S q292 q293 q81 q294) (show hdS yX2_copy 2 by decide +kernel) ⟨rfl, rfl⟩ ⟨Nat.le_of_ble_eq_true rfl, Nat.le_of_ble_eq_true rfl⟩ ⟨Nat.zero_le _, Nat.zero_le _⟩ hl.1 (Nat.le_of_ble_eq_true rfl) dX2_be_105 rfl (fun H locs hM => ?_)
  have s7 : S1.1 = S.1 := (cp_1_174_409 hh).trans s6
  -- the list is emptied
  have hO1 := hO.at hM
  have hOI1 := hOI.at hM
  have gI1 : S1.1 51 = (edI : Int) ∧ S1.1 52 = (rsI.length : Int) := by rw [s7]; exact gI
  have gS1 : S1.1 41 = (ed : Int) ∧ S1.1 42 = (rs.length : Int) := by rw [s7]; exact gS
  have hLI := RO.lstI X.2.2 X.2.1 hOI1 hM.1 gI1
  have hSF : va_S (hA (beF hC kI edI) s.heap.size) s.heap H locs := hM.2.1.mono (fun q h => h.elim (fun w => Or.inl (Or.inl w)) Or.inr)
  have hFb : ∀ a, beF hC kI edI a → Z.b ≤ a := by
    intro a h
    rcases h with h | h
    · exact hbF a h
    · rcases hOI.2.1 with w | w
      · omega
      · rw [h.2]; exact w.2.2.2.1
  refine lv_aload_n hx hb dX2_be_108 rfl (lv_at hl 0 rfl) ?_
  refine cm_get XC hM q178 (cf_236_9 _ _ _) rfl dX2_be_109 ?_
  refine hcV (As := []) (rest := []) (b := hC + 470) XH hSF hFb (w_clear l Z (hC + 470) kI edI LI H.size) hLI (fun x h => ?_) (hLI.recv X.2.1) (lw_V q295 q296 q297 q84 q298) (show hdV yJ2_clear "java/util/ArrayList" 0 by decide +kernel) ⟨rfl, rfl⟩ ⟨Nat.le_of_ble_eq_true rfl, Nat.le_of_ble_eq_true rfl⟩ ⟨Nat.zero_le _, Nat.zero_le _⟩ hl.1 (Nat.le_of_ble_eq_true rfl) dX2_be_112 rfl (fun v H2 locs2 hv hfr2 hS2 => ?_)
  · rcases h with h | h
    · exact Or.inl (Or.inl (by rw [h]; exact ⟨by omega, by omega⟩))
    · exact Or.inl (Or.inr ⟨h.2, h.1⟩)
  obtain ⟨rfl, hL2⟩ := hv
  obtain ⟨m2, hP2⟩ := lk_lstI X.2.2 X.2.1 hM.1 hL2 (fun x hxs hc hn => hfr2.2 x hxs (fun z => by
    rcases z with z | z
    · exact hn z
    · exact hOI.2.2.1 z.2 (by rw [← z.1]; exact hc)))
  refine lv_iconst (v := zi 0) hx hb dX2_be_115 rfl ?_
  refine lv_istore_n (lv' := [(2, .int (zi 0)), (0, .ref (hC + 236)), (1, .ref (hC + 1))]) hx hb dX2_be_116 rfl hl (by decide) rfl (fun ls hl => ?_)
  -- what a heap that only took the rules over keeps
  have kpO : ∀ {H1 : Heap} {locs1 : List Loc}, va_S (hA (beF hC kI edI) s.heap.size) s.heap H1 locs1 → ∀ x, x < s.heap.size → (10 ≤ k ∧ x = ed) ∨ A x ∨ x < Z.b → H1[x]? = s.heap[x]? := by
    intro H1 locs1 hS x hxs hy
    refine hS.2.1 x hxs (fun z => ?_)
    rcases z with z | z
    · rcases z with z | z
      · rcases hy with hy | hy | hy
        · exact hO.2.2.1 hy.1 (by rw [← hy.2]; exact z)
        · exact hO.2.2.2.2.2.1 x hy z
        · have := hbF x z; omega
      · rcases hy with hy | hy | hy
        · exact hne hy.1 z.1 (by rw [← hy.2, ← z.2])
        · exact hA2 z.1 (by rw [← z.2]; exact hy)
        · have := hFb x (Or.inr z); omega
    · exact absurd z (Nat.not_le.mpr hxs)
  have edlt : 10 ≤ k → ed < s.heap.size := by
    intro h10
    rcases hO.2.1 with w | w
    · omega
    · exact w.2.2.2.2.lt
  have loop : ∀ (j i : Nat) (m' : Int) (ed' : Nat) (H : Heap) (locs : List Loc) (ls : Array Slot), i + j = rs.length → va_S (hA (beF hC kI edI) s.heap.size) s.heap H locs → va_P DC ccl (cw dA hC (cf5 S1 m' (ed' : Int) (i : Int))) H → RO Z hC A (L.take i) (beC kI i) ed' (rs.take i) H → (10 ≤ beC kI i → ¬ A ed' ∧ (10 ≤ k → ed ≠ ed') ∧ ((ed' = edI ∧ 10 ≤ kI) ∨ s.heap.size ≤ ed')) → lv_has ls 3 [(2, .int (zi (i : Int))), (0, .ref (hC + 236)), (1, .ref (hC + 1))] → W p l e ({ frames := 9, cells := beX kI rs.length, slots := 10 * beX kI rs.length, locals := 350 } : Room) s m args below meth c H locs (beX kI i) (10 * beX kI i) Q (F0 m 117 ls []) := by
    intro j
    induction j with
    | zero =>
      intro i m' ed' H locs ls hij hS hP hR hed hl
      have hi : i = rs.length := by omega
      have hON : RO Z hC A L k ed rs H := hO.keep2 (kpO hS)
      have hM : CX DC dA hC (hA (beF hC kI edI) s.heap.size) (cf5 S1 m' (ed' : Int) (i : Int)) s H locs := ⟨hP, hS, fun q h => Or.inl (Or.inl h)⟩
      have hLS := RO.lst X.2.2 X.2.1 hON hP gS1
      refine lv_iload_n hx hb dX2_be_117 rfl (lv_at hl 0 rfl) ?_
      refine lv_aload_n hx hb dX2_be_118 rfl (lv_at hl 2 rfl) ?_
      refine cm_get XC hM q178 (cf_1_9 _ _ _) rfl dX2_be_119 ?_
      refine hcV (As := []) (rest := [.int (zi (i : Int))]) (b := hC + 235) XH hS hFb (w_size l Z (hC + 235) k ed L H.size) hLS (fun x h => h.elim) (hLS.recv X.2.1) (lw_V q299 q300 q301 q84 q302) (show hdV yJ2_size "java/util/ArrayList" 0 by decide +kernel) ⟨rfl, rfl⟩ ⟨Nat.le_of_ble_eq_true rfl, Nat.le_of_ble_eq_true rfl⟩ ⟨by rw [hi]; exact Nat.le_refl _, by rw [hi]; exact Nat.le_refl _⟩ hl.1 (Nat.le_of_ble_eq_true rfl) dX2_be_122 rfl (fun v H3 locs3 hv hfr3 hS3 => ?_)
      subst hv
      have hi2 : (i : Int) = (L.length : Int) := by omega
      refine g_icmp_ge (tgt := 153) hx hb (show r32 (i : Int) ∧ r32 (L.length : Int) by unfold r32; omega) dX2_be_125 (by decide) (fun c1 => absurd c1 (by omega)) (fun c1 => ?_)
      have nop : ∀ x, x < H.size → H3[x]? = H[x]? := fun x hxs => hfr3.2 x hxs (fun z => z)
      have hP3 : va_P DC ccl (cw dA hC (cf5 S1 m' (ed' : Int) (i : Int))) H3 := hP.kept (fun k q hq => nop q.1 (va_at_lt (hP k q hq)))
      have hR3 : RO Z hC A (L.take i) (beC kI i) ed' (rs.take i) H3 := hR.keep2 (fun x hxs _ => nop x hxs)
      have hON3 : RO Z hC A L k ed rs H3 := hON.keep2 (fun x hxs _ => nop x hxs)
      have hbC : beC kI rs.length ≤ 10 := by
        unfold beC
        split
        · exact Nat.le_refl _
        · exact hkI10
      have e1 : L.take i = L := List.take_of_length_le (by omega)
      have e2 : rs.take i = rs := List.take_of_length_le (by omega)
      rw [e1, e2, hi] at hR3
      rw [hi] at hP3 hed
      have hfin := hret 153 ls H3 locs3 dX2_be_153 ⟨rfl, m', ed', hP3, hON3, hR3, fun w1 w2 => (hed w2).2.1 w1, hA1, fun w => (hed w).1, fun x w => Nat.lt_of_lt_of_le (hAb x w) hS3.1, ⟨hr8, hk10⟩, hr8, hbC⟩ hS3
      rw [hi]
      exact hfin
    | succ j ih =>
      intro i m' ed' H locs ls hij hS hP hR hed hl
      have hil : i < rs.length := by omega
      have hiL : i < L.length := by omega
      have hON : RO Z hC A L k ed rs H := hO.keep2 (kpO hS)
      have hM : CX DC dA hC (hA (beF hC kI edI) s.heap.size) (cf5 S1 m' (ed' : Int) (i : Int)) s H locs := ⟨hP, hS, fun q h => Or.inl (Or.inl h)⟩
      have hLS := RO.lst X.2.2 X.2.1 hON hP gS1
      have hbX : beX kI (i + 1) = beX kI rs.length := by
        unfold beX
        by_cases h0 : kI = 0
        · rw [if_pos ⟨h0, by omega⟩, if_pos ⟨h0, by omega⟩]
        · rw [if_neg (fun w => h0 w.1), if_neg (fun w => h0 w.1)]
      have htl : (L.take i).length = i := by rw [List.length_take]; omega
      obtain ⟨n1, n2, n3, n4⟩ := beC_next (L := L.take i) hcI.1 (by omega : i < 8) htl
      refine lv_iload_n hx hb dX2_be_117 rfl (lv_at hl 0 rfl) ?_
      refine lv_aload_n hx hb dX2_be_118 rfl (lv_at hl 2 rfl) ?_
      refine cm_get XC hM q178 (cf_1_9 _ _ _) rfl dX2_be_119 ?_
      refine hcV (As := []) (rest := [.int (zi (i : Int))]) (b := hC + 235) XH hS hFb (w_size l Z (hC + 235) k ed L H.size) hLS (fun x h => h.elim) (hLS.recv X.2.1) (lw_V q299 q300 q301 q84 q302) (show hdV yJ2_size "java/util/ArrayList" 0 by decide +kernel) ⟨rfl, rfl⟩ ⟨Nat.le_of_ble_eq_true rfl, Nat.le_of_ble_eq_true rfl⟩ ⟨show beX kI i + 0 ≤ beX kI rs.length by omega, show 10 * beX kI i + 0 ≤ 10 * beX kI rs.length by omega⟩ hl.1 (Nat.le_of_ble_eq_true rfl) dX2_be_122 rfl (fun v H3 locs3 hv hfr3 hS3 => ?_)
      subst hv
      refine g_icmp_ge (tgt := 153) hx hb (show r32 (i : Int) ∧ r32 (L.length : Int) by unfold r32; omega) dX2_be_125 (by decide) (fun c1 => ?_) (fun c1 => absurd c1 (by omega))
      have nop : ∀ x, x < H.size → H3[x]? = H[x]? := fun x hxs => hfr3.2 x hxs (fun z => z)
      have hP3 : va_P DC ccl (cw dA hC (cf5 S1 m' (ed' : Int) (i : Int))) H3 := hP.kept (fun k q hq => nop q.1 (va_at_lt (hP k q hq)))
      have hR3 : RO Z hC A (L.take i) (beC kI i) ed' (rs.take i) H3 := hR.keep2 (fun x hxs _ => nop x hxs)
      have hON3 : RO Z hC A L k ed rs H3 := hON.keep2 (fun x hxs _ => nop x hxs)
      have hM3 : CX DC dA hC (hA (beF hC kI edI) s.heap.size) (cf5 S1 m' (ed' : Int) (i : Int)) s H3 locs3 := ⟨hP3, hS3, fun q h => Or.inl (Or.inl h)⟩
      have hLS3 := RO.lst X.2.2 X.2.1 hON3 hP3 gS1
      refine lv_aload_n hx hb dX2_be_128 rfl (lv_at hl 1 rfl) ?_
      refine cm_get XC hM3 q178 (cf_236_9 _ _ _) rfl dX2_be_129 ?_
      refine lv_aload_n hx hb dX2_be_132 rfl (lv_at hl 2 rfl) ?_
      refine cm_get XC hM3 q178 (cf_1_9 _ _ _) rfl dX2_be_133 ?_
      refine lv_iload_n hx hb dX2_be_136 rfl (lv_at hl 0 rfl) ?_
      have hget : L[((i : Int)).toNat]? = some L[i] := by rw [Int.toNat_natCast]; exact List.getElem?_eq_getElem hiL
      refine hcV (As := [.int (zi (i : Int))]) (rest := [.ref (hC + 470)]) (b := hC + 235) XH hS3 hFb (w_lget l Z (hC + 235) k ed L (i : Int) L[i] ⟨by omega, hget⟩ H3.size) hLS3 (fun x h => h.elim) (hLS3.recv X.2.1) (lw_V q303 q304 q305 q84 q306) (show hdV yJ2_get "java/util/ArrayList" 1 by decide +kernel) ⟨rfl, rfl⟩ ⟨Nat.le_of_ble_eq_true rfl, Nat.le_of_ble_eq_true rfl⟩ ⟨show beX kI i + 0 + 0 ≤ beX kI rs.length by omega, show 10 * beX kI i + 0 + 0 ≤ 10 * beX kI rs.length by omega⟩ hl.1 (Nat.le_of_ble_eq_true rfl) dX2_be_137 rfl (fun v H4 locs4 hv hfr4 hS4 => ?_)
      subst hv
      have nop4 : ∀ x, x < H3.size → H4[x]? = H3[x]? := fun x hxs => hfr4.2 x hxs (fun z => z)
      have hP4 : va_P DC ccl (cw dA hC (cf5 S1 m' (ed' : Int) (i : Int))) H4 := hP3.kept (fun k q hq => nop4 q.1 (va_at_lt (hP3 k q hq)))
      have hR4 : RO Z hC A (L.take i) (beC kI i) ed' (rs.take i) H4 := hR3.keep2 (fun x hxs _ => nop4 x hxs)
      have hON4 : RO Z hC A L k ed rs H4 := hON3.keep2 (fun x hxs _ => nop4 x hxs)
      obtain ⟨ax, hax, hRl⟩ := zip_atR (i := i) hlen hON4.2.2.2.2.1 (List.getElem?_eq_getElem hil)
      have eax : ax = L[i] := by
        rw [List.getElem?_eq_getElem hiL] at hax
        exact (Option.some.inj hax).symm
      subst eax
      obtain ⟨L1, c1', e1', hLs1, -⟩ := id hRl
      refine va_castS (nm := "java/util/ArrayList") hx hb hown (hts _ q133) (X.2.1.1.1 14 _ rfl).2 (hLs1.recv X.2.1) dX2_be_140 ?_
      have hLT := RO.lstI X.2.2 X.2.1 hR4 hP4 ⟨rfl, by show ((i : Nat) : Int) = _; rw [List.length_take]; omega⟩
      have hcap : beC kI i < 40000 := by
        unfold beC
        have := hcI.2
        split
        · decide
        · omega
      refine hcV (As := [.ref L[i]]) (rest := []) (b := hC + 470) XH hS4 hFb (w_add l Z (hC + 470) (beC kI i) ed' L[i] (L.take i) hcap H4.size) ⟨hLT, hRl.any⟩ (fun x h => ?_) (hLT.recv X.2.1) (lw_V q317 q318 q319 q84 q320) (show hdV yJ2_add "java/util/ArrayList" 1 by decide +kernel) ⟨rfl, rfl⟩ ⟨Nat.le_of_ble_eq_true rfl, Nat.le_of_ble_eq_true rfl⟩ ⟨show beX kI i + 0 + 0 + acc (L.take i) (beC kI i) ≤ beX kI rs.length by omega, show 10 * beX kI i + 0 + 0 + acs (L.take i) (beC kI i) ≤ 10 * beX kI rs.length by omega⟩ hl.1 (Nat.le_of_ble_eq_true rfl) dX2_be_143 rfl (fun v H5 locs5 hv hfr5 hS5 => ?_)
      · rcases h with h | h
        · exact Or.inl (Or.inl (by rw [h]; exact ⟨by omega, by omega⟩))
        · rcases (hed h.2).2.2 with w | w
          · exact Or.inl (Or.inr ⟨w.2, by rw [h.1, w.1]⟩)
          · exact Or.inr (by rw [h.1]; exact w)
      obtain ⟨rfl, ed2, hedN, hL5⟩ := hv
      refine lv_pop hx hb dX2_be_146 rfl ?_
      refine lv_iinc (v := zi ((i + 1 : Nat) : Int)) (lv' := [(2, .int (zi ((i + 1 : Nat) : Int))), (0, .ref (hC + 236)), (1, .ref (hC + 1))]) hx hb dX2_be_147 hl (k := 0) rfl (by rw [show ((i + 1 : Nat) : Int) = (i : Int) + 1 by omega]; exact zi_add _ _) (by decide) rfl (fun ls hl => ?_)
      refine lv_goto (tgt := 117) hx hb dX2_be_150 (by decide) ?_
      obtain ⟨m5, hP5⟩ := lk_lstI X.2.2 X.2.1 hP4 hL5 (fun x hxs hc hn => hfr5.2 x hxs (fun z => by
        rcases z with z | z
        · exact hn z
        · exact hR4.2.2.1 z.2 (by rw [← z.1]; exact hc)))
      rw [cf5_cf5, List.length_append, htl] at hP5
      rw [← take_snoc hiL, n1] at hL5
      have hed2 : 10 ≤ beC kI (i + 1) → ¬ A ed2 ∧ (10 ≤ k → ed ≠ ed2) ∧ ((ed2 = edI ∧ 10 ≤ kI) ∨ s.heap.size ≤ ed2) := by
        intro h10
        rcases hedN with ⟨w1, w2⟩ | ⟨w1, w2⟩
        · have hge : s.heap.size ≤ ed2 := Nat.le_trans hS4.1 w2
          exact ⟨fun w => absurd (hAb ed2 w) (by omega), fun w => by have := edlt w; omega, Or.inr hge⟩
        · subst w2
          refine hed ?_
          have : ¬ (kI = 0 ∧ i = 0) := fun w => w1 (n4.mpr w)
          unfold beC at h10 ⊢
          by_cases h0 : kI = 0
          · rw [if_pos ⟨h0, by omega⟩]; exact Nat.le_refl _
          · rw [if_neg (fun w => h0 w.1)] at h10 ⊢; exact h10
      have hR5 : RO Z hC A (L.take (i + 1)) (beC kI (i + 1)) ed2 (rs.take (i + 1)) H5 := by
        have hk5 : ∀ x, A x ∨ x < Z.b → x < H4.size → H5[x]? = H4[x]? := by
          intro x hy hxs
          refine hfr5.2 x hxs (fun z => ?_)
          rcases z with z | z
          · rcases hy with hy | hy
            · exact hO.2.2.2.2.2.1 x hy (by rw [z]; exact ⟨by omega, by omega⟩)
            · have := hbF x (by rw [z]; exact ⟨by omega, by omega⟩); omega
          · rcases hy with hy | hy
            · exact (hed z.2).1 (by rw [← z.1]; exact hy)
            · rcases hLT.2.2.1 with w | w
              · omega
              · have := w.2.2.2.1; omega
        refine ⟨hO.1, hL5.2.2.1, fun h10 => ?_, by rw [List.length_take, List.length_take]; omega, zip_take (fun w hw => (hON4.2.2.2.2.1 w hw).keep hk5), hO.2.2.2.2.2.1, hO.2.2.2.2.2.2⟩
        intro hc
        rcases (hed2 h10).2.2 with w | w
        · exact hOI.2.2.1 w.2 (by rw [← w.1]; exact hc)
        · have := hsz ed2 hc; omega
      have e0 : beX kI i + 0 + 0 + acc (L.take i) (beC kI i) = beX kI (i + 1) := by omega
      have e0' : 10 * beX kI i + 0 + 0 + acs (L.take i) (beC kI i) = 10 * beX kI (i + 1) := by omega
      rw [e0, e0']
      exact ih (i + 1) m5 ed2 H5 locs5 ls (by omega) hS5 hP5 hR5 hed2 hl
  have e0 : beC kI 0 = kI := by unfold beC; rw [if_neg (fun w => w.2 rfl)]
  have eX : beX kI 0 = 0 := by unfold beX; rw [if_neg (fun w => w.2 rfl)]
  have lp := loop rs.length 0 m2 edI H2 locs2 ls (by omega) hS2 hP2 (by
    rw [e0]
    exact ⟨hO.1, hL2.2.2.1, hOI.2.2.1, rfl, fun w hw => absurd hw (by simp), hO.2.2.2.2.2.1, hO.2.2.2.2.2.2⟩) (fun h10 => by
    rw [e0] at h10
    exact ⟨hA2 h10, fun w => hne w h10, Or.inl ⟨rfl, h10⟩⟩) hl
  rw [eX] at lp
  exact lp
def C_beB (S : yS) : Option yS := bd (C_cp239_4 (ccp (ccp S 237 2 14) 238 3 576)) (fun S => bd (C_cp246_11 S) (fun S => bd (C_cp263_28 S) (fun S => bd (C_cp280_45 S) (fun S => bd (C_cp287_52 S) (fun S => bd (C_cp348_113 S) (fun S => C_cp409_174 S))))))
set_option maxHeartbeats 4000000 in
/-- now.be(image): k, ed, L, rs of the list that is copied; kI, edI, LI, rsI of the one that takes it over -/
theorem w_beB (l : Launch) (Z : hZ) (DC : va_G) (dA : Nat → ClassId) (hC : Nat) (A : Nat → Prop) (L : List Nat) (k ed : Nat) (rs : List (List tCl)) (LI : List Nat) (kI edI : Nat) (rsI : List (List tCl)) (S : yS) (n0 : Nat) {S1 : yS} (hh : C_beB S = some S1) (gS : S.1 51 = (ed : Int) ∧ S.1 52 = (rs.length : Int)) (gI : S.1 41 = (edI : Int) ∧ S.1 42 = (rsI.length : Int)) : mG l yX2_be cX2_be 3 none ({ frames := 9, cells := beX kI rs.length, slots := 10 * beX kI rs.length, locals := 350 } : Room) Z DC dA [.ref (hC + 1), .ref (hC + 236)] n0 (fun H => va_P DC ccl (cw dA hC S) H ∧ RO2 Z hC A L k ed rs LI kI edI rsI H) (fun v H => v = none ∧ ∃ (m : Int) (ed' : Nat), va_P DC ccl (cw dA hC (cf4 S1 m (ed' : Int) (rs.length : Int))) H ∧ RO2 Z hC A L k ed rs L (beC kI rs.length) ed' rs H) (beF hC kI edI) (beX kI rs.length) (10 * beX kI rs.length) := by
  refine goGv (by decide +kernel) (Nat.le_of_ble_eq_true rfl) ?_
  intro p e s m args below meth c Q ls X hret hl hP hn hS
  subst hn
  have XH := fcx_h X
  have XC := fcx_c X
  have hx := X.1.1
  have hb := X.1.2.1
  have hown := X.1.2.2.2.1
  have hts := X.1.2.2.2.2
  obtain ⟨hP, hO, hOI, hne, hA1, hA2, hAb, ⟨hr8, hk10⟩, hrI8, hkI10⟩ := hP
  have hbF : ∀ x, cA hC x → Z.b ≤ x := fun x h => Nat.le_trans hO.1 h.1
  have hM : CX DC dA hC (hA (cA hC) s.heap.size) S s s.heap [] := ⟨hP, va_S.rf, fun q h => Or.inl h⟩
  replace hl : lv_has ls 3 [(0, .ref (hC + 1)), (1, .ref (hC + 236))] := hl
  have hcI := hOI.2.1.cap
  have hlen := hO.2.2.2.1
  have hsz : ∀ x, cA hC x → x < s.heap.size := fun x h => by
    have w := va_at_lt (hP (x - hC) _ (cw_at (by have := h.1; have := h.2; omega)))
    have e : hC + (x - hC) = x := by have := h.1; omega
    rw [e] at w
    exact w
  unfold C_beB at hh
  refine lv_aload_n hx hb dX2_be_0 rfl (lv_at hl 1 rfl) ?_
  refine cm_get XC hM q160 (cf_236_0 _ _ _) rfl dX2_be_1 ?_
  refine lv_iconst (v := zi 0) hx hb dX2_be_4 rfl ?_
  refine lv_aload_n hx hb dX2_be_5 rfl (lv_at hl 0 rfl) ?_
  refine cm_get XC hM q160 (cf_1_0 _ _ _) rfl dX2_be_6 ?_
  refine lv_iconst (v := zi 0) hx hb dX2_be_9 rfl ?_
  refine lv_bipush (v := zi 14) hx hb dX2_be_10 (by decide) ?_
  refine cm_copy (z0 := 237) (z1 := 2) (rest := []) XC hM ci_237 ci_2 rfl rfl rfl rfl (by decide) q289 q291 q290 q88 hl.1 (Nat.le_of_ble_eq_true rfl) (Nat.le_of_ble_eq_true rfl) dX2_be_12 (fun H locs S2 e2 hM => ?_)
  subst e2
  refine lv_aload_n hx hb dX2_be_15 rfl (lv_at hl 1 rfl) ?_
  refine cm_get XC hM q162 (cf_236_1 _ _ _) rfl dX2_be_16 ?_
  refine lv_iconst (v := zi 0) hx hb dX2_be_19 rfl ?_
  refine lv_aload_n hx hb dX2_be_20 rfl (lv_at hl 0 rfl) ?_
  refine cm_get XC hM q162 (cf_1_1 _ _ _) rfl dX2_be_21 ?_
  refine lv_iconst (v := zi 0) hx hb dX2_be_24 rfl ?_
  refine lv_sipush (v := zi 576) hx hb dX2_be_25 (by decide) ?_
  refine cm_copy (z0 := 238) (z1 := 3) (rest := []) XC hM ci_238 ci_3 rfl rfl rfl rfl (by decide) q289 q291 q290 q88 hl.1 (Nat.le_of_ble_eq_true rfl) (Nat.le_of_ble_eq_true rfl) dX2_be_28 (fun H locs S2 e2 hM => ?_)
  subst e2
  have s0 : (ccp (ccp S 237 2 14) 238 3 576).1 = S.1 := rfl
  obtain ⟨T0, k0, hh⟩ := bd_inv hh
  refine lv_aload_n hx hb dX2_be_31 rfl (lv_at hl 1 rfl) ?_
  refine cm_get XC hM q164 (cf_236_2 _ _ _) rfl dX2_be_32 ?_
  refine lv_aload_n hx hb dX2_be_35 rfl (lv_at hl 0 rfl) ?_
  refine cm_get XC hM q164 (cf_1_2 _ _ _) rfl dX2_be_36 ?_
  refine ccs_v (As := [.ref (hC + 239), .ref (hC + 4)]) (rest := []) XC hM (wC_cp239_4 l DC dA hC _ k0) (lw_S q292 q293 q81 q294) (show hdS yX2_copy 2 by decide +kernel) ⟨rfl, rfl⟩ ⟨Nat.le_of_ble_eq_true rfl, Nat.le_of_ble_eq_true rfl⟩ ⟨Nat.zero_le _, Nat.zero_le _⟩ hl.1 (Nat.le_of_ble_eq_true rfl) dX2_be_39 rfl (fun H locs hM => ?_)
  have s1 : T0.1 = S.1 := (cp_1_239_4 k0).trans s0
  obtain ⟨T1, k1, hh⟩ := bd_inv hh
  refine lv_aload_n hx hb dX2_be_42 rfl (lv_at hl 1 rfl) ?_
  refine cm_get XC hM q166 (cf_236_3 _ _ _) rfl dX2_be_43 ?_
  refine lv_aload_n hx hb dX2_be_46 rfl (lv_at hl 0 rfl) ?_
  refine cm_get XC hM q166 (cf_1_3 _ _ _) rfl dX2_be_47 ?_
  refine ccs_v (As := [.ref (hC + 246), .ref (hC + 11)]) (rest := []) XC hM (wC_cp246_11 l DC dA hC _ k1) (lw_S q292 q293 q81 q294) (show hdS yX2_copy 2 by decide +kernel) ⟨rfl, rfl⟩ ⟨Nat.le_of_ble_eq_true rfl, Nat.le_of_ble_eq_true rfl⟩ ⟨Nat.zero_le _, Nat.zero_le _⟩ hl.1 (Nat.le_of_ble_eq_true rfl) dX2_be_50 rfl (fun H locs hM => ?_)
  have s2 : T1.1 = S.1 := (cp_1_246_11 k1).trans s1
  obtain ⟨T2, k2, hh⟩ := bd_inv hh
  refine lv_aload_n hx hb dX2_be_53 rfl (lv_at hl 1 rfl) ?_
  refine cm_get XC hM q168 (cf_236_4 _ _ _) rfl dX2_be_54 ?_
  refine lv_aload_n hx hb dX2_be_57 rfl (lv_at hl 0 rfl) ?_
  refine cm_get XC hM q168 (cf_1_4 _ _ _) rfl dX2_be_58 ?_
  refine ccs_v (As := [.ref (hC + 263), .ref (hC + 28)]) (rest := []) XC hM (wC_cp263_28 l DC dA hC _ k2) (lw_S q292 q293 q81 q294) (show hdS yX2_copy 2 by decide +kernel) ⟨rfl, rfl⟩ ⟨Nat.le_of_ble_eq_true rfl, Nat.le_of_ble_eq_true rfl⟩ ⟨Nat.zero_le _, Nat.zero_le _⟩ hl.1 (Nat.le_of_ble_eq_true rfl) dX2_be_61 rfl (fun H locs hM => ?_)
  have s3 : T2.1 = S.1 := (cp_1_263_28 k2).trans s2
  obtain ⟨T3, k3, hh⟩ := bd_inv hh
  refine lv_aload_n hx hb dX2_be_64 rfl (lv_at hl 1 rfl) ?_
  refine cm_get XC hM q170 (cf_236_5 _ _ _) rfl dX2_be_65 ?_
  refine lv_aload_n hx hb dX2_be_68 rfl (lv_at hl 0 rfl) ?_
  refine cm_get XC hM q170 (cf_1_5 _ _ _) rfl dX2_be_69 ?_
  refine ccs_v (As := [.ref (hC + 280), .ref (hC + 45)]) (rest := []) XC hM (wC_cp280_45 l DC dA hC _ k3) (lw_S q292 q293 q81 q294) (show hdS yX2_copy 2 by decide +kernel) ⟨rfl, rfl⟩ ⟨Nat.le_of_ble_eq_true rfl, Nat.le_of_ble_eq_true rfl⟩ ⟨Nat.zero_le _, Nat.zero_le _⟩ hl.1 (Nat.le_of_ble_eq_true rfl) dX2_be_72 rfl (fun H locs hM => ?_)
  have s4 : T3.1 = S.1 := (cp_1_280_45 k3).trans s3
  obtain ⟨T4, k4, hh⟩ := bd_inv hh
  refine lv_aload_n hx hb dX2_be_75 rfl (lv_at hl 1 rfl) ?_
  refine cm_get XC hM q172 (cf_236_6 _ _ _) rfl dX2_be_76 ?_
  refine lv_aload_n hx hb dX2_be_79 rfl (lv_at hl 0 rfl) ?_
  refine cm_get XC hM q172 (cf_1_6 _ _ _) rfl dX2_be_80 ?_
  refine ccs_v (As := [.ref (hC + 287), .ref (hC + 52)]) (rest := []) XC hM (wC_cp287_52 l DC dA hC _ k4) (lw_S q292 q293 q81 q294) (show hdS yX2_copy 2 by decide +kernel) ⟨rfl, rfl⟩ ⟨Nat.le_of_ble_eq_true rfl, Nat.le_of_ble_eq_true rfl⟩ ⟨Nat.zero_le _, Nat.zero_le _⟩ hl.1 (Nat.le_of_ble_eq_true rfl) dX2_be_83 rfl (fun H locs hM => ?_)
  have s5 : T4.1 = S.1 := (cp_1_287_52 k4).trans s4
  obtain ⟨T5, k5, hh⟩ := bd_inv hh
  refine lv_aload_n hx hb dX2_be_86 rfl (lv_at hl 1 rfl) ?_
  refine cm_get XC hM q174 (cf_236_7 _ _ _) rfl dX2_be_87 ?_
  refine lv_aload_n hx hb dX2_be_90 rfl (lv_at hl 0 rfl) ?_
  refine cm_get XC hM q174 (cf_1_7 _ _ _) rfl dX2_be_91 ?_
  refine ccs_v (As := [.ref (hC + 348), .ref (hC + 113)]) (rest := []) XC hM (wC_cp348_113 l DC dA hC _ k5) (lw_S q292 q293 q81 q294) (show hdS yX2_copy 2 by decide +kernel) ⟨rfl, rfl⟩ ⟨Nat.le_of_ble_eq_true rfl, Nat.le_of_ble_eq_true rfl⟩ ⟨Nat.zero_le _, Nat.zero_le _⟩ hl.1 (Nat.le_of_ble_eq_true rfl) dX2_be_94 rfl (fun H locs hM => ?_)
  have s6 : T5.1 = S.1 := (cp_1_348_113 k5).trans s5
  refine lv_aload_n hx hb dX2_be_97 rfl (lv_at hl 1 rfl) ?_
  refine cm_get XC hM q176 (cf_236_8 _ _ _) rfl dX2_be_98 ?_
  refine lv_aload_n hx hb dX2_be_101 rfl (lv_at hl 0 rfl) ?_
  refine cm_get XC hM q176 (cf_1_8 _ _ _) rfl dX2_be_102 ?_
  refine ccs_v (As := [.ref (hC + 409), .ref (hC + 174)]) (rest := []) XC hM (wC_cp409_174 l DC dA hC _ hh) (lw_S q292 q293 q81 q294) (show hdS yX2_copy 2 by decide +kernel) ⟨rfl, rfl⟩ ⟨Nat.le_of_ble_eq_true rfl, Nat.le_of_ble_eq_true rfl⟩ ⟨Nat.zero_le _, Nat.zero_le _⟩ hl.1 (Nat.le_of_ble_eq_true rfl) dX2_be_105 rfl (fun H locs hM => ?_)
  have s7 : S1.1 = S.1 := (cp_1_409_174 hh).trans s6
  -- the list is emptied
  have hO1 := hO.at hM
  have hOI1 := hOI.at hM
  have gI1 : S1.1 41 = (edI : Int) ∧ S1.1 42 = (rsI.length : Int) := by rw [s7]; exact gI
  have gS1 : S1.1 51 = (ed : Int) ∧ S1.1 52 = (rs.length : Int) := by rw [s7]; exact gS
  have hLI := RO.lst X.2.2 X.2.1 hOI1 hM.1 gI1
  have hSF : va_S (hA (beF hC kI edI) s.heap.size) s.heap H locs := hM.2.1.mono (fun q h => h.elim (fun w => Or.inl (Or.inl w)) Or.inr)
  have hFb : ∀ a, beF hC kI edI a → Z.b ≤ a := by
    intro a h
    rcases h with h | h
    · exact hbF a h
    · rcases hOI.2.1 with w | w
      · omega
      · rw [h.2]; exact w.2.2.2.1
  refine lv_aload_n hx hb dX2_be_108 rfl (lv_at hl 0 rfl) ?_
  refine cm_get XC hM q178 (cf_1_9 _ _ _) rfl dX2_be_109 ?_
  refine hcV (As := []) (rest := []) (b := hC + 235) XH hSF hFb (w_clear l Z (hC + 235) kI edI LI H.size) hLI (fun x h => ?_) (hLI.recv X.2.1) (lw_V q295 q296 q297 q84 q298) (show hdV yJ2_clear "java/util/ArrayList" 0 by decide +kernel) ⟨rfl, rfl⟩ ⟨Nat.le_of_ble_eq_true rfl, Nat.le_of_ble_eq_true rfl⟩ ⟨Nat.zero_le _, Nat.zero_le _⟩ hl.1 (Nat.le_of_ble_eq_true rfl) dX2_be_112 rfl (fun v H2 locs2 hv hfr2 hS2 => ?_)
  · rcases h with h | h
    · exact Or.inl (Or.inl (by rw [h]; exact ⟨by omega, by omega⟩))
    · exact Or.inl (Or.inr ⟨h.2, h.1⟩)
  obtain ⟨rfl, hL2⟩ := hv
  obtain ⟨m2, hP2⟩ := lk_lstN X.2.2 X.2.1 hM.1 hL2 (fun x hxs hc hn => hfr2.2 x hxs (fun z => by
    rcases z with z | z
    · exact hn z
    · exact hOI.2.2.1 z.2 (by rw [← z.1]; exact hc)))
  refine lv_iconst (v := zi 0) hx hb dX2_be_115 rfl ?_
  refine lv_istore_n (lv' := [(2, .int (zi 0)), (0, .ref (hC + 1)), (1, .ref (hC + 236))]) hx hb dX2_be_116 rfl hl (by decide) rfl (fun ls hl => ?_)
  -- what a heap that only took the rules over keeps
  have kpO : ∀ {H1 : Heap} {locs1 : List Loc}, va_S (hA (beF hC kI edI) s.heap.size) s.heap H1 locs1 → ∀ x, x < s.heap.size → (10 ≤ k ∧ x = ed) ∨ A x ∨ x < Z.b → H1[x]? = s.heap[x]? := by
    intro H1 locs1 hS x hxs hy
    refine hS.2.1 x hxs (fun z => ?_)
    rcases z with z | z
    · rcases z with z | z
      · rcases hy with hy | hy | hy
        · exact hO.2.2.1 hy.1 (by rw [← hy.2]; exact z)
        · exact hO.2.2.2.2.2.1 x hy z
        · have := hbF x z; omega
      · rcases hy with hy | hy | hy
        · exact hne hy.1 z.1 (by rw [← hy.2, ← z.2])
        · exact hA2 z.1 (by rw [← z.2]; exact hy)
        · have := hFb x (Or.inr z); omega
    · exact absurd z (Nat.not_le.mpr hxs)
  have edlt : 10 ≤ k → ed < s.heap.size := by
    intro h10
    rcases hO.2.1 with w | w
    · omega
    · exact w.2.2.2.2.lt
  have loop : ∀ (j i : Nat) (m' : Int) (ed' : Nat) (H : Heap) (locs : List Loc) (ls : Array Slot), i + j = rs.length → va_S (hA (beF hC kI edI) s.heap.size) s.heap H locs → va_P DC ccl (cw dA hC (cf4 S1 m' (ed' : Int) (i : Int))) H → RO Z hC A (L.take i) (beC kI i) ed' (rs.take i) H → (10 ≤ beC kI i → ¬ A ed' ∧ (10 ≤ k → ed ≠ ed') ∧ ((ed' = edI ∧ 10 ≤ kI) ∨ s.heap.size ≤ ed')) → lv_has ls 3 [(2, .int (zi (i : Int))), (0, .ref (hC + 1)), (1, .ref (hC + 236))] → W p l e ({ frames := 9, cells := beX kI rs.length, slots := 10 * beX kI rs.length, locals := 350 } : Room) s m args below meth c H locs (beX kI i) (10 * beX kI i) Q (F0 m 117 ls []) := by
    intro j
    induction j with
    | zero =>
      intro i m' ed' H locs ls hij hS hP hR hed hl
      have hi : i = rs.length := by omega
      have hON : RO Z hC A L k ed rs H := hO.keep2 (kpO hS)
      have hM : CX DC dA hC (hA (beF hC kI edI) s.heap.size) (cf4 S1 m' (ed' : Int) (i : Int)) s H locs := ⟨hP, hS, fun q h => Or.inl (Or.inl h)⟩
      have hLS := RO.lstI X.2.2 X.2.1 hON hP gS1
      refine lv_iload_n hx hb dX2_be_117 rfl (lv_at hl 0 rfl) ?_
      refine lv_aload_n hx hb dX2_be_118 rfl (lv_at hl 2 rfl) ?_
      refine cm_get XC hM q178 (cf_236_9 _ _ _) rfl dX2_be_119 ?_
      refine hcV (As := []) (rest := [.int (zi (i : Int))]) (b := hC + 470) XH hS hFb (w_size l Z (hC + 470) k ed L H.size) hLS (fun x h => h.elim) (hLS.recv X.2.1) (lw_V q299 q300 q301 q84 q302) (show hdV yJ2_size "java/util/ArrayList" 0 by decide +kernel) ⟨rfl, rfl⟩ ⟨Nat.le_of_ble_eq_true rfl, Nat.le_of_ble_eq_true rfl⟩ ⟨by rw [hi]; exact Nat.le_refl _, by rw [hi]; exact Nat.le_refl _⟩ hl.1 (Nat.le_of_ble_eq_true rfl) dX2_be_122 rfl (fun v H3 locs3 hv hfr3 hS3 => ?_)
      subst hv
      have hi2 : (i : Int) = (L.length : Int) := by omega
      refine g_icmp_ge (tgt := 153) hx hb (show r32 (i : Int) ∧ r32 (L.length : Int) by unfold r32; omega) dX2_be_125 (by decide) (fun c1 => absurd c1 (by omega)) (fun c1 => ?_)
      have nop : ∀ x, x < H.size → H3[x]? = H[x]? := fun x hxs => hfr3.2 x hxs (fun z => z)
      have hP3 : va_P DC ccl (cw dA hC (cf4 S1 m' (ed' : Int) (i : Int))) H3 := hP.kept (fun k q hq => nop q.1 (va_at_lt (hP k q hq)))
      have hR3 : RO Z hC A (L.take i) (beC kI i) ed' (rs.take i) H3 := hR.keep2 (fun x hxs _ => nop x hxs)
      have hON3 : RO Z hC A L k ed rs H3 := hON.keep2 (fun x hxs _ => nop x hxs)
      have hbC : beC kI rs.length ≤ 10 := by
        unfold beC
        split
        · exact Nat.le_refl _
        · exact hkI10
      have e1 : L.take i = L := List.take_of_length_le (by omega)
      have e2 : rs.take i = rs := List.take_of_length_le (by omega)
      rw [e1, e2, hi] at hR3
      rw [hi] at hP3 hed
      have hfin := hret 153 ls H3 locs3 dX2_be_153 ⟨rfl, m', ed', hP3, hON3, hR3, fun w1 w2 => (hed w2).2.1 w1, hA1, fun w => (hed w).1, fun x w => Nat.lt_of_lt_of_le (hAb x w) hS3.1, ⟨hr8, hk10⟩, hr8, hbC⟩ hS3
      rw [hi]
      exact hfin
    | succ j ih =>
      intro i m' ed' H locs ls hij hS hP hR hed hl
      have hil : i < rs.length := by omega
      have hiL : i < L.length := by omega
      have hON : RO Z hC A L k ed rs H := hO.keep2 (kpO hS)
      have hM : CX DC dA hC (hA (beF hC kI edI) s.heap.size) (cf4 S1 m' (ed' : Int) (i : Int)) s H locs := ⟨hP, hS, fun q h => Or.inl (Or.inl h)⟩
      have hLS := RO.lstI X.2.2 X.2.1 hON hP gS1
      have hbX : beX kI (i + 1) = beX kI rs.length := by
        unfold beX
        by_cases h0 : kI = 0
        · rw [if_pos ⟨h0, by omega⟩, if_pos ⟨h0, by omega⟩]
        · rw [if_neg (fun w => h0 w.1), if_neg (fun w => h0 w.1)]
      have htl : (L.take i).length = i := by rw [List.length_take]; omega
      obtain ⟨n1, n2, n3, n4⟩ := beC_next (L := L.take i) hcI.1 (by omega : i < 8) htl
      refine lv_iload_n hx hb dX2_be_117 rfl (lv_at hl 0 rfl) ?_
      refine lv_aload_n hx hb dX2_be_118 rfl (lv_at hl 2 rfl) ?_
      refine cm_get XC hM q178 (cf_236_9 _ _ _) rfl dX2_be_119 ?_
      refine hcV (As := []) (rest := [.int (zi (i : Int))]) (b := hC + 470) XH hS hFb (w_size l Z (hC + 470) k ed L H.size) hLS (fun x h => h.elim) (hLS.recv X.2.1) (lw_V q299 q300 q301 q84 q302) (show hdV yJ2_size "java/util/ArrayList" 0 by decide +kernel) ⟨rfl, rfl⟩ ⟨Nat.le_of_ble_eq_true rfl, Nat.le_of_ble_eq_true rfl⟩ ⟨show beX kI i + 0 ≤ beX kI rs.length by omega, show 10 * beX kI i + 0 ≤ 10 * beX kI rs.length by omega⟩ hl.1 (Nat.le_of_ble_eq_true rfl) dX2_be_122 rfl (fun v H3 locs3 hv hfr3 hS3 => ?_)
      subst hv
      refine g_icmp_ge (tgt := 153) hx hb (show r32 (i : Int) ∧ r32 (L.length : Int) by unfold r32; omega) dX2_be_125 (by decide) (fun c1 => ?_) (fun c1 => absurd c1 (by omega))
      have nop : ∀ x, x < H.size → H3[x]? = H[x]? := fun x hxs => hfr3.2 x hxs (fun z => z)
      have hP3 : va_P DC ccl (cw dA hC (cf4 S1 m' (ed' : Int) (i : Int))) H3 := hP.kept (fun k q hq => nop q.1 (va_at_lt (hP k q hq)))
      have hR3 : RO Z hC A (L.take i) (beC kI i) ed' (rs.take i) H3 := hR.keep2 (fun x hxs _ => nop x hxs)
      have hON3 : RO Z hC A L k ed rs H3 := hON.keep2 (fun x hxs _ => nop x hxs)
      have hM3 : CX DC dA hC (hA (beF hC kI edI) s.heap.size) (cf4 S1 m' (ed' : Int) (i : Int)) s H3 locs3 := ⟨hP3, hS3, fun q h => Or.inl (Or.inl h)⟩
      have hLS3 := RO.lstI X.2.2 X.2.1 hON3 hP3 gS1
      refine lv_aload_n hx hb dX2_be_128 rfl (lv_at hl 1 rfl) ?_
      refine cm_get XC hM3 q178 (cf_1_9 _ _ _) rfl dX2_be_129 ?_
      refine lv_aload_n hx hb dX2_be_132 rfl (lv_at hl 2 rfl) ?_
      refine cm_get XC hM3 q178 (cf_236_9 _ _ _) rfl dX2_be_133 ?_
      refine lv_iload_n hx hb dX2_be_136 rfl (lv_at hl 0 rfl) ?_
      have hget : L[((i : Int)).toNat]? = some L[i] := by rw [Int.toNat_natCast]; exact List.getElem?_eq_getElem hiL
      refine hcV (As := [.int (zi (i : Int))]) (rest := [.ref (hC + 235)]) (b := hC + 470) XH hS3 hFb (w_lget l Z (hC + 470) k ed L (i : Int) L[i] ⟨by omega, hget⟩ H3.size) hLS3 (fun x h => h.elim) (hLS3.recv X.2.1) (lw_V q303 q304 q305 q84 q306) (show hdV yJ2_get "java/util/ArrayList" 1 by decide +kernel) ⟨rfl, rfl⟩ ⟨Nat.le_of_ble_eq_true rfl, Nat.le_of_ble_eq_true rfl⟩ ⟨show beX kI i + 0 + 0 ≤ beX kI rs.length by omega, show 10 * beX kI i + 0 + 0 ≤ 10 * beX kI rs.length by omega⟩ hl.1 (Nat.le_of_ble_eq_true rfl) dX2_be_137 rfl (fun v H4 locs4 hv hfr4 hS4 => ?_)
      subst hv
      have nop4 : ∀ x, x < H3.size → H4[x]? = H3[x]? := fun x hxs => hfr4.2 x hxs (fun z => z)
      have hP4 : va_P DC ccl (cw dA hC (cf4 S1 m' (ed' : Int) (i : Int))) H4 := hP3.kept (fun k q hq => nop4 q.1 (va_at_lt (hP3 k q hq)))
      have hR4 : RO Z hC A (L.take i) (beC kI i) ed' (rs.take i) H4 := hR3.keep2 (fun x hxs _ => nop4 x hxs)
      have hON4 : RO Z hC A L k ed rs H4 := hON3.keep2 (fun x hxs _ => nop4 x hxs)
      obtain ⟨ax, hax, hRl⟩ := zip_atR (i := i) hlen hON4.2.2.2.2.1 (List.getElem?_eq_getElem hil)
      have eax : ax = L[i] := by
        rw [List.getElem?_eq_getElem hiL] at hax
        exact (Option.some.inj hax).symm
      subst eax
      obtain ⟨L1, c1', e1', hLs1, -⟩ := id hRl
      refine va_castS (nm := "java/util/ArrayList") hx hb hown (hts _ q133) (X.2.1.1.1 14 _ rfl).2 (hLs1.recv X.2.1) dX2_be_140 ?_
      have hLT := RO.lst X.2.2 X.2.1 hR4 hP4 ⟨rfl, by show ((i : Nat) : Int) = _; rw [List.length_take]; omega⟩
      have hcap : beC kI i < 40000 := by
        unfold beC
        have := hcI.2
        split
        · decide
        · omega
      refine hcV (As := [.ref L[i]]) (rest := []) (b := hC + 235) XH hS4 hFb (w_add l Z (hC + 235) (beC kI i) ed' L[i] (L.take i) hcap H4.size) ⟨hLT, hRl.any⟩ (fun x h => ?_) (hLT.recv X.2.1) (lw_V q317 q318 q319 q84 q320) (show hdV yJ2_add "java/util/ArrayList" 1 by decide +kernel) ⟨rfl, rfl⟩ ⟨Nat.le_of_ble_eq_true rfl, Nat.le_of_ble_eq_true rfl⟩ ⟨show beX kI i + 0 + 0 + acc (L.take i) (beC kI i) ≤ beX kI rs.length by omega, show 10 * beX kI i + 0 + 0 + acs (L.take i) (beC kI i) ≤ 10 * beX kI rs.length by omega⟩ hl.1 (Nat.le_of_ble_eq_true rfl) dX2_be_143 rfl (fun v H5 locs5 hv hfr5 hS5 => ?_)
      · rcases h with h | h
        · exact Or.inl (Or.inl (by rw [h]; exact ⟨by omega, by omega⟩))
        · rcases (hed h.2).2.2 with w | w
          · exact Or.inl (Or.inr ⟨w.2, by rw [h.1, w.1]⟩)
          · exact Or.inr (by rw [h.1]; exact w)
      obtain ⟨rfl, ed2, hedN, hL5⟩ := hv
      refine lv_pop hx hb dX2_be_146 rfl ?_
      refine lv_iinc (v := zi ((i + 1 : Nat) : Int)) (lv' := [(2, .int (zi ((i + 1 : Nat) : Int))), (0, .ref (hC + 1)), (1, .ref (hC + 236))]) hx hb dX2_be_147 hl (k := 0) rfl (by rw [show ((i + 1 : Nat) : Int) = (i : Int) + 1 by omega]; exact zi_add _ _) (by decide) rfl (fun ls hl => ?_)
      refine lv_goto (tgt := 117) hx hb dX2_be_150 (by decide) ?_
      obtain ⟨m5, hP5⟩ := lk_lstN X.2.2 X.2.1 hP4 hL5 (fun x hxs hc hn => hfr5.2 x hxs (fun z => by
        rcases z with z | z
        · exact hn z
        · exact hR4.2.2.1 z.2 (by rw [← z.1]; exact hc)))
      rw [cf4_cf4, List.length_append, htl] at hP5
      rw [← take_snoc hiL, n1] at hL5
      have hed2 : 10 ≤ beC kI (i + 1) → ¬ A ed2 ∧ (10 ≤ k → ed ≠ ed2) ∧ ((ed2 = edI ∧ 10 ≤ kI) ∨ s.heap.size ≤ ed2) := by
        intro h10
        rcases hedN with ⟨w1, w2⟩ | ⟨w1, w2⟩
        · have hge : s.heap.size ≤ ed2 := Nat.le_trans hS4.1 w2
          exact ⟨fun w => absurd (hAb ed2 w) (by omega), fun w => by have := edlt w; omega, Or.inr hge⟩
        · subst w2
          refine hed ?_
          have : ¬ (kI = 0 ∧ i = 0) := fun w => w1 (n4.mpr w)
          unfold beC at h10 ⊢
          by_cases h0 : kI = 0
          · rw [if_pos ⟨h0, by omega⟩]; exact Nat.le_refl _
          · rw [if_neg (fun w => h0 w.1)] at h10 ⊢; exact h10
      have hR5 : RO Z hC A (L.take (i + 1)) (beC kI (i + 1)) ed2 (rs.take (i + 1)) H5 := by
        have hk5 : ∀ x, A x ∨ x < Z.b → x < H4.size → H5[x]? = H4[x]? := by
          intro x hy hxs
          refine hfr5.2 x hxs (fun z => ?_)
          rcases z with z | z
          · rcases hy with hy | hy
            · exact hO.2.2.2.2.2.1 x hy (by rw [z]; exact ⟨by omega, by omega⟩)
            · have := hbF x (by rw [z]; exact ⟨by omega, by omega⟩); omega
          · rcases hy with hy | hy
            · exact (hed z.2).1 (by rw [← z.1]; exact hy)
            · rcases hLT.2.2.1 with w | w
              · omega
              · have := w.2.2.2.1; omega
        refine ⟨hO.1, hL5.2.2.1, fun h10 => ?_, by rw [List.length_take, List.length_take]; omega, zip_take (fun w hw => (hON4.2.2.2.2.1 w hw).keep hk5), hO.2.2.2.2.2.1, hO.2.2.2.2.2.2⟩
        intro hc
        rcases (hed2 h10).2.2 with w | w
        · exact hOI.2.2.1 w.2 (by rw [← w.1]; exact hc)
        · have := hsz ed2 hc; omega
      have e0 : beX kI i + 0 + 0 + acc (L.take i) (beC kI i) = beX kI (i + 1) := by omega
      have e0' : 10 * beX kI i + 0 + 0 + acs (L.take i) (beC kI i) = 10 * beX kI (i + 1) := by omega
      rw [e0, e0']
      exact ih (i + 1) m5 ed2 H5 locs5 ls (by omega) hS5 hP5 hR5 hed2 hl
  have e0 : beC kI 0 = kI := by unfold beC; rw [if_neg (fun w => w.2 rfl)]
  have eX : beX kI 0 = 0 := by unfold beX; rw [if_neg (fun w => w.2 rfl)]
  have lp := loop rs.length 0 m2 edI H2 locs2 ls (by omega) hS2 hP2 (by
    rw [e0]
    exact ⟨hO.1, hL2.2.2.1, hOI.2.2.1, rfl, fun w hw => absurd hw (by simp), hO.2.2.2.2.2.1, hO.2.2.2.2.2.2⟩) (fun h10 => by
    rw [e0] at h10
    exact ⟨hA2 h10, fun w => hne w h10, Or.inl ⟨rfl, h10⟩⟩) hl
  rw [eX] at lp
  exact lp
