set_option maxRecDepth 100000
def restA (b : Bool) (cs : List tC) : tC := (cs.map (fun x => x ++ [((if b then 21 else 22 : Int), (0 : Int))])).flatten
def foldB (b : Bool) (t : List Bool) : Bool := if b then t.all id else t.any id
theorem pv1_bool {b v acc : Bool} {vs : List Int} {bs : List Bool} {S : yS} : pv1 (if b then 21 else 22) 0 (vs, v :: acc :: bs, S) = some (vs, (if b then (acc && v) else (acc || v)) :: bs, S) := by
  cases b <;> rfl
theorem foldB_app (b : Bool) (t : List Bool) (v : Bool) : foldB b (t ++ [v]) = if b then (foldB b t && v) else (foldB b t || v) := by
  cases b <;> simp [foldB]
theorem foldB_one (b v : Bool) : foldB b [v] = v := by
  cases b <;> simp [foldB]
theorem ShA {Z : hZ} : ∀ {N : Nat} {A : Nat → Prop} {H : Heap} {code : tC} {a : Nat}, AskH Z N A H code a → ∀ (vs : List Int) (bs : List Bool) (S : yS) (r : pS), pv code (vs, bs, S) = some r → ∃ v S1, r = (vs, v :: bs, S1) := by
  intro N
  induction N with
  | zero => intro A H code a h; exact h.elim
  | succ n ih =>
    intro A H code a h vs bs S r hh
    obtain ⟨hA, h⟩ := h
    rcases h with ⟨x, cx, h1, h2, rfl⟩ | ⟨s, x, y, cx, cy, h1, h2, h3, h4, rfl⟩ | ⟨b, lst, L, c, ed, cs, h1, h2, h3, h4, h5, h6, rfl⟩
    · obtain ⟨st1, k1, k2⟩ := pv_inv hh
      obtain ⟨v, S1, rfl⟩ := ih h2 _ _ _ _ k1
      have h0 : some ((vs, (!v) :: bs, S1) : pS) = some r := pv_one k2
      exact ⟨!v, S1, (Option.some.inj h0).symm⟩
    · obtain ⟨st2, k2, k3⟩ := pv_inv hh
      obtain ⟨st1, k1, k2⟩ := pv_inv k2
      obtain ⟨z, S1, rfl⟩ := ShS h2 _ _ _ _ k1
      obtain ⟨z2, S2, rfl⟩ := ShS h3 _ _ _ _ k2
      have h0 := pv_one k3
      rcases h4 with rfl | rfl | rfl | rfl | rfl | rfl <;>
      · obtain ⟨g, h0⟩ := gd_inv (show gd (r64 z ∧ r64 z2 ∧ r64 (z - z2)) _ = some r from h0)
        exact ⟨_, S2, (Option.some.inj h0).symm⟩
    · have hrs : ∀ (ys : List tC) (LB : List Nat) (acc : Bool) (S : yS) (r : pS), ys.length = LB.length → (∀ w ∈ ys.zip LB, AskH Z n A H w.1 w.2) → pv (restA b ys) (vs, acc :: bs, S) = some r → ∃ v S1, r = (vs, v :: bs, S1) := by
        intro ys
        induction ys with
        | nil => intro LB acc S r _ _ hh; exact ⟨acc, S, (Option.some.inj hh).symm⟩
        | cons c0 ys ihy =>
          intro LB acc S r hl hw hh
          cases LB with
          | nil => cases hl
          | cons d LB =>
            have hh : pv ((c0 ++ [((if b then 21 else 22 : Int), 0)]) ++ restA b ys) (vs, acc :: bs, S) = some r := hh
            obtain ⟨st2, k2, k3⟩ := pv_inv hh
            obtain ⟨st1, k1, k2⟩ := pv_inv k2
            obtain ⟨v, S1, rfl⟩ := ih (hw (c0, d) (by simp)) _ _ _ _ k1
            have k2 := pv_one k2
            rw [pv1_bool] at k2
            cases Option.some.inj k2
            exact ihy LB _ S1 r (by simpa using hl) (fun w hw' => hw w (by simp [hw'])) k3
      cases cs with
      | nil => simp at h4
      | cons c0 ys =>
        cases L with
        | nil => cases h5
        | cons d LB =>
          have hh : pv (c0 ++ restA b ys) (vs, bs, S) = some r := hh
          obtain ⟨st1, k1, k2⟩ := pv_inv hh
          obtain ⟨v, S1, rfl⟩ := ih (h6 (c0, d) (by simp)) _ _ _ _ k1
          exact hrs ys LB v S1 r (by simpa using h5) (fun w hw' => h6 w (by simp [hw'])) k2
def JA (b : Bool) (vs : List Int) (bs : List Bool) (vf : Bool) (Sf : yS) (t : List Bool) (ys : List tC) (S : yS) : Prop := (t = [] ∧ ys ≠ [] ∧ pv (joinA b ys) (vs, bs, S) = some (vs, vf :: bs, Sf)) ∨ (t ≠ [] ∧ pv (restA b ys) (vs, foldB b t :: bs, S) = some (vs, vf :: bs, Sf))
theorem JA.step {l : Launch} {Z : hZ} {nw N : Nat} (hEv : EvA l Z nw N) {A : Nat → Prop} {b : Bool} {vs : List Int} {bs : List Bool} {vf : Bool} {Sf : yS} {t : List Bool} {c0 : tC} {ys : List tC} {S : yS} (h : JA b vs bs vf Sf t (c0 :: ys) S) : ∃ bs' st1, pv c0 (vs, bs', S) = some st1 ∧ ∀ v S1, st1 = (vs, v :: bs', S1) → JA b vs bs vf Sf (t ++ [v]) ys S1 := by
  rcases h with ⟨h1, h2, h3⟩ | ⟨h1, h3⟩
  · have h3 : pv (c0 ++ restA b ys) (vs, bs, S) = some (vs, vf :: bs, Sf) := h3
    obtain ⟨st1, k1, k2⟩ := pv_inv h3
    refine ⟨bs, st1, k1, fun v S1 e => Or.inr ⟨by simp, ?_⟩⟩
    rw [e] at k2
    rw [h1, List.nil_append, foldB_one]
    exact k2
  · have h3 : pv ((c0 ++ [((if b then 21 else 22 : Int), 0)]) ++ restA b ys) (vs, foldB b t :: bs, S) = some (vs, vf :: bs, Sf) := h3
    obtain ⟨st2, k2, k3⟩ := pv_inv h3
    obtain ⟨st1, k1, k2⟩ := pv_inv k2
    refine ⟨_, st1, k1, fun v S1 e => Or.inr ⟨by simp, ?_⟩⟩
    rw [e] at k2
    have k2 := pv_one k2
    rw [pv1_bool] at k2
    cases Option.some.inj k2
    rw [foldB_app]
    exact k3
def ctB (t : List Bool) : Int := ((t.filter id).length : Int)
theorem ctB_app (t : List Bool) (v : Bool) : ctB (t ++ [v]) = ctB t + bz v := by
  cases v <;> simp [ctB, bz]
theorem ctB_le (t : List Bool) : 0 ≤ ctB t ∧ ctB t ≤ (t.length : Int) := by
  have := List.length_filter_le id t
  unfold ctB
  omega
theorem ctB_all (t : List Bool) : foldB true t = decide (ctB t = (t.length : Int)) := by
  show t.all id = _
  induction t with
  | nil => rfl
  | cons v t ih =>
    have h := ctB_le t
    cases v with
    | true =>
      rw [List.all_cons, ih]
      have e : ctB (true :: t) = ctB t + 1 := by simp [ctB]
      rw [e]
      simp
    | false =>
      have e : ctB (false :: t) = ctB t := by simp [ctB]
      rw [e]
      simp
      omega
theorem ctB_any (t : List Bool) : foldB false t = decide (0 < ctB t) := by
  show t.any id = _
  induction t with
  | nil => rfl
  | cons v t ih =>
    have h := ctB_le t
    cases v with
    | true =>
      have e : ctB (true :: t) = ctB t + 1 := by simp [ctB]
      rw [e]
      simp
      omega
    | false =>
      have e : ctB (false :: t) = ctB t := by simp [ctB]
      rw [e, List.any_cons, ih]
      simp
theorem af_and : hCl tcl lw_all 13 0 "ManyEyes$All" "and" "Z" := ⟨TX19, 2, RX19, rfl, in_X19, by decide, rfl, rfl, rfl⟩
theorem af_of : hCl tcl lw_all 13 1 "ManyEyes$All" "of" "Ljava/util/ArrayList;" := ⟨TX19, 2, RX19, rfl, in_X19, by decide, rfl, rfl, rfl⟩
