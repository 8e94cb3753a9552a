/-! the world of ManyEyesModel: its object at h, its arrays at h + 1 .. h + 14; S.1: its numbers by field, S.2: its arrays by field -/
set_option maxRecDepth 100000
abbrev xS : Type := (Nat → Int) × (Nat → Int → Int)
def fset (S : xS) (k : Nat) (z : Int) : xS := (fun j => if j = k then z else S.1 j, S.2)
def aset (S : xS) (k : Nat) (i z : Int) : xS := (S.1, fun a => if a = k then (fun j => if j = i then z else S.2 k j) else S.2 a)
theorem updz (f : Int → Int) {i : Int} (z : Int) (h : 0 ≤ i) : upd (fun j : Nat => zi (f j)) i.toNat (zi z) = fun j : Nat => zi ((fun q : Int => if q = i then z else f q) j) := by
  funext j
  show (if j = i.toNat then zi z else zi (f j)) = zi (if (j : Int) = i then z else f j)
  by_cases hj : j = i.toNat
  · rw [if_pos hj, if_pos (by omega)]
  · rw [if_neg hj, if_neg (by omega)]
theorem updzL (f : Int → Int) {i : Int} (z : Int) (h : 0 ≤ i) : vp_updL (fun j : Nat => zl (f j)) i.toNat (zl z) = fun j : Nat => zl ((fun q : Int => if q = i then z else f q) j) := by
  funext j
  show (if j = i.toNat then zl z else zl (f j)) = zl (if (j : Int) = i then z else f j)
  by_cases hj : j = i.toNat
  · rw [if_pos hj, if_pos (by omega)]
  · rw [if_neg hj, if_neg (by omega)]
def mo_fs (h : Nat) (S : xS) : List Value := [.int (zi (S.1 0)), .int (zi (S.1 1)), .ref (h + 1), .ref (h + 2), .ref (h + 3), .ref (h + 4), .ref (h + 5), .ref (h + 6), .ref (h + 7), .ref (h + 8), .int (zi (S.1 10)), .int (zi (S.1 11)), .int (zi (S.1 12)), .int (zi (S.1 13)), .int (zi (S.1 14)), .int (zi (S.1 15)), .int (zi (S.1 16)), .long (zl (S.1 17)), .int (zi (S.1 18)), .int (zi (S.1 19)), .int (zi (S.1 20)), .int (zi (S.1 21)), .int (zi (S.1 22)), .ref (h + 9), .int (zi (S.1 24)), .int (zi (S.1 25)), .int (zi (S.1 26)), .long (zl (S.1 27)), .int (zi (S.1 28)), .int (zi (S.1 29)), .int (zi (S.1 30)), .int (zi (S.1 31)), .int (zi (S.1 32)), .int (zi (S.1 33)), .int (zi (S.1 34)), .ref (h + 10), .ref (h + 11), .ref (h + 12), .ref (h + 13), .int (zi (S.1 39)), .int (zi (S.1 40)), .int (zi (S.1 41)), .ref (h + 14)]
def mo_as (dA : Nat → ClassId) (h : Nat) (A : Nat → Int → Int) : va_W := [(h + 1, .inl (dA 0, 3170, .inl (fun j => zi (A 2 j)))), (h + 2, .inl (dA 0, 3170, .inl (fun j => zi (A 3 j)))), (h + 3, .inl (dA 0, 6400, .inl (fun j => zi (A 4 j)))), (h + 4, .inl (dA 0, 576, .inl (fun j => zi (A 5 j)))), (h + 5, .inl (dA 0, 64, .inl (fun j => zi (A 6 j)))), (h + 6, .inl (dA 0, 64, .inl (fun j => zi (A 7 j)))), (h + 7, .inl (dA 0, 16, .inl (fun j => zi (A 8 j)))), (h + 8, .inl (dA 0, 300, .inl (fun j => zi (A 9 j)))), (h + 9, .inl (dA 0, 160, .inl (fun j => zi (A 23 j)))), (h + 10, .inl (dA 0, 2280, .inl (fun j => zi (A 35 j)))), (h + 11, .inl (dA 0, 8, .inl (fun j => zi (A 36 j)))), (h + 12, .inl (dA 1, 330, .inr (.inl (fun j => zl (A 37 j))))), (h + 13, .inl (dA 2, 330, .inl (fun j => zi (A 38 j)))), (h + 14, .inl (dA 2, 8, .inl (fun j => zi (A 42 j))))]
def mo_ws (dA : Nat → ClassId) (h : Nat) (S : xS) : va_W := (h, .inr (0, mo_fs h S)) :: mo_as dA h S.2
abbrev mcl : List vw_C := [(RX5, TX5, 43)]
abbrev mty (dA : Nat → ClassId) : List (ClassId × FieldType) := [(dA 0, .int), (dA 1, .long), (dA 2, .boolean)]
def mA (h : Nat) : Nat → Prop := fun q => h ≤ q ∧ q < h + 15
theorem mo_at {dA : Nat → ClassId} {h : Nat} {S : xS} {k : Nat} {q : Nat × va_E} (hk : (mo_ws dA h S)[k]? = some q) : q.1 = h + k ∧ k < 15 := by
  have e : (mo_ws dA h S).map (fun z => z.1) = (List.range 15).map (fun i => h + i) := rfl
  have h1 : ((mo_ws dA h S).map (fun z => z.1))[k]? = some q.1 := by rw [List.getElem?_map, hk]; rfl
  rw [e, List.getElem?_map] at h1
  cases h2 : (List.range 15)[k]? with
  | none => rw [h2] at h1; cases h1
  | some i =>
    rw [h2] at h1
    obtain ⟨h3, h4⟩ := List.getElem?_eq_some_iff.mp h2
    rw [List.getElem_range] at h4
    have h5 : k < 15 := by simpa using h3
    subst h4
    exact ⟨(Option.some.inj h1).symm, h5⟩
theorem mo_D {dA : Nat → ClassId} {h : Nat} {S : xS} : va_D (mA h) (mo_ws dA h S) := by
  refine ⟨fun i j p q hi hj hpq => ?_, fun k q hk => ?_⟩
  · have h1 := (mo_at hi).1
    have h2 := (mo_at hj).1
    omega
  · have h1 := mo_at hk
    exact ⟨by omega, by omega⟩
def MU (DM : va_G) (dA : Nat → ClassId) (h : Nat) (S : xS) (U : State) : Prop := va_P DM mcl (mo_ws dA h S) U.heap ∧ va_K DM mcl (mty dA) U
def MX (DM : va_G) (dA : Nat → ClassId) (h : Nat) (S : xS) (s : State) (H : Heap) (locs : List Loc) : Prop := va_P DM mcl (mo_ws dA h S) H ∧ va_S (mA h) s.heap H locs
def mCx (p : Program) (c : Code) (cc : ByteArray) (nL : Nat) (s : State) (m : MethodId) (args : Array Value) (DM : va_G) (dA : Nat → ClassId) : Prop :=
  (p.tables.exec = Jvm.exec ∧ c.code = cc ∧ c.maxLocals = nL ∧ s.vm.findClass RX5 = some m.cls ∧ ∀ w ∈ lw_all, w.before args s = true) ∧ va_K DM mcl (mty dA) s
def sCx (p : Program) (c : Code) (cc : ByteArray) (nL : Nat) (s : State) (m : MethodId) (args : Array Value) : Prop :=
  p.tables.exec = Jvm.exec ∧ c.code = cc ∧ c.maxLocals = nL ∧ s.vm.findClass RX5 = some m.cls ∧ ∀ w ∈ lw_all, w.before args s = true
def mF (h : Nat) (S : xS) (k : Nat) (nme dsc : String) (v : Value) : Prop := k < 43 ∧ (TX5 k).2.1 = nme ∧ (TX5 k).2.2.1 = dsc ∧ (TX5 k).1 = RX5 ∧ (mo_fs h S)[k]? = some v
def mP (h : Nat) (S : xS) (k : Nat) (nme dsc : String) (v : Value) (S1 : xS) : Prop := k < 43 ∧ (TX5 k).2.1 = nme ∧ (TX5 k).2.2.1 = dsc ∧ (TX5 k).2.2.2 = false ∧ narrow (tyX5 k) v = v ∧ fits (tyX5 k) v = true ∧ (mo_fs h S).set k v = mo_fs h S1 ∧ S1.2 = S.2
def mI (dA : Nat → ClassId) (h k q n : Nat) : Prop := n < 2147483648 ∧ (∀ S : xS, (mo_ws dA h S)[q]? = some (h + q, .inl (dA 0, n, .inl (fun j => zi (S.2 k j))))) ∧ ∀ (S : xS) (i z : Int), 0 ≤ i → (mo_ws dA h S).set q (h + q, .inl (dA 0, n, .inl (upd (fun j => zi (S.2 k j)) i.toNat (zi z)))) = mo_ws dA h (aset S k i z)
def mZ (dA : Nat → ClassId) (h k q n : Nat) : Prop := n < 2147483648 ∧ (∀ S : xS, (mo_ws dA h S)[q]? = some (h + q, .inl (dA 2, n, .inl (fun j => zi (S.2 k j))))) ∧ ∀ (S : xS) (i z : Int), 0 ≤ i → (mo_ws dA h S).set q (h + q, .inl (dA 2, n, .inl (upd (fun j => zi (S.2 k j)) i.toNat (zi z)))) = mo_ws dA h (aset S k i z)
def mJ (dA : Nat → ClassId) (h k q n : Nat) : Prop := n < 2147483648 ∧ (∀ S : xS, (mo_ws dA h S)[q]? = some (h + q, .inl (dA 1, n, .inr (.inl (fun j => zl (S.2 k j)))))) ∧ ∀ (S : xS) (i z : Int), 0 ≤ i → (mo_ws dA h S).set q (h + q, .inl (dA 1, n, .inr (.inl (vp_updL (fun j => zl (S.2 k j)) i.toNat (zl z))))) = mo_ws dA h (aset S k i z)
theorem mf_0 (h : Nat) (S : xS) : mF h S 0 "w" "I" (.int (zi (S.1 0))) := ⟨by decide, rfl, rfl, rfl, rfl⟩
theorem mf_1 (h : Nat) (S : xS) : mF h S 1 "h" "I" (.int (zi (S.1 1))) := ⟨by decide, rfl, rfl, rfl, rfl⟩
theorem mf_2 (h : Nat) (S : xS) : mF h S 2 "a" "[I" (.ref (h + 1)) := ⟨by decide, rfl, rfl, rfl, rfl⟩
theorem mf_3 (h : Nat) (S : xS) : mF h S 3 "image" "[I" (.ref (h + 2)) := ⟨by decide, rfl, rfl, rfl, rfl⟩
theorem mf_4 (h : Nat) (S : xS) : mF h S 4 "texts" "[I" (.ref (h + 3)) := ⟨by decide, rfl, rfl, rfl, rfl⟩
theorem mf_5 (h : Nat) (S : xS) : mF h S 5 "board" "[I" (.ref (h + 4)) := ⟨by decide, rfl, rfl, rfl, rfl⟩
theorem mf_6 (h : Nat) (S : xS) : mF h S 6 "taken" "[I" (.ref (h + 5)) := ⟨by decide, rfl, rfl, rfl, rfl⟩
theorem mf_7 (h : Nat) (S : xS) : mF h S 7 "fars" "[I" (.ref (h + 6)) := ⟨by decide, rfl, rfl, rfl, rfl⟩
theorem mf_8 (h : Nat) (S : xS) : mF h S 8 "before" "[I" (.ref (h + 7)) := ⟨by decide, rfl, rfl, rfl, rfl⟩
theorem mf_9 (h : Nat) (S : xS) : mF h S 9 "tape" "[I" (.ref (h + 8)) := ⟨by decide, rfl, rfl, rfl, rfl⟩
theorem mf_10 (h : Nat) (S : xS) : mF h S 10 "taped" "I" (.int (zi (S.1 10))) := ⟨by decide, rfl, rfl, rfl, rfl⟩
theorem mf_11 (h : Nat) (S : xS) : mF h S 11 "fault" "I" (.int (zi (S.1 11))) := ⟨by decide, rfl, rfl, rfl, rfl⟩
theorem mf_12 (h : Nat) (S : xS) : mF h S 12 "faultPlace" "I" (.int (zi (S.1 12))) := ⟨by decide, rfl, rfl, rfl, rfl⟩
theorem mf_13 (h : Nat) (S : xS) : mF h S 13 "at" "I" (.int (zi (S.1 13))) := ⟨by decide, rfl, rfl, rfl, rfl⟩
theorem mf_14 (h : Nat) (S : xS) : mF h S 14 "place" "I" (.int (zi (S.1 14))) := ⟨by decide, rfl, rfl, rfl, rfl⟩
theorem mf_15 (h : Nat) (S : xS) : mF h S 15 "token" "I" (.int (zi (S.1 15))) := ⟨by decide, rfl, rfl, rfl, rfl⟩
theorem mf_16 (h : Nat) (S : xS) : mF h S 16 "number" "I" (.int (zi (S.1 16))) := ⟨by decide, rfl, rfl, rfl, rfl⟩
theorem mf_17 (h : Nat) (S : xS) : mF h S 17 "word" "J" (.long (zl (S.1 17))) := ⟨by decide, rfl, rfl, rfl, rfl⟩
theorem mf_18 (h : Nat) (S : xS) : mF h S 18 "text0" "I" (.int (zi (S.1 18))) := ⟨by decide, rfl, rfl, rfl, rfl⟩
theorem mf_19 (h : Nat) (S : xS) : mF h S 19 "clauses" "I" (.int (zi (S.1 19))) := ⟨by decide, rfl, rfl, rfl, rfl⟩
theorem mf_20 (h : Nat) (S : xS) : mF h S 20 "written" "I" (.int (zi (S.1 20))) := ⟨by decide, rfl, rfl, rfl, rfl⟩
theorem mf_21 (h : Nat) (S : xS) : mF h S 21 "came" "I" (.int (zi (S.1 21))) := ⟨by decide, rfl, rfl, rfl, rfl⟩
theorem mf_22 (h : Nat) (S : xS) : mF h S 22 "letters" "I" (.int (zi (S.1 22))) := ⟨by decide, rfl, rfl, rfl, rfl⟩
theorem mf_23 (h : Nat) (S : xS) : mF h S 23 "pile" "[I" (.ref (h + 9)) := ⟨by decide, rfl, rfl, rfl, rfl⟩
theorem mf_24 (h : Nat) (S : xS) : mF h S 24 "piled" "I" (.int (zi (S.1 24))) := ⟨by decide, rfl, rfl, rfl, rfl⟩
theorem mf_25 (h : Nat) (S : xS) : mF h S 25 "opens" "I" (.int (zi (S.1 25))) := ⟨by decide, rfl, rfl, rfl, rfl⟩
theorem mf_26 (h : Nat) (S : xS) : mF h S 26 "isWhole" "Z" (.int (zi (S.1 26))) := ⟨by decide, rfl, rfl, rfl, rfl⟩
theorem mf_27 (h : Nat) (S : xS) : mF h S 27 "bound" "J" (.long (zl (S.1 27))) := ⟨by decide, rfl, rfl, rfl, rfl⟩
theorem mf_28 (h : Nat) (S : xS) : mF h S 28 "over" "I" (.int (zi (S.1 28))) := ⟨by decide, rfl, rfl, rfl, rfl⟩
theorem mf_29 (h : Nat) (S : xS) : mF h S 29 "ticks" "I" (.int (zi (S.1 29))) := ⟨by decide, rfl, rfl, rfl, rfl⟩
theorem mf_30 (h : Nat) (S : xS) : mF h S 30 "atX" "I" (.int (zi (S.1 30))) := ⟨by decide, rfl, rfl, rfl, rfl⟩
theorem mf_31 (h : Nat) (S : xS) : mF h S 31 "atY" "I" (.int (zi (S.1 31))) := ⟨by decide, rfl, rfl, rfl, rfl⟩
theorem mf_32 (h : Nat) (S : xS) : mF h S 32 "heading" "I" (.int (zi (S.1 32))) := ⟨by decide, rfl, rfl, rfl, rfl⟩
theorem mf_33 (h : Nat) (S : xS) : mF h S 33 "hit" "Z" (.int (zi (S.1 33))) := ⟨by decide, rfl, rfl, rfl, rfl⟩
theorem mf_34 (h : Nat) (S : xS) : mF h S 34 "rested" "Z" (.int (zi (S.1 34))) := ⟨by decide, rfl, rfl, rfl, rfl⟩
theorem mf_35 (h : Nat) (S : xS) : mF h S 35 "rows" "[I" (.ref (h + 10)) := ⟨by decide, rfl, rfl, rfl, rfl⟩
theorem mf_36 (h : Nat) (S : xS) : mF h S 36 "told" "[I" (.ref (h + 11)) := ⟨by decide, rfl, rfl, rfl, rfl⟩
theorem mf_37 (h : Nat) (S : xS) : mF h S 37 "values" "[J" (.ref (h + 12)) := ⟨by decide, rfl, rfl, rfl, rfl⟩
theorem mf_38 (h : Nat) (S : xS) : mF h S 38 "truth" "[Z" (.ref (h + 13)) := ⟨by decide, rfl, rfl, rfl, rfl⟩
theorem mf_39 (h : Nat) (S : xS) : mF h S 39 "now" "I" (.int (zi (S.1 39))) := ⟨by decide, rfl, rfl, rfl, rfl⟩
theorem mf_40 (h : Nat) (S : xS) : mF h S 40 "turn" "I" (.int (zi (S.1 40))) := ⟨by decide, rfl, rfl, rfl, rfl⟩
theorem mf_41 (h : Nat) (S : xS) : mF h S 41 "go" "I" (.int (zi (S.1 41))) := ⟨by decide, rfl, rfl, rfl, rfl⟩
theorem mf_42 (h : Nat) (S : xS) : mF h S 42 "keeps" "[Z" (.ref (h + 14)) := ⟨by decide, rfl, rfl, rfl, rfl⟩
theorem mp_10 (h : Nat) (S : xS) (z : Int) : mP h S 10 "taped" "I" (.int (zi z)) (fset S 10 z) := ⟨by decide, rfl, rfl, rfl, rfl, rfl, rfl, rfl⟩
theorem mp_11 (h : Nat) (S : xS) (z : Int) : mP h S 11 "fault" "I" (.int (zi z)) (fset S 11 z) := ⟨by decide, rfl, rfl, rfl, rfl, rfl, rfl, rfl⟩
theorem mp_12 (h : Nat) (S : xS) (z : Int) : mP h S 12 "faultPlace" "I" (.int (zi z)) (fset S 12 z) := ⟨by decide, rfl, rfl, rfl, rfl, rfl, rfl, rfl⟩
theorem mp_13 (h : Nat) (S : xS) (z : Int) : mP h S 13 "at" "I" (.int (zi z)) (fset S 13 z) := ⟨by decide, rfl, rfl, rfl, rfl, rfl, rfl, rfl⟩
theorem mp_14 (h : Nat) (S : xS) (z : Int) : mP h S 14 "place" "I" (.int (zi z)) (fset S 14 z) := ⟨by decide, rfl, rfl, rfl, rfl, rfl, rfl, rfl⟩
theorem mp_15 (h : Nat) (S : xS) (z : Int) : mP h S 15 "token" "I" (.int (zi z)) (fset S 15 z) := ⟨by decide, rfl, rfl, rfl, rfl, rfl, rfl, rfl⟩
theorem mp_16 (h : Nat) (S : xS) (z : Int) : mP h S 16 "number" "I" (.int (zi z)) (fset S 16 z) := ⟨by decide, rfl, rfl, rfl, rfl, rfl, rfl, rfl⟩
theorem mp_17 (h : Nat) (S : xS) (z : Int) : mP h S 17 "word" "J" (.long (zl z)) (fset S 17 z) := ⟨by decide, rfl, rfl, rfl, rfl, rfl, rfl, rfl⟩
theorem mp_18 (h : Nat) (S : xS) (z : Int) : mP h S 18 "text0" "I" (.int (zi z)) (fset S 18 z) := ⟨by decide, rfl, rfl, rfl, rfl, rfl, rfl, rfl⟩
theorem mp_19 (h : Nat) (S : xS) (z : Int) : mP h S 19 "clauses" "I" (.int (zi z)) (fset S 19 z) := ⟨by decide, rfl, rfl, rfl, rfl, rfl, rfl, rfl⟩
theorem mp_20 (h : Nat) (S : xS) (z : Int) : mP h S 20 "written" "I" (.int (zi z)) (fset S 20 z) := ⟨by decide, rfl, rfl, rfl, rfl, rfl, rfl, rfl⟩
theorem mp_21 (h : Nat) (S : xS) (z : Int) : mP h S 21 "came" "I" (.int (zi z)) (fset S 21 z) := ⟨by decide, rfl, rfl, rfl, rfl, rfl, rfl, rfl⟩
theorem mp_22 (h : Nat) (S : xS) (z : Int) : mP h S 22 "letters" "I" (.int (zi z)) (fset S 22 z) := ⟨by decide, rfl, rfl, rfl, rfl, rfl, rfl, rfl⟩
theorem mp_24 (h : Nat) (S : xS) (z : Int) : mP h S 24 "piled" "I" (.int (zi z)) (fset S 24 z) := ⟨by decide, rfl, rfl, rfl, rfl, rfl, rfl, rfl⟩
theorem mp_25 (h : Nat) (S : xS) (z : Int) : mP h S 25 "opens" "I" (.int (zi z)) (fset S 25 z) := ⟨by decide, rfl, rfl, rfl, rfl, rfl, rfl, rfl⟩
theorem mp_26 (h : Nat) (S : xS) {z : Int} (g : z = 0 ∨ z = 1) : mP h S 26 "isWhole" "Z" (.int (zi z)) (fset S 26 z) := ⟨by decide, rfl, rfl, rfl, by rcases g with rfl | rfl <;> decide, by rcases g with rfl | rfl <;> decide, rfl, rfl⟩
theorem mp_27 (h : Nat) (S : xS) (z : Int) : mP h S 27 "bound" "J" (.long (zl z)) (fset S 27 z) := ⟨by decide, rfl, rfl, rfl, rfl, rfl, rfl, rfl⟩
theorem mp_28 (h : Nat) (S : xS) (z : Int) : mP h S 28 "over" "I" (.int (zi z)) (fset S 28 z) := ⟨by decide, rfl, rfl, rfl, rfl, rfl, rfl, rfl⟩
theorem mp_29 (h : Nat) (S : xS) (z : Int) : mP h S 29 "ticks" "I" (.int (zi z)) (fset S 29 z) := ⟨by decide, rfl, rfl, rfl, rfl, rfl, rfl, rfl⟩
theorem mp_30 (h : Nat) (S : xS) (z : Int) : mP h S 30 "atX" "I" (.int (zi z)) (fset S 30 z) := ⟨by decide, rfl, rfl, rfl, rfl, rfl, rfl, rfl⟩
theorem mp_31 (h : Nat) (S : xS) (z : Int) : mP h S 31 "atY" "I" (.int (zi z)) (fset S 31 z) := ⟨by decide, rfl, rfl, rfl, rfl, rfl, rfl, rfl⟩
theorem mp_32 (h : Nat) (S : xS) (z : Int) : mP h S 32 "heading" "I" (.int (zi z)) (fset S 32 z) := ⟨by decide, rfl, rfl, rfl, rfl, rfl, rfl, rfl⟩
theorem mp_33 (h : Nat) (S : xS) {z : Int} (g : z = 0 ∨ z = 1) : mP h S 33 "hit" "Z" (.int (zi z)) (fset S 33 z) := ⟨by decide, rfl, rfl, rfl, by rcases g with rfl | rfl <;> decide, by rcases g with rfl | rfl <;> decide, rfl, rfl⟩
theorem mp_34 (h : Nat) (S : xS) {z : Int} (g : z = 0 ∨ z = 1) : mP h S 34 "rested" "Z" (.int (zi z)) (fset S 34 z) := ⟨by decide, rfl, rfl, rfl, by rcases g with rfl | rfl <;> decide, by rcases g with rfl | rfl <;> decide, rfl, rfl⟩
theorem mp_39 (h : Nat) (S : xS) (z : Int) : mP h S 39 "now" "I" (.int (zi z)) (fset S 39 z) := ⟨by decide, rfl, rfl, rfl, rfl, rfl, rfl, rfl⟩
theorem mp_40 (h : Nat) (S : xS) (z : Int) : mP h S 40 "turn" "I" (.int (zi z)) (fset S 40 z) := ⟨by decide, rfl, rfl, rfl, rfl, rfl, rfl, rfl⟩
theorem mp_41 (h : Nat) (S : xS) (z : Int) : mP h S 41 "go" "I" (.int (zi z)) (fset S 41 z) := ⟨by decide, rfl, rfl, rfl, rfl, rfl, rfl, rfl⟩
theorem ma_2 (dA : Nat → ClassId) (h : Nat) : mI dA h 2 1 3170 := ⟨by decide, fun S => rfl, fun S i z h0 => by rw [updz (S.2 2) z h0]; rfl⟩
theorem ma_3 (dA : Nat → ClassId) (h : Nat) : mI dA h 3 2 3170 := ⟨by decide, fun S => rfl, fun S i z h0 => by rw [updz (S.2 3) z h0]; rfl⟩
theorem ma_4 (dA : Nat → ClassId) (h : Nat) : mI dA h 4 3 6400 := ⟨by decide, fun S => rfl, fun S i z h0 => by rw [updz (S.2 4) z h0]; rfl⟩
theorem ma_5 (dA : Nat → ClassId) (h : Nat) : mI dA h 5 4 576 := ⟨by decide, fun S => rfl, fun S i z h0 => by rw [updz (S.2 5) z h0]; rfl⟩
theorem ma_6 (dA : Nat → ClassId) (h : Nat) : mI dA h 6 5 64 := ⟨by decide, fun S => rfl, fun S i z h0 => by rw [updz (S.2 6) z h0]; rfl⟩
theorem ma_7 (dA : Nat → ClassId) (h : Nat) : mI dA h 7 6 64 := ⟨by decide, fun S => rfl, fun S i z h0 => by rw [updz (S.2 7) z h0]; rfl⟩
theorem ma_8 (dA : Nat → ClassId) (h : Nat) : mI dA h 8 7 16 := ⟨by decide, fun S => rfl, fun S i z h0 => by rw [updz (S.2 8) z h0]; rfl⟩
theorem ma_9 (dA : Nat → ClassId) (h : Nat) : mI dA h 9 8 300 := ⟨by decide, fun S => rfl, fun S i z h0 => by rw [updz (S.2 9) z h0]; rfl⟩
theorem ma_23 (dA : Nat → ClassId) (h : Nat) : mI dA h 23 9 160 := ⟨by decide, fun S => rfl, fun S i z h0 => by rw [updz (S.2 23) z h0]; rfl⟩
theorem ma_35 (dA : Nat → ClassId) (h : Nat) : mI dA h 35 10 2280 := ⟨by decide, fun S => rfl, fun S i z h0 => by rw [updz (S.2 35) z h0]; rfl⟩
theorem ma_36 (dA : Nat → ClassId) (h : Nat) : mI dA h 36 11 8 := ⟨by decide, fun S => rfl, fun S i z h0 => by rw [updz (S.2 36) z h0]; rfl⟩
theorem ma_37 (dA : Nat → ClassId) (h : Nat) : mJ dA h 37 12 330 := ⟨by decide, fun S => rfl, fun S i z h0 => by rw [updzL (S.2 37) z h0]; rfl⟩
theorem ma_38 (dA : Nat → ClassId) (h : Nat) : mZ dA h 38 13 330 := ⟨by decide, fun S => rfl, fun S i z h0 => by rw [updz (S.2 38) z h0]; rfl⟩
theorem ma_42 (dA : Nat → ClassId) (h : Nat) : mZ dA h 42 14 8 := ⟨by decide, fun S => rfl, fun S i z h0 => by rw [updz (S.2 42) z h0]; rfl⟩
section MR
variable {p : Program} {l : Launch} {e : Env} {R : Room} {s : State} {m : MethodId} {args : Array Value} {below : List Frame} {meth : Method} {c : Code} {H : Heap} {locs : List Loc} {cells slots : Nat} {Q : State → Prop}
variable {cc : ByteArray} {pc nL : Nat} {ls : Array Slot} {rest : List Value} {DM : va_G} {dA : Nat → ClassId} {h : Nat} {S : xS}
theorem mm_get (X : mCx p c cc nL s m args DM dA) (hM : MX DM dA h S s H locs) {k idx : Nat} {nme dsc : String} {v : Value} (hl : Cond.fieldLink "ManyEyesModel" idx "ManyEyesModel" nme dsc ∈ lw_all) (hf : mF h S k nme dsc v) (hdg : decode cc pc = .ok (.getfield idx, 3))
    (kk : W p l e R s m args below meth c H locs cells slots Q (F0 m (pc + 3) ls (v :: rest))) : W p l e R s m args below meth c H locs cells slots Q (F0 m pc ls (.ref h :: rest)) := by
  obtain ⟨h1, rfl, rfl, h4, h5⟩ := hf
  exact va_get X.1.1 X.1.2.1 X.1.2.2.2.2 in_X5 X.1.2.2.2.1 X.2 hM.1 0 rfl rfl k h1 (X.1.2.2.2.2 _ hl) (fun x hx => by rw [h4] at hx; exact hx) h5 hdg kk
theorem mm_put (X : mCx p c cc nL s m args DM dA) (hM : MX DM dA h S s H locs) {k idx : Nat} {nme dsc : String} {v : Value} {S1 : xS} (hl : Cond.fieldLink "ManyEyesModel" idx "ManyEyesModel" nme dsc ∈ lw_all) (hf : mP h S k nme dsc v S1) (hdg : decode cc pc = .ok (.putfield idx, 3))
    (kk : ∀ (H1 : Heap) (locs1 : List Loc) (S2 : xS), S2 = S1 → MX DM dA h S2 s H1 locs1 → W p l e R s m args below meth c H1 locs1 cells slots Q (F0 m (pc + 3) ls rest)) : W p l e R s m args below meth c H locs cells slots Q (F0 m pc ls (v :: .ref h :: rest)) := by
  obtain ⟨h1, rfl, rfl, h3, h4, h5, h6, h7⟩ := hf
  have h8 : (TX5 k).1 = RX5 := by
    have : ∀ k, k < 43 → (TX5 k).1 = RX5 := by decide +kernel
    exact this k h1
  refine va_put X.1.1 X.1.2.1 X.1.2.2.2.2 in_X5 tyX5 tyX5_ok nmX5 X.1.2.2.2.1 X.2 hM.1 mo_D hM.2 0 rfl rfl k h1 (X.1.2.2.2.2 _ hl) (fun x hx => by rw [h8] at hx; exact hx) h3 (tyX5_ok k h1) h4 h5 (show k < (mo_fs h S).length from h1) hdg (fun H1 locs1 hP _ hS => kk H1 locs1 S1 rfl ⟨?_, hS⟩)
  have e : (mo_ws dA h S).set 0 (h, .inr (0, (mo_fs h S).set k v)) = mo_ws dA h S1 := by
    rw [h6]
    show (h, .inr (0, mo_fs h S1)) :: mo_as dA h S.2 = (h, .inr (0, mo_fs h S1)) :: mo_as dA h S1.2
    rw [h7]
  rw [← e]
  exact hP
theorem mm_iald (X : mCx p c cc nL s m args DM dA) (hM : MX DM dA h S s H locs) {k q n : Nat} (ha : mI dA h k q n) {i : Int} (g : 0 ≤ i ∧ i < (n : Int)) (hdg : decode cc pc = .ok (.iaload, 1))
    (kk : W p l e R s m args below meth c H locs cells slots Q (F0 m (pc + 1) ls (.int (zi (S.2 k i)) :: rest))) : W p l e R s m args below meth c H locs cells slots Q (F0 m pc ls (.int (zi i) :: .ref (h + q) :: rest)) := by
  have hn := ha.1
  refine va_iald X.1.1 X.1.2.1 X.2 hM.1 q 0 (ha.2.1 S) rfl (zi_in g ha.1) hdg ?_
  show W p l e R s m args below meth c H locs cells slots Q (F0 m (pc + 1) ls (.int (zi (S.2 k (((zi i).toNatClampNeg : Nat) : Int))) :: rest))
  rw [zi_cast ⟨g.1, by omega⟩]
  exact kk
theorem mm_zald (X : mCx p c cc nL s m args DM dA) (hM : MX DM dA h S s H locs) {k q n : Nat} (ha : mZ dA h k q n) {i : Int} (g : 0 ≤ i ∧ i < (n : Int)) (hdg : decode cc pc = .ok (.baload, 1))
    (kk : W p l e R s m args below meth c H locs cells slots Q (F0 m (pc + 1) ls (.int (zi (S.2 k i)) :: rest))) : W p l e R s m args below meth c H locs cells slots Q (F0 m pc ls (.int (zi i) :: .ref (h + q) :: rest)) := by
  have hn := ha.1
  refine va_zald X.1.1 X.1.2.1 X.2 hM.1 q 2 (ha.2.1 S) rfl (zi_in g ha.1) hdg ?_
  show W p l e R s m args below meth c H locs cells slots Q (F0 m (pc + 1) ls (.int (zi (S.2 k (((zi i).toNatClampNeg : Nat) : Int))) :: rest))
  rw [zi_cast ⟨g.1, by omega⟩]
  exact kk
theorem mm_lald (X : mCx p c cc nL s m args DM dA) (hM : MX DM dA h S s H locs) {k q n : Nat} (ha : mJ dA h k q n) {i : Int} (g : 0 ≤ i ∧ i < (n : Int)) (hdg : decode cc pc = .ok (.laload, 1))
    (kk : W p l e R s m args below meth c H locs cells slots Q (F0 m (pc + 1) ls (.long (zl (S.2 k i)) :: rest))) : W p l e R s m args below meth c H locs cells slots Q (F0 m pc ls (.int (zi i) :: .ref (h + q) :: rest)) := by
  have hn := ha.1
  refine va_lald X.1.1 X.1.2.1 X.2 hM.1 q 1 (ha.2.1 S) rfl (zi_in g ha.1) hdg ?_
  show W p l e R s m args below meth c H locs cells slots Q (F0 m (pc + 1) ls (.long (zl (S.2 k (((zi i).toNatClampNeg : Nat) : Int))) :: rest))
  rw [zi_cast ⟨g.1, by omega⟩]
  exact kk
theorem mm_iast (X : mCx p c cc nL s m args DM dA) (hM : MX DM dA h S s H locs) {k q n : Nat} (ha : mI dA h k q n) {i z : Int} (g : 0 ≤ i ∧ i < (n : Int)) (hdg : decode cc pc = .ok (.iastore, 1))
    (kk : ∀ (H1 : Heap) (locs1 : List Loc) (S2 : xS), S2 = aset S k i z → MX DM dA h S2 s H1 locs1 → W p l e R s m args below meth c H1 locs1 cells slots Q (F0 m (pc + 1) ls rest)) : W p l e R s m args below meth c H locs cells slots Q (F0 m pc ls (.int (zi z) :: .int (zi i) :: .ref (h + q) :: rest)) := by
  have hn := ha.1
  refine va_iast X.1.1 X.1.2.1 X.2 hM.1 mo_D hM.2 q 0 (ha.2.1 S) rfl (zi_in g ha.1) hdg (fun H1 locs1 hP _ hS => kk H1 locs1 _ rfl ⟨?_, hS⟩)
  rw [← ha.2.2 S i z g.1, ← zi_cl ⟨g.1, by omega⟩]
  exact hP
theorem mm_zast (X : mCx p c cc nL s m args DM dA) (hM : MX DM dA h S s H locs) {k q n : Nat} (ha : mZ dA h k q n) {i z : Int} (g : 0 ≤ i ∧ i < (n : Int)) (gz : z = 0 ∨ z = 1) (hdg : decode cc pc = .ok (.bastore, 1))
    (kk : ∀ (H1 : Heap) (locs1 : List Loc) (S2 : xS), S2 = aset S k i z → MX DM dA h S2 s H1 locs1 → W p l e R s m args below meth c H1 locs1 cells slots Q (F0 m (pc + 1) ls rest)) : W p l e R s m args below meth c H locs cells slots Q (F0 m pc ls (.int (zi z) :: .int (zi i) :: .ref (h + q) :: rest)) := by
  have hn := ha.1
  have hz : vp_nar .boolean (zi z) = zi z := by rcases gz with rfl | rfl <;> decide
  refine va_zast X.1.1 X.1.2.1 X.2 hM.1 mo_D hM.2 q 2 (ha.2.1 S) rfl (zi_in g ha.1) hdg (fun H1 locs1 hP _ hS => kk H1 locs1 _ rfl ⟨?_, hS⟩)
  rw [hz] at hP
  rw [← ha.2.2 S i z g.1, ← zi_cl ⟨g.1, by omega⟩]
  exact hP
theorem mm_last (X : mCx p c cc nL s m args DM dA) (hM : MX DM dA h S s H locs) {k q n : Nat} (ha : mJ dA h k q n) {i z : Int} (g : 0 ≤ i ∧ i < (n : Int)) (hdg : decode cc pc = .ok (.lastore, 1))
    (kk : ∀ (H1 : Heap) (locs1 : List Loc) (S2 : xS), S2 = aset S k i z → MX DM dA h S2 s H1 locs1 → W p l e R s m args below meth c H1 locs1 cells slots Q (F0 m (pc + 1) ls rest)) : W p l e R s m args below meth c H locs cells slots Q (F0 m pc ls (.long (zl z) :: .int (zi i) :: .ref (h + q) :: rest)) := by
  have hn := ha.1
  refine va_last X.1.1 X.1.2.1 X.2 hM.1 mo_D hM.2 q 1 (ha.2.1 S) rfl (zi_in g ha.1) hdg (fun H1 locs1 hP _ hS => kk H1 locs1 _ rfl ⟨?_, hS⟩)
  rw [← ha.2.2 S i z g.1, ← zi_cl ⟨g.1, by omega⟩]
  exact hP
variable {y : MethodName} {bytes : ByteArray} {maxL idx : Nat} {ret : Option FieldType} {rm : Room} {As : List Value}
variable {st : List Value}
theorem mu_blind {As : List Value} : FrameBlind (va_Pc (.ref h :: As) (MU DM dA h S)) := fun a U g mk q => ⟨q.1, q.2.1, va_K.moved (u := U) (U := U.calling g mk a) (Vm.Alike.refl U.vm) q.2.2⟩
theorem mu_pre (hK : va_K DM mcl (mty dA) s) (hP : va_P DM mcl (mo_ws dA h S) H) {As : List Value} : PreV s H "ManyEyesModel" h (va_Pc (.ref h :: As) (MU DM dA h S)) As :=
  ⟨mu_blind, va_recv hK hP (ci := 0) (q0 := 0) rfl rfl, fun U hU hW => ⟨rfl, by rw [hU]; exact hP, va_K.moved hW.alike hK⟩⟩
theorem mu_free (hM : MX DM dA h S s H locs) : ∀ q, mA h q → mA h q := fun _ h => h
abbrev mt_i (l : Launch) (y : MethodName) (bytes : ByteArray) (maxL : Nat) (ret : Option FieldType) (rm : Room) (DM : va_G) (dA : Nat → ClassId) (h : Nat) (As : List Value) (S : xS) (r : Int) (S1 : xS) : Prop := Met l y (ws_ y bytes maxL ret) rm (va_Pc (.ref h :: As) (MU DM dA h S)) (va_Qi (fun (v : Int32) (u : xS) => v = zi r ∧ u = S1) (fun u t => MU DM dA h u t) (mA h)) 0 0 (mA h)
theorem mc_i (X : mCx p c cc nL s m args DM dA) (hM : MX DM dA h S s H locs) {r : Int} {S1 : xS} (met : mt_i l y bytes maxL ret rm DM dA h As S r S1) (hT : GoodIn lw_all (wsV "ManyEyesModel" idx "ManyEyesModel" y (ws_ y bytes maxL ret))) (hd : y.cls = "ManyEyesModel" ∧ y.cls ≠ "java/lang/invoke/MethodHandle" ∧ y.cls ≠ "java/lang/invoke/VarHandle" ∧ (parseMethodDescriptor y.desc).map (fun d => d.parameters.length) = some As.length) (hrm : rm.cells = 0 ∧ rm.slots = 0) (hR : rm.frames + 1 ≤ R.frames ∧ 8 + (maxL + 11) + rm.locals ≤ R.locals) (hcs : cells ≤ R.cells ∧ slots ≤ R.slots) (hls : ls.size = nL) (hro : (rest.map fun v => v.category).sum ≤ 8) (hdg : decode cc pc = .ok (.invokevirtual idx, 3)) (hst : st = As.reverse ++ .ref h :: rest)
    (kk : ∀ (H1 : Heap) (locs1 : List Loc), MX DM dA h S1 s H1 locs1 → W p l e R s m args below meth c H1 locs1 cells slots Q (F0 m (pc + 3) ls (.int (zi r) :: rest))) : W p l e R s m args below meth c H locs cells slots Q (F0 m pc ls st) := by
  subst hst
  refine va_calli (va_runV (As := As) (rest := rest) X.1 met (cwV As.length X.1.2.2.2.2 hT rfl hrm.1 hrm.2 hd hR) (mu_pre X.2 hM.1) rfl rfl hls rfl (lv_room hro) hdg ⟨hcs.1, hcs.2⟩) hM.2 (fun q _ hq => hq) (fun q hq => hq) (fun v u t H1 locs1 ht hvm hp hB hz hk hS => ?_)
  obtain ⟨rfl, rfl⟩ := hp
  exact kk H1 locs1 ⟨by rw [← ht]; exact hB.1, hS⟩
abbrev ms_i (l : Launch) (y : MethodName) (bytes : ByteArray) (maxL : Nat) (ret : Option FieldType) (rm : Room) (As : List Value) (r : Int) : Prop := Met l y (ws_ y bytes maxL ret) rm (va_Pc As (fun _ => True)) (va_Qi (fun (v : Int32) (_ : Unit) => v = zi r) (fun _ _ => True) (fun _ => False)) 0 0 (fun _ => False)
theorem scs_i (X : sCx p c cc nL s m args) (hM : va_S (fun _ => False) s.heap H locs) {r : Int} (met : ms_i l y bytes maxL ret rm As r) (hT : GoodIn lw_all (va_wsS "ManyEyesModel" idx y (ws_ y bytes maxL ret))) (hd : y.cls ≠ "java/lang/invoke/MethodHandle" ∧ y.cls ≠ "java/lang/invoke/VarHandle" ∧ (parseMethodDescriptor y.desc).map (fun d => d.parameters.length) = some As.length) (hrm : rm.cells = 0 ∧ rm.slots = 0) (hR : rm.frames + 1 ≤ R.frames ∧ 8 + (maxL + 11) + rm.locals ≤ R.locals) (hcs : cells ≤ R.cells ∧ slots ≤ R.slots) (hls : ls.size = nL) (hro : (rest.map fun v => v.category).sum ≤ 8) (hdg : decode cc pc = .ok (.invokestatic idx, 3)) (hst : st = As.reverse ++ rest)
    (kk : ∀ (H1 : Heap) (locs1 : List Loc), va_S (fun _ => False) s.heap H1 locs1 → W p l e R s m args below meth c H1 locs1 cells slots Q (F0 m (pc + 3) ls (.int (zi r) :: rest))) : W p l e R s m args below meth c H locs cells slots Q (F0 m pc ls st) := by
  subst hst
  refine va_calli (va_runS (As := As) (rest := rest) X met (va_cwS As.length X.2.2.2.2 hT rfl hrm.1 hrm.2 hd hR) ⟨fun a U g mk q => q, fun U hU hW => ⟨rfl, trivial⟩⟩ rfl rfl hls rfl (lv_room hro) hdg ⟨hcs.1, hcs.2⟩) hM (fun q _ hq => hq.elim) (fun q hq => hq.elim) (fun v u t H1 locs1 ht hvm hp hB hz hk hS => ?_)
  subst hp
  exact kk H1 locs1 hS
theorem mcs_i (X : mCx p c cc nL s m args DM dA) (hM : MX DM dA h S s H locs) {r : Int} (met : ms_i l y bytes maxL ret rm As r) (hT : GoodIn lw_all (va_wsS "ManyEyesModel" idx y (ws_ y bytes maxL ret))) (hd : y.cls ≠ "java/lang/invoke/MethodHandle" ∧ y.cls ≠ "java/lang/invoke/VarHandle" ∧ (parseMethodDescriptor y.desc).map (fun d => d.parameters.length) = some As.length) (hrm : rm.cells = 0 ∧ rm.slots = 0) (hR : rm.frames + 1 ≤ R.frames ∧ 8 + (maxL + 11) + rm.locals ≤ R.locals) (hcs : cells ≤ R.cells ∧ slots ≤ R.slots) (hls : ls.size = nL) (hro : (rest.map fun v => v.category).sum ≤ 8) (hdg : decode cc pc = .ok (.invokestatic idx, 3)) (hst : st = As.reverse ++ rest)
    (kk : ∀ (H1 : Heap) (locs1 : List Loc), MX DM dA h S s H1 locs1 → W p l e R s m args below meth c H1 locs1 cells slots Q (F0 m (pc + 3) ls (.int (zi r) :: rest))) : W p l e R s m args below meth c H locs cells slots Q (F0 m pc ls st) := by
  subst hst
  refine va_calli (va_runS (As := As) (rest := rest) X.1 met (va_cwS As.length X.1.2.2.2.2 hT rfl hrm.1 hrm.2 hd hR) ⟨fun a U g mk q => q, fun U hU hW => ⟨rfl, trivial⟩⟩ rfl rfl hls rfl (lv_room hro) hdg ⟨hcs.1, hcs.2⟩) hM.2 (fun q _ hq => hq.elim) (fun q hq => hq.elim) (fun v u t H1 locs1 ht hvm hp hB hz hk hS => ?_)
  subst hp
  exact kk H1 locs1 ⟨hM.1.kept (fun k q hq => hk q.1 ((hM.1 k q hq).lt) (fun z => z)), hS⟩
abbrev mt_z (l : Launch) (y : MethodName) (bytes : ByteArray) (maxL : Nat) (ret : Option FieldType) (rm : Room) (DM : va_G) (dA : Nat → ClassId) (h : Nat) (As : List Value) (S : xS) (r : Bool) (S1 : xS) : Prop := Met l y (ws_ y bytes maxL ret) rm (va_Pc (.ref h :: As) (MU DM dA h S)) (va_Qi (fun (v : Int32) (u : xS) => v = zi (bz r) ∧ u = S1) (fun u t => MU DM dA h u t) (mA h)) 0 0 (mA h)
theorem mc_z (X : mCx p c cc nL s m args DM dA) (hM : MX DM dA h S s H locs) {r : Bool} {S1 : xS} (met : mt_z l y bytes maxL ret rm DM dA h As S r S1) (hT : GoodIn lw_all (wsV "ManyEyesModel" idx "ManyEyesModel" y (ws_ y bytes maxL ret))) (hd : y.cls = "ManyEyesModel" ∧ y.cls ≠ "java/lang/invoke/MethodHandle" ∧ y.cls ≠ "java/lang/invoke/VarHandle" ∧ (parseMethodDescriptor y.desc).map (fun d => d.parameters.length) = some As.length) (hrm : rm.cells = 0 ∧ rm.slots = 0) (hR : rm.frames + 1 ≤ R.frames ∧ 8 + (maxL + 11) + rm.locals ≤ R.locals) (hcs : cells ≤ R.cells ∧ slots ≤ R.slots) (hls : ls.size = nL) (hro : (rest.map fun v => v.category).sum ≤ 8) (hdg : decode cc pc = .ok (.invokevirtual idx, 3)) (hst : st = As.reverse ++ .ref h :: rest)
    (kk : ∀ (H1 : Heap) (locs1 : List Loc), MX DM dA h S1 s H1 locs1 → W p l e R s m args below meth c H1 locs1 cells slots Q (F0 m (pc + 3) ls (.int (zi (bz r)) :: rest))) : W p l e R s m args below meth c H locs cells slots Q (F0 m pc ls st) := by
  subst hst
  refine va_calli (va_runV (As := As) (rest := rest) X.1 met (cwV As.length X.1.2.2.2.2 hT rfl hrm.1 hrm.2 hd hR) (mu_pre X.2 hM.1) rfl rfl hls rfl (lv_room hro) hdg ⟨hcs.1, hcs.2⟩) hM.2 (fun q _ hq => hq) (fun q hq => hq) (fun v u t H1 locs1 ht hvm hp hB hz hk hS => ?_)
  obtain ⟨rfl, rfl⟩ := hp
  exact kk H1 locs1 ⟨by rw [← ht]; exact hB.1, hS⟩
abbrev ms_z (l : Launch) (y : MethodName) (bytes : ByteArray) (maxL : Nat) (ret : Option FieldType) (rm : Room) (As : List Value) (r : Bool) : Prop := Met l y (ws_ y bytes maxL ret) rm (va_Pc As (fun _ => True)) (va_Qi (fun (v : Int32) (_ : Unit) => v = zi (bz r)) (fun _ _ => True) (fun _ => False)) 0 0 (fun _ => False)
theorem scs_z (X : sCx p c cc nL s m args) (hM : va_S (fun _ => False) s.heap H locs) {r : Bool} (met : ms_z l y bytes maxL ret rm As r) (hT : GoodIn lw_all (va_wsS "ManyEyesModel" idx y (ws_ y bytes maxL ret))) (hd : y.cls ≠ "java/lang/invoke/MethodHandle" ∧ y.cls ≠ "java/lang/invoke/VarHandle" ∧ (parseMethodDescriptor y.desc).map (fun d => d.parameters.length) = some As.length) (hrm : rm.cells = 0 ∧ rm.slots = 0) (hR : rm.frames + 1 ≤ R.frames ∧ 8 + (maxL + 11) + rm.locals ≤ R.locals) (hcs : cells ≤ R.cells ∧ slots ≤ R.slots) (hls : ls.size = nL) (hro : (rest.map fun v => v.category).sum ≤ 8) (hdg : decode cc pc = .ok (.invokestatic idx, 3)) (hst : st = As.reverse ++ rest)
    (kk : ∀ (H1 : Heap) (locs1 : List Loc), va_S (fun _ => False) s.heap H1 locs1 → W p l e R s m args below meth c H1 locs1 cells slots Q (F0 m (pc + 3) ls (.int (zi (bz r)) :: rest))) : W p l e R s m args below meth c H locs cells slots Q (F0 m pc ls st) := by
  subst hst
  refine va_calli (va_runS (As := As) (rest := rest) X met (va_cwS As.length X.2.2.2.2 hT rfl hrm.1 hrm.2 hd hR) ⟨fun a U g mk q => q, fun U hU hW => ⟨rfl, trivial⟩⟩ rfl rfl hls rfl (lv_room hro) hdg ⟨hcs.1, hcs.2⟩) hM (fun q _ hq => hq.elim) (fun q hq => hq.elim) (fun v u t H1 locs1 ht hvm hp hB hz hk hS => ?_)
  subst hp
  exact kk H1 locs1 hS
theorem mcs_z (X : mCx p c cc nL s m args DM dA) (hM : MX DM dA h S s H locs) {r : Bool} (met : ms_z l y bytes maxL ret rm As r) (hT : GoodIn lw_all (va_wsS "ManyEyesModel" idx y (ws_ y bytes maxL ret))) (hd : y.cls ≠ "java/lang/invoke/MethodHandle" ∧ y.cls ≠ "java/lang/invoke/VarHandle" ∧ (parseMethodDescriptor y.desc).map (fun d => d.parameters.length) = some As.length) (hrm : rm.cells = 0 ∧ rm.slots = 0) (hR : rm.frames + 1 ≤ R.frames ∧ 8 + (maxL + 11) + rm.locals ≤ R.locals) (hcs : cells ≤ R.cells ∧ slots ≤ R.slots) (hls : ls.size = nL) (hro : (rest.map fun v => v.category).sum ≤ 8) (hdg : decode cc pc = .ok (.invokestatic idx, 3)) (hst : st = As.reverse ++ rest)
    (kk : ∀ (H1 : Heap) (locs1 : List Loc), MX DM dA h S s H1 locs1 → W p l e R s m args below meth c H1 locs1 cells slots Q (F0 m (pc + 3) ls (.int (zi (bz r)) :: rest))) : W p l e R s m args below meth c H locs cells slots Q (F0 m pc ls st) := by
  subst hst
  refine va_calli (va_runS (As := As) (rest := rest) X.1 met (va_cwS As.length X.1.2.2.2.2 hT rfl hrm.1 hrm.2 hd hR) ⟨fun a U g mk q => q, fun U hU hW => ⟨rfl, trivial⟩⟩ rfl rfl hls rfl (lv_room hro) hdg ⟨hcs.1, hcs.2⟩) hM.2 (fun q _ hq => hq.elim) (fun q hq => hq.elim) (fun v u t H1 locs1 ht hvm hp hB hz hk hS => ?_)
  subst hp
  exact kk H1 locs1 ⟨hM.1.kept (fun k q hq => hk q.1 ((hM.1 k q hq).lt) (fun z => z)), hS⟩
abbrev mt_l (l : Launch) (y : MethodName) (bytes : ByteArray) (maxL : Nat) (ret : Option FieldType) (rm : Room) (DM : va_G) (dA : Nat → ClassId) (h : Nat) (As : List Value) (S : xS) (r : Int) (S1 : xS) : Prop := Met l y (ws_ y bytes maxL ret) rm (va_Pc (.ref h :: As) (MU DM dA h S)) (va_Ql (fun (v : Int64) (u : xS) => v = zl r ∧ u = S1) (fun u t => MU DM dA h u t) (mA h)) 0 0 (mA h)
theorem mc_l (X : mCx p c cc nL s m args DM dA) (hM : MX DM dA h S s H locs) {r : Int} {S1 : xS} (met : mt_l l y bytes maxL ret rm DM dA h As S r S1) (hT : GoodIn lw_all (wsV "ManyEyesModel" idx "ManyEyesModel" y (ws_ y bytes maxL ret))) (hd : y.cls = "ManyEyesModel" ∧ y.cls ≠ "java/lang/invoke/MethodHandle" ∧ y.cls ≠ "java/lang/invoke/VarHandle" ∧ (parseMethodDescriptor y.desc).map (fun d => d.parameters.length) = some As.length) (hrm : rm.cells = 0 ∧ rm.slots = 0) (hR : rm.frames + 1 ≤ R.frames ∧ 8 + (maxL + 11) + rm.locals ≤ R.locals) (hcs : cells ≤ R.cells ∧ slots ≤ R.slots) (hls : ls.size = nL) (hro : (rest.map fun v => v.category).sum ≤ 8) (hdg : decode cc pc = .ok (.invokevirtual idx, 3)) (hst : st = As.reverse ++ .ref h :: rest)
    (kk : ∀ (H1 : Heap) (locs1 : List Loc), MX DM dA h S1 s H1 locs1 → W p l e R s m args below meth c H1 locs1 cells slots Q (F0 m (pc + 3) ls (.long (zl r) :: rest))) : W p l e R s m args below meth c H locs cells slots Q (F0 m pc ls st) := by
  subst hst
  refine va_calll (va_runV (As := As) (rest := rest) X.1 met (cwV As.length X.1.2.2.2.2 hT rfl hrm.1 hrm.2 hd hR) (mu_pre X.2 hM.1) rfl rfl hls rfl (lv_room hro) hdg ⟨hcs.1, hcs.2⟩) hM.2 (fun q _ hq => hq) (fun q hq => hq) (fun v u t H1 locs1 ht hvm hp hB hz hk hS => ?_)
  obtain ⟨rfl, rfl⟩ := hp
  exact kk H1 locs1 ⟨by rw [← ht]; exact hB.1, hS⟩
abbrev ms_l (l : Launch) (y : MethodName) (bytes : ByteArray) (maxL : Nat) (ret : Option FieldType) (rm : Room) (As : List Value) (r : Int) : Prop := Met l y (ws_ y bytes maxL ret) rm (va_Pc As (fun _ => True)) (va_Ql (fun (v : Int64) (_ : Unit) => v = zl r) (fun _ _ => True) (fun _ => False)) 0 0 (fun _ => False)
theorem scs_l (X : sCx p c cc nL s m args) (hM : va_S (fun _ => False) s.heap H locs) {r : Int} (met : ms_l l y bytes maxL ret rm As r) (hT : GoodIn lw_all (va_wsS "ManyEyesModel" idx y (ws_ y bytes maxL ret))) (hd : y.cls ≠ "java/lang/invoke/MethodHandle" ∧ y.cls ≠ "java/lang/invoke/VarHandle" ∧ (parseMethodDescriptor y.desc).map (fun d => d.parameters.length) = some As.length) (hrm : rm.cells = 0 ∧ rm.slots = 0) (hR : rm.frames + 1 ≤ R.frames ∧ 8 + (maxL + 11) + rm.locals ≤ R.locals) (hcs : cells ≤ R.cells ∧ slots ≤ R.slots) (hls : ls.size = nL) (hro : (rest.map fun v => v.category).sum ≤ 8) (hdg : decode cc pc = .ok (.invokestatic idx, 3)) (hst : st = As.reverse ++ rest)
    (kk : ∀ (H1 : Heap) (locs1 : List Loc), va_S (fun _ => False) s.heap H1 locs1 → W p l e R s m args below meth c H1 locs1 cells slots Q (F0 m (pc + 3) ls (.long (zl r) :: rest))) : W p l e R s m args below meth c H locs cells slots Q (F0 m pc ls st) := by
  subst hst
  refine va_calll (va_runS (As := As) (rest := rest) X met (va_cwS As.length X.2.2.2.2 hT rfl hrm.1 hrm.2 hd hR) ⟨fun a U g mk q => q, fun U hU hW => ⟨rfl, trivial⟩⟩ rfl rfl hls rfl (lv_room hro) hdg ⟨hcs.1, hcs.2⟩) hM (fun q _ hq => hq.elim) (fun q hq => hq.elim) (fun v u t H1 locs1 ht hvm hp hB hz hk hS => ?_)
  subst hp
  exact kk H1 locs1 hS
theorem mcs_l (X : mCx p c cc nL s m args DM dA) (hM : MX DM dA h S s H locs) {r : Int} (met : ms_l l y bytes maxL ret rm As r) (hT : GoodIn lw_all (va_wsS "ManyEyesModel" idx y (ws_ y bytes maxL ret))) (hd : y.cls ≠ "java/lang/invoke/MethodHandle" ∧ y.cls ≠ "java/lang/invoke/VarHandle" ∧ (parseMethodDescriptor y.desc).map (fun d => d.parameters.length) = some As.length) (hrm : rm.cells = 0 ∧ rm.slots = 0) (hR : rm.frames + 1 ≤ R.frames ∧ 8 + (maxL + 11) + rm.locals ≤ R.locals) (hcs : cells ≤ R.cells ∧ slots ≤ R.slots) (hls : ls.size = nL) (hro : (rest.map fun v => v.category).sum ≤ 8) (hdg : decode cc pc = .ok (.invokestatic idx, 3)) (hst : st = As.reverse ++ rest)
    (kk : ∀ (H1 : Heap) (locs1 : List Loc), MX DM dA h S s H1 locs1 → W p l e R s m args below meth c H1 locs1 cells slots Q (F0 m (pc + 3) ls (.long (zl r) :: rest))) : W p l e R s m args below meth c H locs cells slots Q (F0 m pc ls st) := by
  subst hst
  refine va_calll (va_runS (As := As) (rest := rest) X.1 met (va_cwS As.length X.1.2.2.2.2 hT rfl hrm.1 hrm.2 hd hR) ⟨fun a U g mk q => q, fun U hU hW => ⟨rfl, trivial⟩⟩ rfl rfl hls rfl (lv_room hro) hdg ⟨hcs.1, hcs.2⟩) hM.2 (fun q _ hq => hq.elim) (fun q hq => hq.elim) (fun v u t H1 locs1 ht hvm hp hB hz hk hS => ?_)
  subst hp
  exact kk H1 locs1 ⟨hM.1.kept (fun k q hq => hk q.1 ((hM.1 k q hq).lt) (fun z => z)), hS⟩
abbrev mt_v (l : Launch) (y : MethodName) (bytes : ByteArray) (maxL : Nat) (rm : Room) (DM : va_G) (dA : Nat → ClassId) (h : Nat) (As : List Value) (S : xS) (S1 : xS) : Prop := Met l y (ws_ y bytes maxL none) rm (va_Pc (.ref h :: As) (MU DM dA h S)) (va_Qv (fun (u : xS) => u = S1) (fun u t => MU DM dA h u t) (mA h)) 0 0 (mA h)
theorem mc_v (X : mCx p c cc nL s m args DM dA) (hM : MX DM dA h S s H locs) {S1 : xS} (met : mt_v l y bytes maxL rm DM dA h As S S1) (hT : GoodIn lw_all (wsV "ManyEyesModel" idx "ManyEyesModel" y (ws_ y bytes maxL none))) (hd : y.cls = "ManyEyesModel" ∧ y.cls ≠ "java/lang/invoke/MethodHandle" ∧ y.cls ≠ "java/lang/invoke/VarHandle" ∧ (parseMethodDescriptor y.desc).map (fun d => d.parameters.length) = some As.length) (hrm : rm.cells = 0 ∧ rm.slots = 0) (hR : rm.frames + 1 ≤ R.frames ∧ 8 + (maxL + 11) + rm.locals ≤ R.locals) (hcs : cells ≤ R.cells ∧ slots ≤ R.slots) (hls : ls.size = nL) (hro : (rest.map fun v => v.category).sum ≤ 8) (hdg : decode cc pc = .ok (.invokevirtual idx, 3)) (hst : st = As.reverse ++ .ref h :: rest)
    (kk : ∀ (H1 : Heap) (locs1 : List Loc), MX DM dA h S1 s H1 locs1 → W p l e R s m args below meth c H1 locs1 cells slots Q (F0 m (pc + 3) ls rest)) : W p l e R s m args below meth c H locs cells slots Q (F0 m pc ls st) := by
  subst hst
  refine va_callv (va_runV (As := As) (rest := rest) X.1 met (cwV As.length X.1.2.2.2.2 hT rfl hrm.1 hrm.2 hd hR) (mu_pre X.2 hM.1) rfl rfl hls rfl (lv_room hro) hdg ⟨hcs.1, hcs.2⟩) hM.2 (fun q _ hq => hq) (fun q hq => hq) (fun u t H1 locs1 ht hvm hp hB hz hk hS => ?_)
  subst hp
  exact kk H1 locs1 ⟨by rw [← ht]; exact hB.1, hS⟩
abbrev mt_sv (l : Launch) (y : MethodName) (bytes : ByteArray) (maxL : Nat) (rm : Room) (DM : va_G) (dA : Nat → ClassId) (h : Nat) (As : List Value) (S : xS) (S1 : xS) : Prop := Met l y (ws_ y bytes maxL none) rm (va_Pc As (MU DM dA h S)) (va_Qv (fun (u : xS) => u = S1) (fun u t => MU DM dA h u t) (mA h)) 0 0 (mA h)
theorem mc_sv (X : mCx p c cc nL s m args DM dA) (hM : MX DM dA h S s H locs) {S1 : xS} (met : mt_sv l y bytes maxL rm DM dA h As S S1) (hT : GoodIn lw_all (va_wsS "ManyEyesModel" idx y (ws_ y bytes maxL none))) (hd : y.cls ≠ "java/lang/invoke/MethodHandle" ∧ y.cls ≠ "java/lang/invoke/VarHandle" ∧ (parseMethodDescriptor y.desc).map (fun d => d.parameters.length) = some As.length) (hrm : rm.cells = 0 ∧ rm.slots = 0) (hR : rm.frames + 1 ≤ R.frames ∧ 8 + (maxL + 11) + rm.locals ≤ R.locals) (hcs : cells ≤ R.cells ∧ slots ≤ R.slots) (hls : ls.size = nL) (hro : (rest.map fun v => v.category).sum ≤ 8) (hdg : decode cc pc = .ok (.invokestatic idx, 3)) (hst : st = As.reverse ++ rest)
    (kk : ∀ (H1 : Heap) (locs1 : List Loc), MX DM dA h S1 s H1 locs1 → W p l e R s m args below meth c H1 locs1 cells slots Q (F0 m (pc + 3) ls rest)) : W p l e R s m args below meth c H locs cells slots Q (F0 m pc ls st) := by
  subst hst
  refine va_callv (va_runS (As := As) (rest := rest) X.1 met (va_cwS As.length X.1.2.2.2.2 hT rfl hrm.1 hrm.2 hd hR) ⟨fun a U g mk q => ⟨q.1, q.2.1, va_K.moved (u := U) (U := U.calling g mk a) (Vm.Alike.refl U.vm) q.2.2⟩, fun U hU hW => ⟨rfl, by rw [hU]; exact hM.1, va_K.moved hW.alike X.2⟩⟩ rfl rfl hls rfl (lv_room hro) hdg ⟨hcs.1, hcs.2⟩) hM.2 (fun q _ hq => hq) (fun q hq => hq) (fun u t H1 locs1 ht hvm hp hB hz hk hS => ?_)
  subst hp
  exact kk H1 locs1 ⟨by rw [← ht]; exact hB.1, hS⟩
end MR
section MO
variable {l : Launch} {y : MethodName} {cc : ByteArray} {nL : Nat} {rm : Room} {DM : va_G} {dA : Nat → ClassId} {h : Nat} {As : List Value} {S S1 : xS}
theorem mo_i {r : Int} (hy : plainName y.cls = true) (hyc : y.cls = RX5) (hAs : (lg_sl (.ref h :: As)).length ≤ nL) (body : ∀ (p : Program) (e : Env) (s : State) (m : MethodId) (args : Array Value) (below : List Frame) (meth : Method) (c : Code) (Q : State → Prop) (ls : Array Slot), mCx p c cc nL s m args DM dA → (∀ (pc : Nat) (ls : Array Slot) (H : Heap) (locs : List Loc) (v : Int) (S2 : xS) , v = r → S2 = S1 → decode cc pc = .ok (.ireturn, 1) → MX DM dA h S2 s H locs → W p l e rm s m args below meth c H locs 0 0 Q (F0 m pc ls [.int (zi v)])) → lv_has ls nL (lv_args 0 (.ref h :: As)) → MX DM dA h S s s.heap [] → W p l e rm s m args below meth c s.heap [] 0 0 Q (F0 m 0 ls [])) : mt_i l y cc nL (some .int) rm DM dA h As S r S1 := by
  refine Met.ofW (cc := cc) (maxL := nL) (ret := some .int) hy rfl ?_
  intro p e s m args below meth c s₁ B hml hv
  obtain ⟨rfl, hP, hK⟩ := hv
  have hx := B.exec
  have hb := B.bytes
  have hr := B.returns
  have hlocks := B.notSynchronized
  have hts := atoms_spec (ws := ws_ y cc nL (some .int)) B.pre
  have hts : ∀ w ∈ lw_all, w.before _ s = true := fun w h => hts w (List.mem_cons_of_mem _ h)
  have hown : s.vm.findClass RX5 = some m.cls := by rw [← hyc]; exact findClass_of_methodNamed B.named
  have hl := lv_entry (.ref h :: As) (n := nL) hAs
  rw [lg_entry_eq]
  generalize (lg_sl (.ref h :: As) ++ List.replicate (nL - (lg_sl (.ref h :: As)).length) Slot.unset).toArray = ls at hl ⊢
  refine body p e s m _ below meth c _ ls ⟨⟨hx, hb, hml, hown, hts⟩, hK⟩ ?_ hl ⟨hP, va_S.rf⟩
  intro pc ls H locs v S2 e1 e2 hd hM
  subst e1
  subst e2
  exact W.iret hx hb hr (fun t ht hW => ⟨⟨_, _, rfl, ⟨rfl, rfl⟩, by rw [ht]; exact hM.1, va_K.moved hW.alike hK⟩, hM.2.F ht⟩) hM.2.2.2 hd
theorem mo_z {r : Bool} (hy : plainName y.cls = true) (hyc : y.cls = RX5) (hAs : (lg_sl (.ref h :: As)).length ≤ nL) (body : ∀ (p : Program) (e : Env) (s : State) (m : MethodId) (args : Array Value) (below : List Frame) (meth : Method) (c : Code) (Q : State → Prop) (ls : Array Slot), mCx p c cc nL s m args DM dA → (∀ (pc : Nat) (ls : Array Slot) (H : Heap) (locs : List Loc) (v : Bool) (S2 : xS) , v = r → S2 = S1 → decode cc pc = .ok (.ireturn, 1) → MX DM dA h S2 s H locs → W p l e rm s m args below meth c H locs 0 0 Q (F0 m pc ls [.int (zi (bz v))])) → lv_has ls nL (lv_args 0 (.ref h :: As)) → MX DM dA h S s s.heap [] → W p l e rm s m args below meth c s.heap [] 0 0 Q (F0 m 0 ls [])) : mt_z l y cc nL (some .boolean) rm DM dA h As S r S1 := by
  refine Met.ofW (cc := cc) (maxL := nL) (ret := some .boolean) hy rfl ?_
  intro p e s m args below meth c s₁ B hml hv
  obtain ⟨rfl, hP, hK⟩ := hv
  have hx := B.exec
  have hb := B.bytes
  have hr := B.returns
  have hlocks := B.notSynchronized
  have hts := atoms_spec (ws := ws_ y cc nL (some .boolean)) B.pre
  have hts : ∀ w ∈ lw_all, w.before _ s = true := fun w h => hts w (List.mem_cons_of_mem _ h)
  have hown : s.vm.findClass RX5 = some m.cls := by rw [← hyc]; exact findClass_of_methodNamed B.named
  have hl := lv_entry (.ref h :: As) (n := nL) hAs
  rw [lg_entry_eq]
  generalize (lg_sl (.ref h :: As) ++ List.replicate (nL - (lg_sl (.ref h :: As)).length) Slot.unset).toArray = ls at hl ⊢
  refine body p e s m _ below meth c _ ls ⟨⟨hx, hb, hml, hown, hts⟩, hK⟩ ?_ hl ⟨hP, va_S.rf⟩
  intro pc ls H locs v S2 e1 e2 hd hM
  subst e1
  subst e2
  exact W.zret hx hb hr (bz_nar _) (fun t ht hW => ⟨⟨_, _, rfl, ⟨rfl, rfl⟩, by rw [ht]; exact hM.1, va_K.moved hW.alike hK⟩, hM.2.F ht⟩) hM.2.2.2 hd
theorem mo_l {r : Int} (hy : plainName y.cls = true) (hyc : y.cls = RX5) (hAs : (lg_sl (.ref h :: As)).length ≤ nL) (body : ∀ (p : Program) (e : Env) (s : State) (m : MethodId) (args : Array Value) (below : List Frame) (meth : Method) (c : Code) (Q : State → Prop) (ls : Array Slot), mCx p c cc nL s m args DM dA → (∀ (pc : Nat) (ls : Array Slot) (H : Heap) (locs : List Loc) (v : Int) (S2 : xS) , v = r → S2 = S1 → decode cc pc = .ok (.lreturn, 1) → MX DM dA h S2 s H locs → W p l e rm s m args below meth c H locs 0 0 Q (F0 m pc ls [.long (zl v)])) → lv_has ls nL (lv_args 0 (.ref h :: As)) → MX DM dA h S s s.heap [] → W p l e rm s m args below meth c s.heap [] 0 0 Q (F0 m 0 ls [])) : mt_l l y cc nL (some .long) rm DM dA h As S r S1 := by
  refine Met.ofW (cc := cc) (maxL := nL) (ret := some .long) hy rfl ?_
  intro p e s m args below meth c s₁ B hml hv
  obtain ⟨rfl, hP, hK⟩ := hv
  have hx := B.exec
  have hb := B.bytes
  have hr := B.returns
  have hlocks := B.notSynchronized
  have hts := atoms_spec (ws := ws_ y cc nL (some .long)) B.pre
  have hts : ∀ w ∈ lw_all, w.before _ s = true := fun w h => hts w (List.mem_cons_of_mem _ h)
  have hown : s.vm.findClass RX5 = some m.cls := by rw [← hyc]; exact findClass_of_methodNamed B.named
  have hl := lv_entry (.ref h :: As) (n := nL) hAs
  rw [lg_entry_eq]
  generalize (lg_sl (.ref h :: As) ++ List.replicate (nL - (lg_sl (.ref h :: As)).length) Slot.unset).toArray = ls at hl ⊢
  refine body p e s m _ below meth c _ ls ⟨⟨hx, hb, hml, hown, hts⟩, hK⟩ ?_ hl ⟨hP, va_S.rf⟩
  intro pc ls H locs v S2 e1 e2 hd hM
  subst e1
  subst e2
  exact W.lret hx hb hr (fun t ht hW => ⟨⟨_, _, rfl, ⟨rfl, rfl⟩, by rw [ht]; exact hM.1, va_K.moved hW.alike hK⟩, hM.2.F ht⟩) hM.2.2.2 hd
theorem mo_v (hy : plainName y.cls = true) (hyc : y.cls = RX5) (hAs : (lg_sl (.ref h :: As)).length ≤ nL) (body : ∀ (p : Program) (e : Env) (s : State) (m : MethodId) (args : Array Value) (below : List Frame) (meth : Method) (c : Code) (Q : State → Prop) (ls : Array Slot), mCx p c cc nL s m args DM dA → (∀ (pc : Nat) (ls : Array Slot) (H : Heap) (locs : List Loc) (S2 : xS) , S2 = S1 → decode cc pc = .ok (.return_, 1) → MX DM dA h S2 s H locs → W p l e rm s m args below meth c H locs 0 0 Q (F0 m pc ls [])) → lv_has ls nL (lv_args 0 (.ref h :: As)) → MX DM dA h S s s.heap [] → W p l e rm s m args below meth c s.heap [] 0 0 Q (F0 m 0 ls [])) : mt_v l y cc nL rm DM dA h As S S1 := by
  refine Met.ofW (cc := cc) (maxL := nL) (ret := none) hy rfl ?_
  intro p e s m args below meth c s₁ B hml hv
  obtain ⟨rfl, hP, hK⟩ := hv
  have hx := B.exec
  have hb := B.bytes
  have hr := B.returns
  have hlocks := B.notSynchronized
  have hts := atoms_spec (ws := ws_ y cc nL (none)) B.pre
  have hts : ∀ w ∈ lw_all, w.before _ s = true := fun w h => hts w (List.mem_cons_of_mem _ h)
  have hown : s.vm.findClass RX5 = some m.cls := by rw [← hyc]; exact findClass_of_methodNamed B.named
  have hl := lv_entry (.ref h :: As) (n := nL) hAs
  rw [lg_entry_eq]
  generalize (lg_sl (.ref h :: As) ++ List.replicate (nL - (lg_sl (.ref h :: As)).length) Slot.unset).toArray = ls at hl ⊢
  refine body p e s m _ below meth c _ ls ⟨⟨hx, hb, hml, hown, hts⟩, hK⟩ ?_ hl ⟨hP, va_S.rf⟩
  intro pc ls H locs S2 e2 hd hM
  skip
  subst e2
  exact W.vret hx hb hr (fun t ht hW => ⟨⟨_, rfl, rfl, by rw [ht]; exact hM.1, va_K.moved hW.alike hK⟩, hM.2.F ht⟩) hM.2.2.2 hd
theorem mo_si {r : Int} (hy : plainName y.cls = true) (hyc : y.cls = RX5) (hAs : (lg_sl (As)).length ≤ nL) (body : ∀ (p : Program) (e : Env) (s : State) (m : MethodId) (args : Array Value) (below : List Frame) (meth : Method) (c : Code) (Q : State → Prop) (ls : Array Slot), sCx p c cc nL s m args → (∀ (pc : Nat) (ls : Array Slot) (H : Heap) (locs : List Loc) (v : Int) , v = r → decode cc pc = .ok (.ireturn, 1) → va_S (fun _ => False) s.heap H locs → W p l e rm s m args below meth c H locs 0 0 Q (F0 m pc ls [.int (zi v)])) → lv_has ls nL (lv_args 0 (As)) → va_S (fun _ => False) s.heap s.heap [] → W p l e rm s m args below meth c s.heap [] 0 0 Q (F0 m 0 ls [])) : ms_i l y cc nL (some .int) rm As r := by
  refine Met.ofW (cc := cc) (maxL := nL) (ret := some .int) hy rfl ?_
  intro p e s m args below meth c s₁ B hml hv
  obtain ⟨rfl, -⟩ := hv
  have hx := B.exec
  have hb := B.bytes
  have hr := B.returns
  have hlocks := B.notSynchronized
  have hts := atoms_spec (ws := ws_ y cc nL (some .int)) B.pre
  have hts : ∀ w ∈ lw_all, w.before _ s = true := fun w h => hts w (List.mem_cons_of_mem _ h)
  have hown : s.vm.findClass RX5 = some m.cls := by rw [← hyc]; exact findClass_of_methodNamed B.named
  have hl := lv_entry (As) (n := nL) hAs
  rw [lg_entry_eq]
  generalize (lg_sl (As) ++ List.replicate (nL - (lg_sl (As)).length) Slot.unset).toArray = ls at hl ⊢
  refine body p e s m _ below meth c _ ls ⟨hx, hb, hml, hown, hts⟩ ?_ hl va_S.rf
  intro pc ls H locs v e1 hd hM
  subst e1
  skip
  exact W.iret hx hb hr (fun t ht hW => ⟨⟨_, (), rfl, rfl, trivial⟩, hM.F ht⟩) hM.2.2 hd
theorem mo_sz {r : Bool} (hy : plainName y.cls = true) (hyc : y.cls = RX5) (hAs : (lg_sl (As)).length ≤ nL) (body : ∀ (p : Program) (e : Env) (s : State) (m : MethodId) (args : Array Value) (below : List Frame) (meth : Method) (c : Code) (Q : State → Prop) (ls : Array Slot), sCx p c cc nL s m args → (∀ (pc : Nat) (ls : Array Slot) (H : Heap) (locs : List Loc) (v : Bool) , v = r → decode cc pc = .ok (.ireturn, 1) → va_S (fun _ => False) s.heap H locs → W p l e rm s m args below meth c H locs 0 0 Q (F0 m pc ls [.int (zi (bz v))])) → lv_has ls nL (lv_args 0 (As)) → va_S (fun _ => False) s.heap s.heap [] → W p l e rm s m args below meth c s.heap [] 0 0 Q (F0 m 0 ls [])) : ms_z l y cc nL (some .boolean) rm As r := by
  refine Met.ofW (cc := cc) (maxL := nL) (ret := some .boolean) hy rfl ?_
  intro p e s m args below meth c s₁ B hml hv
  obtain ⟨rfl, -⟩ := hv
  have hx := B.exec
  have hb := B.bytes
  have hr := B.returns
  have hlocks := B.notSynchronized
  have hts := atoms_spec (ws := ws_ y cc nL (some .boolean)) B.pre
  have hts : ∀ w ∈ lw_all, w.before _ s = true := fun w h => hts w (List.mem_cons_of_mem _ h)
  have hown : s.vm.findClass RX5 = some m.cls := by rw [← hyc]; exact findClass_of_methodNamed B.named
  have hl := lv_entry (As) (n := nL) hAs
  rw [lg_entry_eq]
  generalize (lg_sl (As) ++ List.replicate (nL - (lg_sl (As)).length) Slot.unset).toArray = ls at hl ⊢
  refine body p e s m _ below meth c _ ls ⟨hx, hb, hml, hown, hts⟩ ?_ hl va_S.rf
  intro pc ls H locs v e1 hd hM
  subst e1
  skip
  exact W.zret hx hb hr (bz_nar _) (fun t ht hW => ⟨⟨_, (), rfl, rfl, trivial⟩, hM.F ht⟩) hM.2.2 hd
theorem mo_sl {r : Int} (hy : plainName y.cls = true) (hyc : y.cls = RX5) (hAs : (lg_sl (As)).length ≤ nL) (body : ∀ (p : Program) (e : Env) (s : State) (m : MethodId) (args : Array Value) (below : List Frame) (meth : Method) (c : Code) (Q : State → Prop) (ls : Array Slot), sCx p c cc nL s m args → (∀ (pc : Nat) (ls : Array Slot) (H : Heap) (locs : List Loc) (v : Int) , v = r → decode cc pc = .ok (.lreturn, 1) → va_S (fun _ => False) s.heap H locs → W p l e rm s m args below meth c H locs 0 0 Q (F0 m pc ls [.long (zl v)])) → lv_has ls nL (lv_args 0 (As)) → va_S (fun _ => False) s.heap s.heap [] → W p l e rm s m args below meth c s.heap [] 0 0 Q (F0 m 0 ls [])) : ms_l l y cc nL (some .long) rm As r := by
  refine Met.ofW (cc := cc) (maxL := nL) (ret := some .long) hy rfl ?_
  intro p e s m args below meth c s₁ B hml hv
  obtain ⟨rfl, -⟩ := hv
  have hx := B.exec
  have hb := B.bytes
  have hr := B.returns
  have hlocks := B.notSynchronized
  have hts := atoms_spec (ws := ws_ y cc nL (some .long)) B.pre
  have hts : ∀ w ∈ lw_all, w.before _ s = true := fun w h => hts w (List.mem_cons_of_mem _ h)
  have hown : s.vm.findClass RX5 = some m.cls := by rw [← hyc]; exact findClass_of_methodNamed B.named
  have hl := lv_entry (As) (n := nL) hAs
  rw [lg_entry_eq]
  generalize (lg_sl (As) ++ List.replicate (nL - (lg_sl (As)).length) Slot.unset).toArray = ls at hl ⊢
  refine body p e s m _ below meth c _ ls ⟨hx, hb, hml, hown, hts⟩ ?_ hl va_S.rf
  intro pc ls H locs v e1 hd hM
  subst e1
  skip
  exact W.lret hx hb hr (fun t ht hW => ⟨⟨_, (), rfl, rfl, trivial⟩, hM.F ht⟩) hM.2.2 hd
theorem mo_sv (hy : plainName y.cls = true) (hyc : y.cls = RX5) (hAs : (lg_sl (As)).length ≤ nL) (body : ∀ (p : Program) (e : Env) (s : State) (m : MethodId) (args : Array Value) (below : List Frame) (meth : Method) (c : Code) (Q : State → Prop) (ls : Array Slot), mCx p c cc nL s m args DM dA → (∀ (pc : Nat) (ls : Array Slot) (H : Heap) (locs : List Loc) (S2 : xS) , S2 = S1 → decode cc pc = .ok (.return_, 1) → MX DM dA h S2 s H locs → W p l e rm s m args below meth c H locs 0 0 Q (F0 m pc ls [])) → lv_has ls nL (lv_args 0 (As)) → MX DM dA h S s s.heap [] → W p l e rm s m args below meth c s.heap [] 0 0 Q (F0 m 0 ls [])) : mt_sv l y cc nL rm DM dA h As S S1 := by
  refine Met.ofW (cc := cc) (maxL := nL) (ret := none) hy rfl ?_
  intro p e s m args below meth c s₁ B hml hv
  obtain ⟨rfl, hP, hK⟩ := hv
  have hx := B.exec
  have hb := B.bytes
  have hr := B.returns
  have hlocks := B.notSynchronized
  have hts := atoms_spec (ws := ws_ y cc nL (none)) B.pre
  have hts : ∀ w ∈ lw_all, w.before _ s = true := fun w h => hts w (List.mem_cons_of_mem _ h)
  have hown : s.vm.findClass RX5 = some m.cls := by rw [← hyc]; exact findClass_of_methodNamed B.named
  have hl := lv_entry (As) (n := nL) hAs
  rw [lg_entry_eq]
  generalize (lg_sl (As) ++ List.replicate (nL - (lg_sl (As)).length) Slot.unset).toArray = ls at hl ⊢
  refine body p e s m _ below meth c _ ls ⟨⟨hx, hb, hml, hown, hts⟩, hK⟩ ?_ hl ⟨hP, va_S.rf⟩
  intro pc ls H locs S2 e2 hd hM
  skip
  subst e2
  exact W.vret hx hb hr (fun t ht hW => ⟨⟨_, rfl, rfl, by rw [ht]; exact hM.1, va_K.moved hW.alike hK⟩, hM.2.F ht⟩) hM.2.2.2 hd
end MO
