set_option maxRecDepth 100000
/-! Integer.bitCount of small numbers -/
def tN (i : Int32) : Nat := i.toBitVec.toNat
theorem tN_and (a b : Int32) : tN (a &&& b) = tN a &&& tN b := by
  unfold tN
  rw [Int32.toBitVec_and, BitVec.toNat_and]
theorem tN_add (a b : Int32) : tN (a + b) = (tN a + tN b) % 4294967296 := by
  unfold tN
  rw [Int32.toBitVec_add, BitVec.toNat_add]
theorem tN_sub (a b : Int32) : tN (a - b) = (4294967296 - tN b + tN a) % 4294967296 := by
  unfold tN
  rw [Int32.toBitVec_sub, BitVec.toNat_sub]
theorem tN_ush (a b : Int32) {k : Nat} (hk : (b.toUInt32 &&& Int32.toUInt32 31).toNat % 32 = k) : tN (ush a b) = tN a / 2 ^ k := by
  have h : tN (ush a b) = (a.toUInt32 >>> (b.toUInt32 &&& Int32.toUInt32 31)).toNat := rfl
  rw [h, UInt32.toNat_shiftRight, hk, Nat.shiftRight_eq_div_pow]
  rfl
def bcN (x : Nat) : Nat := 
  (fun x1 => (fun x2 => (fun x3 => (fun x4 => (x4 + x4 / 65536) &&& 63) (x3 + x3 / 256)) ((x2 + x2 / 16) &&& 252645135)) ((x1 &&& 858993459) + ((x1 / 4) &&& 858993459))) (x - ((x / 2) &&& 1431655765))
theorem tN_zi {x : Int} (h : 0 ≤ x ∧ x < 131072) : tN (zi x) = x.toNat := by
  show (BitVec.ofInt 32 x).toNat = _
  rw [BitVec.toNat_ofInt]
  have : x % (4294967296 : Int) = x := Int.emod_eq_of_lt h.1 (by omega)
  show (x % (4294967296 : Int)).toNat = _
  rw [this]
theorem toInt_tN {i : Int32} (h : tN i < 2147483648) : i.toInt = (tN i : Int) := by
  show i.toBitVec.toInt = _
  rw [BitVec.toInt_eq_toNat_cond, if_pos (by unfold tN at h; omega)]
  rfl
theorem bc_e {x : Int} (h : 0 ≤ x ∧ x < 131072) : In_bitCount x = some (bcN x.toNat : Int) := by
  unfold In_bitCount
  refine congrArg some ?_
  have e0 := tN_zi h
  obtain ⟨n, hn⟩ : ∃ n, n = x.toNat := ⟨_, rfl⟩
  have hnb : n < 131072 := by omega
  have e1 : tN (bc1 (zi x)) = n - ((n / 2) &&& 1431655765) := by
    unfold bc1
    rw [tN_sub, tN_and, tN_ush _ _ (k := 1) (by decide), e0, ← hn]
    have hb : ((n / 2 ^ 1) &&& tN 1431655765) ≤ n / 2 := Nat.and_le_left
    rw [show tN 1431655765 = 1431655765 by decide, show n / 2 ^ 1 = n / 2 by rfl] at hb ⊢
    omega
  have b1 : n - ((n / 2) &&& 1431655765) < 131072 := by omega
  obtain ⟨n1, hn1⟩ : ∃ n1, n1 = n - ((n / 2) &&& 1431655765) := ⟨_, rfl⟩
  rw [← hn1] at e1 b1
  have e2 : tN (bc2 (bc1 (zi x))) = (n1 &&& 858993459) + ((n1 / 4) &&& 858993459) := by
    unfold bc2
    rw [tN_add, tN_and, tN_and, tN_ush _ _ (k := 2) (by decide), e1, show tN 858993459 = 858993459 by decide, show n1 / 2 ^ 2 = n1 / 4 by rfl]
    have h1 : n1 &&& 858993459 ≤ n1 := Nat.and_le_left
    have h2 : (n1 / 4) &&& 858993459 ≤ n1 / 4 := Nat.and_le_left
    omega
  have b2 : (n1 &&& 858993459) + ((n1 / 4) &&& 858993459) < 262144 := by
    have h1 : n1 &&& 858993459 ≤ n1 := Nat.and_le_left
    have h2 : (n1 / 4) &&& 858993459 ≤ n1 / 4 := Nat.and_le_left
    omega
  obtain ⟨n2, hn2⟩ : ∃ n2, n2 = (n1 &&& 858993459) + ((n1 / 4) &&& 858993459) := ⟨_, rfl⟩
  rw [← hn2] at e2 b2
  have e3 : tN (bc3 (bc2 (bc1 (zi x)))) = (n2 + n2 / 16) &&& 252645135 := by
    unfold bc3
    rw [tN_and, tN_add, tN_ush _ _ (k := 4) (by decide), e2, show tN 252645135 = 252645135 by decide, show n2 / 2 ^ 4 = n2 / 16 by rfl, Nat.mod_eq_of_lt (by omega)]
  have b3 : (n2 + n2 / 16) &&& 252645135 < 524288 := by
    have : (n2 + n2 / 16) &&& 252645135 ≤ n2 + n2 / 16 := Nat.and_le_left
    omega
  obtain ⟨n3, hn3⟩ : ∃ n3, n3 = (n2 + n2 / 16) &&& 252645135 := ⟨_, rfl⟩
  rw [← hn3] at e3 b3
  have e4 : tN (bc4 (bc3 (bc2 (bc1 (zi x))))) = n3 + n3 / 256 := by
    unfold bc4
    rw [tN_add, tN_ush _ _ (k := 8) (by decide), e3, show n3 / 2 ^ 8 = n3 / 256 by rfl, Nat.mod_eq_of_lt (by omega)]
  obtain ⟨n4, hn4⟩ : ∃ n4, n4 = n3 + n3 / 256 := ⟨_, rfl⟩
  rw [← hn4] at e4
  have e5 : tN (bc5 (bc4 (bc3 (bc2 (bc1 (zi x)))))) = n4 + n4 / 65536 := by
    unfold bc5
    rw [tN_add, tN_ush _ _ (k := 16) (by decide), e4, show n4 / 2 ^ 16 = n4 / 65536 by rfl, Nat.mod_eq_of_lt (by omega)]
  have e6 : tN (bcI (zi x)) = (n4 + n4 / 65536) &&& 63 := by
    unfold bcI
    rw [tN_and, e5, show tN 63 = 63 by decide]
  have b6 : (n4 + n4 / 65536) &&& 63 ≤ 63 := Nat.and_le_right
  rw [toInt_tN (by omega), e6]
  show _ = ((bcN x.toNat : Nat) : Int)
  rw [← hn]
  show ((_ : Nat) : Int) = (((fun x1 => (fun x2 => (fun x3 => (fun x4 => (x4 + x4 / 65536) &&& 63) (x3 + x3 / 256)) ((x2 + x2 / 16) &&& 252645135)) ((x1 &&& 858993459) + ((x1 / 4) &&& 858993459))) (n - ((n / 2) &&& 1431655765)) : Nat) : Int)
  rw [← hn1]
  dsimp only
  rw [← hn2, ← hn3, ← hn4]
/-- the ones of a number -/
def pop : Nat → Nat → Nat
  | 0, _ => 0
  | n + 1, a => a % 2 + pop n (a / 2)
theorem pop_ext : ∀ (k y : Nat), y < 2 ^ k → pop (k + 1) y = pop k y := by
  intro k
  induction k with
  | zero => intro y h; have : y = 0 := by simpa using h
            subst this; rfl
  | succ k ih =>
    intro y h
    show y % 2 + pop (k + 1) (y / 2) = y % 2 + pop k (y / 2)
    rw [ih (y / 2) (by rw [Nat.pow_succ] at h; omega)]
theorem pop_top : ∀ (k y : Nat), y < 2 ^ k → pop (k + 1) (2 ^ k + y) = 1 + pop k y := by
  intro k
  induction k with
  | zero => intro y h; have : y = 0 := by simpa using h
            subst this; rfl
  | succ k ih =>
    intro y h
    show (2 ^ (k + 1) + y) % 2 + pop (k + 1) ((2 ^ (k + 1) + y) / 2) = 1 + (y % 2 + pop k (y / 2))
    rw [Nat.pow_succ] at h ⊢
    rw [show (2 ^ k * 2 + y) / 2 = 2 ^ k + y / 2 by omega, ih (y / 2) (by omega)]
    omega
def chkN : Nat → Nat → Nat → Bool
  | 0, x, c => Nat.beq (bcN x) c
  | k + 1, x, c => chkN k x c && chkN k (x + 2 ^ k) (c + 1)
theorem chk_ok : ∀ (k x c : Nat), chkN k x c = true → ∀ y, y < 2 ^ k → bcN (x + y) = c + pop k y := by
  intro k
  induction k with
  | zero =>
    intro x c h y hy
    have : y = 0 := by simpa using hy
    subst this
    exact Nat.eq_of_beq_eq_true h
  | succ k ih =>
    intro x c h y hy
    have h2 : chkN k x c = true ∧ chkN k (x + 2 ^ k) (c + 1) = true := by
      have h3 : (chkN k x c && chkN k (x + 2 ^ k) (c + 1)) = true := h
      exact Bool.and_eq_true_iff.mp h3
    rw [Nat.pow_succ] at hy
    by_cases g : y < 2 ^ k
    · rw [ih x c h2.1 y g, pop_ext k y g]
    · have := ih (x + 2 ^ k) (c + 1) h2.2 (y - 2 ^ k) (by omega)
      rw [show x + 2 ^ k + (y - 2 ^ k) = x + y by omega] at this
      have e := pop_top k (y - 2 ^ k) (by omega)
      rw [show 2 ^ k + (y - 2 ^ k) = y by omega] at e
      omega
theorem chk17 : chkN 17 0 0 = true := by decide +kernel
theorem bit_count {x : Int} (h : 0 ≤ x ∧ x < 131072) : In_bitCount x = some (pop 17 x.toNat : Int) := by
  rw [bc_e h]
  have := chk_ok 17 0 0 chk17 x.toNat (by show x.toNat < 131072; omega)
  rw [Nat.zero_add, Nat.zero_add] at this
  rw [this]
