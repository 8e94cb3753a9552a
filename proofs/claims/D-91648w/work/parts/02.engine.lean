/-! numbers: every int and long of the machine is named by a whole number -/
set_option maxRecDepth 100000
def zi (z : Int) : Int32 := Int32.ofInt z
def zl (z : Int) : Int64 := Int64.ofInt z
abbrev r32 (z : Int) : Prop := -2147483648 ≤ z ∧ z ≤ 2147483647
abbrev r64 (z : Int) : Prop := -9223372036854775808 ≤ z ∧ z ≤ 9223372036854775807
theorem zi_toInt {z : Int} (h : r32 z) : (zi z).toInt = z := Int32.toInt_ofInt_of_le (by have := h.1; omega) (by have := h.2; omega)
theorem zl_toInt {z : Int} (h : r64 z) : (zl z).toInt = z := Int64.toInt_ofInt_of_le (by have := h.1; omega) (by have := h.2; omega)
theorem zi_of (x : Int32) : zi x.toInt = x := Int32.ofInt_toInt x
theorem zl_of (x : Int64) : zl x.toInt = x := Int64.ofInt_toInt x
theorem zi_r (x : Int32) : r32 x.toInt := ⟨by have := x.le_toInt; omega, by have := x.toInt_lt; omega⟩
theorem zl_r (x : Int64) : r64 x.toInt := ⟨by have := x.le_toInt; omega, by have := x.toInt_lt; omega⟩
theorem zi_add (a b : Int) : zi a + zi b = zi (a + b) := (Int32.ofInt_add a b).symm
theorem zi_sub (a b : Int) : zi a - zi b = zi (a - b) := (Int32.ofInt_sub a b).symm
theorem zi_mul (a b : Int) : zi a * zi b = zi (a * b) := (Int32.ofInt_mul a b).symm
theorem zi_neg (a : Int) : -zi a = zi (-a) := (Int32.ofInt_neg a).symm
theorem zl_add (a b : Int) : zl a + zl b = zl (a + b) := (Int64.ofInt_add a b).symm
theorem zl_sub (a b : Int) : zl a - zl b = zl (a - b) := (Int64.ofInt_sub a b).symm
theorem zl_mul (a b : Int) : zl a * zl b = zl (a * b) := (Int64.ofInt_mul a b).symm
theorem zl_neg (a : Int) : -zl a = zl (-a) := (Int64.ofInt_neg a).symm
theorem zi_lt {a b : Int} (ha : r32 a) (hb : r32 b) : zi a < zi b ↔ a < b := by rw [Int32.lt_iff_toInt_lt, zi_toInt ha, zi_toInt hb]
theorem zi_le {a b : Int} (ha : r32 a) (hb : r32 b) : zi a ≤ zi b ↔ a ≤ b := by rw [Int32.le_iff_toInt_le, zi_toInt ha, zi_toInt hb]
theorem zi_eq {a b : Int} (ha : r32 a) (hb : r32 b) : zi a = zi b ↔ a = b := by rw [← Int32.toInt_inj, zi_toInt ha, zi_toInt hb]
theorem zl_lt {a b : Int} (ha : r64 a) (hb : r64 b) : zl a < zl b ↔ a < b := by rw [Int64.lt_iff_toInt_lt, zl_toInt ha, zl_toInt hb]
theorem zl_le {a b : Int} (ha : r64 a) (hb : r64 b) : zl a ≤ zl b ↔ a ≤ b := by rw [Int64.le_iff_toInt_le, zl_toInt ha, zl_toInt hb]
theorem zl_eq {a b : Int} (ha : r64 a) (hb : r64 b) : zl a = zl b ↔ a = b := by rw [← Int64.toInt_inj, zl_toInt ha, zl_toInt hb]
theorem zi_div {a b : Int} (ha : r32 a) (hb : r32 b) : zi a / zi b = zi (a.tdiv b) := by
  apply Int32.toInt_inj.mp
  rw [Int32.toInt_div, zi_toInt ha, zi_toInt hb]
  exact Int32.toInt_ofInt.symm
theorem zl_div {a b : Int} (ha : r64 a) (hb : r64 b) : zl a / zl b = zl (a.tdiv b) := by
  apply Int64.toInt_inj.mp
  rw [Int64.toInt_div, zl_toInt ha, zl_toInt hb]
  exact Int64.toInt_ofInt.symm
theorem zi_rem {a b : Int} (ha : r32 a) (hb : r32 b) : zi a - zi a / zi b * zi b = zi (a.tmod b) := by
  rw [zi_div ha hb, zi_mul, zi_sub]
  congr 1
  have := Int.mul_tdiv_add_tmod a b
  rw [Int.mul_comm] at this
  omega
theorem zi_ne0 {b : Int} (hb : r32 b) (h : b ≠ 0) : ¬ zi b = 0 := fun q => h ((zi_eq hb (by decide)).mp (q.trans (show (0 : Int32) = zi 0 from rfl)))
theorem zl_ne0 {b : Int} (hb : r64 b) (h : b ≠ 0) : ¬ zl b = 0 := fun q => h ((zl_eq hb (by decide)).mp (q.trans (show (0 : Int64) = zl 0 from rfl)))
theorem zi_l {a : Int} (ha : r32 a) : (zi a).toInt64 = zl a := by
  apply Int64.toInt_inj.mp
  rw [Int32.toInt_toInt64, zi_toInt ha, zl_toInt (by have := ha.1; have := ha.2; omega)]
theorem zl_i (a : Int) : (zl a).toInt32 = zi a := Int64.toInt32_ofInt
theorem zi_b (a : Int) : (zi a).toInt8.toInt32 = zi (a.bmod 256) := by
  apply Int32.toInt_inj.mp
  rw [Int8.toInt_toInt32]
  show (Int32.ofInt a).toInt8.toInt = _
  rw [Int32.toInt8_ofInt, Int8.toInt_ofInt]
  have h1 : a.bmod 256 = a.bmod Int8.size := rfl
  rw [← h1]
  have h2 : -128 ≤ a.bmod 256 := Int.le_bmod (by decide)
  have h3 : a.bmod 256 < 128 := Int.bmod_lt (by decide)
  exact (zi_toInt ⟨by omega, by omega⟩).symm
/-- an index -/
theorem zi_in {i : Int} {n : Nat} (h : 0 ≤ i ∧ i < (n : Int)) (hn : n < 2147483648) : vp_in (zi i) n := by
  rw [vp_in_iff, zi_toInt (by omega)]
  exact h
theorem zi_cl {i : Int} (h : 0 ≤ i ∧ i < 2147483648) : (zi i).toNatClampNeg = i.toNat := by
  have : (zi i).toInt = i := zi_toInt (by omega)
  show (zi i).toInt.toNat = _
  rw [this]
theorem zi_cast {i : Int} (h : 0 ≤ i ∧ i < 2147483648) : (((zi i).toNatClampNeg : Nat) : Int) = i := by rw [zi_cl h]; omega
/-- bits -/
def zor (a b : Int) : Int := ((a.toNat ||| b.toNat : Nat) : Int)
theorem zi_nat {a : Int} (h : 0 ≤ a) : zi a = nI a.toNat := by
  unfold zi nI
  rw [← Int32.ofInt_eq_ofNat]
  congr 1
  omega
theorem zl_nat {a : Int} (h : 0 ≤ a) : zl a = lN a.toNat := by
  unfold zl lN
  rw [← Int64.ofInt_eq_ofNat]
  congr 1
  omega
theorem zi_or {a b : Int} (ha : 0 ≤ a) (hb : 0 ≤ b) : zi a ||| zi b = zi (zor a b) := by
  rw [zi_nat ha, zi_nat hb, zi_nat (show 0 ≤ zor a b by unfold zor; omega)]
  unfold zor
  rw [Int.toNat_natCast]
  apply Int32.toBitVec.inj
  show BitVec.ofNat 32 _ ||| BitVec.ofNat 32 _ = BitVec.ofNat 32 _
  rw [BitVec.ofNat_or]
theorem zl_or {a b : Int} (ha : 0 ≤ a) (hb : 0 ≤ b) : zl a ||| zl b = zl (zor a b) := by
  rw [zl_nat ha, zl_nat hb, zl_nat (show 0 ≤ zor a b by unfold zor; omega)]
  unfold zor
  rw [Int.toNat_natCast]
  apply Int64.toBitVec.inj
  show BitVec.ofNat 64 _ ||| BitVec.ofNat 64 _ = BitVec.ofNat 64 _
  rw [BitVec.ofNat_or]
/-- a mask of k ones -/
theorem zi_mask (a : Int) {k : Nat} (hk : k ≤ 30) {b : Int} (hb : b = 2 ^ k - 1) : zi a &&& zi b = zi (a % 2 ^ k) := by
  have h2 : (2 : Nat) ^ k ≤ 2 ^ 30 := Nat.pow_le_pow_right (by decide) hk
  have h1 : (1 : Nat) ≤ 2 ^ k := Nat.one_le_two_pow
  have hbn : zi b = nI (2 ^ k - 1) := by
    have hc : ((2 : Int) ^ k) = (((2 : Nat) ^ k : Nat) : Int) := by norm_cast
    rw [hb, hc, zi_nat (by omega)]
    congr 1
    omega
  rw [hbn, pk_and (zi a) k (pk_tn (by omega))]
  rw [zi_nat (Int.emod_nonneg _ (by have := Int.pow_pos (n := 2) (m := k) (by decide); omega))]
  congr 1
  show (BitVec.ofInt 32 a).toNat % 2 ^ k = _
  rw [BitVec.toNat_ofInt]
  have hd : (2 ^ k : Int) ∣ 4294967296 := ⟨2 ^ (32 - k), by rw [← Int.pow_add, show k + (32 - k) = 32 by omega]; rfl⟩
  have e1 : ((a % (4294967296 : Int)).toNat : Int) = a % 4294967296 := Int.toNat_of_nonneg (Int.emod_nonneg _ (by decide))
  have e2 : (((a % (4294967296 : Int)).toNat % 2 ^ k : Nat) : Int) = a % 2 ^ k := by
    rw [Int.natCast_emod, e1, Int.natCast_pow]
    exact Int.emod_emod_of_dvd a hd
  have e3 : ((a % 2 ^ k : Int).toNat : Int) = a % 2 ^ k := Int.toNat_of_nonneg (Int.emod_nonneg _ (by have := Int.pow_pos (n := 2) (m := k) (by decide); omega))
  have : (((a % (4294967296 : Int)).toNat % 2 ^ k : Nat) : Int) = ((a % 2 ^ k : Int).toNat : Int) := by rw [e2, e3]
  exact Int.ofNat.inj this
/-- shifts by a number of places from 0 to 31 -/
theorem zi_sh31 : ∀ n, n < 32 → ((nI n &&& 31).toBitVec.smod 32).toNat = n := by decide +kernel
theorem zi_shr {a b : Int} (ha : r32 a) (hb : 0 ≤ b ∧ b ≤ 31) : zi a >>> (zi b &&& 31) = zi (a / 2 ^ b.toNat) := by
  apply Int32.toInt_inj.mp
  rw [zi_nat hb.1, pk_shr _ _ b.toNat (zi_sh31 _ (by omega)), zi_toInt ha, Int.shiftRight_eq_div_pow]
  have hp : (1 : Int) ≤ 2 ^ b.toNat := Int.pow_pos (by decide)
  have h1 : a / (2 ^ b.toNat : Int) ≤ 2147483647 := by
    have := ha.2
    exact Int.ediv_le_of_le_mul (by omega) (by
      have : (2147483647 : Int) * 1 ≤ 2147483647 * 2 ^ b.toNat := Int.mul_le_mul_of_nonneg_left hp (by decide)
      omega)
  have h2 : -2147483648 ≤ a / (2 ^ b.toNat : Int) := by
    have := ha.1
    exact Int.le_ediv_of_mul_le (by omega) (by
      have : (2147483648 : Int) * 1 ≤ 2147483648 * 2 ^ b.toNat := Int.mul_le_mul_of_nonneg_left hp (by decide)
      omega)
  rw [zi_toInt ⟨h2, h1⟩]
  norm_cast
theorem zi_shl {a b : Int} (ha : 0 ≤ a) (hb : 0 ≤ b ∧ b ≤ 31) (hr : a * 2 ^ b.toNat < 4294967296) : zi a <<< (zi b &&& 31) = zi (a * 2 ^ b.toNat) := by
  have hp : (1 : Int) ≤ 2 ^ b.toNat := Int.pow_pos (by decide)
  have h0 : 0 ≤ a * 2 ^ b.toNat := Int.mul_nonneg ha (by omega)
  have e : (a * 2 ^ b.toNat).toNat = a.toNat * 2 ^ b.toNat := by
    have : ((a.toNat * 2 ^ b.toNat : Nat) : Int) = a * 2 ^ b.toNat := by
      rw [Int.natCast_mul, Int.natCast_pow, Int.toNat_of_nonneg ha]
      rfl
    omega
  rw [zi_nat h0, zi_nat ha, zi_nat hb.1, e]
  exact pk_shlN _ b.toNat (zi_sh31 _ (by omega)) (by omega)
theorem zl_sh63 : ∀ n, n < 64 → ((nI n).toInt64 &&& 63).toBitVec.smod 64 = BitVec.ofNat 64 n := by decide +kernel
theorem zl_shl {a b : Int} (ha : 0 ≤ a) (hb : 0 ≤ b ∧ b ≤ 63) (hr : a * 2 ^ b.toNat < 18446744073709551616) : zl a <<< ((zi b).toInt64 &&& 63) = zl (a * 2 ^ b.toNat) := by
  have hp : (1 : Int) ≤ 2 ^ b.toNat := Int.pow_pos (by decide)
  have h0 : 0 ≤ a * 2 ^ b.toNat := Int.mul_nonneg ha (by omega)
  have e : (a * 2 ^ b.toNat).toNat = a.toNat * 2 ^ b.toNat := by
    have : ((a.toNat * 2 ^ b.toNat : Nat) : Int) = a * 2 ^ b.toNat := by
      rw [Int.natCast_mul, Int.natCast_pow, Int.toNat_of_nonneg ha]
      rfl
    omega
  have h1 : a.toNat * 2 ^ b.toNat < 18446744073709551616 := by omega
  have hb64 : b.toNat < 64 := by omega
  rw [zl_nat h0, zl_nat ha, zi_nat hb.1, e]
  apply Int64.toBitVec.inj
  apply BitVec.eq_of_toNat_eq
  show (BitVec.ofNat 64 a.toNat <<< (((nI b.toNat).toInt64 &&& 63).toBitVec.smod 64)).toNat = _
  rw [zl_sh63 _ hb64, BitVec.shiftLeft_eq', BitVec.toNat_shiftLeft, BitVec.toNat_ofNat, BitVec.toNat_ofNat]
  show _ = (BitVec.ofNat 64 _).toNat
  rw [BitVec.toNat_ofNat, Nat.shiftLeft_eq, Nat.mod_eq_of_lt (show b.toNat < 2 ^ 64 by omega)]
  rw [Nat.mod_mul_mod]
/-- what a shallow text is made of -/
def gd {α : Type} (c : Prop) [Decidable c] (x : Option α) : Option α := if c then x else none
theorem gd_inv {α : Type} {c : Prop} [Decidable c] {x : Option α} {r : α} (h : gd c x = some r) : c ∧ x = some r := by
  unfold gd at h
  split at h
  · exact ⟨‹c›, h⟩
  · cases h
theorem gd_pos {α : Type} {c : Prop} [Decidable c] {x : Option α} (h : c) : gd c x = x := if_pos h
def nm {α β : Type} (x : α) (k : α → β) : β := k x
theorem nm_inv {α β : Type} {x : α} {k : α → β} {r : β} (h : nm x k = r) : ∀ v, v = x → k v = r := fun v e => by rw [e]; exact h
theorem nm_eq {α β : Type} (x : α) (k : α → β) : nm x k = k x := rfl
def bd {α β : Type} (x : Option α) (k : α → Option β) : Option β := x.bind k
theorem bd_inv {α β : Type} {x : Option α} {k : α → Option β} {r : β} (h : bd x k = some r) : ∃ v, x = some v ∧ k v = some r := by
  cases x with
  | none => cases h
  | some v => exact ⟨v, rfl, h⟩
theorem bd_some {α β : Type} (v : α) (k : α → Option β) : bd (some v) k = k v := rfl
def bd2 {α β γ : Type} (x : Option (α × β)) (k : α → β → Option γ) : Option γ := x.bind fun q => k q.1 q.2
theorem bd2_inv {α β γ : Type} {x : Option (α × β)} {k : α → β → Option γ} {r : γ} (h : bd2 x k = some r) : ∃ v w, x = some (v, w) ∧ k v w = some r := by
  cases x with
  | none => cases h
  | some v => exact ⟨v.1, v.2, rfl, h⟩
theorem bd2_some {α β γ : Type} (v : α) (w : β) (k : α → β → Option γ) : bd2 (some (v, w)) k = k v w := rfl
theorem it_t {α : Type} {c : Prop} [Decidable c] {x y r : α} (hc : c) (h : (if c then x else y) = r) : x = r := by rwa [if_pos hc] at h
theorem it_f {α : Type} {c : Prop} [Decidable c] {x y r : α} (hc : ¬ c) (h : (if c then x else y) = r) : y = r := by rwa [if_neg hc] at h
theorem no_some {α : Type} {r : α} {P : Prop} (h : (none : Option α) = some r) : P := by cases h
def bz (b : Bool) : Int := if b then 1 else 0
theorem bz_r (b : Bool) : r32 (bz b) := by cases b <;> decide
theorem bz_nar (b : Bool) : narrow .boolean (.int (zi (bz b))) = .int (zi (bz b)) := by cases b <;> decide
theorem bz_dec {z : Int} (h : z = 0 ∨ z = 1) : bz (decide (z = 1)) = z := by rcases h with rfl | rfl <;> decide
