/-! PLAIN LAW, base: whole numbers for ints and longs -/
def i2 (z : Int) : Int32 := Int32.ofInt z
def j2 (z : Int) : Int64 := Int64.ofInt z
theorem i2_add (a b : Int) : i2 a + i2 b = i2 (a + b) := (Int32.ofInt_add a b).symm
theorem i2_sub (a b : Int) : i2 a - i2 b = i2 (a - b) := (Int32.ofInt_sub a b).symm
theorem i2_mul (a b : Int) : i2 a * i2 b = i2 (a * b) := (Int32.ofInt_mul a b).symm
theorem j2_add (a b : Int) : j2 a + j2 b = j2 (a + b) := (Int64.ofInt_add a b).symm
theorem j2_sub (a b : Int) : j2 a - j2 b = j2 (a - b) := (Int64.ofInt_sub a b).symm
theorem j2_mul (a b : Int) : j2 a * j2 b = j2 (a * b) := (Int64.ofInt_mul a b).symm
theorem li32 (n : Nat) : (OfNat.ofNat n : Int32) = i2 (OfNat.ofNat n : Int) := (Int32.ofInt_eq_ofNat (n := n)).symm
theorem li64 (n : Nat) : (OfNat.ofNat n : Int64) = j2 (OfNat.ofNat n : Int) := (Int64.ofInt_eq_ofNat (n := n)).symm
theorem neg32 : (-1 : Int32) = i2 (-1) := by decide
theorem neg64 : (-1 : Int64) = j2 (-1) := by decide
theorem neg32' : (-2 : Int32) = i2 (-2) := by decide
theorem i2_toInt {z : Int} (h : -2147483648 ≤ z) (h' : z < 2147483648) : (i2 z).toInt = z := Int32.toInt_ofInt_of_le (by omega) (by omega)
theorem j2_toInt {z : Int} (h : -9223372036854775808 ≤ z) (h' : z < 9223372036854775808) : (j2 z).toInt = z := Int64.toInt_ofInt_of_le (by omega) (by omega)
theorem i2_self (x : Int32) : i2 x.toInt = x := Int32.ofInt_toInt x
theorem j2_self (x : Int64) : j2 x.toInt = x := Int64.ofInt_toInt x
theorem x32 (x : Int32) : ∃ z : Int, -2147483648 ≤ z ∧ z < 2147483648 ∧ x = i2 z := ⟨x.toInt, x.le_toInt, x.toInt_lt, (i2_self x).symm⟩
theorem x64 (x : Int64) : ∃ z : Int, -9223372036854775808 ≤ z ∧ z < 9223372036854775808 ∧ x = j2 z := ⟨x.toInt, x.le_toInt, x.toInt_lt, (j2_self x).symm⟩
theorem lt_i2 {a b : Int} (ha : -2147483648 ≤ a) (ha' : a < 2147483648) (hb : -2147483648 ≤ b) (hb' : b < 2147483648) : i2 a < i2 b ↔ a < b := by
  rw [Int32.lt_iff_toInt_lt, i2_toInt ha ha', i2_toInt hb hb']
theorem le_i2 {a b : Int} (ha : -2147483648 ≤ a) (ha' : a < 2147483648) (hb : -2147483648 ≤ b) (hb' : b < 2147483648) : i2 a ≤ i2 b ↔ a ≤ b := by
  rw [Int32.le_iff_toInt_le, i2_toInt ha ha', i2_toInt hb hb']
theorem eq_i2 {a b : Int} (ha : -2147483648 ≤ a) (ha' : a < 2147483648) (hb : -2147483648 ≤ b) (hb' : b < 2147483648) : i2 a = i2 b ↔ a = b := by
  rw [← Int32.toInt_inj, i2_toInt ha ha', i2_toInt hb hb']
theorem lt_j2 {a b : Int} (ha : -9223372036854775808 ≤ a) (ha' : a < 9223372036854775808) (hb : -9223372036854775808 ≤ b) (hb' : b < 9223372036854775808) : j2 a < j2 b ↔ a < b := by
  rw [Int64.lt_iff_toInt_lt, j2_toInt ha ha', j2_toInt hb hb']
theorem le_j2 {a b : Int} (ha : -9223372036854775808 ≤ a) (ha' : a < 9223372036854775808) (hb : -9223372036854775808 ≤ b) (hb' : b < 9223372036854775808) : j2 a ≤ j2 b ↔ a ≤ b := by
  rw [Int64.le_iff_toInt_le, j2_toInt ha ha', j2_toInt hb hb']
theorem eq_j2 {a b : Int} (ha : -9223372036854775808 ≤ a) (ha' : a < 9223372036854775808) (hb : -9223372036854775808 ≤ b) (hb' : b < 9223372036854775808) : j2 a = j2 b ↔ a = b := by
  rw [← Int64.toInt_inj, j2_toInt ha ha', j2_toInt hb hb']
theorem i2_64 {z : Int} (h : -2147483648 ≤ z) (h' : z < 2147483648) : Int32.toInt64 (i2 z) = j2 z := by
  rw [← Int64.toInt_inj, Int32.toInt_toInt64, i2_toInt h h', j2_toInt (by omega) (by omega)]
theorem j2_32 (z : Int) : Int64.toInt32 (j2 z) = i2 z := Int64.toInt32_ofInt
theorem tn_i2 {z : Int} (h : -2147483648 ≤ z) (h' : z < 2147483648) : Int32.toNatClampNeg (i2 z) = z.toNat := by
  rw [← Int32.toNat_toInt, i2_toInt h h']
theorem tnN {z : Int} {n : Nat} (hz : z = (n : Int)) (h' : n < 2147483648) : Int32.toNatClampNeg (i2 z) = n := by
  subst hz
  rw [tn_i2 (by omega) (by omega)]
  omega
theorem gA_ok {α : Type} {z : Int} {n : Nat} {k : Option α} (h0 : 0 ≤ z) (h1 : z < n) (hn : n < 2147483648) : gA (i2 z) n k = k := by
  unfold gA
  rw [if_pos]
  simp only [gin, Bool.and_eq_true, Bool.not_eq_true', decide_eq_false_iff_not, decide_eq_true_eq]
  rw [tn_i2 (by omega) (by omega), show (0 : Int32) = i2 0 from rfl, lt_i2 (by omega) (by omega) (by omega) (by omega)]
  omega
theorem div_i2 {a b : Int} (ha : 0 ≤ a) (ha' : a < 2147483648) (hb : 0 < b) (hb' : b < 2147483648) : i2 a / i2 b = i2 (a / b) := by
  have h := Int32.ofInt_tdiv (a := a) (b := b) (by show (-2147483648 : Int) ≤ a; omega) (by show a ≤ (2147483647 : Int); omega) (by show (-2147483648 : Int) ≤ b; omega) (by show b ≤ (2147483647 : Int); omega)
  unfold i2
  rw [← h, Int.tdiv_eq_ediv_of_nonneg ha]
theorem div_j2 {a b : Int} (ha : 0 ≤ a) (ha' : a < 9223372036854775808) (hb : 0 < b) (hb' : b < 9223372036854775808) : j2 a / j2 b = j2 (a / b) := by
  have h := Int64.ofInt_tdiv (a := a) (b := b) (by show (-9223372036854775808 : Int) ≤ a; omega) (by show a ≤ (9223372036854775807 : Int); omega) (by show (-9223372036854775808 : Int) ≤ b; omega) (by show b ≤ (9223372036854775807 : Int); omega)
  unfold j2
  rw [← h, Int.tdiv_eq_ediv_of_nonneg ha]
/-- the byte of a number, with its sign -/
def b8 (z : Int) : Int := (z + 128) % 256 - 128
theorem b8_b (z : Int) : z.bmod 256 = b8 z := by
  unfold b8
  rw [Int.bmod_def]
  split <;> omega
theorem b8_lo (z : Int) : -128 ≤ b8 z := by unfold b8; omega
theorem b8_hi (z : Int) : b8 z < 128 := by unfold b8; omega
theorem b8_b8 (z : Int) : b8 (b8 z) = b8 z := by unfold b8; omega
theorem b8_mod (z : Int) : b8 (z % 256) = b8 z := by unfold b8; omega
theorem mod_b8 (z : Int) : b8 z % 256 = z % 256 := by unfold b8; omega
theorem b8_0 : b8 0 = 0 := by decide
theorem i2_b8 {z : Int} (h : -2147483648 ≤ z) (h' : z < 2147483648) : Int8.toInt32 (Int32.toInt8 (i2 z)) = i2 (b8 z) := by
  rw [← Int32.toInt_inj, Int8.toInt_toInt32, Int32.toInt_toInt8, i2_toInt h h', i2_toInt (by have := b8_lo z; omega) (by have := b8_hi z; omega)]
  exact b8_b z
theorem nar_b8 {z : Int} (h : -2147483648 ≤ z) (h' : z < 2147483648) : vp_nar .byte (i2 z) = i2 (b8 z) := by
  rw [vp_nar_byte]; exact i2_b8 h h'
theorem nar_sh {z : Int} (h : 0 ≤ z) (h' : z < 32768) : vp_nar .short (Int16.toInt32 (Int32.toInt16 (i2 z))) = i2 z := by
  rw [vp_nar_short, ← Int32.toInt_inj, Int16.toInt_toInt32, Int32.toInt_toInt16, Int16.toInt_toInt32, Int32.toInt_toInt16, i2_toInt (by omega) (by omega)]
  rw [Int.bmod_def, Int.bmod_def]
  split <;> split <;> omega
theorem nar_1 : vp_nar .boolean 1 = i2 1 := by decide
theorem nar_0 : vp_nar .boolean 0 = i2 0 := by decide
theorem nar_b0 : vp_nar .byte 0 = i2 0 := by decide
theorem nar_b1 : vp_nar .byte 1 = i2 1 := by decide
theorem gN_ok {α : Type} {ty : FieldType} {x : Int32} {k : Option α} (h : vp_nar ty x = x) : gN ty x k = k := if_pos h
theorem gN_bool {α : Type} {z : Int} {k : Option α} (h : z = 0 ∨ z = 1) : gN .boolean (i2 z) k = k := by
  rcases h with rfl | rfl
  · exact if_pos (by decide)
  · exact if_pos (by decide)
theorem and255_32 (z : Int) : i2 z &&& 255 = i2 (z % 256) := by
  rw [pk_and (i2 z) (m := 255) 8 (by decide)]
  have e : (i2 z).toBitVec.toNat % 2 ^ 8 = (z % 256).toNat := by
    have e1 : (i2 z).toBitVec = BitVec.ofInt 32 z := rfl
    rw [e1, BitVec.toNat_ofInt]
    omega
  rw [e]
  show Int32.ofNat _ = Int32.ofInt _
  rw [← Int32.ofInt_eq_ofNat]
  congr 1
  omega
