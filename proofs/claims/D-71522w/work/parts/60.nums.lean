/-! NUMBERS: whole numbers as 32 bits -/
set_option maxRecDepth 100000
abbrev iZ (z : Int) : Int32 := Int32.ofInt z
theorem iZ_toInt {z : Int} (h : -2147483648 ≤ z) (h2 : z < 2147483648) : (iZ z).toInt = z := Int32.toInt_ofInt_of_le h h2
theorem nI_iZ (n : Nat) : nI n = iZ (n : Int) := rfl
theorem iZ_add (a b : Int) : iZ a + iZ b = iZ (a + b) := (Int32.ofInt_add a b).symm
theorem iZ_sub (a b : Int) : iZ a - iZ b = iZ (a - b) := (Int32.ofInt_sub a b).symm
theorem iZ_mul (a b : Int) : iZ a * iZ b = iZ (a * b) := (Int32.ofInt_mul a b).symm
theorem iZ_neg (a : Int) : -iZ a = iZ (-a) := (Int32.ofInt_neg a).symm
theorem iZ_le {a b : Int} (h : -2147483648 ≤ a ∧ a < 2147483648) (h2 : -2147483648 ≤ b ∧ b < 2147483648) : iZ a ≤ iZ b ↔ a ≤ b := by
  rw [Int32.le_iff_toInt_le, iZ_toInt h.1 h.2, iZ_toInt h2.1 h2.2]
theorem iZ_lt {a b : Int} (h : -2147483648 ≤ a ∧ a < 2147483648) (h2 : -2147483648 ≤ b ∧ b < 2147483648) : iZ a < iZ b ↔ a < b := by
  rw [Int32.lt_iff_toInt_lt, iZ_toInt h.1 h.2, iZ_toInt h2.1 h2.2]
theorem iZ_eq {a b : Int} (h : -2147483648 ≤ a ∧ a < 2147483648) (h2 : -2147483648 ≤ b ∧ b < 2147483648) : iZ a = iZ b ↔ a = b := by
  rw [← Int32.toInt_inj, iZ_toInt h.1 h.2, iZ_toInt h2.1 h2.2]
theorem iZ_of (x : Int32) : x = iZ x.toInt := (Int32.ofInt_toInt x).symm
theorem iZ_div {a b : Int} (ha : 0 ≤ a) (ha2 : a < 2147483648) (hb : 0 < b) (hb2 : b < 2147483648) : iZ a / iZ b = iZ (a / b) := by
  rw [← Int32.toInt_inj, Int32.toInt_div, iZ_toInt (by omega) ha2, iZ_toInt (by omega) hb2]
  rw [Int.tdiv_eq_ediv_of_nonneg ha]
  have h1 : 0 ≤ a / b := Int.ediv_nonneg ha (by omega)
  have h2 : a / b ≤ a := Int.ediv_le_self b ha
  rw [iZ_toInt (by omega) (by omega), Int.bmod_def]
  split <;> omega
theorem iZ_nat {z : Int} (h : 0 ≤ z) (h2 : z < 2147483648) : (iZ z).toNatClampNeg = z.toNat := by
  show (iZ z).toInt.toNat = z.toNat
  rw [iZ_toInt (by omega) h2]
/-- not by rfl: so that no checker unfolds the loops behind it -/
theorem bsm {α β : Type} (a : α) (f : α → Option β) : (some a).bind f = f a := by
  cases h : f a with
  | none => rw [Option.bind_some, h]
  | some b => rw [Option.bind_some, h]
