/-! BASE: ints as integers; the world of this proof: F, a store of frozen cells (each address what it holds for good; a String's cached hash alone may change), and ws, the cells that are owned and may be written; rows over both -/
set_option maxRecDepth 100000
def iZ (z : Int) : Int32 := Int32.ofInt z
def jZ (z : Int) : Int64 := Int64.ofInt z
theorem iZ_toInt {z : Int} (h : -2147483648 ≤ z ∧ z < 2147483648) : (iZ z).toInt = z := by
  unfold iZ
  have h2 : ((Int32.size : Nat) : Int) = 4294967296 := rfl
  rw [Int32.toInt_ofInt, Int.bmod_eq_of_le (by rw [h2]; omega) (by rw [h2]; omega)]
theorem jZ_toInt {z : Int} (h : -9223372036854775808 ≤ z ∧ z < 9223372036854775808) : (jZ z).toInt = z := by
  unfold jZ
  have h2 : ((Int64.size : Nat) : Int) = 18446744073709551616 := rfl
  rw [Int64.toInt_ofInt, Int.bmod_eq_of_le (by rw [h2]; omega) (by rw [h2]; omega)]
theorem iZ_self (x : Int32) : iZ x.toInt = x := Int32.ofInt_toInt x
theorem jZ_self (x : Int64) : jZ x.toInt = x := Int64.ofInt_toInt x
theorem iZ_of (x : Int32) : ∃ z : Int, x = iZ z ∧ -2147483648 ≤ z ∧ z < 2147483648 := ⟨x.toInt, (iZ_self x).symm, by have := x.le_toInt; omega, by have := x.toInt_lt; omega⟩
theorem jZ_of (x : Int64) : ∃ z : Int, x = jZ z ∧ -9223372036854775808 ≤ z ∧ z < 9223372036854775808 := ⟨x.toInt, (jZ_self x).symm, by have := x.le_toInt; omega, by have := x.toInt_lt; omega⟩
theorem iZ_add (a b : Int) : iZ a + iZ b = iZ (a + b) := (Int32.ofInt_add a b).symm
theorem iZ_sub (a b : Int) : iZ a - iZ b = iZ (a - b) := (Int32.ofInt_sub a b).symm
theorem iZ_mul (a b : Int) : iZ a * iZ b = iZ (a * b) := (Int32.ofInt_mul a b).symm
theorem iZ_neg (a : Int) : - iZ a = iZ (- a) := (Int32.ofInt_neg a).symm
theorem jZ_add (a b : Int) : jZ a + jZ b = jZ (a + b) := (Int64.ofInt_add a b).symm
theorem jZ_sub (a b : Int) : jZ a - jZ b = jZ (a - b) := (Int64.ofInt_sub a b).symm
theorem jZ_mul (a b : Int) : jZ a * jZ b = jZ (a * b) := (Int64.ofInt_mul a b).symm
theorem jZ_neg (a : Int) : - jZ a = jZ (- a) := (Int64.ofInt_neg a).symm
theorem iZ_lt {a b : Int} (h : (-2147483648 ≤ a ∧ a < 2147483648) ∧ (-2147483648 ≤ b ∧ b < 2147483648)) : iZ a < iZ b ↔ a < b := by
  rw [Int32.lt_iff_toInt_lt, iZ_toInt h.1, iZ_toInt h.2]
theorem iZ_le {a b : Int} (h : (-2147483648 ≤ a ∧ a < 2147483648) ∧ (-2147483648 ≤ b ∧ b < 2147483648)) : iZ a ≤ iZ b ↔ a ≤ b := by
  rw [Int32.le_iff_toInt_le, iZ_toInt h.1, iZ_toInt h.2]
theorem iZ_eq {a b : Int} (h : (-2147483648 ≤ a ∧ a < 2147483648) ∧ (-2147483648 ≤ b ∧ b < 2147483648)) : iZ a = iZ b ↔ a = b :=
  ⟨fun e => by have := congrArg Int32.toInt e; rwa [iZ_toInt h.1, iZ_toInt h.2] at this, fun e => by rw [e]⟩
theorem jZ_lt {a b : Int} (h : (-9223372036854775808 ≤ a ∧ a < 9223372036854775808) ∧ (-9223372036854775808 ≤ b ∧ b < 9223372036854775808)) : jZ a < jZ b ↔ a < b := by
  rw [Int64.lt_iff_toInt_lt, jZ_toInt h.1, jZ_toInt h.2]
theorem jZ_eq {a b : Int} (h : (-9223372036854775808 ≤ a ∧ a < 9223372036854775808) ∧ (-9223372036854775808 ≤ b ∧ b < 9223372036854775808)) : jZ a = jZ b ↔ a = b :=
  ⟨fun e => by have := congrArg Int64.toInt e; rwa [jZ_toInt h.1, jZ_toInt h.2] at this, fun e => by rw [e]⟩
theorem iZ_div {a b : Int} (h : (-2147483648 < a ∧ a < 2147483648) ∧ (-2147483648 ≤ b ∧ b < 2147483648)) : iZ a / iZ b = iZ (a.tdiv b) := by
  apply Int32.toInt_inj.mp
  have hq : -2147483648 < a.tdiv b ∧ a.tdiv b < 2147483648 := by
    have h1 : (a.tdiv b).natAbs ≤ a.natAbs := by rw [Int.natAbs_tdiv]; exact Nat.div_le_self _ _
    omega
  rw [Int32.toInt_div, iZ_toInt ⟨by omega, h.1.2⟩, iZ_toInt h.2, iZ_toInt ⟨by omega, hq.2⟩, Int.bmod_eq_of_le (by omega) (by omega)]
theorem jZ_div {a b : Int} (h : (-9223372036854775808 < a ∧ a < 9223372036854775808) ∧ (-9223372036854775808 ≤ b ∧ b < 9223372036854775808)) : jZ a / jZ b = jZ (a.tdiv b) := by
  apply Int64.toInt_inj.mp
  have hq : -9223372036854775808 < a.tdiv b ∧ a.tdiv b < 9223372036854775808 := by
    have h1 : (a.tdiv b).natAbs ≤ a.natAbs := by rw [Int.natAbs_tdiv]; exact Nat.div_le_self _ _
    omega
  rw [Int64.toInt_div, jZ_toInt ⟨by omega, h.1.2⟩, jZ_toInt h.2, jZ_toInt ⟨by omega, hq.2⟩, Int.bmod_eq_of_le (by omega) (by omega)]
theorem iZ_cl {z : Int} {i : Nat} (h : z = (i : Int) ∧ i < 2147483648) : (iZ z).toNatClampNeg = i := by
  have e := iZ_toInt (z := z) (by omega)
  show (iZ z).toInt.toNat = i
  rw [e]; omega
theorem iZ_in {z : Int} {i n : Nat} (h : z = (i : Int) ∧ i < n ∧ i < 2147483648) : vp_in (iZ z) n := by
  intro hh
  rcases hh with hh | hh
  · have := (iZ_lt (a := z) (b := 0) (by omega)).mp hh
    omega
  · rw [iZ_cl ⟨h.1, h.2.2⟩] at hh
    omega
theorem iZ_nat (n : Nat) : Int32.ofNat n = iZ (n : Int) := (Int32.ofInt_eq_ofNat (n := n)).symm
theorem jZ_nat (n : Nat) : Int64.ofNat n = jZ (n : Int) := (Int64.ofInt_eq_ofNat (n := n)).symm
theorem iZ_long {z : Int} (h : -2147483648 ≤ z ∧ z < 2147483648) : (iZ z).toInt64 = jZ z := by
  apply Int64.toInt_inj.mp
  rw [Int32.toInt_toInt64, iZ_toInt h, jZ_toInt (by omega)]
theorem jZ_int {z : Int} : (jZ z).toInt32 = iZ z := by
  apply Int32.toInt_inj.mp
  rw [Int64.toInt_toInt32]
  unfold jZ iZ
  rw [Int64.toInt_ofInt, Int32.toInt_ofInt, Int.bmod_bmod_of_dvd (by decide)]
def updZ (f : Nat → Int) (k : Nat) (x : Int) : Nat → Int := fun j => if j = k then x else f j
theorem updZ_s {f : Nat → Int} {k : Nat} {x : Int} : updZ f k x k = x := if_pos rfl
theorem updZ_n {f : Nat → Int} {k j : Nat} {x : Int} (h : j ≠ k) : updZ f k x j = f j := if_neg h
theorem updZ_i (f : Nat → Int) (k : Nat) (x : Int) : upd (fun j => iZ (f j)) k (iZ x) = fun j => iZ (updZ f k x j) := by
  funext j; unfold upd updZ; split <;> rfl
theorem updZ_j (f : Nat → Int) (k : Nat) (x : Int) : vp_updL (fun j => jZ (f j)) k (jZ x) = fun j => jZ (updZ f k x j) := by
  funext j; unfold vp_updL updZ; split <;> rfl
