/-! ints by mathematical integers -/
def iI (z : Int) : Int32 := Int32.ofInt z
def lI (z : Int) : Int64 := Int64.ofInt z
theorem iI_toInt {z : Int} (h : -2147483648 ≤ z) (h2 : z < 2147483648) : (iI z).toInt = z := Int32.toInt_ofInt_of_le (by simpa using h) (by simpa using h2)
theorem iI_of (x : Int32) : x = iI x.toInt := by simp [iI]
theorem iI_rg (x : Int32) : -2147483648 ≤ x.toInt ∧ x.toInt < 2147483648 := ⟨by have := Int32.minValue_le_toInt x; simpa using this, by have := Int32.toInt_lt x; omega⟩
theorem iI_nat (n : Nat) : Int32.ofNat n = iI n := Int32.ofInt_eq_ofNat.symm
theorem iI_nI (n : Nat) : iI n = nI n := (iI_nat n).symm
theorem iI_add (a b : Int) : iI a + iI b = iI (a + b) := (Int32.ofInt_add a b).symm
theorem iI_sub (a b : Int) : iI a - iI b = iI (a - b) := (Int32.ofInt_sub a b).symm
theorem iI_mul (a b : Int) : iI a * iI b = iI (a * b) := (Int32.ofInt_mul a b).symm
theorem iI_neg (a : Int) : -iI a = iI (-a) := (Int32.ofInt_neg a).symm
theorem iI_lt {a b : Int} (ha : -2147483648 ≤ a ∧ a < 2147483648) (hb : -2147483648 ≤ b ∧ b < 2147483648) : iI a < iI b ↔ a < b := by
  rw [Int32.lt_iff_toInt_lt, iI_toInt ha.1 ha.2, iI_toInt hb.1 hb.2]
theorem iI_le {a b : Int} (ha : -2147483648 ≤ a ∧ a < 2147483648) (hb : -2147483648 ≤ b ∧ b < 2147483648) : iI a ≤ iI b ↔ a ≤ b := by
  rw [Int32.le_iff_toInt_le, iI_toInt ha.1 ha.2, iI_toInt hb.1 hb.2]
theorem iI_eq {a b : Int} (ha : -2147483648 ≤ a ∧ a < 2147483648) (hb : -2147483648 ≤ b ∧ b < 2147483648) : iI a = iI b ↔ a = b :=
  ⟨fun h => by have := congrArg Int32.toInt h; rwa [iI_toInt ha.1 ha.2, iI_toInt hb.1 hb.2] at this, fun h => by rw [h]⟩
theorem iI_0 : (0 : Int32) = iI 0 := rfl
theorem iI_ix {z : Int} {n : Nat} (h0 : 0 ≤ z) (hz : z < n) (hn : n < 2147483648) : ∃ j : Nat, z = (j : Int) ∧ (iI z).toNatClampNeg = j ∧ ¬ (iI z < 0 ∨ n ≤ (iI z).toNatClampNeg) ∧ j < n := by
  obtain ⟨j, rfl⟩ : ∃ j : Nat, z = (j : Int) := ⟨z.toNat, by omega⟩
  rw [iI_nI]
  have hj : j < n := by omega
  exact ⟨j, rfl, nI_clamp (by omega), nI_in hj (by omega), hj⟩
theorem iI_div {a b : Int} (ha : -2147483648 < a ∧ a < 2147483648) (hb : -2147483648 ≤ b ∧ b < 2147483648) : iI a / iI b = iI (a.tdiv b) := by
  rw [← Int32.toInt_inj, Int32.toInt_div_of_ne_left, iI_toInt (by omega) ha.2, iI_toInt hb.1 hb.2, iI_toInt]
  · have := Int.natAbs_tdiv_le_natAbs a b
    omega
  · have := Int.natAbs_tdiv_le_natAbs a b
    omega
  · intro h
    have := congrArg Int32.toInt h
    rw [iI_toInt (by omega) ha.2] at this
    have h2 : Int32.minValue.toInt = -2147483648 := rfl
    omega
theorem lI_toInt {z : Int} (h : -9223372036854775808 ≤ z) (h2 : z < 9223372036854775808) : (lI z).toInt = z := Int64.toInt_ofInt_of_le (by simpa using h) (by simpa using h2)
theorem lI_of (x : Int64) : x = lI x.toInt := by simp [lI]
theorem lI_add (a b : Int) : lI a + lI b = lI (a + b) := (Int64.ofInt_add a b).symm
theorem lI_sub (a b : Int) : lI a - lI b = lI (a - b) := (Int64.ofInt_sub a b).symm
theorem lI_mul (a b : Int) : lI a * lI b = lI (a * b) := (Int64.ofInt_mul a b).symm
theorem lI_neg (a : Int) : -lI a = lI (-a) := (Int64.ofInt_neg a).symm
theorem lI_i {z : Int} (h : -2147483648 ≤ z) (h2 : z < 2147483648) : (iI z).toInt64 = lI z := by
  rw [← Int64.toInt_inj, Int32.toInt_toInt64, iI_toInt h h2, lI_toInt (by omega) (by omega)]
theorem iI_l (z : Int) : (lI z).toInt32 = iI z := by simp [lI, iI]
