/-! ints as whole numbers: iI z; what the pure parts rest on -/
def iI (z : Int) : Int32 := Int32.ofInt z
def iB (z : Int) : Prop := -2147483648 ≤ z ∧ z < 2147483648
theorem iI_add (a b : Int) : iI a + iI b = iI (a + b) := (Int32.ofInt_add a b).symm
theorem iI_mul (a b : Int) : iI a * iI b = iI (a * b) := (Int32.ofInt_mul a b).symm
theorem iI_sub (a b : Int) : iI a - iI b = iI (a - b) := (Int32.ofInt_sub a b).symm
theorem iI_neg (a : Int) : -iI a = iI (-a) := (Int32.ofInt_neg a).symm
theorem iI_toInt {z : Int} (h : iB z) : (iI z).toInt = z := by
  unfold iI
  rw [Int32.toInt_ofInt, show Int32.size = 4294967296 from rfl]
  exact Int.bmod_eq_of_le (by have := h.1; omega) (by have := h.2; omega)
theorem iI_of (x : Int32) : x = iI x.toInt := (Int32.ofInt_toInt x).symm
theorem iI_le {a b : Int} (ha : iB a) (hb : iB b) : iI a ≤ iI b ↔ a ≤ b := by rw [Int32.le_iff_toInt_le, iI_toInt ha, iI_toInt hb]
theorem iI_lt {a b : Int} (ha : iB a) (hb : iB b) : iI a < iI b ↔ a < b := by rw [Int32.lt_iff_toInt_lt, iI_toInt ha, iI_toInt hb]
theorem iI_eq {a b : Int} (ha : iB a) (hb : iB b) : iI a = iI b ↔ a = b := by rw [← Int32.toInt_inj, iI_toInt ha, iI_toInt hb]
theorem iI_cl {z : Int} (h : iB z) : (iI z).toNatClampNeg = z.toNat := by
  show (iI z).toInt.toNat = z.toNat
  rw [iI_toInt h]
theorem iI_in {z : Int} {n : Nat} (h : iB z) : vp_in (iI z) n ↔ 0 ≤ z ∧ z < n := by
  rw [vp_in_iff, iI_toInt h]
theorem iI_lit (n : Nat) : (OfNat.ofNat n : Int32) = iI n := rfl
theorem iI_nI (n : Nat) : nI n = iI n := rfl
