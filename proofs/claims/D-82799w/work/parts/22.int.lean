/-! INT32 VALUES AS INTEGERS -/
section INTS
/-- in range -/
def rng (z : Int) : Prop := -2147483648 ≤ z ∧ z < 2147483648
def iI (z : Int) : Int32 := Int32.ofInt z
theorem iI_t {z : Int} (h1 : -2147483648 ≤ z) (h2 : z < 2147483648) : (iI z).toInt = z := Int32.toInt_ofInt_of_le (by simpa using h1) (by simpa using h2)
theorem iI_v (x : Int32) : iI x.toInt = x := Int32.ofInt_toInt x
theorem iI_ex (x : Int32) : ∃ z : Int, -2147483648 ≤ z ∧ z < 2147483648 ∧ x = iI z := ⟨x.toInt, by have := x.le_toInt; simpa using this, by have := x.toInt_lt; simpa using this, (iI_v x).symm⟩
theorem iI_add (a b : Int) : iI a + iI b = iI (a + b) := (Int32.ofInt_add a b).symm
theorem iI_mul (a b : Int) : iI a * iI b = iI (a * b) := (Int32.ofInt_mul a b).symm
theorem iI_neg (a : Int) : - iI a = iI (-a) := (Int32.ofInt_neg a).symm
theorem iI_sub (a b : Int) : iI a - iI b = iI (a - b) := (Int32.ofInt_sub a b).symm
theorem iI_0 : (0 : Int32) = iI 0 := rfl
theorem iI_1 : (1 : Int32) = iI 1 := rfl
theorem iI_m1 : (-1 : Int32) = iI (-1) := rfl
theorem nI_iI (n : Nat) : nI n = iI (n : Int) := rfl
theorem iI_lt {a b : Int} (h1 : -2147483648 ≤ a) (h2 : a < 2147483648) (h3 : -2147483648 ≤ b) (h4 : b < 2147483648) : (iI a < iI b) = (a < b) := by
  rw [Int32.lt_iff_toInt_lt, iI_t h1 h2, iI_t h3 h4]
theorem iI_le {a b : Int} (h1 : -2147483648 ≤ a) (h2 : a < 2147483648) (h3 : -2147483648 ≤ b) (h4 : b < 2147483648) : (iI a ≤ iI b) = (a ≤ b) := by
  rw [Int32.le_iff_toInt_le, iI_t h1 h2, iI_t h3 h4]
theorem iI_eq {a b : Int} (h1 : -2147483648 ≤ a) (h2 : a < 2147483648) (h3 : -2147483648 ≤ b) (h4 : b < 2147483648) : (iI a = iI b) = (a = b) := by
  apply propext
  constructor
  · intro h
    have := congrArg Int32.toInt h
    rwa [iI_t h1 h2, iI_t h3 h4] at this
  · intro h
    rw [h]
theorem iI_c {z : Int} (h1 : 0 ≤ z) (h2 : z < 2147483648) : (iI z).toNatClampNeg = z.toNat := by
  unfold Int32.toNatClampNeg
  rw [iI_t (by omega) h2]
/-- bounds that are met -/
theorem aD_lt {a b : Int} {p : Prop} (h : a < b) : (a < b ∧ p) = p := by simp [h]
theorem aD_le {a b : Int} {p : Prop} (h : a ≤ b) : (a ≤ b ∧ p) = p := by simp [h]
/-- literals -/
theorem iI_lit (n : Nat) : (OfNat.ofNat n : Int32) = iI (n : Int) := rfl
end INTS
section TRUTH
/-- a truth as an int -/
noncomputable def tI (p : Prop) : Int32 := @ite Int32 p (Classical.propDecidable p) 1 0
theorem tI_t {p : Prop} (h : p) : tI p = 1 := by
  unfold tI
  rw [if_pos h]
theorem tI_f {p : Prop} (h : ¬ p) : tI p = 0 := by
  unfold tI
  rw [if_neg h]
theorem tI_01 (p : Prop) : tI p = 0 ∨ tI p = 1 := by
  by_cases h : p
  · exact Or.inr (tI_t h)
  · exact Or.inl (tI_f h)
end TRUTH
