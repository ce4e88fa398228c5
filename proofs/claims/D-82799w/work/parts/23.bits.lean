/-! BITS OF SMALL NUMBERS -/
section BITS
theorem iI_bv (n : Nat) : (iI (n : Int)).toBitVec = BitVec.ofNat 32 n := by
  show BitVec.ofInt 32 (n : Int) = _
  exact BitVec.ofInt_ofNat 32 n
theorem iI_bn {n : Nat} (h : n < 4294967296) : (iI (n : Int)).toBitVec.toNat = n := by
  rw [iI_bv, BitVec.toNat_ofNat]
  exact Nat.mod_eq_of_lt h
theorem i_ext {x y : Int32} (h : x.toBitVec.toNat = y.toBitVec.toNat) : x = y := Int32.toBitVec_inj.mp (BitVec.eq_of_toNat_eq h)
theorem b_and {a b : Nat} (ha : a < 4294967296) (hb : b < 4294967296) : iI (a : Int) &&& iI (b : Int) = iI ((a &&& b : Nat) : Int) := by
  apply i_ext
  rw [Int32.toBitVec_and, BitVec.toNat_and, iI_bn ha, iI_bn hb, iI_bn (Nat.lt_of_le_of_lt Nat.and_le_left ha)]
theorem b_or {a b : Nat} (ha : a < 2147483648) (hb : b < 2147483648) : iI (a : Int) ||| iI (b : Int) = iI ((a ||| b : Nat) : Int) := by
  apply i_ext
  have : a ||| b < 2 ^ 31 := Nat.or_lt_two_pow ha hb
  rw [Int32.toBitVec_or, BitVec.toNat_or, iI_bn (by omega), iI_bn (by omega), iI_bn (by omega)]
theorem b_xor {a b : Nat} (ha : a < 2147483648) (hb : b < 2147483648) : iI (a : Int) ^^^ iI (b : Int) = iI ((a ^^^ b : Nat) : Int) := by
  apply i_ext
  have : a ^^^ b < 2 ^ 31 := Nat.xor_lt_two_pow ha hb
  rw [Int32.toBitVec_xor, BitVec.toNat_xor, iI_bn (by omega), iI_bn (by omega), iI_bn (by omega)]
theorem b_31 {b : Nat} (h : b < 32) : iI (b : Int) &&& iI 31 = iI (b : Int) := by
  have := b_and (a := b) (b := 31) (by omega) (by omega)
  rw [show iI 31 = iI ((31 : Nat) : Int) from rfl, this]
  congr 2
  have h2 := Nat.and_two_pow_sub_one_eq_mod b 5
  rw [show (2 : Nat) ^ 5 - 1 = 31 from rfl] at h2
  rw [h2]
  omega
theorem b_shr {a b : Nat} (ha : a < 2147483648) (hb : b < 32) : iI (a : Int) >>> (iI (b : Int) &&& iI 31) = iI ((a >>> b : Nat) : Int) := by
  rw [b_31 hb]
  apply i_ext
  have h1 : a >>> b ≤ a := Nat.shiftRight_le a b
  rw [iI_bn (by omega), Int32.toBitVec_shiftRight]
  have e : ((iI (b : Int)).toBitVec.smod 32) = BitVec.ofNat 32 b := by
    rw [iI_bv]
    have : ∀ c : Fin 32, (BitVec.ofNat 32 c.val).smod 32 = BitVec.ofNat 32 c.val := by decide
    exact this ⟨b, hb⟩
  rw [e, BitVec.sshiftRight_eq', BitVec.sshiftRight_eq_of_msb_false, BitVec.toNat_ushiftRight, iI_bn (by omega), BitVec.toNat_ofNat, Nat.mod_eq_of_lt (by omega)]
  rw [BitVec.msb_eq_false_iff_two_mul_lt, iI_bn (by omega)]
  omega
theorem b_bit {a b : Nat} (ha : a < 2147483648) (hb : b < 32) : (iI (a : Int) >>> (iI (b : Int) &&& iI 31)) &&& iI 1 = iI (if a.testBit b then 1 else 0) := by
  have h1 : a >>> b ≤ a := Nat.shiftRight_le a b
  rw [b_shr ha hb, show iI 1 = iI ((1 : Nat) : Int) from rfl, b_and (by omega) (by omega), Nat.and_one_is_mod]
  rw [Nat.testBit_eq_decide_div_mod_eq, Nat.shiftRight_eq_div_pow]
  by_cases h : a / 2 ^ b % 2 = 1
  · simp [h]
  · have h0 : a / 2 ^ b % 2 = 0 := by omega
    simp [h0]
theorem b_asc {l s : Nat} (hl : l < s) (hs : s < 2147483648) : (iI (l : Int) - iI (s : Int)) &&& iI (s : Int) = iI (((l + (2 ^ 32 - s)) &&& s : Nat) : Int) := by
  apply i_ext
  rw [Int32.toBitVec_and, BitVec.toNat_and, Int32.toBitVec_sub, BitVec.toNat_sub, iI_bn (by omega), iI_bn (by omega), iI_bn (Nat.lt_of_le_of_lt Nat.and_le_right (by omega))]
  rw [Nat.mod_eq_of_lt (by omega), Nat.add_comm]
theorem b_asc0 {s : Nat} (h0 : 0 < s) (hs : s < 2147483648) : iI (s : Int) &&& -iI (s : Int) = iI (((0 + (2 ^ 32 - s)) &&& s : Nat) : Int) := by
  rw [← b_asc h0 hs, Int32.and_comm]
  congr 1
theorem b_desc {l s : Nat} (h0 : 0 < l) (hl : l < 2147483648) (hs : s < 2147483648) : (iI (l : Int) - iI 1) &&& iI (s : Int) = iI (((l - 1) &&& s : Nat) : Int) := by
  have e : (l : Int) - 1 = ((l - 1 : Nat) : Int) := by omega
  rw [iI_sub, e, b_and (by omega) (by omega)]
theorem b_shl {m : Nat} (h : m ≤ 30) : iI 1 <<< (iI (m : Int) &&& iI 31) = iI ((2 ^ m : Nat) : Int) := by
  have : ∀ c : Fin 31, iI 1 <<< (iI (c.val : Int) &&& iI 31) = iI ((2 ^ c.val : Nat) : Int) := by decide
  exact this ⟨m, by omega⟩
theorem b_m1 {l s : Nat} (hl : l < 2147483648) (hs : s < 2147483648) : iI (s : Int) &&& (iI (l : Int) ^^^ iI (-1)) = iI ((s &&& (s ^^^ l) : Nat) : Int) := by
  have h1 : s ^^^ l < 2 ^ 31 := Nat.xor_lt_two_pow hs hl
  have e : iI (l : Int) ^^^ iI (-1) = ~~~ iI (l : Int) := by
    rw [show iI (-1) = (-1 : Int32) from rfl, Int32.xor_neg_one]
  rw [e, ← b_and (by omega) (by omega), ← b_xor hs hl]
  apply i_ext
  rw [Int32.toBitVec_and, Int32.toBitVec_and, Int32.toBitVec_not, Int32.toBitVec_xor]
  congr 1
  apply BitVec.eq_of_getLsbD_eq
  intro i hi
  simp [hi]
  cases (iI (s : Int)).toBitVec[i] <;> cases (iI (l : Int)).toBitVec[i] <;> rfl
end BITS
