-- dep: 23 51
/-! Integer.bitCount and numberOfTrailingZeros of sets of boards -/
section JBITS
set_option maxRecDepth 100000
variable {S : Nat × (Nat → Int32)} {d : Nat} {m : PMem} {Q : POut → Prop}
def ush (x k : Int32) : Int32 := (x.toUInt32 >>> (k.toUInt32 &&& Int32.toUInt32 31)).toInt32
def bcA (x : Int32) : Int32 := x - (ush x 1 &&& 1431655765)
def bcB (x : Int32) : Int32 := (x &&& 858993459) + (ush x 2 &&& 858993459)
def bcC (x : Int32) : Int32 := (x + ush x 4) &&& 252645135
def bcD (x : Int32) : Int32 := x + ush x 8
def bcE (x : Int32) : Int32 := x + ush x 16
def bcJ (x : Int32) : Int32 := bcE (bcD (bcC (bcB (bcA x)))) &&& 63
theorem bcJ_ok : ∀ c : Fin 1024, bcJ (iI ((c.val : Nat) : Int)) = iI ((pcS c.val : Nat) : Int) := by decide +kernel
theorem j_bc0 {x : Int32} : WC S d 156 [.int x] m Q = Q (.inl (some (.int (bcJ x)), m)) := by
  simp only [w_J8_bitCount_in, w_J8_bitCount_0, w_J8_bitCount_1, w_J8_bitCount_2, w_J8_bitCount_3, w_J8_bitCount_4, w_J8_bitCount_7, w_J8_bitCount_8, w_J8_bitCount_9, w_J8_bitCount_10, w_J8_bitCount_11, w_J8_bitCount_14, w_J8_bitCount_15, w_J8_bitCount_16, w_J8_bitCount_17, w_J8_bitCount_18, w_J8_bitCount_21, w_J8_bitCount_22, w_J8_bitCount_23, w_J8_bitCount_24, w_J8_bitCount_25, w_J8_bitCount_26, w_J8_bitCount_27, w_J8_bitCount_28, w_J8_bitCount_29, w_J8_bitCount_32, w_J8_bitCount_33, w_J8_bitCount_34, w_J8_bitCount_35, w_J8_bitCount_36, w_J8_bitCount_38, w_J8_bitCount_39, w_J8_bitCount_40, w_J8_bitCount_41, w_J8_bitCount_42, w_J8_bitCount_43, w_J8_bitCount_45, w_J8_bitCount_46, w_J8_bitCount_47, w_J8_bitCount_48, w_J8_bitCount_49, w_J8_bitCount_51, w_J8_bitCount_52, gI_mk, gL_mk, gR_mk, gK_mk, sI_mk, sL_mk, va_rf, bO_l, bO_r, true_and, and_true, Option.toList, List.cons_append, List.nil_append]
  rfl
theorem j_bc {s : Nat} (h : s < 1024) : WC S d 156 [.int (iI (s : Int))] m Q = Q (.inl (some (.int (iI ((pcS s : Nat) : Int))), m)) := by
  rw [j_bc0, bcJ_ok ⟨s, h⟩]
def ntA (n y : Int32) : Int32 := n + ush y 1
def ntB (n y : Int32) : Int32 := if y ≤ 4 then ntA n y else ntA (n + 2) (ush y 2)
def ntC (n y : Int32) : Int32 := if y ≤ 16 then ntB n y else ntB (n + 4) (ush y 4)
def ntD (n y : Int32) : Int32 := if y ≤ 256 then ntC n y else ntC (n + 8) (ush y 8)
def ntE (n y : Int32) : Int32 := if y ≤ 65536 then ntD n y else ntD (n + 16) (ush y 16)
def ntJ (x : Int32) : Int32 := if 0 < ((x ^^^ -1) &&& (x - 1)) then ntE 1 ((x ^^^ -1) &&& (x - 1)) else ((x ^^^ -1) &&& (x - 1)) &&& 32
theorem ntJ_ok : ∀ c : Fin 1024, 0 < c.val → ntJ (iI ((c.val : Nat) : Int)) = iI ((lowS c.val 10 0 : Nat) : Int) := by decide +kernel
theorem qI {c : Prop} [Decidable c] {a b : Int32} : Q (.inl (some (.int (if c then a else b)), m)) = if c then Q (.inl (some (.int a), m)) else Q (.inl (some (.int b), m)) := by
  split <;> rfl
theorem j_ntz0 {x : Int32} : WC S d 155 [.int x] m Q = Q (.inl (some (.int (ntJ x)), m)) := by
  have e : Q (.inl (some (.int (ntJ x)), m)) = Q (.inl (some (.int (ntJ x)), m)) := rfl
  conv at e => rhs; unfold ntJ ntE ntD ntC ntB ntA
  simp only [qI] at e
  rw [e]
  simp only [w_J8_numberOfTrailingZeros_in, w_J8_numberOfTrailingZeros_0, w_J8_numberOfTrailingZeros_1, w_J8_numberOfTrailingZeros_2, w_J8_numberOfTrailingZeros_3, w_J8_numberOfTrailingZeros_4, w_J8_numberOfTrailingZeros_5, w_J8_numberOfTrailingZeros_6, w_J8_numberOfTrailingZeros_7, w_J8_numberOfTrailingZeros_8, w_J8_numberOfTrailingZeros_9, w_J8_numberOfTrailingZeros_12, w_J8_numberOfTrailingZeros_13, w_J8_numberOfTrailingZeros_15, w_J8_numberOfTrailingZeros_16, w_J8_numberOfTrailingZeros_17, w_J8_numberOfTrailingZeros_18, w_J8_numberOfTrailingZeros_19, w_J8_numberOfTrailingZeros_20, w_J8_numberOfTrailingZeros_23, w_J8_numberOfTrailingZeros_26, w_J8_numberOfTrailingZeros_29, w_J8_numberOfTrailingZeros_30, w_J8_numberOfTrailingZeros_32, w_J8_numberOfTrailingZeros_33, w_J8_numberOfTrailingZeros_34, w_J8_numberOfTrailingZeros_35, w_J8_numberOfTrailingZeros_38, w_J8_numberOfTrailingZeros_41, w_J8_numberOfTrailingZeros_44, w_J8_numberOfTrailingZeros_45, w_J8_numberOfTrailingZeros_47, w_J8_numberOfTrailingZeros_48, w_J8_numberOfTrailingZeros_49, w_J8_numberOfTrailingZeros_50, w_J8_numberOfTrailingZeros_52, w_J8_numberOfTrailingZeros_55, w_J8_numberOfTrailingZeros_58, w_J8_numberOfTrailingZeros_59, w_J8_numberOfTrailingZeros_60, w_J8_numberOfTrailingZeros_61, w_J8_numberOfTrailingZeros_62, w_J8_numberOfTrailingZeros_63, w_J8_numberOfTrailingZeros_64, w_J8_numberOfTrailingZeros_67, w_J8_numberOfTrailingZeros_70, w_J8_numberOfTrailingZeros_71, w_J8_numberOfTrailingZeros_72, w_J8_numberOfTrailingZeros_73, w_J8_numberOfTrailingZeros_74, w_J8_numberOfTrailingZeros_75, w_J8_numberOfTrailingZeros_76, w_J8_numberOfTrailingZeros_77, w_J8_numberOfTrailingZeros_78, w_J8_numberOfTrailingZeros_79, gI_mk, gL_mk, gR_mk, gK_mk, sI_mk, sL_mk, va_rf, bO_l, bO_r, true_and, and_true, Option.toList, List.cons_append, List.nil_append]
  rfl
theorem j_ntz {s : Nat} (h0 : 0 < s) (h : s < 1024) : WC S d 155 [.int (iI (s : Int))] m Q = Q (.inl (some (.int (iI ((lowS s 10 0 : Nat) : Int))), m)) := by
  rw [j_ntz0, ntJ_ok ⟨s, h⟩ h0]
end JBITS
