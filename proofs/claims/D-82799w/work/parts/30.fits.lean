/-! THE LOG'S CENTRE -/
section FITS
set_option maxRecDepth 100000
variable {S : Nat × (Nat → Int32)} {d : Nat} {F : PInt} {L : PLng} {T : PRest} {Q : POut → Prop}
/-- a cell of the net is in the log -/
def InP (N : Nat → Int32) (y x : Int) : Prop := 0 ≤ y ∧ y < 24 ∧ 0 ≤ x ∧ x < 24 ∧ N y.toNat >>> (iI x &&& iI 31) &&& iI 1 = iI 1
theorem x_isIn (h : LayX T) {y x : Int} (h1 : -1000 ≤ y) (h2 : y ≤ 1000) (h3 : -1000 ≤ x) (h4 : x ≤ 1000) : WC S d 4 [.ref 0, .int (iI y), .int (iI x)] (F, L, T) Q = Q (.inl (some (.int (tI (InP (F 1) y x))), (F, L, T))) := by
  simp only [w_X0_isIn_in, w_X0_isIn_0, w_X0_isIn_1, w_X0_isIn_4, w_X0_isIn_5, w_X0_isIn_7, w_X0_isIn_10, w_X0_isIn_11, w_X0_isIn_14, w_X0_isIn_15, w_X0_isIn_17, w_X0_isIn_20, w_X0_isIn_21, w_X0_isIn_24, w_X0_isIn_25, w_X0_isIn_26, w_X0_isIn_27, w_X0_isIn_28, w_X0_isIn_29, w_X0_isIn_30, w_X0_isIn_31, w_X0_isIn_34, w_X0_isIn_35, w_X0_isIn_38, w_X0_isIn_39, gI_mk, gL_mk, gR_mk, gK_mk, sI_mk, sL_mk, va_rf, bO_l, bO_r, true_and, and_true, Option.toList, List.cons_append, List.nil_append, lk0 h, lk1 h, lk6 h, lk7 h, lk8 h, lk9 h, lk10 h, lk11 h, lk12 h, lk13 h, lk14 h, lk15 h, lk16 h, lk17 h, lk18 h, lk19 h, lk20 h, lk21 h, lXr0 h, lXr7 h, lXr9 h, lXr13 h, lXr14 h, lXr15 h, lXr16 h, lXr17 h, lXr19 h, lXr20 h, lXr21 h, lXr22 h, lXr23 h, lXr24 h, lXr30 h, lXr31 h, lXr32 h, iI_lit, Int.cast_ofNat_Int]
  simp (disch := omega) only [iI_lt, iI_le]
  have e0 : ∀ p : Prop, ¬ p → (Q (.inl (some (.int (iI 0)), (F, L, T))) = Q (.inl (some (.int (tI p)), (F, L, T)))) := fun p hp => by
    rw [tI_f hp]; rfl
  simp only [true_or, or_true, true_and]
  split
  · exact e0 _ (fun hp => by have := hp.1; omega)
  · split
    · exact e0 _ (fun hp => by have := hp.2.1; omega)
    · split
      · exact e0 _ (fun hp => by have := hp.2.2.1; omega)
      · split
        · exact e0 _ (fun hp => by have := hp.2.2.2.1; omega)
        · rw [iI_t (by omega) (by omega), iI_c (by omega) (by omega)]
          rw [eq_true (show 0 ≤ y ∧ y < 24 by omega), true_and]
          split
          · rename_i hn
            exact e0 _ (fun hp => hn hp.2.2.2.2)
          · rename_i hn
            rw [tI_t ⟨by omega, by omega, by omega, by omega, Classical.not_not.mp hn⟩]
            rfl
/-- fits: what is asked of one row's cells from b on -/
def FitR (N : Nat → Int32) (y x r a b : Int) : Prop := ∀ b', b ≤ b' → b' ≤ r → a * a + b' * b' ≤ r * r → InP N (y + a) (x + b')
def FitP (N : Nat → Int32) (y x r a : Int) : Prop := ∀ a', a ≤ a' → a' ≤ r → FitR N y x r a' (-r)
theorem sq_rng {a : Int} (h1 : -100 ≤ a) (h2 : a ≤ 100) : 0 ≤ a * a ∧ a * a ≤ 10000 := by
  constructor
  · rcases Int.le_total 0 a with h | h
    · exact Int.mul_nonneg h h
    · have := Int.mul_nonneg (Int.neg_nonneg_of_nonpos h) (Int.neg_nonneg_of_nonpos h)
      rwa [Int.neg_mul_neg] at this
  · have : 0 ≤ (100 - a) * (100 + a) := Int.mul_nonneg (by omega) (by omega)
    have e : (100 - a) * (100 + a) = 10000 - a * a := by
      rw [Int.sub_mul, Int.mul_add, Int.mul_add, Int.mul_comm a 100]
      omega
    omega
theorem FitR_end {N : Nat → Int32} {y x r a b : Int} (h : r < b) : FitR N y x r a b := fun b' q1 q2 => by omega
theorem FitR_step {N : Nat → Int32} {y x r a b : Int} (h : b ≤ r) : FitR N y x r a b ↔ (a * a + b * b ≤ r * r → InP N (y + a) (x + b)) ∧ FitR N y x r a (b + 1) := by
  constructor
  · exact fun h1 => ⟨fun q => h1 b (Int.le_refl _) h q, fun b' q1 q2 => h1 b' (by omega) q2⟩
  · rintro ⟨h1, h2⟩ b' q1 q2 q3
    by_cases e : b' = b
    · subst e
      exact h1 q3
    · exact h2 b' (by omega) q2 q3
theorem FitP_end {N : Nat → Int32} {y x r a : Int} (h : r < a) : FitP N y x r a := fun b' q1 q2 => by omega
theorem FitP_step {N : Nat → Int32} {y x r a : Int} (h : a ≤ r) : FitP N y x r a ↔ FitR N y x r a (-r) ∧ FitP N y x r (a + 1) := by
  constructor
  · exact fun h1 => ⟨h1 a (Int.le_refl _) h, fun b' q1 q2 => h1 b' (by omega) q2⟩
  · rintro ⟨h1, h2⟩ b' q1 q2
    by_cases e : b' = a
    · subst e
      exact h1
    · exact h2 b' (by omega) q2
theorem tI_0 {p : Prop} : (tI p = iI 0) = ¬ p := by
  apply propext
  constructor
  · intro h hp
    rw [tI_t hp] at h
    exact absurd h (by decide)
  · intro h
    rw [tI_f h]
    rfl
theorem x_fits_14 (h : LayX T) {y x r a : Int} (y1 : 0 ≤ y) (y2 : y ≤ 50) (x1 : 0 ≤ x) (x2 : x ≤ 50) (r1 : 0 ≤ r) (r2 : r ≤ 50) (a1 : -r ≤ a) (a2 : a ≤ r) : ∀ (n : Nat) (b : Int), r + 1 - b = n → -r ≤ b →
    (FitR (F 1) y x r a b → WP S (d + 1) 3 14 [some (.ref 0), some (.int (iI y)), some (.int (iI x)), some (.int (iI r)), some (.int (iI a)), some (.int (iI b))] [] (F, L, T) Q = WP S (d + 1) 3 4 [some (.ref 0), some (.int (iI y)), some (.int (iI x)), some (.int (iI r)), some (.int (iI (a + 1))), some (.int (iI (r + 1)))] [] (F, L, T) Q) ∧
    (¬ FitR (F 1) y x r a b → WP S (d + 1) 3 14 [some (.ref 0), some (.int (iI y)), some (.int (iI x)), some (.int (iI r)), some (.int (iI a)), some (.int (iI b))] [] (F, L, T) Q = Q (.inl (some (.int 0), (F, L, T)))) := by
  intro n
  induction n with
  | zero =>
    intro b hb hb1
    have hr : r < b := by omega
    obtain rfl : b = r + 1 := by omega
    refine ⟨fun _ => ?_, fun hn => absurd (fun b' q1 q2 => by omega) hn⟩
    rw [w_X0_fits_14]
    simp (disch := omega) only [w_X0_fits_6, w_X0_fits_7, w_X0_fits_10, w_X0_fits_11, w_X0_fits_12, w_X0_fits_16, w_X0_fits_17, w_X0_fits_20, w_X0_fits_22, w_X0_fits_24, w_X0_fits_25, w_X0_fits_27, w_X0_fits_29, w_X0_fits_30, w_X0_fits_31, w_X0_fits_32, w_X0_fits_33, w_X0_fits_34, w_X0_fits_37, w_X0_fits_38, w_X0_fits_39, w_X0_fits_41, w_X0_fits_42, w_X0_fits_43, w_X0_fits_45, w_X0_fits_46, w_X0_fits_49, w_X0_fits_52, w_X0_fits_53, w_X0_fits_54, w_X0_fits_57, w_X0_fits_60, w_X0_fits_63, w_X0_fits_66, w_X0_fits_67, gI_mk, gL_mk, gR_mk, gK_mk, sI_mk, sL_mk, va_rf, bO_l, bO_r, true_and, and_true, Option.toList, List.cons_append, List.nil_append, iI_lit, Int.cast_ofNat_Int, iI_add, iI_lt, hr, if_true]
  | succ n ih =>
    intro b hb hb1
    have hr : ¬ r < b := by omega
    have sa := sq_rng (a := a) (by omega) (by omega)
    have sb := sq_rng (a := b) (by omega) (by omega)
    have sr := sq_rng (a := r) (by omega) (by omega)
    have ih := ih (b + 1) (by omega) (by omega)
    rw [w_X0_fits_14]
    simp (disch := omega) only [w_X0_fits_6, w_X0_fits_7, w_X0_fits_10, w_X0_fits_11, w_X0_fits_12, w_X0_fits_16, w_X0_fits_17, w_X0_fits_20, w_X0_fits_22, w_X0_fits_24, w_X0_fits_25, w_X0_fits_27, w_X0_fits_29, w_X0_fits_30, w_X0_fits_31, w_X0_fits_32, w_X0_fits_33, w_X0_fits_34, w_X0_fits_37, w_X0_fits_38, w_X0_fits_39, w_X0_fits_41, w_X0_fits_42, w_X0_fits_43, w_X0_fits_45, w_X0_fits_46, w_X0_fits_49, w_X0_fits_52, w_X0_fits_53, w_X0_fits_54, w_X0_fits_57, w_X0_fits_60, w_X0_fits_63, w_X0_fits_66, w_X0_fits_67, gI_mk, gL_mk, gR_mk, gK_mk, sI_mk, sL_mk, va_rf, bO_l, bO_r, true_and, and_true, Option.toList, List.cons_append, List.nil_append, lk0 h, lk1 h, lk6 h, lk7 h, lk8 h, lk9 h, lk10 h, lk11 h, lk12 h, lk13 h, lk14 h, lk15 h, lk16 h, lk17 h, lk18 h, lk19 h, lk20 h, lk21 h, lXr0 h, lXr7 h, lXr9 h, lXr13 h, lXr14 h, lXr15 h, lXr16 h, lXr17 h, lXr19 h, lXr20 h, lXr21 h, lXr22 h, lXr23 h, lXr24 h, lXr30 h, lXr31 h, lXr32 h, iI_lit, Int.cast_ofNat_Int, iI_add, iI_mul, iI_lt, x_isIn h, hr, if_false]
    rw [FitR_step (b := b) (by omega)]
    simp only [true_or, true_and]
    by_cases c1 : r * r < a * a + b * b
    · simp only [c1, if_true, show ¬ a * a + b * b ≤ r * r by omega, false_implies, true_and]
      exact ih
    · simp only [c1, if_false, show a * a + b * b ≤ r * r by omega, true_implies]
      by_cases c2 : InP (F 1) (y + a) (x + b)
      · have e : ¬ tI (InP (F 1) (y + a) (x + b)) = iI 0 := by rw [tI_t c2]; decide
        rw [if_pos e, eq_true c2, true_and]
        exact ih
      · have e : ¬ ¬ tI (InP (F 1) (y + a) (x + b)) = iI 0 := by rw [tI_f c2]; decide
        rw [if_neg e, eq_false c2]
        simp only [false_and, false_implies, true_and, not_false_eq_true, true_implies]
theorem x_fits_4 (h : LayX T) {y x r : Int} (y1 : 0 ≤ y) (y2 : y ≤ 50) (x1 : 0 ≤ x) (x2 : x ≤ 50) (r1 : 0 ≤ r) (r2 : r ≤ 50) : ∀ (n : Nat) (a : Int) (l5 : Option Value), r + 1 - a = n → -r ≤ a →
    WP S (d + 1) 3 4 [some (.ref 0), some (.int (iI y)), some (.int (iI x)), some (.int (iI r)), some (.int (iI a)), l5] [] (F, L, T) Q = Q (.inl (some (.int (tI (FitP (F 1) y x r a))), (F, L, T))) := by
  intro n
  induction n with
  | zero =>
    intro a l5 hb hb1
    have hr : r < a := by omega
    rw [w_X0_fits_4]
    simp (disch := omega) only [w_X0_fits_6, w_X0_fits_7, w_X0_fits_10, w_X0_fits_11, w_X0_fits_12, w_X0_fits_16, w_X0_fits_17, w_X0_fits_20, w_X0_fits_22, w_X0_fits_24, w_X0_fits_25, w_X0_fits_27, w_X0_fits_29, w_X0_fits_30, w_X0_fits_31, w_X0_fits_32, w_X0_fits_33, w_X0_fits_34, w_X0_fits_37, w_X0_fits_38, w_X0_fits_39, w_X0_fits_41, w_X0_fits_42, w_X0_fits_43, w_X0_fits_45, w_X0_fits_46, w_X0_fits_49, w_X0_fits_52, w_X0_fits_53, w_X0_fits_54, w_X0_fits_57, w_X0_fits_60, w_X0_fits_63, w_X0_fits_66, w_X0_fits_67, gI_mk, gL_mk, gR_mk, gK_mk, sI_mk, sL_mk, va_rf, bO_l, bO_r, true_and, and_true, Option.toList, List.cons_append, List.nil_append, iI_lit, Int.cast_ofNat_Int, iI_add, iI_lt, hr, if_true]
    rw [tI_t (FitP_end hr)]
    simp only [or_true, true_and]
    rfl
  | succ n ih =>
    intro a l5 hb hb1
    have hr : ¬ r < a := by omega
    rw [w_X0_fits_4]
    simp (disch := omega) only [w_X0_fits_6, w_X0_fits_7, w_X0_fits_10, w_X0_fits_11, w_X0_fits_12, w_X0_fits_16, w_X0_fits_17, w_X0_fits_20, w_X0_fits_22, w_X0_fits_24, w_X0_fits_25, w_X0_fits_27, w_X0_fits_29, w_X0_fits_30, w_X0_fits_31, w_X0_fits_32, w_X0_fits_33, w_X0_fits_34, w_X0_fits_37, w_X0_fits_38, w_X0_fits_39, w_X0_fits_41, w_X0_fits_42, w_X0_fits_43, w_X0_fits_45, w_X0_fits_46, w_X0_fits_49, w_X0_fits_52, w_X0_fits_53, w_X0_fits_54, w_X0_fits_57, w_X0_fits_60, w_X0_fits_63, w_X0_fits_66, w_X0_fits_67, gI_mk, gL_mk, gR_mk, gK_mk, sI_mk, sL_mk, va_rf, bO_l, bO_r, true_and, and_true, Option.toList, List.cons_append, List.nil_append, iI_lit, Int.cast_ofNat_Int, iI_add, iI_neg, iI_lt, hr, if_false]
    have k := x_fits_14 (S := S) (d := d) (F := F) (L := L) (Q := Q) h y1 y2 x1 x2 r1 r2 hb1 (by omega) (2 * r + 1).toNat (-r) (by omega) (by omega)
    by_cases c : FitR (F 1) y x r a (-r)
    · rw [k.1 c, ih (a + 1) _ (by omega) (by omega)]
      have e : FitP (F 1) y x r a ↔ FitP (F 1) y x r (a + 1) := by
        rw [FitP_step (a := a) (by omega)]
        exact ⟨fun q => q.2, fun q => ⟨c, q⟩⟩
      rw [propext e]
    · rw [k.2 c, tI_f (fun q => c ((FitP_step (by omega)).mp q).1)]
theorem x_fits (h : LayX T) {y x r : Int} (y1 : 0 ≤ y) (y2 : y ≤ 50) (x1 : 0 ≤ x) (x2 : x ≤ 50) (r1 : 0 ≤ r) (r2 : r ≤ 50) :
    WC S (d + 1) 3 [.ref 0, .int (iI y), .int (iI x), .int (iI r)] (F, L, T) Q = Q (.inl (some (.int (tI (FitP (F 1) y x r (-r)))), (F, L, T))) := by
  simp only [w_X0_fits_in, w_X0_fits_0, w_X0_fits_1, w_X0_fits_2, iI_neg]
  exact x_fits_4 h y1 y2 x1 x2 r1 r2 (2 * r + 1).toNat (-r) none (by omega) (by omega)
end FITS
