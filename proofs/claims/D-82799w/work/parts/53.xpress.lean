-- dep: 23 24 51 52
/-! THE PRESS, x's side -/
section XPRESS
set_option maxRecDepth 100000
variable {S : Nat × (Nat → Int32)} {d : Nat} {F : PInt} {L : PLng} {T : PRest} {Q : POut → Prop} {m : PMem}
theorem j_max {a b : Int} (h1 : -2147483648 ≤ a) (h2 : a < 2147483648) (h3 : -2147483648 ≤ b) (h4 : b < 2147483648) : WC S d 152 [.int (iI a), .int (iI b)] m Q = Q (.inl (some (.int (iI (max a b))), m)) := by
  simp (disch := omega) only [w_J4_max_in, w_J4_max_0, w_J4_max_1, w_J4_max_2, w_J4_max_5, w_J4_max_6, w_J4_max_9, w_J4_max_10, gI_mk, gL_mk, gR_mk, gK_mk, sI_mk, sL_mk, va_rf, bO_l, bO_r, true_and, and_true, Option.toList, List.cons_append, List.nil_append, iI_lt, iI_le]
  by_cases h : a < b
  · rw [show max a b = b by omega]
    simp only [h, if_true, if_false, show ¬ b ≤ a by omega]
  · rw [show max a b = a by omega]
    simp only [h, if_true, if_false, show b ≤ a by omega]
theorem j_min {a b : Int} (h1 : -2147483648 ≤ a) (h2 : a < 2147483648) (h3 : -2147483648 ≤ b) (h4 : b < 2147483648) : WC S d 153 [.int (iI a), .int (iI b)] m Q = Q (.inl (some (.int (iI (min a b))), m)) := by
  simp (disch := omega) only [w_J4_min_in, w_J4_min_0, w_J4_min_1, w_J4_min_2, w_J4_min_5, w_J4_min_6, w_J4_min_9, w_J4_min_10, gI_mk, gL_mk, gR_mk, gK_mk, sI_mk, sL_mk, va_rf, bO_l, bO_r, true_and, and_true, Option.toList, List.cons_append, List.nil_append, iI_lt, iI_le]
  by_cases h : b < a
  · rw [show min a b = b by omega]
    simp only [h, if_true, if_false, show ¬ a ≤ b by omega]
  · rw [show min a b = a by omega]
    simp only [h, if_true, if_false, show a ≤ b by omega]
def PrX (r : Pr) (F : PInt) : Prop := F 0 25 = iI (prN r) ∧ F 0 26 = iI (prO r) ∧ F 0 27 = iI (prB r) ∧ F 0 28 = iI (prP r) ∧ F 0 29 = iI (prL r) ∧ (∀ b, b < prN r → F 17 b = iI (prT r b) ∧ F 18 b = iI (prM r b))
theorem scT_rng {r : Pr} (hr : PrOk r) (s : Nat) : ∀ b, b ≤ prN r → -1 ≤ (scT r s b).getD (-1) ∧ (scT r s b).getD (-1) ≤ 500 ∧ ((scT r s b).getD (-1) < 0 → scT r s b = none) := by
  intro b
  induction b with
  | zero => exact fun _ => ⟨by show (-1 : Int) ≤ -1; decide, by show (-1 : Int) ≤ 500; decide, fun _ => rfl⟩
  | succ b ih =>
    intro hb
    have h1 := hr.2.1 b (by omega)
    unfold scT
    split
    · exact ⟨by show -1 ≤ prT r b; omega, by show prT r b ≤ 500; omega, fun h => by have h : prT r b < 0 := h; omega⟩
    · exact ih (by omega)
theorem scF_rng {r : Pr} (hr : PrOk r) (s : Nat) {D : Int} (hD : 10000 ≤ D) : ∀ b, b ≤ prN r → 0 ≤ (scF r s b).getD D ∧ (scF r s b).getD D ≤ D := by
  intro b hb
  have := (scF_ex r hr s b hb).1
  cases h : scF r s b with
  | none => exact ⟨by show 0 ≤ D; omega, Int.le_refl D⟩
  | some z =>
    have := this z h
    exact ⟨by show 0 ≤ z; omega, by show z ≤ D; omega⟩
theorem scA_down {r : Pr} {s : Nat} {b : Nat} : ∀ n, scA r s (b + n) → scA r s b := by
  intro n
  induction n with
  | zero => exact id
  | succ n ih => exact fun h => ih h.1
theorem x_begins_15 (h : LayX T) {r : Pr} (hr : PrOk r) (hx : PrX r F) {s : Nat} (hs : s < 1024) {f : Int} (f0 : 0 ≤ f) (f1 : f ≤ 1000000) : ∀ (n b : Nat), prN r - b = n → b ≤ prN r → scA r s b →
    WP S (d + 1) 41 15 [some (.ref 0), some (.int (iI (s : Int))), some (.int (iI f)), some (.int (iI ((scT r s b).getD (-1)))), some (.int (iI ((scF r s b).getD 1000000))), some (.int (iI (scL r s b))), some (.int (iI (scN s b : Int))), some (.int (iI (b : Int)))] [] (F, L, T) Q = Q (.inl (some (.int (iI (key (putS r s f)))), (F, L, T))) := by
  intro n
  induction n with
  | zero =>
    intro b hn hb hA
    obtain rfl : b = prN r := by omega
    have q1 := scL_nn r s (prN r)
    have q2 := scL_le r hr s (prN r) (Nat.le_refl _)
    have q3 := scF_rng hr s (D := 1000000) (by omega) (prN r) (Nat.le_refl _)
    have q4 := scN_le s (prN r)
    obtain ⟨o1, o2, o3, o4, o5, o6, o7, o8, o9, o10⟩ := hr
    obtain ⟨e1, e2, e3, e4, e5, e6⟩ := hx
    rw [w_X0_begins_15]
    simp (disch := omega) only [w_X0_begins_17, w_X0_begins_18, w_X0_begins_21, w_X0_begins_24, w_X0_begins_25, w_X0_begins_27, w_X0_begins_28, w_X0_begins_29, w_X0_begins_30, w_X0_begins_33, w_X0_begins_36, w_X0_begins_37, w_X0_begins_40, w_X0_begins_41, w_X0_begins_44, w_X0_begins_46, w_X0_begins_47, w_X0_begins_48, w_X0_begins_51, w_X0_begins_53, w_X0_begins_54, w_X0_begins_55, w_X0_begins_58, w_X0_begins_60, w_X0_begins_61, w_X0_begins_62, w_X0_begins_64, w_X0_begins_65, w_X0_begins_68, w_X0_begins_70, w_X0_begins_71, w_X0_begins_74, w_X0_begins_76, w_X0_begins_78, w_X0_begins_79, w_X0_begins_82, w_X0_begins_84, w_X0_begins_85, w_X0_begins_88, w_X0_begins_90, w_X0_begins_93, w_X0_begins_96, w_X0_begins_99, w_X0_begins_100, w_X0_begins_102, w_X0_begins_105, w_X0_begins_107, w_X0_begins_109, w_X0_begins_110, w_X0_begins_113, w_X0_begins_116, w_X0_begins_118, w_X0_begins_120, w_X0_begins_121, w_X0_begins_124, w_X0_begins_125, w_X0_begins_128, w_X0_begins_130, w_X0_begins_133, w_X0_begins_135, gI_mk, gL_mk, gR_mk, gK_mk, sI_mk, sL_mk, va_rf, bO_l, bO_r, true_and, and_true, Option.toList, List.cons_append, List.nil_append, lk0 h, lk1 h, lk6 h, lk7 h, lk8 h, lk9 h, lk10 h, lk11 h, lk12 h, lk13 h, lk14 h, lk15 h, lk16 h, lk17 h, lk18 h, lk19 h, lk20 h, lk21 h, lXr0 h, lXr7 h, lXr9 h, lXr13 h, lXr14 h, lXr15 h, lXr16 h, lXr17 h, lXr19 h, lXr20 h, lXr21 h, lXr22 h, lXr23 h, lXr24 h, lXr30 h, lXr31 h, lXr32 h, e1, e2, e3, e4, e5, iI_lit, Int.cast_ofNat_Int, iI_le, iI_lt, iI_add, j_max, Int.le_refl, if_true]
    unfold putS
    by_cases c : (scN s (prN r) : Int) ≤ prO r
    · by_cases c2 : max f (scL r s (prN r)) ≤ (scF r s (prN r)).getD 1000000 + prL r
      · rw [pI_t ⟨hA, c, c2⟩]
        simp only [show ¬ prO r < (scN s (prN r) : Int) by omega, c2, if_true, if_false]
        rfl
      · rw [pI_f (fun q => c2 q.2.2)]
        simp only [show ¬ prO r < (scN s (prN r) : Int) by omega, c2, if_true, if_false]
        rfl
    · rw [pI_f (fun q => c q.2.1)]
      simp only [show prO r < (scN s (prN r) : Int) by omega, if_true, if_false]
      rfl
  | succ n ih =>
    intro b hn hb hA
    have hb' : b < prN r := by omega
    have ih := ih (b + 1) (by omega) (by omega)
    have q0 := scT_rng hr s b hb
    have q1 := scL_nn r s b
    have q2 := scL_le r hr s b hb
    have q3 := scF_rng hr s (D := 1000000) (by omega) b hb
    have q4 := scN_le s b
    have p := hr
    obtain ⟨o1, o2, o3, o4, o5, o6, o7, o8, o9, o10⟩ := hr
    obtain ⟨e1, e2, e3, e4, e5, e6⟩ := hx
    have o2 := o2 b hb'
    rw [w_X0_begins_15]
    simp (disch := omega) only [w_X0_begins_17, w_X0_begins_18, w_X0_begins_21, w_X0_begins_24, w_X0_begins_25, w_X0_begins_27, w_X0_begins_28, w_X0_begins_29, w_X0_begins_30, w_X0_begins_33, w_X0_begins_36, w_X0_begins_37, w_X0_begins_40, w_X0_begins_41, w_X0_begins_44, w_X0_begins_46, w_X0_begins_47, w_X0_begins_48, w_X0_begins_51, w_X0_begins_53, w_X0_begins_54, w_X0_begins_55, w_X0_begins_58, w_X0_begins_60, w_X0_begins_61, w_X0_begins_62, w_X0_begins_64, w_X0_begins_65, w_X0_begins_68, w_X0_begins_70, w_X0_begins_71, w_X0_begins_74, w_X0_begins_76, w_X0_begins_78, w_X0_begins_79, w_X0_begins_82, w_X0_begins_84, w_X0_begins_85, w_X0_begins_88, w_X0_begins_90, w_X0_begins_93, w_X0_begins_96, w_X0_begins_99, w_X0_begins_100, w_X0_begins_102, w_X0_begins_105, w_X0_begins_107, w_X0_begins_109, w_X0_begins_110, w_X0_begins_113, w_X0_begins_116, w_X0_begins_118, w_X0_begins_120, w_X0_begins_121, w_X0_begins_124, w_X0_begins_125, w_X0_begins_128, w_X0_begins_130, w_X0_begins_133, w_X0_begins_135, gI_mk, gL_mk, gR_mk, gK_mk, sI_mk, sL_mk, va_rf, bO_l, bO_r, true_and, and_true, Option.toList, List.cons_append, List.nil_append, lk0 h, lk1 h, lk6 h, lk7 h, lk8 h, lk9 h, lk10 h, lk11 h, lk12 h, lk13 h, lk14 h, lk15 h, lk16 h, lk17 h, lk18 h, lk19 h, lk20 h, lk21 h, lXr0 h, lXr7 h, lXr9 h, lXr13 h, lXr14 h, lXr15 h, lXr16 h, lXr17 h, lXr19 h, lXr20 h, lXr21 h, lXr22 h, lXr23 h, lXr24 h, lXr30 h, lXr31 h, lXr32 h, e1, (e6 b hb').1, (e6 b hb').2, iI_lit, Int.cast_ofNat_Int, iI_le, iI_lt, iI_eq, iI_add, j_max, j_min, b_bit, iI_t, iI_c, Int.toNat_natCast, show ¬ (prN r : Int) ≤ (b : Int) by omega, if_true, if_false, true_and, show (0 : Int) ≤ (b : Int) ∧ (b : Int) < ((10 : Nat) : Int) by omega]
    have hb10 : (b : Int) < 10 := by omega
    have eb : ((b + 1 : Nat) : Int) = (b : Int) + 1 := by omega
    have en : ((scN s b + 1 : Nat) : Int) = (scN s b : Int) + 1 := by omega
    by_cases c : s.testBit b = true
    · simp only [c, if_true, scA, scT, scF, scL, scN, true_implies, eb, en, Option.getD_some] at ih
      simp only [c, if_true, show ¬ (1 : Int) = 0 by decide, not_false_eq_true, hb10, true_and]
      have emin : min ((scF r s b).getD 1000000) (prM r b) = min (prM r b) ((scF r s b).getD (prM r b)) := by
        cases scF r s b with
        | none => show min (1000000 : Int) _ = min _ (prM r b); omega
        | some z => show min z _ = min _ z; omega
      rw [emin]
      by_cases c2 : (scT r s b).getD (-1) < 0
      · rw [if_pos c2]
        exact ih ⟨hA, by rw [q0.2.2 c2]; rfl⟩
      · rw [if_neg c2]
        have eT : (scT r s b).getD (prT r b) = (scT r s b).getD (-1) := by
          cases hT : scT r s b with
          | none => rw [hT] at c2; exact absurd (show (-1 : Int) < 0 by decide) c2
          | some z => rfl
        by_cases c3 : prT r b = (scT r s b).getD (-1)
        · rw [if_pos c3]
          exact ih ⟨hA, by rw [eT]; exact c3.symm⟩
        · rw [if_neg c3]
          unfold putS
          rw [pI_f]
          · rfl
          · intro q
            have q := q.1
            rw [show prN r = b + 1 + n by omega] at q
            have q := (scA_down n q).2 c
            rw [eT] at q
            exact c3 q.symm
    · simp only [c, if_false, scA, scT, scF, scL, scN, false_implies, eb, and_true, Bool.false_eq_true] at ih
      simp only [c, if_false, not_true_eq_false, Bool.false_eq_true]
      exact ih hA
theorem x_begins (h : LayX T) {r : Pr} (hr : PrOk r) (hx : PrX r F) {s : Nat} (hs : s < 1024) {f : Int} (f0 : 0 ≤ f) (f1 : f ≤ 1000000) :
    WC S (d + 1) 41 [.ref 0, .int (iI (s : Int)), .int (iI f)] (F, L, T) Q = Q (.inl (some (.int (iI (key (putS r s f)))), (F, L, T))) := by
  simp only [w_X0_begins_in, w_X0_begins_0, w_X0_begins_1, w_X0_begins_2, w_X0_begins_4, w_X0_begins_6, w_X0_begins_7, w_X0_begins_9, w_X0_begins_10, w_X0_begins_12, w_X0_begins_13]
  exact x_begins_15 h hr hx hs f0 f1 (prN r) 0 (by omega) (by omega) trivial
theorem x_takes (h : LayX T) {r : Pr} (hr : PrOk r) (hx : PrX r F) {s : Nat} (h0 : 0 < s) (hs : s < 2 ^ prN r) :
    WC S (d + 1) 42 [.ref 0, .int (iI (s : Int))] (F, L, T) Q = Q (.inl (some (.int (iI (tksS r s))), (F, L, T))) := by
  have hl := lowS_lt r hr h0 hs
  have h1 := hr.1
  have hs2 : s < 1024 := Nat.lt_of_lt_of_le hs (Nat.pow_le_pow_right (by omega) h1 : 2 ^ prN r ≤ 2 ^ 10)
  obtain ⟨e1, e2, e3, e4, e5, e6⟩ := hx
  simp (disch := omega) only [w_X0_takes_in, w_X0_takes_0, w_X0_takes_1, w_X0_takes_4, w_X0_takes_5, w_X0_takes_8, w_X0_takes_9, w_X0_takes_12, w_X0_takes_13, w_X0_takes_16, w_X0_takes_17, w_X0_takes_18, w_X0_takes_19, gI_mk, gL_mk, gR_mk, gK_mk, sI_mk, sL_mk, va_rf, bO_l, bO_r, true_and, and_true, Option.toList, List.cons_append, List.nil_append, lk0 h, lk1 h, lk6 h, lk7 h, lk8 h, lk9 h, lk10 h, lk11 h, lk12 h, lk13 h, lk14 h, lk15 h, lk16 h, lk17 h, lk18 h, lk19 h, lk20 h, lk21 h, lXr0 h, lXr7 h, lXr9 h, lXr13 h, lXr14 h, lXr15 h, lXr16 h, lXr17 h, lXr19 h, lXr20 h, lXr21 h, lXr22 h, lXr23 h, lXr24 h, lXr30 h, lXr31 h, lXr32 h, e3, e4, j_ntz, iI_t, iI_c, Int.toNat_natCast, (e6 _ hl).1, iI_mul, iI_add]
  simp only [show (0 : Int) ≤ (lowS s 10 0 : Int) ∧ (lowS s 10 0 : Int) < ((10 : Nat) : Int) by omega, true_and]
  rfl
/-- the table of sets, as far as it is made -/
def OutX (r : Pr) (n : Nat) (F : PInt) : Prop := ∀ s, s < n → F 19 s = iI (key (oS r s))
theorem key_oS {r : Pr} (hr : PrOk r) {s : Nat} (h : s < 2 ^ prN r) : (oS r s = none ∧ key (oS r s) = 1000000) ∨ (∃ a, oS r s = some a ∧ key (oS r s) = a ∧ 0 ≤ a ∧ a ≤ 16100) := by
  cases ho : oS r s with
  | none => exact Or.inl ⟨rfl, rfl⟩
  | some a => exact Or.inr ⟨a, rfl, rfl, oS_rng r hr h ho⟩
theorem x_outBy (h : LayX T) {r : Pr} (hr : PrOk r) (hx : PrX r F) {s l n : Nat} (ho : OutX r n F) (h0 : 0 < l) (hl : SbS l s) (hs : s < 2 ^ prN r) (hn : s ≤ n) :
    WC S (d + 2) 40 [.ref 0, .int (iI (s : Int)), .int (iI (l : Int))] (F, L, T) Q = Q (.inl (some (.int (iI (key (obS r (oS r) s l)))), (F, L, T))) := by
  have h1 := hr.1
  have hs2 : s < 1024 := Nat.lt_of_lt_of_le hs (Nat.pow_le_pow_right (by omega) h1 : 2 ^ prN r ≤ 2 ^ 10)
  have hle := SbS_le hl
  have hxl := xor_lt hl h0
  have e0 := ho (s ^^^ l) (by omega)
  have hk := key_oS hr (s := s ^^^ l) (by omega)
  have hl2 : l < 2 ^ prN r := by omega
  have ht := tksS_rng r hr h0 hl2
  simp (disch := omega) only [w_X0_outBy_in, w_X0_outBy_0, w_X0_outBy_1, w_X0_outBy_4, w_X0_outBy_5, w_X0_outBy_6, w_X0_outBy_7, w_X0_outBy_8, w_X0_outBy_10, w_X0_outBy_13, w_X0_outBy_15, w_X0_outBy_16, w_X0_outBy_17, w_X0_outBy_18, w_X0_outBy_19, w_X0_outBy_22, w_X0_outBy_23, w_X0_outBy_24, w_X0_outBy_25, w_X0_outBy_26, w_X0_outBy_29, w_X0_outBy_30, w_X0_outBy_31, w_X0_outBy_33, w_X0_outBy_36, w_X0_outBy_38, w_X0_outBy_41, w_X0_outBy_42, w_X0_outBy_43, w_X0_outBy_44, w_X0_outBy_47, w_X0_outBy_48, gI_mk, gL_mk, gR_mk, gK_mk, sI_mk, sL_mk, va_rf, bO_l, bO_r, true_and, and_true, Option.toList, List.cons_append, List.nil_append, iI_lit, Int.cast_ofNat_Int, iI_add, iI_sub, iI_mul, iI_neg, iI_lt, iI_le, iI_eq, iI_t, iI_c, Int.toNat_natCast, if_true, if_false, aD_lt, aD_le, not_true_eq_false, not_false_eq_true, Nat.reduceEqDiff, Int.reduceToNat, Int.reduceEq, Int.reduceLT, Int.reduceLE, Int.reduceAdd, Int.reduceSub, Int.reduceMul, Int.reduceNeg, false_and, and_false, true_or, or_true, false_or, or_false, lk0 h, lk1 h, lk6 h, lk7 h, lk8 h, lk9 h, lk10 h, lk11 h, lk12 h, lk13 h, lk14 h, lk15 h, lk16 h, lk17 h, lk18 h, lk19 h, lk20 h, lk21 h, lXr0 h, lXr7 h, lXr9 h, lXr13 h, lXr14 h, lXr15 h, lXr16 h, lXr17 h, lXr19 h, lXr20 h, lXr21 h, lXr22 h, lXr23 h, lXr24 h, lXr30 h, lXr31 h, lXr32 h, b_xor, e0]
  rcases hk with ⟨k1, k2⟩ | ⟨a, k1, k2, k3, k4⟩
  · rw [k2, if_neg (by simp)]
    unfold obS
    rw [k1]
    rfl
  · have e : obS r (oS r) s l = (putS r l a).map fun a => a + tksS r l := by
      unfold obS
      rw [k1]
      rfl
    rw [k2, e, if_pos (by omega)]
    cases hp : putS r l a with
    | none =>
      simp (disch := omega) only [w_X0_outBy_in, w_X0_outBy_0, w_X0_outBy_1, w_X0_outBy_4, w_X0_outBy_5, w_X0_outBy_6, w_X0_outBy_7, w_X0_outBy_8, w_X0_outBy_10, w_X0_outBy_13, w_X0_outBy_15, w_X0_outBy_16, w_X0_outBy_17, w_X0_outBy_18, w_X0_outBy_19, w_X0_outBy_22, w_X0_outBy_23, w_X0_outBy_24, w_X0_outBy_25, w_X0_outBy_26, w_X0_outBy_29, w_X0_outBy_30, w_X0_outBy_31, w_X0_outBy_33, w_X0_outBy_36, w_X0_outBy_38, w_X0_outBy_41, w_X0_outBy_42, w_X0_outBy_43, w_X0_outBy_44, w_X0_outBy_47, w_X0_outBy_48, gI_mk, gL_mk, gR_mk, gK_mk, sI_mk, sL_mk, va_rf, bO_l, bO_r, true_and, and_true, Option.toList, List.cons_append, List.nil_append, iI_lit, Int.cast_ofNat_Int, iI_add, iI_sub, iI_mul, iI_neg, iI_lt, iI_le, iI_eq, iI_t, iI_c, Int.toNat_natCast, if_true, if_false, aD_lt, aD_le, not_true_eq_false, not_false_eq_true, Nat.reduceEqDiff, Int.reduceToNat, Int.reduceEq, Int.reduceLT, Int.reduceLE, Int.reduceAdd, Int.reduceSub, Int.reduceMul, Int.reduceNeg, false_and, and_false, true_or, or_true, false_or, or_false, lk0 h, lk1 h, lk6 h, lk7 h, lk8 h, lk9 h, lk10 h, lk11 h, lk12 h, lk13 h, lk14 h, lk15 h, lk16 h, lk17 h, lk18 h, lk19 h, lk20 h, lk21 h, lXr0 h, lXr7 h, lXr9 h, lXr13 h, lXr14 h, lXr15 h, lXr16 h, lXr17 h, lXr19 h, lXr20 h, lXr21 h, lXr22 h, lXr23 h, lXr24 h, lXr30 h, lXr31 h, lXr32 h, x_begins h hr hx, hp, key, Option.getD_none, Option.map_none]
    | some z =>
      have := putS_rng r hr (bit_ex h0 hl2) hp
      simp (disch := omega) only [w_X0_outBy_in, w_X0_outBy_0, w_X0_outBy_1, w_X0_outBy_4, w_X0_outBy_5, w_X0_outBy_6, w_X0_outBy_7, w_X0_outBy_8, w_X0_outBy_10, w_X0_outBy_13, w_X0_outBy_15, w_X0_outBy_16, w_X0_outBy_17, w_X0_outBy_18, w_X0_outBy_19, w_X0_outBy_22, w_X0_outBy_23, w_X0_outBy_24, w_X0_outBy_25, w_X0_outBy_26, w_X0_outBy_29, w_X0_outBy_30, w_X0_outBy_31, w_X0_outBy_33, w_X0_outBy_36, w_X0_outBy_38, w_X0_outBy_41, w_X0_outBy_42, w_X0_outBy_43, w_X0_outBy_44, w_X0_outBy_47, w_X0_outBy_48, gI_mk, gL_mk, gR_mk, gK_mk, sI_mk, sL_mk, va_rf, bO_l, bO_r, true_and, and_true, Option.toList, List.cons_append, List.nil_append, iI_lit, Int.cast_ofNat_Int, iI_add, iI_sub, iI_mul, iI_neg, iI_lt, iI_le, iI_eq, iI_t, iI_c, Int.toNat_natCast, if_true, if_false, aD_lt, aD_le, not_true_eq_false, not_false_eq_true, Nat.reduceEqDiff, Int.reduceToNat, Int.reduceEq, Int.reduceLT, Int.reduceLE, Int.reduceAdd, Int.reduceSub, Int.reduceMul, Int.reduceNeg, false_and, and_false, true_or, or_true, false_or, or_false, lk0 h, lk1 h, lk6 h, lk7 h, lk8 h, lk9 h, lk10 h, lk11 h, lk12 h, lk13 h, lk14 h, lk15 h, lk16 h, lk17 h, lk18 h, lk19 h, lk20 h, lk21 h, lXr0 h, lXr7 h, lXr9 h, lXr13 h, lXr14 h, lXr15 h, lXr16 h, lXr17 h, lXr19 h, lXr20 h, lXr21 h, lXr22 h, lXr23 h, lXr24 h, lXr30 h, lXr31 h, lXr32 h, x_begins h hr hx, hp, key, Option.getD_some, Option.map_some, x_takes h hr hx h0 hl2, show ¬ z = 1000000 by omega]
theorem lsF_succ {r : Pr} {o : Nat → Option Int} {s l : Nat} (h : 0 < l) : lsF r o s l = pI (SbS l s ∧ (lsF r o s (l - 1) = 0 ∨ key (obS r o s l) < key (obS r o s (lsF r o s (l - 1))))) l (lsF r o s (l - 1)) := by
  cases l with
  | zero => omega
  | succ l => rfl
theorem x_lastOf_7 (h : LayX T) {r : Pr} (hr : PrOk r) (hx : PrX r F) {s n : Nat} (ho : OutX r n F) (hs : s < 2 ^ prN r) (hn : s ≤ n) : ∀ (k l : Nat), s - l = k → 0 < l → SbS l s →
    WP S (d + 3) 39 7 [some (.ref 0), some (.int (iI (s : Int))), some (.int (iI (lsF r (oS r) s (l - 1) : Int))), some (.int (iI (l : Int)))] [] (F, L, T) Q = Q (.inl (some (.int (iI (lsF r (oS r) s s : Int))), (F, L, T))) := by
  have h1 := hr.1
  have hs2 : s < 1024 := Nat.lt_of_lt_of_le hs (Nat.pow_le_pow_right (by omega) h1 : 2 ^ prN r ≤ 2 ^ 10)
  intro k
  induction k using Nat.strongRecOn with
  | ind k ih =>
    intro l hk h0 hl
    have hle := SbS_le hl
    have hb := lsF_sub r (oS r) s (l - 1)
    have q1 : ∀ b, 0 < b → SbS b s → -2147483648 ≤ key (obS r (oS r) s b) ∧ key (obS r (oS r) s b) < 2147483648 := by
      intro b b0 bs
      have := SbS_le bs
      rcases key_obS r hr (o := oS r) (s := s) (l := b) b0 (by omega) with q | ⟨a, _, q, _⟩ <;> omega
    have next : ∀ b : Nat, b = lsF r (oS r) s l → WP S (d + 3) 39 37 [some (.ref 0), some (.int (iI (s : Int))), some (.int (iI (b : Int))), some (.int (iI (l : Int)))] [] (F, L, T) Q = Q (.inl (some (.int (iI (lsF r (oS r) s s : Int))), (F, L, T))) := by
      rintro b rfl
      by_cases e : l = s
      · subst e
        simp (disch := omega) only [w_X0_lastOf_8, w_X0_lastOf_11, w_X0_lastOf_12, w_X0_lastOf_13, w_X0_lastOf_16, w_X0_lastOf_17, w_X0_lastOf_20, w_X0_lastOf_21, w_X0_lastOf_22, w_X0_lastOf_23, w_X0_lastOf_26, w_X0_lastOf_27, w_X0_lastOf_28, w_X0_lastOf_29, w_X0_lastOf_32, w_X0_lastOf_35, w_X0_lastOf_36, w_X0_lastOf_37, w_X0_lastOf_38, w_X0_lastOf_39, w_X0_lastOf_42, w_X0_lastOf_45, w_X0_lastOf_46, w_X0_lastOf_47, w_X0_lastOf_48, w_X0_lastOf_49, w_X0_lastOf_50, w_X0_lastOf_51, w_X0_lastOf_54, w_X0_lastOf_55, gI_mk, gL_mk, gR_mk, gK_mk, sI_mk, sL_mk, va_rf, bO_l, bO_r, true_and, and_true, Option.toList, List.cons_append, List.nil_append, iI_lit, Int.cast_ofNat_Int, iI_add, iI_sub, iI_mul, iI_neg, iI_lt, iI_le, iI_eq, iI_t, iI_c, Int.toNat_natCast, if_true, if_false, aD_lt, aD_le, not_true_eq_false, not_false_eq_true, Nat.reduceEqDiff, Int.reduceToNat, Int.reduceEq, Int.reduceLT, Int.reduceLE, Int.reduceAdd, Int.reduceSub, Int.reduceMul, Int.reduceNeg, false_and, and_false, true_or, or_true, false_or, or_false, lk0 h, lk1 h, lk6 h, lk7 h, lk8 h, lk9 h, lk10 h, lk11 h, lk12 h, lk13 h, lk14 h, lk15 h, lk16 h, lk17 h, lk18 h, lk19 h, lk20 h, lk21 h, lXr0 h, lXr7 h, lXr9 h, lXr13 h, lXr14 h, lXr15 h, lXr16 h, lXr17 h, lXr19 h, lXr20 h, lXr21 h, lXr22 h, lXr23 h, lXr24 h, lXr30 h, lXr31 h, lXr32 h]
      · have ha := asc_ok 32 s l (by omega) hl e
        have hsub := SbS_land (l + (2 ^ 32 - s)) s
        have hle' := SbS_le hsub
        simp (disch := omega) only [w_X0_lastOf_8, w_X0_lastOf_11, w_X0_lastOf_12, w_X0_lastOf_13, w_X0_lastOf_16, w_X0_lastOf_17, w_X0_lastOf_20, w_X0_lastOf_21, w_X0_lastOf_22, w_X0_lastOf_23, w_X0_lastOf_26, w_X0_lastOf_27, w_X0_lastOf_28, w_X0_lastOf_29, w_X0_lastOf_32, w_X0_lastOf_35, w_X0_lastOf_36, w_X0_lastOf_37, w_X0_lastOf_38, w_X0_lastOf_39, w_X0_lastOf_42, w_X0_lastOf_45, w_X0_lastOf_46, w_X0_lastOf_47, w_X0_lastOf_48, w_X0_lastOf_49, w_X0_lastOf_50, w_X0_lastOf_51, w_X0_lastOf_54, w_X0_lastOf_55, gI_mk, gL_mk, gR_mk, gK_mk, sI_mk, sL_mk, va_rf, bO_l, bO_r, true_and, and_true, Option.toList, List.cons_append, List.nil_append, iI_lit, Int.cast_ofNat_Int, iI_add, iI_sub, iI_mul, iI_neg, iI_lt, iI_le, iI_eq, iI_t, iI_c, Int.toNat_natCast, if_true, if_false, aD_lt, aD_le, not_true_eq_false, not_false_eq_true, Nat.reduceEqDiff, Int.reduceToNat, Int.reduceEq, Int.reduceLT, Int.reduceLE, Int.reduceAdd, Int.reduceSub, Int.reduceMul, Int.reduceNeg, false_and, and_false, true_or, or_true, false_or, or_false, lk0 h, lk1 h, lk6 h, lk7 h, lk8 h, lk9 h, lk10 h, lk11 h, lk12 h, lk13 h, lk14 h, lk15 h, lk16 h, lk17 h, lk18 h, lk19 h, lk20 h, lk21 h, lXr0 h, lXr7 h, lXr9 h, lXr13 h, lXr14 h, lXr15 h, lXr16 h, lXr17 h, lXr19 h, lXr20 h, lXr21 h, lXr22 h, lXr23 h, lXr24 h, lXr30 h, lXr31 h, lXr32 h, show ¬ (l : Int) = (s : Int) by omega]
        have e2 : iI ((l : Int) - (s : Int)) &&& iI (s : Int) = iI (((l + (2 ^ 32 - s)) &&& s : Nat) : Int) := by
          rw [← iI_sub, b_asc (by omega) (by omega)]
        rw [e2]
        have := ih (s - ((l + (2 ^ 32 - s)) &&& s)) (by omega) ((l + (2 ^ 32 - s)) &&& s) rfl (by omega) hsub
        have e3 : lsF r (oS r) s (((l + (2 ^ 32 - s)) &&& s) - 1) = lsF r (oS r) s l := lsF_skip r (oS r) s l _ (by omega) (fun t t1 t2 t3 => by have := ha.2 t t3 t1; omega)
        rw [e3] at this
        exact this
    have eL : lsF r (oS r) s l = pI (SbS l s ∧ (lsF r (oS r) s (l - 1) = 0 ∨ key (obS r (oS r) s l) < key (obS r (oS r) s (lsF r (oS r) s (l - 1))))) l (lsF r (oS r) s (l - 1)) := lsF_succ h0
    rw [w_X0_lastOf_7]
    generalize lsF r (oS r) s (l - 1) = b at *
    simp (disch := omega) only [w_X0_lastOf_8, w_X0_lastOf_11, w_X0_lastOf_12, w_X0_lastOf_13, w_X0_lastOf_16, w_X0_lastOf_17, w_X0_lastOf_20, w_X0_lastOf_21, w_X0_lastOf_22, w_X0_lastOf_23, w_X0_lastOf_26, w_X0_lastOf_27, w_X0_lastOf_28, w_X0_lastOf_29, w_X0_lastOf_32, w_X0_lastOf_35, w_X0_lastOf_36, w_X0_lastOf_38, w_X0_lastOf_39, w_X0_lastOf_42, w_X0_lastOf_45, w_X0_lastOf_46, w_X0_lastOf_47, w_X0_lastOf_48, w_X0_lastOf_49, w_X0_lastOf_50, w_X0_lastOf_51, w_X0_lastOf_54, w_X0_lastOf_55, gI_mk, gL_mk, gR_mk, gK_mk, sI_mk, sL_mk, va_rf, bO_l, bO_r, true_and, and_true, Option.toList, List.cons_append, List.nil_append, iI_lit, Int.cast_ofNat_Int, iI_add, iI_sub, iI_mul, iI_neg, iI_lt, iI_le, iI_eq, iI_t, iI_c, Int.toNat_natCast, if_true, if_false, aD_lt, aD_le, not_true_eq_false, not_false_eq_true, Nat.reduceEqDiff, Int.reduceToNat, Int.reduceEq, Int.reduceLT, Int.reduceLE, Int.reduceAdd, Int.reduceSub, Int.reduceMul, Int.reduceNeg, false_and, and_false, true_or, or_true, false_or, or_false, lk0 h, lk1 h, lk6 h, lk7 h, lk8 h, lk9 h, lk10 h, lk11 h, lk12 h, lk13 h, lk14 h, lk15 h, lk16 h, lk17 h, lk18 h, lk19 h, lk20 h, lk21 h, lXr0 h, lXr7 h, lXr9 h, lXr13 h, lXr14 h, lXr15 h, lXr16 h, lXr17 h, lXr19 h, lXr20 h, lXr21 h, lXr22 h, lXr23 h, lXr24 h, lXr30 h, lXr31 h, lXr32 h, show ¬ (l : Int) ≤ 0 by omega, show ¬ (s : Int) < (l : Int) by omega]
    by_cases c0 : b = 0
    · rw [eL, pI_t ⟨hl, Or.inl c0⟩] at next
      subst c0
      rw [if_pos (show ((0 : Nat) : Int) = 0 from rfl)]
      exact next l rfl
    · have hb := hb.resolve_left c0
      have q1l := q1 l h0 hl
      have q1b := q1 b hb.1 hb.2.2
      simp (disch := omega) only [w_X0_lastOf_8, w_X0_lastOf_11, w_X0_lastOf_12, w_X0_lastOf_13, w_X0_lastOf_16, w_X0_lastOf_17, w_X0_lastOf_20, w_X0_lastOf_21, w_X0_lastOf_22, w_X0_lastOf_23, w_X0_lastOf_26, w_X0_lastOf_27, w_X0_lastOf_28, w_X0_lastOf_29, w_X0_lastOf_32, w_X0_lastOf_35, w_X0_lastOf_36, w_X0_lastOf_38, w_X0_lastOf_39, w_X0_lastOf_42, w_X0_lastOf_45, w_X0_lastOf_46, w_X0_lastOf_47, w_X0_lastOf_48, w_X0_lastOf_49, w_X0_lastOf_50, w_X0_lastOf_51, w_X0_lastOf_54, w_X0_lastOf_55, gI_mk, gL_mk, gR_mk, gK_mk, sI_mk, sL_mk, va_rf, bO_l, bO_r, true_and, and_true, Option.toList, List.cons_append, List.nil_append, iI_lit, Int.cast_ofNat_Int, iI_add, iI_sub, iI_mul, iI_neg, iI_lt, iI_le, iI_eq, iI_t, iI_c, Int.toNat_natCast, if_true, if_false, aD_lt, aD_le, not_true_eq_false, not_false_eq_true, Nat.reduceEqDiff, Int.reduceToNat, Int.reduceEq, Int.reduceLT, Int.reduceLE, Int.reduceAdd, Int.reduceSub, Int.reduceMul, Int.reduceNeg, false_and, and_false, true_or, or_true, false_or, or_false, lk0 h, lk1 h, lk6 h, lk7 h, lk8 h, lk9 h, lk10 h, lk11 h, lk12 h, lk13 h, lk14 h, lk15 h, lk16 h, lk17 h, lk18 h, lk19 h, lk20 h, lk21 h, lXr0 h, lXr7 h, lXr9 h, lXr13 h, lXr14 h, lXr15 h, lXr16 h, lXr17 h, lXr19 h, lXr20 h, lXr21 h, lXr22 h, lXr23 h, lXr24 h, lXr30 h, lXr31 h, lXr32 h, x_outBy h hr hx ho h0 hl hs hn, x_outBy h hr hx ho hb.1 hb.2.2 hs hn, show ¬ (b : Int) = 0 by omega]
      by_cases c1 : key (obS r (oS r) s l) < key (obS r (oS r) s b)
      · rw [eL, pI_t ⟨hl, Or.inr c1⟩] at next
        rw [if_neg (by omega)]
        exact next l rfl
      · rw [eL, pI_f (by rintro ⟨_, q | q⟩ <;> omega)] at next
        rw [if_pos (by omega)]
        exact next b rfl
theorem x_lastOf (h : LayX T) {r : Pr} (hr : PrOk r) (hx : PrX r F) {s n : Nat} (ho : OutX r n F) (h0 : 0 < s) (hs : s < 2 ^ prN r) (hn : s ≤ n) :
    WC S (d + 3) 39 [.ref 0, .int (iI (s : Int))] (F, L, T) Q = Q (.inl (some (.int (iI (laS r s : Int))), (F, L, T))) := by
  have h1 := hr.1
  have hs2 : s < 1024 := Nat.lt_of_lt_of_le hs (Nat.pow_le_pow_right (by omega) h1 : 2 ^ prN r ≤ 2 ^ 10)
  have ha := asc_ok 32 s 0 (by omega) (Nat.zero_and s) (by omega)
  have hsub := SbS_land (0 + (2 ^ 32 - s)) s
  simp only [w_X0_lastOf_in, w_X0_lastOf_0, w_X0_lastOf_1, w_X0_lastOf_2, w_X0_lastOf_3, w_X0_lastOf_4, w_X0_lastOf_5, w_X0_lastOf_6, b_asc0 h0 (show s < 2147483648 by omega)]
  have := x_lastOf_7 (S := S) (d := d) (L := L) (Q := Q) h hr hx ho hs hn _ _ rfl (by omega) hsub
  have e3 : lsF r (oS r) s (((0 + (2 ^ 32 - s)) &&& s) - 1) = lsF r (oS r) s 0 := lsF_skip r (oS r) s 0 _ (by omega) (fun t t1 t2 t3 => by have := ha.2 t t3 t1; omega)
  rw [e3] at this
  exact this
theorem PrX_fr {r : Pr} {F F' : PInt} (hN : prN r ≤ 10) (hx : PrX r F) (h0 : ∀ i, 25 ≤ i → i ≤ 29 → F' 0 i = F 0 i) (h1 : F' 17 = F 17) (h2 : F' 18 = F 18) : PrX r F' := by
  obtain ⟨e1, e2, e3, e4, e5, e6⟩ := hx
  refine ⟨?_, ?_, ?_, ?_, ?_, fun b hb => ?_⟩
  · rw [h0 25 (by omega) (by omega), e1]
  · rw [h0 26 (by omega) (by omega), e2]
  · rw [h0 27 (by omega) (by omega), e3]
  · rw [h0 28 (by omega) (by omega), e4]
  · rw [h0 29 (by omega) (by omega), e5]
  · rw [h1, h2]
    exact e6 b hb
theorem pow_le {k : Nat} (h : k ≤ 10) : 2 ^ k ≤ 1024 := (Nat.pow_le_pow_right (by omega) h : 2 ^ k ≤ 2 ^ 10)
theorem pcS_le (s : Nat) : pcS s ≤ 10 := scN_le s 10
theorem key_some {r : Pr} (hr : PrOk r) {s : Nat} (h : s < 2 ^ prN r) : ((oS r s).isSome = true ↔ ¬ key (oS r s) = 1000000) ∧ 0 ≤ key (oS r s) ∧ key (oS r s) ≤ 1000000 := by
  rcases key_oS hr h with ⟨q1, q2⟩ | ⟨a, q1, q2, q3, q4⟩
  · rw [q2, q1]
    exact ⟨by simp, by omega, by omega⟩
  · rw [q2, q1]
    exact ⟨⟨fun _ => by omega, fun _ => rfl⟩, by omega, by omega⟩
theorem x_plan_11 (h : LayX T) {r : Pr} (hr : PrOk r) : ∀ (n k : Nat) (F : PInt) (l3 : Option Value), 2 ^ prN r - k = n → 1 ≤ k → k ≤ 2 ^ prN r → PrX r F → OutX r k F →
    (∀ F' l3', Fr (fun b _ => b = 19) F F' → OutX r (2 ^ prN r) F' → WP S (d + 4) 38 92 [some (.ref 0), some (.int (iI (bsS r (2 ^ prN r) : Int))), some (.int (iI ((2 ^ prN r : Nat) : Int))), l3'] [] (F', L, T) Q) →
    WP S (d + 4) 38 11 [some (.ref 0), some (.int (iI (bsS r k : Int))), some (.int (iI (k : Int))), l3] [] (F, L, T) Q := by
  have h1 := hr.1
  have hp := pow_le h1
  intro n
  induction n with
  | zero =>
    intro k F l3 hn k1 k2 hx ho hQ
    obtain rfl : k = 2 ^ prN r := by omega
    have e1 := hx.1
    rw [w_X0_plan_2_11]
    simp (disch := omega) only [w_X0_plan_2_12, w_X0_plan_2_13, w_X0_plan_2_14, w_X0_plan_2_17, w_X0_plan_2_18, w_X0_plan_2_21, w_X0_plan_2_22, w_X0_plan_2_25, w_X0_plan_2_26, w_X0_plan_2_27, w_X0_plan_2_28, w_X0_plan_2_29, w_X0_plan_2_30, w_X0_plan_2_33, w_X0_plan_2_36, w_X0_plan_2_37, w_X0_plan_2_38, w_X0_plan_2_41, w_X0_plan_2_42, w_X0_plan_2_43, w_X0_plan_2_45, w_X0_plan_2_48, w_X0_plan_2_51, w_X0_plan_2_52, w_X0_plan_2_55, w_X0_plan_2_56, w_X0_plan_2_59, w_X0_plan_2_60, w_X0_plan_2_61, w_X0_plan_2_62, w_X0_plan_2_65, w_X0_plan_2_66, w_X0_plan_2_69, w_X0_plan_2_70, w_X0_plan_2_73, w_X0_plan_2_74, w_X0_plan_2_75, w_X0_plan_2_76, w_X0_plan_2_79, w_X0_plan_2_80, w_X0_plan_2_81, w_X0_plan_2_84, w_X0_plan_2_85, w_X0_plan_2_86, w_X0_plan_2_89, w_X0_plan_2_93, w_X0_plan_2_94, w_X0_plan_2_97, w_X0_plan_2_98, w_X0_plan_2_99, w_X0_plan_2_102, w_X0_plan_2_103, w_X0_plan_2_105, w_X0_plan_2_108, w_X0_plan_2_109, w_X0_plan_2_110, w_X0_plan_2_113, w_X0_plan_2_114, w_X0_plan_2_115, w_X0_plan_2_118, w_X0_plan_2_119, w_X0_plan_2_122, w_X0_plan_2_123, w_X0_plan_2_124, w_X0_plan_2_125, w_X0_plan_2_128, w_X0_plan_2_129, w_X0_plan_2_132, w_X0_plan_2_133, w_X0_plan_2_134, w_X0_plan_2_135, w_X0_plan_2_138, w_X0_plan_2_139, w_X0_plan_2_140, w_X0_plan_2_141, w_X0_plan_2_142, w_X0_plan_2_145, w_X0_plan_2_146, w_X0_plan_2_147, w_X0_plan_2_148, w_X0_plan_2_151, w_X0_plan_2_152, w_X0_plan_2_153, w_X0_plan_2_156, w_X0_plan_2_157, w_X0_plan_2_158, w_X0_plan_2_159, w_X0_plan_2_160, w_X0_plan_2_163, gI_mk, gL_mk, gR_mk, gK_mk, sI_mk, sL_mk, va_rf, bO_l, bO_r, true_and, and_true, Option.toList, List.cons_append, List.nil_append, iI_lit, Int.cast_ofNat_Int, iI_add, iI_sub, iI_mul, iI_neg, iI_lt, iI_le, iI_eq, iI_t, iI_c, Int.toNat_natCast, if_true, if_false, aD_lt, aD_le, not_true_eq_false, not_false_eq_true, Nat.reduceEqDiff, Int.reduceToNat, Int.reduceEq, Int.reduceLT, Int.reduceLE, Int.reduceAdd, Int.reduceSub, Int.reduceMul, Int.reduceNeg, false_and, and_false, true_or, or_true, false_or, or_false, lk0 h, lk1 h, lk6 h, lk7 h, lk8 h, lk9 h, lk10 h, lk11 h, lk12 h, lk13 h, lk14 h, lk15 h, lk16 h, lk17 h, lk18 h, lk19 h, lk20 h, lk21 h, lXr0 h, lXr7 h, lXr9 h, lXr13 h, lXr14 h, lXr15 h, lXr16 h, lXr17 h, lXr19 h, lXr20 h, lXr21 h, lXr22 h, lXr23 h, lXr24 h, lXr30 h, lXr31 h, lXr32 h, e1, b_shl, Int.le_refl]
    exact hQ F l3 Fr_refl ho
  | succ n ih =>
    intro k F l3 hn k1 k2 hx ho hQ
    have hk : k < 2 ^ prN r := by omega
    have e1 := hx.1
    have hla := laS_ok r (s := k) (by omega)
    have hb := bsS_ok r k (by omega)
    have kr := key_some hr hk
    have kr2 := key_some hr (s := bsS r k) (by omega)
    have eo : obS r (oS r) k (laS r k) = oS r k := (oS_eq r (by omega)).symm
    have hpk := pcS_le k
    have hpb := pcS_le (bsS r k)
    have eb := ho (bsS r k) hb.1
    have hx' : PrX r (up F 19 k (iI (key (oS r k)))) := PrX_fr h1 hx (fun i _ _ => up_ne (by omega)) (up_ca (by omega)) (up_ca (by omega))
    have ho' : OutX r (k + 1) (up F 19 k (iI (key (oS r k)))) := by
      intro s hs
      by_cases e : s = k
      · subst e
        exact up_eq _ _ _ _
      · rw [up_ne (by omega)]
        exact ho s (by omega)
    have next : ∀ (l3 : Option Value), WP S (d + 4) 38 86 [some (.ref 0), some (.int (iI (bsS r (k + 1) : Int))), some (.int (iI (k : Int))), l3] [] (up F 19 k (iI (key (oS r k))), L, T) Q := by
      intro l3
      simp (disch := omega) only [w_X0_plan_2_12, w_X0_plan_2_13, w_X0_plan_2_14, w_X0_plan_2_17, w_X0_plan_2_18, w_X0_plan_2_21, w_X0_plan_2_22, w_X0_plan_2_25, w_X0_plan_2_26, w_X0_plan_2_27, w_X0_plan_2_28, w_X0_plan_2_29, w_X0_plan_2_30, w_X0_plan_2_33, w_X0_plan_2_36, w_X0_plan_2_37, w_X0_plan_2_38, w_X0_plan_2_41, w_X0_plan_2_42, w_X0_plan_2_43, w_X0_plan_2_45, w_X0_plan_2_48, w_X0_plan_2_51, w_X0_plan_2_52, w_X0_plan_2_55, w_X0_plan_2_56, w_X0_plan_2_59, w_X0_plan_2_60, w_X0_plan_2_61, w_X0_plan_2_62, w_X0_plan_2_65, w_X0_plan_2_66, w_X0_plan_2_69, w_X0_plan_2_70, w_X0_plan_2_73, w_X0_plan_2_74, w_X0_plan_2_75, w_X0_plan_2_76, w_X0_plan_2_79, w_X0_plan_2_80, w_X0_plan_2_81, w_X0_plan_2_84, w_X0_plan_2_85, w_X0_plan_2_86, w_X0_plan_2_89, w_X0_plan_2_93, w_X0_plan_2_94, w_X0_plan_2_97, w_X0_plan_2_98, w_X0_plan_2_99, w_X0_plan_2_102, w_X0_plan_2_103, w_X0_plan_2_105, w_X0_plan_2_108, w_X0_plan_2_109, w_X0_plan_2_110, w_X0_plan_2_113, w_X0_plan_2_114, w_X0_plan_2_115, w_X0_plan_2_118, w_X0_plan_2_119, w_X0_plan_2_122, w_X0_plan_2_123, w_X0_plan_2_124, w_X0_plan_2_125, w_X0_plan_2_128, w_X0_plan_2_129, w_X0_plan_2_132, w_X0_plan_2_133, w_X0_plan_2_134, w_X0_plan_2_135, w_X0_plan_2_138, w_X0_plan_2_139, w_X0_plan_2_140, w_X0_plan_2_141, w_X0_plan_2_142, w_X0_plan_2_145, w_X0_plan_2_146, w_X0_plan_2_147, w_X0_plan_2_148, w_X0_plan_2_151, w_X0_plan_2_152, w_X0_plan_2_153, w_X0_plan_2_156, w_X0_plan_2_157, w_X0_plan_2_158, w_X0_plan_2_159, w_X0_plan_2_160, w_X0_plan_2_163, gI_mk, gL_mk, gR_mk, gK_mk, sI_mk, sL_mk, va_rf, bO_l, bO_r, true_and, and_true, Option.toList, List.cons_append, List.nil_append, iI_lit, Int.cast_ofNat_Int, iI_add, iI_sub, iI_mul, iI_neg, iI_lt, iI_le, iI_eq, iI_t, iI_c, Int.toNat_natCast, if_true, if_false, aD_lt, aD_le, not_true_eq_false, not_false_eq_true, Nat.reduceEqDiff, Int.reduceToNat, Int.reduceEq, Int.reduceLT, Int.reduceLE, Int.reduceAdd, Int.reduceSub, Int.reduceMul, Int.reduceNeg, false_and, and_false, true_or, or_true, false_or, or_false, lk0 h, lk1 h, lk6 h, lk7 h, lk8 h, lk9 h, lk10 h, lk11 h, lk12 h, lk13 h, lk14 h, lk15 h, lk16 h, lk17 h, lk18 h, lk19 h, lk20 h, lk21 h, lXr0 h, lXr7 h, lXr9 h, lXr13 h, lXr14 h, lXr15 h, lXr16 h, lXr17 h, lXr19 h, lXr20 h, lXr21 h, lXr22 h, lXr23 h, lXr24 h, lXr30 h, lXr31 h, lXr32 h]
      exact ih (k + 1) _ l3 (by omega) (by omega) (by omega) hx' ho' (fun F' l3' q1 q2 => hQ F' l3' (Fr_up0 rfl q1) q2)
    rw [w_X0_plan_2_11]
    simp (disch := omega) only [w_X0_plan_2_12, w_X0_plan_2_13, w_X0_plan_2_14, w_X0_plan_2_17, w_X0_plan_2_18, w_X0_plan_2_21, w_X0_plan_2_22, w_X0_plan_2_25, w_X0_plan_2_26, w_X0_plan_2_27, w_X0_plan_2_28, w_X0_plan_2_29, w_X0_plan_2_30, w_X0_plan_2_33, w_X0_plan_2_36, w_X0_plan_2_37, w_X0_plan_2_38, w_X0_plan_2_41, w_X0_plan_2_42, w_X0_plan_2_43, w_X0_plan_2_45, w_X0_plan_2_48, w_X0_plan_2_51, w_X0_plan_2_52, w_X0_plan_2_55, w_X0_plan_2_56, w_X0_plan_2_59, w_X0_plan_2_60, w_X0_plan_2_61, w_X0_plan_2_62, w_X0_plan_2_65, w_X0_plan_2_66, w_X0_plan_2_69, w_X0_plan_2_70, w_X0_plan_2_73, w_X0_plan_2_74, w_X0_plan_2_75, w_X0_plan_2_76, w_X0_plan_2_79, w_X0_plan_2_80, w_X0_plan_2_81, w_X0_plan_2_84, w_X0_plan_2_85, w_X0_plan_2_89, w_X0_plan_2_93, w_X0_plan_2_94, w_X0_plan_2_97, w_X0_plan_2_98, w_X0_plan_2_99, w_X0_plan_2_102, w_X0_plan_2_103, w_X0_plan_2_105, w_X0_plan_2_108, w_X0_plan_2_109, w_X0_plan_2_110, w_X0_plan_2_113, w_X0_plan_2_114, w_X0_plan_2_115, w_X0_plan_2_118, w_X0_plan_2_119, w_X0_plan_2_122, w_X0_plan_2_123, w_X0_plan_2_124, w_X0_plan_2_125, w_X0_plan_2_128, w_X0_plan_2_129, w_X0_plan_2_132, w_X0_plan_2_133, w_X0_plan_2_134, w_X0_plan_2_135, w_X0_plan_2_138, w_X0_plan_2_139, w_X0_plan_2_140, w_X0_plan_2_141, w_X0_plan_2_142, w_X0_plan_2_145, w_X0_plan_2_146, w_X0_plan_2_147, w_X0_plan_2_148, w_X0_plan_2_151, w_X0_plan_2_152, w_X0_plan_2_153, w_X0_plan_2_156, w_X0_plan_2_157, w_X0_plan_2_158, w_X0_plan_2_159, w_X0_plan_2_160, w_X0_plan_2_163, gI_mk, gL_mk, gR_mk, gK_mk, sI_mk, sL_mk, va_rf, bO_l, bO_r, true_and, and_true, Option.toList, List.cons_append, List.nil_append, iI_lit, Int.cast_ofNat_Int, iI_add, iI_sub, iI_mul, iI_neg, iI_lt, iI_le, iI_eq, iI_t, iI_c, Int.toNat_natCast, if_true, if_false, aD_lt, aD_le, not_true_eq_false, not_false_eq_true, Nat.reduceEqDiff, Int.reduceToNat, Int.reduceEq, Int.reduceLT, Int.reduceLE, Int.reduceAdd, Int.reduceSub, Int.reduceMul, Int.reduceNeg, false_and, and_false, true_or, or_true, false_or, or_false, lk0 h, lk1 h, lk6 h, lk7 h, lk8 h, lk9 h, lk10 h, lk11 h, lk12 h, lk13 h, lk14 h, lk15 h, lk16 h, lk17 h, lk18 h, lk19 h, lk20 h, lk21 h, lXr0 h, lXr7 h, lXr9 h, lXr13 h, lXr14 h, lXr15 h, lXr16 h, lXr17 h, lXr19 h, lXr20 h, lXr21 h, lXr22 h, lXr23 h, lXr24 h, lXr30 h, lXr31 h, lXr32 h, e1, b_shl, show ¬ ((2 ^ prN r : Nat) : Int) ≤ (k : Int) by omega, x_lastOf h hr hx ho (by omega : 0 < k) hk (Nat.le_refl k), x_outBy h hr hx ho hla.1 hla.2.1 hk (Nat.le_refl k), eo, up_eq, up_at, j_bc, eb]
    rw [if_neg (show ¬ bsS r k = k by omega)]
    simp (disch := omega) only [gI_mk, gL_mk, gR_mk, gK_mk, sI_mk, sL_mk, va_rf, bO_l, bO_r, true_and, and_true, Option.toList, List.cons_append, List.nil_append, iI_lit, Int.cast_ofNat_Int, iI_add, iI_sub, iI_mul, iI_neg, iI_lt, iI_le, iI_eq, iI_t, iI_c, Int.toNat_natCast, if_true, if_false, aD_lt, aD_le, not_true_eq_false, not_false_eq_true, Nat.reduceEqDiff, Int.reduceToNat, Int.reduceEq, Int.reduceLT, Int.reduceLE, Int.reduceAdd, Int.reduceSub, Int.reduceMul, Int.reduceNeg, false_and, and_false, true_or, or_true, false_or, or_false, lk0 h, lk1 h, lk6 h, lk7 h, lk8 h, lk9 h, lk10 h, lk11 h, lk12 h, lk13 h, lk14 h, lk15 h, lk16 h, lk17 h, lk18 h, lk19 h, lk20 h, lk21 h, lXr0 h, lXr7 h, lXr9 h, lXr13 h, lXr14 h, lXr15 h, lXr16 h, lXr17 h, lXr19 h, lXr20 h, lXr21 h, lXr22 h, lXr23 h, lXr24 h, lXr30 h, lXr31 h, lXr32 h]
    by_cases c0 : key (oS r k) = 1000000
    · have e : bsS r (k + 1) = bsS r k := pI_f (fun q => kr.1.mp q.1 c0)
      rw [e] at next
      rw [if_neg (by omega)]
      exact next _
    · rw [if_pos c0]
      have hsm := kr.1.mpr c0
      by_cases c1 : pcS (bsS r k) < pcS k
      · have e : bsS r (k + 1) = k := pI_t ⟨hsm, Or.inl c1⟩
        rw [e] at next
        rw [if_pos (by omega)]
        exact next _
      · rw [if_neg (by omega)]
        by_cases c2 : pcS k = pcS (bsS r k)
        · rw [if_neg (by omega)]
          by_cases c3 : key (oS r k) < key (oS r (bsS r k))
          · have e : bsS r (k + 1) = k := pI_t ⟨hsm, Or.inr ⟨c2, c3⟩⟩
            rw [e] at next
            rw [if_neg (by omega)]
            exact next _
          · have e : bsS r (k + 1) = bsS r k := pI_f (by rintro ⟨_, q | ⟨_, q⟩⟩ <;> omega)
            rw [e] at next
            rw [if_pos (by omega)]
            exact next _
        · have e : bsS r (k + 1) = bsS r k := pI_f (by rintro ⟨_, q | ⟨q, _⟩⟩ <;> omega)
          rw [e] at next
          rw [if_pos (by omega)]
          exact next _
def WPl : Nat → Nat → Prop := fun b i => b = 20 ∨ b = 21 ∨ (b = 0 ∧ i = 33)
theorem x_plan_104 (h : LayX T) {r : Pr} (hr : PrOk r) {best : Option Value} : ∀ (f s j : Nat) (F : PInt) (l3 : Option Value), pcS s < f → j + pcS s ≤ 10 → s < 2 ^ prN r → (oS r s).isSome = true → PrX r F → OutX r (2 ^ prN r) F → F 0 33 = iI (j : Int) →
    (∀ F', Fr WPl F F' → F' 0 33 = iI ((j + (ldS r f s).length : Nat) : Int) → (∀ i x, (ldS r f s)[i]? = some x → F' 20 (j + i) = iI (x.1 : Int) ∧ F' 21 (j + i) = iI x.2) → (∀ i, i < j → F' 20 i = F 20 i ∧ F' 21 i = F 21 i) → Q (.inl (none, (F', L, T)))) →
    WP S (d + 4) 38 104 [some (.ref 0), best, some (.int (iI (s : Int))), l3] [] (F, L, T) Q := by
  have h1 := hr.1
  have hp := pow_le h1
  intro f
  induction f with
  | zero => intro s j F l3 hf; omega
  | succ f ih =>
    intro s j F l3 hf hj hs hsm hx ho e33 hQ
    rw [w_X0_plan_2_104]
    unfold ldS at hQ
    by_cases c0 : s = 0
    · rw [pI_t c0] at hQ
      subst c0
      simp (disch := omega) only [w_X0_plan_2_12, w_X0_plan_2_13, w_X0_plan_2_14, w_X0_plan_2_17, w_X0_plan_2_18, w_X0_plan_2_21, w_X0_plan_2_22, w_X0_plan_2_25, w_X0_plan_2_26, w_X0_plan_2_27, w_X0_plan_2_28, w_X0_plan_2_29, w_X0_plan_2_30, w_X0_plan_2_33, w_X0_plan_2_36, w_X0_plan_2_37, w_X0_plan_2_38, w_X0_plan_2_41, w_X0_plan_2_42, w_X0_plan_2_43, w_X0_plan_2_45, w_X0_plan_2_48, w_X0_plan_2_51, w_X0_plan_2_52, w_X0_plan_2_55, w_X0_plan_2_56, w_X0_plan_2_59, w_X0_plan_2_60, w_X0_plan_2_61, w_X0_plan_2_62, w_X0_plan_2_65, w_X0_plan_2_66, w_X0_plan_2_69, w_X0_plan_2_70, w_X0_plan_2_73, w_X0_plan_2_74, w_X0_plan_2_75, w_X0_plan_2_76, w_X0_plan_2_79, w_X0_plan_2_80, w_X0_plan_2_81, w_X0_plan_2_84, w_X0_plan_2_85, w_X0_plan_2_86, w_X0_plan_2_89, w_X0_plan_2_93, w_X0_plan_2_94, w_X0_plan_2_97, w_X0_plan_2_98, w_X0_plan_2_99, w_X0_plan_2_102, w_X0_plan_2_103, w_X0_plan_2_105, w_X0_plan_2_108, w_X0_plan_2_109, w_X0_plan_2_110, w_X0_plan_2_113, w_X0_plan_2_114, w_X0_plan_2_115, w_X0_plan_2_118, w_X0_plan_2_119, w_X0_plan_2_122, w_X0_plan_2_123, w_X0_plan_2_124, w_X0_plan_2_125, w_X0_plan_2_128, w_X0_plan_2_129, w_X0_plan_2_132, w_X0_plan_2_133, w_X0_plan_2_134, w_X0_plan_2_135, w_X0_plan_2_138, w_X0_plan_2_139, w_X0_plan_2_140, w_X0_plan_2_141, w_X0_plan_2_142, w_X0_plan_2_145, w_X0_plan_2_146, w_X0_plan_2_147, w_X0_plan_2_148, w_X0_plan_2_151, w_X0_plan_2_152, w_X0_plan_2_153, w_X0_plan_2_156, w_X0_plan_2_157, w_X0_plan_2_158, w_X0_plan_2_159, w_X0_plan_2_160, w_X0_plan_2_163, gI_mk, gL_mk, gR_mk, gK_mk, sI_mk, sL_mk, va_rf, bO_l, bO_r, true_and, and_true, Option.toList, List.cons_append, List.nil_append, iI_lit, Int.cast_ofNat_Int, iI_add, iI_sub, iI_mul, iI_neg, iI_lt, iI_le, iI_eq, iI_t, iI_c, Int.toNat_natCast, if_true, if_false, aD_lt, aD_le, not_true_eq_false, not_false_eq_true, Nat.reduceEqDiff, Int.reduceToNat, Int.reduceEq, Int.reduceLT, Int.reduceLE, Int.reduceAdd, Int.reduceSub, Int.reduceMul, Int.reduceNeg, false_and, and_false, true_or, or_true, false_or, or_false, lk0 h, lk1 h, lk6 h, lk7 h, lk8 h, lk9 h, lk10 h, lk11 h, lk12 h, lk13 h, lk14 h, lk15 h, lk16 h, lk17 h, lk18 h, lk19 h, lk20 h, lk21 h, lXr0 h, lXr7 h, lXr9 h, lXr13 h, lXr14 h, lXr15 h, lXr16 h, lXr17 h, lXr19 h, lXr20 h, lXr21 h, lXr22 h, lXr23 h, lXr24 h, lXr30 h, lXr31 h, lXr32 h, show ((0 : Nat) : Int) ≤ 0 by omega]
      exact hQ F Fr_refl e33 (fun i x hx => by simp at hx) (fun i _ => ⟨rfl, rfl⟩)
    · rw [pI_f c0] at hQ
      have hla := laS_ok r (s := s) (by omega)
      have hxl := xor_lt hla.2.1 hla.1
      have hpc := pcS_xor hla.2.1 hla.1 (by omega)
      obtain ⟨hsm', g, a, hg, ha⟩ := oS_prev r (by omega) hsm
      have hgr := oS_rng r hr (s := s ^^^ laS r s) (by omega) hg
      have har := putS_rng r hr (bit_ex hla.1 (by omega)) ha
      have eo := ho (s ^^^ laS r s) (by omega)
      have ek : key (oS r (s ^^^ laS r s)) = g := by rw [hg]; rfl
      rw [ek] at eo
      have ea : key (putS r (laS r s) g) = a := by rw [ha]; rfl
      have ea2 : key ((oS r (s ^^^ laS r s)).bind fun f => putS r (laS r s) f) = a := by rw [hg]; exact ea
      rw [ea2] at hQ
      have hx1 : PrX r (up F 20 j (iI (laS r s : Int))) := PrX_fr h1 hx (fun i _ _ => up_ne (by omega)) (up_ca (by omega)) (up_ca (by omega))
      simp (disch := omega) only [w_X0_plan_2_12, w_X0_plan_2_13, w_X0_plan_2_14, w_X0_plan_2_17, w_X0_plan_2_18, w_X0_plan_2_21, w_X0_plan_2_22, w_X0_plan_2_25, w_X0_plan_2_26, w_X0_plan_2_27, w_X0_plan_2_28, w_X0_plan_2_29, w_X0_plan_2_30, w_X0_plan_2_33, w_X0_plan_2_36, w_X0_plan_2_37, w_X0_plan_2_38, w_X0_plan_2_41, w_X0_plan_2_42, w_X0_plan_2_43, w_X0_plan_2_45, w_X0_plan_2_48, w_X0_plan_2_51, w_X0_plan_2_52, w_X0_plan_2_55, w_X0_plan_2_56, w_X0_plan_2_59, w_X0_plan_2_60, w_X0_plan_2_61, w_X0_plan_2_62, w_X0_plan_2_65, w_X0_plan_2_66, w_X0_plan_2_69, w_X0_plan_2_70, w_X0_plan_2_73, w_X0_plan_2_74, w_X0_plan_2_75, w_X0_plan_2_76, w_X0_plan_2_79, w_X0_plan_2_80, w_X0_plan_2_81, w_X0_plan_2_84, w_X0_plan_2_85, w_X0_plan_2_86, w_X0_plan_2_89, w_X0_plan_2_93, w_X0_plan_2_94, w_X0_plan_2_97, w_X0_plan_2_98, w_X0_plan_2_99, w_X0_plan_2_102, w_X0_plan_2_103, w_X0_plan_2_105, w_X0_plan_2_108, w_X0_plan_2_109, w_X0_plan_2_110, w_X0_plan_2_113, w_X0_plan_2_114, w_X0_plan_2_115, w_X0_plan_2_118, w_X0_plan_2_119, w_X0_plan_2_122, w_X0_plan_2_123, w_X0_plan_2_124, w_X0_plan_2_125, w_X0_plan_2_128, w_X0_plan_2_129, w_X0_plan_2_132, w_X0_plan_2_133, w_X0_plan_2_134, w_X0_plan_2_135, w_X0_plan_2_138, w_X0_plan_2_139, w_X0_plan_2_140, w_X0_plan_2_141, w_X0_plan_2_142, w_X0_plan_2_145, w_X0_plan_2_146, w_X0_plan_2_147, w_X0_plan_2_148, w_X0_plan_2_151, w_X0_plan_2_152, w_X0_plan_2_153, w_X0_plan_2_156, w_X0_plan_2_157, w_X0_plan_2_158, w_X0_plan_2_159, w_X0_plan_2_160, w_X0_plan_2_163, gI_mk, gL_mk, gR_mk, gK_mk, sI_mk, sL_mk, va_rf, bO_l, bO_r, true_and, and_true, Option.toList, List.cons_append, List.nil_append, iI_lit, Int.cast_ofNat_Int, iI_add, iI_sub, iI_mul, iI_neg, iI_lt, iI_le, iI_eq, iI_t, iI_c, Int.toNat_natCast, if_true, if_false, aD_lt, aD_le, not_true_eq_false, not_false_eq_true, Nat.reduceEqDiff, Int.reduceToNat, Int.reduceEq, Int.reduceLT, Int.reduceLE, Int.reduceAdd, Int.reduceSub, Int.reduceMul, Int.reduceNeg, false_and, and_false, true_or, or_true, false_or, or_false, lk0 h, lk1 h, lk6 h, lk7 h, lk8 h, lk9 h, lk10 h, lk11 h, lk12 h, lk13 h, lk14 h, lk15 h, lk16 h, lk17 h, lk18 h, lk19 h, lk20 h, lk21 h, lXr0 h, lXr7 h, lXr9 h, lXr13 h, lXr14 h, lXr15 h, lXr16 h, lXr17 h, lXr19 h, lXr20 h, lXr21 h, lXr22 h, lXr23 h, lXr24 h, lXr30 h, lXr31 h, lXr32 h, show ¬ (s : Int) ≤ 0 by omega, x_lastOf h hr hx ho (by omega : 0 < s) hs (by omega), e33, up_at, b_xor, eo, x_begins h hr hx1, ea]
      refine ih (s ^^^ laS r s) (j + 1) _ _ (by omega) (by omega) (by omega) hsm' ?_ ?_ ?_ ?_
      · refine PrX_fr h1 hx (fun i _ _ => ?_) ?_ ?_
        · rw [up_ne (by omega), up_ne (by omega), up_ne (by omega)]
        · rw [up_ca (by omega), up_ca (by omega), up_ca (by omega)]
        · rw [up_ca (by omega), up_ca (by omega), up_ca (by omega)]
      · intro t ht
        rw [up_ne (by omega), up_ne (by omega), up_ne (by omega)]
        exact ho t ht
      · exact up_eq _ _ _ _
      · intro F' q1 q2 q3 q4
        have q4j := q4 j (by omega)
        rw [up_ne (by omega), up_ne (by omega), up_eq, up_ne (by omega), up_eq] at q4j
        refine hQ F' ?_ ?_ ?_ ?_
        · exact Fr_tr (Fr_up (Fr_up (Fr_up Fr_refl (Or.inl rfl)) (Or.inr (Or.inl rfl))) (Or.inr (Or.inr ⟨rfl, rfl⟩))) q1
        · rw [q2]
          congr 2
          simp only [List.length_cons]
          omega
        · intro i x hi
          cases i with
          | zero =>
            simp only [List.getElem?_cons_zero, Option.some.injEq] at hi
            subst hi
            exact q4j
          | succ i =>
            rw [List.getElem?_cons_succ] at hi
            have := q3 i x hi
            rw [show j + 1 + i = j + (i + 1) by omega] at this
            exact this
        · intro i hi
          have := q4 i (by omega)
          rw [up_ne (by omega), up_ne (by omega), up_ne (by omega), up_ne (by omega), up_ne (by omega), up_ne (by omega)] at this
          exact this
/-- what plan() writes: the table, the loads, planned -/
def WPx : Nat → Nat → Prop := fun b i => b = 19 ∨ b = 20 ∨ b = 21 ∨ (b = 0 ∧ (i = 33 ∨ i = 34))
noncomputable def bestS (r : Pr) : Nat := bsS r (2 ^ prN r)
noncomputable def loadsS (r : Pr) : List (Nat × Int) := ldS r 11 (bestS r)
theorem bestS_ok {r : Pr} : bestS r < 2 ^ prN r ∧ (oS r (bestS r)).isSome = true := bsS_ok r (2 ^ prN r) (Nat.pos_of_ne_zero (by simp))
theorem x_plan2 (h : LayX T) {r : Pr} (hr : PrOk r) (hx : PrX r F)
    (hQ : ∀ F', Fr WPx F F' → F' 0 34 = iI (bestS r : Int) → F' 0 33 = iI ((loadsS r).length : Int) → F' 19 (bestS r) = iI (key (oS r (bestS r))) → (∀ i x, (loadsS r)[i]? = some x → F' 20 i = iI (x.1 : Int) ∧ F' 21 i = iI x.2) → Q (.inl (none, (F', L, T)))) :
    WC S (d + 4) 38 [.ref 0] (F, L, T) Q := by
  have h1 := hr.1
  have hp := pow_le h1
  have hp0 : 0 < 2 ^ prN r := Nat.pos_of_ne_zero (by simp)
  have hb := bestS_ok (r := r)
  simp (disch := omega) only [w_X0_plan_2_in, w_X0_plan_2_0, w_X0_plan_2_1, w_X0_plan_2_4, w_X0_plan_2_5, w_X0_plan_2_6, w_X0_plan_2_7, w_X0_plan_2_8, w_X0_plan_2_9, w_X0_plan_2_10, w_X0_plan_2_12, w_X0_plan_2_13, w_X0_plan_2_14, w_X0_plan_2_17, w_X0_plan_2_18, w_X0_plan_2_21, w_X0_plan_2_22, w_X0_plan_2_25, w_X0_plan_2_26, w_X0_plan_2_27, w_X0_plan_2_28, w_X0_plan_2_29, w_X0_plan_2_30, w_X0_plan_2_33, w_X0_plan_2_36, w_X0_plan_2_37, w_X0_plan_2_38, w_X0_plan_2_41, w_X0_plan_2_42, w_X0_plan_2_43, w_X0_plan_2_45, w_X0_plan_2_48, w_X0_plan_2_51, w_X0_plan_2_52, w_X0_plan_2_55, w_X0_plan_2_56, w_X0_plan_2_59, w_X0_plan_2_60, w_X0_plan_2_61, w_X0_plan_2_62, w_X0_plan_2_65, w_X0_plan_2_66, w_X0_plan_2_69, w_X0_plan_2_70, w_X0_plan_2_73, w_X0_plan_2_74, w_X0_plan_2_75, w_X0_plan_2_76, w_X0_plan_2_79, w_X0_plan_2_80, w_X0_plan_2_81, w_X0_plan_2_84, w_X0_plan_2_85, w_X0_plan_2_86, w_X0_plan_2_89, w_X0_plan_2_93, w_X0_plan_2_94, w_X0_plan_2_97, w_X0_plan_2_98, w_X0_plan_2_99, w_X0_plan_2_102, w_X0_plan_2_103, w_X0_plan_2_105, w_X0_plan_2_108, w_X0_plan_2_109, w_X0_plan_2_110, w_X0_plan_2_113, w_X0_plan_2_114, w_X0_plan_2_115, w_X0_plan_2_118, w_X0_plan_2_119, w_X0_plan_2_122, w_X0_plan_2_123, w_X0_plan_2_124, w_X0_plan_2_125, w_X0_plan_2_128, w_X0_plan_2_129, w_X0_plan_2_132, w_X0_plan_2_133, w_X0_plan_2_134, w_X0_plan_2_135, w_X0_plan_2_138, w_X0_plan_2_139, w_X0_plan_2_140, w_X0_plan_2_141, w_X0_plan_2_142, w_X0_plan_2_145, w_X0_plan_2_146, w_X0_plan_2_147, w_X0_plan_2_148, w_X0_plan_2_151, w_X0_plan_2_152, w_X0_plan_2_153, w_X0_plan_2_156, w_X0_plan_2_157, w_X0_plan_2_158, w_X0_plan_2_159, w_X0_plan_2_160, w_X0_plan_2_163, gI_mk, gL_mk, gR_mk, gK_mk, sI_mk, sL_mk, va_rf, bO_l, bO_r, true_and, and_true, Option.toList, List.cons_append, List.nil_append, iI_lit, Int.cast_ofNat_Int, iI_add, iI_sub, iI_mul, iI_neg, iI_lt, iI_le, iI_eq, iI_t, iI_c, Int.toNat_natCast, if_true, if_false, aD_lt, aD_le, not_true_eq_false, not_false_eq_true, Nat.reduceEqDiff, Int.reduceToNat, Int.reduceEq, Int.reduceLT, Int.reduceLE, Int.reduceAdd, Int.reduceSub, Int.reduceMul, Int.reduceNeg, false_and, and_false, true_or, or_true, false_or, or_false, lk0 h, lk1 h, lk6 h, lk7 h, lk8 h, lk9 h, lk10 h, lk11 h, lk12 h, lk13 h, lk14 h, lk15 h, lk16 h, lk17 h, lk18 h, lk19 h, lk20 h, lk21 h, lXr0 h, lXr7 h, lXr9 h, lXr13 h, lXr14 h, lXr15 h, lXr16 h, lXr17 h, lXr19 h, lXr20 h, lXr21 h, lXr22 h, lXr23 h, lXr24 h, lXr30 h, lXr31 h, lXr32 h]
  have eb1 : bsS r 1 = 0 := by have := (bsS_ok r 1 (by omega)).1; omega
  have k11 := x_plan_11 (S := S) (d := d) (L := L) (Q := Q) h hr (2 ^ prN r - 1) 1 (up F 19 0 (iI 0)) none rfl (by omega) (by omega)
  rw [eb1] at k11
  refine k11 ?_ ?_ ?_
  · exact PrX_fr h1 hx (fun i _ _ => up_ne (by omega)) (up_ca (by omega)) (up_ca (by omega))
  · intro s hs
    obtain rfl : s = 0 := by omega
    rw [oS_0]
    exact up_eq _ _ _ _
  · intro F1 l3 q1 q2
    simp (disch := omega) only [w_X0_plan_2_in, w_X0_plan_2_0, w_X0_plan_2_1, w_X0_plan_2_4, w_X0_plan_2_5, w_X0_plan_2_6, w_X0_plan_2_7, w_X0_plan_2_8, w_X0_plan_2_9, w_X0_plan_2_10, w_X0_plan_2_12, w_X0_plan_2_13, w_X0_plan_2_14, w_X0_plan_2_17, w_X0_plan_2_18, w_X0_plan_2_21, w_X0_plan_2_22, w_X0_plan_2_25, w_X0_plan_2_26, w_X0_plan_2_27, w_X0_plan_2_28, w_X0_plan_2_29, w_X0_plan_2_30, w_X0_plan_2_33, w_X0_plan_2_36, w_X0_plan_2_37, w_X0_plan_2_38, w_X0_plan_2_41, w_X0_plan_2_42, w_X0_plan_2_43, w_X0_plan_2_45, w_X0_plan_2_48, w_X0_plan_2_51, w_X0_plan_2_52, w_X0_plan_2_55, w_X0_plan_2_56, w_X0_plan_2_59, w_X0_plan_2_60, w_X0_plan_2_61, w_X0_plan_2_62, w_X0_plan_2_65, w_X0_plan_2_66, w_X0_plan_2_69, w_X0_plan_2_70, w_X0_plan_2_73, w_X0_plan_2_74, w_X0_plan_2_75, w_X0_plan_2_76, w_X0_plan_2_79, w_X0_plan_2_80, w_X0_plan_2_81, w_X0_plan_2_84, w_X0_plan_2_85, w_X0_plan_2_86, w_X0_plan_2_89, w_X0_plan_2_92, w_X0_plan_2_93, w_X0_plan_2_94, w_X0_plan_2_97, w_X0_plan_2_98, w_X0_plan_2_99, w_X0_plan_2_102, w_X0_plan_2_103, w_X0_plan_2_105, w_X0_plan_2_108, w_X0_plan_2_109, w_X0_plan_2_110, w_X0_plan_2_113, w_X0_plan_2_114, w_X0_plan_2_115, w_X0_plan_2_118, w_X0_plan_2_119, w_X0_plan_2_122, w_X0_plan_2_123, w_X0_plan_2_124, w_X0_plan_2_125, w_X0_plan_2_128, w_X0_plan_2_129, w_X0_plan_2_132, w_X0_plan_2_133, w_X0_plan_2_134, w_X0_plan_2_135, w_X0_plan_2_138, w_X0_plan_2_139, w_X0_plan_2_140, w_X0_plan_2_141, w_X0_plan_2_142, w_X0_plan_2_145, w_X0_plan_2_146, w_X0_plan_2_147, w_X0_plan_2_148, w_X0_plan_2_151, w_X0_plan_2_152, w_X0_plan_2_153, w_X0_plan_2_156, w_X0_plan_2_157, w_X0_plan_2_158, w_X0_plan_2_159, w_X0_plan_2_160, w_X0_plan_2_163, gI_mk, gL_mk, gR_mk, gK_mk, sI_mk, sL_mk, va_rf, bO_l, bO_r, true_and, and_true, Option.toList, List.cons_append, List.nil_append, iI_lit, Int.cast_ofNat_Int, iI_add, iI_sub, iI_mul, iI_neg, iI_lt, iI_le, iI_eq, iI_t, iI_c, Int.toNat_natCast, if_true, if_false, aD_lt, aD_le, not_true_eq_false, not_false_eq_true, Nat.reduceEqDiff, Int.reduceToNat, Int.reduceEq, Int.reduceLT, Int.reduceLE, Int.reduceAdd, Int.reduceSub, Int.reduceMul, Int.reduceNeg, false_and, and_false, true_or, or_true, false_or, or_false, lk0 h, lk1 h, lk6 h, lk7 h, lk8 h, lk9 h, lk10 h, lk11 h, lk12 h, lk13 h, lk14 h, lk15 h, lk16 h, lk17 h, lk18 h, lk19 h, lk20 h, lk21 h, lXr0 h, lXr7 h, lXr9 h, lXr13 h, lXr14 h, lXr15 h, lXr16 h, lXr17 h, lXr19 h, lXr20 h, lXr21 h, lXr22 h, lXr23 h, lXr24 h, lXr30 h, lXr31 h, lXr32 h]
    refine x_plan_104 h hr 11 (bsS r (2 ^ prN r)) 0 _ _ ?_ ?_ hb.1 hb.2 ?_ ?_ ?_ ?_
    · have := pcS_le (bsS r (2 ^ prN r)); omega
    · have := pcS_le (bsS r (2 ^ prN r)); omega
    · refine PrX_fr h1 hx (fun i _ _ => ?_) ?_ ?_
      · rw [up_ne (by omega), up_ne (by omega), q1 _ _ (by omega), up_ne (by omega)]
      · rw [up_ca (by omega), up_ca (by omega)]
        funext i
        rw [q1 _ _ (by omega), up_ne (by omega)]
      · rw [up_ca (by omega), up_ca (by omega)]
        funext i
        rw [q1 _ _ (by omega), up_ne (by omega)]
    · intro t ht
      rw [up_ne (by omega), up_ne (by omega)]
      exact q2 t ht
    · exact up_eq _ _ _ _
    · intro F2 p1 p2 p3 _
      refine hQ F2 ?_ ?_ ?_ ?_ ?_
      · intro b i hw
        unfold WPx at hw
        rw [p1 b i (by unfold WPl; omega), up_ne (by omega), up_ne (by omega), q1 b i (by omega), up_ne (by omega)]
      · rw [p1 _ _ (by unfold WPl; omega), up_ne (by omega), up_eq]
        rfl
      · rw [p2]
        congr 2
        show 0 + _ = _
        rw [Nat.zero_add]
        rfl
      · rw [p1 _ _ (by unfold WPl; omega), up_ne (by omega), up_ne (by omega)]
        exact q2 _ hb.1
      · intro i x hi
        have := p3 i x hi
        rw [Nat.zero_add] at this
        exact this
end XPRESS
