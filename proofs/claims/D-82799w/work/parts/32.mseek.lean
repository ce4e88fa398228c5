-- dep: 31
/-! THE MODEL'S CENTRE -/
section MSEEK
set_option maxRecDepth 100000
variable {S : Nat × (Nat → Int32)} {d : Nat} {F : PInt} {L : PLng} {T : PRest} {Q : POut → Prop}
theorem m_isIn (h : LayM T) {y x : Int} (h1 : -1000 ≤ y) (h2 : y ≤ 1000) (h3 : -1000 ≤ x) (h4 : x ≤ 1000) : WC S d 52 [.ref 22, .int (iI y), .int (iI x)] (F, L, T) Q = Q (.inl (some (.int (tI (InP (F 23) y x))), (F, L, T))) := by
  simp only [w_X3_isIn_in, w_X3_isIn_0, w_X3_isIn_1, w_X3_isIn_4, w_X3_isIn_5, w_X3_isIn_7, w_X3_isIn_10, w_X3_isIn_11, w_X3_isIn_14, w_X3_isIn_15, w_X3_isIn_17, w_X3_isIn_20, w_X3_isIn_21, w_X3_isIn_24, w_X3_isIn_25, w_X3_isIn_26, w_X3_isIn_27, w_X3_isIn_28, w_X3_isIn_29, w_X3_isIn_30, w_X3_isIn_31, w_X3_isIn_34, w_X3_isIn_35, w_X3_isIn_38, w_X3_isIn_39, gI_mk, gL_mk, gR_mk, gK_mk, sI_mk, sL_mk, va_rf, bO_l, bO_r, true_and, and_true, Option.toList, List.cons_append, List.nil_append, lk22 h, lk23 h, lk24 h, lk25 h, lk26 h, lk27 h, lk28 h, lk29 h, lk30 h, lk31 h, lk32 h, lk33 h, lk34 h, lk35 h, lk36 h, lk37 h, lk38 h, lk39 h, lk40 h, lk41 h, lk42 h, lk43 h, lk44 h, lk45 h, lk46 h, lk47 h, lk48 h, lk49 h, lk50 h, lk51 h, lk52 h, lk53 h, lk54 h, lMr0 h, lMr4 h, lMr15 h, lMr16 h, lMr17 h, lMr18 h, lMr19 h, lMr23 h, lMr24 h, lMr25 h, lMr26 h, lMr27 h, lMr28 h, lMr31 h, lMr35 h, lMr36 h, lMr37 h, lMr38 h, lMr39 h, lMr40 h, lMr41 h, lMr42 h, lMr44 h, lMr45 h, lMr46 h, lMr47 h, lMr48 h, lMr54 h, lMr55 h, lMr56 h, lMr57 h, lMr58 h, iI_lit, Int.cast_ofNat_Int]
  simp (disch := omega) only [iI_lt, iI_le]
  have e0 : ∀ p : Prop, ¬ p → (Q (.inl (some (.int (iI 0)), (F, L, T))) = Q (.inl (some (.int (tI p)), (F, L, T)))) := fun p hp => by
    rw [tI_f hp]; rfl
  simp only [true_or, or_true, true_and]
  split
  · exact e0 _ (fun hp => by have := hp.1; omega)
  · split
    · exact e0 _ (fun hp => by have := hp.2.1; omega)
    · split
      · exact e0 _ (fun hp => by have := hp.2.2.1; omega)
      · split
        · exact e0 _ (fun hp => by have := hp.2.2.2.1; omega)
        · rw [iI_t (by omega) (by omega), iI_c (by omega) (by omega)]
          rw [eq_true (show 0 ≤ y ∧ y < 24 by omega), true_and]
          split
          · rename_i hn
            exact e0 _ (fun hp => hn hp.2.2.2.2)
          · rename_i hn
            rw [tI_t ⟨by omega, by omega, by omega, by omega, Classical.not_not.mp hn⟩]
            rfl
theorem m_fits_0 {y x r a b : Int} (r1 : 0 ≤ r) (r2 : r ≤ 50) (a1 : -60 ≤ a) (a2 : a ≤ 60) (b1 : -60 ≤ b) (b2 : b ≤ 60) : WP S (d + 1) 51 22 [some (.ref 22), some (.int (iI y)), some (.int (iI x)), some (.int (iI r)), some (.int (iI 0)), some (.int (iI a)), some (.int (iI b))] [] (F, L, T) Q = Q (.inl (some (.int 0), (F, L, T))) := by
  have k7 : ∀ (a' : Int) (l6 : Option Value), -70 ≤ a' → a' ≤ 70 → WP S (d + 1) 51 7 [some (.ref 22), some (.int (iI y)), some (.int (iI x)), some (.int (iI r)), some (.int (iI 0)), some (.int (iI a')), l6] [] (F, L, T) Q = Q (.inl (some (.int 0), (F, L, T))) := by
    intro a' l6 q1 q2
    rw [w_X3_fits_7]
    by_cases c : r < a'
    · simp (disch := omega) only [w_X3_fits_9, w_X3_fits_10, w_X3_fits_84, w_X3_fits_86, iI_lt, c, if_true]
      simp only [iI_0, true_or, true_and]
    · simp (disch := omega) only [w_X3_fits_9, w_X3_fits_10, w_X3_fits_13, w_X3_fits_15, w_X3_fits_84, w_X3_fits_86, iI_lt, c, if_false]
      rw [if_pos (show iI 0 = 0 from rfl)]
      simp only [iI_0, true_or, true_and]
  rw [w_X3_fits_22]
  by_cases c : r < b
  · simp (disch := omega) only [w_X3_fits_24, w_X3_fits_25, w_X3_fits_78, w_X3_fits_81, iI_lit, Int.cast_ofNat_Int, iI_add, iI_lt, c, if_true]
    exact k7 _ _ (by omega) (by omega)
  · simp (disch := omega) only [w_X3_fits_24, w_X3_fits_25, w_X3_fits_28, w_X3_fits_30, iI_lt, c, if_false]
    rw [if_pos (show iI 0 = 0 from rfl)]
    simp only [w_X3_fits_78, w_X3_fits_81, iI_lit, Int.cast_ofNat_Int, iI_add]
    exact k7 _ _ (by omega) (by omega)
theorem m_fits_22 (h : LayM T) {y x r a : Int} (y1 : 0 ≤ y) (y2 : y ≤ 50) (x1 : 0 ≤ x) (x2 : x ≤ 50) (r1 : 0 ≤ r) (r2 : r ≤ 50) (a1 : -r ≤ a) (a2 : a ≤ r) : ∀ (n : Nat) (b : Int), r + 1 - b = n → -r ≤ b →
    (FitR (F 23) y x r a b → WP S (d + 1) 51 22 [some (.ref 22), some (.int (iI y)), some (.int (iI x)), some (.int (iI r)), some (.int (iI 1)), some (.int (iI a)), some (.int (iI b))] [] (F, L, T) Q = WP S (d + 1) 51 7 [some (.ref 22), some (.int (iI y)), some (.int (iI x)), some (.int (iI r)), some (.int (iI 1)), some (.int (iI (a + 1))), some (.int (iI (r + 1)))] [] (F, L, T) Q) ∧
    (¬ FitR (F 23) y x r a b → WP S (d + 1) 51 22 [some (.ref 22), some (.int (iI y)), some (.int (iI x)), some (.int (iI r)), some (.int (iI 1)), some (.int (iI a)), some (.int (iI b))] [] (F, L, T) Q = Q (.inl (some (.int 0), (F, L, T)))) := by
  intro n
  induction n with
  | zero =>
    intro b hb hb1
    have hr : r < b := by omega
    obtain rfl : b = r + 1 := by omega
    refine ⟨fun _ => ?_, fun hn => absurd (fun b' q1 q2 => by omega) hn⟩
    rw [w_X3_fits_22]
    simp (disch := omega) only [w_X3_fits_1, w_X3_fits_3, w_X3_fits_4, w_X3_fits_5, w_X3_fits_9, w_X3_fits_10, w_X3_fits_13, w_X3_fits_15, w_X3_fits_18, w_X3_fits_19, w_X3_fits_20, w_X3_fits_24, w_X3_fits_25, w_X3_fits_28, w_X3_fits_30, w_X3_fits_33, w_X3_fits_35, w_X3_fits_37, w_X3_fits_38, w_X3_fits_40, w_X3_fits_42, w_X3_fits_43, w_X3_fits_44, w_X3_fits_45, w_X3_fits_46, w_X3_fits_47, w_X3_fits_50, w_X3_fits_51, w_X3_fits_52, w_X3_fits_54, w_X3_fits_55, w_X3_fits_56, w_X3_fits_58, w_X3_fits_59, w_X3_fits_62, w_X3_fits_65, w_X3_fits_66, w_X3_fits_69, w_X3_fits_70, w_X3_fits_72, w_X3_fits_75, w_X3_fits_78, w_X3_fits_81, w_X3_fits_84, w_X3_fits_86, gI_mk, gL_mk, gR_mk, gK_mk, sI_mk, sL_mk, va_rf, bO_l, bO_r, true_and, and_true, Option.toList, List.cons_append, List.nil_append, iI_lit, Int.cast_ofNat_Int, iI_add, iI_lt, hr, if_true]
  | succ n ih =>
    intro b hb hb1
    have hr : ¬ r < b := by omega
    have sa := sq_rng (a := a) (by omega) (by omega)
    have sb := sq_rng (a := b) (by omega) (by omega)
    have sr := sq_rng (a := r) (by omega) (by omega)
    have e10 : ¬ iI 1 = iI 0 := by decide
    have ih := ih (b + 1) (by omega) (by omega)
    rw [w_X3_fits_22]
    simp (disch := omega) only [w_X3_fits_1, w_X3_fits_3, w_X3_fits_4, w_X3_fits_5, w_X3_fits_9, w_X3_fits_10, w_X3_fits_13, w_X3_fits_15, w_X3_fits_18, w_X3_fits_19, w_X3_fits_20, w_X3_fits_24, w_X3_fits_25, w_X3_fits_28, w_X3_fits_30, w_X3_fits_33, w_X3_fits_35, w_X3_fits_37, w_X3_fits_38, w_X3_fits_40, w_X3_fits_42, w_X3_fits_43, w_X3_fits_44, w_X3_fits_45, w_X3_fits_46, w_X3_fits_47, w_X3_fits_50, w_X3_fits_51, w_X3_fits_52, w_X3_fits_54, w_X3_fits_55, w_X3_fits_56, w_X3_fits_58, w_X3_fits_59, w_X3_fits_62, w_X3_fits_65, w_X3_fits_66, w_X3_fits_69, w_X3_fits_70, w_X3_fits_72, w_X3_fits_75, w_X3_fits_78, w_X3_fits_81, w_X3_fits_84, w_X3_fits_86, gI_mk, gL_mk, gR_mk, gK_mk, sI_mk, sL_mk, va_rf, bO_l, bO_r, true_and, and_true, Option.toList, List.cons_append, List.nil_append, lk22 h, lk23 h, lk24 h, lk25 h, lk26 h, lk27 h, lk28 h, lk29 h, lk30 h, lk31 h, lk32 h, lk33 h, lk34 h, lk35 h, lk36 h, lk37 h, lk38 h, lk39 h, lk40 h, lk41 h, lk42 h, lk43 h, lk44 h, lk45 h, lk46 h, lk47 h, lk48 h, lk49 h, lk50 h, lk51 h, lk52 h, lk53 h, lk54 h, lMr0 h, lMr4 h, lMr15 h, lMr16 h, lMr17 h, lMr18 h, lMr19 h, lMr23 h, lMr24 h, lMr25 h, lMr26 h, lMr27 h, lMr28 h, lMr31 h, lMr35 h, lMr36 h, lMr37 h, lMr38 h, lMr39 h, lMr40 h, lMr41 h, lMr42 h, lMr44 h, lMr45 h, lMr46 h, lMr47 h, lMr48 h, lMr54 h, lMr55 h, lMr56 h, lMr57 h, lMr58 h, iI_lit, Int.cast_ofNat_Int, iI_add, iI_mul, iI_lt, m_isIn h, hr, e10, if_false]
    rw [FitR_step (b := b) (by omega)]
    by_cases c1 : r * r < a * a + b * b
    · simp only [c1, if_true, show ¬ a * a + b * b ≤ r * r by omega, false_implies, true_and]
      exact ih
    · simp only [c1, if_false, show a * a + b * b ≤ r * r by omega, true_implies]
      by_cases c2 : InP (F 23) (y + a) (x + b)
      · have e : ¬ tI (InP (F 23) (y + a) (x + b)) = iI 0 := by rw [tI_t c2]; decide
        rw [if_neg e, eq_true c2, true_and]
        exact ih
      · have e : tI (InP (F 23) (y + a) (x + b)) = iI 0 := by rw [tI_f c2]; decide
        rw [if_pos e, eq_false c2, m_fits_0 r1 r2 (by omega) (by omega) (by omega) (by omega)]
        simp only [false_and, false_implies, true_and, not_false_eq_true, true_implies]
        rfl
theorem m_fits_7 (h : LayM T) {y x r : Int} (y1 : 0 ≤ y) (y2 : y ≤ 50) (x1 : 0 ≤ x) (x2 : x ≤ 50) (r1 : 0 ≤ r) (r2 : r ≤ 50) : ∀ (n : Nat) (a : Int) (l5 : Option Value), r + 1 - a = n → -r ≤ a →
    WP S (d + 1) 51 7 [some (.ref 22), some (.int (iI y)), some (.int (iI x)), some (.int (iI r)), some (.int (iI 1)), some (.int (iI a)), l5] [] (F, L, T) Q = Q (.inl (some (.int (tI (FitP (F 23) y x r a))), (F, L, T))) := by
  intro n
  induction n with
  | zero =>
    intro a l5 hb hb1
    have hr : r < a := by omega
    rw [w_X3_fits_7]
    simp (disch := omega) only [w_X3_fits_1, w_X3_fits_3, w_X3_fits_4, w_X3_fits_5, w_X3_fits_9, w_X3_fits_10, w_X3_fits_13, w_X3_fits_15, w_X3_fits_18, w_X3_fits_19, w_X3_fits_20, w_X3_fits_24, w_X3_fits_25, w_X3_fits_28, w_X3_fits_30, w_X3_fits_33, w_X3_fits_35, w_X3_fits_37, w_X3_fits_38, w_X3_fits_40, w_X3_fits_42, w_X3_fits_43, w_X3_fits_44, w_X3_fits_45, w_X3_fits_46, w_X3_fits_47, w_X3_fits_50, w_X3_fits_51, w_X3_fits_52, w_X3_fits_54, w_X3_fits_55, w_X3_fits_56, w_X3_fits_58, w_X3_fits_59, w_X3_fits_62, w_X3_fits_65, w_X3_fits_66, w_X3_fits_69, w_X3_fits_70, w_X3_fits_72, w_X3_fits_75, w_X3_fits_78, w_X3_fits_81, w_X3_fits_84, w_X3_fits_86, gI_mk, gL_mk, gR_mk, gK_mk, sI_mk, sL_mk, va_rf, bO_l, bO_r, true_and, and_true, Option.toList, List.cons_append, List.nil_append, iI_lit, Int.cast_ofNat_Int, iI_add, iI_lt, hr, if_true]
    rw [tI_t (FitP_end hr)]
    simp only [or_true, true_and]
    rfl
  | succ n ih =>
    intro a l5 hb hb1
    have hr : ¬ r < a := by omega
    have e10 : ¬ iI 1 = iI 0 := by decide
    rw [w_X3_fits_7]
    simp (disch := omega) only [w_X3_fits_1, w_X3_fits_3, w_X3_fits_4, w_X3_fits_5, w_X3_fits_9, w_X3_fits_10, w_X3_fits_13, w_X3_fits_15, w_X3_fits_18, w_X3_fits_19, w_X3_fits_20, w_X3_fits_24, w_X3_fits_25, w_X3_fits_28, w_X3_fits_30, w_X3_fits_33, w_X3_fits_35, w_X3_fits_37, w_X3_fits_38, w_X3_fits_40, w_X3_fits_42, w_X3_fits_43, w_X3_fits_44, w_X3_fits_45, w_X3_fits_46, w_X3_fits_47, w_X3_fits_50, w_X3_fits_51, w_X3_fits_52, w_X3_fits_54, w_X3_fits_55, w_X3_fits_56, w_X3_fits_58, w_X3_fits_59, w_X3_fits_62, w_X3_fits_65, w_X3_fits_66, w_X3_fits_69, w_X3_fits_70, w_X3_fits_72, w_X3_fits_75, w_X3_fits_78, w_X3_fits_81, w_X3_fits_84, w_X3_fits_86, gI_mk, gL_mk, gR_mk, gK_mk, sI_mk, sL_mk, va_rf, bO_l, bO_r, true_and, and_true, Option.toList, List.cons_append, List.nil_append, iI_lit, Int.cast_ofNat_Int, iI_add, iI_neg, iI_lt, hr, e10, if_false]
    have k := m_fits_22 (S := S) (d := d) (F := F) (L := L) (Q := Q) h y1 y2 x1 x2 r1 r2 hb1 (by omega) (2 * r + 1).toNat (-r) (by omega) (by omega)
    by_cases c : FitR (F 23) y x r a (-r)
    · rw [k.1 c, ih (a + 1) _ (by omega) (by omega)]
      have e : FitP (F 23) y x r a ↔ FitP (F 23) y x r (a + 1) := by
        rw [FitP_step (a := a) (by omega)]
        exact ⟨fun q => q.2, fun q => ⟨c, q⟩⟩
      rw [propext e]
    · rw [k.2 c, tI_f (fun q => c ((FitP_step (by omega)).mp q).1)]
theorem m_fits (h : LayM T) {y x r : Int} (y1 : 0 ≤ y) (y2 : y ≤ 50) (x1 : 0 ≤ x) (x2 : x ≤ 50) (r1 : 0 ≤ r) (r2 : r ≤ 50) :
    WC S (d + 1) 51 [.ref 22, .int (iI y), .int (iI x), .int (iI r)] (F, L, T) Q = Q (.inl (some (.int (tI (FitP (F 23) y x r (-r)))), (F, L, T))) := by
  simp only [w_X3_fits_in, w_X3_fits_0, w_X3_fits_1, w_X3_fits_3, w_X3_fits_4, w_X3_fits_5, iI_neg]
  exact m_fits_7 h y1 y2 x1 x2 r1 r2 (2 * r + 1).toNat (-r) none (by omega) (by omega)
theorem m_seek_21 (h : LayM T) {y x : Int} (y1 : 0 ≤ y) (y2 : y ≤ 23) (x1 : 0 ≤ x) (x2 : x ≤ 23) : ∀ (n : Nat) (c : C3), -1 ≤ c.1 → c.1 ≤ 11 → 11 - c.1 < n →
    WP S (d + 2) 50 21 [some (.ref 22), some (.int (iI y)), some (.int (iI x))] [] (cF F 22 c, L, T) Q = WP S (d + 2) 50 15 [some (.ref 22), some (.int (iI y)), some (.int (iI (x + 1)))] [] (cF F 22 (sk1 (F 23) y x n c), L, T) Q := by
  intro n
  induction n with
  | zero => intro c h1 h2 h3; omega
  | succ n ih =>
    intro c h1 h2 h3
    have e1 : cF F 22 c 23 = F 23 := cF_o F c (by decide)
    rw [w_X3_seekCentre_21]
    unfold sk1
    by_cases c1 : 11 ≤ c.1
    · rw [if_neg (by omega)]
      simp (disch := omega) only [w_X3_seekCentre_1, w_X3_seekCentre_2, w_X3_seekCentre_5, w_X3_seekCentre_6, w_X3_seekCentre_8, w_X3_seekCentre_10, w_X3_seekCentre_13, w_X3_seekCentre_14, w_X3_seekCentre_16, w_X3_seekCentre_18, w_X3_seekCentre_22, w_X3_seekCentre_25, w_X3_seekCentre_27, w_X3_seekCentre_30, w_X3_seekCentre_31, w_X3_seekCentre_32, w_X3_seekCentre_33, w_X3_seekCentre_34, w_X3_seekCentre_37, w_X3_seekCentre_38, w_X3_seekCentre_39, w_X3_seekCentre_42, w_X3_seekCentre_45, w_X3_seekCentre_46, w_X3_seekCentre_47, w_X3_seekCentre_50, w_X3_seekCentre_51, w_X3_seekCentre_52, w_X3_seekCentre_55, w_X3_seekCentre_56, w_X3_seekCentre_57, w_X3_seekCentre_60, w_X3_seekCentre_61, w_X3_seekCentre_62, w_X3_seekCentre_65, w_X3_seekCentre_68, w_X3_seekCentre_71, w_X3_seekCentre_74, w_X3_seekCentre_77, w_X3_seekCentre_80, gI_mk, gL_mk, gR_mk, gK_mk, sI_mk, sL_mk, va_rf, bO_l, bO_r, true_and, and_true, Option.toList, List.cons_append, List.nil_append, lk22 h, lk23 h, lk24 h, lk25 h, lk26 h, lk27 h, lk28 h, lk29 h, lk30 h, lk31 h, lk32 h, lk33 h, lk34 h, lk35 h, lk36 h, lk37 h, lk38 h, lk39 h, lk40 h, lk41 h, lk42 h, lk43 h, lk44 h, lk45 h, lk46 h, lk47 h, lk48 h, lk49 h, lk50 h, lk51 h, lk52 h, lk53 h, lk54 h, lMr0 h, lMr4 h, lMr15 h, lMr16 h, lMr17 h, lMr18 h, lMr19 h, lMr23 h, lMr24 h, lMr25 h, lMr26 h, lMr27 h, lMr28 h, lMr31 h, lMr35 h, lMr36 h, lMr37 h, lMr38 h, lMr39 h, lMr40 h, lMr41 h, lMr42 h, lMr44 h, lMr45 h, lMr46 h, lMr47 h, lMr48 h, lMr54 h, lMr55 h, lMr56 h, lMr57 h, lMr58 h, cF_3, iI_lit, Int.cast_ofNat_Int, iI_le, iI_add, c1, if_true]
    · have c2 : c.1 < 11 := by omega
      simp (disch := omega) only [w_X3_seekCentre_1, w_X3_seekCentre_2, w_X3_seekCentre_5, w_X3_seekCentre_6, w_X3_seekCentre_8, w_X3_seekCentre_10, w_X3_seekCentre_13, w_X3_seekCentre_14, w_X3_seekCentre_16, w_X3_seekCentre_18, w_X3_seekCentre_22, w_X3_seekCentre_25, w_X3_seekCentre_27, w_X3_seekCentre_30, w_X3_seekCentre_31, w_X3_seekCentre_32, w_X3_seekCentre_33, w_X3_seekCentre_34, w_X3_seekCentre_37, w_X3_seekCentre_38, w_X3_seekCentre_39, w_X3_seekCentre_42, w_X3_seekCentre_45, w_X3_seekCentre_46, w_X3_seekCentre_47, w_X3_seekCentre_50, w_X3_seekCentre_51, w_X3_seekCentre_52, w_X3_seekCentre_55, w_X3_seekCentre_56, w_X3_seekCentre_57, w_X3_seekCentre_60, w_X3_seekCentre_61, w_X3_seekCentre_62, w_X3_seekCentre_65, w_X3_seekCentre_68, w_X3_seekCentre_71, w_X3_seekCentre_74, w_X3_seekCentre_77, w_X3_seekCentre_80, gI_mk, gL_mk, gR_mk, gK_mk, sI_mk, sL_mk, va_rf, bO_l, bO_r, true_and, and_true, Option.toList, List.cons_append, List.nil_append, lk22 h, lk23 h, lk24 h, lk25 h, lk26 h, lk27 h, lk28 h, lk29 h, lk30 h, lk31 h, lk32 h, lk33 h, lk34 h, lk35 h, lk36 h, lk37 h, lk38 h, lk39 h, lk40 h, lk41 h, lk42 h, lk43 h, lk44 h, lk45 h, lk46 h, lk47 h, lk48 h, lk49 h, lk50 h, lk51 h, lk52 h, lk53 h, lk54 h, lMr0 h, lMr4 h, lMr15 h, lMr16 h, lMr17 h, lMr18 h, lMr19 h, lMr23 h, lMr24 h, lMr25 h, lMr26 h, lMr27 h, lMr28 h, lMr31 h, lMr35 h, lMr36 h, lMr37 h, lMr38 h, lMr39 h, lMr40 h, lMr41 h, lMr42 h, lMr44 h, lMr45 h, lMr46 h, lMr47 h, lMr48 h, lMr54 h, lMr55 h, lMr56 h, lMr57 h, lMr58 h, cF_3, iI_lit, Int.cast_ofNat_Int, iI_le, iI_add, c1, if_false, m_fits h, e1, up_c1, up_c2, up_c3]
      by_cases c3 : FitP (F 23) y x (c.1 + 1) (-(c.1 + 1))
      · rw [tI_t c3, if_neg (show ¬ (1 : Int32) = iI 0 by decide), if_pos (show c.1 < 11 ∧ FitP (F 23) y x (c.1 + 1) (-(c.1 + 1)) from ⟨c2, c3⟩)]
        exact ih _ (by show -1 ≤ c.1 + 1; omega) (by show c.1 + 1 ≤ 11; omega) (by show 11 - (c.1 + 1) < n; omega)
      · rw [tI_f c3, if_pos (show (0 : Int32) = iI 0 by decide), if_neg (show ¬ (c.1 < 11 ∧ FitP (F 23) y x (c.1 + 1) (-(c.1 + 1))) from fun q => c3 q.2)]
theorem m_seek_15 (h : LayM T) {y : Int} (y1 : 0 ≤ y) (y2 : y ≤ 23) : ∀ (n : Nat) (x : Int) (c : C3), -1 ≤ c.1 → c.1 ≤ 11 → 24 - x = n → 0 ≤ x →
    WP S (d + 2) 50 15 [some (.ref 22), some (.int (iI y)), some (.int (iI x))] [] (cF F 22 c, L, T) Q = WP S (d + 2) 50 7 [some (.ref 22), some (.int (iI (y + 1))), some (.int (iI 24))] [] (cF F 22 (sk2 (F 23) y n c), L, T) Q := by
  intro n
  induction n with
  | zero =>
    intro x c h1 h2 h3 h4
    obtain rfl : x = 24 := by omega
    rw [w_X3_seekCentre_15]
    simp (disch := omega) only [w_X3_seekCentre_1, w_X3_seekCentre_2, w_X3_seekCentre_5, w_X3_seekCentre_6, w_X3_seekCentre_8, w_X3_seekCentre_10, w_X3_seekCentre_13, w_X3_seekCentre_14, w_X3_seekCentre_16, w_X3_seekCentre_18, w_X3_seekCentre_22, w_X3_seekCentre_25, w_X3_seekCentre_27, w_X3_seekCentre_30, w_X3_seekCentre_31, w_X3_seekCentre_32, w_X3_seekCentre_33, w_X3_seekCentre_34, w_X3_seekCentre_37, w_X3_seekCentre_38, w_X3_seekCentre_39, w_X3_seekCentre_42, w_X3_seekCentre_45, w_X3_seekCentre_46, w_X3_seekCentre_47, w_X3_seekCentre_50, w_X3_seekCentre_51, w_X3_seekCentre_52, w_X3_seekCentre_55, w_X3_seekCentre_56, w_X3_seekCentre_57, w_X3_seekCentre_60, w_X3_seekCentre_61, w_X3_seekCentre_62, w_X3_seekCentre_65, w_X3_seekCentre_68, w_X3_seekCentre_71, w_X3_seekCentre_74, w_X3_seekCentre_77, w_X3_seekCentre_80, gI_mk, gL_mk, gR_mk, gK_mk, sI_mk, sL_mk, va_rf, bO_l, bO_r, true_and, and_true, Option.toList, List.cons_append, List.nil_append, iI_lit, Int.cast_ofNat_Int, iI_le, iI_add, Int.le_refl, if_true]
    rfl
  | succ n ih =>
    intro x c h1 h2 h3 h4
    have hx : ¬ 24 ≤ x := by omega
    have hx2 : (24 : Int) - (n + 1 : Nat) = x := by omega
    have hr := sk1_r (F 23) y x 13 c h1 h2
    rw [w_X3_seekCentre_15]
    simp (disch := omega) only [w_X3_seekCentre_1, w_X3_seekCentre_2, w_X3_seekCentre_5, w_X3_seekCentre_6, w_X3_seekCentre_8, w_X3_seekCentre_10, w_X3_seekCentre_13, w_X3_seekCentre_14, w_X3_seekCentre_16, w_X3_seekCentre_18, w_X3_seekCentre_22, w_X3_seekCentre_25, w_X3_seekCentre_27, w_X3_seekCentre_30, w_X3_seekCentre_31, w_X3_seekCentre_32, w_X3_seekCentre_33, w_X3_seekCentre_34, w_X3_seekCentre_37, w_X3_seekCentre_38, w_X3_seekCentre_39, w_X3_seekCentre_42, w_X3_seekCentre_45, w_X3_seekCentre_46, w_X3_seekCentre_47, w_X3_seekCentre_50, w_X3_seekCentre_51, w_X3_seekCentre_52, w_X3_seekCentre_55, w_X3_seekCentre_56, w_X3_seekCentre_57, w_X3_seekCentre_60, w_X3_seekCentre_61, w_X3_seekCentre_62, w_X3_seekCentre_65, w_X3_seekCentre_68, w_X3_seekCentre_71, w_X3_seekCentre_74, w_X3_seekCentre_77, w_X3_seekCentre_80, gI_mk, gL_mk, gR_mk, gK_mk, sI_mk, sL_mk, va_rf, bO_l, bO_r, true_and, and_true, Option.toList, List.cons_append, List.nil_append, iI_lit, Int.cast_ofNat_Int, iI_le, hx, if_false]
    rw [m_seek_21 h y1 y2 h4 (by omega) 13 c h1 h2 (by omega), ih (x + 1) _ hr.1 hr.2 (by omega) (by omega)]
    show _ = WP S (d + 2) 50 7 [some (.ref 22), some (.int (iI (y + 1))), some (.int (iI 24))] [] (cF F 22 (sk2 (F 23) y n (sk1 (F 23) y (24 - (n + 1 : Nat)) 13 c)), L, T) Q
    rw [hx2]
theorem m_seek_7 (h : LayM T) : ∀ (n : Nat) (y : Int) (l2 : Option Value) (c : C3), -1 ≤ c.1 → c.1 ≤ 11 → 24 - y = n → 0 ≤ y →
    WP S (d + 2) 50 7 [some (.ref 22), some (.int (iI y)), l2] [] (cF F 22 c, L, T) Q = Q (.inl (none, (cF F 22 (sk3 (F 23) n c), L, T))) := by
  intro n
  induction n with
  | zero =>
    intro y l2 c h1 h2 h3 h4
    obtain rfl : y = 24 := by omega
    rw [w_X3_seekCentre_7]
    simp (disch := omega) only [w_X3_seekCentre_1, w_X3_seekCentre_2, w_X3_seekCentre_5, w_X3_seekCentre_6, w_X3_seekCentre_8, w_X3_seekCentre_10, w_X3_seekCentre_13, w_X3_seekCentre_14, w_X3_seekCentre_16, w_X3_seekCentre_18, w_X3_seekCentre_22, w_X3_seekCentre_25, w_X3_seekCentre_27, w_X3_seekCentre_30, w_X3_seekCentre_31, w_X3_seekCentre_32, w_X3_seekCentre_33, w_X3_seekCentre_34, w_X3_seekCentre_37, w_X3_seekCentre_38, w_X3_seekCentre_39, w_X3_seekCentre_42, w_X3_seekCentre_45, w_X3_seekCentre_46, w_X3_seekCentre_47, w_X3_seekCentre_50, w_X3_seekCentre_51, w_X3_seekCentre_52, w_X3_seekCentre_55, w_X3_seekCentre_56, w_X3_seekCentre_57, w_X3_seekCentre_60, w_X3_seekCentre_61, w_X3_seekCentre_62, w_X3_seekCentre_65, w_X3_seekCentre_68, w_X3_seekCentre_71, w_X3_seekCentre_74, w_X3_seekCentre_77, w_X3_seekCentre_80, gI_mk, gL_mk, gR_mk, gK_mk, sI_mk, sL_mk, va_rf, bO_l, bO_r, true_and, and_true, Option.toList, List.cons_append, List.nil_append, iI_lit, Int.cast_ofNat_Int, iI_le, iI_add, Int.le_refl, if_true]
    rfl
  | succ n ih =>
    intro y l2 c h1 h2 h3 h4
    have hx : ¬ 24 ≤ y := by omega
    have hx2 : (24 : Int) - (n + 1 : Nat) = y := by omega
    have hr := sk2_r (F 23) y 24 c h1 h2
    rw [w_X3_seekCentre_7]
    simp (disch := omega) only [w_X3_seekCentre_1, w_X3_seekCentre_2, w_X3_seekCentre_5, w_X3_seekCentre_6, w_X3_seekCentre_8, w_X3_seekCentre_10, w_X3_seekCentre_13, w_X3_seekCentre_14, w_X3_seekCentre_16, w_X3_seekCentre_18, w_X3_seekCentre_22, w_X3_seekCentre_25, w_X3_seekCentre_27, w_X3_seekCentre_30, w_X3_seekCentre_31, w_X3_seekCentre_32, w_X3_seekCentre_33, w_X3_seekCentre_34, w_X3_seekCentre_37, w_X3_seekCentre_38, w_X3_seekCentre_39, w_X3_seekCentre_42, w_X3_seekCentre_45, w_X3_seekCentre_46, w_X3_seekCentre_47, w_X3_seekCentre_50, w_X3_seekCentre_51, w_X3_seekCentre_52, w_X3_seekCentre_55, w_X3_seekCentre_56, w_X3_seekCentre_57, w_X3_seekCentre_60, w_X3_seekCentre_61, w_X3_seekCentre_62, w_X3_seekCentre_65, w_X3_seekCentre_68, w_X3_seekCentre_71, w_X3_seekCentre_74, w_X3_seekCentre_77, w_X3_seekCentre_80, gI_mk, gL_mk, gR_mk, gK_mk, sI_mk, sL_mk, va_rf, bO_l, bO_r, true_and, and_true, Option.toList, List.cons_append, List.nil_append, iI_lit, Int.cast_ofNat_Int, iI_le, hx, if_false]
    rw [m_seek_15 h h4 (by omega) 24 0 c h1 h2 (by omega) (by omega), ih (y + 1) _ _ hr.1 hr.2 (by omega) (by omega)]
    show _ = Q (.inl (none, (cF F 22 (sk3 (F 23) n (sk2 (F 23) (24 - (n + 1 : Nat)) 24 c)), L, T)))
    rw [hx2]
theorem m_seek (h : LayM T) : WC S (d + 2) 50 [.ref 22] (F, L, T) Q = Q (.inl (none, (cF F 22 (skc F (F 23) 22), L, T))) := by
  have e := cF_id F 22
  have k := m_seek_7 (S := S) (d := d) (F := F) (L := L) (Q := Q) h 24 0 none (-1, (F 22 1).toInt, (F 22 2).toInt) (by show (-1 : Int) ≤ -1; decide) (by show (-1 : Int) ≤ 11; decide) (by decide) (by decide)
  simp only [w_X3_seekCentre_in, w_X3_seekCentre_0, w_X3_seekCentre_1, w_X3_seekCentre_2, w_X3_seekCentre_5, w_X3_seekCentre_6, gI_mk, gL_mk, gR_mk, gK_mk, sI_mk, sL_mk, va_rf, bO_l, bO_r, true_and, and_true, Option.toList, List.cons_append, List.nil_append, lk22 h]
  have e2 : up F 22 3 (-1) = cF F 22 (-1, (F 22 1).toInt, (F 22 2).toInt) := by
    have := up_c3 F 22 ((F 22 3).toInt, (F 22 1).toInt, (F 22 2).toInt) (-1)
    rw [e] at this
    exact this
  rw [e2]
  exact k
end MSEEK
