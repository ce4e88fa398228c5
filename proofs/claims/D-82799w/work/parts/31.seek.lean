-- dep: 30
section SEEK
set_option maxRecDepth 100000
variable {S : Nat × (Nat → Int32)} {d : Nat} {F : PInt} {L : PLng} {T : PRest} {Q : POut → Prop}
abbrev C3 : Type := Int × Int × Int
/-- radius, row, column in an object's fields 3, 1, 2 -/
def cF (F : PInt) (o : Nat) (c : C3) : PInt := fun b j => if b = o ∧ j = 3 then iI c.1 else if b = o ∧ j = 1 then iI c.2.1 else if b = o ∧ j = 2 then iI c.2.2 else F b j
theorem cF_3 (F : PInt) (o : Nat) (c : C3) : cF F o c o 3 = iI c.1 := by simp [cF]
theorem cF_1 (F : PInt) (o : Nat) (c : C3) : cF F o c o 1 = iI c.2.1 := by simp [cF]
theorem cF_2 (F : PInt) (o : Nat) (c : C3) : cF F o c o 2 = iI c.2.2 := by simp [cF]
theorem cF_o (F : PInt) {o b : Nat} (c : C3) (h : ¬ b = o) : cF F o c b = F b := by
  funext j
  simp [cF, h]
theorem up_c3 (F : PInt) (o : Nat) (c : C3) (z : Int) : up (cF F o c) o 3 (iI z) = cF F o (z, c.2) := by
  funext b j
  unfold up cF
  by_cases h : b = o ∧ j = 3
  · simp [h]
  · simp [h]
theorem up_c1 (F : PInt) (o : Nat) (c : C3) (z : Int) : up (cF F o c) o 1 (iI z) = cF F o (c.1, z, c.2.2) := by
  funext b j
  unfold up cF
  by_cases h : b = o ∧ j = 1
  · obtain ⟨rfl, rfl⟩ := h
    simp
  · simp [h]
theorem up_c2 (F : PInt) (o : Nat) (c : C3) (z : Int) : up (cF F o c) o 2 (iI z) = cF F o (c.1, c.2.1, z) := by
  funext b j
  unfold up cF
  by_cases h : b = o ∧ j = 2
  · obtain ⟨rfl, rfl⟩ := h
    simp
  · simp [h]
theorem cF_id (F : PInt) (o : Nat) : cF F o ((F o 3).toInt, (F o 1).toInt, (F o 2).toInt) = F := by
  funext b j
  unfold cF
  simp only [iI_v]
  split
  · rename_i h; rw [h.1, h.2]
  · split
    · rename_i h; rw [h.1, h.2]
    · split
      · rename_i h; rw [h.1, h.2]
      · rfl
/-- the spec's one step, a place's, a row's, all rows' -/
noncomputable def sk1 (N : Nat → Int32) (y x : Int) : Nat → C3 → C3
  | 0, c => c
  | n + 1, c => @ite C3 (c.1 < 11 ∧ FitP N y x (c.1 + 1) (-(c.1 + 1))) (Classical.propDecidable _) (sk1 N y x n (c.1 + 1, y, x)) c
noncomputable def sk2 (N : Nat → Int32) (y : Int) : Nat → C3 → C3
  | 0, c => c
  | n + 1, c => sk2 N y n (sk1 N y (24 - (n + 1 : Nat)) 13 c)
noncomputable def sk3 (N : Nat → Int32) : Nat → C3 → C3
  | 0, c => c
  | n + 1, c => sk3 N n (sk2 N (24 - (n + 1 : Nat)) 24 c)
theorem sk1_r (N : Nat → Int32) (y x : Int) : ∀ (n : Nat) (c : C3), -1 ≤ c.1 → c.1 ≤ 11 → -1 ≤ (sk1 N y x n c).1 ∧ (sk1 N y x n c).1 ≤ 11 := by
  intro n
  induction n with
  | zero => exact fun c h1 h2 => ⟨h1, h2⟩
  | succ n ih =>
    intro c h1 h2
    unfold sk1
    split
    · rename_i h
      exact ih _ (by show -1 ≤ c.1 + 1; omega) (by show c.1 + 1 ≤ 11; omega)
    · exact ⟨h1, h2⟩
theorem sk2_r (N : Nat → Int32) (y : Int) : ∀ (n : Nat) (c : C3), -1 ≤ c.1 → c.1 ≤ 11 → -1 ≤ (sk2 N y n c).1 ∧ (sk2 N y n c).1 ≤ 11 := by
  intro n
  induction n with
  | zero => exact fun c h1 h2 => ⟨h1, h2⟩
  | succ n ih =>
    intro c h1 h2
    unfold sk2
    have := sk1_r N y (24 - (n + 1 : Nat)) 13 c h1 h2
    exact ih _ this.1 this.2
theorem sk3_r (N : Nat → Int32) : ∀ (n : Nat) (c : C3), -1 ≤ c.1 → c.1 ≤ 11 → -1 ≤ (sk3 N n c).1 ∧ (sk3 N n c).1 ≤ 11 := by
  intro n
  induction n with
  | zero => exact fun c h1 h2 => ⟨h1, h2⟩
  | succ n ih =>
    intro c h1 h2
    unfold sk3
    have := sk2_r N (24 - (n + 1 : Nat)) 24 c h1 h2
    exact ih _ this.1 this.2
theorem x_seek_21 (h : LayX T) {y x : Int} (y1 : 0 ≤ y) (y2 : y ≤ 23) (x1 : 0 ≤ x) (x2 : x ≤ 23) : ∀ (n : Nat) (c : C3), -1 ≤ c.1 → c.1 ≤ 11 → 11 - c.1 < n →
    WP S (d + 2) 2 21 [some (.ref 0), some (.int (iI y)), some (.int (iI x))] [] (cF F 0 c, L, T) Q = WP S (d + 2) 2 15 [some (.ref 0), some (.int (iI y)), some (.int (iI (x + 1)))] [] (cF F 0 (sk1 (F 1) y x n c), L, T) Q := by
  intro n
  induction n with
  | zero => intro c h1 h2 h3; omega
  | succ n ih =>
    intro c h1 h2 h3
    have e1 : cF F 0 c 1 = F 1 := cF_o F c (by decide)
    rw [w_X0_seekCentre_21]
    unfold sk1
    by_cases c1 : 11 ≤ c.1
    · rw [if_neg (by omega)]
      simp (disch := omega) only [w_X0_seekCentre_1, w_X0_seekCentre_2, w_X0_seekCentre_5, w_X0_seekCentre_6, w_X0_seekCentre_8, w_X0_seekCentre_10, w_X0_seekCentre_13, w_X0_seekCentre_14, w_X0_seekCentre_16, w_X0_seekCentre_18, w_X0_seekCentre_22, w_X0_seekCentre_25, w_X0_seekCentre_27, w_X0_seekCentre_30, w_X0_seekCentre_31, w_X0_seekCentre_32, w_X0_seekCentre_33, w_X0_seekCentre_34, w_X0_seekCentre_37, w_X0_seekCentre_38, w_X0_seekCentre_39, w_X0_seekCentre_42, w_X0_seekCentre_45, w_X0_seekCentre_46, w_X0_seekCentre_47, w_X0_seekCentre_50, w_X0_seekCentre_51, w_X0_seekCentre_52, w_X0_seekCentre_55, w_X0_seekCentre_56, w_X0_seekCentre_57, w_X0_seekCentre_60, w_X0_seekCentre_61, w_X0_seekCentre_62, w_X0_seekCentre_65, w_X0_seekCentre_68, w_X0_seekCentre_71, w_X0_seekCentre_74, w_X0_seekCentre_77, w_X0_seekCentre_80, gI_mk, gL_mk, gR_mk, gK_mk, sI_mk, sL_mk, va_rf, bO_l, bO_r, true_and, and_true, Option.toList, List.cons_append, List.nil_append, lk0 h, lk1 h, lk6 h, lk7 h, lk8 h, lk9 h, lk10 h, lk11 h, lk12 h, lk13 h, lk14 h, lk15 h, lk16 h, lk17 h, lk18 h, lk19 h, lk20 h, lk21 h, lXr0 h, lXr7 h, lXr9 h, lXr13 h, lXr14 h, lXr15 h, lXr16 h, lXr17 h, lXr19 h, lXr20 h, lXr21 h, lXr22 h, lXr23 h, lXr24 h, lXr30 h, lXr31 h, lXr32 h, cF_3, iI_lit, Int.cast_ofNat_Int, iI_le, iI_add, c1, if_true]
    · have c2 : c.1 < 11 := by omega
      simp (disch := omega) only [w_X0_seekCentre_1, w_X0_seekCentre_2, w_X0_seekCentre_5, w_X0_seekCentre_6, w_X0_seekCentre_8, w_X0_seekCentre_10, w_X0_seekCentre_13, w_X0_seekCentre_14, w_X0_seekCentre_16, w_X0_seekCentre_18, w_X0_seekCentre_22, w_X0_seekCentre_25, w_X0_seekCentre_27, w_X0_seekCentre_30, w_X0_seekCentre_31, w_X0_seekCentre_32, w_X0_seekCentre_33, w_X0_seekCentre_34, w_X0_seekCentre_37, w_X0_seekCentre_38, w_X0_seekCentre_39, w_X0_seekCentre_42, w_X0_seekCentre_45, w_X0_seekCentre_46, w_X0_seekCentre_47, w_X0_seekCentre_50, w_X0_seekCentre_51, w_X0_seekCentre_52, w_X0_seekCentre_55, w_X0_seekCentre_56, w_X0_seekCentre_57, w_X0_seekCentre_60, w_X0_seekCentre_61, w_X0_seekCentre_62, w_X0_seekCentre_65, w_X0_seekCentre_68, w_X0_seekCentre_71, w_X0_seekCentre_74, w_X0_seekCentre_77, w_X0_seekCentre_80, gI_mk, gL_mk, gR_mk, gK_mk, sI_mk, sL_mk, va_rf, bO_l, bO_r, true_and, and_true, Option.toList, List.cons_append, List.nil_append, lk0 h, lk1 h, lk6 h, lk7 h, lk8 h, lk9 h, lk10 h, lk11 h, lk12 h, lk13 h, lk14 h, lk15 h, lk16 h, lk17 h, lk18 h, lk19 h, lk20 h, lk21 h, lXr0 h, lXr7 h, lXr9 h, lXr13 h, lXr14 h, lXr15 h, lXr16 h, lXr17 h, lXr19 h, lXr20 h, lXr21 h, lXr22 h, lXr23 h, lXr24 h, lXr30 h, lXr31 h, lXr32 h, cF_3, iI_lit, Int.cast_ofNat_Int, iI_le, iI_add, c1, if_false, x_fits h, e1, up_c1, up_c2, up_c3]
      by_cases c3 : FitP (F 1) y x (c.1 + 1) (-(c.1 + 1))
      · rw [tI_t c3, if_neg (show ¬ (1 : Int32) = iI 0 by decide), if_pos (show c.1 < 11 ∧ FitP (F 1) y x (c.1 + 1) (-(c.1 + 1)) from ⟨c2, c3⟩)]
        exact ih _ (by show -1 ≤ c.1 + 1; omega) (by show c.1 + 1 ≤ 11; omega) (by show 11 - (c.1 + 1) < n; omega)
      · rw [tI_f c3, if_pos (show (0 : Int32) = iI 0 by decide), if_neg (show ¬ (c.1 < 11 ∧ FitP (F 1) y x (c.1 + 1) (-(c.1 + 1))) from fun q => c3 q.2)]
theorem x_seek_15 (h : LayX T) {y : Int} (y1 : 0 ≤ y) (y2 : y ≤ 23) : ∀ (n : Nat) (x : Int) (c : C3), -1 ≤ c.1 → c.1 ≤ 11 → 24 - x = n → 0 ≤ x →
    WP S (d + 2) 2 15 [some (.ref 0), some (.int (iI y)), some (.int (iI x))] [] (cF F 0 c, L, T) Q = WP S (d + 2) 2 7 [some (.ref 0), some (.int (iI (y + 1))), some (.int (iI 24))] [] (cF F 0 (sk2 (F 1) y n c), L, T) Q := by
  intro n
  induction n with
  | zero =>
    intro x c h1 h2 h3 h4
    obtain rfl : x = 24 := by omega
    rw [w_X0_seekCentre_15]
    simp (disch := omega) only [w_X0_seekCentre_1, w_X0_seekCentre_2, w_X0_seekCentre_5, w_X0_seekCentre_6, w_X0_seekCentre_8, w_X0_seekCentre_10, w_X0_seekCentre_13, w_X0_seekCentre_14, w_X0_seekCentre_16, w_X0_seekCentre_18, w_X0_seekCentre_22, w_X0_seekCentre_25, w_X0_seekCentre_27, w_X0_seekCentre_30, w_X0_seekCentre_31, w_X0_seekCentre_32, w_X0_seekCentre_33, w_X0_seekCentre_34, w_X0_seekCentre_37, w_X0_seekCentre_38, w_X0_seekCentre_39, w_X0_seekCentre_42, w_X0_seekCentre_45, w_X0_seekCentre_46, w_X0_seekCentre_47, w_X0_seekCentre_50, w_X0_seekCentre_51, w_X0_seekCentre_52, w_X0_seekCentre_55, w_X0_seekCentre_56, w_X0_seekCentre_57, w_X0_seekCentre_60, w_X0_seekCentre_61, w_X0_seekCentre_62, w_X0_seekCentre_65, w_X0_seekCentre_68, w_X0_seekCentre_71, w_X0_seekCentre_74, w_X0_seekCentre_77, w_X0_seekCentre_80, gI_mk, gL_mk, gR_mk, gK_mk, sI_mk, sL_mk, va_rf, bO_l, bO_r, true_and, and_true, Option.toList, List.cons_append, List.nil_append, iI_lit, Int.cast_ofNat_Int, iI_le, iI_add, Int.le_refl, if_true]
    rfl
  | succ n ih =>
    intro x c h1 h2 h3 h4
    have hx : ¬ 24 ≤ x := by omega
    have hx2 : (24 : Int) - (n + 1 : Nat) = x := by omega
    have hr := sk1_r (F 1) y x 13 c h1 h2
    rw [w_X0_seekCentre_15]
    simp (disch := omega) only [w_X0_seekCentre_1, w_X0_seekCentre_2, w_X0_seekCentre_5, w_X0_seekCentre_6, w_X0_seekCentre_8, w_X0_seekCentre_10, w_X0_seekCentre_13, w_X0_seekCentre_14, w_X0_seekCentre_16, w_X0_seekCentre_18, w_X0_seekCentre_22, w_X0_seekCentre_25, w_X0_seekCentre_27, w_X0_seekCentre_30, w_X0_seekCentre_31, w_X0_seekCentre_32, w_X0_seekCentre_33, w_X0_seekCentre_34, w_X0_seekCentre_37, w_X0_seekCentre_38, w_X0_seekCentre_39, w_X0_seekCentre_42, w_X0_seekCentre_45, w_X0_seekCentre_46, w_X0_seekCentre_47, w_X0_seekCentre_50, w_X0_seekCentre_51, w_X0_seekCentre_52, w_X0_seekCentre_55, w_X0_seekCentre_56, w_X0_seekCentre_57, w_X0_seekCentre_60, w_X0_seekCentre_61, w_X0_seekCentre_62, w_X0_seekCentre_65, w_X0_seekCentre_68, w_X0_seekCentre_71, w_X0_seekCentre_74, w_X0_seekCentre_77, w_X0_seekCentre_80, gI_mk, gL_mk, gR_mk, gK_mk, sI_mk, sL_mk, va_rf, bO_l, bO_r, true_and, and_true, Option.toList, List.cons_append, List.nil_append, iI_lit, Int.cast_ofNat_Int, iI_le, hx, if_false]
    rw [x_seek_21 h y1 y2 h4 (by omega) 13 c h1 h2 (by omega), ih (x + 1) _ hr.1 hr.2 (by omega) (by omega)]
    show _ = WP S (d + 2) 2 7 [some (.ref 0), some (.int (iI (y + 1))), some (.int (iI 24))] [] (cF F 0 (sk2 (F 1) y n (sk1 (F 1) y (24 - (n + 1 : Nat)) 13 c)), L, T) Q
    rw [hx2]
theorem x_seek_7 (h : LayX T) : ∀ (n : Nat) (y : Int) (l2 : Option Value) (c : C3), -1 ≤ c.1 → c.1 ≤ 11 → 24 - y = n → 0 ≤ y →
    WP S (d + 2) 2 7 [some (.ref 0), some (.int (iI y)), l2] [] (cF F 0 c, L, T) Q = Q (.inl (none, (cF F 0 (sk3 (F 1) n c), L, T))) := by
  intro n
  induction n with
  | zero =>
    intro y l2 c h1 h2 h3 h4
    obtain rfl : y = 24 := by omega
    rw [w_X0_seekCentre_7]
    simp (disch := omega) only [w_X0_seekCentre_1, w_X0_seekCentre_2, w_X0_seekCentre_5, w_X0_seekCentre_6, w_X0_seekCentre_8, w_X0_seekCentre_10, w_X0_seekCentre_13, w_X0_seekCentre_14, w_X0_seekCentre_16, w_X0_seekCentre_18, w_X0_seekCentre_22, w_X0_seekCentre_25, w_X0_seekCentre_27, w_X0_seekCentre_30, w_X0_seekCentre_31, w_X0_seekCentre_32, w_X0_seekCentre_33, w_X0_seekCentre_34, w_X0_seekCentre_37, w_X0_seekCentre_38, w_X0_seekCentre_39, w_X0_seekCentre_42, w_X0_seekCentre_45, w_X0_seekCentre_46, w_X0_seekCentre_47, w_X0_seekCentre_50, w_X0_seekCentre_51, w_X0_seekCentre_52, w_X0_seekCentre_55, w_X0_seekCentre_56, w_X0_seekCentre_57, w_X0_seekCentre_60, w_X0_seekCentre_61, w_X0_seekCentre_62, w_X0_seekCentre_65, w_X0_seekCentre_68, w_X0_seekCentre_71, w_X0_seekCentre_74, w_X0_seekCentre_77, w_X0_seekCentre_80, gI_mk, gL_mk, gR_mk, gK_mk, sI_mk, sL_mk, va_rf, bO_l, bO_r, true_and, and_true, Option.toList, List.cons_append, List.nil_append, iI_lit, Int.cast_ofNat_Int, iI_le, iI_add, Int.le_refl, if_true]
    rfl
  | succ n ih =>
    intro y l2 c h1 h2 h3 h4
    have hx : ¬ 24 ≤ y := by omega
    have hx2 : (24 : Int) - (n + 1 : Nat) = y := by omega
    have hr := sk2_r (F 1) y 24 c h1 h2
    rw [w_X0_seekCentre_7]
    simp (disch := omega) only [w_X0_seekCentre_1, w_X0_seekCentre_2, w_X0_seekCentre_5, w_X0_seekCentre_6, w_X0_seekCentre_8, w_X0_seekCentre_10, w_X0_seekCentre_13, w_X0_seekCentre_14, w_X0_seekCentre_16, w_X0_seekCentre_18, w_X0_seekCentre_22, w_X0_seekCentre_25, w_X0_seekCentre_27, w_X0_seekCentre_30, w_X0_seekCentre_31, w_X0_seekCentre_32, w_X0_seekCentre_33, w_X0_seekCentre_34, w_X0_seekCentre_37, w_X0_seekCentre_38, w_X0_seekCentre_39, w_X0_seekCentre_42, w_X0_seekCentre_45, w_X0_seekCentre_46, w_X0_seekCentre_47, w_X0_seekCentre_50, w_X0_seekCentre_51, w_X0_seekCentre_52, w_X0_seekCentre_55, w_X0_seekCentre_56, w_X0_seekCentre_57, w_X0_seekCentre_60, w_X0_seekCentre_61, w_X0_seekCentre_62, w_X0_seekCentre_65, w_X0_seekCentre_68, w_X0_seekCentre_71, w_X0_seekCentre_74, w_X0_seekCentre_77, w_X0_seekCentre_80, gI_mk, gL_mk, gR_mk, gK_mk, sI_mk, sL_mk, va_rf, bO_l, bO_r, true_and, and_true, Option.toList, List.cons_append, List.nil_append, iI_lit, Int.cast_ofNat_Int, iI_le, hx, if_false]
    rw [x_seek_15 h h4 (by omega) 24 0 c h1 h2 (by omega) (by omega), ih (y + 1) _ _ hr.1 hr.2 (by omega) (by omega)]
    show _ = Q (.inl (none, (cF F 0 (sk3 (F 1) n (sk2 (F 1) (24 - (n + 1 : Nat)) 24 c)), L, T)))
    rw [hx2]
/-- the centre found: out of the net, and what lay in the fields -/
noncomputable def skc (F : PInt) (N : Nat → Int32) (o : Nat) : C3 := sk3 N 24 (-1, (F o 1).toInt, (F o 2).toInt)
theorem x_seek (h : LayX T) : WC S (d + 2) 2 [.ref 0] (F, L, T) Q = Q (.inl (none, (cF F 0 (skc F (F 1) 0), L, T))) := by
  have e := cF_id F 0
  have k := x_seek_7 (S := S) (d := d) (F := F) (L := L) (Q := Q) h 24 0 none (-1, (F 0 1).toInt, (F 0 2).toInt) (by show (-1 : Int) ≤ -1; decide) (by show (-1 : Int) ≤ 11; decide) (by decide) (by decide)
  simp only [w_X0_seekCentre_in, w_X0_seekCentre_0, w_X0_seekCentre_1, w_X0_seekCentre_2, w_X0_seekCentre_5, w_X0_seekCentre_6, gI_mk, gL_mk, gR_mk, gK_mk, sI_mk, sL_mk, va_rf, bO_l, bO_r, true_and, and_true, Option.toList, List.cons_append, List.nil_append, lk0 h]
  have e2 : up F 0 3 (-1) = cF F 0 (-1, (F 0 1).toInt, (F 0 2).toInt) := by
    have := up_c3 F 0 ((F 0 3).toInt, (F 0 1).toInt, (F 0 2).toInt) (-1)
    rw [e] at this
    exact this
  rw [e2]
  exact k
end SEEK
