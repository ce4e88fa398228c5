/-! SOUNDNESS: runs -/
section SNDG
set_option maxRecDepth 100000
theorem cvv_cat {G : GG} (hg : ∀ x, gX G x = .null ∨ ∃ a, gX G x = .ref a) (v : Value) : (cvv G v).category = v.category := by
  cases v with
  | float x => rcases hg x with h | ⟨a, h⟩ <;> (show (gX G x).category = _; rw [h]; rfl)
  | _ => rfl
theorem slo_len {G : GG} (hg : ∀ x, gX G x = .null ∨ ∃ a, gX G x = .ref a) : ∀ as : List Value, (lg_sl (as.map (cvv G))).length = (slo as).length
  | [] => rfl
  | v :: as => by
    have h1 := slo_len hg as
    have h2 := cvv_cat hg v
    by_cases hc : v.category = 2
    · simp only [List.map_cons, lg_sl, List.flatMap_cons, h2, slo, if_pos hc, List.length_append, List.length_cons, List.length_nil]
      simp only [lg_sl] at h1
      omega
    · simp only [List.map_cons, lg_sl, List.flatMap_cons, h2, slo, if_neg hc, List.length_append, List.length_cons, List.length_nil]
      simp only [lg_sl] at h1
      omega
theorem slo_at {G : GG} (hg : ∀ x, gX G x = .null ∨ ∃ a, gX G x = .ref a) : ∀ (as : List Value) (i : Nat) (v : Value), (slo as)[i]? = some (some v) → (lg_sl (as.map (cvv G)))[i]? = some (Slot.val (cvv G v))
  | [], i, v, h => by simp [slo] at h
  | w :: as, i, v, h => by
    have h2 := cvv_cat hg w
    by_cases hc : w.category = 2
    · simp only [slo, if_pos hc] at h
      have e1 : lg_sl ((w :: as).map (cvv G)) = Slot.val (cvv G w) :: Slot.second :: lg_sl (as.map (cvv G)) := by
        simp only [List.map_cons, lg_sl, List.flatMap_cons, h2, if_pos hc, List.cons_append, List.nil_append]
      rw [e1]
      match i, h with
      | 0, h => simp at h; subst h; rfl
      | 1, h => simp at h
      | i + 2, h => simp only [List.getElem?_cons_succ] at h ⊢; exact slo_at hg as i v h
    · simp only [slo, if_neg hc] at h
      have e1 : lg_sl ((w :: as).map (cvv G)) = Slot.val (cvv G w) :: lg_sl (as.map (cvv G)) := by
        simp only [List.map_cons, lg_sl, List.flatMap_cons, h2, if_neg hc, List.cons_append, List.nil_append]
      rw [e1]
      match i, h with
      | 0, h => simp at h; subst h; rfl
      | i + 1, h => simp only [List.getElem?_cons_succ] at h ⊢; exact slo_at hg as i v h
theorem slo_ge : ∀ as : List Value, as.length ≤ (slo as).length
  | [] => Nat.le_refl _
  | v :: as => by
    have := slo_ge as
    by_cases hc : v.category = 2
    · simp only [slo, if_pos hc, List.length_cons]; omega
    · simp only [slo, if_neg hc, List.length_cons]; omega
theorem slo_one : ∀ (as : List Value), (slo as).length = as.length → ∀ (i : Nat) (v : Value), (slo as)[i]? = some (some v) → v.category = 1
  | [], _, i, v, h => by simp [slo] at h
  | w :: as, hl, i, v, h => by
    have hge := slo_ge as
    by_cases hc : w.category = 2
    · simp only [slo, if_pos hc, List.length_cons] at hl; omega
    · simp only [slo, if_neg hc, List.length_cons] at hl h
      match i, h with
      | 0, h =>
        simp at h
        subst h
        rcases lv_cat w with q | q
        · exact q
        · exact absurd q hc
      | i + 1, h =>
        simp only [List.getElem?_cons_succ] at h
        exact slo_one as (by omega) i v h
theorem Lr_entry {G : GG} {I : MI} (hg : ∀ x, gX G x = .null ∨ ∃ a, gX G x = .ref a) {as : List Value} (h : okA (I.2.2.1, I.2.2.2.2.2) as = true) : Lr G I (entL I.2.2.1 as) ((lg_sl (as.map (cvv G)) ++ List.replicate (I.2.2.1 - (lg_sl (as.map (cvv G))).length) Slot.unset).toArray) := by
  simp only [okA, Bool.and_eq_true, decide_eq_true_eq, Bool.or_eq_true] at h
  obtain ⟨h1, h2⟩ := h
  have hlen := slo_len hg as
  have hv := lv_entry (as.map (cvv G)) (n := I.2.2.1) (by rw [hlen]; exact h1)
  refine ⟨hv.1, by simp [entL]; omega, hv.2.1, fun i v hi => ?_⟩
  have hlt : i < (slo as).length := by
    apply Nat.lt_of_not_le
    intro q
    unfold entL at hi
    rw [List.getElem?_append_right q] at hi
    have := List.mem_of_getElem? hi
    simp at this
  unfold entL at hi
  rw [List.getElem?_append_left hlt] at hi
  refine ⟨?_, fun hb => ?_⟩
  · rw [List.getElem?_toArray, List.getElem?_append_left (by rw [hlen]; exact hlt)]
    exact slo_at hg as i v hi
  · rw [cvv_cat hg]
    rcases h2 with h2 | h2
    · rw [hb] at h2; cases h2
    · exact slo_one as h2 i v hi
variable {E : GG → Nat × (Nat → Int32) → State → Prop} {S : Nat × (Nat → Int32)}
theorem go_grow (hSE : ∀ M pc x, cT S M pc = some x → SndE E S (miT M) pc x) : ∀ (n d M pc : Nat) (ls : PLoc) (st : List Value) (m : PMem) (o : POut), go (cT S) mlT hdT n d M pc ls st m = some o → gN m ≤ gN (mOut o) ∧ gZ m ≤ gZ (mOut o) := by
  intro n
  induction n with
  | zero => intro d M pc ls st m o h; simp [go] at h
  | succ n ih =>
    intro d M pc ls st m o h
    have hthr : ∀ (d0 a : Nat) (m0 : PMem), thr hdT (fun h st' m'' => go (cT S) mlT hdT n d0 M h ls st' m'') M pc a m0 = some o → gN m0 ≤ gN (mOut o) ∧ gZ m0 ≤ gZ (mOut o) := by
      intro d0 a m0 h1
      unfold thr at h1
      split at h1
      · cases h1
        exact ⟨Nat.le_refl _, Nat.le_refl _⟩
      · split at h1
        · exact ih _ _ _ _ _ _ _ h1
        · cases h1
    unfold go at h
    split at h
    · cases h
    · rename_i f hc
      split at h
      · cases h
      · rename_i pc' ls' st' m' hf
        have h1 := (hSE M pc _ hc).1 ls st m pc' ls' st' m' hf
        have h2 := ih _ _ _ _ _ _ _ h
        exact ⟨Nat.le_trans h1.1 h2.1, Nat.le_trans h1.2 h2.2⟩
    · split at h
      · split at h
        · cases h
        · split at h
          · cases h
          · rename_i v m' hr
            have h1 := ih _ _ _ _ _ _ _ hr
            have h2 := ih _ _ _ _ _ _ _ h
            exact ⟨Nat.le_trans h1.1 h2.1, Nat.le_trans h1.2 h2.2⟩
          · rename_i a m' hr
            have h1 := ih _ _ _ _ _ _ _ hr
            have h2 := hthr _ _ _ h
            exact ⟨Nat.le_trans h1.1 h2.1, Nat.le_trans h1.2 h2.2⟩
      · cases h
    · split at h <;> cases h
      exact ⟨Nat.le_refl _, Nat.le_refl _⟩
    · split at h <;> cases h
      exact ⟨Nat.le_refl _, Nat.le_refl _⟩
    · split at h
      · split at h <;> cases h
        exact ⟨Nat.le_refl _, Nat.le_refl _⟩
      · cases h
    · split at h
      · split at h <;> cases h
        exact ⟨Nat.le_refl _, Nat.le_refl _⟩
      · cases h
    · split at h <;> cases h
      exact ⟨Nat.le_refl _, Nat.le_refl _⟩
    · split at h
      · exact hthr _ _ _ h
      · cases h
end SNDG
