-- dep: 40
/-! THE LEAF CLIPPED: from each mark on the best worth, the fewest sheets, the sheet that begins there -/
section CLIP
/-- best worth, fewest, the way that is taken (4 * grade + patched) -/
abbrev Cx : Type := Int32 × Int32 × Option Nat
variable (wd : Nat → Nat) (wo : Nat → Int32) (G K : Nat) (co : Int32) (sh : Nat → Nat → Nat → Prop)
def cV (o : Nat → Cx) (k c : Nat) : Int32 := wo (c / 4) - nI (c % 4) * co + (o (k + wd (c / 4))).1
def cN (o : Nat → Cx) (k c : Nat) : Int32 := 1 + (o (k + wd (c / 4))).2.1
def btr (v n : Int32) (st : Cx) : Prop := st.1 < v ∨ (v = st.1 ∧ (n < st.2.1 ∨ (n = st.2.1 ∧ st.2.2 = none)))
/-- ways up to c tried -/
noncomputable def fC (o : Nat → Cx) (k : Nat) : Nat → Cx
  | 0 => ((o (k + 1)).1, (o (k + 1)).2.1, none)
  | c + 1 => pI (sh k (c / 4) (c % 4) ∧ btr (cV wd wo co o k c) (cN wd o k c) (fC o k c)) (cV wd wo co o k c, cN wd o k c, some c) (fC o k c)
theorem fC_congr {o o' : Nat → Cx} {k : Nat} (hw : ∀ g, 0 < wd g) (h : ∀ i, k < i → o i = o' i) : ∀ c, fC wd wo co sh o k c = fC wd wo co sh o' k c := by
  intro c
  induction c with
  | zero =>
    unfold fC
    rw [h (k + 1) (by omega)]
  | succ c ih =>
    have := hw (c / 4)
    unfold fC cV cN
    rw [ih, h (k + wd (c / 4)) (by omega)]
noncomputable def dpS (k : Nat) : Cx := pI (K ≤ k) (0, 0, none) (fC wd wo co sh (fun i => if _ : k < i then (if _ : i ≤ K then dpS i else (0, 0, none)) else (0, 0, none)) k (4 * G))
termination_by K + 1 - k
theorem dpS_end {k : Nat} (h : K ≤ k) : dpS wd wo G K co sh k = (0, 0, none) := by
  rw [dpS, pI_t h]
theorem dpS_eq (hw : ∀ g, 0 < wd g) {k : Nat} (h : k < K) : dpS wd wo G K co sh k = fC wd wo co sh (dpS wd wo G K co sh) k (4 * G) := by
  rw [dpS, pI_f (by omega)]
  apply fC_congr wd wo co sh hw
  intro i hi
  simp only [hi, dite_true]
  by_cases h2 : i ≤ K
  · simp [h2]
  · simp [h2, dpS_end wd wo G K co sh (k := i) (by omega)]
/-- what holds of the ways tried -/
theorem fC_inv (o : Nat → Cx) (k : Nat) : ∀ c,
    ((fC wd wo co sh o k c).2.2 = none → (fC wd wo co sh o k c).1 = (o (k + 1)).1 ∧ (fC wd wo co sh o k c).2.1 = (o (k + 1)).2.1) ∧
    (∀ j, (fC wd wo co sh o k c).2.2 = some j → j < c ∧ sh k (j / 4) (j % 4) ∧ (fC wd wo co sh o k c).1 = cV wd wo co o k j ∧ (fC wd wo co sh o k c).2.1 = cN wd o k j) ∧
    (∀ j, j < c → sh k (j / 4) (j % 4) → (cV wd wo co o k j < (fC wd wo co sh o k c).1 ∨ (cV wd wo co o k j = (fC wd wo co sh o k c).1 ∧ (fC wd wo co sh o k c).2.1 ≤ cN wd o k j)) ∧ (cV wd wo co o k j = (fC wd wo co sh o k c).1 → cN wd o k j = (fC wd wo co sh o k c).2.1 → ∃ i, (fC wd wo co sh o k c).2.2 = some i ∧ i ≤ j)) := by
  intro c
  induction c with
  | zero =>
    refine ⟨fun _ => ⟨rfl, rfl⟩, fun j h => (by cases h), fun j h => by omega⟩
  | succ c ih =>
    obtain ⟨i1, i2, i3⟩ := ih
    unfold fC
    generalize fC wd wo co sh o k c = st at *
    by_cases hb : sh k (c / 4) (c % 4) ∧ btr (cV wd wo co o k c) (cN wd o k c) st
    · rw [pI_t hb]
      refine ⟨fun h => (by cases h), fun j h => (by cases h; exact ⟨by omega, hb.1, rfl, rfl⟩), fun j hj hs => ?_⟩
      by_cases e : j = c
      · subst e
        exact ⟨Or.inr ⟨rfl, Int32.le_refl _⟩, fun _ _ => ⟨j, rfl, Nat.le_refl _⟩⟩
      · obtain ⟨q1, q2⟩ := i3 j (by omega) hs
        have hb2 := hb.2
        unfold btr at hb2
        simp only [Int32.lt_iff_toInt_lt, Int32.le_iff_toInt_le, ← Int32.toInt_inj] at *
        constructor
        · rcases hb2 with h | ⟨h, h' | ⟨h', h''⟩⟩ <;> rcases q1 with q | ⟨q, q'⟩ <;> omega
        · intro e1 e2
          rcases hb2 with h | ⟨h, h' | ⟨h', h''⟩⟩
          · omega
          · omega
          · obtain ⟨i, hi, _⟩ := q2 (by omega) (by omega)
            rw [h''] at hi
            cases hi
    · rw [pI_f hb]
      refine ⟨i1, fun j h => ?_, fun j hj hs => ?_⟩
      · have := i2 j h
        exact ⟨by omega, this.2⟩
      · by_cases e : j = c
        · subst e
          have hb2 : ¬ btr (cV wd wo co o k j) (cN wd o k j) st := fun q => hb ⟨hs, q⟩
          unfold btr at hb2
          have hs : st.2.2 = none ∨ ∃ i, st.2.2 = some i := by
            cases st.2.2 with
            | none => exact Or.inl rfl
            | some i => exact Or.inr ⟨i, rfl⟩
          simp only [Int32.lt_iff_toInt_lt, Int32.le_iff_toInt_le, ← Int32.toInt_inj] at *
          rcases hs with hs | ⟨i, hs⟩
          · simp only [hs, and_true] at hb2
            exact ⟨by omega, fun _ _ => by omega⟩
          · simp only [hs, reduceCtorEq, and_false, or_false] at hb2
            exact ⟨by omega, fun _ _ => ⟨i, hs, by have := (i2 i hs).1; omega⟩⟩
        · exact i3 j (by omega) hs
/-- the sheets from a mark on -/
noncomputable def paS : Nat → Nat → List (Nat × Nat)
  | 0, _ => []
  | f + 1, i => if K ≤ i then [] else match (dpS wd wo G K co sh i).2.2 with
    | none => paS f (i + 1)
    | some c => (i, c) :: paS f (i + wd (c / 4))
theorem paS_few (hw : ∀ g, 0 < wd g) : ∀ (f i : Nat), K < i + f → (dpS wd wo G K co sh i).2.1 = nI (paS wd wo G K co sh f i).length := by
  intro f
  induction f with
  | zero =>
    intro i h
    rw [dpS_end wd wo G K co sh (by omega)]
    rfl
  | succ f ih =>
    intro i h
    unfold paS
    by_cases c : K ≤ i
    · rw [if_pos c, dpS_end wd wo G K co sh c]
      rfl
    · rw [if_neg c]
      have e := dpS_eq wd wo G K co sh hw (k := i) (by omega)
      obtain ⟨i1, i2, _⟩ := fC_inv wd wo co sh (dpS wd wo G K co sh) i (4 * G)
      rw [← e] at i1 i2
      cases ht : (dpS wd wo G K co sh i).2.2 with
      | none =>
        rw [(i1 ht).2]
        exact ih (i + 1) (by omega)
      | some j =>
        have hj := i2 j ht
        rw [hj.2.2.2]
        have := hw (j / 4)
        unfold cN
        rw [ih (i + wd (j / 4)) (by omega)]
        show (1 : Int32) + nI _ = nI (_ + 1)
        rw [nI_iI, nI_iI, iI_1, iI_add]
        congr 1
        omega
end CLIP
