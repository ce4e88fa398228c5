/-! SETS AS NUMBERS -/
section SETS
def SbS (l s : Nat) : Prop := l &&& s = l
theorem land_two (a b x y : Nat) (hx : x < 2) (hy : y < 2) : (2 * a + x) &&& (2 * b + y) = 2 * (a &&& b) + x * y := by
  apply Nat.eq_of_testBit_eq
  intro i
  have hx : x = 0 ∨ x = 1 := by omega
  have hy : y = 0 ∨ y = 1 := by omega
  rw [Nat.testBit_and]
  cases i with
  | zero =>
    rcases hx with rfl | rfl <;> rcases hy with rfl | rfl <;> simp [Nat.testBit_zero]
  | succ i =>
    rw [Nat.testBit_succ, Nat.testBit_succ, Nat.testBit_succ]
    have e1 : (2 * a + x) / 2 = a := by omega
    have e2 : (2 * b + y) / 2 = b := by omega
    have e3 : (2 * (a &&& b) + x * y) / 2 = a &&& b := by rcases hx with rfl | rfl <;> rcases hy with rfl | rfl <;> omega
    rw [e1, e2, e3, Nat.testBit_and]
theorem SbS_two {l s x y : Nat} (hx : x < 2) (hy : y < 2) (h : SbS (2 * l + x) (2 * s + y)) : SbS l s ∧ x ≤ y := by
  unfold SbS at h ⊢
  rw [land_two _ _ _ _ hx hy] at h
  have hx : x = 0 ∨ x = 1 := by omega
  have hy : y = 0 ∨ y = 1 := by omega
  rcases hx with rfl | rfl <;> rcases hy with rfl | rfl <;> omega
theorem SbS_le {l s : Nat} (h : SbS l s) : l ≤ s := by
  unfold SbS at h
  rw [← h]
  exact Nat.and_le_right
theorem SbS_land (a s : Nat) : SbS (a &&& s) s := by
  unfold SbS
  rw [Nat.and_assoc, Nat.and_self]
theorem SbS_self (s : Nat) : SbS s s := Nat.and_self s
theorem half (s : Nat) : ∃ a x, s = 2 * a + x ∧ x < 2 := ⟨s / 2, s % 2, by omega, by omega⟩
/-- the next lower part of a set -/
theorem desc_ok : ∀ (s l t : Nat), SbS l s → 0 < l → SbS t s → t < l → t ≤ (l - 1) &&& s := by
  intro s
  induction s using Nat.strongRecOn with
  | ind s ih =>
    intro l t hl h0 ht htl
    by_cases hs : s = 0
    · have := SbS_le hl; omega
    obtain ⟨s', y, rfl, hy⟩ := half s
    obtain ⟨l', x, rfl, hx⟩ := half l
    obtain ⟨t', z, rfl, hz⟩ := half t
    have hl2 := SbS_two hx hy hl
    have ht2 := SbS_two hz hy ht
    by_cases hx1 : x = 1
    · subst hx1
      have e : 2 * l' + 1 - 1 = 2 * l' + 0 := by omega
      rw [e, land_two _ _ _ _ (by omega) hy, hl2.1]
      omega
    · obtain rfl : x = 0 := by omega
      have e : 2 * l' + 0 - 1 = 2 * (l' - 1) + 1 := by omega
      rw [e, land_two _ _ _ _ (by omega) hy]
      have := ih s' (by omega) l' t' hl2.1 (by omega) ht2.1 (by omega)
      omega
theorem compl_ok : ∀ (k s l : Nat), s < 2 ^ k → SbS l s → (l + (2 ^ k - 1 - s)) &&& s = l := by
  intro k
  induction k with
  | zero =>
    intro s l hs hl
    have := SbS_le hl
    obtain rfl : s = 0 := by omega
    obtain rfl : l = 0 := by omega
    rfl
  | succ k ih =>
    intro s l hs hl
    obtain ⟨s', y, rfl, hy⟩ := half s
    obtain ⟨l', x, rfl, hx⟩ := half l
    have hl2 := SbS_two hx hy hl
    rw [Nat.pow_succ] at hs ⊢
    have hs' : s' < 2 ^ k := by omega
    have hle := SbS_le hl2.1
    have e : 2 * l' + x + (2 ^ k * 2 - 1 - (2 * s' + y)) = 2 * (l' + (2 ^ k - 1 - s')) + (x + (1 - y)) := by omega
    rw [e, land_two _ _ _ _ (by omega) hy, ih s' l' hs' hl2.1]
    have hx : x = 0 ∨ x = 1 := by omega
    have hy : y = 0 ∨ y = 1 := by omega
    rcases hx with rfl | rfl <;> rcases hy with rfl | rfl <;> omega
/-- the next higher part of a set -/
theorem asc_ok : ∀ (k s l : Nat), s < 2 ^ k → SbS l s → l ≠ s → l < (l + (2 ^ k - s)) &&& s ∧ ∀ t, SbS t s → l < t → (l + (2 ^ k - s)) &&& s ≤ t := by
  intro k
  induction k with
  | zero =>
    intro s l hs hl hne
    have := SbS_le hl
    omega
  | succ k ih =>
    intro s l hs hl hne
    obtain ⟨s', y, rfl, hy⟩ := half s
    obtain ⟨l', x, rfl, hx⟩ := half l
    have hl2 := SbS_two hx hy hl
    rw [Nat.pow_succ] at hs ⊢
    have hs' : s' < 2 ^ k := by omega
    have hle := SbS_le hl2.1
    by_cases c : x = y
    · subst c
      have hne' : l' ≠ s' := by omega
      obtain ⟨i1, i2⟩ := ih s' l' hs' hl2.1 hne'
      have e : 2 * l' + x + (2 ^ k * 2 - (2 * s' + x)) = 2 * (l' + (2 ^ k - s')) + 0 := by omega
      rw [e, land_two _ _ _ _ (by omega) hx]
      refine ⟨by omega, fun t ht htl => ?_⟩
      obtain ⟨t', z, rfl, hz⟩ := half t
      have ht2 := SbS_two hz hy ht
      have := i2 t' ht2.1 (by omega)
      omega
    · obtain rfl : x = 0 := by omega
      obtain rfl : y = 1 := by omega
      have e : 2 * l' + 0 + (2 ^ k * 2 - (2 * s' + 1)) = 2 * (l' + (2 ^ k - 1 - s')) + 1 := by omega
      rw [e, land_two _ _ _ _ (by omega) (by omega), compl_ok k s' l' hs' hl2.1]
      exact ⟨by omega, fun t ht htl => by omega⟩
end SETS
