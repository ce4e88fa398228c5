-- dep: 40 50
/-! THE PRESS: loads, sets of boards, plans -/
section PRESS
/-- thick and minute by board; boards, openings, base, per, life -/
abbrev Pr : Type := (Nat → Int) × (Nat → Int) × Nat × Int × Int × Int × Int
def prT (r : Pr) (b : Nat) : Int := r.1 b
def prM (r : Pr) (b : Nat) : Int := r.2.1 b
def prN (r : Pr) : Nat := r.2.2.1
def prO (r : Pr) : Int := r.2.2.2.1
def prB (r : Pr) : Int := r.2.2.2.2.1
def prP (r : Pr) : Int := r.2.2.2.2.2.1
def prL (r : Pr) : Int := r.2.2.2.2.2.2
def PrOk (r : Pr) : Prop := prN r ≤ 10 ∧ (∀ b, b < prN r → 1 ≤ prT r b ∧ prT r b ≤ 500 ∧ 0 ≤ prM r b ∧ prM r b ≤ 10000) ∧ 1 ≤ prO r ∧ prO r ≤ 10 ∧ 0 ≤ prB r ∧ prB r ≤ 100 ∧ 0 ≤ prP r ∧ prP r ≤ 10 ∧ 1 ≤ prL r ∧ prL r ≤ 1000
variable (r : Pr)
/-- of the boards of a set below b: the last's thickness, the first minute, the last one, how many, whether alike -/
def scT (s : Nat) : Nat → Option Int
  | 0 => none
  | b + 1 => if s.testBit b then some (prT r b) else scT s b
def scF (s : Nat) : Nat → Option Int
  | 0 => none
  | b + 1 => if s.testBit b then some (min (prM r b) ((scF s b).getD (prM r b))) else scF s b
def scL (s : Nat) : Nat → Int
  | 0 => 0
  | b + 1 => if s.testBit b then max (scL s b) (prM r b) else scL s b
def scN (s : Nat) : Nat → Nat
  | 0 => 0
  | b + 1 => if s.testBit b then scN s b + 1 else scN s b
def scA (s : Nat) : Nat → Prop
  | 0 => True
  | b + 1 => scA s b ∧ (s.testBit b = true → (scT r s b).getD (prT r b) = prT r b)
noncomputable def putS (s : Nat) (f : Int) : Option Int := pI (scA r s (prN r) ∧ (scN s (prN r) : Int) ≤ prO r ∧ max f (scL r s (prN r)) ≤ (scF r s (prN r)).getD 1000000 + prL r) (some (max f (scL r s (prN r)))) none
/-- the lowest board of a set (below k) -/
def lowS (s : Nat) : Nat → Nat → Nat
  | 0, i => i
  | k + 1, i => if s.testBit i then i else lowS s k (i + 1)
def tksS (s : Nat) : Int := prB r + prP r * prT r (lowS s 10 0)
noncomputable def obS (o : Nat → Option Int) (s l : Nat) : Option Int := (o (s ^^^ l)).bind fun f => (putS r l f).map fun a => a + tksS r l
def key (o : Option Int) : Int := o.getD 1000000
/-- the best last load of a set among those up to l -/
noncomputable def lsF (o : Nat → Option Int) (s : Nat) : Nat → Nat
  | 0 => 0
  | l + 1 => pI (SbS (l + 1) s ∧ (lsF o s l = 0 ∨ key (obS r o s (l + 1)) < key (obS r o s (lsF o s l)))) (l + 1) (lsF o s l)
theorem xor_two (a b x y : Nat) (hx : x < 2) (hy : y < 2) : (2 * a + x) ^^^ (2 * b + y) = 2 * (a ^^^ b) + (x + y) % 2 := by
  apply Nat.eq_of_testBit_eq
  intro i
  have hx : x = 0 ∨ x = 1 := by omega
  have hy : y = 0 ∨ y = 1 := by omega
  rw [Nat.testBit_xor]
  cases i with
  | zero =>
    rcases hx with rfl | rfl <;> rcases hy with rfl | rfl <;> simp [Nat.testBit_zero]
  | succ i =>
    rw [Nat.testBit_succ, Nat.testBit_succ, Nat.testBit_succ]
    have e1 : (2 * a + x) / 2 = a := by omega
    have e2 : (2 * b + y) / 2 = b := by omega
    have e3 : (2 * (a ^^^ b) + (x + y) % 2) / 2 = a ^^^ b := by omega
    rw [e1, e2, e3, Nat.testBit_xor]
theorem xor_sub : ∀ (s l : Nat), SbS l s → s ^^^ l = s - l := by
  intro s
  induction s using Nat.strongRecOn with
  | ind s ih =>
    intro l h
    by_cases hs : s = 0
    · have := SbS_le h
      obtain rfl : l = 0 := by omega
      subst hs
      rfl
    obtain ⟨s', y, rfl, hy⟩ := half s
    obtain ⟨l', x, rfl, hx⟩ := half l
    have hl2 := SbS_two hx hy h
    rw [xor_two _ _ _ _ hy hx, ih s' (by omega) l' hl2.1]
    have := SbS_le hl2.1
    omega
theorem xor_lt {s l : Nat} (h : SbS l s) (h0 : 0 < l) : s ^^^ l < s := by
  have h1 := xor_sub s l h
  have := SbS_le h
  omega
theorem obS_congr {o o' : Nat → Option Int} {s l : Nat} (h : ∀ i, i < s → o i = o' i) (hl : SbS l s) (h0 : 0 < l) : obS r o s l = obS r o' s l := by
  unfold obS
  rw [h _ (xor_lt hl h0)]
theorem lsF_sub (o : Nat → Option Int) (s : Nat) : ∀ l, lsF r o s l = 0 ∨ (0 < lsF r o s l ∧ lsF r o s l ≤ l ∧ SbS (lsF r o s l) s) := by
  intro l
  induction l with
  | zero => exact Or.inl rfl
  | succ l ih =>
    unfold lsF
    by_cases h : SbS (l + 1) s ∧ (lsF r o s l = 0 ∨ key (obS r o s (l + 1)) < key (obS r o s (lsF r o s l)))
    · rw [pI_t h]
      exact Or.inr ⟨by omega, by omega, h.1⟩
    · rw [pI_f h]
      rcases ih with ih | ih
      · exact Or.inl ih
      · exact Or.inr ⟨ih.1, by omega, ih.2.2⟩
theorem lsF_congr {o o' : Nat → Option Int} {s : Nat} (h : ∀ i, i < s → o i = o' i) : ∀ l, lsF r o s l = lsF r o' s l := by
  intro l
  induction l with
  | zero => rfl
  | succ l ih =>
    unfold lsF
    by_cases h1 : SbS (l + 1) s
    · rw [obS_congr r h h1 (by omega), ← ih]
      rcases lsF_sub r o s l with h2 | h2
      · rw [h2, pI_t ⟨h1, Or.inl rfl⟩, pI_t ⟨h1, Or.inl rfl⟩]
      · rw [obS_congr r h h2.2.2 h2.1]
    · rw [pI_f (fun h => h1 h.1), pI_f (fun h => h1 h.1), ih]
theorem lsF_skip (o : Nat → Option Int) (s a : Nat) : ∀ b, a ≤ b → (∀ t, a < t → t ≤ b → ¬ SbS t s) → lsF r o s b = lsF r o s a := by
  intro b
  induction b with
  | zero => intro h _; obtain rfl : a = 0 := by omega
            rfl
  | succ b ih =>
    intro h1 h2
    by_cases e : a = b + 1
    · rw [e]
    · rw [← ih (by omega) (fun t q1 q2 => h2 t q1 (by omega))]
      show pI _ _ _ = _
      rw [pI_f (fun h => h2 (b + 1) (by omega) (by omega) h.1)]
/-- the best load is the first of the best -/
theorem lsF_best (o : Nat → Option Int) (s : Nat) : ∀ b t, 0 < t → t ≤ b → SbS t s → 0 < lsF r o s b ∧ key (obS r o s (lsF r o s b)) ≤ key (obS r o s t) ∧ (t < lsF r o s b → key (obS r o s (lsF r o s b)) < key (obS r o s t)) := by
  intro b
  induction b with
  | zero => intro t h1 h2; omega
  | succ b ih =>
    intro t h1 h2 h3
    unfold lsF
    by_cases h : SbS (b + 1) s ∧ (lsF r o s b = 0 ∨ key (obS r o s (b + 1)) < key (obS r o s (lsF r o s b)))
    · rw [pI_t h]
      refine ⟨by omega, ?_⟩
      by_cases e : t = b + 1
      · subst e
        exact ⟨Int.le_refl _, fun h => by omega⟩
      · have := ih t h1 (by omega) h3
        rcases h.2 with h4 | h4
        · omega
        · exact ⟨by omega, fun _ => by omega⟩
    · rw [pI_f h]
      by_cases e : t = b + 1
      · subst e
        have h4 : ¬ (lsF r o s b = 0 ∨ key (obS r o s (b + 1)) < key (obS r o s (lsF r o s b))) := fun q => h ⟨h3, q⟩
        have h5 := lsF_sub r o s b
        refine ⟨by omega, by omega, fun q => by omega⟩
      · exact ih t h1 (by omega) h3
/-- when a set is out at the soonest -/
noncomputable def oS (s : Nat) : Option Int := pI (s = 0) (some 0) (obS r (fun i => if _ : i < s then oS i else none) s (lsF r (fun i => if _ : i < s then oS i else none) s s))
termination_by s
theorem oS_0 : oS r 0 = some 0 := by
  rw [oS, pI_t rfl]
theorem oS_eq {s : Nat} (h : 0 < s) : oS r s = obS r (oS r) s (lsF r (oS r) s s) := by
  rw [oS, pI_f (by omega)]
  have hc : ∀ i, i < s → (fun i => if _ : i < s then oS r i else none) i = oS r i := fun i hi => by simp [hi]
  rw [lsF_congr r hc]
  have h1 := lsF_best r (oS r) s s s h (Nat.le_refl _) (SbS_self s)
  rcases lsF_sub r (oS r) s s with h2 | h2
  · omega
  · exact obS_congr r hc h2.2.2 h2.1
theorem scF_ex (hr : PrOk r) (s : Nat) : ∀ b, b ≤ prN r → (∀ z, scF r s b = some z → 0 ≤ z ∧ z ≤ 10000) ∧ ((∃ i, i < b ∧ s.testBit i = true) → ∃ z, scF r s b = some z) := by
  intro b
  induction b with
  | zero => intro _; exact ⟨fun z h => by simp [scF] at h, fun ⟨i, h, _⟩ => by omega⟩
  | succ b ih =>
    intro hb
    have ih := ih (by omega)
    have hm := (hr.2.1 b (by omega)).2.2
    unfold scF
    by_cases h : s.testBit b = true
    · rw [if_pos h]
      refine ⟨fun z hz => ?_, fun _ => ⟨_, rfl⟩⟩
      cases hz
      cases hf : scF r s b with
      | none => simp; omega
      | some y =>
        have := ih.1 y hf
        simp
        omega
    · rw [if_neg h]
      refine ⟨ih.1, fun ⟨i, h1, h2⟩ => ih.2 ⟨i, ?_, h2⟩⟩
      by_cases e : i = b
      · subst e; exact absurd h2 h
      · omega
theorem scL_nn (s : Nat) : ∀ b, 0 ≤ scL r s b := by
  intro b
  induction b with
  | zero => exact Int.le_refl 0
  | succ b ih =>
    unfold scL
    split
    · omega
    · exact ih
theorem scL_le (hr : PrOk r) (s : Nat) : ∀ b, b ≤ prN r → scL r s b ≤ 10000 := by
  intro b
  induction b with
  | zero => exact fun _ => by show (0 : Int) ≤ 10000; decide
  | succ b ih =>
    intro hb
    have ih := ih (by omega)
    have hm := (hr.2.1 b (by omega)).2.2
    unfold scL
    split
    · omega
    · exact ih
theorem bit_ex {s m : Nat} (h0 : 0 < s) (h : s < 2 ^ m) : ∃ b, b < m ∧ s.testBit b = true := by
  obtain ⟨i, hi⟩ := Nat.exists_testBit_of_ne_zero (x := s) (by omega)
  refine ⟨i, ?_, hi⟩
  apply Classical.byContradiction
  intro hn
  have : s.testBit i = false := Nat.testBit_lt_two_pow (Nat.lt_of_lt_of_le h (Nat.pow_le_pow_right (by omega) (by omega)))
  rw [this] at hi
  cases hi
theorem putS_rng (hr : PrOk r) {s : Nat} {f : Int} {a : Int} (h0 : ∃ b, b < prN r ∧ s.testBit b = true) (h : putS r s f = some a) : 0 ≤ a ∧ a ≤ 11000 ∧ a = max f (scL r s (prN r)) := by
  unfold putS at h
  obtain ⟨z, hz⟩ := (scF_ex r hr s (prN r) (Nat.le_refl _)).2 h0
  have hz2 := (scF_ex r hr s (prN r) (Nat.le_refl _)).1 z hz
  have hl := scL_nn r s (prN r)
  by_cases c : scA r s (prN r) ∧ (scN s (prN r) : Int) ≤ prO r ∧ max f (scL r s (prN r)) ≤ (scF r s (prN r)).getD 1000000 + prL r
  · rw [pI_t c] at h
    cases h
    have c3 := c.2.2
    rw [hz] at c3
    have : max f (scL r s (prN r)) ≤ z + prL r := c3
    have := hr.2.2.2.2.2.2.2.2
    omega
  · rw [pI_f c] at h
    cases h
theorem lowS_ok (s : Nat) : ∀ k i, (∃ b, i ≤ b ∧ b < i + k ∧ s.testBit b = true) → i ≤ lowS s k i ∧ s.testBit (lowS s k i) = true ∧ (∀ b, i ≤ b → s.testBit b = true → lowS s k i ≤ b) := by
  intro k
  induction k with
  | zero => intro i ⟨b, h1, h2, _⟩; omega
  | succ k ih =>
    intro i ⟨b, h1, h2, h3⟩
    unfold lowS
    by_cases h : s.testBit i = true
    · rw [if_pos h]
      exact ⟨Nat.le_refl i, h, fun b hb _ => hb⟩
    · rw [if_neg h]
      have hbi : b ≠ i := fun e => h (e ▸ h3)
      have := ih (i + 1) ⟨b, by omega, by omega, h3⟩
      refine ⟨by omega, this.2.1, fun b hb hb2 => ?_⟩
      have hbi : b ≠ i := fun e => h (e ▸ hb2)
      exact this.2.2 b (by omega) hb2
theorem lowS_lt (hr : PrOk r) {s : Nat} (h0 : 0 < s) (h : s < 2 ^ prN r) : lowS s 10 0 < prN r := by
  obtain ⟨b, h1, h2⟩ := bit_ex h0 h
  have := hr.1
  have := lowS_ok s 10 0 ⟨b, by omega, by omega, h2⟩
  have := this.2.2 b (by omega) h2
  omega
theorem tksS_rng (hr : PrOk r) {s : Nat} (h0 : 0 < s) (h : s < 2 ^ prN r) : 0 ≤ tksS r s ∧ tksS r s ≤ 5100 := by
  have h1 := hr.2.1 _ (lowS_lt r hr h0 h)
  have h2 := hr.2.2.2.2
  unfold tksS
  generalize prT r (lowS s 10 0) = x at h1
  have : 0 ≤ prP r * x := Int.mul_nonneg (by omega) (by omega)
  have : prP r * x ≤ 10 * 500 := Int.mul_le_mul (by omega) (by omega) (by omega) (by omega)
  omega
theorem obS_rng (hr : PrOk r) {o : Nat → Option Int} {s l : Nat} {a : Int} (h0 : 0 < l) (h : l < 2 ^ prN r) (ho : obS r o s l = some a) : 0 ≤ a ∧ a ≤ 16100 := by
  unfold obS at ho
  rw [Option.bind_eq_some_iff] at ho
  obtain ⟨f, h1, h2⟩ := ho
  rw [Option.map_eq_some_iff] at h2
  obtain ⟨b, h3, h4⟩ := h2
  have := putS_rng r hr (bit_ex h0 h) h3
  have := tksS_rng r hr h0 h
  omega
theorem key_obS (hr : PrOk r) {o : Nat → Option Int} {s l : Nat} (h0 : 0 < l) (h : l < 2 ^ prN r) : (obS r o s l = none ∧ key (obS r o s l) = 1000000) ∨ (∃ a, obS r o s l = some a ∧ key (obS r o s l) = a ∧ 0 ≤ a ∧ a ≤ 16100) := by
  cases ho : obS r o s l with
  | none => exact Or.inl ⟨rfl, rfl⟩
  | some a => exact Or.inr ⟨a, rfl, rfl, obS_rng r hr h0 h ho⟩
theorem oS_rng (hr : PrOk r) {s : Nat} (h : s < 2 ^ prN r) {a : Int} (ho : oS r s = some a) : 0 ≤ a ∧ a ≤ 16100 := by
  by_cases h0 : s = 0
  · subst h0
    rw [oS_0] at ho
    cases ho
    omega
  · rw [oS_eq r (by omega)] at ho
    have h1 := lsF_best r (oS r) s s s (by omega) (Nat.le_refl _) (SbS_self s)
    rcases lsF_sub r (oS r) s s with h2 | h2
    · omega
    · have := SbS_le h2.2.2
      exact obS_rng r hr h2.1 (by omega) ho
/-- how many boards -/
def pcS (s : Nat) : Nat := scN s 10
/-- the set that is pressed, of those below n -/
noncomputable def bsS : Nat → Nat
  | 0 => 0
  | s + 1 => pI ((oS r s).isSome = true ∧ (pcS (bsS s) < pcS s ∨ (pcS s = pcS (bsS s) ∧ key (oS r s) < key (oS r (bsS s))))) s (bsS s)
noncomputable def laS (s : Nat) : Nat := lsF r (oS r) s s
theorem laS_ok {s : Nat} (h : 0 < s) : 0 < laS r s ∧ SbS (laS r s) s ∧ laS r s ≤ s := by
  have h1 := lsF_best r (oS r) s s s h (Nat.le_refl _) (SbS_self s)
  rcases lsF_sub r (oS r) s s with h2 | h2
  · omega
  · exact ⟨h2.1, h2.2.2, h2.2.1⟩
theorem SbS_bit {l s : Nat} (h : SbS l s) (b : Nat) (hb : l.testBit b = true) : s.testBit b = true := by
  unfold SbS at h
  rw [← h, Nat.testBit_and] at hb
  simp at hb
  exact hb.2
theorem scN_xor {l s : Nat} (h : SbS l s) : ∀ b, scN (s ^^^ l) b + scN l b = scN s b := by
  intro b
  induction b with
  | zero => rfl
  | succ b ih =>
    have h1 := SbS_bit h b
    unfold scN
    rw [Nat.testBit_xor]
    cases hl : l.testBit b <;> cases hs : s.testBit b <;> simp [hl, hs] at h1 ⊢ <;> omega
theorem scN_pos {s : Nat} : ∀ m, (∃ b, b < m ∧ s.testBit b = true) → 0 < scN s m := by
  intro m
  induction m with
  | zero => intro ⟨b, h, _⟩; omega
  | succ m ih =>
    intro ⟨b, h1, h2⟩
    unfold scN
    split
    · omega
    · rename_i hn
      exact ih ⟨b, by
        by_cases e : b = m
        · subst e; exact absurd h2 hn
        · omega, h2⟩
theorem scN_le (s : Nat) : ∀ m, scN s m ≤ m := by
  intro m
  induction m with
  | zero => exact Nat.le_refl 0
  | succ m ih =>
    unfold scN
    split <;> omega
theorem pcS_xor {l s : Nat} (h : SbS l s) (h0 : 0 < l) (hs : s < 1024) : pcS (s ^^^ l) < pcS s := by
  have h1 := scN_xor h 10
  have h2 := SbS_le h
  have h3 := scN_pos (s := l) 10 (bit_ex h0 (by omega))
  unfold pcS
  omega
/-- the loads, the last first: load, when put in -/
noncomputable def ldS : Nat → Nat → List (Nat × Int)
  | 0, _ => []
  | f + 1, s => pI (s = 0) [] ((laS r s, key ((oS r (s ^^^ laS r s)).bind fun f => putS r (laS r s) f)) :: ldS f (s ^^^ laS r s))
theorem bsS_ok : ∀ n, 0 < n → bsS r n < n ∧ (oS r (bsS r n)).isSome = true := by
  intro n
  induction n with
  | zero => intro h; omega
  | succ n ih =>
    intro _
    unfold bsS
    by_cases c : (oS r n).isSome = true ∧ (pcS (bsS r n) < pcS n ∨ (pcS n = pcS (bsS r n) ∧ key (oS r n) < key (oS r (bsS r n))))
    · rw [pI_t c]
      exact ⟨by omega, c.1⟩
    · rw [pI_f c]
      by_cases h : n = 0
      · subst h
        show 0 < 1 ∧ (oS r 0).isSome = true
        rw [oS_0]
        exact ⟨by omega, rfl⟩
      · have := ih (by omega)
        exact ⟨by omega, this.2⟩
theorem oS_prev {s : Nat} (h : 0 < s) (ho : (oS r s).isSome = true) : (oS r (s ^^^ laS r s)).isSome = true ∧ ∃ f a, oS r (s ^^^ laS r s) = some f ∧ putS r (laS r s) f = some a := by
  rw [oS_eq r h] at ho
  obtain ⟨x, hx⟩ := Option.isSome_iff_exists.mp ho
  unfold obS at hx
  rw [Option.bind_eq_some_iff] at hx
  obtain ⟨f, h1, h2⟩ := hx
  rw [Option.map_eq_some_iff] at h2
  obtain ⟨b, h3, h4⟩ := h2
  refine ⟨?_, f, b, h1, h3⟩
  unfold laS
  rw [h1]
  rfl
end PRESS
