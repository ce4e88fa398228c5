-- dep: 42
/-! THE ABSTRACT LEXER -/
section LEXER
def isBl (c : Int) : Prop := c = 32 ∨ c = 10
def isLt (c : Int) : Prop := 97 ≤ c ∧ c ≤ 122
def isDg (c : Int) : Prop := 48 ≤ c ∧ c ≤ 57
def isSn (c : Int) : Prop := c = 59 ∨ c = 40 ∨ c = 41 ∨ c = 60 ∨ c = 62 ∨ c = 61 ∨ c = 43 ∨ c = 45
variable (t : Nat → Int) (n : Nat)
/-- where a span ends -/
noncomputable def spS (p : Int → Prop) : Nat → Nat → Nat
  | 0, i => i
  | f + 1, i => pI (i < n ∧ p (t i)) (spS p f (i + 1)) i
def nmS (a : Nat) : Nat → Int
  | 0 => 0
  | k + 1 => 10 * nmS a k + t (a + k) - 48
def wdS (a : Nat) : Nat → List Int
  | 0 => []
  | k + 1 => wdS a k ++ [t (a + k)]
noncomputable def tkA (p : Nat) : Nat := spS t n isBl n p
noncomputable def tkT (a : Nat) : Tk :=
  pI (n ≤ a) (0, 0, [], a, a)
  (pI (isLt (t a)) (pI (8 < spS t n isLt n a - a) (4, 0, [], a, a) (1, 0, wdS t a (spS t n isLt n a - a), a, spS t n isLt n a))
  (pI (isDg (t a)) (pI (4 < spS t n isDg n a - a ∨ (spS t n isDg n a < n ∧ isLt (t (spS t n isDg n a)))) (4, 0, [], a, a) (2, nmS t a (spS t n isDg n a - a), [], a, spS t n isDg n a))
  (pI (isSn (t a)) (3, t a, [], a, a + 1) (4, 0, [], a, a))))
noncomputable def nxS (p : Nat) : Tk := tkT t n (tkA t n p)
variable {t n}
theorem spS_ge {p : Int → Prop} : ∀ (f i : Nat), i ≤ spS t n p f i := by
  intro f
  induction f with
  | zero => exact fun i => Nat.le_refl i
  | succ f ih =>
    intro i
    unfold spS
    by_cases h : i < n ∧ p (t i)
    · rw [pI_t h]
      have := ih (i + 1)
      omega
    · rw [pI_f h]
      exact Nat.le_refl i
theorem spS_le {p : Int → Prop} : ∀ (f i : Nat), i ≤ n → spS t n p f i ≤ n := by
  intro f
  induction f with
  | zero => exact fun i h => h
  | succ f ih =>
    intro i hi
    unfold spS
    by_cases h : i < n ∧ p (t i)
    · rw [pI_t h]
      exact ih (i + 1) h.1
    · rw [pI_f h]
      exact hi
theorem spS_in {p : Int → Prop} : ∀ (f i j : Nat), i ≤ j → j < spS t n p f i → j < n ∧ p (t j) := by
  intro f
  induction f with
  | zero => intro i j h1 h2; exact absurd h2 (by unfold spS; omega)
  | succ f ih =>
    intro i j h1 h2
    unfold spS at h2
    by_cases h : i < n ∧ p (t i)
    · rw [pI_t h] at h2
      by_cases e : j = i
      · rw [e]; exact h
      · exact ih (i + 1) j (by omega) h2
    · rw [pI_f h] at h2
      omega
theorem spS_out {p : Int → Prop} : ∀ (f i : Nat), n - i ≤ f → ¬ (spS t n p f i < n ∧ p (t (spS t n p f i))) := by
  intro f
  induction f with
  | zero => intro i h1 h2; unfold spS at h2; omega
  | succ f ih =>
    intro i h1
    unfold spS
    by_cases h : i < n ∧ p (t i)
    · rw [pI_t h]
      exact ih (i + 1) (by omega)
    · rw [pI_f h]
      exact h
/-- one step of a span -/
theorem spS_step {p : Int → Prop} {i : Nat} (h : i < n ∧ p (t i)) : ∀ (f : Nat), n - i ≤ f → spS t n p f i = spS t n p f (i + 1) := by
  intro f
  induction f generalizing i with
  | zero => intro h1; omega
  | succ f ih =>
    intro h1
    have e : spS t n p (f + 1) i = spS t n p f (i + 1) := by
      show pI (i < n ∧ p (t i)) _ _ = _
      rw [pI_t h]
    rw [e]
    by_cases h2 : i + 1 < n ∧ p (t (i + 1))
    · rw [ih h2 (by omega)]
      show _ = pI (i + 1 < n ∧ p (t (i + 1))) _ _
      rw [pI_t h2]
    · have e2 : ∀ f, spS t n p f (i + 1) = i + 1 := by
        intro f
        cases f with
        | zero => rfl
        | succ f =>
          show pI (i + 1 < n ∧ p (t (i + 1))) _ _ = _
          rw [pI_f h2]
      rw [e2, e2]
theorem spS_stop {p : Int → Prop} {i : Nat} (h : ¬ (i < n ∧ p (t i))) (f : Nat) : spS t n p f i = i := by
  cases f with
  | zero => rfl
  | succ f =>
    show pI (i < n ∧ p (t i)) _ _ = _
    rw [pI_f h]
theorem spS_pos {p : Int → Prop} {a : Nat} (h : a < n) (h2 : p (t a)) : a < spS t n p n a := by
  rw [spS_step ⟨h, h2⟩ n (by omega)]
  have := spS_ge (t := t) (n := n) (p := p) n (a + 1)
  omega
theorem Prg_nxS : Prg (nxS t n) n := by
  intro p hp
  have h1 : p ≤ tkA t n p := spS_ge n p
  have h2 : tkA t n p ≤ n := spS_le n p hp
  unfold nxS
  generalize tkA t n p = a at h1 h2
  unfold tkT
  by_cases c0 : n ≤ a
  · rw [pI_t c0]
    exact ⟨h1, h2, fun h => absurd rfl h⟩
  · rw [pI_f c0]
    by_cases c1 : isLt (t a)
    · rw [pI_t c1]
      have := spS_pos (n := n) (by omega) c1
      have h3 : spS t n isLt n a ≤ n := spS_le n a h2
      by_cases c2 : 8 < spS t n isLt n a - a
      · rw [pI_t c2]
        exact ⟨h1, h2, fun _ h => absurd rfl h⟩
      · rw [pI_f c2]
        exact ⟨by show p ≤ spS t n isLt n a; omega, h3, fun _ _ => by show p < spS t n isLt n a; omega⟩
    · rw [pI_f c1]
      by_cases c2 : isDg (t a)
      · rw [pI_t c2]
        have := spS_pos (n := n) (by omega) c2
        have h3 : spS t n isDg n a ≤ n := spS_le n a h2
        by_cases c3 : 4 < spS t n isDg n a - a ∨ (spS t n isDg n a < n ∧ isLt (t (spS t n isDg n a)))
        · rw [pI_t c3]
          exact ⟨h1, h2, fun _ h => absurd rfl h⟩
        · rw [pI_f c3]
          exact ⟨by show p ≤ spS t n isDg n a; omega, h3, fun _ _ => by show p < spS t n isDg n a; omega⟩
      · rw [pI_f c2]
        by_cases c3 : isSn (t a)
        · rw [pI_t c3]
          exact ⟨by show p ≤ a + 1; omega, by show a + 1 ≤ n; omega, fun _ _ => by show p < a + 1; omega⟩
        · rw [pI_f c3]
          exact ⟨h1, h2, fun _ h => absurd rfl h⟩
/-- words as numbers -/
def pkS : List Int → Int := fun l => l.foldl (fun v b => v * 256 + b) 0
theorem pkS_snoc (l : List Int) (b : Int) : pkS (l ++ [b]) = pkS l * 256 + b := by simp [pkS]
def pkR : List Int → Int
  | [] => 0
  | b :: l => pkR l * 256 + b
theorem pkR_app : ∀ (l : List Int) (b : Int), pkR (l ++ [b]) = pkR l + b * 256 ^ l.length := by
  intro l
  induction l with
  | nil => intro b; simp [pkR]
  | cons x l ih =>
    intro b
    show pkR (l ++ [b]) * 256 + x = _
    rw [ih]
    simp only [pkR, List.length_cons, Int.pow_succ, Int.add_mul, Int.mul_assoc]
    omega
theorem pkS_R (l : List Int) : pkS l = pkR l.reverse := by
  unfold pkS
  rw [← List.foldr_reverse]
  generalize l.reverse = r
  induction r with
  | nil => rfl
  | cons x r ih =>
    show (r.foldr (fun b v => v * 256 + b) 0) * 256 + x = pkR r * 256 + x
    rw [ih]
theorem pkR_nn : ∀ (l : List Int), (∀ b, b ∈ l → 0 < b ∧ b < 256) → 0 ≤ pkR l ∧ pkR l < 256 ^ l.length := by
  intro l
  induction l with
  | nil => exact fun _ => by decide
  | cons b l ih =>
    intro h
    have h1 := ih (fun x hx => h x (by simp [hx]))
    have h2 := h b (by simp)
    show 0 ≤ pkR l * 256 + b ∧ pkR l * 256 + b < 256 ^ (l.length + 1)
    rw [Int.pow_succ]
    omega
theorem pkR_inj : ∀ (l r : List Int), (∀ b, b ∈ l → 0 < b ∧ b < 256) → (∀ b, b ∈ r → 0 < b ∧ b < 256) → pkR l = pkR r → l = r := by
  intro l
  induction l with
  | nil =>
    intro r _ h2 h
    cases r with
    | nil => rfl
    | cons b r =>
      have h3 := (pkR_nn r (fun x hx => h2 x (by simp [hx]))).1
      have h4 := h2 b (by simp)
      have h : 0 = pkR r * 256 + b := h
      omega
  | cons x l ih =>
    intro r h1 h2 h
    have h3 := (pkR_nn l (fun x hx => h1 x (by simp [hx]))).1
    have h4 := h1 x (by simp)
    cases r with
    | nil =>
      have h : pkR l * 256 + x = 0 := h
      omega
    | cons b r =>
      have h5 := (pkR_nn r (fun x hx => h2 x (by simp [hx]))).1
      have h6 := h2 b (by simp)
      have h : pkR l * 256 + x = pkR r * 256 + b := h
      have e1 : pkR l = pkR r := by omega
      have e2 : x = b := by omega
      rw [ih r (fun x hx => h1 x (by simp [hx])) (fun x hx => h2 x (by simp [hx])) e1, e2]
theorem pkS_inj {l r : List Int} (h1 : ∀ b, b ∈ l → 0 < b ∧ b < 256) (h2 : ∀ b, b ∈ r → 0 < b ∧ b < 256) (h : pkS l = pkS r) : l = r := by
  rw [pkS_R, pkS_R] at h
  have := pkR_inj l.reverse r.reverse (fun b hb => h1 b (by simpa using hb)) (fun b hb => h2 b (by simpa using hb)) h
  exact List.reverse_inj.mp this
theorem pkS_rng {l : List Int} (h1 : ∀ b, b ∈ l → 0 < b ∧ b < 256) : 0 ≤ pkS l ∧ pkS l < 256 ^ l.length := by
  rw [pkS_R]
  have := pkR_nn l.reverse (fun b hb => h1 b (by simpa using hb))
  rwa [List.length_reverse] at this
theorem wdS_len (a : Nat) : ∀ k, (wdS t a k).length = k := by
  intro k
  induction k with
  | zero => rfl
  | succ k ih => simp [wdS, ih]
theorem wdS_mem (a : Nat) : ∀ k b, b ∈ wdS t a k → ∃ i, i < k ∧ b = t (a + i) := by
  intro k
  induction k with
  | zero => intro b h; simp [wdS] at h
  | succ k ih =>
    intro b h
    unfold wdS at h
    rw [List.mem_append, List.mem_singleton] at h
    rcases h with h | h
    · obtain ⟨i, h1, h2⟩ := ih b h
      exact ⟨i, by omega, h2⟩
    · exact ⟨k, by omega, h⟩
theorem nmS_rng {a : Nat} : ∀ k, (∀ i, i < k → isDg (t (a + i))) → 0 ≤ nmS t a k ∧ nmS t a k < 10 ^ k := by
  intro k
  induction k with
  | zero => exact fun _ => ⟨Int.le_refl 0, by show (0 : Int) < 10 ^ 0; decide⟩
  | succ k ih =>
    intro h
    have h1 := ih (fun i hi => h i (by omega))
    have h2 := h k (by omega)
    unfold isDg at h2
    unfold nmS
    rw [Int.pow_succ]
    omega
end LEXER
