-- dep: 43
/-! WHAT A CODE IS WORTH -/
section EVAL
def opV (s : Int) (x y : Int32) : Int32 := if s = 21 then (if 0 < x + y then 1 else 0) else if s = 22 then (if 1 < x + y then 1 else 0) else if s = 23 then (if x = y then 1 else 0) else if s = 24 then (if x < y then 1 else 0) else if s = 25 then (if y < x then 1 else 0) else if s = 26 then x + y else x - y
/-- one step of a code on a pile -/
def ev1 (nm : Int → Int32) (s : Int × Int) (st : List Int32) : List Int32 := if s.1 = 0 then iI s.2 :: st else if s.1 < 20 then nm (s.1 - 10) :: st else if s.1 = 20 then (match st with
    | x :: r => (1 - x) :: r
    | [] => []) else (match st with
    | y :: x :: r => opV s.1 x y :: r
    | _ => [])
def evS (nm : Int → Int32) : Cd → List Int32 → List Int32
  | [], st => st
  | s :: c, st => evS nm c (ev1 nm s st)
theorem evS_app (nm : Int → Int32) : ∀ (c c' : Cd) (st : List Int32), evS nm (c ++ c') st = evS nm c' (evS nm c st) := by
  intro c
  induction c with
  | nil => exact fun _ _ => rfl
  | cons s c ih => exact fun c' st => ih c' _
/-- which signs join what: of the parts' sort, the whole's sort (0 a number, 1 a truth) -/
def opT (s : Int) (a b : Nat) : Prop := ((s = 26 ∨ s = 27) ∧ a = 0 ∧ b = 0) ∨ ((s = 23 ∨ s = 24 ∨ s = 25) ∧ a = 0 ∧ b = 1) ∨ ((s = 21 ∨ s = 22) ∧ a = 1 ∧ b = 1)
/-- codes that are whole, by height -/
def WF : Nat → Nat → Cd → Prop
  | 0, _, _ => False
  | h + 1, b, c => (b = 0 ∧ ((∃ v, c = [(0, v)]) ∨ ∃ k, 0 ≤ k ∧ k ≤ 4 ∧ c = [(10 + k, 0)])) ∨ (b = 1 ∧ ∃ c1, WF h 1 c1 ∧ c = c1 ++ [(20, 0)]) ∨ (∃ s a c1 c2, opT s a b ∧ WF h a c1 ∧ WF h a c2 ∧ c = c1 ++ c2 ++ [(s, 0)])
def lvS (c : Cd) : Nat := c.countP fun s => s.1 < 20
theorem lvS_app (c c' : Cd) : lvS (c ++ c') = lvS c + lvS c' := List.countP_append
/-- a code is worth V on every pile -/
def Wor (nm : Int → Int32) (b : Nat) (c : Cd) (V : Int32) : Prop := (∀ st, evS nm c st = V :: st) ∧ (b = 1 → V = 0 ∨ V = 1)
theorem Wor_num (nm : Int → Int32) (v : Int) : Wor nm 0 [(0, v)] (iI v) := ⟨fun st => rfl, fun h => by omega⟩
theorem Wor_cnt (nm : Int → Int32) {k : Int} (h0 : 0 ≤ k) (h4 : k ≤ 4) : Wor nm 0 [(10 + k, 0)] (nm k) := by
  refine ⟨fun st => ?_, fun h => by omega⟩
  show ev1 nm (10 + k, 0) st = _
  unfold ev1
  rw [if_neg (by show ¬ 10 + k = 0; omega), if_pos (by show 10 + k < 20; omega)]
  show nm (10 + k - 10) :: st = _
  rw [show 10 + k - 10 = k by omega]
theorem Wor_not {nm : Int → Int32} {c : Cd} {V : Int32} (h : Wor nm 1 c V) : Wor nm 1 (c ++ [(20, 0)]) (1 - V) := by
  refine ⟨fun st => ?_, fun _ => ?_⟩
  · rw [evS_app, h.1]
    rfl
  · rcases h.2 rfl with h | h <;> subst h
    · exact Or.inr rfl
    · exact Or.inl rfl
theorem Wor_op {nm : Int → Int32} {s : Int} {a b : Nat} {c1 c2 : Cd} {V1 V2 : Int32} (ho : opT s a b) (h1 : Wor nm a c1 V1) (h2 : Wor nm a c2 V2) : Wor nm b (c1 ++ c2 ++ [(s, 0)]) (opV s V1 V2) := by
  refine ⟨fun st => ?_, fun hb => ?_⟩
  · rw [evS_app, evS_app, h1.1, h2.1]
    show ev1 nm (s, 0) (V2 :: V1 :: st) = _
    unfold ev1
    have hs : 20 < s := by unfold opT at ho; omega
    rw [if_neg (by show ¬ s = 0; omega), if_neg (by show ¬ s < 20; omega), if_neg (by show ¬ s = 20; omega)]
  · unfold opV
    split
    · split
      · exact Or.inr rfl
      · exact Or.inl rfl
    · split
      · split
        · exact Or.inr rfl
        · exact Or.inl rfl
      · split
        · split
          · exact Or.inr rfl
          · exact Or.inl rfl
        · split
          · split
            · exact Or.inr rfl
            · exact Or.inl rfl
          · split
            · split
              · exact Or.inr rfl
              · exact Or.inl rfl
            · unfold opT at ho
              omega
theorem WF_wor (nm : Int → Int32) : ∀ (h b : Nat) (c : Cd), WF h b c → ∃ V, Wor nm b c V := by
  intro h
  induction h with
  | zero => exact fun b c h => h.elim
  | succ h ih =>
    intro b c hw
    rcases hw with ⟨rfl, ⟨v, rfl⟩ | ⟨k, h0, h4, rfl⟩⟩ | ⟨rfl, c1, h1, rfl⟩ | ⟨s, a, c1, c2, ho, h1, h2, rfl⟩
    · exact ⟨_, Wor_num nm v⟩
    · exact ⟨_, Wor_cnt nm h0 h4⟩
    · obtain ⟨V, hV⟩ := ih _ _ h1
      exact ⟨_, Wor_not hV⟩
    · obtain ⟨V1, hV1⟩ := ih _ _ h1
      obtain ⟨V2, hV2⟩ := ih _ _ h2
      exact ⟨_, Wor_op ho hV1 hV2⟩
theorem WF_up : ∀ (h h' b : Nat) (c : Cd), h ≤ h' → WF h b c → WF h' b c := by
  intro h
  induction h with
  | zero => exact fun _ _ _ _ h => h.elim
  | succ h ih =>
    intro h' b c hh hw
    obtain ⟨k, rfl⟩ : ∃ k, h' = k + 1 := ⟨h' - 1, by omega⟩
    have ih := fun b c => ih k b c (by omega)
    rcases hw with hw | ⟨rfl, c1, h1, rfl⟩ | ⟨s, a, c1, c2, ho, h1, h2, rfl⟩
    · exact Or.inl hw
    · exact Or.inr (Or.inl ⟨rfl, c1, ih _ _ h1, rfl⟩)
    · exact Or.inr (Or.inr ⟨s, a, c1, c2, ho, ih _ _ h1, ih _ _ h2, rfl⟩)
end EVAL
/-! THE LINES OF GRADES -/
section LINES
abbrev Ln : Type := Int × Int × Cd
abbrev Rl : Type := List Ln ⊕ (Int × Nat)
variable (nx : Nat → Tk) (N : Nat)
noncomputable def ntL (a : Tk) (k : Tk → Rl) : Rl := pI (tkK (nx (tkE a)) = 4) (.inr (1, tkP (nx (tkE a)))) (k (nx (tkE a)))
/-- a number between bounds, and the token behind it -/
noncomputable def nuL (lo hi : Int) (a : Tk) (k : Int → Tk → Rl) : Rl := pI (tkK a = 2) (pI (lo ≤ tkV a ∧ tkV a ≤ hi) (ntL nx a (k (tkV a))) (.inr (3, tkP a))) (.inr (2, tkP a))
def bL (r : Rs) (k : Cd → Tk → Nat → Rl) : Rl := match r with
  | .inr e => .inr e
  | .inl (c, a, q) => k c a q
noncomputable def whS (a : Tk) (q : Nat) : Rs := pI (isWd a wWhen) (ntS nx a fun b => exprS nx N b q) (pI (isSg a 59) (.inl ([], a, q)) (.inr (2, tkP a)))
noncomputable def rdL : Nat → List Ln → Tk → Nat → Rl
  | 0, _, _, _ => .inr (9, 0)
  | f + 1, ls, a, q => pI (tkK a = 0) (.inl ls) (pI (isWd a wGrade ∧ ls.length ≠ 8) (ntL nx a fun b => nuL nx 1 100 b fun w b1 => pI (isWd b1 wWorth) (ntL nx b1 fun b2 => nuL nx 1 9999 b2 fun v b3 => bL (whS nx N b3 q) fun c b4 q' => ntL nx b4 fun b5 => rdL f (ls ++ [(w, v, c)]) b5 q') (.inr (2, tkP b1))) (.inr (2, tkP a)))
/-- all of a text -/
noncomputable def rdS : Rl := pI (tkK (nx 0) = 4) (.inr (1, tkP (nx 0))) (rdL nx N N [] (nx 0) 0)
variable {nx N} {M : Nat}
def NE9 (r : Rl) : Prop := match r with
  | .inr e => e.1 ≠ 9
  | .inl _ => True
theorem NE_nt {a : Tk} {k : Tk → Rl} (hk : tkK (nx (tkE a)) ≠ 4 → NE9 (k (nx (tkE a)))) : NE9 (ntL nx a k) := by
  unfold ntL
  by_cases h : tkK (nx (tkE a)) = 4
  · rw [pI_t h]
    exact show (1 : Int) ≠ 9 by decide
  · rw [pI_f h]
    exact hk h
theorem NE_nu {lo hi : Int} {a : Tk} {k : Int → Tk → Rl} (hk : tkK a = 2 → tkK (nx (tkE a)) ≠ 4 → NE9 (k (tkV a) (nx (tkE a)))) : NE9 (nuL nx lo hi a k) := by
  unfold nuL
  by_cases h : tkK a = 2
  · rw [pI_t h]
    by_cases h1 : lo ≤ tkV a ∧ tkV a ≤ hi
    · rw [pI_t h1]
      exact NE_nt (hk h)
    · rw [pI_f h1]
      exact show (3 : Int) ≠ 9 by decide
  · rw [pI_f h]
    exact show (2 : Int) ≠ 9 by decide
theorem Pg_wh (hP : Prg nx M) (hN : M < N) (a : Tk) (q : Nat) (ha : tkE a ≤ M) : Pg M True a (whS nx N a q) := by
  unfold whS
  by_cases h : isWd a wWhen
  · rw [pI_t h]
    exact Pg_nt hP ha fun h1 h2 _ => Pg_from h1 (Pg_imp (fun _ => trivial) (Pg_expr hP hN _ q h2))
  · rw [pI_f h]
    by_cases h1 : isSg a 59
    · rw [pI_t h1]
      exact ⟨Nat.le_refl _, ha, trivial⟩
    · rw [pI_f h1]
      exact show (2 : Int) ≠ 9 by decide
theorem NE_rdL (hP : Prg nx M) (hN : M < N) : ∀ (f : Nat) (ls : List Ln) (a : Tk) (q : Nat), tkE a ≤ M → M - tkE a < f → tkK a ≠ 4 → NE9 (rdL nx N f ls a q) := by
  intro f
  induction f with
  | zero => intro ls a q h1 h2; omega
  | succ f ih =>
    intro ls a q h1 h2 _
    unfold rdL
    by_cases h0 : tkK a = 0
    · rw [pI_t h0]
      trivial
    · rw [pI_f h0]
      by_cases h : isWd a wGrade ∧ ls.length ≠ 8
      · rw [pI_t h]
        apply NE_nt
        intro k4
        apply NE_nu
        intro k2 k4'
        have p1 := hP _ h1
        have p2 := hP _ p1.2.1
        generalize nx (tkE (nx (tkE a))) = b1 at *
        generalize nx (tkE a) = b at *
        have p1' := p1.2.2 (by omega) (by omega)
        by_cases hw : isWd b1 wWorth
        · rw [pI_t hw]
          apply NE_nt
          intro _
          apply NE_nu
          intro _ _
          have p3 := hP _ p2.2.1
          have p4 := hP _ p3.2.1
          generalize nx (tkE (nx (tkE b1))) = b3 at *
          generalize nx (tkE b1) = b2 at *
          have := Pg_wh hP hN b3 q p4.2.1
          match hw' : whS nx N b3 q, this with
          | .inr e, this => exact this
          | .inl (c, b4, q'), this =>
            show NE9 (ntL nx b4 fun b5 => rdL nx N f (ls ++ [(tkV b, tkV b2, c)]) b5 q')
            have p5 := hP _ this.2.1
            apply NE_nt
            intro k5
            have := this.1
            exact ih _ _ _ p5.2.1 (by omega) k5
        · rw [pI_f hw]
          exact show (2 : Int) ≠ 9 by decide
      · rw [pI_f h]
        exact show (2 : Int) ≠ 9 by decide
theorem NE_rdS (hP : Prg nx M) (hN : M < N) : NE9 (rdS nx N) := by
  unfold rdS
  by_cases h : tkK (nx 0) = 4
  · rw [pI_t h]
    exact show (1 : Int) ≠ 9 by decide
  · rw [pI_f h]
    have := hP 0 (by omega)
    exact NE_rdL hP hN N [] (nx 0) 0 this.2.1 (by omega) h
end LINES
