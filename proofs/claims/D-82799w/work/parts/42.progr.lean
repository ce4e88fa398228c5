-- dep: 41
section PROGR
variable {nx : Nat → Tk} {N M : Nat}
/-- tokens lie one behind the other, up to M -/
def Prg (nx : Nat → Tk) (M : Nat) : Prop := ∀ p, p ≤ M → p ≤ tkE (nx p) ∧ tkE (nx p) ≤ M ∧ (tkK (nx p) ≠ 0 → tkK (nx p) ≠ 4 → p < tkE (nx p))
def Pg (M : Nat) (K : Prop) (a : Tk) (r : Rs) : Prop := match r with
  | .inr e => e.1 ≠ 9
  | .inl (_, b, _) => tkE a ≤ tkE b ∧ tkE b ≤ M ∧ K
theorem Pg_bind {K K' : Prop} {a a' : Tk} {r : Rs} {k : Cd → Tk → Nat → Rs} (h : Pg M K a' r) (hk : ∀ c b q, tkE a' ≤ tkE b → tkE b ≤ M → K → Pg M K' a (k c b q)) : Pg M K' a (bS r k) := by
  match r, h with
  | .inr e, h => exact h
  | .inl (c, b, q), h => exact hk c b q h.1 h.2.1 h.2.2
theorem Pg_from {K : Prop} {a b : Tk} {r : Rs} (hab : tkE a ≤ tkE b) (h : Pg M K b r) : Pg M K a r := by
  match r, h with
  | .inr e, h => exact h
  | .inl (c, b, q), h => exact ⟨by have := h.1; omega, h.2⟩
theorem Pg_imp {K K' : Prop} {a : Tk} {r : Rs} (hab : K → K') (h : Pg M K a r) : Pg M K' a r := by
  match r, h with
  | .inr e, h => exact h
  | .inl (c, b, q), h => exact ⟨h.1, h.2.1, hab h.2.2⟩
theorem Pg_nt {K : Prop} {a : Tk} {k : Tk → Rs} (hP : Prg nx M) (ha : tkE a ≤ M) (hk : tkE a ≤ tkE (nx (tkE a)) → tkE (nx (tkE a)) ≤ M → tkK (nx (tkE a)) ≠ 4 → Pg M K a (k (nx (tkE a)))) : Pg M K a (ntS nx a k) := by
  unfold ntS
  by_cases h : tkK (nx (tkE a)) = 4
  · rw [pI_t h]
    exact show (1 : Int) ≠ 9 by decide
  · rw [pI_f h]
    exact hk (hP _ ha).1 (hP _ ha).2.1 h
theorem Pg_term (hP : Prg nx M) {a : Tk} (ha : tkE a ≤ M) (q : Nat) : Pg M (tkK a ≠ 0 ∧ tkK a ≠ 4) a (termS nx a q) := by
  unfold termS
  by_cases h : (tkK a ≠ 2 ∧ cntS a < 0) ∨ q = 60
  · rw [pI_t h]
    exact show (2 : Int) ≠ 9 by decide
  · rw [pI_f h]
    refine Pg_nt hP ha fun h1 h2 _ => ⟨h1, h2, ?_⟩
    by_cases h0 : 0 ≤ cntS a
    · rw [cntS_kind h0]; decide
    · omega
theorem Pg_sumL (hP : Prg nx M) : ∀ (f : Nat) (c : Cd) (a : Tk) (q : Nat), tkE a ≤ M → M - tkE a < f → Pg M True a (sumL nx f c a q) := by
  intro f
  induction f with
  | zero => intro c a q h1 h2; omega
  | succ f ih =>
    intro c a q h1 h2
    unfold sumL
    by_cases h : isSg a 43 ∨ isSg a 45
    · rw [pI_t h]
      refine Pg_nt hP h1 fun h3 h4 _ => ?_
      refine Pg_bind (Pg_term hP h4 q) ?_
      intro c' b q' h5 h6 h7
      have h8 := (hP _ h1).2.2 h7.1 h7.2
      exact Pg_from (by omega) (ih _ b q' h6 (by omega))
    · rw [pI_f h]
      exact ⟨Nat.le_refl _, h1, trivial⟩
theorem Pg_sum (hP : Prg nx M) (hN : M < N) {a : Tk} (ha : tkE a ≤ M) (q : Nat) : Pg M (tkK a ≠ 0 ∧ tkK a ≠ 4) a (sumS nx N a q) := by
  unfold sumS
  refine Pg_bind (Pg_term hP ha q) ?_
  intro c b q' h5 h6 h7
  exact Pg_from h5 (Pg_imp (fun _ => h7) (Pg_sumL hP N c b q' h6 (by omega)))
theorem Pg_cmp (hP : Prg nx M) (hN : M < N) {a : Tk} (ha : tkE a ≤ M) (q : Nat) : Pg M (tkK a ≠ 0 ∧ tkK a ≠ 4) a (cmpS nx N a q) := by
  unfold cmpS
  refine Pg_bind (Pg_sum hP hN ha q) ?_
  intro c b q' h5 h6 h7
  by_cases h : isSg b 60 ∨ isSg b 62 ∨ isSg b 61
  · rw [pI_t h]
    refine Pg_from h5 (Pg_nt hP h6 fun h3 h4 _ => ?_)
    refine Pg_bind (Pg_sum hP hN h4 q') ?_
    intro c' b' q'' h8 h9 h10
    exact ⟨by omega, h9, h7⟩
  · rw [pI_f h]
    exact show (2 : Int) ≠ 9 by decide
theorem Pg_joinL (hP : Prg nx M) {sub : Tk → Nat → Rs} {w : List Int} {op : Int} (hs : ∀ a q, tkE a ≤ M → Pg M (tkK a ≠ 0 ∧ tkK a ≠ 4) a (sub a q)) : ∀ (f : Nat) (c : Cd) (a : Tk) (q : Nat), tkE a ≤ M → M - tkE a < f → Pg M True a (joinL nx sub w op f c a q) := by
  intro f
  induction f with
  | zero => intro c a q h1 h2; omega
  | succ f ih =>
    intro c a q h1 h2
    unfold joinL
    by_cases h : isWd a w
    · rw [pI_t h]
      refine Pg_nt hP h1 fun h3 h4 _ => ?_
      refine Pg_bind (hs _ q h4) ?_
      intro c' b q' h5 h6 h7
      have h8 := (hP _ h1).2.2 h7.1 h7.2
      exact Pg_from (by omega) (ih _ b q' h6 (by omega))
    · rw [pI_f h]
      exact ⟨Nat.le_refl _, h1, trivial⟩
theorem Pg_join (hP : Prg nx M) (hN : M < N) {sub : Tk → Nat → Rs} {w : List Int} {op : Int} (hs : ∀ a q, tkE a ≤ M → Pg M (tkK a ≠ 0 ∧ tkK a ≠ 4) a (sub a q)) (a : Tk) (q : Nat) (ha : tkE a ≤ M) : Pg M (tkK a ≠ 0 ∧ tkK a ≠ 4) a (joinS nx N sub w op a q) := by
  unfold joinS
  refine Pg_bind (hs a q ha) ?_
  intro c b q' h5 h6 h7
  exact Pg_from h5 (Pg_imp (fun _ => h7) (Pg_joinL hP hs N c b q' h6 (by omega)))
theorem Pg_oneB (hP : Prg nx M) (hN : M < N) {one e : Tk → Nat → Rs} (h1 : ∀ a q, tkE a ≤ M → Pg M (tkK a ≠ 0 ∧ tkK a ≠ 4) a (one a q)) (h2 : ∀ a q, tkE a ≤ M → Pg M (tkK a ≠ 0 ∧ tkK a ≠ 4) a (e a q)) (a : Tk) (q : Nat) (ha : tkE a ≤ M) : Pg M (tkK a ≠ 0 ∧ tkK a ≠ 4) a (oneB nx N one e a q) := by
  unfold oneB
  by_cases hn : isWd a wNot
  · rw [pI_t hn]
    refine Pg_nt hP ha fun h3 h4 _ => ?_
    refine Pg_bind (h1 _ q h4) ?_
    intro c b q' h5 h6 h7
    exact ⟨by omega, h6, by rw [hn.1]; decide⟩
  · rw [pI_f hn]
    by_cases ho : isSg a 40
    · rw [pI_t ho]
      refine Pg_nt hP ha fun h3 h4 _ => ?_
      refine Pg_bind (h2 _ q h4) ?_
      intro c b q' h5 h6 h7
      by_cases hc : isSg b 41
      · rw [pI_t hc]
        refine Pg_from (by omega) (Pg_nt hP h6 fun h8 h9 _ => ⟨h8, h9, by rw [ho.1]; decide⟩)
      · rw [pI_f hc]
        exact show (2 : Int) ≠ 9 by decide
    · rw [pI_f ho]
      exact Pg_cmp hP hN ha q
theorem Pg_one (hP : Prg nx M) (hN : M < N) : ∀ (k : Nat) (a : Tk) (q : Nat), tkE a ≤ M → Pg M (tkK a ≠ 0 ∧ tkK a ≠ 4) a (oneS nx N k a q) := by
  intro k
  induction k with
  | zero =>
    unfold oneS
    exact Pg_oneB hP hN (fun a q _ => show (2 : Int) ≠ 9 by decide) (fun a q _ => show (2 : Int) ≠ 9 by decide)
  | succ k ih =>
    unfold oneS
    exact Pg_oneB hP hN ih (Pg_join hP hN (Pg_join hP hN ih))
theorem Pg_e (hP : Prg nx M) (hN : M < N) (k : Nat) (a : Tk) (q : Nat) (ha : tkE a ≤ M) : Pg M (tkK a ≠ 0 ∧ tkK a ≠ 4) a (eS nx N k a q) := by
  unfold eS bothS
  exact Pg_join hP hN (Pg_join hP hN (Pg_one hP hN k)) a q ha
theorem Pg_expr (hP : Prg nx M) (hN : M < N) (a : Tk) (q : Nat) (ha : tkE a ≤ M) : Pg M (tkK a ≠ 0 ∧ tkK a ≠ 4) a (exprS nx N a q) := by
  unfold exprS
  refine Pg_bind (Pg_e hP hN 5 a q ha) ?_
  intro c b q' h5 h6 h7
  by_cases h : isSg b 59
  · rw [pI_t h]
    exact ⟨h5, h6, h7⟩
  · rw [pI_f h]
    exact show (2 : Int) ≠ 9 by decide
end PROGR
