-- dep: 40
section SIMUL
variable {nx : Nat → Tk} {N : Nat}
def Sim (nx : Nat → Tk) (r0 : Rs) (s : AS) (post : Cd → Tk → Nat → AS → Prop) : Prop := match r0 with
  | .inr e => e.1 = 9 ∨ Lp nx s (.inr e)
  | .inl (c, b, q) => ∃ s', post c b q s' ∧ ∀ r, Lp nx s' r → Lp nx s r
theorem Sim_bind {r0 : Rs} {s : AS} {post post' : Cd → Tk → Nat → AS → Prop} {k : Cd → Tk → Nat → Rs} (h : Sim nx r0 s post) (hk : ∀ c b q s', post c b q s' → Sim nx (k c b q) s' post') : Sim nx (bS r0 k) s post' := by
  match r0, h with
  | .inr e, h => exact h
  | .inl (c, b, q), ⟨s', h1, h2⟩ =>
    have h3 := hk c b q s' h1
    show Sim nx (k c b q) s post'
    match hk' : k c b q, h3 with
    | .inr e, h3 => exact h3.imp id (h2 _)
    | .inl (c', b', q'), ⟨s'', h4, h5⟩ => exact ⟨s'', h4, fun r hr => h2 r (h5 r hr)⟩
theorem Sim_mono {r0 : Rs} {s : AS} {post post' : Cd → Tk → Nat → AS → Prop} (h : Sim nx r0 s post) (hk : ∀ c b q s', post c b q s' → post' c b q s') : Sim nx r0 s post' := by
  match r0, h with
  | .inr e, h => exact h
  | .inl (c, b, q), ⟨s', h1, h2⟩ => exact ⟨s', hk _ _ _ _ h1, h2⟩
theorem Lp_step {s s' : AS} {r : Rs} (h1 : ¬ enS s) (h2 : stS nx s = .inl s') (h : Lp nx s' r) : Lp nx s r := by
  obtain ⟨f, h⟩ := h
  refine ⟨f + 1, ?_⟩
  unfold lpS
  rw [pI_f h1, h2]
  exact h
theorem Lp_err {s : AS} {e : Int × Nat} (h1 : ¬ enS s) (h2 : stS nx s = .inr e) : Lp nx s (.inr e) := by
  refine ⟨1, ?_⟩
  unfold lpS
  rw [pI_f h1, h2]
theorem Sim_step {r0 : Rs} {s s' : AS} {post : Cd → Tk → Nat → AS → Prop} (h1 : ¬ enS s) (h2 : stS nx s = .inl s') (h : Sim nx r0 s' post) : Sim nx r0 s post := by
  match r0, h with
  | .inr e, h => exact h.imp id (Lp_step h1 h2)
  | .inl (c, b, q), ⟨s'', h4, h5⟩ => exact ⟨s'', h4, fun r hr => Lp_step h1 h2 (h5 r hr)⟩
theorem cntS_no {a : Tk} (h : tkK a ≠ 1) : cntS a = -1 := by
  unfold cntS isWd
  rw [pI_f (fun q => h q.1), pI_f (fun q => h q.1), pI_f (fun q => h q.1), pI_f (fun q => h q.1), pI_f (fun q => h q.1)]
theorem cntS_not {a : Tk} (h : isWd a wNot) : cntS a = -1 := by
  unfold cntS isWd
  rw [h.2]
  rw [pI_f, pI_f, pI_f, pI_f, pI_f] <;> exact fun q => absurd q.2 (by decide)
theorem cntS_kind {a : Tk} (h : 0 ≤ cntS a) : tkK a = 1 := by
  apply Classical.byContradiction
  intro h1
  rw [cntS_no h1] at h
  exact absurd h (by decide)
theorem Lp_bad {now : Int} {a : Tk} {W : List Int} {C : Cd} {q : Nat} (h : tkK a = 4) : Lp nx (now, a, W, C, q) (.inr (1, tkP a)) := by
  have hs : ∀ c, ¬ isSg a c := fun c hc => by have := hc.1; omega
  have hw : ∀ c, ¬ isWd a c := fun c hc => by have := hc.1; omega
  have hc := cntS_no (a := a) (by omega)
  apply Lp_err
  · exact fun he => hs _ he.2.1
  · unfold stS
    by_cases hn : now = 3 ∨ now = 4 ∨ now = 5
    · rw [pI_t hn]
      unfold sgS
      simp only [hs, hw, and_false, or_false, false_and]
      rw [pI_f (by simp), pI_f (by simp), pI_f (by simp), pI_f (by simp), pI_f (by simp)]
      unfold eK
      rw [pI_t h]
    · rw [pI_f hn]
      unfold opS
      simp only [hs, hw, hc, h]
      rw [pI_t (Or.inl (by rintro ((h | h) | h); exact absurd h (by decide); exact absurd h (by decide); exact h.2.elim id id))]
      unfold eK
      rw [pI_t h]
/-- a token is taken: the row goes on to the next -/
theorem Sim_nt {a : Tk} {k : Tk → Rs} {s : AS} {post : Cd → Tk → Nat → AS → Prop} {now : Int} {W : List Int} {C : Cd} {q : Nat} (h1 : ¬ enS s) (h2 : stS nx s = .inl (now, nx (tkE a), W, C, q)) (h : tkK (nx (tkE a)) ≠ 4 → Sim nx (k (nx (tkE a))) (now, nx (tkE a), W, C, q) post) : Sim nx (ntS nx a k) s post := by
  unfold ntS
  by_cases hb : tkK (nx (tkE a)) = 4
  · rw [pI_t hb]
    exact Or.inr (Lp_step h1 h2 (Lp_bad hb))
  · rw [pI_f hb]
    exact Sim_step h1 h2 (h hb)
theorem eK_2 {a : Tk} (h : tkK a ≠ 4) : eK a = 2 := pI_f h
/-- signs that pop: all of a list, down to where it stops -/
def Stops (p : Int → Prop) (W : List Int) : Prop := ∀ w W', W = w :: W' → ¬ p w
theorem popW_app {p : Int → Prop} {W : List Int} (hW : Stops p W) : ∀ (P : List Int) (C : Cd), (∀ w, w ∈ P → p w) → popW p (P ++ W) C = (W, C ++ cdW P) := by
  intro P
  induction P with
  | nil =>
    intro C _
    cases W with
    | nil => simp [popW, cdW]
    | cons w W' =>
      show pI (p w) _ _ = _
      rw [pI_f (hW w W' rfl)]
      simp [cdW]
  | cons x P ih =>
    intro C h
    show pI (p x) (popW p (P ++ W) (C ++ [(x, 0)])) _ = _
    rw [pI_t (h x (by simp)), ih _ (fun w hw => h w (by simp [hw]))]
    simp [cdW]
theorem stS_op {now : Int} {a : Tk} {W : List Int} {C : Cd} {q : Nat} (h : ¬ (now = 3 ∨ now = 4 ∨ now = 5)) : stS nx (now, a, W, C, q) = opS nx now a W C q := pI_f h
theorem stS_sg {now : Int} {a : Tk} {W : List Int} {C : Cd} {q : Nat} (h : now = 3 ∨ now = 4 ∨ now = 5) : stS nx (now, a, W, C, q) = sgS nx now a W C q := pI_t h
theorem Sim_term {now : Int} {a : Tk} {W : List Int} {C : Cd} {q : Nat} (hn : now = 0 ∨ now = 1 ∨ now = 2) (hd : deepS W < 6) (ha : tkK a ≠ 4) (h1 : now = 0 → ¬ isSg a 40 ∧ ¬ isWd a wNot) :
    Sim nx (termS nx a q) (now, a, W, C, q) (fun c b q' s' => s' = (pI (now = 2) 4 3, b, W, C ++ c, q') ∧ tkK b ≠ 4) := by
  have hne : ¬ enS (now, a, W, C, q) := fun h => by rcases h.1 with h | h <;> (have h : now = _ := h; omega)
  have hne2 : ¬ (now = 3 ∨ now = 4 ∨ now = 5) := by omega
  unfold termS
  by_cases hc : (tkK a ≠ 2 ∧ cntS a < 0) ∨ q = 60
  · rw [pI_t hc]
    refine Or.inr (Lp_err hne ?_)
    rw [stS_op hne2]
    unfold opS
    rw [pI_t, eK_2 ha]
    by_cases hb : (tkK a = 2 ∨ 0 ≤ cntS a)
    · exact Or.inr (Or.inr ⟨hb, by rcases hc with hc | hc; omega; exact hc⟩)
    · refine Or.inl (fun hb' => ?_)
      rcases hb' with hb' | hb'
      · exact hb hb'
      · rcases hb'.2 with h | h
        · exact (h1 hb'.1).1 h
        · exact (h1 hb'.1).2 h
  · rw [pI_f hc]
    have hb : (tkK a = 2 ∨ 0 ≤ cntS a) := by omega
    refine Sim_nt hne (now := pI (now = 2) 4 3) (W := W) (C := C ++ [pI (cntS a < 0) (0, tkV a) (10 + cntS a, 0)]) (q := q + 1) ?_ ?_
    · rw [stS_op hne2]
      unfold opS
      rw [pI_f, pI_t hb]
      rintro (h | h | h)
      · exact h (Or.inl hb)
      · omega
      · omega
    · intro h4
      exact ⟨_, ⟨rfl, h4⟩, fun r hr => hr⟩
/-- behind a sum -/
def pstS (now : Int) (W : List Int) (C : Cd) (c : Cd) (b : Tk) (q : Nat) (s' : AS) : Prop := ∃ P C', s' = (now, b, P ++ W, C', q) ∧ C' ++ cdW P = C ++ c ∧ (∀ w, w ∈ P → w = 26 ∨ w = 27) ∧ tkK b ≠ 4 ∧ ¬ isSg b 43 ∧ ¬ isSg b 45
theorem p26_of {P : List Int} (h : ∀ w, w ∈ P → w = 26 ∨ w = 27) : ∀ w, w ∈ P → p26 w := fun w hw => by
  have := h w hw
  unfold p26
  omega
theorem Sim_sumL {now : Int} {W : List Int} {C : Cd} (hn : now = 3 ∨ now = 4) (hd : deepS W < 6) (hW : Stops p26 W) : ∀ (f : Nat) (c : Cd) (a : Tk) (q : Nat) (P : List Int) (C' : Cd), C' ++ cdW P = C ++ c → (∀ w, w ∈ P → w = 26 ∨ w = 27) → tkK a ≠ 4 →
    Sim nx (sumL nx f c a q) (now, a, P ++ W, C', q) (pstS now W C) := by
  intro f
  induction f with
  | zero => exact fun c a q P C' _ _ _ => Or.inl rfl
  | succ f ih =>
    intro c a q P C' hC hP ha
    unfold sumL
    by_cases h : isSg a 43 ∨ isSg a 45
    · rw [pI_t h]
      have hop : pI (isSg a 43) (26 : Int) 27 = 26 ∨ pI (isSg a 43) (26 : Int) 27 = 27 := by
        by_cases h : isSg a 43
        · rw [pI_t h]; exact Or.inl rfl
        · rw [pI_f h]; exact Or.inr rfl
      refine Sim_nt (now := pI (now = 3) 1 2) (W := pI (isSg a 43) 26 27 :: W) (C := C ++ c) (q := q) ?_ ?_ ?_
      · intro he
        have h1 := he.2.1.2
        have h1 : tkV a = 59 := h1
        rcases h with h | h <;> (have := h.2; omega)
      · rw [stS_sg (by omega)]
        unfold sgS
        rw [pI_t ⟨by omega, h⟩, popW_app hW P C' (p26_of hP), hC]
      · intro h4
        have hd2 : deepS (pI (isSg a 43) 26 27 :: W) < 6 := by
          unfold deepS at hd ⊢
          rw [List.countP_cons_of_neg]
          · exact hd
          · simp; omega
        refine Sim_bind (Sim_term (by rcases hn with h | h <;> (subst h; simp [pI])) hd2 h4 (by rcases hn with h | h <;> (subst h; simp [pI]))) ?_
        rintro c' b q' s' ⟨rfl, hb⟩
        have e1 : pI (pI (now = 3) (1 : Int) 2 = 2) (4 : Int) 3 = now := by rcases hn with h | h <;> (subst h; simp [pI])
        rw [e1]
        refine ih _ _ _ [pI (isSg a 43) 26 27] _ ?_ ?_ hb
        · simp [cdW]
        · intro w hw
          rw [List.mem_singleton] at hw
          rw [hw]
          exact hop
    · rw [pI_f h]
      exact ⟨_, ⟨P, C', rfl, hC, hP, ha, fun q => h (Or.inl q), fun q => h (Or.inr q)⟩, fun r hr => hr⟩
theorem Sim_sum {now : Int} {a : Tk} {W : List Int} {C : Cd} {q : Nat} (hn : now = 0 ∨ now = 1 ∨ now = 2) (hd : deepS W < 6) (hW : Stops p26 W) (ha : tkK a ≠ 4) (h1 : now = 0 → ¬ isSg a 40 ∧ ¬ isWd a wNot) :
    Sim nx (sumS nx N a q) (now, a, W, C, q) (pstS (pI (now = 2) 4 3) W C) := by
  unfold sumS
  refine Sim_bind (Sim_term hn hd ha h1) ?_
  rintro c b q' s' ⟨rfl, hb⟩
  exact Sim_sumL (by by_cases h : now = 2; (right; exact pI_t h); (left; exact pI_f h)) hd hW N c b q' [] (C ++ c) (by simp [cdW]) (by simp) hb
/-- behind a one, a both, an e: signs that wait, what may follow -/
def pst (p : Int → Prop) (ex : Tk → Prop) (W : List Int) (C : Cd) (c : Cd) (b : Tk) (q : Nat) (s' : AS) : Prop := ∃ P C' now, s' = (now, b, P ++ W, C', q) ∧ C' ++ cdW P = C ++ c ∧ (∀ w, w ∈ P → p w) ∧ tkK b ≠ 4 ∧ ((now = 4 ∧ ¬ isSg b 43 ∧ ¬ isSg b 45) ∨ now = 5) ∧ ex b
theorem deep_cons {x : Int} {W : List Int} (h : x ≠ 28 ∧ x ≠ 20) : deepS (x :: W) = deepS W := by
  unfold deepS
  rw [List.countP_cons_of_neg]
  simp; omega
theorem deep_cons1 {x : Int} {W : List Int} (h : x = 28 ∨ x = 20) : deepS (x :: W) = deepS W + 1 := by
  unfold deepS
  rw [List.countP_cons_of_pos]
  simpa using h
theorem Sim_cmp {a : Tk} {W : List Int} {C : Cd} {q : Nat} (hd : deepS W < 6) (hW : Stops p26 W) (ha : tkK a ≠ 4) (h1 : ¬ isSg a 40 ∧ ¬ isWd a wNot) :
    Sim nx (cmpS nx N a q) (0, a, W, C, q) (pst pAnd (fun _ => True) W C) := by
  unfold cmpS
  refine Sim_bind (Sim_sum (Or.inl rfl) hd hW ha (fun _ => h1)) ?_
  rintro c b q' s' ⟨P, C', rfl, hC, hP, hb, hb1, hb2⟩
  have e3 : pI ((0 : Int) = 2) (4 : Int) 3 = 3 := pI_f (by decide)
  rw [e3]
  have hne : ¬ enS (3, b, P ++ W, C', q') := fun h => by rcases h.1 with h | h <;> (have h : (3 : Int) = _ := h; omega)
  by_cases h : isSg b 60 ∨ isSg b 62 ∨ isSg b 61
  · rw [pI_t h]
    have hop : ∃ x : Int, pI (isSg b 61) (23 : Int) (pI (isSg b 60) 24 25) = x ∧ (x = 23 ∨ x = 24 ∨ x = 25) := by
      by_cases h : isSg b 61
      · exact ⟨23, pI_t h, Or.inl rfl⟩
      · by_cases h' : isSg b 60
        · exact ⟨24, by rw [pI_f h, pI_t h'], Or.inr (Or.inl rfl)⟩
        · exact ⟨25, by rw [pI_f h, pI_f h'], Or.inr (Or.inr rfl)⟩
    obtain ⟨x, hx, hx2⟩ := hop
    refine Sim_nt (now := 2) (W := x :: W) (C := C ++ c) (q := q') hne ?_ ?_
    · rw [stS_sg (by omega)]
      unfold sgS
      rw [pI_f (by rintro ⟨_, h | h⟩; exact hb1 h; exact hb2 h), pI_t ⟨rfl, by rcases h with h | h | h; exact Or.inr (Or.inl h); exact Or.inr (Or.inr h); exact Or.inl h⟩, popW_app hW P C' (p26_of hP), hC, hx]
    · intro h4
      refine Sim_bind (Sim_sum (Or.inr (Or.inr rfl)) ?_ ?_ h4 (by intro h; omega)) ?_
      · rw [deep_cons (by omega)]; exact hd
      · intro w W' e
        cases e
        unfold p26
        omega
      · rintro c' b' q'' s' ⟨P', C'', rfl, hC', hP', hb', hb1', hb2'⟩
        rw [pI_t rfl, hx]
        refine ⟨_, ⟨P' ++ [x], C'', 4, ?_, ?_, ?_, hb', Or.inl ⟨rfl, hb1', hb2'⟩, trivial⟩, fun r hr => hr⟩
        · simp
        · have : cdW (P' ++ [x]) = cdW P' ++ [(x, 0)] := by simp [cdW]
          rw [this, ← List.append_assoc, hC']
          simp
        · intro w hw
          rw [List.mem_append, List.mem_singleton] at hw
          unfold pAnd
          rcases hw with hw | hw
          · have := hP' w hw; omega
          · omega
  · rw [pI_f h]
    refine Or.inr (Lp_err hne ?_)
    rw [stS_sg (by omega)]
    unfold sgS
    rw [pI_f (by rintro ⟨_, h | h⟩; exact hb1 h; exact hb2 h), pI_f (by rintro ⟨_, h' | h' | h'⟩; exact h (Or.inr (Or.inr h')); exact h (Or.inl h'); exact h (Or.inr (Or.inl h'))), pI_f (by rintro ⟨h, _⟩; exact h rfl), pI_f (by rintro ⟨h, _⟩; exact h rfl), pI_f (by rintro ⟨h, _⟩; exact h rfl), eK_2 hb]
theorem Sim_joinL {sub : Tk → Nat → Rs} {w : List Int} {op : Int} {p pp : Int → Prop} {ex : Tk → Prop} {W : List Int} {C : Cd} (hW : Stops p W) (hpp : ∀ x, pp x → p x) (hop : p op)
    (hsg : ∀ (now : Int) (a : Tk) (W' : List Int) (C' : Cd) (q : Nat), now = 4 ∨ now = 5 → isWd a w → sgS nx now a W' C' q = .inl (0, nx (tkE a), op :: (popW p W' C').1, (popW p W' C').2, q))
    (hsub : ∀ (C : Cd) (a : Tk) (q : Nat), tkK a ≠ 4 → Sim nx (sub a q) (0, a, op :: W, C, q) (pst pp ex (op :: W) C)) : ∀ (f : Nat) (c : Cd) (a : Tk) (q : Nat) (s : AS), pst p ex W C c a q s →
    Sim nx (joinL nx sub w op f c a q) s (pst p (fun b => ex b ∧ ¬ isWd b w) W C) := by
  intro f
  induction f with
  | zero => exact fun c a q s _ => Or.inl rfl
  | succ f ih =>
    rintro c a q s ⟨P, C', now, rfl, hC, hP, ha, hnow, hex⟩
    unfold joinL
    by_cases h : isWd a w
    · rw [pI_t h]
      refine Sim_nt (now := 0) (W := op :: W) (C := C ++ c) (q := q) ?_ ?_ ?_
      · intro he
        have h1 := he.2.1.1
        have h1 : tkK a = 3 := h1
        have := h.1
        omega
      · rw [stS_sg (by omega), hsg now a _ _ q (by omega) h, popW_app hW P C' hP, hC]
      · intro h4
        refine Sim_bind (hsub (C ++ c) _ q h4) ?_
        rintro c' b q' s' ⟨P', C'', now', rfl, hC', hP', hb, hnow', hex'⟩
        refine ih _ _ _ _ ⟨P' ++ [op], C'', now', by simp, ?_, ?_, hb, hnow', hex'⟩
        · have : cdW (P' ++ [op]) = cdW P' ++ [(op, 0)] := by simp [cdW]
          rw [this, ← List.append_assoc, hC']
          simp
        · intro x hx
          rw [List.mem_append, List.mem_singleton] at hx
          rcases hx with hx | hx
          · exact hpp x (hP' x hx)
          · rw [hx]; exact hop
    · rw [pI_f h]
      exact ⟨_, ⟨P, C', now, rfl, hC, hP, ha, hnow, hex, h⟩, fun r hr => hr⟩
theorem Sim_join {sub : Tk → Nat → Rs} {w : List Int} {op : Int} {p pp : Int → Prop} {ex : Tk → Prop} {W : List Int} (hW : Stops p W) (hpp : ∀ x, pp x → p x) (hop : p op)
    (hsg : ∀ (now : Int) (a : Tk) (W' : List Int) (C' : Cd) (q : Nat), now = 4 ∨ now = 5 → isWd a w → sgS nx now a W' C' q = .inl (0, nx (tkE a), op :: (popW p W' C').1, (popW p W' C').2, q))
    (hsub0 : ∀ (C : Cd) (a : Tk) (q : Nat), tkK a ≠ 4 → Sim nx (sub a q) (0, a, W, C, q) (pst pp ex W C))
    (hsub : ∀ (C : Cd) (a : Tk) (q : Nat), tkK a ≠ 4 → Sim nx (sub a q) (0, a, op :: W, C, q) (pst pp ex (op :: W) C)) (C : Cd) (a : Tk) (q : Nat) (ha : tkK a ≠ 4) :
    Sim nx (joinS nx N sub w op a q) (0, a, W, C, q) (pst p (fun b => ex b ∧ ¬ isWd b w) W C) := by
  unfold joinS
  refine Sim_bind (hsub0 C a q ha) ?_
  rintro c b q' s' ⟨P, C', now, rfl, hC, hP, hb, hnow, hex⟩
  exact Sim_joinL hW hpp hop hsg hsub N c b q' _ ⟨P, C', now, rfl, hC, fun x hx => hpp x (hP x hx), hb, hnow, hex⟩
theorem sgS_and (now : Int) (a : Tk) (W' : List Int) (C' : Cd) (q : Nat) (hn : now = 4 ∨ now = 5) (h : isWd a wAnd) : sgS nx now a W' C' q = .inl (0, nx (tkE a), 22 :: (popW pAnd W' C').1, (popW pAnd W' C').2, q) := by
  have hs : ∀ c, ¬ isSg a c := fun c hc => by have := hc.1; have := h.1; omega
  unfold sgS
  rw [pI_f (by rintro ⟨_, h | h⟩ <;> exact hs _ h), pI_f (by rintro ⟨_, h | h | h⟩ <;> exact hs _ h), pI_t ⟨by omega, h⟩]
theorem sgS_or (now : Int) (a : Tk) (W' : List Int) (C' : Cd) (q : Nat) (hn : now = 4 ∨ now = 5) (h : isWd a wOr) : sgS nx now a W' C' q = .inl (0, nx (tkE a), 21 :: (popW pOr W' C').1, (popW pOr W' C').2, q) := by
  have hs : ∀ c, ¬ isSg a c := fun c hc => by have := hc.1; have := h.1; omega
  unfold sgS
  rw [pI_f (by rintro ⟨_, h | h⟩ <;> exact hs _ h), pI_f (by rintro ⟨_, h | h | h⟩ <;> exact hs _ h), pI_f (by rintro ⟨_, h'⟩; have := h.2.symm.trans h'.2; exact absurd this (by decide)), pI_t ⟨by omega, h⟩]
/-- what is asked of a one, with so much nesting left -/
def OneOk (nx : Nat → Tk) (k : Nat) (one : Tk → Nat → Rs) : Prop := ∀ (W : List Int) (C : Cd) (a : Tk) (q : Nat), deepS W + k = 5 → Stops p26 W → tkK a ≠ 4 → Sim nx (one a q) (0, a, W, C, q) (pst pAnd (fun _ => True) W C)
theorem Sim_both {one : Tk → Nat → Rs} {k : Nat} (h1 : OneOk nx k one) (W : List Int) (hd : deepS W + k = 5) (hW : Stops pAnd W) (C : Cd) (a : Tk) (q : Nat) (ha : tkK a ≠ 4) :
    Sim nx (joinS nx N one wAnd 22 a q) (0, a, W, C, q) (pst pAnd (fun b => True ∧ ¬ isWd b wAnd) W C) := by
  refine Sim_join hW (fun x h => h) (by unfold pAnd; decide) sgS_and ?_ ?_ C a q ha
  · intro C a q ha
    refine h1 W C a q hd ?_ ha
    intro w W' e
    have := hW w W' e
    unfold pAnd at this
    unfold p26
    omega
  · intro C a q ha
    refine h1 _ C a q (by rw [deep_cons (by decide)]; exact hd) ?_ ha
    intro w W' e
    cases e
    unfold p26
    omega
theorem Sim_e {one : Tk → Nat → Rs} {k : Nat} (h1 : OneOk nx k one) (W : List Int) (hd : deepS W + k = 5) (hW : Stops pOr W) (C : Cd) (a : Tk) (q : Nat) (ha : tkK a ≠ 4) :
    Sim nx (joinS nx N (joinS nx N one wAnd 22) wOr 21 a q) (0, a, W, C, q) (pst pOr (fun b => (True ∧ ¬ isWd b wAnd) ∧ ¬ isWd b wOr) W C) := by
  refine Sim_join (pp := pAnd) hW (fun x h => h.1) (by unfold pOr; decide) sgS_or ?_ ?_ C a q ha
  · intro C a q ha
    refine Sim_both h1 W hd ?_ C a q ha
    intro w W' e
    have := hW w W' e
    unfold pOr at this
    unfold pAnd
    omega
  · intro C a q ha
    refine Sim_both h1 _ (by rw [deep_cons (by decide)]; exact hd) ?_ C a q ha
    intro w W' e
    cases e
    unfold pAnd
    omega
theorem opS_in {a : Tk} {W : List Int} {C : Cd} {q : Nat} (hd : deepS W < 6) (h : isSg a 40 ∨ isWd a wNot) : opS nx 0 a W C q = .inl (0, nx (tkE a), pI (isSg a 40) 28 20 :: W, C, q) := by
  have hc : cntS a = -1 := by
    rcases h with h | h
    · exact cntS_no (by have := h.1; omega)
    · exact cntS_not h
  have hk : tkK a ≠ 2 := by rcases h with h | h <;> (have := h.1; omega)
  unfold opS
  rw [pI_f, pI_f (by omega)]
  rintro (h' | h' | h')
  · exact h' (Or.inr ⟨rfl, h⟩)
  · omega
  · omega
theorem Sim_oneB {one e : Tk → Nat → Rs} {k : Nat} (hk : k ≤ 5)
    (h1 : ∀ (W : List Int) (C : Cd) (a : Tk) (q : Nat), deepS W + k = 6 → Stops p26 W → tkK a ≠ 4 → Sim nx (one a q) (0, a, W, C, q) (pst pAnd (fun _ => True) W C))
    (h2 : ∀ (W : List Int) (C : Cd) (a : Tk) (q : Nat), deepS W + k = 6 → Stops pOr W → tkK a ≠ 4 → Sim nx (e a q) (0, a, W, C, q) (pst pOr (fun b => (True ∧ ¬ isWd b wAnd) ∧ ¬ isWd b wOr) W C)) : OneOk nx k (oneB nx N one e) := by
  intro W C a q hd hW ha
  have hd6 : deepS W < 6 := by omega
  have hne : ¬ enS (0, a, W, C, q) := fun h => by rcases h.1 with h | h <;> (have h : (0 : Int) = _ := h; omega)
  unfold oneB
  by_cases hn : isWd a wNot
  · rw [pI_t hn]
    have hs : ¬ isSg a 40 := fun hc => by have := hc.1; have := hn.1; omega
    refine Sim_nt (now := 0) (W := 20 :: W) (C := C) (q := q) hne ?_ ?_
    · rw [stS_op (by omega), opS_in hd6 (Or.inr hn), pI_f hs]
    · intro h4
      refine Sim_bind (h1 (20 :: W) C _ q (by rw [deep_cons1 (Or.inr rfl)]; omega) ?_ h4) ?_
      · intro w W' e
        cases e
        unfold p26
        omega
      · rintro c b q' s' ⟨P, C', now, rfl, hC, hP, hb, hnow, _⟩
        refine ⟨_, ⟨P ++ [20], C', now, by simp, ?_, ?_, hb, hnow, trivial⟩, fun r hr => hr⟩
        · have : cdW (P ++ [20]) = cdW P ++ [(20, 0)] := by simp [cdW]
          rw [this, ← List.append_assoc, hC]
          simp
        · intro x hx
          rw [List.mem_append, List.mem_singleton] at hx
          rcases hx with hx | hx
          · exact hP x hx
          · rw [hx]; unfold pAnd; decide
  · rw [pI_f hn]
    by_cases ho : isSg a 40
    · rw [pI_t ho]
      refine Sim_nt (now := 0) (W := 28 :: W) (C := C) (q := q) hne ?_ ?_
      · rw [stS_op (by omega), opS_in hd6 (Or.inl ho), pI_t ho]
      · intro h4
        refine Sim_bind (h2 (28 :: W) C _ q (by rw [deep_cons1 (Or.inl rfl)]; omega) ?_ h4) ?_
        · intro w W' e
          cases e
          unfold pOr
          omega
        · rintro c b q' s' ⟨P, C', now, rfl, hC, hP, hb, hnow, ⟨_, hx1⟩, hx2⟩
          have hmem : (28 : Int) ∈ P ++ 28 :: W := by simp
          have hne2 : ¬ enS (now, b, P ++ 28 :: W, C', q') := fun h => h.2.2 hmem
          have hc1 : ¬ (now ≠ 5 ∧ (isSg b 43 ∨ isSg b 45)) := by
            rintro ⟨h5, h⟩
            rcases hnow with ⟨_, h43, h45⟩ | h
            · rcases h with h | h
              · exact h43 h
              · exact h45 h
            · exact h5 h
          have hc2 : ¬ (now = 3 ∧ (isSg b 61 ∨ isSg b 60 ∨ isSg b 62)) := fun h => by omega
          by_cases hcl : isSg b 41
          · rw [pI_t hcl]
            refine Sim_nt (now := 5) (W := W) (C := C ++ c) (q := q') hne2 ?_ ?_
            · rw [stS_sg (by omega)]
              unfold sgS
              rw [pI_f hc1, pI_f hc2, pI_f (fun h => hx1 h.2), pI_f (fun h => hx2 h.2), pI_t ⟨by omega, hcl, hmem⟩, popW_app (W := 28 :: W) _ P C' hP, hC]
              · rfl
              · intro w W' e
                cases e
                unfold pOr
                omega
            · intro h4'
              exact ⟨_, ⟨[], C ++ c, 5, rfl, by simp [cdW], by simp, h4', Or.inr rfl, trivial⟩, fun r hr => hr⟩
          · rw [pI_f hcl]
            refine Or.inr (Lp_err hne2 ?_)
            rw [stS_sg (by omega)]
            unfold sgS
            rw [pI_f hc1, pI_f hc2, pI_f (fun h => hx1 h.2), pI_f (fun h => hx2 h.2), pI_f (fun h => hcl h.2.1), eK_2 hb]
    · rw [pI_f ho]
      exact Sim_cmp hd6 hW ha ⟨ho, hn⟩
theorem Lp_deep {a : Tk} {W : List Int} {C : Cd} {q : Nat} (hd : deepS W = 6) (ha : tkK a ≠ 4) : Lp nx (0, a, W, C, q) (.inr (2, tkP a)) := by
  refine Lp_err (fun h => by rcases h.1 with h | h <;> (have h : (0 : Int) = _ := h; omega)) ?_
  rw [stS_op (by omega)]
  unfold opS
  rw [pI_t (Or.inr (Or.inl ⟨rfl, by omega⟩)), eK_2 ha]
theorem Sim_one : ∀ (k : Nat), k ≤ 5 → OneOk nx k (oneS nx N k) := by
  intro k
  induction k with
  | zero =>
    intro hk
    unfold oneS
    exact Sim_oneB hk (fun W C a q hd _ ha => Or.inr (Lp_deep hd ha)) (fun W C a q hd _ ha => Or.inr (Lp_deep hd ha))
  | succ k ih =>
    intro hk
    unfold oneS
    have ih := ih (by omega)
    refine Sim_oneB hk (fun W C a q hd hW ha => ih W C a q (by omega) hW ha) (fun W C a q hd hW ha => ?_)
    exact Sim_e ih W (by omega) hW C a q ha
/-- a when up to its semicolon -/
noncomputable def exprS (nx : Nat → Tk) (N : Nat) (a : Tk) (q : Nat) : Rs := bS (eS nx N 5 a q) fun c b q' => pI (isSg b 59) (.inl (c, b, q')) (.inr (2, tkP b))
theorem Sim_expr (C : Cd) (a : Tk) (q : Nat) (ha : tkK a ≠ 4) : match exprS nx N a q with
    | .inr e => e.1 = 9 ∨ Lp nx (0, a, [], C, q) (.inr e)
    | .inl (c, b, q') => Lp nx (0, a, [], C, q) (.inl (C ++ c, b, q')) := by
  have h := Sim_e (nx := nx) (N := N) (Sim_one (nx := nx) (N := N) 5 (by omega)) [] (by simp [deepS]) (fun w W' e => by cases e) C a q ha
  unfold exprS eS bothS
  match hr : joinS nx N (joinS nx N (oneS nx N 5) wAnd 22) wOr 21 a q, h with
  | .inr e, h => exact h
  | .inl (c, b, q'), ⟨s', ⟨P, C', now, e, hC, hP, hb, hnow, ⟨_, hx1⟩, hx2⟩, hl⟩ =>
    subst e
    have hnm : ¬ (28 : Int) ∈ P ++ [] := by
      rw [List.append_nil]
      exact fun h => (hP _ h) rfl
    show (match pI (isSg b 59) (Sum.inl (c, b, q')) (Sum.inr (2, tkP b)) with
      | .inr e => e.1 = 9 ∨ Lp nx (0, a, [], C, q) (.inr e)
      | .inl (c, b, q') => Lp nx (0, a, [], C, q) (.inl (C ++ c, b, q')))
    by_cases h59 : isSg b 59
    · rw [pI_t h59]
      apply hl
      refine ⟨1, ?_⟩
      unfold lpS
      rw [pI_t ⟨by show now = 4 ∨ now = 5; omega, h59, hnm⟩]
      show some (Sum.inl (C' ++ cdW (P ++ []), b, q')) = _
      rw [List.append_nil, hC]
    · rw [pI_f h59]
      right
      apply hl
      refine Lp_err (fun h => h59 h.2.1) ?_
      rw [stS_sg (by omega)]
      unfold sgS
      rw [pI_f, pI_f (fun h => by omega), pI_f (fun h => hx1 h.2), pI_f (fun h => hx2 h.2), pI_f (fun h => hnm h.2.2), eK_2 hb]
      rintro ⟨h5, h⟩
      rcases hnow with ⟨_, h43, h45⟩ | h'
      · rcases h with h | h
        · exact h43 h
        · exact h45 h
      · exact h5 h'
end SIMUL
