/-! THE PURE MACHINE: memory, code entries, runs, and the judgement WP over them. -/
section CORE
/-- memory: int, long and reference slots by (address, slot); kinds (0, class) or (1 int, 2 byte, 3 boolean, 4 node arrays; length); cells; slots -/
abbrev PMem : Type := (Nat → Nat → Int32) × (Nat → Nat → Int64) × (Nat → Nat → Option Nat) × (Nat → Nat × Nat) × Nat × Nat
def gI (m : PMem) (a i : Nat) : Int32 := m.1 a i
def gL (m : PMem) (a i : Nat) : Int64 := m.2.1 a i
def gR (m : PMem) (a i : Nat) : Option Nat := m.2.2.1 a i
def gK (m : PMem) (a : Nat) : Nat × Nat := m.2.2.2.1 a
def gN (m : PMem) : Nat := m.2.2.2.2.1
def gZ (m : PMem) : Nat := m.2.2.2.2.2
def sI (m : PMem) (a i : Nat) (v : Int32) : PMem := (fun b j => if b = a ∧ j = i then v else m.1 b j, m.2)
def sL (m : PMem) (a i : Nat) (v : Int64) : PMem := (m.1, fun b j => if b = a ∧ j = i then v else m.2.1 b j, m.2.2)
def sR (m : PMem) (a i : Nat) (v : Option Nat) : PMem := (m.1, m.2.1, fun b j => if b = a ∧ j = i then v else m.2.2.1 b j, m.2.2.2)
/-- a new cell of kind k with z slots -/
def mA (m : PMem) (k : Nat × Nat) (z : Nat) : PMem := (fun b j => if b = gN m then 0 else m.1 b j, fun b j => if b = gN m then 0 else m.2.1 b j, fun b j => if b = gN m then none else m.2.2.1 b j, fun b => if b = gN m then k else m.2.2.2.1 b, gN m + 1, gZ m + z)
/-- an array's ints replaced whole -/
def cI (m : PMem) (a : Nat) (f : Nat → Int32) : PMem := (fun b j => if b = a then f j else m.1 b j, m.2)
theorem gI_sI (m : PMem) (a i b j : Nat) (v : Int32) : gI (sI m a i v) b j = if b = a ∧ j = i then v else gI m b j := rfl
theorem gI_sL (m : PMem) (a i b j : Nat) (v : Int64) : gI (sL m a i v) b j = gI m b j := rfl
theorem gI_sR (m : PMem) (a i b j : Nat) (v : Option Nat) : gI (sR m a i v) b j = gI m b j := rfl
theorem gI_cI (m : PMem) (a b j : Nat) (f : Nat → Int32) : gI (cI m a f) b j = if b = a then f j else gI m b j := rfl
theorem gI_mA (m : PMem) (k : Nat × Nat) (z b j : Nat) : gI (mA m k z) b j = if b = gN m then 0 else gI m b j := rfl
theorem gL_sI (m : PMem) (a i b j : Nat) (v : Int32) : gL (sI m a i v) b j = gL m b j := rfl
theorem gL_sL (m : PMem) (a i b j : Nat) (v : Int64) : gL (sL m a i v) b j = if b = a ∧ j = i then v else gL m b j := rfl
theorem gL_sR (m : PMem) (a i b j : Nat) (v : Option Nat) : gL (sR m a i v) b j = gL m b j := rfl
theorem gL_cI (m : PMem) (a b j : Nat) (f : Nat → Int32) : gL (cI m a f) b j = gL m b j := rfl
theorem gL_mA (m : PMem) (k : Nat × Nat) (z b j : Nat) : gL (mA m k z) b j = if b = gN m then 0 else gL m b j := rfl
theorem gR_sI (m : PMem) (a i b j : Nat) (v : Int32) : gR (sI m a i v) b j = gR m b j := rfl
theorem gR_sL (m : PMem) (a i b j : Nat) (v : Int64) : gR (sL m a i v) b j = gR m b j := rfl
theorem gR_sR (m : PMem) (a i b j : Nat) (v : Option Nat) : gR (sR m a i v) b j = if b = a ∧ j = i then v else gR m b j := rfl
theorem gR_cI (m : PMem) (a b j : Nat) (f : Nat → Int32) : gR (cI m a f) b j = gR m b j := rfl
theorem gR_mA (m : PMem) (k : Nat × Nat) (z b j : Nat) : gR (mA m k z) b j = if b = gN m then none else gR m b j := rfl
theorem gK_sI (m : PMem) (a i b : Nat) (v : Int32) : gK (sI m a i v) b = gK m b := rfl
theorem gK_sL (m : PMem) (a i b : Nat) (v : Int64) : gK (sL m a i v) b = gK m b := rfl
theorem gK_sR (m : PMem) (a i b : Nat) (v : Option Nat) : gK (sR m a i v) b = gK m b := rfl
theorem gK_cI (m : PMem) (a b : Nat) (f : Nat → Int32) : gK (cI m a f) b = gK m b := rfl
theorem gK_mA (m : PMem) (k : Nat × Nat) (z b : Nat) : gK (mA m k z) b = if b = gN m then k else gK m b := rfl
theorem gN_sI (m : PMem) (a i : Nat) (v : Int32) : gN (sI m a i v) = gN m := rfl
theorem gN_sL (m : PMem) (a i : Nat) (v : Int64) : gN (sL m a i v) = gN m := rfl
theorem gN_sR (m : PMem) (a i : Nat) (v : Option Nat) : gN (sR m a i v) = gN m := rfl
theorem gN_cI (m : PMem) (a : Nat) (f : Nat → Int32) : gN (cI m a f) = gN m := rfl
theorem gN_mA (m : PMem) (k : Nat × Nat) (z : Nat) : gN (mA m k z) = gN m + 1 := rfl
theorem gZ_sI (m : PMem) (a i : Nat) (v : Int32) : gZ (sI m a i v) = gZ m := rfl
theorem gZ_sL (m : PMem) (a i : Nat) (v : Int64) : gZ (sL m a i v) = gZ m := rfl
theorem gZ_sR (m : PMem) (a i : Nat) (v : Option Nat) : gZ (sR m a i v) = gZ m := rfl
theorem gZ_cI (m : PMem) (a : Nat) (f : Nat → Int32) : gZ (cI m a f) = gZ m := rfl
theorem gZ_mA (m : PMem) (k : Nat × Nat) (z : Nat) : gZ (mA m k z) = gZ m + z := rfl
abbrev PLoc : Type := List (Option Value)
abbrev POut : Type := (Option Value × PMem) ⊕ (Nat × PMem)
abbrev PSem : Type := PLoc → List Value → PMem → Option (Nat × PLoc × List Value × PMem)
/-- a call: which method (by arguments and memory), how many arguments, the instruction's length -/
abbrev PCall : Type := (List Value → PMem → Option Nat) × Nat × Nat
/-- an entry: a step; a call; an end (0 void, 1 int, 2 boolean value, 3 small value, 4 reference, 5 throw) -/
abbrev PEnt : Type := PSem ⊕ (PCall ⊕ Nat)
/-- the slots that arguments take -/
def slo : List Value → PLoc
  | [] => []
  | v :: vs => if v.category = 2 then some v :: none :: slo vs else some v :: slo vs
def entL (n : Nat) (as : List Value) : PLoc := slo as ++ List.replicate (n - (slo as).length) none
/-- the arguments fit the callee's locals (their number; whether a long may lie there) -/
def okA (q : Nat × Bool) (as : List Value) : Bool := decide ((slo as).length ≤ q.1) && (q.2 || decide ((slo as).length = as.length))
def mOut (o : POut) : PMem := match o with
  | .inl x => x.2
  | .inr x => x.2
variable (C : Nat → Nat → Option PEnt) (ml : Nat → Nat × Bool) (hd : Nat → Nat → Option Nat)
/-- an exception at pc of M: into the handler, or out -/
def thr (K : Nat → List Value → PMem → Option POut) (M pc a : Nat) (m : PMem) : Option POut := match hd M pc with
  | none => some (.inr (a, m))
  | some h => if gK m a = (0, 5) then K h [.ref a] m else none
def go : Nat → Nat → Nat → Nat → PLoc → List Value → PMem → Option POut
  | 0, _, _, _, _, _, _ => none
  | n + 1, d, M, pc, ls, st, m => match C M pc with
    | none => none
    | some (.inl f) => match f ls st m with
      | none => none
      | some (pc', ls', st', m') => go n d M pc' ls' st' m'
    | some (.inr (.inl (k, na, len))) => match k (st.take na).reverse m, d with
      | some y, d' + 1 => if 4 < (st.drop na).length ∨ ¬ okA (ml y) (st.take na).reverse = true ∨ st.length < na then none else
        match go n d' y 0 (entL (ml y).1 (st.take na).reverse) [] m with
        | none => none
        | some (.inl (v, m')) => go n (d' + 1) M (pc + len) ls (v.toList ++ st.drop na) m'
        | some (.inr (a, m')) => thr hd (fun h st' m'' => go n (d' + 1) M h ls st' m'') M pc a m'
      | _, _ => none
    | some (.inr (.inr 0)) => match st with
      | [] => some (.inl (none, m))
      | _ => none
    | some (.inr (.inr 1)) => match st with
      | [.int v] => some (.inl (some (.int v), m))
      | _ => none
    | some (.inr (.inr 2)) => match st with
      | [.int v] => if v = 0 ∨ v = 1 then some (.inl (some (.int v), m)) else none
      | _ => none
    | some (.inr (.inr 3)) => match st with
      | [.int v] => if (0 : Int32) ≤ v ∧ v ≤ 127 then some (.inl (some (.int v), m)) else none
      | _ => none
    | some (.inr (.inr 4)) => match st with
      | [.ref v] => some (.inl (some (.ref v), m))
      | _ => none
    | some (.inr (.inr _)) => match st with
      | .ref a :: _ => thr hd (fun h st' m'' => go n d M h ls st' m'') M pc a m
      | _ => none
theorem go_mono : ∀ (n n' d M pc : Nat) (ls : PLoc) (st : List Value) (m : PMem) (o : POut), n ≤ n' → go C ml hd n d M pc ls st m = some o → go C ml hd n' d M pc ls st m = some o := by
  intro n
  induction n with
  | zero => intro n' d M pc ls st m o _ h; simp [go] at h
  | succ n ih =>
    intro n' d M pc ls st m o hn h
    obtain ⟨k, rfl⟩ : ∃ k, n' = k + 1 := ⟨n' - 1, by omega⟩
    have hk : n ≤ k := by omega
    have hthr : ∀ (d0 a : Nat) (m0 : PMem), thr hd (fun h st' m'' => go C ml hd n d0 M h ls st' m'') M pc a m0 = some o → thr hd (fun h st' m'' => go C ml hd k d0 M h ls st' m'') M pc a m0 = some o := by
      intro d0 a m0 h1
      unfold thr at h1 ⊢
      cases hh : hd M pc with
      | none => rw [hh] at h1; exact h1
      | some q =>
        rw [hh] at h1
        by_cases h5 : gK m0 a = (0, 5)
        · simp only [if_pos h5] at h1 ⊢
          exact ih _ _ _ _ _ _ _ _ hk h1
        · simp only [if_neg h5] at h1
          cases h1
    unfold go at h ⊢
    cases hc : C M pc with
    | none => rw [hc] at h; exact h
    | some x =>
      rw [hc] at h
      match x, h with
      | .inl f, h =>
        cases hf : f ls st m with
        | none => simp [hf] at h
        | some r =>
          obtain ⟨pc', ls', st', m'⟩ := r
          simp only [hf] at h ⊢
          exact ih _ _ _ _ _ _ _ _ hk h
      | .inr (.inl (kk, na, len)), h =>
        cases hy : kk (st.take na).reverse m with
        | none => simp [hy] at h
        | some y =>
          cases d with
          | zero => simp [hy] at h
          | succ d' =>
            simp only [hy] at h ⊢
            by_cases h4 : 4 < (st.drop na).length ∨ ¬ okA (ml y) (st.take na).reverse = true ∨ st.length < na
            · rw [if_pos h4] at h; exact absurd h (by simp)
            · rw [if_neg h4] at h ⊢
              cases hr : go C ml hd n d' y 0 (entL (ml y).1 (st.take na).reverse) [] m with
              | none => rw [hr] at h; exact absurd h (by simp)
              | some r =>
                rw [ih _ _ _ _ _ _ _ _ hk hr]
                rw [hr] at h
                match r, h with
                | .inl (v, m'), h => exact ih _ _ _ _ _ _ _ _ hk h
                | .inr (a, m'), h => exact hthr _ _ _ h
      | .inr (.inr 0), h => exact h
      | .inr (.inr 1), h => exact h
      | .inr (.inr 2), h => exact h
      | .inr (.inr 3), h => exact h
      | .inr (.inr 4), h => exact h
      | .inr (.inr (j + 5)), h =>
        match st, h with
        | .ref a :: r, h => exact hthr _ _ _ h
def WPg (d M pc : Nat) (ls : PLoc) (st : List Value) (m : PMem) (Q : POut → Prop) : Prop := ∃ n o, go C ml hd n d M pc ls st m = some o ∧ Q o
def WCg (d y : Nat) (as : List Value) (m : PMem) (Q : POut → Prop) : Prop := WPg C ml hd d y 0 (entL (ml y).1 as) [] m Q
/-- what follows an outcome -/
def bO (o : POut) (f : Option Value → PMem → Prop) (g : Nat → PMem → Prop) : Prop := match o with
  | .inl x => f x.1 x.2
  | .inr x => g x.1 x.2
theorem bO_l (v : Option Value) (m : PMem) (f : Option Value → PMem → Prop) (g : Nat → PMem → Prop) : bO (.inl (v, m)) f g = f v m := rfl
theorem bO_r (a : Nat) (m : PMem) (f : Option Value → PMem → Prop) (g : Nat → PMem → Prop) : bO (.inr (a, m)) f g = g a m := rfl
variable {C ml hd}
theorem WPg_mono {d M pc : Nat} {ls : PLoc} {st : List Value} {m : PMem} {Q Q' : POut → Prop} (h : ∀ o, Q o → Q' o) (w : WPg C ml hd d M pc ls st m Q) : WPg C ml hd d M pc ls st m Q' := by
  obtain ⟨n, o, h1, h2⟩ := w
  exact ⟨n, o, h1, h o h2⟩
theorem WCg_mono {d y : Nat} {as : List Value} {m : PMem} {Q Q' : POut → Prop} (h : ∀ o, Q o → Q' o) (w : WCg C ml hd d y as m Q) : WCg C ml hd d y as m Q' := WPg_mono h w
theorem wp_next {d M pc : Nat} {ls : PLoc} {st : List Value} {m : PMem} {Q : POut → Prop} {f : PSem} (hc : C M pc = some (.inl f)) {pc' : Nat} {ls' : PLoc} {st' : List Value} {m' : PMem} (hf : f ls st m = some (pc', ls', st', m')) :
    WPg C ml hd d M pc ls st m Q = WPg C ml hd d M pc' ls' st' m' Q := by
  apply propext
  constructor
  · rintro ⟨n, o, h, hq⟩
    cases n with
    | zero => simp [go] at h
    | succ n =>
      unfold go at h
      simp only [hc, hf] at h
      exact ⟨n, o, h, hq⟩
  · rintro ⟨n, o, h, hq⟩
    refine ⟨n + 1, o, ?_, hq⟩
    unfold go
    simp only [hc, hf]
    exact h
theorem wp_if {d M pc : Nat} {ls : PLoc} {st : List Value} {m : PMem} {Q : POut → Prop} {f : PSem} (hc : C M pc = some (.inl f)) {c : Prop} [Decidable c] {t1 t2 : Nat} {ls' : PLoc} {st' : List Value} {m' : PMem} (hf : f ls st m = some (if c then t1 else t2, ls', st', m')) :
    WPg C ml hd d M pc ls st m Q = if c then WPg C ml hd d M t1 ls' st' m' Q else WPg C ml hd d M t2 ls' st' m' Q := by
  rw [wp_next hc hf]
  by_cases h : c
  · rw [if_pos h, if_pos h]
  · rw [if_neg h, if_neg h]
theorem wp_none {d M pc : Nat} {ls : PLoc} {st : List Value} {m : PMem} {Q : POut → Prop} {f : PSem} (hc : C M pc = some (.inl f)) (hf : f ls st m = none) : WPg C ml hd d M pc ls st m Q = False := by
  apply propext
  refine ⟨?_, fun h => h.elim⟩
  rintro ⟨n, o, h, hq⟩
  cases n with
  | zero => simp [go] at h
  | succ n =>
    unfold go at h
    simp [hc, hf] at h
theorem wp_ask {d M pc : Nat} {ls : PLoc} {st : List Value} {m : PMem} {Q : POut → Prop} {f : PSem} (hc : C M pc = some (.inl f)) {c : Prop} [Decidable c] {pc' : Nat} {ls' : PLoc} {st' : List Value} {m' : PMem} (hf : f ls st m = if c then some (pc', ls', st', m') else none) :
    WPg C ml hd d M pc ls st m Q = (c ∧ WPg C ml hd d M pc' ls' st' m' Q) := by
  by_cases h : c
  · rw [wp_next hc (hf.trans (if_pos h))]
    simp [h]
  · rw [wp_none hc (hf.trans (if_neg h))]
    simp [h]
theorem wp_call {d M pc : Nat} {ls : PLoc} {as st : List Value} {m : PMem} {Q : POut → Prop} {k : List Value → PMem → Option Nat} {na len y : Nat} (hc : C M pc = some (.inr (.inl (k, na, len)))) (ha : as.length = na) (h4 : ¬ 4 < st.length) (h5 : okA (ml y) as = true) (hk : k as m = some y) :
    WPg C ml hd (d + 1) M pc ls (as.reverse ++ st) m Q = WCg C ml hd d y as m (fun o => bO o (fun v m' => WPg C ml hd (d + 1) M (pc + len) ls (v.toList ++ st) m' Q) (fun a m' => match hd M pc with | none => Q (.inr (a, m')) | some h => gK m' a = (0, 5) ∧ WPg C ml hd (d + 1) M h ls [.ref a] m' Q)) := by
  have e1 : ((as.reverse ++ st).take na).reverse = as := by rw [List.take_left' (by simpa using ha), List.reverse_reverse]
  have e2 : (as.reverse ++ st).drop na = st := List.drop_left' (by simpa using ha)
  have h4 : ¬ (4 < st.length ∨ ¬ okA (ml y) as = true ∨ (as.reverse ++ st).length < na) := by
    rintro (q | q | q)
    · exact h4 q
    · exact q h5
    · rw [List.length_append, List.length_reverse, ha] at q; omega
  apply propext
  constructor
  · rintro ⟨n, o, h, hq⟩
    cases n with
    | zero => simp [go] at h
    | succ n =>
      unfold go at h
      simp only [hc, e1, e2, hk, if_neg h4] at h
      cases hr : go C ml hd n d y 0 (entL (ml y).1 as) [] m with
      | none => rw [hr] at h; exact absurd h (by simp)
      | some r =>
        rw [hr] at h
        refine ⟨n, r, hr, ?_⟩
        match r, h with
        | .inl (v, m'), h => exact ⟨n, o, h, hq⟩
        | .inr (a, m'), h =>
          show bO (.inr (a, m')) _ _
          rw [bO_r]
          have h : thr hd (fun h st' m'' => go C ml hd n (d + 1) M h ls st' m'') M pc a m' = some o := h
          unfold thr at h
          cases hh : hd M pc with
          | none => rw [hh] at h; cases h; exact hq
          | some q =>
            rw [hh] at h
            by_cases h5 : gK m' a = (0, 5)
            · simp only [if_pos h5] at h
              exact ⟨h5, n, o, h, hq⟩
            · simp only [if_neg h5] at h
              cases h
  · rintro ⟨n, r, hr, hq⟩
    match r, hr, hq with
    | .inl (v, m'), hr, hq =>
      have hq : bO (.inl (v, m')) _ _ := hq
      rw [bO_l] at hq
      obtain ⟨n2, o, h2, hq⟩ := hq
      refine ⟨n + n2 + 1, o, ?_, hq⟩
      unfold go
      simp only [hc, e1, e2, hk, if_neg h4]
      rw [go_mono C ml hd n (n + n2) _ _ _ _ _ _ _ (by omega) hr]
      exact go_mono C ml hd n2 (n + n2) _ _ _ _ _ _ _ (by omega) h2
    | .inr (a, m'), hr, hq =>
      have hq : bO (.inr (a, m')) _ _ := hq
      rw [bO_r] at hq
      cases hh : hd M pc with
      | none =>
        rw [hh] at hq
        refine ⟨n + 1, _, ?_, hq⟩
        unfold go
        simp only [hc, e1, e2, hk, if_neg h4]
        rw [hr]
        simp only [thr, hh]
      | some q =>
        rw [hh] at hq
        obtain ⟨h5, n2, o, h2, hq⟩ := hq
        refine ⟨n + n2 + 1, o, ?_, hq⟩
        unfold go
        simp only [hc, e1, e2, hk, if_neg h4]
        rw [go_mono C ml hd n (n + n2) _ _ _ _ _ _ _ (by omega) hr]
        simp only [thr, hh, if_pos h5]
        exact go_mono C ml hd n2 (n + n2) _ _ _ _ _ _ _ (by omega) h2
theorem wp_callK {d M pc : Nat} {ls : PLoc} {as st : List Value} {m : PMem} {Q : POut → Prop} {k : List Value → PMem → Option Nat} {na len y : Nat} {c : Prop} [Decidable c] (hc : C M pc = some (.inr (.inl (k, na, len)))) (ha : as.length = na) (h4 : ¬ 4 < st.length) (h5 : okA (ml y) as = true) (hk : k as m = if c then some y else none) :
    WPg C ml hd (d + 1) M pc ls (as.reverse ++ st) m Q = (c ∧ WCg C ml hd d y as m (fun o => bO o (fun v m' => WPg C ml hd (d + 1) M (pc + len) ls (v.toList ++ st) m' Q) (fun a m' => match hd M pc with | none => Q (.inr (a, m')) | some h => gK m' a = (0, 5) ∧ WPg C ml hd (d + 1) M h ls [.ref a] m' Q))) := by
  by_cases h : c
  · rw [wp_call hc ha h4 h5 (hk.trans (if_pos h))]
    simp [h]
  · have hk : k as m = none := hk.trans (if_neg h)
    have e1 : ((as.reverse ++ st).take na).reverse = as := by rw [List.take_left' (by simpa using ha), List.reverse_reverse]
    apply propext
    refine ⟨?_, fun h' => absurd h'.1 h⟩
    rintro ⟨n, o, h', hq⟩
    cases n with
    | zero => simp [go] at h'
    | succ n =>
      unfold go at h'
      simp [hc, e1, hk] at h'
theorem wp_end {d M pc : Nat} {ls : PLoc} {st : List Value} {m : PMem} {Q : POut → Prop} {k : Nat} (hc : C M pc = some (.inr (.inr k))) {o : POut} (ho : ∀ n, go C ml hd (n + 1) d M pc ls st m = some o) : WPg C ml hd d M pc ls st m Q = Q o := by
  apply propext
  constructor
  · rintro ⟨n, o', h, hq⟩
    cases n with
    | zero => simp [go] at h
    | succ n =>
      rw [ho n] at h
      cases h
      exact hq
  · intro hq
    exact ⟨1, o, ho 0, hq⟩
theorem wp_ret0 {d M pc : Nat} {ls : PLoc} {m : PMem} {Q : POut → Prop} (hc : C M pc = some (.inr (.inr 0))) : WPg C ml hd d M pc ls [] m Q = Q (.inl (none, m)) :=
  wp_end hc fun n => by unfold go; simp only [hc]
theorem wp_ret1 {d M pc : Nat} {ls : PLoc} {v : Int32} {m : PMem} {Q : POut → Prop} (hc : C M pc = some (.inr (.inr 1))) : WPg C ml hd d M pc ls [.int v] m Q = Q (.inl (some (.int v), m)) :=
  wp_end hc fun n => by unfold go; simp only [hc]
theorem wp_ret4 {d M pc : Nat} {ls : PLoc} {v : Nat} {m : PMem} {Q : POut → Prop} (hc : C M pc = some (.inr (.inr 4))) : WPg C ml hd d M pc ls [.ref v] m Q = Q (.inl (some (.ref v), m)) :=
  wp_end hc fun n => by unfold go; simp only [hc]
theorem wp_ret2 {d M pc : Nat} {ls : PLoc} {v : Int32} {m : PMem} {Q : POut → Prop} (hc : C M pc = some (.inr (.inr 2))) : WPg C ml hd d M pc ls [.int v] m Q = ((v = 0 ∨ v = 1) ∧ Q (.inl (some (.int v), m))) := by
  by_cases h : v = 0 ∨ v = 1
  · rw [wp_end hc (o := .inl (some (.int v), m)) fun n => by unfold go; simp only [hc, if_pos h]]
    simp [h]
  · apply propext
    constructor
    · rintro ⟨n, o', h', hq⟩
      cases n with
      | zero => simp [go] at h'
      | succ n =>
        unfold go at h'
        simp only [hc, if_neg h] at h'
        cases h'
    · intro h'
      exact absurd h'.1 h
theorem wp_ret3 {d M pc : Nat} {ls : PLoc} {v : Int32} {m : PMem} {Q : POut → Prop} (hc : C M pc = some (.inr (.inr 3))) : WPg C ml hd d M pc ls [.int v] m Q = (((0 : Int32) ≤ v ∧ v ≤ 127) ∧ Q (.inl (some (.int v), m))) := by
  by_cases h : (0 : Int32) ≤ v ∧ v ≤ 127
  · rw [wp_end hc (o := .inl (some (.int v), m)) fun n => by unfold go; simp only [hc, if_pos h]]
    simp [h]
  · apply propext
    constructor
    · rintro ⟨n, o', h', hq⟩
      cases n with
      | zero => simp [go] at h'
      | succ n =>
        unfold go at h'
        simp only [hc, if_neg h] at h'
        cases h'
    · intro h'
      exact absurd h'.1 h
theorem wp_throw {d M pc : Nat} {ls : PLoc} {a : Nat} {st : List Value} {m : PMem} {Q : POut → Prop} (hc : C M pc = some (.inr (.inr 5))) (hh : hd M pc = none) : WPg C ml hd d M pc ls (.ref a :: st) m Q = Q (.inr (a, m)) :=
  wp_end hc fun n => by unfold go; simp only [hc, thr, hh]
end CORE
