/-! THE ABSTRACT PARSER: tokens, descent, the row of waiting signs -/
section PARSE
/-- a token: kind (0 end, 1 word, 2 number, 3 sign, 4 bad), value, word, place, end -/
abbrev Tk : Type := Int × Int × List Int × Nat × Nat
abbrev Cd : Type := List (Int × Int)
abbrev Rs : Type := (Cd × Tk × Nat) ⊕ (Int × Nat)
def tkK (a : Tk) : Int := a.1
def tkV (a : Tk) : Int := a.2.1
def tkW (a : Tk) : List Int := a.2.2.1
def tkP (a : Tk) : Nat := a.2.2.2.1
def tkE (a : Tk) : Nat := a.2.2.2.2
def isSg (a : Tk) (c : Int) : Prop := tkK a = 3 ∧ tkV a = c
def isWd (a : Tk) (w : List Int) : Prop := tkK a = 1 ∧ tkW a = w
abbrev wGrade : List Int := [103, 114, 97, 100, 101]
abbrev wWorth : List Int := [119, 111, 114, 116, 104]
abbrev wWhen : List Int := [119, 104, 101, 110]
abbrev wOr : List Int := [111, 114]
abbrev wAnd : List Int := [97, 110, 100]
abbrev wNot : List Int := [110, 111, 116]
abbrev wKnots : List Int := [107, 110, 111, 116, 115]
abbrev wSplits : List Int := [115, 112, 108, 105, 116, 115]
abbrev wHoles : List Int := [104, 111, 108, 101, 115]
abbrev wPlugs : List Int := [112, 108, 117, 103, 115]
abbrev wRun : List Int := [114, 117, 110]
/-- choice by a proposition -/
noncomputable def pI {α : Type} (p : Prop) (x y : α) : α := @ite α p (Classical.propDecidable p) x y
theorem pI_t {α : Type} {p : Prop} {x y : α} (h : p) : pI p x y = x := if_pos h
theorem pI_f {α : Type} {p : Prop} {x y : α} (h : ¬ p) : pI p x y = y := if_neg h
noncomputable def cntS (a : Tk) : Int := pI (isWd a wKnots) 0 (pI (isWd a wSplits) 1 (pI (isWd a wHoles) 2 (pI (isWd a wPlugs) 3 (pI (isWd a wRun) 4 (-1)))))
variable (nx : Nat → Tk) (N : Nat)
/-- behind a token: the next, or what is wrong with it -/
noncomputable def ntS (a : Tk) (k : Tk → Rs) : Rs := pI (tkK (nx (tkE a)) = 4) (.inr (1, tkP (nx (tkE a)))) (k (nx (tkE a)))
def bS (r : Rs) (k : Cd → Tk → Nat → Rs) : Rs := match r with
  | .inr e => .inr e
  | .inl (c, a, q) => k c a q
noncomputable def termS (a : Tk) (q : Nat) : Rs :=
  pI ((tkK a ≠ 2 ∧ cntS a < 0) ∨ q = 60) (.inr (2, tkP a)) (ntS nx a fun b => .inl ([pI (cntS a < 0) (0, tkV a) (10 + cntS a, 0)], b, q + 1))
noncomputable def sumL : Nat → Cd → Tk → Nat → Rs
  | 0, _, _, _ => .inr (9, 0)
  | f + 1, c, a, q => pI (isSg a 43 ∨ isSg a 45) (ntS nx a fun b => bS (termS nx b q) fun c' a' q' => sumL f (c ++ c' ++ [(pI (isSg a 43) 26 27, 0)]) a' q') (.inl (c, a, q))
noncomputable def sumS (a : Tk) (q : Nat) : Rs := bS (termS nx a q) fun c b q' => sumL nx N c b q'
noncomputable def cmpS (a : Tk) (q : Nat) : Rs := bS (sumS nx N a q) fun c b q' =>
  pI (isSg b 60 ∨ isSg b 62 ∨ isSg b 61) (ntS nx b fun b' => bS (sumS nx N b' q') fun c' b'' q'' => .inl (c ++ c' ++ [(pI (isSg b 61) 23 (pI (isSg b 60) 24 25), 0)], b'', q'')) (.inr (2, tkP b))
noncomputable def joinL (sub : Tk → Nat → Rs) (w : List Int) (op : Int) : Nat → Cd → Tk → Nat → Rs
  | 0, _, _, _ => .inr (9, 0)
  | f + 1, c, a, q => pI (isWd a w) (ntS nx a fun b => bS (sub b q) fun c' a' q' => joinL sub w op f (c ++ c' ++ [(op, 0)]) a' q') (.inl (c, a, q))
noncomputable def joinS (sub : Tk → Nat → Rs) (w : List Int) (op : Int) (a : Tk) (q : Nat) : Rs := bS (sub a q) fun c b q' => joinL nx sub w op N c b q'
noncomputable def oneB (one e : Tk → Nat → Rs) (a : Tk) (q : Nat) : Rs :=
  pI (isWd a wNot) (ntS nx a fun b => bS (one b q) fun c a' q' => .inl (c ++ [(20, 0)], a', q'))
  (pI (isSg a 40) (ntS nx a fun b => bS (e b q) fun c a' q' => pI (isSg a' 41) (ntS nx a' fun b' => .inl (c, b', q')) (.inr (2, tkP a'))) (cmpS nx N a q))
noncomputable def oneS : Nat → Tk → Nat → Rs
  | 0 => oneB nx N (fun b _ => .inr (2, tkP b)) (fun b _ => .inr (2, tkP b))
  | k + 1 => oneB nx N (oneS k) (joinS nx N (joinS nx N (oneS k) wAnd 22) wOr 21)
noncomputable def bothS (k : Nat) : Tk → Nat → Rs := joinS nx N (oneS nx N k) wAnd 22
noncomputable def eS (k : Nat) : Tk → Nat → Rs := joinS nx N (bothS nx N k) wOr 21
/-- the row of waiting signs -/
abbrev AS : Type := Int × Tk × List Int × Cd × Nat
def cdW (P : List Int) : Cd := P.map fun w => (w, 0)
noncomputable def popW (p : Int → Prop) : List Int → Cd → List Int × Cd
  | [], C => ([], C)
  | w :: W, C => pI (p w) (popW p W (C ++ [(w, 0)])) (w :: W, C)
def p26 (w : Int) : Prop := w ≠ 28 ∧ 26 ≤ w
def pAnd (w : Int) : Prop := w ≠ 28 ∧ w ≠ 21
def pOr (w : Int) : Prop := w ≠ 28
def deepS (W : List Int) : Nat := W.countP fun w => w = 28 ∨ w = 20
noncomputable def eK (a : Tk) : Int := pI (tkK a = 4) 1 2
noncomputable def opS (now : Int) (a : Tk) (W : List Int) (C : Cd) (q : Nat) : AS ⊕ (Int × Nat) :=
  pI (¬ ((tkK a = 2 ∨ 0 ≤ cntS a) ∨ (now = 0 ∧ (isSg a 40 ∨ isWd a wNot))) ∨ (now = 0 ∧ 6 ≤ deepS W) ∨ ((tkK a = 2 ∨ 0 ≤ cntS a) ∧ q = 60)) (.inr (eK a, tkP a))
  (pI (tkK a = 2 ∨ 0 ≤ cntS a) (.inl (pI (now = 2) 4 3, nx (tkE a), W, C ++ [pI (cntS a < 0) (0, tkV a) (10 + cntS a, 0)], q + 1))
  (.inl (0, nx (tkE a), (pI (isSg a 40) 28 20) :: W, C, q)))
noncomputable def sgS (now : Int) (a : Tk) (W : List Int) (C : Cd) (q : Nat) : AS ⊕ (Int × Nat) :=
  pI (now ≠ 5 ∧ (isSg a 43 ∨ isSg a 45)) (.inl (pI (now = 3) 1 2, nx (tkE a), pI (isSg a 43) 26 27 :: (popW p26 W C).1, (popW p26 W C).2, q))
  (pI (now = 3 ∧ (isSg a 61 ∨ isSg a 60 ∨ isSg a 62)) (.inl (2, nx (tkE a), pI (isSg a 61) 23 (pI (isSg a 60) 24 25) :: (popW p26 W C).1, (popW p26 W C).2, q))
  (pI (now ≠ 3 ∧ isWd a wAnd) (.inl (0, nx (tkE a), 22 :: (popW pAnd W C).1, (popW pAnd W C).2, q))
  (pI (now ≠ 3 ∧ isWd a wOr) (.inl (0, nx (tkE a), 21 :: (popW pOr W C).1, (popW pOr W C).2, q))
  (pI (now ≠ 3 ∧ isSg a 41 ∧ 28 ∈ W) (.inl (5, nx (tkE a), (popW pOr W C).1.tail, (popW pOr W C).2, q))
  (.inr (eK a, tkP a))))))
noncomputable def stS (s : AS) : AS ⊕ (Int × Nat) := pI (s.1 = 3 ∨ s.1 = 4 ∨ s.1 = 5) (sgS nx s.1 s.2.1 s.2.2.1 s.2.2.2.1 s.2.2.2.2) (opS nx s.1 s.2.1 s.2.2.1 s.2.2.2.1 s.2.2.2.2)
def enS (s : AS) : Prop := (s.1 = 4 ∨ s.1 = 5) ∧ isSg s.2.1 59 ∧ ¬ 28 ∈ s.2.2.1
/-- the row's run: its end, or its fault -/
noncomputable def lpS : Nat → AS → Option Rs
  | 0, _ => none
  | f + 1, s => pI (enS s) (some (.inl (s.2.2.2.1 ++ cdW s.2.2.1, s.2.1, s.2.2.2.2))) (match stS nx s with
    | .inr e => some (.inr e)
    | .inl s' => lpS f s')
def Lp (s : AS) (r : Rs) : Prop := ∃ f, lpS nx f s = some r
end PARSE
