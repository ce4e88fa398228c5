/-! THE STEPS: one function an instruction (n: the next pc, t: a branch's target) -/
section SEMS
def inb (j : Int32) (n : Nat) : Prop := 0 ≤ j.toInt ∧ j.toInt < (n : Int)
theorem inb_iff {j : Int32} {n : Nat} : inb j n ↔ vp_in j n := vp_in_iff.symm
/-- the String constants: ";()<>=+-", grade, worth, when, or, and, not, knots, splits, holes, plugs, run -/
def xs_byt : List (List Int32) := [[59, 40, 41, 60, 62, 61, 43, 45], [103, 114, 97, 100, 101], [119, 111, 114, 116, 104], [119, 104, 101, 110], [111, 114], [97, 110, 100], [110, 111, 116], [107, 110, 111, 116, 115], [115, 112, 108, 105, 116, 115], [104, 111, 108, 101, 115], [112, 108, 117, 103, 115], [114, 117, 110]]
def xs_len : List Nat := [8, 5, 5, 4, 2, 3, 3, 5, 6, 5, 5, 3]
/-- the k-th String constant, and its bytes -/
def xS (k : Nat) : Value := .float (UInt32.ofNat (k + 1))
def xB (k : Nat) : Value := .float (UInt32.ofNat (k + 101))
/-- the script; a reference of which nothing is known -/
def xScr : Value := .float 0
def xAny : Value := .float 999
def e_psh (n : Nat) (v : Value) : PSem := fun ls st m => some (n, ls, v :: st, m)
def e_ldi (n i : Nat) : PSem := fun ls st m => match ls[i]? with
  | some (some (.int v)) => some (n, ls, .int v :: st, m)
  | _ => none
def e_ldl (n i : Nat) : PSem := fun ls st m => match ls[i]? with
  | some (some (.long v)) => some (n, ls, .long v :: st, m)
  | _ => none
def e_lda (n i : Nat) : PSem := fun ls st m => match ls[i]? with
  | some (some (.ref v)) => some (n, ls, .ref v :: st, m)
  | some (some (.float v)) => some (n, ls, .float v :: st, m)
  | _ => none
def e_sti (n i : Nat) : PSem := fun ls st m => match st with
  | .int v :: st' => some (n, ls.set i (some (.int v)), st', m)
  | _ => none
def e_sta (n i : Nat) : PSem := fun ls st m => match st with
  | .ref v :: st' => some (n, ls.set i (some (.ref v)), st', m)
  | _ => none
def e_inc (n i : Nat) (k : Int32) : PSem := fun ls st m => match ls[i]? with
  | some (some (.int v)) => some (n, ls.set i (some (.int (v + k))), st, m)
  | _ => none
def e_bin (n : Nat) (f : Int32 → Int32 → Int32) : PSem := fun ls st m => match st with
  | .int y :: .int x :: st' => some (n, ls, .int (f x y) :: st', m)
  | _ => none
def e_un (n : Nat) (f : Int32 → Int32) : PSem := fun ls st m => match st with
  | .int x :: st' => some (n, ls, .int (f x) :: st', m)
  | _ => none
def e_div (n : Nat) : PSem := fun ls st m => match st with
  | .int y :: .int x :: st' => if ¬ y = 0 then some (n, ls, .int (x / y) :: st', m) else none
  | _ => none
def e_rem (n : Nat) : PSem := fun ls st m => match st with
  | .int y :: .int x :: st' => if ¬ y = 0 then some (n, ls, .int (x - x / y * y) :: st', m) else none
  | _ => none
def e_i2l (n : Nat) : PSem := fun ls st m => match st with
  | .int x :: st' => some (n, ls, .long x.toInt64 :: st', m)
  | _ => none
def e_lshl (n : Nat) : PSem := fun ls st m => match st with
  | .int y :: .long x :: st' => some (n, ls, .long (x <<< (y.toInt64 &&& 63)) :: st', m)
  | _ => none
def e_lor (n : Nat) : PSem := fun ls st m => match st with
  | .long y :: .long x :: st' => some (n, ls, .long (x ||| y) :: st', m)
  | _ => none
def e_lcmp (n : Nat) : PSem := fun ls st m => match st with
  | .long y :: .long x :: st' => some (n, ls, .int (lg_cmp x y) :: st', m)
  | _ => none
def e_dup (n : Nat) : PSem := fun ls st m => match st with
  | .int x :: st' => some (n, ls, .int x :: .int x :: st', m)
  | .ref x :: st' => some (n, ls, .ref x :: .ref x :: st', m)
  | _ => none
def e_pop (n : Nat) : PSem := fun ls st m => match st with
  | .int _ :: st' => some (n, ls, st', m)
  | _ => none
def e_dup2 (n : Nat) : PSem := fun ls st m => match st with
  | .int y :: .ref x :: st' => some (n, ls, .int y :: .ref x :: .int y :: .ref x :: st', m)
  | _ => none
def e_goto (t : Nat) : PSem := fun ls st m => some (t, ls, st, m)
def e_zeq (n t : Nat) : PSem := fun ls st m => match st with
  | .int x :: st' => some (if x = 0 then t else n, ls, st', m)
  | _ => none
def e_zne (n t : Nat) : PSem := fun ls st m => match st with
  | .int x :: st' => some (if ¬ x = 0 then t else n, ls, st', m)
  | _ => none
def e_zlt (n t : Nat) : PSem := fun ls st m => match st with
  | .int x :: st' => some (if x < 0 then t else n, ls, st', m)
  | _ => none
def e_zge (n t : Nat) : PSem := fun ls st m => match st with
  | .int x :: st' => some (if 0 ≤ x then t else n, ls, st', m)
  | _ => none
def e_zgt (n t : Nat) : PSem := fun ls st m => match st with
  | .int x :: st' => some (if 0 < x then t else n, ls, st', m)
  | _ => none
def e_zle (n t : Nat) : PSem := fun ls st m => match st with
  | .int x :: st' => some (if x ≤ 0 then t else n, ls, st', m)
  | _ => none
def e_ieq (n t : Nat) : PSem := fun ls st m => match st with
  | .int y :: .int x :: st' => some (if x = y then t else n, ls, st', m)
  | _ => none
def e_ine (n t : Nat) : PSem := fun ls st m => match st with
  | .int y :: .int x :: st' => some (if ¬ x = y then t else n, ls, st', m)
  | _ => none
def e_ilt (n t : Nat) : PSem := fun ls st m => match st with
  | .int y :: .int x :: st' => some (if x < y then t else n, ls, st', m)
  | _ => none
def e_ige (n t : Nat) : PSem := fun ls st m => match st with
  | .int y :: .int x :: st' => some (if y ≤ x then t else n, ls, st', m)
  | _ => none
def e_igt (n t : Nat) : PSem := fun ls st m => match st with
  | .int y :: .int x :: st' => some (if y < x then t else n, ls, st', m)
  | _ => none
def e_ile (n t : Nat) : PSem := fun ls st m => match st with
  | .int y :: .int x :: st' => some (if x ≤ y then t else n, ls, st', m)
  | _ => none
/-- ifnonnull -/
def e_inn (n t : Nat) : PSem := fun ls st m => match st with
  | .ref _ :: st' => some (t, ls, st', m)
  | .null :: st' => some (n, ls, st', m)
  | _ => none
def e_tsw (f : Int32 → Nat) : PSem := fun ls st m => match st with
  | .int x :: st' => some (f x, ls, st', m)
  | _ => none
def e_gI (n c i : Nat) : PSem := fun ls st m => match st with
  | .ref a :: st' => if gK m a = (0, c) then some (n, ls, .int (gI m a i) :: st', m) else none
  | _ => none
def e_gL (n c i : Nat) : PSem := fun ls st m => match st with
  | .ref a :: st' => if gK m a = (0, c) then some (n, ls, .long (gL m a i) :: st', m) else none
  | _ => none
def e_gR (n c i : Nat) : PSem := fun ls st m => match st with
  | .ref a :: st' => if gK m a = (0, c) then some (n, ls, va_rf (gR m a i) :: st', m) else none
  | _ => none
def e_pI (n c i : Nat) : PSem := fun ls st m => match st with
  | .int v :: .ref a :: st' => if gK m a = (0, c) then some (n, ls, st', sI m a i v) else none
  | _ => none
def e_pZ (n c i : Nat) : PSem := fun ls st m => match st with
  | .int v :: .ref a :: st' => if gK m a = (0, c) ∧ (v = 0 ∨ v = 1) then some (n, ls, st', sI m a i v) else none
  | _ => none
def e_pL (n c i : Nat) : PSem := fun ls st m => match st with
  | .long v :: .ref a :: st' => if gK m a = (0, c) then some (n, ls, st', sL m a i v) else none
  | _ => none
def e_pR (n c i : Nat) : PSem := fun ls st m => match st with
  | .ref b :: .ref a :: st' => if gK m a = (0, c) then some (n, ls, st', sR m a i (some b)) else none
  | _ => none
/-- Two's own fields, of an object of one of its three classes -/
def e_pT (n i : Nat) : PSem := fun ls st m => match st with
  | .ref b :: .ref a :: st' => if gK m a = (0, 9) ∨ gK m a = (0, 10) ∨ gK m a = (0, 11) then some (n, ls, st', sR m a i (some b)) else none
  | _ => none
/-- int, byte, boolean loads of an array of kind k -/
def e_ald (n k : Nat) : PSem := fun ls st m => match st with
  | .int j :: .ref a :: st' => if (gK m a).1 = k ∧ 0 ≤ j.toInt ∧ j.toInt < ((gK m a).2 : Int) then some (n, ls, .int (gI m a j.toNatClampNeg) :: st', m) else none
  | _ => none
def e_iast (n : Nat) : PSem := fun ls st m => match st with
  | .int v :: .int j :: .ref a :: st' => if (gK m a).1 = 1 ∧ 0 ≤ j.toInt ∧ j.toInt < ((gK m a).2 : Int) then some (n, ls, st', sI m a j.toNatClampNeg v) else none
  | _ => none
def e_bast (n : Nat) : PSem := fun ls st m => match st with
  | .int v :: .int j :: .ref a :: st' => if (gK m a).1 = 2 ∧ 0 ≤ j.toInt ∧ j.toInt < ((gK m a).2 : Int) then some (n, ls, st', sI m a j.toNatClampNeg v.toInt8.toInt32) else none
  | _ => none
def e_zast (n : Nat) : PSem := fun ls st m => match st with
  | .int v :: .int j :: .ref a :: st' => if (gK m a).1 = 3 ∧ (0 ≤ j.toInt ∧ j.toInt < ((gK m a).2 : Int)) ∧ (v = 0 ∨ v = 1) then some (n, ls, st', sI m a j.toNatClampNeg v) else none
  | _ => none
def e_aald (n : Nat) : PSem := fun ls st m => match st with
  | .int j :: .ref a :: st' => if (gK m a).1 = 4 ∧ 0 ≤ j.toInt ∧ j.toInt < ((gK m a).2 : Int) then some (n, ls, va_rf (gR m a j.toNatClampNeg) :: st', m) else none
  | _ => none
def e_aast (n : Nat) : PSem := fun ls st m => match st with
  | .ref b :: .int j :: .ref a :: st' => if ((gK m a).1 = 4 ∧ 0 ≤ j.toInt ∧ j.toInt < ((gK m a).2 : Int)) ∧ (gK m b).1 = 0 ∧ 6 ≤ (gK m b).2 ∧ (gK m b).2 ≤ 11 then some (n, ls, st', sR m a j.toNatClampNeg (some b)) else none
  | _ => none
def e_new (n c z : Nat) : PSem := fun ls st m => some (n, ls, .ref (gN m) :: st, mA m (0, c) z)
def e_newa (n k : Nat) : PSem := fun ls st m => match st with
  | .int x :: st' => if 0 ≤ x.toInt ∧ x.toInt ≤ 10000 then some (n, ls, .ref (gN m) :: st', mA m (k, x.toNatClampNeg) x.toNatClampNeg) else none
  | _ => none
/-- Object.<init>; Exception.<init> of a Wrong -/
def e_oin (n : Nat) : PSem := fun ls st m => match st with
  | .ref _ :: st' => if 4 < st'.length then none else some (n, ls, st', m)
  | _ => none
def e_exc (n : Nat) : PSem := fun ls st m => match st with
  | .ref a :: st' => if 4 < st'.length then none else if gK m a = (0, 5) ∧ gR m a 2 = none then some (n, ls, st', m) else none
  | _ => none
/-- System.arraycopy of bytes -/
def e_acp (n : Nat) : PSem := fun ls st m => match st with
  | .int c :: .int dp :: .ref b :: .int sp :: .ref a :: st' => if 4 < st'.length then none else if ((gK m a).1 = 2 ∧ (gK m b).1 = 2 ∧ a ≠ b) ∧ (0 ≤ sp.toInt ∧ 0 ≤ dp.toInt ∧ 0 ≤ c.toInt ∧ sp.toNatClampNeg + c.toNatClampNeg ≤ (gK m a).2 ∧ dp.toNatClampNeg + c.toNatClampNeg ≤ (gK m b).2) ∧ (∀ i, i < c.toNatClampNeg → (gI m a (sp.toNatClampNeg + i)).toInt8.toInt32 = gI m a (sp.toNatClampNeg + i)) then some (n, ls, st', cI m b (va_cpy (gI m a) (gI m b) sp.toNatClampNeg dp.toNatClampNeg c.toNatClampNeg)) else none
  | _ => none
/-- the script -/
def e_slen (n L : Nat) : PSem := fun ls st m => match st with
  | .float x :: st' => if x = 0 then some (n, ls, .int (nI L) :: st', m) else none
  | _ => none
def e_sld (n L : Nat) (xs : Nat → Int32) : PSem := fun ls st m => match st with
  | .int j :: .float x :: st' => if x = 0 ∧ 0 ≤ j.toInt ∧ j.toInt < (L : Int) then some (n, ls, .int (xs j.toNatClampNeg) :: st', m) else none
  | _ => none
/-- a String's fields; its bytes -/
def e_sval (n : Nat) : PSem := fun ls st m => match st with
  | .float x :: st' => if 1 ≤ x.toNat ∧ x.toNat ≤ 12 then some (n, ls, xB (x.toNat - 1) :: st', m) else none
  | _ => none
def e_scod (n : Nat) : PSem := fun ls st m => match st with
  | .float x :: st' => if 1 ≤ x.toNat ∧ x.toNat ≤ 12 then some (n, ls, .int 0 :: st', m) else none
  | _ => none
def e_xlen (n : Nat) : PSem := fun ls st m => match st with
  | .float x :: st' => if 101 ≤ x.toNat ∧ x.toNat ≤ 112 then some (n, ls, .int (nI (xs_len.getD (x.toNat - 101) 0)) :: st', m) else none
  | _ => none
def e_xld (n : Nat) : PSem := fun ls st m => match st with
  | .int j :: .float x :: st' => if (101 ≤ x.toNat ∧ x.toNat ≤ 112) ∧ 0 ≤ j.toInt ∧ j.toInt < ((xs_len.getD (x.toNat - 101) 0 : Nat) : Int) then some (n, ls, .int ((xs_byt.getD (x.toNat - 101) []).getD j.toNatClampNeg 0) :: st', m) else none
  | _ => none
/-- nodes of a tree of kinds of code -/
abbrev tL (k : Nat) (e : PEnt) : Nat → Option PEnt := fun pc => bif Nat.beq pc k then some e else none
abbrev tN (k : Nat) (a b : Nat → Option PEnt) : Nat → Option PEnt := fun pc => bif Nat.blt pc k then a pc else b pc
theorem tL_ok {S : Nat → PEnt → Prop} {k : Nat} {e : PEnt} (h : S k e) : ∀ pc x, tL k e pc = some x → S pc x := by
  intro pc x hx
  unfold tL at hx
  cases hb : Nat.beq pc k with
  | false => simp [hb] at hx
  | true =>
    rw [hb] at hx
    have e1 := Nat.eq_of_beq_eq_true hb
    subst e1
    cases hx
    exact h
theorem tN_ok {S : Nat → PEnt → Prop} {k : Nat} {a b : Nat → Option PEnt} (h1 : ∀ pc x, a pc = some x → S pc x) (h2 : ∀ pc x, b pc = some x → S pc x) : ∀ pc x, tN k a b pc = some x → S pc x := by
  intro pc x hx
  unfold tN at hx
  cases hb : Nat.blt pc k with
  | false => rw [hb] at hx; exact h2 pc x hx
  | true => rw [hb] at hx; exact h1 pc x hx
end SEMS
