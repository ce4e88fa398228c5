/-! MEMORY IN PARTS: m = (F, L, T): ints, longs, the rest (refs, kinds, cells, slots) -/
section MEM
abbrev PRest : Type := (Nat → Nat → Option Nat) × (Nat → Nat × Nat) × Nat × Nat
abbrev PInt : Type := Nat → Nat → Int32
abbrev PLng : Type := Nat → Nat → Int64
def kT (T : PRest) (a : Nat) : Nat × Nat := T.2.1 a
def rT (T : PRest) (a i : Nat) : Option Nat := T.1 a i
def up (F : PInt) (a i : Nat) (v : Int32) : PInt := fun b j => if b = a ∧ j = i then v else F b j
def upL (F : PLng) (a i : Nat) (v : Int64) : PLng := fun b j => if b = a ∧ j = i then v else F b j
theorem gI_mk (F : PInt) (L : PLng) (T : PRest) (a i : Nat) : gI (F, L, T) a i = F a i := rfl
theorem gL_mk (F : PInt) (L : PLng) (T : PRest) (a i : Nat) : gL (F, L, T) a i = L a i := rfl
theorem gR_mk (F : PInt) (L : PLng) (T : PRest) (a i : Nat) : gR (F, L, T) a i = rT T a i := rfl
theorem gK_mk (F : PInt) (L : PLng) (T : PRest) (a : Nat) : gK (F, L, T) a = kT T a := rfl
theorem sI_mk (F : PInt) (L : PLng) (T : PRest) (a i : Nat) (v : Int32) : sI (F, L, T) a i v = (up F a i v, L, T) := rfl
theorem sL_mk (F : PInt) (L : PLng) (T : PRest) (a i : Nat) (v : Int64) : sL (F, L, T) a i v = (F, upL L a i v, T) := rfl
theorem up_at (F : PInt) (a i b j : Nat) (v : Int32) : up F a i v b j = if b = a ∧ j = i then v else F b j := rfl
theorem up_eq (F : PInt) (a i : Nat) (v : Int32) : up F a i v a i = v := by simp [up]
theorem up_up (F : PInt) (a i : Nat) (v w : Int32) : up (up F a i v) a i w = up F a i w := by
  funext b j
  unfold up
  split <;> rfl
theorem upL_at (F : PLng) (a i b j : Nat) (v : Int64) : upL F a i v b j = if b = a ∧ j = i then v else F b j := rfl
/-- an in-bounds index -/
theorem ib_nI {k n : Nat} (h : k < n) (hn : n < 2 ^ 31) : 0 ≤ (nI k).toInt ∧ (nI k).toInt < (n : Int) := by
  rw [nI_toInt (by omega)]
  omega
theorem ib_of {j : Int32} {n : Nat} (h0 : ¬ j < 0) (h1 : j.toInt < n) : 0 ≤ j.toInt ∧ j.toInt < (n : Int) := by
  rw [Int32.lt_iff_toInt_lt] at h0
  have : (0 : Int32).toInt = 0 := rfl
  omega
end MEM
