/-! WHAT IS LEFT ALONE -/
section FRAME
def Fr (W : Nat → Nat → Prop) (F F' : PInt) : Prop := ∀ b i, ¬ W b i → F' b i = F b i
theorem Fr_refl {W : Nat → Nat → Prop} {F : PInt} : Fr W F F := fun _ _ _ => rfl
theorem Fr_tr {W : Nat → Nat → Prop} {F F' F'' : PInt} (h : Fr W F F') (h' : Fr W F' F'') : Fr W F F'' := fun b i hw => (h' b i hw).trans (h b i hw)
theorem Fr_w {W W' : Nat → Nat → Prop} {F F' : PInt} (hw : ∀ b i, W b i → W' b i) (h : Fr W F F') : Fr W' F F' := fun b i q => h b i fun p => q (hw b i p)
theorem Fr_up {W : Nat → Nat → Prop} {F F' : PInt} {a j : Nat} {v : Int32} (h : Fr W F F') (hw : W a j) : Fr W F (up F' a j v) := by
  intro b i q
  rw [up_at, if_neg, h b i q]
  rintro ⟨rfl, rfl⟩
  exact q hw
theorem Fr_up0 {W : Nat → Nat → Prop} {F F' : PInt} {a j : Nat} {v : Int32} (hw : W a j) (h : Fr W (up F a j v) F') : Fr W F F' := Fr_tr (Fr_up Fr_refl hw) h
theorem up_ne {F : PInt} {a i b j : Nat} {v : Int32} (h : ¬ (b = a ∧ j = i)) : up F a i v b j = F b j := by rw [up_at, if_neg h]
theorem up_ca {F : PInt} {a i b : Nat} {v : Int32} (h : b ≠ a) : up F a i v b = F b := by
  funext j
  exact up_ne (fun q => h q.1)
end FRAME
