/-! SOUNDNESS: old cells: String constants, statics, the script -/
section SNDX
set_option maxRecDepth 100000
variable {E : GG → Nat × (Nat → Int32) → State → Prop} {S : Nat × (Nat → Int32)} {I : MI} {pc n t : Nat}
/-- the i-th String constant as the heap has it -/
def StrX (G : GG) (i : Nat) (s : State) : Prop := ∃ aK aV : Nat, gX G (UInt32.ofNat (i + 1)) = .ref aK ∧ gX G (UInt32.ofNat (i + 101)) = .ref aV ∧ va_O "java/lang/String" aK (AX G) s s.heap ∧ va_OF "java/lang/String" "coder" "B" (.int 0) aK (AX G) s s.heap ∧ va_OF "java/lang/String" "value" "[B" (.ref aV) aK (AX G) s s.heap ∧ va_T .byte aV (xs_len.getD i 0) (fun j => .int ((xs_byt.getD i []).getD j 0)) (AX G) s s.heap
theorem sn_ldcS {x : UInt32} {idx : Nat} {tx : String} (hd : decode I.2.1 pc = .ok (.ldc idx, 2)) (hn : pc + 2 = n) (hq : ∀ G s, E G S s → ∃ a, gX G x = .ref a ∧ vk_R I.1.cls idx tx a s) : SndN E S I pc (e_psh n (.float x)) := by
  constructor
  · intro ls st m pc' ls' st' m' h
    cases h
    exact ⟨Nat.le_refl _, Nat.le_refl _⟩
  · intro G z0 p l e R s mm args below meth c H locs cells slots Q lsC ls st m pc' ls' st' m' C h hH hL hr hs k
    cases h
    subst hn
    obtain ⟨a, h1, h2⟩ := hq G s C.2.2.2.2.2.2.2.1
    have k1 := k _ _ _ _ _ hH hL
    rw [List.map_cons] at k1
    dsimp only [cvv] at k1
    rw [h1] at k1
    exact va_ldcS C.1 C.2.1 C.2.2.2.1 h2 hd k1
theorem sn_gets {v : Value} {idx : Nat} {Cn nm ds ref : String} (hd : decode I.2.1 pc = .ok (.getstatic idx, 3)) (hn : pc + 3 = n) (hq : ∀ G s, E G S s → va_Z Cn nm ds (cvv G v) (AX G) s s.heap) (hl : Cond.fieldLink I.1.cls idx ref nm ds ∈ lw_all) (hs : SmF ref Cn nm ds) : SndN E S I pc (e_psh n v) := by
  constructor
  · intro ls st m pc' ls' st' m' h
    cases h
    exact ⟨Nat.le_refl _, Nat.le_refl _⟩
  · intro G z0 p l e R s mm args below meth c H locs cells slots Q lsC ls st m pc' ls' st' m' C h hH hL hr hs2 k
    cases h
    subst hn
    exact va_gets C.1 C.2.1 (hq G s C.2.2.2.2.2.2.2.1) hH.2.1 C.2.2.2.1 (C.2.2.2.2.1 _ hl) (hs.ok C.2.2.2.2.1) hd (k _ _ _ _ _ hH hL)
theorem u32_of (x : UInt32) {k : Nat} (h : x.toNat = k) : x = UInt32.ofNat k := by
  subst h
  simp
theorem sn_sval {idx : Nat} {ref : String} (hd : decode I.2.1 pc = .ok (.getfield idx, 3)) (hn : pc + 3 = n) (hq : ∀ G s, E G S s → ∀ i, i < 12 → StrX G i s) (hl : Cond.fieldLink I.1.cls idx ref "value" "[B" ∈ lw_all) (hs : SmF ref "java/lang/String" "value" "[B") : SndN E S I pc (e_sval n) := by
  constructor
  · intro ls st m pc' ls' st' m' h
    dsimp only [e_sval] at h
    split at h
    · split at h <;> cases h
      exact ⟨Nat.le_refl _, Nat.le_refl _⟩
    · cases h
  · intro G z0 p l e R s mm args below meth c H locs cells slots Q lsC ls st m pc' ls' st' m' C h hH hL hr hs2 k
    dsimp only [e_sval] at h
    split at h
    · rename_i x st2
      split at h
      · rename_i hx
        cases h
        subst hn
        obtain ⟨aK, aV, h1, h2, h3, h4, h5, h6⟩ := hq G s C.2.2.2.2.2.2.2.1 (x.toNat - 1) (by omega)
        rw [← u32_of x (by omega)] at h1
        have k1 := k _ _ _ _ _ hH hL
        rw [List.map_cons] at k1
        dsimp only [cvv, xB] at k1
        rw [h2] at k1
        rw [List.map_cons]
        dsimp only [cvv]
        rw [h1]
        exact vk_getf C.1 C.2.1 h5 hH.2.1 C.2.2.2.1 (C.2.2.2.2.1 _ hl) (hs.ok C.2.2.2.2.1) hd k1
      · cases h
    · cases h
theorem sn_scod {idx : Nat} {ref : String} (hd : decode I.2.1 pc = .ok (.getfield idx, 3)) (hn : pc + 3 = n) (hq : ∀ G s, E G S s → ∀ i, i < 12 → StrX G i s) (hl : Cond.fieldLink I.1.cls idx ref "coder" "B" ∈ lw_all) (hs : SmF ref "java/lang/String" "coder" "B") : SndN E S I pc (e_scod n) := by
  constructor
  · intro ls st m pc' ls' st' m' h
    dsimp only [e_scod] at h
    split at h
    · split at h <;> cases h
      exact ⟨Nat.le_refl _, Nat.le_refl _⟩
    · cases h
  · intro G z0 p l e R s mm args below meth c H locs cells slots Q lsC ls st m pc' ls' st' m' C h hH hL hr hs2 k
    dsimp only [e_scod] at h
    split at h
    · rename_i x st2
      split at h
      · rename_i hx
        cases h
        subst hn
        obtain ⟨aK, aV, h1, h2, h3, h4, h5, h6⟩ := hq G s C.2.2.2.2.2.2.2.1 (x.toNat - 1) (by omega)
        rw [← u32_of x (by omega)] at h1
        have k1 := k _ _ _ _ _ hH hL
        rw [List.map_cons] at k1
        rw [List.map_cons]
        dsimp only [cvv] at k1 ⊢
        rw [h1]
        exact vk_getf C.1 C.2.1 h4 hH.2.1 C.2.2.2.1 (C.2.2.2.2.1 _ hl) (hs.ok C.2.2.2.2.1) hd k1
      · cases h
    · cases h
theorem sn_xlen (hd : decode I.2.1 pc = .ok (.arraylength, 1)) (hn : pc + 1 = n) (hq : ∀ G s, E G S s → ∀ i, i < 12 → StrX G i s) : SndN E S I pc (e_xlen n) := by
  constructor
  · intro ls st m pc' ls' st' m' h
    dsimp only [e_xlen] at h
    split at h
    · split at h <;> cases h
      exact ⟨Nat.le_refl _, Nat.le_refl _⟩
    · cases h
  · intro G z0 p l e R s mm args below meth c H locs cells slots Q lsC ls st m pc' ls' st' m' C h hH hL hr hs2 k
    dsimp only [e_xlen] at h
    split at h
    · rename_i x st2
      split at h
      · rename_i hx
        cases h
        subst hn
        obtain ⟨aK, aV, h1, h2, h3, h4, h5, h6⟩ := hq G s C.2.2.2.2.2.2.2.1 (x.toNat - 101) (by omega)
        rw [← u32_of x (by omega)] at h2
        have k1 := k _ _ _ _ _ hH hL
        rw [List.map_cons] at k1
        rw [List.map_cons]
        dsimp only [cvv] at k1 ⊢
        rw [h2]
        exact va_tlen C.1 C.2.1 h6 hH.2.1 rfl hd k1
      · cases h
    · cases h
theorem sn_xld (hd : decode I.2.1 pc = .ok (.baload, 1)) (hn : pc + 1 = n) (hq : ∀ G s, E G S s → ∀ i, i < 12 → StrX G i s) : SndN E S I pc (e_xld n) := by
  constructor
  · intro ls st m pc' ls' st' m' h
    dsimp only [e_xld] at h
    split at h
    · split at h <;> cases h
      exact ⟨Nat.le_refl _, Nat.le_refl _⟩
    · cases h
  · intro G z0 p l e R s mm args below meth c H locs cells slots Q lsC ls st m pc' ls' st' m' C h hH hL hr hs2 k
    dsimp only [e_xld] at h
    split at h
    · rename_i j x st2
      split at h
      · rename_i hx
        cases h
        subst hn
        obtain ⟨aK, aV, h1, h2, h3, h4, h5, h6⟩ := hq G s C.2.2.2.2.2.2.2.1 (x.toNat - 101) (by omega)
        rw [← u32_of x (by omega)] at h2
        have k1 := k _ _ _ _ _ hH hL
        rw [List.map_cons] at k1
        rw [List.map_cons, List.map_cons]
        dsimp only [cvv] at k1 ⊢
        rw [h2]
        exact va_tb C.1 C.2.1 h6 hH.2.1 (vp_in_iff.mpr hx.2) rfl hd k1
      · cases h
    · cases h
/-- the script as the heap has it -/
def ScrX (G : GG) (S : Nat × (Nat → Int32)) (s : State) : Prop := ∃ b, gX G 0 = .ref b ∧ va_X b S.1 S.2 s s.heap ∧ b < s.heap.size ∧ ¬ AX G b
theorem sn_slen (hd : decode I.2.1 pc = .ok (.arraylength, 1)) (hn : pc + 1 = n) (hq : ∀ G s, E G S s → ScrX G S s) : SndN E S I pc (e_slen n S.1) := by
  constructor
  · intro ls st m pc' ls' st' m' h
    dsimp only [e_slen] at h
    split at h
    · split at h <;> cases h
      exact ⟨Nat.le_refl _, Nat.le_refl _⟩
    · cases h
  · intro G z0 p l e R s mm args below meth c H locs cells slots Q lsC ls st m pc' ls' st' m' C h hH hL hr hs2 k
    dsimp only [e_slen] at h
    split at h
    · rename_i x st2
      split at h
      · rename_i hx
        cases h
        subst hn
        subst hx
        obtain ⟨b, h1, h2, h3, h4⟩ := hq G s C.2.2.2.2.2.2.2.1
        have k1 := k _ _ _ _ _ hH hL
        rw [List.map_cons] at k1
        rw [List.map_cons]
        dsimp only [cvv] at k1 ⊢
        rw [h1]
        exact va_slen C.1 C.2.1 h2 h3 h4 hH.2.1 hd k1
      · cases h
    · cases h
theorem sn_sld (hd : decode I.2.1 pc = .ok (.iaload, 1)) (hn : pc + 1 = n) (hq : ∀ G s, E G S s → ScrX G S s) : SndN E S I pc (e_sld n S.1 S.2) := by
  constructor
  · intro ls st m pc' ls' st' m' h
    dsimp only [e_sld] at h
    split at h
    · split at h <;> cases h
      exact ⟨Nat.le_refl _, Nat.le_refl _⟩
    · cases h
  · intro G z0 p l e R s mm args below meth c H locs cells slots Q lsC ls st m pc' ls' st' m' C h hH hL hr hs2 k
    dsimp only [e_sld] at h
    split at h
    · rename_i j x st2
      split at h
      · rename_i hx
        cases h
        subst hn
        obtain ⟨hx0, hx1⟩ := hx
        subst hx0
        obtain ⟨b, h1, h2, h3, h4⟩ := hq G s C.2.2.2.2.2.2.2.1
        have k1 := k _ _ _ _ _ hH hL
        rw [List.map_cons] at k1
        rw [List.map_cons, List.map_cons]
        dsimp only [cvv] at k1 ⊢
        rw [h1]
        exact va_sld C.1 C.2.1 h2 h3 h4 hH.2.1 (vp_in_iff.mpr hx1) hd k1
      · cases h
    · cases h
end SNDX
