/-! SOUNDNESS, instruction by instruction: constants, locals, arithmetic, branches -/
section SNDO
set_option maxRecDepth 100000
variable {E : GG → Nat × (Nat → Int32) → State → Prop} {S : Nat × (Nat → Int32)} {I : MI} {pc n t : Nat}
theorem sn_isub (hd : decode I.2.1 pc = .ok (.isub, 1)) (hn : pc + 1 = n) : SndN E S I pc (e_bin n (fun x y => x - y)) := sn_bin hd hn (fun a b c k => lv_isub a b c k)
theorem sn_imul (hd : decode I.2.1 pc = .ok (.imul, 1)) (hn : pc + 1 = n) : SndN E S I pc (e_bin n (fun x y => x * y)) := sn_bin hd hn (fun a b c k => lv_imul a b c k)
theorem sn_iand (hd : decode I.2.1 pc = .ok (.iand, 1)) (hn : pc + 1 = n) : SndN E S I pc (e_bin n (fun x y => x &&& y)) := sn_bin hd hn (fun a b c k => lv_iand a b c k)
theorem sn_ior (hd : decode I.2.1 pc = .ok (.ior, 1)) (hn : pc + 1 = n) : SndN E S I pc (e_bin n (fun x y => x ||| y)) := sn_bin hd hn (fun a b c k => lv_ior a b c k)
theorem sn_ixor (hd : decode I.2.1 pc = .ok (.ixor, 1)) (hn : pc + 1 = n) : SndN E S I pc (e_bin n (fun x y => x ^^^ y)) := sn_bin hd hn (fun a b c k => lv_ixor a b c k)
theorem sn_ishl (hd : decode I.2.1 pc = .ok (.ishl, 1)) (hn : pc + 1 = n) : SndN E S I pc (e_bin n (fun x y => x <<< (y &&& 31))) := sn_bin hd hn (fun a b c k => lv_ishl a b c k)
theorem sn_ishr (hd : decode I.2.1 pc = .ok (.ishr, 1)) (hn : pc + 1 = n) : SndN E S I pc (e_bin n (fun x y => x >>> (y &&& 31))) := sn_bin hd hn (fun a b c k => lv_ishr a b c k)
theorem sn_iushr (hd : decode I.2.1 pc = .ok (.iushr, 1)) (hn : pc + 1 = n) : SndN E S I pc (e_bin n (fun x y => (x.toUInt32 >>> (y.toUInt32 &&& Int32.toUInt32 31)).toInt32)) := sn_bin hd hn (fun a b c k => lv_iushr a b c rfl k)
theorem sn_iconst {j : Int} {v : Int32} (hd : decode I.2.1 pc = .ok (.iconst j, 1)) (hn : pc + 1 = n) (hv : Int32.ofInt j = v) : SndN E S I pc (e_psh n (.int v)) := by
  constructor
  · intro ls st m pc' ls' st' m' h
    dsimp only [e_psh] at h
    cases h
    all_goals exact ⟨Nat.le_refl _, Nat.le_refl _⟩
  · intro G z0 p l e R s mm args below meth c H locs cells slots Q lsC ls st m pc' ls' st' m' C h hH hL hc hs k
    dsimp only [e_psh] at h
    subst hn
    cases h
    exact lv_iconst C.1 C.2.1 hd hv (k _ _ _ _ _ hH hL)
theorem sn_bipush {j : Int} {v : Int32} (hd : decode I.2.1 pc = .ok (.bipush j, 2)) (hn : pc + 2 = n) (hv : (Int8.ofInt j).toInt32 = v) : SndN E S I pc (e_psh n (.int v)) := by
  constructor
  · intro ls st m pc' ls' st' m' h
    dsimp only [e_psh] at h
    cases h
    all_goals exact ⟨Nat.le_refl _, Nat.le_refl _⟩
  · intro G z0 p l e R s mm args below meth c H locs cells slots Q lsC ls st m pc' ls' st' m' C h hH hL hc hs k
    dsimp only [e_psh] at h
    subst hn
    cases h
    exact lv_bipush C.1 C.2.1 hd hv (k _ _ _ _ _ hH hL)
theorem sn_sipush {j : Int} {v : Int32} (hd : decode I.2.1 pc = .ok (.sipush j, 3)) (hn : pc + 3 = n) (hv : (Int16.ofInt j).toInt32 = v) : SndN E S I pc (e_psh n (.int v)) := by
  constructor
  · intro ls st m pc' ls' st' m' h
    dsimp only [e_psh] at h
    cases h
    all_goals exact ⟨Nat.le_refl _, Nat.le_refl _⟩
  · intro G z0 p l e R s mm args below meth c H locs cells slots Q lsC ls st m pc' ls' st' m' C h hH hL hc hs k
    dsimp only [e_psh] at h
    subst hn
    cases h
    exact lv_sipush C.1 C.2.1 hd hv (k _ _ _ _ _ hH hL)
theorem sn_lconst {j : Fin 2} {v : Int64} (hd : decode I.2.1 pc = .ok (.lconst j, 1)) (hn : pc + 1 = n) (hv : Int64.ofNat (j : Nat) = v) : SndN E S I pc (e_psh n (.long v)) := by
  constructor
  · intro ls st m pc' ls' st' m' h
    dsimp only [e_psh] at h
    cases h
    all_goals exact ⟨Nat.le_refl _, Nat.le_refl _⟩
  · intro G z0 p l e R s mm args below meth c H locs cells slots Q lsC ls st m pc' ls' st' m' C h hH hL hc hs k
    dsimp only [e_psh] at h
    subst hn
    cases h
    exact lv_lconst C.1 C.2.1 hd hv (k _ _ _ _ _ hH hL)
theorem sn_ldc {j : Nat} {v : Int32} (hd : decode I.2.1 pc = .ok (.ldc j, 2)) (hn : pc + 2 = n) (q : Cond.constant I.1.cls j v ∈ lw_all) : SndN E S I pc (e_psh n (.int v)) := by
  constructor
  · intro ls st m pc' ls' st' m' h
    dsimp only [e_psh] at h
    cases h
    all_goals exact ⟨Nat.le_refl _, Nat.le_refl _⟩
  · intro G z0 p l e R s mm args below meth c H locs cells slots Q lsC ls st m pc' ls' st' m' C h hH hL hc hs k
    dsimp only [e_psh] at h
    subst hn
    cases h
    exact lv_ldc C.1 C.2.1 C.2.2.2.1 (C.2.2.2.2.1 _ q) hd (k _ _ _ _ _ hH hL)
theorem sn_ldcw {j : Nat} {v : Int32} (hd : decode I.2.1 pc = .ok (.ldc_w j, 3)) (hn : pc + 3 = n) (q : Cond.constant I.1.cls j v ∈ lw_all) : SndN E S I pc (e_psh n (.int v)) := by
  constructor
  · intro ls st m pc' ls' st' m' h
    dsimp only [e_psh] at h
    cases h
    all_goals exact ⟨Nat.le_refl _, Nat.le_refl _⟩
  · intro G z0 p l e R s mm args below meth c H locs cells slots Q lsC ls st m pc' ls' st' m' C h hH hL hc hs k
    dsimp only [e_psh] at h
    subst hn
    cases h
    exact lv_ldcw C.1 C.2.1 C.2.2.2.1 (C.2.2.2.2.1 _ q) hd (k _ _ _ _ _ hH hL)
theorem sn_ldc2 {j : Nat} {v : Int64} (hd : decode I.2.1 pc = .ok (.ldc2_w j, 3)) (hn : pc + 3 = n) (q : Cond.constantLong I.1.cls j v ∈ lw_all) : SndN E S I pc (e_psh n (.long v)) := by
  constructor
  · intro ls st m pc' ls' st' m' h
    dsimp only [e_psh] at h
    cases h
    all_goals exact ⟨Nat.le_refl _, Nat.le_refl _⟩
  · intro G z0 p l e R s mm args below meth c H locs cells slots Q lsC ls st m pc' ls' st' m' C h hH hL hc hs k
    dsimp only [e_psh] at h
    subst hn
    cases h
    exact lv_ldc2 C.1 C.2.1 C.2.2.2.1 (C.2.2.2.2.1 _ q) hd (k _ _ _ _ _ hH hL)
theorem sn_iload_n {i : Nat} {k4 : Fin 4} (hd : decode I.2.1 pc = .ok (.iload_n k4, 1)) (hn : pc + 1 = n) (hi : (k4 : Nat) = i) : SndN E S I pc (e_ldi n i) := by
  constructor
  · intro ls st m pc' ls' st' m' h
    dsimp only [e_ldi] at h
    split at h <;> cases h
    all_goals exact ⟨Nat.le_refl _, Nat.le_refl _⟩
  · intro G z0 p l e R s mm args below meth c H locs cells slots Q lsC ls st m pc' ls' st' m' C h hH hL hc hs k
    dsimp only [e_ldi] at h
    subst hn
    split at h
    · rename_i v hv
      cases h
      exact lv_iload_n C.1 C.2.1 hd hi (hL.2.2.2 _ _ hv).1 (k _ _ _ _ _ hH hL)
    · cases h
theorem sn_iload {i : Nat} (hd : decode I.2.1 pc = .ok (.iload i, 2)) (hn : pc + 2 = n) : SndN E S I pc (e_ldi n i) := by
  constructor
  · intro ls st m pc' ls' st' m' h
    dsimp only [e_ldi] at h
    split at h <;> cases h
    all_goals exact ⟨Nat.le_refl _, Nat.le_refl _⟩
  · intro G z0 p l e R s mm args below meth c H locs cells slots Q lsC ls st m pc' ls' st' m' C h hH hL hc hs k
    dsimp only [e_ldi] at h
    subst hn
    split at h
    · rename_i v hv
      cases h
      exact lv_iload C.1 C.2.1 hd (hL.2.2.2 _ _ hv).1 (k _ _ _ _ _ hH hL)
    · cases h
theorem sn_lload_n {i : Nat} {k4 : Fin 4} (hd : decode I.2.1 pc = .ok (.lload_n k4, 1)) (hn : pc + 1 = n) (hi : (k4 : Nat) = i) : SndN E S I pc (e_ldl n i) := by
  constructor
  · intro ls st m pc' ls' st' m' h
    dsimp only [e_ldl] at h
    split at h <;> cases h
    all_goals exact ⟨Nat.le_refl _, Nat.le_refl _⟩
  · intro G z0 p l e R s mm args below meth c H locs cells slots Q lsC ls st m pc' ls' st' m' C h hH hL hc hs k
    dsimp only [e_ldl] at h
    subst hn
    split at h
    · rename_i v hv
      cases h
      exact lv_lload_n C.1 C.2.1 hd hi (hL.2.2.2 _ _ hv).1 (k _ _ _ _ _ hH hL)
    · cases h
theorem sn_aload_n {i : Nat} {k4 : Fin 4} (hd : decode I.2.1 pc = .ok (.aload_n k4, 1)) (hn : pc + 1 = n) (hi : (k4 : Nat) = i) : SndN E S I pc (e_lda n i) := by
  constructor
  · intro ls st m pc' ls' st' m' h
    dsimp only [e_lda] at h
    split at h <;> cases h
    all_goals exact ⟨Nat.le_refl _, Nat.le_refl _⟩
  · intro G z0 p l e R s mm args below meth c H locs cells slots Q lsC ls st m pc' ls' st' m' C h hH hL hc hs k
    dsimp only [e_lda] at h
    subst hn
    split at h
    · rename_i v hv
      cases h
      exact lv_aload_n C.1 C.2.1 hd hi (hL.2.2.2 _ _ hv).1 (k _ _ _ _ _ hH hL)
    · rename_i v hv
      cases h
      have h1 := (hL.2.2.2 _ _ hv).1
      have k1 := k _ _ _ _ _ hH hL
      dsimp only [cvv] at h1
      rcases C.2.2.2.2.2.2.2.2.2.1 v with e1 | ⟨q, e1⟩
      · rw [e1] at h1
        refine lv_aload_nN C.1 C.2.1 hd hi h1 ?_
        have k2 := k1
        rw [List.map_cons] at k2
        dsimp only [cvv] at k2
        rw [e1] at k2
        exact k2
      · rw [e1] at h1
        refine lv_aload_n C.1 C.2.1 hd hi h1 ?_
        have k2 := k1
        rw [List.map_cons] at k2
        dsimp only [cvv] at k2
        rw [e1] at k2
        exact k2
    · cases h
theorem sn_aload {i : Nat} (hd : decode I.2.1 pc = .ok (.aload i, 2)) (hn : pc + 2 = n) : SndN E S I pc (e_lda n i) := by
  constructor
  · intro ls st m pc' ls' st' m' h
    dsimp only [e_lda] at h
    split at h <;> cases h
    all_goals exact ⟨Nat.le_refl _, Nat.le_refl _⟩
  · intro G z0 p l e R s mm args below meth c H locs cells slots Q lsC ls st m pc' ls' st' m' C h hH hL hc hs k
    dsimp only [e_lda] at h
    subst hn
    split at h
    · rename_i v hv
      cases h
      exact lv_aload C.1 C.2.1 hd (hL.2.2.2 _ _ hv).1 (k _ _ _ _ _ hH hL)
    · rename_i v hv
      cases h
      have h1 := (hL.2.2.2 _ _ hv).1
      have k1 := k _ _ _ _ _ hH hL
      dsimp only [cvv] at h1
      rcases C.2.2.2.2.2.2.2.2.2.1 v with e1 | ⟨q, e1⟩
      · rw [e1] at h1
        refine lv_aloadN C.1 C.2.1 hd h1 ?_
        have k2 := k1
        rw [List.map_cons] at k2
        dsimp only [cvv] at k2
        rw [e1] at k2
        exact k2
      · rw [e1] at h1
        refine lv_aload C.1 C.2.1 hd h1 ?_
        have k2 := k1
        rw [List.map_cons] at k2
        dsimp only [cvv] at k2
        rw [e1] at k2
        exact k2
    · cases h
theorem sn_idiv (hd : decode I.2.1 pc = .ok (.idiv, 1)) (hn : pc + 1 = n) : SndN E S I pc (e_div n) := by
  constructor
  · intro ls st m pc' ls' st' m' h
    dsimp only [e_div] at h
    split at h
    · split at h <;> cases h
      exact ⟨Nat.le_refl _, Nat.le_refl _⟩
    · cases h
  · intro G z0 p l e R s mm args below meth c H locs cells slots Q lsC ls st m pc' ls' st' m' C h hH hL hc hs k
    dsimp only [e_div] at h
    subst hn
    split at h
    · split at h
      · rename_i hne
        cases h
        exact lv_idiv C.1 C.2.1 hd hne (k _ _ _ _ _ hH hL)
      · cases h
    · cases h
theorem sn_irem (hd : decode I.2.1 pc = .ok (.irem, 1)) (hn : pc + 1 = n) : SndN E S I pc (e_rem n) := by
  constructor
  · intro ls st m pc' ls' st' m' h
    dsimp only [e_rem] at h
    split at h
    · split at h <;> cases h
      exact ⟨Nat.le_refl _, Nat.le_refl _⟩
    · cases h
  · intro G z0 p l e R s mm args below meth c H locs cells slots Q lsC ls st m pc' ls' st' m' C h hH hL hc hs k
    dsimp only [e_rem] at h
    subst hn
    split at h
    · split at h
      · rename_i hne
        cases h
        exact lv_irem C.1 C.2.1 hd hne (k _ _ _ _ _ hH hL)
      · cases h
    · cases h
theorem sn_ineg (hd : decode I.2.1 pc = .ok (.ineg, 1)) (hn : pc + 1 = n) : SndN E S I pc (e_un n (fun x => -x)) := by
  constructor
  · intro ls st m pc' ls' st' m' h
    dsimp only [e_un] at h
    split at h <;> cases h
    all_goals exact ⟨Nat.le_refl _, Nat.le_refl _⟩
  · intro G z0 p l e R s mm args below meth c H locs cells slots Q lsC ls st m pc' ls' st' m' C h hH hL hc hs k
    dsimp only [e_un] at h
    subst hn
    split at h <;> cases h
    exact lv_ineg C.1 C.2.1 hd (k _ _ _ _ _ hH hL)
theorem sn_i2b (hd : decode I.2.1 pc = .ok (.i2b, 1)) (hn : pc + 1 = n) : SndN E S I pc (e_un n (fun x => x.toInt8.toInt32)) := by
  constructor
  · intro ls st m pc' ls' st' m' h
    dsimp only [e_un] at h
    split at h <;> cases h
    all_goals exact ⟨Nat.le_refl _, Nat.le_refl _⟩
  · intro G z0 p l e R s mm args below meth c H locs cells slots Q lsC ls st m pc' ls' st' m' C h hH hL hc hs k
    dsimp only [e_un] at h
    subst hn
    split at h <;> cases h
    exact lv_i2b C.1 C.2.1 hd rfl (k _ _ _ _ _ hH hL)
theorem sn_i2c (hd : decode I.2.1 pc = .ok (.i2c, 1)) (hn : pc + 1 = n) : SndN E S I pc (e_un n (fun x => (x.toUInt32 % 65536).toInt32)) := by
  constructor
  · intro ls st m pc' ls' st' m' h
    dsimp only [e_un] at h
    split at h <;> cases h
    all_goals exact ⟨Nat.le_refl _, Nat.le_refl _⟩
  · intro G z0 p l e R s mm args below meth c H locs cells slots Q lsC ls st m pc' ls' st' m' C h hH hL hc hs k
    dsimp only [e_un] at h
    subst hn
    split at h <;> cases h
    exact lv_i2c C.1 C.2.1 hd rfl (k _ _ _ _ _ hH hL)
theorem sn_i2l (hd : decode I.2.1 pc = .ok (.i2l, 1)) (hn : pc + 1 = n) : SndN E S I pc (e_i2l n) := by
  constructor
  · intro ls st m pc' ls' st' m' h
    dsimp only [e_i2l] at h
    split at h <;> cases h
    all_goals exact ⟨Nat.le_refl _, Nat.le_refl _⟩
  · intro G z0 p l e R s mm args below meth c H locs cells slots Q lsC ls st m pc' ls' st' m' C h hH hL hc hs k
    dsimp only [e_i2l] at h
    subst hn
    split at h <;> cases h
    exact lv_i2l C.1 C.2.1 hd rfl (k _ _ _ _ _ hH hL)
theorem sn_lshl (hd : decode I.2.1 pc = .ok (.lshl, 1)) (hn : pc + 1 = n) : SndN E S I pc (e_lshl n) := by
  constructor
  · intro ls st m pc' ls' st' m' h
    dsimp only [e_lshl] at h
    split at h <;> cases h
    all_goals exact ⟨Nat.le_refl _, Nat.le_refl _⟩
  · intro G z0 p l e R s mm args below meth c H locs cells slots Q lsC ls st m pc' ls' st' m' C h hH hL hc hs k
    dsimp only [e_lshl] at h
    subst hn
    split at h <;> cases h
    exact lv_lshl C.1 C.2.1 hd rfl (k _ _ _ _ _ hH hL)
theorem sn_lor (hd : decode I.2.1 pc = .ok (.lor, 1)) (hn : pc + 1 = n) : SndN E S I pc (e_lor n) := by
  constructor
  · intro ls st m pc' ls' st' m' h
    dsimp only [e_lor] at h
    split at h <;> cases h
    all_goals exact ⟨Nat.le_refl _, Nat.le_refl _⟩
  · intro G z0 p l e R s mm args below meth c H locs cells slots Q lsC ls st m pc' ls' st' m' C h hH hL hc hs k
    dsimp only [e_lor] at h
    subst hn
    split at h <;> cases h
    exact lv_lor C.1 C.2.1 hd (k _ _ _ _ _ hH hL)
theorem sn_lcmp (hd : decode I.2.1 pc = .ok (.lcmp, 1)) (hn : pc + 1 = n) : SndN E S I pc (e_lcmp n) := by
  constructor
  · intro ls st m pc' ls' st' m' h
    dsimp only [e_lcmp] at h
    split at h <;> cases h
    all_goals exact ⟨Nat.le_refl _, Nat.le_refl _⟩
  · intro G z0 p l e R s mm args below meth c H locs cells slots Q lsC ls st m pc' ls' st' m' C h hH hL hc hs k
    dsimp only [e_lcmp] at h
    subst hn
    split at h <;> cases h
    exact W.lcmp C.1 C.2.1 hd (k _ _ _ _ _ hH hL)
theorem sn_dup (hd : decode I.2.1 pc = .ok (.dup, 1)) (hn : pc + 1 = n) : SndN E S I pc (e_dup n) := by
  constructor
  · intro ls st m pc' ls' st' m' h
    dsimp only [e_dup] at h
    split at h <;> cases h
    all_goals exact ⟨Nat.le_refl _, Nat.le_refl _⟩
  · intro G z0 p l e R s mm args below meth c H locs cells slots Q lsC ls st m pc' ls' st' m' C h hH hL hc hs k
    dsimp only [e_dup] at h
    subst hn
    split at h <;> cases h
    all_goals exact lv_dup C.1 C.2.1 hd rfl (k _ _ _ _ _ hH hL)
theorem sn_pop (hd : decode I.2.1 pc = .ok (.pop, 1)) (hn : pc + 1 = n) : SndN E S I pc (e_pop n) := by
  constructor
  · intro ls st m pc' ls' st' m' h
    dsimp only [e_pop] at h
    split at h <;> cases h
    all_goals exact ⟨Nat.le_refl _, Nat.le_refl _⟩
  · intro G z0 p l e R s mm args below meth c H locs cells slots Q lsC ls st m pc' ls' st' m' C h hH hL hc hs k
    dsimp only [e_pop] at h
    subst hn
    split at h <;> cases h
    exact lv_pop C.1 C.2.1 hd rfl (k _ _ _ _ _ hH hL)
theorem sn_dup2 (hd : decode I.2.1 pc = .ok (.dup2, 1)) (hn : pc + 1 = n) : SndN E S I pc (e_dup2 n) := by
  constructor
  · intro ls st m pc' ls' st' m' h
    dsimp only [e_dup2] at h
    split at h <;> cases h
    all_goals exact ⟨Nat.le_refl _, Nat.le_refl _⟩
  · intro G z0 p l e R s mm args below meth c H locs cells slots Q lsC ls st m pc' ls' st' m' C h hH hL hc hs k
    dsimp only [e_dup2] at h
    subst hn
    split at h <;> cases h
    exact lv_dup2_11 C.1 C.2.1 hd rfl rfl (k _ _ _ _ _ hH hL)
theorem sn_goto {off : Int} (hd : decode I.2.1 pc = .ok (.goto off, 3)) (ht : (pc : Int) + off = (t : Int)) : SndN E S I pc (e_goto t) := by
  constructor
  · intro ls st m pc' ls' st' m' h
    dsimp only [e_goto] at h
    cases h
    all_goals exact ⟨Nat.le_refl _, Nat.le_refl _⟩
  · intro G z0 p l e R s mm args below meth c H locs cells slots Q lsC ls st m pc' ls' st' m' C h hH hL hc hs k
    dsimp only [e_goto] at h
    cases h
    exact lv_goto C.1 C.2.1 hd ht (k _ _ _ _ _ hH hL)
theorem sn_inn {off : Int} (hd : decode I.2.1 pc = .ok (.ifnonnull off, 3)) (hn : pc + 3 = n) (ht : (pc : Int) + off = (t : Int)) : SndN E S I pc (e_inn n t) := by
  constructor
  · intro ls st m pc' ls' st' m' h
    dsimp only [e_inn] at h
    split at h <;> cases h
    all_goals exact ⟨Nat.le_refl _, Nat.le_refl _⟩
  · intro G z0 p l e R s mm args below meth c H locs cells slots Q lsC ls st m pc' ls' st' m' C h hH hL hc hs k
    dsimp only [e_inn] at h
    subst hn
    split at h <;> cases h
    · exact lv_ifnonnull C.1 C.2.1 hd ht (k _ _ _ _ _ hH hL)
    · exact lv_ifnonnullN C.1 C.2.1 hd (k _ _ _ _ _ hH hL)
theorem sn_zeq {off : Int} (hd : decode I.2.1 pc = .ok (.ifCond .eq off, 3)) (hn : pc + 3 = n) (ht : (pc : Int) + off = (t : Int)) : SndN E S I pc (e_zeq n t) := by
  constructor
  · intro ls st m pc' ls' st' m' h
    dsimp only [e_zeq] at h
    split at h <;> cases h
    all_goals exact ⟨Nat.le_refl _, Nat.le_refl _⟩
  · intro G z0 p l e R s mm args below meth c H locs cells slots Q lsC ls st m pc' ls' st' m' C h hH hL hc hs k
    dsimp only [e_zeq] at h
    subst hn
    split at h <;> cases h
    have k1 := k _ _ _ _ _ hH hL
    refine lv_if_eq C.1 C.2.1 hd ht (fun q => ?_) (fun q => ?_)
    · rw [if_pos q] at k1
      exact k1
    · rw [if_neg q] at k1
      exact k1
theorem sn_ieq {off : Int} (hd : decode I.2.1 pc = .ok (.if_icmp .eq off, 3)) (hn : pc + 3 = n) (ht : (pc : Int) + off = (t : Int)) : SndN E S I pc (e_ieq n t) := by
  constructor
  · intro ls st m pc' ls' st' m' h
    dsimp only [e_ieq] at h
    split at h <;> cases h
    all_goals exact ⟨Nat.le_refl _, Nat.le_refl _⟩
  · intro G z0 p l e R s mm args below meth c H locs cells slots Q lsC ls st m pc' ls' st' m' C h hH hL hc hs k
    dsimp only [e_ieq] at h
    subst hn
    split at h <;> cases h
    have k1 := k _ _ _ _ _ hH hL
    refine lv_icmp_eq C.1 C.2.1 hd ht (fun q => ?_) (fun q => ?_)
    · rw [if_pos q] at k1
      exact k1
    · rw [if_neg q] at k1
      exact k1
theorem sn_zne {off : Int} (hd : decode I.2.1 pc = .ok (.ifCond .ne off, 3)) (hn : pc + 3 = n) (ht : (pc : Int) + off = (t : Int)) : SndN E S I pc (e_zne n t) := by
  constructor
  · intro ls st m pc' ls' st' m' h
    dsimp only [e_zne] at h
    split at h <;> cases h
    all_goals exact ⟨Nat.le_refl _, Nat.le_refl _⟩
  · intro G z0 p l e R s mm args below meth c H locs cells slots Q lsC ls st m pc' ls' st' m' C h hH hL hc hs k
    dsimp only [e_zne] at h
    subst hn
    split at h <;> cases h
    have k1 := k _ _ _ _ _ hH hL
    refine lv_if_ne C.1 C.2.1 hd ht (fun q => ?_) (fun q => ?_)
    · rw [if_pos q] at k1
      exact k1
    · rw [if_neg (fun z => z q)] at k1
      exact k1
theorem sn_ine {off : Int} (hd : decode I.2.1 pc = .ok (.if_icmp .ne off, 3)) (hn : pc + 3 = n) (ht : (pc : Int) + off = (t : Int)) : SndN E S I pc (e_ine n t) := by
  constructor
  · intro ls st m pc' ls' st' m' h
    dsimp only [e_ine] at h
    split at h <;> cases h
    all_goals exact ⟨Nat.le_refl _, Nat.le_refl _⟩
  · intro G z0 p l e R s mm args below meth c H locs cells slots Q lsC ls st m pc' ls' st' m' C h hH hL hc hs k
    dsimp only [e_ine] at h
    subst hn
    split at h <;> cases h
    have k1 := k _ _ _ _ _ hH hL
    refine lv_icmp_ne C.1 C.2.1 hd ht (fun q => ?_) (fun q => ?_)
    · rw [if_pos q] at k1
      exact k1
    · rw [if_neg (fun z => z q)] at k1
      exact k1
theorem sn_zlt {off : Int} (hd : decode I.2.1 pc = .ok (.ifCond .lt off, 3)) (hn : pc + 3 = n) (ht : (pc : Int) + off = (t : Int)) : SndN E S I pc (e_zlt n t) := by
  constructor
  · intro ls st m pc' ls' st' m' h
    dsimp only [e_zlt] at h
    split at h <;> cases h
    all_goals exact ⟨Nat.le_refl _, Nat.le_refl _⟩
  · intro G z0 p l e R s mm args below meth c H locs cells slots Q lsC ls st m pc' ls' st' m' C h hH hL hc hs k
    dsimp only [e_zlt] at h
    subst hn
    split at h <;> cases h
    have k1 := k _ _ _ _ _ hH hL
    refine lv_if_lt C.1 C.2.1 hd ht (fun q => ?_) (fun q => ?_)
    · rw [if_pos q] at k1
      exact k1
    · rw [if_neg q] at k1
      exact k1
theorem sn_ilt {off : Int} (hd : decode I.2.1 pc = .ok (.if_icmp .lt off, 3)) (hn : pc + 3 = n) (ht : (pc : Int) + off = (t : Int)) : SndN E S I pc (e_ilt n t) := by
  constructor
  · intro ls st m pc' ls' st' m' h
    dsimp only [e_ilt] at h
    split at h <;> cases h
    all_goals exact ⟨Nat.le_refl _, Nat.le_refl _⟩
  · intro G z0 p l e R s mm args below meth c H locs cells slots Q lsC ls st m pc' ls' st' m' C h hH hL hc hs k
    dsimp only [e_ilt] at h
    subst hn
    split at h <;> cases h
    have k1 := k _ _ _ _ _ hH hL
    refine lv_icmp_lt C.1 C.2.1 hd ht (fun q => ?_) (fun q => ?_)
    · rw [if_pos q] at k1
      exact k1
    · rw [if_neg q] at k1
      exact k1
theorem sn_zge {off : Int} (hd : decode I.2.1 pc = .ok (.ifCond .ge off, 3)) (hn : pc + 3 = n) (ht : (pc : Int) + off = (t : Int)) : SndN E S I pc (e_zge n t) := by
  constructor
  · intro ls st m pc' ls' st' m' h
    dsimp only [e_zge] at h
    split at h <;> cases h
    all_goals exact ⟨Nat.le_refl _, Nat.le_refl _⟩
  · intro G z0 p l e R s mm args below meth c H locs cells slots Q lsC ls st m pc' ls' st' m' C h hH hL hc hs k
    dsimp only [e_zge] at h
    subst hn
    split at h <;> cases h
    have k1 := k _ _ _ _ _ hH hL
    refine lv_if_ge C.1 C.2.1 hd ht (fun q => ?_) (fun q => ?_)
    · rw [if_pos q] at k1
      exact k1
    · rw [if_neg q] at k1
      exact k1
theorem sn_ige {off : Int} (hd : decode I.2.1 pc = .ok (.if_icmp .ge off, 3)) (hn : pc + 3 = n) (ht : (pc : Int) + off = (t : Int)) : SndN E S I pc (e_ige n t) := by
  constructor
  · intro ls st m pc' ls' st' m' h
    dsimp only [e_ige] at h
    split at h <;> cases h
    all_goals exact ⟨Nat.le_refl _, Nat.le_refl _⟩
  · intro G z0 p l e R s mm args below meth c H locs cells slots Q lsC ls st m pc' ls' st' m' C h hH hL hc hs k
    dsimp only [e_ige] at h
    subst hn
    split at h <;> cases h
    have k1 := k _ _ _ _ _ hH hL
    refine lv_icmp_ge C.1 C.2.1 hd ht (fun q => ?_) (fun q => ?_)
    · rw [if_pos q] at k1
      exact k1
    · rw [if_neg q] at k1
      exact k1
theorem sn_zgt {off : Int} (hd : decode I.2.1 pc = .ok (.ifCond .gt off, 3)) (hn : pc + 3 = n) (ht : (pc : Int) + off = (t : Int)) : SndN E S I pc (e_zgt n t) := by
  constructor
  · intro ls st m pc' ls' st' m' h
    dsimp only [e_zgt] at h
    split at h <;> cases h
    all_goals exact ⟨Nat.le_refl _, Nat.le_refl _⟩
  · intro G z0 p l e R s mm args below meth c H locs cells slots Q lsC ls st m pc' ls' st' m' C h hH hL hc hs k
    dsimp only [e_zgt] at h
    subst hn
    split at h <;> cases h
    have k1 := k _ _ _ _ _ hH hL
    refine lv_if_gt C.1 C.2.1 hd ht (fun q => ?_) (fun q => ?_)
    · rw [if_pos q] at k1
      exact k1
    · rw [if_neg q] at k1
      exact k1
theorem sn_igt {off : Int} (hd : decode I.2.1 pc = .ok (.if_icmp .gt off, 3)) (hn : pc + 3 = n) (ht : (pc : Int) + off = (t : Int)) : SndN E S I pc (e_igt n t) := by
  constructor
  · intro ls st m pc' ls' st' m' h
    dsimp only [e_igt] at h
    split at h <;> cases h
    all_goals exact ⟨Nat.le_refl _, Nat.le_refl _⟩
  · intro G z0 p l e R s mm args below meth c H locs cells slots Q lsC ls st m pc' ls' st' m' C h hH hL hc hs k
    dsimp only [e_igt] at h
    subst hn
    split at h <;> cases h
    have k1 := k _ _ _ _ _ hH hL
    refine lv_icmp_gt C.1 C.2.1 hd ht (fun q => ?_) (fun q => ?_)
    · rw [if_pos q] at k1
      exact k1
    · rw [if_neg q] at k1
      exact k1
theorem sn_zle {off : Int} (hd : decode I.2.1 pc = .ok (.ifCond .le off, 3)) (hn : pc + 3 = n) (ht : (pc : Int) + off = (t : Int)) : SndN E S I pc (e_zle n t) := by
  constructor
  · intro ls st m pc' ls' st' m' h
    dsimp only [e_zle] at h
    split at h <;> cases h
    all_goals exact ⟨Nat.le_refl _, Nat.le_refl _⟩
  · intro G z0 p l e R s mm args below meth c H locs cells slots Q lsC ls st m pc' ls' st' m' C h hH hL hc hs k
    dsimp only [e_zle] at h
    subst hn
    split at h <;> cases h
    have k1 := k _ _ _ _ _ hH hL
    refine lv_if_le C.1 C.2.1 hd ht (fun q => ?_) (fun q => ?_)
    · rw [if_pos q] at k1
      exact k1
    · rw [if_neg q] at k1
      exact k1
theorem sn_ile {off : Int} (hd : decode I.2.1 pc = .ok (.if_icmp .le off, 3)) (hn : pc + 3 = n) (ht : (pc : Int) + off = (t : Int)) : SndN E S I pc (e_ile n t) := by
  constructor
  · intro ls st m pc' ls' st' m' h
    dsimp only [e_ile] at h
    split at h <;> cases h
    all_goals exact ⟨Nat.le_refl _, Nat.le_refl _⟩
  · intro G z0 p l e R s mm args below meth c H locs cells slots Q lsC ls st m pc' ls' st' m' C h hH hL hc hs k
    dsimp only [e_ile] at h
    subst hn
    split at h <;> cases h
    have k1 := k _ _ _ _ _ hH hL
    refine lv_icmp_le C.1 C.2.1 hd ht (fun q => ?_) (fun q => ?_)
    · rw [if_pos q] at k1
      exact k1
    · rw [if_neg q] at k1
      exact k1
end SNDO
