/-! SOUNDNESS: stores into locals, switches -/
section SNDS
set_option maxRecDepth 100000
variable {E : GG → Nat × (Nat → Int32) → State → Prop} {S : Nat × (Nat → Int32)} {I : MI} {pc n t : Nat}
def prs (G : GG) (ls : PLoc) : List (Nat × Value) := (List.range ls.length).filterMap (fun i => match ls[i]? with
  | some (some v) => some (i, cvv G v)
  | _ => none)
theorem prs_mem {G : GG} {ls : PLoc} {i : Nat} {v : Value} (h : ls[i]? = some (some v)) : (i, cvv G v) ∈ prs G ls := by
  refine List.mem_filterMap.mpr ⟨i, List.mem_range.mpr (List.getElem?_eq_some_iff.mp h).1, ?_⟩
  rw [h]
theorem prs_of {G : GG} {ls : PLoc} {q : Nat × Value} (h : q ∈ prs G ls) : ∃ v, ls[q.1]? = some (some v) ∧ q.2 = cvv G v := by
  obtain ⟨i, -, hi⟩ := List.mem_filterMap.mp h
  split at hi
  · rename_i v hv
    cases hi
    exact ⟨v, hv, rfl⟩
  · cases hi
theorem Lr.has {G : GG} {ls : PLoc} {lsC : Array Slot} (h : Lr G I ls lsC) : lv_has lsC I.2.2.1 (prs G ls) := by
  refine ⟨h.1, h.2.2.1, fun q hq => ?_⟩
  obtain ⟨v, h1, h2⟩ := prs_of hq
  rw [h2]
  exact (h.2.2.2 _ _ h1).1
theorem Lr.set {G : GG} {ls : PLoc} {lsC ls' : Array Slot} {i : Nat} {v : Value} (h : Lr G I ls lsC) (hf : I.2.2.2.2.2 = false) (hi : i < I.2.2.1) (hc : (cvv G v).category = 1)
    (h' : lv_has ls' I.2.2.1 ((i, cvv G v) :: (prs G ls).filter (fun q => !(q.1 == i) && !(q.1 + 1 == i && q.2.category == 2)))) : Lr G I (ls.set i (some v)) ls' := by
  refine ⟨h'.1, by rw [List.length_set]; exact h.2.1, h'.2.1, fun j w hw => ?_⟩
  by_cases hj : j = i
  · subst hj
    rw [List.getElem?_set_self (by rw [h.2.1]; exact hi)] at hw
    cases hw
    exact ⟨h'.2.2 _ List.mem_cons_self, fun _ => hc⟩
  · rw [List.getElem?_set_ne (Ne.symm hj)] at hw
    obtain ⟨h1, h2⟩ := h.2.2.2 _ _ hw
    refine ⟨h'.2.2 (j, cvv G w) (List.mem_cons_of_mem _ (List.mem_filter.mpr ⟨prs_mem hw, ?_⟩)), h2⟩
    have h3 := h2 hf
    simp [hj, h3]
theorem sn_istore_n {i : Nat} {k4 : Fin 4} (hd : decode I.2.1 pc = .ok (.istore_n k4, 1)) (hn : pc + 1 = n) (hi : (k4 : Nat) = i) (hf : I.2.2.2.2.2 = false) (hl : i < I.2.2.1) : SndN E S I pc (e_sti n i) := by
  constructor
  · intro ls st m pc' ls' st' m' h
    dsimp only [e_sti] at h
    split at h <;> cases h
    all_goals exact ⟨Nat.le_refl _, Nat.le_refl _⟩
  · intro G z0 p l e R s mm args below meth c H locs cells slots Q lsC ls st m pc' ls' st' m' C h hH hL hc hs k
    dsimp only [e_sti] at h
    subst hn
    split at h <;> cases h
    exact lv_istore_n C.1 C.2.1 hd hi hL.has hl rfl (fun ls2 h2 => k _ _ _ _ _ hH (hL.set (v := .int _) hf hl rfl h2))
theorem sn_istore {i : Nat} (hd : decode I.2.1 pc = .ok (.istore i, 2)) (hn : pc + 2 = n) (hf : I.2.2.2.2.2 = false) (hl : i < I.2.2.1) : SndN E S I pc (e_sti n i) := by
  constructor
  · intro ls st m pc' ls' st' m' h
    dsimp only [e_sti] at h
    split at h <;> cases h
    all_goals exact ⟨Nat.le_refl _, Nat.le_refl _⟩
  · intro G z0 p l e R s mm args below meth c H locs cells slots Q lsC ls st m pc' ls' st' m' C h hH hL hc hs k
    dsimp only [e_sti] at h
    subst hn
    split at h <;> cases h
    exact lv_istore C.1 C.2.1 hd hL.has hl rfl (fun ls2 h2 => k _ _ _ _ _ hH (hL.set (v := .int _) hf hl rfl h2))
theorem sn_astore_n {i : Nat} {k4 : Fin 4} (hd : decode I.2.1 pc = .ok (.astore_n k4, 1)) (hn : pc + 1 = n) (hi : (k4 : Nat) = i) (hf : I.2.2.2.2.2 = false) (hl : i < I.2.2.1) : SndN E S I pc (e_sta n i) := by
  constructor
  · intro ls st m pc' ls' st' m' h
    dsimp only [e_sta] at h
    split at h <;> cases h
    all_goals exact ⟨Nat.le_refl _, Nat.le_refl _⟩
  · intro G z0 p l e R s mm args below meth c H locs cells slots Q lsC ls st m pc' ls' st' m' C h hH hL hc hs k
    dsimp only [e_sta] at h
    subst hn
    split at h <;> cases h
    exact lv_astore_n C.1 C.2.1 hd hi hL.has hl rfl (fun ls2 h2 => k _ _ _ _ _ hH (hL.set (v := .ref _) hf hl rfl h2))
theorem sn_astore {i : Nat} (hd : decode I.2.1 pc = .ok (.astore i, 2)) (hn : pc + 2 = n) (hf : I.2.2.2.2.2 = false) (hl : i < I.2.2.1) : SndN E S I pc (e_sta n i) := by
  constructor
  · intro ls st m pc' ls' st' m' h
    dsimp only [e_sta] at h
    split at h <;> cases h
    all_goals exact ⟨Nat.le_refl _, Nat.le_refl _⟩
  · intro G z0 p l e R s mm args below meth c H locs cells slots Q lsC ls st m pc' ls' st' m' C h hH hL hc hs k
    dsimp only [e_sta] at h
    subst hn
    split at h <;> cases h
    exact lv_astore C.1 C.2.1 hd hL.has hl rfl (fun ls2 h2 => k _ _ _ _ _ hH (hL.set (v := .ref _) hf hl rfl h2))
theorem sn_iinc {i : Nat} {j : Int} {v : Int32} (hd : decode I.2.1 pc = .ok (.iinc i j, 3)) (hn : pc + 3 = n) (hv : Int32.ofInt j = v) (hf : I.2.2.2.2.2 = false) (hl : i < I.2.2.1) : SndN E S I pc (e_inc n i v) := by
  constructor
  · intro ls st m pc' ls' st' m' h
    dsimp only [e_inc] at h
    split at h <;> cases h
    all_goals exact ⟨Nat.le_refl _, Nat.le_refl _⟩
  · intro G z0 p l e R s mm args below meth c H locs cells slots Q lsC ls st m pc' ls' st' m' C h hH hL hc hs k
    dsimp only [e_inc] at h
    subst hn
    split at h
    · rename_i x hx
      cases h
      obtain ⟨k1, hk1⟩ := List.getElem?_of_mem (prs_mem (G := G) hx)
      exact lv_iinc C.1 C.2.1 hd hL.has hk1 (by rw [hv]) hl rfl (fun ls2 h2 => k _ _ _ _ _ hH (hL.set (v := .int _) hf hl rfl h2))
    · cases h
/-- a switch over the numbers lo, lo + 1, .. -/
def swf (lo : Int32) : List Nat → Nat → Int32 → Nat
  | [], df, _ => df
  | t :: ts, df, x => if x = lo then t else swf (lo + 1) ts df x
theorem swf_out : ∀ (ts : List Nat) (lo : Int32) (df : Nat) (x : Int32), lo.toInt + ts.length < 2 ^ 31 → (x.toInt < lo.toInt ∨ lo.toInt + ts.length ≤ x.toInt) → swf lo ts df x = df
  | [], _, _, _, _, _ => rfl
  | t :: ts, lo, df, x, h1, h2 => by
    have hs : (t :: ts).length = ts.length + 1 := rfl
    have hne : ¬ x = lo := by
      rintro rfl
      rw [hs] at h2
      omega
    have hlo : (lo + 1).toInt = lo.toInt + 1 := by
      rw [Int32.toInt_add]
      have := lo.le_toInt
      rw [hs] at h1
      simp only [Int32.toInt_one]
      apply Int.bmod_eq_of_le <;> omega
    rw [swf, if_neg hne]
    rw [hs] at h1 h2
    exact swf_out ts (lo + 1) df x (by rw [hlo]; omega) (by rw [hlo]; omega)
theorem swf_in : ∀ (ts : List Nat) (lo : Int32) (df : Nat) (x : Int32) (i : Nat) (t : Nat), lo.toInt + ts.length < 2 ^ 31 → x.toInt = lo.toInt + i → ts[i]? = some t → swf lo ts df x = t
  | [], _, _, _, i, t, _, _, h => by simp at h
  | u :: ts, lo, df, x, i, t, h1, h2, h3 => by
    have hs : (u :: ts).length = ts.length + 1 := rfl
    rw [hs] at h1
    have hlo : (lo + 1).toInt = lo.toInt + 1 := by
      rw [Int32.toInt_add]
      have := lo.le_toInt
      simp only [Int32.toInt_one]
      apply Int.bmod_eq_of_le <;> omega
    cases i with
    | zero =>
      have : x = lo := Int32.toInt_inj.mp (by omega)
      rw [swf, if_pos this]
      simpa using h3
    | succ i =>
      have hne : ¬ x = lo := by
        rintro rfl
        omega
      rw [swf, if_neg hne]
      rw [List.getElem?_cons_succ] at h3
      exact swf_in ts (lo + 1) df x i t (by rw [hlo]; omega) (by rw [hlo]; omega) h3
theorem sn_tsw {lo : Int32} {ts : List Nat} {df : Nat} {dflt lo' hi' : Int} {offs : Array Int} {len : Nat} {f : Int32 → Nat} (hd : decode I.2.1 pc = .ok (.tableswitch dflt lo' hi' offs, len)) (hf : f = swf lo ts df) (hlo : lo.toInt = lo') (hhi : hi' + 1 = lo' + ts.length) (hb : lo' + ts.length < 2 ^ 31) (ho : offs.toList.map (fun o => (pc : Int) + o) = ts.map (fun (t : Nat) => (t : Int))) (hdf : (pc : Int) + dflt = (df : Int)) : SndN E S I pc (e_tsw f) := by
  subst hf
  constructor
  · intro ls st m pc' ls' st' m' h
    dsimp only [e_tsw] at h
    split at h <;> cases h
    all_goals exact ⟨Nat.le_refl _, Nat.le_refl _⟩
  · intro G z0 p l e R s mm args below meth c H locs cells slots Q lsC ls st m pc' ls' st' m' C h hH hL hc hs k
    dsimp only [e_tsw] at h
    split at h
    · rename_i x st2
      cases h
      have k1 := k _ _ _ _ _ hH hL
      by_cases h1 : x.toInt < lo' ∨ hi' < x.toInt
      · rw [swf_out ts lo df x (by rw [hlo]; exact hb) (by rw [hlo]; omega)] at k1
        exact lv_tableOut C.1 C.2.1 hd h1 hdf k1
      · obtain ⟨i, hi⟩ : ∃ i : Nat, x.toInt = lo' + i := ⟨(x.toInt - lo').toNat, by omega⟩
        have hlt : i < ts.length := by omega
        have hl2 : offs.toList.length = ts.length := by
          have := congrArg List.length ho
          simpa using this
        have hlt2 : i < offs.toList.length := by rw [hl2]; exact hlt
        have e2 : ts[i]? = some ts[i] := List.getElem?_eq_getElem hlt
        have e3 : offs.toList[i]? = some offs.toList[i] := List.getElem?_eq_getElem hlt2
        have e4 := congrArg (fun (q : List Int) => q[i]?) ho
        simp only [List.getElem?_map, e2, e3, Option.map_some] at e4
        have e5 : (pc : Int) + offs.toList[i] = (ts[i] : Int) := Option.some.inj e4
        rw [swf_in ts lo df x i ts[i] (by rw [hlo]; exact hb) (by rw [hlo]; exact hi) e2] at k1
        exact lv_tableIn C.1 C.2.1 hd (fun q => h1 (Or.inl q)) (fun q => h1 (Or.inr q)) (off := offs.toList[i]) (by rw [show (x.toInt - lo').toNat = i by omega, ← Array.getElem?_toList]; exact e3) e5 k1
    · cases h
end SNDS
