/-! SOUNDNESS: field writes, arrays, new cells -/
section SNDA
set_option maxRecDepth 100000
variable {E : GG → Nat × (Nat → Int32) → State → Prop} {S : Nat × (Nat → Int32)} {I : MI} {pc n t : Nat}
theorem sn_pI {ci i idx : Nat} {Cn ref : String} {T : u_T} {N : Nat} {ty : Nat → FieldType} (hd : decode I.2.1 pc = .ok (.putfield idx, 3)) (hn : pc + 3 = n) (hc : ClO ci Cn T N ty) (hi : i < N) (hk : fkX ci i = 0) (hl : PtF E S I idx ref (T i)) (hs : SmF ref (T i).1 (T i).2.1 (T i).2.2.1) (hf : ∀ v : Int32, narrow (ty i) (.int v) = .int v ∧ fits (ty i) (.int v) = true) : SndN E S I pc (e_pI n ci i) := by
  constructor
  · intro ls st m pc' ls' st' m' h
    dsimp only [e_pI] at h
    split at h
    · split at h <;> cases h
      exact ⟨Nat.le_refl _, Nat.le_refl _⟩
    · cases h
  · intro G z0 p l e R s mm args below meth c H locs cells slots Q lsC ls st m pc' ls' st' m' C h hH hL _ _ k
    dsimp only [e_pI] at h
    split at h
    · split at h
      · rename_i hh
        cases h
        subst hn
        exact sn_put (m' := sI _ _ _ _) (v := .int _) C hH hh hd hc hi hl hs (hf _).1 (hf _).2 rfl rfl (fun _ => rfl) (fun b hb => cel_sI_ne hb) (fvs_sI hk) (fun H' locs' h' => k _ _ _ _ _ h' hL)
      · cases h
    · cases h
theorem sn_pZ {ci i idx : Nat} {Cn ref : String} {T : u_T} {N : Nat} {ty : Nat → FieldType} (hd : decode I.2.1 pc = .ok (.putfield idx, 3)) (hn : pc + 3 = n) (hc : ClO ci Cn T N ty) (hi : i < N) (hk : fkX ci i = 0) (hl : PtF E S I idx ref (T i)) (hs : SmF ref (T i).1 (T i).2.1 (T i).2.2.1) (hty : ty i = .boolean) : SndN E S I pc (e_pZ n ci i) := by
  constructor
  · intro ls st m pc' ls' st' m' h
    dsimp only [e_pZ] at h
    split at h
    · split at h <;> cases h
      exact ⟨Nat.le_refl _, Nat.le_refl _⟩
    · cases h
  · intro G z0 p l e R s mm args below meth c H locs cells slots Q lsC ls st m pc' ls' st' m' C h hH hL _ _ k
    dsimp only [e_pZ] at h
    split at h
    · split at h
      · rename_i v a st2 hh
        cases h
        subst hn
        have h1 : narrow (ty i) (.int v) = .int v ∧ fits (ty i) (.int v) = true := by
          rw [hty]
          rcases hh.2 with rfl | rfl <;> exact ⟨rfl, rfl⟩
        exact sn_put (m' := sI _ _ _ _) (v := .int _) C hH hh.1 hd hc hi hl hs h1.1 h1.2 rfl rfl (fun _ => rfl) (fun b hb => cel_sI_ne hb) (fvs_sI hk) (fun H' locs' h' => k _ _ _ _ _ h' hL)
      · cases h
    · cases h
theorem sn_pL {ci i idx : Nat} {Cn ref : String} {T : u_T} {N : Nat} {ty : Nat → FieldType} (hd : decode I.2.1 pc = .ok (.putfield idx, 3)) (hn : pc + 3 = n) (hc : ClO ci Cn T N ty) (hi : i < N) (hk : fkX ci i = 1) (hl : PtF E S I idx ref (T i)) (hs : SmF ref (T i).1 (T i).2.1 (T i).2.2.1) (hf : ∀ v : Int64, narrow (ty i) (.long v) = .long v ∧ fits (ty i) (.long v) = true) : SndN E S I pc (e_pL n ci i) := by
  constructor
  · intro ls st m pc' ls' st' m' h
    dsimp only [e_pL] at h
    split at h
    · split at h <;> cases h
      exact ⟨Nat.le_refl _, Nat.le_refl _⟩
    · cases h
  · intro G z0 p l e R s mm args below meth c H locs cells slots Q lsC ls st m pc' ls' st' m' C h hH hL _ _ k
    dsimp only [e_pL] at h
    split at h
    · split at h
      · rename_i hh
        cases h
        subst hn
        exact sn_put (m' := sL _ _ _ _) (v := .long _) C hH hh hd hc hi hl hs (hf _).1 (hf _).2 rfl rfl (fun _ => rfl) (fun b hb => cel_sL_ne hb) (fvs_sL hk) (fun H' locs' h' => k _ _ _ _ _ h' hL)
      · cases h
    · cases h
theorem sn_pR {ci i idx : Nat} {Cn ref : String} {T : u_T} {N : Nat} {ty : Nat → FieldType} (hd : decode I.2.1 pc = .ok (.putfield idx, 3)) (hn : pc + 3 = n) (hc : ClO ci Cn T N ty) (hi : i < N) (hk : fkX ci i = 2) (hl : PtF E S I idx ref (T i)) (hs : SmF ref (T i).1 (T i).2.1 (T i).2.2.1) (hf : ∀ v : Nat, narrow (ty i) (.ref v) = .ref v ∧ fits (ty i) (.ref v) = true) : SndN E S I pc (e_pR n ci i) := by
  constructor
  · intro ls st m pc' ls' st' m' h
    dsimp only [e_pR] at h
    split at h
    · split at h <;> cases h
      exact ⟨Nat.le_refl _, Nat.le_refl _⟩
    · cases h
  · intro G z0 p l e R s mm args below meth c H locs cells slots Q lsC ls st m pc' ls' st' m' C h hH hL _ _ k
    dsimp only [e_pR] at h
    split at h
    · split at h
      · rename_i hh
        cases h
        subst hn
        exact sn_put (m' := sR _ _ _ _) (v := .ref _) C hH hh hd hc hi hl hs (hf _).1 (hf _).2 rfl rfl (fun _ => rfl) (fun b hb => cel_sR_ne hb) (fvs_sR hk) (fun H' locs' h' => k _ _ _ _ _ h' hL)
      · cases h
    · cases h
theorem sn_pT {i idx : Nat} (hd : decode I.2.1 pc = .ok (.putfield idx, 3)) (hn : pc + 3 = n) (hi : i < 2) (hl9 : PtF E S I idx "PlyHouse$Two" (TX11 i)) (hl10 : PtF E S I idx "PlyHouse$Two" (TX12 i)) (hl11 : PtF E S I idx "PlyHouse$Two" (TX13 i)) : SndN E S I pc (e_pT n i) := by
  constructor
  · intro ls st m pc' ls' st' m' h
    dsimp only [e_pT] at h
    split at h
    · split at h <;> cases h
      exact ⟨Nat.le_refl _, Nat.le_refl _⟩
    · cases h
  · intro G z0 p l e R s mm args below meth c H locs cells slots Q lsC ls st m pc' ls' st' m' C h hH hL _ _ k
    dsimp only [e_pT] at h
    split at h
    · split at h
      · rename_i b a st2 hh
        cases h
        subst hn
        have hi2 : i = 0 ∨ i = 1 := by omega
        rcases hi2 with rfl | rfl <;> rcases hh with hh | hh | hh
        · exact sn_put (m' := sR _ _ _ _) (v := .ref _) C hH hh hd cl_9 (by omega) hl9 (Or.inl rfl) rfl rfl rfl rfl (fun _ => rfl) (fun b hb => cel_sR_ne hb) (fvs_sR rfl) (fun H' locs' h' => k _ _ _ _ _ h' hL)
        · exact sn_put (m' := sR _ _ _ _) (v := .ref _) C hH hh hd cl_10 (by omega) hl10 (Or.inl rfl) rfl rfl rfl rfl (fun _ => rfl) (fun b hb => cel_sR_ne hb) (fvs_sR rfl) (fun H' locs' h' => k _ _ _ _ _ h' hL)
        · exact sn_put (m' := sR _ _ _ _) (v := .ref _) C hH hh hd cl_11 (by omega) hl11 (Or.inl rfl) rfl rfl rfl rfl (fun _ => rfl) (fun b hb => cel_sR_ne hb) (fvs_sR rfl) (fun H' locs' h' => k _ _ _ _ _ h' hL)
        · exact sn_put (m' := sR _ _ _ _) (v := .ref _) C hH hh hd cl_9 (by omega) hl9 (Or.inl rfl) rfl rfl rfl rfl (fun _ => rfl) (fun b hb => cel_sR_ne hb) (fvs_sR rfl) (fun H' locs' h' => k _ _ _ _ _ h' hL)
        · exact sn_put (m' := sR _ _ _ _) (v := .ref _) C hH hh hd cl_10 (by omega) hl10 (Or.inl rfl) rfl rfl rfl rfl (fun _ => rfl) (fun b hb => cel_sR_ne hb) (fvs_sR rfl) (fun H' locs' h' => k _ _ _ _ _ h' hL)
        · exact sn_put (m' := sR _ _ _ _) (v := .ref _) C hH hh hd cl_11 (by omega) hl11 (Or.inl rfl) rfl rfl rfl rfl (fun _ => rfl) (fun b hb => cel_sR_ne hb) (fvs_sR rfl) (fun H' locs' h' => k _ _ _ _ _ h' hL)
      · cases h
    · cases h
theorem WFm.lt' {m : PMem} (h : WFm m) {a k : Nat} (hk : (gK m a).1 = k) (h9 : k ≠ 9) : a < gN m := h.lt (k := k) (n := (gK m a).2) (by rw [← hk]) h9
theorem wl_arr {G : GG} {m : PMem} {a k : Nat} (hw : WFm m) (h : (gK m a).1 = k) (h0 : k ≠ 0) (h4 : k ≠ 4) (h9 : k ≠ 9) : (wl G m)[a]? = some (gb G + a, .inl (gA G k, (gK m a).2, .inl (gI m a))) := by
  rw [wl_at G m (hw.lt' h h9), celX_arr h h0 h4]
theorem wl_ref {G : GG} {m : PMem} {a : Nat} (hw : WFm m) (h : (gK m a).1 = 4) : (wl G m)[a]? = some (gb G + a, .inl (gA G 4, (gK m a).2, .inr (.inr (.inr (.inr (fun i => (gR m a i).map (fun q => gb G + q))))))) := by
  rw [wl_at G m (hw.lt' h (by decide)), celX_ref h]
theorem sn_iald (hd : decode I.2.1 pc = .ok (.iaload, 1)) (hn : pc + 1 = n) : SndN E S I pc (e_ald n 1) := by
  constructor
  · intro ls st m pc' ls' st' m' h
    dsimp only [e_ald] at h
    split at h
    · split at h <;> cases h
      exact ⟨Nat.le_refl _, Nat.le_refl _⟩
    · cases h
  · intro G z0 p l e R s mm args below meth c H locs cells slots Q lsC ls st m pc' ls' st' m' C h hH hL _ _ k
    dsimp only [e_ald] at h
    split at h
    · split at h
      · rename_i hh
        cases h
        subst hn
        exact va_iald C.1 C.2.1 C.2.2.2.2.2.2.1 hH.1 _ 0 (wl_arr hH.2.2.2.2.1 hh.1 (by decide) (by decide) (by decide)) rfl (vp_in_iff.mpr hh.2) hd (k _ _ _ _ _ hH hL)
      · cases h
    · cases h
theorem sn_bald (hd : decode I.2.1 pc = .ok (.baload, 1)) (hn : pc + 1 = n) : SndN E S I pc (e_ald n 2) := by
  constructor
  · intro ls st m pc' ls' st' m' h
    dsimp only [e_ald] at h
    split at h
    · split at h <;> cases h
      exact ⟨Nat.le_refl _, Nat.le_refl _⟩
    · cases h
  · intro G z0 p l e R s mm args below meth c H locs cells slots Q lsC ls st m pc' ls' st' m' C h hH hL _ _ k
    dsimp only [e_ald] at h
    split at h
    · split at h
      · rename_i hh
        cases h
        subst hn
        exact va_bald C.1 C.2.1 C.2.2.2.2.2.2.1 hH.1 _ 1 (wl_arr hH.2.2.2.2.1 hh.1 (by decide) (by decide) (by decide)) rfl (vp_in_iff.mpr hh.2) hd (k _ _ _ _ _ hH hL)
      · cases h
    · cases h
theorem sn_zald (hd : decode I.2.1 pc = .ok (.baload, 1)) (hn : pc + 1 = n) : SndN E S I pc (e_ald n 3) := by
  constructor
  · intro ls st m pc' ls' st' m' h
    dsimp only [e_ald] at h
    split at h
    · split at h <;> cases h
      exact ⟨Nat.le_refl _, Nat.le_refl _⟩
    · cases h
  · intro G z0 p l e R s mm args below meth c H locs cells slots Q lsC ls st m pc' ls' st' m' C h hH hL _ _ k
    dsimp only [e_ald] at h
    split at h
    · split at h
      · rename_i hh
        cases h
        subst hn
        exact va_zald C.1 C.2.1 C.2.2.2.2.2.2.1 hH.1 _ 2 (wl_arr hH.2.2.2.2.1 hh.1 (by decide) (by decide) (by decide)) rfl (vp_in_iff.mpr hh.2) hd (k _ _ _ _ _ hH hL)
      · cases h
    · cases h
theorem cel_sI_arr {G : GG} {m : PMem} {a k j : Nat} {v : Int32} (h : (gK m a).1 = k) (h0 : k ≠ 0) (h4 : k ≠ 4) : celX G (sI m a j v) a = .inl (gA G k, (gK m a).2, .inl (upd (gI m a) j v)) := by
  rw [celX_arr (k := k) (by rw [gK_sI]; exact h) h0 h4, gK_sI]
  have e1 : gI (sI m a j v) a = upd (gI m a) j v := by
    funext i
    simp [gI_sI, upd]
  rw [e1]
theorem sn_iast (hd : decode I.2.1 pc = .ok (.iastore, 1)) (hn : pc + 1 = n) : SndN E S I pc (e_iast n) := by
  constructor
  · intro ls st m pc' ls' st' m' h
    dsimp only [e_iast] at h
    split at h
    · split at h <;> cases h
      exact ⟨Nat.le_refl _, Nat.le_refl _⟩
    · cases h
  · intro G z0 p l e R s mm args below meth c H locs cells slots Q lsC ls st m pc' ls' st' m' C h hH hL _ _ k
    dsimp only [e_iast] at h
    split at h
    · split at h
      · rename_i hh
        cases h
        subst hn
        exact ma_iast C.1 C.2.1 C.2.2.2.2.2.2.1 hH.1 (wl_D G m) hH.2.1 _ 0 (wl_arr hH.2.2.2.2.1 hh.1 (by decide) (by decide) (by decide)) rfl (vp_in_iff.mpr hh.2) hd (fun H1 l1 g1 _ g3 g4 => k _ _ _ _ _ (hH.put (m' := sI _ _ _ _) rfl rfl (fun _ => rfl) (fun b hb => cel_sI_ne hb) (cel_sI_arr hh.1 (by decide) (by decide)) g1 g3 g4) hL)
      · cases h
    · cases h
theorem sn_bast (hd : decode I.2.1 pc = .ok (.bastore, 1)) (hn : pc + 1 = n) : SndN E S I pc (e_bast n) := by
  constructor
  · intro ls st m pc' ls' st' m' h
    dsimp only [e_bast] at h
    split at h
    · split at h <;> cases h
      exact ⟨Nat.le_refl _, Nat.le_refl _⟩
    · cases h
  · intro G z0 p l e R s mm args below meth c H locs cells slots Q lsC ls st m pc' ls' st' m' C h hH hL _ _ k
    dsimp only [e_bast] at h
    split at h
    · split at h
      · rename_i hh
        cases h
        subst hn
        refine ma_bast C.1 C.2.1 C.2.2.2.2.2.2.1 hH.1 (wl_D G m) hH.2.1 _ 1 (wl_arr hH.2.2.2.2.1 hh.1 (by decide) (by decide) (by decide)) rfl (vp_in_iff.mpr hh.2) hd (fun H1 l1 g1 _ g3 g4 => ?_)
        rw [vp_nar_byte] at g1
        exact k _ _ _ _ _ (hH.put (m' := sI _ _ _ _) rfl rfl (fun _ => rfl) (fun b hb => cel_sI_ne hb) (cel_sI_arr hh.1 (by decide) (by decide)) g1 g3 g4) hL
      · cases h
    · cases h
theorem sn_zast (hd : decode I.2.1 pc = .ok (.bastore, 1)) (hn : pc + 1 = n) : SndN E S I pc (e_zast n) := by
  constructor
  · intro ls st m pc' ls' st' m' h
    dsimp only [e_zast] at h
    split at h
    · split at h <;> cases h
      exact ⟨Nat.le_refl _, Nat.le_refl _⟩
    · cases h
  · intro G z0 p l e R s mm args below meth c H locs cells slots Q lsC ls st m pc' ls' st' m' C h hH hL _ _ k
    dsimp only [e_zast] at h
    split at h
    · split at h
      · rename_i v j a st2 hh
        cases h
        subst hn
        refine ma_zast C.1 C.2.1 C.2.2.2.2.2.2.1 hH.1 (wl_D G m) hH.2.1 _ 2 (wl_arr hH.2.2.2.2.1 hh.1 (by decide) (by decide) (by decide)) rfl (vp_in_iff.mpr hh.2.1) hd (fun H1 l1 g1 _ g3 g4 => ?_)
        have e1 : vp_nar .boolean v = v := by rcases hh.2.2 with rfl | rfl <;> rfl
        rw [e1] at g1
        exact k _ _ _ _ _ (hH.put (m' := sI _ _ _ _) rfl rfl (fun _ => rfl) (fun b hb => cel_sI_ne hb) (cel_sI_arr hh.1 (by decide) (by decide)) g1 g3 g4) hL
      · cases h
    · cases h
theorem sn_aald (hd : decode I.2.1 pc = .ok (.aaload, 1)) (hn : pc + 1 = n) : SndN E S I pc (e_aald n) := by
  constructor
  · intro ls st m pc' ls' st' m' h
    dsimp only [e_aald] at h
    split at h
    · split at h <;> cases h
      exact ⟨Nat.le_refl _, Nat.le_refl _⟩
    · cases h
  · intro G z0 p l e R s mm args below meth c H locs cells slots Q lsC ls st m pc' ls' st' m' C h hH hL _ _ k
    dsimp only [e_aald] at h
    split at h
    · split at h
      · rename_i hh
        cases h
        subst hn
        have k1 := k _ _ _ _ _ hH hL
        rw [List.map_cons, cvv_rf] at k1
        exact va_aldq C.1 C.2.1 C.2.2.2.2.2.2.1 hH.1 _ 3 (wl_ref hH.2.2.2.2.1 hh.1) rfl (vp_in_iff.mpr hh.2) hd k1
      · cases h
    · cases h
end SNDA
