/-! SOUNDNESS: new cells, Node arrays, Object.<init>, arraycopy -/
section SNDNW
set_option maxRecDepth 100000
variable {E : GG → Nat × (Nat → Int32) → State → Prop} {S : Nat × (Nat → Int32)} {I : MI} {pc n t : Nat}
theorem Hp.size {G : GG} {z0 : Nat} {p : Program} {l : Launch} {e : Env} {R : Room} {s : State} {mm : MethodId} {args : Array Value} {below : List Frame} {meth : Method} {c : Code} {T : State} {H : Heap} {locs : List Loc} {cells slots : Nat} {m : PMem} (h : Hp G z0 s m H locs cells slots) (hb : gb G ≤ s.heap.size) (hT : T.heap = H) (X : Stand p l e R s mm args below meth c T locs cells slots) : H.size = gb G + gN m := by
  have h1 := X.heapSize
  rw [hT] at h1
  have h2 : gb G + gN m ≤ H.size := by
    cases hn : gN m with
    | zero => exact Nat.le_trans hb h.2.1.1
    | succ k =>
      have h3 := (h.1 k _ (wl_at G m (show k < gN m by omega))).lt
      dsimp only at h3
      omega
  have h4 := h.2.2.1
  omega
theorem cel_mA_ne {G : GG} {m : PMem} {k : Nat × Nat} {z b : Nat} (h : b ≠ gN m) : celX G (mA m k z) b = celX G m b := by
  have e1 : gI (mA m k z) b = gI m b := by funext j; rw [gI_mA, if_neg h]
  have e2 : gL (mA m k z) b = gL m b := by funext j; rw [gL_mA, if_neg h]
  have e3 : gR (mA m k z) b = gR m b := by funext j; rw [gR_mA, if_neg h]
  have e4 : gK (mA m k z) b = gK m b := by rw [gK_mA, if_neg h]
  have e5 : fvX G (mA m k z) b = fvX G m b := by funext c j; simp only [fvX, e1, e2, e3]
  simp only [celX, fvs, e1, e3, e4, e5]
theorem Hp.push {G : GG} {z0 : Nat} {s : State} {m : PMem} {H H1 : Heap} {locs : List Loc} {cells slots z : Nat} {k : Nat × Nat} (h : Hp G z0 s m H locs cells slots) (hsz : H.size = gb G + gN m) (z1 : H1.size = H.size + 1) (o1 : ∀ q : Nat, q < H.size → H1[q]? = H[q]?) (ha : va_at (gD G) clX (gb G + gN m, celX G (mA m k z) (gN m)) H1) (hm9 : ∀ c : Cell, H1[gb G + gN m]? = some c → (c.monitor.owner = none ∧ c.monitor.count = 0) ∧ (k = (0, 5) → c.slots.size = 8)) : Hp G z0 s (mA m k z) H1 locs (cells + 1) (slots + z) := by
  refine ⟨?_, ⟨Nat.le_trans h.2.1.1 (by omega), fun x h1 h2 => (o1 x (Nat.lt_of_lt_of_le h1 h.2.1.1)).trans (h.2.1.2.1 x h1 h2), h.2.1.2.2⟩, ?_, ?_, ?_, ?_⟩
  · rw [wl_push (m := m) (m' := mA m k z) rfl (fun b hb => cel_mA_ne (Nat.ne_of_lt hb))]
    refine va_P.app (h.1.kept (fun j x hx => o1 x.1 ((h.1 j x hx).lt))) (fun j x hx => ?_)
    have hz : j < 1 := (List.getElem?_eq_some_iff.mp hx).1
    rw [show j = 0 by omega] at hx
    cases hx
    exact ha
  · have := h.2.2.1
    rw [gN_mA]
    omega
  · have := h.2.2.2.1
    rw [gZ_mA]
    omega
  · intro b hb
    rw [gN_mA] at hb
    rw [gK_mA, if_neg (by omega)]
    exact h.2.2.2.2.1 b (by omega)
  · intro b cb hb hcb
    rw [gN_mA] at hb
    by_cases hbn : b = gN m
    · subst hbn
      rw [gK_mA, if_pos rfl]
      exact hm9 cb hcb
    · rw [o1 _ (by omega)] at hcb
      rw [gK_mA, if_neg hbn]
      exact h.2.2.2.2.2 b cb (by omega) hcb
theorem mA_obj {G : GG} {m : PMem} {c z : Nat} : celX G (mA m (0, c) z) (gN m) = .inr (c, fvs G (mA m (0, c) z) (gN m) c) := celX_obj (by rw [gK_mA, if_pos rfl])
theorem fv_mA {G : GG} {m : PMem} {k : Nat × Nat} {z c i : Nat} : fvX G (mA m k z) (gN m) c i = if fkX c i = 0 then .int 0 else if fkX c i = 1 then .long 0 else .null := by
  simp [fvX, gI_mA, gL_mA, gR_mA, va_rf]
theorem sn_new {ci idx Z : Nat} {Cn : String} {T : u_T} {N : Nat} {ty : Nat → FieldType} (hd : decode I.2.1 pc = .ok (.new idx, 3)) (hn : pc + 3 = n) (hc : ClO ci Cn T N ty) (hdef : ∀ j, j < N → defaultValue (ty j) = if fkX ci j = 0 then .int 0 else if fkX ci j = 1 then .long 0 else .null) (h1 : Cond.classLink I.1.cls idx Cn ∈ lw_all) (h2 : Cond.instantiable Cn Z ∈ lw_all) (h3 : Cond.initialized Cn ∈ lw_all) (h8 : ci = 5 → Z = 8) : SndN E S I pc (e_new n ci Z) := by
  constructor
  · intro ls st m pc' ls' st' m' h
    cases h
    rw [gN_mA, gZ_mA]
    exact ⟨Nat.le_succ _, Nat.le_add_right _ _⟩
  · intro G z0 p l e R s mm args below meth c H locs cells slots Q lsC ls st m pc' ls' st' m' C h hH hL hr hs k
    cases h
    subst hn
    rw [gN_mA] at hr
    rw [gZ_mA] at hs
    intro Tt hT X
    have hsz := hH.size C.2.2.2.2.2.2.2.2.1.1 hT X
    have hKn := C.2.2.2.2.2.2.1.1 ci _ hc.1
    refine (show W p l e R s mm args below meth c H locs cells slots Q (F0 mm pc lsC (st.map (cvv G))) from ?_) Tt hT X
    refine W.newcK (n := Z) C.1 C.2.1 C.2.2.2.1 (C.2.2.2.2.1 _ h1) (C.2.2.2.2.1 _ h2) (C.2.2.2.2.1 _ h3) rfl hd (by omega) (by omega) hKn.2.1 hsz fun H1 kC hkC e1 z1 o1 => ?_
    refine k H1 locs (cells + 1) (slots + Z) lsC (hH.push hsz (by omega) (fun q hq => o1 q (by omega)) ?_ (fun c9 h9 => by
      rw [e1] at h9
      cases h9
      refine ⟨⟨rfl, rfl⟩, fun h5 => ?_⟩
      obtain ⟨cX, kX, z1, z2, -, -, -, z6⟩ := Cond.instantiable_spec (C.2.2.2.2.1 _ h2)
      cases hKn.2.1.symm.trans z1
      cases hkC.symm.trans z2
      have h9 : Z = 8 := h8 (by cases h5; rfl)
      show (kC.instanceTypes.map defaultValue).size = 8
      rw [Array.size_map, z6, h9])) hL
    rw [mA_obj]
    refine ⟨_, hc.1, (u_born ty C.2.2.2.2.1 hc.2.2.1 hKn hkC e1 hc.2.2.2.1).to (fun j hj => ?_)⟩
    have hj2 : j < nfX ci := by rw [hc.2.1]; exact hj
    rw [hdef j hj]
    show _ = vp_V (fvs G (mA m (0, ci) Z) (gN m) ci) j
    simp [vp_V, fvs, hj2, fv_mA]
theorem mA_arr {G : GG} {m : PMem} {k N z : Nat} (h0 : k ≠ 0) (h4 : k ≠ 4) : celX G (mA m (k, N) z) (gN m) = .inl (gA G k, N, .inl (fun _ => 0)) := by
  rw [celX_arr (k := k) (by rw [gK_mA, if_pos rfl]) h0 h4, gK_mA, if_pos rfl]
  have e1 : gI (mA m (k, N) z) (gN m) = fun _ => 0 := by funext j; rw [gI_mA, if_pos rfl]
  rw [e1]
theorem mA_ref {G : GG} {m : PMem} {N z : Nat} : celX G (mA m (4, N) z) (gN m) = .inl (gA G 4, N, .inr (.inr (.inr (.inr (fun _ => none))))) := by
  rw [celX_ref (by rw [gK_mA, if_pos rfl]), gK_mA, if_pos rfl]
  have e1 : (fun i => (gR (mA m (4, N) z) (gN m) i).map (fun q => gb G + q)) = fun _ => none := by funext j; rw [gR_mA, if_pos rfl]; rfl
  rw [e1]
theorem i32_nn {x : Int32} (h : 0 ≤ x.toInt) : ¬ x < 0 := by
  rw [Int32.lt_iff_toInt_lt]
  simp only [Int32.toInt_zero]
  omega
theorem sn_newa {at0 : ArrayType} {kd : Nat} {ty : FieldType} {t0 : Nat} (hd : decode I.2.1 pc = .ok (.newarray at0, 2)) (hn : pc + 2 = n) (hty : newarray.typeOf at0 = ty) (hq : Cond.arrayClass ty ∈ lw_all) (hk0 : kd ≠ 0) (hk4 : kd ≠ 4) (ht : ∀ G : GG, (tyX G)[t0]? = some (gA G kd, ty)) (hra : ∀ (U : State) (cA : ClassId), va_RA U cA ty → U.vm.findClass ("[" ++ ty.toString) = some cA) (hcb : componentBytes ty ≤ 8) (hdv : defaultValue ty = .int 0) : SndN E S I pc (e_newa n kd) := by
  constructor
  · intro ls st m pc' ls' st' m' h
    dsimp only [e_newa] at h
    split at h
    · split at h <;> cases h
      rw [gN_mA, gZ_mA]
      exact ⟨Nat.le_succ _, Nat.le_add_right _ _⟩
    · cases h
  · intro G z0 p l e R s mm args below meth c H locs cells slots Q lsC ls st m pc' ls' st' m' C h hH hL hr hs k
    dsimp only [e_newa] at h
    split at h
    · rename_i x st2
      split at h
      · rename_i hx
        cases h
        subst hn
        subst hty
        rw [gN_mA] at hr
        rw [gZ_mA] at hs
        intro Tt hT X
        have hsz := hH.size C.2.2.2.2.2.2.2.2.1.1 hT X
        have hxn : x.toNatClampNeg ≤ 10000 := by
          show x.toInt.toNat ≤ 10000
          omega
        have hby : x.toNatClampNeg * componentBytes (newarray.typeOf at0) ≤ 536870912 := Nat.le_trans (Nat.mul_le_mul hxn hcb) (by decide)
        refine (show W p l e R s mm args below meth c H locs cells slots Q (F0 mm pc lsC ((Value.int x :: st2).map (cvv G))) from ?_) Tt hT X
        refine va_newaK C.1 C.2.1 (C.2.2.2.2.1 _ hq) rfl hd rfl (i32_nn hx.1) rfl hby (by omega) (by omega) hsz fun H1 cA e1 z1 o1 hAr hNm => ?_
        refine k H1 locs (cells + 1) (slots + x.toNatClampNeg) lsC (hH.push hsz (by omega) (fun q hq => o1 q (by omega)) ?_ (fun c9 h9 => by rw [e1] at h9; cases h9; exact ⟨⟨rfl, rfl⟩, fun h5 => absurd (congrArg Prod.fst h5) hk0⟩)) hL
        rw [mA_arr hk0 hk4]
        have e2 := hra s _ (C.2.2.2.2.2.2.1.2 t0 _ (ht G)).2
        have e3 : cA = gA G kd := Option.some.inj (hNm.symm.trans e2)
        rw [← e3]
        show H1[gb G + gN m]? = some (vp_cell cA (x.toNatClampNeg, .inl (fun _ => 0)))
        rw [e1, hdv]
        rfl
      · cases h
    · cases h
theorem sn_anewa {idx : Nat} (hd : decode I.2.1 pc = .ok (.anewarray idx, 3)) (hn : pc + 3 = n) (h1 : Cond.classLink I.1.cls idx "PlyHouse$Node" ∈ lw_all) (hao : ∀ G s, E G S s → va_AO "PlyHouse$Node" s) : SndN E S I pc (e_newa n 4) := by
  constructor
  · intro ls st m pc' ls' st' m' h
    dsimp only [e_newa] at h
    split at h
    · split at h <;> cases h
      rw [gN_mA, gZ_mA]
      exact ⟨Nat.le_succ _, Nat.le_add_right _ _⟩
    · cases h
  · intro G z0 p l e R s mm args below meth c H locs cells slots Q lsC ls st m pc' ls' st' m' C h hH hL hr hs k
    dsimp only [e_newa] at h
    split at h
    · rename_i x st2
      split at h
      · rename_i hx
        cases h
        subst hn
        rw [gN_mA] at hr
        rw [gZ_mA] at hs
        intro Tt hT X
        have hsz := hH.size C.2.2.2.2.2.2.2.2.1.1 hT X
        have hxn : x.toNatClampNeg ≤ 10000 := by
          show x.toInt.toNat ≤ 10000
          omega
        refine (show W p l e R s mm args below meth c H locs cells slots Q (F0 mm pc lsC ((Value.int x :: st2).map (cvv G))) from ?_) Tt hT X
        refine W.anew C.1 C.2.1 C.2.2.2.1 (C.2.2.2.2.1 _ h1) (va_AO.use (hao G s C.2.2.2.2.2.2.2.1)) rfl hd rfl (i32_nn hx.1) (by omega) (by omega) (by omega) fun cA kA comp f1 f2 f3 f4 => ?_
        generalize hH1 : H.push ({ cls := cA, slots := Array.replicate x.toNatClampNeg .null, vm := .none } : Cell) = H1
        have z1 : H1.size = H.size + 1 := by rw [← hH1, Array.size_push]
        have e1 : H1[H.size]? = some (arrV cA x.toNatClampNeg (fun _ => .null)) := by rw [← hH1, Array.getElem?_push_size, ← arrV_new]
        have o1 : ∀ q : Nat, q < H.size → H1[q]? = H[q]? := fun q hq => by rw [← hH1, Array.getElem?_push, if_neg (Nat.ne_of_lt hq)]
        have k1 := k H1 locs (cells + 1) (slots + x.toNatClampNeg) lsC (hH.push hsz z1 o1 (by
          rw [mA_ref]
          obtain ⟨kA2, comp2, g1, g2, g3, g4⟩ := (C.2.2.2.2.2.2.1.2 3 _ rfl).2
          have e3 : cA = gA G 4 := Option.some.inj (f1.symm.trans g4)
          rw [← e3]
          show H1[gb G + gN m]? = some (vp_cell cA (x.toNatClampNeg, .inr (.inr (.inr (.inr (fun _ => none))))))
          rw [← hsz, e1]
          rfl) (fun c9 h9 => by rw [← hsz, e1] at h9; cases h9; exact ⟨⟨rfl, rfl⟩, fun h5 => by cases h5⟩)) hL
        rw [List.map_cons] at k1
        dsimp only [cvv] at k1
        rw [← hsz] at k1
        exact k1
      · cases h
    · cases h
theorem cel_sR_arr {G : GG} {m : PMem} {a j b : Nat} (h : (gK m a).1 = 4) : celX G (sR m a j (some b)) a = .inl (gA G 4, (gK m a).2, .inr (.inr (.inr (.inr (va_up (fun i => (gR m a i).map (fun q => gb G + q)) j (some (gb G + b))))))) := by
  rw [celX_ref (by rw [gK_sR]; exact h), gK_sR]
  have e1 : (fun i => (gR (sR m a j (some b)) a i).map (fun q => gb G + q)) = va_up (fun i => (gR m a i).map (fun q => gb G + q)) j (some (gb G + b)) := by
    funext i
    by_cases hi : i = j
    · subst hi; simp [gR_sR, va_up]
    · simp [gR_sR, va_up, hi]
  rw [e1]
theorem sn_aast (hd : decode I.2.1 pc = .ok (.aastore, 1)) (hn : pc + 1 = n) (hca : ∀ G s, E G S s → ∀ ci r, clX[ci]? = some r → 6 ≤ ci → ci ≤ 11 → va_Nw (.castable r.1 "PlyHouse$Node") s) : SndN E S I pc (e_aast n) := by
  constructor
  · intro ls st m pc' ls' st' m' h
    dsimp only [e_aast] at h
    split at h
    · split at h <;> cases h
      exact ⟨Nat.le_refl _, Nat.le_refl _⟩
    · cases h
  · intro G z0 p l e R s mm args below meth c H locs cells slots Q lsC ls st m pc' ls' st' m' C h hH hL hr hs k
    dsimp only [e_aast] at h
    split at h
    · rename_i b j a st2
      split at h
      · rename_i hh
        cases h
        subst hn
        have hb1 : gK m b = (0, (gK m b).2) := by rw [← hh.2.1]
        have hbl := hH.2.2.2.2.1.lt hb1 (by decide)
        have hv : (wl G m)[b]? = some (gb G + b, .inr ((gK m b).2, fvs G m b (gK m b).2)) := by rw [wl_at G m hbl, celX_obj hb1]
        obtain ⟨r, hr1, -⟩ := hH.1 b _ hv
        exact ma_astqO C.1 C.2.1 C.2.2.2.2.2.2.1 hH.1 (wl_D G m) hH.2.1 _ 3 b (gK m b).2 (wl_ref hH.2.2.2.2.1 hh.1.1) rfl (hca G s C.2.2.2.2.2.2.2.1 _ r hr1 hh.2.2.1 hh.2.2.2) hv hr1 (vp_in_iff.mpr hh.1.2) hd (fun H1 l1 g1 _ g3 g4 => k _ _ _ _ _ (hH.put (m' := sR _ _ _ _) rfl rfl (fun _ => rfl) (fun b hb => cel_sR_ne hb) (cel_sR_arr hh.1.1) g1 g3 g4) hL)
      · cases h
    · cases h
theorem cat_sum : ∀ (st : List Value), (st.map fun v => v.category).sum ≤ 2 * st.length
  | [] => by simp
  | v :: st => by
    have h1 := cat_sum st
    have h2 : v.category ≤ 2 := by rcases lv_cat v with h | h <;> omega
    simp only [List.map_cons, List.sum_cons, List.length_cons]
    omega
theorem cat_map {G : GG} {st : List Value} (h : ¬ 4 < st.length) : ((st.map (cvv G)).map fun v => v.category).sum ≤ 8 := by
  have := cat_sum (st.map (cvv G))
  rw [List.length_map] at this
  omega
theorem sn_oin {idx : Nat} (hd : decode I.2.1 pc = .ok (.invokespecial idx, 3)) (hn : pc + 3 = n) (h1 : Cond.methodLink I.1.cls idx Lib.objectInit ∈ lw_all) (h2 : Cond.instanceMethod Lib.objectInit ∈ lw_all) (h3 : Cond.code Lib.objectInit ⟨#[0xb1]⟩ 1 none ∈ lw_all) : SndN E S I pc (e_oin n) := by
  constructor
  · intro ls st m pc' ls' st' m' h
    dsimp only [e_oin] at h
    split at h
    · split at h <;> cases h
      exact ⟨Nat.le_refl _, Nat.le_refl _⟩
    · cases h
  · intro G z0 p l e R s mm args below meth c H locs cells slots Q lsC ls st m pc' ls' st' m' C h hH hL hr hs k
    dsimp only [e_oin] at h
    split at h
    · split at h
      · cases h
      · rename_i h4
        cases h
        subst hn
        have hc := cat_map (G := G) h4
        refine W.objInit C.1 C.2.1 C.2.2.2.1 (C.2.2.2.2.1 _ h1) (C.2.2.2.2.1 _ h2) (C.2.2.2.2.1 _ h3) rfl (by rw [C.2.2.1]; exact hL.1) rfl hd (by have := C.2.2.2.2.2.2.2.2.1.2.1; omega) ?_ (k _ _ _ _ _ hH hL)
        have := C.2.2.2.2.2.2.2.2.1.2.2
        show 2 * 0 + _ + 12 ≤ _
        omega
    · cases h
theorem cel_cI_ne {G : GG} {m : PMem} {a b : Nat} {f : Nat → Int32} (h : b ≠ a) : celX G (cI m a f) b = celX G m b := by
  have e1 : gI (cI m a f) b = gI m b := by funext j; rw [gI_cI, if_neg h]
  have e2 : fvX G (cI m a f) b = fvX G m b := by funext c j; simp only [fvX, gR_cI, gL_cI, e1]
  simp only [celX, fvs, gK_cI, gR_cI, e1, e2]
theorem cel_cI_arr {G : GG} {m : PMem} {a k : Nat} {f : Nat → Int32} (h : (gK m a).1 = k) (h0 : k ≠ 0) (h4 : k ≠ 4) : celX G (cI m a f) a = .inl (gA G k, (gK m a).2, .inl f) := by
  rw [celX_arr (k := k) (by rw [gK_cI]; exact h) h0 h4, gK_cI]
  have e1 : gI (cI m a f) a = f := by funext j; rw [gI_cI, if_pos rfl]
  rw [e1]
theorem sn_acp {idx : Nat} (hd : decode I.2.1 pc = .ok (.invokestatic idx, 3)) (hn : pc + 3 = n) (h1 : Cond.methodLink I.1.cls idx arraycopyName ∈ lw_all) (h2 : Cond.native arraycopyName ∈ lw_all) (h3 : Cond.static arraycopyName ∈ lw_all) (h4 : Cond.initialized "java/lang/System" ∈ lw_all) : SndN E S I pc (e_acp n) := by
  constructor
  · intro ls st m pc' ls' st' m' h
    dsimp only [e_acp] at h
    split at h
    · split at h
      · cases h
      · split at h <;> cases h
        exact ⟨Nat.le_refl _, Nat.le_refl _⟩
    · cases h
  · intro G z0 p l e R s mm args below meth c H locs cells slots Q lsC ls st m pc' ls' st' m' C h hH hL hr hs k
    dsimp only [e_acp] at h
    split at h
    · rename_i cnt dp b sp a st2
      split at h
      · cases h
      · rename_i h5
        split at h
        · rename_i hh
          cases h
          subst hn
          have hc := cat_map (G := G) h5
          obtain ⟨⟨ha, hb, hne⟩, ⟨p1, p2, p3, p4, p5⟩, hfit⟩ := hh
          refine ma_copyi C.1 C.2.1 (by rw [C.2.2.1]; exact hL.1.symm) C.2.2.2.1 (C.2.2.2.2.1 _ h1) (C.2.2.2.2.1 _ h2) (C.2.2.2.2.1 _ h3) (C.2.2.2.2.1 _ h4) C.2.2.2.2.2.2.1 hH.1 (wl_D G m) hH.2.1 a b 1 1 (wl_arr hH.2.2.2.2.1 ha (by decide) (by decide) (by decide)) (wl_arr hH.2.2.2.2.1 hb (by decide) (by decide) (by decide)) rfl rfl rfl (i32_nn p1) (i32_nn p2) (i32_nn p3) p4 p5 ?_ (by have := C.2.2.2.2.2.2.2.2.1.2.1; omega) ?_ hd (fun H1 l1 g1 _ g3 g4 => k _ _ _ _ _ (hH.put (m' := cI _ _ _) rfl rfl (fun _ => rfl) (fun b hb => cel_cI_ne hb) (cel_cI_arr hb (by decide) (by decide)) g1 g3 g4) hL)
          · intro i hi
            rw [← hfit i hi]
            exact pk_fb _
          · have := C.2.2.2.2.2.2.2.2.1.2.2
            have e1 : nativeFrameWords "java/lang/System" "arraycopy" 5 ≤ 64 := by decide
            omega
        · cases h
    · cases h
end SNDNW
