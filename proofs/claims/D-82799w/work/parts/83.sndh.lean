/-! SOUNDNESS: fields and arrays -/
section SNDH
set_option maxRecDepth 100000
variable {E : GG → Nat × (Nat → Int32) → State → Prop} {S : Nat × (Nat → Int32)} {I : MI} {pc n t : Nat}
def ClO (ci : Nat) (C : String) (T : u_T) (N : Nat) (ty : Nat → FieldType) : Prop := clX[ci]? = some (C, T, N) ∧ nfX ci = N ∧ (∀ w ∈ u_ws C T N, w ∈ lw_all) ∧ (∀ k, k < N → parseFieldDescriptor (T k).2.2.1 = some (ty k)) ∧ (∀ a, a < N → ∀ b, b < N → a ≠ b → (T a).2.1 ≠ (T b).2.1)
def tyXw : Nat → FieldType := fun k => match k with
  | 0 => .int
  | 1 => .int
  | _ => .object "java/lang/Object"
theorem in_Xw : ∀ w ∈ u_ws RX5 TXw 3, w ∈ lw_all := by
  intro w hw
  have h : w = u_lay RX5 TXw 0 ∨ w = u_lay RX5 TXw 1 ∨ w = u_lay RX5 TXw 2 := by
    simp only [u_ws, List.range, List.range.loop, List.map_cons, List.map_nil, List.mem_cons, List.not_mem_nil, or_false] at hw
    exact hw
  rcases h with rfl | rfl | rfl
  · exact q254
  · exact q256
  · exact q219
theorem cl_0 : ClO 0 RX0 TX0 35 tyX0 := ⟨rfl, rfl, in_X0, tyX0_ok, nmX0⟩
theorem cl_1 : ClO 1 RX1 TX1 4 tyX1 := ⟨rfl, rfl, in_X1, tyX1_ok, nmX1⟩
theorem cl_2 : ClO 2 RX2 TX2 5 tyX2 := ⟨rfl, rfl, in_X2, tyX2_ok, nmX2⟩
theorem cl_3 : ClO 3 RX3 TX3 61 tyX3 := ⟨rfl, rfl, in_X3, tyX3_ok, nmX3⟩
theorem cl_4 : ClO 4 RX4 TX4 8 tyX4 := ⟨rfl, rfl, in_X4, tyX4_ok, nmX4⟩
theorem cl_5 : ClO 5 RX5 TXw 3 tyXw := ⟨rfl, rfl, in_Xw, by decide +kernel, by decide +kernel⟩
theorem cl_6 : ClO 6 RX7 TX7 1 tyX7 := ⟨rfl, rfl, in_X7, tyX7_ok, nmX7⟩
theorem cl_7 : ClO 7 RX8 TX8 1 tyX8 := ⟨rfl, rfl, in_X8, tyX8_ok, nmX8⟩
theorem cl_8 : ClO 8 RX9 TX9 1 tyX9 := ⟨rfl, rfl, in_X9, tyX9_ok, nmX9⟩
theorem cl_9 : ClO 9 RX11 TX11 3 tyX11 := ⟨rfl, rfl, in_X11, tyX11_ok, nmX11⟩
theorem cl_10 : ClO 10 RX12 TX12 3 tyX12 := ⟨rfl, rfl, in_X12, tyX12_ok, nmX12⟩
theorem cl_11 : ClO 11 RX13 TX13 3 tyX13 := ⟨rfl, rfl, in_X13, tyX13_ok, nmX13⟩
/-- a field's link is in the tables: its own, or a nest mate's -/
def LkF (E : GG → Nat × (Nat → Int32) → State → Prop) (S : Nat × (Nat → Int32)) (I : MI) (idx : Nat) (ref name desc : String) : Prop := Cond.fieldLink I.1.cls idx ref name desc ∈ lw_all ∨ ∃ host, ∀ G s, E G S s → va_Nw (Cond.fieldLinkNest I.1.cls idx ref name desc host) s
def SmF (ref owner name desc : String) : Prop := ref = owner ∨ Cond.sameField ref owner name desc ∈ lw_all
theorem SmF.ok {ref owner name desc : String} (h : SmF ref owner name desc) {s : State} {args : Array Value} (hts : ∀ w ∈ lw_all, w.before args s = true) : ∀ x, s.fieldFound? owner name desc = some x → s.fieldFound? ref name desc = some x := by
  rcases h with h | h
  · subst h
    exact fun _ h => h
  · exact fun x hx => u_same (hts _ h) x hx
theorem celX_obj {G : GG} {m : PMem} {a c : Nat} (h : gK m a = (0, c)) : celX G m a = .inr (c, fvs G m a c) := by simp [celX, h]
theorem celX_arr {G : GG} {m : PMem} {a k : Nat} (h : (gK m a).1 = k) (h0 : k ≠ 0) (h4 : k ≠ 4) : celX G m a = .inl (gA G k, (gK m a).2, .inl (gI m a)) := by
  subst h
  simp [celX, h0, h4]
theorem celX_ref {G : GG} {m : PMem} {a : Nat} (h : (gK m a).1 = 4) : celX G m a = .inl (gA G 4, (gK m a).2, .inr (.inr (.inr (.inr (fun i => (gR m a i).map (fun q => gb G + q)))))) := by
  simp [celX, h]
theorem fvs_at {G : GG} {m : PMem} {a c i : Nat} (h : i < nfX c) : (fvs G m a c)[i]? = some (fvX G m a c i) := by simp [fvs, h]
theorem fvs_len {G : GG} {m : PMem} {a c : Nat} : (fvs G m a c).length = nfX c := by simp [fvs]
theorem fvs_set {G : GG} {m m' : PMem} {a c i : Nat} {v : Value} (hv : fvX G m' a c i = v) (hc : ∀ j, j ≠ i → fvX G m' a c j = fvX G m a c j) : fvs G m' a c = (fvs G m a c).set i v := by
  apply List.ext_getElem?
  intro j
  by_cases hj : j < nfX c
  · by_cases hji : j = i
    · subst hji
      rw [List.getElem?_set_self (by rw [fvs_len]; exact hj), fvs_at hj, hv]
    · rw [List.getElem?_set_ne (Ne.symm hji), fvs_at hj, fvs_at hj, hc j hji]
  · rw [List.getElem?_eq_none (by rw [fvs_len]; omega), List.getElem?_eq_none (by rw [List.length_set, fvs_len]; omega)]
theorem cel_sI_ne {G : GG} {m : PMem} {a i b : Nat} {v : Int32} (h : b ≠ a) : celX G (sI m a i v) b = celX G m b := by
  have e1 : gI (sI m a i v) b = gI m b := by funext j; rw [gI_sI, if_neg (fun q => h q.1)]
  have e2 : fvX G (sI m a i v) b = fvX G m b := by funext c j; simp only [fvX, gR_sI, gL_sI, e1]
  simp only [celX, fvs, gK_sI, gR_sI, e1, e2]
theorem cel_sL_ne {G : GG} {m : PMem} {a i b : Nat} {v : Int64} (h : b ≠ a) : celX G (sL m a i v) b = celX G m b := by
  have e1 : gL (sL m a i v) b = gL m b := by funext j; rw [gL_sL, if_neg (fun q => h q.1)]
  have e2 : gI (sL m a i v) b = gI m b := by funext j; rfl
  simp only [celX, gK_sL, e2]
  congr 3
  simp only [fvs]
  congr 1
  funext j
  simp only [fvX, gI_sL, gR_sL, e1]
theorem cel_sR_ne {G : GG} {m : PMem} {a i b : Nat} {v : Option Nat} (h : b ≠ a) : celX G (sR m a i v) b = celX G m b := by
  have e1 : gR (sR m a i v) b = gR m b := by funext j; rw [gR_sR, if_neg (fun q => h q.1)]
  have e2 : gI (sR m a i v) b = gI m b := by funext j; rfl
  simp only [celX, gK_sR, e2, e1]
  congr 3
  simp only [fvs]
  congr 1
  funext j
  simp only [fvX, gI_sR, gL_sR, e1]
/-- the world behind a write -/
theorem Hp.put {G : GG} {z0 : Nat} {s : State} {m m' : PMem} {H H1 : Heap} {locs locs1 : List Loc} {cells slots a : Nat} {x : va_E} (h : Hp G z0 s m H locs cells slots) (hn : gN m' = gN m) (hz : gZ m' = gZ m) (hk : ∀ b, gK m' b = gK m b) (hc : ∀ b, b ≠ a → celX G m' b = celX G m b) (hx : celX G m' a = x)
    (hP : va_P (gD G) clX ((wl G m).set a (gb G + a, x)) H1) (hS : va_S (AX G) s.heap H1 locs1) (hM : MonK H H1 (gb G + a)) : Hp G z0 s m' H1 locs1 cells slots := by
  subst hx
  rw [wl_set hn hc] at hP
  refine ⟨hP, hS, by rw [hn]; exact h.2.2.1, by rw [hz]; exact h.2.2.2.1, fun b hb => ?_, fun b cb hb hcb => ?_⟩
  · rw [hk b]
    exact h.2.2.2.2.1 b (by rw [← hn]; exact hb)
  · rw [hn] at hb
    by_cases hba : b = a
    · subst hba
      obtain ⟨c0, g1, g2, g3⟩ := hM.2 cb hcb
      rw [g2, g3, hk b]
      exact h.2.2.2.2.2 b c0 hb g1
    · rw [hM.1 (gb G + b) (by omega)] at hcb
      rw [hk b]
      exact h.2.2.2.2.2 b cb hb hcb
theorem sn_get {ci i idx : Nat} {Cn ref : String} {T : u_T} {N : Nat} {ty : Nat → FieldType} {f : PSem} {g : PMem → Nat → Value} (hf : ∀ ls st m pc' ls' st' m', f ls st m = some (pc', ls', st', m') → ∃ a st0, st = .ref a :: st0 ∧ gK m a = (0, ci) ∧ pc' = n ∧ ls' = ls ∧ st' = g m a :: st0 ∧ m' = m)
    (hg : ∀ (G : GG) (m : PMem) (a : Nat), fvX G m a ci i = cvv G (g m a)) (hd : decode I.2.1 pc = .ok (.getfield idx, 3)) (hn : pc + 3 = n) (hc : ClO ci Cn T N ty) (hi : i < N) (hl : LkF E S I idx ref (T i).2.1 (T i).2.2.1) (hs : SmF ref (T i).1 (T i).2.1 (T i).2.2.1) : SndN E S I pc f := by
  constructor
  · intro ls st m pc' ls' st' m' h
    obtain ⟨a, st0, -, -, -, -, -, rfl⟩ := hf _ _ _ _ _ _ _ h
    exact ⟨Nat.le_refl _, Nat.le_refl _⟩
  · intro G z0 p l e R s mm args below meth c H locs cells slots Q lsC ls st m pc' ls' st' m' C h hH hL _ _ k
    obtain ⟨a, st0, rfl, hk, rfl, rfl, rfl, rfl⟩ := hf _ _ _ _ _ _ _ h
    subst hn
    have hlt := hH.2.2.2.2.1.lt hk (by decide)
    have he : (wl G m')[a]? = some (gb G + a, .inr (ci, fvs G m' a ci)) := by rw [wl_at G m' hlt, celX_obj hk]
    have hv : (fvs G m' a ci)[i]? = some (cvv G (g m' a)) := by rw [fvs_at (by rw [hc.2.1]; exact hi), hg]
    rcases hl with hl | ⟨host, hl⟩
    · exact va_get C.1 C.2.1 C.2.2.2.2.1 hc.2.2.1 C.2.2.2.1 C.2.2.2.2.2.2.1 hH.1 a he hc.1 i hi (C.2.2.2.2.1 _ hl) (hs.ok C.2.2.2.2.1) hv hd (k _ _ _ _ _ hH hL)
    · exact va_getN C.1 C.2.1 C.2.2.2.2.1 hc.2.2.1 C.2.2.2.1 C.2.2.2.2.2.2.1 hH.1 a he hc.1 i hi (va_Nw.use rfl (hl G s C.2.2.2.2.2.2.2.1)) (hs.ok C.2.2.2.2.1) hv hd (k _ _ _ _ _ hH hL)
theorem sn_gI {ci i idx : Nat} {Cn ref : String} {T : u_T} {N : Nat} {ty : Nat → FieldType} (hd : decode I.2.1 pc = .ok (.getfield idx, 3)) (hn : pc + 3 = n) (hc : ClO ci Cn T N ty) (hi : i < N) (hk : fkX ci i = 0) (hl : LkF E S I idx ref (T i).2.1 (T i).2.2.1) (hs : SmF ref (T i).1 (T i).2.1 (T i).2.2.1) : SndN E S I pc (e_gI n ci i) := by
  refine sn_get (g := fun m a => .int (gI m a i)) ?_ (fun G m a => by simp [fvX, hk, cvv]) hd hn hc hi hl hs
  intro ls st m pc' ls' st' m' h
  dsimp only [e_gI] at h
  split at h
  · split at h
    · rename_i hh
      cases h
      exact ⟨_, _, rfl, hh, rfl, rfl, rfl, rfl⟩
    · cases h
  · cases h
theorem sn_gL {ci i idx : Nat} {Cn ref : String} {T : u_T} {N : Nat} {ty : Nat → FieldType} (hd : decode I.2.1 pc = .ok (.getfield idx, 3)) (hn : pc + 3 = n) (hc : ClO ci Cn T N ty) (hi : i < N) (hk : fkX ci i = 1) (hl : LkF E S I idx ref (T i).2.1 (T i).2.2.1) (hs : SmF ref (T i).1 (T i).2.1 (T i).2.2.1) : SndN E S I pc (e_gL n ci i) := by
  refine sn_get (g := fun m a => .long (gL m a i)) ?_ (fun G m a => by simp [fvX, hk, cvv]) hd hn hc hi hl hs
  intro ls st m pc' ls' st' m' h
  dsimp only [e_gL] at h
  split at h
  · split at h
    · rename_i hh
      cases h
      exact ⟨_, _, rfl, hh, rfl, rfl, rfl, rfl⟩
    · cases h
  · cases h
theorem cvv_rf (G : GG) (o : Option Nat) : cvv G (va_rf o) = va_rf (o.map (fun q => gb G + q)) := by cases o <;> rfl
theorem sn_gR {ci i idx : Nat} {Cn ref : String} {T : u_T} {N : Nat} {ty : Nat → FieldType} (hd : decode I.2.1 pc = .ok (.getfield idx, 3)) (hn : pc + 3 = n) (hc : ClO ci Cn T N ty) (hi : i < N) (hk : fkX ci i = 2) (hl : LkF E S I idx ref (T i).2.1 (T i).2.2.1) (hs : SmF ref (T i).1 (T i).2.1 (T i).2.2.1) : SndN E S I pc (e_gR n ci i) := by
  refine sn_get (g := fun m a => va_rf (gR m a i)) ?_ (fun G m a => by rw [cvv_rf]; simp [fvX, hk]) hd hn hc hi hl hs
  intro ls st m pc' ls' st' m' h
  dsimp only [e_gR] at h
  split at h
  · split at h
    · rename_i hh
      cases h
      exact ⟨_, _, rfl, hh, rfl, rfl, rfl, rfl⟩
    · cases h
  · cases h
/-- how a field may be written here -/
def WrF (I : MI) (f : String × String × String × Bool) : Prop := f.2.2.2 = false ∨ (f.2.2.2 = true ∧ I.1.name = "<init>" ∧ f.1 = I.1.cls)
def PtF (E : GG → Nat × (Nat → Int32) → State → Prop) (S : Nat × (Nat → Int32)) (I : MI) (idx : Nat) (ref : String) (f : String × String × String × Bool) : Prop := (Cond.fieldLink I.1.cls idx ref f.2.1 f.2.2.1 ∈ lw_all ∧ WrF I f) ∨ ((∃ host, ∀ G s, E G S s → va_Nw (Cond.fieldLinkNest I.1.cls idx ref f.2.1 f.2.2.1 host) s) ∧ f.2.2.2 = false)
theorem sn_put {ci i idx : Nat} {Cn ref : String} {T : u_T} {N : Nat} {ty : Nat → FieldType} {G : GG} {z0 : Nat} {p : Program} {l : Launch} {e : Env} {R : Room} {s : State} {mm : MethodId} {args : Array Value} {below : List Frame} {meth : Method} {c : Code} {H : Heap} {locs : List Loc} {cells slots : Nat} {Q : State → Prop} {lsC : Array Slot} {m m' : PMem} {a : Nat} {v : Value} {rest : List Value}
    (C : CX G (E G S) I p l e R s mm args below meth c) (hH : Hp G z0 s m H locs cells slots) (hk : gK m a = (0, ci)) (hd : decode I.2.1 pc = .ok (.putfield idx, 3)) (hc : ClO ci Cn T N ty) (hi : i < N) (hl : PtF E S I idx ref (T i)) (hs : SmF ref (T i).1 (T i).2.1 (T i).2.2.1) (hnar : narrow (ty i) v = v) (hfit : fits (ty i) v = true)
    (hn : gN m' = gN m) (hz : gZ m' = gZ m) (hkk : ∀ b, gK m' b = gK m b) (hcel : ∀ b, b ≠ a → celX G m' b = celX G m b) (hself : fvs G m' a ci = (fvs G m a ci).set i v)
    (k : ∀ H' locs', Hp G z0 s m' H' locs' cells slots → W p l e R s mm args below meth c H' locs' cells slots Q (F0 mm (pc + 3) lsC rest)) : W p l e R s mm args below meth c H locs cells slots Q (F0 mm pc lsC (v :: .ref (gb G + a) :: rest)) := by
  have hlt := hH.2.2.2.2.1.lt hk (by decide)
  have he : (wl G m)[a]? = some (gb G + a, .inr (ci, fvs G m a ci)) := by rw [wl_at G m hlt, celX_obj hk]
  have hx : celX G m' a = .inr (ci, (fvs G m a ci).set i v) := by rw [celX_obj (by rw [hkk]; exact hk), hself]
  have hll : i < (fvs G m a ci).length := by rw [fvs_len, hc.2.1]; exact hi
  have kk : ∀ (H1 : Heap) (locs1 : List Loc), va_P (gD G) clX ((wl G m).set a (gb G + a, .inr (ci, (fvs G m a ci).set i v))) H1 → va_D (AX G) ((wl G m).set a (gb G + a, .inr (ci, (fvs G m a ci).set i v))) → va_S (AX G) s.heap H1 locs1 → MonK H H1 (gb G + a) → W p l e R s mm args below meth c H1 locs1 cells slots Q (F0 mm (pc + 3) lsC rest) := fun H1 locs1 g1 _ g3 g4 => k H1 locs1 (hH.put hn hz hkk hcel hx g1 g3 g4)
  rcases hl with ⟨hl, hw⟩ | ⟨hl, hw⟩
  · rcases hw with hw | ⟨hw, hw2, hw3⟩
    · exact ma_put C.1 C.2.1 C.2.2.2.2.1 hc.2.2.1 ty hc.2.2.2.1 hc.2.2.2.2 C.2.2.2.1 C.2.2.2.2.2.2.1 hH.1 (wl_D G m) hH.2.1 a he hc.1 i hi (C.2.2.2.2.1 _ hl) (hs.ok C.2.2.2.2.1) hw (hc.2.2.2.1 i hi) hnar hfit hll hd kk
    · exact ma_putF C.1 C.2.1 C.2.2.2.2.1 hc.2.2.1 ty hc.2.2.2.1 hc.2.2.2.2 C.2.2.2.1 C.2.2.2.2.2.2.1 hH.1 (wl_D G m) hH.2.1 a he hc.1 i hi (C.2.2.2.2.1 _ hl) (hs.ok C.2.2.2.2.1) hw (by rw [C.2.2.2.2.2.1.2.2]; exact hw2) hw3 (hc.2.2.2.1 i hi) hnar hfit hll hd kk
  · obtain ⟨host, hl⟩ := hl
    exact ma_putN C.1 C.2.1 C.2.2.2.2.1 hc.2.2.1 ty hc.2.2.2.1 hc.2.2.2.2 C.2.2.2.1 C.2.2.2.2.2.2.1 hH.1 (wl_D G m) hH.2.1 a he hc.1 i hi (va_Nw.use rfl (hl G s C.2.2.2.2.2.2.2.1)) (hs.ok C.2.2.2.2.1) hw (hc.2.2.2.1 i hi) hnar hfit hll hd kk
theorem fvs_sI {G : GG} {m : PMem} {a c i : Nat} {v : Int32} (hk : fkX c i = 0) : fvs G (sI m a i v) a c = (fvs G m a c).set i (.int v) :=
  fvs_set (by simp [fvX, hk, gI_sI]) (fun j hj => by simp [fvX, gI_sI, gL_sI, gR_sI, hj])
theorem fvs_sL {G : GG} {m : PMem} {a c i : Nat} {v : Int64} (hk : fkX c i = 1) : fvs G (sL m a i v) a c = (fvs G m a c).set i (.long v) :=
  fvs_set (by simp [fvX, hk, gL_sL]) (fun j hj => by simp [fvX, gI_sL, gL_sL, gR_sL, hj])
theorem fvs_sR {G : GG} {m : PMem} {a c i b : Nat} (hk : fkX c i = 2) : fvs G (sR m a i (some b)) a c = (fvs G m a c).set i (.ref (gb G + b)) :=
  fvs_set (by simp [fvX, hk, gR_sR, va_rf]) (fun j hj => by simp [fvX, gI_sR, gL_sR, gR_sR, hj])
end SNDH
