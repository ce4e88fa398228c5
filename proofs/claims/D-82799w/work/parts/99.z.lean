/-! THE CLAIM OUT OF ONE WALK OF THE LAW'S BODY. Your part is whole_start (and what it stands on); all else here is the same for every law, but numbers. -/
def R_law : String := "PlyHouseLaw"
def lw_P (b : Addr) (xs : List Int32) (args : Array Value) (s : State) : Prop := args = #[.ref b] ∧ s.IntsAt b xs ∧ xs.length ≤ 384 ∧ (Jvm.Cond.and given_1 narrow_1).before args s = true
def lw_Q (_ : Array Value) (s : State) (o : Outcome) (t : State) : Prop := o = .returned (some (.int 1)) ∧ Framed s o t [] 601024 7293034
def lw_Z (below : List Frame) (a : Array Value) (s : State) : State → Prop := fun t => ∃ o, t.status = .running ∧ Ended t below o ∧ lw_Q a s o t
/-- the law's run, out of the pure machine -/
theorem whole_start {p : Program} {e : Env} {s : State} {m : MethodId} {below : List Frame} {meth : Method} {c : Code} (l : Launch) {b L : Nat} {xs : Nat → Int32} (hL : L ≤ 384) (hnt : ∀ e' : Env, l.admits e' → e'.platform.stackTraces = false)
    (hex : p.tables.exec = Jvm.exec) (hco : c.code = code) (hre : meth.sig.returnType = ret) (hml : c.maxLocals = 4) (hown : s.vm.findClass R_law = some m.cls) (hts : ∀ w ∈ lw_tbl, w.before #[Value.ref b] s = true) (hX : va_X b L xs s s.heap) (hb : b < s.heap.size) (hlk : meth.locks = false) (hg : (Jvm.Cond.and given_1 narrow_1).before #[Value.ref b] s = true) (hnm : meth.name = x.name) (hxt : c.exceptionTable.isEmpty = true) :
    W p l e room_1 s m #[Value.ref b] below meth c s.heap [] 0 0 (lw_Z below #[Value.ref b] s) (entryFrame m ([Value.ref b] : List Value).toArray 4) := by
  obtain ⟨G, g1, g2, g3, g4, g5⟩ := st_EE hts hg hX hb
  obtain ⟨o, ⟨m', rfl, hn, hz⟩, hrun, -⟩ := run_ok (law_wc (L, xs) hL)
  have e1 : ([xScr] : List Value).map (cvv G) = [Value.ref b] := by
    show [gX G 0] = _
    rw [g4]
  have hC : CX G (EE G (L, xs)) (miT k_L_law) p l e room_1 s m #[Value.ref b] below meth c :=
    ⟨hex, hco, hml, hown, fun w hw => hts w (lw_all_tbl hw), ⟨hre, hlk, hnm⟩, g2, g3, ⟨by omega, by decide, by decide⟩, g5, hnt⟩
  have hHX : HX (miT k_L_law).2.2.2.2.1 c := by
    have : c.exceptionTable.toList = [] := by
      have h8 : c.exceptionTable.size = 0 := by simpa [Array.isEmpty] using hxt
      exact List.eq_nil_of_length_eq_zero (by simpa using h8)
    show c.exceptionTable.toList.map _ = []
    rw [this]
    rfl
  have hH : Hp G 0 s mem0 s.heap [] 0 0 := ⟨fun k q hq => by simp [wl, gN, mem0] at hq, va_S.rf, by show s.heap.size + 0 = gb G + 0; omega, rfl, fun a _ => rfl, fun a c h _ => absurd h (Nat.not_lt_zero _)⟩
  have hLr := Lr_entry (I := miT k_L_law) g5 (as := [xScr]) rfl
  have hW := hrun G 0 p l e room_1 s m #[Value.ref b] below meth c s.heap [] 0 0 _ hC hHX hH hLr (by decide) (by decide) (by show gN m' + 0 ≤ 0 + 601024; omega) (by show gZ m' + 0 ≤ 0 + 7293034; omega)
  rw [e1] at hW
  have hfr : entryFrame m ([Value.ref b] : List Value).toArray 4 = F0 m 0 ((lg_sl [Value.ref b] ++ List.replicate (4 - (lg_sl [Value.ref b]).length) Slot.unset).toArray) [] := lg_entry_eq m [Value.ref b] 4
  rw [hfr]
  refine W_mono ?_ hW
  rintro t ⟨h1, h2, h3, ⟨locs, h4, h5⟩, -⟩
  refine ⟨.returned (some (.int 1)), h1, h2, rfl, ⟨_, rfl⟩, h3, ?_⟩
  refine (State.sameButNew.drop_fresh (L := []) (J := locs) h4 (fun q hq => ?_)).mono ?_ ?_
  · have h6 := h5 q hq
    show s.heap.size ≤ q.base
    have h7 : gb G ≤ q.base := h6
    omega
  · show gb G + gN m' - s.heap.size ≤ 601024
    omega
  · show gZ m' - 0 ≤ 7293034
    omega
set_option maxHeartbeats 4000000 in
theorem lw_walk (l : Launch) (hnt : ∀ e' : Env, l.admits e' → e'.platform.stackTraces = false) (b : Addr) (xs : List Int32) : MetFree l x (headSpec (Jvm.Cond.code x code maxLocals ret :: tables_1) room_1) (lw_P b xs) (fun _ _ _ _ _ => True) lw_Q := by
  refine MetFree.of_bodyS (code := code) (maxLocals := maxLocals) (ret := ret) (by decide) ?_ ?_
  · intro args s m h hn
    obtain ⟨meth, c, h1, h2, h3, h4, h5, h6, -, -⟩ := Cond.code_spec hn (atoms_spec (ws := Jvm.Cond.code x code maxLocals ret :: tables_1) h _ List.mem_cons_self)
    exact ⟨meth, c, h1, h2, h3, h4, h5, h6⟩
  · intro p e s m args below meth c s₁ B hml0 hP _
    obtain ⟨rfl, hx, hbd, hgv⟩ := hP
    obtain ⟨scr, harrAt, hlist, hof, hsmall⟩ := hx
    obtain ⟨hcb, hkn, -, -⟩ := State.arrayAt?_spec harrAt
    have hown : s.vm.findClass R_law = some m.cls := findClass_of_methodNamed B.named
    have hts0 : ∀ c ∈ (Jvm.Cond.code x code maxLocals ret :: tables_1), c.before #[Value.ref b] s = true := atoms_spec (ws := Jvm.Cond.code x code maxLocals ret :: tables_1) B.pre
    have hts : ∀ w ∈ lw_tbl, w.before #[Value.ref b] s = true := k2_hts_sels lw_privs (fun w hw => hts0 w (List.mem_cons_of_mem _ hw)) lw_privs_ok
    have hml : c.maxLocals = 4 := B.maxLocals_eq (hts0 _ List.mem_cons_self)
    obtain ⟨meth', c', u1, u2, u3, u4, u5, u6, u7, -⟩ := Cond.code_spec B.named (hts0 _ List.mem_cons_self)
    cases B.method.symm.trans u1
    have hcode : meth.code = some c := by
      have h := B.here.code
      rw [State.code?_eq, B.state] at h
      have h9 : s.vm.method? m = some meth := B.method
      have h8 : (s.setFrames (.java (entryFrame m #[Value.ref b] maxLocals) :: below)).vm = s.vm := rfl
      rw [h8, h9] at h
      exact h
    cases hcode.symm.trans u2
    have X₀ : Stand p l e room_1 s m #[Value.ref b] below meth c s₁ [] 0 0 := Stand.of_body B
    have hh0 : s₁.heap = s.heap := by rw [B.state]; rfl
    have hsz : scr.slots.size = xs.length := by rw [← Array.length_toList, hlist, List.length_map]
    have hval : ∀ j : Nat, j < xs.length → scr.slots[j]? = some (.int (xs.getD j 0)) := fun j hj => by
      rw [← Array.getElem?_toList, hlist]
      simp [hj]
    have hbl : b < s.heap.size := (Array.getElem?_eq_some_iff.mp hcb).1
    have hX : va_X b xs.length (fun j => xs.getD j 0) s s.heap := ⟨scr, hcb, hof, hkn, hsz, hval⟩
    have K : W p l e room_1 s m #[Value.ref b] below meth c s₁.heap [] 0 0 (lw_Z below #[Value.ref b] s) (entryFrame m ([Value.ref b] : List Value).toArray 4) := by
      rw [hh0]
      exact whole_start l hbd hnt B.exec B.bytes B.returns hml hown hts hX hbl B.notSynchronized hgv (name_of_methodNamed B.named B.method).1 u7
    obtain ⟨t, a1, o, b1, b2, b3⟩ := K s₁ rfl X₀
    exact ⟨t, o, a1, b1, b2, b3⟩
theorem lw_pre_spec {args : Array Value} {s : State} (h : (Jvm.Cond.and given_1 narrow_1).before args s = true) (hr : rest_1_c.before args s = true) : ∃ (b : Addr) (xs : List Int32), lw_P b xs args s := by
  have hs := flat_of_before _ h
  have hq := flat_of_before _ hr
  have hc : (Cond.count 1).before args s = true := hs _ (by decide +kernel)
  have harr : (Cond.arrayOf (.arg 0) .int).before args s = true := hs _ (by decide +kernel)
  have hle : (Cond.le (.length (.arg 0)) (.int 384)).before args s = true := hs _ (by decide +kernel)
  have hlen : (Cond.isInt (.length (.arg 0))).before args s = true := hq _ (by decide +kernel)
  have hall : (Cond.all (.arg 0) (.isInt (.elem (.arg 0) (.index 0)))).before args s = true := hq _ (by decide +kernel)
  obtain ⟨b, xs, hb, hx⟩ := State.ints_of_pre rfl harr hlen hall
  have hsm : xs.length < 2 ^ 31 := hx.choose_spec.2.2.2
  have hev : (Term.length (.arg 0)).eval args s none [] s = some (.int xs.length.toInt32) := hx.length_eval hb
  have hv := Cond.le_ints hev (show (Term.int 384).eval args s none [] s = some (.int 384) from rfl)
  have hd : xs.length.toInt32 ≤ 384 := by
    simpa [Cond.before, Cond.holds, hv] using hle
  have hN : xs.length ≤ 384 := (Int32.ofNat_le_ofNat hsm (by decide)).mp (show Int32.ofNat xs.length ≤ Int32.ofNat 384 from hd)
  exact ⟨b, xs, Cond.one_arg hc (show args[0]? = some (.ref b) from hb), hx, hN, h⟩
theorem lw_comes (l : Launch) (hnt : ∀ e' : Env, l.admits e' → e'.platform.stackTraces = false) : Comes l x (Jvm.Cond.code x code maxLocals ret :: tables_1) room_1 (fun tb e args s => Calls_1 tb e args s ∧ rest_1 tb e args s ∧ Pre_1 tb e args s)
    (fun _ _ args s o t => lw_Q args s o t) := by
  intro p e ha hc hk s m args below hf hfit hheap happ hpre
  obtain ⟨b, xs, hP⟩ := lw_pre_spec hpre.2.2 hpre.2.1
  obtain ⟨k, o, h1, h2, h3, hQ⟩ := lw_walk l hnt b xs p e ha hc hk s m args below hf ((Spec.applies_iff_loose hf).mp happ).1 hP trivial
  exact ⟨k, o, h1, h2, h3, hQ⟩
theorem lw_frame {s t : State} {o : Outcome} {args : Array Value} (h : Framed s o t [] 601024 7293034) :
    Framed s o t (fieldLocs frame_1_writes args s ++ arrayLocs frame_1_arrays args s ++ staticLocs frame_1_statics s) 601024 7293034 := h
theorem lw_limb (L : Cond) (hL : ∀ (args : Array Value) (s t : State), L.after args s (.returned (some (.int 1))) t = true) :
    ArmFor flags0 classFile x code maxLocals ret World_1 tables_1 room_1 Calls_1 rest_1 Pre_1
      (fun tb e a s o t => postC L tb e a s o t ∧ Framed s o t (fieldLocs frame_1_writes a s ++ arrayLocs frame_1_arrays a s ++ staticLocs frame_1_statics s) 601024 7293034) := by
  intro l hfl _ _ p e ha hc hk s m args below hf hfit hheap happ hpre
  have hnt : ∀ e' : Env, l.admits e' → e'.platform.stackTraces = false := fun e' h => by
    have h1 : e'.platform.stackTraces = l.stackTraces := by rw [h.platform]
    rw [h1]
    show (!l.flags.contains noTraceFlag) = false
    rw [hfl]
    decide
  obtain ⟨k, o, h1, h2, h3, rfl, hF⟩ := lw_comes l hnt p e ha hc hk s m args below hf hfit hheap happ hpre
  exact ⟨k, _, h1, h2, h3, hL args s _, lw_frame hF⟩
theorem i_vc : Claimed_1_1 ∧ Claimed_1_2 := ⟨lw_limb limb_1_1 (fun args s t => by simp [limb_1_1, Cond.after, Cond.holds, Cond.value]), lw_limb limb_1_2 (fun args s t => Cond.after_iff.mpr (by
  first | (rw [show limb_1_2 = Cond.eq .result (.int 1) from rfl, Cond.eq_ints (x := 1) (y := 1) rfl rfl]; simp; done) | (simp [limb_1_2, Cond.value, Term.eval]; done)))⟩
