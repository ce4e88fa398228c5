/-! SOUNDNESS: Exception.<init> of a Wrong, in a launch without stack traces -/
section SNDEX
set_option maxRecDepth 100000
def SttE (G : GG) (nm ds : String) (s : State) : Prop := (Cond.laysStatic Bundle.tN nm ds).before #[] s = true ∧ ∃ u : RefV, va_Z Bundle.tN nm ds u.v (AX G) s s.heap
def ThE (G : GG) (s : State) : Prop := va_Nw (.declares (Bundle.init0 Bundle.tN)) s ∧ SttE G "UNASSIGNED_STACK" Bundle.steD s ∧ SttE G "SUPPRESSED_SENTINEL" Bundle.listD s
theorem th_atoms {G : GG} {s : State} {args : Array Value} (hts : ∀ w ∈ lw_all, w.before args s = true) (hT : ThE G s) : ∀ c ∈ Bundle.throwableAtoms, c.before args s = true := by
  intro c hc
  simp only [Bundle.throwableAtoms, List.mem_cons, List.not_mem_nil, or_false] at hc
  rcases hc with rfl | rfl | rfl | rfl | rfl | rfl | rfl | rfl | rfl | rfl | rfl | rfl | rfl | rfl | rfl | rfl | rfl | rfl | rfl | rfl | rfl | rfl | rfl | rfl
  · exact hts _ q59
  · exact hts _ q222
  · exact hts _ q231
  · exact hts _ q233
  · exact hts _ q236
  · exact hts _ q238
  · exact hts _ q223
  · exact hts _ q224
  · exact hts _ q127
  · exact hts _ q128
  · exact hts _ q225
  · exact hts _ q230
  · exact hts _ q234
  · exact hts _ q251
  · exact hts _ q212
  · exact hts _ q252
  · exact hts _ q214
  · exact hts _ q253
  · exact hts _ q216
  · exact hts _ q226
  · exact hT.2.1.1
  · exact hts _ q228
  · exact hT.2.2.1
  · exact hts _ q218
theorem ex_atoms {G : GG} {s : State} {args : Array Value} (hts : ∀ w ∈ lw_all, w.before args s = true) (hT : ThE G s) : ∀ c ∈ Bundle.chain0Atoms "java/lang/Exception" [], c.before args s = true := by
  intro c hc
  simp only [Bundle.chain0Atoms, Bundle.passAtoms, List.mem_cons, List.not_mem_nil, or_false] at hc
  rcases hc with rfl | rfl | rfl | rfl | rfl
  · exact hts _ q243
  · exact hts _ q244
  · exact hts _ q245
  · exact hts _ q223
  · exact va_Nw.use rfl hT.1
variable {E : GG → Nat × (Nat → Int32) → State → Prop} {S : Nat × (Nat → Int32)} {I : MI} {pc n : Nat}
set_option maxHeartbeats 4000000 in
theorem sn_exc {idx : Nat} (hd : decode I.2.1 pc = .ok (.invokespecial idx, 3)) (hn : pc + 3 = n) (hl1 : Cond.methodLink I.1.cls idx (Bundle.init0 "java/lang/Exception") ∈ lw_all) (hE : ∀ G s, E G S s → ThE G s) : SndN E S I pc (e_exc n) := by
  constructor
  · intro ls st m pc' ls' st' m' h
    dsimp only [e_exc] at h
    split at h
    · split at h
      · cases h
      · split at h <;> cases h
        exact ⟨Nat.le_refl _, Nat.le_refl _⟩
    · cases h
  · intro G z0 p l e R s mm args below meth c H locs cells slots Q lsC ls st m pc' ls' st' m' C h hH hL hr hs k
    dsimp only [e_exc] at h
    split at h
    · rename_i a st2
      split at h
      · cases h
      · rename_i h4
        split at h
        · rename_i hh
          cases h
          subst hn
          obtain ⟨hk5, hback⟩ := hh
          have hts := C.2.2.2.2.1
          have hTh := hE G s C.2.2.2.2.2.2.2.1
          have hK := C.2.2.2.2.2.2.1
          have hlt := hH.2.2.2.2.1.lt hk5 (by decide)
          have he : (wl G m)[a]? = some (gb G + a, .inr (5, fvs G m a 5)) := by rw [wl_at G m hlt, celX_obj hk5]
          intro W hT X
          have howns : e.platform.frameOwnsMonitors = true := by rw [X.admits.platform]
          have hfin : e.platform.finalization = false := by rw [X.admits.platform]
          have hpl : e.platform.magicAccessors = ({} : Platform).magicAccessors := by rw [X.admits.platform]
          obtain ⟨T, Z, L, LZ, Y⟩ := ThrowableC.of_atoms (args := args) howns hfin hpl (th_atoms hts hTh)
          obtain ⟨P1, Ps, hlen, L1, hLP, hP1m, hlink1, hlink⟩ := Bundle.chain0 (args := args) hpl Y.init0 [] "java/lang/Exception" (by decide) (by simp) (ex_atoms hts hTh)
          obtain ⟨r, hr1, cell, g1, g2, g3, g4⟩ := hH.1 a _ he
          have hr2 : r = (RX5, TXw, 3) := Option.some.inj (hr1.symm.trans rfl)
          subst hr2
          obtain ⟨hSl, hfc, kX, hk, hord⟩ := hK.1 5 (RX5, TXw, 3) rfl
          have hfound : s.vm.findClass "PlyHouse$Wrong" = some cell.cls := by rw [g2]; exact hfc
          rw [← g2] at hk
          obtain ⟨hmon, hsize8⟩ := hH.2.2.2.2.2 a cell hlt g1
          obtain ⟨c1, kX', hc1, hkX', -, -, -, hn8⟩ := Cond.instantiable_spec (hts _ q203)
          cases Option.some.inj (hc1.symm.trans hfound)
          cases Option.some.inj (hkX'.symm.trans hk)
          have hszc : cell.slots.size = kX.instanceTypes.size := by rw [hsize8 hk5, hn8]
          have hsel0 : selectMethod e.platform s.vm cell.cls T.fill0 = .method T.fill0 := by
            obtain ⟨c2, r2, m2, q1, q2, q3, q4, -⟩ := Cond.selects_spec (hts _ q209)
            cases Option.some.inj (q1.symm.trans hfound)
            cases Option.some.inj (q2.symm.trans (State.methodFound?_of_named Y.fill0 (by decide)))
            cases Option.some.inj (q3.symm.trans Y.fill0)
            rw [Launch.admits_selectMethod X.admits]; exact q4
          have hselF : selectMethod e.platform s.vm cell.cls T.fill = .method T.fill := by
            obtain ⟨c2, r2, m2, q1, q2, q3, q4, -⟩ := Cond.selects_spec (hts _ q210)
            cases Option.some.inj (q1.symm.trans hfound)
            cases Option.some.inj (q2.symm.trans (State.methodFound?_of_named Y.fill (by decide)))
            cases Option.some.inj (q3.symm.trans Y.fill)
            rw [Launch.admits_selectMethod X.admits]; exact q4
          -- the statics
          obtain ⟨-, u0, cfU, kfU, fiU, fU, aU, cellU, zu1, zu2, zu3, zu4, zu5, zu6, zu7, zu8⟩ := hTh.2.1
          obtain ⟨-, sen, cfS, kfS, fiS, fS, aS, cellS, zs1, zs2, zs3, zs4, zs5, zs6, zs7, zs8⟩ := hTh.2.2
          cases zu1.symm.trans Y.unassigned
          cases zs1.symm.trans Y.sentinel
          have hst1 : T.kT.statics = some T.aS := L.statics
          cases Option.some.inj (zu4.symm.trans hst1)
          cases Option.some.inj (zs4.symm.trans hst1)
          cases Option.some.inj (zu5.symm.trans zs5)
          have hcellS : W.heap[T.aS]? = some cellU := by
            rw [hT, hH.2.1.2.1 T.aS (Array.getElem?_eq_some_iff.mp zu5).1 zu8]
            exact zu5
          have hneS : T.aS ≠ gb G + a := by
            intro q
            apply zu8
            show gb G ≤ T.aS
            rw [q]
            exact Nat.le_add_right _ _
          have hknownS : cellU.vm ≠ .unknown := by
            intro hu
            rw [hu] at zu6
            cases zu6
          -- fields
          obtain ⟨ci198, i198, fB, hk198, hg198, ha198, hsB, -, hnB, htB, hffB⟩ := Cond.ownField (t := .object "java/lang/Object") Y.found L.cls (by decide +kernel) (hts _ q221) (hts _ q220) e.platform hpl
          obtain ⟨tyC, dC, hdC, hdnC⟩ := Cond.laysAt hfound hk Y.cause (hts _ q211)
          obtain ⟨tyS, dS, hdS, hdnS⟩ := Cond.laysAt hfound hk Y.stack (hts _ q213)
          obtain ⟨tyP, dP, hdP, hdnP⟩ := Cond.laysAt hfound hk Y.supp (hts _ q215)
          have hap : ∀ j, j < 3 → (gD G).2 5 j ≠ T.fCause.slot ∧ (gD G).2 5 j ≠ T.fStack.slot ∧ (gD G).2 5 j ≠ T.fSupp.slot := by
            intro j hj
            obtain ⟨cf, kf, fi, fd, hfd, hsl⟩ := hSl j hj
            have hly := u_lays (args := args) hts in_Xw hj
            have hnm : fd.name = (TXw j).2.1 := (State.fieldFound?_type hfd (cl_5.2.2.2.1 j hj)).1
            have hne : (TXw j).2.1 ≠ "cause" ∧ (TXw j).2.1 ≠ "stackTrace" ∧ (TXw j).2.1 ≠ "suppressedExceptions" := by
              match j, hj with
              | 0, _ => decide
              | 1, _ => decide
              | 2, _ => decide
            rw [← hsl]
            refine ⟨u_apart hly (Or.inl (hts _ q211)) hfd Y.cause ?_, u_apart hly (Or.inl (hts _ q213)) hfd Y.stack ?_, u_apart hly (Or.inl (hts _ q215)) hfd Y.supp ?_⟩
            · rw [hnm, Y.causeName]; exact hne.1
            · rw [hnm, Y.stackName]; exact hne.2.1
            · rw [hnm, Y.suppName]; exact hne.2.2
          have hkeep : ∀ j, j < 3 → (preparedCellV T.toThrowableT cell (gb G + a) u0 sen).slots[(gD G).2 5 j]? = cell.slots[(gD G).2 5 j]? := by
            intro j hj
            obtain ⟨a1, a2, a3⟩ := hap j hj
            simp [preparedCellV, Cell.setSlot, Array.getElem?_setIfInBounds, a1.symm, a2.symm, a3.symm]
          have hBs : fB.slot = (gD G).2 5 2 := by
            obtain ⟨cf, kf, fi, fd, hfd, hsl⟩ := hSl 2 (by decide)
            have hfd2 : s.fieldFound? Bundle.tN "backtrace" "Ljava/lang/Object;" = some (cf, kf, fi, fd) := hfd
            cases hffB.symm.trans hfd2
            exact hsl
          have hnull : cell.slots[(gD G).2 5 2]? = some .null := by
            have h9 := g4 2 (by decide)
            rw [h9]
            show some (vp_V (fvs G m a 5) 2) = some .null
            have h8 : (fvs G m a 5)[2]? = some (fvX G m a 5 2) := fvs_at (by decide)
            have h7 : fvX G m a 5 2 = .null := by
              show va_rf ((gR m a 2).map (fun q => gb G + q)) = .null
              rw [hback]
              rfl
            simp [vp_V, h8, h7]
          have hskip : SkipFacts T e.platform s (fun u => u) u0 ((preparedCellV T.toThrowableT cell (gb G + a) u0 sen).withEntry W.cur) :=
            ⟨{ ci198 := ci198, i198 := i198, fBack := fB }, ⟨hk198, hg198, ha198, hsB⟩, by
              show (preparedCellV T.toThrowableT cell (gb G + a) u0 sen).slots[fB.slot]? = some .null
              rw [hBs, hkeep 2 (by decide)]
              exact hnull, fun _ _ => rfl⟩
          have tk : ∀ {f : Field} {v : Value}, kX.instanceTypes[f.slot]? = some f.type → fits f.type v = true → Takes s cell f v := by
            intro f v hty hv
            have h9 := Takes.of_laid (s := s) hk hord hty hv
            refine ⟨?_, ?_⟩
            · rw [hszc]
              exact (Array.getElem?_eq_some_iff.mp hty).1
            · have h8 := h9.2
              rw [g3]
              exact h8
          have hsz2 : (F0 mm pc lsC ((Value.ref a :: st').map (cvv G))).locals.size = c.maxLocals := by rw [C.2.2.1]; exact hL.1
          obtain ⟨tm, methC, cdC, kC, vm₁, hnC, -, -, -, -, -, -, -, hW₁, st1⟩ := Steps.initCold (tb := p.tables) (e := e) (below := below) (s := s) (U := W) X.here C.1 X.warmed hpl C.2.2.2.1 (t := Bundle.init0 "java/lang/Exception") rfl rfl (by decide)
            (hts _ hl1) (hts _ q243) (bytes := Bundle.five) (maxL := 1) (hts _ q244)
            (f := F0 mm pc lsC ((Value.ref a :: st').map (cvv G))) rfl (a := gb G + a) (rest := st'.map (cvv G)) rfl (by rw [C.2.1]; exact hd)
          cases Option.some.inj (hnC.symm.trans hP1m)
          have X₁ := X.noted hW₁
          have hcat := cat_map (G := G) h4
          have hPs : Ps = [] := List.eq_nil_of_length_eq_zero hlen
          subst hPs
          obtain ⟨vm₂, X₂, st2'⟩ := X₁.ctorPlainOffV C.1 (g := F0 mm pc lsC (st'.map (cvv G))) rfl hsz2 T L Z LZ [P1]
            (fun P hP => by rcases List.mem_cons.mp hP with rfl | hP; exact L1; cases hP) ⟨hlink1, hlink⟩ (u0 := u0) (sen := sen) (self := gb G + a) (cell := cell) (cellS := cellU)
            (by show W.heap[gb G + a]? = some cell; rw [hT]; exact g1) (fun z hz => by rw [g3] at hz; cases hz) (by rw [g3]; exact fun hz => by cases hz) hmon.1 hmon.2 hsel0 hselF hcellS hneS hknownS zu7 zs7
            (tk tyC (by rw [Y.causeType]; rfl)) (tk tyS (by rw [Y.stackType]; exact fits_refV_array _ u0)) (tk tyP (by rw [Y.suppType]; exact fits_refV_object _ sen)) Y.objLocals hskip (C.2.2.2.2.2.2.2.2.2.2 e X.admits) [] (by rw [C.2.1]; exact hd)
            (by have := C.2.2.2.2.2.2.2.2.1.2.1; show 1 + 2 < R.frames; omega) (by
              have := C.2.2.2.2.2.2.2.2.1.2.2
              show 2 * 0 + ((st'.map (cvv G)).map fun v => v.category).sum + (13 * 1 + 41) ≤ R.locals
              omega)
          generalize hcell' : (preparedCellV T.toThrowableT cell (gb G + a) u0 sen).setSlot T.fStack.slot u0.v = cell' at X₂ st2'
          have hl9 : gb G + a < H.size := (Array.getElem?_eq_some_iff.mp g1).1
          have hheap : (((W.setVm vm₁).setVm vm₂).setCell (gb G + a) cell').heap = H.setIfInBounds (gb G + a) cell' := by rw [← hT]; rfl
          have oq : ∀ q : Nat, q ≠ gb G + a → (H.setIfInBounds (gb G + a) cell')[q]? = H[q]? := fun q hq => by simp [Array.getElem?_setIfInBounds, Ne.symm hq]
          have eq : (H.setIfInBounds (gb G + a) cell')[gb G + a]? = some cell' := by simp [Array.getElem?_setIfInBounds, hl9]
          have e1 : cell'.cls = cell.cls := by rw [← hcell']; rfl
          have e2 : cell'.vm = cell.vm := by rw [← hcell']; rfl
          have e3 : cell'.monitor = cell.monitor := by rw [← hcell']; rfl
          have e4 : cell'.slots.size = cell.slots.size := by rw [← hcell']; simp [preparedCellV, Cell.setSlot]
          have e5 : ∀ j, j < 3 → cell'.slots[(gD G).2 5 j]? = cell.slots[(gD G).2 5 j]? := by
            intro j hj
            rw [← hkeep j hj, ← hcell']
            simp [Cell.setSlot, Array.getElem?_setIfInBounds, (hap j hj).2.1.symm]
          have hat : va_at (gD G) clX (gb G + a, celX G m a) (H.setIfInBounds (gb G + a) cell') := by
            rw [celX_obj hk5]
            exact ⟨(RX5, TXw, 3), rfl, cell', eq, by rw [e1]; exact g2, by rw [e2]; exact g3, fun j hj => by rw [e5 j hj]; exact g4 j hj⟩
          have hS2 : va_S (AX G) s.heap (H.setIfInBounds (gb G + a) cell') (locs ++ [⟨gb G + a, T.fCause.slot⟩, ⟨gb G + a, T.fStack.slot⟩, ⟨gb G + a, T.fSupp.slot⟩, ⟨gb G + a, T.fStack.slot⟩]) := by
            refine ⟨by simp; exact hH.2.1.1, fun q hq1 hq2 => ?_, fun q hq => ?_⟩
            · rw [oq q (fun z => hq2 (by rw [z]; show gb G ≤ gb G + a; omega))]
              exact hH.2.1.2.1 q hq1 hq2
            · rcases List.mem_append.mp hq with hq | hq
              · exact hH.2.1.2.2 q hq
              · simp only [List.mem_cons, List.not_mem_nil, or_false] at hq
                rcases hq with rfl | rfl | rfl | rfl <;> (show gb G ≤ gb G + a; omega)
          have hH2 : Hp G z0 s m (H.setIfInBounds (gb G + a) cell') (locs ++ [⟨gb G + a, T.fCause.slot⟩, ⟨gb G + a, T.fStack.slot⟩, ⟨gb G + a, T.fSupp.slot⟩, ⟨gb G + a, T.fStack.slot⟩]) cells slots :=
            hH.put (m' := m) rfl rfl (fun _ => rfl) (fun _ _ => rfl) rfl (hH.1.set (wl_D G m) (by rw [wl_at G m hlt]) hat oq) hS2 ⟨oq, fun c9 h9 => ⟨cell, g1, by rw [eq] at h9; cases h9; exact ⟨e3, e4⟩⟩⟩
          obtain ⟨t, a1, b1⟩ := k _ _ _ _ lsC hH2 hL _ hheap X₂
          exact ⟨t, st1 t (fun acts => by rw [doInvoke_state]; exact st2' t a1), b1⟩
        · cases h
    · cases h
end SNDEX
