/-! SOUNDNESS: exceptions caught (the catch type's entry may be resolved there for the first time) -/
section SNDT
set_option maxRecDepth 100000
theorem fh_cold {Ec : CtlPost} {e : Env} {d : Bool} {acts : List Action} {s : State} {f : JFrame} {a : Addr} {Q : Handler → Pre} {x : ExceptionTableEntry} {t : List ExceptionTableEntry} {c : ClassId} {cell : Cell} (hx : covers x f.pc = true) (h0 : x.catchType ≠ 0)
    (hcl : s.vm.ClassLinks e.platform f.method.cls x.catchType c) (hcell : s.heap[a]? = some cell) (hobj : ∀ k, cell.vm ≠ .statics k)
    (hk : ∃ k, (s.vm.noted f.method.cls x.catchType (.cls c)).classes[cell.cls]? = some k) (hc : ∃ k, (s.vm.noted f.method.cls x.catchType (.cls c)).classes[c]? = some k) (hfit : (s.vm.noted f.method.cls x.catchType (.cls c)).assignable cell.cls c = true) :
    wp (findHandler.go f a (x :: t)) Q Ec e d acts s ↔ Q (.found x.handlerPc) d acts (s.setVm (s.vm.noted f.method.cls x.catchType (.cls c))) := by
  simp only [covers] at hx
  have h1 : (VmOp.resolveClass f.method.cls x.catchType).answer e s.vm = .ok c ∧ (VmOp.resolveClass f.method.cls x.catchType).tables e s.vm = (s.vm.noted f.method.cls x.catchType (.cls c)) := (resolveClass_links e.toSetting hcl).op rfl
  have h2 : (s.setVm (s.vm.noted f.method.cls x.catchType (.cls c))).heap[a]? = some cell := hcell
  simp [findHandler.go, hx, h0, h1, hcell, hobj, hk, hc, hfit, VmOp.dirties, VmOp.acts]
theorem step_catch_cold {e : Env} {s : State} {a : Addr} {f : JFrame} {r : List Frame} {pc : Nat} {vm' : Vm} (hfind : ∀ (Q : Handler → Pre) (E : CtlPost) (d : Bool) (acts : List Action), wp (findHandler f a) Q E e d acts s ↔ Q (.found pc) d acts (s.setVm vm')) :
    (stepThrowing e s a (.java f :: r)).Is ((s.setVm vm').setFrames (.java { f with pc := pc, stack := [.ref a] } :: r)) [] := by
  simp only [stepThrowing, searchFrame, vmDo]
  generalize hr : Sem.go _ e false [] s = res
  obtain ⟨as, rfl, ha⟩ := Sem.eq_ok_of hr (a := Handler.found pc) (s' := s.setVm vm') (acts' := []) (by simp [hfind _ _ _ _])
  exact ⟨rfl, ha⟩
theorem caught_cold {tb : Tables} {e : Env} {s target : State} {g : JFrame} {c : Code} {below : List Frame} {a : Addr} (h : At s g.method c below) {pc : Nat} {vm' : Vm} (hfind : ∀ (Q : Handler → Pre) (E : CtlPost) (d : Bool) (acts : List Action), wp (findHandler g a) Q E e d acts ((s.setTop g).pushFrame (.throwing a)) ↔ Q (.found pc) d acts (((s.setTop g).pushFrame (.throwing a)).setVm vm'))
    (hrest : Steps tb e below ((s.setVm vm').setTop { g with pc := pc, stack := [.ref a] }) target) :
    Steps tb e below ((s.setTop g).pushFrame (.throwing a)) target := by
  obtain ⟨hgo, hw⟩ := h.throwing a
  refine Steps.head hgo hw ?_
  rw [stepThread_throwing (frames_entered h.top _), (step_catch_cold (s := (s.setTop g).pushFrame (.throwing a)) hfind).1]
  obtain ⟨g₀, hg⟩ := Option.isSome_iff_exists.mp h.top
  obtain ⟨r, hr⟩ := State.topJava?_eq_some.mp hg
  have hr2 : (s.setVm vm').frames = .java g₀ :: r := hr
  rw [State.setTop_of_frames _ hr2] at hrest
  rw [State.pushFrame, State.setTop_of_frames _ hr, State.setFrames_setFrames, hr]
  have hsw : ∀ Z, (s.setFrames Z).setVm vm' = (s.setVm vm').setFrames Z := fun _ => rfl
  rw [hsw, State.setFrames_setFrames]
  exact hrest
variable {E : GG → Nat × (Nat → Int32) → State → Prop} {S : Nat × (Nat → Int32)} {I : MI} {pc : Nat}
/-- the first row that holds the pc catches all -/
theorem ca_any {pre post : List (Nat × Nat × Nat × Nat)} {h : Nat × Nat × Nat × Nat} (hh : I.2.2.2.2.1 = pre ++ h :: post) (hpre : ∀ x ∈ pre, ¬ (x.1 ≤ pc ∧ pc < x.2.1)) (hc : h.1 ≤ pc ∧ pc < h.2.1) (h0 : h.2.2.2 = 0) : CatchOK E S I pc h.2.2.1 := by
  intro G z0 p l e R s mm args below meth c H locs cells slots lsC st m a T C hX hH hk hT X
  refine ⟨T.vm, X, fun target hst => ?_⟩
  have hX2 := hX
  rw [hh] at hX2
  unfold HX at hX2
  obtain ⟨p1, p2, e1, e2, e3⟩ := List.map_eq_append_iff.mp hX2
  obtain ⟨x, p3, e4, e5, e6⟩ := List.map_eq_cons_iff.mp e3
  subst e5
  refine X.catchAt (gb G + a) (g := F0 mm pc lsC st) rfl (Finds.catchAny (meth := meth) (code := c) ?_ X.code p1 x p3 (by rw [e1, e4]) (fun y hy => ?_) ?_ h0) hst
  · rw [Stand.throwing_vm]
    exact X.method'
  · have h1 := hpre (y.startPc, y.endPc, y.handlerPc, y.catchType) (by rw [← e2]; exact List.mem_map_of_mem hy)
    show covers y pc = false
    simp only [covers, Bool.and_eq_false_iff, decide_eq_false_iff_not]
    rcases Classical.em (y.startPc ≤ pc) with q | q
    · exact Or.inr (fun z => h1 ⟨q, z⟩)
    · exact Or.inl q
  · show covers x pc = true
    simp only [covers, Bool.and_eq_true, decide_eq_true_eq]
    exact hc
/-- the first row catches Wrong -/
theorem ca_cls {q1 q2 q3 q4 : Nat} (hh : I.2.2.2.2.1 = [(q1, q2, q3, q4)]) (hc : q1 ≤ pc ∧ pc < q2) (h0 : q4 ≠ 0) (hl : Cond.classLink I.1.cls q4 "PlyHouse$Wrong" ∈ lw_all) : CatchOK E S I pc q3 := by
  intro G z0 p l e R s mm args below meth c H locs cells slots lsC st m a T C hX hH hk hT X
  have hX2 := hX
  rw [hh] at hX2
  unfold HX at hX2
  obtain ⟨x, p3, e4, e5, e6⟩ := List.map_eq_cons_iff.mp hX2
  have e7 : p3 = [] := by simpa using e6
  subst e7
  cases e5
  have hlt := hH.2.2.2.2.1.lt hk (by decide)
  obtain ⟨cell, g1, g2, g3⟩ := va_recv C.2.2.2.2.2.2.1 hH.1 (ci := 5) (q := (RX5, TXw, 3)) rfl (by rw [wl_at G m hlt, celX_obj hk])
  have hpl : e.platform.magicAccessors = ({} : Platform).magicAccessors := by rw [X.admits.platform]
  obtain ⟨c', hc', hcl⟩ := Cond.classLink_spec C.2.2.2.1 (C.2.2.2.2.1 _ hl) e.platform hpl
  cases g3.symm.trans hc'
  obtain ⟨dk, _, _, kt, hd, _, _, _, _, hkt, _, hopen⟩ := hcl.here
  have hcl₀ := X.warmed.classLinks hcl
  have hW' : s.WarmedH (T.vm.noted mm.cls x.catchType (.cls cell.cls)) := X.warmed.noted hd hopen (State.rightAt_cls hcl)
  obtain ⟨kt', hkt', -⟩ := hW'.alike.2.2 _ _ hkt
  refine ⟨_, X.noted hW', fun target hst => ?_⟩
  have hvm : ((T.setTop (F0 mm pc lsC st)).pushFrame (.throwing (gb G + a))).vm = T.vm := Stand.throwing_vm T _ _
  have hhp : ((T.setTop (F0 mm pc lsC st)).pushFrame (.throwing (gb G + a))).heap = T.heap := Stand.throwing_heap T _ _
  have hasg : (T.vm.noted mm.cls x.catchType (.cls cell.cls)).assignable cell.cls cell.cls = true := va_asg _ _
  have h : At T (F0 mm pc lsC st).method c below := X.here
  refine caught_cold (pc := x.handlerPc) (vm' := T.vm.noted mm.cls x.catchType (.cls cell.cls)) h (fun Q Ec d acts => ?_) hst
  rw [W.findHandler_eq (meth := meth) (code := c) (by rw [hvm]; exact X.method') X.code, e4]
  have key := fh_cold (Ec := Ec) (e := e) (d := d) (acts := acts) (s := (T.setTop (F0 mm pc lsC st)).pushFrame (.throwing (gb G + a))) (f := F0 mm pc lsC st) (a := gb G + a) (Q := Q) (x := x) (t := []) (c := cell.cls) (cell := cell) (by
    show covers x pc = true
    simp only [covers, Bool.and_eq_true, decide_eq_true_eq]
    exact hc) h0 (by rw [hvm]; exact hcl₀) (by rw [hhp, hT]; exact g1) (VmData.ne_statics_of g2) (by rw [hvm]; exact ⟨_, hkt'⟩) (by rw [hvm]; exact ⟨_, hkt'⟩) (by rw [hvm]; exact hasg)
  rw [hvm] at key
  exact key
end SNDT
