/-! SOUNDNESS: entering a callee, both outcomes -/
section SNDC
set_option maxRecDepth 100000
def MX (l : Launch) (y : MethodName) (ws : List Cond) (rm : Room) (Pc : Array Value → State → Prop) (Qc : Array Value → State → Outcome → State → Prop) : Prop := MetFree l y (headSpec ws rm) Pc (fun _ _ _ _ _ => True) Qc
/-- behind an outcome: at the next instruction, or with the exception over the frame -/
def AfterX (p : Program) (e : Env) (below : List Frame) (from_ : State) (T' : State) (g : JFrame) (len : Nat) (o : Outcome) : Prop := match o with
  | .returned v => Steps p.tables e below from_ (T'.setTop { g with pc := g.pc + len, stack := v.toList ++ g.stack })
  | .threw x => Steps p.tables e below from_ ((T'.setTop g).pushFrame (.throwing x))
theorem enterX {l : Launch} {R : Room} {p : Program} {e : Env} {below : List Frame} {s : State} {sargs : Array Value} {m : MethodId} {meth : Method} {c : Code} {U : State} {Ls : List Loc} {c0 s0 : Nat} {g : JFrame} {y : MethodName} {ws : List Cond} {rm : Room} {Pc : Array Value → State → Prop} {Qc : Array Value → State → Outcome → State → Prop} {PL : List Loc → Nat → Nat → Prop}
    (hM : MX l y ws rm Pc Qc) (X : Stand p l e R s m sargs below meth c U Ls c0 s0) (hg : g.method = m) (hsize : g.locals.size = c.maxLocals) {ig : Instr} {len : Nat} (hdg : decode c.code g.pc = .ok (ig, len)) {mk : MethodId} (hn : U.methodNamed? y = some mk) {methY : Method} {cY : Code} (hmY : U.vm.method? mk = some methY) (hcY : methY.code = some cY) {maxL : Nat} (hlY : cY.maxLocals = maxL) {kY : Class} (hkY : U.vm.classes[mk.cls]? = some kY) (hinitY : kY.init = .initialized)
    (hframes : rm.frames + 1 ≤ R.frames) (hlocals : 2 * g.monitorRoom + (g.stack.map fun v => v.category).sum + (maxL + 11) + rm.locals ≤ R.locals) (hcells : c0 + rm.cells ≤ R.cells) (hslots : s0 + rm.slots ≤ R.slots) {a : Array Value} (hpre : (allAtoms ws).before a U = true) (hP : Pc a (U.calling g mk a))
    (hQ : ∀ o t, Qc a (U.calling g mk a) o t → (U.calling g mk a).WarmedH t.vm ∧ ∃ L k n, (U.calling g mk a).sameButNew ({ t with vm := (U.calling g mk a).vm } : State) L k n ∧ PL L k n) :
    ∃ (o : Outcome) (t : State) (L : List Loc) (k n : Nat) (T' : State), PL L k n ∧ Qc a (U.calling g mk a) o t ∧ T'.heap = t.heap ∧ T'.vm = t.vm ∧ Stand p l e R s m sargs below meth c T' (Ls ++ L) (c0 + k) (s0 + n) ∧ AfterX p e below (doInvoke e (U.setTop g) [] mk a).1 T' g len o := by
  have h : At U g.method c below := by rw [hg]; exact X.here
  have happ : (headSpec ws rm).appliesLoose y e.platform (U.calling g mk a) = true :=
    Spec.appliesLoose_calling (g := g) h hdg hn hkY hinitY
      (X.room_calling (g := g) (R' := (headSpec ws rm).room) hsize hmY hcY hframes (by rw [hlY]; exact hlocals) hcells hslots) hpre
  obtain ⟨mid, hmid⟩ := h.above
  have hfr : (U.setTop g).frames = (.java g :: mid) ++ below := by rw [State.frames_setTop' g h.top, hmid]; rfl
  obtain ⟨o, s₂, hsteps, -, hend, hq⟩ := Steps.callFree hM p X.admits X.cas X.clock (acts := []) hfr happ hP trivial
  have hq' : Qc a (U.calling g mk a) o s₂ := hq
  rw [State.frames_setTop' g h.top] at hend
  obtain ⟨hW₂, L, k, n, ⟨e2, q2, q3, q4, q5, q6⟩, hPL⟩ := hQ o s₂ hq'
  have e3 : s₂ = ({ (U.calling g mk a).setFrames s₂.frames with heap := s₂.heap, slotsUsed := s₂.slotsUsed } : State).setVm s₂.vm := by
    have : s₂ = ({ s₂ with vm := (U.calling g mk a).vm } : State).setVm s₂.vm := rfl
    rw [e2] at this
    exact this
  have hW' : U.WarmedH s₂.vm := hW₂
  obtain ⟨g₀, hg0⟩ := Option.isSome_iff_exists.mp h.top
  obtain ⟨r, hr⟩ := State.topJava?_eq_some.mp hg0
  have hr' : (({ U with heap := s₂.heap, slotsUsed := s₂.slotsUsed } : State).setVm s₂.vm).frames = .java g₀ :: r := hr
  have hsame : U.sameButNew ({ U with heap := s₂.heap, slotsUsed := s₂.slotsUsed } : State) L k n := by
    refine ⟨?_, q2, q3, q4, q5, q6⟩
    obtain ⟨t, ht, -⟩ := State.frames_cons hr
    show ({ U with heap := s₂.heap, slotsUsed := s₂.slotsUsed } : State) = { U.setFrames U.frames with heap := s₂.heap, slotsUsed := s₂.slotsUsed }
    rw [State.setFrames_self ht]
  subst hg
  refine ⟨o, s₂, L, k, n, (({ U with heap := s₂.heap, slotsUsed := s₂.slotsUsed } : State).setVm s₂.vm), hPL, hq', rfl, rfl,
    ⟨X.admits, X.cas, X.clock, X.frames, X.room, X.hears, X.method, X.code, (X.here.setHeapUsed s₂.heap s₂.slotsUsed).setVm hW'.alike, X.tail, State.WarmedH.trans X.warmed hW', X.limits, X.bytes, X.same.trans (hsame.setVm s.vm)⟩, ?_⟩
  cases o with
  | returned v =>
    obtain ⟨c₂, i₂, len₂, hc₂, hd₂, hf₂⟩ := hend
    have hcc : c₂ = c := by
      have h1 : s₂.code? g.method = U.code? g.method := by
        rw [State.code?_eq, State.code?_eq, hW'.alike.method?]
      exact Option.some.inj (hc₂.symm.trans (h1.trans h.code))
    subst hcc
    have hlen : len₂ = len := by rw [hdg] at hd₂; cases hd₂; rfl
    subst hlen
    have hs₂ : s₂ = (({ U with heap := s₂.heap, slotsUsed := s₂.slotsUsed } : State).setVm s₂.vm).setTop { g with pc := g.pc + len₂, stack := v.toList ++ g.stack } := by
      refine e3.trans ?_
      rw [hf₂, State.calling_eq h.top, State.setFrames_setFrames, State.setTop_of_frames _ hr', hr]
      rfl
    show Steps p.tables e below _ ((({ U with heap := s₂.heap, slotsUsed := s₂.slotsUsed } : State).setVm s₂.vm).setTop { g with pc := g.pc + len₂, stack := v.toList ++ g.stack })
    rw [← hs₂]
    exact hsteps
  | threw x =>
    have hf₂ : s₂.frames = .throwing x :: .java g :: U.frames.tail := hend
    have hs₂ : s₂ = ((({ U with heap := s₂.heap, slotsUsed := s₂.slotsUsed } : State).setVm s₂.vm).setTop g).pushFrame (.throwing x) := by
      refine e3.trans ?_
      rw [hf₂, State.calling_eq h.top, State.setFrames_setFrames, State.pushFrame, State.frames_setTop _ hr', State.setTop_of_frames _ hr', State.setFrames_setFrames, hr]
      rfl
    show Steps p.tables e below _ (((({ U with heap := s₂.heap, slotsUsed := s₂.slotsUsed } : State).setVm s₂.vm).setTop g).pushFrame (.throwing x))
    rw [← hs₂]
    exact hsteps
end SNDC
