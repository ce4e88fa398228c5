/-! SOUNDNESS: the kinds of call -/
section SNDK
set_option maxRecDepth 100000
variable {E : GG → Nat × (Nat → Int32) → State → Prop} {S : Nat × (Nat → Int32)} {I : MI} {pc : Nat}
theorem wsI_sig {I : MI} {args : Array Value} {s : State} {m : MethodId} (h : ∀ w ∈ wsI I, w.before args s = true) (hn : s.methodNamed? I.1 = some m) {meth : Method} (hm : s.vm.method? m = some meth) : parseMethodDescriptor I.1.desc = some meth.sig := by
  unfold wsI at h
  split at h
  · obtain ⟨meth', c, h1, -, -, -, -, -, -, h8⟩ := Cond.code_spec hn (h _ List.mem_cons_self)
    cases hm.symm.trans h1
    exact h8
  · obtain ⟨m', meth', c, h0, h1, -, -, -, -, -, -, h8⟩ := Cond.codeWith_spec (h _ List.mem_cons_self)
    cases hn.symm.trans h0
    cases hm.symm.trans h1
    exact h8
/-- what a callee's name must be like -/
def NmOK (y : MethodName) (n : Nat) : Prop := y.cls ≠ "java/lang/invoke/MethodHandle" ∧ y.cls ≠ "java/lang/invoke/VarHandle" ∧ (parseMethodDescriptor y.desc).map (fun d => d.parameters.length) = some n
theorem NmOK.len {y : MethodName} {n : Nat} (h : NmOK y n) {sig : MethodDescriptor} (hs : parseMethodDescriptor y.desc = some sig) : n = sig.parameters.length := by
  have h2 := h.2.2
  rw [hs] at h2
  exact (Option.some.inj h2).symm
theorem stk_map (G : GG) (v : Value) (as rest : List Value) : ((v :: as).reverse ++ rest).map (cvv G) = (as.map (cvv G)).reverse ++ cvv G v :: rest.map (cvv G) := by
  simp [List.map_append, List.map_reverse]
theorem stk_mapS (G : GG) (as rest : List Value) : (as.reverse ++ rest).map (cvv G) = (as.map (cvv G)).reverse ++ rest.map (cvv G) := by
  simp [List.map_append, List.map_reverse]
/-- the receiver of a call through an object -/
def RcvOK (E : GG → Nat × (Nat → Int32) → State → Prop) (S : Nat × (Nat → Int32)) (I : MI) (k : List Value → PMem → Option Nat) (P : Nat → String → Prop) : Prop :=
  ∀ (G : GG) (z0 : Nat) (p : Program) (l : Launch) (e : Env) (R : Room) (s : State) (mm : MethodId) (args : Array Value) (below : List Frame) (meth : Method) (c : Code) (H : Heap) (locs : List Loc) (cells slots : Nat) (as : List Value) (m : PMem) (y : Nat),
    CX G (E G S) I p l e R s mm args below meth c → Hp G z0 s m H locs cells slots → k as m = some y → ∃ (v : Value) (as' : List Value) (b : Nat) (cell : Cell) (Cn : String), as = v :: as' ∧ cvv G v = .ref b ∧ H[b]? = some cell ∧ cell.vm.isStatics = false ∧ s.vm.findClass Cn = some cell.cls ∧ P y Cn
theorem rcv_cls {c y : Nat} {r : vw_C} (hc : clX[c]? = some r) {P : Nat → String → Prop} (hP : P y r.1) : RcvOK E S I (d_cls c y) P := by
  intro G z0 p l e R s mm args below meth cd H locs cells slots as m y' C hH hk
  unfold d_cls at hk
  split at hk
  · rename_i a as'
    split at hk
    · rename_i hh
      cases hk
      have hlt := hH.2.2.2.2.1.lt hh (by decide)
      obtain ⟨cell, g1, g2, g3⟩ := va_recv C.2.2.2.2.2.2.1 hH.1 hc (by rw [wl_at G m hlt, celX_obj hh])
      exact ⟨.ref a, as', _, cell, r.1, rfl, rfl, g1, g2, g3, hP⟩
    · cases hk
  · cases hk
theorem rcv_node {k : List Value → PMem → Option Nat} {P : Nat → String → Prop} (hk0 : ∀ as m y, k as m = some y → ∃ a as' c r, as = .ref a :: as' ∧ gK m a = (0, c) ∧ clX[c]? = some r ∧ P y r.1) : RcvOK E S I k P := by
  intro G z0 p l e R s mm args below meth cd H locs cells slots as m y' C hH hk
  obtain ⟨a, as', c, r, rfl, hh, hc, hP⟩ := hk0 as m y' hk
  have hlt := hH.2.2.2.2.1.lt hh (by decide)
  obtain ⟨cell, g1, g2, g3⟩ := va_recv C.2.2.2.2.2.2.1 hH.1 hc (by rw [wl_at G m hlt, celX_obj hh])
  exact ⟨.ref a, as', _, cell, r.1, rfl, rfl, g1, g2, g3, hP⟩
theorem rcv_str {y : Nat} (hq : ∀ G s, E G S s → ∀ i, i < 12 → StrX G i s) {P : Nat → String → Prop} (hP : P y "java/lang/String") : RcvOK E S I (d_str y) P := by
  intro G z0 p l e R s mm args below meth cd H locs cells slots as m y' C hH hk
  unfold d_str at hk
  split at hk
  · rename_i x as'
    split at hk
    · rename_i hx
      cases hk
      obtain ⟨aK, aV, h1, h2, h3, h4, h5, h6⟩ := hq G s C.2.2.2.2.2.2.2.1 (x.toNat - 1) (by omega)
      rw [← u32_of x (by omega)] at h1
      obtain ⟨cell, g1, g2, g3⟩ := va_Orecv h3 hH.2.1
      exact ⟨.float x, as', aK, cell, _, rfl, h1, g1, g2, g3, hP⟩
    · cases hk
  · cases hk
theorem sc_virt {k : List Value → PMem → Option Nat} {na idx : Nat} (hd : decode I.2.1 pc = .ok (.invokevirtual idx, 3)) (hr : RcvOK E S I k (fun y Cn => (MOK (miT y) ∧ mlT y = ((miT y).2.2.1, (miT y).2.2.2.2.2)) ∧ NmOK (miT y).1 (na - 1) ∧ Cond.methodLink I.1.cls idx (miT y).1 ∈ lw_all ∧ Cond.instanceMethod (miT y).1 ∈ lw_all ∧ Cond.selects Cn (miT y).1 (miT y).1 ∈ lw_all)) : SndCall E S I pc k na 3 := by
  intro G z0 p l e R s mm args below meth c H locs cells slots lsC as rest m y C hH hlen hk
  obtain ⟨v, as', b, cell, Cn, rfl, hv, g1, g2, g3, hM, hnm, hl, hi, hse⟩ := hr G z0 p l e R s mm args below meth c H locs cells slots as m y C hH hk
  refine ⟨hM, ⟨_, hd⟩, fun T hT X => ?_⟩
  obtain ⟨mk, methM, hnamed, hmethM, hstM, habM⟩ := Cond.instanceMethod_spec (C.2.2.2.2.1 _ hi)
  have hsig := wsI_sig (args := args) (fun w hw => C.2.2.2.2.1 w (hM.1.1 w hw)) hnamed hmethM
  obtain ⟨c2, r2, m2, q1, q2, q3, q4, kP, hkP, hkPi⟩ := Cond.selects_spec (C.2.2.2.2.1 _ hse)
  cases g3.symm.trans q1
  cases (State.methodFound?_of_named hnamed ⟨hnm.1, hnm.2.1⟩).symm.trans q2
  cases hnamed.symm.trans q3
  have hselP : selectMethod e.platform s.vm cell.cls mk = .method mk := by rw [Launch.admits_selectMethod X.admits]; exact q4
  have hl2 : (as'.map (cvv G)).length = methM.sig.parameters.length := by
    rw [List.length_map, ← hnm.len hsig]
    rw [List.length_cons] at hlen
    omega
  obtain ⟨vm₁, X₁, hstep₁⟩ := X.invokevirtual C.1 C.2.2.2.1 (C.2.2.2.2.1 _ hl) hnamed hmethM hstM hkP hkPi ⟨hnm.1, hnm.2.1⟩ (a := b) (cell := cell) (by rw [hT]; exact g1)
    (fun z h => by rw [h] at g2; cases g2) hselP hmethM habM hkP hkPi (g := F0 mm pc lsC (((v :: as').reverse ++ rest).map (cvv G))) rfl (argsL := as'.map (cvv G)) (rest := rest.map (cvv G)) hl2 (by rw [← hv]; exact stk_map G v as' rest) (by rw [C.2.1]; exact hd)
  refine ⟨vm₁, mk, X₁, hnamed, fun target h => hstep₁ target fun acts => ?_⟩
  have h9 := h acts
  rw [List.map_cons, hv] at h9
  exact h9
theorem sc_stat {y na idx : Nat} (hd : decode I.2.1 pc = .ok (.invokestatic idx, 3)) (hM : MOK (miT y) ∧ mlT y = ((miT y).2.2.1, (miT y).2.2.2.2.2)) (hnm : NmOK (miT y).1 na) (hl : Cond.methodLink I.1.cls idx (miT y).1 ∈ lw_all) (hs : Cond.static (miT y).1 ∈ lw_all) (hc : Cond.code (miT y).1 (miT y).2.1 (miT y).2.2.1 (miT y).2.2.2.1 ∈ lw_all) : SndCall E S I pc (fun _ _ => some y) na 3 := by
  intro G z0 p l e R s mm args below meth c H locs cells slots lsC as rest m y' C hH hlen hk
  cases hk
  refine ⟨hM, ⟨_, hd⟩, fun T hT X => ?_⟩
  obtain ⟨mk, hnamed⟩ := Cond.code_named (C.2.2.2.2.1 _ hc)
  obtain ⟨methM, cM, hmethM, -, -, -, -, -, -, hsigM⟩ := Cond.code_spec hnamed (C.2.2.2.2.1 _ hc)
  have hstatic : methM.isStatic = true := Cond.static_spec hnamed hmethM (C.2.2.2.2.1 _ hs)
  obtain ⟨kP, hkP, -⟩ := className_of_methodNamed hnamed
  have hinitP : kP.init = .initialized := Cond.initialized_spec (findClass_of_methodNamed hnamed) hkP (C.2.2.2.2.1 _ hM.1.2.1)
  obtain ⟨vm₁, X₁, hstep₁⟩ := X.invokestatic C.1 C.2.2.2.1 (C.2.2.2.2.1 _ hl) hnamed hmethM hstatic hkP hinitP ⟨hnm.1, hnm.2.1⟩ (g := F0 mm pc lsC ((as.reverse ++ rest).map (cvv G))) rfl (argsL := as.map (cvv G)) (rest := rest.map (cvv G)) (by rw [List.length_map, hlen]; exact hnm.len hsigM) (stk_mapS G as rest) (by rw [C.2.1]; exact hd)
  exact ⟨vm₁, mk, X₁, hnamed, fun target h => hstep₁ target fun acts => h acts⟩
/-- a constructor's receiver -/
def CtrOK (k : List Value → PMem → Option Nat) (y : Nat) : Prop := ∀ as m y', k as m = some y' → y' = y ∧ ∃ a as', as = .ref a :: as'
theorem ctr_cls {c y : Nat} : CtrOK (d_cls c y) y := by
  intro as m y' hk
  unfold d_cls at hk
  split at hk
  · split at hk
    · cases hk; exact ⟨rfl, _, _, rfl⟩
    · cases hk
  · cases hk
theorem ctr_two {y : Nat} : CtrOK (d_two y) y := by
  intro as m y' hk
  unfold d_two at hk
  split at hk
  · split at hk
    · cases hk; exact ⟨rfl, _, _, rfl⟩
    · cases hk
  · cases hk
theorem sc_init {k : List Value → PMem → Option Nat} {y na idx : Nat} (hk0 : CtrOK k y) (hd : decode I.2.1 pc = .ok (.invokespecial idx, 3)) (hM : MOK (miT y) ∧ mlT y = ((miT y).2.2.1, (miT y).2.2.2.2.2)) (hnm : NmOK (miT y).1 (na - 1)) (hin : (miT y).1.name = "<init>") (hl : Cond.methodLink I.1.cls idx (miT y).1 ∈ lw_all) (hi : Cond.instanceMethod (miT y).1 ∈ lw_all) (hc : Cond.code (miT y).1 (miT y).2.1 (miT y).2.2.1 none ∈ lw_all) : SndCall E S I pc k na 3 := by
  intro G z0 p l e R s mm args below meth c H locs cells slots lsC as rest m y' C hH hlen hk
  obtain ⟨rfl, a, as', rfl⟩ := hk0 as m y' hk
  refine ⟨hM, ⟨_, hd⟩, fun T hT X => ?_⟩
  have hpl : e.platform.magicAccessors = ({} : Platform).magicAccessors := by rw [X.admits.platform]
  rw [List.length_cons] at hlen
  obtain ⟨mk, methM, cM, kP, vm₁, hnamed, hmethM, hcodeM, -, hlocalsM, -, hkP, -, hW₁, hstep₁⟩ := Steps.initColdArgs (e := e) X.here C.1 X.warmed hpl C.2.2.2.1 hin ⟨hnm.1, hnm.2.1⟩ (C.2.2.2.2.1 _ hl) (C.2.2.2.2.1 _ hi) (C.2.2.2.2.1 _ hc) (f := F0 mm pc lsC (((Value.ref a :: as').reverse ++ rest).map (cvv G))) rfl (a := gb G + a) (argsL := as'.map (cvv G)) (rest := rest.map (cvv G)) (fun sig hs => by rw [List.length_map, ← hnm.len hs]; omega) (stk_map G (.ref a) as' rest) (by rw [C.2.1]; exact hd)
  exact ⟨vm₁, mk, X.noted hW₁, hnamed, fun target h => hstep₁ target fun acts => h acts⟩
theorem sc_initN {k : List Value → PMem → Option Nat} {y na idx : Nat} {host : String} (hk0 : CtrOK k y) (hd : decode I.2.1 pc = .ok (.invokespecial idx, 3)) (hM : MOK (miT y) ∧ mlT y = ((miT y).2.2.1, (miT y).2.2.2.2.2)) (hnm : NmOK (miT y).1 (na - 1)) (hin : (miT y).1.name = "<init>") (hl : ∀ G s, E G S s → va_Nw (Cond.methodLinkNest I.1.cls idx (miT y).1 host) s) (hi : Cond.instanceMethod (miT y).1 ∈ lw_all) (hc : Cond.code (miT y).1 (miT y).2.1 (miT y).2.2.1 none ∈ lw_all) : SndCall E S I pc k na 3 := by
  intro G z0 p l e R s mm args below meth c H locs cells slots lsC as rest m y' C hH hlen hk
  obtain ⟨rfl, a, as', rfl⟩ := hk0 as m y' hk
  refine ⟨hM, ⟨_, hd⟩, fun T hT X => ?_⟩
  have hpl : e.platform.magicAccessors = ({} : Platform).magicAccessors := by rw [X.admits.platform]
  rw [List.length_cons] at hlen
  obtain ⟨mk, methM, cM, kP, vm₁, hnamed, hmethM, hcodeM, -, hlocalsM, -, hkP, -, hW₁, hstep₁⟩ := Steps.initColdArgsNest (e := e) X.here C.1 X.warmed hpl C.2.2.2.1 hin ⟨hnm.1, hnm.2.1⟩ (args := args) (va_Nw.use rfl (hl G s C.2.2.2.2.2.2.2.1)) (C.2.2.2.2.1 _ hi) (C.2.2.2.2.1 _ hc) (f := F0 mm pc lsC (((Value.ref a :: as').reverse ++ rest).map (cvv G))) rfl (a := gb G + a) (argsL := as'.map (cvv G)) (rest := rest.map (cvv G)) (fun sig hs => by rw [List.length_map, ← hnm.len hs]; omega) (stk_map G (.ref a) as' rest) (by rw [C.2.1]; exact hd)
  exact ⟨vm₁, mk, X.noted hW₁, hnamed, fun target h => hstep₁ target fun acts => h acts⟩
/-- Node.of: resolved to the interface's, selected by the receiver's class -/
theorem sc_of {na idx : Nat} {x : MethodName} {owner : String} (hd : decode I.2.1 pc = .ok (.invokevirtual idx, 3)) (hnx : NmOK ⟨owner, x.name, x.desc⟩ (na - 1)) {k : List Value → PMem → Option Nat} (hE : ∀ G s, E G S s → va_Nw (Cond.methodLink I.1.cls idx x) s ∧ va_Nw (Cond.sameMethod x.cls owner x.name x.desc) s ∧ va_Decl s ⟨owner, x.name, x.desc⟩)
    (hr : RcvOK E S I k (fun y Cn => (MOK (miT y) ∧ mlT y = ((miT y).2.2.1, (miT y).2.2.2.2.2)) ∧ Cond.instanceMethod (miT y).1 ∈ lw_all ∧ Cond.selects Cn ⟨owner, x.name, x.desc⟩ (miT y).1 ∈ lw_all)) : SndCall E S I pc k na 3 := by
  intro G z0 p l e R s mm args below meth c H locs cells slots lsC as rest m y C hH hlen hk
  obtain ⟨v, as', b, cell, Cn, rfl, hv, g1, g2, g3, hM, hi, hse⟩ := hr G z0 p l e R s mm args below meth c H locs cells slots as m y C hH hk
  refine ⟨hM, ⟨_, hd⟩, fun T hT X => ?_⟩
  obtain ⟨e1, e2, r0, r, hn, hrm, hst, hsg⟩ := hE G s C.2.2.2.2.2.2.2.1
  obtain ⟨mk, methM, hnamed, hmethM, hstM, habM⟩ := Cond.instanceMethod_spec (C.2.2.2.2.1 _ hi)
  obtain ⟨c2, r2, m2, q1, q2, q3, q4, kP, hkP, hkPi⟩ := Cond.selects_spec (C.2.2.2.2.1 _ hse)
  cases g3.symm.trans q1
  cases (State.methodFound?_of_named hn ⟨hnx.1, hnx.2.1⟩).symm.trans q2
  cases hnamed.symm.trans q3
  have hselP : selectMethod e.platform s.vm cell.cls r0 = .method mk := by rw [Launch.admits_selectMethod X.admits]; exact q4
  have hl2 : (as'.map (cvv G)).length = r.sig.parameters.length := by
    rw [List.length_map, ← hnx.len hsg]
    rw [List.length_cons] at hlen
    omega
  obtain ⟨vm₁, X₁, hstep₁⟩ := X.invokevirtualUp C.1 C.2.2.2.1 (va_Nw.use rfl e1) (va_Nw.use rfl e2) ⟨hnx.1, hnx.2.1⟩ hn hrm hst (a := b) (cell := cell) (by rw [hT]; exact g1)
    (fun z h => by rw [h] at g2; cases g2) hselP hmethM habM hkP hkPi (g := F0 mm pc lsC (((v :: as').reverse ++ rest).map (cvv G))) rfl (argsL := as'.map (cvv G)) (rest := rest.map (cvv G)) hl2 (by rw [← hv]; exact stk_map G v as' rest) (by rw [C.2.1]; exact hd)
  refine ⟨vm₁, mk, X₁, hnamed, fun target h => hstep₁ target fun acts => ?_⟩
  have h9 := h acts
  rw [List.map_cons, hv] at h9
  exact h9
end SNDK
