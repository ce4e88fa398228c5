/-! SOUNDNESS: the main theorem, over sound entries -/
section SNDM
set_option maxRecDepth 100000
def cOut (G : GG) (o : POut) : Outcome := match o with
  | .inl x => .returned (x.1.map (cvv G))
  | .inr x => .threw (gb G + x.1)
/-- what an invocation's end says, ahead of the frames -/
def QX (G : GG) (z0 : Nat) (s : State) (o : POut) (t : State) : Prop := s.WarmedH t.vm ∧ (∃ locs : List Loc, s.sameButNew ({ t with vm := s.vm } : State) locs (gb G + gN (mOut o) - s.heap.size) (gZ (mOut o) - z0) ∧ ∀ q ∈ locs, AX G q.base) ∧ va_P (gD G) clX (wl G (mOut o)) t.heap ∧ va_F (AX G) s t ∧ WFm (mOut o) ∧ MonF G (mOut o) t.heap
def FQ (G : GG) (z0 : Nat) (below : List Frame) (s : State) (o : POut) : State → Prop := fun t => t.status = .running ∧ Ended t below (cOut G o) ∧ QX G z0 s o t
def HX (hh : List (Nat × Nat × Nat × Nat)) (c : Code) : Prop := c.exceptionTable.toList.map (fun h => (h.startPc, h.endPc, h.handlerPc, h.catchType)) = hh
theorem W_mono {p : Program} {l : Launch} {e : Env} {R : Room} {s : State} {m : MethodId} {args : Array Value} {below : List Frame} {meth : Method} {c : Code} {H : Heap} {locs : List Loc} {cells slots : Nat} {Q Q' : State → Prop} {g : JFrame} (h : ∀ t, Q t → Q' t) (w : W p l e R s m args below meth c H locs cells slots Q g) : W p l e R s m args below meth c H locs cells slots Q' g := by
  intro T hT X
  obtain ⟨t, a, b⟩ := w T hT X
  exact ⟨t, a, h t b⟩
theorem QX.of {G : GG} {z0 : Nat} {s t : State} {m : PMem} {H : Heap} {locs : List Loc} {cells slots : Nat} {o : POut} (hm : mOut o = m) (hH : Hp G z0 s m H locs cells slots) (ht : t.heap = H) (hW : s.WarmedH t.vm) (hs : s.sameButNew ({ t with vm := s.vm } : State) locs cells slots) : QX G z0 s o t := by
  subst hm
  obtain ⟨h1, h2, h3, h4, h5, h6⟩ := hH
  refine ⟨hW, ⟨locs, ?_, h2.2.2⟩, by rw [ht]; exact h1, h2.F ht, h5, by rw [ht]; exact h6⟩
  rw [show gb G + gN (mOut o) - s.heap.size = cells by omega, show gZ (mOut o) - z0 = slots by omega]
  exact hs
/-- an end of a method is sound -/
def SndEnd (I : MI) (pc j : Nat) : Prop := match j with
  | 0 => decode I.2.1 pc = .ok (.return_, 1) ∧ I.2.2.2.1 = none
  | 1 => decode I.2.1 pc = .ok (.ireturn, 1) ∧ I.2.2.2.1 = some .int
  | 2 => decode I.2.1 pc = .ok (.ireturn, 1) ∧ I.2.2.2.1 = some .boolean
  | 3 => decode I.2.1 pc = .ok (.ireturn, 1) ∧ (I.2.2.2.1 = some .char ∨ I.2.2.2.1 = some .byte)
  | 4 => decode I.2.1 pc = .ok (.areturn, 1) ∧ ∃ n, I.2.2.2.1 = some (.object n)
  | _ => decode I.2.1 pc = .ok (.athrow, 1)
theorem MQ_FQ {G : GG} {z0 : Nat} {below : List Frame} {s : State} {args : Array Value} {m : PMem} {H : Heap} {locs : List Loc} {cells slots : Nat} {o : POut} (hm : mOut o = m) (hH : Hp G z0 s m H locs cells slots) (hcL : ∀ q ∈ locs, AX G q.base) : ∀ t, MQ below (fun _ s' o' t' => s' = s → (o' = cOut G o ∧ t'.heap = H ∧ s.WarmedH t'.vm)) args s cells slots (AX G) t → FQ G z0 below s o t := by
  intro t ht
  obtain ⟨o', h1, h2, h3, L, ⟨-, h5, h6⟩, h7⟩ := ht
  obtain ⟨rfl, h8, h9⟩ := h3 rfl
  refine ⟨h1, h2, h9, ⟨L, ?_, h7⟩, ?_, ?_, ?_, ?_⟩
  · subst hm
    obtain ⟨-, -, g3, g4, -⟩ := hH
    rw [show gb G + gN (mOut o) - s.heap.size = cells by omega, show gZ (mOut o) - z0 = slots by omega]
    exact h6
  · rw [h8, hm]; exact hH.1
  · exact hH.2.1.F h8
  · rw [hm]; exact hH.2.2.2.2.1
  · rw [hm, h8]; exact hH.2.2.2.2.2
theorem nar_small {v : Int32} (h : (0 : Int32) ≤ v ∧ v ≤ 127) : narrow .char (.int v) = .int v ∧ narrow .byte (.int v) = .int v := by
  obtain ⟨j, hj, rfl⟩ : ∃ j : Nat, j ≤ 127 ∧ v = nI j := by
    refine nI_of2 (M := 127) (by decide) ?_ h.2
    intro q
    exact absurd (Int32.lt_of_le_of_lt h.1 q) (Int32.lt_irrefl)
  have key : ∀ j : Fin 128, narrow .char (.int (nI j.val)) = .int (nI j.val) ∧ narrow .byte (.int (nI j.val)) = .int (nI j.val) := by decide +kernel
  exact key ⟨j, by omega⟩
theorem end_snd {E : State → Prop} {I : MI} {pc j : Nat} {G : GG} {z0 : Nat} {p : Program} {l : Launch} {e : Env} {R : Room} {s : State} {mm : MethodId} {args : Array Value} {below : List Frame} {meth : Method} {c : Code} {H : Heap} {locs : List Loc} {cells slots : Nat} {lsC : Array Slot} {v : Option Value} {m : PMem} {st : List Value}
    (hE : SndEnd I pc j) (C : CX G E I p l e R s mm args below meth c) (hH : Hp G z0 s m H locs cells slots)
    (hv : (j = 0 ∧ st = [] ∧ v = none) ∨ (j = 1 ∧ ∃ x, st = [.int x] ∧ v = some (.int x)) ∨ (j = 2 ∧ ∃ x : Int32, (x = 0 ∨ x = 1) ∧ st = [.int x] ∧ v = some (.int x)) ∨ (j = 3 ∧ ∃ x : Int32, ((0 : Int32) ≤ x ∧ x ≤ 127) ∧ st = [.int x] ∧ v = some (.int x)) ∨ (j = 4 ∧ ∃ x, st = [.ref x] ∧ v = some (.ref x))) :
    W p l e R s mm args below meth c H locs cells slots (FQ G z0 below s (.inl (v, m))) (F0 mm pc lsC (st.map (cvv G))) := by
  obtain ⟨hr, hlocks, hname⟩ := C.2.2.2.2.2.1
  have hL := hH.2.1.2.2
  rcases hv with ⟨rfl, rfl, rfl⟩ | ⟨rfl, x, rfl, rfl⟩ | ⟨rfl, x, hx, rfl, rfl⟩ | ⟨rfl, x, hx, rfl, rfl⟩ | ⟨rfl, x, rfl, rfl⟩
  · exact W_mono (MQ_FQ (args := args) (o := .inl (none, m)) rfl hH hL) (W.vret C.1 C.2.1 (hr.trans hE.2) (fun t ht hW _ => ⟨rfl, ht, hW⟩) hL hE.1)
  · exact W_mono (MQ_FQ (args := args) (o := .inl (some (.int x), m)) rfl hH hL) (W.iret C.1 C.2.1 (hr.trans hE.2) (fun t ht hW _ => ⟨rfl, ht, hW⟩) hL hE.1)
  · exact W_mono (MQ_FQ (args := args) (o := .inl (some (.int x), m)) rfl hH hL) (W.zret C.1 C.2.1 (hr.trans hE.2) (by rcases hx with rfl | rfl <;> rfl) (fun t ht hW _ => ⟨rfl, ht, hW⟩) hL hE.1)
  · rcases hE.2 with h2 | h2
    · exact W_mono (MQ_FQ (args := args) (o := .inl (some (.int x), m)) rfl hH hL) (W.zret C.1 C.2.1 (hr.trans h2) (nar_small hx).1 (fun t ht hW _ => ⟨rfl, ht, hW⟩) hL hE.1)
    · exact W_mono (MQ_FQ (args := args) (o := .inl (some (.int x), m)) rfl hH hL) (W.zret C.1 C.2.1 (hr.trans h2) (nar_small hx).2 (fun t ht hW _ => ⟨rfl, ht, hW⟩) hL hE.1)
  · obtain ⟨nm, h2⟩ := hE.2
    exact W_mono (MQ_FQ (args := args) (o := .inl (some (.ref x), m)) rfl hH hL) (W.aret C.1 C.2.1 (hr.trans h2) (Or.inl ⟨nm, rfl⟩) (Or.inr ⟨_, rfl⟩) (fun t ht hW _ => ⟨rfl, ht, hW⟩) hL hE.1)
/-- an exception over the frame leaves the method -/
theorem thr_out {E : State → Prop} {I : MI} {pc : Nat} {G : GG} {z0 : Nat} {p : Program} {l : Launch} {e : Env} {R : Room} {s : State} {mm : MethodId} {args : Array Value} {below : List Frame} {meth : Method} {c : Code} {H : Heap} {locs : List Loc} {cells slots : Nat} {lsC : Array Slot} {m : PMem} {st : List Value} {a : Nat} {T : State}
    (C : CX G E I p l e R s mm args below meth c) (hX : HX I.2.2.2.2.1 c) (hno : ∀ h ∈ I.2.2.2.2.1, ¬ (h.1 ≤ pc ∧ pc < h.2.1)) (hH : Hp G z0 s m H locs cells slots) (hT : T.heap = H) (X : Stand p l e R s mm args below meth c T locs cells slots) :
    ∃ t, Steps p.tables e below ((T.setTop (F0 mm pc lsC st)).pushFrame (.throwing (gb G + a))) t ∧ FQ G z0 below s (.inr (a, m)) t := by
  have hout : ∀ x ∈ c.exceptionTable.toList, covers x (F0 mm pc lsC st).pc = false := by
    intro x hx
    have h1 := hno (x.startPc, x.endPc, x.handlerPc, x.catchType) (by rw [← hX]; exact List.mem_map_of_mem hx)
    simp only [covers, Bool.and_eq_false_iff, decide_eq_false_iff_not]
    rcases Classical.em (x.startPc ≤ pc) with q | q
    · exact Or.inr (fun z => h1 ⟨q, z⟩)
    · exact Or.inl q
  obtain ⟨h1, h2, h3, h4, h5⟩ := X.leaveThrown (gb G + a) (g := F0 mm pc lsC st) rfl rfl rfl hout C.2.2.2.2.2.1.2.1
  exact ⟨_, h1, h2, h3, QX.of (o := .inr (a, m)) rfl hH (by rw [← hT]; rfl) h4 h5⟩
/-- the exception is caught in the method, at q -/
def CatchOK (E : GG → Nat × (Nat → Int32) → State → Prop) (S : Nat × (Nat → Int32)) (I : MI) (pc q : Nat) : Prop :=
  ∀ (G : GG) (z0 : Nat) (p : Program) (l : Launch) (e : Env) (R : Room) (s : State) (mm : MethodId) (args : Array Value) (below : List Frame) (meth : Method) (c : Code) (H : Heap) (locs : List Loc) (cells slots : Nat) (lsC : Array Slot) (st : List Value) (m : PMem) (a : Nat) (T : State),
    CX G (E G S) I p l e R s mm args below meth c → HX I.2.2.2.2.1 c → Hp G z0 s m H locs cells slots → gK m a = (0, 5) → T.heap = H → Stand p l e R s mm args below meth c T locs cells slots →
    ∃ vm', Stand p l e R s mm args below meth c (T.setVm vm') locs cells slots ∧ ∀ target, Steps p.tables e below ((T.setVm vm').setTop (F0 mm q lsC [.ref (gb G + a)])) target → Steps p.tables e below ((T.setTop (F0 mm pc lsC st)).pushFrame (.throwing (gb G + a))) target
/-- a method's own words -/
def wsI (I : MI) : List Cond := match I.2.2.2.2.1 with
  | [] => Cond.code I.1 I.2.1 I.2.2.1 I.2.2.2.1 :: lw_all
  | hh => Cond.codeWith I.1 I.2.1 I.2.2.1 I.2.2.2.1 hh :: lw_all
def MOK (I : MI) : Prop := (∀ w ∈ wsI I, w ∈ lw_all) ∧ Cond.initialized I.1.cls ∈ lw_all ∧ plainFor I.1 = true ∧ I.2.2.1 ≤ 21
theorem wsI_all {I : MI} {w : Cond} (h : w ∈ lw_all) : w ∈ wsI I := by
  unfold wsI
  split <;> exact List.mem_cons_of_mem _ h
theorem wsI_spec {I : MI} {args : Array Value} {s : State} {m : MethodId} (h : ∀ w ∈ wsI I, w.before args s = true) (hn : s.methodNamed? I.1 = some m) : ∃ meth c, s.vm.method? m = some meth ∧ meth.code = some c ∧ c.code = I.2.1 ∧ c.maxLocals = I.2.2.1 ∧ meth.sig.returnType = I.2.2.2.1 ∧ meth.locks = false ∧ HX I.2.2.2.2.1 c := by
  unfold wsI at h
  split at h
  · rename_i h0
    obtain ⟨meth, c, h1, h2, h3, h4, h5, h6, h7, -⟩ := Cond.code_spec hn (h _ List.mem_cons_self)
    refine ⟨meth, c, h1, h2, h3, h4, h5, h6, ?_⟩
    rw [h0]
    have : c.exceptionTable.toList = [] := by
      have h8 : c.exceptionTable.size = 0 := by simpa [Array.isEmpty] using h7
      exact List.eq_nil_of_length_eq_zero (by simpa using h8)
    simp [HX, this]
  · obtain ⟨m', meth, c, h0, h1, h2, h3, h4, h5, h6, h7, -⟩ := Cond.codeWith_spec (h _ List.mem_cons_self)
    cases hn.symm.trans h0
    exact ⟨meth, c, h1, h2, h3, h4, h6, h7, h5⟩
/-- a call is sound: it comes to the callee's invocation -/
def SndCall (E : GG → Nat × (Nat → Int32) → State → Prop) (S : Nat × (Nat → Int32)) (I : MI) (pc : Nat) (k : List Value → PMem → Option Nat) (na len : Nat) : Prop :=
  ∀ (G : GG) (z0 : Nat) (p : Program) (l : Launch) (e : Env) (R : Room) (s : State) (mm : MethodId) (args : Array Value) (below : List Frame) (meth : Method) (c : Code) (H : Heap) (locs : List Loc) (cells slots : Nat) (lsC : Array Slot) (as rest : List Value) (m : PMem) (y : Nat),
    CX G (E G S) I p l e R s mm args below meth c → Hp G z0 s m H locs cells slots → as.length = na → k as m = some y →
    (MOK (miT y) ∧ mlT y = ((miT y).2.2.1, (miT y).2.2.2.2.2)) ∧ (∃ ig, decode I.2.1 pc = .ok (ig, len)) ∧ ∀ T : State, T.heap = H → Stand p l e R s mm args below meth c T locs cells slots →
      ∃ vm₁ mk, Stand p l e R s mm args below meth c (T.setVm vm₁) locs cells slots ∧ s.methodNamed? (miT y).1 = some mk ∧
        ∀ target, (∀ acts, Steps p.tables e below (doInvoke e ((T.setVm vm₁).setTop (F0 mm pc lsC (rest.map (cvv G)))) acts mk (as.map (cvv G)).toArray).1 target) → Steps p.tables e below (T.setTop (F0 mm pc lsC ((as.reverse ++ rest).map (cvv G)))) target
def SndE (E : GG → Nat × (Nat → Int32) → State → Prop) (S : Nat × (Nat → Int32)) (I : MI) (pc : Nat) (x : PEnt) : Prop := match x with
  | .inl f => SndN E S I pc f
  | .inr (.inl q) => SndCall E S I pc q.1 q.2.1 q.2.2
  | .inr (.inr j) => SndEnd I pc j
end SNDM
