/-! SOUNDNESS of the pure machine's steps over the kit's W -/
section SND
set_option maxRecDepth 100000
/-- what is fixed all through a run: the heap's size at its start, classes, array classes (1 int, 2 byte, 3 boolean, 4 Node), what the outer references are -/
abbrev GG : Type := Nat × va_G × (Nat → ClassId) × (UInt32 → Value)
def gb (G : GG) : Nat := G.1
def gD (G : GG) : va_G := G.2.1
def gA (G : GG) : Nat → ClassId := G.2.2.1
def gX (G : GG) : UInt32 → Value := G.2.2.2
def cvv (G : GG) (v : Value) : Value := match v with
  | .ref a => .ref (gb G + a)
  | .float x => gX G x
  | v => v
/-- Wrong's own two fields -/
def TXw : u_T := fun k => match k with
  | 0 => ("PlyHouse$Wrong", "kind", "I", true)
  | 1 => ("PlyHouse$Wrong", "place", "I", true)
  | _ => ("java/lang/Throwable", "backtrace", "Ljava/lang/Object;", false)
def clX : List vw_C := [(RX0, TX0, 35), (RX1, TX1, 4), (RX2, TX2, 5), (RX3, TX3, 61), (RX4, TX4, 8), (RX5, TXw, 3), (RX7, TX7, 1), (RX8, TX8, 1), (RX9, TX9, 1), (RX11, TX11, 3), (RX12, TX12, 3), (RX13, TX13, 3)]
def tyX (G : GG) : List (ClassId × FieldType) := [(gA G 1, .int), (gA G 2, .byte), (gA G 3, .boolean), (gA G 4, .object "PlyHouse$Node")]
/-- number of fields; kind of a field (0 int, 1 long, 2 reference) -/
def nfX (c : Nat) : Nat := [35, 4, 5, 61, 8, 3, 1, 1, 1, 3, 3, 3].getD c 0
def rfX : List (List Nat) := [[0, 4, 7, 9, 13, 14, 15, 16, 17, 19, 20, 21, 22, 23, 24, 30, 31, 32], [0, 1, 2], [], [0, 4, 15, 16, 17, 18, 19, 23, 24, 25, 26, 27, 28, 31, 35, 36, 37, 38, 39, 40, 41, 42, 44, 45, 46, 47, 48, 54, 55, 56, 57, 58], [0], [2], [0], [], [], [0, 1], [0, 1], [0, 1]]
def fkX (c i : Nat) : Nat := if (rfX.getD c []).contains i then 2 else if c = 3 ∧ i = 13 then 1 else 0
def fvX (G : GG) (m : PMem) (a c i : Nat) : Value := if fkX c i = 0 then .int (gI m a i) else if fkX c i = 1 then .long (gL m a i) else va_rf ((gR m a i).map (fun q => gb G + q))
def fvs (G : GG) (m : PMem) (a c : Nat) : List Value := (List.range (nfX c)).map (fvX G m a c)
def celX (G : GG) (m : PMem) (a : Nat) : va_E := if (gK m a).1 = 0 then .inr ((gK m a).2, fvs G m a (gK m a).2) else if (gK m a).1 = 4 then .inl (gA G 4, (gK m a).2, .inr (.inr (.inr (.inr (fun i => (gR m a i).map (fun q => gb G + q)))))) else .inl (gA G (gK m a).1, (gK m a).2, .inl (gI m a))
def wl (G : GG) (m : PMem) : va_W := (List.range (gN m)).map (fun a => (gb G + a, celX G m a))
theorem wl_at (G : GG) (m : PMem) {a : Nat} (h : a < gN m) : (wl G m)[a]? = some (gb G + a, celX G m a) := by
  simp [wl, h]
theorem wl_len (G : GG) (m : PMem) : (wl G m).length = gN m := by simp [wl]
theorem wl_set {G : GG} {m m' : PMem} {a : Nat} (hn : gN m' = gN m) (hc : ∀ b, b ≠ a → celX G m' b = celX G m b) : (wl G m).set a (gb G + a, celX G m' a) = wl G m' := by
  apply List.ext_getElem?
  intro i
  by_cases hi : i < gN m
  · by_cases ha : i = a
    · subst ha
      rw [List.getElem?_set_self (by rw [wl_len]; exact hi), wl_at G m' (by rw [hn]; exact hi)]
    · rw [List.getElem?_set_ne (Ne.symm ha), wl_at G m hi, wl_at G m' (by rw [hn]; exact hi), hc i ha]
  · rw [List.getElem?_eq_none (by rw [List.length_set, wl_len]; omega), List.getElem?_eq_none (by rw [wl_len, hn]; omega)]
theorem wl_push {G : GG} {m m' : PMem} (hn : gN m' = gN m + 1) (hc : ∀ b, b < gN m → celX G m' b = celX G m b) : wl G m' = wl G m ++ [(gb G + gN m, celX G m' (gN m))] := by
  unfold wl
  rw [hn, List.range_succ, List.map_append]
  congr 1
  apply List.map_congr_left
  intro b hb
  rw [hc b (List.mem_range.mp hb)]
def AX (G : GG) : Nat → Prop := fun q => gb G ≤ q
theorem wl_D (G : GG) (m : PMem) : va_D (AX G) (wl G m) := by
  have key : ∀ (k : Nat) (q : Nat × va_E), (wl G m)[k]? = some q → q.1 = gb G + k := by
    intro k q hk
    have hl : k < gN m := by
      have := (List.getElem?_eq_some_iff.mp hk).1
      rwa [wl_len] at this
    rw [wl_at G m hl] at hk
    cases hk
    rfl
  refine ⟨fun i j x y hi hj hxy => ?_, fun k q hk => ?_⟩
  · rw [key i x hi, key j y hj] at hxy
    omega
  · show gb G ≤ q.1
    rw [key k q hk]
    omega
def WFm (m : PMem) : Prop := ∀ a, gN m ≤ a → gK m a = (9, 0)
theorem WFm.lt {m : PMem} (h : WFm m) {a k n : Nat} (hk : gK m a = (k, n)) (h9 : k ≠ 9) : a < gN m := by
  apply Nat.lt_of_not_le
  intro q
  rw [h a q] at hk
  cases hk
  exact h9 rfl
/-- locals -/
def Lr (G : GG) (I : MI) (ls : PLoc) (lsC : Array Slot) : Prop := lsC.size = I.2.2.1 ∧ ls.length = I.2.2.1 ∧ lv_wf lsC ∧ ∀ (i : Nat) (v : Value), ls[i]? = some (some v) → lsC[i]? = some (Slot.val (cvv G v)) ∧ (I.2.2.2.2.2 = false → (cvv G v).category = 1)
/-- no monitor of ours is held -/
def MonF (G : GG) (m : PMem) (H : Heap) : Prop := ∀ (a : Nat) (c : Cell), a < gN m → H[gb G + a]? = some c → (c.monitor.owner = none ∧ c.monitor.count = 0) ∧ (gK m a = (0, 5) → c.slots.size = 8)
/-- heap and memory -/
def Hp (G : GG) (z0 : Nat) (s : State) (m : PMem) (H : Heap) (locs : List Loc) (cells slots : Nat) : Prop := va_P (gD G) clX (wl G m) H ∧ va_S (AX G) s.heap H locs ∧ s.heap.size + cells = gb G + gN m ∧ slots + z0 = gZ m ∧ WFm m ∧ MonF G m H
/-- what the walk of a method may lean on; E: what is known of the tables and of old cells -/
def CX (G : GG) (E : State → Prop) (I : MI) (p : Program) (l : Launch) (e : Env) (R : Room) (s : State) (mm : MethodId) (args : Array Value) (below : List Frame) (meth : Method) (c : Code) : Prop :=
  p.tables.exec = Jvm.exec ∧ c.code = I.2.1 ∧ c.maxLocals = I.2.2.1 ∧ s.vm.findClass I.1.cls = some mm.cls ∧ (∀ w ∈ lw_all, w.before args s = true) ∧ (meth.sig.returnType = I.2.2.2.1 ∧ meth.locks = false ∧ meth.name = I.1.name) ∧ va_K (gD G) clX (tyX G) s ∧ E s ∧ (gb G ≤ s.heap.size ∧ 8 ≤ R.frames ∧ 120 ≤ R.locals) ∧ (∀ x, gX G x = .null ∨ ∃ a, gX G x = .ref a) ∧ (∀ e' : Env, l.admits e' → e'.platform.stackTraces = false)
/-- a step is sound -/
def SndN (E : GG → Nat × (Nat → Int32) → State → Prop) (S : Nat × (Nat → Int32)) (I : MI) (pc : Nat) (f : PSem) : Prop :=
  (∀ ls st m pc' ls' st' m', f ls st m = some (pc', ls', st', m') → gN m ≤ gN m' ∧ gZ m ≤ gZ m') ∧
  ∀ (G : GG) (z0 : Nat) (p : Program) (l : Launch) (e : Env) (R : Room) (s : State) (mm : MethodId) (args : Array Value) (below : List Frame) (meth : Method) (c : Code) (H : Heap) (locs : List Loc) (cells slots : Nat) (Q : State → Prop) (lsC : Array Slot) (ls : PLoc) (st : List Value) (m : PMem) (pc' : Nat) (ls' : PLoc) (st' : List Value) (m' : PMem),
    CX G (E G S) I p l e R s mm args below meth c → f ls st m = some (pc', ls', st', m') → Hp G z0 s m H locs cells slots → Lr G I ls lsC → gN m' + cells ≤ gN m + R.cells → gZ m' + slots ≤ gZ m + R.slots →
    (∀ H' locs' cells' slots' lsC', Hp G z0 s m' H' locs' cells' slots' → Lr G I ls' lsC' → W p l e R s mm args below meth c H' locs' cells' slots' Q (F0 mm pc' lsC' (st'.map (cvv G)))) →
    W p l e R s mm args below meth c H locs cells slots Q (F0 mm pc lsC (st.map (cvv G)))
variable {E : GG → Nat × (Nat → Int32) → State → Prop} {S : Nat × (Nat → Int32)} {I : MI} {pc n t : Nat}
theorem sn_bin {i : Instr} {f : Int32 → Int32 → Int32} (hd : decode I.2.1 pc = .ok (i, 1)) (hn : pc + 1 = n)
    (hr : ∀ {p : Program} {l : Launch} {e : Env} {R : Room} {s : State} {m : MethodId} {args : Array Value} {below : List Frame} {meth : Method} {c : Code} {H : Heap} {locs : List Loc} {cells slots : Nat} {Q : State → Prop} {ls : Array Slot} {rest : List Value} {x y : Int32}, p.tables.exec = Jvm.exec → c.code = I.2.1 → decode I.2.1 pc = .ok (i, 1) → W p l e R s m args below meth c H locs cells slots Q (F0 m (pc + 1) ls (.int (f x y) :: rest)) → W p l e R s m args below meth c H locs cells slots Q (F0 m pc ls (.int y :: .int x :: rest))) :
    SndN E S I pc (e_bin n f) := by
  constructor
  · intro ls st m pc' ls' st' m' h
    dsimp only [e_bin] at h
    split at h <;> cases h
    exact ⟨Nat.le_refl _, Nat.le_refl _⟩
  · intro G z0 p l e R s mm args below meth c H locs cells slots Q lsC ls st m pc' ls' st' m' C h hH hL _ _ k
    dsimp only [e_bin] at h
    split at h <;> cases h
    subst hn
    exact hr C.1 C.2.1 hd (k _ _ _ _ _ hH hL)
theorem sn_iadd (hd : decode I.2.1 pc = .ok (.iadd, 1)) (hn : pc + 1 = n) : SndN E S I pc (e_bin n (fun x y => x + y)) := sn_bin hd hn (fun a b c k => lv_iadd a b c k)
end SND
