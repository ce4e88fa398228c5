/-! SOUNDNESS: a run of the pure machine is a run of the machine -/
section SNDR
set_option maxRecDepth 100000
variable {E : GG → Nat × (Nat → Int32) → State → Prop} {S : Nat × (Nat → Int32)}
/-- what is said of a run from a point -/
def RunOK (E : GG → Nat × (Nat → Int32) → State → Prop) (S : Nat × (Nat → Int32)) (d M pc : Nat) (ls : PLoc) (st : List Value) (m : PMem) (o : POut) : Prop :=
  ∀ (G : GG) (z0 : Nat) (p : Program) (l : Launch) (e : Env) (R : Room) (s : State) (mm : MethodId) (args : Array Value) (below : List Frame) (meth : Method) (c : Code) (H : Heap) (locs : List Loc) (cells slots : Nat) (lsC : Array Slot),
    CX G (E G S) (miT M) p l e R s mm args below meth c → HX (miT M).2.2.2.2.1 c → Hp G z0 s m H locs cells slots → Lr G (miT M) ls lsC → d + 8 ≤ R.frames → 40 * d + 120 ≤ R.locals → gN (mOut o) + cells ≤ gN m + R.cells → gZ (mOut o) + slots ≤ gZ m + R.slots →
    W p l e R s mm args below meth c H locs cells slots (FQ G z0 below s o) (F0 mm pc lsC (st.map (cvv G)))
/-- a callee's contract out of its run -/
theorem callee_MX {d y : Nat} {as : List Value} {m : PMem} {r : POut} (hrun : RunOK E S d y 0 (entL (mlT y).1 as) [] m r) (hgr : gN m ≤ gN (mOut r) ∧ gZ m ≤ gZ (mOut r)) (hok : okA (mlT y) as = true) (hml : mlT y = ((miT y).2.2.1, (miT y).2.2.2.2.2)) (hM : MOK (miT y)) (l : Launch) (G : GG) (hg : ∀ x, gX G x = .null ∨ ∃ a, gX G x = .ref a) (hnt : ∀ e' : Env, l.admits e' → e'.platform.stackTraces = false) (hw : WFm m) (rm : Room) (h1 : d + 8 ≤ rm.frames) (h2 : 40 * d + 120 ≤ rm.locals) (h3 : rm.cells = gN (mOut r) - gN m) (h4 : rm.slots = gZ (mOut r) - gZ m) :
    MX l (miT y).1 (wsI (miT y)) rm (fun a U => a = (as.map (cvv G)).toArray ∧ E G S U ∧ va_K (gD G) clX (tyX G) U ∧ va_P (gD G) clX (wl G m) U.heap ∧ U.heap.size = gb G + gN m ∧ MonF G m U.heap) (fun _ U o t => o = cOut G r ∧ QX G (gZ m) U r t) := by
  refine MetFree.of_bodySF (code := (miT y).2.1) (maxLocals := (miT y).2.2.1) (ret := (miT y).2.2.2.1) hM.2.2.1 ?_ ?_
  · intro args s m h hn
    obtain ⟨meth, c, g1, g2, g3, g4, g5, g6, -⟩ := wsI_spec (atoms_spec (ws := wsI (miT y)) h) hn
    exact ⟨meth, c, g1, g2, g3, g4, g5, g6⟩
  · intro p e s mm args below meth c s₁ B hml0 hP _
    obtain ⟨rfl, hE, hK, hPP, hsz, hmf⟩ := hP
    have hts := atoms_spec (ws := wsI (miT y)) B.pre
    have hcode : meth.code = some c := by
      have h := B.here.code
      rw [State.code?_eq, B.state] at h
      have h9 : s.vm.method? mm = some meth := B.method
      have h8 : (s.setFrames (.java (entryFrame mm (as.map (cvv G)).toArray (miT y).2.2.1) :: below)).vm = s.vm := rfl
      rw [h8, h9] at h
      exact h
    obtain ⟨meth', c', g1, g2, g3, g4, g5, g6, g7⟩ := wsI_spec hts B.named
    cases B.method.symm.trans g1
    cases hcode.symm.trans g2
    have hh0 : s₁.heap = s.heap := by rw [B.state]; rfl
    have hC : CX G (E G S) (miT y) p l e (headSpec (wsI (miT y)) rm).room s mm (as.map (cvv G)).toArray below meth c :=
      ⟨B.exec, B.bytes, hml0, findClass_of_methodNamed B.named, fun w hw => hts w (wsI_all hw), ⟨B.returns, B.notSynchronized, (name_of_methodNamed B.named B.method).1⟩, hK, hE, ⟨by omega, by show 8 ≤ rm.frames; omega, by show 120 ≤ rm.locals; omega⟩, hg, hnt⟩
    have hH : Hp G (gZ m) s m s.heap [] 0 0 := ⟨hPP, va_S.rf, by omega, by omega, hw, hmf⟩
    have hL := Lr_entry (I := miT y) hg (as := as) (by rw [← hml]; exact hok)
    have hW := hrun G (gZ m) p l e (headSpec (wsI (miT y)) rm).room s mm (as.map (cvv G)).toArray below meth c s.heap [] 0 0 _ hC g7 hH (by rw [hml]; exact hL) h1 h2 (by show gN (mOut r) + 0 ≤ gN m + rm.cells; omega) (by show gZ (mOut r) + 0 ≤ gZ m + rm.slots; omega)
    have hfr : entryFrame mm (as.map (cvv G)).toArray (miT y).2.2.1 = F0 mm 0 ((lg_sl (as.map (cvv G)) ++ List.replicate ((miT y).2.2.1 - (lg_sl (as.map (cvv G))).length) Slot.unset).toArray) [] := lg_entry_eq mm (as.map (cvv G)) _
    obtain ⟨t, a1, b1, b2, b3⟩ := hW s₁ hh0 (Stand.of_body B)
    refine ⟨t, cOut G r, ?_, b1, b2, rfl, b3⟩
    rw [hfr]
    exact a1
theorem go_snd (hSE : ∀ M pc x, cT S M pc = some x → SndE E S (miT M) pc x) (hHD : ∀ M pc x, cT S M pc = some x → (hdT M pc = none → ∀ h ∈ (miT M).2.2.2.2.1, ¬ (h.1 ≤ pc ∧ pc < h.2.1)) ∧ (∀ q, hdT M pc = some q → CatchOK E S (miT M) pc q)) (hEm : ∀ G s U, E G S s → s.WarmedH U.vm → va_F (AX G) s U → E G S U) :
    ∀ (n d M pc : Nat) (ls : PLoc) (st : List Value) (m : PMem) (o : POut), go (cT S) mlT hdT n d M pc ls st m = some o → RunOK E S d M pc ls st m o := by
  intro n
  induction n with
  | zero => intro d M pc ls st m o h; simp [go] at h
  | succ n ih =>
    intro d M pc ls st m o h G z0 p l e R s mm args below meth c H locs cells slots lsC C hX hH hL hfr hlo hce hsl
    -- an exception over this frame
    have hthr : ∀ (x0 : PEnt), cT S M pc = some x0 → ∀ (a : Nat) (m0 : PMem) (T : State) (H0 : Heap) (locs0 : List Loc) (cells0 slots0 : Nat) (st0 : List Value), thr hdT (fun h st' m'' => go (cT S) mlT hdT n d M h ls st' m'') M pc a m0 = some o → Hp G z0 s m0 H0 locs0 cells0 slots0 → T.heap = H0 → Stand p l e R s mm args below meth c T locs0 cells0 slots0 → gN (mOut o) + cells0 ≤ gN m0 + R.cells → gZ (mOut o) + slots0 ≤ gZ m0 + R.slots →
        ∃ t, Steps p.tables e below ((T.setTop (F0 mm pc lsC st0)).pushFrame (.throwing (gb G + a))) t ∧ FQ G z0 below s o t := by
      intro x0 hx0 a m0 T H0 locs0 cells0 slots0 st0 h1 hH0 hT X0 hc0 hs0
      unfold thr at h1
      split at h1
      · rename_i hn
        cases h1
        exact thr_out C hX ((hHD M pc x0 hx0).1 hn) hH0 hT X0
      · rename_i q hq
        split at h1
        · rename_i h5
          obtain ⟨vm', X1, hst⟩ := (hHD M pc x0 hx0).2 q hq G z0 p l e R s mm args below meth c H0 locs0 cells0 slots0 lsC st0 m0 a T C hX hH0 h5 hT X0
          obtain ⟨t, a1, b1⟩ := ih _ _ _ _ _ _ _ h1 G z0 p l e R s mm args below meth c H0 locs0 cells0 slots0 lsC C hX hH0 hL hfr hlo hc0 hs0 (T.setVm vm') hT X1
          exact ⟨t, hst t a1, b1⟩
        · cases h1
    unfold go at h
    split at h
    · cases h
    · rename_i f hc
      split at h
      · cases h
      · rename_i pc' ls' st' m' hf
        have hsn := hSE M pc _ hc
        have h1 := hsn.1 ls st m pc' ls' st' m' hf
        have h2 := go_grow hSE n _ _ _ _ _ _ _ h
        refine hsn.2 G z0 p l e R s mm args below meth c H locs cells slots _ lsC ls st m pc' ls' st' m' C hf hH hL (by omega) (by omega) ?_
        intro H' locs' cells' slots' lsC' hH' hL'
        have e1 := hH.2.2.1
        have e2 := hH'.2.2.1
        have e3 := hH.2.2.2.1
        have e4 := hH'.2.2.2.1
        exact ih _ _ _ _ _ _ _ h G z0 p l e R s mm args below meth c H' locs' cells' slots' lsC' C hX hH' hL' hfr hlo (by omega) (by omega)
    · rename_i k na len hc
      split at h
      · rename_i y d' hk
        split at h
        · cases h
        · rename_i h45
          have h4 : ¬ 4 < (st.drop na).length := fun q => h45 (Or.inl q)
          have hok : okA (mlT y) (st.take na).reverse = true := Classical.byContradiction fun q => h45 (Or.inr (Or.inl q))
          have hna : na ≤ st.length := Nat.le_of_not_lt fun q => h45 (Or.inr (Or.inr q))
          have hlen : (st.take na).reverse.length = na := by rw [List.length_reverse, List.length_take]; omega
          have hsn := hSE M pc _ hc
          have hstk : st = (st.take na).reverse.reverse ++ st.drop na := by rw [List.reverse_reverse, List.take_append_drop]
          -- the callee's run
          have callee : ∀ r, go (cT S) mlT hdT n d' y 0 (entL (mlT y).1 (st.take na).reverse) [] m = some r → (st.take na).reverse.length = na → gN (mOut r) + cells ≤ gN m + R.cells → gZ (mOut r) + slots ≤ gZ m + R.slots →
              ∀ T : State, T.heap = H → Stand p l e R s mm args below meth c T locs cells slots → ∃ (T' : State) (L : List Loc), Hp G z0 s (mOut r) T'.heap (locs ++ L) (cells + (gN (mOut r) - gN m)) (slots + (gZ (mOut r) - gZ m)) ∧ Stand p l e R s mm args below meth c T' (locs ++ L) (cells + (gN (mOut r) - gN m)) (slots + (gZ (mOut r) - gZ m)) ∧ AfterX p e below (T.setTop (F0 mm pc lsC (st.map (cvv G)))) T' (F0 mm pc lsC ((st.drop na).map (cvv G))) len (cOut G r) := by
            intro r hr hlen hc1 hs1 T hT X
            have hgr := go_grow hSE n _ _ _ _ _ _ _ hr
            obtain ⟨⟨hM, hml⟩, ⟨ig, hdg⟩, hstep⟩ := hsn G z0 p l e R s mm args below meth c H locs cells slots lsC (st.take na).reverse (st.drop na) m y C hH hlen hk
            obtain ⟨vm₁, mk, X₁, hnamed, hst⟩ := hstep T hT X
            have hrun := ih _ _ _ _ _ _ _ hr
            have hmx := callee_MX hrun hgr hok hml hM l G C.2.2.2.2.2.2.2.2.2.1 C.2.2.2.2.2.2.2.2.2.2 hH.2.2.2.2.1 { frames := R.frames - 1, cells := gN (mOut r) - gN m, slots := gZ (mOut r) - gZ m, locals := R.locals - 40 } (by show d' + 8 ≤ R.frames - 1; omega) (by show 40 * d' + 120 ≤ R.locals - 40; omega) rfl rfl
            have hW₁ := X₁.warmed
            have hsz := hH.size C.2.2.2.2.2.2.2.2.1.1 hT X
            have hwords : ∀ w ∈ wsI (miT y), ∀ (a' : Array Value), w.before a' (T.setVm vm₁) = true := fun w hw a' => by
              have h9 := lw_self w (hM.1 w hw)
              exact word_at (U := T.setVm vm₁) hW₁ h9.2 (C.2.2.2.2.1 w h9.1)
            have hn1 : (T.setVm vm₁).methodNamed? (miT y).1 = some mk := X₁.named hnamed
            obtain ⟨methY, cY, g1, g2, g3, g4, -⟩ := wsI_spec (args := args) (fun w hw => hwords w hw args) hn1
            obtain ⟨kY, hkY, -⟩ := className_of_methodNamed hn1
            have hini : (Cond.initialized (miT y).1.cls).before args (T.setVm vm₁) = true := by
              have h9 := lw_self _ hM.2.1
              exact word_at (U := T.setVm vm₁) hW₁ h9.2 (C.2.2.2.2.1 _ h9.1)
            have hinitY : kY.init = .initialized := Cond.initialized_spec (findClass_of_methodNamed hn1) hkY hini
            have hcat := cat_map (G := G) h4
            have hvf : va_F (AX G) s (T.setVm vm₁) := by
              have := hH.2.1.F (t := T) hT
              exact this
            obtain ⟨o', t, L, k1, n1, T', ⟨hL1, hk1, hn2⟩, ⟨ho, hQ⟩, hTh, hTv, X', haft⟩ := enterX (g := F0 mm pc lsC ((st.drop na).map (cvv G))) (PL := fun L k n => (∀ q ∈ L, AX G q.base) ∧ k = gN (mOut r) - gN m ∧ n = gZ (mOut r) - gZ m) hmx X₁ rfl (by rw [C.2.2.1]; exact hL.1) (by rw [C.2.1]; exact hdg) hn1 g1 g2 g4 hkY hinitY
              (by show R.frames - 1 + 1 ≤ R.frames; omega) (by
                show 2 * 0 + (((st.drop na).map (cvv G)).map fun v => v.category).sum + ((miT y).2.2.1 + 11) + (R.locals - 40) ≤ R.locals
                have := hM.2.2.2
                omega) (by show cells + (gN (mOut r) - gN m) ≤ R.cells; omega) (by show slots + (gZ (mOut r) - gZ m) ≤ R.slots; omega) (a := ((st.take na).reverse.map (cvv G)).toArray)
              (atoms_intro fun w hw => hwords w hw _)
              ⟨rfl, hEm G s _ C.2.2.2.2.2.2.2.1 hW₁ hvf, va_K.moved (u := s) hW₁.alike C.2.2.2.2.2.2.1, by show va_P _ _ _ T.heap; rw [hT]; exact hH.1, by show T.heap.size = _; rw [hT]; exact hsz, by show MonF G m T.heap; rw [hT]; exact hH.2.2.2.2.2⟩
              (fun o2 t2 hq2 => by
                obtain ⟨-, q1, ⟨L2, q2, q3⟩, -⟩ := hq2
                refine ⟨q1, L2, _, _, q2, q3, ?_, rfl⟩
                show gb G + gN (mOut r) - T.heap.size = _
                rw [hT, hsz]
                omega)
            subst hk1
            subst hn2
            subst ho
            obtain ⟨q1, -, q3, q4, q5, q9⟩ := hQ
            refine ⟨T', L, ⟨by rw [hTh]; exact q3, ⟨?_, ?_, ?_⟩, ?_, ?_, q5, by rw [hTh]; exact q9⟩, X', ?_⟩
            · rw [hTh]
              have q6 : T.heap.size ≤ t.heap.size := q4.1
              rw [hT] at q6
              exact Nat.le_trans hH.2.1.1 q6
            · intro q hq hnA
              have q6 : t.heap[q]? = T.heap[q]? := q4.2 q (by show q < T.heap.size; rw [hT]; exact Nat.lt_of_lt_of_le hq hH.2.1.1) hnA
              rw [hTh, q6, hT]
              exact hH.2.1.2.1 q hq hnA
            · intro q hq
              rcases List.mem_append.mp hq with q6 | q6
              · exact hH.2.1.2.2 q q6
              · exact hL1 q q6
            · have := hH.2.2.1
              omega
            · have := hH.2.2.2.1
              omega
            · have hst2 := hst
              rw [← hstk] at hst2
              cases r with
              | inl x => exact hst2 _ (fun acts => by rw [doInvoke_state]; exact haft)
              | inr x => exact hst2 _ (fun acts => by rw [doInvoke_state]; exact haft)
          intro T hT X
          split at h
          · cases h
          · rename_i v m' hr
            have hgr := go_grow hSE n _ _ _ _ _ _ _ hr
            have hgr2 := go_grow hSE n _ _ _ _ _ _ _ h
            dsimp only [mOut] at hgr
            obtain ⟨T', L, hH', X', haft⟩ := callee _ hr hlen (by show gN m' + cells ≤ _; omega) (by show gZ m' + slots ≤ _; omega) T hT X
            dsimp only [mOut] at hH' X'
            obtain ⟨t, a1, b1⟩ := ih _ _ _ _ _ _ _ h G z0 p l e R s mm args below meth c T'.heap (locs ++ L) _ _ lsC C hX hH' hL hfr hlo (by omega) (by omega) T' rfl X'
            refine ⟨t, Steps.trans haft ?_, b1⟩
            have e1 : (v.toList ++ st.drop na).map (cvv G) = (v.map (cvv G)).toList ++ (st.drop na).map (cvv G) := by cases v <;> rfl
            rw [e1] at a1
            exact a1
          · rename_i a m' hr
            have hgr := go_grow hSE n _ _ _ _ _ _ _ hr
            have hgr2 : gN m' ≤ gN (mOut o) ∧ gZ m' ≤ gZ (mOut o) := by
              have h9 := h
              unfold thr at h9
              split at h9
              · cases h9
                exact ⟨Nat.le_refl _, Nat.le_refl _⟩
              · split at h9
                · exact go_grow hSE n _ _ _ _ _ _ _ h9
                · cases h9
            dsimp only [mOut] at hgr
            obtain ⟨T', L, hH', X', haft⟩ := callee _ hr hlen (by show gN m' + cells ≤ _; omega) (by show gZ m' + slots ≤ _; omega) T hT X
            dsimp only [mOut] at hH' X'
            obtain ⟨t, a1, b1⟩ := hthr _ hc a m' T' T'.heap _ _ _ ((st.drop na).map (cvv G)) h hH' rfl X' (by omega) (by omega)
            exact ⟨t, Steps.trans haft a1, b1⟩
      · cases h
    · rename_i hc
      split at h <;> cases h
      exact end_snd (show SndEnd (miT M) pc 0 from hSE M pc _ hc) C hH (Or.inl ⟨rfl, rfl, rfl⟩)
    · rename_i hc
      split at h <;> cases h
      exact end_snd (show SndEnd (miT M) pc 1 from hSE M pc _ hc) C hH (Or.inr (Or.inl ⟨rfl, _, rfl, rfl⟩))
    · rename_i hc
      split at h
      · split at h
        · rename_i hx
          cases h
          exact end_snd (show SndEnd (miT M) pc 2 from hSE M pc _ hc) C hH (Or.inr (Or.inr (Or.inl ⟨rfl, _, hx, rfl, rfl⟩)))
        · cases h
      · cases h
    · rename_i hc
      split at h
      · split at h
        · rename_i hx
          cases h
          exact end_snd (show SndEnd (miT M) pc 3 from hSE M pc _ hc) C hH (Or.inr (Or.inr (Or.inr (Or.inl ⟨rfl, _, hx, rfl, rfl⟩))))
        · cases h
      · cases h
    · rename_i hc
      split at h <;> cases h
      exact end_snd (show SndEnd (miT M) pc 4 from hSE M pc _ hc) C hH (Or.inr (Or.inr (Or.inr (Or.inr ⟨rfl, _, rfl, rfl⟩))))
    · rename_i j h0 h1 h2 h3 h4 hc
      split at h
      · rename_i a st2
        have hd : decode (miT M).2.1 pc = .ok (.athrow, 1) := by
          have h9 := hSE M pc _ hc
          match j, h9, h0, h1, h2, h3, h4 with
          | 0, _, h0, _, _, _, _ => exact (h0 rfl).elim
          | 1, _, _, h1, _, _, _ => exact (h1 rfl).elim
          | 2, _, _, _, h2, _, _ => exact (h2 rfl).elim
          | 3, _, _, _, _, h3, _ => exact (h3 rfl).elim
          | 4, _, _, _, _, _, h4 => exact (h4 rfl).elim
          | j + 5, h9, _, _, _, _, _ => exact (show SndEnd (miT M) pc (j + 5) from h9)
        intro T hT X
        obtain ⟨t, a1, b1⟩ := hthr _ hc a m T H locs cells slots (st2.map (cvv G)) h hH hT X hce hsl
        refine ⟨t, ?_, b1⟩
        have hdg : decode c.code pc = .ok (.athrow, 1) := by rw [C.2.1]; exact hd
        have hexec := C.1
        have hX1 := X.here
        show Steps p.tables e below (T.setTop (F0 mm pc lsC (.ref (gb G + a) :: st2.map (cvv G)))) t
        jvm_step X.here [hexec, hdg, athrow.wp_sem]
        exact a1
      · cases h
end SNDR
