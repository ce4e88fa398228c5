/-! WHAT IS KNOWN OF OLD CELLS AND TABLES AT EVERY ENTRY, and that it stays -/
section EEX
set_option maxRecDepth 100000
def EE (G : GG) (S : Nat × (Nat → Int32)) (s : State) : Prop :=
  (∀ w ∈ nwX, va_Nw w s) ∧ va_AO "PlyHouse$Node" s ∧ (∀ i, i < 12 → StrX G i s) ∧ (∀ i, i < 12 → ∃ a, gX G (UInt32.ofNat (i + 1)) = .ref a ∧ vk_R "PlyHouse$Reader" (siX.getD i 0) (stX.getD i "") a s) ∧ va_Z "java/lang/String" "COMPACT_STRINGS" "Z" (.int 1) (AX G) s s.heap ∧ va_Z "jdk/internal/util/Preconditions" "SIOOBE_FORMATTER" "Ljava/util/function/BiFunction;" (gX G 999) (AX G) s s.heap ∧ ScrX G S s ∧ ThE G s
theorem EE_str {S : Nat × (Nat → Int32)} : ∀ G s, EE G S s → ∀ i, i < 12 → StrX G i s := fun _ _ h => h.2.2.1
theorem EE_ldc {G : GG} {S : Nat × (Nat → Int32)} {s : State} (h : EE G S s) (i : Nat) (hi : i < 12) : ∃ a, gX G (UInt32.ofNat (i + 1)) = .ref a ∧ vk_R "PlyHouse$Reader" (siX.getD i 0) (stX.getD i "") a s := h.2.2.2.1 i hi
theorem EE_cs {G : GG} {S : Nat × (Nat → Int32)} {s : State} (h : EE G S s) : va_Z "java/lang/String" "COMPACT_STRINGS" "Z" (cvv G (.int 1)) (AX G) s s.heap := h.2.2.2.2.1
theorem EE_sf {G : GG} {S : Nat × (Nat → Int32)} {s : State} (h : EE G S s) : va_Z "jdk/internal/util/Preconditions" "SIOOBE_FORMATTER" "Ljava/util/function/BiFunction;" (cvv G xAny) (AX G) s s.heap := h.2.2.2.2.2.1
theorem EE_scr {S : Nat × (Nat → Int32)} : ∀ G s, EE G S s → ScrX G S s := fun _ _ h => h.2.2.2.2.2.2.1
theorem EE_th {G : GG} {S : Nat × (Nat → Int32)} {s : State} (h : EE G S s) : ThE G s := h.2.2.2.2.2.2.2
theorem EE_cast {S : Nat × (Nat → Int32)} : ∀ G s, EE G S s → ∀ ci r, clX[ci]? = some r → 6 ≤ ci → ci ≤ 11 → va_Nw (.castable r.1 "PlyHouse$Node") s := by
  intro G s h ci r hr h1 h2
  have hc : ci = 6 ∨ ci = 7 ∨ ci = 8 ∨ ci = 9 ∨ ci = 10 ∨ ci = 11 := by omega
  rcases hc with rfl | rfl | rfl | rfl | rfl | rfl <;> cases hr
  · exact h.1 _ nwm_q1278
  · exact h.1 _ nwm_q1279
  · exact h.1 _ nwm_q1280
  · exact h.1 _ nwm_q1281
  · exact h.1 _ nwm_q1282
  · exact h.1 _ nwm_q1283
theorem va_DeclX {x : MethodName} {s : State} (h : va_Nw (Cond.declares x) s) : va_Decl s x := Cond.declares_spec h
theorem StrX.mv {G : GG} {i : Nat} {s U : State} (h : StrX G i s) (hW : s.WarmedH U.vm) (hF : va_F (AX G) s U) : StrX G i U := by
  obtain ⟨aK, aV, h1, h2, h3, h4, h5, h6⟩ := h
  exact ⟨aK, aV, h1, h2, (va_O.moved hW.alike h3).kept hF.2, (va_OF.moved hW.alike h4).kept hF.2, (va_OF.moved hW.alike h5).kept hF.2, (va_T.moved hW.alike h6).kept hF.2⟩
theorem SttE.mv {G : GG} {nm ds : String} {s U : State} (h : SttE G nm ds s) (hW : s.WarmedH U.vm) (hF : va_F (AX G) s U) : SttE G nm ds U := by
  obtain ⟨h1, u, h2⟩ := h
  refine ⟨?_, u, (va_Z.moved hW.alike h2).kept hF.2⟩
  have h3 : (Cond.laysStatic Bundle.tN nm ds).before #[] (s.setVm U.vm) = true := Cond.laysStatic_setVm hW.alike h1
  obtain ⟨c, k, i, f, a, cell, q1, q2, q3, q4, q5, q6, q7, q8, q9⟩ := Cond.laysStatic_spec h3
  obtain ⟨cf, kf, fi, f', a', cell', z1, z2, z3, z4, z5, z6, z7, z8⟩ := va_Z.moved (U := U) hW.alike h2
  have q2' : U.fieldFound? Bundle.tN nm ds = some (c, k, i, f) := q2
  cases z1.symm.trans q2'
  cases Option.some.inj (z4.symm.trans q4)
  have q5' : s.heap[a]? = some cell := q5
  have z9 : U.heap[a]? = some cell := by rw [hF.2 a (Array.getElem?_eq_some_iff.mp q5').1 z8]; exact q5'
  exact Cond.laysStatic_of (c := c) (i := i) (a := a) (k := k) (f := f) (cell := cell) q1 q2' q3 q4 z9 q6 q7 q8 q9
theorem EE_mv {S : Nat × (Nat → Int32)} : ∀ G s U, EE G S s → s.WarmedH U.vm → va_F (AX G) s U → EE G S U := by
  intro G s U h hW hF
  obtain ⟨h1, h2, h3, h4, h5, h6, h7, h8⟩ := h
  refine ⟨fun w hw => nwX_ok w hw s U hW (h1 w hw), va_AO.moved hW.alike h2, fun i hi => (h3 i hi).mv hW hF, fun i hi => ?_, (va_Z.moved hW.alike h5).kept hF.2, (va_Z.moved hW.alike h6).kept hF.2, ?_, ?_⟩
  · obtain ⟨a, g1, g2⟩ := h4 i hi
    exact ⟨a, g1, vk_R.warm hW g2⟩
  · obtain ⟨b, g1, g2, g3, g4⟩ := h7
    exact ⟨b, g1, (va_X.moved hW.alike g2).kept (hF.2 b g3 g4), Nat.lt_of_lt_of_le g3 hF.1, g4⟩
  · exact ⟨va_Nw.warmD hW h8.1, h8.2.1.mv hW hF, h8.2.2.mv hW hF⟩
end EEX
