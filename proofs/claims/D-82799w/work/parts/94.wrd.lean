/-! THE WORDS THAT RIDE IN E (printed by gen2.py) -/
section WRD
set_option maxRecDepth 100000
def nwX : List Cond := [Cond.methodLinkNest "PlyHouse$Reader" 151 ⟨"PlyHouse$Grades", "<init>", "()V"⟩ "PlyHouse", Cond.fieldLinkNest "PlyHouse$Reader" 157 "PlyHouse$Grades" "widths" "[I" "PlyHouse", Cond.fieldLinkNest "PlyHouse$Reader" 170 "PlyHouse$Grades" "worths" "[I" "PlyHouse", Cond.fieldLinkNest "PlyHouse$Reader" 175 "PlyHouse$Grades" "whens" "[LPlyHouse$Node;" "PlyHouse", Cond.fieldLinkNest "PlyHouse$Reader" 154 "PlyHouse$Grades" "many" "I" "PlyHouse", Cond.fieldLinkNest "PlyHouse" 140 "PlyHouse$Grades" "widths" "[I" "PlyHouse", Cond.fieldLinkNest "PlyHouse" 166 "PlyHouse$Grades" "worths" "[I" "PlyHouse", Cond.fieldLinkNest "PlyHouse" 130 "PlyHouse$Grades" "whens" "[LPlyHouse$Node;" "PlyHouse", Cond.fieldLinkNest "PlyHouse" 69 "PlyHouse$Grades" "many" "I" "PlyHouse", Cond.fieldLinkNest "PlyHouse" 76 "PlyHouse$Wrong" "kind" "I" "PlyHouse", Cond.fieldLinkNest "PlyHouse" 79 "PlyHouse$Wrong" "place" "I" "PlyHouse", Cond.methodLinkNest "PlyHouse" 176 ⟨"PlyHouse$Grades", "<init>", "()V"⟩ "PlyHouse", Cond.methodLinkNest "PlyHouse" 177 ⟨"PlyHouse$Part", "<init>", "()V"⟩ "PlyHouse", Cond.fieldLinkNest "PlyHouse" 108 "PlyHouse$Part" "knots" "I" "PlyHouse", Cond.fieldLinkNest "PlyHouse" 113 "PlyHouse$Part" "splits" "I" "PlyHouse", Cond.fieldLinkNest "PlyHouse" 116 "PlyHouse$Part" "holes" "I" "PlyHouse", Cond.fieldLinkNest "PlyHouse" 119 "PlyHouse$Part" "plugs" "I" "PlyHouse", Cond.fieldLinkNest "PlyHouse" 122 "PlyHouse$Part" "run" "I" "PlyHouse", Cond.castable "PlyHouse$Wrong" "PlyHouse$Wrong", Cond.methodLinkNest "PlyHouse$Not" 1 ⟨"PlyHouse$Node", "<init>", "()V"⟩ "PlyHouse", Cond.castable "PlyHouse$Not" "PlyHouse$Node", Cond.methodLinkNest "PlyHouse$Number" 1 ⟨"PlyHouse$Node", "<init>", "()V"⟩ "PlyHouse", Cond.castable "PlyHouse$Number" "PlyHouse$Node", Cond.methodLinkNest "PlyHouse$Count" 1 ⟨"PlyHouse$Node", "<init>", "()V"⟩ "PlyHouse", Cond.fieldLinkNest "PlyHouse$Count" 13 "PlyHouse$Part" "knots" "I" "PlyHouse", Cond.fieldLinkNest "PlyHouse$Count" 18 "PlyHouse$Part" "splits" "I" "PlyHouse", Cond.fieldLinkNest "PlyHouse$Count" 21 "PlyHouse$Part" "holes" "I" "PlyHouse", Cond.fieldLinkNest "PlyHouse$Count" 24 "PlyHouse$Part" "plugs" "I" "PlyHouse", Cond.fieldLinkNest "PlyHouse$Count" 27 "PlyHouse$Part" "run" "I" "PlyHouse", Cond.castable "PlyHouse$Count" "PlyHouse$Node", Cond.methodLinkNest "PlyHouse$Two" 1 ⟨"PlyHouse$Node", "<init>", "()V"⟩ "PlyHouse", Cond.castable "PlyHouse$Sum" "PlyHouse$Node", Cond.castable "PlyHouse$Compared" "PlyHouse$Node", Cond.castable "PlyHouse$Joined" "PlyHouse$Node", Cond.declares ⟨"java/lang/Throwable", "<init>", "()V"⟩, Cond.declares ⟨"java/lang/Throwable", "<init>", "(Ljava/lang/String;)V"⟩, Cond.declares ⟨"java/lang/Exception", "<init>", "()V"⟩, Cond.declares ⟨"java/lang/Exception", "<init>", "(Ljava/lang/String;)V"⟩, Cond.declares ⟨"PlyHouse$Values", "of", "(LPlyHouse$Part;)I"⟩, Cond.methodLink "PlyHouse$Node" 7 ⟨"PlyHouse$Node", "of", "(LPlyHouse$Part;)I"⟩, Cond.methodLink "PlyHouse$Compared" 17 ⟨"PlyHouse$Node", "of", "(LPlyHouse$Part;)I"⟩, Cond.methodLink "PlyHouse$Sum" 17 ⟨"PlyHouse$Node", "of", "(LPlyHouse$Part;)I"⟩, Cond.sameMethod "PlyHouse$Node" "PlyHouse$Values" "of" "(LPlyHouse$Part;)I"]
def WOK (w : Cond) : Prop := ∀ s U : State, s.WarmedH U.vm → va_Nw w s → va_Nw w U
theorem wok_q164 : WOK (Cond.methodLinkNest "PlyHouse$Reader" 151 ⟨"PlyHouse$Grades", "<init>", "()V"⟩ "PlyHouse") := fun s U hW h => va_Nw.warmM hW h
theorem wok_q172 : WOK (Cond.fieldLinkNest "PlyHouse$Reader" 157 "PlyHouse$Grades" "widths" "[I" "PlyHouse") := fun s U hW h => va_Nw.warmF hW h
theorem wok_q174 : WOK (Cond.fieldLinkNest "PlyHouse$Reader" 170 "PlyHouse$Grades" "worths" "[I" "PlyHouse") := fun s U hW h => va_Nw.warmF hW h
theorem wok_q178 : WOK (Cond.fieldLinkNest "PlyHouse$Reader" 175 "PlyHouse$Grades" "whens" "[LPlyHouse$Node;" "PlyHouse") := fun s U hW h => va_Nw.warmF hW h
theorem wok_q180 : WOK (Cond.fieldLinkNest "PlyHouse$Reader" 154 "PlyHouse$Grades" "many" "I" "PlyHouse") := fun s U hW h => va_Nw.warmF hW h
theorem wok_q171 : WOK (Cond.fieldLinkNest "PlyHouse" 140 "PlyHouse$Grades" "widths" "[I" "PlyHouse") := fun s U hW h => va_Nw.warmF hW h
theorem wok_q175 : WOK (Cond.fieldLinkNest "PlyHouse" 166 "PlyHouse$Grades" "worths" "[I" "PlyHouse") := fun s U hW h => va_Nw.warmF hW h
theorem wok_q177 : WOK (Cond.fieldLinkNest "PlyHouse" 130 "PlyHouse$Grades" "whens" "[LPlyHouse$Node;" "PlyHouse") := fun s U hW h => va_Nw.warmF hW h
theorem wok_q179 : WOK (Cond.fieldLinkNest "PlyHouse" 69 "PlyHouse$Grades" "many" "I" "PlyHouse") := fun s U hW h => va_Nw.warmF hW h
theorem wok_q247 : WOK (Cond.fieldLinkNest "PlyHouse" 76 "PlyHouse$Wrong" "kind" "I" "PlyHouse") := fun s U hW h => va_Nw.warmF hW h
theorem wok_q249 : WOK (Cond.fieldLinkNest "PlyHouse" 79 "PlyHouse$Wrong" "place" "I" "PlyHouse") := fun s U hW h => va_Nw.warmF hW h
theorem wok_q622 : WOK (Cond.methodLinkNest "PlyHouse" 176 ⟨"PlyHouse$Grades", "<init>", "()V"⟩ "PlyHouse") := fun s U hW h => va_Nw.warmM hW h
theorem wok_q625 : WOK (Cond.methodLinkNest "PlyHouse" 177 ⟨"PlyHouse$Part", "<init>", "()V"⟩ "PlyHouse") := fun s U hW h => va_Nw.warmM hW h
theorem wok_q630 : WOK (Cond.fieldLinkNest "PlyHouse" 108 "PlyHouse$Part" "knots" "I" "PlyHouse") := fun s U hW h => va_Nw.warmF hW h
theorem wok_q632 : WOK (Cond.fieldLinkNest "PlyHouse" 113 "PlyHouse$Part" "splits" "I" "PlyHouse") := fun s U hW h => va_Nw.warmF hW h
theorem wok_q634 : WOK (Cond.fieldLinkNest "PlyHouse" 116 "PlyHouse$Part" "holes" "I" "PlyHouse") := fun s U hW h => va_Nw.warmF hW h
theorem wok_q636 : WOK (Cond.fieldLinkNest "PlyHouse" 119 "PlyHouse$Part" "plugs" "I" "PlyHouse") := fun s U hW h => va_Nw.warmF hW h
theorem wok_q638 : WOK (Cond.fieldLinkNest "PlyHouse" 122 "PlyHouse$Part" "run" "I" "PlyHouse") := fun s U hW h => va_Nw.warmF hW h
theorem wok_q204 : WOK (Cond.castable "PlyHouse$Wrong" "PlyHouse$Wrong") := fun s U hW h => va_Nw.warmC hW h
theorem wok_q418 : WOK (Cond.methodLinkNest "PlyHouse$Not" 1 ⟨"PlyHouse$Node", "<init>", "()V"⟩ "PlyHouse") := fun s U hW h => va_Nw.warmM hW h
theorem wok_q1278 : WOK (Cond.castable "PlyHouse$Not" "PlyHouse$Node") := fun s U hW h => va_Nw.warmC hW h
theorem wok_q457 : WOK (Cond.methodLinkNest "PlyHouse$Number" 1 ⟨"PlyHouse$Node", "<init>", "()V"⟩ "PlyHouse") := fun s U hW h => va_Nw.warmM hW h
theorem wok_q1279 : WOK (Cond.castable "PlyHouse$Number" "PlyHouse$Node") := fun s U hW h => va_Nw.warmC hW h
theorem wok_q467 : WOK (Cond.methodLinkNest "PlyHouse$Count" 1 ⟨"PlyHouse$Node", "<init>", "()V"⟩ "PlyHouse") := fun s U hW h => va_Nw.warmM hW h
theorem wok_q629 : WOK (Cond.fieldLinkNest "PlyHouse$Count" 13 "PlyHouse$Part" "knots" "I" "PlyHouse") := fun s U hW h => va_Nw.warmF hW h
theorem wok_q631 : WOK (Cond.fieldLinkNest "PlyHouse$Count" 18 "PlyHouse$Part" "splits" "I" "PlyHouse") := fun s U hW h => va_Nw.warmF hW h
theorem wok_q633 : WOK (Cond.fieldLinkNest "PlyHouse$Count" 21 "PlyHouse$Part" "holes" "I" "PlyHouse") := fun s U hW h => va_Nw.warmF hW h
theorem wok_q635 : WOK (Cond.fieldLinkNest "PlyHouse$Count" 24 "PlyHouse$Part" "plugs" "I" "PlyHouse") := fun s U hW h => va_Nw.warmF hW h
theorem wok_q637 : WOK (Cond.fieldLinkNest "PlyHouse$Count" 27 "PlyHouse$Part" "run" "I" "PlyHouse") := fun s U hW h => va_Nw.warmF hW h
theorem wok_q1280 : WOK (Cond.castable "PlyHouse$Count" "PlyHouse$Node") := fun s U hW h => va_Nw.warmC hW h
theorem wok_q480 : WOK (Cond.methodLinkNest "PlyHouse$Two" 1 ⟨"PlyHouse$Node", "<init>", "()V"⟩ "PlyHouse") := fun s U hW h => va_Nw.warmM hW h
theorem wok_q1281 : WOK (Cond.castable "PlyHouse$Sum" "PlyHouse$Node") := fun s U hW h => va_Nw.warmC hW h
theorem wok_q1282 : WOK (Cond.castable "PlyHouse$Compared" "PlyHouse$Node") := fun s U hW h => va_Nw.warmC hW h
theorem wok_q1283 : WOK (Cond.castable "PlyHouse$Joined" "PlyHouse$Node") := fun s U hW h => va_Nw.warmC hW h
theorem wok_q207 : WOK (Cond.declares ⟨"java/lang/Throwable", "<init>", "()V"⟩) := fun s U hW h => va_Nw.warmD hW h
theorem wok_q208 : WOK (Cond.declares ⟨"java/lang/Throwable", "<init>", "(Ljava/lang/String;)V"⟩) := fun s U hW h => va_Nw.warmD hW h
theorem wok_q205 : WOK (Cond.declares ⟨"java/lang/Exception", "<init>", "()V"⟩) := fun s U hW h => va_Nw.warmD hW h
theorem wok_q206 : WOK (Cond.declares ⟨"java/lang/Exception", "<init>", "(Ljava/lang/String;)V"⟩) := fun s U hW h => va_Nw.warmD hW h
theorem wok_q575 : WOK (Cond.declares ⟨"PlyHouse$Values", "of", "(LPlyHouse$Part;)I"⟩) := fun s U hW h => va_Nw.warmD hW h
theorem wok_nr0 : WOK (Cond.methodLink "PlyHouse$Node" 7 ⟨"PlyHouse$Node", "of", "(LPlyHouse$Part;)I"⟩) := fun s U hW h => word_at hW (Or.inl rfl) h
theorem wok_nr1 : WOK (Cond.methodLink "PlyHouse$Compared" 17 ⟨"PlyHouse$Node", "of", "(LPlyHouse$Part;)I"⟩) := fun s U hW h => word_at hW (Or.inl rfl) h
theorem wok_nr2 : WOK (Cond.methodLink "PlyHouse$Sum" 17 ⟨"PlyHouse$Node", "of", "(LPlyHouse$Part;)I"⟩) := fun s U hW h => word_at hW (Or.inl rfl) h
theorem wok_nr3 : WOK (Cond.sameMethod "PlyHouse$Node" "PlyHouse$Values" "of" "(LPlyHouse$Part;)I") := fun s U hW h => word_at hW (Or.inl rfl) h
theorem nwX_ok : ∀ w ∈ nwX, WOK w := List.forall_mem_cons.mpr ⟨wok_q164, List.forall_mem_cons.mpr ⟨wok_q172, List.forall_mem_cons.mpr ⟨wok_q174, List.forall_mem_cons.mpr ⟨wok_q178, List.forall_mem_cons.mpr ⟨wok_q180, List.forall_mem_cons.mpr ⟨wok_q171, List.forall_mem_cons.mpr ⟨wok_q175, List.forall_mem_cons.mpr ⟨wok_q177, List.forall_mem_cons.mpr ⟨wok_q179, List.forall_mem_cons.mpr ⟨wok_q247, List.forall_mem_cons.mpr ⟨wok_q249, List.forall_mem_cons.mpr ⟨wok_q622, List.forall_mem_cons.mpr ⟨wok_q625, List.forall_mem_cons.mpr ⟨wok_q630, List.forall_mem_cons.mpr ⟨wok_q632, List.forall_mem_cons.mpr ⟨wok_q634, List.forall_mem_cons.mpr ⟨wok_q636, List.forall_mem_cons.mpr ⟨wok_q638, List.forall_mem_cons.mpr ⟨wok_q204, List.forall_mem_cons.mpr ⟨wok_q418, List.forall_mem_cons.mpr ⟨wok_q1278, List.forall_mem_cons.mpr ⟨wok_q457, List.forall_mem_cons.mpr ⟨wok_q1279, List.forall_mem_cons.mpr ⟨wok_q467, List.forall_mem_cons.mpr ⟨wok_q629, List.forall_mem_cons.mpr ⟨wok_q631, List.forall_mem_cons.mpr ⟨wok_q633, List.forall_mem_cons.mpr ⟨wok_q635, List.forall_mem_cons.mpr ⟨wok_q637, List.forall_mem_cons.mpr ⟨wok_q1280, List.forall_mem_cons.mpr ⟨wok_q480, List.forall_mem_cons.mpr ⟨wok_q1281, List.forall_mem_cons.mpr ⟨wok_q1282, List.forall_mem_cons.mpr ⟨wok_q1283, List.forall_mem_cons.mpr ⟨wok_q207, List.forall_mem_cons.mpr ⟨wok_q208, List.forall_mem_cons.mpr ⟨wok_q205, List.forall_mem_cons.mpr ⟨wok_q206, List.forall_mem_cons.mpr ⟨wok_q575, List.forall_mem_cons.mpr ⟨wok_nr0, List.forall_mem_cons.mpr ⟨wok_nr1, List.forall_mem_cons.mpr ⟨wok_nr2, List.forall_mem_cons.mpr ⟨wok_nr3, fun _ h => absurd h List.not_mem_nil⟩⟩⟩⟩⟩⟩⟩⟩⟩⟩⟩⟩⟩⟩⟩⟩⟩⟩⟩⟩⟩⟩⟩⟩⟩⟩⟩⟩⟩⟩⟩⟩⟩⟩⟩⟩⟩⟩⟩⟩⟩⟩⟩
theorem nwm_q164 : (Cond.methodLinkNest "PlyHouse$Reader" 151 ⟨"PlyHouse$Grades", "<init>", "()V"⟩ "PlyHouse") ∈ nwX := List.mem_of_getElem? (i := 0) rfl
theorem nwm_q172 : (Cond.fieldLinkNest "PlyHouse$Reader" 157 "PlyHouse$Grades" "widths" "[I" "PlyHouse") ∈ nwX := List.mem_of_getElem? (i := 1) rfl
theorem nwm_q174 : (Cond.fieldLinkNest "PlyHouse$Reader" 170 "PlyHouse$Grades" "worths" "[I" "PlyHouse") ∈ nwX := List.mem_of_getElem? (i := 2) rfl
theorem nwm_q178 : (Cond.fieldLinkNest "PlyHouse$Reader" 175 "PlyHouse$Grades" "whens" "[LPlyHouse$Node;" "PlyHouse") ∈ nwX := List.mem_of_getElem? (i := 3) rfl
theorem nwm_q180 : (Cond.fieldLinkNest "PlyHouse$Reader" 154 "PlyHouse$Grades" "many" "I" "PlyHouse") ∈ nwX := List.mem_of_getElem? (i := 4) rfl
theorem nwm_q171 : (Cond.fieldLinkNest "PlyHouse" 140 "PlyHouse$Grades" "widths" "[I" "PlyHouse") ∈ nwX := List.mem_of_getElem? (i := 5) rfl
theorem nwm_q175 : (Cond.fieldLinkNest "PlyHouse" 166 "PlyHouse$Grades" "worths" "[I" "PlyHouse") ∈ nwX := List.mem_of_getElem? (i := 6) rfl
theorem nwm_q177 : (Cond.fieldLinkNest "PlyHouse" 130 "PlyHouse$Grades" "whens" "[LPlyHouse$Node;" "PlyHouse") ∈ nwX := List.mem_of_getElem? (i := 7) rfl
theorem nwm_q179 : (Cond.fieldLinkNest "PlyHouse" 69 "PlyHouse$Grades" "many" "I" "PlyHouse") ∈ nwX := List.mem_of_getElem? (i := 8) rfl
theorem nwm_q247 : (Cond.fieldLinkNest "PlyHouse" 76 "PlyHouse$Wrong" "kind" "I" "PlyHouse") ∈ nwX := List.mem_of_getElem? (i := 9) rfl
theorem nwm_q249 : (Cond.fieldLinkNest "PlyHouse" 79 "PlyHouse$Wrong" "place" "I" "PlyHouse") ∈ nwX := List.mem_of_getElem? (i := 10) rfl
theorem nwm_q622 : (Cond.methodLinkNest "PlyHouse" 176 ⟨"PlyHouse$Grades", "<init>", "()V"⟩ "PlyHouse") ∈ nwX := List.mem_of_getElem? (i := 11) rfl
theorem nwm_q625 : (Cond.methodLinkNest "PlyHouse" 177 ⟨"PlyHouse$Part", "<init>", "()V"⟩ "PlyHouse") ∈ nwX := List.mem_of_getElem? (i := 12) rfl
theorem nwm_q630 : (Cond.fieldLinkNest "PlyHouse" 108 "PlyHouse$Part" "knots" "I" "PlyHouse") ∈ nwX := List.mem_of_getElem? (i := 13) rfl
theorem nwm_q632 : (Cond.fieldLinkNest "PlyHouse" 113 "PlyHouse$Part" "splits" "I" "PlyHouse") ∈ nwX := List.mem_of_getElem? (i := 14) rfl
theorem nwm_q634 : (Cond.fieldLinkNest "PlyHouse" 116 "PlyHouse$Part" "holes" "I" "PlyHouse") ∈ nwX := List.mem_of_getElem? (i := 15) rfl
theorem nwm_q636 : (Cond.fieldLinkNest "PlyHouse" 119 "PlyHouse$Part" "plugs" "I" "PlyHouse") ∈ nwX := List.mem_of_getElem? (i := 16) rfl
theorem nwm_q638 : (Cond.fieldLinkNest "PlyHouse" 122 "PlyHouse$Part" "run" "I" "PlyHouse") ∈ nwX := List.mem_of_getElem? (i := 17) rfl
theorem nwm_q204 : (Cond.castable "PlyHouse$Wrong" "PlyHouse$Wrong") ∈ nwX := List.mem_of_getElem? (i := 18) rfl
theorem nwm_q418 : (Cond.methodLinkNest "PlyHouse$Not" 1 ⟨"PlyHouse$Node", "<init>", "()V"⟩ "PlyHouse") ∈ nwX := List.mem_of_getElem? (i := 19) rfl
theorem nwm_q1278 : (Cond.castable "PlyHouse$Not" "PlyHouse$Node") ∈ nwX := List.mem_of_getElem? (i := 20) rfl
theorem nwm_q457 : (Cond.methodLinkNest "PlyHouse$Number" 1 ⟨"PlyHouse$Node", "<init>", "()V"⟩ "PlyHouse") ∈ nwX := List.mem_of_getElem? (i := 21) rfl
theorem nwm_q1279 : (Cond.castable "PlyHouse$Number" "PlyHouse$Node") ∈ nwX := List.mem_of_getElem? (i := 22) rfl
theorem nwm_q467 : (Cond.methodLinkNest "PlyHouse$Count" 1 ⟨"PlyHouse$Node", "<init>", "()V"⟩ "PlyHouse") ∈ nwX := List.mem_of_getElem? (i := 23) rfl
theorem nwm_q629 : (Cond.fieldLinkNest "PlyHouse$Count" 13 "PlyHouse$Part" "knots" "I" "PlyHouse") ∈ nwX := List.mem_of_getElem? (i := 24) rfl
theorem nwm_q631 : (Cond.fieldLinkNest "PlyHouse$Count" 18 "PlyHouse$Part" "splits" "I" "PlyHouse") ∈ nwX := List.mem_of_getElem? (i := 25) rfl
theorem nwm_q633 : (Cond.fieldLinkNest "PlyHouse$Count" 21 "PlyHouse$Part" "holes" "I" "PlyHouse") ∈ nwX := List.mem_of_getElem? (i := 26) rfl
theorem nwm_q635 : (Cond.fieldLinkNest "PlyHouse$Count" 24 "PlyHouse$Part" "plugs" "I" "PlyHouse") ∈ nwX := List.mem_of_getElem? (i := 27) rfl
theorem nwm_q637 : (Cond.fieldLinkNest "PlyHouse$Count" 27 "PlyHouse$Part" "run" "I" "PlyHouse") ∈ nwX := List.mem_of_getElem? (i := 28) rfl
theorem nwm_q1280 : (Cond.castable "PlyHouse$Count" "PlyHouse$Node") ∈ nwX := List.mem_of_getElem? (i := 29) rfl
theorem nwm_q480 : (Cond.methodLinkNest "PlyHouse$Two" 1 ⟨"PlyHouse$Node", "<init>", "()V"⟩ "PlyHouse") ∈ nwX := List.mem_of_getElem? (i := 30) rfl
theorem nwm_q1281 : (Cond.castable "PlyHouse$Sum" "PlyHouse$Node") ∈ nwX := List.mem_of_getElem? (i := 31) rfl
theorem nwm_q1282 : (Cond.castable "PlyHouse$Compared" "PlyHouse$Node") ∈ nwX := List.mem_of_getElem? (i := 32) rfl
theorem nwm_q1283 : (Cond.castable "PlyHouse$Joined" "PlyHouse$Node") ∈ nwX := List.mem_of_getElem? (i := 33) rfl
theorem nwm_q207 : (Cond.declares ⟨"java/lang/Throwable", "<init>", "()V"⟩) ∈ nwX := List.mem_of_getElem? (i := 34) rfl
theorem nwm_q208 : (Cond.declares ⟨"java/lang/Throwable", "<init>", "(Ljava/lang/String;)V"⟩) ∈ nwX := List.mem_of_getElem? (i := 35) rfl
theorem nwm_q205 : (Cond.declares ⟨"java/lang/Exception", "<init>", "()V"⟩) ∈ nwX := List.mem_of_getElem? (i := 36) rfl
theorem nwm_q206 : (Cond.declares ⟨"java/lang/Exception", "<init>", "(Ljava/lang/String;)V"⟩) ∈ nwX := List.mem_of_getElem? (i := 37) rfl
theorem nwm_q575 : (Cond.declares ⟨"PlyHouse$Values", "of", "(LPlyHouse$Part;)I"⟩) ∈ nwX := List.mem_of_getElem? (i := 38) rfl
theorem nwm_nr0 : (Cond.methodLink "PlyHouse$Node" 7 ⟨"PlyHouse$Node", "of", "(LPlyHouse$Part;)I"⟩) ∈ nwX := List.mem_of_getElem? (i := 39) rfl
theorem nwm_nr1 : (Cond.methodLink "PlyHouse$Compared" 17 ⟨"PlyHouse$Node", "of", "(LPlyHouse$Part;)I"⟩) ∈ nwX := List.mem_of_getElem? (i := 40) rfl
theorem nwm_nr2 : (Cond.methodLink "PlyHouse$Sum" 17 ⟨"PlyHouse$Node", "of", "(LPlyHouse$Part;)I"⟩) ∈ nwX := List.mem_of_getElem? (i := 41) rfl
theorem nwm_nr3 : (Cond.sameMethod "PlyHouse$Node" "PlyHouse$Values" "of" "(LPlyHouse$Part;)I") ∈ nwX := List.mem_of_getElem? (i := 42) rfl
/-- the words of the tables among them -/
theorem nwX_tbl {b : Nat} {s : State} (h : ∀ w ∈ lw_tbl, w.before #[Value.ref b] s = true) (hn : ∀ w ∈ nwX.drop 39, va_Nw w s) : ∀ w ∈ nwX, va_Nw w s := by
  exact List.forall_mem_cons.mpr ⟨va_Nw.of rfl (h _ q164), List.forall_mem_cons.mpr ⟨va_Nw.of rfl (h _ q172), List.forall_mem_cons.mpr ⟨va_Nw.of rfl (h _ q174), List.forall_mem_cons.mpr ⟨va_Nw.of rfl (h _ q178), List.forall_mem_cons.mpr ⟨va_Nw.of rfl (h _ q180), List.forall_mem_cons.mpr ⟨va_Nw.of rfl (h _ q171), List.forall_mem_cons.mpr ⟨va_Nw.of rfl (h _ q175), List.forall_mem_cons.mpr ⟨va_Nw.of rfl (h _ q177), List.forall_mem_cons.mpr ⟨va_Nw.of rfl (h _ q179), List.forall_mem_cons.mpr ⟨va_Nw.of rfl (h _ q247), List.forall_mem_cons.mpr ⟨va_Nw.of rfl (h _ q249), List.forall_mem_cons.mpr ⟨va_Nw.of rfl (h _ q622), List.forall_mem_cons.mpr ⟨va_Nw.of rfl (h _ q625), List.forall_mem_cons.mpr ⟨va_Nw.of rfl (h _ q630), List.forall_mem_cons.mpr ⟨va_Nw.of rfl (h _ q632), List.forall_mem_cons.mpr ⟨va_Nw.of rfl (h _ q634), List.forall_mem_cons.mpr ⟨va_Nw.of rfl (h _ q636), List.forall_mem_cons.mpr ⟨va_Nw.of rfl (h _ q638), List.forall_mem_cons.mpr ⟨va_Nw.of rfl (h _ q204), List.forall_mem_cons.mpr ⟨va_Nw.of rfl (h _ q418), List.forall_mem_cons.mpr ⟨va_Nw.of rfl (h _ q1278), List.forall_mem_cons.mpr ⟨va_Nw.of rfl (h _ q457), List.forall_mem_cons.mpr ⟨va_Nw.of rfl (h _ q1279), List.forall_mem_cons.mpr ⟨va_Nw.of rfl (h _ q467), List.forall_mem_cons.mpr ⟨va_Nw.of rfl (h _ q629), List.forall_mem_cons.mpr ⟨va_Nw.of rfl (h _ q631), List.forall_mem_cons.mpr ⟨va_Nw.of rfl (h _ q633), List.forall_mem_cons.mpr ⟨va_Nw.of rfl (h _ q635), List.forall_mem_cons.mpr ⟨va_Nw.of rfl (h _ q637), List.forall_mem_cons.mpr ⟨va_Nw.of rfl (h _ q1280), List.forall_mem_cons.mpr ⟨va_Nw.of rfl (h _ q480), List.forall_mem_cons.mpr ⟨va_Nw.of rfl (h _ q1281), List.forall_mem_cons.mpr ⟨va_Nw.of rfl (h _ q1282), List.forall_mem_cons.mpr ⟨va_Nw.of rfl (h _ q1283), List.forall_mem_cons.mpr ⟨va_Nw.of rfl (h _ q207), List.forall_mem_cons.mpr ⟨va_Nw.of rfl (h _ q208), List.forall_mem_cons.mpr ⟨va_Nw.of rfl (h _ q205), List.forall_mem_cons.mpr ⟨va_Nw.of rfl (h _ q206), List.forall_mem_cons.mpr ⟨va_Nw.of rfl (h _ q575), hn⟩⟩⟩⟩⟩⟩⟩⟩⟩⟩⟩⟩⟩⟩⟩⟩⟩⟩⟩⟩⟩⟩⟩⟩⟩⟩⟩⟩⟩⟩⟩⟩⟩⟩⟩⟩⟩⟩⟩
def siX : List Nat := [47, 152, 164, 173, 83, 93, 95, 126, 128, 130, 132, 134]
def stX : List String := [";()<>=+-", "grade", "worth", "when", "or", "and", "not", "knots", "splits", "holes", "plugs", "run"]
end WRD
