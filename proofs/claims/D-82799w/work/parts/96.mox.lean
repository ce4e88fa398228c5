/-! METHODS AS CALLEES (printed by gen2.py) -/
section MOX
set_option maxRecDepth 100000
theorem mok_of {I : MI} (h0 : I.2.2.2.2.1 = []) (q : Cond.code I.1 I.2.1 I.2.2.1 I.2.2.2.1 ∈ lw_all) (qi : Cond.initialized I.1.cls ∈ lw_all) (hp : plainFor I.1 = true) (hn : I.2.2.1 ≤ 21) : MOK I := by
  refine ⟨fun w hw => ?_, qi, hp, hn⟩
  unfold wsI at hw
  rw [h0] at hw
  rcases List.mem_cons.mp hw with e | e
  · rw [e]; exact q
  · exact e
theorem mok_ofW {I : MI} {h : Nat × Nat × Nat × Nat} {t : List (Nat × Nat × Nat × Nat)} (h0 : I.2.2.2.2.1 = h :: t) (q : Cond.codeWith I.1 I.2.1 I.2.2.1 I.2.2.2.1 (h :: t) ∈ lw_all) (qi : Cond.initialized I.1.cls ∈ lw_all) (hp : plainFor I.1 = true) (hn : I.2.2.1 ≤ 21) : MOK I := by
  refine ⟨fun w hw => ?_, qi, hp, hn⟩
  unfold wsI at hw
  rw [h0] at hw
  rcases List.mem_cons.mp hw with e | e
  · rw [e]; exact q
  · exact e
theorem mo_X0_net : MOK (miT 0) ∧ mlT 0 = ((miT 0).2.2.1, (miT 0).2.2.2.2.2) := ⟨mok_of rfl q81 q54 (plainFor_of_name (by decide)) (by decide), rfl⟩
theorem nmo_X0_net : NmOK (miT 0).1 2 := ⟨by decide, by decide, by decide +kernel⟩
theorem mo_X0_centre : MOK (miT 1) ∧ mlT 1 = ((miT 1).2.2.1, (miT 1).2.2.2.2.2) := ⟨mok_of rfl q86 q54 (plainFor_of_name (by decide)) (by decide), rfl⟩
theorem nmo_X0_centre : NmOK (miT 1).1 1 := ⟨by decide, by decide, by decide +kernel⟩
theorem mo_X0_seekCentre : MOK (miT 2) ∧ mlT 2 = ((miT 2).2.2.1, (miT 2).2.2.2.2.2) := ⟨mok_of rfl q91 q54 (plainFor_of_name (by decide)) (by decide), rfl⟩
theorem nmo_X0_seekCentre : NmOK (miT 2).1 0 := ⟨by decide, by decide, by decide +kernel⟩
theorem mo_X0_fits : MOK (miT 3) ∧ mlT 3 = ((miT 3).2.2.1, (miT 3).2.2.2.2.2) := ⟨mok_of rfl q95 q54 (plainFor_of_name (by decide)) (by decide), rfl⟩
theorem nmo_X0_fits : NmOK (miT 3).1 3 := ⟨by decide, by decide, by decide +kernel⟩
theorem mo_X0_isIn : MOK (miT 4) ∧ mlT 4 = ((miT 4).2.2.1, (miT 4).2.2.2.2.2) := ⟨mok_of rfl q99 q54 (plainFor_of_name (by decide)) (by decide), rfl⟩
theorem nmo_X0_isIn : NmOK (miT 4).1 2 := ⟨by decide, by decide, by decide +kernel⟩
theorem mo_X0_full : MOK (miT 5) ∧ mlT 5 = ((miT 5).2.2.1, (miT 5).2.2.2.2.2) := ⟨mok_of rfl q103 q54 (plainFor_of_name (by decide)) (by decide), rfl⟩
theorem nmo_X0_full : NmOK (miT 5).1 2 := ⟨by decide, by decide, by decide +kernel⟩
theorem mo_X0_feed : MOK (miT 6) ∧ mlT 6 = ((miT 6).2.2.1, (miT 6).2.2.2.2.2) := ⟨mok_of rfl q107 q54 (plainFor_of_name (by decide)) (by decide), rfl⟩
theorem nmo_X0_feed : NmOK (miT 6).1 5 := ⟨by decide, by decide, by decide +kernel⟩
theorem mo_X0_bytes : MOK (miT 7) ∧ mlT 7 = ((miT 7).2.2.1, (miT 7).2.2.2.2.2) := ⟨mok_of rfl q111 q54 (plainFor_of_name (by decide)) (by decide), rfl⟩
theorem nmo_X0_bytes : NmOK (miT 7).1 1 := ⟨by decide, by decide, by decide +kernel⟩
theorem mo_X0_end : MOK (miT 8) ∧ mlT 8 = ((miT 8).2.2.1, (miT 8).2.2.2.2.2) := ⟨mok_of rfl q115 q54 (plainFor_of_name (by decide)) (by decide), rfl⟩
theorem nmo_X0_end : NmOK (miT 8).1 1 := ⟨by decide, by decide, by decide +kernel⟩
theorem mo_X0_grades : MOK (miT 9) ∧ mlT 9 = ((miT 9).2.2.1, (miT 9).2.2.2.2.2) := ⟨mok_ofW rfl q119 q54 (plainFor_of_name (by decide)) (by decide), rfl⟩
theorem nmo_X0_grades : NmOK (miT 9).1 0 := ⟨by decide, by decide, by decide +kernel⟩
theorem mo_X0_faulty : MOK (miT 10) ∧ mlT 10 = ((miT 10).2.2.1, (miT 10).2.2.2.2.2) := ⟨mok_of rfl q157 q54 (plainFor_of_name (by decide)) (by decide), rfl⟩
theorem nmo_X0_faulty : NmOK (miT 10).1 2 := ⟨by decide, by decide, by decide +kernel⟩
theorem mo_X0_fault : MOK (miT 11) ∧ mlT 11 = ((miT 11).2.2.1, (miT 11).2.2.2.2.2) := ⟨mok_of rfl q532 q54 (plainFor_of_name (by decide)) (by decide), rfl⟩
theorem nmo_X0_fault : NmOK (miT 11).1 1 := ⟨by decide, by decide, by decide +kernel⟩
theorem mo_X0_leaf : MOK (miT 12) ∧ mlT 12 = ((miT 12).2.2.1, (miT 12).2.2.2.2.2) := ⟨mok_of rfl q536 q54 (plainFor_of_name (by decide)) (by decide), rfl⟩
theorem nmo_X0_leaf : NmOK (miT 12).1 0 := ⟨by decide, by decide, by decide +kernel⟩
theorem mo_X0_isMark : MOK (miT 13) ∧ mlT 13 = ((miT 13).2.2.1, (miT 13).2.2.2.2.2) := ⟨mok_of rfl q539 q54 (plainFor_of_name (by decide)) (by decide), rfl⟩
theorem nmo_X0_isMark : NmOK (miT 13).1 1 := ⟨by decide, by decide, by decide +kernel⟩
theorem mo_X0_patch : MOK (miT 14) ∧ mlT 14 = ((miT 14).2.2.1, (miT 14).2.2.2.2.2) := ⟨mok_of rfl q546 q54 (plainFor_of_name (by decide)) (by decide), rfl⟩
theorem nmo_X0_patch : NmOK (miT 14).1 2 := ⟨by decide, by decide, by decide +kernel⟩
theorem mo_X0_sheet : MOK (miT 15) ∧ mlT 15 = ((miT 15).2.2.1, (miT 15).2.2.2.2.2) := ⟨mok_of rfl q550 q54 (plainFor_of_name (by decide)) (by decide), rfl⟩
theorem nmo_X0_sheet : NmOK (miT 15).1 3 := ⟨by decide, by decide, by decide +kernel⟩
theorem mo_X0_isThere : MOK (miT 16) ∧ mlT 16 = ((miT 16).2.2.1, (miT 16).2.2.2.2.2) := ⟨mok_of rfl q554 q54 (plainFor_of_name (by decide)) (by decide), rfl⟩
theorem nmo_X0_isThere : NmOK (miT 16).1 2 := ⟨by decide, by decide, by decide +kernel⟩
theorem mo_X0_look : MOK (miT 17) ∧ mlT 17 = ((miT 17).2.2.1, (miT 17).2.2.2.2.2) := ⟨mok_of rfl q558 q54 (plainFor_of_name (by decide)) (by decide), rfl⟩
theorem nmo_X0_look : NmOK (miT 17).1 2 := ⟨by decide, by decide, by decide +kernel⟩
theorem mo_X0_isSheet : MOK (miT 18) ∧ mlT 18 = ((miT 18).2.2.1, (miT 18).2.2.2.2.2) := ⟨mok_ofW rfl q563 q54 (plainFor_of_name (by decide)) (by decide), rfl⟩
theorem nmo_X0_isSheet : NmOK (miT 18).1 2 := ⟨by decide, by decide, by decide +kernel⟩
theorem mo_X0_worth : MOK (miT 19) ∧ mlT 19 = ((miT 19).2.2.1, (miT 19).2.2.2.2.2) := ⟨mok_of rfl q599 q54 (plainFor_of_name (by decide)) (by decide), rfl⟩
theorem nmo_X0_worth : NmOK (miT 19).1 0 := ⟨by decide, by decide, by decide +kernel⟩
theorem mo_X0_clip : MOK (miT 20) ∧ mlT 20 = ((miT 20).2.2.1, (miT 20).2.2.2.2.2) := ⟨mok_of rfl q603 q54 (plainFor_of_name (by decide)) (by decide), rfl⟩
theorem nmo_X0_clip : NmOK (miT 20).1 0 := ⟨by decide, by decide, by decide +kernel⟩
theorem mo_X0_take : MOK (miT 21) ∧ mlT 21 = ((miT 21).2.2.1, (miT 21).2.2.2.2.2) := ⟨mok_of rfl q607 q54 (plainFor_of_name (by decide)) (by decide), rfl⟩
theorem nmo_X0_take : NmOK (miT 21).1 3 := ⟨by decide, by decide, by decide +kernel⟩
theorem mo_X0_sheets : MOK (miT 22) ∧ mlT 22 = ((miT 22).2.2.1, (miT 22).2.2.2.2.2) := ⟨mok_of rfl q611 q54 (plainFor_of_name (by decide)) (by decide), rfl⟩
theorem nmo_X0_sheets : NmOK (miT 22).1 0 := ⟨by decide, by decide, by decide +kernel⟩
theorem mo_X0_clipped : MOK (miT 23) ∧ mlT 23 = ((miT 23).2.2.1, (miT 23).2.2.2.2.2) := ⟨mok_of rfl q615 q54 (plainFor_of_name (by decide)) (by decide), rfl⟩
theorem nmo_X0_clipped : NmOK (miT 23).1 2 := ⟨by decide, by decide, by decide +kernel⟩
theorem mo_X0_init : MOK (miT 24) ∧ mlT 24 = ((miT 24).2.2.1, (miT 24).2.2.2.2.2) := ⟨mok_of rfl q619 q54 (plainFor_of_name (by decide)) (by decide), rfl⟩
theorem nmo_X0_init : NmOK (miT 24).1 0 := ⟨by decide, by decide, by decide +kernel⟩
theorem mo_X0_veneer : MOK (miT 25) ∧ mlT 25 = ((miT 25).2.2.1, (miT 25).2.2.2.2.2) := ⟨mok_of rfl q760 q54 (plainFor_of_name (by decide)) (by decide), rfl⟩
theorem nmo_X0_veneer : NmOK (miT 25).1 5 := ⟨by decide, by decide, by decide +kernel⟩
theorem mo_X0_board : MOK (miT 26) ∧ mlT 26 = ((miT 26).2.2.1, (miT 26).2.2.2.2.2) := ⟨mok_of rfl q764 q54 (plainFor_of_name (by decide)) (by decide), rfl⟩
theorem nmo_X0_board : NmOK (miT 26).1 3 := ⟨by decide, by decide, by decide +kernel⟩
theorem mo_X0_isBoard : MOK (miT 27) ∧ mlT 27 = ((miT 27).2.2.1, (miT 27).2.2.2.2.2) := ⟨mok_of rfl q767 q54 (plainFor_of_name (by decide)) (by decide), rfl⟩
theorem nmo_X0_isBoard : NmOK (miT 27).1 2 := ⟨by decide, by decide, by decide +kernel⟩
theorem mo_X0_kindOf : MOK (miT 28) ∧ mlT 28 = ((miT 28).2.2.1, (miT 28).2.2.2.2.2) := ⟨mok_of rfl q770 q54 (plainFor_of_name (by decide)) (by decide), rfl⟩
theorem nmo_X0_kindOf : NmOK (miT 28).1 2 := ⟨by decide, by decide, by decide +kernel⟩
theorem mo_X0_thick : MOK (miT 29) ∧ mlT 29 = ((miT 29).2.2.1, (miT 29).2.2.2.2.2) := ⟨mok_of rfl q774 q54 (plainFor_of_name (by decide)) (by decide), rfl⟩
theorem nmo_X0_thick : NmOK (miT 29).1 3 := ⟨by decide, by decide, by decide +kernel⟩
theorem mo_X0_price : MOK (miT 30) ∧ mlT 30 = ((miT 30).2.2.1, (miT 30).2.2.2.2.2) := ⟨mok_of rfl q778 q54 (plainFor_of_name (by decide)) (by decide), rfl⟩
theorem nmo_X0_price : NmOK (miT 30).1 2 := ⟨by decide, by decide, by decide +kernel⟩
theorem mo_X0_warp : MOK (miT 31) ∧ mlT 31 = ((miT 31).2.2.1, (miT 31).2.2.2.2.2) := ⟨mok_of rfl q782 q54 (plainFor_of_name (by decide)) (by decide), rfl⟩
theorem nmo_X0_warp : NmOK (miT 31).1 2 := ⟨by decide, by decide, by decide +kernel⟩
theorem mo_X0_best : MOK (miT 32) ∧ mlT 32 = ((miT 32).2.2.1, (miT 32).2.2.2.2.2) := ⟨mok_of rfl q787 q54 (plainFor_of_name (by decide)) (by decide), rfl⟩
theorem nmo_X0_best : NmOK (miT 32).1 3 := ⟨by decide, by decide, by decide +kernel⟩
theorem mo_X0_balanced : MOK (miT 33) ∧ mlT 33 = ((miT 33).2.2.1, (miT 33).2.2.2.2.2) := ⟨mok_of rfl q790 q54 (plainFor_of_name (by decide)) (by decide), rfl⟩
theorem nmo_X0_balanced : NmOK (miT 33).1 2 := ⟨by decide, by decide, by decide +kernel⟩
theorem mo_X0_press : MOK (miT 34) ∧ mlT 34 = ((miT 34).2.2.1, (miT 34).2.2.2.2.2) := ⟨mok_of rfl q794 q54 (plainFor_of_name (by decide)) (by decide), rfl⟩
theorem nmo_X0_press : NmOK (miT 34).1 4 := ⟨by decide, by decide, by decide +kernel⟩
theorem mo_X0_glue : MOK (miT 35) ∧ mlT 35 = ((miT 35).2.2.1, (miT 35).2.2.2.2.2) := ⟨mok_of rfl q798 q54 (plainFor_of_name (by decide)) (by decide), rfl⟩
theorem nmo_X0_glue : NmOK (miT 35).1 2 := ⟨by decide, by decide, by decide +kernel⟩
theorem mo_X0_drop : MOK (miT 36) ∧ mlT 36 = ((miT 36).2.2.1, (miT 36).2.2.2.2.2) := ⟨mok_of rfl q802 q54 (plainFor_of_name (by decide)) (by decide), rfl⟩
theorem nmo_X0_drop : NmOK (miT 36).1 0 := ⟨by decide, by decide, by decide +kernel⟩
theorem mo_X0_plan : MOK (miT 37) ∧ mlT 37 = ((miT 37).2.2.1, (miT 37).2.2.2.2.2) := ⟨mok_of rfl q806 q54 (plainFor_of_name (by decide)) (by decide), rfl⟩
theorem nmo_X0_plan : NmOK (miT 37).1 1 := ⟨by decide, by decide, by decide +kernel⟩
theorem mo_X0_plan_2 : MOK (miT 38) ∧ mlT 38 = ((miT 38).2.2.1, (miT 38).2.2.2.2.2) := ⟨mok_of rfl q810 q54 (plainFor_of_name (by decide)) (by decide), rfl⟩
theorem nmo_X0_plan_2 : NmOK (miT 38).1 0 := ⟨by decide, by decide, by decide +kernel⟩
theorem mo_X0_lastOf : MOK (miT 39) ∧ mlT 39 = ((miT 39).2.2.1, (miT 39).2.2.2.2.2) := ⟨mok_of rfl q814 q54 (plainFor_of_name (by decide)) (by decide), rfl⟩
theorem nmo_X0_lastOf : NmOK (miT 39).1 1 := ⟨by decide, by decide, by decide +kernel⟩
theorem mo_X0_outBy : MOK (miT 40) ∧ mlT 40 = ((miT 40).2.2.1, (miT 40).2.2.2.2.2) := ⟨mok_of rfl q818 q54 (plainFor_of_name (by decide)) (by decide), rfl⟩
theorem nmo_X0_outBy : NmOK (miT 40).1 2 := ⟨by decide, by decide, by decide +kernel⟩
theorem mo_X0_begins : MOK (miT 41) ∧ mlT 41 = ((miT 41).2.2.1, (miT 41).2.2.2.2.2) := ⟨mok_of rfl q823 q54 (plainFor_of_name (by decide)) (by decide), rfl⟩
theorem nmo_X0_begins : NmOK (miT 41).1 2 := ⟨by decide, by decide, by decide +kernel⟩
theorem mo_X0_takes : MOK (miT 42) ∧ mlT 42 = ((miT 42).2.2.1, (miT 42).2.2.2.2.2) := ⟨mok_of rfl q828 q54 (plainFor_of_name (by decide)) (by decide), rfl⟩
theorem nmo_X0_takes : NmOK (miT 42).1 1 := ⟨by decide, by decide, by decide +kernel⟩
theorem mo_X0_load : MOK (miT 43) ∧ mlT 43 = ((miT 43).2.2.1, (miT 43).2.2.2.2.2) := ⟨mok_of rfl q842 q54 (plainFor_of_name (by decide)) (by decide), rfl⟩
theorem nmo_X0_load : NmOK (miT 43).1 2 := ⟨by decide, by decide, by decide +kernel⟩
theorem mo_X0_about : MOK (miT 44) ∧ mlT 44 = ((miT 44).2.2.1, (miT 44).2.2.2.2.2) := ⟨mok_of rfl q846 q54 (plainFor_of_name (by decide)) (by decide), rfl⟩
theorem nmo_X0_about : NmOK (miT 44).1 1 := ⟨by decide, by decide, by decide +kernel⟩
theorem mo_X1_init : MOK (miT 45) ∧ mlT 45 = ((miT 45).2.2.1, (miT 45).2.2.2.2.2) := ⟨mok_of rfl q166 q55 (plainFor_of_name (by decide)) (by decide), rfl⟩
theorem nmo_X1_init : NmOK (miT 45).1 0 := ⟨by decide, by decide, by decide +kernel⟩
theorem mo_X2_init : MOK (miT 46) ∧ mlT 46 = ((miT 46).2.2.1, (miT 46).2.2.2.2.2) := ⟨mok_of rfl q627 q56 (plainFor_of_name (by decide)) (by decide), rfl⟩
theorem nmo_X2_init : NmOK (miT 46).1 0 := ⟨by decide, by decide, by decide +kernel⟩
theorem mo_X3_init : MOK (miT 47) ∧ mlT 47 = ((miT 47).2.2.1, (miT 47).2.2.2.2.2) := ⟨mok_of rfl q851 q57 (plainFor_of_name (by decide)) (by decide), rfl⟩
theorem nmo_X3_init : NmOK (miT 47).1 0 := ⟨by decide, by decide, by decide +kernel⟩
theorem mo_X3_net : MOK (miT 48) ∧ mlT 48 = ((miT 48).2.2.1, (miT 48).2.2.2.2.2) := ⟨mok_of rfl q1040 q57 (plainFor_of_name (by decide)) (by decide), rfl⟩
theorem nmo_X3_net : NmOK (miT 48).1 2 := ⟨by decide, by decide, by decide +kernel⟩
theorem mo_X3_centre : MOK (miT 49) ∧ mlT 49 = ((miT 49).2.2.1, (miT 49).2.2.2.2.2) := ⟨mok_of rfl q1045 q57 (plainFor_of_name (by decide)) (by decide), rfl⟩
theorem nmo_X3_centre : NmOK (miT 49).1 1 := ⟨by decide, by decide, by decide +kernel⟩
theorem mo_X3_seekCentre : MOK (miT 50) ∧ mlT 50 = ((miT 50).2.2.1, (miT 50).2.2.2.2.2) := ⟨mok_of rfl q1049 q57 (plainFor_of_name (by decide)) (by decide), rfl⟩
theorem nmo_X3_seekCentre : NmOK (miT 50).1 0 := ⟨by decide, by decide, by decide +kernel⟩
theorem mo_X3_fits : MOK (miT 51) ∧ mlT 51 = ((miT 51).2.2.1, (miT 51).2.2.2.2.2) := ⟨mok_of rfl q1053 q57 (plainFor_of_name (by decide)) (by decide), rfl⟩
theorem nmo_X3_fits : NmOK (miT 51).1 3 := ⟨by decide, by decide, by decide +kernel⟩
theorem mo_X3_isIn : MOK (miT 52) ∧ mlT 52 = ((miT 52).2.2.1, (miT 52).2.2.2.2.2) := ⟨mok_of rfl q1057 q57 (plainFor_of_name (by decide)) (by decide), rfl⟩
theorem nmo_X3_isIn : NmOK (miT 52).1 2 := ⟨by decide, by decide, by decide +kernel⟩
theorem mo_X3_full : MOK (miT 53) ∧ mlT 53 = ((miT 53).2.2.1, (miT 53).2.2.2.2.2) := ⟨mok_of rfl q1061 q57 (plainFor_of_name (by decide)) (by decide), rfl⟩
theorem nmo_X3_full : NmOK (miT 53).1 2 := ⟨by decide, by decide, by decide +kernel⟩
theorem mo_X3_feed : MOK (miT 54) ∧ mlT 54 = ((miT 54).2.2.1, (miT 54).2.2.2.2.2) := ⟨mok_of rfl q1065 q57 (plainFor_of_name (by decide)) (by decide), rfl⟩
theorem nmo_X3_feed : NmOK (miT 54).1 5 := ⟨by decide, by decide, by decide +kernel⟩
theorem mo_X3_four : MOK (miT 55) ∧ mlT 55 = ((miT 55).2.2.1, (miT 55).2.2.2.2.2) := ⟨mok_of rfl q1069 q57 (plainFor_of_name (by decide)) (by decide), rfl⟩
theorem nmo_X3_four : NmOK (miT 55).1 1 := ⟨by decide, by decide, by decide +kernel⟩
theorem mo_X3_end : MOK (miT 56) ∧ mlT 56 = ((miT 56).2.2.1, (miT 56).2.2.2.2.2) := ⟨mok_of rfl q1073 q57 (plainFor_of_name (by decide)) (by decide), rfl⟩
theorem nmo_X3_end : NmOK (miT 56).1 1 := ⟨by decide, by decide, by decide +kernel⟩
theorem mo_X3_grades : MOK (miT 57) ∧ mlT 57 = ((miT 57).2.2.1, (miT 57).2.2.2.2.2) := ⟨mok_of rfl q1077 q57 (plainFor_of_name (by decide)) (by decide), rfl⟩
theorem nmo_X3_grades : NmOK (miT 57).1 0 := ⟨by decide, by decide, by decide +kernel⟩
theorem mo_X3_begin : MOK (miT 58) ∧ mlT 58 = ((miT 58).2.2.1, (miT 58).2.2.2.2.2) := ⟨mok_of rfl q1081 q57 (plainFor_of_name (by decide)) (by decide), rfl⟩
theorem nmo_X3_begin : NmOK (miT 58).1 0 := ⟨by decide, by decide, by decide +kernel⟩
theorem mo_X3_next : MOK (miT 59) ∧ mlT 59 = ((miT 59).2.2.1, (miT 59).2.2.2.2.2) := ⟨mok_of rfl q1085 q57 (plainFor_of_name (by decide)) (by decide), rfl⟩
theorem nmo_X3_next : NmOK (miT 59).1 0 := ⟨by decide, by decide, by decide +kernel⟩
theorem mo_X3_here : MOK (miT 60) ∧ mlT 60 = ((miT 60).2.2.1, (miT 60).2.2.2.2.2) := ⟨mok_of rfl q1089 q57 (plainFor_of_name (by decide)) (by decide), rfl⟩
theorem nmo_X3_here : NmOK (miT 60).1 1 := ⟨by decide, by decide, by decide +kernel⟩
theorem mo_X3_isLetter : MOK (miT 61) ∧ mlT 61 = ((miT 61).2.2.1, (miT 61).2.2.2.2.2) := ⟨mok_of rfl q1092 q57 (plainFor_of_name (by decide)) (by decide), rfl⟩
theorem nmo_X3_isLetter : NmOK (miT 61).1 1 := ⟨by decide, by decide, by decide +kernel⟩
theorem mo_X3_isDigit : MOK (miT 62) ∧ mlT 62 = ((miT 62).2.2.1, (miT 62).2.2.2.2.2) := ⟨mok_of rfl q1095 q57 (plainFor_of_name (by decide)) (by decide), rfl⟩
theorem nmo_X3_isDigit : NmOK (miT 62).1 1 := ⟨by decide, by decide, by decide +kernel⟩
theorem mo_X3_isSign : MOK (miT 63) ∧ mlT 63 = ((miT 63).2.2.1, (miT 63).2.2.2.2.2) := ⟨mok_of rfl q1098 q57 (plainFor_of_name (by decide)) (by decide), rfl⟩
theorem nmo_X3_isSign : NmOK (miT 63).1 1 := ⟨by decide, by decide, by decide +kernel⟩
theorem mo_X3_isWord : MOK (miT 64) ∧ mlT 64 = ((miT 64).2.2.1, (miT 64).2.2.2.2.2) := ⟨mok_of rfl q1103 q57 (plainFor_of_name (by decide)) (by decide), rfl⟩
theorem nmo_X3_isWord : NmOK (miT 64).1 1 := ⟨by decide, by decide, by decide +kernel⟩
theorem mo_X3_wrong : MOK (miT 65) ∧ mlT 65 = ((miT 65).2.2.1, (miT 65).2.2.2.2.2) := ⟨mok_of rfl q1107 q57 (plainFor_of_name (by decide)) (by decide), rfl⟩
theorem nmo_X3_wrong : NmOK (miT 65).1 1 := ⟨by decide, by decide, by decide +kernel⟩
theorem mo_X3_told : MOK (miT 66) ∧ mlT 66 = ((miT 66).2.2.1, (miT 66).2.2.2.2.2) := ⟨mok_of rfl q1111 q57 (plainFor_of_name (by decide)) (by decide), rfl⟩
theorem nmo_X3_told : NmOK (miT 66).1 2 := ⟨by decide, by decide, by decide +kernel⟩
theorem mo_X3_readE : MOK (miT 67) ∧ mlT 67 = ((miT 67).2.2.1, (miT 67).2.2.2.2.2) := ⟨mok_of rfl q1117 q57 (plainFor_of_name (by decide)) (by decide), rfl⟩
theorem nmo_X3_readE : NmOK (miT 67).1 0 := ⟨by decide, by decide, by decide +kernel⟩
theorem mo_X3_isOpen : MOK (miT 68) ∧ mlT 68 = ((miT 68).2.2.1, (miT 68).2.2.2.2.2) := ⟨mok_of rfl q1121 q57 (plainFor_of_name (by decide)) (by decide), rfl⟩
theorem nmo_X3_isOpen : NmOK (miT 68).1 0 := ⟨by decide, by decide, by decide +kernel⟩
theorem mo_X3_sign : MOK (miT 69) ∧ mlT 69 = ((miT 69).2.2.1, (miT 69).2.2.2.2.2) := ⟨mok_of rfl q1125 q57 (plainFor_of_name (by decide)) (by decide), rfl⟩
theorem nmo_X3_sign : NmOK (miT 69).1 1 := ⟨by decide, by decide, by decide +kernel⟩
theorem mo_X3_settle : MOK (miT 70) ∧ mlT 70 = ((miT 70).2.2.1, (miT 70).2.2.2.2.2) := ⟨mok_of rfl q1129 q57 (plainFor_of_name (by decide)) (by decide), rfl⟩
theorem nmo_X3_settle : NmOK (miT 70).1 1 := ⟨by decide, by decide, by decide +kernel⟩
theorem mo_X3_pop : MOK (miT 71) ∧ mlT 71 = ((miT 71).2.2.1, (miT 71).2.2.2.2.2) := ⟨mok_of rfl q1133 q57 (plainFor_of_name (by decide)) (by decide), rfl⟩
theorem nmo_X3_pop : NmOK (miT 71).1 0 := ⟨by decide, by decide, by decide +kernel⟩
theorem mo_X3_step : MOK (miT 72) ∧ mlT 72 = ((miT 72).2.2.1, (miT 72).2.2.2.2.2) := ⟨mok_of rfl q1137 q57 (plainFor_of_name (by decide)) (by decide), rfl⟩
theorem nmo_X3_step : NmOK (miT 72).1 2 := ⟨by decide, by decide, by decide +kernel⟩
theorem mo_X3_hold : MOK (miT 73) ∧ mlT 73 = ((miT 73).2.2.1, (miT 73).2.2.2.2.2) := ⟨mok_of rfl q1141 q57 (plainFor_of_name (by decide)) (by decide), rfl⟩
theorem nmo_X3_hold : NmOK (miT 73).1 1 := ⟨by decide, by decide, by decide +kernel⟩
theorem mo_X3_settleOnes : MOK (miT 74) ∧ mlT 74 = ((miT 74).2.2.1, (miT 74).2.2.2.2.2) := ⟨mok_of rfl q1147 q57 (plainFor_of_name (by decide)) (by decide), rfl⟩
theorem nmo_X3_settleOnes : NmOK (miT 74).1 1 := ⟨by decide, by decide, by decide +kernel⟩
theorem mo_X3_operand : MOK (miT 75) ∧ mlT 75 = ((miT 75).2.2.1, (miT 75).2.2.2.2.2) := ⟨mok_of rfl q1151 q57 (plainFor_of_name (by decide)) (by decide), rfl⟩
theorem nmo_X3_operand : NmOK (miT 75).1 1 := ⟨by decide, by decide, by decide +kernel⟩
theorem mo_X3_named : MOK (miT 76) ∧ mlT 76 = ((miT 76).2.2.1, (miT 76).2.2.2.2.2) := ⟨mok_of rfl q1155 q57 (plainFor_of_name (by decide)) (by decide), rfl⟩
theorem nmo_X3_named : NmOK (miT 76).1 0 := ⟨by decide, by decide, by decide +kernel⟩
theorem mo_X3_fault : MOK (miT 77) ∧ mlT 77 = ((miT 77).2.2.1, (miT 77).2.2.2.2.2) := ⟨mok_of rfl q1165 q57 (plainFor_of_name (by decide)) (by decide), rfl⟩
theorem nmo_X3_fault : NmOK (miT 77).1 1 := ⟨by decide, by decide, by decide +kernel⟩
theorem mo_X3_leaf : MOK (miT 78) ∧ mlT 78 = ((miT 78).2.2.1, (miT 78).2.2.2.2.2) := ⟨mok_of rfl q1169 q57 (plainFor_of_name (by decide)) (by decide), rfl⟩
theorem nmo_X3_leaf : NmOK (miT 78).1 0 := ⟨by decide, by decide, by decide +kernel⟩
theorem mo_X3_markOf : MOK (miT 79) ∧ mlT 79 = ((miT 79).2.2.1, (miT 79).2.2.2.2.2) := ⟨mok_of rfl q1172 q57 (plainFor_of_name (by decide)) (by decide), rfl⟩
theorem nmo_X3_markOf : NmOK (miT 79).1 1 := ⟨by decide, by decide, by decide +kernel⟩
theorem mo_X3_patch : MOK (miT 80) ∧ mlT 80 = ((miT 80).2.2.1, (miT 80).2.2.2.2.2) := ⟨mok_of rfl q1176 q57 (plainFor_of_name (by decide)) (by decide), rfl⟩
theorem nmo_X3_patch : NmOK (miT 80).1 2 := ⟨by decide, by decide, by decide +kernel⟩
theorem mo_X3_sheet : MOK (miT 81) ∧ mlT 81 = ((miT 81).2.2.1, (miT 81).2.2.2.2.2) := ⟨mok_of rfl q1180 q57 (plainFor_of_name (by decide)) (by decide), rfl⟩
theorem nmo_X3_sheet : NmOK (miT 81).1 3 := ⟨by decide, by decide, by decide +kernel⟩
theorem mo_X3_isSheet : MOK (miT 82) ∧ mlT 82 = ((miT 82).2.2.1, (miT 82).2.2.2.2.2) := ⟨mok_of rfl q1184 q57 (plainFor_of_name (by decide)) (by decide), rfl⟩
theorem nmo_X3_isSheet : NmOK (miT 82).1 3 := ⟨by decide, by decide, by decide +kernel⟩
theorem mo_X3_holds : MOK (miT 83) ∧ mlT 83 = ((miT 83).2.2.1, (miT 83).2.2.2.2.2) := ⟨mok_of rfl q1188 q57 (plainFor_of_name (by decide)) (by decide), rfl⟩
theorem nmo_X3_holds : NmOK (miT 83).1 1 := ⟨by decide, by decide, by decide +kernel⟩
theorem mo_X3_worth : MOK (miT 84) ∧ mlT 84 = ((miT 84).2.2.1, (miT 84).2.2.2.2.2) := ⟨mok_of rfl q1192 q57 (plainFor_of_name (by decide)) (by decide), rfl⟩
theorem nmo_X3_worth : NmOK (miT 84).1 0 := ⟨by decide, by decide, by decide +kernel⟩
theorem mo_X3_clip : MOK (miT 85) ∧ mlT 85 = ((miT 85).2.2.1, (miT 85).2.2.2.2.2) := ⟨mok_of rfl q1196 q57 (plainFor_of_name (by decide)) (by decide), rfl⟩
theorem nmo_X3_clip : NmOK (miT 85).1 0 := ⟨by decide, by decide, by decide +kernel⟩
theorem mo_X3_cell : MOK (miT 86) ∧ mlT 86 = ((miT 86).2.2.1, (miT 86).2.2.2.2.2) := ⟨mok_of rfl q1199 q57 (plainFor_of_name (by decide)) (by decide), rfl⟩
theorem nmo_X3_cell : NmOK (miT 86).1 3 := ⟨by decide, by decide, by decide +kernel⟩
theorem mo_X3_sheets : MOK (miT 87) ∧ mlT 87 = ((miT 87).2.2.1, (miT 87).2.2.2.2.2) := ⟨mok_of rfl q1203 q57 (plainFor_of_name (by decide)) (by decide), rfl⟩
theorem nmo_X3_sheets : NmOK (miT 87).1 0 := ⟨by decide, by decide, by decide +kernel⟩
theorem mo_X3_clipped : MOK (miT 88) ∧ mlT 88 = ((miT 88).2.2.1, (miT 88).2.2.2.2.2) := ⟨mok_of rfl q1207 q57 (plainFor_of_name (by decide)) (by decide), rfl⟩
theorem nmo_X3_clipped : NmOK (miT 88).1 2 := ⟨by decide, by decide, by decide +kernel⟩
theorem mo_X3_veneer : MOK (miT 89) ∧ mlT 89 = ((miT 89).2.2.1, (miT 89).2.2.2.2.2) := ⟨mok_of rfl q1211 q57 (plainFor_of_name (by decide)) (by decide), rfl⟩
theorem nmo_X3_veneer : NmOK (miT 89).1 5 := ⟨by decide, by decide, by decide +kernel⟩
theorem mo_X3_board : MOK (miT 90) ∧ mlT 90 = ((miT 90).2.2.1, (miT 90).2.2.2.2.2) := ⟨mok_of rfl q1215 q57 (plainFor_of_name (by decide)) (by decide), rfl⟩
theorem nmo_X3_board : NmOK (miT 90).1 3 := ⟨by decide, by decide, by decide +kernel⟩
theorem mo_X3_lays : MOK (miT 91) ∧ mlT 91 = ((miT 91).2.2.1, (miT 91).2.2.2.2.2) := ⟨mok_of rfl q1219 q57 (plainFor_of_name (by decide)) (by decide), rfl⟩
theorem nmo_X3_lays : NmOK (miT 91).1 2 := ⟨by decide, by decide, by decide +kernel⟩
theorem mo_X3_sum : MOK (miT 92) ∧ mlT 92 = ((miT 92).2.2.1, (miT 92).2.2.2.2.2) := ⟨mok_of rfl q1223 q57 (plainFor_of_name (by decide)) (by decide), rfl⟩
theorem nmo_X3_sum : NmOK (miT 92).1 2 := ⟨by decide, by decide, by decide +kernel⟩
theorem mo_X3_warp : MOK (miT 93) ∧ mlT 93 = ((miT 93).2.2.1, (miT 93).2.2.2.2.2) := ⟨mok_of rfl q1227 q57 (plainFor_of_name (by decide)) (by decide), rfl⟩
theorem nmo_X3_warp : NmOK (miT 93).1 2 := ⟨by decide, by decide, by decide +kernel⟩
theorem mo_X3_best : MOK (miT 94) ∧ mlT 94 = ((miT 94).2.2.1, (miT 94).2.2.2.2.2) := ⟨mok_of rfl q1232 q57 (plainFor_of_name (by decide)) (by decide), rfl⟩
theorem nmo_X3_best : NmOK (miT 94).1 3 := ⟨by decide, by decide, by decide +kernel⟩
theorem mo_X3_press : MOK (miT 95) ∧ mlT 95 = ((miT 95).2.2.1, (miT 95).2.2.2.2.2) := ⟨mok_of rfl q1236 q57 (plainFor_of_name (by decide)) (by decide), rfl⟩
theorem nmo_X3_press : NmOK (miT 95).1 4 := ⟨by decide, by decide, by decide +kernel⟩
theorem mo_X3_glue : MOK (miT 96) ∧ mlT 96 = ((miT 96).2.2.1, (miT 96).2.2.2.2.2) := ⟨mok_of rfl q1240 q57 (plainFor_of_name (by decide)) (by decide), rfl⟩
theorem nmo_X3_glue : NmOK (miT 96).1 2 := ⟨by decide, by decide, by decide +kernel⟩
theorem mo_X3_drop : MOK (miT 97) ∧ mlT 97 = ((miT 97).2.2.1, (miT 97).2.2.2.2.2) := ⟨mok_of rfl q1244 q57 (plainFor_of_name (by decide)) (by decide), rfl⟩
theorem nmo_X3_drop : NmOK (miT 97).1 0 := ⟨by decide, by decide, by decide +kernel⟩
theorem mo_X3_plan : MOK (miT 98) ∧ mlT 98 = ((miT 98).2.2.1, (miT 98).2.2.2.2.2) := ⟨mok_of rfl q1248 q57 (plainFor_of_name (by decide)) (by decide), rfl⟩
theorem nmo_X3_plan : NmOK (miT 98).1 1 := ⟨by decide, by decide, by decide +kernel⟩
theorem mo_X3_seek : MOK (miT 99) ∧ mlT 99 = ((miT 99).2.2.1, (miT 99).2.2.2.2.2) := ⟨mok_of rfl q1252 q57 (plainFor_of_name (by decide)) (by decide), rfl⟩
theorem nmo_X3_seek : NmOK (miT 99).1 0 := ⟨by decide, by decide, by decide +kernel⟩
theorem mo_X3_outBy : MOK (miT 100) ∧ mlT 100 = ((miT 100).2.2.1, (miT 100).2.2.2.2.2) := ⟨mok_of rfl q1257 q57 (plainFor_of_name (by decide)) (by decide), rfl⟩
theorem nmo_X3_outBy : NmOK (miT 100).1 2 := ⟨by decide, by decide, by decide +kernel⟩
theorem mo_X3_putIn : MOK (miT 101) ∧ mlT 101 = ((miT 101).2.2.1, (miT 101).2.2.2.2.2) := ⟨mok_of rfl q1261 q57 (plainFor_of_name (by decide)) (by decide), rfl⟩
theorem nmo_X3_putIn : NmOK (miT 101).1 2 := ⟨by decide, by decide, by decide +kernel⟩
theorem mo_X3_many : MOK (miT 102) ∧ mlT 102 = ((miT 102).2.2.1, (miT 102).2.2.2.2.2) := ⟨mok_of rfl q1264 q57 (plainFor_of_name (by decide)) (by decide), rfl⟩
theorem nmo_X3_many : NmOK (miT 102).1 1 := ⟨by decide, by decide, by decide +kernel⟩
theorem mo_X3_lasts : MOK (miT 103) ∧ mlT 103 = ((miT 103).2.2.1, (miT 103).2.2.2.2.2) := ⟨mok_of rfl q1268 q57 (plainFor_of_name (by decide)) (by decide), rfl⟩
theorem nmo_X3_lasts : NmOK (miT 103).1 1 := ⟨by decide, by decide, by decide +kernel⟩
theorem mo_X3_load : MOK (miT 104) ∧ mlT 104 = ((miT 104).2.2.1, (miT 104).2.2.2.2.2) := ⟨mok_of rfl q1272 q57 (plainFor_of_name (by decide)) (by decide), rfl⟩
theorem nmo_X3_load : NmOK (miT 104).1 2 := ⟨by decide, by decide, by decide +kernel⟩
theorem mo_X3_about : MOK (miT 105) ∧ mlT 105 = ((miT 105).2.2.1, (miT 105).2.2.2.2.2) := ⟨mok_of rfl q1276 q57 (plainFor_of_name (by decide)) (by decide), rfl⟩
theorem nmo_X3_about : NmOK (miT 105).1 1 := ⟨by decide, by decide, by decide +kernel⟩
theorem mo_X4_init : MOK (miT 106) ∧ mlT 106 = ((miT 106).2.2.1, (miT 106).2.2.2.2.2) := ⟨mok_of rfl q125 q58 (plainFor_of_name (by decide)) (by decide), rfl⟩
theorem nmo_X4_init : NmOK (miT 106).1 2 := ⟨by decide, by decide, by decide +kernel⟩
theorem mo_X4_read : MOK (miT 107) ∧ mlT 107 = ((miT 107).2.2.1, (miT 107).2.2.2.2.2) := ⟨mok_of rfl q161 q58 (plainFor_of_name (by decide)) (by decide), rfl⟩
theorem nmo_X4_read : NmOK (miT 107).1 0 := ⟨by decide, by decide, by decide +kernel⟩
theorem mo_X4_next : MOK (miT 108) ∧ mlT 108 = ((miT 108).2.2.1, (miT 108).2.2.2.2.2) := ⟨mok_of rfl q194 q58 (plainFor_of_name (by decide)) (by decide), rfl⟩
theorem nmo_X4_next : NmOK (miT 108).1 0 := ⟨by decide, by decide, by decide +kernel⟩
theorem mo_X4_sign : MOK (miT 109) ∧ mlT 109 = ((miT 109).2.2.1, (miT 109).2.2.2.2.2) := ⟨mok_of rfl q198 q58 (plainFor_of_name (by decide)) (by decide), rfl⟩
theorem nmo_X4_sign : NmOK (miT 109).1 1 := ⟨by decide, by decide, by decide +kernel⟩
theorem mo_X4_isLetter : MOK (miT 110) ∧ mlT 110 = ((miT 110).2.2.1, (miT 110).2.2.2.2.2) := ⟨mok_of rfl q201 q58 (plainFor_of_name (by decide)) (by decide), rfl⟩
theorem nmo_X4_isLetter : NmOK (miT 110).1 1 := ⟨by decide, by decide, by decide +kernel⟩
theorem mo_X4_isDigit : MOK (miT 111) ∧ mlT 111 = ((miT 111).2.2.1, (miT 111).2.2.2.2.2) := ⟨mok_of rfl q268 q58 (plainFor_of_name (by decide)) (by decide), rfl⟩
theorem nmo_X4_isDigit : NmOK (miT 111).1 1 := ⟨by decide, by decide, by decide +kernel⟩
theorem mo_X4_isWord : MOK (miT 112) ∧ mlT 112 = ((miT 112).2.2.1, (miT 112).2.2.2.2.2) := ⟨mok_of rfl q360 q58 (plainFor_of_name (by decide)) (by decide), rfl⟩
theorem nmo_X4_isWord : NmOK (miT 112).1 1 := ⟨by decide, by decide, by decide +kernel⟩
theorem mo_X4_wrong : MOK (miT 113) ∧ mlT 113 = ((miT 113).2.2.1, (miT 113).2.2.2.2.2) := ⟨mok_of rfl q385 q58 (plainFor_of_name (by decide)) (by decide), rfl⟩
theorem nmo_X4_wrong : NmOK (miT 113).1 0 := ⟨by decide, by decide, by decide +kernel⟩
theorem mo_X4_number : MOK (miT 114) ∧ mlT 114 = ((miT 114).2.2.1, (miT 114).2.2.2.2.2) := ⟨mok_of rfl q389 q58 (plainFor_of_name (by decide)) (by decide), rfl⟩
theorem nmo_X4_number : NmOK (miT 114).1 2 := ⟨by decide, by decide, by decide +kernel⟩
theorem mo_X4_mustWord : MOK (miT 115) ∧ mlT 115 = ((miT 115).2.2.1, (miT 115).2.2.2.2.2) := ⟨mok_of rfl q394 q58 (plainFor_of_name (by decide)) (by decide), rfl⟩
theorem nmo_X4_mustWord : NmOK (miT 115).1 1 := ⟨by decide, by decide, by decide +kernel⟩
theorem mo_X4_e : MOK (miT 116) ∧ mlT 116 = ((miT 116).2.2.1, (miT 116).2.2.2.2.2) := ⟨mok_of rfl q399 q58 (plainFor_of_name (by decide)) (by decide), rfl⟩
theorem nmo_X4_e : NmOK (miT 116).1 0 := ⟨by decide, by decide, by decide +kernel⟩
theorem mo_X4_both : MOK (miT 117) ∧ mlT 117 = ((miT 117).2.2.1, (miT 117).2.2.2.2.2) := ⟨mok_of rfl q403 q58 (plainFor_of_name (by decide)) (by decide), rfl⟩
theorem nmo_X4_both : NmOK (miT 117).1 0 := ⟨by decide, by decide, by decide +kernel⟩
theorem mo_X4_one : MOK (miT 118) ∧ mlT 118 = ((miT 118).2.2.1, (miT 118).2.2.2.2.2) := ⟨mok_of rfl q407 q58 (plainFor_of_name (by decide)) (by decide), rfl⟩
theorem nmo_X4_one : NmOK (miT 118).1 0 := ⟨by decide, by decide, by decide +kernel⟩
theorem mo_X4_goIn : MOK (miT 119) ∧ mlT 119 = ((miT 119).2.2.1, (miT 119).2.2.2.2.2) := ⟨mok_of rfl q412 q58 (plainFor_of_name (by decide)) (by decide), rfl⟩
theorem nmo_X4_goIn : NmOK (miT 119).1 0 := ⟨by decide, by decide, by decide +kernel⟩
theorem mo_X4_is : MOK (miT 120) ∧ mlT 120 = ((miT 120).2.2.1, (miT 120).2.2.2.2.2) := ⟨mok_of rfl q430 q58 (plainFor_of_name (by decide)) (by decide), rfl⟩
theorem nmo_X4_is : NmOK (miT 120).1 1 := ⟨by decide, by decide, by decide +kernel⟩
theorem mo_X4_must : MOK (miT 121) ∧ mlT 121 = ((miT 121).2.2.1, (miT 121).2.2.2.2.2) := ⟨mok_of rfl q434 q58 (plainFor_of_name (by decide)) (by decide), rfl⟩
theorem nmo_X4_must : NmOK (miT 121).1 1 := ⟨by decide, by decide, by decide +kernel⟩
theorem mo_X4_sum : MOK (miT 122) ∧ mlT 122 = ((miT 122).2.2.1, (miT 122).2.2.2.2.2) := ⟨mok_of rfl q438 q58 (plainFor_of_name (by decide)) (by decide), rfl⟩
theorem nmo_X4_sum : NmOK (miT 122).1 0 := ⟨by decide, by decide, by decide +kernel⟩
theorem mo_X4_term : MOK (miT 123) ∧ mlT 123 = ((miT 123).2.2.1, (miT 123).2.2.2.2.2) := ⟨mok_of rfl q442 q58 (plainFor_of_name (by decide)) (by decide), rfl⟩
theorem nmo_X4_term : NmOK (miT 123).1 0 := ⟨by decide, by decide, by decide +kernel⟩
theorem mo_X4_countHere : MOK (miT 124) ∧ mlT 124 = ((miT 124).2.2.1, (miT 124).2.2.2.2.2) := ⟨mok_of rfl q446 q58 (plainFor_of_name (by decide)) (by decide), rfl⟩
theorem nmo_X4_countHere : NmOK (miT 124).1 0 := ⟨by decide, by decide, by decide +kernel⟩
theorem mo_X5_init : MOK (miT 125) ∧ mlT 125 = ((miT 125).2.2.1, (miT 125).2.2.2.2.2) := ⟨mok_of rfl q241 q61 (plainFor_of_name (by decide)) (by decide), rfl⟩
theorem nmo_X5_init : NmOK (miT 125).1 2 := ⟨by decide, by decide, by decide +kernel⟩
theorem mo_X6_init : MOK (miT 126) ∧ mlT 126 = ((miT 126).2.2.1, (miT 126).2.2.2.2.2) := ⟨mok_of rfl q420 q68 (plainFor_of_name (by decide)) (by decide), rfl⟩
theorem nmo_X6_init : NmOK (miT 126).1 0 := ⟨by decide, by decide, by decide +kernel⟩
theorem mo_X6_holds : MOK (miT 127) ∧ mlT 127 = ((miT 127).2.2.1, (miT 127).2.2.2.2.2) := ⟨mok_of rfl q573 q68 (plainFor_of_name (by decide)) (by decide), rfl⟩
theorem nmo_X6_holds : NmOK (miT 127).1 1 := ⟨by decide, by decide, by decide +kernel⟩
theorem mo_X7_init : MOK (miT 128) ∧ mlT 128 = ((miT 128).2.2.1, (miT 128).2.2.2.2.2) := ⟨mok_of rfl q417 q69 (plainFor_of_name (by decide)) (by decide), rfl⟩
theorem nmo_X7_init : NmOK (miT 128).1 1 := ⟨by decide, by decide, by decide +kernel⟩
theorem mo_X7_of : MOK (miT 129) ∧ mlT 129 = ((miT 129).2.2.1, (miT 129).2.2.2.2.2) := ⟨mok_of rfl q588 q69 (plainFor_of_name (by decide)) (by decide), rfl⟩
theorem nmo_X7_of : NmOK (miT 129).1 1 := ⟨by decide, by decide, by decide +kernel⟩
theorem mo_X8_init : MOK (miT 130) ∧ mlT 130 = ((miT 130).2.2.1, (miT 130).2.2.2.2.2) := ⟨mok_of rfl q456 q70 (plainFor_of_name (by decide)) (by decide), rfl⟩
theorem nmo_X8_init : NmOK (miT 130).1 1 := ⟨by decide, by decide, by decide +kernel⟩
theorem mo_X8_of : MOK (miT 131) ∧ mlT 131 = ((miT 131).2.2.1, (miT 131).2.2.2.2.2) := ⟨mok_of rfl q592 q70 (plainFor_of_name (by decide)) (by decide), rfl⟩
theorem nmo_X8_of : NmOK (miT 131).1 1 := ⟨by decide, by decide, by decide +kernel⟩
theorem mo_X9_init : MOK (miT 132) ∧ mlT 132 = ((miT 132).2.2.1, (miT 132).2.2.2.2.2) := ⟨mok_of rfl q466 q71 (plainFor_of_name (by decide)) (by decide), rfl⟩
theorem nmo_X9_init : NmOK (miT 132).1 1 := ⟨by decide, by decide, by decide +kernel⟩
theorem mo_X9_of : MOK (miT 133) ∧ mlT 133 = ((miT 133).2.2.1, (miT 133).2.2.2.2.2) := ⟨mok_of rfl q581 q71 (plainFor_of_name (by decide)) (by decide), rfl⟩
theorem nmo_X9_of : NmOK (miT 133).1 1 := ⟨by decide, by decide, by decide +kernel⟩
theorem mo_X10_init : MOK (miT 134) ∧ mlT 134 = ((miT 134).2.2.1, (miT 134).2.2.2.2.2) := ⟨mok_of rfl q479 q72 (plainFor_of_name (by decide)) (by decide), rfl⟩
theorem nmo_X10_init : NmOK (miT 134).1 2 := ⟨by decide, by decide, by decide +kernel⟩
theorem mo_X11_init : MOK (miT 135) ∧ mlT 135 = ((miT 135).2.2.1, (miT 135).2.2.2.2.2) := ⟨mok_of rfl q476 q73 (plainFor_of_name (by decide)) (by decide), rfl⟩
theorem nmo_X11_init : NmOK (miT 135).1 3 := ⟨by decide, by decide, by decide +kernel⟩
theorem mo_X11_of : MOK (miT 136) ∧ mlT 136 = ((miT 136).2.2.1, (miT 136).2.2.2.2.2) := ⟨mok_of rfl q595 q73 (plainFor_of_name (by decide)) (by decide), rfl⟩
theorem nmo_X11_of : NmOK (miT 136).1 1 := ⟨by decide, by decide, by decide +kernel⟩
theorem mo_X12_init : MOK (miT 137) ∧ mlT 137 = ((miT 137).2.2.1, (miT 137).2.2.2.2.2) := ⟨mok_of rfl q507 q74 (plainFor_of_name (by decide)) (by decide), rfl⟩
theorem nmo_X12_init : NmOK (miT 137).1 3 := ⟨by decide, by decide, by decide +kernel⟩
theorem mo_X12_of : MOK (miT 138) ∧ mlT 138 = ((miT 138).2.2.1, (miT 138).2.2.2.2.2) := ⟨mok_of rfl q578 q74 (plainFor_of_name (by decide)) (by decide), rfl⟩
theorem nmo_X12_of : NmOK (miT 138).1 1 := ⟨by decide, by decide, by decide +kernel⟩
theorem mo_X13_init : MOK (miT 139) ∧ mlT 139 = ((miT 139).2.2.1, (miT 139).2.2.2.2.2) := ⟨mok_of rfl q520 q75 (plainFor_of_name (by decide)) (by decide), rfl⟩
theorem nmo_X13_init : NmOK (miT 139).1 3 := ⟨by decide, by decide, by decide +kernel⟩
theorem mo_X13_of : MOK (miT 140) ∧ mlT 140 = ((miT 140).2.2.1, (miT 140).2.2.2.2.2) := ⟨mok_of rfl q584 q75 (plainFor_of_name (by decide)) (by decide), rfl⟩
theorem nmo_X13_of : NmOK (miT 140).1 1 := ⟨by decide, by decide, by decide +kernel⟩
theorem mo_J2_indexOf : MOK (miT 141) ∧ mlT 141 = ((miT 141).2.2.1, (miT 141).2.2.2.2.2) := ⟨mok_of rfl q273 q62 (plainFor_of_name (by decide)) (by decide), rfl⟩
theorem nmo_J2_indexOf : NmOK (miT 141).1 1 := ⟨by decide, by decide, by decide +kernel⟩
theorem mo_J2_indexOf_2 : MOK (miT 142) ∧ mlT 142 = ((miT 142).2.2.1, (miT 142).2.2.2.2.2) := ⟨mok_of rfl q277 q62 (plainFor_of_name (by decide)) (by decide), rfl⟩
theorem nmo_J2_indexOf_2 : NmOK (miT 142).1 2 := ⟨by decide, by decide, by decide +kernel⟩
theorem mo_J2_isLatin1 : MOK (miT 143) ∧ mlT 143 = ((miT 143).2.2.1, (miT 143).2.2.2.2.2) := ⟨mok_of rfl q281 q62 (plainFor_of_name (by decide)) (by decide), rfl⟩
theorem nmo_J2_isLatin1 : NmOK (miT 143).1 0 := ⟨by decide, by decide, by decide +kernel⟩
theorem mo_J2_length : MOK (miT 144) ∧ mlT 144 = ((miT 144).2.2.1, (miT 144).2.2.2.2.2) := ⟨mok_of rfl q287 q62 (plainFor_of_name (by decide)) (by decide), rfl⟩
theorem nmo_J2_length : NmOK (miT 144).1 0 := ⟨by decide, by decide, by decide +kernel⟩
theorem mo_J2_coder : MOK (miT 145) ∧ mlT 145 = ((miT 145).2.2.1, (miT 145).2.2.2.2.2) := ⟨mok_of rfl q291 q62 (plainFor_of_name (by decide)) (by decide), rfl⟩
theorem nmo_J2_coder : NmOK (miT 145).1 0 := ⟨by decide, by decide, by decide +kernel⟩
theorem mo_J2_charAt : MOK (miT 146) ∧ mlT 146 = ((miT 146).2.2.1, (miT 146).2.2.2.2.2) := ⟨mok_of rfl q365 q62 (plainFor_of_name (by decide)) (by decide), rfl⟩
theorem nmo_J2_charAt : NmOK (miT 146).1 1 := ⟨by decide, by decide, by decide +kernel⟩
theorem mo_J2_checkIndex : MOK (miT 147) ∧ mlT 147 = ((miT 147).2.2.1, (miT 147).2.2.2.2.2) := ⟨mok_of rfl q371 q62 (plainFor_of_name (by decide)) (by decide), rfl⟩
theorem nmo_J2_checkIndex : NmOK (miT 147).1 2 := ⟨by decide, by decide, by decide +kernel⟩
theorem mo_J3_indexOf : MOK (miT 148) ∧ mlT 148 = ((miT 148).2.2.1, (miT 148).2.2.2.2.2) := ⟨mok_of rfl q294 q63 (plainFor_of_name (by decide)) (by decide), rfl⟩
theorem nmo_J3_indexOf : NmOK (miT 148).1 4 := ⟨by decide, by decide, by decide +kernel⟩
theorem mo_J3_canEncode : MOK (miT 149) ∧ mlT 149 = ((miT 149).2.2.1, (miT 149).2.2.2.2.2) := ⟨mok_of rfl q297 q63 (plainFor_of_name (by decide)) (by decide), rfl⟩
theorem nmo_J3_canEncode : NmOK (miT 149).1 1 := ⟨by decide, by decide, by decide +kernel⟩
theorem mo_J3_indexOfChar : MOK (miT 150) ∧ mlT 150 = ((miT 150).2.2.1, (miT 150).2.2.2.2.2) := ⟨mok_of rfl q306 q63 (plainFor_of_name (by decide)) (by decide), rfl⟩
theorem nmo_J3_indexOfChar : NmOK (miT 150).1 4 := ⟨by decide, by decide, by decide +kernel⟩
theorem mo_J3_charAt : MOK (miT 151) ∧ mlT 151 = ((miT 151).2.2.1, (miT 151).2.2.2.2.2) := ⟨mok_of rfl q368 q63 (plainFor_of_name (by decide)) (by decide), rfl⟩
theorem nmo_J3_charAt : NmOK (miT 151).1 2 := ⟨by decide, by decide, by decide +kernel⟩
theorem mo_J4_max : MOK (miT 152) ∧ mlT 152 = ((miT 152).2.2.1, (miT 152).2.2.2.2.2) := ⟨mok_of rfl q300 q64 (by decide +kernel) (by decide), rfl⟩
theorem nmo_J4_max : NmOK (miT 152).1 2 := ⟨by decide, by decide, by decide +kernel⟩
theorem mo_J4_min : MOK (miT 153) ∧ mlT 153 = ((miT 153).2.2.1, (miT 153).2.2.2.2.2) := ⟨mok_of rfl q303 q64 (by decide +kernel) (by decide), rfl⟩
theorem nmo_J4_min : NmOK (miT 153).1 2 := ⟨by decide, by decide, by decide +kernel⟩
theorem mo_J6_checkIndex : MOK (miT 154) ∧ mlT 154 = ((miT 154).2.2.1, (miT 154).2.2.2.2.2) := ⟨mok_of rfl q374 q66 (plainFor_of_name (by decide)) (by decide), rfl⟩
theorem nmo_J6_checkIndex : NmOK (miT 154).1 3 := ⟨by decide, by decide, by decide +kernel⟩
theorem mo_J8_numberOfTrailingZeros : MOK (miT 155) ∧ mlT 155 = ((miT 155).2.2.1, (miT 155).2.2.2.2.2) := ⟨mok_of rfl q831 q77 (plainFor_of_name (by decide)) (by decide), rfl⟩
theorem nmo_J8_numberOfTrailingZeros : NmOK (miT 155).1 1 := ⟨by decide, by decide, by decide +kernel⟩
theorem mo_J8_bitCount : MOK (miT 156) ∧ mlT 156 = ((miT 156).2.2.1, (miT 156).2.2.2.2.2) := ⟨mok_of rfl q835 q77 (plainFor_of_name (by decide)) (by decide), rfl⟩
theorem nmo_J8_bitCount : NmOK (miT 156).1 1 := ⟨by decide, by decide, by decide +kernel⟩
theorem of_rcv : ∀ (as : List Value) (m : PMem) (y : Nat), d_of as m = some y → ∃ a as' c r, as = .ref a :: as' ∧ gK m a = (0, c) ∧ clX[c]? = some r ∧ ((MOK (miT y) ∧ mlT y = ((miT y).2.2.1, (miT y).2.2.2.2.2)) ∧ Cond.instanceMethod (miT y).1 ∈ lw_all ∧ Cond.selects r.1 ⟨"PlyHouse$Values", "of", "(LPlyHouse$Part;)I"⟩ (miT y).1 ∈ lw_all) := by
  intro as m y hk
  unfold d_of at hk
  split at hk
  · rename_i a as'
    split at hk
    · rename_i h0
      have hg : ∀ c, (gK m a).2 = c → gK m a = (0, c) := fun c hc => by rw [← h0, ← hc]
      unfold d_ofn at hk
      split at hk
      · rename_i hc
        cases hk
        exact ⟨a, as', 6, (RX7, TX7, 1), rfl, hg _ hc, rfl, mo_X7_of, q587, q586⟩
      · rename_i hc
        cases hk
        exact ⟨a, as', 7, (RX8, TX8, 1), rfl, hg _ hc, rfl, mo_X8_of, q591, q590⟩
      · rename_i hc
        cases hk
        exact ⟨a, as', 8, (RX9, TX9, 1), rfl, hg _ hc, rfl, mo_X9_of, q580, q579⟩
      · rename_i hc
        cases hk
        exact ⟨a, as', 9, (RX11, TX11, 3), rfl, hg _ hc, rfl, mo_X11_of, q594, q593⟩
      · rename_i hc
        cases hk
        exact ⟨a, as', 10, (RX12, TX12, 3), rfl, hg _ hc, rfl, mo_X12_of, q577, q576⟩
      · rename_i hc
        cases hk
        exact ⟨a, as', 11, (RX13, TX13, 3), rfl, hg _ hc, rfl, mo_X13_of, q583, q582⟩
      · cases hk
    · cases hk
  · cases hk
theorem holds_rcv {own : String} {idx : Nat} (hl : Cond.methodLink own idx (miT 127).1 ∈ lw_all) : ∀ (as : List Value) (m : PMem) (y : Nat), d_node 127 as m = some y → ∃ a as' c r, as = .ref a :: as' ∧ gK m a = (0, c) ∧ clX[c]? = some r ∧ ((MOK (miT y) ∧ mlT y = ((miT y).2.2.1, (miT y).2.2.2.2.2)) ∧ NmOK (miT y).1 (2 - 1) ∧ Cond.methodLink own idx (miT y).1 ∈ lw_all ∧ Cond.instanceMethod (miT y).1 ∈ lw_all ∧ Cond.selects r.1 (miT y).1 (miT y).1 ∈ lw_all) := by
  intro as m y hk
  unfold d_node at hk
  split at hk
  · rename_i a as'
    split at hk
    · rename_i h0
      cases hk
      have hg : ∀ c, (gK m a).2 = c → gK m a = (0, c) := fun c hc => by rw [← h0.1, ← hc]
      have hc : (gK m a).2 = 6 ∨ (gK m a).2 = 7 ∨ (gK m a).2 = 8 ∨ (gK m a).2 = 9 ∨ (gK m a).2 = 10 ∨ (gK m a).2 = 11 := by omega
      rcases hc with hc | hc | hc | hc | hc | hc
      · exact ⟨a, as', 6, (RX7, TX7, 1), rfl, hg _ hc, rfl, mo_X6_holds, nmo_X6_holds, hl, q565, q570⟩
      · exact ⟨a, as', 7, (RX8, TX8, 1), rfl, hg _ hc, rfl, mo_X6_holds, nmo_X6_holds, hl, q565, q571⟩
      · exact ⟨a, as', 8, (RX9, TX9, 1), rfl, hg _ hc, rfl, mo_X6_holds, nmo_X6_holds, hl, q565, q568⟩
      · exact ⟨a, as', 9, (RX11, TX11, 3), rfl, hg _ hc, rfl, mo_X6_holds, nmo_X6_holds, hl, q565, q572⟩
      · exact ⟨a, as', 10, (RX12, TX12, 3), rfl, hg _ hc, rfl, mo_X6_holds, nmo_X6_holds, hl, q565, q567⟩
      · exact ⟨a, as', 11, (RX13, TX13, 3), rfl, hg _ hc, rfl, mo_X6_holds, nmo_X6_holds, hl, q565, q569⟩
    · cases hk
  · cases hk
end MOX
