/-! EVERY ENTRY IS SOUND (printed by gen2.py): 97.enZ -/
section ENT
set_option maxRecDepth 100000
variable {S : Nat × (Nat → Int32)}
theorem en_X1_init_0 : SndE EE S mi_X1_init 0 (.inl (e_lda 1 0)) := sn_aload_n dX1_init_0 rfl rfl
theorem en_X1_init_1 : SndE EE S mi_X1_init 1 (.inl (e_oin 4)) := sn_oin dX1_init_1 rfl q167 q127 q128
theorem en_X1_init_4 : SndE EE S mi_X1_init 4 (.inl (e_lda 5 0)) := sn_aload_n dX1_init_4 rfl rfl
theorem en_X1_init_5 : SndE EE S mi_X1_init 5 (.inl (e_psh 7 (.int (8)))) := sn_bipush dX1_init_5 rfl rfl
theorem en_X1_init_7 : SndE EE S mi_X1_init 7 (.inl (e_newa 9 1)) := sn_newa (t0 := 0) dX1_init_7 rfl rfl q190 (by decide) (by decide) (fun _ => rfl) (fun _ _ h => h) (by decide) rfl
theorem en_X1_init_9 : SndE EE S mi_X1_init 9 (.inl (e_pR 12 1 0)) := sn_pR dX1_init_9 rfl cl_1 (by decide) rfl (Or.inl ⟨q170, Or.inr ⟨rfl, rfl, rfl⟩⟩) (Or.inl rfl) (fun _ => ⟨rfl, rfl⟩)
theorem en_X1_init_12 : SndE EE S mi_X1_init 12 (.inl (e_lda 13 0)) := sn_aload_n dX1_init_12 rfl rfl
theorem en_X1_init_13 : SndE EE S mi_X1_init 13 (.inl (e_psh 15 (.int (8)))) := sn_bipush dX1_init_13 rfl rfl
theorem en_X1_init_15 : SndE EE S mi_X1_init 15 (.inl (e_newa 17 1)) := sn_newa (t0 := 0) dX1_init_15 rfl rfl q190 (by decide) (by decide) (fun _ => rfl) (fun _ _ h => h) (by decide) rfl
theorem en_X1_init_17 : SndE EE S mi_X1_init 17 (.inl (e_pR 20 1 1)) := sn_pR dX1_init_17 rfl cl_1 (by decide) rfl (Or.inl ⟨q173, Or.inr ⟨rfl, rfl, rfl⟩⟩) (Or.inl rfl) (fun _ => ⟨rfl, rfl⟩)
theorem en_X1_init_20 : SndE EE S mi_X1_init 20 (.inl (e_lda 21 0)) := sn_aload_n dX1_init_20 rfl rfl
theorem en_X1_init_21 : SndE EE S mi_X1_init 21 (.inl (e_psh 23 (.int (8)))) := sn_bipush dX1_init_21 rfl rfl
theorem en_X1_init_23 : SndE EE S mi_X1_init 23 (.inl (e_newa 26 4)) := sn_anewa dX1_init_23 rfl q168 (fun G s h => h.2.1)
theorem en_X1_init_26 : SndE EE S mi_X1_init 26 (.inl (e_pR 29 1 2)) := sn_pR dX1_init_26 rfl cl_1 (by decide) rfl (Or.inl ⟨q176, Or.inr ⟨rfl, rfl, rfl⟩⟩) (Or.inl rfl) (fun _ => ⟨rfl, rfl⟩)
theorem en_X1_init_29 : SndE EE S mi_X1_init 29 (.inr (.inr 0)) := ⟨dX1_init_29, rfl⟩
theorem sd_X1_init : ∀ pc x, cd_X1_init pc = some x → SndE EE S mi_X1_init pc x := (tN_ok (tN_ok (tN_ok (tL_ok en_X1_init_0) (tN_ok (tL_ok en_X1_init_1) (tL_ok en_X1_init_4))) (tN_ok (tN_ok (tL_ok en_X1_init_5) (tL_ok en_X1_init_7)) (tN_ok (tL_ok en_X1_init_9) (tL_ok en_X1_init_12)))) (tN_ok (tN_ok (tN_ok (tL_ok en_X1_init_13) (tL_ok en_X1_init_15)) (tN_ok (tL_ok en_X1_init_17) (tL_ok en_X1_init_20))) (tN_ok (tN_ok (tL_ok en_X1_init_21) (tL_ok en_X1_init_23)) (tN_ok (tL_ok en_X1_init_26) (tL_ok en_X1_init_29)))))
theorem en_X2_init_0 : SndE EE S mi_X2_init 0 (.inl (e_lda 1 0)) := sn_aload_n dX2_init_0 rfl rfl
theorem en_X2_init_1 : SndE EE S mi_X2_init 1 (.inl (e_oin 4)) := sn_oin dX2_init_1 rfl q628 q127 q128
theorem en_X2_init_4 : SndE EE S mi_X2_init 4 (.inr (.inr 0)) := ⟨dX2_init_4, rfl⟩
theorem sd_X2_init : ∀ pc x, cd_X2_init pc = some x → SndE EE S mi_X2_init pc x := (tN_ok (tL_ok en_X2_init_0) (tN_ok (tL_ok en_X2_init_1) (tL_ok en_X2_init_4)))
theorem en_X5_init_0 : SndE EE S mi_X5_init 0 (.inl (e_lda 1 0)) := sn_aload_n dX5_init_0 rfl rfl
theorem en_X5_init_1 : SndE EE S mi_X5_init 1 (.inl (e_exc 4)) := sn_exc dX5_init_1 rfl q242 (fun G s h => EE_th h)
theorem en_X5_init_4 : SndE EE S mi_X5_init 4 (.inl (e_lda 5 0)) := sn_aload_n dX5_init_4 rfl rfl
theorem en_X5_init_5 : SndE EE S mi_X5_init 5 (.inl (e_ldi 6 1)) := sn_iload_n dX5_init_5 rfl rfl
theorem en_X5_init_6 : SndE EE S mi_X5_init 6 (.inl (e_pI 9 5 0)) := sn_pI dX5_init_6 rfl cl_5 (by decide) rfl (Or.inl ⟨q246, Or.inr ⟨rfl, rfl, rfl⟩⟩) (Or.inl rfl) (fun _ => ⟨rfl, rfl⟩)
theorem en_X5_init_9 : SndE EE S mi_X5_init 9 (.inl (e_lda 10 0)) := sn_aload_n dX5_init_9 rfl rfl
theorem en_X5_init_10 : SndE EE S mi_X5_init 10 (.inl (e_ldi 11 2)) := sn_iload_n dX5_init_10 rfl rfl
theorem en_X5_init_11 : SndE EE S mi_X5_init 11 (.inl (e_pI 14 5 1)) := sn_pI dX5_init_11 rfl cl_5 (by decide) rfl (Or.inl ⟨q248, Or.inr ⟨rfl, rfl, rfl⟩⟩) (Or.inl rfl) (fun _ => ⟨rfl, rfl⟩)
theorem en_X5_init_14 : SndE EE S mi_X5_init 14 (.inr (.inr 0)) := ⟨dX5_init_14, rfl⟩
theorem sd_X5_init : ∀ pc x, cd_X5_init pc = some x → SndE EE S mi_X5_init pc x := (tN_ok (tN_ok (tN_ok (tL_ok en_X5_init_0) (tL_ok en_X5_init_1)) (tN_ok (tL_ok en_X5_init_4) (tL_ok en_X5_init_5))) (tN_ok (tN_ok (tL_ok en_X5_init_6) (tL_ok en_X5_init_9)) (tN_ok (tL_ok en_X5_init_10) (tN_ok (tL_ok en_X5_init_11) (tL_ok en_X5_init_14)))))
theorem en_X6_init_0 : SndE EE S mi_X6_init 0 (.inl (e_lda 1 0)) := sn_aload_n dX6_init_0 rfl rfl
theorem en_X6_init_1 : SndE EE S mi_X6_init 1 (.inl (e_oin 4)) := sn_oin dX6_init_1 rfl q421 q127 q128
theorem en_X6_init_4 : SndE EE S mi_X6_init 4 (.inr (.inr 0)) := ⟨dX6_init_4, rfl⟩
theorem sd_X6_init : ∀ pc x, cd_X6_init pc = some x → SndE EE S mi_X6_init pc x := (tN_ok (tL_ok en_X6_init_0) (tN_ok (tL_ok en_X6_init_1) (tL_ok en_X6_init_4)))
theorem en_X6_holds_0 : SndE EE S mi_X6_holds 0 (.inl (e_lda 1 0)) := sn_aload_n dX6_holds_0 rfl rfl
theorem en_X6_holds_1 : SndE EE S mi_X6_holds 1 (.inl (e_lda 2 1)) := sn_aload_n dX6_holds_1 rfl rfl
theorem en_X6_holds_2 : SndE EE S mi_X6_holds 2 (.inr (.inl (d_of, 2, 3))) := sc_of (x := ⟨"PlyHouse$Node", "of", "(LPlyHouse$Part;)I"⟩) (owner := "PlyHouse$Values") dX6_holds_2 ⟨by decide, by decide, by decide +kernel⟩ (fun G s h => ⟨h.1 _ nwm_nr0, h.1 _ nwm_nr3, va_DeclX (h.1 _ nwm_q575)⟩) (rcv_node of_rcv)
theorem en_X6_holds_5 : SndE EE S mi_X6_holds 5 (.inl (e_zeq 8 12)) := sn_zeq dX6_holds_5 rfl (by decide)
theorem en_X6_holds_8 : SndE EE S mi_X6_holds 8 (.inl (e_psh 9 (.int (1)))) := sn_iconst dX6_holds_8 rfl rfl
theorem en_X6_holds_9 : SndE EE S mi_X6_holds 9 (.inl (e_goto 13)) := sn_goto dX6_holds_9 (by decide)
theorem en_X6_holds_12 : SndE EE S mi_X6_holds 12 (.inl (e_psh 13 (.int (0)))) := sn_iconst dX6_holds_12 rfl rfl
theorem en_X6_holds_13 : SndE EE S mi_X6_holds 13 (.inr (.inr 2)) := ⟨dX6_holds_13, rfl⟩
theorem sd_X6_holds : ∀ pc x, cd_X6_holds pc = some x → SndE EE S mi_X6_holds pc x := (tN_ok (tN_ok (tN_ok (tL_ok en_X6_holds_0) (tL_ok en_X6_holds_1)) (tN_ok (tL_ok en_X6_holds_2) (tL_ok en_X6_holds_5))) (tN_ok (tN_ok (tL_ok en_X6_holds_8) (tL_ok en_X6_holds_9)) (tN_ok (tL_ok en_X6_holds_12) (tL_ok en_X6_holds_13))))
theorem en_X7_init_0 : SndE EE S mi_X7_init 0 (.inl (e_lda 1 0)) := sn_aload_n dX7_init_0 rfl rfl
theorem en_X7_init_1 : SndE EE S mi_X7_init 1 (.inr (.inl (d_cls 6 126, 1, 3))) := sc_initN ctr_cls dX7_init_1 mo_X6_init nmo_X6_init rfl (fun G s h => h.1 _ nwm_q418) q419 q420
theorem en_X7_init_4 : SndE EE S mi_X7_init 4 (.inl (e_lda 5 0)) := sn_aload_n dX7_init_4 rfl rfl
theorem en_X7_init_5 : SndE EE S mi_X7_init 5 (.inl (e_lda 6 1)) := sn_aload_n dX7_init_5 rfl rfl
theorem en_X7_init_6 : SndE EE S mi_X7_init 6 (.inl (e_pR 9 6 0)) := sn_pR dX7_init_6 rfl cl_6 (by decide) rfl (Or.inl ⟨q422, Or.inr ⟨rfl, rfl, rfl⟩⟩) (Or.inl rfl) (fun _ => ⟨rfl, rfl⟩)
theorem en_X7_init_9 : SndE EE S mi_X7_init 9 (.inr (.inr 0)) := ⟨dX7_init_9, rfl⟩
theorem sd_X7_init : ∀ pc x, cd_X7_init pc = some x → SndE EE S mi_X7_init pc x := (tN_ok (tN_ok (tL_ok en_X7_init_0) (tN_ok (tL_ok en_X7_init_1) (tL_ok en_X7_init_4))) (tN_ok (tL_ok en_X7_init_5) (tN_ok (tL_ok en_X7_init_6) (tL_ok en_X7_init_9))))
theorem en_X7_of_0 : SndE EE S mi_X7_of 0 (.inl (e_lda 1 0)) := sn_aload_n dX7_of_0 rfl rfl
theorem en_X7_of_1 : SndE EE S mi_X7_of 1 (.inl (e_gR 4 6 0)) := sn_gR dX7_of_1 rfl cl_6 (by decide) rfl (Or.inl q422) (Or.inl rfl)
theorem en_X7_of_4 : SndE EE S mi_X7_of 4 (.inl (e_lda 5 1)) := sn_aload_n dX7_of_4 rfl rfl
theorem en_X7_of_5 : SndE EE S mi_X7_of 5 (.inr (.inl (d_node 127, 2, 3))) := sc_virt dX7_of_5 (rcv_node (holds_rcv q589))
theorem en_X7_of_8 : SndE EE S mi_X7_of 8 (.inl (e_zeq 11 15)) := sn_zeq dX7_of_8 rfl (by decide)
theorem en_X7_of_11 : SndE EE S mi_X7_of 11 (.inl (e_psh 12 (.int (0)))) := sn_iconst dX7_of_11 rfl rfl
theorem en_X7_of_12 : SndE EE S mi_X7_of 12 (.inl (e_goto 16)) := sn_goto dX7_of_12 (by decide)
theorem en_X7_of_15 : SndE EE S mi_X7_of 15 (.inl (e_psh 16 (.int (1)))) := sn_iconst dX7_of_15 rfl rfl
theorem en_X7_of_16 : SndE EE S mi_X7_of 16 (.inr (.inr 1)) := ⟨dX7_of_16, rfl⟩
theorem sd_X7_of : ∀ pc x, cd_X7_of pc = some x → SndE EE S mi_X7_of pc x := (tN_ok (tN_ok (tN_ok (tL_ok en_X7_of_0) (tL_ok en_X7_of_1)) (tN_ok (tL_ok en_X7_of_4) (tL_ok en_X7_of_5))) (tN_ok (tN_ok (tL_ok en_X7_of_8) (tL_ok en_X7_of_11)) (tN_ok (tL_ok en_X7_of_12) (tN_ok (tL_ok en_X7_of_15) (tL_ok en_X7_of_16)))))
theorem en_X8_init_0 : SndE EE S mi_X8_init 0 (.inl (e_lda 1 0)) := sn_aload_n dX8_init_0 rfl rfl
theorem en_X8_init_1 : SndE EE S mi_X8_init 1 (.inr (.inl (d_cls 7 126, 1, 3))) := sc_initN ctr_cls dX8_init_1 mo_X6_init nmo_X6_init rfl (fun G s h => h.1 _ nwm_q457) q419 q420
theorem en_X8_init_4 : SndE EE S mi_X8_init 4 (.inl (e_lda 5 0)) := sn_aload_n dX8_init_4 rfl rfl
theorem en_X8_init_5 : SndE EE S mi_X8_init 5 (.inl (e_ldi 6 1)) := sn_iload_n dX8_init_5 rfl rfl
theorem en_X8_init_6 : SndE EE S mi_X8_init 6 (.inl (e_pI 9 7 0)) := sn_pI dX8_init_6 rfl cl_7 (by decide) rfl (Or.inl ⟨q458, Or.inr ⟨rfl, rfl, rfl⟩⟩) (Or.inl rfl) (fun _ => ⟨rfl, rfl⟩)
theorem en_X8_init_9 : SndE EE S mi_X8_init 9 (.inr (.inr 0)) := ⟨dX8_init_9, rfl⟩
theorem sd_X8_init : ∀ pc x, cd_X8_init pc = some x → SndE EE S mi_X8_init pc x := (tN_ok (tN_ok (tL_ok en_X8_init_0) (tN_ok (tL_ok en_X8_init_1) (tL_ok en_X8_init_4))) (tN_ok (tL_ok en_X8_init_5) (tN_ok (tL_ok en_X8_init_6) (tL_ok en_X8_init_9))))
theorem en_X8_of_0 : SndE EE S mi_X8_of 0 (.inl (e_lda 1 0)) := sn_aload_n dX8_of_0 rfl rfl
theorem en_X8_of_1 : SndE EE S mi_X8_of 1 (.inl (e_gI 4 7 0)) := sn_gI dX8_of_1 rfl cl_7 (by decide) rfl (Or.inl q458) (Or.inl rfl)
theorem en_X8_of_4 : SndE EE S mi_X8_of 4 (.inr (.inr 1)) := ⟨dX8_of_4, rfl⟩
theorem sd_X8_of : ∀ pc x, cd_X8_of pc = some x → SndE EE S mi_X8_of pc x := (tN_ok (tL_ok en_X8_of_0) (tN_ok (tL_ok en_X8_of_1) (tL_ok en_X8_of_4)))
theorem en_X9_init_0 : SndE EE S mi_X9_init 0 (.inl (e_lda 1 0)) := sn_aload_n dX9_init_0 rfl rfl
theorem en_X9_init_1 : SndE EE S mi_X9_init 1 (.inr (.inl (d_cls 8 126, 1, 3))) := sc_initN ctr_cls dX9_init_1 mo_X6_init nmo_X6_init rfl (fun G s h => h.1 _ nwm_q467) q419 q420
theorem en_X9_init_4 : SndE EE S mi_X9_init 4 (.inl (e_lda 5 0)) := sn_aload_n dX9_init_4 rfl rfl
theorem en_X9_init_5 : SndE EE S mi_X9_init 5 (.inl (e_ldi 6 1)) := sn_iload_n dX9_init_5 rfl rfl
theorem en_X9_init_6 : SndE EE S mi_X9_init 6 (.inl (e_pI 9 8 0)) := sn_pI dX9_init_6 rfl cl_8 (by decide) rfl (Or.inl ⟨q468, Or.inr ⟨rfl, rfl, rfl⟩⟩) (Or.inl rfl) (fun _ => ⟨rfl, rfl⟩)
theorem en_X9_init_9 : SndE EE S mi_X9_init 9 (.inr (.inr 0)) := ⟨dX9_init_9, rfl⟩
theorem sd_X9_init : ∀ pc x, cd_X9_init pc = some x → SndE EE S mi_X9_init pc x := (tN_ok (tN_ok (tL_ok en_X9_init_0) (tN_ok (tL_ok en_X9_init_1) (tL_ok en_X9_init_4))) (tN_ok (tL_ok en_X9_init_5) (tN_ok (tL_ok en_X9_init_6) (tL_ok en_X9_init_9))))
theorem en_X9_of_0 : SndE EE S mi_X9_of 0 (.inl (e_lda 1 0)) := sn_aload_n dX9_of_0 rfl rfl
theorem en_X9_of_1 : SndE EE S mi_X9_of 1 (.inl (e_gI 4 8 0)) := sn_gI dX9_of_1 rfl cl_8 (by decide) rfl (Or.inl q468) (Or.inl rfl)
theorem en_X9_of_4 : SndE EE S mi_X9_of 4 (.inl (e_tsw (fun x => if x = 0 then 36 else if x = 1 then 41 else if x = 2 then 46 else if x = 3 then 51 else 56))) := sn_tsw (lo := 0) (ts := [36, 41, 46, 51]) (df := 56) dX9_of_4 rfl (by decide) (by decide) (by decide) (by decide) (by decide)
theorem en_X9_of_36 : SndE EE S mi_X9_of 36 (.inl (e_lda 37 1)) := sn_aload_n dX9_of_36 rfl rfl
theorem en_X9_of_37 : SndE EE S mi_X9_of 37 (.inl (e_gI 40 2 0)) := sn_gI dX9_of_37 rfl cl_2 (by decide) rfl (Or.inr ⟨_, fun G s h => h.1 _ nwm_q629⟩) (Or.inl rfl)
theorem en_X9_of_40 : SndE EE S mi_X9_of 40 (.inr (.inr 1)) := ⟨dX9_of_40, rfl⟩
theorem en_X9_of_41 : SndE EE S mi_X9_of 41 (.inl (e_lda 42 1)) := sn_aload_n dX9_of_41 rfl rfl
theorem en_X9_of_42 : SndE EE S mi_X9_of 42 (.inl (e_gI 45 2 1)) := sn_gI dX9_of_42 rfl cl_2 (by decide) rfl (Or.inr ⟨_, fun G s h => h.1 _ nwm_q631⟩) (Or.inl rfl)
theorem en_X9_of_45 : SndE EE S mi_X9_of 45 (.inr (.inr 1)) := ⟨dX9_of_45, rfl⟩
theorem en_X9_of_46 : SndE EE S mi_X9_of 46 (.inl (e_lda 47 1)) := sn_aload_n dX9_of_46 rfl rfl
theorem en_X9_of_47 : SndE EE S mi_X9_of 47 (.inl (e_gI 50 2 2)) := sn_gI dX9_of_47 rfl cl_2 (by decide) rfl (Or.inr ⟨_, fun G s h => h.1 _ nwm_q633⟩) (Or.inl rfl)
theorem en_X9_of_50 : SndE EE S mi_X9_of 50 (.inr (.inr 1)) := ⟨dX9_of_50, rfl⟩
theorem en_X9_of_51 : SndE EE S mi_X9_of 51 (.inl (e_lda 52 1)) := sn_aload_n dX9_of_51 rfl rfl
theorem en_X9_of_52 : SndE EE S mi_X9_of 52 (.inl (e_gI 55 2 3)) := sn_gI dX9_of_52 rfl cl_2 (by decide) rfl (Or.inr ⟨_, fun G s h => h.1 _ nwm_q635⟩) (Or.inl rfl)
theorem en_X9_of_55 : SndE EE S mi_X9_of 55 (.inr (.inr 1)) := ⟨dX9_of_55, rfl⟩
theorem en_X9_of_56 : SndE EE S mi_X9_of 56 (.inl (e_lda 57 1)) := sn_aload_n dX9_of_56 rfl rfl
theorem en_X9_of_57 : SndE EE S mi_X9_of 57 (.inl (e_gI 60 2 4)) := sn_gI dX9_of_57 rfl cl_2 (by decide) rfl (Or.inr ⟨_, fun G s h => h.1 _ nwm_q637⟩) (Or.inl rfl)
theorem en_X9_of_60 : SndE EE S mi_X9_of 60 (.inr (.inr 1)) := ⟨dX9_of_60, rfl⟩
theorem sd_X9_of : ∀ pc x, cd_X9_of pc = some x → SndE EE S mi_X9_of pc x := (tN_ok (tN_ok (tN_ok (tN_ok (tL_ok en_X9_of_0) (tL_ok en_X9_of_1)) (tN_ok (tL_ok en_X9_of_4) (tL_ok en_X9_of_36))) (tN_ok (tN_ok (tL_ok en_X9_of_37) (tL_ok en_X9_of_40)) (tN_ok (tL_ok en_X9_of_41) (tN_ok (tL_ok en_X9_of_42) (tL_ok en_X9_of_45))))) (tN_ok (tN_ok (tN_ok (tL_ok en_X9_of_46) (tL_ok en_X9_of_47)) (tN_ok (tL_ok en_X9_of_50) (tL_ok en_X9_of_51))) (tN_ok (tN_ok (tL_ok en_X9_of_52) (tL_ok en_X9_of_55)) (tN_ok (tL_ok en_X9_of_56) (tN_ok (tL_ok en_X9_of_57) (tL_ok en_X9_of_60))))))
theorem en_X10_init_0 : SndE EE S mi_X10_init 0 (.inl (e_lda 1 0)) := sn_aload_n dX10_init_0 rfl rfl
theorem en_X10_init_1 : SndE EE S mi_X10_init 1 (.inr (.inl (d_two 126, 1, 3))) := sc_initN ctr_two dX10_init_1 mo_X6_init nmo_X6_init rfl (fun G s h => h.1 _ nwm_q480) q419 q420
theorem en_X10_init_4 : SndE EE S mi_X10_init 4 (.inl (e_lda 5 0)) := sn_aload_n dX10_init_4 rfl rfl
theorem en_X10_init_5 : SndE EE S mi_X10_init 5 (.inl (e_lda 6 1)) := sn_aload_n dX10_init_5 rfl rfl
theorem en_X10_init_6 : SndE EE S mi_X10_init 6 (.inl (e_pT 9 0)) := sn_pT dX10_init_6 rfl (by decide) (Or.inl ⟨q482, Or.inr ⟨rfl, rfl, rfl⟩⟩) (Or.inl ⟨q482, Or.inr ⟨rfl, rfl, rfl⟩⟩) (Or.inl ⟨q482, Or.inr ⟨rfl, rfl, rfl⟩⟩)
theorem en_X10_init_9 : SndE EE S mi_X10_init 9 (.inl (e_lda 10 0)) := sn_aload_n dX10_init_9 rfl rfl
theorem en_X10_init_10 : SndE EE S mi_X10_init 10 (.inl (e_lda 11 2)) := sn_aload_n dX10_init_10 rfl rfl
theorem en_X10_init_11 : SndE EE S mi_X10_init 11 (.inl (e_pT 14 1)) := sn_pT dX10_init_11 rfl (by decide) (Or.inl ⟨q489, Or.inr ⟨rfl, rfl, rfl⟩⟩) (Or.inl ⟨q489, Or.inr ⟨rfl, rfl, rfl⟩⟩) (Or.inl ⟨q489, Or.inr ⟨rfl, rfl, rfl⟩⟩)
theorem en_X10_init_14 : SndE EE S mi_X10_init 14 (.inr (.inr 0)) := ⟨dX10_init_14, rfl⟩
theorem sd_X10_init : ∀ pc x, cd_X10_init pc = some x → SndE EE S mi_X10_init pc x := (tN_ok (tN_ok (tN_ok (tL_ok en_X10_init_0) (tL_ok en_X10_init_1)) (tN_ok (tL_ok en_X10_init_4) (tL_ok en_X10_init_5))) (tN_ok (tN_ok (tL_ok en_X10_init_6) (tL_ok en_X10_init_9)) (tN_ok (tL_ok en_X10_init_10) (tN_ok (tL_ok en_X10_init_11) (tL_ok en_X10_init_14)))))
theorem en_X11_init_0 : SndE EE S mi_X11_init 0 (.inl (e_lda 1 0)) := sn_aload_n dX11_init_0 rfl rfl
theorem en_X11_init_1 : SndE EE S mi_X11_init 1 (.inl (e_lda 2 2)) := sn_aload_n dX11_init_1 rfl rfl
theorem en_X11_init_2 : SndE EE S mi_X11_init 2 (.inl (e_lda 3 3)) := sn_aload_n dX11_init_2 rfl rfl
theorem en_X11_init_3 : SndE EE S mi_X11_init 3 (.inr (.inl (d_cls 9 134, 3, 3))) := sc_init ctr_cls dX11_init_3 mo_X10_init nmo_X10_init rfl q477 q478 q479
theorem en_X11_init_6 : SndE EE S mi_X11_init 6 (.inl (e_lda 7 0)) := sn_aload_n dX11_init_6 rfl rfl
theorem en_X11_init_7 : SndE EE S mi_X11_init 7 (.inl (e_ldi 8 1)) := sn_iload_n dX11_init_7 rfl rfl
theorem en_X11_init_8 : SndE EE S mi_X11_init 8 (.inl (e_pI 11 9 2)) := sn_pI dX11_init_8 rfl cl_9 (by decide) rfl (Or.inl ⟨q481, Or.inr ⟨rfl, rfl, rfl⟩⟩) (Or.inl rfl) (fun _ => ⟨rfl, rfl⟩)
theorem en_X11_init_11 : SndE EE S mi_X11_init 11 (.inr (.inr 0)) := ⟨dX11_init_11, rfl⟩
theorem sd_X11_init : ∀ pc x, cd_X11_init pc = some x → SndE EE S mi_X11_init pc x := (tN_ok (tN_ok (tN_ok (tL_ok en_X11_init_0) (tL_ok en_X11_init_1)) (tN_ok (tL_ok en_X11_init_2) (tL_ok en_X11_init_3))) (tN_ok (tN_ok (tL_ok en_X11_init_6) (tL_ok en_X11_init_7)) (tN_ok (tL_ok en_X11_init_8) (tL_ok en_X11_init_11))))
theorem en_X11_of_0 : SndE EE S mi_X11_of 0 (.inl (e_lda 1 0)) := sn_aload_n dX11_of_0 rfl rfl
theorem en_X11_of_1 : SndE EE S mi_X11_of 1 (.inl (e_gR 4 9 0)) := sn_gR dX11_of_1 rfl cl_9 (by decide) rfl (Or.inl q485) (Or.inr q486)
theorem en_X11_of_4 : SndE EE S mi_X11_of 4 (.inl (e_lda 5 1)) := sn_aload_n dX11_of_4 rfl rfl
theorem en_X11_of_5 : SndE EE S mi_X11_of 5 (.inr (.inl (d_of, 2, 3))) := sc_of (x := ⟨"PlyHouse$Node", "of", "(LPlyHouse$Part;)I"⟩) (owner := "PlyHouse$Values") dX11_of_5 ⟨by decide, by decide, by decide +kernel⟩ (fun G s h => ⟨h.1 _ nwm_nr2, h.1 _ nwm_nr3, va_DeclX (h.1 _ nwm_q575)⟩) (rcv_node of_rcv)
theorem en_X11_of_8 : SndE EE S mi_X11_of 8 (.inl (e_lda 9 0)) := sn_aload_n dX11_of_8 rfl rfl
theorem en_X11_of_9 : SndE EE S mi_X11_of 9 (.inl (e_gI 12 9 2)) := sn_gI dX11_of_9 rfl cl_9 (by decide) rfl (Or.inl q481) (Or.inl rfl)
theorem en_X11_of_12 : SndE EE S mi_X11_of 12 (.inl (e_lda 13 0)) := sn_aload_n dX11_of_12 rfl rfl
theorem en_X11_of_13 : SndE EE S mi_X11_of 13 (.inl (e_gR 16 9 1)) := sn_gR dX11_of_13 rfl cl_9 (by decide) rfl (Or.inl q492) (Or.inr q493)
theorem en_X11_of_16 : SndE EE S mi_X11_of 16 (.inl (e_lda 17 1)) := sn_aload_n dX11_of_16 rfl rfl
theorem en_X11_of_17 : SndE EE S mi_X11_of 17 (.inr (.inl (d_of, 2, 3))) := sc_of (x := ⟨"PlyHouse$Node", "of", "(LPlyHouse$Part;)I"⟩) (owner := "PlyHouse$Values") dX11_of_17 ⟨by decide, by decide, by decide +kernel⟩ (fun G s h => ⟨h.1 _ nwm_nr2, h.1 _ nwm_nr3, va_DeclX (h.1 _ nwm_q575)⟩) (rcv_node of_rcv)
theorem en_X11_of_20 : SndE EE S mi_X11_of 20 (.inl (e_bin 21 (fun x y => x * y))) := sn_imul dX11_of_20 rfl
theorem en_X11_of_21 : SndE EE S mi_X11_of 21 (.inl (e_bin 22 (fun x y => x + y))) := sn_iadd dX11_of_21 rfl
theorem en_X11_of_22 : SndE EE S mi_X11_of 22 (.inr (.inr 1)) := ⟨dX11_of_22, rfl⟩
theorem sd_X11_of : ∀ pc x, cd_X11_of pc = some x → SndE EE S mi_X11_of pc x := (tN_ok (tN_ok (tN_ok (tL_ok en_X11_of_0) (tN_ok (tL_ok en_X11_of_1) (tL_ok en_X11_of_4))) (tN_ok (tL_ok en_X11_of_5) (tN_ok (tL_ok en_X11_of_8) (tL_ok en_X11_of_9)))) (tN_ok (tN_ok (tL_ok en_X11_of_12) (tN_ok (tL_ok en_X11_of_13) (tL_ok en_X11_of_16))) (tN_ok (tN_ok (tL_ok en_X11_of_17) (tL_ok en_X11_of_20)) (tN_ok (tL_ok en_X11_of_21) (tL_ok en_X11_of_22)))))
theorem en_X12_init_0 : SndE EE S mi_X12_init 0 (.inl (e_lda 1 0)) := sn_aload_n dX12_init_0 rfl rfl
theorem en_X12_init_1 : SndE EE S mi_X12_init 1 (.inl (e_lda 2 2)) := sn_aload_n dX12_init_1 rfl rfl
theorem en_X12_init_2 : SndE EE S mi_X12_init 2 (.inl (e_lda 3 3)) := sn_aload_n dX12_init_2 rfl rfl
theorem en_X12_init_3 : SndE EE S mi_X12_init 3 (.inr (.inl (d_cls 10 134, 3, 3))) := sc_init ctr_cls dX12_init_3 mo_X10_init nmo_X10_init rfl q508 q478 q479
theorem en_X12_init_6 : SndE EE S mi_X12_init 6 (.inl (e_lda 7 0)) := sn_aload_n dX12_init_6 rfl rfl
theorem en_X12_init_7 : SndE EE S mi_X12_init 7 (.inl (e_ldi 8 1)) := sn_iload_n dX12_init_7 rfl rfl
theorem en_X12_init_8 : SndE EE S mi_X12_init 8 (.inl (e_pI 11 10 2)) := sn_pI dX12_init_8 rfl cl_10 (by decide) rfl (Or.inl ⟨q509, Or.inr ⟨rfl, rfl, rfl⟩⟩) (Or.inl rfl) (fun _ => ⟨rfl, rfl⟩)
theorem en_X12_init_11 : SndE EE S mi_X12_init 11 (.inr (.inr 0)) := ⟨dX12_init_11, rfl⟩
theorem sd_X12_init : ∀ pc x, cd_X12_init pc = some x → SndE EE S mi_X12_init pc x := (tN_ok (tN_ok (tN_ok (tL_ok en_X12_init_0) (tL_ok en_X12_init_1)) (tN_ok (tL_ok en_X12_init_2) (tL_ok en_X12_init_3))) (tN_ok (tN_ok (tL_ok en_X12_init_6) (tL_ok en_X12_init_7)) (tN_ok (tL_ok en_X12_init_8) (tL_ok en_X12_init_11))))
theorem en_X12_of_0 : SndE EE S mi_X12_of 0 (.inl (e_lda 1 0)) := sn_aload_n dX12_of_0 rfl rfl
theorem en_X12_of_1 : SndE EE S mi_X12_of 1 (.inl (e_gR 4 10 0)) := sn_gR dX12_of_1 rfl cl_10 (by decide) rfl (Or.inl q483) (Or.inr q484)
theorem en_X12_of_4 : SndE EE S mi_X12_of 4 (.inl (e_lda 5 1)) := sn_aload_n dX12_of_4 rfl rfl
theorem en_X12_of_5 : SndE EE S mi_X12_of 5 (.inr (.inl (d_of, 2, 3))) := sc_of (x := ⟨"PlyHouse$Node", "of", "(LPlyHouse$Part;)I"⟩) (owner := "PlyHouse$Values") dX12_of_5 ⟨by decide, by decide, by decide +kernel⟩ (fun G s h => ⟨h.1 _ nwm_nr1, h.1 _ nwm_nr3, va_DeclX (h.1 _ nwm_q575)⟩) (rcv_node of_rcv)
theorem en_X12_of_8 : SndE EE S mi_X12_of 8 (.inl (e_sti 9 2)) := sn_istore_n dX12_of_8 rfl rfl rfl (by decide)
theorem en_X12_of_9 : SndE EE S mi_X12_of 9 (.inl (e_lda 10 0)) := sn_aload_n dX12_of_9 rfl rfl
theorem en_X12_of_10 : SndE EE S mi_X12_of 10 (.inl (e_gR 13 10 1)) := sn_gR dX12_of_10 rfl cl_10 (by decide) rfl (Or.inl q490) (Or.inr q491)
theorem en_X12_of_13 : SndE EE S mi_X12_of 13 (.inl (e_lda 14 1)) := sn_aload_n dX12_of_13 rfl rfl
theorem en_X12_of_14 : SndE EE S mi_X12_of 14 (.inr (.inl (d_of, 2, 3))) := sc_of (x := ⟨"PlyHouse$Node", "of", "(LPlyHouse$Part;)I"⟩) (owner := "PlyHouse$Values") dX12_of_14 ⟨by decide, by decide, by decide +kernel⟩ (fun G s h => ⟨h.1 _ nwm_nr1, h.1 _ nwm_nr3, va_DeclX (h.1 _ nwm_q575)⟩) (rcv_node of_rcv)
theorem en_X12_of_17 : SndE EE S mi_X12_of 17 (.inl (e_sti 18 3)) := sn_istore_n dX12_of_17 rfl rfl rfl (by decide)
theorem en_X12_of_18 : SndE EE S mi_X12_of 18 (.inl (e_lda 19 0)) := sn_aload_n dX12_of_18 rfl rfl
theorem en_X12_of_19 : SndE EE S mi_X12_of 19 (.inl (e_gI 22 10 2)) := sn_gI dX12_of_19 rfl cl_10 (by decide) rfl (Or.inl q509) (Or.inl rfl)
theorem en_X12_of_22 : SndE EE S mi_X12_of 22 (.inl (e_psh 24 (.int (60)))) := sn_bipush dX12_of_22 rfl rfl
theorem en_X12_of_24 : SndE EE S mi_X12_of 24 (.inl (e_ine 27 35)) := sn_ine dX12_of_24 rfl (by decide)
theorem en_X12_of_27 : SndE EE S mi_X12_of 27 (.inl (e_ldi 28 2)) := sn_iload_n dX12_of_27 rfl rfl
theorem en_X12_of_28 : SndE EE S mi_X12_of 28 (.inl (e_ldi 29 3)) := sn_iload_n dX12_of_28 rfl rfl
theorem en_X12_of_29 : SndE EE S mi_X12_of 29 (.inl (e_ige 32 61)) := sn_ige dX12_of_29 rfl (by decide)
theorem en_X12_of_32 : SndE EE S mi_X12_of 32 (.inl (e_goto 57)) := sn_goto dX12_of_32 (by decide)
theorem en_X12_of_35 : SndE EE S mi_X12_of 35 (.inl (e_lda 36 0)) := sn_aload_n dX12_of_35 rfl rfl
theorem en_X12_of_36 : SndE EE S mi_X12_of 36 (.inl (e_gI 39 10 2)) := sn_gI dX12_of_36 rfl cl_10 (by decide) rfl (Or.inl q509) (Or.inl rfl)
theorem en_X12_of_39 : SndE EE S mi_X12_of 39 (.inl (e_psh 41 (.int (62)))) := sn_bipush dX12_of_39 rfl rfl
theorem en_X12_of_41 : SndE EE S mi_X12_of 41 (.inl (e_ine 44 52)) := sn_ine dX12_of_41 rfl (by decide)
theorem en_X12_of_44 : SndE EE S mi_X12_of 44 (.inl (e_ldi 45 2)) := sn_iload_n dX12_of_44 rfl rfl
theorem en_X12_of_45 : SndE EE S mi_X12_of 45 (.inl (e_ldi 46 3)) := sn_iload_n dX12_of_45 rfl rfl
theorem en_X12_of_46 : SndE EE S mi_X12_of 46 (.inl (e_ile 49 61)) := sn_ile dX12_of_46 rfl (by decide)
theorem en_X12_of_49 : SndE EE S mi_X12_of 49 (.inl (e_goto 57)) := sn_goto dX12_of_49 (by decide)
theorem en_X12_of_52 : SndE EE S mi_X12_of 52 (.inl (e_ldi 53 2)) := sn_iload_n dX12_of_52 rfl rfl
theorem en_X12_of_53 : SndE EE S mi_X12_of 53 (.inl (e_ldi 54 3)) := sn_iload_n dX12_of_53 rfl rfl
theorem en_X12_of_54 : SndE EE S mi_X12_of 54 (.inl (e_ine 57 61)) := sn_ine dX12_of_54 rfl (by decide)
theorem en_X12_of_57 : SndE EE S mi_X12_of 57 (.inl (e_psh 58 (.int (1)))) := sn_iconst dX12_of_57 rfl rfl
theorem en_X12_of_58 : SndE EE S mi_X12_of 58 (.inl (e_goto 62)) := sn_goto dX12_of_58 (by decide)
theorem en_X12_of_61 : SndE EE S mi_X12_of 61 (.inl (e_psh 62 (.int (0)))) := sn_iconst dX12_of_61 rfl rfl
theorem en_X12_of_62 : SndE EE S mi_X12_of 62 (.inr (.inr 1)) := ⟨dX12_of_62, rfl⟩
theorem sd_X12_of : ∀ pc x, cd_X12_of pc = some x → SndE EE S mi_X12_of pc x := (tN_ok (tN_ok (tN_ok (tN_ok (tN_ok (tL_ok en_X12_of_0) (tL_ok en_X12_of_1)) (tN_ok (tL_ok en_X12_of_4) (tL_ok en_X12_of_5))) (tN_ok (tN_ok (tL_ok en_X12_of_8) (tL_ok en_X12_of_9)) (tN_ok (tL_ok en_X12_of_10) (tL_ok en_X12_of_13)))) (tN_ok (tN_ok (tN_ok (tL_ok en_X12_of_14) (tL_ok en_X12_of_17)) (tN_ok (tL_ok en_X12_of_18) (tL_ok en_X12_of_19))) (tN_ok (tN_ok (tL_ok en_X12_of_22) (tL_ok en_X12_of_24)) (tN_ok (tL_ok en_X12_of_27) (tL_ok en_X12_of_28))))) (tN_ok (tN_ok (tN_ok (tN_ok (tL_ok en_X12_of_29) (tL_ok en_X12_of_32)) (tN_ok (tL_ok en_X12_of_35) (tL_ok en_X12_of_36))) (tN_ok (tN_ok (tL_ok en_X12_of_39) (tL_ok en_X12_of_41)) (tN_ok (tL_ok en_X12_of_44) (tL_ok en_X12_of_45)))) (tN_ok (tN_ok (tN_ok (tL_ok en_X12_of_46) (tL_ok en_X12_of_49)) (tN_ok (tL_ok en_X12_of_52) (tL_ok en_X12_of_53))) (tN_ok (tN_ok (tL_ok en_X12_of_54) (tL_ok en_X12_of_57)) (tN_ok (tL_ok en_X12_of_58) (tN_ok (tL_ok en_X12_of_61) (tL_ok en_X12_of_62)))))))
theorem en_X13_init_0 : SndE EE S mi_X13_init 0 (.inl (e_lda 1 0)) := sn_aload_n dX13_init_0 rfl rfl
theorem en_X13_init_1 : SndE EE S mi_X13_init 1 (.inl (e_lda 2 2)) := sn_aload_n dX13_init_1 rfl rfl
theorem en_X13_init_2 : SndE EE S mi_X13_init 2 (.inl (e_lda 3 3)) := sn_aload_n dX13_init_2 rfl rfl
theorem en_X13_init_3 : SndE EE S mi_X13_init 3 (.inr (.inl (d_cls 11 134, 3, 3))) := sc_init ctr_cls dX13_init_3 mo_X10_init nmo_X10_init rfl q521 q478 q479
theorem en_X13_init_6 : SndE EE S mi_X13_init 6 (.inl (e_lda 7 0)) := sn_aload_n dX13_init_6 rfl rfl
theorem en_X13_init_7 : SndE EE S mi_X13_init 7 (.inl (e_ldi 8 1)) := sn_iload_n dX13_init_7 rfl rfl
theorem en_X13_init_8 : SndE EE S mi_X13_init 8 (.inl (e_pZ 11 11 2)) := sn_pZ dX13_init_8 rfl cl_11 (by decide) rfl (Or.inl ⟨q522, Or.inr ⟨rfl, rfl, rfl⟩⟩) (Or.inl rfl) rfl
theorem en_X13_init_11 : SndE EE S mi_X13_init 11 (.inr (.inr 0)) := ⟨dX13_init_11, rfl⟩
theorem sd_X13_init : ∀ pc x, cd_X13_init pc = some x → SndE EE S mi_X13_init pc x := (tN_ok (tN_ok (tN_ok (tL_ok en_X13_init_0) (tL_ok en_X13_init_1)) (tN_ok (tL_ok en_X13_init_2) (tL_ok en_X13_init_3))) (tN_ok (tN_ok (tL_ok en_X13_init_6) (tL_ok en_X13_init_7)) (tN_ok (tL_ok en_X13_init_8) (tL_ok en_X13_init_11))))
theorem en_X13_of_0 : SndE EE S mi_X13_of 0 (.inl (e_lda 1 0)) := sn_aload_n dX13_of_0 rfl rfl
theorem en_X13_of_1 : SndE EE S mi_X13_of 1 (.inl (e_gI 4 11 2)) := sn_gI dX13_of_1 rfl cl_11 (by decide) rfl (Or.inl q522) (Or.inl rfl)
theorem en_X13_of_4 : SndE EE S mi_X13_of 4 (.inl (e_zeq 7 32)) := sn_zeq dX13_of_4 rfl (by decide)
theorem en_X13_of_7 : SndE EE S mi_X13_of 7 (.inl (e_lda 8 0)) := sn_aload_n dX13_of_7 rfl rfl
theorem en_X13_of_8 : SndE EE S mi_X13_of 8 (.inl (e_gR 11 11 0)) := sn_gR dX13_of_8 rfl cl_11 (by decide) rfl (Or.inl q487) (Or.inr q488)
theorem en_X13_of_11 : SndE EE S mi_X13_of 11 (.inl (e_lda 12 1)) := sn_aload_n dX13_of_11 rfl rfl
theorem en_X13_of_12 : SndE EE S mi_X13_of 12 (.inr (.inl (d_node 127, 2, 3))) := sc_virt dX13_of_12 (rcv_node (holds_rcv q585))
theorem en_X13_of_15 : SndE EE S mi_X13_of 15 (.inl (e_zeq 18 58)) := sn_zeq dX13_of_15 rfl (by decide)
theorem en_X13_of_18 : SndE EE S mi_X13_of 18 (.inl (e_lda 19 0)) := sn_aload_n dX13_of_18 rfl rfl
theorem en_X13_of_19 : SndE EE S mi_X13_of 19 (.inl (e_gR 22 11 1)) := sn_gR dX13_of_19 rfl cl_11 (by decide) rfl (Or.inl q494) (Or.inr q495)
theorem en_X13_of_22 : SndE EE S mi_X13_of 22 (.inl (e_lda 23 1)) := sn_aload_n dX13_of_22 rfl rfl
theorem en_X13_of_23 : SndE EE S mi_X13_of 23 (.inr (.inl (d_node 127, 2, 3))) := sc_virt dX13_of_23 (rcv_node (holds_rcv q585))
theorem en_X13_of_26 : SndE EE S mi_X13_of 26 (.inl (e_zeq 29 58)) := sn_zeq dX13_of_26 rfl (by decide)
theorem en_X13_of_29 : SndE EE S mi_X13_of 29 (.inl (e_goto 54)) := sn_goto dX13_of_29 (by decide)
theorem en_X13_of_32 : SndE EE S mi_X13_of 32 (.inl (e_lda 33 0)) := sn_aload_n dX13_of_32 rfl rfl
theorem en_X13_of_33 : SndE EE S mi_X13_of 33 (.inl (e_gR 36 11 0)) := sn_gR dX13_of_33 rfl cl_11 (by decide) rfl (Or.inl q487) (Or.inr q488)
theorem en_X13_of_36 : SndE EE S mi_X13_of 36 (.inl (e_lda 37 1)) := sn_aload_n dX13_of_36 rfl rfl
theorem en_X13_of_37 : SndE EE S mi_X13_of 37 (.inr (.inl (d_node 127, 2, 3))) := sc_virt dX13_of_37 (rcv_node (holds_rcv q585))
theorem en_X13_of_40 : SndE EE S mi_X13_of 40 (.inl (e_zne 43 54)) := sn_zne dX13_of_40 rfl (by decide)
theorem en_X13_of_43 : SndE EE S mi_X13_of 43 (.inl (e_lda 44 0)) := sn_aload_n dX13_of_43 rfl rfl
theorem en_X13_of_44 : SndE EE S mi_X13_of 44 (.inl (e_gR 47 11 1)) := sn_gR dX13_of_44 rfl cl_11 (by decide) rfl (Or.inl q494) (Or.inr q495)
theorem en_X13_of_47 : SndE EE S mi_X13_of 47 (.inl (e_lda 48 1)) := sn_aload_n dX13_of_47 rfl rfl
theorem en_X13_of_48 : SndE EE S mi_X13_of 48 (.inr (.inl (d_node 127, 2, 3))) := sc_virt dX13_of_48 (rcv_node (holds_rcv q585))
theorem en_X13_of_51 : SndE EE S mi_X13_of 51 (.inl (e_zeq 54 58)) := sn_zeq dX13_of_51 rfl (by decide)
theorem en_X13_of_54 : SndE EE S mi_X13_of 54 (.inl (e_psh 55 (.int (1)))) := sn_iconst dX13_of_54 rfl rfl
theorem en_X13_of_55 : SndE EE S mi_X13_of 55 (.inl (e_goto 59)) := sn_goto dX13_of_55 (by decide)
theorem en_X13_of_58 : SndE EE S mi_X13_of 58 (.inl (e_psh 59 (.int (0)))) := sn_iconst dX13_of_58 rfl rfl
theorem en_X13_of_59 : SndE EE S mi_X13_of 59 (.inr (.inr 1)) := ⟨dX13_of_59, rfl⟩
theorem sd_X13_of : ∀ pc x, cd_X13_of pc = some x → SndE EE S mi_X13_of pc x := (tN_ok (tN_ok (tN_ok (tN_ok (tL_ok en_X13_of_0) (tN_ok (tL_ok en_X13_of_1) (tL_ok en_X13_of_4))) (tN_ok (tN_ok (tL_ok en_X13_of_7) (tL_ok en_X13_of_8)) (tN_ok (tL_ok en_X13_of_11) (tL_ok en_X13_of_12)))) (tN_ok (tN_ok (tL_ok en_X13_of_15) (tN_ok (tL_ok en_X13_of_18) (tL_ok en_X13_of_19))) (tN_ok (tN_ok (tL_ok en_X13_of_22) (tL_ok en_X13_of_23)) (tN_ok (tL_ok en_X13_of_26) (tL_ok en_X13_of_29))))) (tN_ok (tN_ok (tN_ok (tL_ok en_X13_of_32) (tN_ok (tL_ok en_X13_of_33) (tL_ok en_X13_of_36))) (tN_ok (tN_ok (tL_ok en_X13_of_37) (tL_ok en_X13_of_40)) (tN_ok (tL_ok en_X13_of_43) (tL_ok en_X13_of_44)))) (tN_ok (tN_ok (tL_ok en_X13_of_47) (tN_ok (tL_ok en_X13_of_48) (tL_ok en_X13_of_51))) (tN_ok (tN_ok (tL_ok en_X13_of_54) (tL_ok en_X13_of_55)) (tN_ok (tL_ok en_X13_of_58) (tL_ok en_X13_of_59))))))
theorem en_J2_indexOf_0 : SndE EE S mi_J2_indexOf 0 (.inl (e_lda 1 0)) := sn_aload_n dJ2_indexOf_0 rfl rfl
theorem en_J2_indexOf_1 : SndE EE S mi_J2_indexOf 1 (.inl (e_ldi 2 1)) := sn_iload_n dJ2_indexOf_1 rfl rfl
theorem en_J2_indexOf_2 : SndE EE S mi_J2_indexOf 2 (.inl (e_psh 3 (.int (0)))) := sn_iconst dJ2_indexOf_2 rfl rfl
theorem en_J2_indexOf_3 : SndE EE S mi_J2_indexOf 3 (.inr (.inl (d_str 142, 3, 3))) := sc_virt dJ2_indexOf_3 (rcv_str EE_str ⟨mo_J2_indexOf_2, nmo_J2_indexOf_2, q274, q275, q276⟩)
theorem en_J2_indexOf_6 : SndE EE S mi_J2_indexOf 6 (.inr (.inr 1)) := ⟨dJ2_indexOf_6, rfl⟩
theorem sd_J2_indexOf : ∀ pc x, cd_J2_indexOf pc = some x → SndE EE S mi_J2_indexOf pc x := (tN_ok (tN_ok (tL_ok en_J2_indexOf_0) (tL_ok en_J2_indexOf_1)) (tN_ok (tL_ok en_J2_indexOf_2) (tN_ok (tL_ok en_J2_indexOf_3) (tL_ok en_J2_indexOf_6))))
theorem en_J2_indexOf_2_0 : SndE EE S mi_J2_indexOf_2 0 (.inl (e_lda 1 0)) := sn_aload_n dJ2_indexOf_2_0 rfl rfl
theorem en_J2_indexOf_2_1 : SndE EE S mi_J2_indexOf_2 1 (.inr (.inl (d_str 143, 1, 3))) := sc_virt dJ2_indexOf_2_1 (rcv_str EE_str ⟨mo_J2_isLatin1, nmo_J2_isLatin1, q278, q279, q280⟩)
theorem en_J2_indexOf_2_4 : SndE EE S mi_J2_indexOf_2 4 (.inl (e_zeq 7 23)) := sn_zeq dJ2_indexOf_2_4 rfl (by decide)
theorem en_J2_indexOf_2_7 : SndE EE S mi_J2_indexOf_2 7 (.inl (e_lda 8 0)) := sn_aload_n dJ2_indexOf_2_7 rfl rfl
theorem en_J2_indexOf_2_8 : SndE EE S mi_J2_indexOf_2 8 (.inl (e_sval 11)) := sn_sval dJ2_indexOf_2_8 rfl EE_str q1285 (Or.inl rfl)
theorem en_J2_indexOf_2_11 : SndE EE S mi_J2_indexOf_2 11 (.inl (e_ldi 12 1)) := sn_iload_n dJ2_indexOf_2_11 rfl rfl
theorem en_J2_indexOf_2_12 : SndE EE S mi_J2_indexOf_2 12 (.inl (e_ldi 13 2)) := sn_iload_n dJ2_indexOf_2_12 rfl rfl
theorem en_J2_indexOf_2_13 : SndE EE S mi_J2_indexOf_2 13 (.inl (e_lda 14 0)) := sn_aload_n dJ2_indexOf_2_13 rfl rfl
theorem en_J2_indexOf_2_14 : SndE EE S mi_J2_indexOf_2 14 (.inr (.inl (d_str 144, 1, 3))) := sc_virt dJ2_indexOf_2_14 (rcv_str EE_str ⟨mo_J2_length, nmo_J2_length, q284, q285, q286⟩)
theorem en_J2_indexOf_2_17 : SndE EE S mi_J2_indexOf_2 17 (.inr (.inl (fun _ _ => some 148, 4, 3))) := sc_stat dJ2_indexOf_2_17 mo_J3_indexOf nmo_J3_indexOf q292 q293 q294
theorem en_J2_indexOf_2_20 : SndE EE S mi_J2_indexOf_2 20 (.inl (e_goto 36)) := sn_goto dJ2_indexOf_2_20 (by decide)
theorem en_J2_indexOf_2_36 : SndE EE S mi_J2_indexOf_2 36 (.inr (.inr 1)) := ⟨dJ2_indexOf_2_36, rfl⟩
theorem sd_J2_indexOf_2 : ∀ pc x, cd_J2_indexOf_2 pc = some x → SndE EE S mi_J2_indexOf_2 pc x := (tN_ok (tN_ok (tN_ok (tL_ok en_J2_indexOf_2_0) (tN_ok (tL_ok en_J2_indexOf_2_1) (tL_ok en_J2_indexOf_2_4))) (tN_ok (tL_ok en_J2_indexOf_2_7) (tN_ok (tL_ok en_J2_indexOf_2_8) (tL_ok en_J2_indexOf_2_11)))) (tN_ok (tN_ok (tL_ok en_J2_indexOf_2_12) (tN_ok (tL_ok en_J2_indexOf_2_13) (tL_ok en_J2_indexOf_2_14))) (tN_ok (tL_ok en_J2_indexOf_2_17) (tN_ok (tL_ok en_J2_indexOf_2_20) (tL_ok en_J2_indexOf_2_36)))))
theorem en_J2_isLatin1_0 : SndE EE S mi_J2_isLatin1 0 (.inl (e_psh 3 (.int 1))) := sn_gets dJ2_isLatin1_0 rfl (fun G s h => EE_cs h) q282 (Or.inl rfl)
theorem en_J2_isLatin1_3 : SndE EE S mi_J2_isLatin1 3 (.inl (e_zeq 6 17)) := sn_zeq dJ2_isLatin1_3 rfl (by decide)
theorem en_J2_isLatin1_6 : SndE EE S mi_J2_isLatin1 6 (.inl (e_lda 7 0)) := sn_aload_n dJ2_isLatin1_6 rfl rfl
theorem en_J2_isLatin1_7 : SndE EE S mi_J2_isLatin1 7 (.inl (e_scod 10)) := sn_scod dJ2_isLatin1_7 rfl EE_str q1284 (Or.inl rfl)
theorem en_J2_isLatin1_10 : SndE EE S mi_J2_isLatin1 10 (.inl (e_zne 13 17)) := sn_zne dJ2_isLatin1_10 rfl (by decide)
theorem en_J2_isLatin1_13 : SndE EE S mi_J2_isLatin1 13 (.inl (e_psh 14 (.int (1)))) := sn_iconst dJ2_isLatin1_13 rfl rfl
theorem en_J2_isLatin1_14 : SndE EE S mi_J2_isLatin1 14 (.inl (e_goto 18)) := sn_goto dJ2_isLatin1_14 (by decide)
theorem en_J2_isLatin1_18 : SndE EE S mi_J2_isLatin1 18 (.inr (.inr 2)) := ⟨dJ2_isLatin1_18, rfl⟩
theorem sd_J2_isLatin1 : ∀ pc x, cd_J2_isLatin1 pc = some x → SndE EE S mi_J2_isLatin1 pc x := (tN_ok (tN_ok (tN_ok (tL_ok en_J2_isLatin1_0) (tL_ok en_J2_isLatin1_3)) (tN_ok (tL_ok en_J2_isLatin1_6) (tL_ok en_J2_isLatin1_7))) (tN_ok (tN_ok (tL_ok en_J2_isLatin1_10) (tL_ok en_J2_isLatin1_13)) (tN_ok (tL_ok en_J2_isLatin1_14) (tL_ok en_J2_isLatin1_18))))
theorem en_J2_length_0 : SndE EE S mi_J2_length 0 (.inl (e_lda 1 0)) := sn_aload_n dJ2_length_0 rfl rfl
theorem en_J2_length_1 : SndE EE S mi_J2_length 1 (.inl (e_sval 4)) := sn_sval dJ2_length_1 rfl EE_str q1285 (Or.inl rfl)
theorem en_J2_length_4 : SndE EE S mi_J2_length 4 (.inl (e_xlen 5)) := sn_xlen dJ2_length_4 rfl EE_str
theorem en_J2_length_5 : SndE EE S mi_J2_length 5 (.inl (e_lda 6 0)) := sn_aload_n dJ2_length_5 rfl rfl
theorem en_J2_length_6 : SndE EE S mi_J2_length 6 (.inr (.inl (d_str 145, 1, 3))) := sc_virt dJ2_length_6 (rcv_str EE_str ⟨mo_J2_coder, nmo_J2_coder, q288, q289, q290⟩)
theorem en_J2_length_9 : SndE EE S mi_J2_length 9 (.inl (e_bin 10 (fun x y => x >>> (y &&& 31)))) := sn_ishr dJ2_length_9 rfl
theorem en_J2_length_10 : SndE EE S mi_J2_length 10 (.inr (.inr 1)) := ⟨dJ2_length_10, rfl⟩
theorem sd_J2_length : ∀ pc x, cd_J2_length pc = some x → SndE EE S mi_J2_length pc x := (tN_ok (tN_ok (tL_ok en_J2_length_0) (tN_ok (tL_ok en_J2_length_1) (tL_ok en_J2_length_4))) (tN_ok (tN_ok (tL_ok en_J2_length_5) (tL_ok en_J2_length_6)) (tN_ok (tL_ok en_J2_length_9) (tL_ok en_J2_length_10))))
theorem en_J2_coder_0 : SndE EE S mi_J2_coder 0 (.inl (e_psh 3 (.int 1))) := sn_gets dJ2_coder_0 rfl (fun G s h => EE_cs h) q282 (Or.inl rfl)
theorem en_J2_coder_3 : SndE EE S mi_J2_coder 3 (.inl (e_zeq 6 13)) := sn_zeq dJ2_coder_3 rfl (by decide)
theorem en_J2_coder_6 : SndE EE S mi_J2_coder 6 (.inl (e_lda 7 0)) := sn_aload_n dJ2_coder_6 rfl rfl
theorem en_J2_coder_7 : SndE EE S mi_J2_coder 7 (.inl (e_scod 10)) := sn_scod dJ2_coder_7 rfl EE_str q1284 (Or.inl rfl)
theorem en_J2_coder_10 : SndE EE S mi_J2_coder 10 (.inl (e_goto 14)) := sn_goto dJ2_coder_10 (by decide)
theorem en_J2_coder_14 : SndE EE S mi_J2_coder 14 (.inr (.inr 3)) := ⟨dJ2_coder_14, Or.inr rfl⟩
theorem sd_J2_coder : ∀ pc x, cd_J2_coder pc = some x → SndE EE S mi_J2_coder pc x := (tN_ok (tN_ok (tL_ok en_J2_coder_0) (tN_ok (tL_ok en_J2_coder_3) (tL_ok en_J2_coder_6))) (tN_ok (tL_ok en_J2_coder_7) (tN_ok (tL_ok en_J2_coder_10) (tL_ok en_J2_coder_14))))
theorem en_J2_charAt_0 : SndE EE S mi_J2_charAt 0 (.inl (e_lda 1 0)) := sn_aload_n dJ2_charAt_0 rfl rfl
theorem en_J2_charAt_1 : SndE EE S mi_J2_charAt 1 (.inr (.inl (d_str 143, 1, 3))) := sc_virt dJ2_charAt_1 (rcv_str EE_str ⟨mo_J2_isLatin1, nmo_J2_isLatin1, q278, q279, q280⟩)
theorem en_J2_charAt_4 : SndE EE S mi_J2_charAt 4 (.inl (e_zeq 7 16)) := sn_zeq dJ2_charAt_4 rfl (by decide)
theorem en_J2_charAt_7 : SndE EE S mi_J2_charAt 7 (.inl (e_lda 8 0)) := sn_aload_n dJ2_charAt_7 rfl rfl
theorem en_J2_charAt_8 : SndE EE S mi_J2_charAt 8 (.inl (e_sval 11)) := sn_sval dJ2_charAt_8 rfl EE_str q1285 (Or.inl rfl)
theorem en_J2_charAt_11 : SndE EE S mi_J2_charAt 11 (.inl (e_ldi 12 1)) := sn_iload_n dJ2_charAt_11 rfl rfl
theorem en_J2_charAt_12 : SndE EE S mi_J2_charAt 12 (.inr (.inl (fun _ _ => some 151, 2, 3))) := sc_stat dJ2_charAt_12 mo_J3_charAt nmo_J3_charAt q366 q367 q368
theorem en_J2_charAt_15 : SndE EE S mi_J2_charAt 15 (.inr (.inr 3)) := ⟨dJ2_charAt_15, Or.inl rfl⟩
theorem sd_J2_charAt : ∀ pc x, cd_J2_charAt pc = some x → SndE EE S mi_J2_charAt pc x := (tN_ok (tN_ok (tN_ok (tL_ok en_J2_charAt_0) (tL_ok en_J2_charAt_1)) (tN_ok (tL_ok en_J2_charAt_4) (tL_ok en_J2_charAt_7))) (tN_ok (tN_ok (tL_ok en_J2_charAt_8) (tL_ok en_J2_charAt_11)) (tN_ok (tL_ok en_J2_charAt_12) (tL_ok en_J2_charAt_15))))
theorem en_J2_checkIndex_0 : SndE EE S mi_J2_checkIndex 0 (.inl (e_ldi 1 0)) := sn_iload_n dJ2_checkIndex_0 rfl rfl
theorem en_J2_checkIndex_1 : SndE EE S mi_J2_checkIndex 1 (.inl (e_ldi 2 1)) := sn_iload_n dJ2_checkIndex_1 rfl rfl
theorem en_J2_checkIndex_2 : SndE EE S mi_J2_checkIndex 2 (.inl (e_psh 5 (xAny))) := sn_gets dJ2_checkIndex_2 rfl (fun G s h => EE_sf h) q325 (Or.inl rfl)
theorem en_J2_checkIndex_5 : SndE EE S mi_J2_checkIndex 5 (.inr (.inl (fun _ _ => some 154, 3, 3))) := sc_stat dJ2_checkIndex_5 mo_J6_checkIndex nmo_J6_checkIndex q372 q373 q374
theorem en_J2_checkIndex_8 : SndE EE S mi_J2_checkIndex 8 (.inl (e_pop 9)) := sn_pop dJ2_checkIndex_8 rfl
theorem en_J2_checkIndex_9 : SndE EE S mi_J2_checkIndex 9 (.inr (.inr 0)) := ⟨dJ2_checkIndex_9, rfl⟩
theorem sd_J2_checkIndex : ∀ pc x, cd_J2_checkIndex pc = some x → SndE EE S mi_J2_checkIndex pc x := (tN_ok (tN_ok (tL_ok en_J2_checkIndex_0) (tN_ok (tL_ok en_J2_checkIndex_1) (tL_ok en_J2_checkIndex_2))) (tN_ok (tL_ok en_J2_checkIndex_5) (tN_ok (tL_ok en_J2_checkIndex_8) (tL_ok en_J2_checkIndex_9))))
theorem en_J3_indexOf_0 : SndE EE S mi_J3_indexOf 0 (.inl (e_ldi 1 1)) := sn_iload_n dJ3_indexOf_0 rfl rfl
theorem en_J3_indexOf_1 : SndE EE S mi_J3_indexOf 1 (.inr (.inl (fun _ _ => some 149, 1, 3))) := sc_stat dJ3_indexOf_1 mo_J3_canEncode nmo_J3_canEncode q295 q296 q297
theorem en_J3_indexOf_4 : SndE EE S mi_J3_indexOf 4 (.inl (e_zne 7 9)) := sn_zne dJ3_indexOf_4 rfl (by decide)
theorem en_J3_indexOf_7 : SndE EE S mi_J3_indexOf 7 (.inl (e_psh 8 (.int (-1)))) := sn_iconst dJ3_indexOf_7 rfl rfl
theorem en_J3_indexOf_8 : SndE EE S mi_J3_indexOf 8 (.inr (.inr 1)) := ⟨dJ3_indexOf_8, rfl⟩
theorem en_J3_indexOf_9 : SndE EE S mi_J3_indexOf 9 (.inl (e_ldi 10 2)) := sn_iload_n dJ3_indexOf_9 rfl rfl
theorem en_J3_indexOf_10 : SndE EE S mi_J3_indexOf 10 (.inl (e_psh 11 (.int (0)))) := sn_iconst dJ3_indexOf_10 rfl rfl
theorem en_J3_indexOf_11 : SndE EE S mi_J3_indexOf 11 (.inr (.inl (fun _ _ => some 152, 2, 3))) := sc_stat dJ3_indexOf_11 mo_J4_max nmo_J4_max q298 q299 q300
theorem en_J3_indexOf_14 : SndE EE S mi_J3_indexOf 14 (.inl (e_sti 15 2)) := sn_istore_n dJ3_indexOf_14 rfl rfl rfl (by decide)
theorem en_J3_indexOf_15 : SndE EE S mi_J3_indexOf 15 (.inl (e_ldi 16 3)) := sn_iload_n dJ3_indexOf_15 rfl rfl
theorem en_J3_indexOf_16 : SndE EE S mi_J3_indexOf 16 (.inl (e_lda 17 0)) := sn_aload_n dJ3_indexOf_16 rfl rfl
theorem en_J3_indexOf_17 : SndE EE S mi_J3_indexOf 17 (.inl (e_xlen 18)) := sn_xlen dJ3_indexOf_17 rfl EE_str
theorem en_J3_indexOf_18 : SndE EE S mi_J3_indexOf 18 (.inr (.inl (fun _ _ => some 153, 2, 3))) := sc_stat dJ3_indexOf_18 mo_J4_min nmo_J4_min q301 q302 q303
theorem en_J3_indexOf_21 : SndE EE S mi_J3_indexOf 21 (.inl (e_sti 22 3)) := sn_istore_n dJ3_indexOf_21 rfl rfl rfl (by decide)
theorem en_J3_indexOf_22 : SndE EE S mi_J3_indexOf 22 (.inl (e_ldi 23 2)) := sn_iload_n dJ3_indexOf_22 rfl rfl
theorem en_J3_indexOf_23 : SndE EE S mi_J3_indexOf 23 (.inl (e_ldi 24 3)) := sn_iload_n dJ3_indexOf_23 rfl rfl
theorem en_J3_indexOf_24 : SndE EE S mi_J3_indexOf 24 (.inl (e_ilt 27 29)) := sn_ilt dJ3_indexOf_24 rfl (by decide)
theorem en_J3_indexOf_27 : SndE EE S mi_J3_indexOf 27 (.inl (e_psh 28 (.int (-1)))) := sn_iconst dJ3_indexOf_27 rfl rfl
theorem en_J3_indexOf_28 : SndE EE S mi_J3_indexOf 28 (.inr (.inr 1)) := ⟨dJ3_indexOf_28, rfl⟩
theorem en_J3_indexOf_29 : SndE EE S mi_J3_indexOf 29 (.inl (e_lda 30 0)) := sn_aload_n dJ3_indexOf_29 rfl rfl
theorem en_J3_indexOf_30 : SndE EE S mi_J3_indexOf 30 (.inl (e_ldi 31 1)) := sn_iload_n dJ3_indexOf_30 rfl rfl
theorem en_J3_indexOf_31 : SndE EE S mi_J3_indexOf 31 (.inl (e_ldi 32 2)) := sn_iload_n dJ3_indexOf_31 rfl rfl
theorem en_J3_indexOf_32 : SndE EE S mi_J3_indexOf 32 (.inl (e_ldi 33 3)) := sn_iload_n dJ3_indexOf_32 rfl rfl
theorem en_J3_indexOf_33 : SndE EE S mi_J3_indexOf 33 (.inr (.inl (fun _ _ => some 150, 4, 3))) := sc_stat dJ3_indexOf_33 mo_J3_indexOfChar nmo_J3_indexOfChar q304 q305 q306
theorem en_J3_indexOf_36 : SndE EE S mi_J3_indexOf 36 (.inr (.inr 1)) := ⟨dJ3_indexOf_36, rfl⟩
theorem sd_J3_indexOf : ∀ pc x, cd_J3_indexOf pc = some x → SndE EE S mi_J3_indexOf pc x := (tN_ok (tN_ok (tN_ok (tN_ok (tL_ok en_J3_indexOf_0) (tN_ok (tL_ok en_J3_indexOf_1) (tL_ok en_J3_indexOf_4))) (tN_ok (tL_ok en_J3_indexOf_7) (tN_ok (tL_ok en_J3_indexOf_8) (tL_ok en_J3_indexOf_9)))) (tN_ok (tN_ok (tL_ok en_J3_indexOf_10) (tN_ok (tL_ok en_J3_indexOf_11) (tL_ok en_J3_indexOf_14))) (tN_ok (tL_ok en_J3_indexOf_15) (tN_ok (tL_ok en_J3_indexOf_16) (tL_ok en_J3_indexOf_17))))) (tN_ok (tN_ok (tN_ok (tL_ok en_J3_indexOf_18) (tN_ok (tL_ok en_J3_indexOf_21) (tL_ok en_J3_indexOf_22))) (tN_ok (tL_ok en_J3_indexOf_23) (tN_ok (tL_ok en_J3_indexOf_24) (tL_ok en_J3_indexOf_27)))) (tN_ok (tN_ok (tL_ok en_J3_indexOf_28) (tN_ok (tL_ok en_J3_indexOf_29) (tL_ok en_J3_indexOf_30))) (tN_ok (tN_ok (tL_ok en_J3_indexOf_31) (tL_ok en_J3_indexOf_32)) (tN_ok (tL_ok en_J3_indexOf_33) (tL_ok en_J3_indexOf_36))))))
theorem en_J3_canEncode_0 : SndE EE S mi_J3_canEncode 0 (.inl (e_ldi 1 0)) := sn_iload_n dJ3_canEncode_0 rfl rfl
theorem en_J3_canEncode_1 : SndE EE S mi_J3_canEncode 1 (.inl (e_zlt 4 15)) := sn_zlt dJ3_canEncode_1 rfl (by decide)
theorem en_J3_canEncode_4 : SndE EE S mi_J3_canEncode 4 (.inl (e_ldi 5 0)) := sn_iload_n dJ3_canEncode_4 rfl rfl
theorem en_J3_canEncode_5 : SndE EE S mi_J3_canEncode 5 (.inl (e_psh 8 (.int (255)))) := sn_sipush dJ3_canEncode_5 rfl rfl
theorem en_J3_canEncode_8 : SndE EE S mi_J3_canEncode 8 (.inl (e_igt 11 15)) := sn_igt dJ3_canEncode_8 rfl (by decide)
theorem en_J3_canEncode_11 : SndE EE S mi_J3_canEncode 11 (.inl (e_psh 12 (.int (1)))) := sn_iconst dJ3_canEncode_11 rfl rfl
theorem en_J3_canEncode_12 : SndE EE S mi_J3_canEncode 12 (.inl (e_goto 16)) := sn_goto dJ3_canEncode_12 (by decide)
theorem en_J3_canEncode_15 : SndE EE S mi_J3_canEncode 15 (.inl (e_psh 16 (.int (0)))) := sn_iconst dJ3_canEncode_15 rfl rfl
theorem en_J3_canEncode_16 : SndE EE S mi_J3_canEncode 16 (.inr (.inr 2)) := ⟨dJ3_canEncode_16, rfl⟩
theorem sd_J3_canEncode : ∀ pc x, cd_J3_canEncode pc = some x → SndE EE S mi_J3_canEncode pc x := (tN_ok (tN_ok (tN_ok (tL_ok en_J3_canEncode_0) (tL_ok en_J3_canEncode_1)) (tN_ok (tL_ok en_J3_canEncode_4) (tL_ok en_J3_canEncode_5))) (tN_ok (tN_ok (tL_ok en_J3_canEncode_8) (tL_ok en_J3_canEncode_11)) (tN_ok (tL_ok en_J3_canEncode_12) (tN_ok (tL_ok en_J3_canEncode_15) (tL_ok en_J3_canEncode_16)))))
theorem en_J3_indexOfChar_0 : SndE EE S mi_J3_indexOfChar 0 (.inl (e_ldi 1 1)) := sn_iload_n dJ3_indexOfChar_0 rfl rfl
theorem en_J3_indexOfChar_1 : SndE EE S mi_J3_indexOfChar 1 (.inl (e_un 2 (fun x => x.toInt8.toInt32))) := sn_i2b dJ3_indexOfChar_1 rfl
theorem en_J3_indexOfChar_2 : SndE EE S mi_J3_indexOfChar 2 (.inl (e_sti 4 4)) := sn_istore dJ3_indexOfChar_2 rfl rfl (by decide)
theorem en_J3_indexOfChar_4 : SndE EE S mi_J3_indexOfChar 4 (.inl (e_ldi 5 2)) := sn_iload_n dJ3_indexOfChar_4 rfl rfl
theorem en_J3_indexOfChar_5 : SndE EE S mi_J3_indexOfChar 5 (.inl (e_sti 7 5)) := sn_istore dJ3_indexOfChar_5 rfl rfl (by decide)
theorem en_J3_indexOfChar_7 : SndE EE S mi_J3_indexOfChar 7 (.inl (e_ldi 9 5)) := sn_iload dJ3_indexOfChar_7 rfl
theorem en_J3_indexOfChar_9 : SndE EE S mi_J3_indexOfChar 9 (.inl (e_ldi 10 3)) := sn_iload_n dJ3_indexOfChar_9 rfl rfl
theorem en_J3_indexOfChar_10 : SndE EE S mi_J3_indexOfChar 10 (.inl (e_ige 13 31)) := sn_ige dJ3_indexOfChar_10 rfl (by decide)
theorem en_J3_indexOfChar_13 : SndE EE S mi_J3_indexOfChar 13 (.inl (e_lda 14 0)) := sn_aload_n dJ3_indexOfChar_13 rfl rfl
theorem en_J3_indexOfChar_14 : SndE EE S mi_J3_indexOfChar 14 (.inl (e_ldi 16 5)) := sn_iload dJ3_indexOfChar_14 rfl
theorem en_J3_indexOfChar_16 : SndE EE S mi_J3_indexOfChar 16 (.inl (e_xld 17)) := sn_xld dJ3_indexOfChar_16 rfl EE_str
theorem en_J3_indexOfChar_17 : SndE EE S mi_J3_indexOfChar 17 (.inl (e_ldi 19 4)) := sn_iload dJ3_indexOfChar_17 rfl
theorem en_J3_indexOfChar_19 : SndE EE S mi_J3_indexOfChar 19 (.inl (e_ine 22 25)) := sn_ine dJ3_indexOfChar_19 rfl (by decide)
theorem en_J3_indexOfChar_22 : SndE EE S mi_J3_indexOfChar 22 (.inl (e_ldi 24 5)) := sn_iload dJ3_indexOfChar_22 rfl
theorem en_J3_indexOfChar_24 : SndE EE S mi_J3_indexOfChar 24 (.inr (.inr 1)) := ⟨dJ3_indexOfChar_24, rfl⟩
theorem en_J3_indexOfChar_25 : SndE EE S mi_J3_indexOfChar 25 (.inl (e_inc 28 5 (1))) := sn_iinc dJ3_indexOfChar_25 rfl rfl rfl (by decide)
theorem en_J3_indexOfChar_28 : SndE EE S mi_J3_indexOfChar 28 (.inl (e_goto 7)) := sn_goto dJ3_indexOfChar_28 (by decide)
theorem en_J3_indexOfChar_31 : SndE EE S mi_J3_indexOfChar 31 (.inl (e_psh 32 (.int (-1)))) := sn_iconst dJ3_indexOfChar_31 rfl rfl
theorem en_J3_indexOfChar_32 : SndE EE S mi_J3_indexOfChar 32 (.inr (.inr 1)) := ⟨dJ3_indexOfChar_32, rfl⟩
theorem sd_J3_indexOfChar : ∀ pc x, cd_J3_indexOfChar pc = some x → SndE EE S mi_J3_indexOfChar pc x := (tN_ok (tN_ok (tN_ok (tN_ok (tL_ok en_J3_indexOfChar_0) (tL_ok en_J3_indexOfChar_1)) (tN_ok (tL_ok en_J3_indexOfChar_2) (tL_ok en_J3_indexOfChar_4))) (tN_ok (tN_ok (tL_ok en_J3_indexOfChar_5) (tL_ok en_J3_indexOfChar_7)) (tN_ok (tL_ok en_J3_indexOfChar_9) (tN_ok (tL_ok en_J3_indexOfChar_10) (tL_ok en_J3_indexOfChar_13))))) (tN_ok (tN_ok (tN_ok (tL_ok en_J3_indexOfChar_14) (tL_ok en_J3_indexOfChar_16)) (tN_ok (tL_ok en_J3_indexOfChar_17) (tN_ok (tL_ok en_J3_indexOfChar_19) (tL_ok en_J3_indexOfChar_22)))) (tN_ok (tN_ok (tL_ok en_J3_indexOfChar_24) (tL_ok en_J3_indexOfChar_25)) (tN_ok (tL_ok en_J3_indexOfChar_28) (tN_ok (tL_ok en_J3_indexOfChar_31) (tL_ok en_J3_indexOfChar_32))))))
theorem en_J3_charAt_0 : SndE EE S mi_J3_charAt 0 (.inl (e_ldi 1 1)) := sn_iload_n dJ3_charAt_0 rfl rfl
theorem en_J3_charAt_1 : SndE EE S mi_J3_charAt 1 (.inl (e_lda 2 0)) := sn_aload_n dJ3_charAt_1 rfl rfl
theorem en_J3_charAt_2 : SndE EE S mi_J3_charAt 2 (.inl (e_xlen 3)) := sn_xlen dJ3_charAt_2 rfl EE_str
theorem en_J3_charAt_3 : SndE EE S mi_J3_charAt 3 (.inr (.inl (fun _ _ => some 147, 2, 3))) := sc_stat dJ3_charAt_3 mo_J2_checkIndex nmo_J2_checkIndex q369 q370 q371
theorem en_J3_charAt_6 : SndE EE S mi_J3_charAt 6 (.inl (e_lda 7 0)) := sn_aload_n dJ3_charAt_6 rfl rfl
theorem en_J3_charAt_7 : SndE EE S mi_J3_charAt 7 (.inl (e_ldi 8 1)) := sn_iload_n dJ3_charAt_7 rfl rfl
theorem en_J3_charAt_8 : SndE EE S mi_J3_charAt 8 (.inl (e_xld 9)) := sn_xld dJ3_charAt_8 rfl EE_str
theorem en_J3_charAt_9 : SndE EE S mi_J3_charAt 9 (.inl (e_psh 12 (.int (255)))) := sn_sipush dJ3_charAt_9 rfl rfl
theorem en_J3_charAt_12 : SndE EE S mi_J3_charAt 12 (.inl (e_bin 13 (fun x y => x &&& y))) := sn_iand dJ3_charAt_12 rfl
theorem en_J3_charAt_13 : SndE EE S mi_J3_charAt 13 (.inl (e_un 14 (fun x => (x.toUInt32 % 65536).toInt32))) := sn_i2c dJ3_charAt_13 rfl
theorem en_J3_charAt_14 : SndE EE S mi_J3_charAt 14 (.inr (.inr 3)) := ⟨dJ3_charAt_14, Or.inl rfl⟩
theorem sd_J3_charAt : ∀ pc x, cd_J3_charAt pc = some x → SndE EE S mi_J3_charAt pc x := (tN_ok (tN_ok (tN_ok (tL_ok en_J3_charAt_0) (tL_ok en_J3_charAt_1)) (tN_ok (tL_ok en_J3_charAt_2) (tN_ok (tL_ok en_J3_charAt_3) (tL_ok en_J3_charAt_6)))) (tN_ok (tN_ok (tL_ok en_J3_charAt_7) (tN_ok (tL_ok en_J3_charAt_8) (tL_ok en_J3_charAt_9))) (tN_ok (tL_ok en_J3_charAt_12) (tN_ok (tL_ok en_J3_charAt_13) (tL_ok en_J3_charAt_14)))))
theorem en_J4_max_0 : SndE EE S mi_J4_max 0 (.inl (e_ldi 1 0)) := sn_iload_n dJ4_max_0 rfl rfl
theorem en_J4_max_1 : SndE EE S mi_J4_max 1 (.inl (e_ldi 2 1)) := sn_iload_n dJ4_max_1 rfl rfl
theorem en_J4_max_2 : SndE EE S mi_J4_max 2 (.inl (e_ilt 5 9)) := sn_ilt dJ4_max_2 rfl (by decide)
theorem en_J4_max_5 : SndE EE S mi_J4_max 5 (.inl (e_ldi 6 0)) := sn_iload_n dJ4_max_5 rfl rfl
theorem en_J4_max_6 : SndE EE S mi_J4_max 6 (.inl (e_goto 10)) := sn_goto dJ4_max_6 (by decide)
theorem en_J4_max_9 : SndE EE S mi_J4_max 9 (.inl (e_ldi 10 1)) := sn_iload_n dJ4_max_9 rfl rfl
theorem en_J4_max_10 : SndE EE S mi_J4_max 10 (.inr (.inr 1)) := ⟨dJ4_max_10, rfl⟩
theorem sd_J4_max : ∀ pc x, cd_J4_max pc = some x → SndE EE S mi_J4_max pc x := (tN_ok (tN_ok (tL_ok en_J4_max_0) (tN_ok (tL_ok en_J4_max_1) (tL_ok en_J4_max_2))) (tN_ok (tN_ok (tL_ok en_J4_max_5) (tL_ok en_J4_max_6)) (tN_ok (tL_ok en_J4_max_9) (tL_ok en_J4_max_10))))
theorem en_J4_min_0 : SndE EE S mi_J4_min 0 (.inl (e_ldi 1 0)) := sn_iload_n dJ4_min_0 rfl rfl
theorem en_J4_min_1 : SndE EE S mi_J4_min 1 (.inl (e_ldi 2 1)) := sn_iload_n dJ4_min_1 rfl rfl
theorem en_J4_min_2 : SndE EE S mi_J4_min 2 (.inl (e_igt 5 9)) := sn_igt dJ4_min_2 rfl (by decide)
theorem en_J4_min_5 : SndE EE S mi_J4_min 5 (.inl (e_ldi 6 0)) := sn_iload_n dJ4_min_5 rfl rfl
theorem en_J4_min_6 : SndE EE S mi_J4_min 6 (.inl (e_goto 10)) := sn_goto dJ4_min_6 (by decide)
theorem en_J4_min_9 : SndE EE S mi_J4_min 9 (.inl (e_ldi 10 1)) := sn_iload_n dJ4_min_9 rfl rfl
theorem en_J4_min_10 : SndE EE S mi_J4_min 10 (.inr (.inr 1)) := ⟨dJ4_min_10, rfl⟩
theorem sd_J4_min : ∀ pc x, cd_J4_min pc = some x → SndE EE S mi_J4_min pc x := (tN_ok (tN_ok (tL_ok en_J4_min_0) (tN_ok (tL_ok en_J4_min_1) (tL_ok en_J4_min_2))) (tN_ok (tN_ok (tL_ok en_J4_min_5) (tL_ok en_J4_min_6)) (tN_ok (tL_ok en_J4_min_9) (tL_ok en_J4_min_10))))
theorem en_J6_checkIndex_0 : SndE EE S mi_J6_checkIndex 0 (.inl (e_ldi 1 0)) := sn_iload_n dJ6_checkIndex_0 rfl rfl
theorem en_J6_checkIndex_1 : SndE EE S mi_J6_checkIndex 1 (.inl (e_zlt 4 9)) := sn_zlt dJ6_checkIndex_1 rfl (by decide)
theorem en_J6_checkIndex_4 : SndE EE S mi_J6_checkIndex 4 (.inl (e_ldi 5 0)) := sn_iload_n dJ6_checkIndex_4 rfl rfl
theorem en_J6_checkIndex_5 : SndE EE S mi_J6_checkIndex 5 (.inl (e_ldi 6 1)) := sn_iload_n dJ6_checkIndex_5 rfl rfl
theorem en_J6_checkIndex_6 : SndE EE S mi_J6_checkIndex 6 (.inl (e_ilt 9 16)) := sn_ilt dJ6_checkIndex_6 rfl (by decide)
theorem en_J6_checkIndex_16 : SndE EE S mi_J6_checkIndex 16 (.inl (e_ldi 17 0)) := sn_iload_n dJ6_checkIndex_16 rfl rfl
theorem en_J6_checkIndex_17 : SndE EE S mi_J6_checkIndex 17 (.inr (.inr 1)) := ⟨dJ6_checkIndex_17, rfl⟩
theorem sd_J6_checkIndex : ∀ pc x, cd_J6_checkIndex pc = some x → SndE EE S mi_J6_checkIndex pc x := (tN_ok (tN_ok (tL_ok en_J6_checkIndex_0) (tN_ok (tL_ok en_J6_checkIndex_1) (tL_ok en_J6_checkIndex_4))) (tN_ok (tN_ok (tL_ok en_J6_checkIndex_5) (tL_ok en_J6_checkIndex_6)) (tN_ok (tL_ok en_J6_checkIndex_16) (tL_ok en_J6_checkIndex_17))))
theorem en_J8_numberOfTrailingZeros_0 : SndE EE S mi_J8_numberOfTrailingZeros 0 (.inl (e_ldi 1 0)) := sn_iload_n dJ8_numberOfTrailingZeros_0 rfl rfl
theorem en_J8_numberOfTrailingZeros_1 : SndE EE S mi_J8_numberOfTrailingZeros 1 (.inl (e_psh 2 (.int (-1)))) := sn_iconst dJ8_numberOfTrailingZeros_1 rfl rfl
theorem en_J8_numberOfTrailingZeros_2 : SndE EE S mi_J8_numberOfTrailingZeros 2 (.inl (e_bin 3 (fun x y => x ^^^ y))) := sn_ixor dJ8_numberOfTrailingZeros_2 rfl
theorem en_J8_numberOfTrailingZeros_3 : SndE EE S mi_J8_numberOfTrailingZeros 3 (.inl (e_ldi 4 0)) := sn_iload_n dJ8_numberOfTrailingZeros_3 rfl rfl
theorem en_J8_numberOfTrailingZeros_4 : SndE EE S mi_J8_numberOfTrailingZeros 4 (.inl (e_psh 5 (.int (1)))) := sn_iconst dJ8_numberOfTrailingZeros_4 rfl rfl
theorem en_J8_numberOfTrailingZeros_5 : SndE EE S mi_J8_numberOfTrailingZeros 5 (.inl (e_bin 6 (fun x y => x - y))) := sn_isub dJ8_numberOfTrailingZeros_5 rfl
theorem en_J8_numberOfTrailingZeros_6 : SndE EE S mi_J8_numberOfTrailingZeros 6 (.inl (e_bin 7 (fun x y => x &&& y))) := sn_iand dJ8_numberOfTrailingZeros_6 rfl
theorem en_J8_numberOfTrailingZeros_7 : SndE EE S mi_J8_numberOfTrailingZeros 7 (.inl (e_sti 8 0)) := sn_istore_n dJ8_numberOfTrailingZeros_7 rfl rfl rfl (by decide)
theorem en_J8_numberOfTrailingZeros_8 : SndE EE S mi_J8_numberOfTrailingZeros 8 (.inl (e_ldi 9 0)) := sn_iload_n dJ8_numberOfTrailingZeros_8 rfl rfl
theorem en_J8_numberOfTrailingZeros_9 : SndE EE S mi_J8_numberOfTrailingZeros 9 (.inl (e_zgt 12 17)) := sn_zgt dJ8_numberOfTrailingZeros_9 rfl (by decide)
theorem en_J8_numberOfTrailingZeros_12 : SndE EE S mi_J8_numberOfTrailingZeros 12 (.inl (e_ldi 13 0)) := sn_iload_n dJ8_numberOfTrailingZeros_12 rfl rfl
theorem en_J8_numberOfTrailingZeros_13 : SndE EE S mi_J8_numberOfTrailingZeros 13 (.inl (e_psh 15 (.int (32)))) := sn_bipush dJ8_numberOfTrailingZeros_13 rfl rfl
theorem en_J8_numberOfTrailingZeros_15 : SndE EE S mi_J8_numberOfTrailingZeros 15 (.inl (e_bin 16 (fun x y => x &&& y))) := sn_iand dJ8_numberOfTrailingZeros_15 rfl
theorem en_J8_numberOfTrailingZeros_16 : SndE EE S mi_J8_numberOfTrailingZeros 16 (.inr (.inr 1)) := ⟨dJ8_numberOfTrailingZeros_16, rfl⟩
theorem en_J8_numberOfTrailingZeros_17 : SndE EE S mi_J8_numberOfTrailingZeros 17 (.inl (e_psh 18 (.int (1)))) := sn_iconst dJ8_numberOfTrailingZeros_17 rfl rfl
theorem en_J8_numberOfTrailingZeros_18 : SndE EE S mi_J8_numberOfTrailingZeros 18 (.inl (e_sti 19 1)) := sn_istore_n dJ8_numberOfTrailingZeros_18 rfl rfl rfl (by decide)
theorem en_J8_numberOfTrailingZeros_19 : SndE EE S mi_J8_numberOfTrailingZeros 19 (.inl (e_ldi 20 0)) := sn_iload_n dJ8_numberOfTrailingZeros_19 rfl rfl
theorem en_J8_numberOfTrailingZeros_20 : SndE EE S mi_J8_numberOfTrailingZeros 20 (.inl (e_psh 23 (.int (65536)))) := sn_ldcw dJ8_numberOfTrailingZeros_20 rfl q832
theorem en_J8_numberOfTrailingZeros_23 : SndE EE S mi_J8_numberOfTrailingZeros 23 (.inl (e_ile 26 34)) := sn_ile dJ8_numberOfTrailingZeros_23 rfl (by decide)
theorem en_J8_numberOfTrailingZeros_26 : SndE EE S mi_J8_numberOfTrailingZeros 26 (.inl (e_inc 29 1 (16))) := sn_iinc dJ8_numberOfTrailingZeros_26 rfl rfl rfl (by decide)
theorem en_J8_numberOfTrailingZeros_29 : SndE EE S mi_J8_numberOfTrailingZeros 29 (.inl (e_ldi 30 0)) := sn_iload_n dJ8_numberOfTrailingZeros_29 rfl rfl
theorem en_J8_numberOfTrailingZeros_30 : SndE EE S mi_J8_numberOfTrailingZeros 30 (.inl (e_psh 32 (.int (16)))) := sn_bipush dJ8_numberOfTrailingZeros_30 rfl rfl
theorem en_J8_numberOfTrailingZeros_32 : SndE EE S mi_J8_numberOfTrailingZeros 32 (.inl (e_bin 33 (fun x y => (x.toUInt32 >>> (y.toUInt32 &&& Int32.toUInt32 31)).toInt32))) := sn_iushr dJ8_numberOfTrailingZeros_32 rfl
theorem en_J8_numberOfTrailingZeros_33 : SndE EE S mi_J8_numberOfTrailingZeros 33 (.inl (e_sti 34 0)) := sn_istore_n dJ8_numberOfTrailingZeros_33 rfl rfl rfl (by decide)
theorem en_J8_numberOfTrailingZeros_34 : SndE EE S mi_J8_numberOfTrailingZeros 34 (.inl (e_ldi 35 0)) := sn_iload_n dJ8_numberOfTrailingZeros_34 rfl rfl
theorem en_J8_numberOfTrailingZeros_35 : SndE EE S mi_J8_numberOfTrailingZeros 35 (.inl (e_psh 38 (.int (256)))) := sn_sipush dJ8_numberOfTrailingZeros_35 rfl rfl
theorem en_J8_numberOfTrailingZeros_38 : SndE EE S mi_J8_numberOfTrailingZeros 38 (.inl (e_ile 41 49)) := sn_ile dJ8_numberOfTrailingZeros_38 rfl (by decide)
theorem en_J8_numberOfTrailingZeros_41 : SndE EE S mi_J8_numberOfTrailingZeros 41 (.inl (e_inc 44 1 (8))) := sn_iinc dJ8_numberOfTrailingZeros_41 rfl rfl rfl (by decide)
theorem en_J8_numberOfTrailingZeros_44 : SndE EE S mi_J8_numberOfTrailingZeros 44 (.inl (e_ldi 45 0)) := sn_iload_n dJ8_numberOfTrailingZeros_44 rfl rfl
theorem en_J8_numberOfTrailingZeros_45 : SndE EE S mi_J8_numberOfTrailingZeros 45 (.inl (e_psh 47 (.int (8)))) := sn_bipush dJ8_numberOfTrailingZeros_45 rfl rfl
theorem en_J8_numberOfTrailingZeros_47 : SndE EE S mi_J8_numberOfTrailingZeros 47 (.inl (e_bin 48 (fun x y => (x.toUInt32 >>> (y.toUInt32 &&& Int32.toUInt32 31)).toInt32))) := sn_iushr dJ8_numberOfTrailingZeros_47 rfl
theorem en_J8_numberOfTrailingZeros_48 : SndE EE S mi_J8_numberOfTrailingZeros 48 (.inl (e_sti 49 0)) := sn_istore_n dJ8_numberOfTrailingZeros_48 rfl rfl rfl (by decide)
theorem en_J8_numberOfTrailingZeros_49 : SndE EE S mi_J8_numberOfTrailingZeros 49 (.inl (e_ldi 50 0)) := sn_iload_n dJ8_numberOfTrailingZeros_49 rfl rfl
theorem en_J8_numberOfTrailingZeros_50 : SndE EE S mi_J8_numberOfTrailingZeros 50 (.inl (e_psh 52 (.int (16)))) := sn_bipush dJ8_numberOfTrailingZeros_50 rfl rfl
theorem en_J8_numberOfTrailingZeros_52 : SndE EE S mi_J8_numberOfTrailingZeros 52 (.inl (e_ile 55 62)) := sn_ile dJ8_numberOfTrailingZeros_52 rfl (by decide)
theorem en_J8_numberOfTrailingZeros_55 : SndE EE S mi_J8_numberOfTrailingZeros 55 (.inl (e_inc 58 1 (4))) := sn_iinc dJ8_numberOfTrailingZeros_55 rfl rfl rfl (by decide)
theorem en_J8_numberOfTrailingZeros_58 : SndE EE S mi_J8_numberOfTrailingZeros 58 (.inl (e_ldi 59 0)) := sn_iload_n dJ8_numberOfTrailingZeros_58 rfl rfl
theorem en_J8_numberOfTrailingZeros_59 : SndE EE S mi_J8_numberOfTrailingZeros 59 (.inl (e_psh 60 (.int (4)))) := sn_iconst dJ8_numberOfTrailingZeros_59 rfl rfl
theorem en_J8_numberOfTrailingZeros_60 : SndE EE S mi_J8_numberOfTrailingZeros 60 (.inl (e_bin 61 (fun x y => (x.toUInt32 >>> (y.toUInt32 &&& Int32.toUInt32 31)).toInt32))) := sn_iushr dJ8_numberOfTrailingZeros_60 rfl
theorem en_J8_numberOfTrailingZeros_61 : SndE EE S mi_J8_numberOfTrailingZeros 61 (.inl (e_sti 62 0)) := sn_istore_n dJ8_numberOfTrailingZeros_61 rfl rfl rfl (by decide)
theorem en_J8_numberOfTrailingZeros_62 : SndE EE S mi_J8_numberOfTrailingZeros 62 (.inl (e_ldi 63 0)) := sn_iload_n dJ8_numberOfTrailingZeros_62 rfl rfl
theorem en_J8_numberOfTrailingZeros_63 : SndE EE S mi_J8_numberOfTrailingZeros 63 (.inl (e_psh 64 (.int (4)))) := sn_iconst dJ8_numberOfTrailingZeros_63 rfl rfl
theorem en_J8_numberOfTrailingZeros_64 : SndE EE S mi_J8_numberOfTrailingZeros 64 (.inl (e_ile 67 74)) := sn_ile dJ8_numberOfTrailingZeros_64 rfl (by decide)
theorem en_J8_numberOfTrailingZeros_67 : SndE EE S mi_J8_numberOfTrailingZeros 67 (.inl (e_inc 70 1 (2))) := sn_iinc dJ8_numberOfTrailingZeros_67 rfl rfl rfl (by decide)
theorem en_J8_numberOfTrailingZeros_70 : SndE EE S mi_J8_numberOfTrailingZeros 70 (.inl (e_ldi 71 0)) := sn_iload_n dJ8_numberOfTrailingZeros_70 rfl rfl
theorem en_J8_numberOfTrailingZeros_71 : SndE EE S mi_J8_numberOfTrailingZeros 71 (.inl (e_psh 72 (.int (2)))) := sn_iconst dJ8_numberOfTrailingZeros_71 rfl rfl
theorem en_J8_numberOfTrailingZeros_72 : SndE EE S mi_J8_numberOfTrailingZeros 72 (.inl (e_bin 73 (fun x y => (x.toUInt32 >>> (y.toUInt32 &&& Int32.toUInt32 31)).toInt32))) := sn_iushr dJ8_numberOfTrailingZeros_72 rfl
theorem en_J8_numberOfTrailingZeros_73 : SndE EE S mi_J8_numberOfTrailingZeros 73 (.inl (e_sti 74 0)) := sn_istore_n dJ8_numberOfTrailingZeros_73 rfl rfl rfl (by decide)
theorem en_J8_numberOfTrailingZeros_74 : SndE EE S mi_J8_numberOfTrailingZeros 74 (.inl (e_ldi 75 1)) := sn_iload_n dJ8_numberOfTrailingZeros_74 rfl rfl
theorem en_J8_numberOfTrailingZeros_75 : SndE EE S mi_J8_numberOfTrailingZeros 75 (.inl (e_ldi 76 0)) := sn_iload_n dJ8_numberOfTrailingZeros_75 rfl rfl
theorem en_J8_numberOfTrailingZeros_76 : SndE EE S mi_J8_numberOfTrailingZeros 76 (.inl (e_psh 77 (.int (1)))) := sn_iconst dJ8_numberOfTrailingZeros_76 rfl rfl
theorem en_J8_numberOfTrailingZeros_77 : SndE EE S mi_J8_numberOfTrailingZeros 77 (.inl (e_bin 78 (fun x y => (x.toUInt32 >>> (y.toUInt32 &&& Int32.toUInt32 31)).toInt32))) := sn_iushr dJ8_numberOfTrailingZeros_77 rfl
theorem en_J8_numberOfTrailingZeros_78 : SndE EE S mi_J8_numberOfTrailingZeros 78 (.inl (e_bin 79 (fun x y => x + y))) := sn_iadd dJ8_numberOfTrailingZeros_78 rfl
theorem en_J8_numberOfTrailingZeros_79 : SndE EE S mi_J8_numberOfTrailingZeros 79 (.inr (.inr 1)) := ⟨dJ8_numberOfTrailingZeros_79, rfl⟩
theorem sd_J8_numberOfTrailingZeros : ∀ pc x, cd_J8_numberOfTrailingZeros pc = some x → SndE EE S mi_J8_numberOfTrailingZeros pc x := (tN_ok (tN_ok (tN_ok (tN_ok (tN_ok (tL_ok en_J8_numberOfTrailingZeros_0) (tN_ok (tL_ok en_J8_numberOfTrailingZeros_1) (tL_ok en_J8_numberOfTrailingZeros_2))) (tN_ok (tL_ok en_J8_numberOfTrailingZeros_3) (tN_ok (tL_ok en_J8_numberOfTrailingZeros_4) (tL_ok en_J8_numberOfTrailingZeros_5)))) (tN_ok (tN_ok (tL_ok en_J8_numberOfTrailingZeros_6) (tN_ok (tL_ok en_J8_numberOfTrailingZeros_7) (tL_ok en_J8_numberOfTrailingZeros_8))) (tN_ok (tN_ok (tL_ok en_J8_numberOfTrailingZeros_9) (tL_ok en_J8_numberOfTrailingZeros_12)) (tN_ok (tL_ok en_J8_numberOfTrailingZeros_13) (tL_ok en_J8_numberOfTrailingZeros_15))))) (tN_ok (tN_ok (tN_ok (tL_ok en_J8_numberOfTrailingZeros_16) (tN_ok (tL_ok en_J8_numberOfTrailingZeros_17) (tL_ok en_J8_numberOfTrailingZeros_18))) (tN_ok (tN_ok (tL_ok en_J8_numberOfTrailingZeros_19) (tL_ok en_J8_numberOfTrailingZeros_20)) (tN_ok (tL_ok en_J8_numberOfTrailingZeros_23) (tL_ok en_J8_numberOfTrailingZeros_26)))) (tN_ok (tN_ok (tL_ok en_J8_numberOfTrailingZeros_29) (tN_ok (tL_ok en_J8_numberOfTrailingZeros_30) (tL_ok en_J8_numberOfTrailingZeros_32))) (tN_ok (tN_ok (tL_ok en_J8_numberOfTrailingZeros_33) (tL_ok en_J8_numberOfTrailingZeros_34)) (tN_ok (tL_ok en_J8_numberOfTrailingZeros_35) (tL_ok en_J8_numberOfTrailingZeros_38)))))) (tN_ok (tN_ok (tN_ok (tN_ok (tL_ok en_J8_numberOfTrailingZeros_41) (tN_ok (tL_ok en_J8_numberOfTrailingZeros_44) (tL_ok en_J8_numberOfTrailingZeros_45))) (tN_ok (tL_ok en_J8_numberOfTrailingZeros_47) (tN_ok (tL_ok en_J8_numberOfTrailingZeros_48) (tL_ok en_J8_numberOfTrailingZeros_49)))) (tN_ok (tN_ok (tL_ok en_J8_numberOfTrailingZeros_50) (tN_ok (tL_ok en_J8_numberOfTrailingZeros_52) (tL_ok en_J8_numberOfTrailingZeros_55))) (tN_ok (tN_ok (tL_ok en_J8_numberOfTrailingZeros_58) (tL_ok en_J8_numberOfTrailingZeros_59)) (tN_ok (tL_ok en_J8_numberOfTrailingZeros_60) (tL_ok en_J8_numberOfTrailingZeros_61))))) (tN_ok (tN_ok (tN_ok (tL_ok en_J8_numberOfTrailingZeros_62) (tN_ok (tL_ok en_J8_numberOfTrailingZeros_63) (tL_ok en_J8_numberOfTrailingZeros_64))) (tN_ok (tN_ok (tL_ok en_J8_numberOfTrailingZeros_67) (tL_ok en_J8_numberOfTrailingZeros_70)) (tN_ok (tL_ok en_J8_numberOfTrailingZeros_71) (tL_ok en_J8_numberOfTrailingZeros_72)))) (tN_ok (tN_ok (tL_ok en_J8_numberOfTrailingZeros_73) (tN_ok (tL_ok en_J8_numberOfTrailingZeros_74) (tL_ok en_J8_numberOfTrailingZeros_75))) (tN_ok (tN_ok (tL_ok en_J8_numberOfTrailingZeros_76) (tL_ok en_J8_numberOfTrailingZeros_77)) (tN_ok (tL_ok en_J8_numberOfTrailingZeros_78) (tL_ok en_J8_numberOfTrailingZeros_79)))))))
theorem en_J8_bitCount_0 : SndE EE S mi_J8_bitCount 0 (.inl (e_ldi 1 0)) := sn_iload_n dJ8_bitCount_0 rfl rfl
theorem en_J8_bitCount_1 : SndE EE S mi_J8_bitCount 1 (.inl (e_ldi 2 0)) := sn_iload_n dJ8_bitCount_1 rfl rfl
theorem en_J8_bitCount_2 : SndE EE S mi_J8_bitCount 2 (.inl (e_psh 3 (.int (1)))) := sn_iconst dJ8_bitCount_2 rfl rfl
theorem en_J8_bitCount_3 : SndE EE S mi_J8_bitCount 3 (.inl (e_bin 4 (fun x y => (x.toUInt32 >>> (y.toUInt32 &&& Int32.toUInt32 31)).toInt32))) := sn_iushr dJ8_bitCount_3 rfl
theorem en_J8_bitCount_4 : SndE EE S mi_J8_bitCount 4 (.inl (e_psh 7 (.int (1431655765)))) := sn_ldcw dJ8_bitCount_4 rfl q836
theorem en_J8_bitCount_7 : SndE EE S mi_J8_bitCount 7 (.inl (e_bin 8 (fun x y => x &&& y))) := sn_iand dJ8_bitCount_7 rfl
theorem en_J8_bitCount_8 : SndE EE S mi_J8_bitCount 8 (.inl (e_bin 9 (fun x y => x - y))) := sn_isub dJ8_bitCount_8 rfl
theorem en_J8_bitCount_9 : SndE EE S mi_J8_bitCount 9 (.inl (e_sti 10 0)) := sn_istore_n dJ8_bitCount_9 rfl rfl rfl (by decide)
theorem en_J8_bitCount_10 : SndE EE S mi_J8_bitCount 10 (.inl (e_ldi 11 0)) := sn_iload_n dJ8_bitCount_10 rfl rfl
theorem en_J8_bitCount_11 : SndE EE S mi_J8_bitCount 11 (.inl (e_psh 14 (.int (858993459)))) := sn_ldcw dJ8_bitCount_11 rfl q837
theorem en_J8_bitCount_14 : SndE EE S mi_J8_bitCount 14 (.inl (e_bin 15 (fun x y => x &&& y))) := sn_iand dJ8_bitCount_14 rfl
theorem en_J8_bitCount_15 : SndE EE S mi_J8_bitCount 15 (.inl (e_ldi 16 0)) := sn_iload_n dJ8_bitCount_15 rfl rfl
theorem en_J8_bitCount_16 : SndE EE S mi_J8_bitCount 16 (.inl (e_psh 17 (.int (2)))) := sn_iconst dJ8_bitCount_16 rfl rfl
theorem en_J8_bitCount_17 : SndE EE S mi_J8_bitCount 17 (.inl (e_bin 18 (fun x y => (x.toUInt32 >>> (y.toUInt32 &&& Int32.toUInt32 31)).toInt32))) := sn_iushr dJ8_bitCount_17 rfl
theorem en_J8_bitCount_18 : SndE EE S mi_J8_bitCount 18 (.inl (e_psh 21 (.int (858993459)))) := sn_ldcw dJ8_bitCount_18 rfl q837
theorem en_J8_bitCount_21 : SndE EE S mi_J8_bitCount 21 (.inl (e_bin 22 (fun x y => x &&& y))) := sn_iand dJ8_bitCount_21 rfl
theorem en_J8_bitCount_22 : SndE EE S mi_J8_bitCount 22 (.inl (e_bin 23 (fun x y => x + y))) := sn_iadd dJ8_bitCount_22 rfl
theorem en_J8_bitCount_23 : SndE EE S mi_J8_bitCount 23 (.inl (e_sti 24 0)) := sn_istore_n dJ8_bitCount_23 rfl rfl rfl (by decide)
theorem en_J8_bitCount_24 : SndE EE S mi_J8_bitCount 24 (.inl (e_ldi 25 0)) := sn_iload_n dJ8_bitCount_24 rfl rfl
theorem en_J8_bitCount_25 : SndE EE S mi_J8_bitCount 25 (.inl (e_ldi 26 0)) := sn_iload_n dJ8_bitCount_25 rfl rfl
theorem en_J8_bitCount_26 : SndE EE S mi_J8_bitCount 26 (.inl (e_psh 27 (.int (4)))) := sn_iconst dJ8_bitCount_26 rfl rfl
theorem en_J8_bitCount_27 : SndE EE S mi_J8_bitCount 27 (.inl (e_bin 28 (fun x y => (x.toUInt32 >>> (y.toUInt32 &&& Int32.toUInt32 31)).toInt32))) := sn_iushr dJ8_bitCount_27 rfl
theorem en_J8_bitCount_28 : SndE EE S mi_J8_bitCount 28 (.inl (e_bin 29 (fun x y => x + y))) := sn_iadd dJ8_bitCount_28 rfl
theorem en_J8_bitCount_29 : SndE EE S mi_J8_bitCount 29 (.inl (e_psh 32 (.int (252645135)))) := sn_ldcw dJ8_bitCount_29 rfl q838
theorem en_J8_bitCount_32 : SndE EE S mi_J8_bitCount 32 (.inl (e_bin 33 (fun x y => x &&& y))) := sn_iand dJ8_bitCount_32 rfl
theorem en_J8_bitCount_33 : SndE EE S mi_J8_bitCount 33 (.inl (e_sti 34 0)) := sn_istore_n dJ8_bitCount_33 rfl rfl rfl (by decide)
theorem en_J8_bitCount_34 : SndE EE S mi_J8_bitCount 34 (.inl (e_ldi 35 0)) := sn_iload_n dJ8_bitCount_34 rfl rfl
theorem en_J8_bitCount_35 : SndE EE S mi_J8_bitCount 35 (.inl (e_ldi 36 0)) := sn_iload_n dJ8_bitCount_35 rfl rfl
theorem en_J8_bitCount_36 : SndE EE S mi_J8_bitCount 36 (.inl (e_psh 38 (.int (8)))) := sn_bipush dJ8_bitCount_36 rfl rfl
theorem en_J8_bitCount_38 : SndE EE S mi_J8_bitCount 38 (.inl (e_bin 39 (fun x y => (x.toUInt32 >>> (y.toUInt32 &&& Int32.toUInt32 31)).toInt32))) := sn_iushr dJ8_bitCount_38 rfl
theorem en_J8_bitCount_39 : SndE EE S mi_J8_bitCount 39 (.inl (e_bin 40 (fun x y => x + y))) := sn_iadd dJ8_bitCount_39 rfl
theorem en_J8_bitCount_40 : SndE EE S mi_J8_bitCount 40 (.inl (e_sti 41 0)) := sn_istore_n dJ8_bitCount_40 rfl rfl rfl (by decide)
theorem en_J8_bitCount_41 : SndE EE S mi_J8_bitCount 41 (.inl (e_ldi 42 0)) := sn_iload_n dJ8_bitCount_41 rfl rfl
theorem en_J8_bitCount_42 : SndE EE S mi_J8_bitCount 42 (.inl (e_ldi 43 0)) := sn_iload_n dJ8_bitCount_42 rfl rfl
theorem en_J8_bitCount_43 : SndE EE S mi_J8_bitCount 43 (.inl (e_psh 45 (.int (16)))) := sn_bipush dJ8_bitCount_43 rfl rfl
theorem en_J8_bitCount_45 : SndE EE S mi_J8_bitCount 45 (.inl (e_bin 46 (fun x y => (x.toUInt32 >>> (y.toUInt32 &&& Int32.toUInt32 31)).toInt32))) := sn_iushr dJ8_bitCount_45 rfl
theorem en_J8_bitCount_46 : SndE EE S mi_J8_bitCount 46 (.inl (e_bin 47 (fun x y => x + y))) := sn_iadd dJ8_bitCount_46 rfl
theorem en_J8_bitCount_47 : SndE EE S mi_J8_bitCount 47 (.inl (e_sti 48 0)) := sn_istore_n dJ8_bitCount_47 rfl rfl rfl (by decide)
theorem en_J8_bitCount_48 : SndE EE S mi_J8_bitCount 48 (.inl (e_ldi 49 0)) := sn_iload_n dJ8_bitCount_48 rfl rfl
theorem en_J8_bitCount_49 : SndE EE S mi_J8_bitCount 49 (.inl (e_psh 51 (.int (63)))) := sn_bipush dJ8_bitCount_49 rfl rfl
theorem en_J8_bitCount_51 : SndE EE S mi_J8_bitCount 51 (.inl (e_bin 52 (fun x y => x &&& y))) := sn_iand dJ8_bitCount_51 rfl
theorem en_J8_bitCount_52 : SndE EE S mi_J8_bitCount 52 (.inr (.inr 1)) := ⟨dJ8_bitCount_52, rfl⟩
theorem sd_J8_bitCount : ∀ pc x, cd_J8_bitCount pc = some x → SndE EE S mi_J8_bitCount pc x := (tN_ok (tN_ok (tN_ok (tN_ok (tN_ok (tL_ok en_J8_bitCount_0) (tL_ok en_J8_bitCount_1)) (tN_ok (tL_ok en_J8_bitCount_2) (tN_ok (tL_ok en_J8_bitCount_3) (tL_ok en_J8_bitCount_4)))) (tN_ok (tN_ok (tL_ok en_J8_bitCount_7) (tL_ok en_J8_bitCount_8)) (tN_ok (tL_ok en_J8_bitCount_9) (tN_ok (tL_ok en_J8_bitCount_10) (tL_ok en_J8_bitCount_11))))) (tN_ok (tN_ok (tN_ok (tL_ok en_J8_bitCount_14) (tL_ok en_J8_bitCount_15)) (tN_ok (tL_ok en_J8_bitCount_16) (tN_ok (tL_ok en_J8_bitCount_17) (tL_ok en_J8_bitCount_18)))) (tN_ok (tN_ok (tL_ok en_J8_bitCount_21) (tN_ok (tL_ok en_J8_bitCount_22) (tL_ok en_J8_bitCount_23))) (tN_ok (tL_ok en_J8_bitCount_24) (tN_ok (tL_ok en_J8_bitCount_25) (tL_ok en_J8_bitCount_26)))))) (tN_ok (tN_ok (tN_ok (tN_ok (tL_ok en_J8_bitCount_27) (tL_ok en_J8_bitCount_28)) (tN_ok (tL_ok en_J8_bitCount_29) (tN_ok (tL_ok en_J8_bitCount_32) (tL_ok en_J8_bitCount_33)))) (tN_ok (tN_ok (tL_ok en_J8_bitCount_34) (tL_ok en_J8_bitCount_35)) (tN_ok (tL_ok en_J8_bitCount_36) (tN_ok (tL_ok en_J8_bitCount_38) (tL_ok en_J8_bitCount_39))))) (tN_ok (tN_ok (tN_ok (tL_ok en_J8_bitCount_40) (tL_ok en_J8_bitCount_41)) (tN_ok (tL_ok en_J8_bitCount_42) (tN_ok (tL_ok en_J8_bitCount_43) (tL_ok en_J8_bitCount_45)))) (tN_ok (tN_ok (tL_ok en_J8_bitCount_46) (tN_ok (tL_ok en_J8_bitCount_47) (tL_ok en_J8_bitCount_48))) (tN_ok (tL_ok en_J8_bitCount_49) (tN_ok (tL_ok en_J8_bitCount_51) (tL_ok en_J8_bitCount_52)))))))
theorem en_L_law_0 : SndE EE S mi_L_law 0 (.inl (e_new 3 0 35)) := sn_new dL_law_0 rfl cl_0 (by decide +kernel) q616 q90 q54 (by decide)
theorem en_L_law_3 : SndE EE S mi_L_law 3 (.inl (e_dup 4)) := sn_dup dL_law_3 rfl
theorem en_L_law_4 : SndE EE S mi_L_law 4 (.inr (.inl (d_cls 0 24, 1, 3))) := sc_init ctr_cls dL_law_4 mo_X0_init nmo_X0_init rfl q617 q618 q619
theorem en_L_law_7 : SndE EE S mi_L_law 7 (.inl (e_sta 8 1)) := sn_astore_n dL_law_7 rfl rfl rfl (by decide)
theorem en_L_law_8 : SndE EE S mi_L_law 8 (.inl (e_new 11 3 61)) := sn_new dL_law_8 rfl cl_3 (by decide +kernel) q847 q848 q57 (by decide)
theorem en_L_law_11 : SndE EE S mi_L_law 11 (.inl (e_dup 12)) := sn_dup dL_law_11 rfl
theorem en_L_law_12 : SndE EE S mi_L_law 12 (.inr (.inl (d_cls 3 47, 1, 3))) := sc_init ctr_cls dL_law_12 mo_X3_init nmo_X3_init rfl q849 q850 q851
theorem en_L_law_15 : SndE EE S mi_L_law 15 (.inl (e_sta 16 2)) := sn_astore_n dL_law_15 rfl rfl rfl (by decide)
theorem en_L_law_16 : SndE EE S mi_L_law 16 (.inl (e_psh 17 (.int (0)))) := sn_iconst dL_law_16 rfl rfl
theorem en_L_law_17 : SndE EE S mi_L_law 17 (.inl (e_sti 18 3)) := sn_istore_n dL_law_17 rfl rfl rfl (by decide)
theorem en_L_law_18 : SndE EE S mi_L_law 18 (.inl (e_ldi 19 3)) := sn_iload_n dL_law_18 rfl rfl
theorem en_L_law_19 : SndE EE S mi_L_law 19 (.inl (e_lda 20 0)) := sn_aload_n dL_law_19 rfl rfl
theorem en_L_law_20 : SndE EE S mi_L_law 20 (.inl (e_slen 21 S.1)) := sn_slen dL_law_20 rfl EE_scr
theorem en_L_law_21 : SndE EE S mi_L_law 21 (.inl (e_psh 23 (.int (6)))) := sn_bipush dL_law_21 rfl rfl
theorem en_L_law_23 : SndE EE S mi_L_law 23 (.inl (e_bin 24 (fun x y => x - y))) := sn_isub dL_law_23 rfl
theorem en_L_law_24 : SndE EE S mi_L_law 24 (.inl (e_igt 27 881)) := sn_igt dL_law_24 rfl (by decide)
theorem en_L_law_27 : SndE EE S mi_L_law 27 (.inl (e_lda 28 0)) := sn_aload_n dL_law_27 rfl rfl
theorem en_L_law_28 : SndE EE S mi_L_law 28 (.inl (e_ldi 29 3)) := sn_iload_n dL_law_28 rfl rfl
theorem en_L_law_29 : SndE EE S mi_L_law 29 (.inl (e_sld 30 S.1 S.2)) := sn_sld dL_law_29 rfl EE_scr
theorem en_L_law_30 : SndE EE S mi_L_law 30 (.inl (e_psh 32 (.int (31)))) := sn_bipush dL_law_30 rfl rfl
theorem en_L_law_32 : SndE EE S mi_L_law 32 (.inl (e_bin 33 (fun x y => x &&& y))) := sn_iand dL_law_32 rfl
theorem en_L_law_33 : SndE EE S mi_L_law 33 (.inl (e_tsw (fun x => if x = 0 then 140 else if x = 1 then 173 else if x = 2 then 196 else if x = 3 then 229 else if x = 4 then 292 else if x = 5 then 315 else if x = 6 then 328 else if x = 7 then 351 else if x = 8 then 364 else if x = 9 then 397 else if x = 10 then 440 else if x = 11 then 453 else if x = 12 then 466 else if x = 13 then 499 else if x = 14 then 578 else if x = 15 then 621 else if x = 16 then 654 else if x = 17 then 697 else if x = 18 then 750 else if x = 19 then 783 else if x = 20 then 796 else if x = 21 then 819 else if x = 22 then 852 else 875))) := sn_tsw (lo := 0) (ts := [140, 173, 196, 229, 292, 315, 328, 351, 364, 397, 440, 453, 466, 499, 578, 621, 654, 697, 750, 783, 796, 819, 852]) (df := 875) dL_law_33 rfl (by decide) (by decide) (by decide) (by decide) (by decide)
theorem en_L_law_140 : SndE EE S mi_L_law 140 (.inl (e_lda 141 1)) := sn_aload_n dL_law_140 rfl rfl
theorem en_L_law_141 : SndE EE S mi_L_law 141 (.inl (e_lda 142 0)) := sn_aload_n dL_law_141 rfl rfl
theorem en_L_law_142 : SndE EE S mi_L_law 142 (.inl (e_ldi 143 3)) := sn_iload_n dL_law_142 rfl rfl
theorem en_L_law_143 : SndE EE S mi_L_law 143 (.inl (e_psh 144 (.int (1)))) := sn_iconst dL_law_143 rfl rfl
theorem en_L_law_144 : SndE EE S mi_L_law 144 (.inl (e_bin 145 (fun x y => x + y))) := sn_iadd dL_law_144 rfl
theorem en_L_law_145 : SndE EE S mi_L_law 145 (.inl (e_sld 146 S.1 S.2)) := sn_sld dL_law_145 rfl EE_scr
theorem en_L_law_146 : SndE EE S mi_L_law 146 (.inl (e_lda 147 0)) := sn_aload_n dL_law_146 rfl rfl
theorem en_L_law_147 : SndE EE S mi_L_law 147 (.inl (e_ldi 148 3)) := sn_iload_n dL_law_147 rfl rfl
theorem en_L_law_148 : SndE EE S mi_L_law 148 (.inl (e_psh 149 (.int (2)))) := sn_iconst dL_law_148 rfl rfl
theorem en_L_law_149 : SndE EE S mi_L_law 149 (.inl (e_bin 150 (fun x y => x + y))) := sn_iadd dL_law_149 rfl
theorem en_L_law_150 : SndE EE S mi_L_law 150 (.inl (e_sld 151 S.1 S.2)) := sn_sld dL_law_150 rfl EE_scr
theorem en_L_law_151 : SndE EE S mi_L_law 151 (.inr (.inl (d_cls 0 0, 3, 3))) := sc_virt dL_law_151 (rcv_cls (r := (RX0, TX0, 35)) rfl ⟨mo_X0_net, nmo_X0_net, q78, q79, q80⟩)
theorem en_L_law_154 : SndE EE S mi_L_law 154 (.inl (e_lda 155 2)) := sn_aload_n dL_law_154 rfl rfl
theorem en_L_law_155 : SndE EE S mi_L_law 155 (.inl (e_lda 156 0)) := sn_aload_n dL_law_155 rfl rfl
theorem en_L_law_156 : SndE EE S mi_L_law 156 (.inl (e_ldi 157 3)) := sn_iload_n dL_law_156 rfl rfl
theorem en_L_law_157 : SndE EE S mi_L_law 157 (.inl (e_psh 158 (.int (1)))) := sn_iconst dL_law_157 rfl rfl
theorem en_L_law_158 : SndE EE S mi_L_law 158 (.inl (e_bin 159 (fun x y => x + y))) := sn_iadd dL_law_158 rfl
theorem en_L_law_159 : SndE EE S mi_L_law 159 (.inl (e_sld 160 S.1 S.2)) := sn_sld dL_law_159 rfl EE_scr
theorem en_L_law_160 : SndE EE S mi_L_law 160 (.inl (e_lda 161 0)) := sn_aload_n dL_law_160 rfl rfl
theorem en_L_law_161 : SndE EE S mi_L_law 161 (.inl (e_ldi 162 3)) := sn_iload_n dL_law_161 rfl rfl
theorem en_L_law_162 : SndE EE S mi_L_law 162 (.inl (e_psh 163 (.int (2)))) := sn_iconst dL_law_162 rfl rfl
theorem en_L_law_163 : SndE EE S mi_L_law 163 (.inl (e_bin 164 (fun x y => x + y))) := sn_iadd dL_law_163 rfl
theorem en_L_law_164 : SndE EE S mi_L_law 164 (.inl (e_sld 165 S.1 S.2)) := sn_sld dL_law_164 rfl EE_scr
theorem en_L_law_165 : SndE EE S mi_L_law 165 (.inr (.inl (d_cls 3 48, 3, 3))) := sc_virt dL_law_165 (rcv_cls (r := (RX3, TX3, 61)) rfl ⟨mo_X3_net, nmo_X3_net, q1037, q1038, q1039⟩)
theorem en_L_law_168 : SndE EE S mi_L_law 168 (.inl (e_ieq 171 875)) := sn_ieq dL_law_168 rfl (by decide)
theorem en_L_law_171 : SndE EE S mi_L_law 171 (.inl (e_psh 172 (.int (0)))) := sn_iconst dL_law_171 rfl rfl
theorem en_L_law_172 : SndE EE S mi_L_law 172 (.inr (.inr 2)) := ⟨dL_law_172, rfl⟩
theorem en_L_law_173 : SndE EE S mi_L_law 173 (.inl (e_lda 174 1)) := sn_aload_n dL_law_173 rfl rfl
theorem en_L_law_174 : SndE EE S mi_L_law 174 (.inl (e_lda 175 0)) := sn_aload_n dL_law_174 rfl rfl
theorem en_L_law_175 : SndE EE S mi_L_law 175 (.inl (e_ldi 176 3)) := sn_iload_n dL_law_175 rfl rfl
theorem en_L_law_176 : SndE EE S mi_L_law 176 (.inl (e_psh 177 (.int (1)))) := sn_iconst dL_law_176 rfl rfl
theorem en_L_law_177 : SndE EE S mi_L_law 177 (.inl (e_bin 178 (fun x y => x + y))) := sn_iadd dL_law_177 rfl
theorem en_L_law_178 : SndE EE S mi_L_law 178 (.inl (e_sld 179 S.1 S.2)) := sn_sld dL_law_178 rfl EE_scr
theorem en_L_law_179 : SndE EE S mi_L_law 179 (.inr (.inl (d_cls 0 1, 2, 3))) := sc_virt dL_law_179 (rcv_cls (r := (RX0, TX0, 35)) rfl ⟨mo_X0_centre, nmo_X0_centre, q83, q84, q85⟩)
theorem en_L_law_182 : SndE EE S mi_L_law 182 (.inl (e_lda 183 2)) := sn_aload_n dL_law_182 rfl rfl
theorem en_L_law_183 : SndE EE S mi_L_law 183 (.inl (e_lda 184 0)) := sn_aload_n dL_law_183 rfl rfl
theorem en_L_law_184 : SndE EE S mi_L_law 184 (.inl (e_ldi 185 3)) := sn_iload_n dL_law_184 rfl rfl
theorem en_L_law_185 : SndE EE S mi_L_law 185 (.inl (e_psh 186 (.int (1)))) := sn_iconst dL_law_185 rfl rfl
theorem en_L_law_186 : SndE EE S mi_L_law 186 (.inl (e_bin 187 (fun x y => x + y))) := sn_iadd dL_law_186 rfl
theorem en_L_law_187 : SndE EE S mi_L_law 187 (.inl (e_sld 188 S.1 S.2)) := sn_sld dL_law_187 rfl EE_scr
theorem en_L_law_188 : SndE EE S mi_L_law 188 (.inr (.inl (d_cls 3 49, 2, 3))) := sc_virt dL_law_188 (rcv_cls (r := (RX3, TX3, 61)) rfl ⟨mo_X3_centre, nmo_X3_centre, q1042, q1043, q1044⟩)
theorem en_L_law_191 : SndE EE S mi_L_law 191 (.inl (e_ieq 194 875)) := sn_ieq dL_law_191 rfl (by decide)
theorem en_L_law_194 : SndE EE S mi_L_law 194 (.inl (e_psh 195 (.int (0)))) := sn_iconst dL_law_194 rfl rfl
theorem en_L_law_195 : SndE EE S mi_L_law 195 (.inr (.inr 2)) := ⟨dL_law_195, rfl⟩
theorem en_L_law_196 : SndE EE S mi_L_law 196 (.inl (e_lda 197 1)) := sn_aload_n dL_law_196 rfl rfl
theorem en_L_law_197 : SndE EE S mi_L_law 197 (.inl (e_lda 198 0)) := sn_aload_n dL_law_197 rfl rfl
theorem en_L_law_198 : SndE EE S mi_L_law 198 (.inl (e_ldi 199 3)) := sn_iload_n dL_law_198 rfl rfl
theorem en_L_law_199 : SndE EE S mi_L_law 199 (.inl (e_psh 200 (.int (1)))) := sn_iconst dL_law_199 rfl rfl
theorem en_L_law_200 : SndE EE S mi_L_law 200 (.inl (e_bin 201 (fun x y => x + y))) := sn_iadd dL_law_200 rfl
theorem en_L_law_201 : SndE EE S mi_L_law 201 (.inl (e_sld 202 S.1 S.2)) := sn_sld dL_law_201 rfl EE_scr
theorem en_L_law_202 : SndE EE S mi_L_law 202 (.inl (e_lda 203 0)) := sn_aload_n dL_law_202 rfl rfl
theorem en_L_law_203 : SndE EE S mi_L_law 203 (.inl (e_ldi 204 3)) := sn_iload_n dL_law_203 rfl rfl
theorem en_L_law_204 : SndE EE S mi_L_law 204 (.inl (e_psh 205 (.int (2)))) := sn_iconst dL_law_204 rfl rfl
theorem en_L_law_205 : SndE EE S mi_L_law 205 (.inl (e_bin 206 (fun x y => x + y))) := sn_iadd dL_law_205 rfl
theorem en_L_law_206 : SndE EE S mi_L_law 206 (.inl (e_sld 207 S.1 S.2)) := sn_sld dL_law_206 rfl EE_scr
theorem en_L_law_207 : SndE EE S mi_L_law 207 (.inr (.inl (d_cls 0 5, 3, 3))) := sc_virt dL_law_207 (rcv_cls (r := (RX0, TX0, 35)) rfl ⟨mo_X0_full, nmo_X0_full, q100, q101, q102⟩)
theorem en_L_law_210 : SndE EE S mi_L_law 210 (.inl (e_lda 211 2)) := sn_aload_n dL_law_210 rfl rfl
theorem en_L_law_211 : SndE EE S mi_L_law 211 (.inl (e_lda 212 0)) := sn_aload_n dL_law_211 rfl rfl
theorem en_L_law_212 : SndE EE S mi_L_law 212 (.inl (e_ldi 213 3)) := sn_iload_n dL_law_212 rfl rfl
theorem en_L_law_213 : SndE EE S mi_L_law 213 (.inl (e_psh 214 (.int (1)))) := sn_iconst dL_law_213 rfl rfl
theorem en_L_law_214 : SndE EE S mi_L_law 214 (.inl (e_bin 215 (fun x y => x + y))) := sn_iadd dL_law_214 rfl
theorem en_L_law_215 : SndE EE S mi_L_law 215 (.inl (e_sld 216 S.1 S.2)) := sn_sld dL_law_215 rfl EE_scr
theorem en_L_law_216 : SndE EE S mi_L_law 216 (.inl (e_lda 217 0)) := sn_aload_n dL_law_216 rfl rfl
theorem en_L_law_217 : SndE EE S mi_L_law 217 (.inl (e_ldi 218 3)) := sn_iload_n dL_law_217 rfl rfl
theorem en_L_law_218 : SndE EE S mi_L_law 218 (.inl (e_psh 219 (.int (2)))) := sn_iconst dL_law_218 rfl rfl
theorem en_L_law_219 : SndE EE S mi_L_law 219 (.inl (e_bin 220 (fun x y => x + y))) := sn_iadd dL_law_219 rfl
theorem en_L_law_220 : SndE EE S mi_L_law 220 (.inl (e_sld 221 S.1 S.2)) := sn_sld dL_law_220 rfl EE_scr
theorem en_L_law_221 : SndE EE S mi_L_law 221 (.inr (.inl (d_cls 3 53, 3, 3))) := sc_virt dL_law_221 (rcv_cls (r := (RX3, TX3, 61)) rfl ⟨mo_X3_full, nmo_X3_full, q1058, q1059, q1060⟩)
theorem en_L_law_224 : SndE EE S mi_L_law 224 (.inl (e_ieq 227 875)) := sn_ieq dL_law_224 rfl (by decide)
theorem en_L_law_227 : SndE EE S mi_L_law 227 (.inl (e_psh 228 (.int (0)))) := sn_iconst dL_law_227 rfl rfl
theorem en_L_law_228 : SndE EE S mi_L_law 228 (.inr (.inr 2)) := ⟨dL_law_228, rfl⟩
theorem en_L_law_229 : SndE EE S mi_L_law 229 (.inl (e_lda 230 1)) := sn_aload_n dL_law_229 rfl rfl
theorem en_L_law_230 : SndE EE S mi_L_law 230 (.inl (e_lda 231 0)) := sn_aload_n dL_law_230 rfl rfl
theorem en_L_law_231 : SndE EE S mi_L_law 231 (.inl (e_ldi 232 3)) := sn_iload_n dL_law_231 rfl rfl
theorem en_L_law_232 : SndE EE S mi_L_law 232 (.inl (e_psh 233 (.int (1)))) := sn_iconst dL_law_232 rfl rfl
theorem en_L_law_233 : SndE EE S mi_L_law 233 (.inl (e_bin 234 (fun x y => x + y))) := sn_iadd dL_law_233 rfl
theorem en_L_law_234 : SndE EE S mi_L_law 234 (.inl (e_sld 235 S.1 S.2)) := sn_sld dL_law_234 rfl EE_scr
theorem en_L_law_235 : SndE EE S mi_L_law 235 (.inl (e_lda 236 0)) := sn_aload_n dL_law_235 rfl rfl
theorem en_L_law_236 : SndE EE S mi_L_law 236 (.inl (e_ldi 237 3)) := sn_iload_n dL_law_236 rfl rfl
theorem en_L_law_237 : SndE EE S mi_L_law 237 (.inl (e_psh 238 (.int (2)))) := sn_iconst dL_law_237 rfl rfl
theorem en_L_law_238 : SndE EE S mi_L_law 238 (.inl (e_bin 239 (fun x y => x + y))) := sn_iadd dL_law_238 rfl
theorem en_L_law_239 : SndE EE S mi_L_law 239 (.inl (e_sld 240 S.1 S.2)) := sn_sld dL_law_239 rfl EE_scr
theorem en_L_law_240 : SndE EE S mi_L_law 240 (.inl (e_lda 241 0)) := sn_aload_n dL_law_240 rfl rfl
theorem en_L_law_241 : SndE EE S mi_L_law 241 (.inl (e_ldi 242 3)) := sn_iload_n dL_law_241 rfl rfl
theorem en_L_law_242 : SndE EE S mi_L_law 242 (.inl (e_psh 243 (.int (3)))) := sn_iconst dL_law_242 rfl rfl
theorem en_L_law_243 : SndE EE S mi_L_law 243 (.inl (e_bin 244 (fun x y => x + y))) := sn_iadd dL_law_243 rfl
theorem en_L_law_244 : SndE EE S mi_L_law 244 (.inl (e_sld 245 S.1 S.2)) := sn_sld dL_law_244 rfl EE_scr
theorem en_L_law_245 : SndE EE S mi_L_law 245 (.inl (e_lda 246 0)) := sn_aload_n dL_law_245 rfl rfl
theorem en_L_law_246 : SndE EE S mi_L_law 246 (.inl (e_ldi 247 3)) := sn_iload_n dL_law_246 rfl rfl
theorem en_L_law_247 : SndE EE S mi_L_law 247 (.inl (e_psh 248 (.int (4)))) := sn_iconst dL_law_247 rfl rfl
theorem en_L_law_248 : SndE EE S mi_L_law 248 (.inl (e_bin 249 (fun x y => x + y))) := sn_iadd dL_law_248 rfl
theorem en_L_law_249 : SndE EE S mi_L_law 249 (.inl (e_sld 250 S.1 S.2)) := sn_sld dL_law_249 rfl EE_scr
theorem en_L_law_250 : SndE EE S mi_L_law 250 (.inl (e_lda 251 0)) := sn_aload_n dL_law_250 rfl rfl
theorem en_L_law_251 : SndE EE S mi_L_law 251 (.inl (e_ldi 252 3)) := sn_iload_n dL_law_251 rfl rfl
theorem en_L_law_252 : SndE EE S mi_L_law 252 (.inl (e_psh 253 (.int (5)))) := sn_iconst dL_law_252 rfl rfl
theorem en_L_law_253 : SndE EE S mi_L_law 253 (.inl (e_bin 254 (fun x y => x + y))) := sn_iadd dL_law_253 rfl
theorem en_L_law_254 : SndE EE S mi_L_law 254 (.inl (e_sld 255 S.1 S.2)) := sn_sld dL_law_254 rfl EE_scr
theorem en_L_law_255 : SndE EE S mi_L_law 255 (.inr (.inl (d_cls 0 6, 6, 3))) := sc_virt dL_law_255 (rcv_cls (r := (RX0, TX0, 35)) rfl ⟨mo_X0_feed, nmo_X0_feed, q104, q105, q106⟩)
theorem en_L_law_258 : SndE EE S mi_L_law 258 (.inl (e_lda 259 2)) := sn_aload_n dL_law_258 rfl rfl
theorem en_L_law_259 : SndE EE S mi_L_law 259 (.inl (e_lda 260 0)) := sn_aload_n dL_law_259 rfl rfl
theorem en_L_law_260 : SndE EE S mi_L_law 260 (.inl (e_ldi 261 3)) := sn_iload_n dL_law_260 rfl rfl
theorem en_L_law_261 : SndE EE S mi_L_law 261 (.inl (e_psh 262 (.int (1)))) := sn_iconst dL_law_261 rfl rfl
theorem en_L_law_262 : SndE EE S mi_L_law 262 (.inl (e_bin 263 (fun x y => x + y))) := sn_iadd dL_law_262 rfl
theorem en_L_law_263 : SndE EE S mi_L_law 263 (.inl (e_sld 264 S.1 S.2)) := sn_sld dL_law_263 rfl EE_scr
theorem en_L_law_264 : SndE EE S mi_L_law 264 (.inl (e_lda 265 0)) := sn_aload_n dL_law_264 rfl rfl
theorem en_L_law_265 : SndE EE S mi_L_law 265 (.inl (e_ldi 266 3)) := sn_iload_n dL_law_265 rfl rfl
theorem en_L_law_266 : SndE EE S mi_L_law 266 (.inl (e_psh 267 (.int (2)))) := sn_iconst dL_law_266 rfl rfl
theorem en_L_law_267 : SndE EE S mi_L_law 267 (.inl (e_bin 268 (fun x y => x + y))) := sn_iadd dL_law_267 rfl
theorem en_L_law_268 : SndE EE S mi_L_law 268 (.inl (e_sld 269 S.1 S.2)) := sn_sld dL_law_268 rfl EE_scr
theorem en_L_law_269 : SndE EE S mi_L_law 269 (.inl (e_lda 270 0)) := sn_aload_n dL_law_269 rfl rfl
theorem en_L_law_270 : SndE EE S mi_L_law 270 (.inl (e_ldi 271 3)) := sn_iload_n dL_law_270 rfl rfl
theorem en_L_law_271 : SndE EE S mi_L_law 271 (.inl (e_psh 272 (.int (3)))) := sn_iconst dL_law_271 rfl rfl
theorem en_L_law_272 : SndE EE S mi_L_law 272 (.inl (e_bin 273 (fun x y => x + y))) := sn_iadd dL_law_272 rfl
theorem en_L_law_273 : SndE EE S mi_L_law 273 (.inl (e_sld 274 S.1 S.2)) := sn_sld dL_law_273 rfl EE_scr
theorem en_L_law_274 : SndE EE S mi_L_law 274 (.inl (e_lda 275 0)) := sn_aload_n dL_law_274 rfl rfl
theorem en_L_law_275 : SndE EE S mi_L_law 275 (.inl (e_ldi 276 3)) := sn_iload_n dL_law_275 rfl rfl
theorem en_L_law_276 : SndE EE S mi_L_law 276 (.inl (e_psh 277 (.int (4)))) := sn_iconst dL_law_276 rfl rfl
theorem en_L_law_277 : SndE EE S mi_L_law 277 (.inl (e_bin 278 (fun x y => x + y))) := sn_iadd dL_law_277 rfl
theorem en_L_law_278 : SndE EE S mi_L_law 278 (.inl (e_sld 279 S.1 S.2)) := sn_sld dL_law_278 rfl EE_scr
theorem en_L_law_279 : SndE EE S mi_L_law 279 (.inl (e_lda 280 0)) := sn_aload_n dL_law_279 rfl rfl
theorem en_L_law_280 : SndE EE S mi_L_law 280 (.inl (e_ldi 281 3)) := sn_iload_n dL_law_280 rfl rfl
theorem en_L_law_281 : SndE EE S mi_L_law 281 (.inl (e_psh 282 (.int (5)))) := sn_iconst dL_law_281 rfl rfl
theorem en_L_law_282 : SndE EE S mi_L_law 282 (.inl (e_bin 283 (fun x y => x + y))) := sn_iadd dL_law_282 rfl
theorem en_L_law_283 : SndE EE S mi_L_law 283 (.inl (e_sld 284 S.1 S.2)) := sn_sld dL_law_283 rfl EE_scr
theorem en_L_law_284 : SndE EE S mi_L_law 284 (.inr (.inl (d_cls 3 54, 6, 3))) := sc_virt dL_law_284 (rcv_cls (r := (RX3, TX3, 61)) rfl ⟨mo_X3_feed, nmo_X3_feed, q1062, q1063, q1064⟩)
theorem en_L_law_287 : SndE EE S mi_L_law 287 (.inl (e_ieq 290 875)) := sn_ieq dL_law_287 rfl (by decide)
theorem en_L_law_290 : SndE EE S mi_L_law 290 (.inl (e_psh 291 (.int (0)))) := sn_iconst dL_law_290 rfl rfl
theorem en_L_law_291 : SndE EE S mi_L_law 291 (.inr (.inr 2)) := ⟨dL_law_291, rfl⟩
theorem en_L_law_292 : SndE EE S mi_L_law 292 (.inl (e_lda 293 1)) := sn_aload_n dL_law_292 rfl rfl
theorem en_L_law_293 : SndE EE S mi_L_law 293 (.inl (e_lda 294 0)) := sn_aload_n dL_law_293 rfl rfl
theorem en_L_law_294 : SndE EE S mi_L_law 294 (.inl (e_ldi 295 3)) := sn_iload_n dL_law_294 rfl rfl
theorem en_L_law_295 : SndE EE S mi_L_law 295 (.inl (e_psh 296 (.int (1)))) := sn_iconst dL_law_295 rfl rfl
theorem en_L_law_296 : SndE EE S mi_L_law 296 (.inl (e_bin 297 (fun x y => x + y))) := sn_iadd dL_law_296 rfl
theorem en_L_law_297 : SndE EE S mi_L_law 297 (.inl (e_sld 298 S.1 S.2)) := sn_sld dL_law_297 rfl EE_scr
theorem en_L_law_298 : SndE EE S mi_L_law 298 (.inr (.inl (d_cls 0 8, 2, 3))) := sc_virt dL_law_298 (rcv_cls (r := (RX0, TX0, 35)) rfl ⟨mo_X0_end, nmo_X0_end, q112, q113, q114⟩)
theorem en_L_law_301 : SndE EE S mi_L_law 301 (.inl (e_lda 302 2)) := sn_aload_n dL_law_301 rfl rfl
theorem en_L_law_302 : SndE EE S mi_L_law 302 (.inl (e_lda 303 0)) := sn_aload_n dL_law_302 rfl rfl
theorem en_L_law_303 : SndE EE S mi_L_law 303 (.inl (e_ldi 304 3)) := sn_iload_n dL_law_303 rfl rfl
theorem en_L_law_304 : SndE EE S mi_L_law 304 (.inl (e_psh 305 (.int (1)))) := sn_iconst dL_law_304 rfl rfl
theorem en_L_law_305 : SndE EE S mi_L_law 305 (.inl (e_bin 306 (fun x y => x + y))) := sn_iadd dL_law_305 rfl
theorem en_L_law_306 : SndE EE S mi_L_law 306 (.inl (e_sld 307 S.1 S.2)) := sn_sld dL_law_306 rfl EE_scr
theorem en_L_law_307 : SndE EE S mi_L_law 307 (.inr (.inl (d_cls 3 56, 2, 3))) := sc_virt dL_law_307 (rcv_cls (r := (RX3, TX3, 61)) rfl ⟨mo_X3_end, nmo_X3_end, q1070, q1071, q1072⟩)
theorem en_L_law_310 : SndE EE S mi_L_law 310 (.inl (e_ieq 313 875)) := sn_ieq dL_law_310 rfl (by decide)
theorem en_L_law_313 : SndE EE S mi_L_law 313 (.inl (e_psh 314 (.int (0)))) := sn_iconst dL_law_313 rfl rfl
theorem en_L_law_314 : SndE EE S mi_L_law 314 (.inr (.inr 2)) := ⟨dL_law_314, rfl⟩
theorem en_L_law_315 : SndE EE S mi_L_law 315 (.inl (e_lda 316 1)) := sn_aload_n dL_law_315 rfl rfl
theorem en_L_law_316 : SndE EE S mi_L_law 316 (.inr (.inl (d_cls 0 9, 1, 3))) := sc_virt dL_law_316 (rcv_cls (r := (RX0, TX0, 35)) rfl ⟨mo_X0_grades, nmo_X0_grades, q116, q117, q118⟩)
theorem en_L_law_319 : SndE EE S mi_L_law 319 (.inl (e_lda 320 2)) := sn_aload_n dL_law_319 rfl rfl
theorem en_L_law_320 : SndE EE S mi_L_law 320 (.inr (.inl (d_cls 3 57, 1, 3))) := sc_virt dL_law_320 (rcv_cls (r := (RX3, TX3, 61)) rfl ⟨mo_X3_grades, nmo_X3_grades, q1074, q1075, q1076⟩)
theorem en_L_law_323 : SndE EE S mi_L_law 323 (.inl (e_ieq 326 875)) := sn_ieq dL_law_323 rfl (by decide)
theorem en_L_law_326 : SndE EE S mi_L_law 326 (.inl (e_psh 327 (.int (0)))) := sn_iconst dL_law_326 rfl rfl
theorem en_L_law_327 : SndE EE S mi_L_law 327 (.inr (.inr 2)) := ⟨dL_law_327, rfl⟩
theorem en_L_law_328 : SndE EE S mi_L_law 328 (.inl (e_lda 329 1)) := sn_aload_n dL_law_328 rfl rfl
theorem en_L_law_329 : SndE EE S mi_L_law 329 (.inl (e_lda 330 0)) := sn_aload_n dL_law_329 rfl rfl
theorem en_L_law_330 : SndE EE S mi_L_law 330 (.inl (e_ldi 331 3)) := sn_iload_n dL_law_330 rfl rfl
theorem en_L_law_331 : SndE EE S mi_L_law 331 (.inl (e_psh 332 (.int (1)))) := sn_iconst dL_law_331 rfl rfl
theorem en_L_law_332 : SndE EE S mi_L_law 332 (.inl (e_bin 333 (fun x y => x + y))) := sn_iadd dL_law_332 rfl
theorem en_L_law_333 : SndE EE S mi_L_law 333 (.inl (e_sld 334 S.1 S.2)) := sn_sld dL_law_333 rfl EE_scr
theorem en_L_law_334 : SndE EE S mi_L_law 334 (.inr (.inl (d_cls 0 11, 2, 3))) := sc_virt dL_law_334 (rcv_cls (r := (RX0, TX0, 35)) rfl ⟨mo_X0_fault, nmo_X0_fault, q529, q530, q531⟩)
theorem en_L_law_337 : SndE EE S mi_L_law 337 (.inl (e_lda 338 2)) := sn_aload_n dL_law_337 rfl rfl
theorem en_L_law_338 : SndE EE S mi_L_law 338 (.inl (e_lda 339 0)) := sn_aload_n dL_law_338 rfl rfl
theorem en_L_law_339 : SndE EE S mi_L_law 339 (.inl (e_ldi 340 3)) := sn_iload_n dL_law_339 rfl rfl
theorem en_L_law_340 : SndE EE S mi_L_law 340 (.inl (e_psh 341 (.int (1)))) := sn_iconst dL_law_340 rfl rfl
theorem en_L_law_341 : SndE EE S mi_L_law 341 (.inl (e_bin 342 (fun x y => x + y))) := sn_iadd dL_law_341 rfl
theorem en_L_law_342 : SndE EE S mi_L_law 342 (.inl (e_sld 343 S.1 S.2)) := sn_sld dL_law_342 rfl EE_scr
theorem en_L_law_343 : SndE EE S mi_L_law 343 (.inr (.inl (d_cls 3 77, 2, 3))) := sc_virt dL_law_343 (rcv_cls (r := (RX3, TX3, 61)) rfl ⟨mo_X3_fault, nmo_X3_fault, q1162, q1163, q1164⟩)
theorem en_L_law_346 : SndE EE S mi_L_law 346 (.inl (e_ieq 349 875)) := sn_ieq dL_law_346 rfl (by decide)
theorem en_L_law_349 : SndE EE S mi_L_law 349 (.inl (e_psh 350 (.int (0)))) := sn_iconst dL_law_349 rfl rfl
theorem en_L_law_350 : SndE EE S mi_L_law 350 (.inr (.inr 2)) := ⟨dL_law_350, rfl⟩
theorem en_L_law_351 : SndE EE S mi_L_law 351 (.inl (e_lda 352 1)) := sn_aload_n dL_law_351 rfl rfl
theorem en_L_law_352 : SndE EE S mi_L_law 352 (.inr (.inl (d_cls 0 12, 1, 3))) := sc_virt dL_law_352 (rcv_cls (r := (RX0, TX0, 35)) rfl ⟨mo_X0_leaf, nmo_X0_leaf, q533, q534, q535⟩)
theorem en_L_law_355 : SndE EE S mi_L_law 355 (.inl (e_lda 356 2)) := sn_aload_n dL_law_355 rfl rfl
theorem en_L_law_356 : SndE EE S mi_L_law 356 (.inr (.inl (d_cls 3 78, 1, 3))) := sc_virt dL_law_356 (rcv_cls (r := (RX3, TX3, 61)) rfl ⟨mo_X3_leaf, nmo_X3_leaf, q1166, q1167, q1168⟩)
theorem en_L_law_359 : SndE EE S mi_L_law 359 (.inl (e_ieq 362 875)) := sn_ieq dL_law_359 rfl (by decide)
theorem en_L_law_362 : SndE EE S mi_L_law 362 (.inl (e_psh 363 (.int (0)))) := sn_iconst dL_law_362 rfl rfl
theorem en_L_law_363 : SndE EE S mi_L_law 363 (.inr (.inr 2)) := ⟨dL_law_363, rfl⟩
theorem en_L_law_364 : SndE EE S mi_L_law 364 (.inl (e_lda 365 1)) := sn_aload_n dL_law_364 rfl rfl
theorem en_L_law_365 : SndE EE S mi_L_law 365 (.inl (e_lda 366 0)) := sn_aload_n dL_law_365 rfl rfl
theorem en_L_law_366 : SndE EE S mi_L_law 366 (.inl (e_ldi 367 3)) := sn_iload_n dL_law_366 rfl rfl
theorem en_L_law_367 : SndE EE S mi_L_law 367 (.inl (e_psh 368 (.int (1)))) := sn_iconst dL_law_367 rfl rfl
theorem en_L_law_368 : SndE EE S mi_L_law 368 (.inl (e_bin 369 (fun x y => x + y))) := sn_iadd dL_law_368 rfl
theorem en_L_law_369 : SndE EE S mi_L_law 369 (.inl (e_sld 370 S.1 S.2)) := sn_sld dL_law_369 rfl EE_scr
theorem en_L_law_370 : SndE EE S mi_L_law 370 (.inl (e_lda 371 0)) := sn_aload_n dL_law_370 rfl rfl
theorem en_L_law_371 : SndE EE S mi_L_law 371 (.inl (e_ldi 372 3)) := sn_iload_n dL_law_371 rfl rfl
theorem en_L_law_372 : SndE EE S mi_L_law 372 (.inl (e_psh 373 (.int (2)))) := sn_iconst dL_law_372 rfl rfl
theorem en_L_law_373 : SndE EE S mi_L_law 373 (.inl (e_bin 374 (fun x y => x + y))) := sn_iadd dL_law_373 rfl
theorem en_L_law_374 : SndE EE S mi_L_law 374 (.inl (e_sld 375 S.1 S.2)) := sn_sld dL_law_374 rfl EE_scr
theorem en_L_law_375 : SndE EE S mi_L_law 375 (.inr (.inl (d_cls 0 14, 3, 3))) := sc_virt dL_law_375 (rcv_cls (r := (RX0, TX0, 35)) rfl ⟨mo_X0_patch, nmo_X0_patch, q543, q544, q545⟩)
theorem en_L_law_378 : SndE EE S mi_L_law 378 (.inl (e_lda 379 2)) := sn_aload_n dL_law_378 rfl rfl
theorem en_L_law_379 : SndE EE S mi_L_law 379 (.inl (e_lda 380 0)) := sn_aload_n dL_law_379 rfl rfl
theorem en_L_law_380 : SndE EE S mi_L_law 380 (.inl (e_ldi 381 3)) := sn_iload_n dL_law_380 rfl rfl
theorem en_L_law_381 : SndE EE S mi_L_law 381 (.inl (e_psh 382 (.int (1)))) := sn_iconst dL_law_381 rfl rfl
theorem en_L_law_382 : SndE EE S mi_L_law 382 (.inl (e_bin 383 (fun x y => x + y))) := sn_iadd dL_law_382 rfl
theorem en_L_law_383 : SndE EE S mi_L_law 383 (.inl (e_sld 384 S.1 S.2)) := sn_sld dL_law_383 rfl EE_scr
theorem en_L_law_384 : SndE EE S mi_L_law 384 (.inl (e_lda 385 0)) := sn_aload_n dL_law_384 rfl rfl
theorem en_L_law_385 : SndE EE S mi_L_law 385 (.inl (e_ldi 386 3)) := sn_iload_n dL_law_385 rfl rfl
theorem en_L_law_386 : SndE EE S mi_L_law 386 (.inl (e_psh 387 (.int (2)))) := sn_iconst dL_law_386 rfl rfl
theorem en_L_law_387 : SndE EE S mi_L_law 387 (.inl (e_bin 388 (fun x y => x + y))) := sn_iadd dL_law_387 rfl
theorem en_L_law_388 : SndE EE S mi_L_law 388 (.inl (e_sld 389 S.1 S.2)) := sn_sld dL_law_388 rfl EE_scr
theorem en_L_law_389 : SndE EE S mi_L_law 389 (.inr (.inl (d_cls 3 80, 3, 3))) := sc_virt dL_law_389 (rcv_cls (r := (RX3, TX3, 61)) rfl ⟨mo_X3_patch, nmo_X3_patch, q1173, q1174, q1175⟩)
theorem en_L_law_392 : SndE EE S mi_L_law 392 (.inl (e_ieq 395 875)) := sn_ieq dL_law_392 rfl (by decide)
theorem en_L_law_395 : SndE EE S mi_L_law 395 (.inl (e_psh 396 (.int (0)))) := sn_iconst dL_law_395 rfl rfl
theorem en_L_law_396 : SndE EE S mi_L_law 396 (.inr (.inr 2)) := ⟨dL_law_396, rfl⟩
theorem en_L_law_397 : SndE EE S mi_L_law 397 (.inl (e_lda 398 1)) := sn_aload_n dL_law_397 rfl rfl
theorem en_L_law_398 : SndE EE S mi_L_law 398 (.inl (e_lda 399 0)) := sn_aload_n dL_law_398 rfl rfl
theorem en_L_law_399 : SndE EE S mi_L_law 399 (.inl (e_ldi 400 3)) := sn_iload_n dL_law_399 rfl rfl
theorem en_L_law_400 : SndE EE S mi_L_law 400 (.inl (e_psh 401 (.int (1)))) := sn_iconst dL_law_400 rfl rfl
theorem en_L_law_401 : SndE EE S mi_L_law 401 (.inl (e_bin 402 (fun x y => x + y))) := sn_iadd dL_law_401 rfl
theorem en_L_law_402 : SndE EE S mi_L_law 402 (.inl (e_sld 403 S.1 S.2)) := sn_sld dL_law_402 rfl EE_scr
theorem en_L_law_403 : SndE EE S mi_L_law 403 (.inl (e_lda 404 0)) := sn_aload_n dL_law_403 rfl rfl
theorem en_L_law_404 : SndE EE S mi_L_law 404 (.inl (e_ldi 405 3)) := sn_iload_n dL_law_404 rfl rfl
theorem en_L_law_405 : SndE EE S mi_L_law 405 (.inl (e_psh 406 (.int (2)))) := sn_iconst dL_law_405 rfl rfl
theorem en_L_law_406 : SndE EE S mi_L_law 406 (.inl (e_bin 407 (fun x y => x + y))) := sn_iadd dL_law_406 rfl
theorem en_L_law_407 : SndE EE S mi_L_law 407 (.inl (e_sld 408 S.1 S.2)) := sn_sld dL_law_407 rfl EE_scr
theorem en_L_law_408 : SndE EE S mi_L_law 408 (.inl (e_lda 409 0)) := sn_aload_n dL_law_408 rfl rfl
theorem en_L_law_409 : SndE EE S mi_L_law 409 (.inl (e_ldi 410 3)) := sn_iload_n dL_law_409 rfl rfl
theorem en_L_law_410 : SndE EE S mi_L_law 410 (.inl (e_psh 411 (.int (3)))) := sn_iconst dL_law_410 rfl rfl
theorem en_L_law_411 : SndE EE S mi_L_law 411 (.inl (e_bin 412 (fun x y => x + y))) := sn_iadd dL_law_411 rfl
theorem en_L_law_412 : SndE EE S mi_L_law 412 (.inl (e_sld 413 S.1 S.2)) := sn_sld dL_law_412 rfl EE_scr
theorem en_L_law_413 : SndE EE S mi_L_law 413 (.inr (.inl (d_cls 0 15, 4, 3))) := sc_virt dL_law_413 (rcv_cls (r := (RX0, TX0, 35)) rfl ⟨mo_X0_sheet, nmo_X0_sheet, q547, q548, q549⟩)
theorem en_L_law_416 : SndE EE S mi_L_law 416 (.inl (e_lda 417 2)) := sn_aload_n dL_law_416 rfl rfl
theorem en_L_law_417 : SndE EE S mi_L_law 417 (.inl (e_lda 418 0)) := sn_aload_n dL_law_417 rfl rfl
theorem en_L_law_418 : SndE EE S mi_L_law 418 (.inl (e_ldi 419 3)) := sn_iload_n dL_law_418 rfl rfl
theorem en_L_law_419 : SndE EE S mi_L_law 419 (.inl (e_psh 420 (.int (1)))) := sn_iconst dL_law_419 rfl rfl
theorem en_L_law_420 : SndE EE S mi_L_law 420 (.inl (e_bin 421 (fun x y => x + y))) := sn_iadd dL_law_420 rfl
theorem en_L_law_421 : SndE EE S mi_L_law 421 (.inl (e_sld 422 S.1 S.2)) := sn_sld dL_law_421 rfl EE_scr
theorem en_L_law_422 : SndE EE S mi_L_law 422 (.inl (e_lda 423 0)) := sn_aload_n dL_law_422 rfl rfl
theorem en_L_law_423 : SndE EE S mi_L_law 423 (.inl (e_ldi 424 3)) := sn_iload_n dL_law_423 rfl rfl
theorem en_L_law_424 : SndE EE S mi_L_law 424 (.inl (e_psh 425 (.int (2)))) := sn_iconst dL_law_424 rfl rfl
theorem en_L_law_425 : SndE EE S mi_L_law 425 (.inl (e_bin 426 (fun x y => x + y))) := sn_iadd dL_law_425 rfl
theorem en_L_law_426 : SndE EE S mi_L_law 426 (.inl (e_sld 427 S.1 S.2)) := sn_sld dL_law_426 rfl EE_scr
theorem en_L_law_427 : SndE EE S mi_L_law 427 (.inl (e_lda 428 0)) := sn_aload_n dL_law_427 rfl rfl
theorem en_L_law_428 : SndE EE S mi_L_law 428 (.inl (e_ldi 429 3)) := sn_iload_n dL_law_428 rfl rfl
theorem en_L_law_429 : SndE EE S mi_L_law 429 (.inl (e_psh 430 (.int (3)))) := sn_iconst dL_law_429 rfl rfl
theorem en_L_law_430 : SndE EE S mi_L_law 430 (.inl (e_bin 431 (fun x y => x + y))) := sn_iadd dL_law_430 rfl
theorem en_L_law_431 : SndE EE S mi_L_law 431 (.inl (e_sld 432 S.1 S.2)) := sn_sld dL_law_431 rfl EE_scr
theorem en_L_law_432 : SndE EE S mi_L_law 432 (.inr (.inl (d_cls 3 81, 4, 3))) := sc_virt dL_law_432 (rcv_cls (r := (RX3, TX3, 61)) rfl ⟨mo_X3_sheet, nmo_X3_sheet, q1177, q1178, q1179⟩)
theorem en_L_law_435 : SndE EE S mi_L_law 435 (.inl (e_ieq 438 875)) := sn_ieq dL_law_435 rfl (by decide)
theorem en_L_law_438 : SndE EE S mi_L_law 438 (.inl (e_psh 439 (.int (0)))) := sn_iconst dL_law_438 rfl rfl
theorem en_L_law_439 : SndE EE S mi_L_law 439 (.inr (.inr 2)) := ⟨dL_law_439, rfl⟩
theorem en_L_law_440 : SndE EE S mi_L_law 440 (.inl (e_lda 441 1)) := sn_aload_n dL_law_440 rfl rfl
theorem en_L_law_441 : SndE EE S mi_L_law 441 (.inr (.inl (d_cls 0 19, 1, 3))) := sc_virt dL_law_441 (rcv_cls (r := (RX0, TX0, 35)) rfl ⟨mo_X0_worth, nmo_X0_worth, q596, q597, q598⟩)
theorem en_L_law_444 : SndE EE S mi_L_law 444 (.inl (e_lda 445 2)) := sn_aload_n dL_law_444 rfl rfl
theorem en_L_law_445 : SndE EE S mi_L_law 445 (.inr (.inl (d_cls 3 84, 1, 3))) := sc_virt dL_law_445 (rcv_cls (r := (RX3, TX3, 61)) rfl ⟨mo_X3_worth, nmo_X3_worth, q1189, q1190, q1191⟩)
theorem en_L_law_448 : SndE EE S mi_L_law 448 (.inl (e_ieq 451 875)) := sn_ieq dL_law_448 rfl (by decide)
theorem en_L_law_451 : SndE EE S mi_L_law 451 (.inl (e_psh 452 (.int (0)))) := sn_iconst dL_law_451 rfl rfl
theorem en_L_law_452 : SndE EE S mi_L_law 452 (.inr (.inr 2)) := ⟨dL_law_452, rfl⟩
theorem en_L_law_453 : SndE EE S mi_L_law 453 (.inl (e_lda 454 1)) := sn_aload_n dL_law_453 rfl rfl
theorem en_L_law_454 : SndE EE S mi_L_law 454 (.inr (.inl (d_cls 0 22, 1, 3))) := sc_virt dL_law_454 (rcv_cls (r := (RX0, TX0, 35)) rfl ⟨mo_X0_sheets, nmo_X0_sheets, q608, q609, q610⟩)
theorem en_L_law_457 : SndE EE S mi_L_law 457 (.inl (e_lda 458 2)) := sn_aload_n dL_law_457 rfl rfl
theorem en_L_law_458 : SndE EE S mi_L_law 458 (.inr (.inl (d_cls 3 87, 1, 3))) := sc_virt dL_law_458 (rcv_cls (r := (RX3, TX3, 61)) rfl ⟨mo_X3_sheets, nmo_X3_sheets, q1200, q1201, q1202⟩)
theorem en_L_law_461 : SndE EE S mi_L_law 461 (.inl (e_ieq 464 875)) := sn_ieq dL_law_461 rfl (by decide)
theorem en_L_law_464 : SndE EE S mi_L_law 464 (.inl (e_psh 465 (.int (0)))) := sn_iconst dL_law_464 rfl rfl
theorem en_L_law_465 : SndE EE S mi_L_law 465 (.inr (.inr 2)) := ⟨dL_law_465, rfl⟩
theorem en_L_law_466 : SndE EE S mi_L_law 466 (.inl (e_lda 467 1)) := sn_aload_n dL_law_466 rfl rfl
theorem en_L_law_467 : SndE EE S mi_L_law 467 (.inl (e_lda 468 0)) := sn_aload_n dL_law_467 rfl rfl
theorem en_L_law_468 : SndE EE S mi_L_law 468 (.inl (e_ldi 469 3)) := sn_iload_n dL_law_468 rfl rfl
theorem en_L_law_469 : SndE EE S mi_L_law 469 (.inl (e_psh 470 (.int (1)))) := sn_iconst dL_law_469 rfl rfl
theorem en_L_law_470 : SndE EE S mi_L_law 470 (.inl (e_bin 471 (fun x y => x + y))) := sn_iadd dL_law_470 rfl
theorem en_L_law_471 : SndE EE S mi_L_law 471 (.inl (e_sld 472 S.1 S.2)) := sn_sld dL_law_471 rfl EE_scr
theorem en_L_law_472 : SndE EE S mi_L_law 472 (.inl (e_lda 473 0)) := sn_aload_n dL_law_472 rfl rfl
theorem en_L_law_473 : SndE EE S mi_L_law 473 (.inl (e_ldi 474 3)) := sn_iload_n dL_law_473 rfl rfl
theorem en_L_law_474 : SndE EE S mi_L_law 474 (.inl (e_psh 475 (.int (2)))) := sn_iconst dL_law_474 rfl rfl
theorem en_L_law_475 : SndE EE S mi_L_law 475 (.inl (e_bin 476 (fun x y => x + y))) := sn_iadd dL_law_475 rfl
theorem en_L_law_476 : SndE EE S mi_L_law 476 (.inl (e_sld 477 S.1 S.2)) := sn_sld dL_law_476 rfl EE_scr
theorem en_L_law_477 : SndE EE S mi_L_law 477 (.inr (.inl (d_cls 0 23, 3, 3))) := sc_virt dL_law_477 (rcv_cls (r := (RX0, TX0, 35)) rfl ⟨mo_X0_clipped, nmo_X0_clipped, q612, q613, q614⟩)
theorem en_L_law_480 : SndE EE S mi_L_law 480 (.inl (e_lda 481 2)) := sn_aload_n dL_law_480 rfl rfl
theorem en_L_law_481 : SndE EE S mi_L_law 481 (.inl (e_lda 482 0)) := sn_aload_n dL_law_481 rfl rfl
theorem en_L_law_482 : SndE EE S mi_L_law 482 (.inl (e_ldi 483 3)) := sn_iload_n dL_law_482 rfl rfl
theorem en_L_law_483 : SndE EE S mi_L_law 483 (.inl (e_psh 484 (.int (1)))) := sn_iconst dL_law_483 rfl rfl
theorem en_L_law_484 : SndE EE S mi_L_law 484 (.inl (e_bin 485 (fun x y => x + y))) := sn_iadd dL_law_484 rfl
theorem en_L_law_485 : SndE EE S mi_L_law 485 (.inl (e_sld 486 S.1 S.2)) := sn_sld dL_law_485 rfl EE_scr
theorem en_L_law_486 : SndE EE S mi_L_law 486 (.inl (e_lda 487 0)) := sn_aload_n dL_law_486 rfl rfl
theorem en_L_law_487 : SndE EE S mi_L_law 487 (.inl (e_ldi 488 3)) := sn_iload_n dL_law_487 rfl rfl
theorem en_L_law_488 : SndE EE S mi_L_law 488 (.inl (e_psh 489 (.int (2)))) := sn_iconst dL_law_488 rfl rfl
theorem en_L_law_489 : SndE EE S mi_L_law 489 (.inl (e_bin 490 (fun x y => x + y))) := sn_iadd dL_law_489 rfl
theorem en_L_law_490 : SndE EE S mi_L_law 490 (.inl (e_sld 491 S.1 S.2)) := sn_sld dL_law_490 rfl EE_scr
theorem en_L_law_491 : SndE EE S mi_L_law 491 (.inr (.inl (d_cls 3 88, 3, 3))) := sc_virt dL_law_491 (rcv_cls (r := (RX3, TX3, 61)) rfl ⟨mo_X3_clipped, nmo_X3_clipped, q1204, q1205, q1206⟩)
theorem en_L_law_494 : SndE EE S mi_L_law 494 (.inl (e_ieq 497 875)) := sn_ieq dL_law_494 rfl (by decide)
theorem en_L_law_497 : SndE EE S mi_L_law 497 (.inl (e_psh 498 (.int (0)))) := sn_iconst dL_law_497 rfl rfl
theorem en_L_law_498 : SndE EE S mi_L_law 498 (.inr (.inr 2)) := ⟨dL_law_498, rfl⟩
theorem en_L_law_499 : SndE EE S mi_L_law 499 (.inl (e_lda 500 1)) := sn_aload_n dL_law_499 rfl rfl
theorem en_L_law_500 : SndE EE S mi_L_law 500 (.inl (e_lda 501 0)) := sn_aload_n dL_law_500 rfl rfl
theorem en_L_law_501 : SndE EE S mi_L_law 501 (.inl (e_ldi 502 3)) := sn_iload_n dL_law_501 rfl rfl
theorem en_L_law_502 : SndE EE S mi_L_law 502 (.inl (e_psh 503 (.int (1)))) := sn_iconst dL_law_502 rfl rfl
theorem en_L_law_503 : SndE EE S mi_L_law 503 (.inl (e_bin 504 (fun x y => x + y))) := sn_iadd dL_law_503 rfl
theorem en_L_law_504 : SndE EE S mi_L_law 504 (.inl (e_sld 505 S.1 S.2)) := sn_sld dL_law_504 rfl EE_scr
theorem en_L_law_505 : SndE EE S mi_L_law 505 (.inl (e_lda 506 0)) := sn_aload_n dL_law_505 rfl rfl
theorem en_L_law_506 : SndE EE S mi_L_law 506 (.inl (e_ldi 507 3)) := sn_iload_n dL_law_506 rfl rfl
theorem en_L_law_507 : SndE EE S mi_L_law 507 (.inl (e_psh 508 (.int (2)))) := sn_iconst dL_law_507 rfl rfl
theorem en_L_law_508 : SndE EE S mi_L_law 508 (.inl (e_bin 509 (fun x y => x + y))) := sn_iadd dL_law_508 rfl
theorem en_L_law_509 : SndE EE S mi_L_law 509 (.inl (e_sld 510 S.1 S.2)) := sn_sld dL_law_509 rfl EE_scr
theorem en_L_law_510 : SndE EE S mi_L_law 510 (.inl (e_lda 511 0)) := sn_aload_n dL_law_510 rfl rfl
theorem en_L_law_511 : SndE EE S mi_L_law 511 (.inl (e_ldi 512 3)) := sn_iload_n dL_law_511 rfl rfl
theorem en_L_law_512 : SndE EE S mi_L_law 512 (.inl (e_psh 513 (.int (3)))) := sn_iconst dL_law_512 rfl rfl
theorem en_L_law_513 : SndE EE S mi_L_law 513 (.inl (e_bin 514 (fun x y => x + y))) := sn_iadd dL_law_513 rfl
theorem en_L_law_514 : SndE EE S mi_L_law 514 (.inl (e_sld 515 S.1 S.2)) := sn_sld dL_law_514 rfl EE_scr
theorem en_L_law_515 : SndE EE S mi_L_law 515 (.inl (e_lda 516 0)) := sn_aload_n dL_law_515 rfl rfl
theorem en_L_law_516 : SndE EE S mi_L_law 516 (.inl (e_ldi 517 3)) := sn_iload_n dL_law_516 rfl rfl
theorem en_L_law_517 : SndE EE S mi_L_law 517 (.inl (e_psh 518 (.int (4)))) := sn_iconst dL_law_517 rfl rfl
theorem en_L_law_518 : SndE EE S mi_L_law 518 (.inl (e_bin 519 (fun x y => x + y))) := sn_iadd dL_law_518 rfl
theorem en_L_law_519 : SndE EE S mi_L_law 519 (.inl (e_sld 520 S.1 S.2)) := sn_sld dL_law_519 rfl EE_scr
theorem en_L_law_520 : SndE EE S mi_L_law 520 (.inl (e_lda 521 0)) := sn_aload_n dL_law_520 rfl rfl
theorem en_L_law_521 : SndE EE S mi_L_law 521 (.inl (e_ldi 522 3)) := sn_iload_n dL_law_521 rfl rfl
theorem en_L_law_522 : SndE EE S mi_L_law 522 (.inl (e_psh 523 (.int (5)))) := sn_iconst dL_law_522 rfl rfl
theorem en_L_law_523 : SndE EE S mi_L_law 523 (.inl (e_bin 524 (fun x y => x + y))) := sn_iadd dL_law_523 rfl
theorem en_L_law_524 : SndE EE S mi_L_law 524 (.inl (e_sld 525 S.1 S.2)) := sn_sld dL_law_524 rfl EE_scr
theorem en_L_law_525 : SndE EE S mi_L_law 525 (.inl (e_zeq 528 532)) := sn_zeq dL_law_525 rfl (by decide)
theorem en_L_law_528 : SndE EE S mi_L_law 528 (.inl (e_psh 529 (.int (1)))) := sn_iconst dL_law_528 rfl rfl
theorem en_L_law_529 : SndE EE S mi_L_law 529 (.inl (e_goto 533)) := sn_goto dL_law_529 (by decide)
theorem en_L_law_532 : SndE EE S mi_L_law 532 (.inl (e_psh 533 (.int (0)))) := sn_iconst dL_law_532 rfl rfl
theorem en_L_law_533 : SndE EE S mi_L_law 533 (.inr (.inl (d_cls 0 25, 6, 3))) := sc_virt dL_law_533 (rcv_cls (r := (RX0, TX0, 35)) rfl ⟨mo_X0_veneer, nmo_X0_veneer, q757, q758, q759⟩)
theorem en_L_law_536 : SndE EE S mi_L_law 536 (.inl (e_lda 537 2)) := sn_aload_n dL_law_536 rfl rfl
theorem en_L_law_537 : SndE EE S mi_L_law 537 (.inl (e_lda 538 0)) := sn_aload_n dL_law_537 rfl rfl
theorem en_L_law_538 : SndE EE S mi_L_law 538 (.inl (e_ldi 539 3)) := sn_iload_n dL_law_538 rfl rfl
theorem en_L_law_539 : SndE EE S mi_L_law 539 (.inl (e_psh 540 (.int (1)))) := sn_iconst dL_law_539 rfl rfl
theorem en_L_law_540 : SndE EE S mi_L_law 540 (.inl (e_bin 541 (fun x y => x + y))) := sn_iadd dL_law_540 rfl
theorem en_L_law_541 : SndE EE S mi_L_law 541 (.inl (e_sld 542 S.1 S.2)) := sn_sld dL_law_541 rfl EE_scr
theorem en_L_law_542 : SndE EE S mi_L_law 542 (.inl (e_lda 543 0)) := sn_aload_n dL_law_542 rfl rfl
theorem en_L_law_543 : SndE EE S mi_L_law 543 (.inl (e_ldi 544 3)) := sn_iload_n dL_law_543 rfl rfl
theorem en_L_law_544 : SndE EE S mi_L_law 544 (.inl (e_psh 545 (.int (2)))) := sn_iconst dL_law_544 rfl rfl
theorem en_L_law_545 : SndE EE S mi_L_law 545 (.inl (e_bin 546 (fun x y => x + y))) := sn_iadd dL_law_545 rfl
theorem en_L_law_546 : SndE EE S mi_L_law 546 (.inl (e_sld 547 S.1 S.2)) := sn_sld dL_law_546 rfl EE_scr
theorem en_L_law_547 : SndE EE S mi_L_law 547 (.inl (e_lda 548 0)) := sn_aload_n dL_law_547 rfl rfl
theorem en_L_law_548 : SndE EE S mi_L_law 548 (.inl (e_ldi 549 3)) := sn_iload_n dL_law_548 rfl rfl
theorem en_L_law_549 : SndE EE S mi_L_law 549 (.inl (e_psh 550 (.int (3)))) := sn_iconst dL_law_549 rfl rfl
theorem en_L_law_550 : SndE EE S mi_L_law 550 (.inl (e_bin 551 (fun x y => x + y))) := sn_iadd dL_law_550 rfl
theorem en_L_law_551 : SndE EE S mi_L_law 551 (.inl (e_sld 552 S.1 S.2)) := sn_sld dL_law_551 rfl EE_scr
theorem en_L_law_552 : SndE EE S mi_L_law 552 (.inl (e_lda 553 0)) := sn_aload_n dL_law_552 rfl rfl
theorem en_L_law_553 : SndE EE S mi_L_law 553 (.inl (e_ldi 554 3)) := sn_iload_n dL_law_553 rfl rfl
theorem en_L_law_554 : SndE EE S mi_L_law 554 (.inl (e_psh 555 (.int (4)))) := sn_iconst dL_law_554 rfl rfl
theorem en_L_law_555 : SndE EE S mi_L_law 555 (.inl (e_bin 556 (fun x y => x + y))) := sn_iadd dL_law_555 rfl
theorem en_L_law_556 : SndE EE S mi_L_law 556 (.inl (e_sld 557 S.1 S.2)) := sn_sld dL_law_556 rfl EE_scr
theorem en_L_law_557 : SndE EE S mi_L_law 557 (.inl (e_lda 558 0)) := sn_aload_n dL_law_557 rfl rfl
theorem en_L_law_558 : SndE EE S mi_L_law 558 (.inl (e_ldi 559 3)) := sn_iload_n dL_law_558 rfl rfl
theorem en_L_law_559 : SndE EE S mi_L_law 559 (.inl (e_psh 560 (.int (5)))) := sn_iconst dL_law_559 rfl rfl
theorem en_L_law_560 : SndE EE S mi_L_law 560 (.inl (e_bin 561 (fun x y => x + y))) := sn_iadd dL_law_560 rfl
theorem en_L_law_561 : SndE EE S mi_L_law 561 (.inl (e_sld 562 S.1 S.2)) := sn_sld dL_law_561 rfl EE_scr
theorem en_L_law_562 : SndE EE S mi_L_law 562 (.inl (e_zeq 565 569)) := sn_zeq dL_law_562 rfl (by decide)
theorem en_L_law_565 : SndE EE S mi_L_law 565 (.inl (e_psh 566 (.int (1)))) := sn_iconst dL_law_565 rfl rfl
theorem en_L_law_566 : SndE EE S mi_L_law 566 (.inl (e_goto 570)) := sn_goto dL_law_566 (by decide)
theorem en_L_law_569 : SndE EE S mi_L_law 569 (.inl (e_psh 570 (.int (0)))) := sn_iconst dL_law_569 rfl rfl
theorem en_L_law_570 : SndE EE S mi_L_law 570 (.inr (.inl (d_cls 3 89, 6, 3))) := sc_virt dL_law_570 (rcv_cls (r := (RX3, TX3, 61)) rfl ⟨mo_X3_veneer, nmo_X3_veneer, q1208, q1209, q1210⟩)
theorem en_L_law_573 : SndE EE S mi_L_law 573 (.inl (e_ieq 576 875)) := sn_ieq dL_law_573 rfl (by decide)
theorem en_L_law_576 : SndE EE S mi_L_law 576 (.inl (e_psh 577 (.int (0)))) := sn_iconst dL_law_576 rfl rfl
theorem en_L_law_577 : SndE EE S mi_L_law 577 (.inr (.inr 2)) := ⟨dL_law_577, rfl⟩
theorem en_L_law_578 : SndE EE S mi_L_law 578 (.inl (e_lda 579 1)) := sn_aload_n dL_law_578 rfl rfl
theorem en_L_law_579 : SndE EE S mi_L_law 579 (.inl (e_lda 580 0)) := sn_aload_n dL_law_579 rfl rfl
theorem en_L_law_580 : SndE EE S mi_L_law 580 (.inl (e_ldi 581 3)) := sn_iload_n dL_law_580 rfl rfl
theorem en_L_law_581 : SndE EE S mi_L_law 581 (.inl (e_psh 582 (.int (1)))) := sn_iconst dL_law_581 rfl rfl
theorem en_L_law_582 : SndE EE S mi_L_law 582 (.inl (e_bin 583 (fun x y => x + y))) := sn_iadd dL_law_582 rfl
theorem en_L_law_583 : SndE EE S mi_L_law 583 (.inl (e_sld 584 S.1 S.2)) := sn_sld dL_law_583 rfl EE_scr
theorem en_L_law_584 : SndE EE S mi_L_law 584 (.inl (e_lda 585 0)) := sn_aload_n dL_law_584 rfl rfl
theorem en_L_law_585 : SndE EE S mi_L_law 585 (.inl (e_ldi 586 3)) := sn_iload_n dL_law_585 rfl rfl
theorem en_L_law_586 : SndE EE S mi_L_law 586 (.inl (e_psh 587 (.int (2)))) := sn_iconst dL_law_586 rfl rfl
theorem en_L_law_587 : SndE EE S mi_L_law 587 (.inl (e_bin 588 (fun x y => x + y))) := sn_iadd dL_law_587 rfl
theorem en_L_law_588 : SndE EE S mi_L_law 588 (.inl (e_sld 589 S.1 S.2)) := sn_sld dL_law_588 rfl EE_scr
theorem en_L_law_589 : SndE EE S mi_L_law 589 (.inl (e_lda 590 0)) := sn_aload_n dL_law_589 rfl rfl
theorem en_L_law_590 : SndE EE S mi_L_law 590 (.inl (e_ldi 591 3)) := sn_iload_n dL_law_590 rfl rfl
theorem en_L_law_591 : SndE EE S mi_L_law 591 (.inl (e_psh 592 (.int (3)))) := sn_iconst dL_law_591 rfl rfl
theorem en_L_law_592 : SndE EE S mi_L_law 592 (.inl (e_bin 593 (fun x y => x + y))) := sn_iadd dL_law_592 rfl
theorem en_L_law_593 : SndE EE S mi_L_law 593 (.inl (e_sld 594 S.1 S.2)) := sn_sld dL_law_593 rfl EE_scr
theorem en_L_law_594 : SndE EE S mi_L_law 594 (.inr (.inl (d_cls 0 26, 4, 3))) := sc_virt dL_law_594 (rcv_cls (r := (RX0, TX0, 35)) rfl ⟨mo_X0_board, nmo_X0_board, q761, q762, q763⟩)
theorem en_L_law_597 : SndE EE S mi_L_law 597 (.inl (e_lda 598 2)) := sn_aload_n dL_law_597 rfl rfl
theorem en_L_law_598 : SndE EE S mi_L_law 598 (.inl (e_lda 599 0)) := sn_aload_n dL_law_598 rfl rfl
theorem en_L_law_599 : SndE EE S mi_L_law 599 (.inl (e_ldi 600 3)) := sn_iload_n dL_law_599 rfl rfl
theorem en_L_law_600 : SndE EE S mi_L_law 600 (.inl (e_psh 601 (.int (1)))) := sn_iconst dL_law_600 rfl rfl
theorem en_L_law_601 : SndE EE S mi_L_law 601 (.inl (e_bin 602 (fun x y => x + y))) := sn_iadd dL_law_601 rfl
theorem en_L_law_602 : SndE EE S mi_L_law 602 (.inl (e_sld 603 S.1 S.2)) := sn_sld dL_law_602 rfl EE_scr
theorem en_L_law_603 : SndE EE S mi_L_law 603 (.inl (e_lda 604 0)) := sn_aload_n dL_law_603 rfl rfl
theorem en_L_law_604 : SndE EE S mi_L_law 604 (.inl (e_ldi 605 3)) := sn_iload_n dL_law_604 rfl rfl
theorem en_L_law_605 : SndE EE S mi_L_law 605 (.inl (e_psh 606 (.int (2)))) := sn_iconst dL_law_605 rfl rfl
theorem en_L_law_606 : SndE EE S mi_L_law 606 (.inl (e_bin 607 (fun x y => x + y))) := sn_iadd dL_law_606 rfl
theorem en_L_law_607 : SndE EE S mi_L_law 607 (.inl (e_sld 608 S.1 S.2)) := sn_sld dL_law_607 rfl EE_scr
theorem en_L_law_608 : SndE EE S mi_L_law 608 (.inl (e_lda 609 0)) := sn_aload_n dL_law_608 rfl rfl
theorem en_L_law_609 : SndE EE S mi_L_law 609 (.inl (e_ldi 610 3)) := sn_iload_n dL_law_609 rfl rfl
theorem en_L_law_610 : SndE EE S mi_L_law 610 (.inl (e_psh 611 (.int (3)))) := sn_iconst dL_law_610 rfl rfl
theorem en_L_law_611 : SndE EE S mi_L_law 611 (.inl (e_bin 612 (fun x y => x + y))) := sn_iadd dL_law_611 rfl
theorem en_L_law_612 : SndE EE S mi_L_law 612 (.inl (e_sld 613 S.1 S.2)) := sn_sld dL_law_612 rfl EE_scr
theorem en_L_law_613 : SndE EE S mi_L_law 613 (.inr (.inl (d_cls 3 90, 4, 3))) := sc_virt dL_law_613 (rcv_cls (r := (RX3, TX3, 61)) rfl ⟨mo_X3_board, nmo_X3_board, q1212, q1213, q1214⟩)
theorem en_L_law_616 : SndE EE S mi_L_law 616 (.inl (e_ieq 619 875)) := sn_ieq dL_law_616 rfl (by decide)
theorem en_L_law_619 : SndE EE S mi_L_law 619 (.inl (e_psh 620 (.int (0)))) := sn_iconst dL_law_619 rfl rfl
theorem en_L_law_620 : SndE EE S mi_L_law 620 (.inr (.inr 2)) := ⟨dL_law_620, rfl⟩
theorem en_L_law_621 : SndE EE S mi_L_law 621 (.inl (e_lda 622 1)) := sn_aload_n dL_law_621 rfl rfl
theorem en_L_law_622 : SndE EE S mi_L_law 622 (.inl (e_lda 623 0)) := sn_aload_n dL_law_622 rfl rfl
theorem en_L_law_623 : SndE EE S mi_L_law 623 (.inl (e_ldi 624 3)) := sn_iload_n dL_law_623 rfl rfl
theorem en_L_law_624 : SndE EE S mi_L_law 624 (.inl (e_psh 625 (.int (1)))) := sn_iconst dL_law_624 rfl rfl
theorem en_L_law_625 : SndE EE S mi_L_law 625 (.inl (e_bin 626 (fun x y => x + y))) := sn_iadd dL_law_625 rfl
theorem en_L_law_626 : SndE EE S mi_L_law 626 (.inl (e_sld 627 S.1 S.2)) := sn_sld dL_law_626 rfl EE_scr
theorem en_L_law_627 : SndE EE S mi_L_law 627 (.inl (e_lda 628 0)) := sn_aload_n dL_law_627 rfl rfl
theorem en_L_law_628 : SndE EE S mi_L_law 628 (.inl (e_ldi 629 3)) := sn_iload_n dL_law_628 rfl rfl
theorem en_L_law_629 : SndE EE S mi_L_law 629 (.inl (e_psh 630 (.int (2)))) := sn_iconst dL_law_629 rfl rfl
theorem en_L_law_630 : SndE EE S mi_L_law 630 (.inl (e_bin 631 (fun x y => x + y))) := sn_iadd dL_law_630 rfl
theorem en_L_law_631 : SndE EE S mi_L_law 631 (.inl (e_sld 632 S.1 S.2)) := sn_sld dL_law_631 rfl EE_scr
theorem en_L_law_632 : SndE EE S mi_L_law 632 (.inr (.inl (d_cls 0 31, 3, 3))) := sc_virt dL_law_632 (rcv_cls (r := (RX0, TX0, 35)) rfl ⟨mo_X0_warp, nmo_X0_warp, q779, q780, q781⟩)
theorem en_L_law_635 : SndE EE S mi_L_law 635 (.inl (e_lda 636 2)) := sn_aload_n dL_law_635 rfl rfl
theorem en_L_law_636 : SndE EE S mi_L_law 636 (.inl (e_lda 637 0)) := sn_aload_n dL_law_636 rfl rfl
theorem en_L_law_637 : SndE EE S mi_L_law 637 (.inl (e_ldi 638 3)) := sn_iload_n dL_law_637 rfl rfl
theorem en_L_law_638 : SndE EE S mi_L_law 638 (.inl (e_psh 639 (.int (1)))) := sn_iconst dL_law_638 rfl rfl
theorem en_L_law_639 : SndE EE S mi_L_law 639 (.inl (e_bin 640 (fun x y => x + y))) := sn_iadd dL_law_639 rfl
theorem en_L_law_640 : SndE EE S mi_L_law 640 (.inl (e_sld 641 S.1 S.2)) := sn_sld dL_law_640 rfl EE_scr
theorem en_L_law_641 : SndE EE S mi_L_law 641 (.inl (e_lda 642 0)) := sn_aload_n dL_law_641 rfl rfl
theorem en_L_law_642 : SndE EE S mi_L_law 642 (.inl (e_ldi 643 3)) := sn_iload_n dL_law_642 rfl rfl
theorem en_L_law_643 : SndE EE S mi_L_law 643 (.inl (e_psh 644 (.int (2)))) := sn_iconst dL_law_643 rfl rfl
theorem en_L_law_644 : SndE EE S mi_L_law 644 (.inl (e_bin 645 (fun x y => x + y))) := sn_iadd dL_law_644 rfl
theorem en_L_law_645 : SndE EE S mi_L_law 645 (.inl (e_sld 646 S.1 S.2)) := sn_sld dL_law_645 rfl EE_scr
theorem en_L_law_646 : SndE EE S mi_L_law 646 (.inr (.inl (d_cls 3 93, 3, 3))) := sc_virt dL_law_646 (rcv_cls (r := (RX3, TX3, 61)) rfl ⟨mo_X3_warp, nmo_X3_warp, q1224, q1225, q1226⟩)
theorem en_L_law_649 : SndE EE S mi_L_law 649 (.inl (e_ieq 652 875)) := sn_ieq dL_law_649 rfl (by decide)
theorem en_L_law_652 : SndE EE S mi_L_law 652 (.inl (e_psh 653 (.int (0)))) := sn_iconst dL_law_652 rfl rfl
theorem en_L_law_653 : SndE EE S mi_L_law 653 (.inr (.inr 2)) := ⟨dL_law_653, rfl⟩
theorem en_L_law_654 : SndE EE S mi_L_law 654 (.inl (e_lda 655 1)) := sn_aload_n dL_law_654 rfl rfl
theorem en_L_law_655 : SndE EE S mi_L_law 655 (.inl (e_lda 656 0)) := sn_aload_n dL_law_655 rfl rfl
theorem en_L_law_656 : SndE EE S mi_L_law 656 (.inl (e_ldi 657 3)) := sn_iload_n dL_law_656 rfl rfl
theorem en_L_law_657 : SndE EE S mi_L_law 657 (.inl (e_psh 658 (.int (1)))) := sn_iconst dL_law_657 rfl rfl
theorem en_L_law_658 : SndE EE S mi_L_law 658 (.inl (e_bin 659 (fun x y => x + y))) := sn_iadd dL_law_658 rfl
theorem en_L_law_659 : SndE EE S mi_L_law 659 (.inl (e_sld 660 S.1 S.2)) := sn_sld dL_law_659 rfl EE_scr
theorem en_L_law_660 : SndE EE S mi_L_law 660 (.inl (e_lda 661 0)) := sn_aload_n dL_law_660 rfl rfl
theorem en_L_law_661 : SndE EE S mi_L_law 661 (.inl (e_ldi 662 3)) := sn_iload_n dL_law_661 rfl rfl
theorem en_L_law_662 : SndE EE S mi_L_law 662 (.inl (e_psh 663 (.int (2)))) := sn_iconst dL_law_662 rfl rfl
theorem en_L_law_663 : SndE EE S mi_L_law 663 (.inl (e_bin 664 (fun x y => x + y))) := sn_iadd dL_law_663 rfl
theorem en_L_law_664 : SndE EE S mi_L_law 664 (.inl (e_sld 665 S.1 S.2)) := sn_sld dL_law_664 rfl EE_scr
theorem en_L_law_665 : SndE EE S mi_L_law 665 (.inl (e_lda 666 0)) := sn_aload_n dL_law_665 rfl rfl
theorem en_L_law_666 : SndE EE S mi_L_law 666 (.inl (e_ldi 667 3)) := sn_iload_n dL_law_666 rfl rfl
theorem en_L_law_667 : SndE EE S mi_L_law 667 (.inl (e_psh 668 (.int (3)))) := sn_iconst dL_law_667 rfl rfl
theorem en_L_law_668 : SndE EE S mi_L_law 668 (.inl (e_bin 669 (fun x y => x + y))) := sn_iadd dL_law_668 rfl
theorem en_L_law_669 : SndE EE S mi_L_law 669 (.inl (e_sld 670 S.1 S.2)) := sn_sld dL_law_669 rfl EE_scr
theorem en_L_law_670 : SndE EE S mi_L_law 670 (.inr (.inl (d_cls 0 32, 4, 3))) := sc_virt dL_law_670 (rcv_cls (r := (RX0, TX0, 35)) rfl ⟨mo_X0_best, nmo_X0_best, q784, q785, q786⟩)
theorem en_L_law_673 : SndE EE S mi_L_law 673 (.inl (e_lda 674 2)) := sn_aload_n dL_law_673 rfl rfl
theorem en_L_law_674 : SndE EE S mi_L_law 674 (.inl (e_lda 675 0)) := sn_aload_n dL_law_674 rfl rfl
theorem en_L_law_675 : SndE EE S mi_L_law 675 (.inl (e_ldi 676 3)) := sn_iload_n dL_law_675 rfl rfl
theorem en_L_law_676 : SndE EE S mi_L_law 676 (.inl (e_psh 677 (.int (1)))) := sn_iconst dL_law_676 rfl rfl
theorem en_L_law_677 : SndE EE S mi_L_law 677 (.inl (e_bin 678 (fun x y => x + y))) := sn_iadd dL_law_677 rfl
theorem en_L_law_678 : SndE EE S mi_L_law 678 (.inl (e_sld 679 S.1 S.2)) := sn_sld dL_law_678 rfl EE_scr
theorem en_L_law_679 : SndE EE S mi_L_law 679 (.inl (e_lda 680 0)) := sn_aload_n dL_law_679 rfl rfl
theorem en_L_law_680 : SndE EE S mi_L_law 680 (.inl (e_ldi 681 3)) := sn_iload_n dL_law_680 rfl rfl
theorem en_L_law_681 : SndE EE S mi_L_law 681 (.inl (e_psh 682 (.int (2)))) := sn_iconst dL_law_681 rfl rfl
theorem en_L_law_682 : SndE EE S mi_L_law 682 (.inl (e_bin 683 (fun x y => x + y))) := sn_iadd dL_law_682 rfl
theorem en_L_law_683 : SndE EE S mi_L_law 683 (.inl (e_sld 684 S.1 S.2)) := sn_sld dL_law_683 rfl EE_scr
theorem en_L_law_684 : SndE EE S mi_L_law 684 (.inl (e_lda 685 0)) := sn_aload_n dL_law_684 rfl rfl
theorem en_L_law_685 : SndE EE S mi_L_law 685 (.inl (e_ldi 686 3)) := sn_iload_n dL_law_685 rfl rfl
theorem en_L_law_686 : SndE EE S mi_L_law 686 (.inl (e_psh 687 (.int (3)))) := sn_iconst dL_law_686 rfl rfl
theorem en_L_law_687 : SndE EE S mi_L_law 687 (.inl (e_bin 688 (fun x y => x + y))) := sn_iadd dL_law_687 rfl
theorem en_L_law_688 : SndE EE S mi_L_law 688 (.inl (e_sld 689 S.1 S.2)) := sn_sld dL_law_688 rfl EE_scr
theorem en_L_law_689 : SndE EE S mi_L_law 689 (.inr (.inl (d_cls 3 94, 4, 3))) := sc_virt dL_law_689 (rcv_cls (r := (RX3, TX3, 61)) rfl ⟨mo_X3_best, nmo_X3_best, q1229, q1230, q1231⟩)
theorem en_L_law_692 : SndE EE S mi_L_law 692 (.inl (e_ieq 695 875)) := sn_ieq dL_law_692 rfl (by decide)
theorem en_L_law_695 : SndE EE S mi_L_law 695 (.inl (e_psh 696 (.int (0)))) := sn_iconst dL_law_695 rfl rfl
theorem en_L_law_696 : SndE EE S mi_L_law 696 (.inr (.inr 2)) := ⟨dL_law_696, rfl⟩
theorem en_L_law_697 : SndE EE S mi_L_law 697 (.inl (e_lda 698 1)) := sn_aload_n dL_law_697 rfl rfl
theorem en_L_law_698 : SndE EE S mi_L_law 698 (.inl (e_lda 699 0)) := sn_aload_n dL_law_698 rfl rfl
theorem en_L_law_699 : SndE EE S mi_L_law 699 (.inl (e_ldi 700 3)) := sn_iload_n dL_law_699 rfl rfl
theorem en_L_law_700 : SndE EE S mi_L_law 700 (.inl (e_psh 701 (.int (1)))) := sn_iconst dL_law_700 rfl rfl
theorem en_L_law_701 : SndE EE S mi_L_law 701 (.inl (e_bin 702 (fun x y => x + y))) := sn_iadd dL_law_701 rfl
theorem en_L_law_702 : SndE EE S mi_L_law 702 (.inl (e_sld 703 S.1 S.2)) := sn_sld dL_law_702 rfl EE_scr
theorem en_L_law_703 : SndE EE S mi_L_law 703 (.inl (e_lda 704 0)) := sn_aload_n dL_law_703 rfl rfl
theorem en_L_law_704 : SndE EE S mi_L_law 704 (.inl (e_ldi 705 3)) := sn_iload_n dL_law_704 rfl rfl
theorem en_L_law_705 : SndE EE S mi_L_law 705 (.inl (e_psh 706 (.int (2)))) := sn_iconst dL_law_705 rfl rfl
theorem en_L_law_706 : SndE EE S mi_L_law 706 (.inl (e_bin 707 (fun x y => x + y))) := sn_iadd dL_law_706 rfl
theorem en_L_law_707 : SndE EE S mi_L_law 707 (.inl (e_sld 708 S.1 S.2)) := sn_sld dL_law_707 rfl EE_scr
theorem en_L_law_708 : SndE EE S mi_L_law 708 (.inl (e_lda 709 0)) := sn_aload_n dL_law_708 rfl rfl
theorem en_L_law_709 : SndE EE S mi_L_law 709 (.inl (e_ldi 710 3)) := sn_iload_n dL_law_709 rfl rfl
theorem en_L_law_710 : SndE EE S mi_L_law 710 (.inl (e_psh 711 (.int (3)))) := sn_iconst dL_law_710 rfl rfl
theorem en_L_law_711 : SndE EE S mi_L_law 711 (.inl (e_bin 712 (fun x y => x + y))) := sn_iadd dL_law_711 rfl
theorem en_L_law_712 : SndE EE S mi_L_law 712 (.inl (e_sld 713 S.1 S.2)) := sn_sld dL_law_712 rfl EE_scr
theorem en_L_law_713 : SndE EE S mi_L_law 713 (.inl (e_lda 714 0)) := sn_aload_n dL_law_713 rfl rfl
theorem en_L_law_714 : SndE EE S mi_L_law 714 (.inl (e_ldi 715 3)) := sn_iload_n dL_law_714 rfl rfl
theorem en_L_law_715 : SndE EE S mi_L_law 715 (.inl (e_psh 716 (.int (4)))) := sn_iconst dL_law_715 rfl rfl
theorem en_L_law_716 : SndE EE S mi_L_law 716 (.inl (e_bin 717 (fun x y => x + y))) := sn_iadd dL_law_716 rfl
theorem en_L_law_717 : SndE EE S mi_L_law 717 (.inl (e_sld 718 S.1 S.2)) := sn_sld dL_law_717 rfl EE_scr
theorem en_L_law_718 : SndE EE S mi_L_law 718 (.inr (.inl (d_cls 0 34, 5, 3))) := sc_virt dL_law_718 (rcv_cls (r := (RX0, TX0, 35)) rfl ⟨mo_X0_press, nmo_X0_press, q791, q792, q793⟩)
theorem en_L_law_721 : SndE EE S mi_L_law 721 (.inl (e_lda 722 2)) := sn_aload_n dL_law_721 rfl rfl
theorem en_L_law_722 : SndE EE S mi_L_law 722 (.inl (e_lda 723 0)) := sn_aload_n dL_law_722 rfl rfl
theorem en_L_law_723 : SndE EE S mi_L_law 723 (.inl (e_ldi 724 3)) := sn_iload_n dL_law_723 rfl rfl
theorem en_L_law_724 : SndE EE S mi_L_law 724 (.inl (e_psh 725 (.int (1)))) := sn_iconst dL_law_724 rfl rfl
theorem en_L_law_725 : SndE EE S mi_L_law 725 (.inl (e_bin 726 (fun x y => x + y))) := sn_iadd dL_law_725 rfl
theorem en_L_law_726 : SndE EE S mi_L_law 726 (.inl (e_sld 727 S.1 S.2)) := sn_sld dL_law_726 rfl EE_scr
theorem en_L_law_727 : SndE EE S mi_L_law 727 (.inl (e_lda 728 0)) := sn_aload_n dL_law_727 rfl rfl
theorem en_L_law_728 : SndE EE S mi_L_law 728 (.inl (e_ldi 729 3)) := sn_iload_n dL_law_728 rfl rfl
theorem en_L_law_729 : SndE EE S mi_L_law 729 (.inl (e_psh 730 (.int (2)))) := sn_iconst dL_law_729 rfl rfl
theorem en_L_law_730 : SndE EE S mi_L_law 730 (.inl (e_bin 731 (fun x y => x + y))) := sn_iadd dL_law_730 rfl
theorem en_L_law_731 : SndE EE S mi_L_law 731 (.inl (e_sld 732 S.1 S.2)) := sn_sld dL_law_731 rfl EE_scr
theorem en_L_law_732 : SndE EE S mi_L_law 732 (.inl (e_lda 733 0)) := sn_aload_n dL_law_732 rfl rfl
theorem en_L_law_733 : SndE EE S mi_L_law 733 (.inl (e_ldi 734 3)) := sn_iload_n dL_law_733 rfl rfl
theorem en_L_law_734 : SndE EE S mi_L_law 734 (.inl (e_psh 735 (.int (3)))) := sn_iconst dL_law_734 rfl rfl
theorem en_L_law_735 : SndE EE S mi_L_law 735 (.inl (e_bin 736 (fun x y => x + y))) := sn_iadd dL_law_735 rfl
theorem en_L_law_736 : SndE EE S mi_L_law 736 (.inl (e_sld 737 S.1 S.2)) := sn_sld dL_law_736 rfl EE_scr
theorem en_L_law_737 : SndE EE S mi_L_law 737 (.inl (e_lda 738 0)) := sn_aload_n dL_law_737 rfl rfl
theorem en_L_law_738 : SndE EE S mi_L_law 738 (.inl (e_ldi 739 3)) := sn_iload_n dL_law_738 rfl rfl
theorem en_L_law_739 : SndE EE S mi_L_law 739 (.inl (e_psh 740 (.int (4)))) := sn_iconst dL_law_739 rfl rfl
theorem en_L_law_740 : SndE EE S mi_L_law 740 (.inl (e_bin 741 (fun x y => x + y))) := sn_iadd dL_law_740 rfl
theorem en_L_law_741 : SndE EE S mi_L_law 741 (.inl (e_sld 742 S.1 S.2)) := sn_sld dL_law_741 rfl EE_scr
theorem en_L_law_742 : SndE EE S mi_L_law 742 (.inr (.inl (d_cls 3 95, 5, 3))) := sc_virt dL_law_742 (rcv_cls (r := (RX3, TX3, 61)) rfl ⟨mo_X3_press, nmo_X3_press, q1233, q1234, q1235⟩)
theorem en_L_law_745 : SndE EE S mi_L_law 745 (.inl (e_ieq 748 875)) := sn_ieq dL_law_745 rfl (by decide)
theorem en_L_law_748 : SndE EE S mi_L_law 748 (.inl (e_psh 749 (.int (0)))) := sn_iconst dL_law_748 rfl rfl
theorem en_L_law_749 : SndE EE S mi_L_law 749 (.inr (.inr 2)) := ⟨dL_law_749, rfl⟩
theorem en_L_law_750 : SndE EE S mi_L_law 750 (.inl (e_lda 751 1)) := sn_aload_n dL_law_750 rfl rfl
theorem en_L_law_751 : SndE EE S mi_L_law 751 (.inl (e_lda 752 0)) := sn_aload_n dL_law_751 rfl rfl
theorem en_L_law_752 : SndE EE S mi_L_law 752 (.inl (e_ldi 753 3)) := sn_iload_n dL_law_752 rfl rfl
theorem en_L_law_753 : SndE EE S mi_L_law 753 (.inl (e_psh 754 (.int (1)))) := sn_iconst dL_law_753 rfl rfl
theorem en_L_law_754 : SndE EE S mi_L_law 754 (.inl (e_bin 755 (fun x y => x + y))) := sn_iadd dL_law_754 rfl
theorem en_L_law_755 : SndE EE S mi_L_law 755 (.inl (e_sld 756 S.1 S.2)) := sn_sld dL_law_755 rfl EE_scr
theorem en_L_law_756 : SndE EE S mi_L_law 756 (.inl (e_lda 757 0)) := sn_aload_n dL_law_756 rfl rfl
theorem en_L_law_757 : SndE EE S mi_L_law 757 (.inl (e_ldi 758 3)) := sn_iload_n dL_law_757 rfl rfl
theorem en_L_law_758 : SndE EE S mi_L_law 758 (.inl (e_psh 759 (.int (2)))) := sn_iconst dL_law_758 rfl rfl
theorem en_L_law_759 : SndE EE S mi_L_law 759 (.inl (e_bin 760 (fun x y => x + y))) := sn_iadd dL_law_759 rfl
theorem en_L_law_760 : SndE EE S mi_L_law 760 (.inl (e_sld 761 S.1 S.2)) := sn_sld dL_law_760 rfl EE_scr
theorem en_L_law_761 : SndE EE S mi_L_law 761 (.inr (.inl (d_cls 0 35, 3, 3))) := sc_virt dL_law_761 (rcv_cls (r := (RX0, TX0, 35)) rfl ⟨mo_X0_glue, nmo_X0_glue, q795, q796, q797⟩)
theorem en_L_law_764 : SndE EE S mi_L_law 764 (.inl (e_lda 765 2)) := sn_aload_n dL_law_764 rfl rfl
theorem en_L_law_765 : SndE EE S mi_L_law 765 (.inl (e_lda 766 0)) := sn_aload_n dL_law_765 rfl rfl
theorem en_L_law_766 : SndE EE S mi_L_law 766 (.inl (e_ldi 767 3)) := sn_iload_n dL_law_766 rfl rfl
theorem en_L_law_767 : SndE EE S mi_L_law 767 (.inl (e_psh 768 (.int (1)))) := sn_iconst dL_law_767 rfl rfl
theorem en_L_law_768 : SndE EE S mi_L_law 768 (.inl (e_bin 769 (fun x y => x + y))) := sn_iadd dL_law_768 rfl
theorem en_L_law_769 : SndE EE S mi_L_law 769 (.inl (e_sld 770 S.1 S.2)) := sn_sld dL_law_769 rfl EE_scr
theorem en_L_law_770 : SndE EE S mi_L_law 770 (.inl (e_lda 771 0)) := sn_aload_n dL_law_770 rfl rfl
theorem en_L_law_771 : SndE EE S mi_L_law 771 (.inl (e_ldi 772 3)) := sn_iload_n dL_law_771 rfl rfl
theorem en_L_law_772 : SndE EE S mi_L_law 772 (.inl (e_psh 773 (.int (2)))) := sn_iconst dL_law_772 rfl rfl
theorem en_L_law_773 : SndE EE S mi_L_law 773 (.inl (e_bin 774 (fun x y => x + y))) := sn_iadd dL_law_773 rfl
theorem en_L_law_774 : SndE EE S mi_L_law 774 (.inl (e_sld 775 S.1 S.2)) := sn_sld dL_law_774 rfl EE_scr
theorem en_L_law_775 : SndE EE S mi_L_law 775 (.inr (.inl (d_cls 3 96, 3, 3))) := sc_virt dL_law_775 (rcv_cls (r := (RX3, TX3, 61)) rfl ⟨mo_X3_glue, nmo_X3_glue, q1237, q1238, q1239⟩)
theorem en_L_law_778 : SndE EE S mi_L_law 778 (.inl (e_ieq 781 875)) := sn_ieq dL_law_778 rfl (by decide)
theorem en_L_law_781 : SndE EE S mi_L_law 781 (.inl (e_psh 782 (.int (0)))) := sn_iconst dL_law_781 rfl rfl
theorem en_L_law_782 : SndE EE S mi_L_law 782 (.inr (.inr 2)) := ⟨dL_law_782, rfl⟩
theorem en_L_law_783 : SndE EE S mi_L_law 783 (.inl (e_lda 784 1)) := sn_aload_n dL_law_783 rfl rfl
theorem en_L_law_784 : SndE EE S mi_L_law 784 (.inr (.inl (d_cls 0 36, 1, 3))) := sc_virt dL_law_784 (rcv_cls (r := (RX0, TX0, 35)) rfl ⟨mo_X0_drop, nmo_X0_drop, q799, q800, q801⟩)
theorem en_L_law_787 : SndE EE S mi_L_law 787 (.inl (e_lda 788 2)) := sn_aload_n dL_law_787 rfl rfl
theorem en_L_law_788 : SndE EE S mi_L_law 788 (.inr (.inl (d_cls 3 97, 1, 3))) := sc_virt dL_law_788 (rcv_cls (r := (RX3, TX3, 61)) rfl ⟨mo_X3_drop, nmo_X3_drop, q1241, q1242, q1243⟩)
theorem en_L_law_791 : SndE EE S mi_L_law 791 (.inl (e_ieq 794 875)) := sn_ieq dL_law_791 rfl (by decide)
theorem en_L_law_794 : SndE EE S mi_L_law 794 (.inl (e_psh 795 (.int (0)))) := sn_iconst dL_law_794 rfl rfl
theorem en_L_law_795 : SndE EE S mi_L_law 795 (.inr (.inr 2)) := ⟨dL_law_795, rfl⟩
theorem en_L_law_796 : SndE EE S mi_L_law 796 (.inl (e_lda 797 1)) := sn_aload_n dL_law_796 rfl rfl
theorem en_L_law_797 : SndE EE S mi_L_law 797 (.inl (e_lda 798 0)) := sn_aload_n dL_law_797 rfl rfl
theorem en_L_law_798 : SndE EE S mi_L_law 798 (.inl (e_ldi 799 3)) := sn_iload_n dL_law_798 rfl rfl
theorem en_L_law_799 : SndE EE S mi_L_law 799 (.inl (e_psh 800 (.int (1)))) := sn_iconst dL_law_799 rfl rfl
theorem en_L_law_800 : SndE EE S mi_L_law 800 (.inl (e_bin 801 (fun x y => x + y))) := sn_iadd dL_law_800 rfl
theorem en_L_law_801 : SndE EE S mi_L_law 801 (.inl (e_sld 802 S.1 S.2)) := sn_sld dL_law_801 rfl EE_scr
theorem en_L_law_802 : SndE EE S mi_L_law 802 (.inr (.inl (d_cls 0 37, 2, 3))) := sc_virt dL_law_802 (rcv_cls (r := (RX0, TX0, 35)) rfl ⟨mo_X0_plan, nmo_X0_plan, q803, q804, q805⟩)
theorem en_L_law_805 : SndE EE S mi_L_law 805 (.inl (e_lda 806 2)) := sn_aload_n dL_law_805 rfl rfl
theorem en_L_law_806 : SndE EE S mi_L_law 806 (.inl (e_lda 807 0)) := sn_aload_n dL_law_806 rfl rfl
theorem en_L_law_807 : SndE EE S mi_L_law 807 (.inl (e_ldi 808 3)) := sn_iload_n dL_law_807 rfl rfl
theorem en_L_law_808 : SndE EE S mi_L_law 808 (.inl (e_psh 809 (.int (1)))) := sn_iconst dL_law_808 rfl rfl
theorem en_L_law_809 : SndE EE S mi_L_law 809 (.inl (e_bin 810 (fun x y => x + y))) := sn_iadd dL_law_809 rfl
theorem en_L_law_810 : SndE EE S mi_L_law 810 (.inl (e_sld 811 S.1 S.2)) := sn_sld dL_law_810 rfl EE_scr
theorem en_L_law_811 : SndE EE S mi_L_law 811 (.inr (.inl (d_cls 3 98, 2, 3))) := sc_virt dL_law_811 (rcv_cls (r := (RX3, TX3, 61)) rfl ⟨mo_X3_plan, nmo_X3_plan, q1245, q1246, q1247⟩)
theorem en_L_law_814 : SndE EE S mi_L_law 814 (.inl (e_ieq 817 875)) := sn_ieq dL_law_814 rfl (by decide)
theorem en_L_law_817 : SndE EE S mi_L_law 817 (.inl (e_psh 818 (.int (0)))) := sn_iconst dL_law_817 rfl rfl
theorem en_L_law_818 : SndE EE S mi_L_law 818 (.inr (.inr 2)) := ⟨dL_law_818, rfl⟩
theorem en_L_law_819 : SndE EE S mi_L_law 819 (.inl (e_lda 820 1)) := sn_aload_n dL_law_819 rfl rfl
theorem en_L_law_820 : SndE EE S mi_L_law 820 (.inl (e_lda 821 0)) := sn_aload_n dL_law_820 rfl rfl
theorem en_L_law_821 : SndE EE S mi_L_law 821 (.inl (e_ldi 822 3)) := sn_iload_n dL_law_821 rfl rfl
theorem en_L_law_822 : SndE EE S mi_L_law 822 (.inl (e_psh 823 (.int (1)))) := sn_iconst dL_law_822 rfl rfl
theorem en_L_law_823 : SndE EE S mi_L_law 823 (.inl (e_bin 824 (fun x y => x + y))) := sn_iadd dL_law_823 rfl
theorem en_L_law_824 : SndE EE S mi_L_law 824 (.inl (e_sld 825 S.1 S.2)) := sn_sld dL_law_824 rfl EE_scr
theorem en_L_law_825 : SndE EE S mi_L_law 825 (.inl (e_lda 826 0)) := sn_aload_n dL_law_825 rfl rfl
theorem en_L_law_826 : SndE EE S mi_L_law 826 (.inl (e_ldi 827 3)) := sn_iload_n dL_law_826 rfl rfl
theorem en_L_law_827 : SndE EE S mi_L_law 827 (.inl (e_psh 828 (.int (2)))) := sn_iconst dL_law_827 rfl rfl
theorem en_L_law_828 : SndE EE S mi_L_law 828 (.inl (e_bin 829 (fun x y => x + y))) := sn_iadd dL_law_828 rfl
theorem en_L_law_829 : SndE EE S mi_L_law 829 (.inl (e_sld 830 S.1 S.2)) := sn_sld dL_law_829 rfl EE_scr
theorem en_L_law_830 : SndE EE S mi_L_law 830 (.inr (.inl (d_cls 0 43, 3, 3))) := sc_virt dL_law_830 (rcv_cls (r := (RX0, TX0, 35)) rfl ⟨mo_X0_load, nmo_X0_load, q839, q840, q841⟩)
theorem en_L_law_833 : SndE EE S mi_L_law 833 (.inl (e_lda 834 2)) := sn_aload_n dL_law_833 rfl rfl
theorem en_L_law_834 : SndE EE S mi_L_law 834 (.inl (e_lda 835 0)) := sn_aload_n dL_law_834 rfl rfl
theorem en_L_law_835 : SndE EE S mi_L_law 835 (.inl (e_ldi 836 3)) := sn_iload_n dL_law_835 rfl rfl
theorem en_L_law_836 : SndE EE S mi_L_law 836 (.inl (e_psh 837 (.int (1)))) := sn_iconst dL_law_836 rfl rfl
theorem en_L_law_837 : SndE EE S mi_L_law 837 (.inl (e_bin 838 (fun x y => x + y))) := sn_iadd dL_law_837 rfl
theorem en_L_law_838 : SndE EE S mi_L_law 838 (.inl (e_sld 839 S.1 S.2)) := sn_sld dL_law_838 rfl EE_scr
theorem en_L_law_839 : SndE EE S mi_L_law 839 (.inl (e_lda 840 0)) := sn_aload_n dL_law_839 rfl rfl
theorem en_L_law_840 : SndE EE S mi_L_law 840 (.inl (e_ldi 841 3)) := sn_iload_n dL_law_840 rfl rfl
theorem en_L_law_841 : SndE EE S mi_L_law 841 (.inl (e_psh 842 (.int (2)))) := sn_iconst dL_law_841 rfl rfl
theorem en_L_law_842 : SndE EE S mi_L_law 842 (.inl (e_bin 843 (fun x y => x + y))) := sn_iadd dL_law_842 rfl
theorem en_L_law_843 : SndE EE S mi_L_law 843 (.inl (e_sld 844 S.1 S.2)) := sn_sld dL_law_843 rfl EE_scr
theorem en_L_law_844 : SndE EE S mi_L_law 844 (.inr (.inl (d_cls 3 104, 3, 3))) := sc_virt dL_law_844 (rcv_cls (r := (RX3, TX3, 61)) rfl ⟨mo_X3_load, nmo_X3_load, q1269, q1270, q1271⟩)
theorem en_L_law_847 : SndE EE S mi_L_law 847 (.inl (e_ieq 850 875)) := sn_ieq dL_law_847 rfl (by decide)
theorem en_L_law_850 : SndE EE S mi_L_law 850 (.inl (e_psh 851 (.int (0)))) := sn_iconst dL_law_850 rfl rfl
theorem en_L_law_851 : SndE EE S mi_L_law 851 (.inr (.inr 2)) := ⟨dL_law_851, rfl⟩
theorem en_L_law_852 : SndE EE S mi_L_law 852 (.inl (e_lda 853 1)) := sn_aload_n dL_law_852 rfl rfl
theorem en_L_law_853 : SndE EE S mi_L_law 853 (.inl (e_lda 854 0)) := sn_aload_n dL_law_853 rfl rfl
theorem en_L_law_854 : SndE EE S mi_L_law 854 (.inl (e_ldi 855 3)) := sn_iload_n dL_law_854 rfl rfl
theorem en_L_law_855 : SndE EE S mi_L_law 855 (.inl (e_psh 856 (.int (1)))) := sn_iconst dL_law_855 rfl rfl
theorem en_L_law_856 : SndE EE S mi_L_law 856 (.inl (e_bin 857 (fun x y => x + y))) := sn_iadd dL_law_856 rfl
theorem en_L_law_857 : SndE EE S mi_L_law 857 (.inl (e_sld 858 S.1 S.2)) := sn_sld dL_law_857 rfl EE_scr
theorem en_L_law_858 : SndE EE S mi_L_law 858 (.inr (.inl (d_cls 0 44, 2, 3))) := sc_virt dL_law_858 (rcv_cls (r := (RX0, TX0, 35)) rfl ⟨mo_X0_about, nmo_X0_about, q843, q844, q845⟩)
theorem en_L_law_861 : SndE EE S mi_L_law 861 (.inl (e_lda 862 2)) := sn_aload_n dL_law_861 rfl rfl
theorem en_L_law_862 : SndE EE S mi_L_law 862 (.inl (e_lda 863 0)) := sn_aload_n dL_law_862 rfl rfl
theorem en_L_law_863 : SndE EE S mi_L_law 863 (.inl (e_ldi 864 3)) := sn_iload_n dL_law_863 rfl rfl
theorem en_L_law_864 : SndE EE S mi_L_law 864 (.inl (e_psh 865 (.int (1)))) := sn_iconst dL_law_864 rfl rfl
theorem en_L_law_865 : SndE EE S mi_L_law 865 (.inl (e_bin 866 (fun x y => x + y))) := sn_iadd dL_law_865 rfl
theorem en_L_law_866 : SndE EE S mi_L_law 866 (.inl (e_sld 867 S.1 S.2)) := sn_sld dL_law_866 rfl EE_scr
theorem en_L_law_867 : SndE EE S mi_L_law 867 (.inr (.inl (d_cls 3 105, 2, 3))) := sc_virt dL_law_867 (rcv_cls (r := (RX3, TX3, 61)) rfl ⟨mo_X3_about, nmo_X3_about, q1273, q1274, q1275⟩)
theorem en_L_law_870 : SndE EE S mi_L_law 870 (.inl (e_ieq 873 875)) := sn_ieq dL_law_870 rfl (by decide)
theorem en_L_law_873 : SndE EE S mi_L_law 873 (.inl (e_psh 874 (.int (0)))) := sn_iconst dL_law_873 rfl rfl
theorem en_L_law_874 : SndE EE S mi_L_law 874 (.inr (.inr 2)) := ⟨dL_law_874, rfl⟩
theorem en_L_law_875 : SndE EE S mi_L_law 875 (.inl (e_inc 878 3 (6))) := sn_iinc dL_law_875 rfl rfl rfl (by decide)
theorem en_L_law_878 : SndE EE S mi_L_law 878 (.inl (e_goto 18)) := sn_goto dL_law_878 (by decide)
theorem en_L_law_881 : SndE EE S mi_L_law 881 (.inl (e_psh 882 (.int (1)))) := sn_iconst dL_law_881 rfl rfl
theorem en_L_law_882 : SndE EE S mi_L_law 882 (.inr (.inr 2)) := ⟨dL_law_882, rfl⟩
theorem sd_L_law : ∀ pc x, cd_L_law S pc = some x → SndE EE S mi_L_law pc x := (tN_ok (tN_ok (tN_ok (tN_ok (tN_ok (tN_ok (tN_ok (tN_ok (tN_ok (tL_ok en_L_law_0) (tL_ok en_L_law_3)) (tN_ok (tL_ok en_L_law_4) (tL_ok en_L_law_7))) (tN_ok (tN_ok (tL_ok en_L_law_8) (tL_ok en_L_law_11)) (tN_ok (tL_ok en_L_law_12) (tN_ok (tL_ok en_L_law_15) (tL_ok en_L_law_16))))) (tN_ok (tN_ok (tN_ok (tL_ok en_L_law_17) (tL_ok en_L_law_18)) (tN_ok (tL_ok en_L_law_19) (tN_ok (tL_ok en_L_law_20) (tL_ok en_L_law_21)))) (tN_ok (tN_ok (tL_ok en_L_law_23) (tL_ok en_L_law_24)) (tN_ok (tL_ok en_L_law_27) (tN_ok (tL_ok en_L_law_28) (tL_ok en_L_law_29)))))) (tN_ok (tN_ok (tN_ok (tN_ok (tL_ok en_L_law_30) (tL_ok en_L_law_32)) (tN_ok (tL_ok en_L_law_33) (tL_ok en_L_law_140))) (tN_ok (tN_ok (tL_ok en_L_law_141) (tL_ok en_L_law_142)) (tN_ok (tL_ok en_L_law_143) (tN_ok (tL_ok en_L_law_144) (tL_ok en_L_law_145))))) (tN_ok (tN_ok (tN_ok (tL_ok en_L_law_146) (tL_ok en_L_law_147)) (tN_ok (tL_ok en_L_law_148) (tN_ok (tL_ok en_L_law_149) (tL_ok en_L_law_150)))) (tN_ok (tN_ok (tL_ok en_L_law_151) (tL_ok en_L_law_154)) (tN_ok (tL_ok en_L_law_155) (tN_ok (tL_ok en_L_law_156) (tL_ok en_L_law_157))))))) (tN_ok (tN_ok (tN_ok (tN_ok (tN_ok (tL_ok en_L_law_158) (tL_ok en_L_law_159)) (tN_ok (tL_ok en_L_law_160) (tL_ok en_L_law_161))) (tN_ok (tN_ok (tL_ok en_L_law_162) (tL_ok en_L_law_163)) (tN_ok (tL_ok en_L_law_164) (tN_ok (tL_ok en_L_law_165) (tL_ok en_L_law_168))))) (tN_ok (tN_ok (tN_ok (tL_ok en_L_law_171) (tL_ok en_L_law_172)) (tN_ok (tL_ok en_L_law_173) (tN_ok (tL_ok en_L_law_174) (tL_ok en_L_law_175)))) (tN_ok (tN_ok (tL_ok en_L_law_176) (tL_ok en_L_law_177)) (tN_ok (tL_ok en_L_law_178) (tN_ok (tL_ok en_L_law_179) (tL_ok en_L_law_182)))))) (tN_ok (tN_ok (tN_ok (tN_ok (tL_ok en_L_law_183) (tL_ok en_L_law_184)) (tN_ok (tL_ok en_L_law_185) (tL_ok en_L_law_186))) (tN_ok (tN_ok (tL_ok en_L_law_187) (tL_ok en_L_law_188)) (tN_ok (tL_ok en_L_law_191) (tN_ok (tL_ok en_L_law_194) (tL_ok en_L_law_195))))) (tN_ok (tN_ok (tN_ok (tL_ok en_L_law_196) (tL_ok en_L_law_197)) (tN_ok (tL_ok en_L_law_198) (tN_ok (tL_ok en_L_law_199) (tL_ok en_L_law_200)))) (tN_ok (tN_ok (tL_ok en_L_law_201) (tL_ok en_L_law_202)) (tN_ok (tL_ok en_L_law_203) (tN_ok (tL_ok en_L_law_204) (tL_ok en_L_law_205)))))))) (tN_ok (tN_ok (tN_ok (tN_ok (tN_ok (tN_ok (tL_ok en_L_law_206) (tL_ok en_L_law_207)) (tN_ok (tL_ok en_L_law_210) (tL_ok en_L_law_211))) (tN_ok (tN_ok (tL_ok en_L_law_212) (tL_ok en_L_law_213)) (tN_ok (tL_ok en_L_law_214) (tN_ok (tL_ok en_L_law_215) (tL_ok en_L_law_216))))) (tN_ok (tN_ok (tN_ok (tL_ok en_L_law_217) (tL_ok en_L_law_218)) (tN_ok (tL_ok en_L_law_219) (tN_ok (tL_ok en_L_law_220) (tL_ok en_L_law_221)))) (tN_ok (tN_ok (tL_ok en_L_law_224) (tL_ok en_L_law_227)) (tN_ok (tL_ok en_L_law_228) (tN_ok (tL_ok en_L_law_229) (tL_ok en_L_law_230)))))) (tN_ok (tN_ok (tN_ok (tN_ok (tL_ok en_L_law_231) (tL_ok en_L_law_232)) (tN_ok (tL_ok en_L_law_233) (tL_ok en_L_law_234))) (tN_ok (tN_ok (tL_ok en_L_law_235) (tL_ok en_L_law_236)) (tN_ok (tL_ok en_L_law_237) (tN_ok (tL_ok en_L_law_238) (tL_ok en_L_law_239))))) (tN_ok (tN_ok (tN_ok (tL_ok en_L_law_240) (tL_ok en_L_law_241)) (tN_ok (tL_ok en_L_law_242) (tN_ok (tL_ok en_L_law_243) (tL_ok en_L_law_244)))) (tN_ok (tN_ok (tL_ok en_L_law_245) (tL_ok en_L_law_246)) (tN_ok (tL_ok en_L_law_247) (tN_ok (tL_ok en_L_law_248) (tL_ok en_L_law_249))))))) (tN_ok (tN_ok (tN_ok (tN_ok (tN_ok (tL_ok en_L_law_250) (tL_ok en_L_law_251)) (tN_ok (tL_ok en_L_law_252) (tL_ok en_L_law_253))) (tN_ok (tN_ok (tL_ok en_L_law_254) (tL_ok en_L_law_255)) (tN_ok (tL_ok en_L_law_258) (tN_ok (tL_ok en_L_law_259) (tL_ok en_L_law_260))))) (tN_ok (tN_ok (tN_ok (tL_ok en_L_law_261) (tL_ok en_L_law_262)) (tN_ok (tL_ok en_L_law_263) (tN_ok (tL_ok en_L_law_264) (tL_ok en_L_law_265)))) (tN_ok (tN_ok (tL_ok en_L_law_266) (tL_ok en_L_law_267)) (tN_ok (tL_ok en_L_law_268) (tN_ok (tL_ok en_L_law_269) (tL_ok en_L_law_270)))))) (tN_ok (tN_ok (tN_ok (tN_ok (tL_ok en_L_law_271) (tL_ok en_L_law_272)) (tN_ok (tL_ok en_L_law_273) (tN_ok (tL_ok en_L_law_274) (tL_ok en_L_law_275)))) (tN_ok (tN_ok (tL_ok en_L_law_276) (tL_ok en_L_law_277)) (tN_ok (tL_ok en_L_law_278) (tN_ok (tL_ok en_L_law_279) (tL_ok en_L_law_280))))) (tN_ok (tN_ok (tN_ok (tL_ok en_L_law_281) (tL_ok en_L_law_282)) (tN_ok (tL_ok en_L_law_283) (tN_ok (tL_ok en_L_law_284) (tL_ok en_L_law_287)))) (tN_ok (tN_ok (tL_ok en_L_law_290) (tL_ok en_L_law_291)) (tN_ok (tL_ok en_L_law_292) (tN_ok (tL_ok en_L_law_293) (tL_ok en_L_law_294))))))))) (tN_ok (tN_ok (tN_ok (tN_ok (tN_ok (tN_ok (tN_ok (tL_ok en_L_law_295) (tL_ok en_L_law_296)) (tN_ok (tL_ok en_L_law_297) (tL_ok en_L_law_298))) (tN_ok (tN_ok (tL_ok en_L_law_301) (tL_ok en_L_law_302)) (tN_ok (tL_ok en_L_law_303) (tN_ok (tL_ok en_L_law_304) (tL_ok en_L_law_305))))) (tN_ok (tN_ok (tN_ok (tL_ok en_L_law_306) (tL_ok en_L_law_307)) (tN_ok (tL_ok en_L_law_310) (tN_ok (tL_ok en_L_law_313) (tL_ok en_L_law_314)))) (tN_ok (tN_ok (tL_ok en_L_law_315) (tL_ok en_L_law_316)) (tN_ok (tL_ok en_L_law_319) (tN_ok (tL_ok en_L_law_320) (tL_ok en_L_law_323)))))) (tN_ok (tN_ok (tN_ok (tN_ok (tL_ok en_L_law_326) (tL_ok en_L_law_327)) (tN_ok (tL_ok en_L_law_328) (tL_ok en_L_law_329))) (tN_ok (tN_ok (tL_ok en_L_law_330) (tL_ok en_L_law_331)) (tN_ok (tL_ok en_L_law_332) (tN_ok (tL_ok en_L_law_333) (tL_ok en_L_law_334))))) (tN_ok (tN_ok (tN_ok (tL_ok en_L_law_337) (tL_ok en_L_law_338)) (tN_ok (tL_ok en_L_law_339) (tN_ok (tL_ok en_L_law_340) (tL_ok en_L_law_341)))) (tN_ok (tN_ok (tL_ok en_L_law_342) (tL_ok en_L_law_343)) (tN_ok (tL_ok en_L_law_346) (tN_ok (tL_ok en_L_law_349) (tL_ok en_L_law_350))))))) (tN_ok (tN_ok (tN_ok (tN_ok (tN_ok (tL_ok en_L_law_351) (tL_ok en_L_law_352)) (tN_ok (tL_ok en_L_law_355) (tL_ok en_L_law_356))) (tN_ok (tN_ok (tL_ok en_L_law_359) (tL_ok en_L_law_362)) (tN_ok (tL_ok en_L_law_363) (tN_ok (tL_ok en_L_law_364) (tL_ok en_L_law_365))))) (tN_ok (tN_ok (tN_ok (tL_ok en_L_law_366) (tL_ok en_L_law_367)) (tN_ok (tL_ok en_L_law_368) (tN_ok (tL_ok en_L_law_369) (tL_ok en_L_law_370)))) (tN_ok (tN_ok (tL_ok en_L_law_371) (tL_ok en_L_law_372)) (tN_ok (tL_ok en_L_law_373) (tN_ok (tL_ok en_L_law_374) (tL_ok en_L_law_375)))))) (tN_ok (tN_ok (tN_ok (tN_ok (tL_ok en_L_law_378) (tL_ok en_L_law_379)) (tN_ok (tL_ok en_L_law_380) (tN_ok (tL_ok en_L_law_381) (tL_ok en_L_law_382)))) (tN_ok (tN_ok (tL_ok en_L_law_383) (tL_ok en_L_law_384)) (tN_ok (tL_ok en_L_law_385) (tN_ok (tL_ok en_L_law_386) (tL_ok en_L_law_387))))) (tN_ok (tN_ok (tN_ok (tL_ok en_L_law_388) (tL_ok en_L_law_389)) (tN_ok (tL_ok en_L_law_392) (tN_ok (tL_ok en_L_law_395) (tL_ok en_L_law_396)))) (tN_ok (tN_ok (tL_ok en_L_law_397) (tL_ok en_L_law_398)) (tN_ok (tL_ok en_L_law_399) (tN_ok (tL_ok en_L_law_400) (tL_ok en_L_law_401)))))))) (tN_ok (tN_ok (tN_ok (tN_ok (tN_ok (tN_ok (tL_ok en_L_law_402) (tL_ok en_L_law_403)) (tN_ok (tL_ok en_L_law_404) (tL_ok en_L_law_405))) (tN_ok (tN_ok (tL_ok en_L_law_406) (tL_ok en_L_law_407)) (tN_ok (tL_ok en_L_law_408) (tN_ok (tL_ok en_L_law_409) (tL_ok en_L_law_410))))) (tN_ok (tN_ok (tN_ok (tL_ok en_L_law_411) (tL_ok en_L_law_412)) (tN_ok (tL_ok en_L_law_413) (tN_ok (tL_ok en_L_law_416) (tL_ok en_L_law_417)))) (tN_ok (tN_ok (tL_ok en_L_law_418) (tL_ok en_L_law_419)) (tN_ok (tL_ok en_L_law_420) (tN_ok (tL_ok en_L_law_421) (tL_ok en_L_law_422)))))) (tN_ok (tN_ok (tN_ok (tN_ok (tL_ok en_L_law_423) (tL_ok en_L_law_424)) (tN_ok (tL_ok en_L_law_425) (tL_ok en_L_law_426))) (tN_ok (tN_ok (tL_ok en_L_law_427) (tL_ok en_L_law_428)) (tN_ok (tL_ok en_L_law_429) (tN_ok (tL_ok en_L_law_430) (tL_ok en_L_law_431))))) (tN_ok (tN_ok (tN_ok (tL_ok en_L_law_432) (tL_ok en_L_law_435)) (tN_ok (tL_ok en_L_law_438) (tN_ok (tL_ok en_L_law_439) (tL_ok en_L_law_440)))) (tN_ok (tN_ok (tL_ok en_L_law_441) (tL_ok en_L_law_444)) (tN_ok (tL_ok en_L_law_445) (tN_ok (tL_ok en_L_law_448) (tL_ok en_L_law_451))))))) (tN_ok (tN_ok (tN_ok (tN_ok (tN_ok (tL_ok en_L_law_452) (tL_ok en_L_law_453)) (tN_ok (tL_ok en_L_law_454) (tL_ok en_L_law_457))) (tN_ok (tN_ok (tL_ok en_L_law_458) (tL_ok en_L_law_461)) (tN_ok (tL_ok en_L_law_464) (tN_ok (tL_ok en_L_law_465) (tL_ok en_L_law_466))))) (tN_ok (tN_ok (tN_ok (tL_ok en_L_law_467) (tL_ok en_L_law_468)) (tN_ok (tL_ok en_L_law_469) (tN_ok (tL_ok en_L_law_470) (tL_ok en_L_law_471)))) (tN_ok (tN_ok (tL_ok en_L_law_472) (tL_ok en_L_law_473)) (tN_ok (tL_ok en_L_law_474) (tN_ok (tL_ok en_L_law_475) (tL_ok en_L_law_476)))))) (tN_ok (tN_ok (tN_ok (tN_ok (tL_ok en_L_law_477) (tL_ok en_L_law_480)) (tN_ok (tL_ok en_L_law_481) (tN_ok (tL_ok en_L_law_482) (tL_ok en_L_law_483)))) (tN_ok (tN_ok (tL_ok en_L_law_484) (tL_ok en_L_law_485)) (tN_ok (tL_ok en_L_law_486) (tN_ok (tL_ok en_L_law_487) (tL_ok en_L_law_488))))) (tN_ok (tN_ok (tN_ok (tL_ok en_L_law_489) (tL_ok en_L_law_490)) (tN_ok (tL_ok en_L_law_491) (tN_ok (tL_ok en_L_law_494) (tL_ok en_L_law_497)))) (tN_ok (tN_ok (tL_ok en_L_law_498) (tL_ok en_L_law_499)) (tN_ok (tL_ok en_L_law_500) (tN_ok (tL_ok en_L_law_501) (tL_ok en_L_law_502)))))))))) (tN_ok (tN_ok (tN_ok (tN_ok (tN_ok (tN_ok (tN_ok (tN_ok (tL_ok en_L_law_503) (tL_ok en_L_law_504)) (tN_ok (tL_ok en_L_law_505) (tL_ok en_L_law_506))) (tN_ok (tN_ok (tL_ok en_L_law_507) (tL_ok en_L_law_508)) (tN_ok (tL_ok en_L_law_509) (tN_ok (tL_ok en_L_law_510) (tL_ok en_L_law_511))))) (tN_ok (tN_ok (tN_ok (tL_ok en_L_law_512) (tL_ok en_L_law_513)) (tN_ok (tL_ok en_L_law_514) (tN_ok (tL_ok en_L_law_515) (tL_ok en_L_law_516)))) (tN_ok (tN_ok (tL_ok en_L_law_517) (tL_ok en_L_law_518)) (tN_ok (tL_ok en_L_law_519) (tN_ok (tL_ok en_L_law_520) (tL_ok en_L_law_521)))))) (tN_ok (tN_ok (tN_ok (tN_ok (tL_ok en_L_law_522) (tL_ok en_L_law_523)) (tN_ok (tL_ok en_L_law_524) (tL_ok en_L_law_525))) (tN_ok (tN_ok (tL_ok en_L_law_528) (tL_ok en_L_law_529)) (tN_ok (tL_ok en_L_law_532) (tN_ok (tL_ok en_L_law_533) (tL_ok en_L_law_536))))) (tN_ok (tN_ok (tN_ok (tL_ok en_L_law_537) (tL_ok en_L_law_538)) (tN_ok (tL_ok en_L_law_539) (tN_ok (tL_ok en_L_law_540) (tL_ok en_L_law_541)))) (tN_ok (tN_ok (tL_ok en_L_law_542) (tL_ok en_L_law_543)) (tN_ok (tL_ok en_L_law_544) (tN_ok (tL_ok en_L_law_545) (tL_ok en_L_law_546))))))) (tN_ok (tN_ok (tN_ok (tN_ok (tN_ok (tL_ok en_L_law_547) (tL_ok en_L_law_548)) (tN_ok (tL_ok en_L_law_549) (tL_ok en_L_law_550))) (tN_ok (tN_ok (tL_ok en_L_law_551) (tL_ok en_L_law_552)) (tN_ok (tL_ok en_L_law_553) (tN_ok (tL_ok en_L_law_554) (tL_ok en_L_law_555))))) (tN_ok (tN_ok (tN_ok (tL_ok en_L_law_556) (tL_ok en_L_law_557)) (tN_ok (tL_ok en_L_law_558) (tN_ok (tL_ok en_L_law_559) (tL_ok en_L_law_560)))) (tN_ok (tN_ok (tL_ok en_L_law_561) (tL_ok en_L_law_562)) (tN_ok (tL_ok en_L_law_565) (tN_ok (tL_ok en_L_law_566) (tL_ok en_L_law_569)))))) (tN_ok (tN_ok (tN_ok (tN_ok (tL_ok en_L_law_570) (tL_ok en_L_law_573)) (tN_ok (tL_ok en_L_law_576) (tN_ok (tL_ok en_L_law_577) (tL_ok en_L_law_578)))) (tN_ok (tN_ok (tL_ok en_L_law_579) (tL_ok en_L_law_580)) (tN_ok (tL_ok en_L_law_581) (tN_ok (tL_ok en_L_law_582) (tL_ok en_L_law_583))))) (tN_ok (tN_ok (tN_ok (tL_ok en_L_law_584) (tL_ok en_L_law_585)) (tN_ok (tL_ok en_L_law_586) (tN_ok (tL_ok en_L_law_587) (tL_ok en_L_law_588)))) (tN_ok (tN_ok (tL_ok en_L_law_589) (tL_ok en_L_law_590)) (tN_ok (tL_ok en_L_law_591) (tN_ok (tL_ok en_L_law_592) (tL_ok en_L_law_593)))))))) (tN_ok (tN_ok (tN_ok (tN_ok (tN_ok (tN_ok (tL_ok en_L_law_594) (tL_ok en_L_law_597)) (tN_ok (tL_ok en_L_law_598) (tL_ok en_L_law_599))) (tN_ok (tN_ok (tL_ok en_L_law_600) (tL_ok en_L_law_601)) (tN_ok (tL_ok en_L_law_602) (tN_ok (tL_ok en_L_law_603) (tL_ok en_L_law_604))))) (tN_ok (tN_ok (tN_ok (tL_ok en_L_law_605) (tL_ok en_L_law_606)) (tN_ok (tL_ok en_L_law_607) (tN_ok (tL_ok en_L_law_608) (tL_ok en_L_law_609)))) (tN_ok (tN_ok (tL_ok en_L_law_610) (tL_ok en_L_law_611)) (tN_ok (tL_ok en_L_law_612) (tN_ok (tL_ok en_L_law_613) (tL_ok en_L_law_616)))))) (tN_ok (tN_ok (tN_ok (tN_ok (tL_ok en_L_law_619) (tL_ok en_L_law_620)) (tN_ok (tL_ok en_L_law_621) (tL_ok en_L_law_622))) (tN_ok (tN_ok (tL_ok en_L_law_623) (tL_ok en_L_law_624)) (tN_ok (tL_ok en_L_law_625) (tN_ok (tL_ok en_L_law_626) (tL_ok en_L_law_627))))) (tN_ok (tN_ok (tN_ok (tL_ok en_L_law_628) (tL_ok en_L_law_629)) (tN_ok (tL_ok en_L_law_630) (tN_ok (tL_ok en_L_law_631) (tL_ok en_L_law_632)))) (tN_ok (tN_ok (tL_ok en_L_law_635) (tL_ok en_L_law_636)) (tN_ok (tL_ok en_L_law_637) (tN_ok (tL_ok en_L_law_638) (tL_ok en_L_law_639))))))) (tN_ok (tN_ok (tN_ok (tN_ok (tN_ok (tL_ok en_L_law_640) (tL_ok en_L_law_641)) (tN_ok (tL_ok en_L_law_642) (tL_ok en_L_law_643))) (tN_ok (tN_ok (tL_ok en_L_law_644) (tL_ok en_L_law_645)) (tN_ok (tL_ok en_L_law_646) (tN_ok (tL_ok en_L_law_649) (tL_ok en_L_law_652))))) (tN_ok (tN_ok (tN_ok (tL_ok en_L_law_653) (tL_ok en_L_law_654)) (tN_ok (tL_ok en_L_law_655) (tN_ok (tL_ok en_L_law_656) (tL_ok en_L_law_657)))) (tN_ok (tN_ok (tL_ok en_L_law_658) (tL_ok en_L_law_659)) (tN_ok (tL_ok en_L_law_660) (tN_ok (tL_ok en_L_law_661) (tL_ok en_L_law_662)))))) (tN_ok (tN_ok (tN_ok (tN_ok (tL_ok en_L_law_663) (tL_ok en_L_law_664)) (tN_ok (tL_ok en_L_law_665) (tN_ok (tL_ok en_L_law_666) (tL_ok en_L_law_667)))) (tN_ok (tN_ok (tL_ok en_L_law_668) (tL_ok en_L_law_669)) (tN_ok (tL_ok en_L_law_670) (tN_ok (tL_ok en_L_law_673) (tL_ok en_L_law_674))))) (tN_ok (tN_ok (tN_ok (tL_ok en_L_law_675) (tL_ok en_L_law_676)) (tN_ok (tL_ok en_L_law_677) (tN_ok (tL_ok en_L_law_678) (tL_ok en_L_law_679)))) (tN_ok (tN_ok (tL_ok en_L_law_680) (tL_ok en_L_law_681)) (tN_ok (tL_ok en_L_law_682) (tN_ok (tL_ok en_L_law_683) (tL_ok en_L_law_684))))))))) (tN_ok (tN_ok (tN_ok (tN_ok (tN_ok (tN_ok (tN_ok (tL_ok en_L_law_685) (tL_ok en_L_law_686)) (tN_ok (tL_ok en_L_law_687) (tL_ok en_L_law_688))) (tN_ok (tN_ok (tL_ok en_L_law_689) (tL_ok en_L_law_692)) (tN_ok (tL_ok en_L_law_695) (tN_ok (tL_ok en_L_law_696) (tL_ok en_L_law_697))))) (tN_ok (tN_ok (tN_ok (tL_ok en_L_law_698) (tL_ok en_L_law_699)) (tN_ok (tL_ok en_L_law_700) (tN_ok (tL_ok en_L_law_701) (tL_ok en_L_law_702)))) (tN_ok (tN_ok (tL_ok en_L_law_703) (tL_ok en_L_law_704)) (tN_ok (tL_ok en_L_law_705) (tN_ok (tL_ok en_L_law_706) (tL_ok en_L_law_707)))))) (tN_ok (tN_ok (tN_ok (tN_ok (tL_ok en_L_law_708) (tL_ok en_L_law_709)) (tN_ok (tL_ok en_L_law_710) (tL_ok en_L_law_711))) (tN_ok (tN_ok (tL_ok en_L_law_712) (tL_ok en_L_law_713)) (tN_ok (tL_ok en_L_law_714) (tN_ok (tL_ok en_L_law_715) (tL_ok en_L_law_716))))) (tN_ok (tN_ok (tN_ok (tL_ok en_L_law_717) (tL_ok en_L_law_718)) (tN_ok (tL_ok en_L_law_721) (tN_ok (tL_ok en_L_law_722) (tL_ok en_L_law_723)))) (tN_ok (tN_ok (tL_ok en_L_law_724) (tL_ok en_L_law_725)) (tN_ok (tL_ok en_L_law_726) (tN_ok (tL_ok en_L_law_727) (tL_ok en_L_law_728))))))) (tN_ok (tN_ok (tN_ok (tN_ok (tN_ok (tL_ok en_L_law_729) (tL_ok en_L_law_730)) (tN_ok (tL_ok en_L_law_731) (tL_ok en_L_law_732))) (tN_ok (tN_ok (tL_ok en_L_law_733) (tL_ok en_L_law_734)) (tN_ok (tL_ok en_L_law_735) (tN_ok (tL_ok en_L_law_736) (tL_ok en_L_law_737))))) (tN_ok (tN_ok (tN_ok (tL_ok en_L_law_738) (tL_ok en_L_law_739)) (tN_ok (tL_ok en_L_law_740) (tN_ok (tL_ok en_L_law_741) (tL_ok en_L_law_742)))) (tN_ok (tN_ok (tL_ok en_L_law_745) (tL_ok en_L_law_748)) (tN_ok (tL_ok en_L_law_749) (tN_ok (tL_ok en_L_law_750) (tL_ok en_L_law_751)))))) (tN_ok (tN_ok (tN_ok (tN_ok (tL_ok en_L_law_752) (tL_ok en_L_law_753)) (tN_ok (tL_ok en_L_law_754) (tN_ok (tL_ok en_L_law_755) (tL_ok en_L_law_756)))) (tN_ok (tN_ok (tL_ok en_L_law_757) (tL_ok en_L_law_758)) (tN_ok (tL_ok en_L_law_759) (tN_ok (tL_ok en_L_law_760) (tL_ok en_L_law_761))))) (tN_ok (tN_ok (tN_ok (tL_ok en_L_law_764) (tL_ok en_L_law_765)) (tN_ok (tL_ok en_L_law_766) (tN_ok (tL_ok en_L_law_767) (tL_ok en_L_law_768)))) (tN_ok (tN_ok (tL_ok en_L_law_769) (tL_ok en_L_law_770)) (tN_ok (tL_ok en_L_law_771) (tN_ok (tL_ok en_L_law_772) (tL_ok en_L_law_773)))))))) (tN_ok (tN_ok (tN_ok (tN_ok (tN_ok (tN_ok (tL_ok en_L_law_774) (tL_ok en_L_law_775)) (tN_ok (tL_ok en_L_law_778) (tL_ok en_L_law_781))) (tN_ok (tN_ok (tL_ok en_L_law_782) (tL_ok en_L_law_783)) (tN_ok (tL_ok en_L_law_784) (tN_ok (tL_ok en_L_law_787) (tL_ok en_L_law_788))))) (tN_ok (tN_ok (tN_ok (tL_ok en_L_law_791) (tL_ok en_L_law_794)) (tN_ok (tL_ok en_L_law_795) (tN_ok (tL_ok en_L_law_796) (tL_ok en_L_law_797)))) (tN_ok (tN_ok (tL_ok en_L_law_798) (tL_ok en_L_law_799)) (tN_ok (tL_ok en_L_law_800) (tN_ok (tL_ok en_L_law_801) (tL_ok en_L_law_802)))))) (tN_ok (tN_ok (tN_ok (tN_ok (tL_ok en_L_law_805) (tL_ok en_L_law_806)) (tN_ok (tL_ok en_L_law_807) (tL_ok en_L_law_808))) (tN_ok (tN_ok (tL_ok en_L_law_809) (tL_ok en_L_law_810)) (tN_ok (tL_ok en_L_law_811) (tN_ok (tL_ok en_L_law_814) (tL_ok en_L_law_817))))) (tN_ok (tN_ok (tN_ok (tL_ok en_L_law_818) (tL_ok en_L_law_819)) (tN_ok (tL_ok en_L_law_820) (tN_ok (tL_ok en_L_law_821) (tL_ok en_L_law_822)))) (tN_ok (tN_ok (tL_ok en_L_law_823) (tL_ok en_L_law_824)) (tN_ok (tL_ok en_L_law_825) (tN_ok (tL_ok en_L_law_826) (tL_ok en_L_law_827))))))) (tN_ok (tN_ok (tN_ok (tN_ok (tN_ok (tL_ok en_L_law_828) (tL_ok en_L_law_829)) (tN_ok (tL_ok en_L_law_830) (tL_ok en_L_law_833))) (tN_ok (tN_ok (tL_ok en_L_law_834) (tL_ok en_L_law_835)) (tN_ok (tL_ok en_L_law_836) (tN_ok (tL_ok en_L_law_837) (tL_ok en_L_law_838))))) (tN_ok (tN_ok (tN_ok (tL_ok en_L_law_839) (tL_ok en_L_law_840)) (tN_ok (tL_ok en_L_law_841) (tN_ok (tL_ok en_L_law_842) (tL_ok en_L_law_843)))) (tN_ok (tN_ok (tL_ok en_L_law_844) (tL_ok en_L_law_847)) (tN_ok (tL_ok en_L_law_850) (tN_ok (tL_ok en_L_law_851) (tL_ok en_L_law_852)))))) (tN_ok (tN_ok (tN_ok (tN_ok (tL_ok en_L_law_853) (tL_ok en_L_law_854)) (tN_ok (tL_ok en_L_law_855) (tN_ok (tL_ok en_L_law_856) (tL_ok en_L_law_857)))) (tN_ok (tN_ok (tL_ok en_L_law_858) (tL_ok en_L_law_861)) (tN_ok (tL_ok en_L_law_862) (tN_ok (tL_ok en_L_law_863) (tL_ok en_L_law_864))))) (tN_ok (tN_ok (tN_ok (tL_ok en_L_law_865) (tL_ok en_L_law_866)) (tN_ok (tL_ok en_L_law_867) (tN_ok (tL_ok en_L_law_870) (tL_ok en_L_law_873)))) (tN_ok (tN_ok (tL_ok en_L_law_874) (tL_ok en_L_law_875)) (tN_ok (tL_ok en_L_law_878) (tN_ok (tL_ok en_L_law_881) (tL_ok en_L_law_882)))))))))))
end ENT
