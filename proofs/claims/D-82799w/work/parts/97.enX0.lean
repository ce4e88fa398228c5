/-! EVERY ENTRY IS SOUND (printed by gen2.py): 97.enX0 -/
section ENT
set_option maxRecDepth 100000
variable {S : Nat × (Nat → Int32)}
theorem en_X0_net_0 : SndE EE S mi_X0_net 0 (.inl (e_ldi 1 1)) := sn_iload_n dX0_net_0 rfl rfl
theorem en_X0_net_1 : SndE EE S mi_X0_net 1 (.inl (e_zlt 4 20)) := sn_zlt dX0_net_1 rfl (by decide)
theorem en_X0_net_4 : SndE EE S mi_X0_net 4 (.inl (e_ldi 5 1)) := sn_iload_n dX0_net_4 rfl rfl
theorem en_X0_net_5 : SndE EE S mi_X0_net 5 (.inl (e_psh 7 (.int (24)))) := sn_bipush dX0_net_5 rfl rfl
theorem en_X0_net_7 : SndE EE S mi_X0_net 7 (.inl (e_ige 10 20)) := sn_ige dX0_net_7 rfl (by decide)
theorem en_X0_net_10 : SndE EE S mi_X0_net 10 (.inl (e_ldi 11 2)) := sn_iload_n dX0_net_10 rfl rfl
theorem en_X0_net_11 : SndE EE S mi_X0_net 11 (.inl (e_zlt 14 20)) := sn_zlt dX0_net_11 rfl (by decide)
theorem en_X0_net_14 : SndE EE S mi_X0_net 14 (.inl (e_ldi 15 2)) := sn_iload_n dX0_net_14 rfl rfl
theorem en_X0_net_15 : SndE EE S mi_X0_net 15 (.inl (e_psh 17 (.int (16777216)))) := sn_ldc dX0_net_15 rfl q82
theorem en_X0_net_17 : SndE EE S mi_X0_net 17 (.inl (e_ilt 20 22)) := sn_ilt dX0_net_17 rfl (by decide)
theorem en_X0_net_20 : SndE EE S mi_X0_net 20 (.inl (e_psh 21 (.int (0)))) := sn_iconst dX0_net_20 rfl rfl
theorem en_X0_net_21 : SndE EE S mi_X0_net 21 (.inr (.inr 2)) := ⟨dX0_net_21, rfl⟩
theorem en_X0_net_22 : SndE EE S mi_X0_net 22 (.inl (e_lda 23 0)) := sn_aload_n dX0_net_22 rfl rfl
theorem en_X0_net_23 : SndE EE S mi_X0_net 23 (.inl (e_gR 26 0 0)) := sn_gR dX0_net_23 rfl cl_0 (by decide) rfl (Or.inl q650) (Or.inl rfl)
theorem en_X0_net_26 : SndE EE S mi_X0_net 26 (.inl (e_ldi 27 1)) := sn_iload_n dX0_net_26 rfl rfl
theorem en_X0_net_27 : SndE EE S mi_X0_net 27 (.inl (e_ldi 28 2)) := sn_iload_n dX0_net_27 rfl rfl
theorem en_X0_net_28 : SndE EE S mi_X0_net 28 (.inl (e_iast 29)) := sn_iast dX0_net_28 rfl
theorem en_X0_net_29 : SndE EE S mi_X0_net 29 (.inl (e_psh 30 (.int (1)))) := sn_iconst dX0_net_29 rfl rfl
theorem en_X0_net_30 : SndE EE S mi_X0_net 30 (.inr (.inr 2)) := ⟨dX0_net_30, rfl⟩
theorem sd_X0_net : ∀ pc x, cd_X0_net pc = some x → SndE EE S mi_X0_net pc x := (tN_ok (tN_ok (tN_ok (tN_ok (tL_ok en_X0_net_0) (tL_ok en_X0_net_1)) (tN_ok (tL_ok en_X0_net_4) (tL_ok en_X0_net_5))) (tN_ok (tN_ok (tL_ok en_X0_net_7) (tL_ok en_X0_net_10)) (tN_ok (tL_ok en_X0_net_11) (tN_ok (tL_ok en_X0_net_14) (tL_ok en_X0_net_15))))) (tN_ok (tN_ok (tN_ok (tL_ok en_X0_net_17) (tL_ok en_X0_net_20)) (tN_ok (tL_ok en_X0_net_21) (tN_ok (tL_ok en_X0_net_22) (tL_ok en_X0_net_23)))) (tN_ok (tN_ok (tL_ok en_X0_net_26) (tL_ok en_X0_net_27)) (tN_ok (tL_ok en_X0_net_28) (tN_ok (tL_ok en_X0_net_29) (tL_ok en_X0_net_30))))))
theorem en_X0_centre_0 : SndE EE S mi_X0_centre 0 (.inl (e_lda 1 0)) := sn_aload_n dX0_centre_0 rfl rfl
theorem en_X0_centre_1 : SndE EE S mi_X0_centre 1 (.inr (.inl (d_cls 0 2, 1, 3))) := sc_virt dX0_centre_1 (rcv_cls (r := (RX0, TX0, 35)) rfl ⟨mo_X0_seekCentre, nmo_X0_seekCentre, q87, q89, qs0⟩)
theorem en_X0_centre_4 : SndE EE S mi_X0_centre 4 (.inl (e_lda 5 0)) := sn_aload_n dX0_centre_4 rfl rfl
theorem en_X0_centre_5 : SndE EE S mi_X0_centre 5 (.inl (e_gI 8 0 3)) := sn_gI dX0_centre_5 rfl cl_0 (by decide) rfl (Or.inl q653) (Or.inl rfl)
theorem en_X0_centre_8 : SndE EE S mi_X0_centre 8 (.inl (e_zge 11 13)) := sn_zge dX0_centre_8 rfl (by decide)
theorem en_X0_centre_11 : SndE EE S mi_X0_centre 11 (.inl (e_psh 12 (.int (-1)))) := sn_iconst dX0_centre_11 rfl rfl
theorem en_X0_centre_12 : SndE EE S mi_X0_centre 12 (.inr (.inr 1)) := ⟨dX0_centre_12, rfl⟩
theorem en_X0_centre_13 : SndE EE S mi_X0_centre 13 (.inl (e_ldi 14 1)) := sn_iload_n dX0_centre_13 rfl rfl
theorem en_X0_centre_14 : SndE EE S mi_X0_centre 14 (.inl (e_zne 17 24)) := sn_zne dX0_centre_14 rfl (by decide)
theorem en_X0_centre_17 : SndE EE S mi_X0_centre 17 (.inl (e_lda 18 0)) := sn_aload_n dX0_centre_17 rfl rfl
theorem en_X0_centre_18 : SndE EE S mi_X0_centre 18 (.inl (e_gI 21 0 1)) := sn_gI dX0_centre_18 rfl cl_0 (by decide) rfl (Or.inl q651) (Or.inl rfl)
theorem en_X0_centre_21 : SndE EE S mi_X0_centre 21 (.inl (e_goto 49)) := sn_goto dX0_centre_21 (by decide)
theorem en_X0_centre_24 : SndE EE S mi_X0_centre 24 (.inl (e_ldi 25 1)) := sn_iload_n dX0_centre_24 rfl rfl
theorem en_X0_centre_25 : SndE EE S mi_X0_centre 25 (.inl (e_psh 26 (.int (1)))) := sn_iconst dX0_centre_25 rfl rfl
theorem en_X0_centre_26 : SndE EE S mi_X0_centre 26 (.inl (e_ine 29 36)) := sn_ine dX0_centre_26 rfl (by decide)
theorem en_X0_centre_29 : SndE EE S mi_X0_centre 29 (.inl (e_lda 30 0)) := sn_aload_n dX0_centre_29 rfl rfl
theorem en_X0_centre_30 : SndE EE S mi_X0_centre 30 (.inl (e_gI 33 0 2)) := sn_gI dX0_centre_30 rfl cl_0 (by decide) rfl (Or.inl q652) (Or.inl rfl)
theorem en_X0_centre_33 : SndE EE S mi_X0_centre 33 (.inl (e_goto 49)) := sn_goto dX0_centre_33 (by decide)
theorem en_X0_centre_36 : SndE EE S mi_X0_centre 36 (.inl (e_ldi 37 1)) := sn_iload_n dX0_centre_36 rfl rfl
theorem en_X0_centre_37 : SndE EE S mi_X0_centre 37 (.inl (e_psh 38 (.int (2)))) := sn_iconst dX0_centre_37 rfl rfl
theorem en_X0_centre_38 : SndE EE S mi_X0_centre 38 (.inl (e_ine 41 48)) := sn_ine dX0_centre_38 rfl (by decide)
theorem en_X0_centre_41 : SndE EE S mi_X0_centre 41 (.inl (e_lda 42 0)) := sn_aload_n dX0_centre_41 rfl rfl
theorem en_X0_centre_42 : SndE EE S mi_X0_centre 42 (.inl (e_gI 45 0 3)) := sn_gI dX0_centre_42 rfl cl_0 (by decide) rfl (Or.inl q653) (Or.inl rfl)
theorem en_X0_centre_45 : SndE EE S mi_X0_centre 45 (.inl (e_goto 49)) := sn_goto dX0_centre_45 (by decide)
theorem en_X0_centre_48 : SndE EE S mi_X0_centre 48 (.inl (e_psh 49 (.int (-1)))) := sn_iconst dX0_centre_48 rfl rfl
theorem en_X0_centre_49 : SndE EE S mi_X0_centre 49 (.inr (.inr 1)) := ⟨dX0_centre_49, rfl⟩
theorem sd_X0_centre : ∀ pc x, cd_X0_centre pc = some x → SndE EE S mi_X0_centre pc x := (tN_ok (tN_ok (tN_ok (tN_ok (tL_ok en_X0_centre_0) (tN_ok (tL_ok en_X0_centre_1) (tL_ok en_X0_centre_4))) (tN_ok (tL_ok en_X0_centre_5) (tN_ok (tL_ok en_X0_centre_8) (tL_ok en_X0_centre_11)))) (tN_ok (tN_ok (tL_ok en_X0_centre_12) (tN_ok (tL_ok en_X0_centre_13) (tL_ok en_X0_centre_14))) (tN_ok (tN_ok (tL_ok en_X0_centre_17) (tL_ok en_X0_centre_18)) (tN_ok (tL_ok en_X0_centre_21) (tL_ok en_X0_centre_24))))) (tN_ok (tN_ok (tN_ok (tL_ok en_X0_centre_25) (tN_ok (tL_ok en_X0_centre_26) (tL_ok en_X0_centre_29))) (tN_ok (tL_ok en_X0_centre_30) (tN_ok (tL_ok en_X0_centre_33) (tL_ok en_X0_centre_36)))) (tN_ok (tN_ok (tL_ok en_X0_centre_37) (tN_ok (tL_ok en_X0_centre_38) (tL_ok en_X0_centre_41))) (tN_ok (tN_ok (tL_ok en_X0_centre_42) (tL_ok en_X0_centre_45)) (tN_ok (tL_ok en_X0_centre_48) (tL_ok en_X0_centre_49))))))
theorem en_X0_seekCentre_0 : SndE EE S mi_X0_seekCentre 0 (.inl (e_lda 1 0)) := sn_aload_n dX0_seekCentre_0 rfl rfl
theorem en_X0_seekCentre_1 : SndE EE S mi_X0_seekCentre 1 (.inl (e_psh 2 (.int (-1)))) := sn_iconst dX0_seekCentre_1 rfl rfl
theorem en_X0_seekCentre_2 : SndE EE S mi_X0_seekCentre 2 (.inl (e_pI 5 0 3)) := sn_pI dX0_seekCentre_2 rfl cl_0 (by decide) rfl (Or.inl ⟨q653, Or.inl rfl⟩) (Or.inl rfl) (fun _ => ⟨rfl, rfl⟩)
theorem en_X0_seekCentre_5 : SndE EE S mi_X0_seekCentre 5 (.inl (e_psh 6 (.int (0)))) := sn_iconst dX0_seekCentre_5 rfl rfl
theorem en_X0_seekCentre_6 : SndE EE S mi_X0_seekCentre 6 (.inl (e_sti 7 1)) := sn_istore_n dX0_seekCentre_6 rfl rfl rfl (by decide)
theorem en_X0_seekCentre_7 : SndE EE S mi_X0_seekCentre 7 (.inl (e_ldi 8 1)) := sn_iload_n dX0_seekCentre_7 rfl rfl
theorem en_X0_seekCentre_8 : SndE EE S mi_X0_seekCentre 8 (.inl (e_psh 10 (.int (24)))) := sn_bipush dX0_seekCentre_8 rfl rfl
theorem en_X0_seekCentre_10 : SndE EE S mi_X0_seekCentre 10 (.inl (e_ige 13 80)) := sn_ige dX0_seekCentre_10 rfl (by decide)
theorem en_X0_seekCentre_13 : SndE EE S mi_X0_seekCentre 13 (.inl (e_psh 14 (.int (0)))) := sn_iconst dX0_seekCentre_13 rfl rfl
theorem en_X0_seekCentre_14 : SndE EE S mi_X0_seekCentre 14 (.inl (e_sti 15 2)) := sn_istore_n dX0_seekCentre_14 rfl rfl rfl (by decide)
theorem en_X0_seekCentre_15 : SndE EE S mi_X0_seekCentre 15 (.inl (e_ldi 16 2)) := sn_iload_n dX0_seekCentre_15 rfl rfl
theorem en_X0_seekCentre_16 : SndE EE S mi_X0_seekCentre 16 (.inl (e_psh 18 (.int (24)))) := sn_bipush dX0_seekCentre_16 rfl rfl
theorem en_X0_seekCentre_18 : SndE EE S mi_X0_seekCentre 18 (.inl (e_ige 21 74)) := sn_ige dX0_seekCentre_18 rfl (by decide)
theorem en_X0_seekCentre_21 : SndE EE S mi_X0_seekCentre 21 (.inl (e_lda 22 0)) := sn_aload_n dX0_seekCentre_21 rfl rfl
theorem en_X0_seekCentre_22 : SndE EE S mi_X0_seekCentre 22 (.inl (e_gI 25 0 3)) := sn_gI dX0_seekCentre_22 rfl cl_0 (by decide) rfl (Or.inl q653) (Or.inl rfl)
theorem en_X0_seekCentre_25 : SndE EE S mi_X0_seekCentre 25 (.inl (e_psh 27 (.int (11)))) := sn_bipush dX0_seekCentre_25 rfl rfl
theorem en_X0_seekCentre_27 : SndE EE S mi_X0_seekCentre 27 (.inl (e_ige 30 68)) := sn_ige dX0_seekCentre_27 rfl (by decide)
theorem en_X0_seekCentre_30 : SndE EE S mi_X0_seekCentre 30 (.inl (e_lda 31 0)) := sn_aload_n dX0_seekCentre_30 rfl rfl
theorem en_X0_seekCentre_31 : SndE EE S mi_X0_seekCentre 31 (.inl (e_ldi 32 1)) := sn_iload_n dX0_seekCentre_31 rfl rfl
theorem en_X0_seekCentre_32 : SndE EE S mi_X0_seekCentre 32 (.inl (e_ldi 33 2)) := sn_iload_n dX0_seekCentre_32 rfl rfl
theorem en_X0_seekCentre_33 : SndE EE S mi_X0_seekCentre 33 (.inl (e_lda 34 0)) := sn_aload_n dX0_seekCentre_33 rfl rfl
theorem en_X0_seekCentre_34 : SndE EE S mi_X0_seekCentre 34 (.inl (e_gI 37 0 3)) := sn_gI dX0_seekCentre_34 rfl cl_0 (by decide) rfl (Or.inl q653) (Or.inl rfl)
theorem en_X0_seekCentre_37 : SndE EE S mi_X0_seekCentre 37 (.inl (e_psh 38 (.int (1)))) := sn_iconst dX0_seekCentre_37 rfl rfl
theorem en_X0_seekCentre_38 : SndE EE S mi_X0_seekCentre 38 (.inl (e_bin 39 (fun x y => x + y))) := sn_iadd dX0_seekCentre_38 rfl
theorem en_X0_seekCentre_39 : SndE EE S mi_X0_seekCentre 39 (.inr (.inl (d_cls 0 3, 4, 3))) := sc_virt dX0_seekCentre_39 (rcv_cls (r := (RX0, TX0, 35)) rfl ⟨mo_X0_fits, nmo_X0_fits, q92, q94, qs1⟩)
theorem en_X0_seekCentre_42 : SndE EE S mi_X0_seekCentre 42 (.inl (e_zeq 45 68)) := sn_zeq dX0_seekCentre_42 rfl (by decide)
theorem en_X0_seekCentre_45 : SndE EE S mi_X0_seekCentre 45 (.inl (e_lda 46 0)) := sn_aload_n dX0_seekCentre_45 rfl rfl
theorem en_X0_seekCentre_46 : SndE EE S mi_X0_seekCentre 46 (.inl (e_dup 47)) := sn_dup dX0_seekCentre_46 rfl
theorem en_X0_seekCentre_47 : SndE EE S mi_X0_seekCentre 47 (.inl (e_gI 50 0 3)) := sn_gI dX0_seekCentre_47 rfl cl_0 (by decide) rfl (Or.inl q653) (Or.inl rfl)
theorem en_X0_seekCentre_50 : SndE EE S mi_X0_seekCentre 50 (.inl (e_psh 51 (.int (1)))) := sn_iconst dX0_seekCentre_50 rfl rfl
theorem en_X0_seekCentre_51 : SndE EE S mi_X0_seekCentre 51 (.inl (e_bin 52 (fun x y => x + y))) := sn_iadd dX0_seekCentre_51 rfl
theorem en_X0_seekCentre_52 : SndE EE S mi_X0_seekCentre 52 (.inl (e_pI 55 0 3)) := sn_pI dX0_seekCentre_52 rfl cl_0 (by decide) rfl (Or.inl ⟨q653, Or.inl rfl⟩) (Or.inl rfl) (fun _ => ⟨rfl, rfl⟩)
theorem en_X0_seekCentre_55 : SndE EE S mi_X0_seekCentre 55 (.inl (e_lda 56 0)) := sn_aload_n dX0_seekCentre_55 rfl rfl
theorem en_X0_seekCentre_56 : SndE EE S mi_X0_seekCentre 56 (.inl (e_ldi 57 1)) := sn_iload_n dX0_seekCentre_56 rfl rfl
theorem en_X0_seekCentre_57 : SndE EE S mi_X0_seekCentre 57 (.inl (e_pI 60 0 1)) := sn_pI dX0_seekCentre_57 rfl cl_0 (by decide) rfl (Or.inl ⟨q651, Or.inl rfl⟩) (Or.inl rfl) (fun _ => ⟨rfl, rfl⟩)
theorem en_X0_seekCentre_60 : SndE EE S mi_X0_seekCentre 60 (.inl (e_lda 61 0)) := sn_aload_n dX0_seekCentre_60 rfl rfl
theorem en_X0_seekCentre_61 : SndE EE S mi_X0_seekCentre 61 (.inl (e_ldi 62 2)) := sn_iload_n dX0_seekCentre_61 rfl rfl
theorem en_X0_seekCentre_62 : SndE EE S mi_X0_seekCentre 62 (.inl (e_pI 65 0 2)) := sn_pI dX0_seekCentre_62 rfl cl_0 (by decide) rfl (Or.inl ⟨q652, Or.inl rfl⟩) (Or.inl rfl) (fun _ => ⟨rfl, rfl⟩)
theorem en_X0_seekCentre_65 : SndE EE S mi_X0_seekCentre 65 (.inl (e_goto 21)) := sn_goto dX0_seekCentre_65 (by decide)
theorem en_X0_seekCentre_68 : SndE EE S mi_X0_seekCentre 68 (.inl (e_inc 71 2 (1))) := sn_iinc dX0_seekCentre_68 rfl rfl rfl (by decide)
theorem en_X0_seekCentre_71 : SndE EE S mi_X0_seekCentre 71 (.inl (e_goto 15)) := sn_goto dX0_seekCentre_71 (by decide)
theorem en_X0_seekCentre_74 : SndE EE S mi_X0_seekCentre 74 (.inl (e_inc 77 1 (1))) := sn_iinc dX0_seekCentre_74 rfl rfl rfl (by decide)
theorem en_X0_seekCentre_77 : SndE EE S mi_X0_seekCentre 77 (.inl (e_goto 7)) := sn_goto dX0_seekCentre_77 (by decide)
theorem en_X0_seekCentre_80 : SndE EE S mi_X0_seekCentre 80 (.inr (.inr 0)) := ⟨dX0_seekCentre_80, rfl⟩
theorem sd_X0_seekCentre : ∀ pc x, cd_X0_seekCentre pc = some x → SndE EE S mi_X0_seekCentre pc x := (tN_ok (tN_ok (tN_ok (tN_ok (tN_ok (tL_ok en_X0_seekCentre_0) (tL_ok en_X0_seekCentre_1)) (tN_ok (tL_ok en_X0_seekCentre_2) (tN_ok (tL_ok en_X0_seekCentre_5) (tL_ok en_X0_seekCentre_6)))) (tN_ok (tN_ok (tL_ok en_X0_seekCentre_7) (tN_ok (tL_ok en_X0_seekCentre_8) (tL_ok en_X0_seekCentre_10))) (tN_ok (tL_ok en_X0_seekCentre_13) (tN_ok (tL_ok en_X0_seekCentre_14) (tL_ok en_X0_seekCentre_15))))) (tN_ok (tN_ok (tN_ok (tL_ok en_X0_seekCentre_16) (tL_ok en_X0_seekCentre_18)) (tN_ok (tL_ok en_X0_seekCentre_21) (tN_ok (tL_ok en_X0_seekCentre_22) (tL_ok en_X0_seekCentre_25)))) (tN_ok (tN_ok (tL_ok en_X0_seekCentre_27) (tN_ok (tL_ok en_X0_seekCentre_30) (tL_ok en_X0_seekCentre_31))) (tN_ok (tL_ok en_X0_seekCentre_32) (tN_ok (tL_ok en_X0_seekCentre_33) (tL_ok en_X0_seekCentre_34)))))) (tN_ok (tN_ok (tN_ok (tN_ok (tL_ok en_X0_seekCentre_37) (tL_ok en_X0_seekCentre_38)) (tN_ok (tL_ok en_X0_seekCentre_39) (tN_ok (tL_ok en_X0_seekCentre_42) (tL_ok en_X0_seekCentre_45)))) (tN_ok (tN_ok (tL_ok en_X0_seekCentre_46) (tN_ok (tL_ok en_X0_seekCentre_47) (tL_ok en_X0_seekCentre_50))) (tN_ok (tL_ok en_X0_seekCentre_51) (tN_ok (tL_ok en_X0_seekCentre_52) (tL_ok en_X0_seekCentre_55))))) (tN_ok (tN_ok (tN_ok (tL_ok en_X0_seekCentre_56) (tL_ok en_X0_seekCentre_57)) (tN_ok (tL_ok en_X0_seekCentre_60) (tN_ok (tL_ok en_X0_seekCentre_61) (tL_ok en_X0_seekCentre_62)))) (tN_ok (tN_ok (tL_ok en_X0_seekCentre_65) (tN_ok (tL_ok en_X0_seekCentre_68) (tL_ok en_X0_seekCentre_71))) (tN_ok (tL_ok en_X0_seekCentre_74) (tN_ok (tL_ok en_X0_seekCentre_77) (tL_ok en_X0_seekCentre_80)))))))
theorem en_X0_fits_0 : SndE EE S mi_X0_fits 0 (.inl (e_ldi 1 3)) := sn_iload_n dX0_fits_0 rfl rfl
theorem en_X0_fits_1 : SndE EE S mi_X0_fits 1 (.inl (e_un 2 (fun x => -x))) := sn_ineg dX0_fits_1 rfl
theorem en_X0_fits_2 : SndE EE S mi_X0_fits 2 (.inl (e_sti 4 4)) := sn_istore dX0_fits_2 rfl rfl (by decide)
theorem en_X0_fits_4 : SndE EE S mi_X0_fits 4 (.inl (e_ldi 6 4)) := sn_iload dX0_fits_4 rfl
theorem en_X0_fits_6 : SndE EE S mi_X0_fits 6 (.inl (e_ldi 7 3)) := sn_iload_n dX0_fits_6 rfl rfl
theorem en_X0_fits_7 : SndE EE S mi_X0_fits 7 (.inl (e_igt 10 66)) := sn_igt dX0_fits_7 rfl (by decide)
theorem en_X0_fits_10 : SndE EE S mi_X0_fits 10 (.inl (e_ldi 11 3)) := sn_iload_n dX0_fits_10 rfl rfl
theorem en_X0_fits_11 : SndE EE S mi_X0_fits 11 (.inl (e_un 12 (fun x => -x))) := sn_ineg dX0_fits_11 rfl
theorem en_X0_fits_12 : SndE EE S mi_X0_fits 12 (.inl (e_sti 14 5)) := sn_istore dX0_fits_12 rfl rfl (by decide)
theorem en_X0_fits_14 : SndE EE S mi_X0_fits 14 (.inl (e_ldi 16 5)) := sn_iload dX0_fits_14 rfl
theorem en_X0_fits_16 : SndE EE S mi_X0_fits 16 (.inl (e_ldi 17 3)) := sn_iload_n dX0_fits_16 rfl rfl
theorem en_X0_fits_17 : SndE EE S mi_X0_fits 17 (.inl (e_igt 20 60)) := sn_igt dX0_fits_17 rfl (by decide)
theorem en_X0_fits_20 : SndE EE S mi_X0_fits 20 (.inl (e_ldi 22 4)) := sn_iload dX0_fits_20 rfl
theorem en_X0_fits_22 : SndE EE S mi_X0_fits 22 (.inl (e_ldi 24 4)) := sn_iload dX0_fits_22 rfl
theorem en_X0_fits_24 : SndE EE S mi_X0_fits 24 (.inl (e_bin 25 (fun x y => x * y))) := sn_imul dX0_fits_24 rfl
theorem en_X0_fits_25 : SndE EE S mi_X0_fits 25 (.inl (e_ldi 27 5)) := sn_iload dX0_fits_25 rfl
theorem en_X0_fits_27 : SndE EE S mi_X0_fits 27 (.inl (e_ldi 29 5)) := sn_iload dX0_fits_27 rfl
theorem en_X0_fits_29 : SndE EE S mi_X0_fits 29 (.inl (e_bin 30 (fun x y => x * y))) := sn_imul dX0_fits_29 rfl
theorem en_X0_fits_30 : SndE EE S mi_X0_fits 30 (.inl (e_bin 31 (fun x y => x + y))) := sn_iadd dX0_fits_30 rfl
theorem en_X0_fits_31 : SndE EE S mi_X0_fits 31 (.inl (e_ldi 32 3)) := sn_iload_n dX0_fits_31 rfl rfl
theorem en_X0_fits_32 : SndE EE S mi_X0_fits 32 (.inl (e_ldi 33 3)) := sn_iload_n dX0_fits_32 rfl rfl
theorem en_X0_fits_33 : SndE EE S mi_X0_fits 33 (.inl (e_bin 34 (fun x y => x * y))) := sn_imul dX0_fits_33 rfl
theorem en_X0_fits_34 : SndE EE S mi_X0_fits 34 (.inl (e_igt 37 54)) := sn_igt dX0_fits_34 rfl (by decide)
theorem en_X0_fits_37 : SndE EE S mi_X0_fits 37 (.inl (e_lda 38 0)) := sn_aload_n dX0_fits_37 rfl rfl
theorem en_X0_fits_38 : SndE EE S mi_X0_fits 38 (.inl (e_ldi 39 1)) := sn_iload_n dX0_fits_38 rfl rfl
theorem en_X0_fits_39 : SndE EE S mi_X0_fits 39 (.inl (e_ldi 41 4)) := sn_iload dX0_fits_39 rfl
theorem en_X0_fits_41 : SndE EE S mi_X0_fits 41 (.inl (e_bin 42 (fun x y => x + y))) := sn_iadd dX0_fits_41 rfl
theorem en_X0_fits_42 : SndE EE S mi_X0_fits 42 (.inl (e_ldi 43 2)) := sn_iload_n dX0_fits_42 rfl rfl
theorem en_X0_fits_43 : SndE EE S mi_X0_fits 43 (.inl (e_ldi 45 5)) := sn_iload dX0_fits_43 rfl
theorem en_X0_fits_45 : SndE EE S mi_X0_fits 45 (.inl (e_bin 46 (fun x y => x + y))) := sn_iadd dX0_fits_45 rfl
theorem en_X0_fits_46 : SndE EE S mi_X0_fits 46 (.inr (.inl (d_cls 0 4, 3, 3))) := sc_virt dX0_fits_46 (rcv_cls (r := (RX0, TX0, 35)) rfl ⟨mo_X0_isIn, nmo_X0_isIn, q96, q98, qs2⟩)
theorem en_X0_fits_49 : SndE EE S mi_X0_fits 49 (.inl (e_zne 52 54)) := sn_zne dX0_fits_49 rfl (by decide)
theorem en_X0_fits_52 : SndE EE S mi_X0_fits 52 (.inl (e_psh 53 (.int (0)))) := sn_iconst dX0_fits_52 rfl rfl
theorem en_X0_fits_53 : SndE EE S mi_X0_fits 53 (.inr (.inr 2)) := ⟨dX0_fits_53, rfl⟩
theorem en_X0_fits_54 : SndE EE S mi_X0_fits 54 (.inl (e_inc 57 5 (1))) := sn_iinc dX0_fits_54 rfl rfl rfl (by decide)
theorem en_X0_fits_57 : SndE EE S mi_X0_fits 57 (.inl (e_goto 14)) := sn_goto dX0_fits_57 (by decide)
theorem en_X0_fits_60 : SndE EE S mi_X0_fits 60 (.inl (e_inc 63 4 (1))) := sn_iinc dX0_fits_60 rfl rfl rfl (by decide)
theorem en_X0_fits_63 : SndE EE S mi_X0_fits 63 (.inl (e_goto 4)) := sn_goto dX0_fits_63 (by decide)
theorem en_X0_fits_66 : SndE EE S mi_X0_fits 66 (.inl (e_psh 67 (.int (1)))) := sn_iconst dX0_fits_66 rfl rfl
theorem en_X0_fits_67 : SndE EE S mi_X0_fits 67 (.inr (.inr 2)) := ⟨dX0_fits_67, rfl⟩
theorem sd_X0_fits : ∀ pc x, cd_X0_fits pc = some x → SndE EE S mi_X0_fits pc x := (tN_ok (tN_ok (tN_ok (tN_ok (tN_ok (tL_ok en_X0_fits_0) (tL_ok en_X0_fits_1)) (tN_ok (tL_ok en_X0_fits_2) (tN_ok (tL_ok en_X0_fits_4) (tL_ok en_X0_fits_6)))) (tN_ok (tN_ok (tL_ok en_X0_fits_7) (tL_ok en_X0_fits_10)) (tN_ok (tL_ok en_X0_fits_11) (tN_ok (tL_ok en_X0_fits_12) (tL_ok en_X0_fits_14))))) (tN_ok (tN_ok (tN_ok (tL_ok en_X0_fits_16) (tL_ok en_X0_fits_17)) (tN_ok (tL_ok en_X0_fits_20) (tN_ok (tL_ok en_X0_fits_22) (tL_ok en_X0_fits_24)))) (tN_ok (tN_ok (tL_ok en_X0_fits_25) (tL_ok en_X0_fits_27)) (tN_ok (tL_ok en_X0_fits_29) (tN_ok (tL_ok en_X0_fits_30) (tL_ok en_X0_fits_31)))))) (tN_ok (tN_ok (tN_ok (tN_ok (tL_ok en_X0_fits_32) (tL_ok en_X0_fits_33)) (tN_ok (tL_ok en_X0_fits_34) (tN_ok (tL_ok en_X0_fits_37) (tL_ok en_X0_fits_38)))) (tN_ok (tN_ok (tL_ok en_X0_fits_39) (tL_ok en_X0_fits_41)) (tN_ok (tL_ok en_X0_fits_42) (tN_ok (tL_ok en_X0_fits_43) (tL_ok en_X0_fits_45))))) (tN_ok (tN_ok (tN_ok (tL_ok en_X0_fits_46) (tL_ok en_X0_fits_49)) (tN_ok (tL_ok en_X0_fits_52) (tN_ok (tL_ok en_X0_fits_53) (tL_ok en_X0_fits_54)))) (tN_ok (tN_ok (tL_ok en_X0_fits_57) (tL_ok en_X0_fits_60)) (tN_ok (tL_ok en_X0_fits_63) (tN_ok (tL_ok en_X0_fits_66) (tL_ok en_X0_fits_67)))))))
theorem en_X0_isIn_0 : SndE EE S mi_X0_isIn 0 (.inl (e_ldi 1 1)) := sn_iload_n dX0_isIn_0 rfl rfl
theorem en_X0_isIn_1 : SndE EE S mi_X0_isIn 1 (.inl (e_zlt 4 38)) := sn_zlt dX0_isIn_1 rfl (by decide)
theorem en_X0_isIn_4 : SndE EE S mi_X0_isIn 4 (.inl (e_ldi 5 1)) := sn_iload_n dX0_isIn_4 rfl rfl
theorem en_X0_isIn_5 : SndE EE S mi_X0_isIn 5 (.inl (e_psh 7 (.int (24)))) := sn_bipush dX0_isIn_5 rfl rfl
theorem en_X0_isIn_7 : SndE EE S mi_X0_isIn 7 (.inl (e_ige 10 38)) := sn_ige dX0_isIn_7 rfl (by decide)
theorem en_X0_isIn_10 : SndE EE S mi_X0_isIn 10 (.inl (e_ldi 11 2)) := sn_iload_n dX0_isIn_10 rfl rfl
theorem en_X0_isIn_11 : SndE EE S mi_X0_isIn 11 (.inl (e_zlt 14 38)) := sn_zlt dX0_isIn_11 rfl (by decide)
theorem en_X0_isIn_14 : SndE EE S mi_X0_isIn 14 (.inl (e_ldi 15 2)) := sn_iload_n dX0_isIn_14 rfl rfl
theorem en_X0_isIn_15 : SndE EE S mi_X0_isIn 15 (.inl (e_psh 17 (.int (24)))) := sn_bipush dX0_isIn_15 rfl rfl
theorem en_X0_isIn_17 : SndE EE S mi_X0_isIn 17 (.inl (e_ige 20 38)) := sn_ige dX0_isIn_17 rfl (by decide)
theorem en_X0_isIn_20 : SndE EE S mi_X0_isIn 20 (.inl (e_lda 21 0)) := sn_aload_n dX0_isIn_20 rfl rfl
theorem en_X0_isIn_21 : SndE EE S mi_X0_isIn 21 (.inl (e_gR 24 0 0)) := sn_gR dX0_isIn_21 rfl cl_0 (by decide) rfl (Or.inl q650) (Or.inl rfl)
theorem en_X0_isIn_24 : SndE EE S mi_X0_isIn 24 (.inl (e_ldi 25 1)) := sn_iload_n dX0_isIn_24 rfl rfl
theorem en_X0_isIn_25 : SndE EE S mi_X0_isIn 25 (.inl (e_ald 26 1)) := sn_iald dX0_isIn_25 rfl
theorem en_X0_isIn_26 : SndE EE S mi_X0_isIn 26 (.inl (e_ldi 27 2)) := sn_iload_n dX0_isIn_26 rfl rfl
theorem en_X0_isIn_27 : SndE EE S mi_X0_isIn 27 (.inl (e_bin 28 (fun x y => x >>> (y &&& 31)))) := sn_ishr dX0_isIn_27 rfl
theorem en_X0_isIn_28 : SndE EE S mi_X0_isIn 28 (.inl (e_psh 29 (.int (1)))) := sn_iconst dX0_isIn_28 rfl rfl
theorem en_X0_isIn_29 : SndE EE S mi_X0_isIn 29 (.inl (e_bin 30 (fun x y => x &&& y))) := sn_iand dX0_isIn_29 rfl
theorem en_X0_isIn_30 : SndE EE S mi_X0_isIn 30 (.inl (e_psh 31 (.int (1)))) := sn_iconst dX0_isIn_30 rfl rfl
theorem en_X0_isIn_31 : SndE EE S mi_X0_isIn 31 (.inl (e_ine 34 38)) := sn_ine dX0_isIn_31 rfl (by decide)
theorem en_X0_isIn_34 : SndE EE S mi_X0_isIn 34 (.inl (e_psh 35 (.int (1)))) := sn_iconst dX0_isIn_34 rfl rfl
theorem en_X0_isIn_35 : SndE EE S mi_X0_isIn 35 (.inl (e_goto 39)) := sn_goto dX0_isIn_35 (by decide)
theorem en_X0_isIn_38 : SndE EE S mi_X0_isIn 38 (.inl (e_psh 39 (.int (0)))) := sn_iconst dX0_isIn_38 rfl rfl
theorem en_X0_isIn_39 : SndE EE S mi_X0_isIn 39 (.inr (.inr 2)) := ⟨dX0_isIn_39, rfl⟩
theorem sd_X0_isIn : ∀ pc x, cd_X0_isIn pc = some x → SndE EE S mi_X0_isIn pc x := (tN_ok (tN_ok (tN_ok (tN_ok (tL_ok en_X0_isIn_0) (tN_ok (tL_ok en_X0_isIn_1) (tL_ok en_X0_isIn_4))) (tN_ok (tL_ok en_X0_isIn_5) (tN_ok (tL_ok en_X0_isIn_7) (tL_ok en_X0_isIn_10)))) (tN_ok (tN_ok (tL_ok en_X0_isIn_11) (tN_ok (tL_ok en_X0_isIn_14) (tL_ok en_X0_isIn_15))) (tN_ok (tL_ok en_X0_isIn_17) (tN_ok (tL_ok en_X0_isIn_20) (tL_ok en_X0_isIn_21))))) (tN_ok (tN_ok (tN_ok (tL_ok en_X0_isIn_24) (tN_ok (tL_ok en_X0_isIn_25) (tL_ok en_X0_isIn_26))) (tN_ok (tL_ok en_X0_isIn_27) (tN_ok (tL_ok en_X0_isIn_28) (tL_ok en_X0_isIn_29)))) (tN_ok (tN_ok (tL_ok en_X0_isIn_30) (tN_ok (tL_ok en_X0_isIn_31) (tL_ok en_X0_isIn_34))) (tN_ok (tL_ok en_X0_isIn_35) (tN_ok (tL_ok en_X0_isIn_38) (tL_ok en_X0_isIn_39))))))
theorem en_X0_full_0 : SndE EE S mi_X0_full 0 (.inl (e_lda 1 0)) := sn_aload_n dX0_full_0 rfl rfl
theorem en_X0_full_1 : SndE EE S mi_X0_full 1 (.inr (.inl (d_cls 0 2, 1, 3))) := sc_virt dX0_full_1 (rcv_cls (r := (RX0, TX0, 35)) rfl ⟨mo_X0_seekCentre, nmo_X0_seekCentre, q87, q89, qs0⟩)
theorem en_X0_full_4 : SndE EE S mi_X0_full 4 (.inl (e_lda 5 0)) := sn_aload_n dX0_full_4 rfl rfl
theorem en_X0_full_5 : SndE EE S mi_X0_full 5 (.inl (e_gI 8 0 3)) := sn_gI dX0_full_5 rfl cl_0 (by decide) rfl (Or.inl q653) (Or.inl rfl)
theorem en_X0_full_8 : SndE EE S mi_X0_full 8 (.inl (e_zlt 11 34)) := sn_zlt dX0_full_8 rfl (by decide)
theorem en_X0_full_11 : SndE EE S mi_X0_full 11 (.inl (e_ldi 12 1)) := sn_iload_n dX0_full_11 rfl rfl
theorem en_X0_full_12 : SndE EE S mi_X0_full 12 (.inl (e_psh 13 (.int (1)))) := sn_iconst dX0_full_12 rfl rfl
theorem en_X0_full_13 : SndE EE S mi_X0_full 13 (.inl (e_ilt 16 34)) := sn_ilt dX0_full_13 rfl (by decide)
theorem en_X0_full_16 : SndE EE S mi_X0_full 16 (.inl (e_ldi 17 1)) := sn_iload_n dX0_full_16 rfl rfl
theorem en_X0_full_17 : SndE EE S mi_X0_full 17 (.inl (e_psh 20 (.int (200)))) := sn_sipush dX0_full_17 rfl rfl
theorem en_X0_full_20 : SndE EE S mi_X0_full 20 (.inl (e_igt 23 34)) := sn_igt dX0_full_20 rfl (by decide)
theorem en_X0_full_23 : SndE EE S mi_X0_full 23 (.inl (e_ldi 24 2)) := sn_iload_n dX0_full_23 rfl rfl
theorem en_X0_full_24 : SndE EE S mi_X0_full 24 (.inl (e_psh 25 (.int (1)))) := sn_iconst dX0_full_24 rfl rfl
theorem en_X0_full_25 : SndE EE S mi_X0_full 25 (.inl (e_ilt 28 34)) := sn_ilt dX0_full_25 rfl (by decide)
theorem en_X0_full_28 : SndE EE S mi_X0_full 28 (.inl (e_ldi 29 2)) := sn_iload_n dX0_full_28 rfl rfl
theorem en_X0_full_29 : SndE EE S mi_X0_full 29 (.inl (e_psh 31 (.int (50)))) := sn_bipush dX0_full_29 rfl rfl
theorem en_X0_full_31 : SndE EE S mi_X0_full 31 (.inl (e_ile 34 36)) := sn_ile dX0_full_31 rfl (by decide)
theorem en_X0_full_34 : SndE EE S mi_X0_full 34 (.inl (e_psh 35 (.int (-1)))) := sn_iconst dX0_full_34 rfl rfl
theorem en_X0_full_35 : SndE EE S mi_X0_full 35 (.inr (.inr 1)) := ⟨dX0_full_35, rfl⟩
theorem en_X0_full_36 : SndE EE S mi_X0_full 36 (.inl (e_psh 38 (.int (10)))) := sn_bipush dX0_full_36 rfl rfl
theorem en_X0_full_38 : SndE EE S mi_X0_full 38 (.inl (e_lda 39 0)) := sn_aload_n dX0_full_38 rfl rfl
theorem en_X0_full_39 : SndE EE S mi_X0_full 39 (.inl (e_gI 42 0 3)) := sn_gI dX0_full_39 rfl cl_0 (by decide) rfl (Or.inl q653) (Or.inl rfl)
theorem en_X0_full_42 : SndE EE S mi_X0_full 42 (.inl (e_bin 43 (fun x y => x * y))) := sn_imul dX0_full_42 rfl
theorem en_X0_full_43 : SndE EE S mi_X0_full 43 (.inl (e_psh 44 (.int (5)))) := sn_iconst dX0_full_43 rfl rfl
theorem en_X0_full_44 : SndE EE S mi_X0_full 44 (.inl (e_bin 45 (fun x y => x + y))) := sn_iadd dX0_full_44 rfl
theorem en_X0_full_45 : SndE EE S mi_X0_full 45 (.inl (e_sti 46 3)) := sn_istore_n dX0_full_45 rfl rfl rfl (by decide)
theorem en_X0_full_46 : SndE EE S mi_X0_full 46 (.inl (e_ldi 47 1)) := sn_iload_n dX0_full_46 rfl rfl
theorem en_X0_full_47 : SndE EE S mi_X0_full 47 (.inl (e_ldi 48 3)) := sn_iload_n dX0_full_47 rfl rfl
theorem en_X0_full_48 : SndE EE S mi_X0_full 48 (.inl (e_ilt 51 55)) := sn_ilt dX0_full_48 rfl (by decide)
theorem en_X0_full_51 : SndE EE S mi_X0_full 51 (.inl (e_psh 52 (.int (0)))) := sn_iconst dX0_full_51 rfl rfl
theorem en_X0_full_52 : SndE EE S mi_X0_full 52 (.inl (e_goto 70)) := sn_goto dX0_full_52 (by decide)
theorem en_X0_full_55 : SndE EE S mi_X0_full 55 (.inl (e_ldi 56 3)) := sn_iload_n dX0_full_55 rfl rfl
theorem en_X0_full_56 : SndE EE S mi_X0_full 56 (.inl (e_ldi 57 3)) := sn_iload_n dX0_full_56 rfl rfl
theorem en_X0_full_57 : SndE EE S mi_X0_full 57 (.inl (e_bin 58 (fun x y => x * y))) := sn_imul dX0_full_57 rfl
theorem en_X0_full_58 : SndE EE S mi_X0_full 58 (.inl (e_ldi 59 1)) := sn_iload_n dX0_full_58 rfl rfl
theorem en_X0_full_59 : SndE EE S mi_X0_full 59 (.inl (e_ldi 60 1)) := sn_iload_n dX0_full_59 rfl rfl
theorem en_X0_full_60 : SndE EE S mi_X0_full 60 (.inl (e_bin 61 (fun x y => x * y))) := sn_imul dX0_full_60 rfl
theorem en_X0_full_61 : SndE EE S mi_X0_full 61 (.inl (e_bin 62 (fun x y => x - y))) := sn_isub dX0_full_61 rfl
theorem en_X0_full_62 : SndE EE S mi_X0_full 62 (.inl (e_psh 64 (.int (22)))) := sn_bipush dX0_full_62 rfl rfl
theorem en_X0_full_64 : SndE EE S mi_X0_full 64 (.inl (e_bin 65 (fun x y => x * y))) := sn_imul dX0_full_64 rfl
theorem en_X0_full_65 : SndE EE S mi_X0_full 65 (.inl (e_psh 67 (.int (7)))) := sn_bipush dX0_full_65 rfl rfl
theorem en_X0_full_67 : SndE EE S mi_X0_full 67 (.inl (e_ldi 68 2)) := sn_iload_n dX0_full_67 rfl rfl
theorem en_X0_full_68 : SndE EE S mi_X0_full 68 (.inl (e_bin 69 (fun x y => x * y))) := sn_imul dX0_full_68 rfl
theorem en_X0_full_69 : SndE EE S mi_X0_full 69 (.inl (e_div 70)) := sn_idiv dX0_full_69 rfl
theorem en_X0_full_70 : SndE EE S mi_X0_full 70 (.inr (.inr 1)) := ⟨dX0_full_70, rfl⟩
theorem sd_X0_full : ∀ pc x, cd_X0_full pc = some x → SndE EE S mi_X0_full pc x := (tN_ok (tN_ok (tN_ok (tN_ok (tN_ok (tL_ok en_X0_full_0) (tL_ok en_X0_full_1)) (tN_ok (tL_ok en_X0_full_4) (tN_ok (tL_ok en_X0_full_5) (tL_ok en_X0_full_8)))) (tN_ok (tN_ok (tL_ok en_X0_full_11) (tN_ok (tL_ok en_X0_full_12) (tL_ok en_X0_full_13))) (tN_ok (tL_ok en_X0_full_16) (tN_ok (tL_ok en_X0_full_17) (tL_ok en_X0_full_20))))) (tN_ok (tN_ok (tN_ok (tL_ok en_X0_full_23) (tL_ok en_X0_full_24)) (tN_ok (tL_ok en_X0_full_25) (tN_ok (tL_ok en_X0_full_28) (tL_ok en_X0_full_29)))) (tN_ok (tN_ok (tL_ok en_X0_full_31) (tN_ok (tL_ok en_X0_full_34) (tL_ok en_X0_full_35))) (tN_ok (tL_ok en_X0_full_36) (tN_ok (tL_ok en_X0_full_38) (tL_ok en_X0_full_39)))))) (tN_ok (tN_ok (tN_ok (tN_ok (tL_ok en_X0_full_42) (tL_ok en_X0_full_43)) (tN_ok (tL_ok en_X0_full_44) (tN_ok (tL_ok en_X0_full_45) (tL_ok en_X0_full_46)))) (tN_ok (tN_ok (tL_ok en_X0_full_47) (tN_ok (tL_ok en_X0_full_48) (tL_ok en_X0_full_51))) (tN_ok (tL_ok en_X0_full_52) (tN_ok (tL_ok en_X0_full_55) (tL_ok en_X0_full_56))))) (tN_ok (tN_ok (tN_ok (tL_ok en_X0_full_57) (tN_ok (tL_ok en_X0_full_58) (tL_ok en_X0_full_59))) (tN_ok (tL_ok en_X0_full_60) (tN_ok (tL_ok en_X0_full_61) (tL_ok en_X0_full_62)))) (tN_ok (tN_ok (tL_ok en_X0_full_64) (tN_ok (tL_ok en_X0_full_65) (tL_ok en_X0_full_67))) (tN_ok (tL_ok en_X0_full_68) (tN_ok (tL_ok en_X0_full_69) (tL_ok en_X0_full_70)))))))
theorem en_X0_feed_0 : SndE EE S mi_X0_feed 0 (.inl (e_lda 1 0)) := sn_aload_n dX0_feed_0 rfl rfl
theorem en_X0_feed_1 : SndE EE S mi_X0_feed 1 (.inl (e_gI 4 0 8)) := sn_gI dX0_feed_1 rfl cl_0 (by decide) rfl (Or.inl q658) (Or.inl rfl)
theorem en_X0_feed_4 : SndE EE S mi_X0_feed 4 (.inl (e_psh 6 (.int (20)))) := sn_bipush dX0_feed_4 rfl rfl
theorem en_X0_feed_6 : SndE EE S mi_X0_feed 6 (.inl (e_bin 7 (fun x y => x + y))) := sn_iadd dX0_feed_6 rfl
theorem en_X0_feed_7 : SndE EE S mi_X0_feed 7 (.inl (e_psh 10 (.int (600)))) := sn_sipush dX0_feed_7 rfl rfl
theorem en_X0_feed_10 : SndE EE S mi_X0_feed 10 (.inl (e_ile 13 15)) := sn_ile dX0_feed_10 rfl (by decide)
theorem en_X0_feed_13 : SndE EE S mi_X0_feed 13 (.inl (e_psh 14 (.int (-1)))) := sn_iconst dX0_feed_13 rfl rfl
theorem en_X0_feed_14 : SndE EE S mi_X0_feed 14 (.inr (.inr 1)) := ⟨dX0_feed_14, rfl⟩
theorem en_X0_feed_15 : SndE EE S mi_X0_feed 15 (.inl (e_lda 16 0)) := sn_aload_n dX0_feed_15 rfl rfl
theorem en_X0_feed_16 : SndE EE S mi_X0_feed 16 (.inl (e_ldi 17 1)) := sn_iload_n dX0_feed_16 rfl rfl
theorem en_X0_feed_17 : SndE EE S mi_X0_feed 17 (.inr (.inl (d_cls 0 7, 2, 3))) := sc_virt dX0_feed_17 (rcv_cls (r := (RX0, TX0, 35)) rfl ⟨mo_X0_bytes, nmo_X0_bytes, q108, q110, qs3⟩)
theorem en_X0_feed_20 : SndE EE S mi_X0_feed 20 (.inl (e_lda 21 0)) := sn_aload_n dX0_feed_20 rfl rfl
theorem en_X0_feed_21 : SndE EE S mi_X0_feed 21 (.inl (e_ldi 22 2)) := sn_iload_n dX0_feed_21 rfl rfl
theorem en_X0_feed_22 : SndE EE S mi_X0_feed 22 (.inr (.inl (d_cls 0 7, 2, 3))) := sc_virt dX0_feed_22 (rcv_cls (r := (RX0, TX0, 35)) rfl ⟨mo_X0_bytes, nmo_X0_bytes, q108, q110, qs3⟩)
theorem en_X0_feed_25 : SndE EE S mi_X0_feed 25 (.inl (e_lda 26 0)) := sn_aload_n dX0_feed_25 rfl rfl
theorem en_X0_feed_26 : SndE EE S mi_X0_feed 26 (.inl (e_ldi 27 3)) := sn_iload_n dX0_feed_26 rfl rfl
theorem en_X0_feed_27 : SndE EE S mi_X0_feed 27 (.inr (.inl (d_cls 0 7, 2, 3))) := sc_virt dX0_feed_27 (rcv_cls (r := (RX0, TX0, 35)) rfl ⟨mo_X0_bytes, nmo_X0_bytes, q108, q110, qs3⟩)
theorem en_X0_feed_30 : SndE EE S mi_X0_feed 30 (.inl (e_lda 31 0)) := sn_aload_n dX0_feed_30 rfl rfl
theorem en_X0_feed_31 : SndE EE S mi_X0_feed 31 (.inl (e_ldi 33 4)) := sn_iload dX0_feed_31 rfl
theorem en_X0_feed_33 : SndE EE S mi_X0_feed 33 (.inr (.inl (d_cls 0 7, 2, 3))) := sc_virt dX0_feed_33 (rcv_cls (r := (RX0, TX0, 35)) rfl ⟨mo_X0_bytes, nmo_X0_bytes, q108, q110, qs3⟩)
theorem en_X0_feed_36 : SndE EE S mi_X0_feed 36 (.inl (e_lda 37 0)) := sn_aload_n dX0_feed_36 rfl rfl
theorem en_X0_feed_37 : SndE EE S mi_X0_feed 37 (.inl (e_ldi 39 5)) := sn_iload dX0_feed_37 rfl
theorem en_X0_feed_39 : SndE EE S mi_X0_feed 39 (.inr (.inl (d_cls 0 7, 2, 3))) := sc_virt dX0_feed_39 (rcv_cls (r := (RX0, TX0, 35)) rfl ⟨mo_X0_bytes, nmo_X0_bytes, q108, q110, qs3⟩)
theorem en_X0_feed_42 : SndE EE S mi_X0_feed 42 (.inl (e_lda 43 0)) := sn_aload_n dX0_feed_42 rfl rfl
theorem en_X0_feed_43 : SndE EE S mi_X0_feed 43 (.inl (e_gI 46 0 8)) := sn_gI dX0_feed_43 rfl cl_0 (by decide) rfl (Or.inl q658) (Or.inl rfl)
theorem en_X0_feed_46 : SndE EE S mi_X0_feed 46 (.inr (.inr 1)) := ⟨dX0_feed_46, rfl⟩
theorem sd_X0_feed : ∀ pc x, cd_X0_feed pc = some x → SndE EE S mi_X0_feed pc x := (tN_ok (tN_ok (tN_ok (tN_ok (tL_ok en_X0_feed_0) (tN_ok (tL_ok en_X0_feed_1) (tL_ok en_X0_feed_4))) (tN_ok (tL_ok en_X0_feed_6) (tN_ok (tL_ok en_X0_feed_7) (tL_ok en_X0_feed_10)))) (tN_ok (tN_ok (tL_ok en_X0_feed_13) (tN_ok (tL_ok en_X0_feed_14) (tL_ok en_X0_feed_15))) (tN_ok (tN_ok (tL_ok en_X0_feed_16) (tL_ok en_X0_feed_17)) (tN_ok (tL_ok en_X0_feed_20) (tL_ok en_X0_feed_21))))) (tN_ok (tN_ok (tN_ok (tL_ok en_X0_feed_22) (tN_ok (tL_ok en_X0_feed_25) (tL_ok en_X0_feed_26))) (tN_ok (tL_ok en_X0_feed_27) (tN_ok (tL_ok en_X0_feed_30) (tL_ok en_X0_feed_31)))) (tN_ok (tN_ok (tL_ok en_X0_feed_33) (tN_ok (tL_ok en_X0_feed_36) (tL_ok en_X0_feed_37))) (tN_ok (tN_ok (tL_ok en_X0_feed_39) (tL_ok en_X0_feed_42)) (tN_ok (tL_ok en_X0_feed_43) (tL_ok en_X0_feed_46))))))
theorem en_X0_bytes_0 : SndE EE S mi_X0_bytes 0 (.inl (e_psh 2 (.int (24)))) := sn_bipush dX0_bytes_0 rfl rfl
theorem en_X0_bytes_2 : SndE EE S mi_X0_bytes 2 (.inl (e_sti 3 2)) := sn_istore_n dX0_bytes_2 rfl rfl rfl (by decide)
theorem en_X0_bytes_3 : SndE EE S mi_X0_bytes 3 (.inl (e_ldi 4 2)) := sn_iload_n dX0_bytes_3 rfl rfl
theorem en_X0_bytes_4 : SndE EE S mi_X0_bytes 4 (.inl (e_zlt 7 36)) := sn_zlt dX0_bytes_4 rfl (by decide)
theorem en_X0_bytes_7 : SndE EE S mi_X0_bytes 7 (.inl (e_lda 8 0)) := sn_aload_n dX0_bytes_7 rfl rfl
theorem en_X0_bytes_8 : SndE EE S mi_X0_bytes 8 (.inl (e_gR 11 0 7)) := sn_gR dX0_bytes_8 rfl cl_0 (by decide) rfl (Or.inl q657) (Or.inl rfl)
theorem en_X0_bytes_11 : SndE EE S mi_X0_bytes 11 (.inl (e_lda 12 0)) := sn_aload_n dX0_bytes_11 rfl rfl
theorem en_X0_bytes_12 : SndE EE S mi_X0_bytes 12 (.inl (e_gI 15 0 8)) := sn_gI dX0_bytes_12 rfl cl_0 (by decide) rfl (Or.inl q658) (Or.inl rfl)
theorem en_X0_bytes_15 : SndE EE S mi_X0_bytes 15 (.inl (e_ldi 16 1)) := sn_iload_n dX0_bytes_15 rfl rfl
theorem en_X0_bytes_16 : SndE EE S mi_X0_bytes 16 (.inl (e_ldi 17 2)) := sn_iload_n dX0_bytes_16 rfl rfl
theorem en_X0_bytes_17 : SndE EE S mi_X0_bytes 17 (.inl (e_bin 18 (fun x y => x >>> (y &&& 31)))) := sn_ishr dX0_bytes_17 rfl
theorem en_X0_bytes_18 : SndE EE S mi_X0_bytes 18 (.inl (e_un 19 (fun x => x.toInt8.toInt32))) := sn_i2b dX0_bytes_18 rfl
theorem en_X0_bytes_19 : SndE EE S mi_X0_bytes 19 (.inl (e_bast 20)) := sn_bast dX0_bytes_19 rfl
theorem en_X0_bytes_20 : SndE EE S mi_X0_bytes 20 (.inl (e_lda 21 0)) := sn_aload_n dX0_bytes_20 rfl rfl
theorem en_X0_bytes_21 : SndE EE S mi_X0_bytes 21 (.inl (e_dup 22)) := sn_dup dX0_bytes_21 rfl
theorem en_X0_bytes_22 : SndE EE S mi_X0_bytes 22 (.inl (e_gI 25 0 8)) := sn_gI dX0_bytes_22 rfl cl_0 (by decide) rfl (Or.inl q658) (Or.inl rfl)
theorem en_X0_bytes_25 : SndE EE S mi_X0_bytes 25 (.inl (e_psh 26 (.int (1)))) := sn_iconst dX0_bytes_25 rfl rfl
theorem en_X0_bytes_26 : SndE EE S mi_X0_bytes 26 (.inl (e_bin 27 (fun x y => x + y))) := sn_iadd dX0_bytes_26 rfl
theorem en_X0_bytes_27 : SndE EE S mi_X0_bytes 27 (.inl (e_pI 30 0 8)) := sn_pI dX0_bytes_27 rfl cl_0 (by decide) rfl (Or.inl ⟨q658, Or.inl rfl⟩) (Or.inl rfl) (fun _ => ⟨rfl, rfl⟩)
theorem en_X0_bytes_30 : SndE EE S mi_X0_bytes 30 (.inl (e_inc 33 2 (-8))) := sn_iinc dX0_bytes_30 rfl rfl rfl (by decide)
theorem en_X0_bytes_33 : SndE EE S mi_X0_bytes 33 (.inl (e_goto 3)) := sn_goto dX0_bytes_33 (by decide)
theorem en_X0_bytes_36 : SndE EE S mi_X0_bytes 36 (.inr (.inr 0)) := ⟨dX0_bytes_36, rfl⟩
theorem sd_X0_bytes : ∀ pc x, cd_X0_bytes pc = some x → SndE EE S mi_X0_bytes pc x := (tN_ok (tN_ok (tN_ok (tN_ok (tL_ok en_X0_bytes_0) (tL_ok en_X0_bytes_2)) (tN_ok (tL_ok en_X0_bytes_3) (tN_ok (tL_ok en_X0_bytes_4) (tL_ok en_X0_bytes_7)))) (tN_ok (tN_ok (tL_ok en_X0_bytes_8) (tN_ok (tL_ok en_X0_bytes_11) (tL_ok en_X0_bytes_12))) (tN_ok (tL_ok en_X0_bytes_15) (tN_ok (tL_ok en_X0_bytes_16) (tL_ok en_X0_bytes_17))))) (tN_ok (tN_ok (tN_ok (tL_ok en_X0_bytes_18) (tL_ok en_X0_bytes_19)) (tN_ok (tL_ok en_X0_bytes_20) (tN_ok (tL_ok en_X0_bytes_21) (tL_ok en_X0_bytes_22)))) (tN_ok (tN_ok (tL_ok en_X0_bytes_25) (tN_ok (tL_ok en_X0_bytes_26) (tL_ok en_X0_bytes_27))) (tN_ok (tL_ok en_X0_bytes_30) (tN_ok (tL_ok en_X0_bytes_33) (tL_ok en_X0_bytes_36))))))
theorem en_X0_end_0 : SndE EE S mi_X0_end 0 (.inl (e_ldi 1 1)) := sn_iload_n dX0_end_0 rfl rfl
theorem en_X0_end_1 : SndE EE S mi_X0_end 1 (.inl (e_zlt 4 12)) := sn_zlt dX0_end_1 rfl (by decide)
theorem en_X0_end_4 : SndE EE S mi_X0_end 4 (.inl (e_ldi 5 1)) := sn_iload_n dX0_end_4 rfl rfl
theorem en_X0_end_5 : SndE EE S mi_X0_end 5 (.inl (e_lda 6 0)) := sn_aload_n dX0_end_5 rfl rfl
theorem en_X0_end_6 : SndE EE S mi_X0_end 6 (.inl (e_gI 9 0 8)) := sn_gI dX0_end_6 rfl cl_0 (by decide) rfl (Or.inl q658) (Or.inl rfl)
theorem en_X0_end_9 : SndE EE S mi_X0_end 9 (.inl (e_ile 12 14)) := sn_ile dX0_end_9 rfl (by decide)
theorem en_X0_end_12 : SndE EE S mi_X0_end 12 (.inl (e_psh 13 (.int (-1)))) := sn_iconst dX0_end_12 rfl rfl
theorem en_X0_end_13 : SndE EE S mi_X0_end 13 (.inr (.inr 1)) := ⟨dX0_end_13, rfl⟩
theorem en_X0_end_14 : SndE EE S mi_X0_end 14 (.inl (e_lda 15 0)) := sn_aload_n dX0_end_14 rfl rfl
theorem en_X0_end_15 : SndE EE S mi_X0_end 15 (.inl (e_ldi 16 1)) := sn_iload_n dX0_end_15 rfl rfl
theorem en_X0_end_16 : SndE EE S mi_X0_end 16 (.inl (e_pI 19 0 8)) := sn_pI dX0_end_16 rfl cl_0 (by decide) rfl (Or.inl ⟨q658, Or.inl rfl⟩) (Or.inl rfl) (fun _ => ⟨rfl, rfl⟩)
theorem en_X0_end_19 : SndE EE S mi_X0_end 19 (.inl (e_ldi 20 1)) := sn_iload_n dX0_end_19 rfl rfl
theorem en_X0_end_20 : SndE EE S mi_X0_end 20 (.inr (.inr 1)) := ⟨dX0_end_20, rfl⟩
theorem sd_X0_end : ∀ pc x, cd_X0_end pc = some x → SndE EE S mi_X0_end pc x := (tN_ok (tN_ok (tN_ok (tL_ok en_X0_end_0) (tN_ok (tL_ok en_X0_end_1) (tL_ok en_X0_end_4))) (tN_ok (tL_ok en_X0_end_5) (tN_ok (tL_ok en_X0_end_6) (tL_ok en_X0_end_9)))) (tN_ok (tN_ok (tL_ok en_X0_end_12) (tN_ok (tL_ok en_X0_end_13) (tL_ok en_X0_end_14))) (tN_ok (tN_ok (tL_ok en_X0_end_15) (tL_ok en_X0_end_16)) (tN_ok (tL_ok en_X0_end_19) (tL_ok en_X0_end_20)))))
theorem en_X0_grades_0 : SndE EE S mi_X0_grades 0 (.inl (e_new 3 4 8)) := sn_new dX0_grades_0 rfl cl_4 (by decide +kernel) q121 q122 q58 (by decide)
theorem en_X0_grades_3 : SndE EE S mi_X0_grades 3 (.inl (e_dup 4)) := sn_dup dX0_grades_3 rfl
theorem en_X0_grades_4 : SndE EE S mi_X0_grades 4 (.inl (e_lda 5 0)) := sn_aload_n dX0_grades_4 rfl rfl
theorem en_X0_grades_5 : SndE EE S mi_X0_grades 5 (.inl (e_gR 8 0 7)) := sn_gR dX0_grades_5 rfl cl_0 (by decide) rfl (Or.inl q657) (Or.inl rfl)
theorem en_X0_grades_8 : SndE EE S mi_X0_grades 8 (.inl (e_lda 9 0)) := sn_aload_n dX0_grades_8 rfl rfl
theorem en_X0_grades_9 : SndE EE S mi_X0_grades 9 (.inl (e_gI 12 0 8)) := sn_gI dX0_grades_9 rfl cl_0 (by decide) rfl (Or.inl q658) (Or.inl rfl)
theorem en_X0_grades_12 : SndE EE S mi_X0_grades 12 (.inr (.inl (d_cls 4 106, 3, 3))) := sc_init ctr_cls dX0_grades_12 mo_X4_init nmo_X4_init rfl q123 q124 q125
theorem en_X0_grades_15 : SndE EE S mi_X0_grades 15 (.inl (e_sta 16 1)) := sn_astore_n dX0_grades_15 rfl rfl rfl (by decide)
theorem en_X0_grades_16 : SndE EE S mi_X0_grades 16 (.inl (e_lda 17 0)) := sn_aload_n dX0_grades_16 rfl rfl
theorem en_X0_grades_17 : SndE EE S mi_X0_grades 17 (.inl (e_psh 18 (.int (0)))) := sn_iconst dX0_grades_17 rfl rfl
theorem en_X0_grades_18 : SndE EE S mi_X0_grades 18 (.inl (e_pI 21 0 8)) := sn_pI dX0_grades_18 rfl cl_0 (by decide) rfl (Or.inl ⟨q658, Or.inl rfl⟩) (Or.inl rfl) (fun _ => ⟨rfl, rfl⟩)
theorem en_X0_grades_21 : SndE EE S mi_X0_grades 21 (.inl (e_lda 22 0)) := sn_aload_n dX0_grades_21 rfl rfl
theorem en_X0_grades_22 : SndE EE S mi_X0_grades 22 (.inl (e_psh 23 (.int (0)))) := sn_iconst dX0_grades_22 rfl rfl
theorem en_X0_grades_23 : SndE EE S mi_X0_grades 23 (.inl (e_psh 24 (.int (-1)))) := sn_iconst dX0_grades_23 rfl rfl
theorem en_X0_grades_24 : SndE EE S mi_X0_grades 24 (.inr (.inl (d_cls 0 10, 3, 3))) := sc_virt dX0_grades_24 (rcv_cls (r := (RX0, TX0, 35)) rfl ⟨mo_X0_faulty, nmo_X0_faulty, q154, q156, qs4⟩)
theorem en_X0_grades_27 : SndE EE S mi_X0_grades 27 (.inl (e_pop 28)) := sn_pop dX0_grades_27 rfl
theorem en_X0_grades_28 : SndE EE S mi_X0_grades 28 (.inl (e_lda 29 0)) := sn_aload_n dX0_grades_28 rfl rfl
theorem en_X0_grades_29 : SndE EE S mi_X0_grades 29 (.inl (e_lda 30 1)) := sn_aload_n dX0_grades_29 rfl rfl
theorem en_X0_grades_30 : SndE EE S mi_X0_grades 30 (.inr (.inl (d_cls 4 107, 1, 3))) := sc_virt dX0_grades_30 (rcv_cls (r := (RX4, TX4, 8)) rfl ⟨mo_X4_read, nmo_X4_read, q158, q159, q160⟩)
theorem en_X0_grades_33 : SndE EE S mi_X0_grades 33 (.inl (e_pR 36 0 4)) := sn_pR dX0_grades_33 rfl cl_0 (by decide) rfl (Or.inl ⟨q654, Or.inl rfl⟩) (Or.inl rfl) (fun _ => ⟨rfl, rfl⟩)
theorem en_X0_grades_36 : SndE EE S mi_X0_grades 36 (.inl (e_lda 37 0)) := sn_aload_n dX0_grades_36 rfl rfl
theorem en_X0_grades_37 : SndE EE S mi_X0_grades 37 (.inl (e_psh 38 (.int (0)))) := sn_iconst dX0_grades_37 rfl rfl
theorem en_X0_grades_38 : SndE EE S mi_X0_grades 38 (.inl (e_pZ 41 0 18)) := sn_pZ dX0_grades_38 rfl cl_0 (by decide) rfl (Or.inl ⟨q668, Or.inl rfl⟩) (Or.inl rfl) rfl
theorem en_X0_grades_41 : SndE EE S mi_X0_grades 41 (.inl (e_lda 42 0)) := sn_aload_n dX0_grades_41 rfl rfl
theorem en_X0_grades_42 : SndE EE S mi_X0_grades 42 (.inl (e_gR 45 0 4)) := sn_gR dX0_grades_42 rfl cl_0 (by decide) rfl (Or.inl q654) (Or.inl rfl)
theorem en_X0_grades_45 : SndE EE S mi_X0_grades 45 (.inl (e_gI 48 1 3)) := sn_gI dX0_grades_45 rfl cl_1 (by decide) rfl (Or.inr ⟨_, fun G s h => h.1 _ nwm_q179⟩) (Or.inl rfl)
theorem en_X0_grades_48 : SndE EE S mi_X0_grades 48 (.inr (.inr 1)) := ⟨dX0_grades_48, rfl⟩
theorem en_X0_grades_49 : SndE EE S mi_X0_grades 49 (.inl (e_sta 50 2)) := sn_astore_n dX0_grades_49 rfl rfl rfl (by decide)
theorem en_X0_grades_50 : SndE EE S mi_X0_grades 50 (.inl (e_lda 51 0)) := sn_aload_n dX0_grades_50 rfl rfl
theorem en_X0_grades_51 : SndE EE S mi_X0_grades 51 (.inl (e_lda 52 2)) := sn_aload_n dX0_grades_51 rfl rfl
theorem en_X0_grades_52 : SndE EE S mi_X0_grades 52 (.inl (e_gI 55 5 0)) := sn_gI dX0_grades_52 rfl cl_5 (by decide) rfl (Or.inr ⟨_, fun G s h => h.1 _ nwm_q247⟩) (Or.inl rfl)
theorem en_X0_grades_55 : SndE EE S mi_X0_grades 55 (.inl (e_lda 56 2)) := sn_aload_n dX0_grades_55 rfl rfl
theorem en_X0_grades_56 : SndE EE S mi_X0_grades 56 (.inl (e_gI 59 5 1)) := sn_gI dX0_grades_56 rfl cl_5 (by decide) rfl (Or.inr ⟨_, fun G s h => h.1 _ nwm_q249⟩) (Or.inl rfl)
theorem en_X0_grades_59 : SndE EE S mi_X0_grades 59 (.inr (.inl (d_cls 0 10, 3, 3))) := sc_virt dX0_grades_59 (rcv_cls (r := (RX0, TX0, 35)) rfl ⟨mo_X0_faulty, nmo_X0_faulty, q154, q156, qs4⟩)
theorem en_X0_grades_62 : SndE EE S mi_X0_grades 62 (.inr (.inr 1)) := ⟨dX0_grades_62, rfl⟩
theorem sd_X0_grades : ∀ pc x, cd_X0_grades pc = some x → SndE EE S mi_X0_grades pc x := (tN_ok (tN_ok (tN_ok (tN_ok (tN_ok (tL_ok en_X0_grades_0) (tL_ok en_X0_grades_3)) (tN_ok (tL_ok en_X0_grades_4) (tL_ok en_X0_grades_5))) (tN_ok (tN_ok (tL_ok en_X0_grades_8) (tL_ok en_X0_grades_9)) (tN_ok (tL_ok en_X0_grades_12) (tL_ok en_X0_grades_15)))) (tN_ok (tN_ok (tN_ok (tL_ok en_X0_grades_16) (tL_ok en_X0_grades_17)) (tN_ok (tL_ok en_X0_grades_18) (tL_ok en_X0_grades_21))) (tN_ok (tN_ok (tL_ok en_X0_grades_22) (tL_ok en_X0_grades_23)) (tN_ok (tL_ok en_X0_grades_24) (tN_ok (tL_ok en_X0_grades_27) (tL_ok en_X0_grades_28)))))) (tN_ok (tN_ok (tN_ok (tN_ok (tL_ok en_X0_grades_29) (tL_ok en_X0_grades_30)) (tN_ok (tL_ok en_X0_grades_33) (tL_ok en_X0_grades_36))) (tN_ok (tN_ok (tL_ok en_X0_grades_37) (tL_ok en_X0_grades_38)) (tN_ok (tL_ok en_X0_grades_41) (tN_ok (tL_ok en_X0_grades_42) (tL_ok en_X0_grades_45))))) (tN_ok (tN_ok (tN_ok (tL_ok en_X0_grades_48) (tL_ok en_X0_grades_49)) (tN_ok (tL_ok en_X0_grades_50) (tL_ok en_X0_grades_51))) (tN_ok (tN_ok (tL_ok en_X0_grades_52) (tL_ok en_X0_grades_55)) (tN_ok (tL_ok en_X0_grades_56) (tN_ok (tL_ok en_X0_grades_59) (tL_ok en_X0_grades_62)))))))
theorem en_X0_faulty_0 : SndE EE S mi_X0_faulty 0 (.inl (e_lda 1 0)) := sn_aload_n dX0_faulty_0 rfl rfl
theorem en_X0_faulty_1 : SndE EE S mi_X0_faulty 1 (.inl (e_ldi 2 1)) := sn_iload_n dX0_faulty_1 rfl rfl
theorem en_X0_faulty_2 : SndE EE S mi_X0_faulty 2 (.inl (e_pI 5 0 5)) := sn_pI dX0_faulty_2 rfl cl_0 (by decide) rfl (Or.inl ⟨q655, Or.inl rfl⟩) (Or.inl rfl) (fun _ => ⟨rfl, rfl⟩)
theorem en_X0_faulty_5 : SndE EE S mi_X0_faulty 5 (.inl (e_lda 6 0)) := sn_aload_n dX0_faulty_5 rfl rfl
theorem en_X0_faulty_6 : SndE EE S mi_X0_faulty 6 (.inl (e_ldi 7 2)) := sn_iload_n dX0_faulty_6 rfl rfl
theorem en_X0_faulty_7 : SndE EE S mi_X0_faulty 7 (.inl (e_pI 10 0 6)) := sn_pI dX0_faulty_7 rfl cl_0 (by decide) rfl (Or.inl ⟨q656, Or.inl rfl⟩) (Or.inl rfl) (fun _ => ⟨rfl, rfl⟩)
theorem en_X0_faulty_10 : SndE EE S mi_X0_faulty 10 (.inl (e_ldi 11 1)) := sn_iload_n dX0_faulty_10 rfl rfl
theorem en_X0_faulty_11 : SndE EE S mi_X0_faulty 11 (.inl (e_zle 14 18)) := sn_zle dX0_faulty_11 rfl (by decide)
theorem en_X0_faulty_14 : SndE EE S mi_X0_faulty 14 (.inl (e_psh 15 (.int (-1)))) := sn_iconst dX0_faulty_14 rfl rfl
theorem en_X0_faulty_15 : SndE EE S mi_X0_faulty 15 (.inl (e_goto 19)) := sn_goto dX0_faulty_15 (by decide)
theorem en_X0_faulty_18 : SndE EE S mi_X0_faulty 18 (.inl (e_psh 19 (.int (0)))) := sn_iconst dX0_faulty_18 rfl rfl
theorem en_X0_faulty_19 : SndE EE S mi_X0_faulty 19 (.inr (.inr 1)) := ⟨dX0_faulty_19, rfl⟩
theorem sd_X0_faulty : ∀ pc x, cd_X0_faulty pc = some x → SndE EE S mi_X0_faulty pc x := (tN_ok (tN_ok (tN_ok (tL_ok en_X0_faulty_0) (tN_ok (tL_ok en_X0_faulty_1) (tL_ok en_X0_faulty_2))) (tN_ok (tL_ok en_X0_faulty_5) (tN_ok (tL_ok en_X0_faulty_6) (tL_ok en_X0_faulty_7)))) (tN_ok (tN_ok (tL_ok en_X0_faulty_10) (tN_ok (tL_ok en_X0_faulty_11) (tL_ok en_X0_faulty_14))) (tN_ok (tL_ok en_X0_faulty_15) (tN_ok (tL_ok en_X0_faulty_18) (tL_ok en_X0_faulty_19)))))
theorem en_X0_fault_0 : SndE EE S mi_X0_fault 0 (.inl (e_ldi 1 1)) := sn_iload_n dX0_fault_0 rfl rfl
theorem en_X0_fault_1 : SndE EE S mi_X0_fault 1 (.inl (e_zne 4 11)) := sn_zne dX0_fault_1 rfl (by decide)
theorem en_X0_fault_4 : SndE EE S mi_X0_fault 4 (.inl (e_lda 5 0)) := sn_aload_n dX0_fault_4 rfl rfl
theorem en_X0_fault_5 : SndE EE S mi_X0_fault 5 (.inl (e_gI 8 0 5)) := sn_gI dX0_fault_5 rfl cl_0 (by decide) rfl (Or.inl q655) (Or.inl rfl)
theorem en_X0_fault_8 : SndE EE S mi_X0_fault 8 (.inl (e_goto 24)) := sn_goto dX0_fault_8 (by decide)
theorem en_X0_fault_11 : SndE EE S mi_X0_fault 11 (.inl (e_ldi 12 1)) := sn_iload_n dX0_fault_11 rfl rfl
theorem en_X0_fault_12 : SndE EE S mi_X0_fault 12 (.inl (e_psh 13 (.int (1)))) := sn_iconst dX0_fault_12 rfl rfl
theorem en_X0_fault_13 : SndE EE S mi_X0_fault 13 (.inl (e_ine 16 23)) := sn_ine dX0_fault_13 rfl (by decide)
theorem en_X0_fault_16 : SndE EE S mi_X0_fault 16 (.inl (e_lda 17 0)) := sn_aload_n dX0_fault_16 rfl rfl
theorem en_X0_fault_17 : SndE EE S mi_X0_fault 17 (.inl (e_gI 20 0 6)) := sn_gI dX0_fault_17 rfl cl_0 (by decide) rfl (Or.inl q656) (Or.inl rfl)
theorem en_X0_fault_20 : SndE EE S mi_X0_fault 20 (.inl (e_goto 24)) := sn_goto dX0_fault_20 (by decide)
theorem en_X0_fault_23 : SndE EE S mi_X0_fault 23 (.inl (e_psh 24 (.int (-1)))) := sn_iconst dX0_fault_23 rfl rfl
theorem en_X0_fault_24 : SndE EE S mi_X0_fault 24 (.inr (.inr 1)) := ⟨dX0_fault_24, rfl⟩
theorem sd_X0_fault : ∀ pc x, cd_X0_fault pc = some x → SndE EE S mi_X0_fault pc x := (tN_ok (tN_ok (tN_ok (tL_ok en_X0_fault_0) (tN_ok (tL_ok en_X0_fault_1) (tL_ok en_X0_fault_4))) (tN_ok (tL_ok en_X0_fault_5) (tN_ok (tL_ok en_X0_fault_8) (tL_ok en_X0_fault_11)))) (tN_ok (tN_ok (tL_ok en_X0_fault_12) (tN_ok (tL_ok en_X0_fault_13) (tL_ok en_X0_fault_16))) (tN_ok (tN_ok (tL_ok en_X0_fault_17) (tL_ok en_X0_fault_20)) (tN_ok (tL_ok en_X0_fault_23) (tL_ok en_X0_fault_24)))))
theorem en_X0_leaf_0 : SndE EE S mi_X0_leaf 0 (.inl (e_lda 1 0)) := sn_aload_n dX0_leaf_0 rfl rfl
theorem en_X0_leaf_1 : SndE EE S mi_X0_leaf 1 (.inl (e_gI 4 0 8)) := sn_gI dX0_leaf_1 rfl cl_0 (by decide) rfl (Or.inl q658) (Or.inl rfl)
theorem en_X0_leaf_4 : SndE EE S mi_X0_leaf 4 (.inl (e_sti 5 1)) := sn_istore_n dX0_leaf_4 rfl rfl rfl (by decide)
theorem en_X0_leaf_5 : SndE EE S mi_X0_leaf 5 (.inl (e_lda 6 0)) := sn_aload_n dX0_leaf_5 rfl rfl
theorem en_X0_leaf_6 : SndE EE S mi_X0_leaf 6 (.inl (e_psh 7 (.int (0)))) := sn_iconst dX0_leaf_6 rfl rfl
theorem en_X0_leaf_7 : SndE EE S mi_X0_leaf 7 (.inl (e_pI 10 0 8)) := sn_pI dX0_leaf_7 rfl cl_0 (by decide) rfl (Or.inl ⟨q658, Or.inl rfl⟩) (Or.inl rfl) (fun _ => ⟨rfl, rfl⟩)
theorem en_X0_leaf_10 : SndE EE S mi_X0_leaf 10 (.inl (e_lda 11 0)) := sn_aload_n dX0_leaf_10 rfl rfl
theorem en_X0_leaf_11 : SndE EE S mi_X0_leaf 11 (.inl (e_psh 12 (.int (0)))) := sn_iconst dX0_leaf_11 rfl rfl
theorem en_X0_leaf_12 : SndE EE S mi_X0_leaf 12 (.inl (e_psh 13 (.int (-1)))) := sn_iconst dX0_leaf_12 rfl rfl
theorem en_X0_leaf_13 : SndE EE S mi_X0_leaf 13 (.inr (.inl (d_cls 0 10, 3, 3))) := sc_virt dX0_leaf_13 (rcv_cls (r := (RX0, TX0, 35)) rfl ⟨mo_X0_faulty, nmo_X0_faulty, q154, q156, qs4⟩)
theorem en_X0_leaf_16 : SndE EE S mi_X0_leaf 16 (.inl (e_pop 17)) := sn_pop dX0_leaf_16 rfl
theorem en_X0_leaf_17 : SndE EE S mi_X0_leaf 17 (.inl (e_psh 18 (.int (0)))) := sn_iconst dX0_leaf_17 rfl rfl
theorem en_X0_leaf_18 : SndE EE S mi_X0_leaf 18 (.inl (e_sti 19 2)) := sn_istore_n dX0_leaf_18 rfl rfl rfl (by decide)
theorem en_X0_leaf_19 : SndE EE S mi_X0_leaf 19 (.inl (e_ldi 20 2)) := sn_iload_n dX0_leaf_19 rfl rfl
theorem en_X0_leaf_20 : SndE EE S mi_X0_leaf 20 (.inl (e_ldi 21 1)) := sn_iload_n dX0_leaf_20 rfl rfl
theorem en_X0_leaf_21 : SndE EE S mi_X0_leaf 21 (.inl (e_ige 24 56)) := sn_ige dX0_leaf_21 rfl (by decide)
theorem en_X0_leaf_24 : SndE EE S mi_X0_leaf 24 (.inl (e_ldi 25 2)) := sn_iload_n dX0_leaf_24 rfl rfl
theorem en_X0_leaf_25 : SndE EE S mi_X0_leaf 25 (.inl (e_psh 28 (.int (300)))) := sn_sipush dX0_leaf_25 rfl rfl
theorem en_X0_leaf_28 : SndE EE S mi_X0_leaf 28 (.inl (e_ieq 31 43)) := sn_ieq dX0_leaf_28 rfl (by decide)
theorem en_X0_leaf_31 : SndE EE S mi_X0_leaf 31 (.inl (e_lda 32 0)) := sn_aload_n dX0_leaf_31 rfl rfl
theorem en_X0_leaf_32 : SndE EE S mi_X0_leaf 32 (.inl (e_gR 35 0 7)) := sn_gR dX0_leaf_32 rfl cl_0 (by decide) rfl (Or.inl q657) (Or.inl rfl)
theorem en_X0_leaf_35 : SndE EE S mi_X0_leaf 35 (.inl (e_ldi 36 2)) := sn_iload_n dX0_leaf_35 rfl rfl
theorem en_X0_leaf_36 : SndE EE S mi_X0_leaf 36 (.inl (e_ald 37 2)) := sn_bald dX0_leaf_36 rfl
theorem en_X0_leaf_37 : SndE EE S mi_X0_leaf 37 (.inr (.inl (fun _ _ => some 13, 1, 3))) := sc_stat dX0_leaf_37 mo_X0_isMark nmo_X0_isMark q537 q538 q539
theorem en_X0_leaf_40 : SndE EE S mi_X0_leaf 40 (.inl (e_zne 43 50)) := sn_zne dX0_leaf_40 rfl (by decide)
theorem en_X0_leaf_43 : SndE EE S mi_X0_leaf 43 (.inl (e_lda 44 0)) := sn_aload_n dX0_leaf_43 rfl rfl
theorem en_X0_leaf_44 : SndE EE S mi_X0_leaf 44 (.inl (e_psh 45 (.int (1)))) := sn_iconst dX0_leaf_44 rfl rfl
theorem en_X0_leaf_45 : SndE EE S mi_X0_leaf 45 (.inl (e_ldi 46 2)) := sn_iload_n dX0_leaf_45 rfl rfl
theorem en_X0_leaf_46 : SndE EE S mi_X0_leaf 46 (.inr (.inl (d_cls 0 10, 3, 3))) := sc_virt dX0_leaf_46 (rcv_cls (r := (RX0, TX0, 35)) rfl ⟨mo_X0_faulty, nmo_X0_faulty, q154, q156, qs4⟩)
theorem en_X0_leaf_49 : SndE EE S mi_X0_leaf 49 (.inr (.inr 1)) := ⟨dX0_leaf_49, rfl⟩
theorem en_X0_leaf_50 : SndE EE S mi_X0_leaf 50 (.inl (e_inc 53 2 (1))) := sn_iinc dX0_leaf_50 rfl rfl rfl (by decide)
theorem en_X0_leaf_53 : SndE EE S mi_X0_leaf 53 (.inl (e_goto 19)) := sn_goto dX0_leaf_53 (by decide)
theorem en_X0_leaf_56 : SndE EE S mi_X0_leaf 56 (.inl (e_lda 57 0)) := sn_aload_n dX0_leaf_56 rfl rfl
theorem en_X0_leaf_57 : SndE EE S mi_X0_leaf 57 (.inl (e_gR 60 0 7)) := sn_gR dX0_leaf_57 rfl cl_0 (by decide) rfl (Or.inl q657) (Or.inl rfl)
theorem en_X0_leaf_60 : SndE EE S mi_X0_leaf 60 (.inl (e_psh 61 (.int (0)))) := sn_iconst dX0_leaf_60 rfl rfl
theorem en_X0_leaf_61 : SndE EE S mi_X0_leaf 61 (.inl (e_lda 62 0)) := sn_aload_n dX0_leaf_61 rfl rfl
theorem en_X0_leaf_62 : SndE EE S mi_X0_leaf 62 (.inl (e_gR 65 0 9)) := sn_gR dX0_leaf_62 rfl cl_0 (by decide) rfl (Or.inl q659) (Or.inl rfl)
theorem en_X0_leaf_65 : SndE EE S mi_X0_leaf 65 (.inl (e_psh 66 (.int (0)))) := sn_iconst dX0_leaf_65 rfl rfl
theorem en_X0_leaf_66 : SndE EE S mi_X0_leaf 66 (.inl (e_ldi 67 1)) := sn_iload_n dX0_leaf_66 rfl rfl
theorem en_X0_leaf_67 : SndE EE S mi_X0_leaf 67 (.inl (e_acp 70)) := sn_acp dX0_leaf_67 rfl q540 q542 q541 q76
theorem en_X0_leaf_70 : SndE EE S mi_X0_leaf 70 (.inl (e_lda 71 0)) := sn_aload_n dX0_leaf_70 rfl rfl
theorem en_X0_leaf_71 : SndE EE S mi_X0_leaf 71 (.inl (e_ldi 72 1)) := sn_iload_n dX0_leaf_71 rfl rfl
theorem en_X0_leaf_72 : SndE EE S mi_X0_leaf 72 (.inl (e_pI 75 0 10)) := sn_pI dX0_leaf_72 rfl cl_0 (by decide) rfl (Or.inl ⟨q660, Or.inl rfl⟩) (Or.inl rfl) (fun _ => ⟨rfl, rfl⟩)
theorem en_X0_leaf_75 : SndE EE S mi_X0_leaf 75 (.inl (e_lda 76 0)) := sn_aload_n dX0_leaf_75 rfl rfl
theorem en_X0_leaf_76 : SndE EE S mi_X0_leaf 76 (.inl (e_psh 77 (.int (0)))) := sn_iconst dX0_leaf_76 rfl rfl
theorem en_X0_leaf_77 : SndE EE S mi_X0_leaf 77 (.inl (e_pZ 80 0 18)) := sn_pZ dX0_leaf_77 rfl cl_0 (by decide) rfl (Or.inl ⟨q668, Or.inl rfl⟩) (Or.inl rfl) rfl
theorem en_X0_leaf_80 : SndE EE S mi_X0_leaf 80 (.inl (e_ldi 81 1)) := sn_iload_n dX0_leaf_80 rfl rfl
theorem en_X0_leaf_81 : SndE EE S mi_X0_leaf 81 (.inr (.inr 1)) := ⟨dX0_leaf_81, rfl⟩
theorem sd_X0_leaf : ∀ pc x, cd_X0_leaf pc = some x → SndE EE S mi_X0_leaf pc x := (tN_ok (tN_ok (tN_ok (tN_ok (tN_ok (tL_ok en_X0_leaf_0) (tN_ok (tL_ok en_X0_leaf_1) (tL_ok en_X0_leaf_4))) (tN_ok (tL_ok en_X0_leaf_5) (tN_ok (tL_ok en_X0_leaf_6) (tL_ok en_X0_leaf_7)))) (tN_ok (tN_ok (tL_ok en_X0_leaf_10) (tN_ok (tL_ok en_X0_leaf_11) (tL_ok en_X0_leaf_12))) (tN_ok (tL_ok en_X0_leaf_13) (tN_ok (tL_ok en_X0_leaf_16) (tL_ok en_X0_leaf_17))))) (tN_ok (tN_ok (tN_ok (tL_ok en_X0_leaf_18) (tN_ok (tL_ok en_X0_leaf_19) (tL_ok en_X0_leaf_20))) (tN_ok (tL_ok en_X0_leaf_21) (tN_ok (tL_ok en_X0_leaf_24) (tL_ok en_X0_leaf_25)))) (tN_ok (tN_ok (tL_ok en_X0_leaf_28) (tN_ok (tL_ok en_X0_leaf_31) (tL_ok en_X0_leaf_32))) (tN_ok (tL_ok en_X0_leaf_35) (tN_ok (tL_ok en_X0_leaf_36) (tL_ok en_X0_leaf_37)))))) (tN_ok (tN_ok (tN_ok (tN_ok (tL_ok en_X0_leaf_40) (tN_ok (tL_ok en_X0_leaf_43) (tL_ok en_X0_leaf_44))) (tN_ok (tL_ok en_X0_leaf_45) (tN_ok (tL_ok en_X0_leaf_46) (tL_ok en_X0_leaf_49)))) (tN_ok (tN_ok (tL_ok en_X0_leaf_50) (tN_ok (tL_ok en_X0_leaf_53) (tL_ok en_X0_leaf_56))) (tN_ok (tL_ok en_X0_leaf_57) (tN_ok (tL_ok en_X0_leaf_60) (tL_ok en_X0_leaf_61))))) (tN_ok (tN_ok (tN_ok (tL_ok en_X0_leaf_62) (tN_ok (tL_ok en_X0_leaf_65) (tL_ok en_X0_leaf_66))) (tN_ok (tL_ok en_X0_leaf_67) (tN_ok (tL_ok en_X0_leaf_70) (tL_ok en_X0_leaf_71)))) (tN_ok (tN_ok (tL_ok en_X0_leaf_72) (tN_ok (tL_ok en_X0_leaf_75) (tL_ok en_X0_leaf_76))) (tN_ok (tL_ok en_X0_leaf_77) (tN_ok (tL_ok en_X0_leaf_80) (tL_ok en_X0_leaf_81)))))))
theorem en_X0_isMark_0 : SndE EE S mi_X0_isMark 0 (.inl (e_ldi 1 0)) := sn_iload_n dX0_isMark_0 rfl rfl
theorem en_X0_isMark_1 : SndE EE S mi_X0_isMark 1 (.inl (e_psh 3 (.int (46)))) := sn_bipush dX0_isMark_1 rfl rfl
theorem en_X0_isMark_3 : SndE EE S mi_X0_isMark 3 (.inl (e_ieq 6 30)) := sn_ieq dX0_isMark_3 rfl (by decide)
theorem en_X0_isMark_6 : SndE EE S mi_X0_isMark 6 (.inl (e_ldi 7 0)) := sn_iload_n dX0_isMark_6 rfl rfl
theorem en_X0_isMark_7 : SndE EE S mi_X0_isMark 7 (.inl (e_psh 9 (.int (107)))) := sn_bipush dX0_isMark_7 rfl rfl
theorem en_X0_isMark_9 : SndE EE S mi_X0_isMark 9 (.inl (e_ieq 12 30)) := sn_ieq dX0_isMark_9 rfl (by decide)
theorem en_X0_isMark_12 : SndE EE S mi_X0_isMark 12 (.inl (e_ldi 13 0)) := sn_iload_n dX0_isMark_12 rfl rfl
theorem en_X0_isMark_13 : SndE EE S mi_X0_isMark 13 (.inl (e_psh 15 (.int (115)))) := sn_bipush dX0_isMark_13 rfl rfl
theorem en_X0_isMark_15 : SndE EE S mi_X0_isMark 15 (.inl (e_ieq 18 30)) := sn_ieq dX0_isMark_15 rfl (by decide)
theorem en_X0_isMark_18 : SndE EE S mi_X0_isMark 18 (.inl (e_ldi 19 0)) := sn_iload_n dX0_isMark_18 rfl rfl
theorem en_X0_isMark_19 : SndE EE S mi_X0_isMark 19 (.inl (e_psh 21 (.int (111)))) := sn_bipush dX0_isMark_19 rfl rfl
theorem en_X0_isMark_21 : SndE EE S mi_X0_isMark 21 (.inl (e_ieq 24 30)) := sn_ieq dX0_isMark_21 rfl (by decide)
theorem en_X0_isMark_24 : SndE EE S mi_X0_isMark 24 (.inl (e_ldi 25 0)) := sn_iload_n dX0_isMark_24 rfl rfl
theorem en_X0_isMark_25 : SndE EE S mi_X0_isMark 25 (.inl (e_psh 27 (.int (112)))) := sn_bipush dX0_isMark_25 rfl rfl
theorem en_X0_isMark_27 : SndE EE S mi_X0_isMark 27 (.inl (e_ine 30 34)) := sn_ine dX0_isMark_27 rfl (by decide)
theorem en_X0_isMark_30 : SndE EE S mi_X0_isMark 30 (.inl (e_psh 31 (.int (1)))) := sn_iconst dX0_isMark_30 rfl rfl
theorem en_X0_isMark_31 : SndE EE S mi_X0_isMark 31 (.inl (e_goto 35)) := sn_goto dX0_isMark_31 (by decide)
theorem en_X0_isMark_34 : SndE EE S mi_X0_isMark 34 (.inl (e_psh 35 (.int (0)))) := sn_iconst dX0_isMark_34 rfl rfl
theorem en_X0_isMark_35 : SndE EE S mi_X0_isMark 35 (.inr (.inr 2)) := ⟨dX0_isMark_35, rfl⟩
theorem sd_X0_isMark : ∀ pc x, cd_X0_isMark pc = some x → SndE EE S mi_X0_isMark pc x := (tN_ok (tN_ok (tN_ok (tN_ok (tL_ok en_X0_isMark_0) (tL_ok en_X0_isMark_1)) (tN_ok (tL_ok en_X0_isMark_3) (tL_ok en_X0_isMark_6))) (tN_ok (tN_ok (tL_ok en_X0_isMark_7) (tL_ok en_X0_isMark_9)) (tN_ok (tL_ok en_X0_isMark_12) (tN_ok (tL_ok en_X0_isMark_13) (tL_ok en_X0_isMark_15))))) (tN_ok (tN_ok (tN_ok (tL_ok en_X0_isMark_18) (tL_ok en_X0_isMark_19)) (tN_ok (tL_ok en_X0_isMark_21) (tN_ok (tL_ok en_X0_isMark_24) (tL_ok en_X0_isMark_25)))) (tN_ok (tN_ok (tL_ok en_X0_isMark_27) (tL_ok en_X0_isMark_30)) (tN_ok (tL_ok en_X0_isMark_31) (tN_ok (tL_ok en_X0_isMark_34) (tL_ok en_X0_isMark_35))))))
theorem en_X0_patch_0 : SndE EE S mi_X0_patch 0 (.inl (e_ldi 1 1)) := sn_iload_n dX0_patch_0 rfl rfl
theorem en_X0_patch_1 : SndE EE S mi_X0_patch 1 (.inl (e_zlt 4 19)) := sn_zlt dX0_patch_1 rfl (by decide)
theorem en_X0_patch_4 : SndE EE S mi_X0_patch 4 (.inl (e_ldi 5 1)) := sn_iload_n dX0_patch_4 rfl rfl
theorem en_X0_patch_5 : SndE EE S mi_X0_patch 5 (.inl (e_psh 6 (.int (3)))) := sn_iconst dX0_patch_5 rfl rfl
theorem en_X0_patch_6 : SndE EE S mi_X0_patch 6 (.inl (e_igt 9 19)) := sn_igt dX0_patch_6 rfl (by decide)
theorem en_X0_patch_9 : SndE EE S mi_X0_patch 9 (.inl (e_ldi 10 2)) := sn_iload_n dX0_patch_9 rfl rfl
theorem en_X0_patch_10 : SndE EE S mi_X0_patch 10 (.inl (e_zlt 13 19)) := sn_zlt dX0_patch_10 rfl (by decide)
theorem en_X0_patch_13 : SndE EE S mi_X0_patch 13 (.inl (e_ldi 14 2)) := sn_iload_n dX0_patch_13 rfl rfl
theorem en_X0_patch_14 : SndE EE S mi_X0_patch 14 (.inl (e_psh 16 (.int (100)))) := sn_bipush dX0_patch_14 rfl rfl
theorem en_X0_patch_16 : SndE EE S mi_X0_patch 16 (.inl (e_ile 19 21)) := sn_ile dX0_patch_16 rfl (by decide)
theorem en_X0_patch_19 : SndE EE S mi_X0_patch 19 (.inl (e_psh 20 (.int (0)))) := sn_iconst dX0_patch_19 rfl rfl
theorem en_X0_patch_20 : SndE EE S mi_X0_patch 20 (.inr (.inr 2)) := ⟨dX0_patch_20, rfl⟩
theorem en_X0_patch_21 : SndE EE S mi_X0_patch 21 (.inl (e_lda 22 0)) := sn_aload_n dX0_patch_21 rfl rfl
theorem en_X0_patch_22 : SndE EE S mi_X0_patch 22 (.inl (e_ldi 23 1)) := sn_iload_n dX0_patch_22 rfl rfl
theorem en_X0_patch_23 : SndE EE S mi_X0_patch 23 (.inl (e_pI 26 0 11)) := sn_pI dX0_patch_23 rfl cl_0 (by decide) rfl (Or.inl ⟨q661, Or.inl rfl⟩) (Or.inl rfl) (fun _ => ⟨rfl, rfl⟩)
theorem en_X0_patch_26 : SndE EE S mi_X0_patch 26 (.inl (e_lda 27 0)) := sn_aload_n dX0_patch_26 rfl rfl
theorem en_X0_patch_27 : SndE EE S mi_X0_patch 27 (.inl (e_ldi 28 2)) := sn_iload_n dX0_patch_27 rfl rfl
theorem en_X0_patch_28 : SndE EE S mi_X0_patch 28 (.inl (e_pI 31 0 12)) := sn_pI dX0_patch_28 rfl cl_0 (by decide) rfl (Or.inl ⟨q662, Or.inl rfl⟩) (Or.inl rfl) (fun _ => ⟨rfl, rfl⟩)
theorem en_X0_patch_31 : SndE EE S mi_X0_patch 31 (.inl (e_lda 32 0)) := sn_aload_n dX0_patch_31 rfl rfl
theorem en_X0_patch_32 : SndE EE S mi_X0_patch 32 (.inl (e_psh 33 (.int (0)))) := sn_iconst dX0_patch_32 rfl rfl
theorem en_X0_patch_33 : SndE EE S mi_X0_patch 33 (.inl (e_pZ 36 0 18)) := sn_pZ dX0_patch_33 rfl cl_0 (by decide) rfl (Or.inl ⟨q668, Or.inl rfl⟩) (Or.inl rfl) rfl
theorem en_X0_patch_36 : SndE EE S mi_X0_patch 36 (.inl (e_psh 37 (.int (1)))) := sn_iconst dX0_patch_36 rfl rfl
theorem en_X0_patch_37 : SndE EE S mi_X0_patch 37 (.inr (.inr 2)) := ⟨dX0_patch_37, rfl⟩
theorem sd_X0_patch : ∀ pc x, cd_X0_patch pc = some x → SndE EE S mi_X0_patch pc x := (tN_ok (tN_ok (tN_ok (tN_ok (tL_ok en_X0_patch_0) (tL_ok en_X0_patch_1)) (tN_ok (tL_ok en_X0_patch_4) (tN_ok (tL_ok en_X0_patch_5) (tL_ok en_X0_patch_6)))) (tN_ok (tN_ok (tL_ok en_X0_patch_9) (tN_ok (tL_ok en_X0_patch_10) (tL_ok en_X0_patch_13))) (tN_ok (tL_ok en_X0_patch_14) (tN_ok (tL_ok en_X0_patch_16) (tL_ok en_X0_patch_19))))) (tN_ok (tN_ok (tN_ok (tL_ok en_X0_patch_20) (tN_ok (tL_ok en_X0_patch_21) (tL_ok en_X0_patch_22))) (tN_ok (tL_ok en_X0_patch_23) (tN_ok (tL_ok en_X0_patch_26) (tL_ok en_X0_patch_27)))) (tN_ok (tN_ok (tL_ok en_X0_patch_28) (tN_ok (tL_ok en_X0_patch_31) (tL_ok en_X0_patch_32))) (tN_ok (tL_ok en_X0_patch_33) (tN_ok (tL_ok en_X0_patch_36) (tL_ok en_X0_patch_37))))))
theorem en_X0_sheet_0 : SndE EE S mi_X0_sheet 0 (.inl (e_lda 1 0)) := sn_aload_n dX0_sheet_0 rfl rfl
theorem en_X0_sheet_1 : SndE EE S mi_X0_sheet 1 (.inl (e_ldi 2 1)) := sn_iload_n dX0_sheet_1 rfl rfl
theorem en_X0_sheet_2 : SndE EE S mi_X0_sheet 2 (.inl (e_ldi 3 2)) := sn_iload_n dX0_sheet_2 rfl rfl
theorem en_X0_sheet_3 : SndE EE S mi_X0_sheet 3 (.inr (.inl (d_cls 0 16, 3, 3))) := sc_virt dX0_sheet_3 (rcv_cls (r := (RX0, TX0, 35)) rfl ⟨mo_X0_isThere, nmo_X0_isThere, q551, q553, qs12⟩)
theorem en_X0_sheet_6 : SndE EE S mi_X0_sheet 6 (.inl (e_zeq 9 18)) := sn_zeq dX0_sheet_6 rfl (by decide)
theorem en_X0_sheet_9 : SndE EE S mi_X0_sheet 9 (.inl (e_ldi 10 3)) := sn_iload_n dX0_sheet_9 rfl rfl
theorem en_X0_sheet_10 : SndE EE S mi_X0_sheet 10 (.inl (e_zlt 13 18)) := sn_zlt dX0_sheet_10 rfl (by decide)
theorem en_X0_sheet_13 : SndE EE S mi_X0_sheet 13 (.inl (e_ldi 14 3)) := sn_iload_n dX0_sheet_13 rfl rfl
theorem en_X0_sheet_14 : SndE EE S mi_X0_sheet 14 (.inl (e_psh 15 (.int (3)))) := sn_iconst dX0_sheet_14 rfl rfl
theorem en_X0_sheet_15 : SndE EE S mi_X0_sheet 15 (.inl (e_ile 18 20)) := sn_ile dX0_sheet_15 rfl (by decide)
theorem en_X0_sheet_18 : SndE EE S mi_X0_sheet 18 (.inl (e_psh 19 (.int (-1)))) := sn_iconst dX0_sheet_18 rfl rfl
theorem en_X0_sheet_19 : SndE EE S mi_X0_sheet 19 (.inr (.inr 1)) := ⟨dX0_sheet_19, rfl⟩
theorem en_X0_sheet_20 : SndE EE S mi_X0_sheet 20 (.inl (e_lda 21 0)) := sn_aload_n dX0_sheet_20 rfl rfl
theorem en_X0_sheet_21 : SndE EE S mi_X0_sheet 21 (.inl (e_ldi 22 1)) := sn_iload_n dX0_sheet_21 rfl rfl
theorem en_X0_sheet_22 : SndE EE S mi_X0_sheet 22 (.inl (e_lda 23 0)) := sn_aload_n dX0_sheet_22 rfl rfl
theorem en_X0_sheet_23 : SndE EE S mi_X0_sheet 23 (.inl (e_gR 26 0 4)) := sn_gR dX0_sheet_23 rfl cl_0 (by decide) rfl (Or.inl q654) (Or.inl rfl)
theorem en_X0_sheet_26 : SndE EE S mi_X0_sheet 26 (.inl (e_gR 29 1 0)) := sn_gR dX0_sheet_26 rfl cl_1 (by decide) rfl (Or.inr ⟨_, fun G s h => h.1 _ nwm_q171⟩) (Or.inl rfl)
theorem en_X0_sheet_29 : SndE EE S mi_X0_sheet 29 (.inl (e_ldi 30 2)) := sn_iload_n dX0_sheet_29 rfl rfl
theorem en_X0_sheet_30 : SndE EE S mi_X0_sheet 30 (.inl (e_ald 31 1)) := sn_iald dX0_sheet_30 rfl
theorem en_X0_sheet_31 : SndE EE S mi_X0_sheet 31 (.inr (.inl (d_cls 0 17, 3, 3))) := sc_virt dX0_sheet_31 (rcv_cls (r := (RX0, TX0, 35)) rfl ⟨mo_X0_look, nmo_X0_look, q555, q557, qs13⟩)
theorem en_X0_sheet_34 : SndE EE S mi_X0_sheet 34 (.inl (e_lda 35 0)) := sn_aload_n dX0_sheet_34 rfl rfl
theorem en_X0_sheet_35 : SndE EE S mi_X0_sheet 35 (.inl (e_ldi 36 2)) := sn_iload_n dX0_sheet_35 rfl rfl
theorem en_X0_sheet_36 : SndE EE S mi_X0_sheet 36 (.inl (e_ldi 37 3)) := sn_iload_n dX0_sheet_36 rfl rfl
theorem en_X0_sheet_37 : SndE EE S mi_X0_sheet 37 (.inr (.inl (d_cls 0 18, 3, 3))) := sc_virt dX0_sheet_37 (rcv_cls (r := (RX0, TX0, 35)) rfl ⟨mo_X0_isSheet, nmo_X0_isSheet, q560, q562, qs14⟩)
theorem en_X0_sheet_40 : SndE EE S mi_X0_sheet 40 (.inl (e_zeq 43 47)) := sn_zeq dX0_sheet_40 rfl (by decide)
theorem en_X0_sheet_43 : SndE EE S mi_X0_sheet 43 (.inl (e_psh 44 (.int (1)))) := sn_iconst dX0_sheet_43 rfl rfl
theorem en_X0_sheet_44 : SndE EE S mi_X0_sheet 44 (.inl (e_goto 48)) := sn_goto dX0_sheet_44 (by decide)
theorem en_X0_sheet_47 : SndE EE S mi_X0_sheet 47 (.inl (e_psh 48 (.int (0)))) := sn_iconst dX0_sheet_47 rfl rfl
theorem en_X0_sheet_48 : SndE EE S mi_X0_sheet 48 (.inr (.inr 1)) := ⟨dX0_sheet_48, rfl⟩
theorem sd_X0_sheet : ∀ pc x, cd_X0_sheet pc = some x → SndE EE S mi_X0_sheet pc x := (tN_ok (tN_ok (tN_ok (tN_ok (tL_ok en_X0_sheet_0) (tN_ok (tL_ok en_X0_sheet_1) (tL_ok en_X0_sheet_2))) (tN_ok (tN_ok (tL_ok en_X0_sheet_3) (tL_ok en_X0_sheet_6)) (tN_ok (tL_ok en_X0_sheet_9) (tL_ok en_X0_sheet_10)))) (tN_ok (tN_ok (tL_ok en_X0_sheet_13) (tN_ok (tL_ok en_X0_sheet_14) (tL_ok en_X0_sheet_15))) (tN_ok (tN_ok (tL_ok en_X0_sheet_18) (tL_ok en_X0_sheet_19)) (tN_ok (tL_ok en_X0_sheet_20) (tL_ok en_X0_sheet_21))))) (tN_ok (tN_ok (tN_ok (tL_ok en_X0_sheet_22) (tN_ok (tL_ok en_X0_sheet_23) (tL_ok en_X0_sheet_26))) (tN_ok (tN_ok (tL_ok en_X0_sheet_29) (tL_ok en_X0_sheet_30)) (tN_ok (tL_ok en_X0_sheet_31) (tL_ok en_X0_sheet_34)))) (tN_ok (tN_ok (tN_ok (tL_ok en_X0_sheet_35) (tL_ok en_X0_sheet_36)) (tN_ok (tL_ok en_X0_sheet_37) (tL_ok en_X0_sheet_40))) (tN_ok (tN_ok (tL_ok en_X0_sheet_43) (tL_ok en_X0_sheet_44)) (tN_ok (tL_ok en_X0_sheet_47) (tL_ok en_X0_sheet_48))))))
theorem en_X0_isThere_0 : SndE EE S mi_X0_isThere 0 (.inl (e_ldi 1 2)) := sn_iload_n dX0_isThere_0 rfl rfl
theorem en_X0_isThere_1 : SndE EE S mi_X0_isThere 1 (.inl (e_zlt 4 41)) := sn_zlt dX0_isThere_1 rfl (by decide)
theorem en_X0_isThere_4 : SndE EE S mi_X0_isThere 4 (.inl (e_ldi 5 2)) := sn_iload_n dX0_isThere_4 rfl rfl
theorem en_X0_isThere_5 : SndE EE S mi_X0_isThere 5 (.inl (e_lda 6 0)) := sn_aload_n dX0_isThere_5 rfl rfl
theorem en_X0_isThere_6 : SndE EE S mi_X0_isThere 6 (.inl (e_gR 9 0 4)) := sn_gR dX0_isThere_6 rfl cl_0 (by decide) rfl (Or.inl q654) (Or.inl rfl)
theorem en_X0_isThere_9 : SndE EE S mi_X0_isThere 9 (.inl (e_gI 12 1 3)) := sn_gI dX0_isThere_9 rfl cl_1 (by decide) rfl (Or.inr ⟨_, fun G s h => h.1 _ nwm_q179⟩) (Or.inl rfl)
theorem en_X0_isThere_12 : SndE EE S mi_X0_isThere 12 (.inl (e_ige 15 41)) := sn_ige dX0_isThere_12 rfl (by decide)
theorem en_X0_isThere_15 : SndE EE S mi_X0_isThere 15 (.inl (e_ldi 16 1)) := sn_iload_n dX0_isThere_15 rfl rfl
theorem en_X0_isThere_16 : SndE EE S mi_X0_isThere 16 (.inl (e_zlt 19 41)) := sn_zlt dX0_isThere_16 rfl (by decide)
theorem en_X0_isThere_19 : SndE EE S mi_X0_isThere 19 (.inl (e_ldi 20 1)) := sn_iload_n dX0_isThere_19 rfl rfl
theorem en_X0_isThere_20 : SndE EE S mi_X0_isThere 20 (.inl (e_lda 21 0)) := sn_aload_n dX0_isThere_20 rfl rfl
theorem en_X0_isThere_21 : SndE EE S mi_X0_isThere 21 (.inl (e_gI 24 0 10)) := sn_gI dX0_isThere_21 rfl cl_0 (by decide) rfl (Or.inl q660) (Or.inl rfl)
theorem en_X0_isThere_24 : SndE EE S mi_X0_isThere 24 (.inl (e_lda 25 0)) := sn_aload_n dX0_isThere_24 rfl rfl
theorem en_X0_isThere_25 : SndE EE S mi_X0_isThere 25 (.inl (e_gR 28 0 4)) := sn_gR dX0_isThere_25 rfl cl_0 (by decide) rfl (Or.inl q654) (Or.inl rfl)
theorem en_X0_isThere_28 : SndE EE S mi_X0_isThere 28 (.inl (e_gR 31 1 0)) := sn_gR dX0_isThere_28 rfl cl_1 (by decide) rfl (Or.inr ⟨_, fun G s h => h.1 _ nwm_q171⟩) (Or.inl rfl)
theorem en_X0_isThere_31 : SndE EE S mi_X0_isThere 31 (.inl (e_ldi 32 2)) := sn_iload_n dX0_isThere_31 rfl rfl
theorem en_X0_isThere_32 : SndE EE S mi_X0_isThere 32 (.inl (e_ald 33 1)) := sn_iald dX0_isThere_32 rfl
theorem en_X0_isThere_33 : SndE EE S mi_X0_isThere 33 (.inl (e_bin 34 (fun x y => x - y))) := sn_isub dX0_isThere_33 rfl
theorem en_X0_isThere_34 : SndE EE S mi_X0_isThere 34 (.inl (e_igt 37 41)) := sn_igt dX0_isThere_34 rfl (by decide)
theorem en_X0_isThere_37 : SndE EE S mi_X0_isThere 37 (.inl (e_psh 38 (.int (1)))) := sn_iconst dX0_isThere_37 rfl rfl
theorem en_X0_isThere_38 : SndE EE S mi_X0_isThere 38 (.inl (e_goto 42)) := sn_goto dX0_isThere_38 (by decide)
theorem en_X0_isThere_41 : SndE EE S mi_X0_isThere 41 (.inl (e_psh 42 (.int (0)))) := sn_iconst dX0_isThere_41 rfl rfl
theorem en_X0_isThere_42 : SndE EE S mi_X0_isThere 42 (.inr (.inr 2)) := ⟨dX0_isThere_42, rfl⟩
theorem sd_X0_isThere : ∀ pc x, cd_X0_isThere pc = some x → SndE EE S mi_X0_isThere pc x := (tN_ok (tN_ok (tN_ok (tN_ok (tL_ok en_X0_isThere_0) (tL_ok en_X0_isThere_1)) (tN_ok (tL_ok en_X0_isThere_4) (tN_ok (tL_ok en_X0_isThere_5) (tL_ok en_X0_isThere_6)))) (tN_ok (tN_ok (tL_ok en_X0_isThere_9) (tN_ok (tL_ok en_X0_isThere_12) (tL_ok en_X0_isThere_15))) (tN_ok (tL_ok en_X0_isThere_16) (tN_ok (tL_ok en_X0_isThere_19) (tL_ok en_X0_isThere_20))))) (tN_ok (tN_ok (tN_ok (tL_ok en_X0_isThere_21) (tN_ok (tL_ok en_X0_isThere_24) (tL_ok en_X0_isThere_25))) (tN_ok (tL_ok en_X0_isThere_28) (tN_ok (tL_ok en_X0_isThere_31) (tL_ok en_X0_isThere_32)))) (tN_ok (tN_ok (tL_ok en_X0_isThere_33) (tN_ok (tL_ok en_X0_isThere_34) (tL_ok en_X0_isThere_37))) (tN_ok (tL_ok en_X0_isThere_38) (tN_ok (tL_ok en_X0_isThere_41) (tL_ok en_X0_isThere_42))))))
theorem en_X0_look_0 : SndE EE S mi_X0_look 0 (.inl (e_lda 1 0)) := sn_aload_n dX0_look_0 rfl rfl
theorem en_X0_look_1 : SndE EE S mi_X0_look 1 (.inl (e_gR 4 0 13)) := sn_gR dX0_look_1 rfl cl_0 (by decide) rfl (Or.inl q663) (Or.inl rfl)
theorem en_X0_look_4 : SndE EE S mi_X0_look 4 (.inl (e_psh 5 (.int (0)))) := sn_iconst dX0_look_4 rfl rfl
theorem en_X0_look_5 : SndE EE S mi_X0_look 5 (.inl (e_pI 8 2 0)) := sn_pI dX0_look_5 rfl cl_2 (by decide) rfl (Or.inr ⟨⟨_, fun G s h => h.1 _ nwm_q630⟩, rfl⟩) (Or.inl rfl) (fun _ => ⟨rfl, rfl⟩)
theorem en_X0_look_8 : SndE EE S mi_X0_look 8 (.inl (e_lda 9 0)) := sn_aload_n dX0_look_8 rfl rfl
theorem en_X0_look_9 : SndE EE S mi_X0_look 9 (.inl (e_gR 12 0 13)) := sn_gR dX0_look_9 rfl cl_0 (by decide) rfl (Or.inl q663) (Or.inl rfl)
theorem en_X0_look_12 : SndE EE S mi_X0_look 12 (.inl (e_psh 13 (.int (0)))) := sn_iconst dX0_look_12 rfl rfl
theorem en_X0_look_13 : SndE EE S mi_X0_look 13 (.inl (e_pI 16 2 1)) := sn_pI dX0_look_13 rfl cl_2 (by decide) rfl (Or.inr ⟨⟨_, fun G s h => h.1 _ nwm_q632⟩, rfl⟩) (Or.inl rfl) (fun _ => ⟨rfl, rfl⟩)
theorem en_X0_look_16 : SndE EE S mi_X0_look 16 (.inl (e_lda 17 0)) := sn_aload_n dX0_look_16 rfl rfl
theorem en_X0_look_17 : SndE EE S mi_X0_look 17 (.inl (e_gR 20 0 13)) := sn_gR dX0_look_17 rfl cl_0 (by decide) rfl (Or.inl q663) (Or.inl rfl)
theorem en_X0_look_20 : SndE EE S mi_X0_look 20 (.inl (e_psh 21 (.int (0)))) := sn_iconst dX0_look_20 rfl rfl
theorem en_X0_look_21 : SndE EE S mi_X0_look 21 (.inl (e_pI 24 2 2)) := sn_pI dX0_look_21 rfl cl_2 (by decide) rfl (Or.inr ⟨⟨_, fun G s h => h.1 _ nwm_q634⟩, rfl⟩) (Or.inl rfl) (fun _ => ⟨rfl, rfl⟩)
theorem en_X0_look_24 : SndE EE S mi_X0_look 24 (.inl (e_lda 25 0)) := sn_aload_n dX0_look_24 rfl rfl
theorem en_X0_look_25 : SndE EE S mi_X0_look 25 (.inl (e_gR 28 0 13)) := sn_gR dX0_look_25 rfl cl_0 (by decide) rfl (Or.inl q663) (Or.inl rfl)
theorem en_X0_look_28 : SndE EE S mi_X0_look 28 (.inl (e_psh 29 (.int (0)))) := sn_iconst dX0_look_28 rfl rfl
theorem en_X0_look_29 : SndE EE S mi_X0_look 29 (.inl (e_pI 32 2 3)) := sn_pI dX0_look_29 rfl cl_2 (by decide) rfl (Or.inr ⟨⟨_, fun G s h => h.1 _ nwm_q636⟩, rfl⟩) (Or.inl rfl) (fun _ => ⟨rfl, rfl⟩)
theorem en_X0_look_32 : SndE EE S mi_X0_look 32 (.inl (e_lda 33 0)) := sn_aload_n dX0_look_32 rfl rfl
theorem en_X0_look_33 : SndE EE S mi_X0_look 33 (.inl (e_gR 36 0 13)) := sn_gR dX0_look_33 rfl cl_0 (by decide) rfl (Or.inl q663) (Or.inl rfl)
theorem en_X0_look_36 : SndE EE S mi_X0_look 36 (.inl (e_psh 37 (.int (0)))) := sn_iconst dX0_look_36 rfl rfl
theorem en_X0_look_37 : SndE EE S mi_X0_look 37 (.inl (e_pI 40 2 4)) := sn_pI dX0_look_37 rfl cl_2 (by decide) rfl (Or.inr ⟨⟨_, fun G s h => h.1 _ nwm_q638⟩, rfl⟩) (Or.inl rfl) (fun _ => ⟨rfl, rfl⟩)
theorem en_X0_look_40 : SndE EE S mi_X0_look 40 (.inl (e_psh 41 (.int (0)))) := sn_iconst dX0_look_40 rfl rfl
theorem en_X0_look_41 : SndE EE S mi_X0_look 41 (.inl (e_sti 42 3)) := sn_istore_n dX0_look_41 rfl rfl rfl (by decide)
theorem en_X0_look_42 : SndE EE S mi_X0_look 42 (.inl (e_ldi 43 1)) := sn_iload_n dX0_look_42 rfl rfl
theorem en_X0_look_43 : SndE EE S mi_X0_look 43 (.inl (e_sti 45 4)) := sn_istore dX0_look_43 rfl rfl (by decide)
theorem en_X0_look_45 : SndE EE S mi_X0_look 45 (.inl (e_ldi 47 4)) := sn_iload dX0_look_45 rfl
theorem en_X0_look_47 : SndE EE S mi_X0_look 47 (.inl (e_ldi 48 1)) := sn_iload_n dX0_look_47 rfl rfl
theorem en_X0_look_48 : SndE EE S mi_X0_look 48 (.inl (e_ldi 49 2)) := sn_iload_n dX0_look_48 rfl rfl
theorem en_X0_look_49 : SndE EE S mi_X0_look 49 (.inl (e_bin 50 (fun x y => x + y))) := sn_iadd dX0_look_49 rfl
theorem en_X0_look_50 : SndE EE S mi_X0_look 50 (.inl (e_ige 53 197)) := sn_ige dX0_look_50 rfl (by decide)
theorem en_X0_look_53 : SndE EE S mi_X0_look 53 (.inl (e_lda 54 0)) := sn_aload_n dX0_look_53 rfl rfl
theorem en_X0_look_54 : SndE EE S mi_X0_look 54 (.inl (e_gR 57 0 9)) := sn_gR dX0_look_54 rfl cl_0 (by decide) rfl (Or.inl q659) (Or.inl rfl)
theorem en_X0_look_57 : SndE EE S mi_X0_look 57 (.inl (e_ldi 59 4)) := sn_iload dX0_look_57 rfl
theorem en_X0_look_59 : SndE EE S mi_X0_look 59 (.inl (e_ald 60 2)) := sn_bald dX0_look_59 rfl
theorem en_X0_look_60 : SndE EE S mi_X0_look 60 (.inl (e_sti 62 5)) := sn_istore dX0_look_60 rfl rfl (by decide)
theorem en_X0_look_62 : SndE EE S mi_X0_look 62 (.inl (e_lda 63 0)) := sn_aload_n dX0_look_62 rfl rfl
theorem en_X0_look_63 : SndE EE S mi_X0_look 63 (.inl (e_gR 66 0 13)) := sn_gR dX0_look_63 rfl cl_0 (by decide) rfl (Or.inl q663) (Or.inl rfl)
theorem en_X0_look_66 : SndE EE S mi_X0_look 66 (.inl (e_dup 67)) := sn_dup dX0_look_66 rfl
theorem en_X0_look_67 : SndE EE S mi_X0_look 67 (.inl (e_gI 70 2 0)) := sn_gI dX0_look_67 rfl cl_2 (by decide) rfl (Or.inr ⟨_, fun G s h => h.1 _ nwm_q630⟩) (Or.inl rfl)
theorem en_X0_look_70 : SndE EE S mi_X0_look 70 (.inl (e_ldi 72 5)) := sn_iload dX0_look_70 rfl
theorem en_X0_look_72 : SndE EE S mi_X0_look 72 (.inl (e_psh 74 (.int (107)))) := sn_bipush dX0_look_72 rfl rfl
theorem en_X0_look_74 : SndE EE S mi_X0_look 74 (.inl (e_ine 77 81)) := sn_ine dX0_look_74 rfl (by decide)
theorem en_X0_look_77 : SndE EE S mi_X0_look 77 (.inl (e_psh 78 (.int (1)))) := sn_iconst dX0_look_77 rfl rfl
theorem en_X0_look_78 : SndE EE S mi_X0_look 78 (.inl (e_goto 82)) := sn_goto dX0_look_78 (by decide)
theorem en_X0_look_81 : SndE EE S mi_X0_look 81 (.inl (e_psh 82 (.int (0)))) := sn_iconst dX0_look_81 rfl rfl
theorem en_X0_look_82 : SndE EE S mi_X0_look 82 (.inl (e_bin 83 (fun x y => x + y))) := sn_iadd dX0_look_82 rfl
theorem en_X0_look_83 : SndE EE S mi_X0_look 83 (.inl (e_pI 86 2 0)) := sn_pI dX0_look_83 rfl cl_2 (by decide) rfl (Or.inr ⟨⟨_, fun G s h => h.1 _ nwm_q630⟩, rfl⟩) (Or.inl rfl) (fun _ => ⟨rfl, rfl⟩)
theorem en_X0_look_86 : SndE EE S mi_X0_look 86 (.inl (e_lda 87 0)) := sn_aload_n dX0_look_86 rfl rfl
theorem en_X0_look_87 : SndE EE S mi_X0_look 87 (.inl (e_gR 90 0 13)) := sn_gR dX0_look_87 rfl cl_0 (by decide) rfl (Or.inl q663) (Or.inl rfl)
theorem en_X0_look_90 : SndE EE S mi_X0_look 90 (.inl (e_dup 91)) := sn_dup dX0_look_90 rfl
theorem en_X0_look_91 : SndE EE S mi_X0_look 91 (.inl (e_gI 94 2 1)) := sn_gI dX0_look_91 rfl cl_2 (by decide) rfl (Or.inr ⟨_, fun G s h => h.1 _ nwm_q632⟩) (Or.inl rfl)
theorem en_X0_look_94 : SndE EE S mi_X0_look 94 (.inl (e_ldi 96 5)) := sn_iload dX0_look_94 rfl
theorem en_X0_look_96 : SndE EE S mi_X0_look 96 (.inl (e_psh 98 (.int (115)))) := sn_bipush dX0_look_96 rfl rfl
theorem en_X0_look_98 : SndE EE S mi_X0_look 98 (.inl (e_ine 101 105)) := sn_ine dX0_look_98 rfl (by decide)
theorem en_X0_look_101 : SndE EE S mi_X0_look 101 (.inl (e_psh 102 (.int (1)))) := sn_iconst dX0_look_101 rfl rfl
theorem en_X0_look_102 : SndE EE S mi_X0_look 102 (.inl (e_goto 106)) := sn_goto dX0_look_102 (by decide)
theorem en_X0_look_105 : SndE EE S mi_X0_look 105 (.inl (e_psh 106 (.int (0)))) := sn_iconst dX0_look_105 rfl rfl
theorem en_X0_look_106 : SndE EE S mi_X0_look 106 (.inl (e_bin 107 (fun x y => x + y))) := sn_iadd dX0_look_106 rfl
theorem en_X0_look_107 : SndE EE S mi_X0_look 107 (.inl (e_pI 110 2 1)) := sn_pI dX0_look_107 rfl cl_2 (by decide) rfl (Or.inr ⟨⟨_, fun G s h => h.1 _ nwm_q632⟩, rfl⟩) (Or.inl rfl) (fun _ => ⟨rfl, rfl⟩)
theorem en_X0_look_110 : SndE EE S mi_X0_look 110 (.inl (e_lda 111 0)) := sn_aload_n dX0_look_110 rfl rfl
theorem en_X0_look_111 : SndE EE S mi_X0_look 111 (.inl (e_gR 114 0 13)) := sn_gR dX0_look_111 rfl cl_0 (by decide) rfl (Or.inl q663) (Or.inl rfl)
theorem en_X0_look_114 : SndE EE S mi_X0_look 114 (.inl (e_dup 115)) := sn_dup dX0_look_114 rfl
theorem en_X0_look_115 : SndE EE S mi_X0_look 115 (.inl (e_gI 118 2 2)) := sn_gI dX0_look_115 rfl cl_2 (by decide) rfl (Or.inr ⟨_, fun G s h => h.1 _ nwm_q634⟩) (Or.inl rfl)
theorem en_X0_look_118 : SndE EE S mi_X0_look 118 (.inl (e_ldi 120 5)) := sn_iload dX0_look_118 rfl
theorem en_X0_look_120 : SndE EE S mi_X0_look 120 (.inl (e_psh 122 (.int (111)))) := sn_bipush dX0_look_120 rfl rfl
theorem en_X0_look_122 : SndE EE S mi_X0_look 122 (.inl (e_ine 125 129)) := sn_ine dX0_look_122 rfl (by decide)
theorem en_X0_look_125 : SndE EE S mi_X0_look 125 (.inl (e_psh 126 (.int (1)))) := sn_iconst dX0_look_125 rfl rfl
theorem en_X0_look_126 : SndE EE S mi_X0_look 126 (.inl (e_goto 130)) := sn_goto dX0_look_126 (by decide)
theorem en_X0_look_129 : SndE EE S mi_X0_look 129 (.inl (e_psh 130 (.int (0)))) := sn_iconst dX0_look_129 rfl rfl
theorem en_X0_look_130 : SndE EE S mi_X0_look 130 (.inl (e_bin 131 (fun x y => x + y))) := sn_iadd dX0_look_130 rfl
theorem en_X0_look_131 : SndE EE S mi_X0_look 131 (.inl (e_pI 134 2 2)) := sn_pI dX0_look_131 rfl cl_2 (by decide) rfl (Or.inr ⟨⟨_, fun G s h => h.1 _ nwm_q634⟩, rfl⟩) (Or.inl rfl) (fun _ => ⟨rfl, rfl⟩)
theorem en_X0_look_134 : SndE EE S mi_X0_look 134 (.inl (e_lda 135 0)) := sn_aload_n dX0_look_134 rfl rfl
theorem en_X0_look_135 : SndE EE S mi_X0_look 135 (.inl (e_gR 138 0 13)) := sn_gR dX0_look_135 rfl cl_0 (by decide) rfl (Or.inl q663) (Or.inl rfl)
theorem en_X0_look_138 : SndE EE S mi_X0_look 138 (.inl (e_dup 139)) := sn_dup dX0_look_138 rfl
theorem en_X0_look_139 : SndE EE S mi_X0_look 139 (.inl (e_gI 142 2 3)) := sn_gI dX0_look_139 rfl cl_2 (by decide) rfl (Or.inr ⟨_, fun G s h => h.1 _ nwm_q636⟩) (Or.inl rfl)
theorem en_X0_look_142 : SndE EE S mi_X0_look 142 (.inl (e_ldi 144 5)) := sn_iload dX0_look_142 rfl
theorem en_X0_look_144 : SndE EE S mi_X0_look 144 (.inl (e_psh 146 (.int (112)))) := sn_bipush dX0_look_144 rfl rfl
theorem en_X0_look_146 : SndE EE S mi_X0_look 146 (.inl (e_ine 149 153)) := sn_ine dX0_look_146 rfl (by decide)
theorem en_X0_look_149 : SndE EE S mi_X0_look 149 (.inl (e_psh 150 (.int (1)))) := sn_iconst dX0_look_149 rfl rfl
theorem en_X0_look_150 : SndE EE S mi_X0_look 150 (.inl (e_goto 154)) := sn_goto dX0_look_150 (by decide)
theorem en_X0_look_153 : SndE EE S mi_X0_look 153 (.inl (e_psh 154 (.int (0)))) := sn_iconst dX0_look_153 rfl rfl
theorem en_X0_look_154 : SndE EE S mi_X0_look 154 (.inl (e_bin 155 (fun x y => x + y))) := sn_iadd dX0_look_154 rfl
theorem en_X0_look_155 : SndE EE S mi_X0_look 155 (.inl (e_pI 158 2 3)) := sn_pI dX0_look_155 rfl cl_2 (by decide) rfl (Or.inr ⟨⟨_, fun G s h => h.1 _ nwm_q636⟩, rfl⟩) (Or.inl rfl) (fun _ => ⟨rfl, rfl⟩)
theorem en_X0_look_158 : SndE EE S mi_X0_look 158 (.inl (e_ldi 160 5)) := sn_iload dX0_look_158 rfl
theorem en_X0_look_160 : SndE EE S mi_X0_look 160 (.inl (e_psh 162 (.int (46)))) := sn_bipush dX0_look_160 rfl rfl
theorem en_X0_look_162 : SndE EE S mi_X0_look 162 (.inl (e_ine 165 171)) := sn_ine dX0_look_162 rfl (by decide)
theorem en_X0_look_165 : SndE EE S mi_X0_look 165 (.inl (e_ldi 166 3)) := sn_iload_n dX0_look_165 rfl rfl
theorem en_X0_look_166 : SndE EE S mi_X0_look 166 (.inl (e_psh 167 (.int (1)))) := sn_iconst dX0_look_166 rfl rfl
theorem en_X0_look_167 : SndE EE S mi_X0_look 167 (.inl (e_bin 168 (fun x y => x + y))) := sn_iadd dX0_look_167 rfl
theorem en_X0_look_168 : SndE EE S mi_X0_look 168 (.inl (e_goto 172)) := sn_goto dX0_look_168 (by decide)
theorem en_X0_look_171 : SndE EE S mi_X0_look 171 (.inl (e_psh 172 (.int (0)))) := sn_iconst dX0_look_171 rfl rfl
theorem en_X0_look_172 : SndE EE S mi_X0_look 172 (.inl (e_sti 173 3)) := sn_istore_n dX0_look_172 rfl rfl rfl (by decide)
theorem en_X0_look_173 : SndE EE S mi_X0_look 173 (.inl (e_lda 174 0)) := sn_aload_n dX0_look_173 rfl rfl
theorem en_X0_look_174 : SndE EE S mi_X0_look 174 (.inl (e_gR 177 0 13)) := sn_gR dX0_look_174 rfl cl_0 (by decide) rfl (Or.inl q663) (Or.inl rfl)
theorem en_X0_look_177 : SndE EE S mi_X0_look 177 (.inl (e_lda 178 0)) := sn_aload_n dX0_look_177 rfl rfl
theorem en_X0_look_178 : SndE EE S mi_X0_look 178 (.inl (e_gR 181 0 13)) := sn_gR dX0_look_178 rfl cl_0 (by decide) rfl (Or.inl q663) (Or.inl rfl)
theorem en_X0_look_181 : SndE EE S mi_X0_look 181 (.inl (e_gI 184 2 4)) := sn_gI dX0_look_181 rfl cl_2 (by decide) rfl (Or.inr ⟨_, fun G s h => h.1 _ nwm_q638⟩) (Or.inl rfl)
theorem en_X0_look_184 : SndE EE S mi_X0_look 184 (.inl (e_ldi 185 3)) := sn_iload_n dX0_look_184 rfl rfl
theorem en_X0_look_185 : SndE EE S mi_X0_look 185 (.inr (.inl (fun _ _ => some 152, 2, 3))) := sc_stat dX0_look_185 mo_J4_max nmo_J4_max q559 q299 q300
theorem en_X0_look_188 : SndE EE S mi_X0_look 188 (.inl (e_pI 191 2 4)) := sn_pI dX0_look_188 rfl cl_2 (by decide) rfl (Or.inr ⟨⟨_, fun G s h => h.1 _ nwm_q638⟩, rfl⟩) (Or.inl rfl) (fun _ => ⟨rfl, rfl⟩)
theorem en_X0_look_191 : SndE EE S mi_X0_look 191 (.inl (e_inc 194 4 (1))) := sn_iinc dX0_look_191 rfl rfl rfl (by decide)
theorem en_X0_look_194 : SndE EE S mi_X0_look 194 (.inl (e_goto 45)) := sn_goto dX0_look_194 (by decide)
theorem en_X0_look_197 : SndE EE S mi_X0_look 197 (.inr (.inr 0)) := ⟨dX0_look_197, rfl⟩
theorem sd_X0_look : ∀ pc x, cd_X0_look pc = some x → SndE EE S mi_X0_look pc x := (tN_ok (tN_ok (tN_ok (tN_ok (tN_ok (tN_ok (tL_ok en_X0_look_0) (tN_ok (tL_ok en_X0_look_1) (tL_ok en_X0_look_4))) (tN_ok (tL_ok en_X0_look_5) (tN_ok (tL_ok en_X0_look_8) (tL_ok en_X0_look_9)))) (tN_ok (tN_ok (tL_ok en_X0_look_12) (tN_ok (tL_ok en_X0_look_13) (tL_ok en_X0_look_16))) (tN_ok (tL_ok en_X0_look_17) (tN_ok (tL_ok en_X0_look_20) (tL_ok en_X0_look_21))))) (tN_ok (tN_ok (tN_ok (tL_ok en_X0_look_24) (tN_ok (tL_ok en_X0_look_25) (tL_ok en_X0_look_28))) (tN_ok (tL_ok en_X0_look_29) (tN_ok (tL_ok en_X0_look_32) (tL_ok en_X0_look_33)))) (tN_ok (tN_ok (tL_ok en_X0_look_36) (tN_ok (tL_ok en_X0_look_37) (tL_ok en_X0_look_40))) (tN_ok (tN_ok (tL_ok en_X0_look_41) (tL_ok en_X0_look_42)) (tN_ok (tL_ok en_X0_look_43) (tL_ok en_X0_look_45)))))) (tN_ok (tN_ok (tN_ok (tN_ok (tL_ok en_X0_look_47) (tN_ok (tL_ok en_X0_look_48) (tL_ok en_X0_look_49))) (tN_ok (tL_ok en_X0_look_50) (tN_ok (tL_ok en_X0_look_53) (tL_ok en_X0_look_54)))) (tN_ok (tN_ok (tL_ok en_X0_look_57) (tN_ok (tL_ok en_X0_look_59) (tL_ok en_X0_look_60))) (tN_ok (tN_ok (tL_ok en_X0_look_62) (tL_ok en_X0_look_63)) (tN_ok (tL_ok en_X0_look_66) (tL_ok en_X0_look_67))))) (tN_ok (tN_ok (tN_ok (tL_ok en_X0_look_70) (tN_ok (tL_ok en_X0_look_72) (tL_ok en_X0_look_74))) (tN_ok (tL_ok en_X0_look_77) (tN_ok (tL_ok en_X0_look_78) (tL_ok en_X0_look_81)))) (tN_ok (tN_ok (tL_ok en_X0_look_82) (tN_ok (tL_ok en_X0_look_83) (tL_ok en_X0_look_86))) (tN_ok (tN_ok (tL_ok en_X0_look_87) (tL_ok en_X0_look_90)) (tN_ok (tL_ok en_X0_look_91) (tL_ok en_X0_look_94))))))) (tN_ok (tN_ok (tN_ok (tN_ok (tN_ok (tL_ok en_X0_look_96) (tN_ok (tL_ok en_X0_look_98) (tL_ok en_X0_look_101))) (tN_ok (tL_ok en_X0_look_102) (tN_ok (tL_ok en_X0_look_105) (tL_ok en_X0_look_106)))) (tN_ok (tN_ok (tL_ok en_X0_look_107) (tN_ok (tL_ok en_X0_look_110) (tL_ok en_X0_look_111))) (tN_ok (tL_ok en_X0_look_114) (tN_ok (tL_ok en_X0_look_115) (tL_ok en_X0_look_118))))) (tN_ok (tN_ok (tN_ok (tL_ok en_X0_look_120) (tN_ok (tL_ok en_X0_look_122) (tL_ok en_X0_look_125))) (tN_ok (tL_ok en_X0_look_126) (tN_ok (tL_ok en_X0_look_129) (tL_ok en_X0_look_130)))) (tN_ok (tN_ok (tL_ok en_X0_look_131) (tN_ok (tL_ok en_X0_look_134) (tL_ok en_X0_look_135))) (tN_ok (tN_ok (tL_ok en_X0_look_138) (tL_ok en_X0_look_139)) (tN_ok (tL_ok en_X0_look_142) (tL_ok en_X0_look_144)))))) (tN_ok (tN_ok (tN_ok (tN_ok (tL_ok en_X0_look_146) (tN_ok (tL_ok en_X0_look_149) (tL_ok en_X0_look_150))) (tN_ok (tL_ok en_X0_look_153) (tN_ok (tL_ok en_X0_look_154) (tL_ok en_X0_look_155)))) (tN_ok (tN_ok (tL_ok en_X0_look_158) (tN_ok (tL_ok en_X0_look_160) (tL_ok en_X0_look_162))) (tN_ok (tN_ok (tL_ok en_X0_look_165) (tL_ok en_X0_look_166)) (tN_ok (tL_ok en_X0_look_167) (tL_ok en_X0_look_168))))) (tN_ok (tN_ok (tN_ok (tL_ok en_X0_look_171) (tN_ok (tL_ok en_X0_look_172) (tL_ok en_X0_look_173))) (tN_ok (tL_ok en_X0_look_174) (tN_ok (tL_ok en_X0_look_177) (tL_ok en_X0_look_178)))) (tN_ok (tN_ok (tL_ok en_X0_look_181) (tN_ok (tL_ok en_X0_look_184) (tL_ok en_X0_look_185))) (tN_ok (tN_ok (tL_ok en_X0_look_188) (tL_ok en_X0_look_191)) (tN_ok (tL_ok en_X0_look_194) (tL_ok en_X0_look_197))))))))
theorem en_X0_isSheet_0 : SndE EE S mi_X0_isSheet 0 (.inl (e_ldi 1 2)) := sn_iload_n dX0_isSheet_0 rfl rfl
theorem en_X0_isSheet_1 : SndE EE S mi_X0_isSheet 1 (.inl (e_lda 2 0)) := sn_aload_n dX0_isSheet_1 rfl rfl
theorem en_X0_isSheet_2 : SndE EE S mi_X0_isSheet 2 (.inl (e_gI 5 0 11)) := sn_gI dX0_isSheet_2 rfl cl_0 (by decide) rfl (Or.inl q661) (Or.inl rfl)
theorem en_X0_isSheet_5 : SndE EE S mi_X0_isSheet 5 (.inl (e_igt 8 19)) := sn_igt dX0_isSheet_5 rfl (by decide)
theorem en_X0_isSheet_8 : SndE EE S mi_X0_isSheet 8 (.inl (e_ldi 9 2)) := sn_iload_n dX0_isSheet_8 rfl rfl
theorem en_X0_isSheet_9 : SndE EE S mi_X0_isSheet 9 (.inl (e_lda 10 0)) := sn_aload_n dX0_isSheet_9 rfl rfl
theorem en_X0_isSheet_10 : SndE EE S mi_X0_isSheet 10 (.inl (e_gR 13 0 13)) := sn_gR dX0_isSheet_10 rfl cl_0 (by decide) rfl (Or.inl q663) (Or.inl rfl)
theorem en_X0_isSheet_13 : SndE EE S mi_X0_isSheet 13 (.inl (e_gI 16 2 2)) := sn_gI dX0_isSheet_13 rfl cl_2 (by decide) rfl (Or.inr ⟨_, fun G s h => h.1 _ nwm_q634⟩) (Or.inl rfl)
theorem en_X0_isSheet_16 : SndE EE S mi_X0_isSheet 16 (.inl (e_ile 19 21)) := sn_ile dX0_isSheet_16 rfl (by decide)
theorem en_X0_isSheet_19 : SndE EE S mi_X0_isSheet 19 (.inl (e_psh 20 (.int (0)))) := sn_iconst dX0_isSheet_19 rfl rfl
theorem en_X0_isSheet_20 : SndE EE S mi_X0_isSheet 20 (.inr (.inr 2)) := ⟨dX0_isSheet_20, rfl⟩
theorem en_X0_isSheet_21 : SndE EE S mi_X0_isSheet 21 (.inl (e_lda 22 0)) := sn_aload_n dX0_isSheet_21 rfl rfl
theorem en_X0_isSheet_22 : SndE EE S mi_X0_isSheet 22 (.inl (e_gR 25 0 4)) := sn_gR dX0_isSheet_22 rfl cl_0 (by decide) rfl (Or.inl q654) (Or.inl rfl)
theorem en_X0_isSheet_25 : SndE EE S mi_X0_isSheet 25 (.inl (e_gR 28 1 2)) := sn_gR dX0_isSheet_25 rfl cl_1 (by decide) rfl (Or.inr ⟨_, fun G s h => h.1 _ nwm_q177⟩) (Or.inl rfl)
theorem en_X0_isSheet_28 : SndE EE S mi_X0_isSheet 28 (.inl (e_ldi 29 1)) := sn_iload_n dX0_isSheet_28 rfl rfl
theorem en_X0_isSheet_29 : SndE EE S mi_X0_isSheet 29 (.inl (e_aald 30)) := sn_aald dX0_isSheet_29 rfl
theorem en_X0_isSheet_30 : SndE EE S mi_X0_isSheet 30 (.inl (e_inn 33 35)) := sn_inn dX0_isSheet_30 rfl (by decide)
theorem en_X0_isSheet_33 : SndE EE S mi_X0_isSheet 33 (.inl (e_psh 34 (.int (1)))) := sn_iconst dX0_isSheet_33 rfl rfl
theorem en_X0_isSheet_34 : SndE EE S mi_X0_isSheet 34 (.inr (.inr 2)) := ⟨dX0_isSheet_34, rfl⟩
theorem en_X0_isSheet_35 : SndE EE S mi_X0_isSheet 35 (.inl (e_lda 36 0)) := sn_aload_n dX0_isSheet_35 rfl rfl
theorem en_X0_isSheet_36 : SndE EE S mi_X0_isSheet 36 (.inl (e_gR 39 0 13)) := sn_gR dX0_isSheet_36 rfl cl_0 (by decide) rfl (Or.inl q663) (Or.inl rfl)
theorem en_X0_isSheet_39 : SndE EE S mi_X0_isSheet 39 (.inl (e_dup 40)) := sn_dup dX0_isSheet_39 rfl
theorem en_X0_isSheet_40 : SndE EE S mi_X0_isSheet 40 (.inl (e_gI 43 2 2)) := sn_gI dX0_isSheet_40 rfl cl_2 (by decide) rfl (Or.inr ⟨_, fun G s h => h.1 _ nwm_q634⟩) (Or.inl rfl)
theorem en_X0_isSheet_43 : SndE EE S mi_X0_isSheet 43 (.inl (e_ldi 44 2)) := sn_iload_n dX0_isSheet_43 rfl rfl
theorem en_X0_isSheet_44 : SndE EE S mi_X0_isSheet 44 (.inl (e_bin 45 (fun x y => x - y))) := sn_isub dX0_isSheet_44 rfl
theorem en_X0_isSheet_45 : SndE EE S mi_X0_isSheet 45 (.inl (e_pI 48 2 2)) := sn_pI dX0_isSheet_45 rfl cl_2 (by decide) rfl (Or.inr ⟨⟨_, fun G s h => h.1 _ nwm_q634⟩, rfl⟩) (Or.inl rfl) (fun _ => ⟨rfl, rfl⟩)
theorem en_X0_isSheet_48 : SndE EE S mi_X0_isSheet 48 (.inl (e_lda 49 0)) := sn_aload_n dX0_isSheet_48 rfl rfl
theorem en_X0_isSheet_49 : SndE EE S mi_X0_isSheet 49 (.inl (e_gR 52 0 13)) := sn_gR dX0_isSheet_49 rfl cl_0 (by decide) rfl (Or.inl q663) (Or.inl rfl)
theorem en_X0_isSheet_52 : SndE EE S mi_X0_isSheet 52 (.inl (e_dup 53)) := sn_dup dX0_isSheet_52 rfl
theorem en_X0_isSheet_53 : SndE EE S mi_X0_isSheet 53 (.inl (e_gI 56 2 3)) := sn_gI dX0_isSheet_53 rfl cl_2 (by decide) rfl (Or.inr ⟨_, fun G s h => h.1 _ nwm_q636⟩) (Or.inl rfl)
theorem en_X0_isSheet_56 : SndE EE S mi_X0_isSheet 56 (.inl (e_ldi 57 2)) := sn_iload_n dX0_isSheet_56 rfl rfl
theorem en_X0_isSheet_57 : SndE EE S mi_X0_isSheet 57 (.inl (e_bin 58 (fun x y => x + y))) := sn_iadd dX0_isSheet_57 rfl
theorem en_X0_isSheet_58 : SndE EE S mi_X0_isSheet 58 (.inl (e_pI 61 2 3)) := sn_pI dX0_isSheet_58 rfl cl_2 (by decide) rfl (Or.inr ⟨⟨_, fun G s h => h.1 _ nwm_q636⟩, rfl⟩) (Or.inl rfl) (fun _ => ⟨rfl, rfl⟩)
theorem en_X0_isSheet_61 : SndE EE S mi_X0_isSheet 61 (.inl (e_lda 62 0)) := sn_aload_n dX0_isSheet_61 rfl rfl
theorem en_X0_isSheet_62 : SndE EE S mi_X0_isSheet 62 (.inl (e_gR 65 0 4)) := sn_gR dX0_isSheet_62 rfl cl_0 (by decide) rfl (Or.inl q654) (Or.inl rfl)
theorem en_X0_isSheet_65 : SndE EE S mi_X0_isSheet 65 (.inl (e_gR 68 1 2)) := sn_gR dX0_isSheet_65 rfl cl_1 (by decide) rfl (Or.inr ⟨_, fun G s h => h.1 _ nwm_q177⟩) (Or.inl rfl)
theorem en_X0_isSheet_68 : SndE EE S mi_X0_isSheet 68 (.inl (e_ldi 69 1)) := sn_iload_n dX0_isSheet_68 rfl rfl
theorem en_X0_isSheet_69 : SndE EE S mi_X0_isSheet 69 (.inl (e_aald 70)) := sn_aald dX0_isSheet_69 rfl
theorem en_X0_isSheet_70 : SndE EE S mi_X0_isSheet 70 (.inl (e_lda 71 0)) := sn_aload_n dX0_isSheet_70 rfl rfl
theorem en_X0_isSheet_71 : SndE EE S mi_X0_isSheet 71 (.inl (e_gR 74 0 13)) := sn_gR dX0_isSheet_71 rfl cl_0 (by decide) rfl (Or.inl q663) (Or.inl rfl)
theorem en_X0_isSheet_74 : SndE EE S mi_X0_isSheet 74 (.inr (.inl (d_node 127, 2, 3))) := sc_virt dX0_isSheet_74 (rcv_node (holds_rcv q564))
theorem en_X0_isSheet_77 : SndE EE S mi_X0_isSheet 77 (.inl (e_sti 78 3)) := sn_istore_n dX0_isSheet_77 rfl rfl rfl (by decide)
theorem en_X0_isSheet_78 : SndE EE S mi_X0_isSheet 78 (.inl (e_lda 79 0)) := sn_aload_n dX0_isSheet_78 rfl rfl
theorem en_X0_isSheet_79 : SndE EE S mi_X0_isSheet 79 (.inl (e_gR 82 0 13)) := sn_gR dX0_isSheet_79 rfl cl_0 (by decide) rfl (Or.inl q663) (Or.inl rfl)
theorem en_X0_isSheet_82 : SndE EE S mi_X0_isSheet 82 (.inl (e_dup 83)) := sn_dup dX0_isSheet_82 rfl
theorem en_X0_isSheet_83 : SndE EE S mi_X0_isSheet 83 (.inl (e_gI 86 2 2)) := sn_gI dX0_isSheet_83 rfl cl_2 (by decide) rfl (Or.inr ⟨_, fun G s h => h.1 _ nwm_q634⟩) (Or.inl rfl)
theorem en_X0_isSheet_86 : SndE EE S mi_X0_isSheet 86 (.inl (e_ldi 87 2)) := sn_iload_n dX0_isSheet_86 rfl rfl
theorem en_X0_isSheet_87 : SndE EE S mi_X0_isSheet 87 (.inl (e_bin 88 (fun x y => x + y))) := sn_iadd dX0_isSheet_87 rfl
theorem en_X0_isSheet_88 : SndE EE S mi_X0_isSheet 88 (.inl (e_pI 91 2 2)) := sn_pI dX0_isSheet_88 rfl cl_2 (by decide) rfl (Or.inr ⟨⟨_, fun G s h => h.1 _ nwm_q634⟩, rfl⟩) (Or.inl rfl) (fun _ => ⟨rfl, rfl⟩)
theorem en_X0_isSheet_91 : SndE EE S mi_X0_isSheet 91 (.inl (e_lda 92 0)) := sn_aload_n dX0_isSheet_91 rfl rfl
theorem en_X0_isSheet_92 : SndE EE S mi_X0_isSheet 92 (.inl (e_gR 95 0 13)) := sn_gR dX0_isSheet_92 rfl cl_0 (by decide) rfl (Or.inl q663) (Or.inl rfl)
theorem en_X0_isSheet_95 : SndE EE S mi_X0_isSheet 95 (.inl (e_dup 96)) := sn_dup dX0_isSheet_95 rfl
theorem en_X0_isSheet_96 : SndE EE S mi_X0_isSheet 96 (.inl (e_gI 99 2 3)) := sn_gI dX0_isSheet_96 rfl cl_2 (by decide) rfl (Or.inr ⟨_, fun G s h => h.1 _ nwm_q636⟩) (Or.inl rfl)
theorem en_X0_isSheet_99 : SndE EE S mi_X0_isSheet 99 (.inl (e_ldi 100 2)) := sn_iload_n dX0_isSheet_99 rfl rfl
theorem en_X0_isSheet_100 : SndE EE S mi_X0_isSheet 100 (.inl (e_bin 101 (fun x y => x - y))) := sn_isub dX0_isSheet_100 rfl
theorem en_X0_isSheet_101 : SndE EE S mi_X0_isSheet 101 (.inl (e_pI 104 2 3)) := sn_pI dX0_isSheet_101 rfl cl_2 (by decide) rfl (Or.inr ⟨⟨_, fun G s h => h.1 _ nwm_q636⟩, rfl⟩) (Or.inl rfl) (fun _ => ⟨rfl, rfl⟩)
theorem en_X0_isSheet_104 : SndE EE S mi_X0_isSheet 104 (.inl (e_ldi 105 3)) := sn_iload_n dX0_isSheet_104 rfl rfl
theorem en_X0_isSheet_105 : SndE EE S mi_X0_isSheet 105 (.inr (.inr 2)) := ⟨dX0_isSheet_105, rfl⟩
theorem sd_X0_isSheet : ∀ pc x, cd_X0_isSheet pc = some x → SndE EE S mi_X0_isSheet pc x := (tN_ok (tN_ok (tN_ok (tN_ok (tN_ok (tL_ok en_X0_isSheet_0) (tN_ok (tL_ok en_X0_isSheet_1) (tL_ok en_X0_isSheet_2))) (tN_ok (tN_ok (tL_ok en_X0_isSheet_5) (tL_ok en_X0_isSheet_8)) (tN_ok (tL_ok en_X0_isSheet_9) (tL_ok en_X0_isSheet_10)))) (tN_ok (tN_ok (tL_ok en_X0_isSheet_13) (tN_ok (tL_ok en_X0_isSheet_16) (tL_ok en_X0_isSheet_19))) (tN_ok (tN_ok (tL_ok en_X0_isSheet_20) (tL_ok en_X0_isSheet_21)) (tN_ok (tL_ok en_X0_isSheet_22) (tL_ok en_X0_isSheet_25))))) (tN_ok (tN_ok (tN_ok (tL_ok en_X0_isSheet_28) (tN_ok (tL_ok en_X0_isSheet_29) (tL_ok en_X0_isSheet_30))) (tN_ok (tN_ok (tL_ok en_X0_isSheet_33) (tL_ok en_X0_isSheet_34)) (tN_ok (tL_ok en_X0_isSheet_35) (tL_ok en_X0_isSheet_36)))) (tN_ok (tN_ok (tN_ok (tL_ok en_X0_isSheet_39) (tL_ok en_X0_isSheet_40)) (tN_ok (tL_ok en_X0_isSheet_43) (tL_ok en_X0_isSheet_44))) (tN_ok (tN_ok (tL_ok en_X0_isSheet_45) (tL_ok en_X0_isSheet_48)) (tN_ok (tL_ok en_X0_isSheet_49) (tL_ok en_X0_isSheet_52)))))) (tN_ok (tN_ok (tN_ok (tN_ok (tL_ok en_X0_isSheet_53) (tN_ok (tL_ok en_X0_isSheet_56) (tL_ok en_X0_isSheet_57))) (tN_ok (tN_ok (tL_ok en_X0_isSheet_58) (tL_ok en_X0_isSheet_61)) (tN_ok (tL_ok en_X0_isSheet_62) (tL_ok en_X0_isSheet_65)))) (tN_ok (tN_ok (tL_ok en_X0_isSheet_68) (tN_ok (tL_ok en_X0_isSheet_69) (tL_ok en_X0_isSheet_70))) (tN_ok (tN_ok (tL_ok en_X0_isSheet_71) (tL_ok en_X0_isSheet_74)) (tN_ok (tL_ok en_X0_isSheet_77) (tL_ok en_X0_isSheet_78))))) (tN_ok (tN_ok (tN_ok (tL_ok en_X0_isSheet_79) (tN_ok (tL_ok en_X0_isSheet_82) (tL_ok en_X0_isSheet_83))) (tN_ok (tN_ok (tL_ok en_X0_isSheet_86) (tL_ok en_X0_isSheet_87)) (tN_ok (tL_ok en_X0_isSheet_88) (tL_ok en_X0_isSheet_91)))) (tN_ok (tN_ok (tN_ok (tL_ok en_X0_isSheet_92) (tL_ok en_X0_isSheet_95)) (tN_ok (tL_ok en_X0_isSheet_96) (tL_ok en_X0_isSheet_99))) (tN_ok (tN_ok (tL_ok en_X0_isSheet_100) (tL_ok en_X0_isSheet_101)) (tN_ok (tL_ok en_X0_isSheet_104) (tL_ok en_X0_isSheet_105)))))))
theorem en_X0_worth_0 : SndE EE S mi_X0_worth 0 (.inl (e_lda 1 0)) := sn_aload_n dX0_worth_0 rfl rfl
theorem en_X0_worth_1 : SndE EE S mi_X0_worth 1 (.inr (.inl (d_cls 0 20, 1, 3))) := sc_virt dX0_worth_1 (rcv_cls (r := (RX0, TX0, 35)) rfl ⟨mo_X0_clip, nmo_X0_clip, q600, q602, qs15⟩)
theorem en_X0_worth_4 : SndE EE S mi_X0_worth 4 (.inl (e_lda 5 0)) := sn_aload_n dX0_worth_4 rfl rfl
theorem en_X0_worth_5 : SndE EE S mi_X0_worth 5 (.inl (e_gR 8 0 14)) := sn_gR dX0_worth_5 rfl cl_0 (by decide) rfl (Or.inl q664) (Or.inl rfl)
theorem en_X0_worth_8 : SndE EE S mi_X0_worth 8 (.inl (e_psh 9 (.int (0)))) := sn_iconst dX0_worth_8 rfl rfl
theorem en_X0_worth_9 : SndE EE S mi_X0_worth 9 (.inl (e_ald 10 1)) := sn_iald dX0_worth_9 rfl
theorem en_X0_worth_10 : SndE EE S mi_X0_worth 10 (.inr (.inr 1)) := ⟨dX0_worth_10, rfl⟩
theorem sd_X0_worth : ∀ pc x, cd_X0_worth pc = some x → SndE EE S mi_X0_worth pc x := (tN_ok (tN_ok (tL_ok en_X0_worth_0) (tN_ok (tL_ok en_X0_worth_1) (tL_ok en_X0_worth_4))) (tN_ok (tN_ok (tL_ok en_X0_worth_5) (tL_ok en_X0_worth_8)) (tN_ok (tL_ok en_X0_worth_9) (tL_ok en_X0_worth_10))))
theorem en_X0_clip_0 : SndE EE S mi_X0_clip 0 (.inl (e_lda 1 0)) := sn_aload_n dX0_clip_0 rfl rfl
theorem en_X0_clip_1 : SndE EE S mi_X0_clip 1 (.inl (e_gI 4 0 18)) := sn_gI dX0_clip_1 rfl cl_0 (by decide) rfl (Or.inl q668) (Or.inl rfl)
theorem en_X0_clip_4 : SndE EE S mi_X0_clip 4 (.inl (e_zeq 7 8)) := sn_zeq dX0_clip_4 rfl (by decide)
theorem en_X0_clip_7 : SndE EE S mi_X0_clip 7 (.inr (.inr 0)) := ⟨dX0_clip_7, rfl⟩
theorem en_X0_clip_8 : SndE EE S mi_X0_clip 8 (.inl (e_lda 9 0)) := sn_aload_n dX0_clip_8 rfl rfl
theorem en_X0_clip_9 : SndE EE S mi_X0_clip 9 (.inl (e_psh 10 (.int (1)))) := sn_iconst dX0_clip_9 rfl rfl
theorem en_X0_clip_10 : SndE EE S mi_X0_clip 10 (.inl (e_pZ 13 0 18)) := sn_pZ dX0_clip_10 rfl cl_0 (by decide) rfl (Or.inl ⟨q668, Or.inl rfl⟩) (Or.inl rfl) rfl
theorem en_X0_clip_13 : SndE EE S mi_X0_clip 13 (.inl (e_lda 14 0)) := sn_aload_n dX0_clip_13 rfl rfl
theorem en_X0_clip_14 : SndE EE S mi_X0_clip 14 (.inl (e_gR 17 0 14)) := sn_gR dX0_clip_14 rfl cl_0 (by decide) rfl (Or.inl q664) (Or.inl rfl)
theorem en_X0_clip_17 : SndE EE S mi_X0_clip 17 (.inl (e_lda 18 0)) := sn_aload_n dX0_clip_17 rfl rfl
theorem en_X0_clip_18 : SndE EE S mi_X0_clip 18 (.inl (e_gI 21 0 10)) := sn_gI dX0_clip_18 rfl cl_0 (by decide) rfl (Or.inl q660) (Or.inl rfl)
theorem en_X0_clip_21 : SndE EE S mi_X0_clip 21 (.inl (e_psh 22 (.int (0)))) := sn_iconst dX0_clip_21 rfl rfl
theorem en_X0_clip_22 : SndE EE S mi_X0_clip 22 (.inl (e_iast 23)) := sn_iast dX0_clip_22 rfl
theorem en_X0_clip_23 : SndE EE S mi_X0_clip 23 (.inl (e_lda 24 0)) := sn_aload_n dX0_clip_23 rfl rfl
theorem en_X0_clip_24 : SndE EE S mi_X0_clip 24 (.inl (e_gR 27 0 15)) := sn_gR dX0_clip_24 rfl cl_0 (by decide) rfl (Or.inl q665) (Or.inl rfl)
theorem en_X0_clip_27 : SndE EE S mi_X0_clip 27 (.inl (e_lda 28 0)) := sn_aload_n dX0_clip_27 rfl rfl
theorem en_X0_clip_28 : SndE EE S mi_X0_clip 28 (.inl (e_gI 31 0 10)) := sn_gI dX0_clip_28 rfl cl_0 (by decide) rfl (Or.inl q660) (Or.inl rfl)
theorem en_X0_clip_31 : SndE EE S mi_X0_clip 31 (.inl (e_psh 32 (.int (0)))) := sn_iconst dX0_clip_31 rfl rfl
theorem en_X0_clip_32 : SndE EE S mi_X0_clip 32 (.inl (e_iast 33)) := sn_iast dX0_clip_32 rfl
theorem en_X0_clip_33 : SndE EE S mi_X0_clip 33 (.inl (e_lda 34 0)) := sn_aload_n dX0_clip_33 rfl rfl
theorem en_X0_clip_34 : SndE EE S mi_X0_clip 34 (.inl (e_gR 37 0 16)) := sn_gR dX0_clip_34 rfl cl_0 (by decide) rfl (Or.inl q666) (Or.inl rfl)
theorem en_X0_clip_37 : SndE EE S mi_X0_clip 37 (.inl (e_lda 38 0)) := sn_aload_n dX0_clip_37 rfl rfl
theorem en_X0_clip_38 : SndE EE S mi_X0_clip 38 (.inl (e_gI 41 0 10)) := sn_gI dX0_clip_38 rfl cl_0 (by decide) rfl (Or.inl q660) (Or.inl rfl)
theorem en_X0_clip_41 : SndE EE S mi_X0_clip 41 (.inl (e_psh 42 (.int (-1)))) := sn_iconst dX0_clip_41 rfl rfl
theorem en_X0_clip_42 : SndE EE S mi_X0_clip 42 (.inl (e_iast 43)) := sn_iast dX0_clip_42 rfl
theorem en_X0_clip_43 : SndE EE S mi_X0_clip 43 (.inl (e_lda 44 0)) := sn_aload_n dX0_clip_43 rfl rfl
theorem en_X0_clip_44 : SndE EE S mi_X0_clip 44 (.inl (e_gI 47 0 10)) := sn_gI dX0_clip_44 rfl cl_0 (by decide) rfl (Or.inl q660) (Or.inl rfl)
theorem en_X0_clip_47 : SndE EE S mi_X0_clip 47 (.inl (e_psh 48 (.int (1)))) := sn_iconst dX0_clip_47 rfl rfl
theorem en_X0_clip_48 : SndE EE S mi_X0_clip 48 (.inl (e_bin 49 (fun x y => x - y))) := sn_isub dX0_clip_48 rfl
theorem en_X0_clip_49 : SndE EE S mi_X0_clip 49 (.inl (e_sti 50 1)) := sn_istore_n dX0_clip_49 rfl rfl rfl (by decide)
theorem en_X0_clip_50 : SndE EE S mi_X0_clip 50 (.inl (e_ldi 51 1)) := sn_iload_n dX0_clip_50 rfl rfl
theorem en_X0_clip_51 : SndE EE S mi_X0_clip 51 (.inl (e_zlt 54 183)) := sn_zlt dX0_clip_51 rfl (by decide)
theorem en_X0_clip_54 : SndE EE S mi_X0_clip 54 (.inl (e_lda 55 0)) := sn_aload_n dX0_clip_54 rfl rfl
theorem en_X0_clip_55 : SndE EE S mi_X0_clip 55 (.inl (e_gR 58 0 14)) := sn_gR dX0_clip_55 rfl cl_0 (by decide) rfl (Or.inl q664) (Or.inl rfl)
theorem en_X0_clip_58 : SndE EE S mi_X0_clip 58 (.inl (e_ldi 59 1)) := sn_iload_n dX0_clip_58 rfl rfl
theorem en_X0_clip_59 : SndE EE S mi_X0_clip 59 (.inl (e_lda 60 0)) := sn_aload_n dX0_clip_59 rfl rfl
theorem en_X0_clip_60 : SndE EE S mi_X0_clip 60 (.inl (e_gR 63 0 14)) := sn_gR dX0_clip_60 rfl cl_0 (by decide) rfl (Or.inl q664) (Or.inl rfl)
theorem en_X0_clip_63 : SndE EE S mi_X0_clip 63 (.inl (e_ldi 64 1)) := sn_iload_n dX0_clip_63 rfl rfl
theorem en_X0_clip_64 : SndE EE S mi_X0_clip 64 (.inl (e_psh 65 (.int (1)))) := sn_iconst dX0_clip_64 rfl rfl
theorem en_X0_clip_65 : SndE EE S mi_X0_clip 65 (.inl (e_bin 66 (fun x y => x + y))) := sn_iadd dX0_clip_65 rfl
theorem en_X0_clip_66 : SndE EE S mi_X0_clip 66 (.inl (e_ald 67 1)) := sn_iald dX0_clip_66 rfl
theorem en_X0_clip_67 : SndE EE S mi_X0_clip 67 (.inl (e_iast 68)) := sn_iast dX0_clip_67 rfl
theorem en_X0_clip_68 : SndE EE S mi_X0_clip 68 (.inl (e_lda 69 0)) := sn_aload_n dX0_clip_68 rfl rfl
theorem en_X0_clip_69 : SndE EE S mi_X0_clip 69 (.inl (e_gR 72 0 15)) := sn_gR dX0_clip_69 rfl cl_0 (by decide) rfl (Or.inl q665) (Or.inl rfl)
theorem en_X0_clip_72 : SndE EE S mi_X0_clip 72 (.inl (e_ldi 73 1)) := sn_iload_n dX0_clip_72 rfl rfl
theorem en_X0_clip_73 : SndE EE S mi_X0_clip 73 (.inl (e_lda 74 0)) := sn_aload_n dX0_clip_73 rfl rfl
theorem en_X0_clip_74 : SndE EE S mi_X0_clip 74 (.inl (e_gR 77 0 15)) := sn_gR dX0_clip_74 rfl cl_0 (by decide) rfl (Or.inl q665) (Or.inl rfl)
theorem en_X0_clip_77 : SndE EE S mi_X0_clip 77 (.inl (e_ldi 78 1)) := sn_iload_n dX0_clip_77 rfl rfl
theorem en_X0_clip_78 : SndE EE S mi_X0_clip 78 (.inl (e_psh 79 (.int (1)))) := sn_iconst dX0_clip_78 rfl rfl
theorem en_X0_clip_79 : SndE EE S mi_X0_clip 79 (.inl (e_bin 80 (fun x y => x + y))) := sn_iadd dX0_clip_79 rfl
theorem en_X0_clip_80 : SndE EE S mi_X0_clip 80 (.inl (e_ald 81 1)) := sn_iald dX0_clip_80 rfl
theorem en_X0_clip_81 : SndE EE S mi_X0_clip 81 (.inl (e_iast 82)) := sn_iast dX0_clip_81 rfl
theorem en_X0_clip_82 : SndE EE S mi_X0_clip 82 (.inl (e_lda 83 0)) := sn_aload_n dX0_clip_82 rfl rfl
theorem en_X0_clip_83 : SndE EE S mi_X0_clip 83 (.inl (e_gR 86 0 16)) := sn_gR dX0_clip_83 rfl cl_0 (by decide) rfl (Or.inl q666) (Or.inl rfl)
theorem en_X0_clip_86 : SndE EE S mi_X0_clip 86 (.inl (e_ldi 87 1)) := sn_iload_n dX0_clip_86 rfl rfl
theorem en_X0_clip_87 : SndE EE S mi_X0_clip 87 (.inl (e_psh 88 (.int (-1)))) := sn_iconst dX0_clip_87 rfl rfl
theorem en_X0_clip_88 : SndE EE S mi_X0_clip 88 (.inl (e_iast 89)) := sn_iast dX0_clip_88 rfl
theorem en_X0_clip_89 : SndE EE S mi_X0_clip 89 (.inl (e_psh 90 (.int (0)))) := sn_iconst dX0_clip_89 rfl rfl
theorem en_X0_clip_90 : SndE EE S mi_X0_clip 90 (.inl (e_sti 91 2)) := sn_istore_n dX0_clip_90 rfl rfl rfl (by decide)
theorem en_X0_clip_91 : SndE EE S mi_X0_clip 91 (.inl (e_ldi 92 2)) := sn_iload_n dX0_clip_91 rfl rfl
theorem en_X0_clip_92 : SndE EE S mi_X0_clip 92 (.inl (e_lda 93 0)) := sn_aload_n dX0_clip_92 rfl rfl
theorem en_X0_clip_93 : SndE EE S mi_X0_clip 93 (.inl (e_gR 96 0 4)) := sn_gR dX0_clip_93 rfl cl_0 (by decide) rfl (Or.inl q654) (Or.inl rfl)
theorem en_X0_clip_96 : SndE EE S mi_X0_clip 96 (.inl (e_gI 99 1 3)) := sn_gI dX0_clip_96 rfl cl_1 (by decide) rfl (Or.inr ⟨_, fun G s h => h.1 _ nwm_q179⟩) (Or.inl rfl)
theorem en_X0_clip_99 : SndE EE S mi_X0_clip 99 (.inl (e_ige 102 177)) := sn_ige dX0_clip_99 rfl (by decide)
theorem en_X0_clip_102 : SndE EE S mi_X0_clip 102 (.inl (e_lda 103 0)) := sn_aload_n dX0_clip_102 rfl rfl
theorem en_X0_clip_103 : SndE EE S mi_X0_clip 103 (.inl (e_ldi 104 1)) := sn_iload_n dX0_clip_103 rfl rfl
theorem en_X0_clip_104 : SndE EE S mi_X0_clip 104 (.inl (e_ldi 105 2)) := sn_iload_n dX0_clip_104 rfl rfl
theorem en_X0_clip_105 : SndE EE S mi_X0_clip 105 (.inr (.inl (d_cls 0 16, 3, 3))) := sc_virt dX0_clip_105 (rcv_cls (r := (RX0, TX0, 35)) rfl ⟨mo_X0_isThere, nmo_X0_isThere, q551, q553, qs12⟩)
theorem en_X0_clip_108 : SndE EE S mi_X0_clip 108 (.inl (e_zne 111 114)) := sn_zne dX0_clip_108 rfl (by decide)
theorem en_X0_clip_111 : SndE EE S mi_X0_clip 111 (.inl (e_goto 171)) := sn_goto dX0_clip_111 (by decide)
theorem en_X0_clip_114 : SndE EE S mi_X0_clip 114 (.inl (e_lda 115 0)) := sn_aload_n dX0_clip_114 rfl rfl
theorem en_X0_clip_115 : SndE EE S mi_X0_clip 115 (.inl (e_ldi 116 1)) := sn_iload_n dX0_clip_115 rfl rfl
theorem en_X0_clip_116 : SndE EE S mi_X0_clip 116 (.inl (e_lda 117 0)) := sn_aload_n dX0_clip_116 rfl rfl
theorem en_X0_clip_117 : SndE EE S mi_X0_clip 117 (.inl (e_gR 120 0 4)) := sn_gR dX0_clip_117 rfl cl_0 (by decide) rfl (Or.inl q654) (Or.inl rfl)
theorem en_X0_clip_120 : SndE EE S mi_X0_clip 120 (.inl (e_gR 123 1 0)) := sn_gR dX0_clip_120 rfl cl_1 (by decide) rfl (Or.inr ⟨_, fun G s h => h.1 _ nwm_q171⟩) (Or.inl rfl)
theorem en_X0_clip_123 : SndE EE S mi_X0_clip 123 (.inl (e_ldi 124 2)) := sn_iload_n dX0_clip_123 rfl rfl
theorem en_X0_clip_124 : SndE EE S mi_X0_clip 124 (.inl (e_ald 125 1)) := sn_iald dX0_clip_124 rfl
theorem en_X0_clip_125 : SndE EE S mi_X0_clip 125 (.inr (.inl (d_cls 0 17, 3, 3))) := sc_virt dX0_clip_125 (rcv_cls (r := (RX0, TX0, 35)) rfl ⟨mo_X0_look, nmo_X0_look, q555, q557, qs13⟩)
theorem en_X0_clip_128 : SndE EE S mi_X0_clip 128 (.inl (e_psh 129 (.int (0)))) := sn_iconst dX0_clip_128 rfl rfl
theorem en_X0_clip_129 : SndE EE S mi_X0_clip 129 (.inl (e_sti 130 3)) := sn_istore_n dX0_clip_129 rfl rfl rfl (by decide)
theorem en_X0_clip_130 : SndE EE S mi_X0_clip 130 (.inl (e_ldi 131 3)) := sn_iload_n dX0_clip_130 rfl rfl
theorem en_X0_clip_131 : SndE EE S mi_X0_clip 131 (.inl (e_lda 132 0)) := sn_aload_n dX0_clip_131 rfl rfl
theorem en_X0_clip_132 : SndE EE S mi_X0_clip 132 (.inl (e_gI 135 0 11)) := sn_gI dX0_clip_132 rfl cl_0 (by decide) rfl (Or.inl q661) (Or.inl rfl)
theorem en_X0_clip_135 : SndE EE S mi_X0_clip 135 (.inl (e_igt 138 171)) := sn_igt dX0_clip_135 rfl (by decide)
theorem en_X0_clip_138 : SndE EE S mi_X0_clip 138 (.inl (e_ldi 139 3)) := sn_iload_n dX0_clip_138 rfl rfl
theorem en_X0_clip_139 : SndE EE S mi_X0_clip 139 (.inl (e_lda 140 0)) := sn_aload_n dX0_clip_139 rfl rfl
theorem en_X0_clip_140 : SndE EE S mi_X0_clip 140 (.inl (e_gR 143 0 13)) := sn_gR dX0_clip_140 rfl cl_0 (by decide) rfl (Or.inl q663) (Or.inl rfl)
theorem en_X0_clip_143 : SndE EE S mi_X0_clip 143 (.inl (e_gI 146 2 2)) := sn_gI dX0_clip_143 rfl cl_2 (by decide) rfl (Or.inr ⟨_, fun G s h => h.1 _ nwm_q634⟩) (Or.inl rfl)
theorem en_X0_clip_146 : SndE EE S mi_X0_clip 146 (.inl (e_igt 149 171)) := sn_igt dX0_clip_146 rfl (by decide)
theorem en_X0_clip_149 : SndE EE S mi_X0_clip 149 (.inl (e_lda 150 0)) := sn_aload_n dX0_clip_149 rfl rfl
theorem en_X0_clip_150 : SndE EE S mi_X0_clip 150 (.inl (e_ldi 151 2)) := sn_iload_n dX0_clip_150 rfl rfl
theorem en_X0_clip_151 : SndE EE S mi_X0_clip 151 (.inl (e_ldi 152 3)) := sn_iload_n dX0_clip_151 rfl rfl
theorem en_X0_clip_152 : SndE EE S mi_X0_clip 152 (.inr (.inl (d_cls 0 18, 3, 3))) := sc_virt dX0_clip_152 (rcv_cls (r := (RX0, TX0, 35)) rfl ⟨mo_X0_isSheet, nmo_X0_isSheet, q560, q562, qs14⟩)
theorem en_X0_clip_155 : SndE EE S mi_X0_clip 155 (.inl (e_zeq 158 165)) := sn_zeq dX0_clip_155 rfl (by decide)
theorem en_X0_clip_158 : SndE EE S mi_X0_clip 158 (.inl (e_lda 159 0)) := sn_aload_n dX0_clip_158 rfl rfl
theorem en_X0_clip_159 : SndE EE S mi_X0_clip 159 (.inl (e_ldi 160 1)) := sn_iload_n dX0_clip_159 rfl rfl
theorem en_X0_clip_160 : SndE EE S mi_X0_clip 160 (.inl (e_ldi 161 2)) := sn_iload_n dX0_clip_160 rfl rfl
theorem en_X0_clip_161 : SndE EE S mi_X0_clip 161 (.inl (e_ldi 162 3)) := sn_iload_n dX0_clip_161 rfl rfl
theorem en_X0_clip_162 : SndE EE S mi_X0_clip 162 (.inr (.inl (d_cls 0 21, 4, 3))) := sc_virt dX0_clip_162 (rcv_cls (r := (RX0, TX0, 35)) rfl ⟨mo_X0_take, nmo_X0_take, q604, q606, qs16⟩)
theorem en_X0_clip_165 : SndE EE S mi_X0_clip 165 (.inl (e_inc 168 3 (1))) := sn_iinc dX0_clip_165 rfl rfl rfl (by decide)
theorem en_X0_clip_168 : SndE EE S mi_X0_clip 168 (.inl (e_goto 130)) := sn_goto dX0_clip_168 (by decide)
theorem en_X0_clip_171 : SndE EE S mi_X0_clip 171 (.inl (e_inc 174 2 (1))) := sn_iinc dX0_clip_171 rfl rfl rfl (by decide)
theorem en_X0_clip_174 : SndE EE S mi_X0_clip 174 (.inl (e_goto 91)) := sn_goto dX0_clip_174 (by decide)
theorem en_X0_clip_177 : SndE EE S mi_X0_clip 177 (.inl (e_inc 180 1 (-1))) := sn_iinc dX0_clip_177 rfl rfl rfl (by decide)
theorem en_X0_clip_180 : SndE EE S mi_X0_clip 180 (.inl (e_goto 50)) := sn_goto dX0_clip_180 (by decide)
theorem en_X0_clip_183 : SndE EE S mi_X0_clip 183 (.inr (.inr 0)) := ⟨dX0_clip_183, rfl⟩
theorem sd_X0_clip : ∀ pc x, cd_X0_clip pc = some x → SndE EE S mi_X0_clip pc x := (tN_ok (tN_ok (tN_ok (tN_ok (tN_ok (tN_ok (tL_ok en_X0_clip_0) (tN_ok (tL_ok en_X0_clip_1) (tL_ok en_X0_clip_4))) (tN_ok (tL_ok en_X0_clip_7) (tN_ok (tL_ok en_X0_clip_8) (tL_ok en_X0_clip_9)))) (tN_ok (tN_ok (tL_ok en_X0_clip_10) (tN_ok (tL_ok en_X0_clip_13) (tL_ok en_X0_clip_14))) (tN_ok (tN_ok (tL_ok en_X0_clip_17) (tL_ok en_X0_clip_18)) (tN_ok (tL_ok en_X0_clip_21) (tL_ok en_X0_clip_22))))) (tN_ok (tN_ok (tN_ok (tL_ok en_X0_clip_23) (tN_ok (tL_ok en_X0_clip_24) (tL_ok en_X0_clip_27))) (tN_ok (tL_ok en_X0_clip_28) (tN_ok (tL_ok en_X0_clip_31) (tL_ok en_X0_clip_32)))) (tN_ok (tN_ok (tL_ok en_X0_clip_33) (tN_ok (tL_ok en_X0_clip_34) (tL_ok en_X0_clip_37))) (tN_ok (tN_ok (tL_ok en_X0_clip_38) (tL_ok en_X0_clip_41)) (tN_ok (tL_ok en_X0_clip_42) (tL_ok en_X0_clip_43)))))) (tN_ok (tN_ok (tN_ok (tN_ok (tL_ok en_X0_clip_44) (tN_ok (tL_ok en_X0_clip_47) (tL_ok en_X0_clip_48))) (tN_ok (tL_ok en_X0_clip_49) (tN_ok (tL_ok en_X0_clip_50) (tL_ok en_X0_clip_51)))) (tN_ok (tN_ok (tL_ok en_X0_clip_54) (tN_ok (tL_ok en_X0_clip_55) (tL_ok en_X0_clip_58))) (tN_ok (tN_ok (tL_ok en_X0_clip_59) (tL_ok en_X0_clip_60)) (tN_ok (tL_ok en_X0_clip_63) (tL_ok en_X0_clip_64))))) (tN_ok (tN_ok (tN_ok (tL_ok en_X0_clip_65) (tN_ok (tL_ok en_X0_clip_66) (tL_ok en_X0_clip_67))) (tN_ok (tN_ok (tL_ok en_X0_clip_68) (tL_ok en_X0_clip_69)) (tN_ok (tL_ok en_X0_clip_72) (tL_ok en_X0_clip_73)))) (tN_ok (tN_ok (tL_ok en_X0_clip_74) (tN_ok (tL_ok en_X0_clip_77) (tL_ok en_X0_clip_78))) (tN_ok (tN_ok (tL_ok en_X0_clip_79) (tL_ok en_X0_clip_80)) (tN_ok (tL_ok en_X0_clip_81) (tL_ok en_X0_clip_82))))))) (tN_ok (tN_ok (tN_ok (tN_ok (tN_ok (tL_ok en_X0_clip_83) (tN_ok (tL_ok en_X0_clip_86) (tL_ok en_X0_clip_87))) (tN_ok (tL_ok en_X0_clip_88) (tN_ok (tL_ok en_X0_clip_89) (tL_ok en_X0_clip_90)))) (tN_ok (tN_ok (tL_ok en_X0_clip_91) (tN_ok (tL_ok en_X0_clip_92) (tL_ok en_X0_clip_93))) (tN_ok (tN_ok (tL_ok en_X0_clip_96) (tL_ok en_X0_clip_99)) (tN_ok (tL_ok en_X0_clip_102) (tL_ok en_X0_clip_103))))) (tN_ok (tN_ok (tN_ok (tL_ok en_X0_clip_104) (tN_ok (tL_ok en_X0_clip_105) (tL_ok en_X0_clip_108))) (tN_ok (tL_ok en_X0_clip_111) (tN_ok (tL_ok en_X0_clip_114) (tL_ok en_X0_clip_115)))) (tN_ok (tN_ok (tL_ok en_X0_clip_116) (tN_ok (tL_ok en_X0_clip_117) (tL_ok en_X0_clip_120))) (tN_ok (tN_ok (tL_ok en_X0_clip_123) (tL_ok en_X0_clip_124)) (tN_ok (tL_ok en_X0_clip_125) (tL_ok en_X0_clip_128)))))) (tN_ok (tN_ok (tN_ok (tN_ok (tL_ok en_X0_clip_129) (tN_ok (tL_ok en_X0_clip_130) (tL_ok en_X0_clip_131))) (tN_ok (tL_ok en_X0_clip_132) (tN_ok (tL_ok en_X0_clip_135) (tL_ok en_X0_clip_138)))) (tN_ok (tN_ok (tL_ok en_X0_clip_139) (tN_ok (tL_ok en_X0_clip_140) (tL_ok en_X0_clip_143))) (tN_ok (tN_ok (tL_ok en_X0_clip_146) (tL_ok en_X0_clip_149)) (tN_ok (tL_ok en_X0_clip_150) (tL_ok en_X0_clip_151))))) (tN_ok (tN_ok (tN_ok (tL_ok en_X0_clip_152) (tN_ok (tL_ok en_X0_clip_155) (tL_ok en_X0_clip_158))) (tN_ok (tN_ok (tL_ok en_X0_clip_159) (tL_ok en_X0_clip_160)) (tN_ok (tL_ok en_X0_clip_161) (tL_ok en_X0_clip_162)))) (tN_ok (tN_ok (tL_ok en_X0_clip_165) (tN_ok (tL_ok en_X0_clip_168) (tL_ok en_X0_clip_171))) (tN_ok (tN_ok (tL_ok en_X0_clip_174) (tL_ok en_X0_clip_177)) (tN_ok (tL_ok en_X0_clip_180) (tL_ok en_X0_clip_183))))))))
theorem en_X0_take_0 : SndE EE S mi_X0_take 0 (.inl (e_ldi 1 1)) := sn_iload_n dX0_take_0 rfl rfl
theorem en_X0_take_1 : SndE EE S mi_X0_take 1 (.inl (e_lda 2 0)) := sn_aload_n dX0_take_1 rfl rfl
theorem en_X0_take_2 : SndE EE S mi_X0_take 2 (.inl (e_gR 5 0 4)) := sn_gR dX0_take_2 rfl cl_0 (by decide) rfl (Or.inl q654) (Or.inl rfl)
theorem en_X0_take_5 : SndE EE S mi_X0_take 5 (.inl (e_gR 8 1 0)) := sn_gR dX0_take_5 rfl cl_1 (by decide) rfl (Or.inr ⟨_, fun G s h => h.1 _ nwm_q171⟩) (Or.inl rfl)
theorem en_X0_take_8 : SndE EE S mi_X0_take 8 (.inl (e_ldi 9 2)) := sn_iload_n dX0_take_8 rfl rfl
theorem en_X0_take_9 : SndE EE S mi_X0_take 9 (.inl (e_ald 10 1)) := sn_iald dX0_take_9 rfl
theorem en_X0_take_10 : SndE EE S mi_X0_take 10 (.inl (e_bin 11 (fun x y => x + y))) := sn_iadd dX0_take_10 rfl
theorem en_X0_take_11 : SndE EE S mi_X0_take 11 (.inl (e_sti 13 4)) := sn_istore dX0_take_11 rfl rfl (by decide)
theorem en_X0_take_13 : SndE EE S mi_X0_take 13 (.inl (e_lda 14 0)) := sn_aload_n dX0_take_13 rfl rfl
theorem en_X0_take_14 : SndE EE S mi_X0_take 14 (.inl (e_gR 17 0 4)) := sn_gR dX0_take_14 rfl cl_0 (by decide) rfl (Or.inl q654) (Or.inl rfl)
theorem en_X0_take_17 : SndE EE S mi_X0_take 17 (.inl (e_gR 20 1 1)) := sn_gR dX0_take_17 rfl cl_1 (by decide) rfl (Or.inr ⟨_, fun G s h => h.1 _ nwm_q175⟩) (Or.inl rfl)
theorem en_X0_take_20 : SndE EE S mi_X0_take 20 (.inl (e_ldi 21 2)) := sn_iload_n dX0_take_20 rfl rfl
theorem en_X0_take_21 : SndE EE S mi_X0_take 21 (.inl (e_ald 22 1)) := sn_iald dX0_take_21 rfl
theorem en_X0_take_22 : SndE EE S mi_X0_take 22 (.inl (e_ldi 23 3)) := sn_iload_n dX0_take_22 rfl rfl
theorem en_X0_take_23 : SndE EE S mi_X0_take 23 (.inl (e_lda 24 0)) := sn_aload_n dX0_take_23 rfl rfl
theorem en_X0_take_24 : SndE EE S mi_X0_take 24 (.inl (e_gI 27 0 12)) := sn_gI dX0_take_24 rfl cl_0 (by decide) rfl (Or.inl q662) (Or.inl rfl)
theorem en_X0_take_27 : SndE EE S mi_X0_take 27 (.inl (e_bin 28 (fun x y => x * y))) := sn_imul dX0_take_27 rfl
theorem en_X0_take_28 : SndE EE S mi_X0_take 28 (.inl (e_bin 29 (fun x y => x - y))) := sn_isub dX0_take_28 rfl
theorem en_X0_take_29 : SndE EE S mi_X0_take 29 (.inl (e_lda 30 0)) := sn_aload_n dX0_take_29 rfl rfl
theorem en_X0_take_30 : SndE EE S mi_X0_take 30 (.inl (e_gR 33 0 14)) := sn_gR dX0_take_30 rfl cl_0 (by decide) rfl (Or.inl q664) (Or.inl rfl)
theorem en_X0_take_33 : SndE EE S mi_X0_take 33 (.inl (e_ldi 35 4)) := sn_iload dX0_take_33 rfl
theorem en_X0_take_35 : SndE EE S mi_X0_take 35 (.inl (e_ald 36 1)) := sn_iald dX0_take_35 rfl
theorem en_X0_take_36 : SndE EE S mi_X0_take 36 (.inl (e_bin 37 (fun x y => x + y))) := sn_iadd dX0_take_36 rfl
theorem en_X0_take_37 : SndE EE S mi_X0_take 37 (.inl (e_sti 39 5)) := sn_istore dX0_take_37 rfl rfl (by decide)
theorem en_X0_take_39 : SndE EE S mi_X0_take 39 (.inl (e_psh 40 (.int (1)))) := sn_iconst dX0_take_39 rfl rfl
theorem en_X0_take_40 : SndE EE S mi_X0_take 40 (.inl (e_lda 41 0)) := sn_aload_n dX0_take_40 rfl rfl
theorem en_X0_take_41 : SndE EE S mi_X0_take 41 (.inl (e_gR 44 0 15)) := sn_gR dX0_take_41 rfl cl_0 (by decide) rfl (Or.inl q665) (Or.inl rfl)
theorem en_X0_take_44 : SndE EE S mi_X0_take 44 (.inl (e_ldi 46 4)) := sn_iload dX0_take_44 rfl
theorem en_X0_take_46 : SndE EE S mi_X0_take 46 (.inl (e_ald 47 1)) := sn_iald dX0_take_46 rfl
theorem en_X0_take_47 : SndE EE S mi_X0_take 47 (.inl (e_bin 48 (fun x y => x + y))) := sn_iadd dX0_take_47 rfl
theorem en_X0_take_48 : SndE EE S mi_X0_take 48 (.inl (e_sti 50 6)) := sn_istore dX0_take_48 rfl rfl (by decide)
theorem en_X0_take_50 : SndE EE S mi_X0_take 50 (.inl (e_ldi 52 5)) := sn_iload dX0_take_50 rfl
theorem en_X0_take_52 : SndE EE S mi_X0_take 52 (.inl (e_lda 53 0)) := sn_aload_n dX0_take_52 rfl rfl
theorem en_X0_take_53 : SndE EE S mi_X0_take 53 (.inl (e_gR 56 0 14)) := sn_gR dX0_take_53 rfl cl_0 (by decide) rfl (Or.inl q664) (Or.inl rfl)
theorem en_X0_take_56 : SndE EE S mi_X0_take 56 (.inl (e_ldi 57 1)) := sn_iload_n dX0_take_56 rfl rfl
theorem en_X0_take_57 : SndE EE S mi_X0_take 57 (.inl (e_ald 58 1)) := sn_iald dX0_take_57 rfl
theorem en_X0_take_58 : SndE EE S mi_X0_take 58 (.inl (e_igt 61 103)) := sn_igt dX0_take_58 rfl (by decide)
theorem en_X0_take_61 : SndE EE S mi_X0_take 61 (.inl (e_ldi 63 5)) := sn_iload dX0_take_61 rfl
theorem en_X0_take_63 : SndE EE S mi_X0_take 63 (.inl (e_lda 64 0)) := sn_aload_n dX0_take_63 rfl rfl
theorem en_X0_take_64 : SndE EE S mi_X0_take 64 (.inl (e_gR 67 0 14)) := sn_gR dX0_take_64 rfl cl_0 (by decide) rfl (Or.inl q664) (Or.inl rfl)
theorem en_X0_take_67 : SndE EE S mi_X0_take 67 (.inl (e_ldi 68 1)) := sn_iload_n dX0_take_67 rfl rfl
theorem en_X0_take_68 : SndE EE S mi_X0_take 68 (.inl (e_ald 69 1)) := sn_iald dX0_take_68 rfl
theorem en_X0_take_69 : SndE EE S mi_X0_take 69 (.inl (e_ine 72 107)) := sn_ine dX0_take_69 rfl (by decide)
theorem en_X0_take_72 : SndE EE S mi_X0_take 72 (.inl (e_ldi 74 6)) := sn_iload dX0_take_72 rfl
theorem en_X0_take_74 : SndE EE S mi_X0_take 74 (.inl (e_lda 75 0)) := sn_aload_n dX0_take_74 rfl rfl
theorem en_X0_take_75 : SndE EE S mi_X0_take 75 (.inl (e_gR 78 0 15)) := sn_gR dX0_take_75 rfl cl_0 (by decide) rfl (Or.inl q665) (Or.inl rfl)
theorem en_X0_take_78 : SndE EE S mi_X0_take 78 (.inl (e_ldi 79 1)) := sn_iload_n dX0_take_78 rfl rfl
theorem en_X0_take_79 : SndE EE S mi_X0_take 79 (.inl (e_ald 80 1)) := sn_iald dX0_take_79 rfl
theorem en_X0_take_80 : SndE EE S mi_X0_take 80 (.inl (e_ilt 83 103)) := sn_ilt dX0_take_80 rfl (by decide)
theorem en_X0_take_83 : SndE EE S mi_X0_take 83 (.inl (e_ldi 85 6)) := sn_iload dX0_take_83 rfl
theorem en_X0_take_85 : SndE EE S mi_X0_take 85 (.inl (e_lda 86 0)) := sn_aload_n dX0_take_85 rfl rfl
theorem en_X0_take_86 : SndE EE S mi_X0_take 86 (.inl (e_gR 89 0 15)) := sn_gR dX0_take_86 rfl cl_0 (by decide) rfl (Or.inl q665) (Or.inl rfl)
theorem en_X0_take_89 : SndE EE S mi_X0_take 89 (.inl (e_ldi 90 1)) := sn_iload_n dX0_take_89 rfl rfl
theorem en_X0_take_90 : SndE EE S mi_X0_take 90 (.inl (e_ald 91 1)) := sn_iald dX0_take_90 rfl
theorem en_X0_take_91 : SndE EE S mi_X0_take 91 (.inl (e_ine 94 107)) := sn_ine dX0_take_91 rfl (by decide)
theorem en_X0_take_94 : SndE EE S mi_X0_take 94 (.inl (e_lda 95 0)) := sn_aload_n dX0_take_94 rfl rfl
theorem en_X0_take_95 : SndE EE S mi_X0_take 95 (.inl (e_gR 98 0 16)) := sn_gR dX0_take_95 rfl cl_0 (by decide) rfl (Or.inl q666) (Or.inl rfl)
theorem en_X0_take_98 : SndE EE S mi_X0_take 98 (.inl (e_ldi 99 1)) := sn_iload_n dX0_take_98 rfl rfl
theorem en_X0_take_99 : SndE EE S mi_X0_take 99 (.inl (e_ald 100 1)) := sn_iald dX0_take_99 rfl
theorem en_X0_take_100 : SndE EE S mi_X0_take 100 (.inl (e_zge 103 107)) := sn_zge dX0_take_100 rfl (by decide)
theorem en_X0_take_103 : SndE EE S mi_X0_take 103 (.inl (e_psh 104 (.int (1)))) := sn_iconst dX0_take_103 rfl rfl
theorem en_X0_take_104 : SndE EE S mi_X0_take 104 (.inl (e_goto 108)) := sn_goto dX0_take_104 (by decide)
theorem en_X0_take_107 : SndE EE S mi_X0_take 107 (.inl (e_psh 108 (.int (0)))) := sn_iconst dX0_take_107 rfl rfl
theorem en_X0_take_108 : SndE EE S mi_X0_take 108 (.inl (e_sti 110 7)) := sn_istore dX0_take_108 rfl rfl (by decide)
theorem en_X0_take_110 : SndE EE S mi_X0_take 110 (.inl (e_ldi 112 7)) := sn_iload dX0_take_110 rfl
theorem en_X0_take_112 : SndE EE S mi_X0_take 112 (.inl (e_zne 115 116)) := sn_zne dX0_take_112 rfl (by decide)
theorem en_X0_take_115 : SndE EE S mi_X0_take 115 (.inr (.inr 0)) := ⟨dX0_take_115, rfl⟩
theorem en_X0_take_116 : SndE EE S mi_X0_take 116 (.inl (e_lda 117 0)) := sn_aload_n dX0_take_116 rfl rfl
theorem en_X0_take_117 : SndE EE S mi_X0_take 117 (.inl (e_gR 120 0 14)) := sn_gR dX0_take_117 rfl cl_0 (by decide) rfl (Or.inl q664) (Or.inl rfl)
theorem en_X0_take_120 : SndE EE S mi_X0_take 120 (.inl (e_ldi 121 1)) := sn_iload_n dX0_take_120 rfl rfl
theorem en_X0_take_121 : SndE EE S mi_X0_take 121 (.inl (e_ldi 123 5)) := sn_iload dX0_take_121 rfl
theorem en_X0_take_123 : SndE EE S mi_X0_take 123 (.inl (e_iast 124)) := sn_iast dX0_take_123 rfl
theorem en_X0_take_124 : SndE EE S mi_X0_take 124 (.inl (e_lda 125 0)) := sn_aload_n dX0_take_124 rfl rfl
theorem en_X0_take_125 : SndE EE S mi_X0_take 125 (.inl (e_gR 128 0 15)) := sn_gR dX0_take_125 rfl cl_0 (by decide) rfl (Or.inl q665) (Or.inl rfl)
theorem en_X0_take_128 : SndE EE S mi_X0_take 128 (.inl (e_ldi 129 1)) := sn_iload_n dX0_take_128 rfl rfl
theorem en_X0_take_129 : SndE EE S mi_X0_take 129 (.inl (e_ldi 131 6)) := sn_iload dX0_take_129 rfl
theorem en_X0_take_131 : SndE EE S mi_X0_take 131 (.inl (e_iast 132)) := sn_iast dX0_take_131 rfl
theorem en_X0_take_132 : SndE EE S mi_X0_take 132 (.inl (e_lda 133 0)) := sn_aload_n dX0_take_132 rfl rfl
theorem en_X0_take_133 : SndE EE S mi_X0_take 133 (.inl (e_gR 136 0 16)) := sn_gR dX0_take_133 rfl cl_0 (by decide) rfl (Or.inl q666) (Or.inl rfl)
theorem en_X0_take_136 : SndE EE S mi_X0_take 136 (.inl (e_ldi 137 1)) := sn_iload_n dX0_take_136 rfl rfl
theorem en_X0_take_137 : SndE EE S mi_X0_take 137 (.inl (e_ldi 138 2)) := sn_iload_n dX0_take_137 rfl rfl
theorem en_X0_take_138 : SndE EE S mi_X0_take 138 (.inl (e_iast 139)) := sn_iast dX0_take_138 rfl
theorem en_X0_take_139 : SndE EE S mi_X0_take 139 (.inl (e_lda 140 0)) := sn_aload_n dX0_take_139 rfl rfl
theorem en_X0_take_140 : SndE EE S mi_X0_take 140 (.inl (e_gR 143 0 17)) := sn_gR dX0_take_140 rfl cl_0 (by decide) rfl (Or.inl q667) (Or.inl rfl)
theorem en_X0_take_143 : SndE EE S mi_X0_take 143 (.inl (e_ldi 144 1)) := sn_iload_n dX0_take_143 rfl rfl
theorem en_X0_take_144 : SndE EE S mi_X0_take 144 (.inl (e_ldi 145 3)) := sn_iload_n dX0_take_144 rfl rfl
theorem en_X0_take_145 : SndE EE S mi_X0_take 145 (.inl (e_iast 146)) := sn_iast dX0_take_145 rfl
theorem en_X0_take_146 : SndE EE S mi_X0_take 146 (.inr (.inr 0)) := ⟨dX0_take_146, rfl⟩
theorem sd_X0_take : ∀ pc x, cd_X0_take pc = some x → SndE EE S mi_X0_take pc x := (tN_ok (tN_ok (tN_ok (tN_ok (tN_ok (tN_ok (tL_ok en_X0_take_0) (tL_ok en_X0_take_1)) (tN_ok (tL_ok en_X0_take_2) (tN_ok (tL_ok en_X0_take_5) (tL_ok en_X0_take_8)))) (tN_ok (tN_ok (tL_ok en_X0_take_9) (tN_ok (tL_ok en_X0_take_10) (tL_ok en_X0_take_11))) (tN_ok (tL_ok en_X0_take_13) (tN_ok (tL_ok en_X0_take_14) (tL_ok en_X0_take_17))))) (tN_ok (tN_ok (tN_ok (tL_ok en_X0_take_20) (tL_ok en_X0_take_21)) (tN_ok (tL_ok en_X0_take_22) (tN_ok (tL_ok en_X0_take_23) (tL_ok en_X0_take_24)))) (tN_ok (tN_ok (tL_ok en_X0_take_27) (tN_ok (tL_ok en_X0_take_28) (tL_ok en_X0_take_29))) (tN_ok (tL_ok en_X0_take_30) (tN_ok (tL_ok en_X0_take_33) (tL_ok en_X0_take_35)))))) (tN_ok (tN_ok (tN_ok (tN_ok (tL_ok en_X0_take_36) (tL_ok en_X0_take_37)) (tN_ok (tL_ok en_X0_take_39) (tN_ok (tL_ok en_X0_take_40) (tL_ok en_X0_take_41)))) (tN_ok (tN_ok (tL_ok en_X0_take_44) (tN_ok (tL_ok en_X0_take_46) (tL_ok en_X0_take_47))) (tN_ok (tL_ok en_X0_take_48) (tN_ok (tL_ok en_X0_take_50) (tL_ok en_X0_take_52))))) (tN_ok (tN_ok (tN_ok (tL_ok en_X0_take_53) (tL_ok en_X0_take_56)) (tN_ok (tL_ok en_X0_take_57) (tN_ok (tL_ok en_X0_take_58) (tL_ok en_X0_take_61)))) (tN_ok (tN_ok (tL_ok en_X0_take_63) (tN_ok (tL_ok en_X0_take_64) (tL_ok en_X0_take_67))) (tN_ok (tL_ok en_X0_take_68) (tN_ok (tL_ok en_X0_take_69) (tL_ok en_X0_take_72))))))) (tN_ok (tN_ok (tN_ok (tN_ok (tN_ok (tL_ok en_X0_take_74) (tL_ok en_X0_take_75)) (tN_ok (tL_ok en_X0_take_78) (tN_ok (tL_ok en_X0_take_79) (tL_ok en_X0_take_80)))) (tN_ok (tN_ok (tL_ok en_X0_take_83) (tN_ok (tL_ok en_X0_take_85) (tL_ok en_X0_take_86))) (tN_ok (tL_ok en_X0_take_89) (tN_ok (tL_ok en_X0_take_90) (tL_ok en_X0_take_91))))) (tN_ok (tN_ok (tN_ok (tL_ok en_X0_take_94) (tL_ok en_X0_take_95)) (tN_ok (tL_ok en_X0_take_98) (tN_ok (tL_ok en_X0_take_99) (tL_ok en_X0_take_100)))) (tN_ok (tN_ok (tL_ok en_X0_take_103) (tN_ok (tL_ok en_X0_take_104) (tL_ok en_X0_take_107))) (tN_ok (tL_ok en_X0_take_108) (tN_ok (tL_ok en_X0_take_110) (tL_ok en_X0_take_112)))))) (tN_ok (tN_ok (tN_ok (tN_ok (tL_ok en_X0_take_115) (tL_ok en_X0_take_116)) (tN_ok (tL_ok en_X0_take_117) (tN_ok (tL_ok en_X0_take_120) (tL_ok en_X0_take_121)))) (tN_ok (tN_ok (tL_ok en_X0_take_123) (tN_ok (tL_ok en_X0_take_124) (tL_ok en_X0_take_125))) (tN_ok (tL_ok en_X0_take_128) (tN_ok (tL_ok en_X0_take_129) (tL_ok en_X0_take_131))))) (tN_ok (tN_ok (tN_ok (tL_ok en_X0_take_132) (tL_ok en_X0_take_133)) (tN_ok (tL_ok en_X0_take_136) (tN_ok (tL_ok en_X0_take_137) (tL_ok en_X0_take_138)))) (tN_ok (tN_ok (tL_ok en_X0_take_139) (tN_ok (tL_ok en_X0_take_140) (tL_ok en_X0_take_143))) (tN_ok (tL_ok en_X0_take_144) (tN_ok (tL_ok en_X0_take_145) (tL_ok en_X0_take_146))))))))
theorem en_X0_sheets_0 : SndE EE S mi_X0_sheets 0 (.inl (e_lda 1 0)) := sn_aload_n dX0_sheets_0 rfl rfl
theorem en_X0_sheets_1 : SndE EE S mi_X0_sheets 1 (.inr (.inl (d_cls 0 20, 1, 3))) := sc_virt dX0_sheets_1 (rcv_cls (r := (RX0, TX0, 35)) rfl ⟨mo_X0_clip, nmo_X0_clip, q600, q602, qs15⟩)
theorem en_X0_sheets_4 : SndE EE S mi_X0_sheets 4 (.inl (e_lda 5 0)) := sn_aload_n dX0_sheets_4 rfl rfl
theorem en_X0_sheets_5 : SndE EE S mi_X0_sheets 5 (.inl (e_gR 8 0 15)) := sn_gR dX0_sheets_5 rfl cl_0 (by decide) rfl (Or.inl q665) (Or.inl rfl)
theorem en_X0_sheets_8 : SndE EE S mi_X0_sheets 8 (.inl (e_psh 9 (.int (0)))) := sn_iconst dX0_sheets_8 rfl rfl
theorem en_X0_sheets_9 : SndE EE S mi_X0_sheets 9 (.inl (e_ald 10 1)) := sn_iald dX0_sheets_9 rfl
theorem en_X0_sheets_10 : SndE EE S mi_X0_sheets 10 (.inr (.inr 1)) := ⟨dX0_sheets_10, rfl⟩
theorem sd_X0_sheets : ∀ pc x, cd_X0_sheets pc = some x → SndE EE S mi_X0_sheets pc x := (tN_ok (tN_ok (tL_ok en_X0_sheets_0) (tN_ok (tL_ok en_X0_sheets_1) (tL_ok en_X0_sheets_4))) (tN_ok (tN_ok (tL_ok en_X0_sheets_5) (tL_ok en_X0_sheets_8)) (tN_ok (tL_ok en_X0_sheets_9) (tL_ok en_X0_sheets_10))))
theorem en_X0_clipped_0 : SndE EE S mi_X0_clipped 0 (.inl (e_lda 1 0)) := sn_aload_n dX0_clipped_0 rfl rfl
theorem en_X0_clipped_1 : SndE EE S mi_X0_clipped 1 (.inr (.inl (d_cls 0 20, 1, 3))) := sc_virt dX0_clipped_1 (rcv_cls (r := (RX0, TX0, 35)) rfl ⟨mo_X0_clip, nmo_X0_clip, q600, q602, qs15⟩)
theorem en_X0_clipped_4 : SndE EE S mi_X0_clipped 4 (.inl (e_ldi 5 1)) := sn_iload_n dX0_clipped_4 rfl rfl
theorem en_X0_clipped_5 : SndE EE S mi_X0_clipped 5 (.inl (e_zlt 8 18)) := sn_zlt dX0_clipped_5 rfl (by decide)
theorem en_X0_clipped_8 : SndE EE S mi_X0_clipped 8 (.inl (e_ldi 9 1)) := sn_iload_n dX0_clipped_8 rfl rfl
theorem en_X0_clipped_9 : SndE EE S mi_X0_clipped 9 (.inl (e_lda 10 0)) := sn_aload_n dX0_clipped_9 rfl rfl
theorem en_X0_clipped_10 : SndE EE S mi_X0_clipped 10 (.inl (e_gR 13 0 15)) := sn_gR dX0_clipped_10 rfl cl_0 (by decide) rfl (Or.inl q665) (Or.inl rfl)
theorem en_X0_clipped_13 : SndE EE S mi_X0_clipped 13 (.inl (e_psh 14 (.int (0)))) := sn_iconst dX0_clipped_13 rfl rfl
theorem en_X0_clipped_14 : SndE EE S mi_X0_clipped 14 (.inl (e_ald 15 1)) := sn_iald dX0_clipped_14 rfl
theorem en_X0_clipped_15 : SndE EE S mi_X0_clipped 15 (.inl (e_ilt 18 20)) := sn_ilt dX0_clipped_15 rfl (by decide)
theorem en_X0_clipped_18 : SndE EE S mi_X0_clipped 18 (.inl (e_psh 19 (.int (-1)))) := sn_iconst dX0_clipped_18 rfl rfl
theorem en_X0_clipped_19 : SndE EE S mi_X0_clipped 19 (.inr (.inr 1)) := ⟨dX0_clipped_19, rfl⟩
theorem en_X0_clipped_20 : SndE EE S mi_X0_clipped 20 (.inl (e_psh 21 (.int (0)))) := sn_iconst dX0_clipped_20 rfl rfl
theorem en_X0_clipped_21 : SndE EE S mi_X0_clipped 21 (.inl (e_sti 22 3)) := sn_istore_n dX0_clipped_21 rfl rfl rfl (by decide)
theorem en_X0_clipped_22 : SndE EE S mi_X0_clipped 22 (.inl (e_psh 23 (.int (0)))) := sn_iconst dX0_clipped_22 rfl rfl
theorem en_X0_clipped_23 : SndE EE S mi_X0_clipped 23 (.inl (e_sti 25 4)) := sn_istore dX0_clipped_23 rfl rfl (by decide)
theorem en_X0_clipped_25 : SndE EE S mi_X0_clipped 25 (.inl (e_lda 26 0)) := sn_aload_n dX0_clipped_25 rfl rfl
theorem en_X0_clipped_26 : SndE EE S mi_X0_clipped 26 (.inl (e_gR 29 0 16)) := sn_gR dX0_clipped_26 rfl cl_0 (by decide) rfl (Or.inl q666) (Or.inl rfl)
theorem en_X0_clipped_29 : SndE EE S mi_X0_clipped 29 (.inl (e_ldi 30 3)) := sn_iload_n dX0_clipped_29 rfl rfl
theorem en_X0_clipped_30 : SndE EE S mi_X0_clipped 30 (.inl (e_ald 31 1)) := sn_iald dX0_clipped_30 rfl
theorem en_X0_clipped_31 : SndE EE S mi_X0_clipped 31 (.inl (e_zlt 34 40)) := sn_zlt dX0_clipped_31 rfl (by decide)
theorem en_X0_clipped_34 : SndE EE S mi_X0_clipped 34 (.inl (e_ldi 36 4)) := sn_iload dX0_clipped_34 rfl
theorem en_X0_clipped_36 : SndE EE S mi_X0_clipped 36 (.inl (e_ldi 37 1)) := sn_iload_n dX0_clipped_36 rfl rfl
theorem en_X0_clipped_37 : SndE EE S mi_X0_clipped 37 (.inl (e_ige 40 92)) := sn_ige dX0_clipped_37 rfl (by decide)
theorem en_X0_clipped_40 : SndE EE S mi_X0_clipped 40 (.inl (e_ldi 42 4)) := sn_iload dX0_clipped_40 rfl
theorem en_X0_clipped_42 : SndE EE S mi_X0_clipped 42 (.inl (e_lda 43 0)) := sn_aload_n dX0_clipped_42 rfl rfl
theorem en_X0_clipped_43 : SndE EE S mi_X0_clipped 43 (.inl (e_gR 46 0 16)) := sn_gR dX0_clipped_43 rfl cl_0 (by decide) rfl (Or.inl q666) (Or.inl rfl)
theorem en_X0_clipped_46 : SndE EE S mi_X0_clipped 46 (.inl (e_ldi 47 3)) := sn_iload_n dX0_clipped_46 rfl rfl
theorem en_X0_clipped_47 : SndE EE S mi_X0_clipped 47 (.inl (e_ald 48 1)) := sn_iald dX0_clipped_47 rfl
theorem en_X0_clipped_48 : SndE EE S mi_X0_clipped 48 (.inl (e_zge 51 55)) := sn_zge dX0_clipped_48 rfl (by decide)
theorem en_X0_clipped_51 : SndE EE S mi_X0_clipped 51 (.inl (e_psh 52 (.int (0)))) := sn_iconst dX0_clipped_51 rfl rfl
theorem en_X0_clipped_52 : SndE EE S mi_X0_clipped 52 (.inl (e_goto 56)) := sn_goto dX0_clipped_52 (by decide)
theorem en_X0_clipped_55 : SndE EE S mi_X0_clipped 55 (.inl (e_psh 56 (.int (1)))) := sn_iconst dX0_clipped_55 rfl rfl
theorem en_X0_clipped_56 : SndE EE S mi_X0_clipped 56 (.inl (e_bin 57 (fun x y => x + y))) := sn_iadd dX0_clipped_56 rfl
theorem en_X0_clipped_57 : SndE EE S mi_X0_clipped 57 (.inl (e_sti 59 4)) := sn_istore dX0_clipped_57 rfl rfl (by decide)
theorem en_X0_clipped_59 : SndE EE S mi_X0_clipped 59 (.inl (e_ldi 60 3)) := sn_iload_n dX0_clipped_59 rfl rfl
theorem en_X0_clipped_60 : SndE EE S mi_X0_clipped 60 (.inl (e_lda 61 0)) := sn_aload_n dX0_clipped_60 rfl rfl
theorem en_X0_clipped_61 : SndE EE S mi_X0_clipped 61 (.inl (e_gR 64 0 16)) := sn_gR dX0_clipped_61 rfl cl_0 (by decide) rfl (Or.inl q666) (Or.inl rfl)
theorem en_X0_clipped_64 : SndE EE S mi_X0_clipped 64 (.inl (e_ldi 65 3)) := sn_iload_n dX0_clipped_64 rfl rfl
theorem en_X0_clipped_65 : SndE EE S mi_X0_clipped 65 (.inl (e_ald 66 1)) := sn_iald dX0_clipped_65 rfl
theorem en_X0_clipped_66 : SndE EE S mi_X0_clipped 66 (.inl (e_zge 69 73)) := sn_zge dX0_clipped_66 rfl (by decide)
theorem en_X0_clipped_69 : SndE EE S mi_X0_clipped 69 (.inl (e_psh 70 (.int (1)))) := sn_iconst dX0_clipped_69 rfl rfl
theorem en_X0_clipped_70 : SndE EE S mi_X0_clipped 70 (.inl (e_goto 87)) := sn_goto dX0_clipped_70 (by decide)
theorem en_X0_clipped_73 : SndE EE S mi_X0_clipped 73 (.inl (e_lda 74 0)) := sn_aload_n dX0_clipped_73 rfl rfl
theorem en_X0_clipped_74 : SndE EE S mi_X0_clipped 74 (.inl (e_gR 77 0 4)) := sn_gR dX0_clipped_74 rfl cl_0 (by decide) rfl (Or.inl q654) (Or.inl rfl)
theorem en_X0_clipped_77 : SndE EE S mi_X0_clipped 77 (.inl (e_gR 80 1 0)) := sn_gR dX0_clipped_77 rfl cl_1 (by decide) rfl (Or.inr ⟨_, fun G s h => h.1 _ nwm_q171⟩) (Or.inl rfl)
theorem en_X0_clipped_80 : SndE EE S mi_X0_clipped 80 (.inl (e_lda 81 0)) := sn_aload_n dX0_clipped_80 rfl rfl
theorem en_X0_clipped_81 : SndE EE S mi_X0_clipped 81 (.inl (e_gR 84 0 16)) := sn_gR dX0_clipped_81 rfl cl_0 (by decide) rfl (Or.inl q666) (Or.inl rfl)
theorem en_X0_clipped_84 : SndE EE S mi_X0_clipped 84 (.inl (e_ldi 85 3)) := sn_iload_n dX0_clipped_84 rfl rfl
theorem en_X0_clipped_85 : SndE EE S mi_X0_clipped 85 (.inl (e_ald 86 1)) := sn_iald dX0_clipped_85 rfl
theorem en_X0_clipped_86 : SndE EE S mi_X0_clipped 86 (.inl (e_ald 87 1)) := sn_iald dX0_clipped_86 rfl
theorem en_X0_clipped_87 : SndE EE S mi_X0_clipped 87 (.inl (e_bin 88 (fun x y => x + y))) := sn_iadd dX0_clipped_87 rfl
theorem en_X0_clipped_88 : SndE EE S mi_X0_clipped 88 (.inl (e_sti 89 3)) := sn_istore_n dX0_clipped_88 rfl rfl rfl (by decide)
theorem en_X0_clipped_89 : SndE EE S mi_X0_clipped 89 (.inl (e_goto 25)) := sn_goto dX0_clipped_89 (by decide)
theorem en_X0_clipped_92 : SndE EE S mi_X0_clipped 92 (.inl (e_ldi 93 2)) := sn_iload_n dX0_clipped_92 rfl rfl
theorem en_X0_clipped_93 : SndE EE S mi_X0_clipped 93 (.inl (e_zne 96 100)) := sn_zne dX0_clipped_93 rfl (by decide)
theorem en_X0_clipped_96 : SndE EE S mi_X0_clipped 96 (.inl (e_ldi 97 3)) := sn_iload_n dX0_clipped_96 rfl rfl
theorem en_X0_clipped_97 : SndE EE S mi_X0_clipped 97 (.inl (e_goto 129)) := sn_goto dX0_clipped_97 (by decide)
theorem en_X0_clipped_100 : SndE EE S mi_X0_clipped 100 (.inl (e_ldi 101 2)) := sn_iload_n dX0_clipped_100 rfl rfl
theorem en_X0_clipped_101 : SndE EE S mi_X0_clipped 101 (.inl (e_psh 102 (.int (1)))) := sn_iconst dX0_clipped_101 rfl rfl
theorem en_X0_clipped_102 : SndE EE S mi_X0_clipped 102 (.inl (e_ine 105 114)) := sn_ine dX0_clipped_102 rfl (by decide)
theorem en_X0_clipped_105 : SndE EE S mi_X0_clipped 105 (.inl (e_lda 106 0)) := sn_aload_n dX0_clipped_105 rfl rfl
theorem en_X0_clipped_106 : SndE EE S mi_X0_clipped 106 (.inl (e_gR 109 0 16)) := sn_gR dX0_clipped_106 rfl cl_0 (by decide) rfl (Or.inl q666) (Or.inl rfl)
theorem en_X0_clipped_109 : SndE EE S mi_X0_clipped 109 (.inl (e_ldi 110 3)) := sn_iload_n dX0_clipped_109 rfl rfl
theorem en_X0_clipped_110 : SndE EE S mi_X0_clipped 110 (.inl (e_ald 111 1)) := sn_iald dX0_clipped_110 rfl
theorem en_X0_clipped_111 : SndE EE S mi_X0_clipped 111 (.inl (e_goto 129)) := sn_goto dX0_clipped_111 (by decide)
theorem en_X0_clipped_114 : SndE EE S mi_X0_clipped 114 (.inl (e_ldi 115 2)) := sn_iload_n dX0_clipped_114 rfl rfl
theorem en_X0_clipped_115 : SndE EE S mi_X0_clipped 115 (.inl (e_psh 116 (.int (2)))) := sn_iconst dX0_clipped_115 rfl rfl
theorem en_X0_clipped_116 : SndE EE S mi_X0_clipped 116 (.inl (e_ine 119 128)) := sn_ine dX0_clipped_116 rfl (by decide)
theorem en_X0_clipped_119 : SndE EE S mi_X0_clipped 119 (.inl (e_lda 120 0)) := sn_aload_n dX0_clipped_119 rfl rfl
theorem en_X0_clipped_120 : SndE EE S mi_X0_clipped 120 (.inl (e_gR 123 0 17)) := sn_gR dX0_clipped_120 rfl cl_0 (by decide) rfl (Or.inl q667) (Or.inl rfl)
theorem en_X0_clipped_123 : SndE EE S mi_X0_clipped 123 (.inl (e_ldi 124 3)) := sn_iload_n dX0_clipped_123 rfl rfl
theorem en_X0_clipped_124 : SndE EE S mi_X0_clipped 124 (.inl (e_ald 125 1)) := sn_iald dX0_clipped_124 rfl
theorem en_X0_clipped_125 : SndE EE S mi_X0_clipped 125 (.inl (e_goto 129)) := sn_goto dX0_clipped_125 (by decide)
theorem en_X0_clipped_128 : SndE EE S mi_X0_clipped 128 (.inl (e_psh 129 (.int (-1)))) := sn_iconst dX0_clipped_128 rfl rfl
theorem en_X0_clipped_129 : SndE EE S mi_X0_clipped 129 (.inr (.inr 1)) := ⟨dX0_clipped_129, rfl⟩
theorem sd_X0_clipped : ∀ pc x, cd_X0_clipped pc = some x → SndE EE S mi_X0_clipped pc x := (tN_ok (tN_ok (tN_ok (tN_ok (tN_ok (tN_ok (tL_ok en_X0_clipped_0) (tL_ok en_X0_clipped_1)) (tN_ok (tL_ok en_X0_clipped_4) (tL_ok en_X0_clipped_5))) (tN_ok (tN_ok (tL_ok en_X0_clipped_8) (tL_ok en_X0_clipped_9)) (tN_ok (tL_ok en_X0_clipped_10) (tN_ok (tL_ok en_X0_clipped_13) (tL_ok en_X0_clipped_14))))) (tN_ok (tN_ok (tN_ok (tL_ok en_X0_clipped_15) (tL_ok en_X0_clipped_18)) (tN_ok (tL_ok en_X0_clipped_19) (tN_ok (tL_ok en_X0_clipped_20) (tL_ok en_X0_clipped_21)))) (tN_ok (tN_ok (tL_ok en_X0_clipped_22) (tL_ok en_X0_clipped_23)) (tN_ok (tL_ok en_X0_clipped_25) (tN_ok (tL_ok en_X0_clipped_26) (tL_ok en_X0_clipped_29)))))) (tN_ok (tN_ok (tN_ok (tN_ok (tL_ok en_X0_clipped_30) (tL_ok en_X0_clipped_31)) (tN_ok (tL_ok en_X0_clipped_34) (tL_ok en_X0_clipped_36))) (tN_ok (tN_ok (tL_ok en_X0_clipped_37) (tL_ok en_X0_clipped_40)) (tN_ok (tL_ok en_X0_clipped_42) (tN_ok (tL_ok en_X0_clipped_43) (tL_ok en_X0_clipped_46))))) (tN_ok (tN_ok (tN_ok (tL_ok en_X0_clipped_47) (tL_ok en_X0_clipped_48)) (tN_ok (tL_ok en_X0_clipped_51) (tN_ok (tL_ok en_X0_clipped_52) (tL_ok en_X0_clipped_55)))) (tN_ok (tN_ok (tL_ok en_X0_clipped_56) (tL_ok en_X0_clipped_57)) (tN_ok (tL_ok en_X0_clipped_59) (tN_ok (tL_ok en_X0_clipped_60) (tL_ok en_X0_clipped_61))))))) (tN_ok (tN_ok (tN_ok (tN_ok (tN_ok (tL_ok en_X0_clipped_64) (tL_ok en_X0_clipped_65)) (tN_ok (tL_ok en_X0_clipped_66) (tL_ok en_X0_clipped_69))) (tN_ok (tN_ok (tL_ok en_X0_clipped_70) (tL_ok en_X0_clipped_73)) (tN_ok (tL_ok en_X0_clipped_74) (tN_ok (tL_ok en_X0_clipped_77) (tL_ok en_X0_clipped_80))))) (tN_ok (tN_ok (tN_ok (tL_ok en_X0_clipped_81) (tL_ok en_X0_clipped_84)) (tN_ok (tL_ok en_X0_clipped_85) (tN_ok (tL_ok en_X0_clipped_86) (tL_ok en_X0_clipped_87)))) (tN_ok (tN_ok (tL_ok en_X0_clipped_88) (tL_ok en_X0_clipped_89)) (tN_ok (tL_ok en_X0_clipped_92) (tN_ok (tL_ok en_X0_clipped_93) (tL_ok en_X0_clipped_96)))))) (tN_ok (tN_ok (tN_ok (tN_ok (tL_ok en_X0_clipped_97) (tL_ok en_X0_clipped_100)) (tN_ok (tL_ok en_X0_clipped_101) (tL_ok en_X0_clipped_102))) (tN_ok (tN_ok (tL_ok en_X0_clipped_105) (tL_ok en_X0_clipped_106)) (tN_ok (tL_ok en_X0_clipped_109) (tN_ok (tL_ok en_X0_clipped_110) (tL_ok en_X0_clipped_111))))) (tN_ok (tN_ok (tN_ok (tL_ok en_X0_clipped_114) (tL_ok en_X0_clipped_115)) (tN_ok (tL_ok en_X0_clipped_116) (tN_ok (tL_ok en_X0_clipped_119) (tL_ok en_X0_clipped_120)))) (tN_ok (tN_ok (tL_ok en_X0_clipped_123) (tL_ok en_X0_clipped_124)) (tN_ok (tL_ok en_X0_clipped_125) (tN_ok (tL_ok en_X0_clipped_128) (tL_ok en_X0_clipped_129))))))))
theorem en_X0_init_0 : SndE EE S mi_X0_init 0 (.inl (e_lda 1 0)) := sn_aload_n dX0_init_0 rfl rfl
theorem en_X0_init_1 : SndE EE S mi_X0_init 1 (.inl (e_oin 4)) := sn_oin dX0_init_1 rfl q620 q127 q128
theorem en_X0_init_4 : SndE EE S mi_X0_init 4 (.inl (e_lda 5 0)) := sn_aload_n dX0_init_4 rfl rfl
theorem en_X0_init_5 : SndE EE S mi_X0_init 5 (.inl (e_psh 7 (.int (24)))) := sn_bipush dX0_init_5 rfl rfl
theorem en_X0_init_7 : SndE EE S mi_X0_init 7 (.inl (e_newa 9 1)) := sn_newa (t0 := 0) dX0_init_7 rfl rfl q190 (by decide) (by decide) (fun _ => rfl) (fun _ _ h => h) (by decide) rfl
theorem en_X0_init_9 : SndE EE S mi_X0_init 9 (.inl (e_pR 12 0 0)) := sn_pR dX0_init_9 rfl cl_0 (by decide) rfl (Or.inl ⟨q650, Or.inr ⟨rfl, rfl, rfl⟩⟩) (Or.inl rfl) (fun _ => ⟨rfl, rfl⟩)
theorem en_X0_init_12 : SndE EE S mi_X0_init 12 (.inl (e_lda 13 0)) := sn_aload_n dX0_init_12 rfl rfl
theorem en_X0_init_13 : SndE EE S mi_X0_init 13 (.inl (e_new 16 1 4)) := sn_new dX0_init_13 rfl cl_1 (by decide +kernel) q621 q163 q55 (by decide)
theorem en_X0_init_16 : SndE EE S mi_X0_init 16 (.inl (e_dup 17)) := sn_dup dX0_init_16 rfl
theorem en_X0_init_17 : SndE EE S mi_X0_init 17 (.inr (.inl (d_cls 1 45, 1, 3))) := sc_initN ctr_cls dX0_init_17 mo_X1_init nmo_X1_init rfl (fun G s h => h.1 _ nwm_q622) q165 q166
theorem en_X0_init_20 : SndE EE S mi_X0_init 20 (.inl (e_pR 23 0 4)) := sn_pR dX0_init_20 rfl cl_0 (by decide) rfl (Or.inl ⟨q654, Or.inl rfl⟩) (Or.inl rfl) (fun _ => ⟨rfl, rfl⟩)
theorem en_X0_init_23 : SndE EE S mi_X0_init 23 (.inl (e_lda 24 0)) := sn_aload_n dX0_init_23 rfl rfl
theorem en_X0_init_24 : SndE EE S mi_X0_init 24 (.inl (e_psh 25 (.int (-1)))) := sn_iconst dX0_init_24 rfl rfl
theorem en_X0_init_25 : SndE EE S mi_X0_init 25 (.inl (e_pI 28 0 6)) := sn_pI dX0_init_25 rfl cl_0 (by decide) rfl (Or.inl ⟨q656, Or.inl rfl⟩) (Or.inl rfl) (fun _ => ⟨rfl, rfl⟩)
theorem en_X0_init_28 : SndE EE S mi_X0_init 28 (.inl (e_lda 29 0)) := sn_aload_n dX0_init_28 rfl rfl
theorem en_X0_init_29 : SndE EE S mi_X0_init 29 (.inl (e_psh 32 (.int (600)))) := sn_sipush dX0_init_29 rfl rfl
theorem en_X0_init_32 : SndE EE S mi_X0_init 32 (.inl (e_newa 34 2)) := sn_newa (t0 := 1) dX0_init_32 rfl rfl q426 (by decide) (by decide) (fun _ => rfl) (fun _ _ h => h) (by decide) rfl
theorem en_X0_init_34 : SndE EE S mi_X0_init 34 (.inl (e_pR 37 0 7)) := sn_pR dX0_init_34 rfl cl_0 (by decide) rfl (Or.inl ⟨q657, Or.inr ⟨rfl, rfl, rfl⟩⟩) (Or.inl rfl) (fun _ => ⟨rfl, rfl⟩)
theorem en_X0_init_37 : SndE EE S mi_X0_init 37 (.inl (e_lda 38 0)) := sn_aload_n dX0_init_37 rfl rfl
theorem en_X0_init_38 : SndE EE S mi_X0_init 38 (.inl (e_psh 41 (.int (300)))) := sn_sipush dX0_init_38 rfl rfl
theorem en_X0_init_41 : SndE EE S mi_X0_init 41 (.inl (e_newa 43 2)) := sn_newa (t0 := 1) dX0_init_41 rfl rfl q426 (by decide) (by decide) (fun _ => rfl) (fun _ _ h => h) (by decide) rfl
theorem en_X0_init_43 : SndE EE S mi_X0_init 43 (.inl (e_pR 46 0 9)) := sn_pR dX0_init_43 rfl cl_0 (by decide) rfl (Or.inl ⟨q659, Or.inr ⟨rfl, rfl, rfl⟩⟩) (Or.inl rfl) (fun _ => ⟨rfl, rfl⟩)
theorem en_X0_init_46 : SndE EE S mi_X0_init 46 (.inl (e_lda 47 0)) := sn_aload_n dX0_init_46 rfl rfl
theorem en_X0_init_47 : SndE EE S mi_X0_init 47 (.inl (e_psh 48 (.int (1)))) := sn_iconst dX0_init_47 rfl rfl
theorem en_X0_init_48 : SndE EE S mi_X0_init 48 (.inl (e_pI 51 0 12)) := sn_pI dX0_init_48 rfl cl_0 (by decide) rfl (Or.inl ⟨q662, Or.inl rfl⟩) (Or.inl rfl) (fun _ => ⟨rfl, rfl⟩)
theorem en_X0_init_51 : SndE EE S mi_X0_init 51 (.inl (e_lda 52 0)) := sn_aload_n dX0_init_51 rfl rfl
theorem en_X0_init_52 : SndE EE S mi_X0_init 52 (.inl (e_new 55 2 5)) := sn_new dX0_init_52 rfl cl_2 (by decide +kernel) q623 q624 q56 (by decide)
theorem en_X0_init_55 : SndE EE S mi_X0_init 55 (.inl (e_dup 56)) := sn_dup dX0_init_55 rfl
theorem en_X0_init_56 : SndE EE S mi_X0_init 56 (.inr (.inl (d_cls 2 46, 1, 3))) := sc_initN ctr_cls dX0_init_56 mo_X2_init nmo_X2_init rfl (fun G s h => h.1 _ nwm_q625) q626 q627
theorem en_X0_init_59 : SndE EE S mi_X0_init 59 (.inl (e_pR 62 0 13)) := sn_pR dX0_init_59 rfl cl_0 (by decide) rfl (Or.inl ⟨q663, Or.inr ⟨rfl, rfl, rfl⟩⟩) (Or.inl rfl) (fun _ => ⟨rfl, rfl⟩)
theorem en_X0_init_62 : SndE EE S mi_X0_init 62 (.inl (e_lda 63 0)) := sn_aload_n dX0_init_62 rfl rfl
theorem en_X0_init_63 : SndE EE S mi_X0_init 63 (.inl (e_psh 66 (.int (301)))) := sn_sipush dX0_init_63 rfl rfl
theorem en_X0_init_66 : SndE EE S mi_X0_init 66 (.inl (e_newa 68 1)) := sn_newa (t0 := 0) dX0_init_66 rfl rfl q190 (by decide) (by decide) (fun _ => rfl) (fun _ _ h => h) (by decide) rfl
theorem en_X0_init_68 : SndE EE S mi_X0_init 68 (.inl (e_pR 71 0 14)) := sn_pR dX0_init_68 rfl cl_0 (by decide) rfl (Or.inl ⟨q664, Or.inr ⟨rfl, rfl, rfl⟩⟩) (Or.inl rfl) (fun _ => ⟨rfl, rfl⟩)
theorem en_X0_init_71 : SndE EE S mi_X0_init 71 (.inl (e_lda 72 0)) := sn_aload_n dX0_init_71 rfl rfl
theorem en_X0_init_72 : SndE EE S mi_X0_init 72 (.inl (e_psh 75 (.int (301)))) := sn_sipush dX0_init_72 rfl rfl
theorem en_X0_init_75 : SndE EE S mi_X0_init 75 (.inl (e_newa 77 1)) := sn_newa (t0 := 0) dX0_init_75 rfl rfl q190 (by decide) (by decide) (fun _ => rfl) (fun _ _ h => h) (by decide) rfl
theorem en_X0_init_77 : SndE EE S mi_X0_init 77 (.inl (e_pR 80 0 15)) := sn_pR dX0_init_77 rfl cl_0 (by decide) rfl (Or.inl ⟨q665, Or.inr ⟨rfl, rfl, rfl⟩⟩) (Or.inl rfl) (fun _ => ⟨rfl, rfl⟩)
theorem en_X0_init_80 : SndE EE S mi_X0_init 80 (.inl (e_lda 81 0)) := sn_aload_n dX0_init_80 rfl rfl
theorem en_X0_init_81 : SndE EE S mi_X0_init 81 (.inl (e_psh 84 (.int (301)))) := sn_sipush dX0_init_81 rfl rfl
theorem en_X0_init_84 : SndE EE S mi_X0_init 84 (.inl (e_newa 86 1)) := sn_newa (t0 := 0) dX0_init_84 rfl rfl q190 (by decide) (by decide) (fun _ => rfl) (fun _ _ h => h) (by decide) rfl
theorem en_X0_init_86 : SndE EE S mi_X0_init 86 (.inl (e_pR 89 0 16)) := sn_pR dX0_init_86 rfl cl_0 (by decide) rfl (Or.inl ⟨q666, Or.inr ⟨rfl, rfl, rfl⟩⟩) (Or.inl rfl) (fun _ => ⟨rfl, rfl⟩)
theorem en_X0_init_89 : SndE EE S mi_X0_init 89 (.inl (e_lda 90 0)) := sn_aload_n dX0_init_89 rfl rfl
theorem en_X0_init_90 : SndE EE S mi_X0_init 90 (.inl (e_psh 93 (.int (301)))) := sn_sipush dX0_init_90 rfl rfl
theorem en_X0_init_93 : SndE EE S mi_X0_init 93 (.inl (e_newa 95 1)) := sn_newa (t0 := 0) dX0_init_93 rfl rfl q190 (by decide) (by decide) (fun _ => rfl) (fun _ _ h => h) (by decide) rfl
theorem en_X0_init_95 : SndE EE S mi_X0_init 95 (.inl (e_pR 98 0 17)) := sn_pR dX0_init_95 rfl cl_0 (by decide) rfl (Or.inl ⟨q667, Or.inr ⟨rfl, rfl, rfl⟩⟩) (Or.inl rfl) (fun _ => ⟨rfl, rfl⟩)
theorem en_X0_init_98 : SndE EE S mi_X0_init 98 (.inl (e_lda 99 0)) := sn_aload_n dX0_init_98 rfl rfl
theorem en_X0_init_99 : SndE EE S mi_X0_init 99 (.inl (e_psh 101 (.int (6)))) := sn_bipush dX0_init_99 rfl rfl
theorem en_X0_init_101 : SndE EE S mi_X0_init 101 (.inl (e_newa 103 1)) := sn_newa (t0 := 0) dX0_init_101 rfl rfl q190 (by decide) (by decide) (fun _ => rfl) (fun _ _ h => h) (by decide) rfl
theorem en_X0_init_103 : SndE EE S mi_X0_init 103 (.inl (e_pR 106 0 19)) := sn_pR dX0_init_103 rfl cl_0 (by decide) rfl (Or.inl ⟨q669, Or.inr ⟨rfl, rfl, rfl⟩⟩) (Or.inl rfl) (fun _ => ⟨rfl, rfl⟩)
theorem en_X0_init_106 : SndE EE S mi_X0_init 106 (.inl (e_lda 107 0)) := sn_aload_n dX0_init_106 rfl rfl
theorem en_X0_init_107 : SndE EE S mi_X0_init 107 (.inl (e_psh 109 (.int (6)))) := sn_bipush dX0_init_107 rfl rfl
theorem en_X0_init_109 : SndE EE S mi_X0_init 109 (.inl (e_newa 111 1)) := sn_newa (t0 := 0) dX0_init_109 rfl rfl q190 (by decide) (by decide) (fun _ => rfl) (fun _ _ h => h) (by decide) rfl
theorem en_X0_init_111 : SndE EE S mi_X0_init 111 (.inl (e_pR 114 0 20)) := sn_pR dX0_init_111 rfl cl_0 (by decide) rfl (Or.inl ⟨q670, Or.inr ⟨rfl, rfl, rfl⟩⟩) (Or.inl rfl) (fun _ => ⟨rfl, rfl⟩)
theorem en_X0_init_114 : SndE EE S mi_X0_init 114 (.inl (e_lda 115 0)) := sn_aload_n dX0_init_114 rfl rfl
theorem en_X0_init_115 : SndE EE S mi_X0_init 115 (.inl (e_psh 117 (.int (6)))) := sn_bipush dX0_init_115 rfl rfl
theorem en_X0_init_117 : SndE EE S mi_X0_init 117 (.inl (e_newa 119 1)) := sn_newa (t0 := 0) dX0_init_117 rfl rfl q190 (by decide) (by decide) (fun _ => rfl) (fun _ _ h => h) (by decide) rfl
theorem en_X0_init_119 : SndE EE S mi_X0_init 119 (.inl (e_pR 122 0 21)) := sn_pR dX0_init_119 rfl cl_0 (by decide) rfl (Or.inl ⟨q671, Or.inr ⟨rfl, rfl, rfl⟩⟩) (Or.inl rfl) (fun _ => ⟨rfl, rfl⟩)
theorem en_X0_init_122 : SndE EE S mi_X0_init 122 (.inl (e_lda 123 0)) := sn_aload_n dX0_init_122 rfl rfl
theorem en_X0_init_123 : SndE EE S mi_X0_init 123 (.inl (e_psh 125 (.int (6)))) := sn_bipush dX0_init_123 rfl rfl
theorem en_X0_init_125 : SndE EE S mi_X0_init 125 (.inl (e_newa 127 3)) := sn_newa (t0 := 2) dX0_init_125 rfl rfl q756 (by decide) (by decide) (fun _ => rfl) (fun _ _ h => h) (by decide) rfl
theorem en_X0_init_127 : SndE EE S mi_X0_init 127 (.inl (e_pR 130 0 22)) := sn_pR dX0_init_127 rfl cl_0 (by decide) rfl (Or.inl ⟨q672, Or.inr ⟨rfl, rfl, rfl⟩⟩) (Or.inl rfl) (fun _ => ⟨rfl, rfl⟩)
theorem en_X0_init_130 : SndE EE S mi_X0_init 130 (.inl (e_lda 131 0)) := sn_aload_n dX0_init_130 rfl rfl
theorem en_X0_init_131 : SndE EE S mi_X0_init 131 (.inl (e_psh 133 (.int (10)))) := sn_bipush dX0_init_131 rfl rfl
theorem en_X0_init_133 : SndE EE S mi_X0_init 133 (.inl (e_newa 135 1)) := sn_newa (t0 := 0) dX0_init_133 rfl rfl q190 (by decide) (by decide) (fun _ => rfl) (fun _ _ h => h) (by decide) rfl
theorem en_X0_init_135 : SndE EE S mi_X0_init 135 (.inl (e_pR 138 0 23)) := sn_pR dX0_init_135 rfl cl_0 (by decide) rfl (Or.inl ⟨q673, Or.inr ⟨rfl, rfl, rfl⟩⟩) (Or.inl rfl) (fun _ => ⟨rfl, rfl⟩)
theorem en_X0_init_138 : SndE EE S mi_X0_init 138 (.inl (e_lda 139 0)) := sn_aload_n dX0_init_138 rfl rfl
theorem en_X0_init_139 : SndE EE S mi_X0_init 139 (.inl (e_psh 141 (.int (10)))) := sn_bipush dX0_init_139 rfl rfl
theorem en_X0_init_141 : SndE EE S mi_X0_init 141 (.inl (e_newa 143 1)) := sn_newa (t0 := 0) dX0_init_141 rfl rfl q190 (by decide) (by decide) (fun _ => rfl) (fun _ _ h => h) (by decide) rfl
theorem en_X0_init_143 : SndE EE S mi_X0_init 143 (.inl (e_pR 146 0 24)) := sn_pR dX0_init_143 rfl cl_0 (by decide) rfl (Or.inl ⟨q674, Or.inr ⟨rfl, rfl, rfl⟩⟩) (Or.inl rfl) (fun _ => ⟨rfl, rfl⟩)
theorem en_X0_init_146 : SndE EE S mi_X0_init 146 (.inl (e_lda 147 0)) := sn_aload_n dX0_init_146 rfl rfl
theorem en_X0_init_147 : SndE EE S mi_X0_init 147 (.inl (e_psh 148 (.int (1)))) := sn_iconst dX0_init_147 rfl rfl
theorem en_X0_init_148 : SndE EE S mi_X0_init 148 (.inl (e_pI 151 0 26)) := sn_pI dX0_init_148 rfl cl_0 (by decide) rfl (Or.inl ⟨q676, Or.inl rfl⟩) (Or.inl rfl) (fun _ => ⟨rfl, rfl⟩)
theorem en_X0_init_151 : SndE EE S mi_X0_init 151 (.inl (e_lda 152 0)) := sn_aload_n dX0_init_151 rfl rfl
theorem en_X0_init_152 : SndE EE S mi_X0_init 152 (.inl (e_psh 154 (.int (10)))) := sn_bipush dX0_init_152 rfl rfl
theorem en_X0_init_154 : SndE EE S mi_X0_init 154 (.inl (e_pI 157 0 27)) := sn_pI dX0_init_154 rfl cl_0 (by decide) rfl (Or.inl ⟨q677, Or.inl rfl⟩) (Or.inl rfl) (fun _ => ⟨rfl, rfl⟩)
theorem en_X0_init_157 : SndE EE S mi_X0_init 157 (.inl (e_lda 158 0)) := sn_aload_n dX0_init_157 rfl rfl
theorem en_X0_init_158 : SndE EE S mi_X0_init 158 (.inl (e_psh 159 (.int (1)))) := sn_iconst dX0_init_158 rfl rfl
theorem en_X0_init_159 : SndE EE S mi_X0_init 159 (.inl (e_pI 162 0 28)) := sn_pI dX0_init_159 rfl cl_0 (by decide) rfl (Or.inl ⟨q678, Or.inl rfl⟩) (Or.inl rfl) (fun _ => ⟨rfl, rfl⟩)
theorem en_X0_init_162 : SndE EE S mi_X0_init 162 (.inl (e_lda 163 0)) := sn_aload_n dX0_init_162 rfl rfl
theorem en_X0_init_163 : SndE EE S mi_X0_init 163 (.inl (e_psh 165 (.int (60)))) := sn_bipush dX0_init_163 rfl rfl
theorem en_X0_init_165 : SndE EE S mi_X0_init 165 (.inl (e_pI 168 0 29)) := sn_pI dX0_init_165 rfl cl_0 (by decide) rfl (Or.inl ⟨q679, Or.inl rfl⟩) (Or.inl rfl) (fun _ => ⟨rfl, rfl⟩)
theorem en_X0_init_168 : SndE EE S mi_X0_init 168 (.inl (e_lda 169 0)) := sn_aload_n dX0_init_168 rfl rfl
theorem en_X0_init_169 : SndE EE S mi_X0_init 169 (.inl (e_psh 172 (.int (1024)))) := sn_sipush dX0_init_169 rfl rfl
theorem en_X0_init_172 : SndE EE S mi_X0_init 172 (.inl (e_newa 174 1)) := sn_newa (t0 := 0) dX0_init_172 rfl rfl q190 (by decide) (by decide) (fun _ => rfl) (fun _ _ h => h) (by decide) rfl
theorem en_X0_init_174 : SndE EE S mi_X0_init 174 (.inl (e_pR 177 0 30)) := sn_pR dX0_init_174 rfl cl_0 (by decide) rfl (Or.inl ⟨q680, Or.inr ⟨rfl, rfl, rfl⟩⟩) (Or.inl rfl) (fun _ => ⟨rfl, rfl⟩)
theorem en_X0_init_177 : SndE EE S mi_X0_init 177 (.inl (e_lda 178 0)) := sn_aload_n dX0_init_177 rfl rfl
theorem en_X0_init_178 : SndE EE S mi_X0_init 178 (.inl (e_psh 180 (.int (10)))) := sn_bipush dX0_init_178 rfl rfl
theorem en_X0_init_180 : SndE EE S mi_X0_init 180 (.inl (e_newa 182 1)) := sn_newa (t0 := 0) dX0_init_180 rfl rfl q190 (by decide) (by decide) (fun _ => rfl) (fun _ _ h => h) (by decide) rfl
theorem en_X0_init_182 : SndE EE S mi_X0_init 182 (.inl (e_pR 185 0 31)) := sn_pR dX0_init_182 rfl cl_0 (by decide) rfl (Or.inl ⟨q681, Or.inr ⟨rfl, rfl, rfl⟩⟩) (Or.inl rfl) (fun _ => ⟨rfl, rfl⟩)
theorem en_X0_init_185 : SndE EE S mi_X0_init 185 (.inl (e_lda 186 0)) := sn_aload_n dX0_init_185 rfl rfl
theorem en_X0_init_186 : SndE EE S mi_X0_init 186 (.inl (e_psh 188 (.int (10)))) := sn_bipush dX0_init_186 rfl rfl
theorem en_X0_init_188 : SndE EE S mi_X0_init 188 (.inl (e_newa 190 1)) := sn_newa (t0 := 0) dX0_init_188 rfl rfl q190 (by decide) (by decide) (fun _ => rfl) (fun _ _ h => h) (by decide) rfl
theorem en_X0_init_190 : SndE EE S mi_X0_init 190 (.inl (e_pR 193 0 32)) := sn_pR dX0_init_190 rfl cl_0 (by decide) rfl (Or.inl ⟨q682, Or.inr ⟨rfl, rfl, rfl⟩⟩) (Or.inl rfl) (fun _ => ⟨rfl, rfl⟩)
theorem en_X0_init_193 : SndE EE S mi_X0_init 193 (.inl (e_psh 194 (.int (0)))) := sn_iconst dX0_init_193 rfl rfl
theorem en_X0_init_194 : SndE EE S mi_X0_init 194 (.inl (e_sti 195 1)) := sn_istore_n dX0_init_194 rfl rfl rfl (by decide)
theorem en_X0_init_195 : SndE EE S mi_X0_init 195 (.inl (e_ldi 196 1)) := sn_iload_n dX0_init_195 rfl rfl
theorem en_X0_init_196 : SndE EE S mi_X0_init 196 (.inl (e_psh 198 (.int (6)))) := sn_bipush dX0_init_196 rfl rfl
theorem en_X0_init_198 : SndE EE S mi_X0_init 198 (.inl (e_ige 201 229)) := sn_ige dX0_init_198 rfl (by decide)
theorem en_X0_init_201 : SndE EE S mi_X0_init 201 (.inl (e_lda 202 0)) := sn_aload_n dX0_init_201 rfl rfl
theorem en_X0_init_202 : SndE EE S mi_X0_init 202 (.inl (e_gR 205 0 19)) := sn_gR dX0_init_202 rfl cl_0 (by decide) rfl (Or.inl q669) (Or.inl rfl)
theorem en_X0_init_205 : SndE EE S mi_X0_init 205 (.inl (e_ldi 206 1)) := sn_iload_n dX0_init_205 rfl rfl
theorem en_X0_init_206 : SndE EE S mi_X0_init 206 (.inl (e_psh 208 (.int (10)))) := sn_bipush dX0_init_206 rfl rfl
theorem en_X0_init_208 : SndE EE S mi_X0_init 208 (.inl (e_iast 209)) := sn_iast dX0_init_208 rfl
theorem en_X0_init_209 : SndE EE S mi_X0_init 209 (.inl (e_lda 210 0)) := sn_aload_n dX0_init_209 rfl rfl
theorem en_X0_init_210 : SndE EE S mi_X0_init 210 (.inl (e_gR 213 0 21)) := sn_gR dX0_init_210 rfl cl_0 (by decide) rfl (Or.inl q671) (Or.inl rfl)
theorem en_X0_init_213 : SndE EE S mi_X0_init 213 (.inl (e_ldi 214 1)) := sn_iload_n dX0_init_213 rfl rfl
theorem en_X0_init_214 : SndE EE S mi_X0_init 214 (.inl (e_psh 215 (.int (1)))) := sn_iconst dX0_init_214 rfl rfl
theorem en_X0_init_215 : SndE EE S mi_X0_init 215 (.inl (e_iast 216)) := sn_iast dX0_init_215 rfl
theorem en_X0_init_216 : SndE EE S mi_X0_init 216 (.inl (e_lda 217 0)) := sn_aload_n dX0_init_216 rfl rfl
theorem en_X0_init_217 : SndE EE S mi_X0_init 217 (.inl (e_gR 220 0 22)) := sn_gR dX0_init_217 rfl cl_0 (by decide) rfl (Or.inl q672) (Or.inl rfl)
theorem en_X0_init_220 : SndE EE S mi_X0_init 220 (.inl (e_ldi 221 1)) := sn_iload_n dX0_init_220 rfl rfl
theorem en_X0_init_221 : SndE EE S mi_X0_init 221 (.inl (e_psh 222 (.int (1)))) := sn_iconst dX0_init_221 rfl rfl
theorem en_X0_init_222 : SndE EE S mi_X0_init 222 (.inl (e_zast 223)) := sn_zast dX0_init_222 rfl
theorem en_X0_init_223 : SndE EE S mi_X0_init 223 (.inl (e_inc 226 1 (1))) := sn_iinc dX0_init_223 rfl rfl rfl (by decide)
theorem en_X0_init_226 : SndE EE S mi_X0_init 226 (.inl (e_goto 195)) := sn_goto dX0_init_226 (by decide)
theorem en_X0_init_229 : SndE EE S mi_X0_init 229 (.inr (.inr 0)) := ⟨dX0_init_229, rfl⟩
theorem sd_X0_init : ∀ pc x, cd_X0_init pc = some x → SndE EE S mi_X0_init pc x := (tN_ok (tN_ok (tN_ok (tN_ok (tN_ok (tN_ok (tL_ok en_X0_init_0) (tN_ok (tL_ok en_X0_init_1) (tL_ok en_X0_init_4))) (tN_ok (tN_ok (tL_ok en_X0_init_5) (tL_ok en_X0_init_7)) (tN_ok (tL_ok en_X0_init_9) (tL_ok en_X0_init_12)))) (tN_ok (tN_ok (tL_ok en_X0_init_13) (tN_ok (tL_ok en_X0_init_16) (tL_ok en_X0_init_17))) (tN_ok (tN_ok (tL_ok en_X0_init_20) (tL_ok en_X0_init_23)) (tN_ok (tL_ok en_X0_init_24) (tL_ok en_X0_init_25))))) (tN_ok (tN_ok (tN_ok (tL_ok en_X0_init_28) (tN_ok (tL_ok en_X0_init_29) (tL_ok en_X0_init_32))) (tN_ok (tN_ok (tL_ok en_X0_init_34) (tL_ok en_X0_init_37)) (tN_ok (tL_ok en_X0_init_38) (tL_ok en_X0_init_41)))) (tN_ok (tN_ok (tN_ok (tL_ok en_X0_init_43) (tL_ok en_X0_init_46)) (tN_ok (tL_ok en_X0_init_47) (tL_ok en_X0_init_48))) (tN_ok (tN_ok (tL_ok en_X0_init_51) (tL_ok en_X0_init_52)) (tN_ok (tL_ok en_X0_init_55) (tL_ok en_X0_init_56)))))) (tN_ok (tN_ok (tN_ok (tN_ok (tL_ok en_X0_init_59) (tN_ok (tL_ok en_X0_init_62) (tL_ok en_X0_init_63))) (tN_ok (tN_ok (tL_ok en_X0_init_66) (tL_ok en_X0_init_68)) (tN_ok (tL_ok en_X0_init_71) (tL_ok en_X0_init_72)))) (tN_ok (tN_ok (tL_ok en_X0_init_75) (tN_ok (tL_ok en_X0_init_77) (tL_ok en_X0_init_80))) (tN_ok (tN_ok (tL_ok en_X0_init_81) (tL_ok en_X0_init_84)) (tN_ok (tL_ok en_X0_init_86) (tL_ok en_X0_init_89))))) (tN_ok (tN_ok (tN_ok (tL_ok en_X0_init_90) (tN_ok (tL_ok en_X0_init_93) (tL_ok en_X0_init_95))) (tN_ok (tN_ok (tL_ok en_X0_init_98) (tL_ok en_X0_init_99)) (tN_ok (tL_ok en_X0_init_101) (tL_ok en_X0_init_103)))) (tN_ok (tN_ok (tN_ok (tL_ok en_X0_init_106) (tL_ok en_X0_init_107)) (tN_ok (tL_ok en_X0_init_109) (tL_ok en_X0_init_111))) (tN_ok (tN_ok (tL_ok en_X0_init_114) (tL_ok en_X0_init_115)) (tN_ok (tL_ok en_X0_init_117) (tL_ok en_X0_init_119))))))) (tN_ok (tN_ok (tN_ok (tN_ok (tN_ok (tL_ok en_X0_init_122) (tN_ok (tL_ok en_X0_init_123) (tL_ok en_X0_init_125))) (tN_ok (tN_ok (tL_ok en_X0_init_127) (tL_ok en_X0_init_130)) (tN_ok (tL_ok en_X0_init_131) (tL_ok en_X0_init_133)))) (tN_ok (tN_ok (tL_ok en_X0_init_135) (tN_ok (tL_ok en_X0_init_138) (tL_ok en_X0_init_139))) (tN_ok (tN_ok (tL_ok en_X0_init_141) (tL_ok en_X0_init_143)) (tN_ok (tL_ok en_X0_init_146) (tL_ok en_X0_init_147))))) (tN_ok (tN_ok (tN_ok (tL_ok en_X0_init_148) (tN_ok (tL_ok en_X0_init_151) (tL_ok en_X0_init_152))) (tN_ok (tN_ok (tL_ok en_X0_init_154) (tL_ok en_X0_init_157)) (tN_ok (tL_ok en_X0_init_158) (tL_ok en_X0_init_159)))) (tN_ok (tN_ok (tN_ok (tL_ok en_X0_init_162) (tL_ok en_X0_init_163)) (tN_ok (tL_ok en_X0_init_165) (tL_ok en_X0_init_168))) (tN_ok (tN_ok (tL_ok en_X0_init_169) (tL_ok en_X0_init_172)) (tN_ok (tL_ok en_X0_init_174) (tL_ok en_X0_init_177)))))) (tN_ok (tN_ok (tN_ok (tN_ok (tL_ok en_X0_init_178) (tN_ok (tL_ok en_X0_init_180) (tL_ok en_X0_init_182))) (tN_ok (tN_ok (tL_ok en_X0_init_185) (tL_ok en_X0_init_186)) (tN_ok (tL_ok en_X0_init_188) (tL_ok en_X0_init_190)))) (tN_ok (tN_ok (tN_ok (tL_ok en_X0_init_193) (tL_ok en_X0_init_194)) (tN_ok (tL_ok en_X0_init_195) (tL_ok en_X0_init_196))) (tN_ok (tN_ok (tL_ok en_X0_init_198) (tL_ok en_X0_init_201)) (tN_ok (tL_ok en_X0_init_202) (tL_ok en_X0_init_205))))) (tN_ok (tN_ok (tN_ok (tL_ok en_X0_init_206) (tN_ok (tL_ok en_X0_init_208) (tL_ok en_X0_init_209))) (tN_ok (tN_ok (tL_ok en_X0_init_210) (tL_ok en_X0_init_213)) (tN_ok (tL_ok en_X0_init_214) (tL_ok en_X0_init_215)))) (tN_ok (tN_ok (tN_ok (tL_ok en_X0_init_216) (tL_ok en_X0_init_217)) (tN_ok (tL_ok en_X0_init_220) (tL_ok en_X0_init_221))) (tN_ok (tN_ok (tL_ok en_X0_init_222) (tL_ok en_X0_init_223)) (tN_ok (tL_ok en_X0_init_226) (tL_ok en_X0_init_229))))))))
theorem en_X0_veneer_0 : SndE EE S mi_X0_veneer 0 (.inl (e_ldi 1 1)) := sn_iload_n dX0_veneer_0 rfl rfl
theorem en_X0_veneer_1 : SndE EE S mi_X0_veneer 1 (.inl (e_zlt 4 49)) := sn_zlt dX0_veneer_1 rfl (by decide)
theorem en_X0_veneer_4 : SndE EE S mi_X0_veneer 4 (.inl (e_ldi 5 1)) := sn_iload_n dX0_veneer_4 rfl rfl
theorem en_X0_veneer_5 : SndE EE S mi_X0_veneer 5 (.inl (e_psh 7 (.int (6)))) := sn_bipush dX0_veneer_5 rfl rfl
theorem en_X0_veneer_7 : SndE EE S mi_X0_veneer 7 (.inl (e_ige 10 49)) := sn_ige dX0_veneer_7 rfl (by decide)
theorem en_X0_veneer_10 : SndE EE S mi_X0_veneer 10 (.inl (e_ldi 11 2)) := sn_iload_n dX0_veneer_10 rfl rfl
theorem en_X0_veneer_11 : SndE EE S mi_X0_veneer 11 (.inl (e_psh 12 (.int (1)))) := sn_iconst dX0_veneer_11 rfl rfl
theorem en_X0_veneer_12 : SndE EE S mi_X0_veneer 12 (.inl (e_ilt 15 49)) := sn_ilt dX0_veneer_12 rfl (by decide)
theorem en_X0_veneer_15 : SndE EE S mi_X0_veneer 15 (.inl (e_ldi 16 2)) := sn_iload_n dX0_veneer_15 rfl rfl
theorem en_X0_veneer_16 : SndE EE S mi_X0_veneer 16 (.inl (e_psh 18 (.int (90)))) := sn_bipush dX0_veneer_16 rfl rfl
theorem en_X0_veneer_18 : SndE EE S mi_X0_veneer 18 (.inl (e_igt 21 49)) := sn_igt dX0_veneer_18 rfl (by decide)
theorem en_X0_veneer_21 : SndE EE S mi_X0_veneer 21 (.inl (e_ldi 22 3)) := sn_iload_n dX0_veneer_21 rfl rfl
theorem en_X0_veneer_22 : SndE EE S mi_X0_veneer 22 (.inl (e_zlt 25 49)) := sn_zlt dX0_veneer_22 rfl (by decide)
theorem en_X0_veneer_25 : SndE EE S mi_X0_veneer 25 (.inl (e_ldi 26 3)) := sn_iload_n dX0_veneer_25 rfl rfl
theorem en_X0_veneer_26 : SndE EE S mi_X0_veneer 26 (.inl (e_psh 28 (.int (20)))) := sn_bipush dX0_veneer_26 rfl rfl
theorem en_X0_veneer_28 : SndE EE S mi_X0_veneer 28 (.inl (e_igt 31 49)) := sn_igt dX0_veneer_28 rfl (by decide)
theorem en_X0_veneer_31 : SndE EE S mi_X0_veneer 31 (.inl (e_ldi 32 3)) := sn_iload_n dX0_veneer_31 rfl rfl
theorem en_X0_veneer_32 : SndE EE S mi_X0_veneer 32 (.inl (e_ldi 33 2)) := sn_iload_n dX0_veneer_32 rfl rfl
theorem en_X0_veneer_33 : SndE EE S mi_X0_veneer 33 (.inl (e_igt 36 49)) := sn_igt dX0_veneer_33 rfl (by decide)
theorem en_X0_veneer_36 : SndE EE S mi_X0_veneer 36 (.inl (e_ldi 38 4)) := sn_iload dX0_veneer_36 rfl
theorem en_X0_veneer_38 : SndE EE S mi_X0_veneer 38 (.inl (e_zlt 41 49)) := sn_zlt dX0_veneer_38 rfl (by decide)
theorem en_X0_veneer_41 : SndE EE S mi_X0_veneer 41 (.inl (e_ldi 43 4)) := sn_iload dX0_veneer_41 rfl
theorem en_X0_veneer_43 : SndE EE S mi_X0_veneer 43 (.inl (e_psh 46 (.int (1000)))) := sn_sipush dX0_veneer_43 rfl rfl
theorem en_X0_veneer_46 : SndE EE S mi_X0_veneer 46 (.inl (e_ile 49 51)) := sn_ile dX0_veneer_46 rfl (by decide)
theorem en_X0_veneer_49 : SndE EE S mi_X0_veneer 49 (.inl (e_psh 50 (.int (0)))) := sn_iconst dX0_veneer_49 rfl rfl
theorem en_X0_veneer_50 : SndE EE S mi_X0_veneer 50 (.inr (.inr 2)) := ⟨dX0_veneer_50, rfl⟩
theorem en_X0_veneer_51 : SndE EE S mi_X0_veneer 51 (.inl (e_lda 52 0)) := sn_aload_n dX0_veneer_51 rfl rfl
theorem en_X0_veneer_52 : SndE EE S mi_X0_veneer 52 (.inl (e_gR 55 0 19)) := sn_gR dX0_veneer_52 rfl cl_0 (by decide) rfl (Or.inl q669) (Or.inl rfl)
theorem en_X0_veneer_55 : SndE EE S mi_X0_veneer 55 (.inl (e_ldi 56 1)) := sn_iload_n dX0_veneer_55 rfl rfl
theorem en_X0_veneer_56 : SndE EE S mi_X0_veneer 56 (.inl (e_ldi 57 2)) := sn_iload_n dX0_veneer_56 rfl rfl
theorem en_X0_veneer_57 : SndE EE S mi_X0_veneer 57 (.inl (e_iast 58)) := sn_iast dX0_veneer_57 rfl
theorem en_X0_veneer_58 : SndE EE S mi_X0_veneer 58 (.inl (e_lda 59 0)) := sn_aload_n dX0_veneer_58 rfl rfl
theorem en_X0_veneer_59 : SndE EE S mi_X0_veneer 59 (.inl (e_gR 62 0 20)) := sn_gR dX0_veneer_59 rfl cl_0 (by decide) rfl (Or.inl q670) (Or.inl rfl)
theorem en_X0_veneer_62 : SndE EE S mi_X0_veneer 62 (.inl (e_ldi 63 1)) := sn_iload_n dX0_veneer_62 rfl rfl
theorem en_X0_veneer_63 : SndE EE S mi_X0_veneer 63 (.inl (e_ldi 64 3)) := sn_iload_n dX0_veneer_63 rfl rfl
theorem en_X0_veneer_64 : SndE EE S mi_X0_veneer 64 (.inl (e_iast 65)) := sn_iast dX0_veneer_64 rfl
theorem en_X0_veneer_65 : SndE EE S mi_X0_veneer 65 (.inl (e_lda 66 0)) := sn_aload_n dX0_veneer_65 rfl rfl
theorem en_X0_veneer_66 : SndE EE S mi_X0_veneer 66 (.inl (e_gR 69 0 21)) := sn_gR dX0_veneer_66 rfl cl_0 (by decide) rfl (Or.inl q671) (Or.inl rfl)
theorem en_X0_veneer_69 : SndE EE S mi_X0_veneer 69 (.inl (e_ldi 70 1)) := sn_iload_n dX0_veneer_69 rfl rfl
theorem en_X0_veneer_70 : SndE EE S mi_X0_veneer 70 (.inl (e_ldi 72 4)) := sn_iload dX0_veneer_70 rfl
theorem en_X0_veneer_72 : SndE EE S mi_X0_veneer 72 (.inl (e_iast 73)) := sn_iast dX0_veneer_72 rfl
theorem en_X0_veneer_73 : SndE EE S mi_X0_veneer 73 (.inl (e_lda 74 0)) := sn_aload_n dX0_veneer_73 rfl rfl
theorem en_X0_veneer_74 : SndE EE S mi_X0_veneer 74 (.inl (e_gR 77 0 22)) := sn_gR dX0_veneer_74 rfl cl_0 (by decide) rfl (Or.inl q672) (Or.inl rfl)
theorem en_X0_veneer_77 : SndE EE S mi_X0_veneer 77 (.inl (e_ldi 78 1)) := sn_iload_n dX0_veneer_77 rfl rfl
theorem en_X0_veneer_78 : SndE EE S mi_X0_veneer 78 (.inl (e_ldi 80 5)) := sn_iload dX0_veneer_78 rfl
theorem en_X0_veneer_80 : SndE EE S mi_X0_veneer 80 (.inl (e_zast 81)) := sn_zast dX0_veneer_80 rfl
theorem en_X0_veneer_81 : SndE EE S mi_X0_veneer 81 (.inl (e_psh 82 (.int (1)))) := sn_iconst dX0_veneer_81 rfl rfl
theorem en_X0_veneer_82 : SndE EE S mi_X0_veneer 82 (.inr (.inr 2)) := ⟨dX0_veneer_82, rfl⟩
theorem sd_X0_veneer : ∀ pc x, cd_X0_veneer pc = some x → SndE EE S mi_X0_veneer pc x := (tN_ok (tN_ok (tN_ok (tN_ok (tN_ok (tL_ok en_X0_veneer_0) (tN_ok (tL_ok en_X0_veneer_1) (tL_ok en_X0_veneer_4))) (tN_ok (tL_ok en_X0_veneer_5) (tN_ok (tL_ok en_X0_veneer_7) (tL_ok en_X0_veneer_10)))) (tN_ok (tN_ok (tL_ok en_X0_veneer_11) (tN_ok (tL_ok en_X0_veneer_12) (tL_ok en_X0_veneer_15))) (tN_ok (tL_ok en_X0_veneer_16) (tN_ok (tL_ok en_X0_veneer_18) (tL_ok en_X0_veneer_21))))) (tN_ok (tN_ok (tN_ok (tL_ok en_X0_veneer_22) (tN_ok (tL_ok en_X0_veneer_25) (tL_ok en_X0_veneer_26))) (tN_ok (tL_ok en_X0_veneer_28) (tN_ok (tL_ok en_X0_veneer_31) (tL_ok en_X0_veneer_32)))) (tN_ok (tN_ok (tL_ok en_X0_veneer_33) (tN_ok (tL_ok en_X0_veneer_36) (tL_ok en_X0_veneer_38))) (tN_ok (tL_ok en_X0_veneer_41) (tN_ok (tL_ok en_X0_veneer_43) (tL_ok en_X0_veneer_46)))))) (tN_ok (tN_ok (tN_ok (tN_ok (tL_ok en_X0_veneer_49) (tN_ok (tL_ok en_X0_veneer_50) (tL_ok en_X0_veneer_51))) (tN_ok (tL_ok en_X0_veneer_52) (tN_ok (tL_ok en_X0_veneer_55) (tL_ok en_X0_veneer_56)))) (tN_ok (tN_ok (tL_ok en_X0_veneer_57) (tN_ok (tL_ok en_X0_veneer_58) (tL_ok en_X0_veneer_59))) (tN_ok (tL_ok en_X0_veneer_62) (tN_ok (tL_ok en_X0_veneer_63) (tL_ok en_X0_veneer_64))))) (tN_ok (tN_ok (tN_ok (tL_ok en_X0_veneer_65) (tN_ok (tL_ok en_X0_veneer_66) (tL_ok en_X0_veneer_69))) (tN_ok (tL_ok en_X0_veneer_70) (tN_ok (tL_ok en_X0_veneer_72) (tL_ok en_X0_veneer_73)))) (tN_ok (tN_ok (tL_ok en_X0_veneer_74) (tN_ok (tL_ok en_X0_veneer_77) (tL_ok en_X0_veneer_78))) (tN_ok (tL_ok en_X0_veneer_80) (tN_ok (tL_ok en_X0_veneer_81) (tL_ok en_X0_veneer_82)))))))
theorem en_X0_board_0 : SndE EE S mi_X0_board 0 (.inl (e_ldi 1 1)) := sn_iload_n dX0_board_0 rfl rfl
theorem en_X0_board_1 : SndE EE S mi_X0_board 1 (.inl (e_ldi 2 2)) := sn_iload_n dX0_board_1 rfl rfl
theorem en_X0_board_2 : SndE EE S mi_X0_board 2 (.inr (.inl (fun _ _ => some 27, 2, 3))) := sc_stat dX0_board_2 mo_X0_isBoard nmo_X0_isBoard q765 q766 q767
theorem en_X0_board_5 : SndE EE S mi_X0_board 5 (.inl (e_zne 8 10)) := sn_zne dX0_board_5 rfl (by decide)
theorem en_X0_board_8 : SndE EE S mi_X0_board 8 (.inl (e_psh 9 (.int (-1)))) := sn_iconst dX0_board_8 rfl rfl
theorem en_X0_board_9 : SndE EE S mi_X0_board 9 (.inr (.inr 1)) := ⟨dX0_board_9, rfl⟩
theorem en_X0_board_10 : SndE EE S mi_X0_board 10 (.inl (e_ldi 11 3)) := sn_iload_n dX0_board_10 rfl rfl
theorem en_X0_board_11 : SndE EE S mi_X0_board 11 (.inl (e_zne 14 24)) := sn_zne dX0_board_11 rfl (by decide)
theorem en_X0_board_14 : SndE EE S mi_X0_board 14 (.inl (e_lda 15 0)) := sn_aload_n dX0_board_14 rfl rfl
theorem en_X0_board_15 : SndE EE S mi_X0_board 15 (.inl (e_ldi 16 1)) := sn_iload_n dX0_board_15 rfl rfl
theorem en_X0_board_16 : SndE EE S mi_X0_board 16 (.inl (e_ldi 17 2)) := sn_iload_n dX0_board_16 rfl rfl
theorem en_X0_board_17 : SndE EE S mi_X0_board 17 (.inl (e_psh 18 (.int (-1)))) := sn_iconst dX0_board_17 rfl rfl
theorem en_X0_board_18 : SndE EE S mi_X0_board 18 (.inr (.inl (d_cls 0 29, 4, 3))) := sc_virt dX0_board_18 (rcv_cls (r := (RX0, TX0, 35)) rfl ⟨mo_X0_thick, nmo_X0_thick, q771, q773, qs17⟩)
theorem en_X0_board_21 : SndE EE S mi_X0_board 21 (.inl (e_goto 54)) := sn_goto dX0_board_21 (by decide)
theorem en_X0_board_24 : SndE EE S mi_X0_board 24 (.inl (e_ldi 25 3)) := sn_iload_n dX0_board_24 rfl rfl
theorem en_X0_board_25 : SndE EE S mi_X0_board 25 (.inl (e_psh 26 (.int (1)))) := sn_iconst dX0_board_25 rfl rfl
theorem en_X0_board_26 : SndE EE S mi_X0_board 26 (.inl (e_ine 29 39)) := sn_ine dX0_board_26 rfl (by decide)
theorem en_X0_board_29 : SndE EE S mi_X0_board 29 (.inl (e_lda 30 0)) := sn_aload_n dX0_board_29 rfl rfl
theorem en_X0_board_30 : SndE EE S mi_X0_board 30 (.inl (e_ldi 31 1)) := sn_iload_n dX0_board_30 rfl rfl
theorem en_X0_board_31 : SndE EE S mi_X0_board 31 (.inl (e_ldi 32 2)) := sn_iload_n dX0_board_31 rfl rfl
theorem en_X0_board_32 : SndE EE S mi_X0_board 32 (.inl (e_psh 33 (.int (1)))) := sn_iconst dX0_board_32 rfl rfl
theorem en_X0_board_33 : SndE EE S mi_X0_board 33 (.inr (.inl (d_cls 0 29, 4, 3))) := sc_virt dX0_board_33 (rcv_cls (r := (RX0, TX0, 35)) rfl ⟨mo_X0_thick, nmo_X0_thick, q771, q773, qs17⟩)
theorem en_X0_board_36 : SndE EE S mi_X0_board 36 (.inl (e_goto 54)) := sn_goto dX0_board_36 (by decide)
theorem en_X0_board_39 : SndE EE S mi_X0_board 39 (.inl (e_ldi 40 3)) := sn_iload_n dX0_board_39 rfl rfl
theorem en_X0_board_40 : SndE EE S mi_X0_board 40 (.inl (e_psh 41 (.int (2)))) := sn_iconst dX0_board_40 rfl rfl
theorem en_X0_board_41 : SndE EE S mi_X0_board 41 (.inl (e_ine 44 53)) := sn_ine dX0_board_41 rfl (by decide)
theorem en_X0_board_44 : SndE EE S mi_X0_board 44 (.inl (e_lda 45 0)) := sn_aload_n dX0_board_44 rfl rfl
theorem en_X0_board_45 : SndE EE S mi_X0_board 45 (.inl (e_ldi 46 1)) := sn_iload_n dX0_board_45 rfl rfl
theorem en_X0_board_46 : SndE EE S mi_X0_board 46 (.inl (e_ldi 47 2)) := sn_iload_n dX0_board_46 rfl rfl
theorem en_X0_board_47 : SndE EE S mi_X0_board 47 (.inr (.inl (d_cls 0 30, 3, 3))) := sc_virt dX0_board_47 (rcv_cls (r := (RX0, TX0, 35)) rfl ⟨mo_X0_price, nmo_X0_price, q775, q777, qs18⟩)
theorem en_X0_board_50 : SndE EE S mi_X0_board 50 (.inl (e_goto 54)) := sn_goto dX0_board_50 (by decide)
theorem en_X0_board_53 : SndE EE S mi_X0_board 53 (.inl (e_psh 54 (.int (-1)))) := sn_iconst dX0_board_53 rfl rfl
theorem en_X0_board_54 : SndE EE S mi_X0_board 54 (.inr (.inr 1)) := ⟨dX0_board_54, rfl⟩
theorem sd_X0_board : ∀ pc x, cd_X0_board pc = some x → SndE EE S mi_X0_board pc x := (tN_ok (tN_ok (tN_ok (tN_ok (tN_ok (tL_ok en_X0_board_0) (tL_ok en_X0_board_1)) (tN_ok (tL_ok en_X0_board_2) (tL_ok en_X0_board_5))) (tN_ok (tN_ok (tL_ok en_X0_board_8) (tL_ok en_X0_board_9)) (tN_ok (tL_ok en_X0_board_10) (tL_ok en_X0_board_11)))) (tN_ok (tN_ok (tN_ok (tL_ok en_X0_board_14) (tL_ok en_X0_board_15)) (tN_ok (tL_ok en_X0_board_16) (tL_ok en_X0_board_17))) (tN_ok (tN_ok (tL_ok en_X0_board_18) (tL_ok en_X0_board_21)) (tN_ok (tL_ok en_X0_board_24) (tL_ok en_X0_board_25))))) (tN_ok (tN_ok (tN_ok (tN_ok (tL_ok en_X0_board_26) (tL_ok en_X0_board_29)) (tN_ok (tL_ok en_X0_board_30) (tL_ok en_X0_board_31))) (tN_ok (tN_ok (tL_ok en_X0_board_32) (tL_ok en_X0_board_33)) (tN_ok (tL_ok en_X0_board_36) (tL_ok en_X0_board_39)))) (tN_ok (tN_ok (tN_ok (tL_ok en_X0_board_40) (tL_ok en_X0_board_41)) (tN_ok (tL_ok en_X0_board_44) (tL_ok en_X0_board_45))) (tN_ok (tN_ok (tL_ok en_X0_board_46) (tL_ok en_X0_board_47)) (tN_ok (tL_ok en_X0_board_50) (tN_ok (tL_ok en_X0_board_53) (tL_ok en_X0_board_54)))))))
theorem en_X0_isBoard_0 : SndE EE S mi_X0_isBoard 0 (.inl (e_ldi 1 0)) := sn_iload_n dX0_isBoard_0 rfl rfl
theorem en_X0_isBoard_1 : SndE EE S mi_X0_isBoard 1 (.inl (e_psh 2 (.int (1)))) := sn_iconst dX0_isBoard_1 rfl rfl
theorem en_X0_isBoard_2 : SndE EE S mi_X0_isBoard 2 (.inl (e_ilt 5 24)) := sn_ilt dX0_isBoard_2 rfl (by decide)
theorem en_X0_isBoard_5 : SndE EE S mi_X0_isBoard 5 (.inl (e_ldi 6 0)) := sn_iload_n dX0_isBoard_5 rfl rfl
theorem en_X0_isBoard_6 : SndE EE S mi_X0_isBoard 6 (.inl (e_psh 8 (.int (9)))) := sn_bipush dX0_isBoard_6 rfl rfl
theorem en_X0_isBoard_8 : SndE EE S mi_X0_isBoard 8 (.inl (e_igt 11 24)) := sn_igt dX0_isBoard_8 rfl (by decide)
theorem en_X0_isBoard_11 : SndE EE S mi_X0_isBoard 11 (.inl (e_ldi 12 1)) := sn_iload_n dX0_isBoard_11 rfl rfl
theorem en_X0_isBoard_12 : SndE EE S mi_X0_isBoard 12 (.inl (e_zlt 15 24)) := sn_zlt dX0_isBoard_12 rfl (by decide)
theorem en_X0_isBoard_15 : SndE EE S mi_X0_isBoard 15 (.inl (e_ldi 16 1)) := sn_iload_n dX0_isBoard_15 rfl rfl
theorem en_X0_isBoard_16 : SndE EE S mi_X0_isBoard 16 (.inl (e_psh 17 (.int (1)))) := sn_iconst dX0_isBoard_16 rfl rfl
theorem en_X0_isBoard_17 : SndE EE S mi_X0_isBoard 17 (.inl (e_psh 18 (.int (3)))) := sn_iconst dX0_isBoard_17 rfl rfl
theorem en_X0_isBoard_18 : SndE EE S mi_X0_isBoard 18 (.inl (e_ldi 19 0)) := sn_iload_n dX0_isBoard_18 rfl rfl
theorem en_X0_isBoard_19 : SndE EE S mi_X0_isBoard 19 (.inl (e_bin 20 (fun x y => x * y))) := sn_imul dX0_isBoard_19 rfl
theorem en_X0_isBoard_20 : SndE EE S mi_X0_isBoard 20 (.inl (e_bin 21 (fun x y => x <<< (y &&& 31)))) := sn_ishl dX0_isBoard_20 rfl
theorem en_X0_isBoard_21 : SndE EE S mi_X0_isBoard 21 (.inl (e_ilt 24 26)) := sn_ilt dX0_isBoard_21 rfl (by decide)
theorem en_X0_isBoard_24 : SndE EE S mi_X0_isBoard 24 (.inl (e_psh 25 (.int (0)))) := sn_iconst dX0_isBoard_24 rfl rfl
theorem en_X0_isBoard_25 : SndE EE S mi_X0_isBoard 25 (.inr (.inr 2)) := ⟨dX0_isBoard_25, rfl⟩
theorem en_X0_isBoard_26 : SndE EE S mi_X0_isBoard 26 (.inl (e_psh 27 (.int (0)))) := sn_iconst dX0_isBoard_26 rfl rfl
theorem en_X0_isBoard_27 : SndE EE S mi_X0_isBoard 27 (.inl (e_sti 28 2)) := sn_istore_n dX0_isBoard_27 rfl rfl rfl (by decide)
theorem en_X0_isBoard_28 : SndE EE S mi_X0_isBoard 28 (.inl (e_ldi 29 2)) := sn_iload_n dX0_isBoard_28 rfl rfl
theorem en_X0_isBoard_29 : SndE EE S mi_X0_isBoard 29 (.inl (e_ldi 30 0)) := sn_iload_n dX0_isBoard_29 rfl rfl
theorem en_X0_isBoard_30 : SndE EE S mi_X0_isBoard 30 (.inl (e_ige 33 51)) := sn_ige dX0_isBoard_30 rfl (by decide)
theorem en_X0_isBoard_33 : SndE EE S mi_X0_isBoard 33 (.inl (e_ldi 34 1)) := sn_iload_n dX0_isBoard_33 rfl rfl
theorem en_X0_isBoard_34 : SndE EE S mi_X0_isBoard 34 (.inl (e_ldi 35 2)) := sn_iload_n dX0_isBoard_34 rfl rfl
theorem en_X0_isBoard_35 : SndE EE S mi_X0_isBoard 35 (.inr (.inl (fun _ _ => some 28, 2, 3))) := sc_stat dX0_isBoard_35 mo_X0_kindOf nmo_X0_kindOf q768 q769 q770
theorem en_X0_isBoard_38 : SndE EE S mi_X0_isBoard 38 (.inl (e_psh 40 (.int (6)))) := sn_bipush dX0_isBoard_38 rfl rfl
theorem en_X0_isBoard_40 : SndE EE S mi_X0_isBoard 40 (.inl (e_ilt 43 45)) := sn_ilt dX0_isBoard_40 rfl (by decide)
theorem en_X0_isBoard_43 : SndE EE S mi_X0_isBoard 43 (.inl (e_psh 44 (.int (0)))) := sn_iconst dX0_isBoard_43 rfl rfl
theorem en_X0_isBoard_44 : SndE EE S mi_X0_isBoard 44 (.inr (.inr 2)) := ⟨dX0_isBoard_44, rfl⟩
theorem en_X0_isBoard_45 : SndE EE S mi_X0_isBoard 45 (.inl (e_inc 48 2 (1))) := sn_iinc dX0_isBoard_45 rfl rfl rfl (by decide)
theorem en_X0_isBoard_48 : SndE EE S mi_X0_isBoard 48 (.inl (e_goto 28)) := sn_goto dX0_isBoard_48 (by decide)
theorem en_X0_isBoard_51 : SndE EE S mi_X0_isBoard 51 (.inl (e_psh 52 (.int (1)))) := sn_iconst dX0_isBoard_51 rfl rfl
theorem en_X0_isBoard_52 : SndE EE S mi_X0_isBoard 52 (.inr (.inr 2)) := ⟨dX0_isBoard_52, rfl⟩
theorem sd_X0_isBoard : ∀ pc x, cd_X0_isBoard pc = some x → SndE EE S mi_X0_isBoard pc x := (tN_ok (tN_ok (tN_ok (tN_ok (tN_ok (tL_ok en_X0_isBoard_0) (tL_ok en_X0_isBoard_1)) (tN_ok (tL_ok en_X0_isBoard_2) (tL_ok en_X0_isBoard_5))) (tN_ok (tN_ok (tL_ok en_X0_isBoard_6) (tL_ok en_X0_isBoard_8)) (tN_ok (tL_ok en_X0_isBoard_11) (tL_ok en_X0_isBoard_12)))) (tN_ok (tN_ok (tN_ok (tL_ok en_X0_isBoard_15) (tL_ok en_X0_isBoard_16)) (tN_ok (tL_ok en_X0_isBoard_17) (tL_ok en_X0_isBoard_18))) (tN_ok (tN_ok (tL_ok en_X0_isBoard_19) (tL_ok en_X0_isBoard_20)) (tN_ok (tL_ok en_X0_isBoard_21) (tL_ok en_X0_isBoard_24))))) (tN_ok (tN_ok (tN_ok (tN_ok (tL_ok en_X0_isBoard_25) (tL_ok en_X0_isBoard_26)) (tN_ok (tL_ok en_X0_isBoard_27) (tL_ok en_X0_isBoard_28))) (tN_ok (tN_ok (tL_ok en_X0_isBoard_29) (tL_ok en_X0_isBoard_30)) (tN_ok (tL_ok en_X0_isBoard_33) (tL_ok en_X0_isBoard_34)))) (tN_ok (tN_ok (tN_ok (tL_ok en_X0_isBoard_35) (tL_ok en_X0_isBoard_38)) (tN_ok (tL_ok en_X0_isBoard_40) (tL_ok en_X0_isBoard_43))) (tN_ok (tN_ok (tL_ok en_X0_isBoard_44) (tL_ok en_X0_isBoard_45)) (tN_ok (tL_ok en_X0_isBoard_48) (tN_ok (tL_ok en_X0_isBoard_51) (tL_ok en_X0_isBoard_52)))))))
theorem en_X0_kindOf_0 : SndE EE S mi_X0_kindOf 0 (.inl (e_ldi 1 0)) := sn_iload_n dX0_kindOf_0 rfl rfl
theorem en_X0_kindOf_1 : SndE EE S mi_X0_kindOf 1 (.inl (e_psh 2 (.int (3)))) := sn_iconst dX0_kindOf_1 rfl rfl
theorem en_X0_kindOf_2 : SndE EE S mi_X0_kindOf 2 (.inl (e_ldi 3 1)) := sn_iload_n dX0_kindOf_2 rfl rfl
theorem en_X0_kindOf_3 : SndE EE S mi_X0_kindOf 3 (.inl (e_bin 4 (fun x y => x * y))) := sn_imul dX0_kindOf_3 rfl
theorem en_X0_kindOf_4 : SndE EE S mi_X0_kindOf 4 (.inl (e_bin 5 (fun x y => x >>> (y &&& 31)))) := sn_ishr dX0_kindOf_4 rfl
theorem en_X0_kindOf_5 : SndE EE S mi_X0_kindOf 5 (.inl (e_psh 7 (.int (7)))) := sn_bipush dX0_kindOf_5 rfl rfl
theorem en_X0_kindOf_7 : SndE EE S mi_X0_kindOf 7 (.inl (e_bin 8 (fun x y => x &&& y))) := sn_iand dX0_kindOf_7 rfl
theorem en_X0_kindOf_8 : SndE EE S mi_X0_kindOf 8 (.inr (.inr 1)) := ⟨dX0_kindOf_8, rfl⟩
theorem sd_X0_kindOf : ∀ pc x, cd_X0_kindOf pc = some x → SndE EE S mi_X0_kindOf pc x := (tN_ok (tN_ok (tN_ok (tL_ok en_X0_kindOf_0) (tL_ok en_X0_kindOf_1)) (tN_ok (tL_ok en_X0_kindOf_2) (tL_ok en_X0_kindOf_3))) (tN_ok (tN_ok (tL_ok en_X0_kindOf_4) (tL_ok en_X0_kindOf_5)) (tN_ok (tL_ok en_X0_kindOf_7) (tL_ok en_X0_kindOf_8))))
theorem en_X0_thick_0 : SndE EE S mi_X0_thick 0 (.inl (e_psh 1 (.int (0)))) := sn_iconst dX0_thick_0 rfl rfl
theorem en_X0_thick_1 : SndE EE S mi_X0_thick 1 (.inl (e_sti 3 4)) := sn_istore dX0_thick_1 rfl rfl (by decide)
theorem en_X0_thick_3 : SndE EE S mi_X0_thick 3 (.inl (e_psh 4 (.int (0)))) := sn_iconst dX0_thick_3 rfl rfl
theorem en_X0_thick_4 : SndE EE S mi_X0_thick 4 (.inl (e_sti 6 5)) := sn_istore dX0_thick_4 rfl rfl (by decide)
theorem en_X0_thick_6 : SndE EE S mi_X0_thick 6 (.inl (e_ldi 8 5)) := sn_iload dX0_thick_6 rfl
theorem en_X0_thick_8 : SndE EE S mi_X0_thick 8 (.inl (e_ldi 9 1)) := sn_iload_n dX0_thick_8 rfl rfl
theorem en_X0_thick_9 : SndE EE S mi_X0_thick 9 (.inl (e_ige 12 48)) := sn_ige dX0_thick_9 rfl (by decide)
theorem en_X0_thick_12 : SndE EE S mi_X0_thick 12 (.inl (e_ldi 14 4)) := sn_iload dX0_thick_12 rfl
theorem en_X0_thick_14 : SndE EE S mi_X0_thick 14 (.inl (e_lda 15 0)) := sn_aload_n dX0_thick_14 rfl rfl
theorem en_X0_thick_15 : SndE EE S mi_X0_thick 15 (.inl (e_gR 18 0 19)) := sn_gR dX0_thick_15 rfl cl_0 (by decide) rfl (Or.inl q669) (Or.inl rfl)
theorem en_X0_thick_18 : SndE EE S mi_X0_thick 18 (.inl (e_ldi 19 2)) := sn_iload_n dX0_thick_18 rfl rfl
theorem en_X0_thick_19 : SndE EE S mi_X0_thick 19 (.inl (e_ldi 21 5)) := sn_iload dX0_thick_19 rfl
theorem en_X0_thick_21 : SndE EE S mi_X0_thick 21 (.inr (.inl (fun _ _ => some 28, 2, 3))) := sc_stat dX0_thick_21 mo_X0_kindOf nmo_X0_kindOf q768 q769 q770
theorem en_X0_thick_24 : SndE EE S mi_X0_thick 24 (.inl (e_ald 25 1)) := sn_iald dX0_thick_24 rfl
theorem en_X0_thick_25 : SndE EE S mi_X0_thick 25 (.inl (e_ldi 26 3)) := sn_iload_n dX0_thick_25 rfl rfl
theorem en_X0_thick_26 : SndE EE S mi_X0_thick 26 (.inl (e_lda 27 0)) := sn_aload_n dX0_thick_26 rfl rfl
theorem en_X0_thick_27 : SndE EE S mi_X0_thick 27 (.inl (e_gR 30 0 20)) := sn_gR dX0_thick_27 rfl cl_0 (by decide) rfl (Or.inl q670) (Or.inl rfl)
theorem en_X0_thick_30 : SndE EE S mi_X0_thick 30 (.inl (e_ldi 31 2)) := sn_iload_n dX0_thick_30 rfl rfl
theorem en_X0_thick_31 : SndE EE S mi_X0_thick 31 (.inl (e_ldi 33 5)) := sn_iload dX0_thick_31 rfl
theorem en_X0_thick_33 : SndE EE S mi_X0_thick 33 (.inr (.inl (fun _ _ => some 28, 2, 3))) := sc_stat dX0_thick_33 mo_X0_kindOf nmo_X0_kindOf q768 q769 q770
theorem en_X0_thick_36 : SndE EE S mi_X0_thick 36 (.inl (e_ald 37 1)) := sn_iald dX0_thick_36 rfl
theorem en_X0_thick_37 : SndE EE S mi_X0_thick 37 (.inl (e_bin 38 (fun x y => x * y))) := sn_imul dX0_thick_37 rfl
theorem en_X0_thick_38 : SndE EE S mi_X0_thick 38 (.inl (e_bin 39 (fun x y => x + y))) := sn_iadd dX0_thick_38 rfl
theorem en_X0_thick_39 : SndE EE S mi_X0_thick 39 (.inl (e_bin 40 (fun x y => x + y))) := sn_iadd dX0_thick_39 rfl
theorem en_X0_thick_40 : SndE EE S mi_X0_thick 40 (.inl (e_sti 42 4)) := sn_istore dX0_thick_40 rfl rfl (by decide)
theorem en_X0_thick_42 : SndE EE S mi_X0_thick 42 (.inl (e_inc 45 5 (1))) := sn_iinc dX0_thick_42 rfl rfl rfl (by decide)
theorem en_X0_thick_45 : SndE EE S mi_X0_thick 45 (.inl (e_goto 6)) := sn_goto dX0_thick_45 (by decide)
theorem en_X0_thick_48 : SndE EE S mi_X0_thick 48 (.inl (e_ldi 50 4)) := sn_iload dX0_thick_48 rfl
theorem en_X0_thick_50 : SndE EE S mi_X0_thick 50 (.inr (.inr 1)) := ⟨dX0_thick_50, rfl⟩
theorem sd_X0_thick : ∀ pc x, cd_X0_thick pc = some x → SndE EE S mi_X0_thick pc x := (tN_ok (tN_ok (tN_ok (tN_ok (tL_ok en_X0_thick_0) (tN_ok (tL_ok en_X0_thick_1) (tL_ok en_X0_thick_3))) (tN_ok (tN_ok (tL_ok en_X0_thick_4) (tL_ok en_X0_thick_6)) (tN_ok (tL_ok en_X0_thick_8) (tL_ok en_X0_thick_9)))) (tN_ok (tN_ok (tL_ok en_X0_thick_12) (tN_ok (tL_ok en_X0_thick_14) (tL_ok en_X0_thick_15))) (tN_ok (tN_ok (tL_ok en_X0_thick_18) (tL_ok en_X0_thick_19)) (tN_ok (tL_ok en_X0_thick_21) (tL_ok en_X0_thick_24))))) (tN_ok (tN_ok (tN_ok (tL_ok en_X0_thick_25) (tN_ok (tL_ok en_X0_thick_26) (tL_ok en_X0_thick_27))) (tN_ok (tN_ok (tL_ok en_X0_thick_30) (tL_ok en_X0_thick_31)) (tN_ok (tL_ok en_X0_thick_33) (tL_ok en_X0_thick_36)))) (tN_ok (tN_ok (tN_ok (tL_ok en_X0_thick_37) (tL_ok en_X0_thick_38)) (tN_ok (tL_ok en_X0_thick_39) (tL_ok en_X0_thick_40))) (tN_ok (tN_ok (tL_ok en_X0_thick_42) (tL_ok en_X0_thick_45)) (tN_ok (tL_ok en_X0_thick_48) (tL_ok en_X0_thick_50))))))
theorem en_X0_price_0 : SndE EE S mi_X0_price 0 (.inl (e_psh 1 (.int (0)))) := sn_iconst dX0_price_0 rfl rfl
theorem en_X0_price_1 : SndE EE S mi_X0_price 1 (.inl (e_sti 2 3)) := sn_istore_n dX0_price_1 rfl rfl rfl (by decide)
theorem en_X0_price_2 : SndE EE S mi_X0_price 2 (.inl (e_psh 3 (.int (0)))) := sn_iconst dX0_price_2 rfl rfl
theorem en_X0_price_3 : SndE EE S mi_X0_price 3 (.inl (e_sti 5 4)) := sn_istore dX0_price_3 rfl rfl (by decide)
theorem en_X0_price_5 : SndE EE S mi_X0_price 5 (.inl (e_ldi 7 4)) := sn_iload dX0_price_5 rfl
theorem en_X0_price_7 : SndE EE S mi_X0_price 7 (.inl (e_ldi 8 1)) := sn_iload_n dX0_price_7 rfl rfl
theorem en_X0_price_8 : SndE EE S mi_X0_price 8 (.inl (e_ige 11 31)) := sn_ige dX0_price_8 rfl (by decide)
theorem en_X0_price_11 : SndE EE S mi_X0_price 11 (.inl (e_ldi 12 3)) := sn_iload_n dX0_price_11 rfl rfl
theorem en_X0_price_12 : SndE EE S mi_X0_price 12 (.inl (e_lda 13 0)) := sn_aload_n dX0_price_12 rfl rfl
theorem en_X0_price_13 : SndE EE S mi_X0_price 13 (.inl (e_gR 16 0 21)) := sn_gR dX0_price_13 rfl cl_0 (by decide) rfl (Or.inl q671) (Or.inl rfl)
theorem en_X0_price_16 : SndE EE S mi_X0_price 16 (.inl (e_ldi 17 2)) := sn_iload_n dX0_price_16 rfl rfl
theorem en_X0_price_17 : SndE EE S mi_X0_price 17 (.inl (e_ldi 19 4)) := sn_iload dX0_price_17 rfl
theorem en_X0_price_19 : SndE EE S mi_X0_price 19 (.inr (.inl (fun _ _ => some 28, 2, 3))) := sc_stat dX0_price_19 mo_X0_kindOf nmo_X0_kindOf q768 q769 q770
theorem en_X0_price_22 : SndE EE S mi_X0_price 22 (.inl (e_ald 23 1)) := sn_iald dX0_price_22 rfl
theorem en_X0_price_23 : SndE EE S mi_X0_price 23 (.inl (e_bin 24 (fun x y => x + y))) := sn_iadd dX0_price_23 rfl
theorem en_X0_price_24 : SndE EE S mi_X0_price 24 (.inl (e_sti 25 3)) := sn_istore_n dX0_price_24 rfl rfl rfl (by decide)
theorem en_X0_price_25 : SndE EE S mi_X0_price 25 (.inl (e_inc 28 4 (1))) := sn_iinc dX0_price_25 rfl rfl rfl (by decide)
theorem en_X0_price_28 : SndE EE S mi_X0_price 28 (.inl (e_goto 5)) := sn_goto dX0_price_28 (by decide)
theorem en_X0_price_31 : SndE EE S mi_X0_price 31 (.inl (e_ldi 32 3)) := sn_iload_n dX0_price_31 rfl rfl
theorem en_X0_price_32 : SndE EE S mi_X0_price 32 (.inr (.inr 1)) := ⟨dX0_price_32, rfl⟩
theorem sd_X0_price : ∀ pc x, cd_X0_price pc = some x → SndE EE S mi_X0_price pc x := (tN_ok (tN_ok (tN_ok (tN_ok (tL_ok en_X0_price_0) (tL_ok en_X0_price_1)) (tN_ok (tL_ok en_X0_price_2) (tN_ok (tL_ok en_X0_price_3) (tL_ok en_X0_price_5)))) (tN_ok (tN_ok (tL_ok en_X0_price_7) (tL_ok en_X0_price_8)) (tN_ok (tL_ok en_X0_price_11) (tN_ok (tL_ok en_X0_price_12) (tL_ok en_X0_price_13))))) (tN_ok (tN_ok (tN_ok (tL_ok en_X0_price_16) (tL_ok en_X0_price_17)) (tN_ok (tL_ok en_X0_price_19) (tN_ok (tL_ok en_X0_price_22) (tL_ok en_X0_price_23)))) (tN_ok (tN_ok (tL_ok en_X0_price_24) (tL_ok en_X0_price_25)) (tN_ok (tL_ok en_X0_price_28) (tN_ok (tL_ok en_X0_price_31) (tL_ok en_X0_price_32))))))
theorem en_X0_warp_0 : SndE EE S mi_X0_warp 0 (.inl (e_ldi 1 1)) := sn_iload_n dX0_warp_0 rfl rfl
theorem en_X0_warp_1 : SndE EE S mi_X0_warp 1 (.inl (e_ldi 2 2)) := sn_iload_n dX0_warp_1 rfl rfl
theorem en_X0_warp_2 : SndE EE S mi_X0_warp 2 (.inr (.inl (fun _ _ => some 27, 2, 3))) := sc_stat dX0_warp_2 mo_X0_isBoard nmo_X0_isBoard q765 q766 q767
theorem en_X0_warp_5 : SndE EE S mi_X0_warp 5 (.inl (e_zne 8 11)) := sn_zne dX0_warp_5 rfl (by decide)
theorem en_X0_warp_8 : SndE EE S mi_X0_warp 8 (.inl (e_psh 10 (.int (-2000000)))) := sn_ldc dX0_warp_8 rfl q783
theorem en_X0_warp_10 : SndE EE S mi_X0_warp 10 (.inr (.inr 1)) := ⟨dX0_warp_10, rfl⟩
theorem en_X0_warp_11 : SndE EE S mi_X0_warp 11 (.inl (e_lda 12 0)) := sn_aload_n dX0_warp_11 rfl rfl
theorem en_X0_warp_12 : SndE EE S mi_X0_warp 12 (.inl (e_ldi 13 1)) := sn_iload_n dX0_warp_12 rfl rfl
theorem en_X0_warp_13 : SndE EE S mi_X0_warp 13 (.inl (e_ldi 14 2)) := sn_iload_n dX0_warp_13 rfl rfl
theorem en_X0_warp_14 : SndE EE S mi_X0_warp 14 (.inl (e_psh 15 (.int (0)))) := sn_iconst dX0_warp_14 rfl rfl
theorem en_X0_warp_15 : SndE EE S mi_X0_warp 15 (.inr (.inl (d_cls 0 29, 4, 3))) := sc_virt dX0_warp_15 (rcv_cls (r := (RX0, TX0, 35)) rfl ⟨mo_X0_thick, nmo_X0_thick, q771, q773, qs17⟩)
theorem en_X0_warp_18 : SndE EE S mi_X0_warp 18 (.inl (e_sti 19 3)) := sn_istore_n dX0_warp_18 rfl rfl rfl (by decide)
theorem en_X0_warp_19 : SndE EE S mi_X0_warp 19 (.inl (e_psh 20 (.int (0)))) := sn_iconst dX0_warp_19 rfl rfl
theorem en_X0_warp_20 : SndE EE S mi_X0_warp 20 (.inl (e_sti 22 4)) := sn_istore dX0_warp_20 rfl rfl (by decide)
theorem en_X0_warp_22 : SndE EE S mi_X0_warp 22 (.inl (e_psh 23 (.int (0)))) := sn_iconst dX0_warp_22 rfl rfl
theorem en_X0_warp_23 : SndE EE S mi_X0_warp 23 (.inl (e_sti 25 5)) := sn_istore dX0_warp_23 rfl rfl (by decide)
theorem en_X0_warp_25 : SndE EE S mi_X0_warp 25 (.inl (e_psh 26 (.int (0)))) := sn_iconst dX0_warp_25 rfl rfl
theorem en_X0_warp_26 : SndE EE S mi_X0_warp 26 (.inl (e_sti 28 6)) := sn_istore dX0_warp_26 rfl rfl (by decide)
theorem en_X0_warp_28 : SndE EE S mi_X0_warp 28 (.inl (e_ldi 30 6)) := sn_iload dX0_warp_28 rfl
theorem en_X0_warp_30 : SndE EE S mi_X0_warp 30 (.inl (e_ldi 31 1)) := sn_iload_n dX0_warp_30 rfl rfl
theorem en_X0_warp_31 : SndE EE S mi_X0_warp 31 (.inl (e_ige 34 95)) := sn_ige dX0_warp_31 rfl (by decide)
theorem en_X0_warp_34 : SndE EE S mi_X0_warp 34 (.inl (e_lda 35 0)) := sn_aload_n dX0_warp_34 rfl rfl
theorem en_X0_warp_35 : SndE EE S mi_X0_warp 35 (.inl (e_gR 38 0 19)) := sn_gR dX0_warp_35 rfl cl_0 (by decide) rfl (Or.inl q669) (Or.inl rfl)
theorem en_X0_warp_38 : SndE EE S mi_X0_warp 38 (.inl (e_ldi 39 2)) := sn_iload_n dX0_warp_38 rfl rfl
theorem en_X0_warp_39 : SndE EE S mi_X0_warp 39 (.inl (e_ldi 41 6)) := sn_iload dX0_warp_39 rfl
theorem en_X0_warp_41 : SndE EE S mi_X0_warp 41 (.inr (.inl (fun _ _ => some 28, 2, 3))) := sc_stat dX0_warp_41 mo_X0_kindOf nmo_X0_kindOf q768 q769 q770
theorem en_X0_warp_44 : SndE EE S mi_X0_warp 44 (.inl (e_ald 45 1)) := sn_iald dX0_warp_44 rfl
theorem en_X0_warp_45 : SndE EE S mi_X0_warp 45 (.inl (e_sti 47 7)) := sn_istore dX0_warp_45 rfl rfl (by decide)
theorem en_X0_warp_47 : SndE EE S mi_X0_warp 47 (.inl (e_ldi 48 3)) := sn_iload_n dX0_warp_47 rfl rfl
theorem en_X0_warp_48 : SndE EE S mi_X0_warp 48 (.inl (e_ldi 50 4)) := sn_iload dX0_warp_48 rfl
theorem en_X0_warp_50 : SndE EE S mi_X0_warp 50 (.inl (e_bin 51 (fun x y => x - y))) := sn_isub dX0_warp_50 rfl
theorem en_X0_warp_51 : SndE EE S mi_X0_warp 51 (.inl (e_ldi 53 7)) := sn_iload dX0_warp_51 rfl
theorem en_X0_warp_53 : SndE EE S mi_X0_warp 53 (.inl (e_bin 54 (fun x y => x - y))) := sn_isub dX0_warp_53 rfl
theorem en_X0_warp_54 : SndE EE S mi_X0_warp 54 (.inl (e_sti 56 8)) := sn_istore dX0_warp_54 rfl rfl (by decide)
theorem en_X0_warp_56 : SndE EE S mi_X0_warp 56 (.inl (e_ldi 58 5)) := sn_iload dX0_warp_56 rfl
theorem en_X0_warp_58 : SndE EE S mi_X0_warp 58 (.inl (e_ldi 60 6)) := sn_iload dX0_warp_58 rfl
theorem en_X0_warp_60 : SndE EE S mi_X0_warp 60 (.inl (e_psh 61 (.int (2)))) := sn_iconst dX0_warp_60 rfl rfl
theorem en_X0_warp_61 : SndE EE S mi_X0_warp 61 (.inl (e_rem 62)) := sn_irem dX0_warp_61 rfl
theorem en_X0_warp_62 : SndE EE S mi_X0_warp 62 (.inl (e_zne 65 69)) := sn_zne dX0_warp_62 rfl (by decide)
theorem en_X0_warp_65 : SndE EE S mi_X0_warp 65 (.inl (e_psh 66 (.int (1)))) := sn_iconst dX0_warp_65 rfl rfl
theorem en_X0_warp_66 : SndE EE S mi_X0_warp 66 (.inl (e_goto 70)) := sn_goto dX0_warp_66 (by decide)
theorem en_X0_warp_69 : SndE EE S mi_X0_warp 69 (.inl (e_psh 70 (.int (-1)))) := sn_iconst dX0_warp_69 rfl rfl
theorem en_X0_warp_70 : SndE EE S mi_X0_warp 70 (.inl (e_ldi 72 7)) := sn_iload dX0_warp_70 rfl
theorem en_X0_warp_72 : SndE EE S mi_X0_warp 72 (.inl (e_bin 73 (fun x y => x * y))) := sn_imul dX0_warp_72 rfl
theorem en_X0_warp_73 : SndE EE S mi_X0_warp 73 (.inl (e_ldi 75 4)) := sn_iload dX0_warp_73 rfl
theorem en_X0_warp_75 : SndE EE S mi_X0_warp 75 (.inl (e_ldi 77 8)) := sn_iload dX0_warp_75 rfl
theorem en_X0_warp_77 : SndE EE S mi_X0_warp 77 (.inl (e_bin 78 (fun x y => x - y))) := sn_isub dX0_warp_77 rfl
theorem en_X0_warp_78 : SndE EE S mi_X0_warp 78 (.inl (e_bin 79 (fun x y => x * y))) := sn_imul dX0_warp_78 rfl
theorem en_X0_warp_79 : SndE EE S mi_X0_warp 79 (.inl (e_bin 80 (fun x y => x + y))) := sn_iadd dX0_warp_79 rfl
theorem en_X0_warp_80 : SndE EE S mi_X0_warp 80 (.inl (e_sti 82 5)) := sn_istore dX0_warp_80 rfl rfl (by decide)
theorem en_X0_warp_82 : SndE EE S mi_X0_warp 82 (.inl (e_ldi 84 4)) := sn_iload dX0_warp_82 rfl
theorem en_X0_warp_84 : SndE EE S mi_X0_warp 84 (.inl (e_ldi 86 7)) := sn_iload dX0_warp_84 rfl
theorem en_X0_warp_86 : SndE EE S mi_X0_warp 86 (.inl (e_bin 87 (fun x y => x + y))) := sn_iadd dX0_warp_86 rfl
theorem en_X0_warp_87 : SndE EE S mi_X0_warp 87 (.inl (e_sti 89 4)) := sn_istore dX0_warp_87 rfl rfl (by decide)
theorem en_X0_warp_89 : SndE EE S mi_X0_warp 89 (.inl (e_inc 92 6 (1))) := sn_iinc dX0_warp_89 rfl rfl rfl (by decide)
theorem en_X0_warp_92 : SndE EE S mi_X0_warp 92 (.inl (e_goto 28)) := sn_goto dX0_warp_92 (by decide)
theorem en_X0_warp_95 : SndE EE S mi_X0_warp 95 (.inl (e_ldi 97 5)) := sn_iload dX0_warp_95 rfl
theorem en_X0_warp_97 : SndE EE S mi_X0_warp 97 (.inr (.inr 1)) := ⟨dX0_warp_97, rfl⟩
theorem sd_X0_warp : ∀ pc x, cd_X0_warp pc = some x → SndE EE S mi_X0_warp pc x := (tN_ok (tN_ok (tN_ok (tN_ok (tN_ok (tL_ok en_X0_warp_0) (tN_ok (tL_ok en_X0_warp_1) (tL_ok en_X0_warp_2))) (tN_ok (tN_ok (tL_ok en_X0_warp_5) (tL_ok en_X0_warp_8)) (tN_ok (tL_ok en_X0_warp_10) (tL_ok en_X0_warp_11)))) (tN_ok (tN_ok (tL_ok en_X0_warp_12) (tN_ok (tL_ok en_X0_warp_13) (tL_ok en_X0_warp_14))) (tN_ok (tN_ok (tL_ok en_X0_warp_15) (tL_ok en_X0_warp_18)) (tN_ok (tL_ok en_X0_warp_19) (tL_ok en_X0_warp_20))))) (tN_ok (tN_ok (tN_ok (tL_ok en_X0_warp_22) (tN_ok (tL_ok en_X0_warp_23) (tL_ok en_X0_warp_25))) (tN_ok (tN_ok (tL_ok en_X0_warp_26) (tL_ok en_X0_warp_28)) (tN_ok (tL_ok en_X0_warp_30) (tL_ok en_X0_warp_31)))) (tN_ok (tN_ok (tN_ok (tL_ok en_X0_warp_34) (tL_ok en_X0_warp_35)) (tN_ok (tL_ok en_X0_warp_38) (tL_ok en_X0_warp_39))) (tN_ok (tN_ok (tL_ok en_X0_warp_41) (tL_ok en_X0_warp_44)) (tN_ok (tL_ok en_X0_warp_45) (tL_ok en_X0_warp_47)))))) (tN_ok (tN_ok (tN_ok (tN_ok (tL_ok en_X0_warp_48) (tN_ok (tL_ok en_X0_warp_50) (tL_ok en_X0_warp_51))) (tN_ok (tN_ok (tL_ok en_X0_warp_53) (tL_ok en_X0_warp_54)) (tN_ok (tL_ok en_X0_warp_56) (tL_ok en_X0_warp_58)))) (tN_ok (tN_ok (tL_ok en_X0_warp_60) (tN_ok (tL_ok en_X0_warp_61) (tL_ok en_X0_warp_62))) (tN_ok (tN_ok (tL_ok en_X0_warp_65) (tL_ok en_X0_warp_66)) (tN_ok (tL_ok en_X0_warp_69) (tL_ok en_X0_warp_70))))) (tN_ok (tN_ok (tN_ok (tL_ok en_X0_warp_72) (tN_ok (tL_ok en_X0_warp_73) (tL_ok en_X0_warp_75))) (tN_ok (tN_ok (tL_ok en_X0_warp_77) (tL_ok en_X0_warp_78)) (tN_ok (tL_ok en_X0_warp_79) (tL_ok en_X0_warp_80)))) (tN_ok (tN_ok (tN_ok (tL_ok en_X0_warp_82) (tL_ok en_X0_warp_84)) (tN_ok (tL_ok en_X0_warp_86) (tL_ok en_X0_warp_87))) (tN_ok (tN_ok (tL_ok en_X0_warp_89) (tL_ok en_X0_warp_92)) (tN_ok (tL_ok en_X0_warp_95) (tL_ok en_X0_warp_97)))))))
theorem en_X0_best_0 : SndE EE S mi_X0_best 0 (.inl (e_ldi 1 1)) := sn_iload_n dX0_best_0 rfl rfl
theorem en_X0_best_1 : SndE EE S mi_X0_best 1 (.inl (e_psh 2 (.int (1)))) := sn_iconst dX0_best_1 rfl rfl
theorem en_X0_best_2 : SndE EE S mi_X0_best 2 (.inl (e_ilt 5 17)) := sn_ilt dX0_best_2 rfl (by decide)
theorem en_X0_best_5 : SndE EE S mi_X0_best 5 (.inl (e_ldi 6 1)) := sn_iload_n dX0_best_5 rfl rfl
theorem en_X0_best_6 : SndE EE S mi_X0_best 6 (.inl (e_psh 8 (.int (9)))) := sn_bipush dX0_best_6 rfl rfl
theorem en_X0_best_8 : SndE EE S mi_X0_best 8 (.inl (e_igt 11 17)) := sn_igt dX0_best_8 rfl (by decide)
theorem en_X0_best_11 : SndE EE S mi_X0_best 11 (.inl (e_ldi 12 1)) := sn_iload_n dX0_best_11 rfl rfl
theorem en_X0_best_12 : SndE EE S mi_X0_best 12 (.inl (e_psh 13 (.int (2)))) := sn_iconst dX0_best_12 rfl rfl
theorem en_X0_best_13 : SndE EE S mi_X0_best 13 (.inl (e_rem 14)) := sn_irem dX0_best_13 rfl
theorem en_X0_best_14 : SndE EE S mi_X0_best 14 (.inl (e_zne 17 19)) := sn_zne dX0_best_14 rfl (by decide)
theorem en_X0_best_17 : SndE EE S mi_X0_best 17 (.inl (e_psh 18 (.int (-1)))) := sn_iconst dX0_best_17 rfl rfl
theorem en_X0_best_18 : SndE EE S mi_X0_best 18 (.inr (.inr 1)) := ⟨dX0_best_18, rfl⟩
theorem en_X0_best_19 : SndE EE S mi_X0_best 19 (.inl (e_psh 20 (.int (1)))) := sn_iconst dX0_best_19 rfl rfl
theorem en_X0_best_20 : SndE EE S mi_X0_best 20 (.inl (e_sti 22 4)) := sn_istore dX0_best_20 rfl rfl (by decide)
theorem en_X0_best_22 : SndE EE S mi_X0_best 22 (.inl (e_psh 23 (.int (0)))) := sn_iconst dX0_best_22 rfl rfl
theorem en_X0_best_23 : SndE EE S mi_X0_best 23 (.inl (e_sti 25 5)) := sn_istore dX0_best_23 rfl rfl (by decide)
theorem en_X0_best_25 : SndE EE S mi_X0_best 25 (.inl (e_ldi 27 5)) := sn_iload dX0_best_25 rfl
theorem en_X0_best_27 : SndE EE S mi_X0_best 27 (.inl (e_ldi 28 1)) := sn_iload_n dX0_best_27 rfl rfl
theorem en_X0_best_28 : SndE EE S mi_X0_best 28 (.inl (e_psh 29 (.int (2)))) := sn_iconst dX0_best_28 rfl rfl
theorem en_X0_best_29 : SndE EE S mi_X0_best 29 (.inl (e_div 30)) := sn_idiv dX0_best_29 rfl
theorem en_X0_best_30 : SndE EE S mi_X0_best 30 (.inl (e_psh 31 (.int (1)))) := sn_iconst dX0_best_30 rfl rfl
theorem en_X0_best_31 : SndE EE S mi_X0_best 31 (.inl (e_bin 32 (fun x y => x + y))) := sn_iadd dX0_best_31 rfl
theorem en_X0_best_32 : SndE EE S mi_X0_best 32 (.inl (e_ige 35 48)) := sn_ige dX0_best_32 rfl (by decide)
theorem en_X0_best_35 : SndE EE S mi_X0_best 35 (.inl (e_ldi 37 4)) := sn_iload dX0_best_35 rfl
theorem en_X0_best_37 : SndE EE S mi_X0_best 37 (.inl (e_psh 39 (.int (6)))) := sn_bipush dX0_best_37 rfl rfl
theorem en_X0_best_39 : SndE EE S mi_X0_best 39 (.inl (e_bin 40 (fun x y => x * y))) := sn_imul dX0_best_39 rfl
theorem en_X0_best_40 : SndE EE S mi_X0_best 40 (.inl (e_sti 42 4)) := sn_istore dX0_best_40 rfl rfl (by decide)
theorem en_X0_best_42 : SndE EE S mi_X0_best 42 (.inl (e_inc 45 5 (1))) := sn_iinc dX0_best_42 rfl rfl rfl (by decide)
theorem en_X0_best_45 : SndE EE S mi_X0_best 45 (.inl (e_goto 25)) := sn_goto dX0_best_45 (by decide)
theorem en_X0_best_48 : SndE EE S mi_X0_best 48 (.inl (e_psh 49 (.int (-1)))) := sn_iconst dX0_best_48 rfl rfl
theorem en_X0_best_49 : SndE EE S mi_X0_best 49 (.inl (e_sti 51 5)) := sn_istore dX0_best_49 rfl rfl (by decide)
theorem en_X0_best_51 : SndE EE S mi_X0_best 51 (.inl (e_psh 52 (.int (0)))) := sn_iconst dX0_best_51 rfl rfl
theorem en_X0_best_52 : SndE EE S mi_X0_best 52 (.inl (e_sti 54 6)) := sn_istore dX0_best_52 rfl rfl (by decide)
theorem en_X0_best_54 : SndE EE S mi_X0_best 54 (.inl (e_ldi 56 6)) := sn_iload dX0_best_54 rfl
theorem en_X0_best_56 : SndE EE S mi_X0_best 56 (.inl (e_ldi 58 4)) := sn_iload dX0_best_56 rfl
theorem en_X0_best_58 : SndE EE S mi_X0_best 58 (.inl (e_ige 61 142)) := sn_ige dX0_best_58 rfl (by decide)
theorem en_X0_best_61 : SndE EE S mi_X0_best 61 (.inl (e_ldi 62 1)) := sn_iload_n dX0_best_61 rfl rfl
theorem en_X0_best_62 : SndE EE S mi_X0_best 62 (.inl (e_ldi 64 6)) := sn_iload dX0_best_62 rfl
theorem en_X0_best_64 : SndE EE S mi_X0_best 64 (.inr (.inl (fun _ _ => some 33, 2, 3))) := sc_stat dX0_best_64 mo_X0_balanced nmo_X0_balanced q788 q789 q790
theorem en_X0_best_67 : SndE EE S mi_X0_best 67 (.inl (e_sti 69 7)) := sn_istore dX0_best_67 rfl rfl (by decide)
theorem en_X0_best_69 : SndE EE S mi_X0_best 69 (.inl (e_lda 70 0)) := sn_aload_n dX0_best_69 rfl rfl
theorem en_X0_best_70 : SndE EE S mi_X0_best 70 (.inl (e_gR 73 0 22)) := sn_gR dX0_best_70 rfl cl_0 (by decide) rfl (Or.inl q672) (Or.inl rfl)
theorem en_X0_best_73 : SndE EE S mi_X0_best 73 (.inl (e_ldi 75 7)) := sn_iload dX0_best_73 rfl
theorem en_X0_best_75 : SndE EE S mi_X0_best 75 (.inl (e_psh 76 (.int (0)))) := sn_iconst dX0_best_75 rfl rfl
theorem en_X0_best_76 : SndE EE S mi_X0_best 76 (.inr (.inl (fun _ _ => some 28, 2, 3))) := sc_stat dX0_best_76 mo_X0_kindOf nmo_X0_kindOf q768 q769 q770
theorem en_X0_best_79 : SndE EE S mi_X0_best 79 (.inl (e_ald 80 3)) := sn_zald dX0_best_79 rfl
theorem en_X0_best_80 : SndE EE S mi_X0_best 80 (.inl (e_zeq 83 136)) := sn_zeq dX0_best_80 rfl (by decide)
theorem en_X0_best_83 : SndE EE S mi_X0_best 83 (.inl (e_lda 84 0)) := sn_aload_n dX0_best_83 rfl rfl
theorem en_X0_best_84 : SndE EE S mi_X0_best 84 (.inl (e_ldi 85 1)) := sn_iload_n dX0_best_84 rfl rfl
theorem en_X0_best_85 : SndE EE S mi_X0_best 85 (.inl (e_ldi 87 7)) := sn_iload dX0_best_85 rfl
theorem en_X0_best_87 : SndE EE S mi_X0_best 87 (.inl (e_psh 88 (.int (-1)))) := sn_iconst dX0_best_87 rfl rfl
theorem en_X0_best_88 : SndE EE S mi_X0_best 88 (.inr (.inl (d_cls 0 29, 4, 3))) := sc_virt dX0_best_88 (rcv_cls (r := (RX0, TX0, 35)) rfl ⟨mo_X0_thick, nmo_X0_thick, q771, q773, qs17⟩)
theorem en_X0_best_91 : SndE EE S mi_X0_best 91 (.inl (e_ldi 92 2)) := sn_iload_n dX0_best_91 rfl rfl
theorem en_X0_best_92 : SndE EE S mi_X0_best 92 (.inl (e_ilt 95 136)) := sn_ilt dX0_best_92 rfl (by decide)
theorem en_X0_best_95 : SndE EE S mi_X0_best 95 (.inl (e_lda 96 0)) := sn_aload_n dX0_best_95 rfl rfl
theorem en_X0_best_96 : SndE EE S mi_X0_best 96 (.inl (e_ldi 97 1)) := sn_iload_n dX0_best_96 rfl rfl
theorem en_X0_best_97 : SndE EE S mi_X0_best 97 (.inl (e_ldi 99 7)) := sn_iload dX0_best_97 rfl
theorem en_X0_best_99 : SndE EE S mi_X0_best 99 (.inl (e_psh 100 (.int (1)))) := sn_iconst dX0_best_99 rfl rfl
theorem en_X0_best_100 : SndE EE S mi_X0_best 100 (.inr (.inl (d_cls 0 29, 4, 3))) := sc_virt dX0_best_100 (rcv_cls (r := (RX0, TX0, 35)) rfl ⟨mo_X0_thick, nmo_X0_thick, q771, q773, qs17⟩)
theorem en_X0_best_103 : SndE EE S mi_X0_best 103 (.inl (e_ldi 104 3)) := sn_iload_n dX0_best_103 rfl rfl
theorem en_X0_best_104 : SndE EE S mi_X0_best 104 (.inl (e_ile 107 110)) := sn_ile dX0_best_104 rfl (by decide)
theorem en_X0_best_107 : SndE EE S mi_X0_best 107 (.inl (e_goto 136)) := sn_goto dX0_best_107 (by decide)
theorem en_X0_best_110 : SndE EE S mi_X0_best 110 (.inl (e_ldi 112 5)) := sn_iload dX0_best_110 rfl
theorem en_X0_best_112 : SndE EE S mi_X0_best 112 (.inl (e_zlt 115 132)) := sn_zlt dX0_best_112 rfl (by decide)
theorem en_X0_best_115 : SndE EE S mi_X0_best 115 (.inl (e_lda 116 0)) := sn_aload_n dX0_best_115 rfl rfl
theorem en_X0_best_116 : SndE EE S mi_X0_best 116 (.inl (e_ldi 117 1)) := sn_iload_n dX0_best_116 rfl rfl
theorem en_X0_best_117 : SndE EE S mi_X0_best 117 (.inl (e_ldi 119 7)) := sn_iload dX0_best_117 rfl
theorem en_X0_best_119 : SndE EE S mi_X0_best 119 (.inr (.inl (d_cls 0 30, 3, 3))) := sc_virt dX0_best_119 (rcv_cls (r := (RX0, TX0, 35)) rfl ⟨mo_X0_price, nmo_X0_price, q775, q777, qs18⟩)
theorem en_X0_best_122 : SndE EE S mi_X0_best 122 (.inl (e_lda 123 0)) := sn_aload_n dX0_best_122 rfl rfl
theorem en_X0_best_123 : SndE EE S mi_X0_best 123 (.inl (e_ldi 124 1)) := sn_iload_n dX0_best_123 rfl rfl
theorem en_X0_best_124 : SndE EE S mi_X0_best 124 (.inl (e_ldi 126 5)) := sn_iload dX0_best_124 rfl
theorem en_X0_best_126 : SndE EE S mi_X0_best 126 (.inr (.inl (d_cls 0 30, 3, 3))) := sc_virt dX0_best_126 (rcv_cls (r := (RX0, TX0, 35)) rfl ⟨mo_X0_price, nmo_X0_price, q775, q777, qs18⟩)
theorem en_X0_best_129 : SndE EE S mi_X0_best 129 (.inl (e_ige 132 136)) := sn_ige dX0_best_129 rfl (by decide)
theorem en_X0_best_132 : SndE EE S mi_X0_best 132 (.inl (e_ldi 134 7)) := sn_iload dX0_best_132 rfl
theorem en_X0_best_134 : SndE EE S mi_X0_best 134 (.inl (e_sti 136 5)) := sn_istore dX0_best_134 rfl rfl (by decide)
theorem en_X0_best_136 : SndE EE S mi_X0_best 136 (.inl (e_inc 139 6 (1))) := sn_iinc dX0_best_136 rfl rfl rfl (by decide)
theorem en_X0_best_139 : SndE EE S mi_X0_best 139 (.inl (e_goto 54)) := sn_goto dX0_best_139 (by decide)
theorem en_X0_best_142 : SndE EE S mi_X0_best 142 (.inl (e_ldi 144 5)) := sn_iload dX0_best_142 rfl
theorem en_X0_best_144 : SndE EE S mi_X0_best 144 (.inr (.inr 1)) := ⟨dX0_best_144, rfl⟩
theorem sd_X0_best : ∀ pc x, cd_X0_best pc = some x → SndE EE S mi_X0_best pc x := (tN_ok (tN_ok (tN_ok (tN_ok (tN_ok (tN_ok (tL_ok en_X0_best_0) (tL_ok en_X0_best_1)) (tN_ok (tL_ok en_X0_best_2) (tL_ok en_X0_best_5))) (tN_ok (tN_ok (tL_ok en_X0_best_6) (tL_ok en_X0_best_8)) (tN_ok (tL_ok en_X0_best_11) (tN_ok (tL_ok en_X0_best_12) (tL_ok en_X0_best_13))))) (tN_ok (tN_ok (tN_ok (tL_ok en_X0_best_14) (tL_ok en_X0_best_17)) (tN_ok (tL_ok en_X0_best_18) (tN_ok (tL_ok en_X0_best_19) (tL_ok en_X0_best_20)))) (tN_ok (tN_ok (tL_ok en_X0_best_22) (tL_ok en_X0_best_23)) (tN_ok (tL_ok en_X0_best_25) (tN_ok (tL_ok en_X0_best_27) (tL_ok en_X0_best_28)))))) (tN_ok (tN_ok (tN_ok (tN_ok (tL_ok en_X0_best_29) (tL_ok en_X0_best_30)) (tN_ok (tL_ok en_X0_best_31) (tN_ok (tL_ok en_X0_best_32) (tL_ok en_X0_best_35)))) (tN_ok (tN_ok (tL_ok en_X0_best_37) (tL_ok en_X0_best_39)) (tN_ok (tL_ok en_X0_best_40) (tN_ok (tL_ok en_X0_best_42) (tL_ok en_X0_best_45))))) (tN_ok (tN_ok (tN_ok (tL_ok en_X0_best_48) (tL_ok en_X0_best_49)) (tN_ok (tL_ok en_X0_best_51) (tN_ok (tL_ok en_X0_best_52) (tL_ok en_X0_best_54)))) (tN_ok (tN_ok (tL_ok en_X0_best_56) (tL_ok en_X0_best_58)) (tN_ok (tL_ok en_X0_best_61) (tN_ok (tL_ok en_X0_best_62) (tL_ok en_X0_best_64))))))) (tN_ok (tN_ok (tN_ok (tN_ok (tN_ok (tL_ok en_X0_best_67) (tL_ok en_X0_best_69)) (tN_ok (tL_ok en_X0_best_70) (tN_ok (tL_ok en_X0_best_73) (tL_ok en_X0_best_75)))) (tN_ok (tN_ok (tL_ok en_X0_best_76) (tL_ok en_X0_best_79)) (tN_ok (tL_ok en_X0_best_80) (tN_ok (tL_ok en_X0_best_83) (tL_ok en_X0_best_84))))) (tN_ok (tN_ok (tN_ok (tL_ok en_X0_best_85) (tL_ok en_X0_best_87)) (tN_ok (tL_ok en_X0_best_88) (tN_ok (tL_ok en_X0_best_91) (tL_ok en_X0_best_92)))) (tN_ok (tN_ok (tL_ok en_X0_best_95) (tL_ok en_X0_best_96)) (tN_ok (tL_ok en_X0_best_97) (tN_ok (tL_ok en_X0_best_99) (tL_ok en_X0_best_100)))))) (tN_ok (tN_ok (tN_ok (tN_ok (tL_ok en_X0_best_103) (tL_ok en_X0_best_104)) (tN_ok (tL_ok en_X0_best_107) (tN_ok (tL_ok en_X0_best_110) (tL_ok en_X0_best_112)))) (tN_ok (tN_ok (tL_ok en_X0_best_115) (tL_ok en_X0_best_116)) (tN_ok (tL_ok en_X0_best_117) (tN_ok (tL_ok en_X0_best_119) (tL_ok en_X0_best_122))))) (tN_ok (tN_ok (tN_ok (tL_ok en_X0_best_123) (tL_ok en_X0_best_124)) (tN_ok (tL_ok en_X0_best_126) (tN_ok (tL_ok en_X0_best_129) (tL_ok en_X0_best_132)))) (tN_ok (tN_ok (tL_ok en_X0_best_134) (tL_ok en_X0_best_136)) (tN_ok (tL_ok en_X0_best_139) (tN_ok (tL_ok en_X0_best_142) (tL_ok en_X0_best_144))))))))
theorem en_X0_balanced_0 : SndE EE S mi_X0_balanced 0 (.inl (e_ldi 1 0)) := sn_iload_n dX0_balanced_0 rfl rfl
theorem en_X0_balanced_1 : SndE EE S mi_X0_balanced 1 (.inl (e_psh 2 (.int (2)))) := sn_iconst dX0_balanced_1 rfl rfl
theorem en_X0_balanced_2 : SndE EE S mi_X0_balanced 2 (.inl (e_div 3)) := sn_idiv dX0_balanced_2 rfl
theorem en_X0_balanced_3 : SndE EE S mi_X0_balanced 3 (.inl (e_psh 4 (.int (1)))) := sn_iconst dX0_balanced_3 rfl rfl
theorem en_X0_balanced_4 : SndE EE S mi_X0_balanced 4 (.inl (e_bin 5 (fun x y => x + y))) := sn_iadd dX0_balanced_4 rfl
theorem en_X0_balanced_5 : SndE EE S mi_X0_balanced 5 (.inl (e_sti 6 2)) := sn_istore_n dX0_balanced_5 rfl rfl rfl (by decide)
theorem en_X0_balanced_6 : SndE EE S mi_X0_balanced 6 (.inl (e_psh 7 (.int (0)))) := sn_iconst dX0_balanced_6 rfl rfl
theorem en_X0_balanced_7 : SndE EE S mi_X0_balanced 7 (.inl (e_sti 8 3)) := sn_istore_n dX0_balanced_7 rfl rfl rfl (by decide)
theorem en_X0_balanced_8 : SndE EE S mi_X0_balanced 8 (.inl (e_ldi 9 1)) := sn_iload_n dX0_balanced_8 rfl rfl
theorem en_X0_balanced_9 : SndE EE S mi_X0_balanced 9 (.inl (e_sti 11 4)) := sn_istore dX0_balanced_9 rfl rfl (by decide)
theorem en_X0_balanced_11 : SndE EE S mi_X0_balanced 11 (.inl (e_ldi 12 2)) := sn_iload_n dX0_balanced_11 rfl rfl
theorem en_X0_balanced_12 : SndE EE S mi_X0_balanced 12 (.inl (e_psh 13 (.int (1)))) := sn_iconst dX0_balanced_12 rfl rfl
theorem en_X0_balanced_13 : SndE EE S mi_X0_balanced 13 (.inl (e_bin 14 (fun x y => x - y))) := sn_isub dX0_balanced_13 rfl
theorem en_X0_balanced_14 : SndE EE S mi_X0_balanced 14 (.inl (e_sti 16 5)) := sn_istore dX0_balanced_14 rfl rfl (by decide)
theorem en_X0_balanced_16 : SndE EE S mi_X0_balanced 16 (.inl (e_ldi 18 5)) := sn_iload dX0_balanced_16 rfl
theorem en_X0_balanced_18 : SndE EE S mi_X0_balanced 18 (.inl (e_zlt 21 65)) := sn_zlt dX0_balanced_18 rfl (by decide)
theorem en_X0_balanced_21 : SndE EE S mi_X0_balanced 21 (.inl (e_ldi 23 4)) := sn_iload dX0_balanced_21 rfl
theorem en_X0_balanced_23 : SndE EE S mi_X0_balanced 23 (.inl (e_psh 25 (.int (6)))) := sn_bipush dX0_balanced_23 rfl rfl
theorem en_X0_balanced_25 : SndE EE S mi_X0_balanced 25 (.inl (e_rem 26)) := sn_irem dX0_balanced_25 rfl
theorem en_X0_balanced_26 : SndE EE S mi_X0_balanced 26 (.inl (e_sti 28 6)) := sn_istore dX0_balanced_26 rfl rfl (by decide)
theorem en_X0_balanced_28 : SndE EE S mi_X0_balanced 28 (.inl (e_ldi 30 4)) := sn_iload dX0_balanced_28 rfl
theorem en_X0_balanced_30 : SndE EE S mi_X0_balanced 30 (.inl (e_psh 32 (.int (6)))) := sn_bipush dX0_balanced_30 rfl rfl
theorem en_X0_balanced_32 : SndE EE S mi_X0_balanced 32 (.inl (e_div 33)) := sn_idiv dX0_balanced_32 rfl
theorem en_X0_balanced_33 : SndE EE S mi_X0_balanced 33 (.inl (e_sti 35 4)) := sn_istore dX0_balanced_33 rfl rfl (by decide)
theorem en_X0_balanced_35 : SndE EE S mi_X0_balanced 35 (.inl (e_ldi 36 3)) := sn_iload_n dX0_balanced_35 rfl rfl
theorem en_X0_balanced_36 : SndE EE S mi_X0_balanced 36 (.inl (e_ldi 38 6)) := sn_iload dX0_balanced_36 rfl
theorem en_X0_balanced_38 : SndE EE S mi_X0_balanced 38 (.inl (e_psh 39 (.int (3)))) := sn_iconst dX0_balanced_38 rfl rfl
theorem en_X0_balanced_39 : SndE EE S mi_X0_balanced 39 (.inl (e_ldi 41 5)) := sn_iload dX0_balanced_39 rfl
theorem en_X0_balanced_41 : SndE EE S mi_X0_balanced 41 (.inl (e_bin 42 (fun x y => x * y))) := sn_imul dX0_balanced_41 rfl
theorem en_X0_balanced_42 : SndE EE S mi_X0_balanced 42 (.inl (e_bin 43 (fun x y => x <<< (y &&& 31)))) := sn_ishl dX0_balanced_42 rfl
theorem en_X0_balanced_43 : SndE EE S mi_X0_balanced 43 (.inl (e_bin 44 (fun x y => x ||| y))) := sn_ior dX0_balanced_43 rfl
theorem en_X0_balanced_44 : SndE EE S mi_X0_balanced 44 (.inl (e_sti 45 3)) := sn_istore_n dX0_balanced_44 rfl rfl rfl (by decide)
theorem en_X0_balanced_45 : SndE EE S mi_X0_balanced 45 (.inl (e_ldi 46 3)) := sn_iload_n dX0_balanced_45 rfl rfl
theorem en_X0_balanced_46 : SndE EE S mi_X0_balanced 46 (.inl (e_ldi 48 6)) := sn_iload dX0_balanced_46 rfl
theorem en_X0_balanced_48 : SndE EE S mi_X0_balanced 48 (.inl (e_psh 49 (.int (3)))) := sn_iconst dX0_balanced_48 rfl rfl
theorem en_X0_balanced_49 : SndE EE S mi_X0_balanced 49 (.inl (e_ldi 50 0)) := sn_iload_n dX0_balanced_49 rfl rfl
theorem en_X0_balanced_50 : SndE EE S mi_X0_balanced 50 (.inl (e_psh 51 (.int (1)))) := sn_iconst dX0_balanced_50 rfl rfl
theorem en_X0_balanced_51 : SndE EE S mi_X0_balanced 51 (.inl (e_bin 52 (fun x y => x - y))) := sn_isub dX0_balanced_51 rfl
theorem en_X0_balanced_52 : SndE EE S mi_X0_balanced 52 (.inl (e_ldi 54 5)) := sn_iload dX0_balanced_52 rfl
theorem en_X0_balanced_54 : SndE EE S mi_X0_balanced 54 (.inl (e_bin 55 (fun x y => x - y))) := sn_isub dX0_balanced_54 rfl
theorem en_X0_balanced_55 : SndE EE S mi_X0_balanced 55 (.inl (e_bin 56 (fun x y => x * y))) := sn_imul dX0_balanced_55 rfl
theorem en_X0_balanced_56 : SndE EE S mi_X0_balanced 56 (.inl (e_bin 57 (fun x y => x <<< (y &&& 31)))) := sn_ishl dX0_balanced_56 rfl
theorem en_X0_balanced_57 : SndE EE S mi_X0_balanced 57 (.inl (e_bin 58 (fun x y => x ||| y))) := sn_ior dX0_balanced_57 rfl
theorem en_X0_balanced_58 : SndE EE S mi_X0_balanced 58 (.inl (e_sti 59 3)) := sn_istore_n dX0_balanced_58 rfl rfl rfl (by decide)
theorem en_X0_balanced_59 : SndE EE S mi_X0_balanced 59 (.inl (e_inc 62 5 (-1))) := sn_iinc dX0_balanced_59 rfl rfl rfl (by decide)
theorem en_X0_balanced_62 : SndE EE S mi_X0_balanced 62 (.inl (e_goto 16)) := sn_goto dX0_balanced_62 (by decide)
theorem en_X0_balanced_65 : SndE EE S mi_X0_balanced 65 (.inl (e_ldi 66 3)) := sn_iload_n dX0_balanced_65 rfl rfl
theorem en_X0_balanced_66 : SndE EE S mi_X0_balanced 66 (.inr (.inr 1)) := ⟨dX0_balanced_66, rfl⟩
theorem sd_X0_balanced : ∀ pc x, cd_X0_balanced pc = some x → SndE EE S mi_X0_balanced pc x := (tN_ok (tN_ok (tN_ok (tN_ok (tN_ok (tL_ok en_X0_balanced_0) (tN_ok (tL_ok en_X0_balanced_1) (tL_ok en_X0_balanced_2))) (tN_ok (tL_ok en_X0_balanced_3) (tN_ok (tL_ok en_X0_balanced_4) (tL_ok en_X0_balanced_5)))) (tN_ok (tN_ok (tL_ok en_X0_balanced_6) (tN_ok (tL_ok en_X0_balanced_7) (tL_ok en_X0_balanced_8))) (tN_ok (tL_ok en_X0_balanced_9) (tN_ok (tL_ok en_X0_balanced_11) (tL_ok en_X0_balanced_12))))) (tN_ok (tN_ok (tN_ok (tL_ok en_X0_balanced_13) (tN_ok (tL_ok en_X0_balanced_14) (tL_ok en_X0_balanced_16))) (tN_ok (tL_ok en_X0_balanced_18) (tN_ok (tL_ok en_X0_balanced_21) (tL_ok en_X0_balanced_23)))) (tN_ok (tN_ok (tL_ok en_X0_balanced_25) (tN_ok (tL_ok en_X0_balanced_26) (tL_ok en_X0_balanced_28))) (tN_ok (tL_ok en_X0_balanced_30) (tN_ok (tL_ok en_X0_balanced_32) (tL_ok en_X0_balanced_33)))))) (tN_ok (tN_ok (tN_ok (tN_ok (tL_ok en_X0_balanced_35) (tN_ok (tL_ok en_X0_balanced_36) (tL_ok en_X0_balanced_38))) (tN_ok (tL_ok en_X0_balanced_39) (tN_ok (tL_ok en_X0_balanced_41) (tL_ok en_X0_balanced_42)))) (tN_ok (tN_ok (tL_ok en_X0_balanced_43) (tN_ok (tL_ok en_X0_balanced_44) (tL_ok en_X0_balanced_45))) (tN_ok (tL_ok en_X0_balanced_46) (tN_ok (tL_ok en_X0_balanced_48) (tL_ok en_X0_balanced_49))))) (tN_ok (tN_ok (tN_ok (tL_ok en_X0_balanced_50) (tN_ok (tL_ok en_X0_balanced_51) (tL_ok en_X0_balanced_52))) (tN_ok (tL_ok en_X0_balanced_54) (tN_ok (tL_ok en_X0_balanced_55) (tL_ok en_X0_balanced_56)))) (tN_ok (tN_ok (tL_ok en_X0_balanced_57) (tN_ok (tL_ok en_X0_balanced_58) (tL_ok en_X0_balanced_59))) (tN_ok (tL_ok en_X0_balanced_62) (tN_ok (tL_ok en_X0_balanced_65) (tL_ok en_X0_balanced_66)))))))
theorem en_X0_press_0 : SndE EE S mi_X0_press 0 (.inl (e_ldi 1 1)) := sn_iload_n dX0_press_0 rfl rfl
theorem en_X0_press_1 : SndE EE S mi_X0_press 1 (.inl (e_psh 2 (.int (1)))) := sn_iconst dX0_press_1 rfl rfl
theorem en_X0_press_2 : SndE EE S mi_X0_press 2 (.inl (e_ilt 5 45)) := sn_ilt dX0_press_2 rfl (by decide)
theorem en_X0_press_5 : SndE EE S mi_X0_press 5 (.inl (e_ldi 6 1)) := sn_iload_n dX0_press_5 rfl rfl
theorem en_X0_press_6 : SndE EE S mi_X0_press 6 (.inl (e_psh 8 (.int (10)))) := sn_bipush dX0_press_6 rfl rfl
theorem en_X0_press_8 : SndE EE S mi_X0_press 8 (.inl (e_igt 11 45)) := sn_igt dX0_press_8 rfl (by decide)
theorem en_X0_press_11 : SndE EE S mi_X0_press 11 (.inl (e_ldi 12 2)) := sn_iload_n dX0_press_11 rfl rfl
theorem en_X0_press_12 : SndE EE S mi_X0_press 12 (.inl (e_zlt 15 45)) := sn_zlt dX0_press_12 rfl (by decide)
theorem en_X0_press_15 : SndE EE S mi_X0_press 15 (.inl (e_ldi 16 2)) := sn_iload_n dX0_press_15 rfl rfl
theorem en_X0_press_16 : SndE EE S mi_X0_press 16 (.inl (e_psh 18 (.int (100)))) := sn_bipush dX0_press_16 rfl rfl
theorem en_X0_press_18 : SndE EE S mi_X0_press 18 (.inl (e_igt 21 45)) := sn_igt dX0_press_18 rfl (by decide)
theorem en_X0_press_21 : SndE EE S mi_X0_press 21 (.inl (e_ldi 22 3)) := sn_iload_n dX0_press_21 rfl rfl
theorem en_X0_press_22 : SndE EE S mi_X0_press 22 (.inl (e_zlt 25 45)) := sn_zlt dX0_press_22 rfl (by decide)
theorem en_X0_press_25 : SndE EE S mi_X0_press 25 (.inl (e_ldi 26 3)) := sn_iload_n dX0_press_25 rfl rfl
theorem en_X0_press_26 : SndE EE S mi_X0_press 26 (.inl (e_psh 28 (.int (10)))) := sn_bipush dX0_press_26 rfl rfl
theorem en_X0_press_28 : SndE EE S mi_X0_press 28 (.inl (e_igt 31 45)) := sn_igt dX0_press_28 rfl (by decide)
theorem en_X0_press_31 : SndE EE S mi_X0_press 31 (.inl (e_ldi 33 4)) := sn_iload dX0_press_31 rfl
theorem en_X0_press_33 : SndE EE S mi_X0_press 33 (.inl (e_psh 34 (.int (1)))) := sn_iconst dX0_press_33 rfl rfl
theorem en_X0_press_34 : SndE EE S mi_X0_press 34 (.inl (e_ilt 37 45)) := sn_ilt dX0_press_34 rfl (by decide)
theorem en_X0_press_37 : SndE EE S mi_X0_press 37 (.inl (e_ldi 39 4)) := sn_iload dX0_press_37 rfl
theorem en_X0_press_39 : SndE EE S mi_X0_press 39 (.inl (e_psh 42 (.int (1000)))) := sn_sipush dX0_press_39 rfl rfl
theorem en_X0_press_42 : SndE EE S mi_X0_press 42 (.inl (e_ile 45 47)) := sn_ile dX0_press_42 rfl (by decide)
theorem en_X0_press_45 : SndE EE S mi_X0_press 45 (.inl (e_psh 46 (.int (0)))) := sn_iconst dX0_press_45 rfl rfl
theorem en_X0_press_46 : SndE EE S mi_X0_press 46 (.inr (.inr 2)) := ⟨dX0_press_46, rfl⟩
theorem en_X0_press_47 : SndE EE S mi_X0_press 47 (.inl (e_lda 48 0)) := sn_aload_n dX0_press_47 rfl rfl
theorem en_X0_press_48 : SndE EE S mi_X0_press 48 (.inl (e_ldi 49 1)) := sn_iload_n dX0_press_48 rfl rfl
theorem en_X0_press_49 : SndE EE S mi_X0_press 49 (.inl (e_pI 52 0 26)) := sn_pI dX0_press_49 rfl cl_0 (by decide) rfl (Or.inl ⟨q676, Or.inl rfl⟩) (Or.inl rfl) (fun _ => ⟨rfl, rfl⟩)
theorem en_X0_press_52 : SndE EE S mi_X0_press 52 (.inl (e_lda 53 0)) := sn_aload_n dX0_press_52 rfl rfl
theorem en_X0_press_53 : SndE EE S mi_X0_press 53 (.inl (e_ldi 54 2)) := sn_iload_n dX0_press_53 rfl rfl
theorem en_X0_press_54 : SndE EE S mi_X0_press 54 (.inl (e_pI 57 0 27)) := sn_pI dX0_press_54 rfl cl_0 (by decide) rfl (Or.inl ⟨q677, Or.inl rfl⟩) (Or.inl rfl) (fun _ => ⟨rfl, rfl⟩)
theorem en_X0_press_57 : SndE EE S mi_X0_press 57 (.inl (e_lda 58 0)) := sn_aload_n dX0_press_57 rfl rfl
theorem en_X0_press_58 : SndE EE S mi_X0_press 58 (.inl (e_ldi 59 3)) := sn_iload_n dX0_press_58 rfl rfl
theorem en_X0_press_59 : SndE EE S mi_X0_press 59 (.inl (e_pI 62 0 28)) := sn_pI dX0_press_59 rfl cl_0 (by decide) rfl (Or.inl ⟨q678, Or.inl rfl⟩) (Or.inl rfl) (fun _ => ⟨rfl, rfl⟩)
theorem en_X0_press_62 : SndE EE S mi_X0_press 62 (.inl (e_lda 63 0)) := sn_aload_n dX0_press_62 rfl rfl
theorem en_X0_press_63 : SndE EE S mi_X0_press 63 (.inl (e_ldi 65 4)) := sn_iload dX0_press_63 rfl
theorem en_X0_press_65 : SndE EE S mi_X0_press 65 (.inl (e_pI 68 0 29)) := sn_pI dX0_press_65 rfl cl_0 (by decide) rfl (Or.inl ⟨q679, Or.inl rfl⟩) (Or.inl rfl) (fun _ => ⟨rfl, rfl⟩)
theorem en_X0_press_68 : SndE EE S mi_X0_press 68 (.inl (e_psh 69 (.int (1)))) := sn_iconst dX0_press_68 rfl rfl
theorem en_X0_press_69 : SndE EE S mi_X0_press 69 (.inr (.inr 2)) := ⟨dX0_press_69, rfl⟩
theorem sd_X0_press : ∀ pc x, cd_X0_press pc = some x → SndE EE S mi_X0_press pc x := (tN_ok (tN_ok (tN_ok (tN_ok (tN_ok (tL_ok en_X0_press_0) (tL_ok en_X0_press_1)) (tN_ok (tL_ok en_X0_press_2) (tL_ok en_X0_press_5))) (tN_ok (tN_ok (tL_ok en_X0_press_6) (tL_ok en_X0_press_8)) (tN_ok (tL_ok en_X0_press_11) (tN_ok (tL_ok en_X0_press_12) (tL_ok en_X0_press_15))))) (tN_ok (tN_ok (tN_ok (tL_ok en_X0_press_16) (tL_ok en_X0_press_18)) (tN_ok (tL_ok en_X0_press_21) (tN_ok (tL_ok en_X0_press_22) (tL_ok en_X0_press_25)))) (tN_ok (tN_ok (tL_ok en_X0_press_26) (tL_ok en_X0_press_28)) (tN_ok (tL_ok en_X0_press_31) (tN_ok (tL_ok en_X0_press_33) (tL_ok en_X0_press_34)))))) (tN_ok (tN_ok (tN_ok (tN_ok (tL_ok en_X0_press_37) (tL_ok en_X0_press_39)) (tN_ok (tL_ok en_X0_press_42) (tL_ok en_X0_press_45))) (tN_ok (tN_ok (tL_ok en_X0_press_46) (tL_ok en_X0_press_47)) (tN_ok (tL_ok en_X0_press_48) (tN_ok (tL_ok en_X0_press_49) (tL_ok en_X0_press_52))))) (tN_ok (tN_ok (tN_ok (tL_ok en_X0_press_53) (tL_ok en_X0_press_54)) (tN_ok (tL_ok en_X0_press_57) (tN_ok (tL_ok en_X0_press_58) (tL_ok en_X0_press_59)))) (tN_ok (tN_ok (tL_ok en_X0_press_62) (tL_ok en_X0_press_63)) (tN_ok (tL_ok en_X0_press_65) (tN_ok (tL_ok en_X0_press_68) (tL_ok en_X0_press_69)))))))
theorem en_X0_glue_0 : SndE EE S mi_X0_glue 0 (.inl (e_ldi 1 1)) := sn_iload_n dX0_glue_0 rfl rfl
theorem en_X0_glue_1 : SndE EE S mi_X0_glue 1 (.inl (e_psh 2 (.int (1)))) := sn_iconst dX0_glue_1 rfl rfl
theorem en_X0_glue_2 : SndE EE S mi_X0_glue 2 (.inl (e_ilt 5 32)) := sn_ilt dX0_glue_2 rfl (by decide)
theorem en_X0_glue_5 : SndE EE S mi_X0_glue 5 (.inl (e_ldi 6 1)) := sn_iload_n dX0_glue_5 rfl rfl
theorem en_X0_glue_6 : SndE EE S mi_X0_glue 6 (.inl (e_psh 9 (.int (500)))) := sn_sipush dX0_glue_6 rfl rfl
theorem en_X0_glue_9 : SndE EE S mi_X0_glue 9 (.inl (e_igt 12 32)) := sn_igt dX0_glue_9 rfl (by decide)
theorem en_X0_glue_12 : SndE EE S mi_X0_glue 12 (.inl (e_ldi 13 2)) := sn_iload_n dX0_glue_12 rfl rfl
theorem en_X0_glue_13 : SndE EE S mi_X0_glue 13 (.inl (e_zlt 16 32)) := sn_zlt dX0_glue_13 rfl (by decide)
theorem en_X0_glue_16 : SndE EE S mi_X0_glue 16 (.inl (e_ldi 17 2)) := sn_iload_n dX0_glue_16 rfl rfl
theorem en_X0_glue_17 : SndE EE S mi_X0_glue 17 (.inl (e_psh 20 (.int (10000)))) := sn_sipush dX0_glue_17 rfl rfl
theorem en_X0_glue_20 : SndE EE S mi_X0_glue 20 (.inl (e_igt 23 32)) := sn_igt dX0_glue_20 rfl (by decide)
theorem en_X0_glue_23 : SndE EE S mi_X0_glue 23 (.inl (e_lda 24 0)) := sn_aload_n dX0_glue_23 rfl rfl
theorem en_X0_glue_24 : SndE EE S mi_X0_glue 24 (.inl (e_gI 27 0 25)) := sn_gI dX0_glue_24 rfl cl_0 (by decide) rfl (Or.inl q675) (Or.inl rfl)
theorem en_X0_glue_27 : SndE EE S mi_X0_glue 27 (.inl (e_psh 29 (.int (10)))) := sn_bipush dX0_glue_27 rfl rfl
theorem en_X0_glue_29 : SndE EE S mi_X0_glue 29 (.inl (e_ine 32 34)) := sn_ine dX0_glue_29 rfl (by decide)
theorem en_X0_glue_32 : SndE EE S mi_X0_glue 32 (.inl (e_psh 33 (.int (-1)))) := sn_iconst dX0_glue_32 rfl rfl
theorem en_X0_glue_33 : SndE EE S mi_X0_glue 33 (.inr (.inr 1)) := ⟨dX0_glue_33, rfl⟩
theorem en_X0_glue_34 : SndE EE S mi_X0_glue 34 (.inl (e_lda 35 0)) := sn_aload_n dX0_glue_34 rfl rfl
theorem en_X0_glue_35 : SndE EE S mi_X0_glue 35 (.inl (e_gR 38 0 23)) := sn_gR dX0_glue_35 rfl cl_0 (by decide) rfl (Or.inl q673) (Or.inl rfl)
theorem en_X0_glue_38 : SndE EE S mi_X0_glue 38 (.inl (e_lda 39 0)) := sn_aload_n dX0_glue_38 rfl rfl
theorem en_X0_glue_39 : SndE EE S mi_X0_glue 39 (.inl (e_gI 42 0 25)) := sn_gI dX0_glue_39 rfl cl_0 (by decide) rfl (Or.inl q675) (Or.inl rfl)
theorem en_X0_glue_42 : SndE EE S mi_X0_glue 42 (.inl (e_ldi 43 1)) := sn_iload_n dX0_glue_42 rfl rfl
theorem en_X0_glue_43 : SndE EE S mi_X0_glue 43 (.inl (e_iast 44)) := sn_iast dX0_glue_43 rfl
theorem en_X0_glue_44 : SndE EE S mi_X0_glue 44 (.inl (e_lda 45 0)) := sn_aload_n dX0_glue_44 rfl rfl
theorem en_X0_glue_45 : SndE EE S mi_X0_glue 45 (.inl (e_gR 48 0 24)) := sn_gR dX0_glue_45 rfl cl_0 (by decide) rfl (Or.inl q674) (Or.inl rfl)
theorem en_X0_glue_48 : SndE EE S mi_X0_glue 48 (.inl (e_lda 49 0)) := sn_aload_n dX0_glue_48 rfl rfl
theorem en_X0_glue_49 : SndE EE S mi_X0_glue 49 (.inl (e_gI 52 0 25)) := sn_gI dX0_glue_49 rfl cl_0 (by decide) rfl (Or.inl q675) (Or.inl rfl)
theorem en_X0_glue_52 : SndE EE S mi_X0_glue 52 (.inl (e_ldi 53 2)) := sn_iload_n dX0_glue_52 rfl rfl
theorem en_X0_glue_53 : SndE EE S mi_X0_glue 53 (.inl (e_iast 54)) := sn_iast dX0_glue_53 rfl
theorem en_X0_glue_54 : SndE EE S mi_X0_glue 54 (.inl (e_lda 55 0)) := sn_aload_n dX0_glue_54 rfl rfl
theorem en_X0_glue_55 : SndE EE S mi_X0_glue 55 (.inl (e_dup 56)) := sn_dup dX0_glue_55 rfl
theorem en_X0_glue_56 : SndE EE S mi_X0_glue 56 (.inl (e_gI 59 0 25)) := sn_gI dX0_glue_56 rfl cl_0 (by decide) rfl (Or.inl q675) (Or.inl rfl)
theorem en_X0_glue_59 : SndE EE S mi_X0_glue 59 (.inl (e_psh 60 (.int (1)))) := sn_iconst dX0_glue_59 rfl rfl
theorem en_X0_glue_60 : SndE EE S mi_X0_glue 60 (.inl (e_bin 61 (fun x y => x + y))) := sn_iadd dX0_glue_60 rfl
theorem en_X0_glue_61 : SndE EE S mi_X0_glue 61 (.inl (e_pI 64 0 25)) := sn_pI dX0_glue_61 rfl cl_0 (by decide) rfl (Or.inl ⟨q675, Or.inl rfl⟩) (Or.inl rfl) (fun _ => ⟨rfl, rfl⟩)
theorem en_X0_glue_64 : SndE EE S mi_X0_glue 64 (.inl (e_lda 65 0)) := sn_aload_n dX0_glue_64 rfl rfl
theorem en_X0_glue_65 : SndE EE S mi_X0_glue 65 (.inl (e_gI 68 0 25)) := sn_gI dX0_glue_65 rfl cl_0 (by decide) rfl (Or.inl q675) (Or.inl rfl)
theorem en_X0_glue_68 : SndE EE S mi_X0_glue 68 (.inl (e_psh 69 (.int (1)))) := sn_iconst dX0_glue_68 rfl rfl
theorem en_X0_glue_69 : SndE EE S mi_X0_glue 69 (.inl (e_bin 70 (fun x y => x - y))) := sn_isub dX0_glue_69 rfl
theorem en_X0_glue_70 : SndE EE S mi_X0_glue 70 (.inr (.inr 1)) := ⟨dX0_glue_70, rfl⟩
theorem sd_X0_glue : ∀ pc x, cd_X0_glue pc = some x → SndE EE S mi_X0_glue pc x := (tN_ok (tN_ok (tN_ok (tN_ok (tN_ok (tL_ok en_X0_glue_0) (tL_ok en_X0_glue_1)) (tN_ok (tL_ok en_X0_glue_2) (tN_ok (tL_ok en_X0_glue_5) (tL_ok en_X0_glue_6)))) (tN_ok (tN_ok (tL_ok en_X0_glue_9) (tL_ok en_X0_glue_12)) (tN_ok (tL_ok en_X0_glue_13) (tN_ok (tL_ok en_X0_glue_16) (tL_ok en_X0_glue_17))))) (tN_ok (tN_ok (tN_ok (tL_ok en_X0_glue_20) (tL_ok en_X0_glue_23)) (tN_ok (tL_ok en_X0_glue_24) (tN_ok (tL_ok en_X0_glue_27) (tL_ok en_X0_glue_29)))) (tN_ok (tN_ok (tL_ok en_X0_glue_32) (tL_ok en_X0_glue_33)) (tN_ok (tL_ok en_X0_glue_34) (tN_ok (tL_ok en_X0_glue_35) (tL_ok en_X0_glue_38)))))) (tN_ok (tN_ok (tN_ok (tN_ok (tL_ok en_X0_glue_39) (tL_ok en_X0_glue_42)) (tN_ok (tL_ok en_X0_glue_43) (tN_ok (tL_ok en_X0_glue_44) (tL_ok en_X0_glue_45)))) (tN_ok (tN_ok (tL_ok en_X0_glue_48) (tL_ok en_X0_glue_49)) (tN_ok (tL_ok en_X0_glue_52) (tN_ok (tL_ok en_X0_glue_53) (tL_ok en_X0_glue_54))))) (tN_ok (tN_ok (tN_ok (tL_ok en_X0_glue_55) (tL_ok en_X0_glue_56)) (tN_ok (tL_ok en_X0_glue_59) (tN_ok (tL_ok en_X0_glue_60) (tL_ok en_X0_glue_61)))) (tN_ok (tN_ok (tL_ok en_X0_glue_64) (tL_ok en_X0_glue_65)) (tN_ok (tL_ok en_X0_glue_68) (tN_ok (tL_ok en_X0_glue_69) (tL_ok en_X0_glue_70)))))))
theorem en_X0_drop_0 : SndE EE S mi_X0_drop 0 (.inl (e_lda 1 0)) := sn_aload_n dX0_drop_0 rfl rfl
theorem en_X0_drop_1 : SndE EE S mi_X0_drop 1 (.inl (e_gI 4 0 25)) := sn_gI dX0_drop_1 rfl cl_0 (by decide) rfl (Or.inl q675) (Or.inl rfl)
theorem en_X0_drop_4 : SndE EE S mi_X0_drop 4 (.inl (e_zne 7 9)) := sn_zne dX0_drop_4 rfl (by decide)
theorem en_X0_drop_7 : SndE EE S mi_X0_drop 7 (.inl (e_psh 8 (.int (0)))) := sn_iconst dX0_drop_7 rfl rfl
theorem en_X0_drop_8 : SndE EE S mi_X0_drop 8 (.inr (.inr 2)) := ⟨dX0_drop_8, rfl⟩
theorem en_X0_drop_9 : SndE EE S mi_X0_drop 9 (.inl (e_lda 10 0)) := sn_aload_n dX0_drop_9 rfl rfl
theorem en_X0_drop_10 : SndE EE S mi_X0_drop 10 (.inl (e_dup 11)) := sn_dup dX0_drop_10 rfl
theorem en_X0_drop_11 : SndE EE S mi_X0_drop 11 (.inl (e_gI 14 0 25)) := sn_gI dX0_drop_11 rfl cl_0 (by decide) rfl (Or.inl q675) (Or.inl rfl)
theorem en_X0_drop_14 : SndE EE S mi_X0_drop 14 (.inl (e_psh 15 (.int (1)))) := sn_iconst dX0_drop_14 rfl rfl
theorem en_X0_drop_15 : SndE EE S mi_X0_drop 15 (.inl (e_bin 16 (fun x y => x - y))) := sn_isub dX0_drop_15 rfl
theorem en_X0_drop_16 : SndE EE S mi_X0_drop 16 (.inl (e_pI 19 0 25)) := sn_pI dX0_drop_16 rfl cl_0 (by decide) rfl (Or.inl ⟨q675, Or.inl rfl⟩) (Or.inl rfl) (fun _ => ⟨rfl, rfl⟩)
theorem en_X0_drop_19 : SndE EE S mi_X0_drop 19 (.inl (e_psh 20 (.int (1)))) := sn_iconst dX0_drop_19 rfl rfl
theorem en_X0_drop_20 : SndE EE S mi_X0_drop 20 (.inr (.inr 2)) := ⟨dX0_drop_20, rfl⟩
theorem sd_X0_drop : ∀ pc x, cd_X0_drop pc = some x → SndE EE S mi_X0_drop pc x := (tN_ok (tN_ok (tN_ok (tL_ok en_X0_drop_0) (tN_ok (tL_ok en_X0_drop_1) (tL_ok en_X0_drop_4))) (tN_ok (tL_ok en_X0_drop_7) (tN_ok (tL_ok en_X0_drop_8) (tL_ok en_X0_drop_9)))) (tN_ok (tN_ok (tL_ok en_X0_drop_10) (tN_ok (tL_ok en_X0_drop_11) (tL_ok en_X0_drop_14))) (tN_ok (tN_ok (tL_ok en_X0_drop_15) (tL_ok en_X0_drop_16)) (tN_ok (tL_ok en_X0_drop_19) (tL_ok en_X0_drop_20)))))
theorem en_X0_plan_0 : SndE EE S mi_X0_plan 0 (.inl (e_lda 1 0)) := sn_aload_n dX0_plan_0 rfl rfl
theorem en_X0_plan_1 : SndE EE S mi_X0_plan 1 (.inr (.inl (d_cls 0 38, 1, 3))) := sc_virt dX0_plan_1 (rcv_cls (r := (RX0, TX0, 35)) rfl ⟨mo_X0_plan_2, nmo_X0_plan_2, q807, q809, qs19⟩)
theorem en_X0_plan_4 : SndE EE S mi_X0_plan 4 (.inl (e_ldi 5 1)) := sn_iload_n dX0_plan_4 rfl rfl
theorem en_X0_plan_5 : SndE EE S mi_X0_plan 5 (.inl (e_tsw (fun x => if x = 0 then 36 else if x = 1 then 44 else if x = 2 then 49 else if x = 3 then 59 else 64))) := sn_tsw (lo := 0) (ts := [36, 44, 49, 59]) (df := 64) dX0_plan_5 rfl (by decide) (by decide) (by decide) (by decide) (by decide)
theorem en_X0_plan_36 : SndE EE S mi_X0_plan 36 (.inl (e_lda 37 0)) := sn_aload_n dX0_plan_36 rfl rfl
theorem en_X0_plan_37 : SndE EE S mi_X0_plan 37 (.inl (e_gI 40 0 34)) := sn_gI dX0_plan_37 rfl cl_0 (by decide) rfl (Or.inl q684) (Or.inl rfl)
theorem en_X0_plan_40 : SndE EE S mi_X0_plan 40 (.inr (.inl (fun _ _ => some 156, 1, 3))) := sc_stat dX0_plan_40 mo_J8_bitCount nmo_J8_bitCount q833 q834 q835
theorem en_X0_plan_43 : SndE EE S mi_X0_plan 43 (.inr (.inr 1)) := ⟨dX0_plan_43, rfl⟩
theorem en_X0_plan_44 : SndE EE S mi_X0_plan 44 (.inl (e_lda 45 0)) := sn_aload_n dX0_plan_44 rfl rfl
theorem en_X0_plan_45 : SndE EE S mi_X0_plan 45 (.inl (e_gI 48 0 34)) := sn_gI dX0_plan_45 rfl cl_0 (by decide) rfl (Or.inl q684) (Or.inl rfl)
theorem en_X0_plan_48 : SndE EE S mi_X0_plan 48 (.inr (.inr 1)) := ⟨dX0_plan_48, rfl⟩
theorem en_X0_plan_49 : SndE EE S mi_X0_plan 49 (.inl (e_lda 50 0)) := sn_aload_n dX0_plan_49 rfl rfl
theorem en_X0_plan_50 : SndE EE S mi_X0_plan 50 (.inl (e_gR 53 0 30)) := sn_gR dX0_plan_50 rfl cl_0 (by decide) rfl (Or.inl q680) (Or.inl rfl)
theorem en_X0_plan_53 : SndE EE S mi_X0_plan 53 (.inl (e_lda 54 0)) := sn_aload_n dX0_plan_53 rfl rfl
theorem en_X0_plan_54 : SndE EE S mi_X0_plan 54 (.inl (e_gI 57 0 34)) := sn_gI dX0_plan_54 rfl cl_0 (by decide) rfl (Or.inl q684) (Or.inl rfl)
theorem en_X0_plan_57 : SndE EE S mi_X0_plan 57 (.inl (e_ald 58 1)) := sn_iald dX0_plan_57 rfl
theorem en_X0_plan_58 : SndE EE S mi_X0_plan 58 (.inr (.inr 1)) := ⟨dX0_plan_58, rfl⟩
theorem en_X0_plan_59 : SndE EE S mi_X0_plan 59 (.inl (e_lda 60 0)) := sn_aload_n dX0_plan_59 rfl rfl
theorem en_X0_plan_60 : SndE EE S mi_X0_plan 60 (.inl (e_gI 63 0 33)) := sn_gI dX0_plan_60 rfl cl_0 (by decide) rfl (Or.inl q683) (Or.inl rfl)
theorem en_X0_plan_63 : SndE EE S mi_X0_plan 63 (.inr (.inr 1)) := ⟨dX0_plan_63, rfl⟩
theorem en_X0_plan_64 : SndE EE S mi_X0_plan 64 (.inl (e_psh 65 (.int (-1)))) := sn_iconst dX0_plan_64 rfl rfl
theorem en_X0_plan_65 : SndE EE S mi_X0_plan 65 (.inr (.inr 1)) := ⟨dX0_plan_65, rfl⟩
theorem sd_X0_plan : ∀ pc x, cd_X0_plan pc = some x → SndE EE S mi_X0_plan pc x := (tN_ok (tN_ok (tN_ok (tN_ok (tL_ok en_X0_plan_0) (tL_ok en_X0_plan_1)) (tN_ok (tL_ok en_X0_plan_4) (tN_ok (tL_ok en_X0_plan_5) (tL_ok en_X0_plan_36)))) (tN_ok (tN_ok (tL_ok en_X0_plan_37) (tN_ok (tL_ok en_X0_plan_40) (tL_ok en_X0_plan_43))) (tN_ok (tL_ok en_X0_plan_44) (tN_ok (tL_ok en_X0_plan_45) (tL_ok en_X0_plan_48))))) (tN_ok (tN_ok (tN_ok (tL_ok en_X0_plan_49) (tL_ok en_X0_plan_50)) (tN_ok (tL_ok en_X0_plan_53) (tN_ok (tL_ok en_X0_plan_54) (tL_ok en_X0_plan_57)))) (tN_ok (tN_ok (tL_ok en_X0_plan_58) (tN_ok (tL_ok en_X0_plan_59) (tL_ok en_X0_plan_60))) (tN_ok (tL_ok en_X0_plan_63) (tN_ok (tL_ok en_X0_plan_64) (tL_ok en_X0_plan_65))))))
theorem en_X0_plan_2_0 : SndE EE S mi_X0_plan_2 0 (.inl (e_lda 1 0)) := sn_aload_n dX0_plan_2_0 rfl rfl
theorem en_X0_plan_2_1 : SndE EE S mi_X0_plan_2 1 (.inl (e_gR 4 0 30)) := sn_gR dX0_plan_2_1 rfl cl_0 (by decide) rfl (Or.inl q680) (Or.inl rfl)
theorem en_X0_plan_2_4 : SndE EE S mi_X0_plan_2 4 (.inl (e_psh 5 (.int (0)))) := sn_iconst dX0_plan_2_4 rfl rfl
theorem en_X0_plan_2_5 : SndE EE S mi_X0_plan_2 5 (.inl (e_psh 6 (.int (0)))) := sn_iconst dX0_plan_2_5 rfl rfl
theorem en_X0_plan_2_6 : SndE EE S mi_X0_plan_2 6 (.inl (e_iast 7)) := sn_iast dX0_plan_2_6 rfl
theorem en_X0_plan_2_7 : SndE EE S mi_X0_plan_2 7 (.inl (e_psh 8 (.int (0)))) := sn_iconst dX0_plan_2_7 rfl rfl
theorem en_X0_plan_2_8 : SndE EE S mi_X0_plan_2 8 (.inl (e_sti 9 1)) := sn_istore_n dX0_plan_2_8 rfl rfl rfl (by decide)
theorem en_X0_plan_2_9 : SndE EE S mi_X0_plan_2 9 (.inl (e_psh 10 (.int (1)))) := sn_iconst dX0_plan_2_9 rfl rfl
theorem en_X0_plan_2_10 : SndE EE S mi_X0_plan_2 10 (.inl (e_sti 11 2)) := sn_istore_n dX0_plan_2_10 rfl rfl rfl (by decide)
theorem en_X0_plan_2_11 : SndE EE S mi_X0_plan_2 11 (.inl (e_ldi 12 2)) := sn_iload_n dX0_plan_2_11 rfl rfl
theorem en_X0_plan_2_12 : SndE EE S mi_X0_plan_2 12 (.inl (e_psh 13 (.int (1)))) := sn_iconst dX0_plan_2_12 rfl rfl
theorem en_X0_plan_2_13 : SndE EE S mi_X0_plan_2 13 (.inl (e_lda 14 0)) := sn_aload_n dX0_plan_2_13 rfl rfl
theorem en_X0_plan_2_14 : SndE EE S mi_X0_plan_2 14 (.inl (e_gI 17 0 25)) := sn_gI dX0_plan_2_14 rfl cl_0 (by decide) rfl (Or.inl q675) (Or.inl rfl)
theorem en_X0_plan_2_17 : SndE EE S mi_X0_plan_2 17 (.inl (e_bin 18 (fun x y => x <<< (y &&& 31)))) := sn_ishl dX0_plan_2_17 rfl
theorem en_X0_plan_2_18 : SndE EE S mi_X0_plan_2 18 (.inl (e_ige 21 92)) := sn_ige dX0_plan_2_18 rfl (by decide)
theorem en_X0_plan_2_21 : SndE EE S mi_X0_plan_2 21 (.inl (e_lda 22 0)) := sn_aload_n dX0_plan_2_21 rfl rfl
theorem en_X0_plan_2_22 : SndE EE S mi_X0_plan_2 22 (.inl (e_gR 25 0 30)) := sn_gR dX0_plan_2_22 rfl cl_0 (by decide) rfl (Or.inl q680) (Or.inl rfl)
theorem en_X0_plan_2_25 : SndE EE S mi_X0_plan_2 25 (.inl (e_ldi 26 2)) := sn_iload_n dX0_plan_2_25 rfl rfl
theorem en_X0_plan_2_26 : SndE EE S mi_X0_plan_2 26 (.inl (e_lda 27 0)) := sn_aload_n dX0_plan_2_26 rfl rfl
theorem en_X0_plan_2_27 : SndE EE S mi_X0_plan_2 27 (.inl (e_ldi 28 2)) := sn_iload_n dX0_plan_2_27 rfl rfl
theorem en_X0_plan_2_28 : SndE EE S mi_X0_plan_2 28 (.inl (e_lda 29 0)) := sn_aload_n dX0_plan_2_28 rfl rfl
theorem en_X0_plan_2_29 : SndE EE S mi_X0_plan_2 29 (.inl (e_ldi 30 2)) := sn_iload_n dX0_plan_2_29 rfl rfl
theorem en_X0_plan_2_30 : SndE EE S mi_X0_plan_2 30 (.inr (.inl (d_cls 0 39, 2, 3))) := sc_virt dX0_plan_2_30 (rcv_cls (r := (RX0, TX0, 35)) rfl ⟨mo_X0_lastOf, nmo_X0_lastOf, q811, q813, qs20⟩)
theorem en_X0_plan_2_33 : SndE EE S mi_X0_plan_2 33 (.inr (.inl (d_cls 0 40, 3, 3))) := sc_virt dX0_plan_2_33 (rcv_cls (r := (RX0, TX0, 35)) rfl ⟨mo_X0_outBy, nmo_X0_outBy, q815, q817, qs21⟩)
theorem en_X0_plan_2_36 : SndE EE S mi_X0_plan_2 36 (.inl (e_iast 37)) := sn_iast dX0_plan_2_36 rfl
theorem en_X0_plan_2_37 : SndE EE S mi_X0_plan_2 37 (.inl (e_lda 38 0)) := sn_aload_n dX0_plan_2_37 rfl rfl
theorem en_X0_plan_2_38 : SndE EE S mi_X0_plan_2 38 (.inl (e_gR 41 0 30)) := sn_gR dX0_plan_2_38 rfl cl_0 (by decide) rfl (Or.inl q680) (Or.inl rfl)
theorem en_X0_plan_2_41 : SndE EE S mi_X0_plan_2 41 (.inl (e_ldi 42 2)) := sn_iload_n dX0_plan_2_41 rfl rfl
theorem en_X0_plan_2_42 : SndE EE S mi_X0_plan_2 42 (.inl (e_ald 43 1)) := sn_iald dX0_plan_2_42 rfl
theorem en_X0_plan_2_43 : SndE EE S mi_X0_plan_2 43 (.inl (e_psh 45 (.int (1000000)))) := sn_ldc dX0_plan_2_43 rfl q819
theorem en_X0_plan_2_45 : SndE EE S mi_X0_plan_2 45 (.inl (e_ine 48 51)) := sn_ine dX0_plan_2_45 rfl (by decide)
theorem en_X0_plan_2_48 : SndE EE S mi_X0_plan_2 48 (.inl (e_goto 86)) := sn_goto dX0_plan_2_48 (by decide)
theorem en_X0_plan_2_51 : SndE EE S mi_X0_plan_2 51 (.inl (e_ldi 52 2)) := sn_iload_n dX0_plan_2_51 rfl rfl
theorem en_X0_plan_2_52 : SndE EE S mi_X0_plan_2 52 (.inr (.inl (fun _ _ => some 156, 1, 3))) := sc_stat dX0_plan_2_52 mo_J8_bitCount nmo_J8_bitCount q833 q834 q835
theorem en_X0_plan_2_55 : SndE EE S mi_X0_plan_2 55 (.inl (e_ldi 56 1)) := sn_iload_n dX0_plan_2_55 rfl rfl
theorem en_X0_plan_2_56 : SndE EE S mi_X0_plan_2 56 (.inr (.inl (fun _ _ => some 156, 1, 3))) := sc_stat dX0_plan_2_56 mo_J8_bitCount nmo_J8_bitCount q833 q834 q835
theorem en_X0_plan_2_59 : SndE EE S mi_X0_plan_2 59 (.inl (e_bin 60 (fun x y => x - y))) := sn_isub dX0_plan_2_59 rfl
theorem en_X0_plan_2_60 : SndE EE S mi_X0_plan_2 60 (.inl (e_sti 61 3)) := sn_istore_n dX0_plan_2_60 rfl rfl rfl (by decide)
theorem en_X0_plan_2_61 : SndE EE S mi_X0_plan_2 61 (.inl (e_ldi 62 3)) := sn_iload_n dX0_plan_2_61 rfl rfl
theorem en_X0_plan_2_62 : SndE EE S mi_X0_plan_2 62 (.inl (e_zgt 65 84)) := sn_zgt dX0_plan_2_62 rfl (by decide)
theorem en_X0_plan_2_65 : SndE EE S mi_X0_plan_2 65 (.inl (e_ldi 66 3)) := sn_iload_n dX0_plan_2_65 rfl rfl
theorem en_X0_plan_2_66 : SndE EE S mi_X0_plan_2 66 (.inl (e_zne 69 86)) := sn_zne dX0_plan_2_66 rfl (by decide)
theorem en_X0_plan_2_69 : SndE EE S mi_X0_plan_2 69 (.inl (e_lda 70 0)) := sn_aload_n dX0_plan_2_69 rfl rfl
theorem en_X0_plan_2_70 : SndE EE S mi_X0_plan_2 70 (.inl (e_gR 73 0 30)) := sn_gR dX0_plan_2_70 rfl cl_0 (by decide) rfl (Or.inl q680) (Or.inl rfl)
theorem en_X0_plan_2_73 : SndE EE S mi_X0_plan_2 73 (.inl (e_ldi 74 2)) := sn_iload_n dX0_plan_2_73 rfl rfl
theorem en_X0_plan_2_74 : SndE EE S mi_X0_plan_2 74 (.inl (e_ald 75 1)) := sn_iald dX0_plan_2_74 rfl
theorem en_X0_plan_2_75 : SndE EE S mi_X0_plan_2 75 (.inl (e_lda 76 0)) := sn_aload_n dX0_plan_2_75 rfl rfl
theorem en_X0_plan_2_76 : SndE EE S mi_X0_plan_2 76 (.inl (e_gR 79 0 30)) := sn_gR dX0_plan_2_76 rfl cl_0 (by decide) rfl (Or.inl q680) (Or.inl rfl)
theorem en_X0_plan_2_79 : SndE EE S mi_X0_plan_2 79 (.inl (e_ldi 80 1)) := sn_iload_n dX0_plan_2_79 rfl rfl
theorem en_X0_plan_2_80 : SndE EE S mi_X0_plan_2 80 (.inl (e_ald 81 1)) := sn_iald dX0_plan_2_80 rfl
theorem en_X0_plan_2_81 : SndE EE S mi_X0_plan_2 81 (.inl (e_ige 84 86)) := sn_ige dX0_plan_2_81 rfl (by decide)
theorem en_X0_plan_2_84 : SndE EE S mi_X0_plan_2 84 (.inl (e_ldi 85 2)) := sn_iload_n dX0_plan_2_84 rfl rfl
theorem en_X0_plan_2_85 : SndE EE S mi_X0_plan_2 85 (.inl (e_sti 86 1)) := sn_istore_n dX0_plan_2_85 rfl rfl rfl (by decide)
theorem en_X0_plan_2_86 : SndE EE S mi_X0_plan_2 86 (.inl (e_inc 89 2 (1))) := sn_iinc dX0_plan_2_86 rfl rfl rfl (by decide)
theorem en_X0_plan_2_89 : SndE EE S mi_X0_plan_2 89 (.inl (e_goto 11)) := sn_goto dX0_plan_2_89 (by decide)
theorem en_X0_plan_2_92 : SndE EE S mi_X0_plan_2 92 (.inl (e_lda 93 0)) := sn_aload_n dX0_plan_2_92 rfl rfl
theorem en_X0_plan_2_93 : SndE EE S mi_X0_plan_2 93 (.inl (e_ldi 94 1)) := sn_iload_n dX0_plan_2_93 rfl rfl
theorem en_X0_plan_2_94 : SndE EE S mi_X0_plan_2 94 (.inl (e_pI 97 0 34)) := sn_pI dX0_plan_2_94 rfl cl_0 (by decide) rfl (Or.inl ⟨q684, Or.inl rfl⟩) (Or.inl rfl) (fun _ => ⟨rfl, rfl⟩)
theorem en_X0_plan_2_97 : SndE EE S mi_X0_plan_2 97 (.inl (e_lda 98 0)) := sn_aload_n dX0_plan_2_97 rfl rfl
theorem en_X0_plan_2_98 : SndE EE S mi_X0_plan_2 98 (.inl (e_psh 99 (.int (0)))) := sn_iconst dX0_plan_2_98 rfl rfl
theorem en_X0_plan_2_99 : SndE EE S mi_X0_plan_2 99 (.inl (e_pI 102 0 33)) := sn_pI dX0_plan_2_99 rfl cl_0 (by decide) rfl (Or.inl ⟨q683, Or.inl rfl⟩) (Or.inl rfl) (fun _ => ⟨rfl, rfl⟩)
theorem en_X0_plan_2_102 : SndE EE S mi_X0_plan_2 102 (.inl (e_ldi 103 1)) := sn_iload_n dX0_plan_2_102 rfl rfl
theorem en_X0_plan_2_103 : SndE EE S mi_X0_plan_2 103 (.inl (e_sti 104 2)) := sn_istore_n dX0_plan_2_103 rfl rfl rfl (by decide)
theorem en_X0_plan_2_104 : SndE EE S mi_X0_plan_2 104 (.inl (e_ldi 105 2)) := sn_iload_n dX0_plan_2_104 rfl rfl
theorem en_X0_plan_2_105 : SndE EE S mi_X0_plan_2 105 (.inl (e_zle 108 163)) := sn_zle dX0_plan_2_105 rfl (by decide)
theorem en_X0_plan_2_108 : SndE EE S mi_X0_plan_2 108 (.inl (e_lda 109 0)) := sn_aload_n dX0_plan_2_108 rfl rfl
theorem en_X0_plan_2_109 : SndE EE S mi_X0_plan_2 109 (.inl (e_ldi 110 2)) := sn_iload_n dX0_plan_2_109 rfl rfl
theorem en_X0_plan_2_110 : SndE EE S mi_X0_plan_2 110 (.inr (.inl (d_cls 0 39, 2, 3))) := sc_virt dX0_plan_2_110 (rcv_cls (r := (RX0, TX0, 35)) rfl ⟨mo_X0_lastOf, nmo_X0_lastOf, q811, q813, qs20⟩)
theorem en_X0_plan_2_113 : SndE EE S mi_X0_plan_2 113 (.inl (e_sti 114 3)) := sn_istore_n dX0_plan_2_113 rfl rfl rfl (by decide)
theorem en_X0_plan_2_114 : SndE EE S mi_X0_plan_2 114 (.inl (e_lda 115 0)) := sn_aload_n dX0_plan_2_114 rfl rfl
theorem en_X0_plan_2_115 : SndE EE S mi_X0_plan_2 115 (.inl (e_gR 118 0 31)) := sn_gR dX0_plan_2_115 rfl cl_0 (by decide) rfl (Or.inl q681) (Or.inl rfl)
theorem en_X0_plan_2_118 : SndE EE S mi_X0_plan_2 118 (.inl (e_lda 119 0)) := sn_aload_n dX0_plan_2_118 rfl rfl
theorem en_X0_plan_2_119 : SndE EE S mi_X0_plan_2 119 (.inl (e_gI 122 0 33)) := sn_gI dX0_plan_2_119 rfl cl_0 (by decide) rfl (Or.inl q683) (Or.inl rfl)
theorem en_X0_plan_2_122 : SndE EE S mi_X0_plan_2 122 (.inl (e_ldi 123 3)) := sn_iload_n dX0_plan_2_122 rfl rfl
theorem en_X0_plan_2_123 : SndE EE S mi_X0_plan_2 123 (.inl (e_iast 124)) := sn_iast dX0_plan_2_123 rfl
theorem en_X0_plan_2_124 : SndE EE S mi_X0_plan_2 124 (.inl (e_lda 125 0)) := sn_aload_n dX0_plan_2_124 rfl rfl
theorem en_X0_plan_2_125 : SndE EE S mi_X0_plan_2 125 (.inl (e_gR 128 0 32)) := sn_gR dX0_plan_2_125 rfl cl_0 (by decide) rfl (Or.inl q682) (Or.inl rfl)
theorem en_X0_plan_2_128 : SndE EE S mi_X0_plan_2 128 (.inl (e_lda 129 0)) := sn_aload_n dX0_plan_2_128 rfl rfl
theorem en_X0_plan_2_129 : SndE EE S mi_X0_plan_2 129 (.inl (e_gI 132 0 33)) := sn_gI dX0_plan_2_129 rfl cl_0 (by decide) rfl (Or.inl q683) (Or.inl rfl)
theorem en_X0_plan_2_132 : SndE EE S mi_X0_plan_2 132 (.inl (e_lda 133 0)) := sn_aload_n dX0_plan_2_132 rfl rfl
theorem en_X0_plan_2_133 : SndE EE S mi_X0_plan_2 133 (.inl (e_ldi 134 3)) := sn_iload_n dX0_plan_2_133 rfl rfl
theorem en_X0_plan_2_134 : SndE EE S mi_X0_plan_2 134 (.inl (e_lda 135 0)) := sn_aload_n dX0_plan_2_134 rfl rfl
theorem en_X0_plan_2_135 : SndE EE S mi_X0_plan_2 135 (.inl (e_gR 138 0 30)) := sn_gR dX0_plan_2_135 rfl cl_0 (by decide) rfl (Or.inl q680) (Or.inl rfl)
theorem en_X0_plan_2_138 : SndE EE S mi_X0_plan_2 138 (.inl (e_ldi 139 2)) := sn_iload_n dX0_plan_2_138 rfl rfl
theorem en_X0_plan_2_139 : SndE EE S mi_X0_plan_2 139 (.inl (e_ldi 140 3)) := sn_iload_n dX0_plan_2_139 rfl rfl
theorem en_X0_plan_2_140 : SndE EE S mi_X0_plan_2 140 (.inl (e_bin 141 (fun x y => x ^^^ y))) := sn_ixor dX0_plan_2_140 rfl
theorem en_X0_plan_2_141 : SndE EE S mi_X0_plan_2 141 (.inl (e_ald 142 1)) := sn_iald dX0_plan_2_141 rfl
theorem en_X0_plan_2_142 : SndE EE S mi_X0_plan_2 142 (.inr (.inl (d_cls 0 41, 3, 3))) := sc_virt dX0_plan_2_142 (rcv_cls (r := (RX0, TX0, 35)) rfl ⟨mo_X0_begins, nmo_X0_begins, q820, q822, qs22⟩)
theorem en_X0_plan_2_145 : SndE EE S mi_X0_plan_2 145 (.inl (e_iast 146)) := sn_iast dX0_plan_2_145 rfl
theorem en_X0_plan_2_146 : SndE EE S mi_X0_plan_2 146 (.inl (e_lda 147 0)) := sn_aload_n dX0_plan_2_146 rfl rfl
theorem en_X0_plan_2_147 : SndE EE S mi_X0_plan_2 147 (.inl (e_dup 148)) := sn_dup dX0_plan_2_147 rfl
theorem en_X0_plan_2_148 : SndE EE S mi_X0_plan_2 148 (.inl (e_gI 151 0 33)) := sn_gI dX0_plan_2_148 rfl cl_0 (by decide) rfl (Or.inl q683) (Or.inl rfl)
theorem en_X0_plan_2_151 : SndE EE S mi_X0_plan_2 151 (.inl (e_psh 152 (.int (1)))) := sn_iconst dX0_plan_2_151 rfl rfl
theorem en_X0_plan_2_152 : SndE EE S mi_X0_plan_2 152 (.inl (e_bin 153 (fun x y => x + y))) := sn_iadd dX0_plan_2_152 rfl
theorem en_X0_plan_2_153 : SndE EE S mi_X0_plan_2 153 (.inl (e_pI 156 0 33)) := sn_pI dX0_plan_2_153 rfl cl_0 (by decide) rfl (Or.inl ⟨q683, Or.inl rfl⟩) (Or.inl rfl) (fun _ => ⟨rfl, rfl⟩)
theorem en_X0_plan_2_156 : SndE EE S mi_X0_plan_2 156 (.inl (e_ldi 157 2)) := sn_iload_n dX0_plan_2_156 rfl rfl
theorem en_X0_plan_2_157 : SndE EE S mi_X0_plan_2 157 (.inl (e_ldi 158 3)) := sn_iload_n dX0_plan_2_157 rfl rfl
theorem en_X0_plan_2_158 : SndE EE S mi_X0_plan_2 158 (.inl (e_bin 159 (fun x y => x ^^^ y))) := sn_ixor dX0_plan_2_158 rfl
theorem en_X0_plan_2_159 : SndE EE S mi_X0_plan_2 159 (.inl (e_sti 160 2)) := sn_istore_n dX0_plan_2_159 rfl rfl rfl (by decide)
theorem en_X0_plan_2_160 : SndE EE S mi_X0_plan_2 160 (.inl (e_goto 104)) := sn_goto dX0_plan_2_160 (by decide)
theorem en_X0_plan_2_163 : SndE EE S mi_X0_plan_2 163 (.inr (.inr 0)) := ⟨dX0_plan_2_163, rfl⟩
theorem sd_X0_plan_2 : ∀ pc x, cd_X0_plan_2 pc = some x → SndE EE S mi_X0_plan_2 pc x := (tN_ok (tN_ok (tN_ok (tN_ok (tN_ok (tN_ok (tL_ok en_X0_plan_2_0) (tN_ok (tL_ok en_X0_plan_2_1) (tL_ok en_X0_plan_2_4))) (tN_ok (tL_ok en_X0_plan_2_5) (tN_ok (tL_ok en_X0_plan_2_6) (tL_ok en_X0_plan_2_7)))) (tN_ok (tN_ok (tL_ok en_X0_plan_2_8) (tN_ok (tL_ok en_X0_plan_2_9) (tL_ok en_X0_plan_2_10))) (tN_ok (tL_ok en_X0_plan_2_11) (tN_ok (tL_ok en_X0_plan_2_12) (tL_ok en_X0_plan_2_13))))) (tN_ok (tN_ok (tN_ok (tL_ok en_X0_plan_2_14) (tN_ok (tL_ok en_X0_plan_2_17) (tL_ok en_X0_plan_2_18))) (tN_ok (tL_ok en_X0_plan_2_21) (tN_ok (tL_ok en_X0_plan_2_22) (tL_ok en_X0_plan_2_25)))) (tN_ok (tN_ok (tL_ok en_X0_plan_2_26) (tN_ok (tL_ok en_X0_plan_2_27) (tL_ok en_X0_plan_2_28))) (tN_ok (tN_ok (tL_ok en_X0_plan_2_29) (tL_ok en_X0_plan_2_30)) (tN_ok (tL_ok en_X0_plan_2_33) (tL_ok en_X0_plan_2_36)))))) (tN_ok (tN_ok (tN_ok (tN_ok (tL_ok en_X0_plan_2_37) (tN_ok (tL_ok en_X0_plan_2_38) (tL_ok en_X0_plan_2_41))) (tN_ok (tL_ok en_X0_plan_2_42) (tN_ok (tL_ok en_X0_plan_2_43) (tL_ok en_X0_plan_2_45)))) (tN_ok (tN_ok (tL_ok en_X0_plan_2_48) (tN_ok (tL_ok en_X0_plan_2_51) (tL_ok en_X0_plan_2_52))) (tN_ok (tL_ok en_X0_plan_2_55) (tN_ok (tL_ok en_X0_plan_2_56) (tL_ok en_X0_plan_2_59))))) (tN_ok (tN_ok (tN_ok (tL_ok en_X0_plan_2_60) (tN_ok (tL_ok en_X0_plan_2_61) (tL_ok en_X0_plan_2_62))) (tN_ok (tL_ok en_X0_plan_2_65) (tN_ok (tL_ok en_X0_plan_2_66) (tL_ok en_X0_plan_2_69)))) (tN_ok (tN_ok (tL_ok en_X0_plan_2_70) (tN_ok (tL_ok en_X0_plan_2_73) (tL_ok en_X0_plan_2_74))) (tN_ok (tN_ok (tL_ok en_X0_plan_2_75) (tL_ok en_X0_plan_2_76)) (tN_ok (tL_ok en_X0_plan_2_79) (tL_ok en_X0_plan_2_80))))))) (tN_ok (tN_ok (tN_ok (tN_ok (tN_ok (tL_ok en_X0_plan_2_81) (tN_ok (tL_ok en_X0_plan_2_84) (tL_ok en_X0_plan_2_85))) (tN_ok (tL_ok en_X0_plan_2_86) (tN_ok (tL_ok en_X0_plan_2_89) (tL_ok en_X0_plan_2_92)))) (tN_ok (tN_ok (tL_ok en_X0_plan_2_93) (tN_ok (tL_ok en_X0_plan_2_94) (tL_ok en_X0_plan_2_97))) (tN_ok (tL_ok en_X0_plan_2_98) (tN_ok (tL_ok en_X0_plan_2_99) (tL_ok en_X0_plan_2_102))))) (tN_ok (tN_ok (tN_ok (tL_ok en_X0_plan_2_103) (tN_ok (tL_ok en_X0_plan_2_104) (tL_ok en_X0_plan_2_105))) (tN_ok (tL_ok en_X0_plan_2_108) (tN_ok (tL_ok en_X0_plan_2_109) (tL_ok en_X0_plan_2_110)))) (tN_ok (tN_ok (tL_ok en_X0_plan_2_113) (tN_ok (tL_ok en_X0_plan_2_114) (tL_ok en_X0_plan_2_115))) (tN_ok (tN_ok (tL_ok en_X0_plan_2_118) (tL_ok en_X0_plan_2_119)) (tN_ok (tL_ok en_X0_plan_2_122) (tL_ok en_X0_plan_2_123)))))) (tN_ok (tN_ok (tN_ok (tN_ok (tL_ok en_X0_plan_2_124) (tN_ok (tL_ok en_X0_plan_2_125) (tL_ok en_X0_plan_2_128))) (tN_ok (tL_ok en_X0_plan_2_129) (tN_ok (tL_ok en_X0_plan_2_132) (tL_ok en_X0_plan_2_133)))) (tN_ok (tN_ok (tL_ok en_X0_plan_2_134) (tN_ok (tL_ok en_X0_plan_2_135) (tL_ok en_X0_plan_2_138))) (tN_ok (tN_ok (tL_ok en_X0_plan_2_139) (tL_ok en_X0_plan_2_140)) (tN_ok (tL_ok en_X0_plan_2_141) (tL_ok en_X0_plan_2_142))))) (tN_ok (tN_ok (tN_ok (tL_ok en_X0_plan_2_145) (tN_ok (tL_ok en_X0_plan_2_146) (tL_ok en_X0_plan_2_147))) (tN_ok (tL_ok en_X0_plan_2_148) (tN_ok (tL_ok en_X0_plan_2_151) (tL_ok en_X0_plan_2_152)))) (tN_ok (tN_ok (tL_ok en_X0_plan_2_153) (tN_ok (tL_ok en_X0_plan_2_156) (tL_ok en_X0_plan_2_157))) (tN_ok (tN_ok (tL_ok en_X0_plan_2_158) (tL_ok en_X0_plan_2_159)) (tN_ok (tL_ok en_X0_plan_2_160) (tL_ok en_X0_plan_2_163))))))))
theorem en_X0_lastOf_0 : SndE EE S mi_X0_lastOf 0 (.inl (e_psh 1 (.int (0)))) := sn_iconst dX0_lastOf_0 rfl rfl
theorem en_X0_lastOf_1 : SndE EE S mi_X0_lastOf 1 (.inl (e_sti 2 2)) := sn_istore_n dX0_lastOf_1 rfl rfl rfl (by decide)
theorem en_X0_lastOf_2 : SndE EE S mi_X0_lastOf 2 (.inl (e_ldi 3 1)) := sn_iload_n dX0_lastOf_2 rfl rfl
theorem en_X0_lastOf_3 : SndE EE S mi_X0_lastOf 3 (.inl (e_ldi 4 1)) := sn_iload_n dX0_lastOf_3 rfl rfl
theorem en_X0_lastOf_4 : SndE EE S mi_X0_lastOf 4 (.inl (e_un 5 (fun x => -x))) := sn_ineg dX0_lastOf_4 rfl
theorem en_X0_lastOf_5 : SndE EE S mi_X0_lastOf 5 (.inl (e_bin 6 (fun x y => x &&& y))) := sn_iand dX0_lastOf_5 rfl
theorem en_X0_lastOf_6 : SndE EE S mi_X0_lastOf 6 (.inl (e_sti 7 3)) := sn_istore_n dX0_lastOf_6 rfl rfl rfl (by decide)
theorem en_X0_lastOf_7 : SndE EE S mi_X0_lastOf 7 (.inl (e_ldi 8 3)) := sn_iload_n dX0_lastOf_7 rfl rfl
theorem en_X0_lastOf_8 : SndE EE S mi_X0_lastOf 8 (.inl (e_zle 11 54)) := sn_zle dX0_lastOf_8 rfl (by decide)
theorem en_X0_lastOf_11 : SndE EE S mi_X0_lastOf 11 (.inl (e_ldi 12 3)) := sn_iload_n dX0_lastOf_11 rfl rfl
theorem en_X0_lastOf_12 : SndE EE S mi_X0_lastOf 12 (.inl (e_ldi 13 1)) := sn_iload_n dX0_lastOf_12 rfl rfl
theorem en_X0_lastOf_13 : SndE EE S mi_X0_lastOf 13 (.inl (e_igt 16 54)) := sn_igt dX0_lastOf_13 rfl (by decide)
theorem en_X0_lastOf_16 : SndE EE S mi_X0_lastOf 16 (.inl (e_ldi 17 2)) := sn_iload_n dX0_lastOf_16 rfl rfl
theorem en_X0_lastOf_17 : SndE EE S mi_X0_lastOf 17 (.inl (e_zeq 20 35)) := sn_zeq dX0_lastOf_17 rfl (by decide)
theorem en_X0_lastOf_20 : SndE EE S mi_X0_lastOf 20 (.inl (e_lda 21 0)) := sn_aload_n dX0_lastOf_20 rfl rfl
theorem en_X0_lastOf_21 : SndE EE S mi_X0_lastOf 21 (.inl (e_ldi 22 1)) := sn_iload_n dX0_lastOf_21 rfl rfl
theorem en_X0_lastOf_22 : SndE EE S mi_X0_lastOf 22 (.inl (e_ldi 23 3)) := sn_iload_n dX0_lastOf_22 rfl rfl
theorem en_X0_lastOf_23 : SndE EE S mi_X0_lastOf 23 (.inr (.inl (d_cls 0 40, 3, 3))) := sc_virt dX0_lastOf_23 (rcv_cls (r := (RX0, TX0, 35)) rfl ⟨mo_X0_outBy, nmo_X0_outBy, q815, q817, qs21⟩)
theorem en_X0_lastOf_26 : SndE EE S mi_X0_lastOf 26 (.inl (e_lda 27 0)) := sn_aload_n dX0_lastOf_26 rfl rfl
theorem en_X0_lastOf_27 : SndE EE S mi_X0_lastOf 27 (.inl (e_ldi 28 1)) := sn_iload_n dX0_lastOf_27 rfl rfl
theorem en_X0_lastOf_28 : SndE EE S mi_X0_lastOf 28 (.inl (e_ldi 29 2)) := sn_iload_n dX0_lastOf_28 rfl rfl
theorem en_X0_lastOf_29 : SndE EE S mi_X0_lastOf 29 (.inr (.inl (d_cls 0 40, 3, 3))) := sc_virt dX0_lastOf_29 (rcv_cls (r := (RX0, TX0, 35)) rfl ⟨mo_X0_outBy, nmo_X0_outBy, q815, q817, qs21⟩)
theorem en_X0_lastOf_32 : SndE EE S mi_X0_lastOf 32 (.inl (e_ige 35 37)) := sn_ige dX0_lastOf_32 rfl (by decide)
theorem en_X0_lastOf_35 : SndE EE S mi_X0_lastOf 35 (.inl (e_ldi 36 3)) := sn_iload_n dX0_lastOf_35 rfl rfl
theorem en_X0_lastOf_36 : SndE EE S mi_X0_lastOf 36 (.inl (e_sti 37 2)) := sn_istore_n dX0_lastOf_36 rfl rfl rfl (by decide)
theorem en_X0_lastOf_37 : SndE EE S mi_X0_lastOf 37 (.inl (e_ldi 38 3)) := sn_iload_n dX0_lastOf_37 rfl rfl
theorem en_X0_lastOf_38 : SndE EE S mi_X0_lastOf 38 (.inl (e_ldi 39 1)) := sn_iload_n dX0_lastOf_38 rfl rfl
theorem en_X0_lastOf_39 : SndE EE S mi_X0_lastOf 39 (.inl (e_ine 42 45)) := sn_ine dX0_lastOf_39 rfl (by decide)
theorem en_X0_lastOf_42 : SndE EE S mi_X0_lastOf 42 (.inl (e_goto 54)) := sn_goto dX0_lastOf_42 (by decide)
theorem en_X0_lastOf_45 : SndE EE S mi_X0_lastOf 45 (.inl (e_ldi 46 3)) := sn_iload_n dX0_lastOf_45 rfl rfl
theorem en_X0_lastOf_46 : SndE EE S mi_X0_lastOf 46 (.inl (e_ldi 47 1)) := sn_iload_n dX0_lastOf_46 rfl rfl
theorem en_X0_lastOf_47 : SndE EE S mi_X0_lastOf 47 (.inl (e_bin 48 (fun x y => x - y))) := sn_isub dX0_lastOf_47 rfl
theorem en_X0_lastOf_48 : SndE EE S mi_X0_lastOf 48 (.inl (e_ldi 49 1)) := sn_iload_n dX0_lastOf_48 rfl rfl
theorem en_X0_lastOf_49 : SndE EE S mi_X0_lastOf 49 (.inl (e_bin 50 (fun x y => x &&& y))) := sn_iand dX0_lastOf_49 rfl
theorem en_X0_lastOf_50 : SndE EE S mi_X0_lastOf 50 (.inl (e_sti 51 3)) := sn_istore_n dX0_lastOf_50 rfl rfl rfl (by decide)
theorem en_X0_lastOf_51 : SndE EE S mi_X0_lastOf 51 (.inl (e_goto 7)) := sn_goto dX0_lastOf_51 (by decide)
theorem en_X0_lastOf_54 : SndE EE S mi_X0_lastOf 54 (.inl (e_ldi 55 2)) := sn_iload_n dX0_lastOf_54 rfl rfl
theorem en_X0_lastOf_55 : SndE EE S mi_X0_lastOf 55 (.inr (.inr 1)) := ⟨dX0_lastOf_55, rfl⟩
theorem sd_X0_lastOf : ∀ pc x, cd_X0_lastOf pc = some x → SndE EE S mi_X0_lastOf pc x := (tN_ok (tN_ok (tN_ok (tN_ok (tN_ok (tL_ok en_X0_lastOf_0) (tL_ok en_X0_lastOf_1)) (tN_ok (tL_ok en_X0_lastOf_2) (tL_ok en_X0_lastOf_3))) (tN_ok (tN_ok (tL_ok en_X0_lastOf_4) (tL_ok en_X0_lastOf_5)) (tN_ok (tL_ok en_X0_lastOf_6) (tN_ok (tL_ok en_X0_lastOf_7) (tL_ok en_X0_lastOf_8))))) (tN_ok (tN_ok (tN_ok (tL_ok en_X0_lastOf_11) (tL_ok en_X0_lastOf_12)) (tN_ok (tL_ok en_X0_lastOf_13) (tN_ok (tL_ok en_X0_lastOf_16) (tL_ok en_X0_lastOf_17)))) (tN_ok (tN_ok (tL_ok en_X0_lastOf_20) (tL_ok en_X0_lastOf_21)) (tN_ok (tL_ok en_X0_lastOf_22) (tN_ok (tL_ok en_X0_lastOf_23) (tL_ok en_X0_lastOf_26)))))) (tN_ok (tN_ok (tN_ok (tN_ok (tL_ok en_X0_lastOf_27) (tL_ok en_X0_lastOf_28)) (tN_ok (tL_ok en_X0_lastOf_29) (tL_ok en_X0_lastOf_32))) (tN_ok (tN_ok (tL_ok en_X0_lastOf_35) (tL_ok en_X0_lastOf_36)) (tN_ok (tL_ok en_X0_lastOf_37) (tN_ok (tL_ok en_X0_lastOf_38) (tL_ok en_X0_lastOf_39))))) (tN_ok (tN_ok (tN_ok (tL_ok en_X0_lastOf_42) (tL_ok en_X0_lastOf_45)) (tN_ok (tL_ok en_X0_lastOf_46) (tN_ok (tL_ok en_X0_lastOf_47) (tL_ok en_X0_lastOf_48)))) (tN_ok (tN_ok (tL_ok en_X0_lastOf_49) (tL_ok en_X0_lastOf_50)) (tN_ok (tL_ok en_X0_lastOf_51) (tN_ok (tL_ok en_X0_lastOf_54) (tL_ok en_X0_lastOf_55)))))))
theorem en_X0_outBy_0 : SndE EE S mi_X0_outBy 0 (.inl (e_lda 1 0)) := sn_aload_n dX0_outBy_0 rfl rfl
theorem en_X0_outBy_1 : SndE EE S mi_X0_outBy 1 (.inl (e_gR 4 0 30)) := sn_gR dX0_outBy_1 rfl cl_0 (by decide) rfl (Or.inl q680) (Or.inl rfl)
theorem en_X0_outBy_4 : SndE EE S mi_X0_outBy 4 (.inl (e_ldi 5 1)) := sn_iload_n dX0_outBy_4 rfl rfl
theorem en_X0_outBy_5 : SndE EE S mi_X0_outBy 5 (.inl (e_ldi 6 2)) := sn_iload_n dX0_outBy_5 rfl rfl
theorem en_X0_outBy_6 : SndE EE S mi_X0_outBy 6 (.inl (e_bin 7 (fun x y => x ^^^ y))) := sn_ixor dX0_outBy_6 rfl
theorem en_X0_outBy_7 : SndE EE S mi_X0_outBy 7 (.inl (e_ald 8 1)) := sn_iald dX0_outBy_7 rfl
theorem en_X0_outBy_8 : SndE EE S mi_X0_outBy 8 (.inl (e_psh 10 (.int (1000000)))) := sn_ldc dX0_outBy_8 rfl q819
theorem en_X0_outBy_10 : SndE EE S mi_X0_outBy 10 (.inl (e_ine 13 16)) := sn_ine dX0_outBy_10 rfl (by decide)
theorem en_X0_outBy_13 : SndE EE S mi_X0_outBy 13 (.inl (e_psh 15 (.int (1000000)))) := sn_ldc dX0_outBy_13 rfl q819
theorem en_X0_outBy_15 : SndE EE S mi_X0_outBy 15 (.inr (.inr 1)) := ⟨dX0_outBy_15, rfl⟩
theorem en_X0_outBy_16 : SndE EE S mi_X0_outBy 16 (.inl (e_lda 17 0)) := sn_aload_n dX0_outBy_16 rfl rfl
theorem en_X0_outBy_17 : SndE EE S mi_X0_outBy 17 (.inl (e_ldi 18 2)) := sn_iload_n dX0_outBy_17 rfl rfl
theorem en_X0_outBy_18 : SndE EE S mi_X0_outBy 18 (.inl (e_lda 19 0)) := sn_aload_n dX0_outBy_18 rfl rfl
theorem en_X0_outBy_19 : SndE EE S mi_X0_outBy 19 (.inl (e_gR 22 0 30)) := sn_gR dX0_outBy_19 rfl cl_0 (by decide) rfl (Or.inl q680) (Or.inl rfl)
theorem en_X0_outBy_22 : SndE EE S mi_X0_outBy 22 (.inl (e_ldi 23 1)) := sn_iload_n dX0_outBy_22 rfl rfl
theorem en_X0_outBy_23 : SndE EE S mi_X0_outBy 23 (.inl (e_ldi 24 2)) := sn_iload_n dX0_outBy_23 rfl rfl
theorem en_X0_outBy_24 : SndE EE S mi_X0_outBy 24 (.inl (e_bin 25 (fun x y => x ^^^ y))) := sn_ixor dX0_outBy_24 rfl
theorem en_X0_outBy_25 : SndE EE S mi_X0_outBy 25 (.inl (e_ald 26 1)) := sn_iald dX0_outBy_25 rfl
theorem en_X0_outBy_26 : SndE EE S mi_X0_outBy 26 (.inr (.inl (d_cls 0 41, 3, 3))) := sc_virt dX0_outBy_26 (rcv_cls (r := (RX0, TX0, 35)) rfl ⟨mo_X0_begins, nmo_X0_begins, q820, q822, qs22⟩)
theorem en_X0_outBy_29 : SndE EE S mi_X0_outBy 29 (.inl (e_sti 30 3)) := sn_istore_n dX0_outBy_29 rfl rfl rfl (by decide)
theorem en_X0_outBy_30 : SndE EE S mi_X0_outBy 30 (.inl (e_ldi 31 3)) := sn_iload_n dX0_outBy_30 rfl rfl
theorem en_X0_outBy_31 : SndE EE S mi_X0_outBy 31 (.inl (e_psh 33 (.int (1000000)))) := sn_ldc dX0_outBy_31 rfl q819
theorem en_X0_outBy_33 : SndE EE S mi_X0_outBy 33 (.inl (e_ine 36 41)) := sn_ine dX0_outBy_33 rfl (by decide)
theorem en_X0_outBy_36 : SndE EE S mi_X0_outBy 36 (.inl (e_psh 38 (.int (1000000)))) := sn_ldc dX0_outBy_36 rfl q819
theorem en_X0_outBy_38 : SndE EE S mi_X0_outBy 38 (.inl (e_goto 48)) := sn_goto dX0_outBy_38 (by decide)
theorem en_X0_outBy_41 : SndE EE S mi_X0_outBy 41 (.inl (e_ldi 42 3)) := sn_iload_n dX0_outBy_41 rfl rfl
theorem en_X0_outBy_42 : SndE EE S mi_X0_outBy 42 (.inl (e_lda 43 0)) := sn_aload_n dX0_outBy_42 rfl rfl
theorem en_X0_outBy_43 : SndE EE S mi_X0_outBy 43 (.inl (e_ldi 44 2)) := sn_iload_n dX0_outBy_43 rfl rfl
theorem en_X0_outBy_44 : SndE EE S mi_X0_outBy 44 (.inr (.inl (d_cls 0 42, 2, 3))) := sc_virt dX0_outBy_44 (rcv_cls (r := (RX0, TX0, 35)) rfl ⟨mo_X0_takes, nmo_X0_takes, q825, q827, qs23⟩)
theorem en_X0_outBy_47 : SndE EE S mi_X0_outBy 47 (.inl (e_bin 48 (fun x y => x + y))) := sn_iadd dX0_outBy_47 rfl
theorem en_X0_outBy_48 : SndE EE S mi_X0_outBy 48 (.inr (.inr 1)) := ⟨dX0_outBy_48, rfl⟩
theorem sd_X0_outBy : ∀ pc x, cd_X0_outBy pc = some x → SndE EE S mi_X0_outBy pc x := (tN_ok (tN_ok (tN_ok (tN_ok (tL_ok en_X0_outBy_0) (tN_ok (tL_ok en_X0_outBy_1) (tL_ok en_X0_outBy_4))) (tN_ok (tN_ok (tL_ok en_X0_outBy_5) (tL_ok en_X0_outBy_6)) (tN_ok (tL_ok en_X0_outBy_7) (tL_ok en_X0_outBy_8)))) (tN_ok (tN_ok (tN_ok (tL_ok en_X0_outBy_10) (tL_ok en_X0_outBy_13)) (tN_ok (tL_ok en_X0_outBy_15) (tL_ok en_X0_outBy_16))) (tN_ok (tN_ok (tL_ok en_X0_outBy_17) (tL_ok en_X0_outBy_18)) (tN_ok (tL_ok en_X0_outBy_19) (tL_ok en_X0_outBy_22))))) (tN_ok (tN_ok (tN_ok (tN_ok (tL_ok en_X0_outBy_23) (tL_ok en_X0_outBy_24)) (tN_ok (tL_ok en_X0_outBy_25) (tL_ok en_X0_outBy_26))) (tN_ok (tN_ok (tL_ok en_X0_outBy_29) (tL_ok en_X0_outBy_30)) (tN_ok (tL_ok en_X0_outBy_31) (tL_ok en_X0_outBy_33)))) (tN_ok (tN_ok (tN_ok (tL_ok en_X0_outBy_36) (tL_ok en_X0_outBy_38)) (tN_ok (tL_ok en_X0_outBy_41) (tL_ok en_X0_outBy_42))) (tN_ok (tN_ok (tL_ok en_X0_outBy_43) (tL_ok en_X0_outBy_44)) (tN_ok (tL_ok en_X0_outBy_47) (tL_ok en_X0_outBy_48))))))
theorem en_X0_begins_0 : SndE EE S mi_X0_begins 0 (.inl (e_psh 1 (.int (-1)))) := sn_iconst dX0_begins_0 rfl rfl
theorem en_X0_begins_1 : SndE EE S mi_X0_begins 1 (.inl (e_sti 2 3)) := sn_istore_n dX0_begins_1 rfl rfl rfl (by decide)
theorem en_X0_begins_2 : SndE EE S mi_X0_begins 2 (.inl (e_psh 4 (.int (1000000)))) := sn_ldc dX0_begins_2 rfl q819
theorem en_X0_begins_4 : SndE EE S mi_X0_begins 4 (.inl (e_sti 6 4)) := sn_istore dX0_begins_4 rfl rfl (by decide)
theorem en_X0_begins_6 : SndE EE S mi_X0_begins 6 (.inl (e_psh 7 (.int (0)))) := sn_iconst dX0_begins_6 rfl rfl
theorem en_X0_begins_7 : SndE EE S mi_X0_begins 7 (.inl (e_sti 9 5)) := sn_istore dX0_begins_7 rfl rfl (by decide)
theorem en_X0_begins_9 : SndE EE S mi_X0_begins 9 (.inl (e_psh 10 (.int (0)))) := sn_iconst dX0_begins_9 rfl rfl
theorem en_X0_begins_10 : SndE EE S mi_X0_begins 10 (.inl (e_sti 12 6)) := sn_istore dX0_begins_10 rfl rfl (by decide)
theorem en_X0_begins_12 : SndE EE S mi_X0_begins 12 (.inl (e_psh 13 (.int (0)))) := sn_iconst dX0_begins_12 rfl rfl
theorem en_X0_begins_13 : SndE EE S mi_X0_begins 13 (.inl (e_sti 15 7)) := sn_istore dX0_begins_13 rfl rfl (by decide)
theorem en_X0_begins_15 : SndE EE S mi_X0_begins 15 (.inl (e_ldi 17 7)) := sn_iload dX0_begins_15 rfl
theorem en_X0_begins_17 : SndE EE S mi_X0_begins 17 (.inl (e_lda 18 0)) := sn_aload_n dX0_begins_17 rfl rfl
theorem en_X0_begins_18 : SndE EE S mi_X0_begins 18 (.inl (e_gI 21 0 25)) := sn_gI dX0_begins_18 rfl cl_0 (by decide) rfl (Or.inl q675) (Or.inl rfl)
theorem en_X0_begins_21 : SndE EE S mi_X0_begins 21 (.inl (e_ige 24 99)) := sn_ige dX0_begins_21 rfl (by decide)
theorem en_X0_begins_24 : SndE EE S mi_X0_begins 24 (.inl (e_ldi 25 1)) := sn_iload_n dX0_begins_24 rfl rfl
theorem en_X0_begins_25 : SndE EE S mi_X0_begins 25 (.inl (e_ldi 27 7)) := sn_iload dX0_begins_25 rfl
theorem en_X0_begins_27 : SndE EE S mi_X0_begins 27 (.inl (e_bin 28 (fun x y => x >>> (y &&& 31)))) := sn_ishr dX0_begins_27 rfl
theorem en_X0_begins_28 : SndE EE S mi_X0_begins 28 (.inl (e_psh 29 (.int (1)))) := sn_iconst dX0_begins_28 rfl rfl
theorem en_X0_begins_29 : SndE EE S mi_X0_begins 29 (.inl (e_bin 30 (fun x y => x &&& y))) := sn_iand dX0_begins_29 rfl
theorem en_X0_begins_30 : SndE EE S mi_X0_begins 30 (.inl (e_zne 33 36)) := sn_zne dX0_begins_30 rfl (by decide)
theorem en_X0_begins_33 : SndE EE S mi_X0_begins 33 (.inl (e_goto 93)) := sn_goto dX0_begins_33 (by decide)
theorem en_X0_begins_36 : SndE EE S mi_X0_begins 36 (.inl (e_ldi 37 3)) := sn_iload_n dX0_begins_36 rfl rfl
theorem en_X0_begins_37 : SndE EE S mi_X0_begins 37 (.inl (e_zlt 40 54)) := sn_zlt dX0_begins_37 rfl (by decide)
theorem en_X0_begins_40 : SndE EE S mi_X0_begins 40 (.inl (e_lda 41 0)) := sn_aload_n dX0_begins_40 rfl rfl
theorem en_X0_begins_41 : SndE EE S mi_X0_begins 41 (.inl (e_gR 44 0 23)) := sn_gR dX0_begins_41 rfl cl_0 (by decide) rfl (Or.inl q673) (Or.inl rfl)
theorem en_X0_begins_44 : SndE EE S mi_X0_begins 44 (.inl (e_ldi 46 7)) := sn_iload dX0_begins_44 rfl
theorem en_X0_begins_46 : SndE EE S mi_X0_begins 46 (.inl (e_ald 47 1)) := sn_iald dX0_begins_46 rfl
theorem en_X0_begins_47 : SndE EE S mi_X0_begins 47 (.inl (e_ldi 48 3)) := sn_iload_n dX0_begins_47 rfl rfl
theorem en_X0_begins_48 : SndE EE S mi_X0_begins 48 (.inl (e_ieq 51 54)) := sn_ieq dX0_begins_48 rfl (by decide)
theorem en_X0_begins_51 : SndE EE S mi_X0_begins 51 (.inl (e_psh 53 (.int (1000000)))) := sn_ldc dX0_begins_51 rfl q819
theorem en_X0_begins_53 : SndE EE S mi_X0_begins 53 (.inr (.inr 1)) := ⟨dX0_begins_53, rfl⟩
theorem en_X0_begins_54 : SndE EE S mi_X0_begins 54 (.inl (e_lda 55 0)) := sn_aload_n dX0_begins_54 rfl rfl
theorem en_X0_begins_55 : SndE EE S mi_X0_begins 55 (.inl (e_gR 58 0 23)) := sn_gR dX0_begins_55 rfl cl_0 (by decide) rfl (Or.inl q673) (Or.inl rfl)
theorem en_X0_begins_58 : SndE EE S mi_X0_begins 58 (.inl (e_ldi 60 7)) := sn_iload dX0_begins_58 rfl
theorem en_X0_begins_60 : SndE EE S mi_X0_begins 60 (.inl (e_ald 61 1)) := sn_iald dX0_begins_60 rfl
theorem en_X0_begins_61 : SndE EE S mi_X0_begins 61 (.inl (e_sti 62 3)) := sn_istore_n dX0_begins_61 rfl rfl rfl (by decide)
theorem en_X0_begins_62 : SndE EE S mi_X0_begins 62 (.inl (e_ldi 64 4)) := sn_iload dX0_begins_62 rfl
theorem en_X0_begins_64 : SndE EE S mi_X0_begins 64 (.inl (e_lda 65 0)) := sn_aload_n dX0_begins_64 rfl rfl
theorem en_X0_begins_65 : SndE EE S mi_X0_begins 65 (.inl (e_gR 68 0 24)) := sn_gR dX0_begins_65 rfl cl_0 (by decide) rfl (Or.inl q674) (Or.inl rfl)
theorem en_X0_begins_68 : SndE EE S mi_X0_begins 68 (.inl (e_ldi 70 7)) := sn_iload dX0_begins_68 rfl
theorem en_X0_begins_70 : SndE EE S mi_X0_begins 70 (.inl (e_ald 71 1)) := sn_iald dX0_begins_70 rfl
theorem en_X0_begins_71 : SndE EE S mi_X0_begins 71 (.inr (.inl (fun _ _ => some 153, 2, 3))) := sc_stat dX0_begins_71 mo_J4_min nmo_J4_min q824 q302 q303
theorem en_X0_begins_74 : SndE EE S mi_X0_begins 74 (.inl (e_sti 76 4)) := sn_istore dX0_begins_74 rfl rfl (by decide)
theorem en_X0_begins_76 : SndE EE S mi_X0_begins 76 (.inl (e_ldi 78 5)) := sn_iload dX0_begins_76 rfl
theorem en_X0_begins_78 : SndE EE S mi_X0_begins 78 (.inl (e_lda 79 0)) := sn_aload_n dX0_begins_78 rfl rfl
theorem en_X0_begins_79 : SndE EE S mi_X0_begins 79 (.inl (e_gR 82 0 24)) := sn_gR dX0_begins_79 rfl cl_0 (by decide) rfl (Or.inl q674) (Or.inl rfl)
theorem en_X0_begins_82 : SndE EE S mi_X0_begins 82 (.inl (e_ldi 84 7)) := sn_iload dX0_begins_82 rfl
theorem en_X0_begins_84 : SndE EE S mi_X0_begins 84 (.inl (e_ald 85 1)) := sn_iald dX0_begins_84 rfl
theorem en_X0_begins_85 : SndE EE S mi_X0_begins 85 (.inr (.inl (fun _ _ => some 152, 2, 3))) := sc_stat dX0_begins_85 mo_J4_max nmo_J4_max q559 q299 q300
theorem en_X0_begins_88 : SndE EE S mi_X0_begins 88 (.inl (e_sti 90 5)) := sn_istore dX0_begins_88 rfl rfl (by decide)
theorem en_X0_begins_90 : SndE EE S mi_X0_begins 90 (.inl (e_inc 93 6 (1))) := sn_iinc dX0_begins_90 rfl rfl rfl (by decide)
theorem en_X0_begins_93 : SndE EE S mi_X0_begins 93 (.inl (e_inc 96 7 (1))) := sn_iinc dX0_begins_93 rfl rfl rfl (by decide)
theorem en_X0_begins_96 : SndE EE S mi_X0_begins 96 (.inl (e_goto 15)) := sn_goto dX0_begins_96 (by decide)
theorem en_X0_begins_99 : SndE EE S mi_X0_begins 99 (.inl (e_ldi 100 2)) := sn_iload_n dX0_begins_99 rfl rfl
theorem en_X0_begins_100 : SndE EE S mi_X0_begins 100 (.inl (e_ldi 102 5)) := sn_iload dX0_begins_100 rfl
theorem en_X0_begins_102 : SndE EE S mi_X0_begins 102 (.inr (.inl (fun _ _ => some 152, 2, 3))) := sc_stat dX0_begins_102 mo_J4_max nmo_J4_max q559 q299 q300
theorem en_X0_begins_105 : SndE EE S mi_X0_begins 105 (.inl (e_sti 107 7)) := sn_istore dX0_begins_105 rfl rfl (by decide)
theorem en_X0_begins_107 : SndE EE S mi_X0_begins 107 (.inl (e_ldi 109 6)) := sn_iload dX0_begins_107 rfl
theorem en_X0_begins_109 : SndE EE S mi_X0_begins 109 (.inl (e_lda 110 0)) := sn_aload_n dX0_begins_109 rfl rfl
theorem en_X0_begins_110 : SndE EE S mi_X0_begins 110 (.inl (e_gI 113 0 26)) := sn_gI dX0_begins_110 rfl cl_0 (by decide) rfl (Or.inl q676) (Or.inl rfl)
theorem en_X0_begins_113 : SndE EE S mi_X0_begins 113 (.inl (e_igt 116 128)) := sn_igt dX0_begins_113 rfl (by decide)
theorem en_X0_begins_116 : SndE EE S mi_X0_begins 116 (.inl (e_ldi 118 7)) := sn_iload dX0_begins_116 rfl
theorem en_X0_begins_118 : SndE EE S mi_X0_begins 118 (.inl (e_ldi 120 4)) := sn_iload dX0_begins_118 rfl
theorem en_X0_begins_120 : SndE EE S mi_X0_begins 120 (.inl (e_lda 121 0)) := sn_aload_n dX0_begins_120 rfl rfl
theorem en_X0_begins_121 : SndE EE S mi_X0_begins 121 (.inl (e_gI 124 0 29)) := sn_gI dX0_begins_121 rfl cl_0 (by decide) rfl (Or.inl q679) (Or.inl rfl)
theorem en_X0_begins_124 : SndE EE S mi_X0_begins 124 (.inl (e_bin 125 (fun x y => x + y))) := sn_iadd dX0_begins_124 rfl
theorem en_X0_begins_125 : SndE EE S mi_X0_begins 125 (.inl (e_ile 128 133)) := sn_ile dX0_begins_125 rfl (by decide)
theorem en_X0_begins_128 : SndE EE S mi_X0_begins 128 (.inl (e_psh 130 (.int (1000000)))) := sn_ldc dX0_begins_128 rfl q819
theorem en_X0_begins_130 : SndE EE S mi_X0_begins 130 (.inl (e_goto 135)) := sn_goto dX0_begins_130 (by decide)
theorem en_X0_begins_133 : SndE EE S mi_X0_begins 133 (.inl (e_ldi 135 7)) := sn_iload dX0_begins_133 rfl
theorem en_X0_begins_135 : SndE EE S mi_X0_begins 135 (.inr (.inr 1)) := ⟨dX0_begins_135, rfl⟩
theorem sd_X0_begins : ∀ pc x, cd_X0_begins pc = some x → SndE EE S mi_X0_begins pc x := (tN_ok (tN_ok (tN_ok (tN_ok (tN_ok (tN_ok (tL_ok en_X0_begins_0) (tL_ok en_X0_begins_1)) (tN_ok (tL_ok en_X0_begins_2) (tL_ok en_X0_begins_4))) (tN_ok (tN_ok (tL_ok en_X0_begins_6) (tL_ok en_X0_begins_7)) (tN_ok (tL_ok en_X0_begins_9) (tL_ok en_X0_begins_10)))) (tN_ok (tN_ok (tN_ok (tL_ok en_X0_begins_12) (tL_ok en_X0_begins_13)) (tN_ok (tL_ok en_X0_begins_15) (tL_ok en_X0_begins_17))) (tN_ok (tN_ok (tL_ok en_X0_begins_18) (tL_ok en_X0_begins_21)) (tN_ok (tL_ok en_X0_begins_24) (tN_ok (tL_ok en_X0_begins_25) (tL_ok en_X0_begins_27)))))) (tN_ok (tN_ok (tN_ok (tN_ok (tL_ok en_X0_begins_28) (tL_ok en_X0_begins_29)) (tN_ok (tL_ok en_X0_begins_30) (tL_ok en_X0_begins_33))) (tN_ok (tN_ok (tL_ok en_X0_begins_36) (tL_ok en_X0_begins_37)) (tN_ok (tL_ok en_X0_begins_40) (tN_ok (tL_ok en_X0_begins_41) (tL_ok en_X0_begins_44))))) (tN_ok (tN_ok (tN_ok (tL_ok en_X0_begins_46) (tL_ok en_X0_begins_47)) (tN_ok (tL_ok en_X0_begins_48) (tL_ok en_X0_begins_51))) (tN_ok (tN_ok (tL_ok en_X0_begins_53) (tL_ok en_X0_begins_54)) (tN_ok (tL_ok en_X0_begins_55) (tN_ok (tL_ok en_X0_begins_58) (tL_ok en_X0_begins_60))))))) (tN_ok (tN_ok (tN_ok (tN_ok (tN_ok (tL_ok en_X0_begins_61) (tL_ok en_X0_begins_62)) (tN_ok (tL_ok en_X0_begins_64) (tL_ok en_X0_begins_65))) (tN_ok (tN_ok (tL_ok en_X0_begins_68) (tL_ok en_X0_begins_70)) (tN_ok (tL_ok en_X0_begins_71) (tN_ok (tL_ok en_X0_begins_74) (tL_ok en_X0_begins_76))))) (tN_ok (tN_ok (tN_ok (tL_ok en_X0_begins_78) (tL_ok en_X0_begins_79)) (tN_ok (tL_ok en_X0_begins_82) (tL_ok en_X0_begins_84))) (tN_ok (tN_ok (tL_ok en_X0_begins_85) (tL_ok en_X0_begins_88)) (tN_ok (tL_ok en_X0_begins_90) (tN_ok (tL_ok en_X0_begins_93) (tL_ok en_X0_begins_96)))))) (tN_ok (tN_ok (tN_ok (tN_ok (tL_ok en_X0_begins_99) (tL_ok en_X0_begins_100)) (tN_ok (tL_ok en_X0_begins_102) (tL_ok en_X0_begins_105))) (tN_ok (tN_ok (tL_ok en_X0_begins_107) (tL_ok en_X0_begins_109)) (tN_ok (tL_ok en_X0_begins_110) (tN_ok (tL_ok en_X0_begins_113) (tL_ok en_X0_begins_116))))) (tN_ok (tN_ok (tN_ok (tL_ok en_X0_begins_118) (tL_ok en_X0_begins_120)) (tN_ok (tL_ok en_X0_begins_121) (tL_ok en_X0_begins_124))) (tN_ok (tN_ok (tL_ok en_X0_begins_125) (tL_ok en_X0_begins_128)) (tN_ok (tL_ok en_X0_begins_130) (tN_ok (tL_ok en_X0_begins_133) (tL_ok en_X0_begins_135))))))))
theorem en_X0_takes_0 : SndE EE S mi_X0_takes 0 (.inl (e_lda 1 0)) := sn_aload_n dX0_takes_0 rfl rfl
theorem en_X0_takes_1 : SndE EE S mi_X0_takes 1 (.inl (e_gI 4 0 27)) := sn_gI dX0_takes_1 rfl cl_0 (by decide) rfl (Or.inl q677) (Or.inl rfl)
theorem en_X0_takes_4 : SndE EE S mi_X0_takes 4 (.inl (e_lda 5 0)) := sn_aload_n dX0_takes_4 rfl rfl
theorem en_X0_takes_5 : SndE EE S mi_X0_takes 5 (.inl (e_gI 8 0 28)) := sn_gI dX0_takes_5 rfl cl_0 (by decide) rfl (Or.inl q678) (Or.inl rfl)
theorem en_X0_takes_8 : SndE EE S mi_X0_takes 8 (.inl (e_lda 9 0)) := sn_aload_n dX0_takes_8 rfl rfl
theorem en_X0_takes_9 : SndE EE S mi_X0_takes 9 (.inl (e_gR 12 0 23)) := sn_gR dX0_takes_9 rfl cl_0 (by decide) rfl (Or.inl q673) (Or.inl rfl)
theorem en_X0_takes_12 : SndE EE S mi_X0_takes 12 (.inl (e_ldi 13 1)) := sn_iload_n dX0_takes_12 rfl rfl
theorem en_X0_takes_13 : SndE EE S mi_X0_takes 13 (.inr (.inl (fun _ _ => some 155, 1, 3))) := sc_stat dX0_takes_13 mo_J8_numberOfTrailingZeros nmo_J8_numberOfTrailingZeros q829 q830 q831
theorem en_X0_takes_16 : SndE EE S mi_X0_takes 16 (.inl (e_ald 17 1)) := sn_iald dX0_takes_16 rfl
theorem en_X0_takes_17 : SndE EE S mi_X0_takes 17 (.inl (e_bin 18 (fun x y => x * y))) := sn_imul dX0_takes_17 rfl
theorem en_X0_takes_18 : SndE EE S mi_X0_takes 18 (.inl (e_bin 19 (fun x y => x + y))) := sn_iadd dX0_takes_18 rfl
theorem en_X0_takes_19 : SndE EE S mi_X0_takes 19 (.inr (.inr 1)) := ⟨dX0_takes_19, rfl⟩
theorem sd_X0_takes : ∀ pc x, cd_X0_takes pc = some x → SndE EE S mi_X0_takes pc x := (tN_ok (tN_ok (tN_ok (tL_ok en_X0_takes_0) (tN_ok (tL_ok en_X0_takes_1) (tL_ok en_X0_takes_4))) (tN_ok (tL_ok en_X0_takes_5) (tN_ok (tL_ok en_X0_takes_8) (tL_ok en_X0_takes_9)))) (tN_ok (tN_ok (tL_ok en_X0_takes_12) (tN_ok (tL_ok en_X0_takes_13) (tL_ok en_X0_takes_16))) (tN_ok (tL_ok en_X0_takes_17) (tN_ok (tL_ok en_X0_takes_18) (tL_ok en_X0_takes_19)))))
theorem en_X0_load_0 : SndE EE S mi_X0_load 0 (.inl (e_lda 1 0)) := sn_aload_n dX0_load_0 rfl rfl
theorem en_X0_load_1 : SndE EE S mi_X0_load 1 (.inr (.inl (d_cls 0 38, 1, 3))) := sc_virt dX0_load_1 (rcv_cls (r := (RX0, TX0, 35)) rfl ⟨mo_X0_plan_2, nmo_X0_plan_2, q807, q809, qs19⟩)
theorem en_X0_load_4 : SndE EE S mi_X0_load 4 (.inl (e_ldi 5 1)) := sn_iload_n dX0_load_4 rfl rfl
theorem en_X0_load_5 : SndE EE S mi_X0_load 5 (.inl (e_zlt 8 16)) := sn_zlt dX0_load_5 rfl (by decide)
theorem en_X0_load_8 : SndE EE S mi_X0_load 8 (.inl (e_ldi 9 1)) := sn_iload_n dX0_load_8 rfl rfl
theorem en_X0_load_9 : SndE EE S mi_X0_load 9 (.inl (e_lda 10 0)) := sn_aload_n dX0_load_9 rfl rfl
theorem en_X0_load_10 : SndE EE S mi_X0_load 10 (.inl (e_gI 13 0 33)) := sn_gI dX0_load_10 rfl cl_0 (by decide) rfl (Or.inl q683) (Or.inl rfl)
theorem en_X0_load_13 : SndE EE S mi_X0_load 13 (.inl (e_ilt 16 18)) := sn_ilt dX0_load_13 rfl (by decide)
theorem en_X0_load_16 : SndE EE S mi_X0_load 16 (.inl (e_psh 17 (.int (-1)))) := sn_iconst dX0_load_16 rfl rfl
theorem en_X0_load_17 : SndE EE S mi_X0_load 17 (.inr (.inr 1)) := ⟨dX0_load_17, rfl⟩
theorem en_X0_load_18 : SndE EE S mi_X0_load 18 (.inl (e_ldi 19 2)) := sn_iload_n dX0_load_18 rfl rfl
theorem en_X0_load_19 : SndE EE S mi_X0_load 19 (.inl (e_zne 22 38)) := sn_zne dX0_load_19 rfl (by decide)
theorem en_X0_load_22 : SndE EE S mi_X0_load 22 (.inl (e_lda 23 0)) := sn_aload_n dX0_load_22 rfl rfl
theorem en_X0_load_23 : SndE EE S mi_X0_load 23 (.inl (e_gR 26 0 31)) := sn_gR dX0_load_23 rfl cl_0 (by decide) rfl (Or.inl q681) (Or.inl rfl)
theorem en_X0_load_26 : SndE EE S mi_X0_load 26 (.inl (e_lda 27 0)) := sn_aload_n dX0_load_26 rfl rfl
theorem en_X0_load_27 : SndE EE S mi_X0_load 27 (.inl (e_gI 30 0 33)) := sn_gI dX0_load_27 rfl cl_0 (by decide) rfl (Or.inl q683) (Or.inl rfl)
theorem en_X0_load_30 : SndE EE S mi_X0_load 30 (.inl (e_psh 31 (.int (1)))) := sn_iconst dX0_load_30 rfl rfl
theorem en_X0_load_31 : SndE EE S mi_X0_load 31 (.inl (e_bin 32 (fun x y => x - y))) := sn_isub dX0_load_31 rfl
theorem en_X0_load_32 : SndE EE S mi_X0_load 32 (.inl (e_ldi 33 1)) := sn_iload_n dX0_load_32 rfl rfl
theorem en_X0_load_33 : SndE EE S mi_X0_load 33 (.inl (e_bin 34 (fun x y => x - y))) := sn_isub dX0_load_33 rfl
theorem en_X0_load_34 : SndE EE S mi_X0_load 34 (.inl (e_ald 35 1)) := sn_iald dX0_load_34 rfl
theorem en_X0_load_35 : SndE EE S mi_X0_load 35 (.inl (e_goto 60)) := sn_goto dX0_load_35 (by decide)
theorem en_X0_load_38 : SndE EE S mi_X0_load 38 (.inl (e_ldi 39 2)) := sn_iload_n dX0_load_38 rfl rfl
theorem en_X0_load_39 : SndE EE S mi_X0_load 39 (.inl (e_psh 40 (.int (1)))) := sn_iconst dX0_load_39 rfl rfl
theorem en_X0_load_40 : SndE EE S mi_X0_load 40 (.inl (e_ine 43 59)) := sn_ine dX0_load_40 rfl (by decide)
theorem en_X0_load_43 : SndE EE S mi_X0_load 43 (.inl (e_lda 44 0)) := sn_aload_n dX0_load_43 rfl rfl
theorem en_X0_load_44 : SndE EE S mi_X0_load 44 (.inl (e_gR 47 0 32)) := sn_gR dX0_load_44 rfl cl_0 (by decide) rfl (Or.inl q682) (Or.inl rfl)
theorem en_X0_load_47 : SndE EE S mi_X0_load 47 (.inl (e_lda 48 0)) := sn_aload_n dX0_load_47 rfl rfl
theorem en_X0_load_48 : SndE EE S mi_X0_load 48 (.inl (e_gI 51 0 33)) := sn_gI dX0_load_48 rfl cl_0 (by decide) rfl (Or.inl q683) (Or.inl rfl)
theorem en_X0_load_51 : SndE EE S mi_X0_load 51 (.inl (e_psh 52 (.int (1)))) := sn_iconst dX0_load_51 rfl rfl
theorem en_X0_load_52 : SndE EE S mi_X0_load 52 (.inl (e_bin 53 (fun x y => x - y))) := sn_isub dX0_load_52 rfl
theorem en_X0_load_53 : SndE EE S mi_X0_load 53 (.inl (e_ldi 54 1)) := sn_iload_n dX0_load_53 rfl rfl
theorem en_X0_load_54 : SndE EE S mi_X0_load 54 (.inl (e_bin 55 (fun x y => x - y))) := sn_isub dX0_load_54 rfl
theorem en_X0_load_55 : SndE EE S mi_X0_load 55 (.inl (e_ald 56 1)) := sn_iald dX0_load_55 rfl
theorem en_X0_load_56 : SndE EE S mi_X0_load 56 (.inl (e_goto 60)) := sn_goto dX0_load_56 (by decide)
theorem en_X0_load_59 : SndE EE S mi_X0_load 59 (.inl (e_psh 60 (.int (-1)))) := sn_iconst dX0_load_59 rfl rfl
theorem en_X0_load_60 : SndE EE S mi_X0_load 60 (.inr (.inr 1)) := ⟨dX0_load_60, rfl⟩
theorem sd_X0_load : ∀ pc x, cd_X0_load pc = some x → SndE EE S mi_X0_load pc x := (tN_ok (tN_ok (tN_ok (tN_ok (tN_ok (tL_ok en_X0_load_0) (tL_ok en_X0_load_1)) (tN_ok (tL_ok en_X0_load_4) (tL_ok en_X0_load_5))) (tN_ok (tN_ok (tL_ok en_X0_load_8) (tL_ok en_X0_load_9)) (tN_ok (tL_ok en_X0_load_10) (tN_ok (tL_ok en_X0_load_13) (tL_ok en_X0_load_16))))) (tN_ok (tN_ok (tN_ok (tL_ok en_X0_load_17) (tL_ok en_X0_load_18)) (tN_ok (tL_ok en_X0_load_19) (tL_ok en_X0_load_22))) (tN_ok (tN_ok (tL_ok en_X0_load_23) (tL_ok en_X0_load_26)) (tN_ok (tL_ok en_X0_load_27) (tN_ok (tL_ok en_X0_load_30) (tL_ok en_X0_load_31)))))) (tN_ok (tN_ok (tN_ok (tN_ok (tL_ok en_X0_load_32) (tL_ok en_X0_load_33)) (tN_ok (tL_ok en_X0_load_34) (tL_ok en_X0_load_35))) (tN_ok (tN_ok (tL_ok en_X0_load_38) (tL_ok en_X0_load_39)) (tN_ok (tL_ok en_X0_load_40) (tN_ok (tL_ok en_X0_load_43) (tL_ok en_X0_load_44))))) (tN_ok (tN_ok (tN_ok (tL_ok en_X0_load_47) (tL_ok en_X0_load_48)) (tN_ok (tL_ok en_X0_load_51) (tN_ok (tL_ok en_X0_load_52) (tL_ok en_X0_load_53)))) (tN_ok (tN_ok (tL_ok en_X0_load_54) (tL_ok en_X0_load_55)) (tN_ok (tL_ok en_X0_load_56) (tN_ok (tL_ok en_X0_load_59) (tL_ok en_X0_load_60)))))))
theorem en_X0_about_0 : SndE EE S mi_X0_about 0 (.inl (e_ldi 1 1)) := sn_iload_n dX0_about_0 rfl rfl
theorem en_X0_about_1 : SndE EE S mi_X0_about 1 (.inl (e_tsw (fun x => if x = 0 then 32 else if x = 1 then 40 else if x = 2 then 45 else if x = 3 then 50 else 55))) := sn_tsw (lo := 0) (ts := [32, 40, 45, 50]) (df := 55) dX0_about_1 rfl (by decide) (by decide) (by decide) (by decide) (by decide)
theorem en_X0_about_32 : SndE EE S mi_X0_about 32 (.inl (e_lda 33 0)) := sn_aload_n dX0_about_32 rfl rfl
theorem en_X0_about_33 : SndE EE S mi_X0_about 33 (.inl (e_gR 36 0 4)) := sn_gR dX0_about_33 rfl cl_0 (by decide) rfl (Or.inl q654) (Or.inl rfl)
theorem en_X0_about_36 : SndE EE S mi_X0_about 36 (.inl (e_gI 39 1 3)) := sn_gI dX0_about_36 rfl cl_1 (by decide) rfl (Or.inr ⟨_, fun G s h => h.1 _ nwm_q179⟩) (Or.inl rfl)
theorem en_X0_about_39 : SndE EE S mi_X0_about 39 (.inr (.inr 1)) := ⟨dX0_about_39, rfl⟩
theorem en_X0_about_40 : SndE EE S mi_X0_about 40 (.inl (e_lda 41 0)) := sn_aload_n dX0_about_40 rfl rfl
theorem en_X0_about_41 : SndE EE S mi_X0_about 41 (.inl (e_gI 44 0 10)) := sn_gI dX0_about_41 rfl cl_0 (by decide) rfl (Or.inl q660) (Or.inl rfl)
theorem en_X0_about_44 : SndE EE S mi_X0_about 44 (.inr (.inr 1)) := ⟨dX0_about_44, rfl⟩
theorem en_X0_about_45 : SndE EE S mi_X0_about 45 (.inl (e_lda 46 0)) := sn_aload_n dX0_about_45 rfl rfl
theorem en_X0_about_46 : SndE EE S mi_X0_about 46 (.inl (e_gI 49 0 25)) := sn_gI dX0_about_46 rfl cl_0 (by decide) rfl (Or.inl q675) (Or.inl rfl)
theorem en_X0_about_49 : SndE EE S mi_X0_about 49 (.inr (.inr 1)) := ⟨dX0_about_49, rfl⟩
theorem en_X0_about_50 : SndE EE S mi_X0_about 50 (.inl (e_lda 51 0)) := sn_aload_n dX0_about_50 rfl rfl
theorem en_X0_about_51 : SndE EE S mi_X0_about 51 (.inl (e_gI 54 0 8)) := sn_gI dX0_about_51 rfl cl_0 (by decide) rfl (Or.inl q658) (Or.inl rfl)
theorem en_X0_about_54 : SndE EE S mi_X0_about 54 (.inr (.inr 1)) := ⟨dX0_about_54, rfl⟩
theorem en_X0_about_55 : SndE EE S mi_X0_about 55 (.inl (e_psh 56 (.int (-1)))) := sn_iconst dX0_about_55 rfl rfl
theorem en_X0_about_56 : SndE EE S mi_X0_about 56 (.inr (.inr 1)) := ⟨dX0_about_56, rfl⟩
theorem sd_X0_about : ∀ pc x, cd_X0_about pc = some x → SndE EE S mi_X0_about pc x := (tN_ok (tN_ok (tN_ok (tN_ok (tL_ok en_X0_about_0) (tL_ok en_X0_about_1)) (tN_ok (tL_ok en_X0_about_32) (tL_ok en_X0_about_33))) (tN_ok (tN_ok (tL_ok en_X0_about_36) (tL_ok en_X0_about_39)) (tN_ok (tL_ok en_X0_about_40) (tL_ok en_X0_about_41)))) (tN_ok (tN_ok (tN_ok (tL_ok en_X0_about_44) (tL_ok en_X0_about_45)) (tN_ok (tL_ok en_X0_about_46) (tL_ok en_X0_about_49))) (tN_ok (tN_ok (tL_ok en_X0_about_50) (tL_ok en_X0_about_51)) (tN_ok (tL_ok en_X0_about_54) (tN_ok (tL_ok en_X0_about_55) (tL_ok en_X0_about_56))))))
end ENT
