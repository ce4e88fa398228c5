/-! EVERY ENTRY IS SOUND (printed by gen2.py): 97.enX4 -/
section ENT
set_option maxRecDepth 100000
variable {S : Nat × (Nat → Int32)}
theorem en_X4_init_0 : SndE EE S mi_X4_init 0 (.inl (e_lda 1 0)) := sn_aload_n dX4_init_0 rfl rfl
theorem en_X4_init_1 : SndE EE S mi_X4_init 1 (.inl (e_oin 4)) := sn_oin dX4_init_1 rfl q126 q127 q128
theorem en_X4_init_4 : SndE EE S mi_X4_init 4 (.inl (e_lda 5 0)) := sn_aload_n dX4_init_4 rfl rfl
theorem en_X4_init_5 : SndE EE S mi_X4_init 5 (.inl (e_lda 6 1)) := sn_aload_n dX4_init_5 rfl rfl
theorem en_X4_init_6 : SndE EE S mi_X4_init 6 (.inl (e_pR 9 4 0)) := sn_pR dX4_init_6 rfl cl_4 (by decide) rfl (Or.inl ⟨q129, Or.inr ⟨rfl, rfl, rfl⟩⟩) (Or.inl rfl) (fun _ => ⟨rfl, rfl⟩)
theorem en_X4_init_9 : SndE EE S mi_X4_init 9 (.inl (e_lda 10 0)) := sn_aload_n dX4_init_9 rfl rfl
theorem en_X4_init_10 : SndE EE S mi_X4_init 10 (.inl (e_ldi 11 2)) := sn_iload_n dX4_init_10 rfl rfl
theorem en_X4_init_11 : SndE EE S mi_X4_init 11 (.inl (e_pI 14 4 1)) := sn_pI dX4_init_11 rfl cl_4 (by decide) rfl (Or.inl ⟨q130, Or.inr ⟨rfl, rfl, rfl⟩⟩) (Or.inl rfl) (fun _ => ⟨rfl, rfl⟩)
theorem en_X4_init_14 : SndE EE S mi_X4_init 14 (.inr (.inr 0)) := ⟨dX4_init_14, rfl⟩
theorem sd_X4_init : ∀ pc x, cd_X4_init pc = some x → SndE EE S mi_X4_init pc x := (tN_ok (tN_ok (tN_ok (tL_ok en_X4_init_0) (tL_ok en_X4_init_1)) (tN_ok (tL_ok en_X4_init_4) (tL_ok en_X4_init_5))) (tN_ok (tN_ok (tL_ok en_X4_init_6) (tL_ok en_X4_init_9)) (tN_ok (tL_ok en_X4_init_10) (tN_ok (tL_ok en_X4_init_11) (tL_ok en_X4_init_14)))))
theorem en_X4_read_0 : SndE EE S mi_X4_read 0 (.inl (e_new 3 1 4)) := sn_new dX4_read_0 rfl cl_1 (by decide +kernel) q162 q163 q55 (by decide)
theorem en_X4_read_3 : SndE EE S mi_X4_read 3 (.inl (e_dup 4)) := sn_dup dX4_read_3 rfl
theorem en_X4_read_4 : SndE EE S mi_X4_read 4 (.inr (.inl (d_cls 1 45, 1, 3))) := sc_initN ctr_cls dX4_read_4 mo_X1_init nmo_X1_init rfl (fun G s h => h.1 _ nwm_q164) q165 q166
theorem en_X4_read_7 : SndE EE S mi_X4_read 7 (.inl (e_sta 8 1)) := sn_astore_n dX4_read_7 rfl rfl rfl (by decide)
theorem en_X4_read_8 : SndE EE S mi_X4_read 8 (.inl (e_lda 9 0)) := sn_aload_n dX4_read_8 rfl rfl
theorem en_X4_read_9 : SndE EE S mi_X4_read 9 (.inr (.inl (d_cls 4 108, 1, 3))) := sc_virt dX4_read_9 (rcv_cls (r := (RX4, TX4, 8)) rfl ⟨mo_X4_next, nmo_X4_next, q191, q192, q193⟩)
theorem en_X4_read_12 : SndE EE S mi_X4_read 12 (.inl (e_lda 13 0)) := sn_aload_n dX4_read_12 rfl rfl
theorem en_X4_read_13 : SndE EE S mi_X4_read 13 (.inl (e_gI 16 4 4)) := sn_gI dX4_read_13 rfl cl_4 (by decide) rfl (Or.inl q133) (Or.inl rfl)
theorem en_X4_read_16 : SndE EE S mi_X4_read 16 (.inl (e_zeq 19 130)) := sn_zeq dX4_read_16 rfl (by decide)
theorem en_X4_read_19 : SndE EE S mi_X4_read 19 (.inl (e_lda 20 0)) := sn_aload_n dX4_read_19 rfl rfl
theorem en_X4_read_20 : SndE EE S mi_X4_read 20 (.inl (e_psh 22 (xS 1))) := sn_ldcS (tx := "grade") dX4_read_20 rfl (fun G s h => EE_ldc h 1 (by decide))
theorem en_X4_read_22 : SndE EE S mi_X4_read 22 (.inr (.inl (d_cls 4 112, 2, 3))) := sc_virt dX4_read_22 (rcv_cls (r := (RX4, TX4, 8)) rfl ⟨mo_X4_isWord, nmo_X4_isWord, q357, q358, q359⟩)
theorem en_X4_read_25 : SndE EE S mi_X4_read 25 (.inl (e_zeq 28 37)) := sn_zeq dX4_read_25 rfl (by decide)
theorem en_X4_read_28 : SndE EE S mi_X4_read 28 (.inl (e_lda 29 1)) := sn_aload_n dX4_read_28 rfl rfl
theorem en_X4_read_29 : SndE EE S mi_X4_read 29 (.inl (e_gI 32 1 3)) := sn_gI dX4_read_29 rfl cl_1 (by decide) rfl (Or.inr ⟨_, fun G s h => h.1 _ nwm_q180⟩) (Or.inl rfl)
theorem en_X4_read_32 : SndE EE S mi_X4_read 32 (.inl (e_psh 34 (.int (8)))) := sn_bipush dX4_read_32 rfl rfl
theorem en_X4_read_34 : SndE EE S mi_X4_read 34 (.inl (e_ine 37 42)) := sn_ine dX4_read_34 rfl (by decide)
theorem en_X4_read_37 : SndE EE S mi_X4_read 37 (.inl (e_lda 38 0)) := sn_aload_n dX4_read_37 rfl rfl
theorem en_X4_read_38 : SndE EE S mi_X4_read 38 (.inr (.inl (d_cls 4 113, 1, 3))) := sc_virt dX4_read_38 (rcv_cls (r := (RX4, TX4, 8)) rfl ⟨mo_X4_wrong, nmo_X4_wrong, q382, q383, q384⟩)
theorem en_X4_read_41 : SndE EE S mi_X4_read 41 (.inr (.inr 5)) := dX4_read_41
theorem en_X4_read_42 : SndE EE S mi_X4_read 42 (.inl (e_lda 43 0)) := sn_aload_n dX4_read_42 rfl rfl
theorem en_X4_read_43 : SndE EE S mi_X4_read 43 (.inr (.inl (d_cls 4 108, 1, 3))) := sc_virt dX4_read_43 (rcv_cls (r := (RX4, TX4, 8)) rfl ⟨mo_X4_next, nmo_X4_next, q191, q192, q193⟩)
theorem en_X4_read_46 : SndE EE S mi_X4_read 46 (.inl (e_lda 47 1)) := sn_aload_n dX4_read_46 rfl rfl
theorem en_X4_read_47 : SndE EE S mi_X4_read 47 (.inl (e_gR 50 1 0)) := sn_gR dX4_read_47 rfl cl_1 (by decide) rfl (Or.inr ⟨_, fun G s h => h.1 _ nwm_q172⟩) (Or.inl rfl)
theorem en_X4_read_50 : SndE EE S mi_X4_read 50 (.inl (e_lda 51 1)) := sn_aload_n dX4_read_50 rfl rfl
theorem en_X4_read_51 : SndE EE S mi_X4_read 51 (.inl (e_gI 54 1 3)) := sn_gI dX4_read_51 rfl cl_1 (by decide) rfl (Or.inr ⟨_, fun G s h => h.1 _ nwm_q180⟩) (Or.inl rfl)
theorem en_X4_read_54 : SndE EE S mi_X4_read 54 (.inl (e_lda 55 0)) := sn_aload_n dX4_read_54 rfl rfl
theorem en_X4_read_55 : SndE EE S mi_X4_read 55 (.inl (e_psh 56 (.int (1)))) := sn_iconst dX4_read_55 rfl rfl
theorem en_X4_read_56 : SndE EE S mi_X4_read 56 (.inl (e_psh 58 (.int (100)))) := sn_bipush dX4_read_56 rfl rfl
theorem en_X4_read_58 : SndE EE S mi_X4_read 58 (.inr (.inl (d_cls 4 114, 3, 3))) := sc_virt dX4_read_58 (rcv_cls (r := (RX4, TX4, 8)) rfl ⟨mo_X4_number, nmo_X4_number, q386, q387, q388⟩)
theorem en_X4_read_61 : SndE EE S mi_X4_read 61 (.inl (e_iast 62)) := sn_iast dX4_read_61 rfl
theorem en_X4_read_62 : SndE EE S mi_X4_read 62 (.inl (e_lda 63 0)) := sn_aload_n dX4_read_62 rfl rfl
theorem en_X4_read_63 : SndE EE S mi_X4_read 63 (.inl (e_psh 65 (xS 2))) := sn_ldcS (tx := "worth") dX4_read_63 rfl (fun G s h => EE_ldc h 2 (by decide))
theorem en_X4_read_65 : SndE EE S mi_X4_read 65 (.inr (.inl (d_cls 4 115, 2, 3))) := sc_virt dX4_read_65 (rcv_cls (r := (RX4, TX4, 8)) rfl ⟨mo_X4_mustWord, nmo_X4_mustWord, q391, q392, q393⟩)
theorem en_X4_read_68 : SndE EE S mi_X4_read 68 (.inl (e_lda 69 1)) := sn_aload_n dX4_read_68 rfl rfl
theorem en_X4_read_69 : SndE EE S mi_X4_read 69 (.inl (e_gR 72 1 1)) := sn_gR dX4_read_69 rfl cl_1 (by decide) rfl (Or.inr ⟨_, fun G s h => h.1 _ nwm_q174⟩) (Or.inl rfl)
theorem en_X4_read_72 : SndE EE S mi_X4_read 72 (.inl (e_lda 73 1)) := sn_aload_n dX4_read_72 rfl rfl
theorem en_X4_read_73 : SndE EE S mi_X4_read 73 (.inl (e_gI 76 1 3)) := sn_gI dX4_read_73 rfl cl_1 (by decide) rfl (Or.inr ⟨_, fun G s h => h.1 _ nwm_q180⟩) (Or.inl rfl)
theorem en_X4_read_76 : SndE EE S mi_X4_read 76 (.inl (e_lda 77 0)) := sn_aload_n dX4_read_76 rfl rfl
theorem en_X4_read_77 : SndE EE S mi_X4_read 77 (.inl (e_psh 78 (.int (1)))) := sn_iconst dX4_read_77 rfl rfl
theorem en_X4_read_78 : SndE EE S mi_X4_read 78 (.inl (e_psh 81 (.int (9999)))) := sn_sipush dX4_read_78 rfl rfl
theorem en_X4_read_81 : SndE EE S mi_X4_read 81 (.inr (.inl (d_cls 4 114, 3, 3))) := sc_virt dX4_read_81 (rcv_cls (r := (RX4, TX4, 8)) rfl ⟨mo_X4_number, nmo_X4_number, q386, q387, q388⟩)
theorem en_X4_read_84 : SndE EE S mi_X4_read 84 (.inl (e_iast 85)) := sn_iast dX4_read_84 rfl
theorem en_X4_read_85 : SndE EE S mi_X4_read 85 (.inl (e_lda 86 0)) := sn_aload_n dX4_read_85 rfl rfl
theorem en_X4_read_86 : SndE EE S mi_X4_read 86 (.inl (e_psh 88 (xS 3))) := sn_ldcS (tx := "when") dX4_read_86 rfl (fun G s h => EE_ldc h 3 (by decide))
theorem en_X4_read_88 : SndE EE S mi_X4_read 88 (.inr (.inl (d_cls 4 112, 2, 3))) := sc_virt dX4_read_88 (rcv_cls (r := (RX4, TX4, 8)) rfl ⟨mo_X4_isWord, nmo_X4_isWord, q357, q358, q359⟩)
theorem en_X4_read_91 : SndE EE S mi_X4_read 91 (.inl (e_zeq 94 111)) := sn_zeq dX4_read_91 rfl (by decide)
theorem en_X4_read_94 : SndE EE S mi_X4_read 94 (.inl (e_lda 95 0)) := sn_aload_n dX4_read_94 rfl rfl
theorem en_X4_read_95 : SndE EE S mi_X4_read 95 (.inr (.inl (d_cls 4 108, 1, 3))) := sc_virt dX4_read_95 (rcv_cls (r := (RX4, TX4, 8)) rfl ⟨mo_X4_next, nmo_X4_next, q191, q192, q193⟩)
theorem en_X4_read_98 : SndE EE S mi_X4_read 98 (.inl (e_lda 99 1)) := sn_aload_n dX4_read_98 rfl rfl
theorem en_X4_read_99 : SndE EE S mi_X4_read 99 (.inl (e_gR 102 1 2)) := sn_gR dX4_read_99 rfl cl_1 (by decide) rfl (Or.inr ⟨_, fun G s h => h.1 _ nwm_q178⟩) (Or.inl rfl)
theorem en_X4_read_102 : SndE EE S mi_X4_read 102 (.inl (e_lda 103 1)) := sn_aload_n dX4_read_102 rfl rfl
theorem en_X4_read_103 : SndE EE S mi_X4_read 103 (.inl (e_gI 106 1 3)) := sn_gI dX4_read_103 rfl cl_1 (by decide) rfl (Or.inr ⟨_, fun G s h => h.1 _ nwm_q180⟩) (Or.inl rfl)
theorem en_X4_read_106 : SndE EE S mi_X4_read 106 (.inl (e_lda 107 0)) := sn_aload_n dX4_read_106 rfl rfl
theorem en_X4_read_107 : SndE EE S mi_X4_read 107 (.inr (.inl (d_cls 4 116, 1, 3))) := sc_virt dX4_read_107 (rcv_cls (r := (RX4, TX4, 8)) rfl ⟨mo_X4_e, nmo_X4_e, q396, q397, q398⟩)
theorem en_X4_read_110 : SndE EE S mi_X4_read 110 (.inl (e_aast 111)) := sn_aast dX4_read_110 rfl EE_cast
theorem en_X4_read_111 : SndE EE S mi_X4_read 111 (.inl (e_lda 112 0)) := sn_aload_n dX4_read_111 rfl rfl
theorem en_X4_read_112 : SndE EE S mi_X4_read 112 (.inl (e_psh 114 (.int (59)))) := sn_bipush dX4_read_112 rfl rfl
theorem en_X4_read_114 : SndE EE S mi_X4_read 114 (.inr (.inl (d_cls 4 121, 2, 3))) := sc_virt dX4_read_114 (rcv_cls (r := (RX4, TX4, 8)) rfl ⟨mo_X4_must, nmo_X4_must, q431, q432, q433⟩)
theorem en_X4_read_117 : SndE EE S mi_X4_read 117 (.inl (e_lda 118 1)) := sn_aload_n dX4_read_117 rfl rfl
theorem en_X4_read_118 : SndE EE S mi_X4_read 118 (.inl (e_dup 119)) := sn_dup dX4_read_118 rfl
theorem en_X4_read_119 : SndE EE S mi_X4_read 119 (.inl (e_gI 122 1 3)) := sn_gI dX4_read_119 rfl cl_1 (by decide) rfl (Or.inr ⟨_, fun G s h => h.1 _ nwm_q180⟩) (Or.inl rfl)
theorem en_X4_read_122 : SndE EE S mi_X4_read 122 (.inl (e_psh 123 (.int (1)))) := sn_iconst dX4_read_122 rfl rfl
theorem en_X4_read_123 : SndE EE S mi_X4_read 123 (.inl (e_bin 124 (fun x y => x + y))) := sn_iadd dX4_read_123 rfl
theorem en_X4_read_124 : SndE EE S mi_X4_read 124 (.inl (e_pI 127 1 3)) := sn_pI dX4_read_124 rfl cl_1 (by decide) rfl (Or.inr ⟨⟨_, fun G s h => h.1 _ nwm_q180⟩, rfl⟩) (Or.inl rfl) (fun _ => ⟨rfl, rfl⟩)
theorem en_X4_read_127 : SndE EE S mi_X4_read 127 (.inl (e_goto 12)) := sn_goto dX4_read_127 (by decide)
theorem en_X4_read_130 : SndE EE S mi_X4_read 130 (.inl (e_lda 131 1)) := sn_aload_n dX4_read_130 rfl rfl
theorem en_X4_read_131 : SndE EE S mi_X4_read 131 (.inr (.inr 4)) := ⟨dX4_read_131, _, rfl⟩
theorem sd_X4_read : ∀ pc x, cd_X4_read pc = some x → SndE EE S mi_X4_read pc x := (tN_ok (tN_ok (tN_ok (tN_ok (tN_ok (tN_ok (tL_ok en_X4_read_0) (tL_ok en_X4_read_3)) (tN_ok (tL_ok en_X4_read_4) (tL_ok en_X4_read_7))) (tN_ok (tN_ok (tL_ok en_X4_read_8) (tL_ok en_X4_read_9)) (tN_ok (tL_ok en_X4_read_12) (tL_ok en_X4_read_13)))) (tN_ok (tN_ok (tN_ok (tL_ok en_X4_read_16) (tL_ok en_X4_read_19)) (tN_ok (tL_ok en_X4_read_20) (tL_ok en_X4_read_22))) (tN_ok (tN_ok (tL_ok en_X4_read_25) (tL_ok en_X4_read_28)) (tN_ok (tL_ok en_X4_read_29) (tN_ok (tL_ok en_X4_read_32) (tL_ok en_X4_read_34)))))) (tN_ok (tN_ok (tN_ok (tN_ok (tL_ok en_X4_read_37) (tL_ok en_X4_read_38)) (tN_ok (tL_ok en_X4_read_41) (tL_ok en_X4_read_42))) (tN_ok (tN_ok (tL_ok en_X4_read_43) (tL_ok en_X4_read_46)) (tN_ok (tL_ok en_X4_read_47) (tL_ok en_X4_read_50)))) (tN_ok (tN_ok (tN_ok (tL_ok en_X4_read_51) (tL_ok en_X4_read_54)) (tN_ok (tL_ok en_X4_read_55) (tL_ok en_X4_read_56))) (tN_ok (tN_ok (tL_ok en_X4_read_58) (tL_ok en_X4_read_61)) (tN_ok (tL_ok en_X4_read_62) (tN_ok (tL_ok en_X4_read_63) (tL_ok en_X4_read_65))))))) (tN_ok (tN_ok (tN_ok (tN_ok (tN_ok (tL_ok en_X4_read_68) (tL_ok en_X4_read_69)) (tN_ok (tL_ok en_X4_read_72) (tL_ok en_X4_read_73))) (tN_ok (tN_ok (tL_ok en_X4_read_76) (tL_ok en_X4_read_77)) (tN_ok (tL_ok en_X4_read_78) (tL_ok en_X4_read_81)))) (tN_ok (tN_ok (tN_ok (tL_ok en_X4_read_84) (tL_ok en_X4_read_85)) (tN_ok (tL_ok en_X4_read_86) (tL_ok en_X4_read_88))) (tN_ok (tN_ok (tL_ok en_X4_read_91) (tL_ok en_X4_read_94)) (tN_ok (tL_ok en_X4_read_95) (tN_ok (tL_ok en_X4_read_98) (tL_ok en_X4_read_99)))))) (tN_ok (tN_ok (tN_ok (tN_ok (tL_ok en_X4_read_102) (tL_ok en_X4_read_103)) (tN_ok (tL_ok en_X4_read_106) (tL_ok en_X4_read_107))) (tN_ok (tN_ok (tL_ok en_X4_read_110) (tL_ok en_X4_read_111)) (tN_ok (tL_ok en_X4_read_112) (tL_ok en_X4_read_114)))) (tN_ok (tN_ok (tN_ok (tL_ok en_X4_read_117) (tL_ok en_X4_read_118)) (tN_ok (tL_ok en_X4_read_119) (tL_ok en_X4_read_122))) (tN_ok (tN_ok (tL_ok en_X4_read_123) (tL_ok en_X4_read_124)) (tN_ok (tL_ok en_X4_read_127) (tN_ok (tL_ok en_X4_read_130) (tL_ok en_X4_read_131))))))))
theorem en_X4_next_0 : SndE EE S mi_X4_next 0 (.inl (e_lda 1 0)) := sn_aload_n dX4_next_0 rfl rfl
theorem en_X4_next_1 : SndE EE S mi_X4_next 1 (.inl (e_lda 2 0)) := sn_aload_n dX4_next_1 rfl rfl
theorem en_X4_next_2 : SndE EE S mi_X4_next 2 (.inl (e_gI 5 4 3)) := sn_gI dX4_next_2 rfl cl_4 (by decide) rfl (Or.inl q132) (Or.inl rfl)
theorem en_X4_next_5 : SndE EE S mi_X4_next 5 (.inl (e_pI 8 4 2)) := sn_pI dX4_next_5 rfl cl_4 (by decide) rfl (Or.inl ⟨q131, Or.inl rfl⟩) (Or.inl rfl) (fun _ => ⟨rfl, rfl⟩)
theorem en_X4_next_8 : SndE EE S mi_X4_next 8 (.inl (e_lda 9 0)) := sn_aload_n dX4_next_8 rfl rfl
theorem en_X4_next_9 : SndE EE S mi_X4_next 9 (.inl (e_gI 12 4 2)) := sn_gI dX4_next_9 rfl cl_4 (by decide) rfl (Or.inl q131) (Or.inl rfl)
theorem en_X4_next_12 : SndE EE S mi_X4_next 12 (.inl (e_lda 13 0)) := sn_aload_n dX4_next_12 rfl rfl
theorem en_X4_next_13 : SndE EE S mi_X4_next 13 (.inl (e_gI 16 4 1)) := sn_gI dX4_next_13 rfl cl_4 (by decide) rfl (Or.inl q130) (Or.inl rfl)
theorem en_X4_next_16 : SndE EE S mi_X4_next 16 (.inl (e_ige 19 58)) := sn_ige dX4_next_16 rfl (by decide)
theorem en_X4_next_19 : SndE EE S mi_X4_next 19 (.inl (e_lda 20 0)) := sn_aload_n dX4_next_19 rfl rfl
theorem en_X4_next_20 : SndE EE S mi_X4_next 20 (.inl (e_lda 21 0)) := sn_aload_n dX4_next_20 rfl rfl
theorem en_X4_next_21 : SndE EE S mi_X4_next 21 (.inl (e_gI 24 4 2)) := sn_gI dX4_next_21 rfl cl_4 (by decide) rfl (Or.inl q131) (Or.inl rfl)
theorem en_X4_next_24 : SndE EE S mi_X4_next 24 (.inr (.inl (d_cls 4 109, 2, 3))) := sc_virt dX4_next_24 (rcv_cls (r := (RX4, TX4, 8)) rfl ⟨mo_X4_sign, nmo_X4_sign, q195, q196, q197⟩)
theorem en_X4_next_27 : SndE EE S mi_X4_next 27 (.inl (e_psh 29 (.int (32)))) := sn_bipush dX4_next_27 rfl rfl
theorem en_X4_next_29 : SndE EE S mi_X4_next 29 (.inl (e_ieq 32 45)) := sn_ieq dX4_next_29 rfl (by decide)
theorem en_X4_next_32 : SndE EE S mi_X4_next 32 (.inl (e_lda 33 0)) := sn_aload_n dX4_next_32 rfl rfl
theorem en_X4_next_33 : SndE EE S mi_X4_next 33 (.inl (e_lda 34 0)) := sn_aload_n dX4_next_33 rfl rfl
theorem en_X4_next_34 : SndE EE S mi_X4_next 34 (.inl (e_gI 37 4 2)) := sn_gI dX4_next_34 rfl cl_4 (by decide) rfl (Or.inl q131) (Or.inl rfl)
theorem en_X4_next_37 : SndE EE S mi_X4_next 37 (.inr (.inl (d_cls 4 109, 2, 3))) := sc_virt dX4_next_37 (rcv_cls (r := (RX4, TX4, 8)) rfl ⟨mo_X4_sign, nmo_X4_sign, q195, q196, q197⟩)
theorem en_X4_next_40 : SndE EE S mi_X4_next 40 (.inl (e_psh 42 (.int (10)))) := sn_bipush dX4_next_40 rfl rfl
theorem en_X4_next_42 : SndE EE S mi_X4_next 42 (.inl (e_ine 45 58)) := sn_ine dX4_next_42 rfl (by decide)
theorem en_X4_next_45 : SndE EE S mi_X4_next 45 (.inl (e_lda 46 0)) := sn_aload_n dX4_next_45 rfl rfl
theorem en_X4_next_46 : SndE EE S mi_X4_next 46 (.inl (e_dup 47)) := sn_dup dX4_next_46 rfl
theorem en_X4_next_47 : SndE EE S mi_X4_next 47 (.inl (e_gI 50 4 2)) := sn_gI dX4_next_47 rfl cl_4 (by decide) rfl (Or.inl q131) (Or.inl rfl)
theorem en_X4_next_50 : SndE EE S mi_X4_next 50 (.inl (e_psh 51 (.int (1)))) := sn_iconst dX4_next_50 rfl rfl
theorem en_X4_next_51 : SndE EE S mi_X4_next 51 (.inl (e_bin 52 (fun x y => x + y))) := sn_iadd dX4_next_51 rfl
theorem en_X4_next_52 : SndE EE S mi_X4_next 52 (.inl (e_pI 55 4 2)) := sn_pI dX4_next_52 rfl cl_4 (by decide) rfl (Or.inl ⟨q131, Or.inl rfl⟩) (Or.inl rfl) (fun _ => ⟨rfl, rfl⟩)
theorem en_X4_next_55 : SndE EE S mi_X4_next 55 (.inl (e_goto 8)) := sn_goto dX4_next_55 (by decide)
theorem en_X4_next_58 : SndE EE S mi_X4_next 58 (.inl (e_lda 59 0)) := sn_aload_n dX4_next_58 rfl rfl
theorem en_X4_next_59 : SndE EE S mi_X4_next 59 (.inl (e_lda 60 0)) := sn_aload_n dX4_next_59 rfl rfl
theorem en_X4_next_60 : SndE EE S mi_X4_next 60 (.inl (e_gI 63 4 2)) := sn_gI dX4_next_60 rfl cl_4 (by decide) rfl (Or.inl q131) (Or.inl rfl)
theorem en_X4_next_63 : SndE EE S mi_X4_next 63 (.inr (.inl (d_cls 4 109, 2, 3))) := sc_virt dX4_next_63 (rcv_cls (r := (RX4, TX4, 8)) rfl ⟨mo_X4_sign, nmo_X4_sign, q195, q196, q197⟩)
theorem en_X4_next_66 : SndE EE S mi_X4_next 66 (.inl (e_sti 67 1)) := sn_istore_n dX4_next_66 rfl rfl rfl (by decide)
theorem en_X4_next_67 : SndE EE S mi_X4_next 67 (.inl (e_lda 68 0)) := sn_aload_n dX4_next_67 rfl rfl
theorem en_X4_next_68 : SndE EE S mi_X4_next 68 (.inl (e_lda 69 0)) := sn_aload_n dX4_next_68 rfl rfl
theorem en_X4_next_69 : SndE EE S mi_X4_next 69 (.inl (e_gI 72 4 2)) := sn_gI dX4_next_69 rfl cl_4 (by decide) rfl (Or.inl q131) (Or.inl rfl)
theorem en_X4_next_72 : SndE EE S mi_X4_next 72 (.inl (e_lda 73 0)) := sn_aload_n dX4_next_72 rfl rfl
theorem en_X4_next_73 : SndE EE S mi_X4_next 73 (.inl (e_gI 76 4 1)) := sn_gI dX4_next_73 rfl cl_4 (by decide) rfl (Or.inl q130) (Or.inl rfl)
theorem en_X4_next_76 : SndE EE S mi_X4_next 76 (.inl (e_ige 79 88)) := sn_ige dX4_next_76 rfl (by decide)
theorem en_X4_next_79 : SndE EE S mi_X4_next 79 (.inl (e_lda 80 0)) := sn_aload_n dX4_next_79 rfl rfl
theorem en_X4_next_80 : SndE EE S mi_X4_next 80 (.inl (e_gI 83 4 2)) := sn_gI dX4_next_80 rfl cl_4 (by decide) rfl (Or.inl q131) (Or.inl rfl)
theorem en_X4_next_83 : SndE EE S mi_X4_next 83 (.inl (e_psh 84 (.int (1)))) := sn_iconst dX4_next_83 rfl rfl
theorem en_X4_next_84 : SndE EE S mi_X4_next 84 (.inl (e_bin 85 (fun x y => x + y))) := sn_iadd dX4_next_84 rfl
theorem en_X4_next_85 : SndE EE S mi_X4_next 85 (.inl (e_goto 92)) := sn_goto dX4_next_85 (by decide)
theorem en_X4_next_88 : SndE EE S mi_X4_next 88 (.inl (e_lda 89 0)) := sn_aload_n dX4_next_88 rfl rfl
theorem en_X4_next_89 : SndE EE S mi_X4_next 89 (.inl (e_gI 92 4 2)) := sn_gI dX4_next_89 rfl cl_4 (by decide) rfl (Or.inl q131) (Or.inl rfl)
theorem en_X4_next_92 : SndE EE S mi_X4_next 92 (.inl (e_pI 95 4 3)) := sn_pI dX4_next_92 rfl cl_4 (by decide) rfl (Or.inl ⟨q132, Or.inl rfl⟩) (Or.inl rfl) (fun _ => ⟨rfl, rfl⟩)
theorem en_X4_next_95 : SndE EE S mi_X4_next 95 (.inl (e_lda 96 0)) := sn_aload_n dX4_next_95 rfl rfl
theorem en_X4_next_96 : SndE EE S mi_X4_next 96 (.inl (e_gI 99 4 2)) := sn_gI dX4_next_96 rfl cl_4 (by decide) rfl (Or.inl q131) (Or.inl rfl)
theorem en_X4_next_99 : SndE EE S mi_X4_next 99 (.inl (e_lda 100 0)) := sn_aload_n dX4_next_99 rfl rfl
theorem en_X4_next_100 : SndE EE S mi_X4_next 100 (.inl (e_gI 103 4 1)) := sn_gI dX4_next_100 rfl cl_4 (by decide) rfl (Or.inl q130) (Or.inl rfl)
theorem en_X4_next_103 : SndE EE S mi_X4_next 103 (.inl (e_ilt 106 114)) := sn_ilt dX4_next_103 rfl (by decide)
theorem en_X4_next_106 : SndE EE S mi_X4_next 106 (.inl (e_lda 107 0)) := sn_aload_n dX4_next_106 rfl rfl
theorem en_X4_next_107 : SndE EE S mi_X4_next 107 (.inl (e_psh 108 (.int (0)))) := sn_iconst dX4_next_107 rfl rfl
theorem en_X4_next_108 : SndE EE S mi_X4_next 108 (.inl (e_pI 111 4 4)) := sn_pI dX4_next_108 rfl cl_4 (by decide) rfl (Or.inl ⟨q133, Or.inl rfl⟩) (Or.inl rfl) (fun _ => ⟨rfl, rfl⟩)
theorem en_X4_next_111 : SndE EE S mi_X4_next 111 (.inl (e_goto 342)) := sn_goto dX4_next_111 (by decide)
theorem en_X4_next_114 : SndE EE S mi_X4_next 114 (.inl (e_ldi 115 1)) := sn_iload_n dX4_next_114 rfl rfl
theorem en_X4_next_115 : SndE EE S mi_X4_next 115 (.inr (.inl (fun _ _ => some 110, 1, 3))) := sc_stat dX4_next_115 mo_X4_isLetter nmo_X4_isLetter q199 q200 q201
theorem en_X4_next_118 : SndE EE S mi_X4_next 118 (.inl (e_zeq 121 180)) := sn_zeq dX4_next_118 rfl (by decide)
theorem en_X4_next_121 : SndE EE S mi_X4_next 121 (.inl (e_lda 122 0)) := sn_aload_n dX4_next_121 rfl rfl
theorem en_X4_next_122 : SndE EE S mi_X4_next 122 (.inl (e_lda 123 0)) := sn_aload_n dX4_next_122 rfl rfl
theorem en_X4_next_123 : SndE EE S mi_X4_next 123 (.inl (e_gI 126 4 3)) := sn_gI dX4_next_123 rfl cl_4 (by decide) rfl (Or.inl q132) (Or.inl rfl)
theorem en_X4_next_126 : SndE EE S mi_X4_next 126 (.inr (.inl (d_cls 4 109, 2, 3))) := sc_virt dX4_next_126 (rcv_cls (r := (RX4, TX4, 8)) rfl ⟨mo_X4_sign, nmo_X4_sign, q195, q196, q197⟩)
theorem en_X4_next_129 : SndE EE S mi_X4_next 129 (.inr (.inl (fun _ _ => some 110, 1, 3))) := sc_stat dX4_next_129 mo_X4_isLetter nmo_X4_isLetter q199 q200 q201
theorem en_X4_next_132 : SndE EE S mi_X4_next 132 (.inl (e_zeq 135 148)) := sn_zeq dX4_next_132 rfl (by decide)
theorem en_X4_next_135 : SndE EE S mi_X4_next 135 (.inl (e_lda 136 0)) := sn_aload_n dX4_next_135 rfl rfl
theorem en_X4_next_136 : SndE EE S mi_X4_next 136 (.inl (e_dup 137)) := sn_dup dX4_next_136 rfl
theorem en_X4_next_137 : SndE EE S mi_X4_next 137 (.inl (e_gI 140 4 3)) := sn_gI dX4_next_137 rfl cl_4 (by decide) rfl (Or.inl q132) (Or.inl rfl)
theorem en_X4_next_140 : SndE EE S mi_X4_next 140 (.inl (e_psh 141 (.int (1)))) := sn_iconst dX4_next_140 rfl rfl
theorem en_X4_next_141 : SndE EE S mi_X4_next 141 (.inl (e_bin 142 (fun x y => x + y))) := sn_iadd dX4_next_141 rfl
theorem en_X4_next_142 : SndE EE S mi_X4_next 142 (.inl (e_pI 145 4 3)) := sn_pI dX4_next_142 rfl cl_4 (by decide) rfl (Or.inl ⟨q132, Or.inl rfl⟩) (Or.inl rfl) (fun _ => ⟨rfl, rfl⟩)
theorem en_X4_next_145 : SndE EE S mi_X4_next 145 (.inl (e_goto 121)) := sn_goto dX4_next_145 (by decide)
theorem en_X4_next_148 : SndE EE S mi_X4_next 148 (.inl (e_lda 149 0)) := sn_aload_n dX4_next_148 rfl rfl
theorem en_X4_next_149 : SndE EE S mi_X4_next 149 (.inl (e_psh 150 (.int (1)))) := sn_iconst dX4_next_149 rfl rfl
theorem en_X4_next_150 : SndE EE S mi_X4_next 150 (.inl (e_pI 153 4 4)) := sn_pI dX4_next_150 rfl cl_4 (by decide) rfl (Or.inl ⟨q133, Or.inl rfl⟩) (Or.inl rfl) (fun _ => ⟨rfl, rfl⟩)
theorem en_X4_next_153 : SndE EE S mi_X4_next 153 (.inl (e_lda 154 0)) := sn_aload_n dX4_next_153 rfl rfl
theorem en_X4_next_154 : SndE EE S mi_X4_next 154 (.inl (e_gI 157 4 3)) := sn_gI dX4_next_154 rfl cl_4 (by decide) rfl (Or.inl q132) (Or.inl rfl)
theorem en_X4_next_157 : SndE EE S mi_X4_next 157 (.inl (e_lda 158 0)) := sn_aload_n dX4_next_157 rfl rfl
theorem en_X4_next_158 : SndE EE S mi_X4_next 158 (.inl (e_gI 161 4 2)) := sn_gI dX4_next_158 rfl cl_4 (by decide) rfl (Or.inl q131) (Or.inl rfl)
theorem en_X4_next_161 : SndE EE S mi_X4_next 161 (.inl (e_bin 162 (fun x y => x - y))) := sn_isub dX4_next_161 rfl
theorem en_X4_next_162 : SndE EE S mi_X4_next 162 (.inl (e_psh 164 (.int (8)))) := sn_bipush dX4_next_162 rfl rfl
theorem en_X4_next_164 : SndE EE S mi_X4_next 164 (.inl (e_ile 167 342)) := sn_ile dX4_next_164 rfl (by decide)
theorem en_X4_next_167 : SndE EE S mi_X4_next 167 (.inl (e_new 170 5 8)) := sn_new dX4_next_167 rfl cl_5 (by decide +kernel) q202 q203 q61 (by decide)
theorem en_X4_next_170 : SndE EE S mi_X4_next 170 (.inl (e_dup 171)) := sn_dup dX4_next_170 rfl
theorem en_X4_next_171 : SndE EE S mi_X4_next 171 (.inl (e_psh 172 (.int (1)))) := sn_iconst dX4_next_171 rfl rfl
theorem en_X4_next_172 : SndE EE S mi_X4_next 172 (.inl (e_lda 173 0)) := sn_aload_n dX4_next_172 rfl rfl
theorem en_X4_next_173 : SndE EE S mi_X4_next 173 (.inl (e_gI 176 4 2)) := sn_gI dX4_next_173 rfl cl_4 (by decide) rfl (Or.inl q131) (Or.inl rfl)
theorem en_X4_next_176 : SndE EE S mi_X4_next 176 (.inr (.inl (d_cls 5 125, 3, 3))) := sc_init ctr_cls dX4_next_176 mo_X5_init nmo_X5_init rfl q239 q240 q241
theorem en_X4_next_179 : SndE EE S mi_X4_next 179 (.inr (.inr 5)) := dX4_next_179
theorem en_X4_next_180 : SndE EE S mi_X4_next 180 (.inl (e_ldi 181 1)) := sn_iload_n dX4_next_180 rfl rfl
theorem en_X4_next_181 : SndE EE S mi_X4_next 181 (.inr (.inl (fun _ _ => some 111, 1, 3))) := sc_stat dX4_next_181 mo_X4_isDigit nmo_X4_isDigit q266 q267 q268
theorem en_X4_next_184 : SndE EE S mi_X4_next 184 (.inl (e_zeq 187 315)) := sn_zeq dX4_next_184 rfl (by decide)
theorem en_X4_next_187 : SndE EE S mi_X4_next 187 (.inl (e_lda 188 0)) := sn_aload_n dX4_next_187 rfl rfl
theorem en_X4_next_188 : SndE EE S mi_X4_next 188 (.inl (e_psh 189 (.int (2)))) := sn_iconst dX4_next_188 rfl rfl
theorem en_X4_next_189 : SndE EE S mi_X4_next 189 (.inl (e_pI 192 4 4)) := sn_pI dX4_next_189 rfl cl_4 (by decide) rfl (Or.inl ⟨q133, Or.inl rfl⟩) (Or.inl rfl) (fun _ => ⟨rfl, rfl⟩)
theorem en_X4_next_192 : SndE EE S mi_X4_next 192 (.inl (e_lda 193 0)) := sn_aload_n dX4_next_192 rfl rfl
theorem en_X4_next_193 : SndE EE S mi_X4_next 193 (.inl (e_psh 194 (.int (0)))) := sn_iconst dX4_next_193 rfl rfl
theorem en_X4_next_194 : SndE EE S mi_X4_next 194 (.inl (e_pI 197 4 5)) := sn_pI dX4_next_194 rfl cl_4 (by decide) rfl (Or.inl ⟨q134, Or.inl rfl⟩) (Or.inl rfl) (fun _ => ⟨rfl, rfl⟩)
theorem en_X4_next_197 : SndE EE S mi_X4_next 197 (.inl (e_lda 198 0)) := sn_aload_n dX4_next_197 rfl rfl
theorem en_X4_next_198 : SndE EE S mi_X4_next 198 (.inl (e_lda 199 0)) := sn_aload_n dX4_next_198 rfl rfl
theorem en_X4_next_199 : SndE EE S mi_X4_next 199 (.inl (e_gI 202 4 2)) := sn_gI dX4_next_199 rfl cl_4 (by decide) rfl (Or.inl q131) (Or.inl rfl)
theorem en_X4_next_202 : SndE EE S mi_X4_next 202 (.inl (e_pI 205 4 3)) := sn_pI dX4_next_202 rfl cl_4 (by decide) rfl (Or.inl ⟨q132, Or.inl rfl⟩) (Or.inl rfl) (fun _ => ⟨rfl, rfl⟩)
theorem en_X4_next_205 : SndE EE S mi_X4_next 205 (.inl (e_lda 206 0)) := sn_aload_n dX4_next_205 rfl rfl
theorem en_X4_next_206 : SndE EE S mi_X4_next 206 (.inl (e_lda 207 0)) := sn_aload_n dX4_next_206 rfl rfl
theorem en_X4_next_207 : SndE EE S mi_X4_next 207 (.inl (e_gI 210 4 3)) := sn_gI dX4_next_207 rfl cl_4 (by decide) rfl (Or.inl q132) (Or.inl rfl)
theorem en_X4_next_210 : SndE EE S mi_X4_next 210 (.inr (.inl (d_cls 4 109, 2, 3))) := sc_virt dX4_next_210 (rcv_cls (r := (RX4, TX4, 8)) rfl ⟨mo_X4_sign, nmo_X4_sign, q195, q196, q197⟩)
theorem en_X4_next_213 : SndE EE S mi_X4_next 213 (.inr (.inl (fun _ _ => some 111, 1, 3))) := sc_stat dX4_next_213 mo_X4_isDigit nmo_X4_isDigit q266 q267 q268
theorem en_X4_next_216 : SndE EE S mi_X4_next 216 (.inl (e_zeq 219 275)) := sn_zeq dX4_next_216 rfl (by decide)
theorem en_X4_next_219 : SndE EE S mi_X4_next 219 (.inl (e_lda 220 0)) := sn_aload_n dX4_next_219 rfl rfl
theorem en_X4_next_220 : SndE EE S mi_X4_next 220 (.inl (e_lda 221 0)) := sn_aload_n dX4_next_220 rfl rfl
theorem en_X4_next_221 : SndE EE S mi_X4_next 221 (.inl (e_gI 224 4 3)) := sn_gI dX4_next_221 rfl cl_4 (by decide) rfl (Or.inl q132) (Or.inl rfl)
theorem en_X4_next_224 : SndE EE S mi_X4_next 224 (.inl (e_lda 225 0)) := sn_aload_n dX4_next_224 rfl rfl
theorem en_X4_next_225 : SndE EE S mi_X4_next 225 (.inl (e_gI 228 4 2)) := sn_gI dX4_next_225 rfl cl_4 (by decide) rfl (Or.inl q131) (Or.inl rfl)
theorem en_X4_next_228 : SndE EE S mi_X4_next 228 (.inl (e_bin 229 (fun x y => x - y))) := sn_isub dX4_next_228 rfl
theorem en_X4_next_229 : SndE EE S mi_X4_next 229 (.inl (e_psh 230 (.int (4)))) := sn_iconst dX4_next_229 rfl rfl
theorem en_X4_next_230 : SndE EE S mi_X4_next 230 (.inl (e_ige 233 255)) := sn_ige dX4_next_230 rfl (by decide)
theorem en_X4_next_233 : SndE EE S mi_X4_next 233 (.inl (e_psh 235 (.int (10)))) := sn_bipush dX4_next_233 rfl rfl
theorem en_X4_next_235 : SndE EE S mi_X4_next 235 (.inl (e_lda 236 0)) := sn_aload_n dX4_next_235 rfl rfl
theorem en_X4_next_236 : SndE EE S mi_X4_next 236 (.inl (e_gI 239 4 5)) := sn_gI dX4_next_236 rfl cl_4 (by decide) rfl (Or.inl q134) (Or.inl rfl)
theorem en_X4_next_239 : SndE EE S mi_X4_next 239 (.inl (e_bin 240 (fun x y => x * y))) := sn_imul dX4_next_239 rfl
theorem en_X4_next_240 : SndE EE S mi_X4_next 240 (.inl (e_lda 241 0)) := sn_aload_n dX4_next_240 rfl rfl
theorem en_X4_next_241 : SndE EE S mi_X4_next 241 (.inl (e_lda 242 0)) := sn_aload_n dX4_next_241 rfl rfl
theorem en_X4_next_242 : SndE EE S mi_X4_next 242 (.inl (e_gI 245 4 3)) := sn_gI dX4_next_242 rfl cl_4 (by decide) rfl (Or.inl q132) (Or.inl rfl)
theorem en_X4_next_245 : SndE EE S mi_X4_next 245 (.inr (.inl (d_cls 4 109, 2, 3))) := sc_virt dX4_next_245 (rcv_cls (r := (RX4, TX4, 8)) rfl ⟨mo_X4_sign, nmo_X4_sign, q195, q196, q197⟩)
theorem en_X4_next_248 : SndE EE S mi_X4_next 248 (.inl (e_bin 249 (fun x y => x + y))) := sn_iadd dX4_next_248 rfl
theorem en_X4_next_249 : SndE EE S mi_X4_next 249 (.inl (e_psh 251 (.int (48)))) := sn_bipush dX4_next_249 rfl rfl
theorem en_X4_next_251 : SndE EE S mi_X4_next 251 (.inl (e_bin 252 (fun x y => x - y))) := sn_isub dX4_next_251 rfl
theorem en_X4_next_252 : SndE EE S mi_X4_next 252 (.inl (e_goto 259)) := sn_goto dX4_next_252 (by decide)
theorem en_X4_next_255 : SndE EE S mi_X4_next 255 (.inl (e_lda 256 0)) := sn_aload_n dX4_next_255 rfl rfl
theorem en_X4_next_256 : SndE EE S mi_X4_next 256 (.inl (e_gI 259 4 5)) := sn_gI dX4_next_256 rfl cl_4 (by decide) rfl (Or.inl q134) (Or.inl rfl)
theorem en_X4_next_259 : SndE EE S mi_X4_next 259 (.inl (e_pI 262 4 5)) := sn_pI dX4_next_259 rfl cl_4 (by decide) rfl (Or.inl ⟨q134, Or.inl rfl⟩) (Or.inl rfl) (fun _ => ⟨rfl, rfl⟩)
theorem en_X4_next_262 : SndE EE S mi_X4_next 262 (.inl (e_lda 263 0)) := sn_aload_n dX4_next_262 rfl rfl
theorem en_X4_next_263 : SndE EE S mi_X4_next 263 (.inl (e_dup 264)) := sn_dup dX4_next_263 rfl
theorem en_X4_next_264 : SndE EE S mi_X4_next 264 (.inl (e_gI 267 4 3)) := sn_gI dX4_next_264 rfl cl_4 (by decide) rfl (Or.inl q132) (Or.inl rfl)
theorem en_X4_next_267 : SndE EE S mi_X4_next 267 (.inl (e_psh 268 (.int (1)))) := sn_iconst dX4_next_267 rfl rfl
theorem en_X4_next_268 : SndE EE S mi_X4_next 268 (.inl (e_bin 269 (fun x y => x + y))) := sn_iadd dX4_next_268 rfl
theorem en_X4_next_269 : SndE EE S mi_X4_next 269 (.inl (e_pI 272 4 3)) := sn_pI dX4_next_269 rfl cl_4 (by decide) rfl (Or.inl ⟨q132, Or.inl rfl⟩) (Or.inl rfl) (fun _ => ⟨rfl, rfl⟩)
theorem en_X4_next_272 : SndE EE S mi_X4_next 272 (.inl (e_goto 205)) := sn_goto dX4_next_272 (by decide)
theorem en_X4_next_275 : SndE EE S mi_X4_next 275 (.inl (e_lda 276 0)) := sn_aload_n dX4_next_275 rfl rfl
theorem en_X4_next_276 : SndE EE S mi_X4_next 276 (.inl (e_gI 279 4 3)) := sn_gI dX4_next_276 rfl cl_4 (by decide) rfl (Or.inl q132) (Or.inl rfl)
theorem en_X4_next_279 : SndE EE S mi_X4_next 279 (.inl (e_lda 280 0)) := sn_aload_n dX4_next_279 rfl rfl
theorem en_X4_next_280 : SndE EE S mi_X4_next 280 (.inl (e_gI 283 4 2)) := sn_gI dX4_next_280 rfl cl_4 (by decide) rfl (Or.inl q131) (Or.inl rfl)
theorem en_X4_next_283 : SndE EE S mi_X4_next 283 (.inl (e_bin 284 (fun x y => x - y))) := sn_isub dX4_next_283 rfl
theorem en_X4_next_284 : SndE EE S mi_X4_next 284 (.inl (e_psh 285 (.int (4)))) := sn_iconst dX4_next_284 rfl rfl
theorem en_X4_next_285 : SndE EE S mi_X4_next 285 (.inl (e_igt 288 302)) := sn_igt dX4_next_285 rfl (by decide)
theorem en_X4_next_288 : SndE EE S mi_X4_next 288 (.inl (e_lda 289 0)) := sn_aload_n dX4_next_288 rfl rfl
theorem en_X4_next_289 : SndE EE S mi_X4_next 289 (.inl (e_lda 290 0)) := sn_aload_n dX4_next_289 rfl rfl
theorem en_X4_next_290 : SndE EE S mi_X4_next 290 (.inl (e_gI 293 4 3)) := sn_gI dX4_next_290 rfl cl_4 (by decide) rfl (Or.inl q132) (Or.inl rfl)
theorem en_X4_next_293 : SndE EE S mi_X4_next 293 (.inr (.inl (d_cls 4 109, 2, 3))) := sc_virt dX4_next_293 (rcv_cls (r := (RX4, TX4, 8)) rfl ⟨mo_X4_sign, nmo_X4_sign, q195, q196, q197⟩)
theorem en_X4_next_296 : SndE EE S mi_X4_next 296 (.inr (.inl (fun _ _ => some 110, 1, 3))) := sc_stat dX4_next_296 mo_X4_isLetter nmo_X4_isLetter q199 q200 q201
theorem en_X4_next_299 : SndE EE S mi_X4_next 299 (.inl (e_zeq 302 342)) := sn_zeq dX4_next_299 rfl (by decide)
theorem en_X4_next_302 : SndE EE S mi_X4_next 302 (.inl (e_new 305 5 8)) := sn_new dX4_next_302 rfl cl_5 (by decide +kernel) q202 q203 q61 (by decide)
theorem en_X4_next_305 : SndE EE S mi_X4_next 305 (.inl (e_dup 306)) := sn_dup dX4_next_305 rfl
theorem en_X4_next_306 : SndE EE S mi_X4_next 306 (.inl (e_psh 307 (.int (1)))) := sn_iconst dX4_next_306 rfl rfl
theorem en_X4_next_307 : SndE EE S mi_X4_next 307 (.inl (e_lda 308 0)) := sn_aload_n dX4_next_307 rfl rfl
theorem en_X4_next_308 : SndE EE S mi_X4_next 308 (.inl (e_gI 311 4 2)) := sn_gI dX4_next_308 rfl cl_4 (by decide) rfl (Or.inl q131) (Or.inl rfl)
theorem en_X4_next_311 : SndE EE S mi_X4_next 311 (.inr (.inl (d_cls 5 125, 3, 3))) := sc_init ctr_cls dX4_next_311 mo_X5_init nmo_X5_init rfl q239 q240 q241
theorem en_X4_next_314 : SndE EE S mi_X4_next 314 (.inr (.inr 5)) := dX4_next_314
theorem en_X4_next_315 : SndE EE S mi_X4_next 315 (.inl (e_lda 316 0)) := sn_aload_n dX4_next_315 rfl rfl
theorem en_X4_next_316 : SndE EE S mi_X4_next 316 (.inl (e_psh 317 (.int (3)))) := sn_iconst dX4_next_316 rfl rfl
theorem en_X4_next_317 : SndE EE S mi_X4_next 317 (.inl (e_pI 320 4 4)) := sn_pI dX4_next_317 rfl cl_4 (by decide) rfl (Or.inl ⟨q133, Or.inl rfl⟩) (Or.inl rfl) (fun _ => ⟨rfl, rfl⟩)
theorem en_X4_next_320 : SndE EE S mi_X4_next 320 (.inl (e_psh 322 (xS 0))) := sn_ldcS (tx := ";()<>=+-") dX4_next_320 rfl (fun G s h => EE_ldc h 0 (by decide))
theorem en_X4_next_322 : SndE EE S mi_X4_next 322 (.inl (e_ldi 323 1)) := sn_iload_n dX4_next_322 rfl rfl
theorem en_X4_next_323 : SndE EE S mi_X4_next 323 (.inr (.inl (d_str 141, 2, 3))) := sc_virt dX4_next_323 (rcv_str EE_str ⟨mo_J2_indexOf, nmo_J2_indexOf, q270, q271, q272⟩)
theorem en_X4_next_326 : SndE EE S mi_X4_next 326 (.inl (e_zge 329 342)) := sn_zge dX4_next_326 rfl (by decide)
theorem en_X4_next_329 : SndE EE S mi_X4_next 329 (.inl (e_new 332 5 8)) := sn_new dX4_next_329 rfl cl_5 (by decide +kernel) q202 q203 q61 (by decide)
theorem en_X4_next_332 : SndE EE S mi_X4_next 332 (.inl (e_dup 333)) := sn_dup dX4_next_332 rfl
theorem en_X4_next_333 : SndE EE S mi_X4_next 333 (.inl (e_psh 334 (.int (1)))) := sn_iconst dX4_next_333 rfl rfl
theorem en_X4_next_334 : SndE EE S mi_X4_next 334 (.inl (e_lda 335 0)) := sn_aload_n dX4_next_334 rfl rfl
theorem en_X4_next_335 : SndE EE S mi_X4_next 335 (.inl (e_gI 338 4 2)) := sn_gI dX4_next_335 rfl cl_4 (by decide) rfl (Or.inl q131) (Or.inl rfl)
theorem en_X4_next_338 : SndE EE S mi_X4_next 338 (.inr (.inl (d_cls 5 125, 3, 3))) := sc_init ctr_cls dX4_next_338 mo_X5_init nmo_X5_init rfl q239 q240 q241
theorem en_X4_next_341 : SndE EE S mi_X4_next 341 (.inr (.inr 5)) := dX4_next_341
theorem en_X4_next_342 : SndE EE S mi_X4_next 342 (.inr (.inr 0)) := ⟨dX4_next_342, rfl⟩
theorem sd_X4_next : ∀ pc x, cd_X4_next pc = some x → SndE EE S mi_X4_next pc x := (tN_ok (tN_ok (tN_ok (tN_ok (tN_ok (tN_ok (tN_ok (tL_ok en_X4_next_0) (tL_ok en_X4_next_1)) (tN_ok (tL_ok en_X4_next_2) (tN_ok (tL_ok en_X4_next_5) (tL_ok en_X4_next_8)))) (tN_ok (tN_ok (tL_ok en_X4_next_9) (tL_ok en_X4_next_12)) (tN_ok (tL_ok en_X4_next_13) (tN_ok (tL_ok en_X4_next_16) (tL_ok en_X4_next_19))))) (tN_ok (tN_ok (tN_ok (tL_ok en_X4_next_20) (tL_ok en_X4_next_21)) (tN_ok (tL_ok en_X4_next_24) (tN_ok (tL_ok en_X4_next_27) (tL_ok en_X4_next_29)))) (tN_ok (tN_ok (tL_ok en_X4_next_32) (tN_ok (tL_ok en_X4_next_33) (tL_ok en_X4_next_34))) (tN_ok (tL_ok en_X4_next_37) (tN_ok (tL_ok en_X4_next_40) (tL_ok en_X4_next_42)))))) (tN_ok (tN_ok (tN_ok (tN_ok (tL_ok en_X4_next_45) (tL_ok en_X4_next_46)) (tN_ok (tL_ok en_X4_next_47) (tN_ok (tL_ok en_X4_next_50) (tL_ok en_X4_next_51)))) (tN_ok (tN_ok (tL_ok en_X4_next_52) (tN_ok (tL_ok en_X4_next_55) (tL_ok en_X4_next_58))) (tN_ok (tL_ok en_X4_next_59) (tN_ok (tL_ok en_X4_next_60) (tL_ok en_X4_next_63))))) (tN_ok (tN_ok (tN_ok (tL_ok en_X4_next_66) (tL_ok en_X4_next_67)) (tN_ok (tL_ok en_X4_next_68) (tN_ok (tL_ok en_X4_next_69) (tL_ok en_X4_next_72)))) (tN_ok (tN_ok (tL_ok en_X4_next_73) (tN_ok (tL_ok en_X4_next_76) (tL_ok en_X4_next_79))) (tN_ok (tL_ok en_X4_next_80) (tN_ok (tL_ok en_X4_next_83) (tL_ok en_X4_next_84))))))) (tN_ok (tN_ok (tN_ok (tN_ok (tN_ok (tL_ok en_X4_next_85) (tL_ok en_X4_next_88)) (tN_ok (tL_ok en_X4_next_89) (tN_ok (tL_ok en_X4_next_92) (tL_ok en_X4_next_95)))) (tN_ok (tN_ok (tL_ok en_X4_next_96) (tL_ok en_X4_next_99)) (tN_ok (tL_ok en_X4_next_100) (tN_ok (tL_ok en_X4_next_103) (tL_ok en_X4_next_106))))) (tN_ok (tN_ok (tN_ok (tL_ok en_X4_next_107) (tL_ok en_X4_next_108)) (tN_ok (tL_ok en_X4_next_111) (tN_ok (tL_ok en_X4_next_114) (tL_ok en_X4_next_115)))) (tN_ok (tN_ok (tL_ok en_X4_next_118) (tN_ok (tL_ok en_X4_next_121) (tL_ok en_X4_next_122))) (tN_ok (tL_ok en_X4_next_123) (tN_ok (tL_ok en_X4_next_126) (tL_ok en_X4_next_129)))))) (tN_ok (tN_ok (tN_ok (tN_ok (tL_ok en_X4_next_132) (tL_ok en_X4_next_135)) (tN_ok (tL_ok en_X4_next_136) (tN_ok (tL_ok en_X4_next_137) (tL_ok en_X4_next_140)))) (tN_ok (tN_ok (tL_ok en_X4_next_141) (tN_ok (tL_ok en_X4_next_142) (tL_ok en_X4_next_145))) (tN_ok (tL_ok en_X4_next_148) (tN_ok (tL_ok en_X4_next_149) (tL_ok en_X4_next_150))))) (tN_ok (tN_ok (tN_ok (tL_ok en_X4_next_153) (tL_ok en_X4_next_154)) (tN_ok (tL_ok en_X4_next_157) (tN_ok (tL_ok en_X4_next_158) (tL_ok en_X4_next_161)))) (tN_ok (tN_ok (tL_ok en_X4_next_162) (tN_ok (tL_ok en_X4_next_164) (tL_ok en_X4_next_167))) (tN_ok (tL_ok en_X4_next_170) (tN_ok (tL_ok en_X4_next_171) (tL_ok en_X4_next_172)))))))) (tN_ok (tN_ok (tN_ok (tN_ok (tN_ok (tN_ok (tL_ok en_X4_next_173) (tL_ok en_X4_next_176)) (tN_ok (tL_ok en_X4_next_179) (tN_ok (tL_ok en_X4_next_180) (tL_ok en_X4_next_181)))) (tN_ok (tN_ok (tL_ok en_X4_next_184) (tL_ok en_X4_next_187)) (tN_ok (tL_ok en_X4_next_188) (tN_ok (tL_ok en_X4_next_189) (tL_ok en_X4_next_192))))) (tN_ok (tN_ok (tN_ok (tL_ok en_X4_next_193) (tL_ok en_X4_next_194)) (tN_ok (tL_ok en_X4_next_197) (tN_ok (tL_ok en_X4_next_198) (tL_ok en_X4_next_199)))) (tN_ok (tN_ok (tL_ok en_X4_next_202) (tN_ok (tL_ok en_X4_next_205) (tL_ok en_X4_next_206))) (tN_ok (tL_ok en_X4_next_207) (tN_ok (tL_ok en_X4_next_210) (tL_ok en_X4_next_213)))))) (tN_ok (tN_ok (tN_ok (tN_ok (tL_ok en_X4_next_216) (tL_ok en_X4_next_219)) (tN_ok (tL_ok en_X4_next_220) (tN_ok (tL_ok en_X4_next_221) (tL_ok en_X4_next_224)))) (tN_ok (tN_ok (tL_ok en_X4_next_225) (tN_ok (tL_ok en_X4_next_228) (tL_ok en_X4_next_229))) (tN_ok (tL_ok en_X4_next_230) (tN_ok (tL_ok en_X4_next_233) (tL_ok en_X4_next_235))))) (tN_ok (tN_ok (tN_ok (tL_ok en_X4_next_236) (tL_ok en_X4_next_239)) (tN_ok (tL_ok en_X4_next_240) (tN_ok (tL_ok en_X4_next_241) (tL_ok en_X4_next_242)))) (tN_ok (tN_ok (tL_ok en_X4_next_245) (tN_ok (tL_ok en_X4_next_248) (tL_ok en_X4_next_249))) (tN_ok (tL_ok en_X4_next_251) (tN_ok (tL_ok en_X4_next_252) (tL_ok en_X4_next_255))))))) (tN_ok (tN_ok (tN_ok (tN_ok (tN_ok (tL_ok en_X4_next_256) (tL_ok en_X4_next_259)) (tN_ok (tL_ok en_X4_next_262) (tN_ok (tL_ok en_X4_next_263) (tL_ok en_X4_next_264)))) (tN_ok (tN_ok (tL_ok en_X4_next_267) (tN_ok (tL_ok en_X4_next_268) (tL_ok en_X4_next_269))) (tN_ok (tL_ok en_X4_next_272) (tN_ok (tL_ok en_X4_next_275) (tL_ok en_X4_next_276))))) (tN_ok (tN_ok (tN_ok (tL_ok en_X4_next_279) (tL_ok en_X4_next_280)) (tN_ok (tL_ok en_X4_next_283) (tN_ok (tL_ok en_X4_next_284) (tL_ok en_X4_next_285)))) (tN_ok (tN_ok (tL_ok en_X4_next_288) (tN_ok (tL_ok en_X4_next_289) (tL_ok en_X4_next_290))) (tN_ok (tL_ok en_X4_next_293) (tN_ok (tL_ok en_X4_next_296) (tL_ok en_X4_next_299)))))) (tN_ok (tN_ok (tN_ok (tN_ok (tL_ok en_X4_next_302) (tL_ok en_X4_next_305)) (tN_ok (tL_ok en_X4_next_306) (tN_ok (tL_ok en_X4_next_307) (tL_ok en_X4_next_308)))) (tN_ok (tN_ok (tL_ok en_X4_next_311) (tN_ok (tL_ok en_X4_next_314) (tL_ok en_X4_next_315))) (tN_ok (tL_ok en_X4_next_316) (tN_ok (tL_ok en_X4_next_317) (tL_ok en_X4_next_320))))) (tN_ok (tN_ok (tN_ok (tL_ok en_X4_next_322) (tL_ok en_X4_next_323)) (tN_ok (tL_ok en_X4_next_326) (tN_ok (tL_ok en_X4_next_329) (tL_ok en_X4_next_332)))) (tN_ok (tN_ok (tL_ok en_X4_next_333) (tN_ok (tL_ok en_X4_next_334) (tL_ok en_X4_next_335))) (tN_ok (tL_ok en_X4_next_338) (tN_ok (tL_ok en_X4_next_341) (tL_ok en_X4_next_342)))))))))
theorem en_X4_sign_0 : SndE EE S mi_X4_sign 0 (.inl (e_ldi 1 1)) := sn_iload_n dX4_sign_0 rfl rfl
theorem en_X4_sign_1 : SndE EE S mi_X4_sign 1 (.inl (e_lda 2 0)) := sn_aload_n dX4_sign_1 rfl rfl
theorem en_X4_sign_2 : SndE EE S mi_X4_sign 2 (.inl (e_gI 5 4 1)) := sn_gI dX4_sign_2 rfl cl_4 (by decide) rfl (Or.inl q130) (Or.inl rfl)
theorem en_X4_sign_5 : SndE EE S mi_X4_sign 5 (.inl (e_ige 8 21)) := sn_ige dX4_sign_5 rfl (by decide)
theorem en_X4_sign_8 : SndE EE S mi_X4_sign 8 (.inl (e_lda 9 0)) := sn_aload_n dX4_sign_8 rfl rfl
theorem en_X4_sign_9 : SndE EE S mi_X4_sign 9 (.inl (e_gR 12 4 0)) := sn_gR dX4_sign_9 rfl cl_4 (by decide) rfl (Or.inl q129) (Or.inl rfl)
theorem en_X4_sign_12 : SndE EE S mi_X4_sign 12 (.inl (e_ldi 13 1)) := sn_iload_n dX4_sign_12 rfl rfl
theorem en_X4_sign_13 : SndE EE S mi_X4_sign 13 (.inl (e_ald 14 2)) := sn_bald dX4_sign_13 rfl
theorem en_X4_sign_14 : SndE EE S mi_X4_sign 14 (.inl (e_psh 17 (.int (255)))) := sn_sipush dX4_sign_14 rfl rfl
theorem en_X4_sign_17 : SndE EE S mi_X4_sign 17 (.inl (e_bin 18 (fun x y => x &&& y))) := sn_iand dX4_sign_17 rfl
theorem en_X4_sign_18 : SndE EE S mi_X4_sign 18 (.inl (e_goto 22)) := sn_goto dX4_sign_18 (by decide)
theorem en_X4_sign_21 : SndE EE S mi_X4_sign 21 (.inl (e_psh 22 (.int (0)))) := sn_iconst dX4_sign_21 rfl rfl
theorem en_X4_sign_22 : SndE EE S mi_X4_sign 22 (.inr (.inr 1)) := ⟨dX4_sign_22, rfl⟩
theorem sd_X4_sign : ∀ pc x, cd_X4_sign pc = some x → SndE EE S mi_X4_sign pc x := (tN_ok (tN_ok (tN_ok (tL_ok en_X4_sign_0) (tN_ok (tL_ok en_X4_sign_1) (tL_ok en_X4_sign_2))) (tN_ok (tL_ok en_X4_sign_5) (tN_ok (tL_ok en_X4_sign_8) (tL_ok en_X4_sign_9)))) (tN_ok (tN_ok (tL_ok en_X4_sign_12) (tN_ok (tL_ok en_X4_sign_13) (tL_ok en_X4_sign_14))) (tN_ok (tN_ok (tL_ok en_X4_sign_17) (tL_ok en_X4_sign_18)) (tN_ok (tL_ok en_X4_sign_21) (tL_ok en_X4_sign_22)))))
theorem en_X4_isLetter_0 : SndE EE S mi_X4_isLetter 0 (.inl (e_ldi 1 0)) := sn_iload_n dX4_isLetter_0 rfl rfl
theorem en_X4_isLetter_1 : SndE EE S mi_X4_isLetter 1 (.inl (e_psh 3 (.int (97)))) := sn_bipush dX4_isLetter_1 rfl rfl
theorem en_X4_isLetter_3 : SndE EE S mi_X4_isLetter 3 (.inl (e_ilt 6 16)) := sn_ilt dX4_isLetter_3 rfl (by decide)
theorem en_X4_isLetter_6 : SndE EE S mi_X4_isLetter 6 (.inl (e_ldi 7 0)) := sn_iload_n dX4_isLetter_6 rfl rfl
theorem en_X4_isLetter_7 : SndE EE S mi_X4_isLetter 7 (.inl (e_psh 9 (.int (122)))) := sn_bipush dX4_isLetter_7 rfl rfl
theorem en_X4_isLetter_9 : SndE EE S mi_X4_isLetter 9 (.inl (e_igt 12 16)) := sn_igt dX4_isLetter_9 rfl (by decide)
theorem en_X4_isLetter_12 : SndE EE S mi_X4_isLetter 12 (.inl (e_psh 13 (.int (1)))) := sn_iconst dX4_isLetter_12 rfl rfl
theorem en_X4_isLetter_13 : SndE EE S mi_X4_isLetter 13 (.inl (e_goto 17)) := sn_goto dX4_isLetter_13 (by decide)
theorem en_X4_isLetter_16 : SndE EE S mi_X4_isLetter 16 (.inl (e_psh 17 (.int (0)))) := sn_iconst dX4_isLetter_16 rfl rfl
theorem en_X4_isLetter_17 : SndE EE S mi_X4_isLetter 17 (.inr (.inr 2)) := ⟨dX4_isLetter_17, rfl⟩
theorem sd_X4_isLetter : ∀ pc x, cd_X4_isLetter pc = some x → SndE EE S mi_X4_isLetter pc x := (tN_ok (tN_ok (tN_ok (tL_ok en_X4_isLetter_0) (tL_ok en_X4_isLetter_1)) (tN_ok (tL_ok en_X4_isLetter_3) (tN_ok (tL_ok en_X4_isLetter_6) (tL_ok en_X4_isLetter_7)))) (tN_ok (tN_ok (tL_ok en_X4_isLetter_9) (tL_ok en_X4_isLetter_12)) (tN_ok (tL_ok en_X4_isLetter_13) (tN_ok (tL_ok en_X4_isLetter_16) (tL_ok en_X4_isLetter_17)))))
theorem en_X4_isDigit_0 : SndE EE S mi_X4_isDigit 0 (.inl (e_ldi 1 0)) := sn_iload_n dX4_isDigit_0 rfl rfl
theorem en_X4_isDigit_1 : SndE EE S mi_X4_isDigit 1 (.inl (e_psh 3 (.int (48)))) := sn_bipush dX4_isDigit_1 rfl rfl
theorem en_X4_isDigit_3 : SndE EE S mi_X4_isDigit 3 (.inl (e_ilt 6 16)) := sn_ilt dX4_isDigit_3 rfl (by decide)
theorem en_X4_isDigit_6 : SndE EE S mi_X4_isDigit 6 (.inl (e_ldi 7 0)) := sn_iload_n dX4_isDigit_6 rfl rfl
theorem en_X4_isDigit_7 : SndE EE S mi_X4_isDigit 7 (.inl (e_psh 9 (.int (57)))) := sn_bipush dX4_isDigit_7 rfl rfl
theorem en_X4_isDigit_9 : SndE EE S mi_X4_isDigit 9 (.inl (e_igt 12 16)) := sn_igt dX4_isDigit_9 rfl (by decide)
theorem en_X4_isDigit_12 : SndE EE S mi_X4_isDigit 12 (.inl (e_psh 13 (.int (1)))) := sn_iconst dX4_isDigit_12 rfl rfl
theorem en_X4_isDigit_13 : SndE EE S mi_X4_isDigit 13 (.inl (e_goto 17)) := sn_goto dX4_isDigit_13 (by decide)
theorem en_X4_isDigit_16 : SndE EE S mi_X4_isDigit 16 (.inl (e_psh 17 (.int (0)))) := sn_iconst dX4_isDigit_16 rfl rfl
theorem en_X4_isDigit_17 : SndE EE S mi_X4_isDigit 17 (.inr (.inr 2)) := ⟨dX4_isDigit_17, rfl⟩
theorem sd_X4_isDigit : ∀ pc x, cd_X4_isDigit pc = some x → SndE EE S mi_X4_isDigit pc x := (tN_ok (tN_ok (tN_ok (tL_ok en_X4_isDigit_0) (tL_ok en_X4_isDigit_1)) (tN_ok (tL_ok en_X4_isDigit_3) (tN_ok (tL_ok en_X4_isDigit_6) (tL_ok en_X4_isDigit_7)))) (tN_ok (tN_ok (tL_ok en_X4_isDigit_9) (tL_ok en_X4_isDigit_12)) (tN_ok (tL_ok en_X4_isDigit_13) (tN_ok (tL_ok en_X4_isDigit_16) (tL_ok en_X4_isDigit_17)))))
theorem en_X4_isWord_0 : SndE EE S mi_X4_isWord 0 (.inl (e_lda 1 0)) := sn_aload_n dX4_isWord_0 rfl rfl
theorem en_X4_isWord_1 : SndE EE S mi_X4_isWord 1 (.inl (e_gI 4 4 4)) := sn_gI dX4_isWord_1 rfl cl_4 (by decide) rfl (Or.inl q133) (Or.inl rfl)
theorem en_X4_isWord_4 : SndE EE S mi_X4_isWord 4 (.inl (e_psh 5 (.int (1)))) := sn_iconst dX4_isWord_4 rfl rfl
theorem en_X4_isWord_5 : SndE EE S mi_X4_isWord 5 (.inl (e_ine 8 24)) := sn_ine dX4_isWord_5 rfl (by decide)
theorem en_X4_isWord_8 : SndE EE S mi_X4_isWord 8 (.inl (e_lda 9 0)) := sn_aload_n dX4_isWord_8 rfl rfl
theorem en_X4_isWord_9 : SndE EE S mi_X4_isWord 9 (.inl (e_gI 12 4 3)) := sn_gI dX4_isWord_9 rfl cl_4 (by decide) rfl (Or.inl q132) (Or.inl rfl)
theorem en_X4_isWord_12 : SndE EE S mi_X4_isWord 12 (.inl (e_lda 13 0)) := sn_aload_n dX4_isWord_12 rfl rfl
theorem en_X4_isWord_13 : SndE EE S mi_X4_isWord 13 (.inl (e_gI 16 4 2)) := sn_gI dX4_isWord_13 rfl cl_4 (by decide) rfl (Or.inl q131) (Or.inl rfl)
theorem en_X4_isWord_16 : SndE EE S mi_X4_isWord 16 (.inl (e_bin 17 (fun x y => x - y))) := sn_isub dX4_isWord_16 rfl
theorem en_X4_isWord_17 : SndE EE S mi_X4_isWord 17 (.inl (e_lda 18 1)) := sn_aload_n dX4_isWord_17 rfl rfl
theorem en_X4_isWord_18 : SndE EE S mi_X4_isWord 18 (.inr (.inl (d_str 144, 1, 3))) := sc_virt dX4_isWord_18 (rcv_str EE_str ⟨mo_J2_length, nmo_J2_length, q361, q285, q286⟩)
theorem en_X4_isWord_21 : SndE EE S mi_X4_isWord 21 (.inl (e_ieq 24 26)) := sn_ieq dX4_isWord_21 rfl (by decide)
theorem en_X4_isWord_24 : SndE EE S mi_X4_isWord 24 (.inl (e_psh 25 (.int (0)))) := sn_iconst dX4_isWord_24 rfl rfl
theorem en_X4_isWord_25 : SndE EE S mi_X4_isWord 25 (.inr (.inr 2)) := ⟨dX4_isWord_25, rfl⟩
theorem en_X4_isWord_26 : SndE EE S mi_X4_isWord 26 (.inl (e_psh 27 (.int (0)))) := sn_iconst dX4_isWord_26 rfl rfl
theorem en_X4_isWord_27 : SndE EE S mi_X4_isWord 27 (.inl (e_sti 28 2)) := sn_istore_n dX4_isWord_27 rfl rfl rfl (by decide)
theorem en_X4_isWord_28 : SndE EE S mi_X4_isWord 28 (.inl (e_ldi 29 2)) := sn_iload_n dX4_isWord_28 rfl rfl
theorem en_X4_isWord_29 : SndE EE S mi_X4_isWord 29 (.inl (e_lda 30 1)) := sn_aload_n dX4_isWord_29 rfl rfl
theorem en_X4_isWord_30 : SndE EE S mi_X4_isWord 30 (.inr (.inl (d_str 144, 1, 3))) := sc_virt dX4_isWord_30 (rcv_str EE_str ⟨mo_J2_length, nmo_J2_length, q361, q285, q286⟩)
theorem en_X4_isWord_33 : SndE EE S mi_X4_isWord 33 (.inl (e_ige 36 60)) := sn_ige dX4_isWord_33 rfl (by decide)
theorem en_X4_isWord_36 : SndE EE S mi_X4_isWord 36 (.inl (e_lda 37 0)) := sn_aload_n dX4_isWord_36 rfl rfl
theorem en_X4_isWord_37 : SndE EE S mi_X4_isWord 37 (.inl (e_lda 38 0)) := sn_aload_n dX4_isWord_37 rfl rfl
theorem en_X4_isWord_38 : SndE EE S mi_X4_isWord 38 (.inl (e_gI 41 4 2)) := sn_gI dX4_isWord_38 rfl cl_4 (by decide) rfl (Or.inl q131) (Or.inl rfl)
theorem en_X4_isWord_41 : SndE EE S mi_X4_isWord 41 (.inl (e_ldi 42 2)) := sn_iload_n dX4_isWord_41 rfl rfl
theorem en_X4_isWord_42 : SndE EE S mi_X4_isWord 42 (.inl (e_bin 43 (fun x y => x + y))) := sn_iadd dX4_isWord_42 rfl
theorem en_X4_isWord_43 : SndE EE S mi_X4_isWord 43 (.inr (.inl (d_cls 4 109, 2, 3))) := sc_virt dX4_isWord_43 (rcv_cls (r := (RX4, TX4, 8)) rfl ⟨mo_X4_sign, nmo_X4_sign, q195, q196, q197⟩)
theorem en_X4_isWord_46 : SndE EE S mi_X4_isWord 46 (.inl (e_lda 47 1)) := sn_aload_n dX4_isWord_46 rfl rfl
theorem en_X4_isWord_47 : SndE EE S mi_X4_isWord 47 (.inl (e_ldi 48 2)) := sn_iload_n dX4_isWord_47 rfl rfl
theorem en_X4_isWord_48 : SndE EE S mi_X4_isWord 48 (.inr (.inl (d_str 146, 2, 3))) := sc_virt dX4_isWord_48 (rcv_str EE_str ⟨mo_J2_charAt, nmo_J2_charAt, q362, q363, q364⟩)
theorem en_X4_isWord_51 : SndE EE S mi_X4_isWord 51 (.inl (e_ine 54 60)) := sn_ine dX4_isWord_51 rfl (by decide)
theorem en_X4_isWord_54 : SndE EE S mi_X4_isWord 54 (.inl (e_inc 57 2 (1))) := sn_iinc dX4_isWord_54 rfl rfl rfl (by decide)
theorem en_X4_isWord_57 : SndE EE S mi_X4_isWord 57 (.inl (e_goto 28)) := sn_goto dX4_isWord_57 (by decide)
theorem en_X4_isWord_60 : SndE EE S mi_X4_isWord 60 (.inl (e_ldi 61 2)) := sn_iload_n dX4_isWord_60 rfl rfl
theorem en_X4_isWord_61 : SndE EE S mi_X4_isWord 61 (.inl (e_lda 62 1)) := sn_aload_n dX4_isWord_61 rfl rfl
theorem en_X4_isWord_62 : SndE EE S mi_X4_isWord 62 (.inr (.inl (d_str 144, 1, 3))) := sc_virt dX4_isWord_62 (rcv_str EE_str ⟨mo_J2_length, nmo_J2_length, q361, q285, q286⟩)
theorem en_X4_isWord_65 : SndE EE S mi_X4_isWord 65 (.inl (e_ine 68 72)) := sn_ine dX4_isWord_65 rfl (by decide)
theorem en_X4_isWord_68 : SndE EE S mi_X4_isWord 68 (.inl (e_psh 69 (.int (1)))) := sn_iconst dX4_isWord_68 rfl rfl
theorem en_X4_isWord_69 : SndE EE S mi_X4_isWord 69 (.inl (e_goto 73)) := sn_goto dX4_isWord_69 (by decide)
theorem en_X4_isWord_72 : SndE EE S mi_X4_isWord 72 (.inl (e_psh 73 (.int (0)))) := sn_iconst dX4_isWord_72 rfl rfl
theorem en_X4_isWord_73 : SndE EE S mi_X4_isWord 73 (.inr (.inr 2)) := ⟨dX4_isWord_73, rfl⟩
theorem sd_X4_isWord : ∀ pc x, cd_X4_isWord pc = some x → SndE EE S mi_X4_isWord pc x := (tN_ok (tN_ok (tN_ok (tN_ok (tN_ok (tL_ok en_X4_isWord_0) (tL_ok en_X4_isWord_1)) (tN_ok (tL_ok en_X4_isWord_4) (tN_ok (tL_ok en_X4_isWord_5) (tL_ok en_X4_isWord_8)))) (tN_ok (tN_ok (tL_ok en_X4_isWord_9) (tL_ok en_X4_isWord_12)) (tN_ok (tL_ok en_X4_isWord_13) (tN_ok (tL_ok en_X4_isWord_16) (tL_ok en_X4_isWord_17))))) (tN_ok (tN_ok (tN_ok (tL_ok en_X4_isWord_18) (tL_ok en_X4_isWord_21)) (tN_ok (tL_ok en_X4_isWord_24) (tN_ok (tL_ok en_X4_isWord_25) (tL_ok en_X4_isWord_26)))) (tN_ok (tN_ok (tL_ok en_X4_isWord_27) (tL_ok en_X4_isWord_28)) (tN_ok (tL_ok en_X4_isWord_29) (tN_ok (tL_ok en_X4_isWord_30) (tL_ok en_X4_isWord_33)))))) (tN_ok (tN_ok (tN_ok (tN_ok (tL_ok en_X4_isWord_36) (tL_ok en_X4_isWord_37)) (tN_ok (tL_ok en_X4_isWord_38) (tN_ok (tL_ok en_X4_isWord_41) (tL_ok en_X4_isWord_42)))) (tN_ok (tN_ok (tL_ok en_X4_isWord_43) (tL_ok en_X4_isWord_46)) (tN_ok (tL_ok en_X4_isWord_47) (tN_ok (tL_ok en_X4_isWord_48) (tL_ok en_X4_isWord_51))))) (tN_ok (tN_ok (tN_ok (tL_ok en_X4_isWord_54) (tL_ok en_X4_isWord_57)) (tN_ok (tL_ok en_X4_isWord_60) (tN_ok (tL_ok en_X4_isWord_61) (tL_ok en_X4_isWord_62)))) (tN_ok (tN_ok (tL_ok en_X4_isWord_65) (tL_ok en_X4_isWord_68)) (tN_ok (tL_ok en_X4_isWord_69) (tN_ok (tL_ok en_X4_isWord_72) (tL_ok en_X4_isWord_73)))))))
theorem en_X4_wrong_0 : SndE EE S mi_X4_wrong 0 (.inl (e_new 3 5 8)) := sn_new dX4_wrong_0 rfl cl_5 (by decide +kernel) q202 q203 q61 (by decide)
theorem en_X4_wrong_3 : SndE EE S mi_X4_wrong 3 (.inl (e_dup 4)) := sn_dup dX4_wrong_3 rfl
theorem en_X4_wrong_4 : SndE EE S mi_X4_wrong 4 (.inl (e_psh 5 (.int (2)))) := sn_iconst dX4_wrong_4 rfl rfl
theorem en_X4_wrong_5 : SndE EE S mi_X4_wrong 5 (.inl (e_lda 6 0)) := sn_aload_n dX4_wrong_5 rfl rfl
theorem en_X4_wrong_6 : SndE EE S mi_X4_wrong 6 (.inl (e_gI 9 4 2)) := sn_gI dX4_wrong_6 rfl cl_4 (by decide) rfl (Or.inl q131) (Or.inl rfl)
theorem en_X4_wrong_9 : SndE EE S mi_X4_wrong 9 (.inr (.inl (d_cls 5 125, 3, 3))) := sc_init ctr_cls dX4_wrong_9 mo_X5_init nmo_X5_init rfl q239 q240 q241
theorem en_X4_wrong_12 : SndE EE S mi_X4_wrong 12 (.inr (.inr 4)) := ⟨dX4_wrong_12, _, rfl⟩
theorem sd_X4_wrong : ∀ pc x, cd_X4_wrong pc = some x → SndE EE S mi_X4_wrong pc x := (tN_ok (tN_ok (tL_ok en_X4_wrong_0) (tN_ok (tL_ok en_X4_wrong_3) (tL_ok en_X4_wrong_4))) (tN_ok (tN_ok (tL_ok en_X4_wrong_5) (tL_ok en_X4_wrong_6)) (tN_ok (tL_ok en_X4_wrong_9) (tL_ok en_X4_wrong_12))))
theorem en_X4_number_0 : SndE EE S mi_X4_number 0 (.inl (e_lda 1 0)) := sn_aload_n dX4_number_0 rfl rfl
theorem en_X4_number_1 : SndE EE S mi_X4_number 1 (.inl (e_gI 4 4 4)) := sn_gI dX4_number_1 rfl cl_4 (by decide) rfl (Or.inl q133) (Or.inl rfl)
theorem en_X4_number_4 : SndE EE S mi_X4_number 4 (.inl (e_psh 5 (.int (2)))) := sn_iconst dX4_number_4 rfl rfl
theorem en_X4_number_5 : SndE EE S mi_X4_number 5 (.inl (e_ieq 8 13)) := sn_ieq dX4_number_5 rfl (by decide)
theorem en_X4_number_8 : SndE EE S mi_X4_number 8 (.inl (e_lda 9 0)) := sn_aload_n dX4_number_8 rfl rfl
theorem en_X4_number_9 : SndE EE S mi_X4_number 9 (.inr (.inl (d_cls 4 113, 1, 3))) := sc_virt dX4_number_9 (rcv_cls (r := (RX4, TX4, 8)) rfl ⟨mo_X4_wrong, nmo_X4_wrong, q382, q383, q384⟩)
theorem en_X4_number_12 : SndE EE S mi_X4_number 12 (.inr (.inr 5)) := dX4_number_12
theorem en_X4_number_13 : SndE EE S mi_X4_number 13 (.inl (e_lda 14 0)) := sn_aload_n dX4_number_13 rfl rfl
theorem en_X4_number_14 : SndE EE S mi_X4_number 14 (.inl (e_gI 17 4 5)) := sn_gI dX4_number_14 rfl cl_4 (by decide) rfl (Or.inl q134) (Or.inl rfl)
theorem en_X4_number_17 : SndE EE S mi_X4_number 17 (.inl (e_ldi 18 1)) := sn_iload_n dX4_number_17 rfl rfl
theorem en_X4_number_18 : SndE EE S mi_X4_number 18 (.inl (e_ilt 21 29)) := sn_ilt dX4_number_18 rfl (by decide)
theorem en_X4_number_21 : SndE EE S mi_X4_number 21 (.inl (e_lda 22 0)) := sn_aload_n dX4_number_21 rfl rfl
theorem en_X4_number_22 : SndE EE S mi_X4_number 22 (.inl (e_gI 25 4 5)) := sn_gI dX4_number_22 rfl cl_4 (by decide) rfl (Or.inl q134) (Or.inl rfl)
theorem en_X4_number_25 : SndE EE S mi_X4_number 25 (.inl (e_ldi 26 2)) := sn_iload_n dX4_number_25 rfl rfl
theorem en_X4_number_26 : SndE EE S mi_X4_number 26 (.inl (e_ile 29 42)) := sn_ile dX4_number_26 rfl (by decide)
theorem en_X4_number_29 : SndE EE S mi_X4_number 29 (.inl (e_new 32 5 8)) := sn_new dX4_number_29 rfl cl_5 (by decide +kernel) q202 q203 q61 (by decide)
theorem en_X4_number_32 : SndE EE S mi_X4_number 32 (.inl (e_dup 33)) := sn_dup dX4_number_32 rfl
theorem en_X4_number_33 : SndE EE S mi_X4_number 33 (.inl (e_psh 34 (.int (3)))) := sn_iconst dX4_number_33 rfl rfl
theorem en_X4_number_34 : SndE EE S mi_X4_number 34 (.inl (e_lda 35 0)) := sn_aload_n dX4_number_34 rfl rfl
theorem en_X4_number_35 : SndE EE S mi_X4_number 35 (.inl (e_gI 38 4 2)) := sn_gI dX4_number_35 rfl cl_4 (by decide) rfl (Or.inl q131) (Or.inl rfl)
theorem en_X4_number_38 : SndE EE S mi_X4_number 38 (.inr (.inl (d_cls 5 125, 3, 3))) := sc_init ctr_cls dX4_number_38 mo_X5_init nmo_X5_init rfl q239 q240 q241
theorem en_X4_number_41 : SndE EE S mi_X4_number 41 (.inr (.inr 5)) := dX4_number_41
theorem en_X4_number_42 : SndE EE S mi_X4_number 42 (.inl (e_lda 43 0)) := sn_aload_n dX4_number_42 rfl rfl
theorem en_X4_number_43 : SndE EE S mi_X4_number 43 (.inl (e_gI 46 4 5)) := sn_gI dX4_number_43 rfl cl_4 (by decide) rfl (Or.inl q134) (Or.inl rfl)
theorem en_X4_number_46 : SndE EE S mi_X4_number 46 (.inl (e_sti 47 3)) := sn_istore_n dX4_number_46 rfl rfl rfl (by decide)
theorem en_X4_number_47 : SndE EE S mi_X4_number 47 (.inl (e_lda 48 0)) := sn_aload_n dX4_number_47 rfl rfl
theorem en_X4_number_48 : SndE EE S mi_X4_number 48 (.inr (.inl (d_cls 4 108, 1, 3))) := sc_virt dX4_number_48 (rcv_cls (r := (RX4, TX4, 8)) rfl ⟨mo_X4_next, nmo_X4_next, q191, q192, q193⟩)
theorem en_X4_number_51 : SndE EE S mi_X4_number 51 (.inl (e_ldi 52 3)) := sn_iload_n dX4_number_51 rfl rfl
theorem en_X4_number_52 : SndE EE S mi_X4_number 52 (.inr (.inr 1)) := ⟨dX4_number_52, rfl⟩
theorem sd_X4_number : ∀ pc x, cd_X4_number pc = some x → SndE EE S mi_X4_number pc x := (tN_ok (tN_ok (tN_ok (tN_ok (tL_ok en_X4_number_0) (tN_ok (tL_ok en_X4_number_1) (tL_ok en_X4_number_4))) (tN_ok (tN_ok (tL_ok en_X4_number_5) (tL_ok en_X4_number_8)) (tN_ok (tL_ok en_X4_number_9) (tL_ok en_X4_number_12)))) (tN_ok (tN_ok (tL_ok en_X4_number_13) (tN_ok (tL_ok en_X4_number_14) (tL_ok en_X4_number_17))) (tN_ok (tN_ok (tL_ok en_X4_number_18) (tL_ok en_X4_number_21)) (tN_ok (tL_ok en_X4_number_22) (tL_ok en_X4_number_25))))) (tN_ok (tN_ok (tN_ok (tL_ok en_X4_number_26) (tN_ok (tL_ok en_X4_number_29) (tL_ok en_X4_number_32))) (tN_ok (tN_ok (tL_ok en_X4_number_33) (tL_ok en_X4_number_34)) (tN_ok (tL_ok en_X4_number_35) (tL_ok en_X4_number_38)))) (tN_ok (tN_ok (tN_ok (tL_ok en_X4_number_41) (tL_ok en_X4_number_42)) (tN_ok (tL_ok en_X4_number_43) (tL_ok en_X4_number_46))) (tN_ok (tN_ok (tL_ok en_X4_number_47) (tL_ok en_X4_number_48)) (tN_ok (tL_ok en_X4_number_51) (tL_ok en_X4_number_52))))))
theorem en_X4_mustWord_0 : SndE EE S mi_X4_mustWord 0 (.inl (e_lda 1 0)) := sn_aload_n dX4_mustWord_0 rfl rfl
theorem en_X4_mustWord_1 : SndE EE S mi_X4_mustWord 1 (.inl (e_lda 2 1)) := sn_aload_n dX4_mustWord_1 rfl rfl
theorem en_X4_mustWord_2 : SndE EE S mi_X4_mustWord 2 (.inr (.inl (d_cls 4 112, 2, 3))) := sc_virt dX4_mustWord_2 (rcv_cls (r := (RX4, TX4, 8)) rfl ⟨mo_X4_isWord, nmo_X4_isWord, q357, q358, q359⟩)
theorem en_X4_mustWord_5 : SndE EE S mi_X4_mustWord 5 (.inl (e_zne 8 13)) := sn_zne dX4_mustWord_5 rfl (by decide)
theorem en_X4_mustWord_8 : SndE EE S mi_X4_mustWord 8 (.inl (e_lda 9 0)) := sn_aload_n dX4_mustWord_8 rfl rfl
theorem en_X4_mustWord_9 : SndE EE S mi_X4_mustWord 9 (.inr (.inl (d_cls 4 113, 1, 3))) := sc_virt dX4_mustWord_9 (rcv_cls (r := (RX4, TX4, 8)) rfl ⟨mo_X4_wrong, nmo_X4_wrong, q382, q383, q384⟩)
theorem en_X4_mustWord_12 : SndE EE S mi_X4_mustWord 12 (.inr (.inr 5)) := dX4_mustWord_12
theorem en_X4_mustWord_13 : SndE EE S mi_X4_mustWord 13 (.inl (e_lda 14 0)) := sn_aload_n dX4_mustWord_13 rfl rfl
theorem en_X4_mustWord_14 : SndE EE S mi_X4_mustWord 14 (.inr (.inl (d_cls 4 108, 1, 3))) := sc_virt dX4_mustWord_14 (rcv_cls (r := (RX4, TX4, 8)) rfl ⟨mo_X4_next, nmo_X4_next, q191, q192, q193⟩)
theorem en_X4_mustWord_17 : SndE EE S mi_X4_mustWord 17 (.inr (.inr 0)) := ⟨dX4_mustWord_17, rfl⟩
theorem sd_X4_mustWord : ∀ pc x, cd_X4_mustWord pc = some x → SndE EE S mi_X4_mustWord pc x := (tN_ok (tN_ok (tN_ok (tL_ok en_X4_mustWord_0) (tL_ok en_X4_mustWord_1)) (tN_ok (tL_ok en_X4_mustWord_2) (tN_ok (tL_ok en_X4_mustWord_5) (tL_ok en_X4_mustWord_8)))) (tN_ok (tN_ok (tL_ok en_X4_mustWord_9) (tL_ok en_X4_mustWord_12)) (tN_ok (tL_ok en_X4_mustWord_13) (tN_ok (tL_ok en_X4_mustWord_14) (tL_ok en_X4_mustWord_17)))))
theorem en_X4_e_0 : SndE EE S mi_X4_e 0 (.inl (e_lda 1 0)) := sn_aload_n dX4_e_0 rfl rfl
theorem en_X4_e_1 : SndE EE S mi_X4_e 1 (.inr (.inl (d_cls 4 117, 1, 3))) := sc_virt dX4_e_1 (rcv_cls (r := (RX4, TX4, 8)) rfl ⟨mo_X4_both, nmo_X4_both, q400, q402, qs6⟩)
theorem en_X4_e_4 : SndE EE S mi_X4_e 4 (.inl (e_sta 5 1)) := sn_astore_n dX4_e_4 rfl rfl rfl (by decide)
theorem en_X4_e_5 : SndE EE S mi_X4_e 5 (.inl (e_lda 6 0)) := sn_aload_n dX4_e_5 rfl rfl
theorem en_X4_e_6 : SndE EE S mi_X4_e 6 (.inl (e_psh 8 (xS 4))) := sn_ldcS (tx := "or") dX4_e_6 rfl (fun G s h => EE_ldc h 4 (by decide))
theorem en_X4_e_8 : SndE EE S mi_X4_e 8 (.inr (.inl (d_cls 4 112, 2, 3))) := sc_virt dX4_e_8 (rcv_cls (r := (RX4, TX4, 8)) rfl ⟨mo_X4_isWord, nmo_X4_isWord, q357, q358, q359⟩)
theorem en_X4_e_11 : SndE EE S mi_X4_e 11 (.inl (e_zeq 14 35)) := sn_zeq dX4_e_11 rfl (by decide)
theorem en_X4_e_14 : SndE EE S mi_X4_e 14 (.inl (e_lda 15 0)) := sn_aload_n dX4_e_14 rfl rfl
theorem en_X4_e_15 : SndE EE S mi_X4_e 15 (.inr (.inl (d_cls 4 108, 1, 3))) := sc_virt dX4_e_15 (rcv_cls (r := (RX4, TX4, 8)) rfl ⟨mo_X4_next, nmo_X4_next, q191, q192, q193⟩)
theorem en_X4_e_18 : SndE EE S mi_X4_e 18 (.inl (e_new 21 11 3)) := sn_new dX4_e_18 rfl cl_11 (by decide +kernel) q516 q517 q75 (by decide)
theorem en_X4_e_21 : SndE EE S mi_X4_e 21 (.inl (e_dup 22)) := sn_dup dX4_e_21 rfl
theorem en_X4_e_22 : SndE EE S mi_X4_e 22 (.inl (e_psh 23 (.int (0)))) := sn_iconst dX4_e_22 rfl rfl
theorem en_X4_e_23 : SndE EE S mi_X4_e 23 (.inl (e_lda 24 1)) := sn_aload_n dX4_e_23 rfl rfl
theorem en_X4_e_24 : SndE EE S mi_X4_e 24 (.inl (e_lda 25 0)) := sn_aload_n dX4_e_24 rfl rfl
theorem en_X4_e_25 : SndE EE S mi_X4_e 25 (.inr (.inl (d_cls 4 117, 1, 3))) := sc_virt dX4_e_25 (rcv_cls (r := (RX4, TX4, 8)) rfl ⟨mo_X4_both, nmo_X4_both, q400, q402, qs6⟩)
theorem en_X4_e_28 : SndE EE S mi_X4_e 28 (.inr (.inl (d_cls 11 139, 4, 3))) := sc_init ctr_cls dX4_e_28 mo_X13_init nmo_X13_init rfl q518 q519 q520
theorem en_X4_e_31 : SndE EE S mi_X4_e 31 (.inl (e_sta 32 1)) := sn_astore_n dX4_e_31 rfl rfl rfl (by decide)
theorem en_X4_e_32 : SndE EE S mi_X4_e 32 (.inl (e_goto 5)) := sn_goto dX4_e_32 (by decide)
theorem en_X4_e_35 : SndE EE S mi_X4_e 35 (.inl (e_lda 36 1)) := sn_aload_n dX4_e_35 rfl rfl
theorem en_X4_e_36 : SndE EE S mi_X4_e 36 (.inr (.inr 4)) := ⟨dX4_e_36, _, rfl⟩
theorem sd_X4_e : ∀ pc x, cd_X4_e pc = some x → SndE EE S mi_X4_e pc x := (tN_ok (tN_ok (tN_ok (tN_ok (tL_ok en_X4_e_0) (tL_ok en_X4_e_1)) (tN_ok (tL_ok en_X4_e_4) (tN_ok (tL_ok en_X4_e_5) (tL_ok en_X4_e_6)))) (tN_ok (tN_ok (tL_ok en_X4_e_8) (tL_ok en_X4_e_11)) (tN_ok (tL_ok en_X4_e_14) (tN_ok (tL_ok en_X4_e_15) (tL_ok en_X4_e_18))))) (tN_ok (tN_ok (tN_ok (tL_ok en_X4_e_21) (tL_ok en_X4_e_22)) (tN_ok (tL_ok en_X4_e_23) (tN_ok (tL_ok en_X4_e_24) (tL_ok en_X4_e_25)))) (tN_ok (tN_ok (tL_ok en_X4_e_28) (tL_ok en_X4_e_31)) (tN_ok (tL_ok en_X4_e_32) (tN_ok (tL_ok en_X4_e_35) (tL_ok en_X4_e_36))))))
theorem en_X4_both_0 : SndE EE S mi_X4_both 0 (.inl (e_lda 1 0)) := sn_aload_n dX4_both_0 rfl rfl
theorem en_X4_both_1 : SndE EE S mi_X4_both 1 (.inr (.inl (d_cls 4 118, 1, 3))) := sc_virt dX4_both_1 (rcv_cls (r := (RX4, TX4, 8)) rfl ⟨mo_X4_one, nmo_X4_one, q404, q406, qs7⟩)
theorem en_X4_both_4 : SndE EE S mi_X4_both 4 (.inl (e_sta 5 1)) := sn_astore_n dX4_both_4 rfl rfl rfl (by decide)
theorem en_X4_both_5 : SndE EE S mi_X4_both 5 (.inl (e_lda 6 0)) := sn_aload_n dX4_both_5 rfl rfl
theorem en_X4_both_6 : SndE EE S mi_X4_both 6 (.inl (e_psh 8 (xS 5))) := sn_ldcS (tx := "and") dX4_both_6 rfl (fun G s h => EE_ldc h 5 (by decide))
theorem en_X4_both_8 : SndE EE S mi_X4_both 8 (.inr (.inl (d_cls 4 112, 2, 3))) := sc_virt dX4_both_8 (rcv_cls (r := (RX4, TX4, 8)) rfl ⟨mo_X4_isWord, nmo_X4_isWord, q357, q358, q359⟩)
theorem en_X4_both_11 : SndE EE S mi_X4_both 11 (.inl (e_zeq 14 35)) := sn_zeq dX4_both_11 rfl (by decide)
theorem en_X4_both_14 : SndE EE S mi_X4_both 14 (.inl (e_lda 15 0)) := sn_aload_n dX4_both_14 rfl rfl
theorem en_X4_both_15 : SndE EE S mi_X4_both 15 (.inr (.inl (d_cls 4 108, 1, 3))) := sc_virt dX4_both_15 (rcv_cls (r := (RX4, TX4, 8)) rfl ⟨mo_X4_next, nmo_X4_next, q191, q192, q193⟩)
theorem en_X4_both_18 : SndE EE S mi_X4_both 18 (.inl (e_new 21 11 3)) := sn_new dX4_both_18 rfl cl_11 (by decide +kernel) q516 q517 q75 (by decide)
theorem en_X4_both_21 : SndE EE S mi_X4_both 21 (.inl (e_dup 22)) := sn_dup dX4_both_21 rfl
theorem en_X4_both_22 : SndE EE S mi_X4_both 22 (.inl (e_psh 23 (.int (1)))) := sn_iconst dX4_both_22 rfl rfl
theorem en_X4_both_23 : SndE EE S mi_X4_both 23 (.inl (e_lda 24 1)) := sn_aload_n dX4_both_23 rfl rfl
theorem en_X4_both_24 : SndE EE S mi_X4_both 24 (.inl (e_lda 25 0)) := sn_aload_n dX4_both_24 rfl rfl
theorem en_X4_both_25 : SndE EE S mi_X4_both 25 (.inr (.inl (d_cls 4 118, 1, 3))) := sc_virt dX4_both_25 (rcv_cls (r := (RX4, TX4, 8)) rfl ⟨mo_X4_one, nmo_X4_one, q404, q406, qs7⟩)
theorem en_X4_both_28 : SndE EE S mi_X4_both 28 (.inr (.inl (d_cls 11 139, 4, 3))) := sc_init ctr_cls dX4_both_28 mo_X13_init nmo_X13_init rfl q518 q519 q520
theorem en_X4_both_31 : SndE EE S mi_X4_both 31 (.inl (e_sta 32 1)) := sn_astore_n dX4_both_31 rfl rfl rfl (by decide)
theorem en_X4_both_32 : SndE EE S mi_X4_both 32 (.inl (e_goto 5)) := sn_goto dX4_both_32 (by decide)
theorem en_X4_both_35 : SndE EE S mi_X4_both 35 (.inl (e_lda 36 1)) := sn_aload_n dX4_both_35 rfl rfl
theorem en_X4_both_36 : SndE EE S mi_X4_both 36 (.inr (.inr 4)) := ⟨dX4_both_36, _, rfl⟩
theorem sd_X4_both : ∀ pc x, cd_X4_both pc = some x → SndE EE S mi_X4_both pc x := (tN_ok (tN_ok (tN_ok (tN_ok (tL_ok en_X4_both_0) (tL_ok en_X4_both_1)) (tN_ok (tL_ok en_X4_both_4) (tN_ok (tL_ok en_X4_both_5) (tL_ok en_X4_both_6)))) (tN_ok (tN_ok (tL_ok en_X4_both_8) (tL_ok en_X4_both_11)) (tN_ok (tL_ok en_X4_both_14) (tN_ok (tL_ok en_X4_both_15) (tL_ok en_X4_both_18))))) (tN_ok (tN_ok (tN_ok (tL_ok en_X4_both_21) (tL_ok en_X4_both_22)) (tN_ok (tL_ok en_X4_both_23) (tN_ok (tL_ok en_X4_both_24) (tL_ok en_X4_both_25)))) (tN_ok (tN_ok (tL_ok en_X4_both_28) (tL_ok en_X4_both_31)) (tN_ok (tL_ok en_X4_both_32) (tN_ok (tL_ok en_X4_both_35) (tL_ok en_X4_both_36))))))
theorem en_X4_one_0 : SndE EE S mi_X4_one 0 (.inl (e_lda 1 0)) := sn_aload_n dX4_one_0 rfl rfl
theorem en_X4_one_1 : SndE EE S mi_X4_one 1 (.inl (e_psh 3 (xS 6))) := sn_ldcS (tx := "not") dX4_one_1 rfl (fun G s h => EE_ldc h 6 (by decide))
theorem en_X4_one_3 : SndE EE S mi_X4_one 3 (.inr (.inl (d_cls 4 112, 2, 3))) := sc_virt dX4_one_3 (rcv_cls (r := (RX4, TX4, 8)) rfl ⟨mo_X4_isWord, nmo_X4_isWord, q357, q358, q359⟩)
theorem en_X4_one_6 : SndE EE S mi_X4_one 6 (.inl (e_zeq 9 41)) := sn_zeq dX4_one_6 rfl (by decide)
theorem en_X4_one_9 : SndE EE S mi_X4_one 9 (.inl (e_lda 10 0)) := sn_aload_n dX4_one_9 rfl rfl
theorem en_X4_one_10 : SndE EE S mi_X4_one 10 (.inr (.inl (d_cls 4 108, 1, 3))) := sc_virt dX4_one_10 (rcv_cls (r := (RX4, TX4, 8)) rfl ⟨mo_X4_next, nmo_X4_next, q191, q192, q193⟩)
theorem en_X4_one_13 : SndE EE S mi_X4_one 13 (.inl (e_lda 14 0)) := sn_aload_n dX4_one_13 rfl rfl
theorem en_X4_one_14 : SndE EE S mi_X4_one 14 (.inr (.inl (d_cls 4 119, 1, 3))) := sc_virt dX4_one_14 (rcv_cls (r := (RX4, TX4, 8)) rfl ⟨mo_X4_goIn, nmo_X4_goIn, q409, q411, qs8⟩)
theorem en_X4_one_17 : SndE EE S mi_X4_one 17 (.inl (e_new 20 6 1)) := sn_new dX4_one_17 rfl cl_6 (by decide +kernel) q413 q414 q69 (by decide)
theorem en_X4_one_20 : SndE EE S mi_X4_one 20 (.inl (e_dup 21)) := sn_dup dX4_one_20 rfl
theorem en_X4_one_21 : SndE EE S mi_X4_one 21 (.inl (e_lda 22 0)) := sn_aload_n dX4_one_21 rfl rfl
theorem en_X4_one_22 : SndE EE S mi_X4_one 22 (.inr (.inl (d_cls 4 118, 1, 3))) := sc_virt dX4_one_22 (rcv_cls (r := (RX4, TX4, 8)) rfl ⟨mo_X4_one, nmo_X4_one, q404, q406, qs7⟩)
theorem en_X4_one_25 : SndE EE S mi_X4_one 25 (.inr (.inl (d_cls 6 128, 2, 3))) := sc_init ctr_cls dX4_one_25 mo_X7_init nmo_X7_init rfl q415 q416 q417
theorem en_X4_one_28 : SndE EE S mi_X4_one 28 (.inl (e_sta 29 1)) := sn_astore_n dX4_one_28 rfl rfl rfl (by decide)
theorem en_X4_one_29 : SndE EE S mi_X4_one 29 (.inl (e_lda 30 0)) := sn_aload_n dX4_one_29 rfl rfl
theorem en_X4_one_30 : SndE EE S mi_X4_one 30 (.inl (e_dup 31)) := sn_dup dX4_one_30 rfl
theorem en_X4_one_31 : SndE EE S mi_X4_one 31 (.inl (e_gI 34 4 7)) := sn_gI dX4_one_31 rfl cl_4 (by decide) rfl (Or.inl q136) (Or.inl rfl)
theorem en_X4_one_34 : SndE EE S mi_X4_one 34 (.inl (e_psh 35 (.int (1)))) := sn_iconst dX4_one_34 rfl rfl
theorem en_X4_one_35 : SndE EE S mi_X4_one 35 (.inl (e_bin 36 (fun x y => x - y))) := sn_isub dX4_one_35 rfl
theorem en_X4_one_36 : SndE EE S mi_X4_one 36 (.inl (e_pI 39 4 7)) := sn_pI dX4_one_36 rfl cl_4 (by decide) rfl (Or.inl ⟨q136, Or.inl rfl⟩) (Or.inl rfl) (fun _ => ⟨rfl, rfl⟩)
theorem en_X4_one_39 : SndE EE S mi_X4_one 39 (.inl (e_lda 40 1)) := sn_aload_n dX4_one_39 rfl rfl
theorem en_X4_one_40 : SndE EE S mi_X4_one 40 (.inr (.inr 4)) := ⟨dX4_one_40, _, rfl⟩
theorem en_X4_one_41 : SndE EE S mi_X4_one 41 (.inl (e_lda 42 0)) := sn_aload_n dX4_one_41 rfl rfl
theorem en_X4_one_42 : SndE EE S mi_X4_one 42 (.inl (e_psh 44 (.int (40)))) := sn_bipush dX4_one_42 rfl rfl
theorem en_X4_one_44 : SndE EE S mi_X4_one 44 (.inr (.inl (d_cls 4 120, 2, 3))) := sc_virt dX4_one_44 (rcv_cls (r := (RX4, TX4, 8)) rfl ⟨mo_X4_is, nmo_X4_is, q427, q428, q429⟩)
theorem en_X4_one_47 : SndE EE S mi_X4_one 47 (.inl (e_zeq 50 81)) := sn_zeq dX4_one_47 rfl (by decide)
theorem en_X4_one_50 : SndE EE S mi_X4_one 50 (.inl (e_lda 51 0)) := sn_aload_n dX4_one_50 rfl rfl
theorem en_X4_one_51 : SndE EE S mi_X4_one 51 (.inr (.inl (d_cls 4 108, 1, 3))) := sc_virt dX4_one_51 (rcv_cls (r := (RX4, TX4, 8)) rfl ⟨mo_X4_next, nmo_X4_next, q191, q192, q193⟩)
theorem en_X4_one_54 : SndE EE S mi_X4_one 54 (.inl (e_lda 55 0)) := sn_aload_n dX4_one_54 rfl rfl
theorem en_X4_one_55 : SndE EE S mi_X4_one 55 (.inr (.inl (d_cls 4 119, 1, 3))) := sc_virt dX4_one_55 (rcv_cls (r := (RX4, TX4, 8)) rfl ⟨mo_X4_goIn, nmo_X4_goIn, q409, q411, qs8⟩)
theorem en_X4_one_58 : SndE EE S mi_X4_one 58 (.inl (e_lda 59 0)) := sn_aload_n dX4_one_58 rfl rfl
theorem en_X4_one_59 : SndE EE S mi_X4_one 59 (.inr (.inl (d_cls 4 116, 1, 3))) := sc_virt dX4_one_59 (rcv_cls (r := (RX4, TX4, 8)) rfl ⟨mo_X4_e, nmo_X4_e, q396, q397, q398⟩)
theorem en_X4_one_62 : SndE EE S mi_X4_one 62 (.inl (e_sta 63 1)) := sn_astore_n dX4_one_62 rfl rfl rfl (by decide)
theorem en_X4_one_63 : SndE EE S mi_X4_one 63 (.inl (e_lda 64 0)) := sn_aload_n dX4_one_63 rfl rfl
theorem en_X4_one_64 : SndE EE S mi_X4_one 64 (.inl (e_dup 65)) := sn_dup dX4_one_64 rfl
theorem en_X4_one_65 : SndE EE S mi_X4_one 65 (.inl (e_gI 68 4 7)) := sn_gI dX4_one_65 rfl cl_4 (by decide) rfl (Or.inl q136) (Or.inl rfl)
theorem en_X4_one_68 : SndE EE S mi_X4_one 68 (.inl (e_psh 69 (.int (1)))) := sn_iconst dX4_one_68 rfl rfl
theorem en_X4_one_69 : SndE EE S mi_X4_one 69 (.inl (e_bin 70 (fun x y => x - y))) := sn_isub dX4_one_69 rfl
theorem en_X4_one_70 : SndE EE S mi_X4_one 70 (.inl (e_pI 73 4 7)) := sn_pI dX4_one_70 rfl cl_4 (by decide) rfl (Or.inl ⟨q136, Or.inl rfl⟩) (Or.inl rfl) (fun _ => ⟨rfl, rfl⟩)
theorem en_X4_one_73 : SndE EE S mi_X4_one 73 (.inl (e_lda 74 0)) := sn_aload_n dX4_one_73 rfl rfl
theorem en_X4_one_74 : SndE EE S mi_X4_one 74 (.inl (e_psh 76 (.int (41)))) := sn_bipush dX4_one_74 rfl rfl
theorem en_X4_one_76 : SndE EE S mi_X4_one 76 (.inr (.inl (d_cls 4 121, 2, 3))) := sc_virt dX4_one_76 (rcv_cls (r := (RX4, TX4, 8)) rfl ⟨mo_X4_must, nmo_X4_must, q431, q432, q433⟩)
theorem en_X4_one_79 : SndE EE S mi_X4_one 79 (.inl (e_lda 80 1)) := sn_aload_n dX4_one_79 rfl rfl
theorem en_X4_one_80 : SndE EE S mi_X4_one 80 (.inr (.inr 4)) := ⟨dX4_one_80, _, rfl⟩
theorem en_X4_one_81 : SndE EE S mi_X4_one 81 (.inl (e_lda 82 0)) := sn_aload_n dX4_one_81 rfl rfl
theorem en_X4_one_82 : SndE EE S mi_X4_one 82 (.inr (.inl (d_cls 4 122, 1, 3))) := sc_virt dX4_one_82 (rcv_cls (r := (RX4, TX4, 8)) rfl ⟨mo_X4_sum, nmo_X4_sum, q435, q437, qs9⟩)
theorem en_X4_one_85 : SndE EE S mi_X4_one 85 (.inl (e_sta 86 1)) := sn_astore_n dX4_one_85 rfl rfl rfl (by decide)
theorem en_X4_one_86 : SndE EE S mi_X4_one 86 (.inl (e_lda 87 0)) := sn_aload_n dX4_one_86 rfl rfl
theorem en_X4_one_87 : SndE EE S mi_X4_one 87 (.inl (e_psh 89 (.int (60)))) := sn_bipush dX4_one_87 rfl rfl
theorem en_X4_one_89 : SndE EE S mi_X4_one 89 (.inr (.inl (d_cls 4 120, 2, 3))) := sc_virt dX4_one_89 (rcv_cls (r := (RX4, TX4, 8)) rfl ⟨mo_X4_is, nmo_X4_is, q427, q428, q429⟩)
theorem en_X4_one_92 : SndE EE S mi_X4_one 92 (.inl (e_zne 95 118)) := sn_zne dX4_one_92 rfl (by decide)
theorem en_X4_one_95 : SndE EE S mi_X4_one 95 (.inl (e_lda 96 0)) := sn_aload_n dX4_one_95 rfl rfl
theorem en_X4_one_96 : SndE EE S mi_X4_one 96 (.inl (e_psh 98 (.int (62)))) := sn_bipush dX4_one_96 rfl rfl
theorem en_X4_one_98 : SndE EE S mi_X4_one 98 (.inr (.inl (d_cls 4 120, 2, 3))) := sc_virt dX4_one_98 (rcv_cls (r := (RX4, TX4, 8)) rfl ⟨mo_X4_is, nmo_X4_is, q427, q428, q429⟩)
theorem en_X4_one_101 : SndE EE S mi_X4_one 101 (.inl (e_zne 104 118)) := sn_zne dX4_one_101 rfl (by decide)
theorem en_X4_one_104 : SndE EE S mi_X4_one 104 (.inl (e_lda 105 0)) := sn_aload_n dX4_one_104 rfl rfl
theorem en_X4_one_105 : SndE EE S mi_X4_one 105 (.inl (e_psh 107 (.int (61)))) := sn_bipush dX4_one_105 rfl rfl
theorem en_X4_one_107 : SndE EE S mi_X4_one 107 (.inr (.inl (d_cls 4 120, 2, 3))) := sc_virt dX4_one_107 (rcv_cls (r := (RX4, TX4, 8)) rfl ⟨mo_X4_is, nmo_X4_is, q427, q428, q429⟩)
theorem en_X4_one_110 : SndE EE S mi_X4_one 110 (.inl (e_zne 113 118)) := sn_zne dX4_one_110 rfl (by decide)
theorem en_X4_one_113 : SndE EE S mi_X4_one 113 (.inl (e_lda 114 0)) := sn_aload_n dX4_one_113 rfl rfl
theorem en_X4_one_114 : SndE EE S mi_X4_one 114 (.inr (.inl (d_cls 4 113, 1, 3))) := sc_virt dX4_one_114 (rcv_cls (r := (RX4, TX4, 8)) rfl ⟨mo_X4_wrong, nmo_X4_wrong, q382, q383, q384⟩)
theorem en_X4_one_117 : SndE EE S mi_X4_one 117 (.inr (.inr 5)) := dX4_one_117
theorem en_X4_one_118 : SndE EE S mi_X4_one 118 (.inl (e_lda 119 0)) := sn_aload_n dX4_one_118 rfl rfl
theorem en_X4_one_119 : SndE EE S mi_X4_one 119 (.inl (e_lda 120 0)) := sn_aload_n dX4_one_119 rfl rfl
theorem en_X4_one_120 : SndE EE S mi_X4_one 120 (.inl (e_gI 123 4 2)) := sn_gI dX4_one_120 rfl cl_4 (by decide) rfl (Or.inl q131) (Or.inl rfl)
theorem en_X4_one_123 : SndE EE S mi_X4_one 123 (.inr (.inl (d_cls 4 109, 2, 3))) := sc_virt dX4_one_123 (rcv_cls (r := (RX4, TX4, 8)) rfl ⟨mo_X4_sign, nmo_X4_sign, q195, q196, q197⟩)
theorem en_X4_one_126 : SndE EE S mi_X4_one 126 (.inl (e_sti 127 2)) := sn_istore_n dX4_one_126 rfl rfl rfl (by decide)
theorem en_X4_one_127 : SndE EE S mi_X4_one 127 (.inl (e_lda 128 0)) := sn_aload_n dX4_one_127 rfl rfl
theorem en_X4_one_128 : SndE EE S mi_X4_one 128 (.inr (.inl (d_cls 4 108, 1, 3))) := sc_virt dX4_one_128 (rcv_cls (r := (RX4, TX4, 8)) rfl ⟨mo_X4_next, nmo_X4_next, q191, q192, q193⟩)
theorem en_X4_one_131 : SndE EE S mi_X4_one 131 (.inl (e_new 134 10 3)) := sn_new dX4_one_131 rfl cl_10 (by decide +kernel) q503 q504 q74 (by decide)
theorem en_X4_one_134 : SndE EE S mi_X4_one 134 (.inl (e_dup 135)) := sn_dup dX4_one_134 rfl
theorem en_X4_one_135 : SndE EE S mi_X4_one 135 (.inl (e_ldi 136 2)) := sn_iload_n dX4_one_135 rfl rfl
theorem en_X4_one_136 : SndE EE S mi_X4_one 136 (.inl (e_lda 137 1)) := sn_aload_n dX4_one_136 rfl rfl
theorem en_X4_one_137 : SndE EE S mi_X4_one 137 (.inl (e_lda 138 0)) := sn_aload_n dX4_one_137 rfl rfl
theorem en_X4_one_138 : SndE EE S mi_X4_one 138 (.inr (.inl (d_cls 4 122, 1, 3))) := sc_virt dX4_one_138 (rcv_cls (r := (RX4, TX4, 8)) rfl ⟨mo_X4_sum, nmo_X4_sum, q435, q437, qs9⟩)
theorem en_X4_one_141 : SndE EE S mi_X4_one 141 (.inr (.inl (d_cls 10 137, 4, 3))) := sc_init ctr_cls dX4_one_141 mo_X12_init nmo_X12_init rfl q505 q506 q507
theorem en_X4_one_144 : SndE EE S mi_X4_one 144 (.inr (.inr 4)) := ⟨dX4_one_144, _, rfl⟩
theorem sd_X4_one : ∀ pc x, cd_X4_one pc = some x → SndE EE S mi_X4_one pc x := (tN_ok (tN_ok (tN_ok (tN_ok (tN_ok (tN_ok (tL_ok en_X4_one_0) (tL_ok en_X4_one_1)) (tN_ok (tL_ok en_X4_one_3) (tL_ok en_X4_one_6))) (tN_ok (tN_ok (tL_ok en_X4_one_9) (tL_ok en_X4_one_10)) (tN_ok (tL_ok en_X4_one_13) (tN_ok (tL_ok en_X4_one_14) (tL_ok en_X4_one_17))))) (tN_ok (tN_ok (tN_ok (tL_ok en_X4_one_20) (tL_ok en_X4_one_21)) (tN_ok (tL_ok en_X4_one_22) (tN_ok (tL_ok en_X4_one_25) (tL_ok en_X4_one_28)))) (tN_ok (tN_ok (tL_ok en_X4_one_29) (tL_ok en_X4_one_30)) (tN_ok (tL_ok en_X4_one_31) (tN_ok (tL_ok en_X4_one_34) (tL_ok en_X4_one_35)))))) (tN_ok (tN_ok (tN_ok (tN_ok (tL_ok en_X4_one_36) (tL_ok en_X4_one_39)) (tN_ok (tL_ok en_X4_one_40) (tL_ok en_X4_one_41))) (tN_ok (tN_ok (tL_ok en_X4_one_42) (tL_ok en_X4_one_44)) (tN_ok (tL_ok en_X4_one_47) (tN_ok (tL_ok en_X4_one_50) (tL_ok en_X4_one_51))))) (tN_ok (tN_ok (tN_ok (tL_ok en_X4_one_54) (tL_ok en_X4_one_55)) (tN_ok (tL_ok en_X4_one_58) (tN_ok (tL_ok en_X4_one_59) (tL_ok en_X4_one_62)))) (tN_ok (tN_ok (tL_ok en_X4_one_63) (tL_ok en_X4_one_64)) (tN_ok (tL_ok en_X4_one_65) (tN_ok (tL_ok en_X4_one_68) (tL_ok en_X4_one_69))))))) (tN_ok (tN_ok (tN_ok (tN_ok (tN_ok (tL_ok en_X4_one_70) (tL_ok en_X4_one_73)) (tN_ok (tL_ok en_X4_one_74) (tL_ok en_X4_one_76))) (tN_ok (tN_ok (tL_ok en_X4_one_79) (tL_ok en_X4_one_80)) (tN_ok (tL_ok en_X4_one_81) (tN_ok (tL_ok en_X4_one_82) (tL_ok en_X4_one_85))))) (tN_ok (tN_ok (tN_ok (tL_ok en_X4_one_86) (tL_ok en_X4_one_87)) (tN_ok (tL_ok en_X4_one_89) (tN_ok (tL_ok en_X4_one_92) (tL_ok en_X4_one_95)))) (tN_ok (tN_ok (tL_ok en_X4_one_96) (tL_ok en_X4_one_98)) (tN_ok (tL_ok en_X4_one_101) (tN_ok (tL_ok en_X4_one_104) (tL_ok en_X4_one_105)))))) (tN_ok (tN_ok (tN_ok (tN_ok (tL_ok en_X4_one_107) (tL_ok en_X4_one_110)) (tN_ok (tL_ok en_X4_one_113) (tN_ok (tL_ok en_X4_one_114) (tL_ok en_X4_one_117)))) (tN_ok (tN_ok (tL_ok en_X4_one_118) (tL_ok en_X4_one_119)) (tN_ok (tL_ok en_X4_one_120) (tN_ok (tL_ok en_X4_one_123) (tL_ok en_X4_one_126))))) (tN_ok (tN_ok (tN_ok (tL_ok en_X4_one_127) (tL_ok en_X4_one_128)) (tN_ok (tL_ok en_X4_one_131) (tN_ok (tL_ok en_X4_one_134) (tL_ok en_X4_one_135)))) (tN_ok (tN_ok (tL_ok en_X4_one_136) (tL_ok en_X4_one_137)) (tN_ok (tL_ok en_X4_one_138) (tN_ok (tL_ok en_X4_one_141) (tL_ok en_X4_one_144))))))))
theorem en_X4_goIn_0 : SndE EE S mi_X4_goIn 0 (.inl (e_lda 1 0)) := sn_aload_n dX4_goIn_0 rfl rfl
theorem en_X4_goIn_1 : SndE EE S mi_X4_goIn 1 (.inl (e_dup 2)) := sn_dup dX4_goIn_1 rfl
theorem en_X4_goIn_2 : SndE EE S mi_X4_goIn 2 (.inl (e_gI 5 4 7)) := sn_gI dX4_goIn_2 rfl cl_4 (by decide) rfl (Or.inl q136) (Or.inl rfl)
theorem en_X4_goIn_5 : SndE EE S mi_X4_goIn 5 (.inl (e_psh 6 (.int (1)))) := sn_iconst dX4_goIn_5 rfl rfl
theorem en_X4_goIn_6 : SndE EE S mi_X4_goIn 6 (.inl (e_bin 7 (fun x y => x + y))) := sn_iadd dX4_goIn_6 rfl
theorem en_X4_goIn_7 : SndE EE S mi_X4_goIn 7 (.inl (e_pI 10 4 7)) := sn_pI dX4_goIn_7 rfl cl_4 (by decide) rfl (Or.inl ⟨q136, Or.inl rfl⟩) (Or.inl rfl) (fun _ => ⟨rfl, rfl⟩)
theorem en_X4_goIn_10 : SndE EE S mi_X4_goIn 10 (.inl (e_lda 11 0)) := sn_aload_n dX4_goIn_10 rfl rfl
theorem en_X4_goIn_11 : SndE EE S mi_X4_goIn 11 (.inl (e_gI 14 4 7)) := sn_gI dX4_goIn_11 rfl cl_4 (by decide) rfl (Or.inl q136) (Or.inl rfl)
theorem en_X4_goIn_14 : SndE EE S mi_X4_goIn 14 (.inl (e_psh 16 (.int (6)))) := sn_bipush dX4_goIn_14 rfl rfl
theorem en_X4_goIn_16 : SndE EE S mi_X4_goIn 16 (.inl (e_ilt 19 24)) := sn_ilt dX4_goIn_16 rfl (by decide)
theorem en_X4_goIn_19 : SndE EE S mi_X4_goIn 19 (.inl (e_lda 20 0)) := sn_aload_n dX4_goIn_19 rfl rfl
theorem en_X4_goIn_20 : SndE EE S mi_X4_goIn 20 (.inr (.inl (d_cls 4 113, 1, 3))) := sc_virt dX4_goIn_20 (rcv_cls (r := (RX4, TX4, 8)) rfl ⟨mo_X4_wrong, nmo_X4_wrong, q382, q383, q384⟩)
theorem en_X4_goIn_23 : SndE EE S mi_X4_goIn 23 (.inr (.inr 5)) := dX4_goIn_23
theorem en_X4_goIn_24 : SndE EE S mi_X4_goIn 24 (.inr (.inr 0)) := ⟨dX4_goIn_24, rfl⟩
theorem sd_X4_goIn : ∀ pc x, cd_X4_goIn pc = some x → SndE EE S mi_X4_goIn pc x := (tN_ok (tN_ok (tN_ok (tL_ok en_X4_goIn_0) (tN_ok (tL_ok en_X4_goIn_1) (tL_ok en_X4_goIn_2))) (tN_ok (tN_ok (tL_ok en_X4_goIn_5) (tL_ok en_X4_goIn_6)) (tN_ok (tL_ok en_X4_goIn_7) (tL_ok en_X4_goIn_10)))) (tN_ok (tN_ok (tL_ok en_X4_goIn_11) (tN_ok (tL_ok en_X4_goIn_14) (tL_ok en_X4_goIn_16))) (tN_ok (tN_ok (tL_ok en_X4_goIn_19) (tL_ok en_X4_goIn_20)) (tN_ok (tL_ok en_X4_goIn_23) (tL_ok en_X4_goIn_24)))))
theorem en_X4_is_0 : SndE EE S mi_X4_is 0 (.inl (e_lda 1 0)) := sn_aload_n dX4_is_0 rfl rfl
theorem en_X4_is_1 : SndE EE S mi_X4_is 1 (.inl (e_gI 4 4 4)) := sn_gI dX4_is_1 rfl cl_4 (by decide) rfl (Or.inl q133) (Or.inl rfl)
theorem en_X4_is_4 : SndE EE S mi_X4_is 4 (.inl (e_psh 5 (.int (3)))) := sn_iconst dX4_is_4 rfl rfl
theorem en_X4_is_5 : SndE EE S mi_X4_is 5 (.inl (e_ine 8 24)) := sn_ine dX4_is_5 rfl (by decide)
theorem en_X4_is_8 : SndE EE S mi_X4_is 8 (.inl (e_lda 9 0)) := sn_aload_n dX4_is_8 rfl rfl
theorem en_X4_is_9 : SndE EE S mi_X4_is 9 (.inl (e_lda 10 0)) := sn_aload_n dX4_is_9 rfl rfl
theorem en_X4_is_10 : SndE EE S mi_X4_is 10 (.inl (e_gI 13 4 2)) := sn_gI dX4_is_10 rfl cl_4 (by decide) rfl (Or.inl q131) (Or.inl rfl)
theorem en_X4_is_13 : SndE EE S mi_X4_is 13 (.inr (.inl (d_cls 4 109, 2, 3))) := sc_virt dX4_is_13 (rcv_cls (r := (RX4, TX4, 8)) rfl ⟨mo_X4_sign, nmo_X4_sign, q195, q196, q197⟩)
theorem en_X4_is_16 : SndE EE S mi_X4_is 16 (.inl (e_ldi 17 1)) := sn_iload_n dX4_is_16 rfl rfl
theorem en_X4_is_17 : SndE EE S mi_X4_is 17 (.inl (e_ine 20 24)) := sn_ine dX4_is_17 rfl (by decide)
theorem en_X4_is_20 : SndE EE S mi_X4_is 20 (.inl (e_psh 21 (.int (1)))) := sn_iconst dX4_is_20 rfl rfl
theorem en_X4_is_21 : SndE EE S mi_X4_is 21 (.inl (e_goto 25)) := sn_goto dX4_is_21 (by decide)
theorem en_X4_is_24 : SndE EE S mi_X4_is 24 (.inl (e_psh 25 (.int (0)))) := sn_iconst dX4_is_24 rfl rfl
theorem en_X4_is_25 : SndE EE S mi_X4_is 25 (.inr (.inr 2)) := ⟨dX4_is_25, rfl⟩
theorem sd_X4_is : ∀ pc x, cd_X4_is pc = some x → SndE EE S mi_X4_is pc x := (tN_ok (tN_ok (tN_ok (tL_ok en_X4_is_0) (tN_ok (tL_ok en_X4_is_1) (tL_ok en_X4_is_4))) (tN_ok (tN_ok (tL_ok en_X4_is_5) (tL_ok en_X4_is_8)) (tN_ok (tL_ok en_X4_is_9) (tL_ok en_X4_is_10)))) (tN_ok (tN_ok (tL_ok en_X4_is_13) (tN_ok (tL_ok en_X4_is_16) (tL_ok en_X4_is_17))) (tN_ok (tN_ok (tL_ok en_X4_is_20) (tL_ok en_X4_is_21)) (tN_ok (tL_ok en_X4_is_24) (tL_ok en_X4_is_25)))))
theorem en_X4_must_0 : SndE EE S mi_X4_must 0 (.inl (e_lda 1 0)) := sn_aload_n dX4_must_0 rfl rfl
theorem en_X4_must_1 : SndE EE S mi_X4_must 1 (.inl (e_ldi 2 1)) := sn_iload_n dX4_must_1 rfl rfl
theorem en_X4_must_2 : SndE EE S mi_X4_must 2 (.inr (.inl (d_cls 4 120, 2, 3))) := sc_virt dX4_must_2 (rcv_cls (r := (RX4, TX4, 8)) rfl ⟨mo_X4_is, nmo_X4_is, q427, q428, q429⟩)
theorem en_X4_must_5 : SndE EE S mi_X4_must 5 (.inl (e_zne 8 13)) := sn_zne dX4_must_5 rfl (by decide)
theorem en_X4_must_8 : SndE EE S mi_X4_must 8 (.inl (e_lda 9 0)) := sn_aload_n dX4_must_8 rfl rfl
theorem en_X4_must_9 : SndE EE S mi_X4_must 9 (.inr (.inl (d_cls 4 113, 1, 3))) := sc_virt dX4_must_9 (rcv_cls (r := (RX4, TX4, 8)) rfl ⟨mo_X4_wrong, nmo_X4_wrong, q382, q383, q384⟩)
theorem en_X4_must_12 : SndE EE S mi_X4_must 12 (.inr (.inr 5)) := dX4_must_12
theorem en_X4_must_13 : SndE EE S mi_X4_must 13 (.inl (e_lda 14 0)) := sn_aload_n dX4_must_13 rfl rfl
theorem en_X4_must_14 : SndE EE S mi_X4_must 14 (.inr (.inl (d_cls 4 108, 1, 3))) := sc_virt dX4_must_14 (rcv_cls (r := (RX4, TX4, 8)) rfl ⟨mo_X4_next, nmo_X4_next, q191, q192, q193⟩)
theorem en_X4_must_17 : SndE EE S mi_X4_must 17 (.inr (.inr 0)) := ⟨dX4_must_17, rfl⟩
theorem sd_X4_must : ∀ pc x, cd_X4_must pc = some x → SndE EE S mi_X4_must pc x := (tN_ok (tN_ok (tN_ok (tL_ok en_X4_must_0) (tL_ok en_X4_must_1)) (tN_ok (tL_ok en_X4_must_2) (tN_ok (tL_ok en_X4_must_5) (tL_ok en_X4_must_8)))) (tN_ok (tN_ok (tL_ok en_X4_must_9) (tL_ok en_X4_must_12)) (tN_ok (tL_ok en_X4_must_13) (tN_ok (tL_ok en_X4_must_14) (tL_ok en_X4_must_17)))))
theorem en_X4_sum_0 : SndE EE S mi_X4_sum 0 (.inl (e_lda 1 0)) := sn_aload_n dX4_sum_0 rfl rfl
theorem en_X4_sum_1 : SndE EE S mi_X4_sum 1 (.inr (.inl (d_cls 4 123, 1, 3))) := sc_virt dX4_sum_1 (rcv_cls (r := (RX4, TX4, 8)) rfl ⟨mo_X4_term, nmo_X4_term, q439, q441, qs10⟩)
theorem en_X4_sum_4 : SndE EE S mi_X4_sum 4 (.inl (e_sta 5 1)) := sn_astore_n dX4_sum_4 rfl rfl rfl (by decide)
theorem en_X4_sum_5 : SndE EE S mi_X4_sum 5 (.inl (e_lda 6 0)) := sn_aload_n dX4_sum_5 rfl rfl
theorem en_X4_sum_6 : SndE EE S mi_X4_sum 6 (.inl (e_psh 8 (.int (43)))) := sn_bipush dX4_sum_6 rfl rfl
theorem en_X4_sum_8 : SndE EE S mi_X4_sum 8 (.inr (.inl (d_cls 4 120, 2, 3))) := sc_virt dX4_sum_8 (rcv_cls (r := (RX4, TX4, 8)) rfl ⟨mo_X4_is, nmo_X4_is, q427, q428, q429⟩)
theorem en_X4_sum_11 : SndE EE S mi_X4_sum 11 (.inl (e_zne 14 23)) := sn_zne dX4_sum_11 rfl (by decide)
theorem en_X4_sum_14 : SndE EE S mi_X4_sum 14 (.inl (e_lda 15 0)) := sn_aload_n dX4_sum_14 rfl rfl
theorem en_X4_sum_15 : SndE EE S mi_X4_sum 15 (.inl (e_psh 17 (.int (45)))) := sn_bipush dX4_sum_15 rfl rfl
theorem en_X4_sum_17 : SndE EE S mi_X4_sum 17 (.inr (.inl (d_cls 4 120, 2, 3))) := sc_virt dX4_sum_17 (rcv_cls (r := (RX4, TX4, 8)) rfl ⟨mo_X4_is, nmo_X4_is, q427, q428, q429⟩)
theorem en_X4_sum_20 : SndE EE S mi_X4_sum 20 (.inl (e_zeq 23 59)) := sn_zeq dX4_sum_20 rfl (by decide)
theorem en_X4_sum_23 : SndE EE S mi_X4_sum 23 (.inl (e_lda 24 0)) := sn_aload_n dX4_sum_23 rfl rfl
theorem en_X4_sum_24 : SndE EE S mi_X4_sum 24 (.inl (e_psh 26 (.int (43)))) := sn_bipush dX4_sum_24 rfl rfl
theorem en_X4_sum_26 : SndE EE S mi_X4_sum 26 (.inr (.inl (d_cls 4 120, 2, 3))) := sc_virt dX4_sum_26 (rcv_cls (r := (RX4, TX4, 8)) rfl ⟨mo_X4_is, nmo_X4_is, q427, q428, q429⟩)
theorem en_X4_sum_29 : SndE EE S mi_X4_sum 29 (.inl (e_zeq 32 36)) := sn_zeq dX4_sum_29 rfl (by decide)
theorem en_X4_sum_32 : SndE EE S mi_X4_sum 32 (.inl (e_psh 33 (.int (1)))) := sn_iconst dX4_sum_32 rfl rfl
theorem en_X4_sum_33 : SndE EE S mi_X4_sum 33 (.inl (e_goto 37)) := sn_goto dX4_sum_33 (by decide)
theorem en_X4_sum_36 : SndE EE S mi_X4_sum 36 (.inl (e_psh 37 (.int (-1)))) := sn_iconst dX4_sum_36 rfl rfl
theorem en_X4_sum_37 : SndE EE S mi_X4_sum 37 (.inl (e_sti 38 2)) := sn_istore_n dX4_sum_37 rfl rfl rfl (by decide)
theorem en_X4_sum_38 : SndE EE S mi_X4_sum 38 (.inl (e_lda 39 0)) := sn_aload_n dX4_sum_38 rfl rfl
theorem en_X4_sum_39 : SndE EE S mi_X4_sum 39 (.inr (.inl (d_cls 4 108, 1, 3))) := sc_virt dX4_sum_39 (rcv_cls (r := (RX4, TX4, 8)) rfl ⟨mo_X4_next, nmo_X4_next, q191, q192, q193⟩)
theorem en_X4_sum_42 : SndE EE S mi_X4_sum 42 (.inl (e_new 45 9 3)) := sn_new dX4_sum_42 rfl cl_9 (by decide +kernel) q472 q473 q73 (by decide)
theorem en_X4_sum_45 : SndE EE S mi_X4_sum 45 (.inl (e_dup 46)) := sn_dup dX4_sum_45 rfl
theorem en_X4_sum_46 : SndE EE S mi_X4_sum 46 (.inl (e_ldi 47 2)) := sn_iload_n dX4_sum_46 rfl rfl
theorem en_X4_sum_47 : SndE EE S mi_X4_sum 47 (.inl (e_lda 48 1)) := sn_aload_n dX4_sum_47 rfl rfl
theorem en_X4_sum_48 : SndE EE S mi_X4_sum 48 (.inl (e_lda 49 0)) := sn_aload_n dX4_sum_48 rfl rfl
theorem en_X4_sum_49 : SndE EE S mi_X4_sum 49 (.inr (.inl (d_cls 4 123, 1, 3))) := sc_virt dX4_sum_49 (rcv_cls (r := (RX4, TX4, 8)) rfl ⟨mo_X4_term, nmo_X4_term, q439, q441, qs10⟩)
theorem en_X4_sum_52 : SndE EE S mi_X4_sum 52 (.inr (.inl (d_cls 9 135, 4, 3))) := sc_init ctr_cls dX4_sum_52 mo_X11_init nmo_X11_init rfl q474 q475 q476
theorem en_X4_sum_55 : SndE EE S mi_X4_sum 55 (.inl (e_sta 56 1)) := sn_astore_n dX4_sum_55 rfl rfl rfl (by decide)
theorem en_X4_sum_56 : SndE EE S mi_X4_sum 56 (.inl (e_goto 5)) := sn_goto dX4_sum_56 (by decide)
theorem en_X4_sum_59 : SndE EE S mi_X4_sum 59 (.inl (e_lda 60 1)) := sn_aload_n dX4_sum_59 rfl rfl
theorem en_X4_sum_60 : SndE EE S mi_X4_sum 60 (.inr (.inr 4)) := ⟨dX4_sum_60, _, rfl⟩
theorem sd_X4_sum : ∀ pc x, cd_X4_sum pc = some x → SndE EE S mi_X4_sum pc x := (tN_ok (tN_ok (tN_ok (tN_ok (tN_ok (tL_ok en_X4_sum_0) (tL_ok en_X4_sum_1)) (tN_ok (tL_ok en_X4_sum_4) (tL_ok en_X4_sum_5))) (tN_ok (tN_ok (tL_ok en_X4_sum_6) (tL_ok en_X4_sum_8)) (tN_ok (tL_ok en_X4_sum_11) (tL_ok en_X4_sum_14)))) (tN_ok (tN_ok (tN_ok (tL_ok en_X4_sum_15) (tL_ok en_X4_sum_17)) (tN_ok (tL_ok en_X4_sum_20) (tL_ok en_X4_sum_23))) (tN_ok (tN_ok (tL_ok en_X4_sum_24) (tL_ok en_X4_sum_26)) (tN_ok (tL_ok en_X4_sum_29) (tL_ok en_X4_sum_32))))) (tN_ok (tN_ok (tN_ok (tN_ok (tL_ok en_X4_sum_33) (tL_ok en_X4_sum_36)) (tN_ok (tL_ok en_X4_sum_37) (tL_ok en_X4_sum_38))) (tN_ok (tN_ok (tL_ok en_X4_sum_39) (tL_ok en_X4_sum_42)) (tN_ok (tL_ok en_X4_sum_45) (tL_ok en_X4_sum_46)))) (tN_ok (tN_ok (tN_ok (tL_ok en_X4_sum_47) (tL_ok en_X4_sum_48)) (tN_ok (tL_ok en_X4_sum_49) (tL_ok en_X4_sum_52))) (tN_ok (tN_ok (tL_ok en_X4_sum_55) (tL_ok en_X4_sum_56)) (tN_ok (tL_ok en_X4_sum_59) (tL_ok en_X4_sum_60))))))
theorem en_X4_term_0 : SndE EE S mi_X4_term 0 (.inl (e_lda 1 0)) := sn_aload_n dX4_term_0 rfl rfl
theorem en_X4_term_1 : SndE EE S mi_X4_term 1 (.inr (.inl (d_cls 4 124, 1, 3))) := sc_virt dX4_term_1 (rcv_cls (r := (RX4, TX4, 8)) rfl ⟨mo_X4_countHere, nmo_X4_countHere, q443, q445, qs11⟩)
theorem en_X4_term_4 : SndE EE S mi_X4_term 4 (.inl (e_sti 5 1)) := sn_istore_n dX4_term_4 rfl rfl rfl (by decide)
theorem en_X4_term_5 : SndE EE S mi_X4_term 5 (.inl (e_lda 6 0)) := sn_aload_n dX4_term_5 rfl rfl
theorem en_X4_term_6 : SndE EE S mi_X4_term 6 (.inl (e_gI 9 4 4)) := sn_gI dX4_term_6 rfl cl_4 (by decide) rfl (Or.inl q133) (Or.inl rfl)
theorem en_X4_term_9 : SndE EE S mi_X4_term 9 (.inl (e_psh 10 (.int (2)))) := sn_iconst dX4_term_9 rfl rfl
theorem en_X4_term_10 : SndE EE S mi_X4_term 10 (.inl (e_ieq 13 17)) := sn_ieq dX4_term_10 rfl (by decide)
theorem en_X4_term_13 : SndE EE S mi_X4_term 13 (.inl (e_ldi 14 1)) := sn_iload_n dX4_term_13 rfl rfl
theorem en_X4_term_14 : SndE EE S mi_X4_term 14 (.inl (e_zlt 17 26)) := sn_zlt dX4_term_14 rfl (by decide)
theorem en_X4_term_17 : SndE EE S mi_X4_term 17 (.inl (e_lda 18 0)) := sn_aload_n dX4_term_17 rfl rfl
theorem en_X4_term_18 : SndE EE S mi_X4_term 18 (.inl (e_gI 21 4 6)) := sn_gI dX4_term_18 rfl cl_4 (by decide) rfl (Or.inl q135) (Or.inl rfl)
theorem en_X4_term_21 : SndE EE S mi_X4_term 21 (.inl (e_psh 23 (.int (60)))) := sn_bipush dX4_term_21 rfl rfl
theorem en_X4_term_23 : SndE EE S mi_X4_term 23 (.inl (e_ine 26 31)) := sn_ine dX4_term_23 rfl (by decide)
theorem en_X4_term_26 : SndE EE S mi_X4_term 26 (.inl (e_lda 27 0)) := sn_aload_n dX4_term_26 rfl rfl
theorem en_X4_term_27 : SndE EE S mi_X4_term 27 (.inr (.inl (d_cls 4 113, 1, 3))) := sc_virt dX4_term_27 (rcv_cls (r := (RX4, TX4, 8)) rfl ⟨mo_X4_wrong, nmo_X4_wrong, q382, q383, q384⟩)
theorem en_X4_term_30 : SndE EE S mi_X4_term 30 (.inr (.inr 5)) := dX4_term_30
theorem en_X4_term_31 : SndE EE S mi_X4_term 31 (.inl (e_lda 32 0)) := sn_aload_n dX4_term_31 rfl rfl
theorem en_X4_term_32 : SndE EE S mi_X4_term 32 (.inl (e_dup 33)) := sn_dup dX4_term_32 rfl
theorem en_X4_term_33 : SndE EE S mi_X4_term 33 (.inl (e_gI 36 4 6)) := sn_gI dX4_term_33 rfl cl_4 (by decide) rfl (Or.inl q135) (Or.inl rfl)
theorem en_X4_term_36 : SndE EE S mi_X4_term 36 (.inl (e_psh 37 (.int (1)))) := sn_iconst dX4_term_36 rfl rfl
theorem en_X4_term_37 : SndE EE S mi_X4_term 37 (.inl (e_bin 38 (fun x y => x + y))) := sn_iadd dX4_term_37 rfl
theorem en_X4_term_38 : SndE EE S mi_X4_term 38 (.inl (e_pI 41 4 6)) := sn_pI dX4_term_38 rfl cl_4 (by decide) rfl (Or.inl ⟨q135, Or.inl rfl⟩) (Or.inl rfl) (fun _ => ⟨rfl, rfl⟩)
theorem en_X4_term_41 : SndE EE S mi_X4_term 41 (.inl (e_ldi 42 1)) := sn_iload_n dX4_term_41 rfl rfl
theorem en_X4_term_42 : SndE EE S mi_X4_term 42 (.inl (e_zge 45 59)) := sn_zge dX4_term_42 rfl (by decide)
theorem en_X4_term_45 : SndE EE S mi_X4_term 45 (.inl (e_new 48 7 1)) := sn_new dX4_term_45 rfl cl_7 (by decide +kernel) q452 q453 q70 (by decide)
theorem en_X4_term_48 : SndE EE S mi_X4_term 48 (.inl (e_dup 49)) := sn_dup dX4_term_48 rfl
theorem en_X4_term_49 : SndE EE S mi_X4_term 49 (.inl (e_lda 50 0)) := sn_aload_n dX4_term_49 rfl rfl
theorem en_X4_term_50 : SndE EE S mi_X4_term 50 (.inl (e_gI 53 4 5)) := sn_gI dX4_term_50 rfl cl_4 (by decide) rfl (Or.inl q134) (Or.inl rfl)
theorem en_X4_term_53 : SndE EE S mi_X4_term 53 (.inr (.inl (d_cls 7 130, 2, 3))) := sc_init ctr_cls dX4_term_53 mo_X8_init nmo_X8_init rfl q454 q455 q456
theorem en_X4_term_56 : SndE EE S mi_X4_term 56 (.inl (e_goto 67)) := sn_goto dX4_term_56 (by decide)
theorem en_X4_term_59 : SndE EE S mi_X4_term 59 (.inl (e_new 62 8 1)) := sn_new dX4_term_59 rfl cl_8 (by decide +kernel) q462 q463 q71 (by decide)
theorem en_X4_term_62 : SndE EE S mi_X4_term 62 (.inl (e_dup 63)) := sn_dup dX4_term_62 rfl
theorem en_X4_term_63 : SndE EE S mi_X4_term 63 (.inl (e_ldi 64 1)) := sn_iload_n dX4_term_63 rfl rfl
theorem en_X4_term_64 : SndE EE S mi_X4_term 64 (.inr (.inl (d_cls 8 132, 2, 3))) := sc_init ctr_cls dX4_term_64 mo_X9_init nmo_X9_init rfl q464 q465 q466
theorem en_X4_term_67 : SndE EE S mi_X4_term 67 (.inl (e_sta 68 2)) := sn_astore_n dX4_term_67 rfl rfl rfl (by decide)
theorem en_X4_term_68 : SndE EE S mi_X4_term 68 (.inl (e_lda 69 0)) := sn_aload_n dX4_term_68 rfl rfl
theorem en_X4_term_69 : SndE EE S mi_X4_term 69 (.inr (.inl (d_cls 4 108, 1, 3))) := sc_virt dX4_term_69 (rcv_cls (r := (RX4, TX4, 8)) rfl ⟨mo_X4_next, nmo_X4_next, q191, q192, q193⟩)
theorem en_X4_term_72 : SndE EE S mi_X4_term 72 (.inl (e_lda 73 2)) := sn_aload_n dX4_term_72 rfl rfl
theorem en_X4_term_73 : SndE EE S mi_X4_term 73 (.inr (.inr 4)) := ⟨dX4_term_73, _, rfl⟩
theorem sd_X4_term : ∀ pc x, cd_X4_term pc = some x → SndE EE S mi_X4_term pc x := (tN_ok (tN_ok (tN_ok (tN_ok (tN_ok (tL_ok en_X4_term_0) (tL_ok en_X4_term_1)) (tN_ok (tL_ok en_X4_term_4) (tL_ok en_X4_term_5))) (tN_ok (tN_ok (tL_ok en_X4_term_6) (tL_ok en_X4_term_9)) (tN_ok (tL_ok en_X4_term_10) (tN_ok (tL_ok en_X4_term_13) (tL_ok en_X4_term_14))))) (tN_ok (tN_ok (tN_ok (tL_ok en_X4_term_17) (tL_ok en_X4_term_18)) (tN_ok (tL_ok en_X4_term_21) (tN_ok (tL_ok en_X4_term_23) (tL_ok en_X4_term_26)))) (tN_ok (tN_ok (tL_ok en_X4_term_27) (tL_ok en_X4_term_30)) (tN_ok (tL_ok en_X4_term_31) (tN_ok (tL_ok en_X4_term_32) (tL_ok en_X4_term_33)))))) (tN_ok (tN_ok (tN_ok (tN_ok (tL_ok en_X4_term_36) (tL_ok en_X4_term_37)) (tN_ok (tL_ok en_X4_term_38) (tN_ok (tL_ok en_X4_term_41) (tL_ok en_X4_term_42)))) (tN_ok (tN_ok (tL_ok en_X4_term_45) (tL_ok en_X4_term_48)) (tN_ok (tL_ok en_X4_term_49) (tN_ok (tL_ok en_X4_term_50) (tL_ok en_X4_term_53))))) (tN_ok (tN_ok (tN_ok (tL_ok en_X4_term_56) (tL_ok en_X4_term_59)) (tN_ok (tL_ok en_X4_term_62) (tN_ok (tL_ok en_X4_term_63) (tL_ok en_X4_term_64)))) (tN_ok (tN_ok (tL_ok en_X4_term_67) (tL_ok en_X4_term_68)) (tN_ok (tL_ok en_X4_term_69) (tN_ok (tL_ok en_X4_term_72) (tL_ok en_X4_term_73)))))))
theorem en_X4_countHere_0 : SndE EE S mi_X4_countHere 0 (.inl (e_lda 1 0)) := sn_aload_n dX4_countHere_0 rfl rfl
theorem en_X4_countHere_1 : SndE EE S mi_X4_countHere 1 (.inl (e_psh 3 (xS 7))) := sn_ldcS (tx := "knots") dX4_countHere_1 rfl (fun G s h => EE_ldc h 7 (by decide))
theorem en_X4_countHere_3 : SndE EE S mi_X4_countHere 3 (.inr (.inl (d_cls 4 112, 2, 3))) := sc_virt dX4_countHere_3 (rcv_cls (r := (RX4, TX4, 8)) rfl ⟨mo_X4_isWord, nmo_X4_isWord, q357, q358, q359⟩)
theorem en_X4_countHere_6 : SndE EE S mi_X4_countHere 6 (.inl (e_zeq 9 11)) := sn_zeq dX4_countHere_6 rfl (by decide)
theorem en_X4_countHere_9 : SndE EE S mi_X4_countHere 9 (.inl (e_psh 10 (.int (0)))) := sn_iconst dX4_countHere_9 rfl rfl
theorem en_X4_countHere_10 : SndE EE S mi_X4_countHere 10 (.inr (.inr 1)) := ⟨dX4_countHere_10, rfl⟩
theorem en_X4_countHere_11 : SndE EE S mi_X4_countHere 11 (.inl (e_lda 12 0)) := sn_aload_n dX4_countHere_11 rfl rfl
theorem en_X4_countHere_12 : SndE EE S mi_X4_countHere 12 (.inl (e_psh 14 (xS 8))) := sn_ldcS (tx := "splits") dX4_countHere_12 rfl (fun G s h => EE_ldc h 8 (by decide))
theorem en_X4_countHere_14 : SndE EE S mi_X4_countHere 14 (.inr (.inl (d_cls 4 112, 2, 3))) := sc_virt dX4_countHere_14 (rcv_cls (r := (RX4, TX4, 8)) rfl ⟨mo_X4_isWord, nmo_X4_isWord, q357, q358, q359⟩)
theorem en_X4_countHere_17 : SndE EE S mi_X4_countHere 17 (.inl (e_zeq 20 22)) := sn_zeq dX4_countHere_17 rfl (by decide)
theorem en_X4_countHere_20 : SndE EE S mi_X4_countHere 20 (.inl (e_psh 21 (.int (1)))) := sn_iconst dX4_countHere_20 rfl rfl
theorem en_X4_countHere_21 : SndE EE S mi_X4_countHere 21 (.inr (.inr 1)) := ⟨dX4_countHere_21, rfl⟩
theorem en_X4_countHere_22 : SndE EE S mi_X4_countHere 22 (.inl (e_lda 23 0)) := sn_aload_n dX4_countHere_22 rfl rfl
theorem en_X4_countHere_23 : SndE EE S mi_X4_countHere 23 (.inl (e_psh 25 (xS 9))) := sn_ldcS (tx := "holes") dX4_countHere_23 rfl (fun G s h => EE_ldc h 9 (by decide))
theorem en_X4_countHere_25 : SndE EE S mi_X4_countHere 25 (.inr (.inl (d_cls 4 112, 2, 3))) := sc_virt dX4_countHere_25 (rcv_cls (r := (RX4, TX4, 8)) rfl ⟨mo_X4_isWord, nmo_X4_isWord, q357, q358, q359⟩)
theorem en_X4_countHere_28 : SndE EE S mi_X4_countHere 28 (.inl (e_zeq 31 33)) := sn_zeq dX4_countHere_28 rfl (by decide)
theorem en_X4_countHere_31 : SndE EE S mi_X4_countHere 31 (.inl (e_psh 32 (.int (2)))) := sn_iconst dX4_countHere_31 rfl rfl
theorem en_X4_countHere_32 : SndE EE S mi_X4_countHere 32 (.inr (.inr 1)) := ⟨dX4_countHere_32, rfl⟩
theorem en_X4_countHere_33 : SndE EE S mi_X4_countHere 33 (.inl (e_lda 34 0)) := sn_aload_n dX4_countHere_33 rfl rfl
theorem en_X4_countHere_34 : SndE EE S mi_X4_countHere 34 (.inl (e_psh 36 (xS 10))) := sn_ldcS (tx := "plugs") dX4_countHere_34 rfl (fun G s h => EE_ldc h 10 (by decide))
theorem en_X4_countHere_36 : SndE EE S mi_X4_countHere 36 (.inr (.inl (d_cls 4 112, 2, 3))) := sc_virt dX4_countHere_36 (rcv_cls (r := (RX4, TX4, 8)) rfl ⟨mo_X4_isWord, nmo_X4_isWord, q357, q358, q359⟩)
theorem en_X4_countHere_39 : SndE EE S mi_X4_countHere 39 (.inl (e_zeq 42 44)) := sn_zeq dX4_countHere_39 rfl (by decide)
theorem en_X4_countHere_42 : SndE EE S mi_X4_countHere 42 (.inl (e_psh 43 (.int (3)))) := sn_iconst dX4_countHere_42 rfl rfl
theorem en_X4_countHere_43 : SndE EE S mi_X4_countHere 43 (.inr (.inr 1)) := ⟨dX4_countHere_43, rfl⟩
theorem en_X4_countHere_44 : SndE EE S mi_X4_countHere 44 (.inl (e_lda 45 0)) := sn_aload_n dX4_countHere_44 rfl rfl
theorem en_X4_countHere_45 : SndE EE S mi_X4_countHere 45 (.inl (e_psh 47 (xS 11))) := sn_ldcS (tx := "run") dX4_countHere_45 rfl (fun G s h => EE_ldc h 11 (by decide))
theorem en_X4_countHere_47 : SndE EE S mi_X4_countHere 47 (.inr (.inl (d_cls 4 112, 2, 3))) := sc_virt dX4_countHere_47 (rcv_cls (r := (RX4, TX4, 8)) rfl ⟨mo_X4_isWord, nmo_X4_isWord, q357, q358, q359⟩)
theorem en_X4_countHere_50 : SndE EE S mi_X4_countHere 50 (.inl (e_zeq 53 57)) := sn_zeq dX4_countHere_50 rfl (by decide)
theorem en_X4_countHere_53 : SndE EE S mi_X4_countHere 53 (.inl (e_psh 54 (.int (4)))) := sn_iconst dX4_countHere_53 rfl rfl
theorem en_X4_countHere_54 : SndE EE S mi_X4_countHere 54 (.inl (e_goto 58)) := sn_goto dX4_countHere_54 (by decide)
theorem en_X4_countHere_57 : SndE EE S mi_X4_countHere 57 (.inl (e_psh 58 (.int (-1)))) := sn_iconst dX4_countHere_57 rfl rfl
theorem en_X4_countHere_58 : SndE EE S mi_X4_countHere 58 (.inr (.inr 1)) := ⟨dX4_countHere_58, rfl⟩
theorem sd_X4_countHere : ∀ pc x, cd_X4_countHere pc = some x → SndE EE S mi_X4_countHere pc x := (tN_ok (tN_ok (tN_ok (tN_ok (tN_ok (tL_ok en_X4_countHere_0) (tL_ok en_X4_countHere_1)) (tN_ok (tL_ok en_X4_countHere_3) (tL_ok en_X4_countHere_6))) (tN_ok (tN_ok (tL_ok en_X4_countHere_9) (tL_ok en_X4_countHere_10)) (tN_ok (tL_ok en_X4_countHere_11) (tL_ok en_X4_countHere_12)))) (tN_ok (tN_ok (tN_ok (tL_ok en_X4_countHere_14) (tL_ok en_X4_countHere_17)) (tN_ok (tL_ok en_X4_countHere_20) (tL_ok en_X4_countHere_21))) (tN_ok (tN_ok (tL_ok en_X4_countHere_22) (tL_ok en_X4_countHere_23)) (tN_ok (tL_ok en_X4_countHere_25) (tL_ok en_X4_countHere_28))))) (tN_ok (tN_ok (tN_ok (tN_ok (tL_ok en_X4_countHere_31) (tL_ok en_X4_countHere_32)) (tN_ok (tL_ok en_X4_countHere_33) (tL_ok en_X4_countHere_34))) (tN_ok (tN_ok (tL_ok en_X4_countHere_36) (tL_ok en_X4_countHere_39)) (tN_ok (tL_ok en_X4_countHere_42) (tL_ok en_X4_countHere_43)))) (tN_ok (tN_ok (tN_ok (tL_ok en_X4_countHere_44) (tL_ok en_X4_countHere_45)) (tN_ok (tL_ok en_X4_countHere_47) (tL_ok en_X4_countHere_50))) (tN_ok (tN_ok (tL_ok en_X4_countHere_53) (tL_ok en_X4_countHere_54)) (tN_ok (tL_ok en_X4_countHere_57) (tL_ok en_X4_countHere_58))))))
end ENT
