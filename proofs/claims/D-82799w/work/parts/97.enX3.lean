/-! EVERY ENTRY IS SOUND (printed by gen2.py): 97.enX3 -/
section ENT
set_option maxRecDepth 100000
variable {S : Nat × (Nat → Int32)}
theorem en_X3_init_0 : SndE EE S mi_X3_init 0 (.inl (e_lda 1 0)) := sn_aload_n dX3_init_0 rfl rfl
theorem en_X3_init_1 : SndE EE S mi_X3_init 1 (.inl (e_oin 4)) := sn_oin dX3_init_1 rfl q852 q127 q128
theorem en_X3_init_4 : SndE EE S mi_X3_init 4 (.inl (e_lda 5 0)) := sn_aload_n dX3_init_4 rfl rfl
theorem en_X3_init_5 : SndE EE S mi_X3_init 5 (.inl (e_psh 7 (.int (24)))) := sn_bipush dX3_init_5 rfl rfl
theorem en_X3_init_7 : SndE EE S mi_X3_init 7 (.inl (e_newa 9 1)) := sn_newa (t0 := 0) dX3_init_7 rfl rfl q190 (by decide) (by decide) (fun _ => rfl) (fun _ _ h => h) (by decide) rfl
theorem en_X3_init_9 : SndE EE S mi_X3_init 9 (.inl (e_pR 12 3 0)) := sn_pR dX3_init_9 rfl cl_3 (by decide) rfl (Or.inl ⟨q853, Or.inr ⟨rfl, rfl, rfl⟩⟩) (Or.inl rfl) (fun _ => ⟨rfl, rfl⟩)
theorem en_X3_init_12 : SndE EE S mi_X3_init 12 (.inl (e_lda 13 0)) := sn_aload_n dX3_init_12 rfl rfl
theorem en_X3_init_13 : SndE EE S mi_X3_init 13 (.inl (e_psh 16 (.int (600)))) := sn_sipush dX3_init_13 rfl rfl
theorem en_X3_init_16 : SndE EE S mi_X3_init 16 (.inl (e_newa 18 1)) := sn_newa (t0 := 0) dX3_init_16 rfl rfl q190 (by decide) (by decide) (fun _ => rfl) (fun _ _ h => h) (by decide) rfl
theorem en_X3_init_18 : SndE EE S mi_X3_init 18 (.inl (e_pR 21 3 4)) := sn_pR dX3_init_18 rfl cl_3 (by decide) rfl (Or.inl ⟨q857, Or.inr ⟨rfl, rfl, rfl⟩⟩) (Or.inl rfl) (fun _ => ⟨rfl, rfl⟩)
theorem en_X3_init_21 : SndE EE S mi_X3_init 21 (.inl (e_lda 22 0)) := sn_aload_n dX3_init_21 rfl rfl
theorem en_X3_init_22 : SndE EE S mi_X3_init 22 (.inl (e_psh 23 (.int (-1)))) := sn_iconst dX3_init_22 rfl rfl
theorem en_X3_init_23 : SndE EE S mi_X3_init 23 (.inl (e_pI 26 3 7)) := sn_pI dX3_init_23 rfl cl_3 (by decide) rfl (Or.inl ⟨q860, Or.inl rfl⟩) (Or.inl rfl) (fun _ => ⟨rfl, rfl⟩)
theorem en_X3_init_26 : SndE EE S mi_X3_init 26 (.inl (e_lda 27 0)) := sn_aload_n dX3_init_26 rfl rfl
theorem en_X3_init_27 : SndE EE S mi_X3_init 27 (.inl (e_psh 29 (.int (8)))) := sn_bipush dX3_init_27 rfl rfl
theorem en_X3_init_29 : SndE EE S mi_X3_init 29 (.inl (e_newa 31 1)) := sn_newa (t0 := 0) dX3_init_29 rfl rfl q190 (by decide) (by decide) (fun _ => rfl) (fun _ _ h => h) (by decide) rfl
theorem en_X3_init_31 : SndE EE S mi_X3_init 31 (.inl (e_pR 34 3 15)) := sn_pR dX3_init_31 rfl cl_3 (by decide) rfl (Or.inl ⟨q868, Or.inr ⟨rfl, rfl, rfl⟩⟩) (Or.inl rfl) (fun _ => ⟨rfl, rfl⟩)
theorem en_X3_init_34 : SndE EE S mi_X3_init 34 (.inl (e_lda 35 0)) := sn_aload_n dX3_init_34 rfl rfl
theorem en_X3_init_35 : SndE EE S mi_X3_init 35 (.inl (e_psh 37 (.int (8)))) := sn_bipush dX3_init_35 rfl rfl
theorem en_X3_init_37 : SndE EE S mi_X3_init 37 (.inl (e_newa 39 1)) := sn_newa (t0 := 0) dX3_init_37 rfl rfl q190 (by decide) (by decide) (fun _ => rfl) (fun _ _ h => h) (by decide) rfl
theorem en_X3_init_39 : SndE EE S mi_X3_init 39 (.inl (e_pR 42 3 16)) := sn_pR dX3_init_39 rfl cl_3 (by decide) rfl (Or.inl ⟨q869, Or.inr ⟨rfl, rfl, rfl⟩⟩) (Or.inl rfl) (fun _ => ⟨rfl, rfl⟩)
theorem en_X3_init_42 : SndE EE S mi_X3_init 42 (.inl (e_lda 43 0)) := sn_aload_n dX3_init_42 rfl rfl
theorem en_X3_init_43 : SndE EE S mi_X3_init 43 (.inl (e_psh 46 (.int (600)))) := sn_sipush dX3_init_43 rfl rfl
theorem en_X3_init_46 : SndE EE S mi_X3_init 46 (.inl (e_newa 48 1)) := sn_newa (t0 := 0) dX3_init_46 rfl rfl q190 (by decide) (by decide) (fun _ => rfl) (fun _ _ h => h) (by decide) rfl
theorem en_X3_init_48 : SndE EE S mi_X3_init 48 (.inl (e_pR 51 3 17)) := sn_pR dX3_init_48 rfl cl_3 (by decide) rfl (Or.inl ⟨q870, Or.inr ⟨rfl, rfl, rfl⟩⟩) (Or.inl rfl) (fun _ => ⟨rfl, rfl⟩)
theorem en_X3_init_51 : SndE EE S mi_X3_init 51 (.inl (e_lda 52 0)) := sn_aload_n dX3_init_51 rfl rfl
theorem en_X3_init_52 : SndE EE S mi_X3_init 52 (.inl (e_psh 55 (.int (600)))) := sn_sipush dX3_init_52 rfl rfl
theorem en_X3_init_55 : SndE EE S mi_X3_init 55 (.inl (e_newa 57 1)) := sn_newa (t0 := 0) dX3_init_55 rfl rfl q190 (by decide) (by decide) (fun _ => rfl) (fun _ _ h => h) (by decide) rfl
theorem en_X3_init_57 : SndE EE S mi_X3_init 57 (.inl (e_pR 60 3 18)) := sn_pR dX3_init_57 rfl cl_3 (by decide) rfl (Or.inl ⟨q871, Or.inr ⟨rfl, rfl, rfl⟩⟩) (Or.inl rfl) (fun _ => ⟨rfl, rfl⟩)
theorem en_X3_init_60 : SndE EE S mi_X3_init 60 (.inl (e_lda 61 0)) := sn_aload_n dX3_init_60 rfl rfl
theorem en_X3_init_61 : SndE EE S mi_X3_init 61 (.inl (e_psh 63 (.int (9)))) := sn_bipush dX3_init_61 rfl rfl
theorem en_X3_init_63 : SndE EE S mi_X3_init 63 (.inl (e_newa 65 1)) := sn_newa (t0 := 0) dX3_init_63 rfl rfl q190 (by decide) (by decide) (fun _ => rfl) (fun _ _ h => h) (by decide) rfl
theorem en_X3_init_65 : SndE EE S mi_X3_init 65 (.inl (e_pR 68 3 19)) := sn_pR dX3_init_65 rfl cl_3 (by decide) rfl (Or.inl ⟨q872, Or.inr ⟨rfl, rfl, rfl⟩⟩) (Or.inl rfl) (fun _ => ⟨rfl, rfl⟩)
theorem en_X3_init_68 : SndE EE S mi_X3_init 68 (.inl (e_lda 69 0)) := sn_aload_n dX3_init_68 rfl rfl
theorem en_X3_init_69 : SndE EE S mi_X3_init 69 (.inl (e_psh 71 (.int (8)))) := sn_bipush dX3_init_69 rfl rfl
theorem en_X3_init_71 : SndE EE S mi_X3_init 71 (.inl (e_newa 73 1)) := sn_newa (t0 := 0) dX3_init_71 rfl rfl q190 (by decide) (by decide) (fun _ => rfl) (fun _ _ h => h) (by decide) rfl
theorem en_X3_init_73 : SndE EE S mi_X3_init 73 (.inl (e_pR 76 3 23)) := sn_pR dX3_init_73 rfl cl_3 (by decide) rfl (Or.inl ⟨q876, Or.inr ⟨rfl, rfl, rfl⟩⟩) (Or.inl rfl) (fun _ => ⟨rfl, rfl⟩)
theorem en_X3_init_76 : SndE EE S mi_X3_init 76 (.inl (e_lda 77 0)) := sn_aload_n dX3_init_76 rfl rfl
theorem en_X3_init_77 : SndE EE S mi_X3_init 77 (.inl (e_psh 79 (.int (8)))) := sn_bipush dX3_init_77 rfl rfl
theorem en_X3_init_79 : SndE EE S mi_X3_init 79 (.inl (e_newa 81 1)) := sn_newa (t0 := 0) dX3_init_79 rfl rfl q190 (by decide) (by decide) (fun _ => rfl) (fun _ _ h => h) (by decide) rfl
theorem en_X3_init_81 : SndE EE S mi_X3_init 81 (.inl (e_pR 84 3 24)) := sn_pR dX3_init_81 rfl cl_3 (by decide) rfl (Or.inl ⟨q877, Or.inr ⟨rfl, rfl, rfl⟩⟩) (Or.inl rfl) (fun _ => ⟨rfl, rfl⟩)
theorem en_X3_init_84 : SndE EE S mi_X3_init 84 (.inl (e_lda 85 0)) := sn_aload_n dX3_init_84 rfl rfl
theorem en_X3_init_85 : SndE EE S mi_X3_init 85 (.inl (e_psh 88 (.int (600)))) := sn_sipush dX3_init_85 rfl rfl
theorem en_X3_init_88 : SndE EE S mi_X3_init 88 (.inl (e_newa 90 1)) := sn_newa (t0 := 0) dX3_init_88 rfl rfl q190 (by decide) (by decide) (fun _ => rfl) (fun _ _ h => h) (by decide) rfl
theorem en_X3_init_90 : SndE EE S mi_X3_init 90 (.inl (e_pR 93 3 25)) := sn_pR dX3_init_90 rfl cl_3 (by decide) rfl (Or.inl ⟨q878, Or.inr ⟨rfl, rfl, rfl⟩⟩) (Or.inl rfl) (fun _ => ⟨rfl, rfl⟩)
theorem en_X3_init_93 : SndE EE S mi_X3_init 93 (.inl (e_lda 94 0)) := sn_aload_n dX3_init_93 rfl rfl
theorem en_X3_init_94 : SndE EE S mi_X3_init 94 (.inl (e_psh 97 (.int (600)))) := sn_sipush dX3_init_94 rfl rfl
theorem en_X3_init_97 : SndE EE S mi_X3_init 97 (.inl (e_newa 99 1)) := sn_newa (t0 := 0) dX3_init_97 rfl rfl q190 (by decide) (by decide) (fun _ => rfl) (fun _ _ h => h) (by decide) rfl
theorem en_X3_init_99 : SndE EE S mi_X3_init 99 (.inl (e_pR 102 3 26)) := sn_pR dX3_init_99 rfl cl_3 (by decide) rfl (Or.inl ⟨q879, Or.inr ⟨rfl, rfl, rfl⟩⟩) (Or.inl rfl) (fun _ => ⟨rfl, rfl⟩)
theorem en_X3_init_102 : SndE EE S mi_X3_init 102 (.inl (e_lda 103 0)) := sn_aload_n dX3_init_102 rfl rfl
theorem en_X3_init_103 : SndE EE S mi_X3_init 103 (.inl (e_psh 105 (.int (9)))) := sn_bipush dX3_init_103 rfl rfl
theorem en_X3_init_105 : SndE EE S mi_X3_init 105 (.inl (e_newa 107 1)) := sn_newa (t0 := 0) dX3_init_105 rfl rfl q190 (by decide) (by decide) (fun _ => rfl) (fun _ _ h => h) (by decide) rfl
theorem en_X3_init_107 : SndE EE S mi_X3_init 107 (.inl (e_pR 110 3 27)) := sn_pR dX3_init_107 rfl cl_3 (by decide) rfl (Or.inl ⟨q880, Or.inr ⟨rfl, rfl, rfl⟩⟩) (Or.inl rfl) (fun _ => ⟨rfl, rfl⟩)
theorem en_X3_init_110 : SndE EE S mi_X3_init 110 (.inl (e_lda 111 0)) := sn_aload_n dX3_init_110 rfl rfl
theorem en_X3_init_111 : SndE EE S mi_X3_init 111 (.inl (e_psh 114 (.int (300)))) := sn_sipush dX3_init_111 rfl rfl
theorem en_X3_init_114 : SndE EE S mi_X3_init 114 (.inl (e_newa 116 1)) := sn_newa (t0 := 0) dX3_init_114 rfl rfl q190 (by decide) (by decide) (fun _ => rfl) (fun _ _ h => h) (by decide) rfl
theorem en_X3_init_116 : SndE EE S mi_X3_init 116 (.inl (e_pR 119 3 28)) := sn_pR dX3_init_116 rfl cl_3 (by decide) rfl (Or.inl ⟨q881, Or.inr ⟨rfl, rfl, rfl⟩⟩) (Or.inl rfl) (fun _ => ⟨rfl, rfl⟩)
theorem en_X3_init_119 : SndE EE S mi_X3_init 119 (.inl (e_lda 120 0)) := sn_aload_n dX3_init_119 rfl rfl
theorem en_X3_init_120 : SndE EE S mi_X3_init 120 (.inl (e_psh 123 (.int (300)))) := sn_sipush dX3_init_120 rfl rfl
theorem en_X3_init_123 : SndE EE S mi_X3_init 123 (.inl (e_newa 125 1)) := sn_newa (t0 := 0) dX3_init_123 rfl rfl q190 (by decide) (by decide) (fun _ => rfl) (fun _ _ h => h) (by decide) rfl
theorem en_X3_init_125 : SndE EE S mi_X3_init 125 (.inl (e_pR 128 3 31)) := sn_pR dX3_init_125 rfl cl_3 (by decide) rfl (Or.inl ⟨q884, Or.inr ⟨rfl, rfl, rfl⟩⟩) (Or.inl rfl) (fun _ => ⟨rfl, rfl⟩)
theorem en_X3_init_128 : SndE EE S mi_X3_init 128 (.inl (e_lda 129 0)) := sn_aload_n dX3_init_128 rfl rfl
theorem en_X3_init_129 : SndE EE S mi_X3_init 129 (.inl (e_psh 130 (.int (1)))) := sn_iconst dX3_init_129 rfl rfl
theorem en_X3_init_130 : SndE EE S mi_X3_init 130 (.inl (e_pI 133 3 34)) := sn_pI dX3_init_130 rfl cl_3 (by decide) rfl (Or.inl ⟨q887, Or.inl rfl⟩) (Or.inl rfl) (fun _ => ⟨rfl, rfl⟩)
theorem en_X3_init_133 : SndE EE S mi_X3_init 133 (.inl (e_lda 134 0)) := sn_aload_n dX3_init_133 rfl rfl
theorem en_X3_init_134 : SndE EE S mi_X3_init 134 (.inl (e_psh 135 (.int (5)))) := sn_iconst dX3_init_134 rfl rfl
theorem en_X3_init_135 : SndE EE S mi_X3_init 135 (.inl (e_newa 137 1)) := sn_newa (t0 := 0) dX3_init_135 rfl rfl q190 (by decide) (by decide) (fun _ => rfl) (fun _ _ h => h) (by decide) rfl
theorem en_X3_init_137 : SndE EE S mi_X3_init 137 (.inl (e_pR 140 3 35)) := sn_pR dX3_init_137 rfl cl_3 (by decide) rfl (Or.inl ⟨q888, Or.inr ⟨rfl, rfl, rfl⟩⟩) (Or.inl rfl) (fun _ => ⟨rfl, rfl⟩)
theorem en_X3_init_140 : SndE EE S mi_X3_init 140 (.inl (e_lda 141 0)) := sn_aload_n dX3_init_140 rfl rfl
theorem en_X3_init_141 : SndE EE S mi_X3_init 141 (.inl (e_psh 144 (.int (200)))) := sn_sipush dX3_init_141 rfl rfl
theorem en_X3_init_144 : SndE EE S mi_X3_init 144 (.inl (e_newa 146 1)) := sn_newa (t0 := 0) dX3_init_144 rfl rfl q190 (by decide) (by decide) (fun _ => rfl) (fun _ _ h => h) (by decide) rfl
theorem en_X3_init_146 : SndE EE S mi_X3_init 146 (.inl (e_pR 149 3 36)) := sn_pR dX3_init_146 rfl cl_3 (by decide) rfl (Or.inl ⟨q889, Or.inr ⟨rfl, rfl, rfl⟩⟩) (Or.inl rfl) (fun _ => ⟨rfl, rfl⟩)
theorem en_X3_init_149 : SndE EE S mi_X3_init 149 (.inl (e_lda 150 0)) := sn_aload_n dX3_init_149 rfl rfl
theorem en_X3_init_150 : SndE EE S mi_X3_init 150 (.inl (e_psh 153 (.int (301)))) := sn_sipush dX3_init_150 rfl rfl
theorem en_X3_init_153 : SndE EE S mi_X3_init 153 (.inl (e_newa 155 1)) := sn_newa (t0 := 0) dX3_init_153 rfl rfl q190 (by decide) (by decide) (fun _ => rfl) (fun _ _ h => h) (by decide) rfl
theorem en_X3_init_155 : SndE EE S mi_X3_init 155 (.inl (e_pR 158 3 37)) := sn_pR dX3_init_155 rfl cl_3 (by decide) rfl (Or.inl ⟨q890, Or.inr ⟨rfl, rfl, rfl⟩⟩) (Or.inl rfl) (fun _ => ⟨rfl, rfl⟩)
theorem en_X3_init_158 : SndE EE S mi_X3_init 158 (.inl (e_lda 159 0)) := sn_aload_n dX3_init_158 rfl rfl
theorem en_X3_init_159 : SndE EE S mi_X3_init 159 (.inl (e_psh 162 (.int (301)))) := sn_sipush dX3_init_159 rfl rfl
theorem en_X3_init_162 : SndE EE S mi_X3_init 162 (.inl (e_newa 164 1)) := sn_newa (t0 := 0) dX3_init_162 rfl rfl q190 (by decide) (by decide) (fun _ => rfl) (fun _ _ h => h) (by decide) rfl
theorem en_X3_init_164 : SndE EE S mi_X3_init 164 (.inl (e_pR 167 3 38)) := sn_pR dX3_init_164 rfl cl_3 (by decide) rfl (Or.inl ⟨q891, Or.inr ⟨rfl, rfl, rfl⟩⟩) (Or.inl rfl) (fun _ => ⟨rfl, rfl⟩)
theorem en_X3_init_167 : SndE EE S mi_X3_init 167 (.inl (e_lda 168 0)) := sn_aload_n dX3_init_167 rfl rfl
theorem en_X3_init_168 : SndE EE S mi_X3_init 168 (.inl (e_psh 171 (.int (300)))) := sn_sipush dX3_init_168 rfl rfl
theorem en_X3_init_171 : SndE EE S mi_X3_init 171 (.inl (e_newa 173 1)) := sn_newa (t0 := 0) dX3_init_171 rfl rfl q190 (by decide) (by decide) (fun _ => rfl) (fun _ _ h => h) (by decide) rfl
theorem en_X3_init_173 : SndE EE S mi_X3_init 173 (.inl (e_pR 176 3 39)) := sn_pR dX3_init_173 rfl cl_3 (by decide) rfl (Or.inl ⟨q892, Or.inr ⟨rfl, rfl, rfl⟩⟩) (Or.inl rfl) (fun _ => ⟨rfl, rfl⟩)
theorem en_X3_init_176 : SndE EE S mi_X3_init 176 (.inl (e_lda 177 0)) := sn_aload_n dX3_init_176 rfl rfl
theorem en_X3_init_177 : SndE EE S mi_X3_init 177 (.inl (e_psh 180 (.int (300)))) := sn_sipush dX3_init_177 rfl rfl
theorem en_X3_init_180 : SndE EE S mi_X3_init 180 (.inl (e_newa 182 1)) := sn_newa (t0 := 0) dX3_init_180 rfl rfl q190 (by decide) (by decide) (fun _ => rfl) (fun _ _ h => h) (by decide) rfl
theorem en_X3_init_182 : SndE EE S mi_X3_init 182 (.inl (e_pR 185 3 40)) := sn_pR dX3_init_182 rfl cl_3 (by decide) rfl (Or.inl ⟨q893, Or.inr ⟨rfl, rfl, rfl⟩⟩) (Or.inl rfl) (fun _ => ⟨rfl, rfl⟩)
theorem en_X3_init_185 : SndE EE S mi_X3_init 185 (.inl (e_lda 186 0)) := sn_aload_n dX3_init_185 rfl rfl
theorem en_X3_init_186 : SndE EE S mi_X3_init 186 (.inl (e_psh 189 (.int (300)))) := sn_sipush dX3_init_186 rfl rfl
theorem en_X3_init_189 : SndE EE S mi_X3_init 189 (.inl (e_newa 191 1)) := sn_newa (t0 := 0) dX3_init_189 rfl rfl q190 (by decide) (by decide) (fun _ => rfl) (fun _ _ h => h) (by decide) rfl
theorem en_X3_init_191 : SndE EE S mi_X3_init 191 (.inl (e_pR 194 3 41)) := sn_pR dX3_init_191 rfl cl_3 (by decide) rfl (Or.inl ⟨q894, Or.inr ⟨rfl, rfl, rfl⟩⟩) (Or.inl rfl) (fun _ => ⟨rfl, rfl⟩)
theorem en_X3_init_194 : SndE EE S mi_X3_init 194 (.inl (e_lda 195 0)) := sn_aload_n dX3_init_194 rfl rfl
theorem en_X3_init_195 : SndE EE S mi_X3_init 195 (.inl (e_psh 198 (.int (9600)))) := sn_sipush dX3_init_195 rfl rfl
theorem en_X3_init_198 : SndE EE S mi_X3_init 198 (.inl (e_newa 200 3)) := sn_newa (t0 := 2) dX3_init_198 rfl rfl q756 (by decide) (by decide) (fun _ => rfl) (fun _ _ h => h) (by decide) rfl
theorem en_X3_init_200 : SndE EE S mi_X3_init 200 (.inl (e_pR 203 3 42)) := sn_pR dX3_init_200 rfl cl_3 (by decide) rfl (Or.inl ⟨q895, Or.inr ⟨rfl, rfl, rfl⟩⟩) (Or.inl rfl) (fun _ => ⟨rfl, rfl⟩)
theorem en_X3_init_203 : SndE EE S mi_X3_init 203 (.inl (e_lda 204 0)) := sn_aload_n dX3_init_203 rfl rfl
theorem en_X3_init_204 : SndE EE S mi_X3_init 204 (.inl (e_psh 206 (.int (6)))) := sn_bipush dX3_init_204 rfl rfl
theorem en_X3_init_206 : SndE EE S mi_X3_init 206 (.inl (e_newa 208 1)) := sn_newa (t0 := 0) dX3_init_206 rfl rfl q190 (by decide) (by decide) (fun _ => rfl) (fun _ _ h => h) (by decide) rfl
theorem en_X3_init_208 : SndE EE S mi_X3_init 208 (.inl (e_pR 211 3 44)) := sn_pR dX3_init_208 rfl cl_3 (by decide) rfl (Or.inl ⟨q897, Or.inr ⟨rfl, rfl, rfl⟩⟩) (Or.inl rfl) (fun _ => ⟨rfl, rfl⟩)
theorem en_X3_init_211 : SndE EE S mi_X3_init 211 (.inl (e_lda 212 0)) := sn_aload_n dX3_init_211 rfl rfl
theorem en_X3_init_212 : SndE EE S mi_X3_init 212 (.inl (e_psh 214 (.int (6)))) := sn_bipush dX3_init_212 rfl rfl
theorem en_X3_init_214 : SndE EE S mi_X3_init 214 (.inl (e_newa 216 1)) := sn_newa (t0 := 0) dX3_init_214 rfl rfl q190 (by decide) (by decide) (fun _ => rfl) (fun _ _ h => h) (by decide) rfl
theorem en_X3_init_216 : SndE EE S mi_X3_init 216 (.inl (e_pR 219 3 45)) := sn_pR dX3_init_216 rfl cl_3 (by decide) rfl (Or.inl ⟨q898, Or.inr ⟨rfl, rfl, rfl⟩⟩) (Or.inl rfl) (fun _ => ⟨rfl, rfl⟩)
theorem en_X3_init_219 : SndE EE S mi_X3_init 219 (.inl (e_lda 220 0)) := sn_aload_n dX3_init_219 rfl rfl
theorem en_X3_init_220 : SndE EE S mi_X3_init 220 (.inl (e_psh 222 (.int (6)))) := sn_bipush dX3_init_220 rfl rfl
theorem en_X3_init_222 : SndE EE S mi_X3_init 222 (.inl (e_newa 224 1)) := sn_newa (t0 := 0) dX3_init_222 rfl rfl q190 (by decide) (by decide) (fun _ => rfl) (fun _ _ h => h) (by decide) rfl
theorem en_X3_init_224 : SndE EE S mi_X3_init 224 (.inl (e_pR 227 3 46)) := sn_pR dX3_init_224 rfl cl_3 (by decide) rfl (Or.inl ⟨q899, Or.inr ⟨rfl, rfl, rfl⟩⟩) (Or.inl rfl) (fun _ => ⟨rfl, rfl⟩)
theorem en_X3_init_227 : SndE EE S mi_X3_init 227 (.inl (e_lda 228 0)) := sn_aload_n dX3_init_227 rfl rfl
theorem en_X3_init_228 : SndE EE S mi_X3_init 228 (.inl (e_psh 230 (.int (9)))) := sn_bipush dX3_init_228 rfl rfl
theorem en_X3_init_230 : SndE EE S mi_X3_init 230 (.inl (e_newa 232 1)) := sn_newa (t0 := 0) dX3_init_230 rfl rfl q190 (by decide) (by decide) (fun _ => rfl) (fun _ _ h => h) (by decide) rfl
theorem en_X3_init_232 : SndE EE S mi_X3_init 232 (.inl (e_pR 235 3 47)) := sn_pR dX3_init_232 rfl cl_3 (by decide) rfl (Or.inl ⟨q900, Or.inr ⟨rfl, rfl, rfl⟩⟩) (Or.inl rfl) (fun _ => ⟨rfl, rfl⟩)
theorem en_X3_init_235 : SndE EE S mi_X3_init 235 (.inl (e_lda 236 0)) := sn_aload_n dX3_init_235 rfl rfl
theorem en_X3_init_236 : SndE EE S mi_X3_init 236 (.inl (e_psh 238 (.int (6)))) := sn_bipush dX3_init_236 rfl rfl
theorem en_X3_init_238 : SndE EE S mi_X3_init 238 (.inl (e_newa 240 3)) := sn_newa (t0 := 2) dX3_init_238 rfl rfl q756 (by decide) (by decide) (fun _ => rfl) (fun _ _ h => h) (by decide) rfl
theorem en_X3_init_240 : SndE EE S mi_X3_init 240 (.inl (e_pR 243 3 48)) := sn_pR dX3_init_240 rfl cl_3 (by decide) rfl (Or.inl ⟨q901, Or.inr ⟨rfl, rfl, rfl⟩⟩) (Or.inl rfl) (fun _ => ⟨rfl, rfl⟩)
theorem en_X3_init_243 : SndE EE S mi_X3_init 243 (.inl (e_lda 244 0)) := sn_aload_n dX3_init_243 rfl rfl
theorem en_X3_init_244 : SndE EE S mi_X3_init 244 (.inl (e_psh 245 (.int (1)))) := sn_iconst dX3_init_244 rfl rfl
theorem en_X3_init_245 : SndE EE S mi_X3_init 245 (.inl (e_pI 248 3 49)) := sn_pI dX3_init_245 rfl cl_3 (by decide) rfl (Or.inl ⟨q902, Or.inl rfl⟩) (Or.inl rfl) (fun _ => ⟨rfl, rfl⟩)
theorem en_X3_init_248 : SndE EE S mi_X3_init 248 (.inl (e_lda 249 0)) := sn_aload_n dX3_init_248 rfl rfl
theorem en_X3_init_249 : SndE EE S mi_X3_init 249 (.inl (e_psh 251 (.int (10)))) := sn_bipush dX3_init_249 rfl rfl
theorem en_X3_init_251 : SndE EE S mi_X3_init 251 (.inl (e_pI 254 3 50)) := sn_pI dX3_init_251 rfl cl_3 (by decide) rfl (Or.inl ⟨q903, Or.inl rfl⟩) (Or.inl rfl) (fun _ => ⟨rfl, rfl⟩)
theorem en_X3_init_254 : SndE EE S mi_X3_init 254 (.inl (e_lda 255 0)) := sn_aload_n dX3_init_254 rfl rfl
theorem en_X3_init_255 : SndE EE S mi_X3_init 255 (.inl (e_psh 256 (.int (1)))) := sn_iconst dX3_init_255 rfl rfl
theorem en_X3_init_256 : SndE EE S mi_X3_init 256 (.inl (e_pI 259 3 51)) := sn_pI dX3_init_256 rfl cl_3 (by decide) rfl (Or.inl ⟨q904, Or.inl rfl⟩) (Or.inl rfl) (fun _ => ⟨rfl, rfl⟩)
theorem en_X3_init_259 : SndE EE S mi_X3_init 259 (.inl (e_lda 260 0)) := sn_aload_n dX3_init_259 rfl rfl
theorem en_X3_init_260 : SndE EE S mi_X3_init 260 (.inl (e_psh 262 (.int (60)))) := sn_bipush dX3_init_260 rfl rfl
theorem en_X3_init_262 : SndE EE S mi_X3_init 262 (.inl (e_pI 265 3 52)) := sn_pI dX3_init_262 rfl cl_3 (by decide) rfl (Or.inl ⟨q905, Or.inl rfl⟩) (Or.inl rfl) (fun _ => ⟨rfl, rfl⟩)
theorem en_X3_init_265 : SndE EE S mi_X3_init 265 (.inl (e_lda 266 0)) := sn_aload_n dX3_init_265 rfl rfl
theorem en_X3_init_266 : SndE EE S mi_X3_init 266 (.inl (e_psh 268 (.int (10)))) := sn_bipush dX3_init_266 rfl rfl
theorem en_X3_init_268 : SndE EE S mi_X3_init 268 (.inl (e_newa 270 1)) := sn_newa (t0 := 0) dX3_init_268 rfl rfl q190 (by decide) (by decide) (fun _ => rfl) (fun _ _ h => h) (by decide) rfl
theorem en_X3_init_270 : SndE EE S mi_X3_init 270 (.inl (e_pR 273 3 54)) := sn_pR dX3_init_270 rfl cl_3 (by decide) rfl (Or.inl ⟨q907, Or.inr ⟨rfl, rfl, rfl⟩⟩) (Or.inl rfl) (fun _ => ⟨rfl, rfl⟩)
theorem en_X3_init_273 : SndE EE S mi_X3_init 273 (.inl (e_lda 274 0)) := sn_aload_n dX3_init_273 rfl rfl
theorem en_X3_init_274 : SndE EE S mi_X3_init 274 (.inl (e_psh 276 (.int (10)))) := sn_bipush dX3_init_274 rfl rfl
theorem en_X3_init_276 : SndE EE S mi_X3_init 276 (.inl (e_newa 278 1)) := sn_newa (t0 := 0) dX3_init_276 rfl rfl q190 (by decide) (by decide) (fun _ => rfl) (fun _ _ h => h) (by decide) rfl
theorem en_X3_init_278 : SndE EE S mi_X3_init 278 (.inl (e_pR 281 3 55)) := sn_pR dX3_init_278 rfl cl_3 (by decide) rfl (Or.inl ⟨q908, Or.inr ⟨rfl, rfl, rfl⟩⟩) (Or.inl rfl) (fun _ => ⟨rfl, rfl⟩)
theorem en_X3_init_281 : SndE EE S mi_X3_init 281 (.inl (e_lda 282 0)) := sn_aload_n dX3_init_281 rfl rfl
theorem en_X3_init_282 : SndE EE S mi_X3_init 282 (.inl (e_psh 285 (.int (1024)))) := sn_sipush dX3_init_282 rfl rfl
theorem en_X3_init_285 : SndE EE S mi_X3_init 285 (.inl (e_newa 287 1)) := sn_newa (t0 := 0) dX3_init_285 rfl rfl q190 (by decide) (by decide) (fun _ => rfl) (fun _ _ h => h) (by decide) rfl
theorem en_X3_init_287 : SndE EE S mi_X3_init 287 (.inl (e_pR 290 3 56)) := sn_pR dX3_init_287 rfl cl_3 (by decide) rfl (Or.inl ⟨q909, Or.inr ⟨rfl, rfl, rfl⟩⟩) (Or.inl rfl) (fun _ => ⟨rfl, rfl⟩)
theorem en_X3_init_290 : SndE EE S mi_X3_init 290 (.inl (e_lda 291 0)) := sn_aload_n dX3_init_290 rfl rfl
theorem en_X3_init_291 : SndE EE S mi_X3_init 291 (.inl (e_psh 293 (.int (10)))) := sn_bipush dX3_init_291 rfl rfl
theorem en_X3_init_293 : SndE EE S mi_X3_init 293 (.inl (e_newa 295 1)) := sn_newa (t0 := 0) dX3_init_293 rfl rfl q190 (by decide) (by decide) (fun _ => rfl) (fun _ _ h => h) (by decide) rfl
theorem en_X3_init_295 : SndE EE S mi_X3_init 295 (.inl (e_pR 298 3 57)) := sn_pR dX3_init_295 rfl cl_3 (by decide) rfl (Or.inl ⟨q910, Or.inr ⟨rfl, rfl, rfl⟩⟩) (Or.inl rfl) (fun _ => ⟨rfl, rfl⟩)
theorem en_X3_init_298 : SndE EE S mi_X3_init 298 (.inl (e_lda 299 0)) := sn_aload_n dX3_init_298 rfl rfl
theorem en_X3_init_299 : SndE EE S mi_X3_init 299 (.inl (e_psh 301 (.int (10)))) := sn_bipush dX3_init_299 rfl rfl
theorem en_X3_init_301 : SndE EE S mi_X3_init 301 (.inl (e_newa 303 1)) := sn_newa (t0 := 0) dX3_init_301 rfl rfl q190 (by decide) (by decide) (fun _ => rfl) (fun _ _ h => h) (by decide) rfl
theorem en_X3_init_303 : SndE EE S mi_X3_init 303 (.inl (e_pR 306 3 58)) := sn_pR dX3_init_303 rfl cl_3 (by decide) rfl (Or.inl ⟨q911, Or.inr ⟨rfl, rfl, rfl⟩⟩) (Or.inl rfl) (fun _ => ⟨rfl, rfl⟩)
theorem en_X3_init_306 : SndE EE S mi_X3_init 306 (.inl (e_psh 307 (.int (0)))) := sn_iconst dX3_init_306 rfl rfl
theorem en_X3_init_307 : SndE EE S mi_X3_init 307 (.inl (e_sti 308 1)) := sn_istore_n dX3_init_307 rfl rfl rfl (by decide)
theorem en_X3_init_308 : SndE EE S mi_X3_init 308 (.inl (e_ldi 309 1)) := sn_iload_n dX3_init_308 rfl rfl
theorem en_X3_init_309 : SndE EE S mi_X3_init 309 (.inl (e_psh 311 (.int (6)))) := sn_bipush dX3_init_309 rfl rfl
theorem en_X3_init_311 : SndE EE S mi_X3_init 311 (.inl (e_ige 314 342)) := sn_ige dX3_init_311 rfl (by decide)
theorem en_X3_init_314 : SndE EE S mi_X3_init 314 (.inl (e_lda 315 0)) := sn_aload_n dX3_init_314 rfl rfl
theorem en_X3_init_315 : SndE EE S mi_X3_init 315 (.inl (e_gR 318 3 44)) := sn_gR dX3_init_315 rfl cl_3 (by decide) rfl (Or.inl q897) (Or.inl rfl)
theorem en_X3_init_318 : SndE EE S mi_X3_init 318 (.inl (e_ldi 319 1)) := sn_iload_n dX3_init_318 rfl rfl
theorem en_X3_init_319 : SndE EE S mi_X3_init 319 (.inl (e_psh 321 (.int (10)))) := sn_bipush dX3_init_319 rfl rfl
theorem en_X3_init_321 : SndE EE S mi_X3_init 321 (.inl (e_iast 322)) := sn_iast dX3_init_321 rfl
theorem en_X3_init_322 : SndE EE S mi_X3_init 322 (.inl (e_lda 323 0)) := sn_aload_n dX3_init_322 rfl rfl
theorem en_X3_init_323 : SndE EE S mi_X3_init 323 (.inl (e_gR 326 3 46)) := sn_gR dX3_init_323 rfl cl_3 (by decide) rfl (Or.inl q899) (Or.inl rfl)
theorem en_X3_init_326 : SndE EE S mi_X3_init 326 (.inl (e_ldi 327 1)) := sn_iload_n dX3_init_326 rfl rfl
theorem en_X3_init_327 : SndE EE S mi_X3_init 327 (.inl (e_psh 328 (.int (1)))) := sn_iconst dX3_init_327 rfl rfl
theorem en_X3_init_328 : SndE EE S mi_X3_init 328 (.inl (e_iast 329)) := sn_iast dX3_init_328 rfl
theorem en_X3_init_329 : SndE EE S mi_X3_init 329 (.inl (e_lda 330 0)) := sn_aload_n dX3_init_329 rfl rfl
theorem en_X3_init_330 : SndE EE S mi_X3_init 330 (.inl (e_gR 333 3 48)) := sn_gR dX3_init_330 rfl cl_3 (by decide) rfl (Or.inl q901) (Or.inl rfl)
theorem en_X3_init_333 : SndE EE S mi_X3_init 333 (.inl (e_ldi 334 1)) := sn_iload_n dX3_init_333 rfl rfl
theorem en_X3_init_334 : SndE EE S mi_X3_init 334 (.inl (e_psh 335 (.int (1)))) := sn_iconst dX3_init_334 rfl rfl
theorem en_X3_init_335 : SndE EE S mi_X3_init 335 (.inl (e_zast 336)) := sn_zast dX3_init_335 rfl
theorem en_X3_init_336 : SndE EE S mi_X3_init 336 (.inl (e_inc 339 1 (1))) := sn_iinc dX3_init_336 rfl rfl rfl (by decide)
theorem en_X3_init_339 : SndE EE S mi_X3_init 339 (.inl (e_goto 308)) := sn_goto dX3_init_339 (by decide)
theorem en_X3_init_342 : SndE EE S mi_X3_init 342 (.inr (.inr 0)) := ⟨dX3_init_342, rfl⟩
theorem sd_X3_init : ∀ pc x, cd_X3_init pc = some x → SndE EE S mi_X3_init pc x := (tN_ok (tN_ok (tN_ok (tN_ok (tN_ok (tN_ok (tN_ok (tL_ok en_X3_init_0) (tL_ok en_X3_init_1)) (tN_ok (tL_ok en_X3_init_4) (tN_ok (tL_ok en_X3_init_5) (tL_ok en_X3_init_7)))) (tN_ok (tN_ok (tL_ok en_X3_init_9) (tL_ok en_X3_init_12)) (tN_ok (tL_ok en_X3_init_13) (tN_ok (tL_ok en_X3_init_16) (tL_ok en_X3_init_18))))) (tN_ok (tN_ok (tN_ok (tL_ok en_X3_init_21) (tL_ok en_X3_init_22)) (tN_ok (tL_ok en_X3_init_23) (tN_ok (tL_ok en_X3_init_26) (tL_ok en_X3_init_27)))) (tN_ok (tN_ok (tL_ok en_X3_init_29) (tN_ok (tL_ok en_X3_init_31) (tL_ok en_X3_init_34))) (tN_ok (tL_ok en_X3_init_35) (tN_ok (tL_ok en_X3_init_37) (tL_ok en_X3_init_39)))))) (tN_ok (tN_ok (tN_ok (tN_ok (tL_ok en_X3_init_42) (tL_ok en_X3_init_43)) (tN_ok (tL_ok en_X3_init_46) (tN_ok (tL_ok en_X3_init_48) (tL_ok en_X3_init_51)))) (tN_ok (tN_ok (tL_ok en_X3_init_52) (tL_ok en_X3_init_55)) (tN_ok (tL_ok en_X3_init_57) (tN_ok (tL_ok en_X3_init_60) (tL_ok en_X3_init_61))))) (tN_ok (tN_ok (tN_ok (tL_ok en_X3_init_63) (tL_ok en_X3_init_65)) (tN_ok (tL_ok en_X3_init_68) (tN_ok (tL_ok en_X3_init_69) (tL_ok en_X3_init_71)))) (tN_ok (tN_ok (tL_ok en_X3_init_73) (tN_ok (tL_ok en_X3_init_76) (tL_ok en_X3_init_77))) (tN_ok (tL_ok en_X3_init_79) (tN_ok (tL_ok en_X3_init_81) (tL_ok en_X3_init_84))))))) (tN_ok (tN_ok (tN_ok (tN_ok (tN_ok (tL_ok en_X3_init_85) (tL_ok en_X3_init_88)) (tN_ok (tL_ok en_X3_init_90) (tN_ok (tL_ok en_X3_init_93) (tL_ok en_X3_init_94)))) (tN_ok (tN_ok (tL_ok en_X3_init_97) (tL_ok en_X3_init_99)) (tN_ok (tL_ok en_X3_init_102) (tN_ok (tL_ok en_X3_init_103) (tL_ok en_X3_init_105))))) (tN_ok (tN_ok (tN_ok (tL_ok en_X3_init_107) (tL_ok en_X3_init_110)) (tN_ok (tL_ok en_X3_init_111) (tN_ok (tL_ok en_X3_init_114) (tL_ok en_X3_init_116)))) (tN_ok (tN_ok (tL_ok en_X3_init_119) (tN_ok (tL_ok en_X3_init_120) (tL_ok en_X3_init_123))) (tN_ok (tL_ok en_X3_init_125) (tN_ok (tL_ok en_X3_init_128) (tL_ok en_X3_init_129)))))) (tN_ok (tN_ok (tN_ok (tN_ok (tL_ok en_X3_init_130) (tL_ok en_X3_init_133)) (tN_ok (tL_ok en_X3_init_134) (tN_ok (tL_ok en_X3_init_135) (tL_ok en_X3_init_137)))) (tN_ok (tN_ok (tL_ok en_X3_init_140) (tN_ok (tL_ok en_X3_init_141) (tL_ok en_X3_init_144))) (tN_ok (tL_ok en_X3_init_146) (tN_ok (tL_ok en_X3_init_149) (tL_ok en_X3_init_150))))) (tN_ok (tN_ok (tN_ok (tL_ok en_X3_init_153) (tL_ok en_X3_init_155)) (tN_ok (tL_ok en_X3_init_158) (tN_ok (tL_ok en_X3_init_159) (tL_ok en_X3_init_162)))) (tN_ok (tN_ok (tL_ok en_X3_init_164) (tN_ok (tL_ok en_X3_init_167) (tL_ok en_X3_init_168))) (tN_ok (tL_ok en_X3_init_171) (tN_ok (tL_ok en_X3_init_173) (tL_ok en_X3_init_176)))))))) (tN_ok (tN_ok (tN_ok (tN_ok (tN_ok (tN_ok (tL_ok en_X3_init_177) (tL_ok en_X3_init_180)) (tN_ok (tL_ok en_X3_init_182) (tN_ok (tL_ok en_X3_init_185) (tL_ok en_X3_init_186)))) (tN_ok (tN_ok (tL_ok en_X3_init_189) (tL_ok en_X3_init_191)) (tN_ok (tL_ok en_X3_init_194) (tN_ok (tL_ok en_X3_init_195) (tL_ok en_X3_init_198))))) (tN_ok (tN_ok (tN_ok (tL_ok en_X3_init_200) (tL_ok en_X3_init_203)) (tN_ok (tL_ok en_X3_init_204) (tN_ok (tL_ok en_X3_init_206) (tL_ok en_X3_init_208)))) (tN_ok (tN_ok (tL_ok en_X3_init_211) (tN_ok (tL_ok en_X3_init_212) (tL_ok en_X3_init_214))) (tN_ok (tL_ok en_X3_init_216) (tN_ok (tL_ok en_X3_init_219) (tL_ok en_X3_init_220)))))) (tN_ok (tN_ok (tN_ok (tN_ok (tL_ok en_X3_init_222) (tL_ok en_X3_init_224)) (tN_ok (tL_ok en_X3_init_227) (tN_ok (tL_ok en_X3_init_228) (tL_ok en_X3_init_230)))) (tN_ok (tN_ok (tL_ok en_X3_init_232) (tN_ok (tL_ok en_X3_init_235) (tL_ok en_X3_init_236))) (tN_ok (tL_ok en_X3_init_238) (tN_ok (tL_ok en_X3_init_240) (tL_ok en_X3_init_243))))) (tN_ok (tN_ok (tN_ok (tL_ok en_X3_init_244) (tL_ok en_X3_init_245)) (tN_ok (tL_ok en_X3_init_248) (tN_ok (tL_ok en_X3_init_249) (tL_ok en_X3_init_251)))) (tN_ok (tN_ok (tL_ok en_X3_init_254) (tN_ok (tL_ok en_X3_init_255) (tL_ok en_X3_init_256))) (tN_ok (tL_ok en_X3_init_259) (tN_ok (tL_ok en_X3_init_260) (tL_ok en_X3_init_262))))))) (tN_ok (tN_ok (tN_ok (tN_ok (tN_ok (tL_ok en_X3_init_265) (tL_ok en_X3_init_266)) (tN_ok (tL_ok en_X3_init_268) (tN_ok (tL_ok en_X3_init_270) (tL_ok en_X3_init_273)))) (tN_ok (tN_ok (tL_ok en_X3_init_274) (tL_ok en_X3_init_276)) (tN_ok (tL_ok en_X3_init_278) (tN_ok (tL_ok en_X3_init_281) (tL_ok en_X3_init_282))))) (tN_ok (tN_ok (tN_ok (tL_ok en_X3_init_285) (tL_ok en_X3_init_287)) (tN_ok (tL_ok en_X3_init_290) (tN_ok (tL_ok en_X3_init_291) (tL_ok en_X3_init_293)))) (tN_ok (tN_ok (tL_ok en_X3_init_295) (tN_ok (tL_ok en_X3_init_298) (tL_ok en_X3_init_299))) (tN_ok (tL_ok en_X3_init_301) (tN_ok (tL_ok en_X3_init_303) (tL_ok en_X3_init_306)))))) (tN_ok (tN_ok (tN_ok (tN_ok (tL_ok en_X3_init_307) (tL_ok en_X3_init_308)) (tN_ok (tL_ok en_X3_init_309) (tN_ok (tL_ok en_X3_init_311) (tL_ok en_X3_init_314)))) (tN_ok (tN_ok (tL_ok en_X3_init_315) (tN_ok (tL_ok en_X3_init_318) (tL_ok en_X3_init_319))) (tN_ok (tL_ok en_X3_init_321) (tN_ok (tL_ok en_X3_init_322) (tL_ok en_X3_init_323))))) (tN_ok (tN_ok (tN_ok (tL_ok en_X3_init_326) (tL_ok en_X3_init_327)) (tN_ok (tL_ok en_X3_init_328) (tN_ok (tL_ok en_X3_init_329) (tL_ok en_X3_init_330)))) (tN_ok (tN_ok (tL_ok en_X3_init_333) (tN_ok (tL_ok en_X3_init_334) (tL_ok en_X3_init_335))) (tN_ok (tL_ok en_X3_init_336) (tN_ok (tL_ok en_X3_init_339) (tL_ok en_X3_init_342)))))))))
theorem en_X3_net_0 : SndE EE S mi_X3_net 0 (.inl (e_ldi 1 1)) := sn_iload_n dX3_net_0 rfl rfl
theorem en_X3_net_1 : SndE EE S mi_X3_net 1 (.inl (e_zlt 4 20)) := sn_zlt dX3_net_1 rfl (by decide)
theorem en_X3_net_4 : SndE EE S mi_X3_net 4 (.inl (e_ldi 5 1)) := sn_iload_n dX3_net_4 rfl rfl
theorem en_X3_net_5 : SndE EE S mi_X3_net 5 (.inl (e_psh 7 (.int (24)))) := sn_bipush dX3_net_5 rfl rfl
theorem en_X3_net_7 : SndE EE S mi_X3_net 7 (.inl (e_ige 10 20)) := sn_ige dX3_net_7 rfl (by decide)
theorem en_X3_net_10 : SndE EE S mi_X3_net 10 (.inl (e_ldi 11 2)) := sn_iload_n dX3_net_10 rfl rfl
theorem en_X3_net_11 : SndE EE S mi_X3_net 11 (.inl (e_zlt 14 20)) := sn_zlt dX3_net_11 rfl (by decide)
theorem en_X3_net_14 : SndE EE S mi_X3_net 14 (.inl (e_ldi 15 2)) := sn_iload_n dX3_net_14 rfl rfl
theorem en_X3_net_15 : SndE EE S mi_X3_net 15 (.inl (e_psh 17 (.int (16777216)))) := sn_ldc dX3_net_15 rfl q1041
theorem en_X3_net_17 : SndE EE S mi_X3_net 17 (.inl (e_ilt 20 22)) := sn_ilt dX3_net_17 rfl (by decide)
theorem en_X3_net_20 : SndE EE S mi_X3_net 20 (.inl (e_psh 21 (.int (0)))) := sn_iconst dX3_net_20 rfl rfl
theorem en_X3_net_21 : SndE EE S mi_X3_net 21 (.inr (.inr 2)) := ⟨dX3_net_21, rfl⟩
theorem en_X3_net_22 : SndE EE S mi_X3_net 22 (.inl (e_lda 23 0)) := sn_aload_n dX3_net_22 rfl rfl
theorem en_X3_net_23 : SndE EE S mi_X3_net 23 (.inl (e_gR 26 3 0)) := sn_gR dX3_net_23 rfl cl_3 (by decide) rfl (Or.inl q853) (Or.inl rfl)
theorem en_X3_net_26 : SndE EE S mi_X3_net 26 (.inl (e_ldi 27 1)) := sn_iload_n dX3_net_26 rfl rfl
theorem en_X3_net_27 : SndE EE S mi_X3_net 27 (.inl (e_ldi 28 2)) := sn_iload_n dX3_net_27 rfl rfl
theorem en_X3_net_28 : SndE EE S mi_X3_net 28 (.inl (e_iast 29)) := sn_iast dX3_net_28 rfl
theorem en_X3_net_29 : SndE EE S mi_X3_net 29 (.inl (e_psh 30 (.int (1)))) := sn_iconst dX3_net_29 rfl rfl
theorem en_X3_net_30 : SndE EE S mi_X3_net 30 (.inr (.inr 2)) := ⟨dX3_net_30, rfl⟩
theorem sd_X3_net : ∀ pc x, cd_X3_net pc = some x → SndE EE S mi_X3_net pc x := (tN_ok (tN_ok (tN_ok (tN_ok (tL_ok en_X3_net_0) (tL_ok en_X3_net_1)) (tN_ok (tL_ok en_X3_net_4) (tL_ok en_X3_net_5))) (tN_ok (tN_ok (tL_ok en_X3_net_7) (tL_ok en_X3_net_10)) (tN_ok (tL_ok en_X3_net_11) (tN_ok (tL_ok en_X3_net_14) (tL_ok en_X3_net_15))))) (tN_ok (tN_ok (tN_ok (tL_ok en_X3_net_17) (tL_ok en_X3_net_20)) (tN_ok (tL_ok en_X3_net_21) (tN_ok (tL_ok en_X3_net_22) (tL_ok en_X3_net_23)))) (tN_ok (tN_ok (tL_ok en_X3_net_26) (tL_ok en_X3_net_27)) (tN_ok (tL_ok en_X3_net_28) (tN_ok (tL_ok en_X3_net_29) (tL_ok en_X3_net_30))))))
theorem en_X3_centre_0 : SndE EE S mi_X3_centre 0 (.inl (e_lda 1 0)) := sn_aload_n dX3_centre_0 rfl rfl
theorem en_X3_centre_1 : SndE EE S mi_X3_centre 1 (.inr (.inl (d_cls 3 50, 1, 3))) := sc_virt dX3_centre_1 (rcv_cls (r := (RX3, TX3, 61)) rfl ⟨mo_X3_seekCentre, nmo_X3_seekCentre, q1046, q1048, qs24⟩)
theorem en_X3_centre_4 : SndE EE S mi_X3_centre 4 (.inl (e_lda 5 0)) := sn_aload_n dX3_centre_4 rfl rfl
theorem en_X3_centre_5 : SndE EE S mi_X3_centre 5 (.inl (e_gI 8 3 3)) := sn_gI dX3_centre_5 rfl cl_3 (by decide) rfl (Or.inl q856) (Or.inl rfl)
theorem en_X3_centre_8 : SndE EE S mi_X3_centre 8 (.inl (e_zge 11 15)) := sn_zge dX3_centre_8 rfl (by decide)
theorem en_X3_centre_11 : SndE EE S mi_X3_centre 11 (.inl (e_psh 12 (.int (-1)))) := sn_iconst dX3_centre_11 rfl rfl
theorem en_X3_centre_12 : SndE EE S mi_X3_centre 12 (.inl (e_goto 51)) := sn_goto dX3_centre_12 (by decide)
theorem en_X3_centre_15 : SndE EE S mi_X3_centre 15 (.inl (e_ldi 16 1)) := sn_iload_n dX3_centre_15 rfl rfl
theorem en_X3_centre_16 : SndE EE S mi_X3_centre 16 (.inl (e_zne 19 26)) := sn_zne dX3_centre_16 rfl (by decide)
theorem en_X3_centre_19 : SndE EE S mi_X3_centre 19 (.inl (e_lda 20 0)) := sn_aload_n dX3_centre_19 rfl rfl
theorem en_X3_centre_20 : SndE EE S mi_X3_centre 20 (.inl (e_gI 23 3 1)) := sn_gI dX3_centre_20 rfl cl_3 (by decide) rfl (Or.inl q854) (Or.inl rfl)
theorem en_X3_centre_23 : SndE EE S mi_X3_centre 23 (.inl (e_goto 51)) := sn_goto dX3_centre_23 (by decide)
theorem en_X3_centre_26 : SndE EE S mi_X3_centre 26 (.inl (e_ldi 27 1)) := sn_iload_n dX3_centre_26 rfl rfl
theorem en_X3_centre_27 : SndE EE S mi_X3_centre 27 (.inl (e_psh 28 (.int (1)))) := sn_iconst dX3_centre_27 rfl rfl
theorem en_X3_centre_28 : SndE EE S mi_X3_centre 28 (.inl (e_ine 31 38)) := sn_ine dX3_centre_28 rfl (by decide)
theorem en_X3_centre_31 : SndE EE S mi_X3_centre 31 (.inl (e_lda 32 0)) := sn_aload_n dX3_centre_31 rfl rfl
theorem en_X3_centre_32 : SndE EE S mi_X3_centre 32 (.inl (e_gI 35 3 2)) := sn_gI dX3_centre_32 rfl cl_3 (by decide) rfl (Or.inl q855) (Or.inl rfl)
theorem en_X3_centre_35 : SndE EE S mi_X3_centre 35 (.inl (e_goto 51)) := sn_goto dX3_centre_35 (by decide)
theorem en_X3_centre_38 : SndE EE S mi_X3_centre 38 (.inl (e_ldi 39 1)) := sn_iload_n dX3_centre_38 rfl rfl
theorem en_X3_centre_39 : SndE EE S mi_X3_centre 39 (.inl (e_psh 40 (.int (2)))) := sn_iconst dX3_centre_39 rfl rfl
theorem en_X3_centre_40 : SndE EE S mi_X3_centre 40 (.inl (e_ine 43 50)) := sn_ine dX3_centre_40 rfl (by decide)
theorem en_X3_centre_43 : SndE EE S mi_X3_centre 43 (.inl (e_lda 44 0)) := sn_aload_n dX3_centre_43 rfl rfl
theorem en_X3_centre_44 : SndE EE S mi_X3_centre 44 (.inl (e_gI 47 3 3)) := sn_gI dX3_centre_44 rfl cl_3 (by decide) rfl (Or.inl q856) (Or.inl rfl)
theorem en_X3_centre_47 : SndE EE S mi_X3_centre 47 (.inl (e_goto 51)) := sn_goto dX3_centre_47 (by decide)
theorem en_X3_centre_50 : SndE EE S mi_X3_centre 50 (.inl (e_psh 51 (.int (-1)))) := sn_iconst dX3_centre_50 rfl rfl
theorem en_X3_centre_51 : SndE EE S mi_X3_centre 51 (.inr (.inr 1)) := ⟨dX3_centre_51, rfl⟩
theorem sd_X3_centre : ∀ pc x, cd_X3_centre pc = some x → SndE EE S mi_X3_centre pc x := (tN_ok (tN_ok (tN_ok (tN_ok (tL_ok en_X3_centre_0) (tN_ok (tL_ok en_X3_centre_1) (tL_ok en_X3_centre_4))) (tN_ok (tL_ok en_X3_centre_5) (tN_ok (tL_ok en_X3_centre_8) (tL_ok en_X3_centre_11)))) (tN_ok (tN_ok (tL_ok en_X3_centre_12) (tN_ok (tL_ok en_X3_centre_15) (tL_ok en_X3_centre_16))) (tN_ok (tN_ok (tL_ok en_X3_centre_19) (tL_ok en_X3_centre_20)) (tN_ok (tL_ok en_X3_centre_23) (tL_ok en_X3_centre_26))))) (tN_ok (tN_ok (tN_ok (tL_ok en_X3_centre_27) (tN_ok (tL_ok en_X3_centre_28) (tL_ok en_X3_centre_31))) (tN_ok (tL_ok en_X3_centre_32) (tN_ok (tL_ok en_X3_centre_35) (tL_ok en_X3_centre_38)))) (tN_ok (tN_ok (tL_ok en_X3_centre_39) (tN_ok (tL_ok en_X3_centre_40) (tL_ok en_X3_centre_43))) (tN_ok (tN_ok (tL_ok en_X3_centre_44) (tL_ok en_X3_centre_47)) (tN_ok (tL_ok en_X3_centre_50) (tL_ok en_X3_centre_51))))))
theorem en_X3_seekCentre_0 : SndE EE S mi_X3_seekCentre 0 (.inl (e_lda 1 0)) := sn_aload_n dX3_seekCentre_0 rfl rfl
theorem en_X3_seekCentre_1 : SndE EE S mi_X3_seekCentre 1 (.inl (e_psh 2 (.int (-1)))) := sn_iconst dX3_seekCentre_1 rfl rfl
theorem en_X3_seekCentre_2 : SndE EE S mi_X3_seekCentre 2 (.inl (e_pI 5 3 3)) := sn_pI dX3_seekCentre_2 rfl cl_3 (by decide) rfl (Or.inl ⟨q856, Or.inl rfl⟩) (Or.inl rfl) (fun _ => ⟨rfl, rfl⟩)
theorem en_X3_seekCentre_5 : SndE EE S mi_X3_seekCentre 5 (.inl (e_psh 6 (.int (0)))) := sn_iconst dX3_seekCentre_5 rfl rfl
theorem en_X3_seekCentre_6 : SndE EE S mi_X3_seekCentre 6 (.inl (e_sti 7 1)) := sn_istore_n dX3_seekCentre_6 rfl rfl rfl (by decide)
theorem en_X3_seekCentre_7 : SndE EE S mi_X3_seekCentre 7 (.inl (e_ldi 8 1)) := sn_iload_n dX3_seekCentre_7 rfl rfl
theorem en_X3_seekCentre_8 : SndE EE S mi_X3_seekCentre 8 (.inl (e_psh 10 (.int (24)))) := sn_bipush dX3_seekCentre_8 rfl rfl
theorem en_X3_seekCentre_10 : SndE EE S mi_X3_seekCentre 10 (.inl (e_ige 13 80)) := sn_ige dX3_seekCentre_10 rfl (by decide)
theorem en_X3_seekCentre_13 : SndE EE S mi_X3_seekCentre 13 (.inl (e_psh 14 (.int (0)))) := sn_iconst dX3_seekCentre_13 rfl rfl
theorem en_X3_seekCentre_14 : SndE EE S mi_X3_seekCentre 14 (.inl (e_sti 15 2)) := sn_istore_n dX3_seekCentre_14 rfl rfl rfl (by decide)
theorem en_X3_seekCentre_15 : SndE EE S mi_X3_seekCentre 15 (.inl (e_ldi 16 2)) := sn_iload_n dX3_seekCentre_15 rfl rfl
theorem en_X3_seekCentre_16 : SndE EE S mi_X3_seekCentre 16 (.inl (e_psh 18 (.int (24)))) := sn_bipush dX3_seekCentre_16 rfl rfl
theorem en_X3_seekCentre_18 : SndE EE S mi_X3_seekCentre 18 (.inl (e_ige 21 74)) := sn_ige dX3_seekCentre_18 rfl (by decide)
theorem en_X3_seekCentre_21 : SndE EE S mi_X3_seekCentre 21 (.inl (e_lda 22 0)) := sn_aload_n dX3_seekCentre_21 rfl rfl
theorem en_X3_seekCentre_22 : SndE EE S mi_X3_seekCentre 22 (.inl (e_gI 25 3 3)) := sn_gI dX3_seekCentre_22 rfl cl_3 (by decide) rfl (Or.inl q856) (Or.inl rfl)
theorem en_X3_seekCentre_25 : SndE EE S mi_X3_seekCentre 25 (.inl (e_psh 27 (.int (11)))) := sn_bipush dX3_seekCentre_25 rfl rfl
theorem en_X3_seekCentre_27 : SndE EE S mi_X3_seekCentre 27 (.inl (e_ige 30 68)) := sn_ige dX3_seekCentre_27 rfl (by decide)
theorem en_X3_seekCentre_30 : SndE EE S mi_X3_seekCentre 30 (.inl (e_lda 31 0)) := sn_aload_n dX3_seekCentre_30 rfl rfl
theorem en_X3_seekCentre_31 : SndE EE S mi_X3_seekCentre 31 (.inl (e_ldi 32 1)) := sn_iload_n dX3_seekCentre_31 rfl rfl
theorem en_X3_seekCentre_32 : SndE EE S mi_X3_seekCentre 32 (.inl (e_ldi 33 2)) := sn_iload_n dX3_seekCentre_32 rfl rfl
theorem en_X3_seekCentre_33 : SndE EE S mi_X3_seekCentre 33 (.inl (e_lda 34 0)) := sn_aload_n dX3_seekCentre_33 rfl rfl
theorem en_X3_seekCentre_34 : SndE EE S mi_X3_seekCentre 34 (.inl (e_gI 37 3 3)) := sn_gI dX3_seekCentre_34 rfl cl_3 (by decide) rfl (Or.inl q856) (Or.inl rfl)
theorem en_X3_seekCentre_37 : SndE EE S mi_X3_seekCentre 37 (.inl (e_psh 38 (.int (1)))) := sn_iconst dX3_seekCentre_37 rfl rfl
theorem en_X3_seekCentre_38 : SndE EE S mi_X3_seekCentre 38 (.inl (e_bin 39 (fun x y => x + y))) := sn_iadd dX3_seekCentre_38 rfl
theorem en_X3_seekCentre_39 : SndE EE S mi_X3_seekCentre 39 (.inr (.inl (d_cls 3 51, 4, 3))) := sc_virt dX3_seekCentre_39 (rcv_cls (r := (RX3, TX3, 61)) rfl ⟨mo_X3_fits, nmo_X3_fits, q1050, q1052, qs25⟩)
theorem en_X3_seekCentre_42 : SndE EE S mi_X3_seekCentre 42 (.inl (e_zeq 45 68)) := sn_zeq dX3_seekCentre_42 rfl (by decide)
theorem en_X3_seekCentre_45 : SndE EE S mi_X3_seekCentre 45 (.inl (e_lda 46 0)) := sn_aload_n dX3_seekCentre_45 rfl rfl
theorem en_X3_seekCentre_46 : SndE EE S mi_X3_seekCentre 46 (.inl (e_dup 47)) := sn_dup dX3_seekCentre_46 rfl
theorem en_X3_seekCentre_47 : SndE EE S mi_X3_seekCentre 47 (.inl (e_gI 50 3 3)) := sn_gI dX3_seekCentre_47 rfl cl_3 (by decide) rfl (Or.inl q856) (Or.inl rfl)
theorem en_X3_seekCentre_50 : SndE EE S mi_X3_seekCentre 50 (.inl (e_psh 51 (.int (1)))) := sn_iconst dX3_seekCentre_50 rfl rfl
theorem en_X3_seekCentre_51 : SndE EE S mi_X3_seekCentre 51 (.inl (e_bin 52 (fun x y => x + y))) := sn_iadd dX3_seekCentre_51 rfl
theorem en_X3_seekCentre_52 : SndE EE S mi_X3_seekCentre 52 (.inl (e_pI 55 3 3)) := sn_pI dX3_seekCentre_52 rfl cl_3 (by decide) rfl (Or.inl ⟨q856, Or.inl rfl⟩) (Or.inl rfl) (fun _ => ⟨rfl, rfl⟩)
theorem en_X3_seekCentre_55 : SndE EE S mi_X3_seekCentre 55 (.inl (e_lda 56 0)) := sn_aload_n dX3_seekCentre_55 rfl rfl
theorem en_X3_seekCentre_56 : SndE EE S mi_X3_seekCentre 56 (.inl (e_ldi 57 1)) := sn_iload_n dX3_seekCentre_56 rfl rfl
theorem en_X3_seekCentre_57 : SndE EE S mi_X3_seekCentre 57 (.inl (e_pI 60 3 1)) := sn_pI dX3_seekCentre_57 rfl cl_3 (by decide) rfl (Or.inl ⟨q854, Or.inl rfl⟩) (Or.inl rfl) (fun _ => ⟨rfl, rfl⟩)
theorem en_X3_seekCentre_60 : SndE EE S mi_X3_seekCentre 60 (.inl (e_lda 61 0)) := sn_aload_n dX3_seekCentre_60 rfl rfl
theorem en_X3_seekCentre_61 : SndE EE S mi_X3_seekCentre 61 (.inl (e_ldi 62 2)) := sn_iload_n dX3_seekCentre_61 rfl rfl
theorem en_X3_seekCentre_62 : SndE EE S mi_X3_seekCentre 62 (.inl (e_pI 65 3 2)) := sn_pI dX3_seekCentre_62 rfl cl_3 (by decide) rfl (Or.inl ⟨q855, Or.inl rfl⟩) (Or.inl rfl) (fun _ => ⟨rfl, rfl⟩)
theorem en_X3_seekCentre_65 : SndE EE S mi_X3_seekCentre 65 (.inl (e_goto 21)) := sn_goto dX3_seekCentre_65 (by decide)
theorem en_X3_seekCentre_68 : SndE EE S mi_X3_seekCentre 68 (.inl (e_inc 71 2 (1))) := sn_iinc dX3_seekCentre_68 rfl rfl rfl (by decide)
theorem en_X3_seekCentre_71 : SndE EE S mi_X3_seekCentre 71 (.inl (e_goto 15)) := sn_goto dX3_seekCentre_71 (by decide)
theorem en_X3_seekCentre_74 : SndE EE S mi_X3_seekCentre 74 (.inl (e_inc 77 1 (1))) := sn_iinc dX3_seekCentre_74 rfl rfl rfl (by decide)
theorem en_X3_seekCentre_77 : SndE EE S mi_X3_seekCentre 77 (.inl (e_goto 7)) := sn_goto dX3_seekCentre_77 (by decide)
theorem en_X3_seekCentre_80 : SndE EE S mi_X3_seekCentre 80 (.inr (.inr 0)) := ⟨dX3_seekCentre_80, rfl⟩
theorem sd_X3_seekCentre : ∀ pc x, cd_X3_seekCentre pc = some x → SndE EE S mi_X3_seekCentre pc x := (tN_ok (tN_ok (tN_ok (tN_ok (tN_ok (tL_ok en_X3_seekCentre_0) (tL_ok en_X3_seekCentre_1)) (tN_ok (tL_ok en_X3_seekCentre_2) (tN_ok (tL_ok en_X3_seekCentre_5) (tL_ok en_X3_seekCentre_6)))) (tN_ok (tN_ok (tL_ok en_X3_seekCentre_7) (tN_ok (tL_ok en_X3_seekCentre_8) (tL_ok en_X3_seekCentre_10))) (tN_ok (tL_ok en_X3_seekCentre_13) (tN_ok (tL_ok en_X3_seekCentre_14) (tL_ok en_X3_seekCentre_15))))) (tN_ok (tN_ok (tN_ok (tL_ok en_X3_seekCentre_16) (tL_ok en_X3_seekCentre_18)) (tN_ok (tL_ok en_X3_seekCentre_21) (tN_ok (tL_ok en_X3_seekCentre_22) (tL_ok en_X3_seekCentre_25)))) (tN_ok (tN_ok (tL_ok en_X3_seekCentre_27) (tN_ok (tL_ok en_X3_seekCentre_30) (tL_ok en_X3_seekCentre_31))) (tN_ok (tL_ok en_X3_seekCentre_32) (tN_ok (tL_ok en_X3_seekCentre_33) (tL_ok en_X3_seekCentre_34)))))) (tN_ok (tN_ok (tN_ok (tN_ok (tL_ok en_X3_seekCentre_37) (tL_ok en_X3_seekCentre_38)) (tN_ok (tL_ok en_X3_seekCentre_39) (tN_ok (tL_ok en_X3_seekCentre_42) (tL_ok en_X3_seekCentre_45)))) (tN_ok (tN_ok (tL_ok en_X3_seekCentre_46) (tN_ok (tL_ok en_X3_seekCentre_47) (tL_ok en_X3_seekCentre_50))) (tN_ok (tL_ok en_X3_seekCentre_51) (tN_ok (tL_ok en_X3_seekCentre_52) (tL_ok en_X3_seekCentre_55))))) (tN_ok (tN_ok (tN_ok (tL_ok en_X3_seekCentre_56) (tL_ok en_X3_seekCentre_57)) (tN_ok (tL_ok en_X3_seekCentre_60) (tN_ok (tL_ok en_X3_seekCentre_61) (tL_ok en_X3_seekCentre_62)))) (tN_ok (tN_ok (tL_ok en_X3_seekCentre_65) (tN_ok (tL_ok en_X3_seekCentre_68) (tL_ok en_X3_seekCentre_71))) (tN_ok (tL_ok en_X3_seekCentre_74) (tN_ok (tL_ok en_X3_seekCentre_77) (tL_ok en_X3_seekCentre_80)))))))
theorem en_X3_fits_0 : SndE EE S mi_X3_fits 0 (.inl (e_psh 1 (.int (1)))) := sn_iconst dX3_fits_0 rfl rfl
theorem en_X3_fits_1 : SndE EE S mi_X3_fits 1 (.inl (e_sti 3 4)) := sn_istore dX3_fits_1 rfl rfl (by decide)
theorem en_X3_fits_3 : SndE EE S mi_X3_fits 3 (.inl (e_ldi 4 3)) := sn_iload_n dX3_fits_3 rfl rfl
theorem en_X3_fits_4 : SndE EE S mi_X3_fits 4 (.inl (e_un 5 (fun x => -x))) := sn_ineg dX3_fits_4 rfl
theorem en_X3_fits_5 : SndE EE S mi_X3_fits 5 (.inl (e_sti 7 5)) := sn_istore dX3_fits_5 rfl rfl (by decide)
theorem en_X3_fits_7 : SndE EE S mi_X3_fits 7 (.inl (e_ldi 9 5)) := sn_iload dX3_fits_7 rfl
theorem en_X3_fits_9 : SndE EE S mi_X3_fits 9 (.inl (e_ldi 10 3)) := sn_iload_n dX3_fits_9 rfl rfl
theorem en_X3_fits_10 : SndE EE S mi_X3_fits 10 (.inl (e_igt 13 84)) := sn_igt dX3_fits_10 rfl (by decide)
theorem en_X3_fits_13 : SndE EE S mi_X3_fits 13 (.inl (e_ldi 15 4)) := sn_iload dX3_fits_13 rfl
theorem en_X3_fits_15 : SndE EE S mi_X3_fits 15 (.inl (e_zeq 18 84)) := sn_zeq dX3_fits_15 rfl (by decide)
theorem en_X3_fits_18 : SndE EE S mi_X3_fits 18 (.inl (e_ldi 19 3)) := sn_iload_n dX3_fits_18 rfl rfl
theorem en_X3_fits_19 : SndE EE S mi_X3_fits 19 (.inl (e_un 20 (fun x => -x))) := sn_ineg dX3_fits_19 rfl
theorem en_X3_fits_20 : SndE EE S mi_X3_fits 20 (.inl (e_sti 22 6)) := sn_istore dX3_fits_20 rfl rfl (by decide)
theorem en_X3_fits_22 : SndE EE S mi_X3_fits 22 (.inl (e_ldi 24 6)) := sn_iload dX3_fits_22 rfl
theorem en_X3_fits_24 : SndE EE S mi_X3_fits 24 (.inl (e_ldi 25 3)) := sn_iload_n dX3_fits_24 rfl rfl
theorem en_X3_fits_25 : SndE EE S mi_X3_fits 25 (.inl (e_igt 28 78)) := sn_igt dX3_fits_25 rfl (by decide)
theorem en_X3_fits_28 : SndE EE S mi_X3_fits 28 (.inl (e_ldi 30 4)) := sn_iload dX3_fits_28 rfl
theorem en_X3_fits_30 : SndE EE S mi_X3_fits 30 (.inl (e_zeq 33 78)) := sn_zeq dX3_fits_30 rfl (by decide)
theorem en_X3_fits_33 : SndE EE S mi_X3_fits 33 (.inl (e_ldi 35 5)) := sn_iload dX3_fits_33 rfl
theorem en_X3_fits_35 : SndE EE S mi_X3_fits 35 (.inl (e_ldi 37 5)) := sn_iload dX3_fits_35 rfl
theorem en_X3_fits_37 : SndE EE S mi_X3_fits 37 (.inl (e_bin 38 (fun x y => x * y))) := sn_imul dX3_fits_37 rfl
theorem en_X3_fits_38 : SndE EE S mi_X3_fits 38 (.inl (e_ldi 40 6)) := sn_iload dX3_fits_38 rfl
theorem en_X3_fits_40 : SndE EE S mi_X3_fits 40 (.inl (e_ldi 42 6)) := sn_iload dX3_fits_40 rfl
theorem en_X3_fits_42 : SndE EE S mi_X3_fits 42 (.inl (e_bin 43 (fun x y => x * y))) := sn_imul dX3_fits_42 rfl
theorem en_X3_fits_43 : SndE EE S mi_X3_fits 43 (.inl (e_bin 44 (fun x y => x + y))) := sn_iadd dX3_fits_43 rfl
theorem en_X3_fits_44 : SndE EE S mi_X3_fits 44 (.inl (e_ldi 45 3)) := sn_iload_n dX3_fits_44 rfl rfl
theorem en_X3_fits_45 : SndE EE S mi_X3_fits 45 (.inl (e_ldi 46 3)) := sn_iload_n dX3_fits_45 rfl rfl
theorem en_X3_fits_46 : SndE EE S mi_X3_fits 46 (.inl (e_bin 47 (fun x y => x * y))) := sn_imul dX3_fits_46 rfl
theorem en_X3_fits_47 : SndE EE S mi_X3_fits 47 (.inl (e_igt 50 65)) := sn_igt dX3_fits_47 rfl (by decide)
theorem en_X3_fits_50 : SndE EE S mi_X3_fits 50 (.inl (e_lda 51 0)) := sn_aload_n dX3_fits_50 rfl rfl
theorem en_X3_fits_51 : SndE EE S mi_X3_fits 51 (.inl (e_ldi 52 1)) := sn_iload_n dX3_fits_51 rfl rfl
theorem en_X3_fits_52 : SndE EE S mi_X3_fits 52 (.inl (e_ldi 54 5)) := sn_iload dX3_fits_52 rfl
theorem en_X3_fits_54 : SndE EE S mi_X3_fits 54 (.inl (e_bin 55 (fun x y => x + y))) := sn_iadd dX3_fits_54 rfl
theorem en_X3_fits_55 : SndE EE S mi_X3_fits 55 (.inl (e_ldi 56 2)) := sn_iload_n dX3_fits_55 rfl rfl
theorem en_X3_fits_56 : SndE EE S mi_X3_fits 56 (.inl (e_ldi 58 6)) := sn_iload dX3_fits_56 rfl
theorem en_X3_fits_58 : SndE EE S mi_X3_fits 58 (.inl (e_bin 59 (fun x y => x + y))) := sn_iadd dX3_fits_58 rfl
theorem en_X3_fits_59 : SndE EE S mi_X3_fits 59 (.inr (.inl (d_cls 3 52, 3, 3))) := sc_virt dX3_fits_59 (rcv_cls (r := (RX3, TX3, 61)) rfl ⟨mo_X3_isIn, nmo_X3_isIn, q1054, q1056, qs26⟩)
theorem en_X3_fits_62 : SndE EE S mi_X3_fits 62 (.inl (e_zeq 65 69)) := sn_zeq dX3_fits_62 rfl (by decide)
theorem en_X3_fits_65 : SndE EE S mi_X3_fits 65 (.inl (e_psh 66 (.int (1)))) := sn_iconst dX3_fits_65 rfl rfl
theorem en_X3_fits_66 : SndE EE S mi_X3_fits 66 (.inl (e_goto 70)) := sn_goto dX3_fits_66 (by decide)
theorem en_X3_fits_69 : SndE EE S mi_X3_fits 69 (.inl (e_psh 70 (.int (0)))) := sn_iconst dX3_fits_69 rfl rfl
theorem en_X3_fits_70 : SndE EE S mi_X3_fits 70 (.inl (e_sti 72 4)) := sn_istore dX3_fits_70 rfl rfl (by decide)
theorem en_X3_fits_72 : SndE EE S mi_X3_fits 72 (.inl (e_inc 75 6 (1))) := sn_iinc dX3_fits_72 rfl rfl rfl (by decide)
theorem en_X3_fits_75 : SndE EE S mi_X3_fits 75 (.inl (e_goto 22)) := sn_goto dX3_fits_75 (by decide)
theorem en_X3_fits_78 : SndE EE S mi_X3_fits 78 (.inl (e_inc 81 5 (1))) := sn_iinc dX3_fits_78 rfl rfl rfl (by decide)
theorem en_X3_fits_81 : SndE EE S mi_X3_fits 81 (.inl (e_goto 7)) := sn_goto dX3_fits_81 (by decide)
theorem en_X3_fits_84 : SndE EE S mi_X3_fits 84 (.inl (e_ldi 86 4)) := sn_iload dX3_fits_84 rfl
theorem en_X3_fits_86 : SndE EE S mi_X3_fits 86 (.inr (.inr 2)) := ⟨dX3_fits_86, rfl⟩
theorem sd_X3_fits : ∀ pc x, cd_X3_fits pc = some x → SndE EE S mi_X3_fits pc x := (tN_ok (tN_ok (tN_ok (tN_ok (tN_ok (tL_ok en_X3_fits_0) (tN_ok (tL_ok en_X3_fits_1) (tL_ok en_X3_fits_3))) (tN_ok (tL_ok en_X3_fits_4) (tN_ok (tL_ok en_X3_fits_5) (tL_ok en_X3_fits_7)))) (tN_ok (tN_ok (tL_ok en_X3_fits_9) (tN_ok (tL_ok en_X3_fits_10) (tL_ok en_X3_fits_13))) (tN_ok (tL_ok en_X3_fits_15) (tN_ok (tL_ok en_X3_fits_18) (tL_ok en_X3_fits_19))))) (tN_ok (tN_ok (tN_ok (tL_ok en_X3_fits_20) (tN_ok (tL_ok en_X3_fits_22) (tL_ok en_X3_fits_24))) (tN_ok (tL_ok en_X3_fits_25) (tN_ok (tL_ok en_X3_fits_28) (tL_ok en_X3_fits_30)))) (tN_ok (tN_ok (tL_ok en_X3_fits_33) (tN_ok (tL_ok en_X3_fits_35) (tL_ok en_X3_fits_37))) (tN_ok (tL_ok en_X3_fits_38) (tN_ok (tL_ok en_X3_fits_40) (tL_ok en_X3_fits_42)))))) (tN_ok (tN_ok (tN_ok (tN_ok (tL_ok en_X3_fits_43) (tN_ok (tL_ok en_X3_fits_44) (tL_ok en_X3_fits_45))) (tN_ok (tL_ok en_X3_fits_46) (tN_ok (tL_ok en_X3_fits_47) (tL_ok en_X3_fits_50)))) (tN_ok (tN_ok (tL_ok en_X3_fits_51) (tN_ok (tL_ok en_X3_fits_52) (tL_ok en_X3_fits_54))) (tN_ok (tL_ok en_X3_fits_55) (tN_ok (tL_ok en_X3_fits_56) (tL_ok en_X3_fits_58))))) (tN_ok (tN_ok (tN_ok (tL_ok en_X3_fits_59) (tN_ok (tL_ok en_X3_fits_62) (tL_ok en_X3_fits_65))) (tN_ok (tL_ok en_X3_fits_66) (tN_ok (tL_ok en_X3_fits_69) (tL_ok en_X3_fits_70)))) (tN_ok (tN_ok (tL_ok en_X3_fits_72) (tN_ok (tL_ok en_X3_fits_75) (tL_ok en_X3_fits_78))) (tN_ok (tL_ok en_X3_fits_81) (tN_ok (tL_ok en_X3_fits_84) (tL_ok en_X3_fits_86)))))))
theorem en_X3_isIn_0 : SndE EE S mi_X3_isIn 0 (.inl (e_ldi 1 1)) := sn_iload_n dX3_isIn_0 rfl rfl
theorem en_X3_isIn_1 : SndE EE S mi_X3_isIn 1 (.inl (e_zlt 4 38)) := sn_zlt dX3_isIn_1 rfl (by decide)
theorem en_X3_isIn_4 : SndE EE S mi_X3_isIn 4 (.inl (e_ldi 5 1)) := sn_iload_n dX3_isIn_4 rfl rfl
theorem en_X3_isIn_5 : SndE EE S mi_X3_isIn 5 (.inl (e_psh 7 (.int (24)))) := sn_bipush dX3_isIn_5 rfl rfl
theorem en_X3_isIn_7 : SndE EE S mi_X3_isIn 7 (.inl (e_ige 10 38)) := sn_ige dX3_isIn_7 rfl (by decide)
theorem en_X3_isIn_10 : SndE EE S mi_X3_isIn 10 (.inl (e_ldi 11 2)) := sn_iload_n dX3_isIn_10 rfl rfl
theorem en_X3_isIn_11 : SndE EE S mi_X3_isIn 11 (.inl (e_zlt 14 38)) := sn_zlt dX3_isIn_11 rfl (by decide)
theorem en_X3_isIn_14 : SndE EE S mi_X3_isIn 14 (.inl (e_ldi 15 2)) := sn_iload_n dX3_isIn_14 rfl rfl
theorem en_X3_isIn_15 : SndE EE S mi_X3_isIn 15 (.inl (e_psh 17 (.int (24)))) := sn_bipush dX3_isIn_15 rfl rfl
theorem en_X3_isIn_17 : SndE EE S mi_X3_isIn 17 (.inl (e_ige 20 38)) := sn_ige dX3_isIn_17 rfl (by decide)
theorem en_X3_isIn_20 : SndE EE S mi_X3_isIn 20 (.inl (e_lda 21 0)) := sn_aload_n dX3_isIn_20 rfl rfl
theorem en_X3_isIn_21 : SndE EE S mi_X3_isIn 21 (.inl (e_gR 24 3 0)) := sn_gR dX3_isIn_21 rfl cl_3 (by decide) rfl (Or.inl q853) (Or.inl rfl)
theorem en_X3_isIn_24 : SndE EE S mi_X3_isIn 24 (.inl (e_ldi 25 1)) := sn_iload_n dX3_isIn_24 rfl rfl
theorem en_X3_isIn_25 : SndE EE S mi_X3_isIn 25 (.inl (e_ald 26 1)) := sn_iald dX3_isIn_25 rfl
theorem en_X3_isIn_26 : SndE EE S mi_X3_isIn 26 (.inl (e_ldi 27 2)) := sn_iload_n dX3_isIn_26 rfl rfl
theorem en_X3_isIn_27 : SndE EE S mi_X3_isIn 27 (.inl (e_bin 28 (fun x y => x >>> (y &&& 31)))) := sn_ishr dX3_isIn_27 rfl
theorem en_X3_isIn_28 : SndE EE S mi_X3_isIn 28 (.inl (e_psh 29 (.int (1)))) := sn_iconst dX3_isIn_28 rfl rfl
theorem en_X3_isIn_29 : SndE EE S mi_X3_isIn 29 (.inl (e_bin 30 (fun x y => x &&& y))) := sn_iand dX3_isIn_29 rfl
theorem en_X3_isIn_30 : SndE EE S mi_X3_isIn 30 (.inl (e_psh 31 (.int (1)))) := sn_iconst dX3_isIn_30 rfl rfl
theorem en_X3_isIn_31 : SndE EE S mi_X3_isIn 31 (.inl (e_ine 34 38)) := sn_ine dX3_isIn_31 rfl (by decide)
theorem en_X3_isIn_34 : SndE EE S mi_X3_isIn 34 (.inl (e_psh 35 (.int (1)))) := sn_iconst dX3_isIn_34 rfl rfl
theorem en_X3_isIn_35 : SndE EE S mi_X3_isIn 35 (.inl (e_goto 39)) := sn_goto dX3_isIn_35 (by decide)
theorem en_X3_isIn_38 : SndE EE S mi_X3_isIn 38 (.inl (e_psh 39 (.int (0)))) := sn_iconst dX3_isIn_38 rfl rfl
theorem en_X3_isIn_39 : SndE EE S mi_X3_isIn 39 (.inr (.inr 2)) := ⟨dX3_isIn_39, rfl⟩
theorem sd_X3_isIn : ∀ pc x, cd_X3_isIn pc = some x → SndE EE S mi_X3_isIn pc x := (tN_ok (tN_ok (tN_ok (tN_ok (tL_ok en_X3_isIn_0) (tN_ok (tL_ok en_X3_isIn_1) (tL_ok en_X3_isIn_4))) (tN_ok (tL_ok en_X3_isIn_5) (tN_ok (tL_ok en_X3_isIn_7) (tL_ok en_X3_isIn_10)))) (tN_ok (tN_ok (tL_ok en_X3_isIn_11) (tN_ok (tL_ok en_X3_isIn_14) (tL_ok en_X3_isIn_15))) (tN_ok (tL_ok en_X3_isIn_17) (tN_ok (tL_ok en_X3_isIn_20) (tL_ok en_X3_isIn_21))))) (tN_ok (tN_ok (tN_ok (tL_ok en_X3_isIn_24) (tN_ok (tL_ok en_X3_isIn_25) (tL_ok en_X3_isIn_26))) (tN_ok (tL_ok en_X3_isIn_27) (tN_ok (tL_ok en_X3_isIn_28) (tL_ok en_X3_isIn_29)))) (tN_ok (tN_ok (tL_ok en_X3_isIn_30) (tN_ok (tL_ok en_X3_isIn_31) (tL_ok en_X3_isIn_34))) (tN_ok (tL_ok en_X3_isIn_35) (tN_ok (tL_ok en_X3_isIn_38) (tL_ok en_X3_isIn_39))))))
theorem en_X3_full_0 : SndE EE S mi_X3_full 0 (.inl (e_lda 1 0)) := sn_aload_n dX3_full_0 rfl rfl
theorem en_X3_full_1 : SndE EE S mi_X3_full 1 (.inr (.inl (d_cls 3 50, 1, 3))) := sc_virt dX3_full_1 (rcv_cls (r := (RX3, TX3, 61)) rfl ⟨mo_X3_seekCentre, nmo_X3_seekCentre, q1046, q1048, qs24⟩)
theorem en_X3_full_4 : SndE EE S mi_X3_full 4 (.inl (e_ldi 5 1)) := sn_iload_n dX3_full_4 rfl rfl
theorem en_X3_full_5 : SndE EE S mi_X3_full 5 (.inl (e_psh 6 (.int (1)))) := sn_iconst dX3_full_5 rfl rfl
theorem en_X3_full_6 : SndE EE S mi_X3_full 6 (.inl (e_ilt 9 34)) := sn_ilt dX3_full_6 rfl (by decide)
theorem en_X3_full_9 : SndE EE S mi_X3_full 9 (.inl (e_ldi 10 1)) := sn_iload_n dX3_full_9 rfl rfl
theorem en_X3_full_10 : SndE EE S mi_X3_full 10 (.inl (e_psh 13 (.int (200)))) := sn_sipush dX3_full_10 rfl rfl
theorem en_X3_full_13 : SndE EE S mi_X3_full 13 (.inl (e_igt 16 34)) := sn_igt dX3_full_13 rfl (by decide)
theorem en_X3_full_16 : SndE EE S mi_X3_full 16 (.inl (e_ldi 17 2)) := sn_iload_n dX3_full_16 rfl rfl
theorem en_X3_full_17 : SndE EE S mi_X3_full 17 (.inl (e_psh 18 (.int (1)))) := sn_iconst dX3_full_17 rfl rfl
theorem en_X3_full_18 : SndE EE S mi_X3_full 18 (.inl (e_ilt 21 34)) := sn_ilt dX3_full_18 rfl (by decide)
theorem en_X3_full_21 : SndE EE S mi_X3_full 21 (.inl (e_ldi 22 2)) := sn_iload_n dX3_full_21 rfl rfl
theorem en_X3_full_22 : SndE EE S mi_X3_full 22 (.inl (e_psh 24 (.int (50)))) := sn_bipush dX3_full_22 rfl rfl
theorem en_X3_full_24 : SndE EE S mi_X3_full 24 (.inl (e_igt 27 34)) := sn_igt dX3_full_24 rfl (by decide)
theorem en_X3_full_27 : SndE EE S mi_X3_full 27 (.inl (e_lda 28 0)) := sn_aload_n dX3_full_27 rfl rfl
theorem en_X3_full_28 : SndE EE S mi_X3_full 28 (.inl (e_gI 31 3 3)) := sn_gI dX3_full_28 rfl cl_3 (by decide) rfl (Or.inl q856) (Or.inl rfl)
theorem en_X3_full_31 : SndE EE S mi_X3_full 31 (.inl (e_zge 34 36)) := sn_zge dX3_full_31 rfl (by decide)
theorem en_X3_full_34 : SndE EE S mi_X3_full 34 (.inl (e_psh 35 (.int (-1)))) := sn_iconst dX3_full_34 rfl rfl
theorem en_X3_full_35 : SndE EE S mi_X3_full 35 (.inr (.inr 1)) := ⟨dX3_full_35, rfl⟩
theorem en_X3_full_36 : SndE EE S mi_X3_full 36 (.inl (e_psh 38 (.int (10)))) := sn_bipush dX3_full_36 rfl rfl
theorem en_X3_full_38 : SndE EE S mi_X3_full 38 (.inl (e_lda 39 0)) := sn_aload_n dX3_full_38 rfl rfl
theorem en_X3_full_39 : SndE EE S mi_X3_full 39 (.inl (e_gI 42 3 3)) := sn_gI dX3_full_39 rfl cl_3 (by decide) rfl (Or.inl q856) (Or.inl rfl)
theorem en_X3_full_42 : SndE EE S mi_X3_full 42 (.inl (e_bin 43 (fun x y => x * y))) := sn_imul dX3_full_42 rfl
theorem en_X3_full_43 : SndE EE S mi_X3_full 43 (.inl (e_psh 44 (.int (5)))) := sn_iconst dX3_full_43 rfl rfl
theorem en_X3_full_44 : SndE EE S mi_X3_full 44 (.inl (e_bin 45 (fun x y => x + y))) := sn_iadd dX3_full_44 rfl
theorem en_X3_full_45 : SndE EE S mi_X3_full 45 (.inl (e_sti 46 3)) := sn_istore_n dX3_full_45 rfl rfl rfl (by decide)
theorem en_X3_full_46 : SndE EE S mi_X3_full 46 (.inl (e_ldi 47 1)) := sn_iload_n dX3_full_46 rfl rfl
theorem en_X3_full_47 : SndE EE S mi_X3_full 47 (.inl (e_ldi 48 3)) := sn_iload_n dX3_full_47 rfl rfl
theorem en_X3_full_48 : SndE EE S mi_X3_full 48 (.inl (e_ilt 51 55)) := sn_ilt dX3_full_48 rfl (by decide)
theorem en_X3_full_51 : SndE EE S mi_X3_full 51 (.inl (e_psh 52 (.int (0)))) := sn_iconst dX3_full_51 rfl rfl
theorem en_X3_full_52 : SndE EE S mi_X3_full 52 (.inl (e_goto 70)) := sn_goto dX3_full_52 (by decide)
theorem en_X3_full_55 : SndE EE S mi_X3_full 55 (.inl (e_ldi 56 3)) := sn_iload_n dX3_full_55 rfl rfl
theorem en_X3_full_56 : SndE EE S mi_X3_full 56 (.inl (e_ldi 57 3)) := sn_iload_n dX3_full_56 rfl rfl
theorem en_X3_full_57 : SndE EE S mi_X3_full 57 (.inl (e_bin 58 (fun x y => x * y))) := sn_imul dX3_full_57 rfl
theorem en_X3_full_58 : SndE EE S mi_X3_full 58 (.inl (e_ldi 59 1)) := sn_iload_n dX3_full_58 rfl rfl
theorem en_X3_full_59 : SndE EE S mi_X3_full 59 (.inl (e_ldi 60 1)) := sn_iload_n dX3_full_59 rfl rfl
theorem en_X3_full_60 : SndE EE S mi_X3_full 60 (.inl (e_bin 61 (fun x y => x * y))) := sn_imul dX3_full_60 rfl
theorem en_X3_full_61 : SndE EE S mi_X3_full 61 (.inl (e_bin 62 (fun x y => x - y))) := sn_isub dX3_full_61 rfl
theorem en_X3_full_62 : SndE EE S mi_X3_full 62 (.inl (e_psh 64 (.int (22)))) := sn_bipush dX3_full_62 rfl rfl
theorem en_X3_full_64 : SndE EE S mi_X3_full 64 (.inl (e_bin 65 (fun x y => x * y))) := sn_imul dX3_full_64 rfl
theorem en_X3_full_65 : SndE EE S mi_X3_full 65 (.inl (e_psh 67 (.int (7)))) := sn_bipush dX3_full_65 rfl rfl
theorem en_X3_full_67 : SndE EE S mi_X3_full 67 (.inl (e_ldi 68 2)) := sn_iload_n dX3_full_67 rfl rfl
theorem en_X3_full_68 : SndE EE S mi_X3_full 68 (.inl (e_bin 69 (fun x y => x * y))) := sn_imul dX3_full_68 rfl
theorem en_X3_full_69 : SndE EE S mi_X3_full 69 (.inl (e_div 70)) := sn_idiv dX3_full_69 rfl
theorem en_X3_full_70 : SndE EE S mi_X3_full 70 (.inr (.inr 1)) := ⟨dX3_full_70, rfl⟩
theorem sd_X3_full : ∀ pc x, cd_X3_full pc = some x → SndE EE S mi_X3_full pc x := (tN_ok (tN_ok (tN_ok (tN_ok (tN_ok (tL_ok en_X3_full_0) (tL_ok en_X3_full_1)) (tN_ok (tL_ok en_X3_full_4) (tN_ok (tL_ok en_X3_full_5) (tL_ok en_X3_full_6)))) (tN_ok (tN_ok (tL_ok en_X3_full_9) (tN_ok (tL_ok en_X3_full_10) (tL_ok en_X3_full_13))) (tN_ok (tL_ok en_X3_full_16) (tN_ok (tL_ok en_X3_full_17) (tL_ok en_X3_full_18))))) (tN_ok (tN_ok (tN_ok (tL_ok en_X3_full_21) (tL_ok en_X3_full_22)) (tN_ok (tL_ok en_X3_full_24) (tN_ok (tL_ok en_X3_full_27) (tL_ok en_X3_full_28)))) (tN_ok (tN_ok (tL_ok en_X3_full_31) (tN_ok (tL_ok en_X3_full_34) (tL_ok en_X3_full_35))) (tN_ok (tL_ok en_X3_full_36) (tN_ok (tL_ok en_X3_full_38) (tL_ok en_X3_full_39)))))) (tN_ok (tN_ok (tN_ok (tN_ok (tL_ok en_X3_full_42) (tL_ok en_X3_full_43)) (tN_ok (tL_ok en_X3_full_44) (tN_ok (tL_ok en_X3_full_45) (tL_ok en_X3_full_46)))) (tN_ok (tN_ok (tL_ok en_X3_full_47) (tN_ok (tL_ok en_X3_full_48) (tL_ok en_X3_full_51))) (tN_ok (tL_ok en_X3_full_52) (tN_ok (tL_ok en_X3_full_55) (tL_ok en_X3_full_56))))) (tN_ok (tN_ok (tN_ok (tL_ok en_X3_full_57) (tN_ok (tL_ok en_X3_full_58) (tL_ok en_X3_full_59))) (tN_ok (tL_ok en_X3_full_60) (tN_ok (tL_ok en_X3_full_61) (tL_ok en_X3_full_62)))) (tN_ok (tN_ok (tL_ok en_X3_full_64) (tN_ok (tL_ok en_X3_full_65) (tL_ok en_X3_full_67))) (tN_ok (tL_ok en_X3_full_68) (tN_ok (tL_ok en_X3_full_69) (tL_ok en_X3_full_70)))))))
theorem en_X3_feed_0 : SndE EE S mi_X3_feed 0 (.inl (e_lda 1 0)) := sn_aload_n dX3_feed_0 rfl rfl
theorem en_X3_feed_1 : SndE EE S mi_X3_feed 1 (.inl (e_gI 4 3 5)) := sn_gI dX3_feed_1 rfl cl_3 (by decide) rfl (Or.inl q858) (Or.inl rfl)
theorem en_X3_feed_4 : SndE EE S mi_X3_feed 4 (.inl (e_psh 6 (.int (20)))) := sn_bipush dX3_feed_4 rfl rfl
theorem en_X3_feed_6 : SndE EE S mi_X3_feed 6 (.inl (e_bin 7 (fun x y => x + y))) := sn_iadd dX3_feed_6 rfl
theorem en_X3_feed_7 : SndE EE S mi_X3_feed 7 (.inl (e_psh 10 (.int (600)))) := sn_sipush dX3_feed_7 rfl rfl
theorem en_X3_feed_10 : SndE EE S mi_X3_feed 10 (.inl (e_ile 13 15)) := sn_ile dX3_feed_10 rfl (by decide)
theorem en_X3_feed_13 : SndE EE S mi_X3_feed 13 (.inl (e_psh 14 (.int (-1)))) := sn_iconst dX3_feed_13 rfl rfl
theorem en_X3_feed_14 : SndE EE S mi_X3_feed 14 (.inr (.inr 1)) := ⟨dX3_feed_14, rfl⟩
theorem en_X3_feed_15 : SndE EE S mi_X3_feed 15 (.inl (e_lda 16 0)) := sn_aload_n dX3_feed_15 rfl rfl
theorem en_X3_feed_16 : SndE EE S mi_X3_feed 16 (.inl (e_ldi 17 1)) := sn_iload_n dX3_feed_16 rfl rfl
theorem en_X3_feed_17 : SndE EE S mi_X3_feed 17 (.inr (.inl (d_cls 3 55, 2, 3))) := sc_virt dX3_feed_17 (rcv_cls (r := (RX3, TX3, 61)) rfl ⟨mo_X3_four, nmo_X3_four, q1066, q1068, qs27⟩)
theorem en_X3_feed_20 : SndE EE S mi_X3_feed 20 (.inl (e_lda 21 0)) := sn_aload_n dX3_feed_20 rfl rfl
theorem en_X3_feed_21 : SndE EE S mi_X3_feed 21 (.inl (e_ldi 22 2)) := sn_iload_n dX3_feed_21 rfl rfl
theorem en_X3_feed_22 : SndE EE S mi_X3_feed 22 (.inr (.inl (d_cls 3 55, 2, 3))) := sc_virt dX3_feed_22 (rcv_cls (r := (RX3, TX3, 61)) rfl ⟨mo_X3_four, nmo_X3_four, q1066, q1068, qs27⟩)
theorem en_X3_feed_25 : SndE EE S mi_X3_feed 25 (.inl (e_lda 26 0)) := sn_aload_n dX3_feed_25 rfl rfl
theorem en_X3_feed_26 : SndE EE S mi_X3_feed 26 (.inl (e_ldi 27 3)) := sn_iload_n dX3_feed_26 rfl rfl
theorem en_X3_feed_27 : SndE EE S mi_X3_feed 27 (.inr (.inl (d_cls 3 55, 2, 3))) := sc_virt dX3_feed_27 (rcv_cls (r := (RX3, TX3, 61)) rfl ⟨mo_X3_four, nmo_X3_four, q1066, q1068, qs27⟩)
theorem en_X3_feed_30 : SndE EE S mi_X3_feed 30 (.inl (e_lda 31 0)) := sn_aload_n dX3_feed_30 rfl rfl
theorem en_X3_feed_31 : SndE EE S mi_X3_feed 31 (.inl (e_ldi 33 4)) := sn_iload dX3_feed_31 rfl
theorem en_X3_feed_33 : SndE EE S mi_X3_feed 33 (.inr (.inl (d_cls 3 55, 2, 3))) := sc_virt dX3_feed_33 (rcv_cls (r := (RX3, TX3, 61)) rfl ⟨mo_X3_four, nmo_X3_four, q1066, q1068, qs27⟩)
theorem en_X3_feed_36 : SndE EE S mi_X3_feed 36 (.inl (e_lda 37 0)) := sn_aload_n dX3_feed_36 rfl rfl
theorem en_X3_feed_37 : SndE EE S mi_X3_feed 37 (.inl (e_ldi 39 5)) := sn_iload dX3_feed_37 rfl
theorem en_X3_feed_39 : SndE EE S mi_X3_feed 39 (.inr (.inl (d_cls 3 55, 2, 3))) := sc_virt dX3_feed_39 (rcv_cls (r := (RX3, TX3, 61)) rfl ⟨mo_X3_four, nmo_X3_four, q1066, q1068, qs27⟩)
theorem en_X3_feed_42 : SndE EE S mi_X3_feed 42 (.inl (e_lda 43 0)) := sn_aload_n dX3_feed_42 rfl rfl
theorem en_X3_feed_43 : SndE EE S mi_X3_feed 43 (.inl (e_gI 46 3 5)) := sn_gI dX3_feed_43 rfl cl_3 (by decide) rfl (Or.inl q858) (Or.inl rfl)
theorem en_X3_feed_46 : SndE EE S mi_X3_feed 46 (.inr (.inr 1)) := ⟨dX3_feed_46, rfl⟩
theorem sd_X3_feed : ∀ pc x, cd_X3_feed pc = some x → SndE EE S mi_X3_feed pc x := (tN_ok (tN_ok (tN_ok (tN_ok (tL_ok en_X3_feed_0) (tN_ok (tL_ok en_X3_feed_1) (tL_ok en_X3_feed_4))) (tN_ok (tL_ok en_X3_feed_6) (tN_ok (tL_ok en_X3_feed_7) (tL_ok en_X3_feed_10)))) (tN_ok (tN_ok (tL_ok en_X3_feed_13) (tN_ok (tL_ok en_X3_feed_14) (tL_ok en_X3_feed_15))) (tN_ok (tN_ok (tL_ok en_X3_feed_16) (tL_ok en_X3_feed_17)) (tN_ok (tL_ok en_X3_feed_20) (tL_ok en_X3_feed_21))))) (tN_ok (tN_ok (tN_ok (tL_ok en_X3_feed_22) (tN_ok (tL_ok en_X3_feed_25) (tL_ok en_X3_feed_26))) (tN_ok (tL_ok en_X3_feed_27) (tN_ok (tL_ok en_X3_feed_30) (tL_ok en_X3_feed_31)))) (tN_ok (tN_ok (tL_ok en_X3_feed_33) (tN_ok (tL_ok en_X3_feed_36) (tL_ok en_X3_feed_37))) (tN_ok (tN_ok (tL_ok en_X3_feed_39) (tL_ok en_X3_feed_42)) (tN_ok (tL_ok en_X3_feed_43) (tL_ok en_X3_feed_46))))))
theorem en_X3_four_0 : SndE EE S mi_X3_four 0 (.inl (e_psh 2 (.int (24)))) := sn_bipush dX3_four_0 rfl rfl
theorem en_X3_four_2 : SndE EE S mi_X3_four 2 (.inl (e_sti 3 2)) := sn_istore_n dX3_four_2 rfl rfl rfl (by decide)
theorem en_X3_four_3 : SndE EE S mi_X3_four 3 (.inl (e_ldi 4 2)) := sn_iload_n dX3_four_3 rfl rfl
theorem en_X3_four_4 : SndE EE S mi_X3_four 4 (.inl (e_zlt 7 39)) := sn_zlt dX3_four_4 rfl (by decide)
theorem en_X3_four_7 : SndE EE S mi_X3_four 7 (.inl (e_lda 8 0)) := sn_aload_n dX3_four_7 rfl rfl
theorem en_X3_four_8 : SndE EE S mi_X3_four 8 (.inl (e_gR 11 3 4)) := sn_gR dX3_four_8 rfl cl_3 (by decide) rfl (Or.inl q857) (Or.inl rfl)
theorem en_X3_four_11 : SndE EE S mi_X3_four 11 (.inl (e_lda 12 0)) := sn_aload_n dX3_four_11 rfl rfl
theorem en_X3_four_12 : SndE EE S mi_X3_four 12 (.inl (e_gI 15 3 5)) := sn_gI dX3_four_12 rfl cl_3 (by decide) rfl (Or.inl q858) (Or.inl rfl)
theorem en_X3_four_15 : SndE EE S mi_X3_four 15 (.inl (e_ldi 16 1)) := sn_iload_n dX3_four_15 rfl rfl
theorem en_X3_four_16 : SndE EE S mi_X3_four 16 (.inl (e_ldi 17 2)) := sn_iload_n dX3_four_16 rfl rfl
theorem en_X3_four_17 : SndE EE S mi_X3_four 17 (.inl (e_bin 18 (fun x y => x >>> (y &&& 31)))) := sn_ishr dX3_four_17 rfl
theorem en_X3_four_18 : SndE EE S mi_X3_four 18 (.inl (e_psh 21 (.int (255)))) := sn_sipush dX3_four_18 rfl rfl
theorem en_X3_four_21 : SndE EE S mi_X3_four 21 (.inl (e_bin 22 (fun x y => x &&& y))) := sn_iand dX3_four_21 rfl
theorem en_X3_four_22 : SndE EE S mi_X3_four 22 (.inl (e_iast 23)) := sn_iast dX3_four_22 rfl
theorem en_X3_four_23 : SndE EE S mi_X3_four 23 (.inl (e_lda 24 0)) := sn_aload_n dX3_four_23 rfl rfl
theorem en_X3_four_24 : SndE EE S mi_X3_four 24 (.inl (e_dup 25)) := sn_dup dX3_four_24 rfl
theorem en_X3_four_25 : SndE EE S mi_X3_four 25 (.inl (e_gI 28 3 5)) := sn_gI dX3_four_25 rfl cl_3 (by decide) rfl (Or.inl q858) (Or.inl rfl)
theorem en_X3_four_28 : SndE EE S mi_X3_four 28 (.inl (e_psh 29 (.int (1)))) := sn_iconst dX3_four_28 rfl rfl
theorem en_X3_four_29 : SndE EE S mi_X3_four 29 (.inl (e_bin 30 (fun x y => x + y))) := sn_iadd dX3_four_29 rfl
theorem en_X3_four_30 : SndE EE S mi_X3_four 30 (.inl (e_pI 33 3 5)) := sn_pI dX3_four_30 rfl cl_3 (by decide) rfl (Or.inl ⟨q858, Or.inl rfl⟩) (Or.inl rfl) (fun _ => ⟨rfl, rfl⟩)
theorem en_X3_four_33 : SndE EE S mi_X3_four 33 (.inl (e_inc 36 2 (-8))) := sn_iinc dX3_four_33 rfl rfl rfl (by decide)
theorem en_X3_four_36 : SndE EE S mi_X3_four 36 (.inl (e_goto 3)) := sn_goto dX3_four_36 (by decide)
theorem en_X3_four_39 : SndE EE S mi_X3_four 39 (.inr (.inr 0)) := ⟨dX3_four_39, rfl⟩
theorem sd_X3_four : ∀ pc x, cd_X3_four pc = some x → SndE EE S mi_X3_four pc x := (tN_ok (tN_ok (tN_ok (tN_ok (tL_ok en_X3_four_0) (tL_ok en_X3_four_2)) (tN_ok (tL_ok en_X3_four_3) (tN_ok (tL_ok en_X3_four_4) (tL_ok en_X3_four_7)))) (tN_ok (tN_ok (tL_ok en_X3_four_8) (tN_ok (tL_ok en_X3_four_11) (tL_ok en_X3_four_12))) (tN_ok (tL_ok en_X3_four_15) (tN_ok (tL_ok en_X3_four_16) (tL_ok en_X3_four_17))))) (tN_ok (tN_ok (tN_ok (tL_ok en_X3_four_18) (tN_ok (tL_ok en_X3_four_21) (tL_ok en_X3_four_22))) (tN_ok (tL_ok en_X3_four_23) (tN_ok (tL_ok en_X3_four_24) (tL_ok en_X3_four_25)))) (tN_ok (tN_ok (tL_ok en_X3_four_28) (tN_ok (tL_ok en_X3_four_29) (tL_ok en_X3_four_30))) (tN_ok (tL_ok en_X3_four_33) (tN_ok (tL_ok en_X3_four_36) (tL_ok en_X3_four_39))))))
theorem en_X3_end_0 : SndE EE S mi_X3_end 0 (.inl (e_ldi 1 1)) := sn_iload_n dX3_end_0 rfl rfl
theorem en_X3_end_1 : SndE EE S mi_X3_end 1 (.inl (e_zlt 4 12)) := sn_zlt dX3_end_1 rfl (by decide)
theorem en_X3_end_4 : SndE EE S mi_X3_end 4 (.inl (e_ldi 5 1)) := sn_iload_n dX3_end_4 rfl rfl
theorem en_X3_end_5 : SndE EE S mi_X3_end 5 (.inl (e_lda 6 0)) := sn_aload_n dX3_end_5 rfl rfl
theorem en_X3_end_6 : SndE EE S mi_X3_end 6 (.inl (e_gI 9 3 5)) := sn_gI dX3_end_6 rfl cl_3 (by decide) rfl (Or.inl q858) (Or.inl rfl)
theorem en_X3_end_9 : SndE EE S mi_X3_end 9 (.inl (e_ile 12 14)) := sn_ile dX3_end_9 rfl (by decide)
theorem en_X3_end_12 : SndE EE S mi_X3_end 12 (.inl (e_psh 13 (.int (-1)))) := sn_iconst dX3_end_12 rfl rfl
theorem en_X3_end_13 : SndE EE S mi_X3_end 13 (.inr (.inr 1)) := ⟨dX3_end_13, rfl⟩
theorem en_X3_end_14 : SndE EE S mi_X3_end 14 (.inl (e_lda 15 0)) := sn_aload_n dX3_end_14 rfl rfl
theorem en_X3_end_15 : SndE EE S mi_X3_end 15 (.inl (e_ldi 16 1)) := sn_iload_n dX3_end_15 rfl rfl
theorem en_X3_end_16 : SndE EE S mi_X3_end 16 (.inl (e_pI 19 3 5)) := sn_pI dX3_end_16 rfl cl_3 (by decide) rfl (Or.inl ⟨q858, Or.inl rfl⟩) (Or.inl rfl) (fun _ => ⟨rfl, rfl⟩)
theorem en_X3_end_19 : SndE EE S mi_X3_end 19 (.inl (e_ldi 20 1)) := sn_iload_n dX3_end_19 rfl rfl
theorem en_X3_end_20 : SndE EE S mi_X3_end 20 (.inr (.inr 1)) := ⟨dX3_end_20, rfl⟩
theorem sd_X3_end : ∀ pc x, cd_X3_end pc = some x → SndE EE S mi_X3_end pc x := (tN_ok (tN_ok (tN_ok (tL_ok en_X3_end_0) (tN_ok (tL_ok en_X3_end_1) (tL_ok en_X3_end_4))) (tN_ok (tL_ok en_X3_end_5) (tN_ok (tL_ok en_X3_end_6) (tL_ok en_X3_end_9)))) (tN_ok (tN_ok (tL_ok en_X3_end_12) (tN_ok (tL_ok en_X3_end_13) (tL_ok en_X3_end_14))) (tN_ok (tN_ok (tL_ok en_X3_end_15) (tL_ok en_X3_end_16)) (tN_ok (tL_ok en_X3_end_19) (tL_ok en_X3_end_20)))))
theorem en_X3_grades_0 : SndE EE S mi_X3_grades 0 (.inl (e_lda 1 0)) := sn_aload_n dX3_grades_0 rfl rfl
theorem en_X3_grades_1 : SndE EE S mi_X3_grades 1 (.inr (.inl (d_cls 3 58, 1, 3))) := sc_virt dX3_grades_1 (rcv_cls (r := (RX3, TX3, 61)) rfl ⟨mo_X3_begin, nmo_X3_begin, q1078, q1080, qs28⟩)
theorem en_X3_grades_4 : SndE EE S mi_X3_grades 4 (.inl (e_lda 5 0)) := sn_aload_n dX3_grades_4 rfl rfl
theorem en_X3_grades_5 : SndE EE S mi_X3_grades 5 (.inl (e_psh 6 (.int (0)))) := sn_iconst dX3_grades_5 rfl rfl
theorem en_X3_grades_6 : SndE EE S mi_X3_grades 6 (.inl (e_pI 9 3 20)) := sn_pI dX3_grades_6 rfl cl_3 (by decide) rfl (Or.inl ⟨q873, Or.inl rfl⟩) (Or.inl rfl) (fun _ => ⟨rfl, rfl⟩)
theorem en_X3_grades_9 : SndE EE S mi_X3_grades 9 (.inl (e_lda 10 0)) := sn_aload_n dX3_grades_9 rfl rfl
theorem en_X3_grades_10 : SndE EE S mi_X3_grades 10 (.inl (e_psh 11 (.int (0)))) := sn_iconst dX3_grades_10 rfl rfl
theorem en_X3_grades_11 : SndE EE S mi_X3_grades 11 (.inl (e_pI 14 3 21)) := sn_pI dX3_grades_11 rfl cl_3 (by decide) rfl (Or.inl ⟨q874, Or.inl rfl⟩) (Or.inl rfl) (fun _ => ⟨rfl, rfl⟩)
theorem en_X3_grades_14 : SndE EE S mi_X3_grades 14 (.inl (e_lda 15 0)) := sn_aload_n dX3_grades_14 rfl rfl
theorem en_X3_grades_15 : SndE EE S mi_X3_grades 15 (.inl (e_psh 16 (.int (0)))) := sn_iconst dX3_grades_15 rfl rfl
theorem en_X3_grades_16 : SndE EE S mi_X3_grades 16 (.inl (e_pI 19 3 22)) := sn_pI dX3_grades_16 rfl cl_3 (by decide) rfl (Or.inl ⟨q875, Or.inl rfl⟩) (Or.inl rfl) (fun _ => ⟨rfl, rfl⟩)
theorem en_X3_grades_19 : SndE EE S mi_X3_grades 19 (.inl (e_lda 20 0)) := sn_aload_n dX3_grades_19 rfl rfl
theorem en_X3_grades_20 : SndE EE S mi_X3_grades 20 (.inr (.inl (d_cls 3 59, 1, 3))) := sc_virt dX3_grades_20 (rcv_cls (r := (RX3, TX3, 61)) rfl ⟨mo_X3_next, nmo_X3_next, q1082, q1084, qs29⟩)
theorem en_X3_grades_23 : SndE EE S mi_X3_grades 23 (.inl (e_lda 24 0)) := sn_aload_n dX3_grades_23 rfl rfl
theorem en_X3_grades_24 : SndE EE S mi_X3_grades 24 (.inl (e_gI 27 3 6)) := sn_gI dX3_grades_24 rfl cl_3 (by decide) rfl (Or.inl q859) (Or.inl rfl)
theorem en_X3_grades_27 : SndE EE S mi_X3_grades 27 (.inl (e_zne 30 233)) := sn_zne dX3_grades_27 rfl (by decide)
theorem en_X3_grades_30 : SndE EE S mi_X3_grades 30 (.inl (e_lda 31 0)) := sn_aload_n dX3_grades_30 rfl rfl
theorem en_X3_grades_31 : SndE EE S mi_X3_grades 31 (.inl (e_gI 34 3 10)) := sn_gI dX3_grades_31 rfl cl_3 (by decide) rfl (Or.inl q863) (Or.inl rfl)
theorem en_X3_grades_34 : SndE EE S mi_X3_grades 34 (.inl (e_zeq 37 233)) := sn_zeq dX3_grades_34 rfl (by decide)
theorem en_X3_grades_37 : SndE EE S mi_X3_grades 37 (.inl (e_lda 38 0)) := sn_aload_n dX3_grades_37 rfl rfl
theorem en_X3_grades_38 : SndE EE S mi_X3_grades 38 (.inl (e_psh 41 (.long (444300616805)))) := sn_ldc2 dX3_grades_38 rfl q1099
theorem en_X3_grades_41 : SndE EE S mi_X3_grades 41 (.inr (.inl (d_cls 3 64, 2, 3))) := sc_virt dX3_grades_41 (rcv_cls (r := (RX3, TX3, 61)) rfl ⟨mo_X3_isWord, nmo_X3_isWord, q1100, q1102, qs31⟩)
theorem en_X3_grades_44 : SndE EE S mi_X3_grades 44 (.inl (e_zeq 47 56)) := sn_zeq dX3_grades_44 rfl (by decide)
theorem en_X3_grades_47 : SndE EE S mi_X3_grades 47 (.inl (e_lda 48 0)) := sn_aload_n dX3_grades_47 rfl rfl
theorem en_X3_grades_48 : SndE EE S mi_X3_grades 48 (.inl (e_gI 51 3 20)) := sn_gI dX3_grades_48 rfl cl_3 (by decide) rfl (Or.inl q873) (Or.inl rfl)
theorem en_X3_grades_51 : SndE EE S mi_X3_grades 51 (.inl (e_psh 53 (.int (8)))) := sn_bipush dX3_grades_51 rfl rfl
theorem en_X3_grades_53 : SndE EE S mi_X3_grades 53 (.inl (e_ine 56 61)) := sn_ine dX3_grades_53 rfl (by decide)
theorem en_X3_grades_56 : SndE EE S mi_X3_grades 56 (.inl (e_lda 57 0)) := sn_aload_n dX3_grades_56 rfl rfl
theorem en_X3_grades_57 : SndE EE S mi_X3_grades 57 (.inl (e_psh 58 (.int (2)))) := sn_iconst dX3_grades_57 rfl rfl
theorem en_X3_grades_58 : SndE EE S mi_X3_grades 58 (.inr (.inl (d_cls 3 65, 2, 3))) := sc_virt dX3_grades_58 (rcv_cls (r := (RX3, TX3, 61)) rfl ⟨mo_X3_wrong, nmo_X3_wrong, q1104, q1106, qs32⟩)
theorem en_X3_grades_61 : SndE EE S mi_X3_grades 61 (.inl (e_lda 62 0)) := sn_aload_n dX3_grades_61 rfl rfl
theorem en_X3_grades_62 : SndE EE S mi_X3_grades 62 (.inl (e_gI 65 3 6)) := sn_gI dX3_grades_62 rfl cl_3 (by decide) rfl (Or.inl q859) (Or.inl rfl)
theorem en_X3_grades_65 : SndE EE S mi_X3_grades 65 (.inl (e_zle 68 70)) := sn_zle dX3_grades_65 rfl (by decide)
theorem en_X3_grades_68 : SndE EE S mi_X3_grades 68 (.inl (e_psh 69 (.int (-1)))) := sn_iconst dX3_grades_68 rfl rfl
theorem en_X3_grades_69 : SndE EE S mi_X3_grades 69 (.inr (.inr 1)) := ⟨dX3_grades_69, rfl⟩
theorem en_X3_grades_70 : SndE EE S mi_X3_grades 70 (.inl (e_lda 71 0)) := sn_aload_n dX3_grades_70 rfl rfl
theorem en_X3_grades_71 : SndE EE S mi_X3_grades 71 (.inr (.inl (d_cls 3 59, 1, 3))) := sc_virt dX3_grades_71 (rcv_cls (r := (RX3, TX3, 61)) rfl ⟨mo_X3_next, nmo_X3_next, q1082, q1084, qs29⟩)
theorem en_X3_grades_74 : SndE EE S mi_X3_grades 74 (.inl (e_lda 75 0)) := sn_aload_n dX3_grades_74 rfl rfl
theorem en_X3_grades_75 : SndE EE S mi_X3_grades 75 (.inl (e_psh 76 (.int (1)))) := sn_iconst dX3_grades_75 rfl rfl
theorem en_X3_grades_76 : SndE EE S mi_X3_grades 76 (.inl (e_psh 78 (.int (100)))) := sn_bipush dX3_grades_76 rfl rfl
theorem en_X3_grades_78 : SndE EE S mi_X3_grades 78 (.inr (.inl (d_cls 3 66, 3, 3))) := sc_virt dX3_grades_78 (rcv_cls (r := (RX3, TX3, 61)) rfl ⟨mo_X3_told, nmo_X3_told, q1108, q1110, qs33⟩)
theorem en_X3_grades_81 : SndE EE S mi_X3_grades 81 (.inl (e_sti 82 1)) := sn_istore_n dX3_grades_81 rfl rfl rfl (by decide)
theorem en_X3_grades_82 : SndE EE S mi_X3_grades 82 (.inl (e_lda 83 0)) := sn_aload_n dX3_grades_82 rfl rfl
theorem en_X3_grades_83 : SndE EE S mi_X3_grades 83 (.inl (e_gI 86 3 6)) := sn_gI dX3_grades_83 rfl cl_3 (by decide) rfl (Or.inl q859) (Or.inl rfl)
theorem en_X3_grades_86 : SndE EE S mi_X3_grades 86 (.inl (e_zne 89 104)) := sn_zne dX3_grades_86 rfl (by decide)
theorem en_X3_grades_89 : SndE EE S mi_X3_grades 89 (.inl (e_lda 90 0)) := sn_aload_n dX3_grades_89 rfl rfl
theorem en_X3_grades_90 : SndE EE S mi_X3_grades 90 (.inl (e_psh 93 (.long (512970880104)))) := sn_ldc2 dX3_grades_90 rfl q1112
theorem en_X3_grades_93 : SndE EE S mi_X3_grades 93 (.inr (.inl (d_cls 3 64, 2, 3))) := sc_virt dX3_grades_93 (rcv_cls (r := (RX3, TX3, 61)) rfl ⟨mo_X3_isWord, nmo_X3_isWord, q1100, q1102, qs31⟩)
theorem en_X3_grades_96 : SndE EE S mi_X3_grades 96 (.inl (e_zne 99 104)) := sn_zne dX3_grades_96 rfl (by decide)
theorem en_X3_grades_99 : SndE EE S mi_X3_grades 99 (.inl (e_lda 100 0)) := sn_aload_n dX3_grades_99 rfl rfl
theorem en_X3_grades_100 : SndE EE S mi_X3_grades 100 (.inl (e_psh 101 (.int (2)))) := sn_iconst dX3_grades_100 rfl rfl
theorem en_X3_grades_101 : SndE EE S mi_X3_grades 101 (.inr (.inl (d_cls 3 65, 2, 3))) := sc_virt dX3_grades_101 (rcv_cls (r := (RX3, TX3, 61)) rfl ⟨mo_X3_wrong, nmo_X3_wrong, q1104, q1106, qs32⟩)
theorem en_X3_grades_104 : SndE EE S mi_X3_grades 104 (.inl (e_lda 105 0)) := sn_aload_n dX3_grades_104 rfl rfl
theorem en_X3_grades_105 : SndE EE S mi_X3_grades 105 (.inl (e_gI 108 3 6)) := sn_gI dX3_grades_105 rfl cl_3 (by decide) rfl (Or.inl q859) (Or.inl rfl)
theorem en_X3_grades_108 : SndE EE S mi_X3_grades 108 (.inl (e_zle 111 113)) := sn_zle dX3_grades_108 rfl (by decide)
theorem en_X3_grades_111 : SndE EE S mi_X3_grades 111 (.inl (e_psh 112 (.int (-1)))) := sn_iconst dX3_grades_111 rfl rfl
theorem en_X3_grades_112 : SndE EE S mi_X3_grades 112 (.inr (.inr 1)) := ⟨dX3_grades_112, rfl⟩
theorem en_X3_grades_113 : SndE EE S mi_X3_grades 113 (.inl (e_lda 114 0)) := sn_aload_n dX3_grades_113 rfl rfl
theorem en_X3_grades_114 : SndE EE S mi_X3_grades 114 (.inr (.inl (d_cls 3 59, 1, 3))) := sc_virt dX3_grades_114 (rcv_cls (r := (RX3, TX3, 61)) rfl ⟨mo_X3_next, nmo_X3_next, q1082, q1084, qs29⟩)
theorem en_X3_grades_117 : SndE EE S mi_X3_grades 117 (.inl (e_lda 118 0)) := sn_aload_n dX3_grades_117 rfl rfl
theorem en_X3_grades_118 : SndE EE S mi_X3_grades 118 (.inl (e_psh 119 (.int (1)))) := sn_iconst dX3_grades_118 rfl rfl
theorem en_X3_grades_119 : SndE EE S mi_X3_grades 119 (.inl (e_psh 122 (.int (9999)))) := sn_sipush dX3_grades_119 rfl rfl
theorem en_X3_grades_122 : SndE EE S mi_X3_grades 122 (.inr (.inl (d_cls 3 66, 3, 3))) := sc_virt dX3_grades_122 (rcv_cls (r := (RX3, TX3, 61)) rfl ⟨mo_X3_told, nmo_X3_told, q1108, q1110, qs33⟩)
theorem en_X3_grades_125 : SndE EE S mi_X3_grades 125 (.inl (e_sti 126 2)) := sn_istore_n dX3_grades_125 rfl rfl rfl (by decide)
theorem en_X3_grades_126 : SndE EE S mi_X3_grades 126 (.inl (e_lda 127 0)) := sn_aload_n dX3_grades_126 rfl rfl
theorem en_X3_grades_127 : SndE EE S mi_X3_grades 127 (.inl (e_gI 130 3 6)) := sn_gI dX3_grades_127 rfl cl_3 (by decide) rfl (Or.inl q859) (Or.inl rfl)
theorem en_X3_grades_130 : SndE EE S mi_X3_grades 130 (.inl (e_zle 133 135)) := sn_zle dX3_grades_130 rfl (by decide)
theorem en_X3_grades_133 : SndE EE S mi_X3_grades 133 (.inl (e_psh 134 (.int (-1)))) := sn_iconst dX3_grades_133 rfl rfl
theorem en_X3_grades_134 : SndE EE S mi_X3_grades 134 (.inr (.inr 1)) := ⟨dX3_grades_134, rfl⟩
theorem en_X3_grades_135 : SndE EE S mi_X3_grades 135 (.inl (e_lda 136 0)) := sn_aload_n dX3_grades_135 rfl rfl
theorem en_X3_grades_136 : SndE EE S mi_X3_grades 136 (.inl (e_gR 139 3 23)) := sn_gR dX3_grades_136 rfl cl_3 (by decide) rfl (Or.inl q876) (Or.inl rfl)
theorem en_X3_grades_139 : SndE EE S mi_X3_grades 139 (.inl (e_lda 140 0)) := sn_aload_n dX3_grades_139 rfl rfl
theorem en_X3_grades_140 : SndE EE S mi_X3_grades 140 (.inl (e_gI 143 3 20)) := sn_gI dX3_grades_140 rfl cl_3 (by decide) rfl (Or.inl q873) (Or.inl rfl)
theorem en_X3_grades_143 : SndE EE S mi_X3_grades 143 (.inl (e_ldi 144 1)) := sn_iload_n dX3_grades_143 rfl rfl
theorem en_X3_grades_144 : SndE EE S mi_X3_grades 144 (.inl (e_iast 145)) := sn_iast dX3_grades_144 rfl
theorem en_X3_grades_145 : SndE EE S mi_X3_grades 145 (.inl (e_lda 146 0)) := sn_aload_n dX3_grades_145 rfl rfl
theorem en_X3_grades_146 : SndE EE S mi_X3_grades 146 (.inl (e_gR 149 3 24)) := sn_gR dX3_grades_146 rfl cl_3 (by decide) rfl (Or.inl q877) (Or.inl rfl)
theorem en_X3_grades_149 : SndE EE S mi_X3_grades 149 (.inl (e_lda 150 0)) := sn_aload_n dX3_grades_149 rfl rfl
theorem en_X3_grades_150 : SndE EE S mi_X3_grades 150 (.inl (e_gI 153 3 20)) := sn_gI dX3_grades_150 rfl cl_3 (by decide) rfl (Or.inl q873) (Or.inl rfl)
theorem en_X3_grades_153 : SndE EE S mi_X3_grades 153 (.inl (e_ldi 154 2)) := sn_iload_n dX3_grades_153 rfl rfl
theorem en_X3_grades_154 : SndE EE S mi_X3_grades 154 (.inl (e_iast 155)) := sn_iast dX3_grades_154 rfl
theorem en_X3_grades_155 : SndE EE S mi_X3_grades 155 (.inl (e_lda 156 0)) := sn_aload_n dX3_grades_155 rfl rfl
theorem en_X3_grades_156 : SndE EE S mi_X3_grades 156 (.inl (e_gR 159 3 27)) := sn_gR dX3_grades_156 rfl cl_3 (by decide) rfl (Or.inl q880) (Or.inl rfl)
theorem en_X3_grades_159 : SndE EE S mi_X3_grades 159 (.inl (e_lda 160 0)) := sn_aload_n dX3_grades_159 rfl rfl
theorem en_X3_grades_160 : SndE EE S mi_X3_grades 160 (.inl (e_gI 163 3 20)) := sn_gI dX3_grades_160 rfl cl_3 (by decide) rfl (Or.inl q873) (Or.inl rfl)
theorem en_X3_grades_163 : SndE EE S mi_X3_grades 163 (.inl (e_lda 164 0)) := sn_aload_n dX3_grades_163 rfl rfl
theorem en_X3_grades_164 : SndE EE S mi_X3_grades 164 (.inl (e_gI 167 3 21)) := sn_gI dX3_grades_164 rfl cl_3 (by decide) rfl (Or.inl q874) (Or.inl rfl)
theorem en_X3_grades_167 : SndE EE S mi_X3_grades 167 (.inl (e_iast 168)) := sn_iast dX3_grades_167 rfl
theorem en_X3_grades_168 : SndE EE S mi_X3_grades 168 (.inl (e_lda 169 0)) := sn_aload_n dX3_grades_168 rfl rfl
theorem en_X3_grades_169 : SndE EE S mi_X3_grades 169 (.inl (e_psh 172 (.long (2003330414)))) := sn_ldc2 dX3_grades_169 rfl q1113
theorem en_X3_grades_172 : SndE EE S mi_X3_grades 172 (.inr (.inl (d_cls 3 64, 2, 3))) := sc_virt dX3_grades_172 (rcv_cls (r := (RX3, TX3, 61)) rfl ⟨mo_X3_isWord, nmo_X3_isWord, q1100, q1102, qs31⟩)
theorem en_X3_grades_175 : SndE EE S mi_X3_grades 175 (.inl (e_zeq 178 186)) := sn_zeq dX3_grades_175 rfl (by decide)
theorem en_X3_grades_178 : SndE EE S mi_X3_grades 178 (.inl (e_lda 179 0)) := sn_aload_n dX3_grades_178 rfl rfl
theorem en_X3_grades_179 : SndE EE S mi_X3_grades 179 (.inr (.inl (d_cls 3 59, 1, 3))) := sc_virt dX3_grades_179 (rcv_cls (r := (RX3, TX3, 61)) rfl ⟨mo_X3_next, nmo_X3_next, q1082, q1084, qs29⟩)
theorem en_X3_grades_182 : SndE EE S mi_X3_grades 182 (.inl (e_lda 183 0)) := sn_aload_n dX3_grades_182 rfl rfl
theorem en_X3_grades_183 : SndE EE S mi_X3_grades 183 (.inr (.inl (d_cls 3 67, 1, 3))) := sc_virt dX3_grades_183 (rcv_cls (r := (RX3, TX3, 61)) rfl ⟨mo_X3_readE, nmo_X3_readE, q1114, q1116, qs34⟩)
theorem en_X3_grades_186 : SndE EE S mi_X3_grades 186 (.inl (e_lda 187 0)) := sn_aload_n dX3_grades_186 rfl rfl
theorem en_X3_grades_187 : SndE EE S mi_X3_grades 187 (.inl (e_gI 190 3 6)) := sn_gI dX3_grades_187 rfl cl_3 (by decide) rfl (Or.inl q859) (Or.inl rfl)
theorem en_X3_grades_190 : SndE EE S mi_X3_grades 190 (.inl (e_zne 193 207)) := sn_zne dX3_grades_190 rfl (by decide)
theorem en_X3_grades_193 : SndE EE S mi_X3_grades 193 (.inl (e_lda 194 0)) := sn_aload_n dX3_grades_193 rfl rfl
theorem en_X3_grades_194 : SndE EE S mi_X3_grades 194 (.inl (e_gI 197 3 10)) := sn_gI dX3_grades_194 rfl cl_3 (by decide) rfl (Or.inl q863) (Or.inl rfl)
theorem en_X3_grades_197 : SndE EE S mi_X3_grades 197 (.inl (e_psh 199 (.int (59)))) := sn_bipush dX3_grades_197 rfl rfl
theorem en_X3_grades_199 : SndE EE S mi_X3_grades 199 (.inl (e_ieq 202 207)) := sn_ieq dX3_grades_199 rfl (by decide)
theorem en_X3_grades_202 : SndE EE S mi_X3_grades 202 (.inl (e_lda 203 0)) := sn_aload_n dX3_grades_202 rfl rfl
theorem en_X3_grades_203 : SndE EE S mi_X3_grades 203 (.inl (e_psh 204 (.int (2)))) := sn_iconst dX3_grades_203 rfl rfl
theorem en_X3_grades_204 : SndE EE S mi_X3_grades 204 (.inr (.inl (d_cls 3 65, 2, 3))) := sc_virt dX3_grades_204 (rcv_cls (r := (RX3, TX3, 61)) rfl ⟨mo_X3_wrong, nmo_X3_wrong, q1104, q1106, qs32⟩)
theorem en_X3_grades_207 : SndE EE S mi_X3_grades 207 (.inl (e_lda 208 0)) := sn_aload_n dX3_grades_207 rfl rfl
theorem en_X3_grades_208 : SndE EE S mi_X3_grades 208 (.inl (e_gI 211 3 6)) := sn_gI dX3_grades_208 rfl cl_3 (by decide) rfl (Or.inl q859) (Or.inl rfl)
theorem en_X3_grades_211 : SndE EE S mi_X3_grades 211 (.inl (e_zle 214 216)) := sn_zle dX3_grades_211 rfl (by decide)
theorem en_X3_grades_214 : SndE EE S mi_X3_grades 214 (.inl (e_psh 215 (.int (-1)))) := sn_iconst dX3_grades_214 rfl rfl
theorem en_X3_grades_215 : SndE EE S mi_X3_grades 215 (.inr (.inr 1)) := ⟨dX3_grades_215, rfl⟩
theorem en_X3_grades_216 : SndE EE S mi_X3_grades 216 (.inl (e_lda 217 0)) := sn_aload_n dX3_grades_216 rfl rfl
theorem en_X3_grades_217 : SndE EE S mi_X3_grades 217 (.inr (.inl (d_cls 3 59, 1, 3))) := sc_virt dX3_grades_217 (rcv_cls (r := (RX3, TX3, 61)) rfl ⟨mo_X3_next, nmo_X3_next, q1082, q1084, qs29⟩)
theorem en_X3_grades_220 : SndE EE S mi_X3_grades 220 (.inl (e_lda 221 0)) := sn_aload_n dX3_grades_220 rfl rfl
theorem en_X3_grades_221 : SndE EE S mi_X3_grades 221 (.inl (e_dup 222)) := sn_dup dX3_grades_221 rfl
theorem en_X3_grades_222 : SndE EE S mi_X3_grades 222 (.inl (e_gI 225 3 20)) := sn_gI dX3_grades_222 rfl cl_3 (by decide) rfl (Or.inl q873) (Or.inl rfl)
theorem en_X3_grades_225 : SndE EE S mi_X3_grades 225 (.inl (e_psh 226 (.int (1)))) := sn_iconst dX3_grades_225 rfl rfl
theorem en_X3_grades_226 : SndE EE S mi_X3_grades 226 (.inl (e_bin 227 (fun x y => x + y))) := sn_iadd dX3_grades_226 rfl
theorem en_X3_grades_227 : SndE EE S mi_X3_grades 227 (.inl (e_pI 230 3 20)) := sn_pI dX3_grades_227 rfl cl_3 (by decide) rfl (Or.inl ⟨q873, Or.inl rfl⟩) (Or.inl rfl) (fun _ => ⟨rfl, rfl⟩)
theorem en_X3_grades_230 : SndE EE S mi_X3_grades 230 (.inl (e_goto 23)) := sn_goto dX3_grades_230 (by decide)
theorem en_X3_grades_233 : SndE EE S mi_X3_grades 233 (.inl (e_lda 234 0)) := sn_aload_n dX3_grades_233 rfl rfl
theorem en_X3_grades_234 : SndE EE S mi_X3_grades 234 (.inl (e_gI 237 3 6)) := sn_gI dX3_grades_234 rfl cl_3 (by decide) rfl (Or.inl q859) (Or.inl rfl)
theorem en_X3_grades_237 : SndE EE S mi_X3_grades 237 (.inl (e_zle 240 242)) := sn_zle dX3_grades_237 rfl (by decide)
theorem en_X3_grades_240 : SndE EE S mi_X3_grades 240 (.inl (e_psh 241 (.int (-1)))) := sn_iconst dX3_grades_240 rfl rfl
theorem en_X3_grades_241 : SndE EE S mi_X3_grades 241 (.inr (.inr 1)) := ⟨dX3_grades_241, rfl⟩
theorem en_X3_grades_242 : SndE EE S mi_X3_grades 242 (.inl (e_lda 243 0)) := sn_aload_n dX3_grades_242 rfl rfl
theorem en_X3_grades_243 : SndE EE S mi_X3_grades 243 (.inl (e_gR 246 3 27)) := sn_gR dX3_grades_243 rfl cl_3 (by decide) rfl (Or.inl q880) (Or.inl rfl)
theorem en_X3_grades_246 : SndE EE S mi_X3_grades 246 (.inl (e_lda 247 0)) := sn_aload_n dX3_grades_246 rfl rfl
theorem en_X3_grades_247 : SndE EE S mi_X3_grades 247 (.inl (e_gI 250 3 20)) := sn_gI dX3_grades_247 rfl cl_3 (by decide) rfl (Or.inl q873) (Or.inl rfl)
theorem en_X3_grades_250 : SndE EE S mi_X3_grades 250 (.inl (e_lda 251 0)) := sn_aload_n dX3_grades_250 rfl rfl
theorem en_X3_grades_251 : SndE EE S mi_X3_grades 251 (.inl (e_gI 254 3 21)) := sn_gI dX3_grades_251 rfl cl_3 (by decide) rfl (Or.inl q874) (Or.inl rfl)
theorem en_X3_grades_254 : SndE EE S mi_X3_grades 254 (.inl (e_iast 255)) := sn_iast dX3_grades_254 rfl
theorem en_X3_grades_255 : SndE EE S mi_X3_grades 255 (.inl (e_psh 256 (.int (0)))) := sn_iconst dX3_grades_255 rfl rfl
theorem en_X3_grades_256 : SndE EE S mi_X3_grades 256 (.inl (e_sti 257 1)) := sn_istore_n dX3_grades_256 rfl rfl rfl (by decide)
theorem en_X3_grades_257 : SndE EE S mi_X3_grades 257 (.inl (e_ldi 258 1)) := sn_iload_n dX3_grades_257 rfl rfl
theorem en_X3_grades_258 : SndE EE S mi_X3_grades 258 (.inl (e_lda 259 0)) := sn_aload_n dX3_grades_258 rfl rfl
theorem en_X3_grades_259 : SndE EE S mi_X3_grades 259 (.inl (e_gI 262 3 21)) := sn_gI dX3_grades_259 rfl cl_3 (by decide) rfl (Or.inl q874) (Or.inl rfl)
theorem en_X3_grades_262 : SndE EE S mi_X3_grades 262 (.inl (e_ige 265 295)) := sn_ige dX3_grades_262 rfl (by decide)
theorem en_X3_grades_265 : SndE EE S mi_X3_grades 265 (.inl (e_lda 266 0)) := sn_aload_n dX3_grades_265 rfl rfl
theorem en_X3_grades_266 : SndE EE S mi_X3_grades 266 (.inl (e_gR 269 3 17)) := sn_gR dX3_grades_266 rfl cl_3 (by decide) rfl (Or.inl q870) (Or.inl rfl)
theorem en_X3_grades_269 : SndE EE S mi_X3_grades 269 (.inl (e_ldi 270 1)) := sn_iload_n dX3_grades_269 rfl rfl
theorem en_X3_grades_270 : SndE EE S mi_X3_grades 270 (.inl (e_lda 271 0)) := sn_aload_n dX3_grades_270 rfl rfl
theorem en_X3_grades_271 : SndE EE S mi_X3_grades 271 (.inl (e_gR 274 3 25)) := sn_gR dX3_grades_271 rfl cl_3 (by decide) rfl (Or.inl q878) (Or.inl rfl)
theorem en_X3_grades_274 : SndE EE S mi_X3_grades 274 (.inl (e_ldi 275 1)) := sn_iload_n dX3_grades_274 rfl rfl
theorem en_X3_grades_275 : SndE EE S mi_X3_grades 275 (.inl (e_ald 276 1)) := sn_iald dX3_grades_275 rfl
theorem en_X3_grades_276 : SndE EE S mi_X3_grades 276 (.inl (e_iast 277)) := sn_iast dX3_grades_276 rfl
theorem en_X3_grades_277 : SndE EE S mi_X3_grades 277 (.inl (e_lda 278 0)) := sn_aload_n dX3_grades_277 rfl rfl
theorem en_X3_grades_278 : SndE EE S mi_X3_grades 278 (.inl (e_gR 281 3 18)) := sn_gR dX3_grades_278 rfl cl_3 (by decide) rfl (Or.inl q871) (Or.inl rfl)
theorem en_X3_grades_281 : SndE EE S mi_X3_grades 281 (.inl (e_ldi 282 1)) := sn_iload_n dX3_grades_281 rfl rfl
theorem en_X3_grades_282 : SndE EE S mi_X3_grades 282 (.inl (e_lda 283 0)) := sn_aload_n dX3_grades_282 rfl rfl
theorem en_X3_grades_283 : SndE EE S mi_X3_grades 283 (.inl (e_gR 286 3 26)) := sn_gR dX3_grades_283 rfl cl_3 (by decide) rfl (Or.inl q879) (Or.inl rfl)
theorem en_X3_grades_286 : SndE EE S mi_X3_grades 286 (.inl (e_ldi 287 1)) := sn_iload_n dX3_grades_286 rfl rfl
theorem en_X3_grades_287 : SndE EE S mi_X3_grades 287 (.inl (e_ald 288 1)) := sn_iald dX3_grades_287 rfl
theorem en_X3_grades_288 : SndE EE S mi_X3_grades 288 (.inl (e_iast 289)) := sn_iast dX3_grades_288 rfl
theorem en_X3_grades_289 : SndE EE S mi_X3_grades 289 (.inl (e_inc 292 1 (1))) := sn_iinc dX3_grades_289 rfl rfl rfl (by decide)
theorem en_X3_grades_292 : SndE EE S mi_X3_grades 292 (.inl (e_goto 257)) := sn_goto dX3_grades_292 (by decide)
theorem en_X3_grades_295 : SndE EE S mi_X3_grades 295 (.inl (e_psh 296 (.int (0)))) := sn_iconst dX3_grades_295 rfl rfl
theorem en_X3_grades_296 : SndE EE S mi_X3_grades 296 (.inl (e_sti 297 1)) := sn_istore_n dX3_grades_296 rfl rfl rfl (by decide)
theorem en_X3_grades_297 : SndE EE S mi_X3_grades 297 (.inl (e_ldi 298 1)) := sn_iload_n dX3_grades_297 rfl rfl
theorem en_X3_grades_298 : SndE EE S mi_X3_grades 298 (.inl (e_lda 299 0)) := sn_aload_n dX3_grades_298 rfl rfl
theorem en_X3_grades_299 : SndE EE S mi_X3_grades 299 (.inl (e_gI 302 3 20)) := sn_gI dX3_grades_299 rfl cl_3 (by decide) rfl (Or.inl q873) (Or.inl rfl)
theorem en_X3_grades_302 : SndE EE S mi_X3_grades 302 (.inl (e_ige 305 335)) := sn_ige dX3_grades_302 rfl (by decide)
theorem en_X3_grades_305 : SndE EE S mi_X3_grades 305 (.inl (e_lda 306 0)) := sn_aload_n dX3_grades_305 rfl rfl
theorem en_X3_grades_306 : SndE EE S mi_X3_grades 306 (.inl (e_gR 309 3 15)) := sn_gR dX3_grades_306 rfl cl_3 (by decide) rfl (Or.inl q868) (Or.inl rfl)
theorem en_X3_grades_309 : SndE EE S mi_X3_grades 309 (.inl (e_ldi 310 1)) := sn_iload_n dX3_grades_309 rfl rfl
theorem en_X3_grades_310 : SndE EE S mi_X3_grades 310 (.inl (e_lda 311 0)) := sn_aload_n dX3_grades_310 rfl rfl
theorem en_X3_grades_311 : SndE EE S mi_X3_grades 311 (.inl (e_gR 314 3 23)) := sn_gR dX3_grades_311 rfl cl_3 (by decide) rfl (Or.inl q876) (Or.inl rfl)
theorem en_X3_grades_314 : SndE EE S mi_X3_grades 314 (.inl (e_ldi 315 1)) := sn_iload_n dX3_grades_314 rfl rfl
theorem en_X3_grades_315 : SndE EE S mi_X3_grades 315 (.inl (e_ald 316 1)) := sn_iald dX3_grades_315 rfl
theorem en_X3_grades_316 : SndE EE S mi_X3_grades 316 (.inl (e_iast 317)) := sn_iast dX3_grades_316 rfl
theorem en_X3_grades_317 : SndE EE S mi_X3_grades 317 (.inl (e_lda 318 0)) := sn_aload_n dX3_grades_317 rfl rfl
theorem en_X3_grades_318 : SndE EE S mi_X3_grades 318 (.inl (e_gR 321 3 16)) := sn_gR dX3_grades_318 rfl cl_3 (by decide) rfl (Or.inl q869) (Or.inl rfl)
theorem en_X3_grades_321 : SndE EE S mi_X3_grades 321 (.inl (e_ldi 322 1)) := sn_iload_n dX3_grades_321 rfl rfl
theorem en_X3_grades_322 : SndE EE S mi_X3_grades 322 (.inl (e_lda 323 0)) := sn_aload_n dX3_grades_322 rfl rfl
theorem en_X3_grades_323 : SndE EE S mi_X3_grades 323 (.inl (e_gR 326 3 24)) := sn_gR dX3_grades_323 rfl cl_3 (by decide) rfl (Or.inl q877) (Or.inl rfl)
theorem en_X3_grades_326 : SndE EE S mi_X3_grades 326 (.inl (e_ldi 327 1)) := sn_iload_n dX3_grades_326 rfl rfl
theorem en_X3_grades_327 : SndE EE S mi_X3_grades 327 (.inl (e_ald 328 1)) := sn_iald dX3_grades_327 rfl
theorem en_X3_grades_328 : SndE EE S mi_X3_grades 328 (.inl (e_iast 329)) := sn_iast dX3_grades_328 rfl
theorem en_X3_grades_329 : SndE EE S mi_X3_grades 329 (.inl (e_inc 332 1 (1))) := sn_iinc dX3_grades_329 rfl rfl rfl (by decide)
theorem en_X3_grades_332 : SndE EE S mi_X3_grades 332 (.inl (e_goto 297)) := sn_goto dX3_grades_332 (by decide)
theorem en_X3_grades_335 : SndE EE S mi_X3_grades 335 (.inl (e_psh 336 (.int (0)))) := sn_iconst dX3_grades_335 rfl rfl
theorem en_X3_grades_336 : SndE EE S mi_X3_grades 336 (.inl (e_sti 337 1)) := sn_istore_n dX3_grades_336 rfl rfl rfl (by decide)
theorem en_X3_grades_337 : SndE EE S mi_X3_grades 337 (.inl (e_ldi 338 1)) := sn_iload_n dX3_grades_337 rfl rfl
theorem en_X3_grades_338 : SndE EE S mi_X3_grades 338 (.inl (e_lda 339 0)) := sn_aload_n dX3_grades_338 rfl rfl
theorem en_X3_grades_339 : SndE EE S mi_X3_grades 339 (.inl (e_gI 342 3 20)) := sn_gI dX3_grades_339 rfl cl_3 (by decide) rfl (Or.inl q873) (Or.inl rfl)
theorem en_X3_grades_342 : SndE EE S mi_X3_grades 342 (.inl (e_igt 345 363)) := sn_igt dX3_grades_342 rfl (by decide)
theorem en_X3_grades_345 : SndE EE S mi_X3_grades 345 (.inl (e_lda 346 0)) := sn_aload_n dX3_grades_345 rfl rfl
theorem en_X3_grades_346 : SndE EE S mi_X3_grades 346 (.inl (e_gR 349 3 19)) := sn_gR dX3_grades_346 rfl cl_3 (by decide) rfl (Or.inl q872) (Or.inl rfl)
theorem en_X3_grades_349 : SndE EE S mi_X3_grades 349 (.inl (e_ldi 350 1)) := sn_iload_n dX3_grades_349 rfl rfl
theorem en_X3_grades_350 : SndE EE S mi_X3_grades 350 (.inl (e_lda 351 0)) := sn_aload_n dX3_grades_350 rfl rfl
theorem en_X3_grades_351 : SndE EE S mi_X3_grades 351 (.inl (e_gR 354 3 27)) := sn_gR dX3_grades_351 rfl cl_3 (by decide) rfl (Or.inl q880) (Or.inl rfl)
theorem en_X3_grades_354 : SndE EE S mi_X3_grades 354 (.inl (e_ldi 355 1)) := sn_iload_n dX3_grades_354 rfl rfl
theorem en_X3_grades_355 : SndE EE S mi_X3_grades 355 (.inl (e_ald 356 1)) := sn_iald dX3_grades_355 rfl
theorem en_X3_grades_356 : SndE EE S mi_X3_grades 356 (.inl (e_iast 357)) := sn_iast dX3_grades_356 rfl
theorem en_X3_grades_357 : SndE EE S mi_X3_grades 357 (.inl (e_inc 360 1 (1))) := sn_iinc dX3_grades_357 rfl rfl rfl (by decide)
theorem en_X3_grades_360 : SndE EE S mi_X3_grades 360 (.inl (e_goto 337)) := sn_goto dX3_grades_360 (by decide)
theorem en_X3_grades_363 : SndE EE S mi_X3_grades 363 (.inl (e_lda 364 0)) := sn_aload_n dX3_grades_363 rfl rfl
theorem en_X3_grades_364 : SndE EE S mi_X3_grades 364 (.inl (e_lda 365 0)) := sn_aload_n dX3_grades_364 rfl rfl
theorem en_X3_grades_365 : SndE EE S mi_X3_grades 365 (.inl (e_gI 368 3 20)) := sn_gI dX3_grades_365 rfl cl_3 (by decide) rfl (Or.inl q873) (Or.inl rfl)
theorem en_X3_grades_368 : SndE EE S mi_X3_grades 368 (.inl (e_pI 371 3 14)) := sn_pI dX3_grades_368 rfl cl_3 (by decide) rfl (Or.inl ⟨q867, Or.inl rfl⟩) (Or.inl rfl) (fun _ => ⟨rfl, rfl⟩)
theorem en_X3_grades_371 : SndE EE S mi_X3_grades 371 (.inl (e_lda 372 0)) := sn_aload_n dX3_grades_371 rfl rfl
theorem en_X3_grades_372 : SndE EE S mi_X3_grades 372 (.inl (e_gI 375 3 14)) := sn_gI dX3_grades_372 rfl cl_3 (by decide) rfl (Or.inl q867) (Or.inl rfl)
theorem en_X3_grades_375 : SndE EE S mi_X3_grades 375 (.inr (.inr 1)) := ⟨dX3_grades_375, rfl⟩
theorem sd_X3_grades : ∀ pc x, cd_X3_grades pc = some x → SndE EE S mi_X3_grades pc x := (tN_ok (tN_ok (tN_ok (tN_ok (tN_ok (tN_ok (tN_ok (tL_ok en_X3_grades_0) (tN_ok (tL_ok en_X3_grades_1) (tL_ok en_X3_grades_4))) (tN_ok (tL_ok en_X3_grades_5) (tN_ok (tL_ok en_X3_grades_6) (tL_ok en_X3_grades_9)))) (tN_ok (tN_ok (tL_ok en_X3_grades_10) (tN_ok (tL_ok en_X3_grades_11) (tL_ok en_X3_grades_14))) (tN_ok (tL_ok en_X3_grades_15) (tN_ok (tL_ok en_X3_grades_16) (tL_ok en_X3_grades_19))))) (tN_ok (tN_ok (tN_ok (tL_ok en_X3_grades_20) (tN_ok (tL_ok en_X3_grades_23) (tL_ok en_X3_grades_24))) (tN_ok (tL_ok en_X3_grades_27) (tN_ok (tL_ok en_X3_grades_30) (tL_ok en_X3_grades_31)))) (tN_ok (tN_ok (tL_ok en_X3_grades_34) (tN_ok (tL_ok en_X3_grades_37) (tL_ok en_X3_grades_38))) (tN_ok (tN_ok (tL_ok en_X3_grades_41) (tL_ok en_X3_grades_44)) (tN_ok (tL_ok en_X3_grades_47) (tL_ok en_X3_grades_48)))))) (tN_ok (tN_ok (tN_ok (tN_ok (tL_ok en_X3_grades_51) (tN_ok (tL_ok en_X3_grades_53) (tL_ok en_X3_grades_56))) (tN_ok (tL_ok en_X3_grades_57) (tN_ok (tL_ok en_X3_grades_58) (tL_ok en_X3_grades_61)))) (tN_ok (tN_ok (tL_ok en_X3_grades_62) (tN_ok (tL_ok en_X3_grades_65) (tL_ok en_X3_grades_68))) (tN_ok (tL_ok en_X3_grades_69) (tN_ok (tL_ok en_X3_grades_70) (tL_ok en_X3_grades_71))))) (tN_ok (tN_ok (tN_ok (tL_ok en_X3_grades_74) (tN_ok (tL_ok en_X3_grades_75) (tL_ok en_X3_grades_76))) (tN_ok (tL_ok en_X3_grades_78) (tN_ok (tL_ok en_X3_grades_81) (tL_ok en_X3_grades_82)))) (tN_ok (tN_ok (tL_ok en_X3_grades_83) (tN_ok (tL_ok en_X3_grades_86) (tL_ok en_X3_grades_89))) (tN_ok (tN_ok (tL_ok en_X3_grades_90) (tL_ok en_X3_grades_93)) (tN_ok (tL_ok en_X3_grades_96) (tL_ok en_X3_grades_99))))))) (tN_ok (tN_ok (tN_ok (tN_ok (tN_ok (tL_ok en_X3_grades_100) (tN_ok (tL_ok en_X3_grades_101) (tL_ok en_X3_grades_104))) (tN_ok (tL_ok en_X3_grades_105) (tN_ok (tL_ok en_X3_grades_108) (tL_ok en_X3_grades_111)))) (tN_ok (tN_ok (tL_ok en_X3_grades_112) (tN_ok (tL_ok en_X3_grades_113) (tL_ok en_X3_grades_114))) (tN_ok (tL_ok en_X3_grades_117) (tN_ok (tL_ok en_X3_grades_118) (tL_ok en_X3_grades_119))))) (tN_ok (tN_ok (tN_ok (tL_ok en_X3_grades_122) (tN_ok (tL_ok en_X3_grades_125) (tL_ok en_X3_grades_126))) (tN_ok (tL_ok en_X3_grades_127) (tN_ok (tL_ok en_X3_grades_130) (tL_ok en_X3_grades_133)))) (tN_ok (tN_ok (tL_ok en_X3_grades_134) (tN_ok (tL_ok en_X3_grades_135) (tL_ok en_X3_grades_136))) (tN_ok (tN_ok (tL_ok en_X3_grades_139) (tL_ok en_X3_grades_140)) (tN_ok (tL_ok en_X3_grades_143) (tL_ok en_X3_grades_144)))))) (tN_ok (tN_ok (tN_ok (tN_ok (tL_ok en_X3_grades_145) (tN_ok (tL_ok en_X3_grades_146) (tL_ok en_X3_grades_149))) (tN_ok (tL_ok en_X3_grades_150) (tN_ok (tL_ok en_X3_grades_153) (tL_ok en_X3_grades_154)))) (tN_ok (tN_ok (tL_ok en_X3_grades_155) (tN_ok (tL_ok en_X3_grades_156) (tL_ok en_X3_grades_159))) (tN_ok (tN_ok (tL_ok en_X3_grades_160) (tL_ok en_X3_grades_163)) (tN_ok (tL_ok en_X3_grades_164) (tL_ok en_X3_grades_167))))) (tN_ok (tN_ok (tN_ok (tL_ok en_X3_grades_168) (tN_ok (tL_ok en_X3_grades_169) (tL_ok en_X3_grades_172))) (tN_ok (tL_ok en_X3_grades_175) (tN_ok (tL_ok en_X3_grades_178) (tL_ok en_X3_grades_179)))) (tN_ok (tN_ok (tL_ok en_X3_grades_182) (tN_ok (tL_ok en_X3_grades_183) (tL_ok en_X3_grades_186))) (tN_ok (tN_ok (tL_ok en_X3_grades_187) (tL_ok en_X3_grades_190)) (tN_ok (tL_ok en_X3_grades_193) (tL_ok en_X3_grades_194)))))))) (tN_ok (tN_ok (tN_ok (tN_ok (tN_ok (tN_ok (tL_ok en_X3_grades_197) (tN_ok (tL_ok en_X3_grades_199) (tL_ok en_X3_grades_202))) (tN_ok (tL_ok en_X3_grades_203) (tN_ok (tL_ok en_X3_grades_204) (tL_ok en_X3_grades_207)))) (tN_ok (tN_ok (tL_ok en_X3_grades_208) (tN_ok (tL_ok en_X3_grades_211) (tL_ok en_X3_grades_214))) (tN_ok (tL_ok en_X3_grades_215) (tN_ok (tL_ok en_X3_grades_216) (tL_ok en_X3_grades_217))))) (tN_ok (tN_ok (tN_ok (tL_ok en_X3_grades_220) (tN_ok (tL_ok en_X3_grades_221) (tL_ok en_X3_grades_222))) (tN_ok (tL_ok en_X3_grades_225) (tN_ok (tL_ok en_X3_grades_226) (tL_ok en_X3_grades_227)))) (tN_ok (tN_ok (tL_ok en_X3_grades_230) (tN_ok (tL_ok en_X3_grades_233) (tL_ok en_X3_grades_234))) (tN_ok (tN_ok (tL_ok en_X3_grades_237) (tL_ok en_X3_grades_240)) (tN_ok (tL_ok en_X3_grades_241) (tL_ok en_X3_grades_242)))))) (tN_ok (tN_ok (tN_ok (tN_ok (tL_ok en_X3_grades_243) (tN_ok (tL_ok en_X3_grades_246) (tL_ok en_X3_grades_247))) (tN_ok (tL_ok en_X3_grades_250) (tN_ok (tL_ok en_X3_grades_251) (tL_ok en_X3_grades_254)))) (tN_ok (tN_ok (tL_ok en_X3_grades_255) (tN_ok (tL_ok en_X3_grades_256) (tL_ok en_X3_grades_257))) (tN_ok (tN_ok (tL_ok en_X3_grades_258) (tL_ok en_X3_grades_259)) (tN_ok (tL_ok en_X3_grades_262) (tL_ok en_X3_grades_265))))) (tN_ok (tN_ok (tN_ok (tL_ok en_X3_grades_266) (tN_ok (tL_ok en_X3_grades_269) (tL_ok en_X3_grades_270))) (tN_ok (tL_ok en_X3_grades_271) (tN_ok (tL_ok en_X3_grades_274) (tL_ok en_X3_grades_275)))) (tN_ok (tN_ok (tL_ok en_X3_grades_276) (tN_ok (tL_ok en_X3_grades_277) (tL_ok en_X3_grades_278))) (tN_ok (tN_ok (tL_ok en_X3_grades_281) (tL_ok en_X3_grades_282)) (tN_ok (tL_ok en_X3_grades_283) (tL_ok en_X3_grades_286))))))) (tN_ok (tN_ok (tN_ok (tN_ok (tN_ok (tL_ok en_X3_grades_287) (tN_ok (tL_ok en_X3_grades_288) (tL_ok en_X3_grades_289))) (tN_ok (tL_ok en_X3_grades_292) (tN_ok (tL_ok en_X3_grades_295) (tL_ok en_X3_grades_296)))) (tN_ok (tN_ok (tL_ok en_X3_grades_297) (tN_ok (tL_ok en_X3_grades_298) (tL_ok en_X3_grades_299))) (tN_ok (tL_ok en_X3_grades_302) (tN_ok (tL_ok en_X3_grades_305) (tL_ok en_X3_grades_306))))) (tN_ok (tN_ok (tN_ok (tL_ok en_X3_grades_309) (tN_ok (tL_ok en_X3_grades_310) (tL_ok en_X3_grades_311))) (tN_ok (tL_ok en_X3_grades_314) (tN_ok (tL_ok en_X3_grades_315) (tL_ok en_X3_grades_316)))) (tN_ok (tN_ok (tL_ok en_X3_grades_317) (tN_ok (tL_ok en_X3_grades_318) (tL_ok en_X3_grades_321))) (tN_ok (tN_ok (tL_ok en_X3_grades_322) (tL_ok en_X3_grades_323)) (tN_ok (tL_ok en_X3_grades_326) (tL_ok en_X3_grades_327)))))) (tN_ok (tN_ok (tN_ok (tN_ok (tL_ok en_X3_grades_328) (tN_ok (tL_ok en_X3_grades_329) (tL_ok en_X3_grades_332))) (tN_ok (tL_ok en_X3_grades_335) (tN_ok (tL_ok en_X3_grades_336) (tL_ok en_X3_grades_337)))) (tN_ok (tN_ok (tL_ok en_X3_grades_338) (tN_ok (tL_ok en_X3_grades_339) (tL_ok en_X3_grades_342))) (tN_ok (tN_ok (tL_ok en_X3_grades_345) (tL_ok en_X3_grades_346)) (tN_ok (tL_ok en_X3_grades_349) (tL_ok en_X3_grades_350))))) (tN_ok (tN_ok (tN_ok (tL_ok en_X3_grades_351) (tN_ok (tL_ok en_X3_grades_354) (tL_ok en_X3_grades_355))) (tN_ok (tL_ok en_X3_grades_356) (tN_ok (tL_ok en_X3_grades_357) (tL_ok en_X3_grades_360)))) (tN_ok (tN_ok (tL_ok en_X3_grades_363) (tN_ok (tL_ok en_X3_grades_364) (tL_ok en_X3_grades_365))) (tN_ok (tN_ok (tL_ok en_X3_grades_368) (tL_ok en_X3_grades_371)) (tN_ok (tL_ok en_X3_grades_372) (tL_ok en_X3_grades_375)))))))))
theorem en_X3_begin_0 : SndE EE S mi_X3_begin 0 (.inl (e_lda 1 0)) := sn_aload_n dX3_begin_0 rfl rfl
theorem en_X3_begin_1 : SndE EE S mi_X3_begin 1 (.inl (e_lda 2 0)) := sn_aload_n dX3_begin_1 rfl rfl
theorem en_X3_begin_2 : SndE EE S mi_X3_begin 2 (.inl (e_gI 5 3 5)) := sn_gI dX3_begin_2 rfl cl_3 (by decide) rfl (Or.inl q858) (Or.inl rfl)
theorem en_X3_begin_5 : SndE EE S mi_X3_begin 5 (.inl (e_pI 8 3 9)) := sn_pI dX3_begin_5 rfl cl_3 (by decide) rfl (Or.inl ⟨q862, Or.inl rfl⟩) (Or.inl rfl) (fun _ => ⟨rfl, rfl⟩)
theorem en_X3_begin_8 : SndE EE S mi_X3_begin 8 (.inl (e_lda 9 0)) := sn_aload_n dX3_begin_8 rfl rfl
theorem en_X3_begin_9 : SndE EE S mi_X3_begin 9 (.inl (e_psh 10 (.int (0)))) := sn_iconst dX3_begin_9 rfl rfl
theorem en_X3_begin_10 : SndE EE S mi_X3_begin 10 (.inl (e_pI 13 3 5)) := sn_pI dX3_begin_10 rfl cl_3 (by decide) rfl (Or.inl ⟨q858, Or.inl rfl⟩) (Or.inl rfl) (fun _ => ⟨rfl, rfl⟩)
theorem en_X3_begin_13 : SndE EE S mi_X3_begin 13 (.inl (e_lda 14 0)) := sn_aload_n dX3_begin_13 rfl rfl
theorem en_X3_begin_14 : SndE EE S mi_X3_begin 14 (.inl (e_psh 15 (.int (0)))) := sn_iconst dX3_begin_14 rfl rfl
theorem en_X3_begin_15 : SndE EE S mi_X3_begin 15 (.inl (e_pI 18 3 8)) := sn_pI dX3_begin_15 rfl cl_3 (by decide) rfl (Or.inl ⟨q861, Or.inl rfl⟩) (Or.inl rfl) (fun _ => ⟨rfl, rfl⟩)
theorem en_X3_begin_18 : SndE EE S mi_X3_begin 18 (.inl (e_lda 19 0)) := sn_aload_n dX3_begin_18 rfl rfl
theorem en_X3_begin_19 : SndE EE S mi_X3_begin 19 (.inl (e_psh 20 (.int (0)))) := sn_iconst dX3_begin_19 rfl rfl
theorem en_X3_begin_20 : SndE EE S mi_X3_begin 20 (.inl (e_pI 23 3 6)) := sn_pI dX3_begin_20 rfl cl_3 (by decide) rfl (Or.inl ⟨q859, Or.inl rfl⟩) (Or.inl rfl) (fun _ => ⟨rfl, rfl⟩)
theorem en_X3_begin_23 : SndE EE S mi_X3_begin 23 (.inl (e_lda 24 0)) := sn_aload_n dX3_begin_23 rfl rfl
theorem en_X3_begin_24 : SndE EE S mi_X3_begin 24 (.inl (e_psh 25 (.int (-1)))) := sn_iconst dX3_begin_24 rfl rfl
theorem en_X3_begin_25 : SndE EE S mi_X3_begin 25 (.inl (e_pI 28 3 7)) := sn_pI dX3_begin_25 rfl cl_3 (by decide) rfl (Or.inl ⟨q860, Or.inl rfl⟩) (Or.inl rfl) (fun _ => ⟨rfl, rfl⟩)
theorem en_X3_begin_28 : SndE EE S mi_X3_begin 28 (.inr (.inr 0)) := ⟨dX3_begin_28, rfl⟩
theorem sd_X3_begin : ∀ pc x, cd_X3_begin pc = some x → SndE EE S mi_X3_begin pc x := (tN_ok (tN_ok (tN_ok (tN_ok (tL_ok en_X3_begin_0) (tL_ok en_X3_begin_1)) (tN_ok (tL_ok en_X3_begin_2) (tL_ok en_X3_begin_5))) (tN_ok (tN_ok (tL_ok en_X3_begin_8) (tL_ok en_X3_begin_9)) (tN_ok (tL_ok en_X3_begin_10) (tL_ok en_X3_begin_13)))) (tN_ok (tN_ok (tN_ok (tL_ok en_X3_begin_14) (tL_ok en_X3_begin_15)) (tN_ok (tL_ok en_X3_begin_18) (tL_ok en_X3_begin_19))) (tN_ok (tN_ok (tL_ok en_X3_begin_20) (tL_ok en_X3_begin_23)) (tN_ok (tL_ok en_X3_begin_24) (tN_ok (tL_ok en_X3_begin_25) (tL_ok en_X3_begin_28))))))
theorem en_X3_next_0 : SndE EE S mi_X3_next 0 (.inl (e_lda 1 0)) := sn_aload_n dX3_next_0 rfl rfl
theorem en_X3_next_1 : SndE EE S mi_X3_next 1 (.inl (e_psh 2 (.int (0)))) := sn_iconst dX3_next_1 rfl rfl
theorem en_X3_next_2 : SndE EE S mi_X3_next 2 (.inr (.inl (d_cls 3 60, 2, 3))) := sc_virt dX3_next_2 (rcv_cls (r := (RX3, TX3, 61)) rfl ⟨mo_X3_here, nmo_X3_here, q1086, q1088, qs30⟩)
theorem en_X3_next_5 : SndE EE S mi_X3_next 5 (.inl (e_psh 7 (.int (32)))) := sn_bipush dX3_next_5 rfl rfl
theorem en_X3_next_7 : SndE EE S mi_X3_next 7 (.inl (e_ieq 10 20)) := sn_ieq dX3_next_7 rfl (by decide)
theorem en_X3_next_10 : SndE EE S mi_X3_next 10 (.inl (e_lda 11 0)) := sn_aload_n dX3_next_10 rfl rfl
theorem en_X3_next_11 : SndE EE S mi_X3_next 11 (.inl (e_psh 12 (.int (0)))) := sn_iconst dX3_next_11 rfl rfl
theorem en_X3_next_12 : SndE EE S mi_X3_next 12 (.inr (.inl (d_cls 3 60, 2, 3))) := sc_virt dX3_next_12 (rcv_cls (r := (RX3, TX3, 61)) rfl ⟨mo_X3_here, nmo_X3_here, q1086, q1088, qs30⟩)
theorem en_X3_next_15 : SndE EE S mi_X3_next 15 (.inl (e_psh 17 (.int (10)))) := sn_bipush dX3_next_15 rfl rfl
theorem en_X3_next_17 : SndE EE S mi_X3_next 17 (.inl (e_ine 20 33)) := sn_ine dX3_next_17 rfl (by decide)
theorem en_X3_next_20 : SndE EE S mi_X3_next 20 (.inl (e_lda 21 0)) := sn_aload_n dX3_next_20 rfl rfl
theorem en_X3_next_21 : SndE EE S mi_X3_next 21 (.inl (e_dup 22)) := sn_dup dX3_next_21 rfl
theorem en_X3_next_22 : SndE EE S mi_X3_next 22 (.inl (e_gI 25 3 8)) := sn_gI dX3_next_22 rfl cl_3 (by decide) rfl (Or.inl q861) (Or.inl rfl)
theorem en_X3_next_25 : SndE EE S mi_X3_next 25 (.inl (e_psh 26 (.int (1)))) := sn_iconst dX3_next_25 rfl rfl
theorem en_X3_next_26 : SndE EE S mi_X3_next 26 (.inl (e_bin 27 (fun x y => x + y))) := sn_iadd dX3_next_26 rfl
theorem en_X3_next_27 : SndE EE S mi_X3_next 27 (.inl (e_pI 30 3 8)) := sn_pI dX3_next_27 rfl cl_3 (by decide) rfl (Or.inl ⟨q861, Or.inl rfl⟩) (Or.inl rfl) (fun _ => ⟨rfl, rfl⟩)
theorem en_X3_next_30 : SndE EE S mi_X3_next 30 (.inl (e_goto 0)) := sn_goto dX3_next_30 (by decide)
theorem en_X3_next_33 : SndE EE S mi_X3_next 33 (.inl (e_lda 34 0)) := sn_aload_n dX3_next_33 rfl rfl
theorem en_X3_next_34 : SndE EE S mi_X3_next 34 (.inl (e_lda 35 0)) := sn_aload_n dX3_next_34 rfl rfl
theorem en_X3_next_35 : SndE EE S mi_X3_next 35 (.inl (e_gI 38 3 8)) := sn_gI dX3_next_35 rfl cl_3 (by decide) rfl (Or.inl q861) (Or.inl rfl)
theorem en_X3_next_38 : SndE EE S mi_X3_next 38 (.inl (e_pI 41 3 11)) := sn_pI dX3_next_38 rfl cl_3 (by decide) rfl (Or.inl ⟨q864, Or.inl rfl⟩) (Or.inl rfl) (fun _ => ⟨rfl, rfl⟩)
theorem en_X3_next_41 : SndE EE S mi_X3_next 41 (.inl (e_lda 42 0)) := sn_aload_n dX3_next_41 rfl rfl
theorem en_X3_next_42 : SndE EE S mi_X3_next 42 (.inl (e_psh 43 (.int (0)))) := sn_iconst dX3_next_42 rfl rfl
theorem en_X3_next_43 : SndE EE S mi_X3_next 43 (.inr (.inl (d_cls 3 60, 2, 3))) := sc_virt dX3_next_43 (rcv_cls (r := (RX3, TX3, 61)) rfl ⟨mo_X3_here, nmo_X3_here, q1086, q1088, qs30⟩)
theorem en_X3_next_46 : SndE EE S mi_X3_next 46 (.inl (e_sti 47 1)) := sn_istore_n dX3_next_46 rfl rfl rfl (by decide)
theorem en_X3_next_47 : SndE EE S mi_X3_next 47 (.inl (e_psh 48 (.int (0)))) := sn_iconst dX3_next_47 rfl rfl
theorem en_X3_next_48 : SndE EE S mi_X3_next 48 (.inl (e_sti 49 2)) := sn_istore_n dX3_next_48 rfl rfl rfl (by decide)
theorem en_X3_next_49 : SndE EE S mi_X3_next 49 (.inl (e_lda 50 0)) := sn_aload_n dX3_next_49 rfl rfl
theorem en_X3_next_50 : SndE EE S mi_X3_next 50 (.inl (e_psh 51 (.long 0))) := sn_lconst dX3_next_50 rfl rfl
theorem en_X3_next_51 : SndE EE S mi_X3_next 51 (.inl (e_pL 54 3 13)) := sn_pL dX3_next_51 rfl cl_3 (by decide) rfl (Or.inl ⟨q866, Or.inl rfl⟩) (Or.inl rfl) (fun _ => ⟨rfl, rfl⟩)
theorem en_X3_next_54 : SndE EE S mi_X3_next 54 (.inl (e_lda 55 0)) := sn_aload_n dX3_next_54 rfl rfl
theorem en_X3_next_55 : SndE EE S mi_X3_next 55 (.inl (e_psh 56 (.int (0)))) := sn_iconst dX3_next_55 rfl rfl
theorem en_X3_next_56 : SndE EE S mi_X3_next 56 (.inl (e_pI 59 3 12)) := sn_pI dX3_next_56 rfl cl_3 (by decide) rfl (Or.inl ⟨q865, Or.inl rfl⟩) (Or.inl rfl) (fun _ => ⟨rfl, rfl⟩)
theorem en_X3_next_59 : SndE EE S mi_X3_next 59 (.inl (e_ldi 60 1)) := sn_iload_n dX3_next_59 rfl rfl
theorem en_X3_next_60 : SndE EE S mi_X3_next 60 (.inl (e_zge 63 71)) := sn_zge dX3_next_60 rfl (by decide)
theorem en_X3_next_63 : SndE EE S mi_X3_next 63 (.inl (e_lda 64 0)) := sn_aload_n dX3_next_63 rfl rfl
theorem en_X3_next_64 : SndE EE S mi_X3_next 64 (.inl (e_psh 65 (.int (0)))) := sn_iconst dX3_next_64 rfl rfl
theorem en_X3_next_65 : SndE EE S mi_X3_next 65 (.inl (e_pI 68 3 10)) := sn_pI dX3_next_65 rfl cl_3 (by decide) rfl (Or.inl ⟨q863, Or.inl rfl⟩) (Or.inl rfl) (fun _ => ⟨rfl, rfl⟩)
theorem en_X3_next_68 : SndE EE S mi_X3_next 68 (.inl (e_goto 232)) := sn_goto dX3_next_68 (by decide)
theorem en_X3_next_71 : SndE EE S mi_X3_next 71 (.inl (e_ldi 72 1)) := sn_iload_n dX3_next_71 rfl rfl
theorem en_X3_next_72 : SndE EE S mi_X3_next 72 (.inr (.inl (fun _ _ => some 61, 1, 3))) := sc_stat dX3_next_72 mo_X3_isLetter nmo_X3_isLetter q1090 q1091 q1092
theorem en_X3_next_75 : SndE EE S mi_X3_next 75 (.inl (e_zeq 78 137)) := sn_zeq dX3_next_75 rfl (by decide)
theorem en_X3_next_78 : SndE EE S mi_X3_next 78 (.inl (e_lda 79 0)) := sn_aload_n dX3_next_78 rfl rfl
theorem en_X3_next_79 : SndE EE S mi_X3_next 79 (.inl (e_ldi 80 2)) := sn_iload_n dX3_next_79 rfl rfl
theorem en_X3_next_80 : SndE EE S mi_X3_next 80 (.inr (.inl (d_cls 3 60, 2, 3))) := sc_virt dX3_next_80 (rcv_cls (r := (RX3, TX3, 61)) rfl ⟨mo_X3_here, nmo_X3_here, q1086, q1088, qs30⟩)
theorem en_X3_next_83 : SndE EE S mi_X3_next 83 (.inr (.inl (fun _ _ => some 61, 1, 3))) := sc_stat dX3_next_83 mo_X3_isLetter nmo_X3_isLetter q1090 q1091 q1092
theorem en_X3_next_86 : SndE EE S mi_X3_next 86 (.inl (e_zeq 89 119)) := sn_zeq dX3_next_86 rfl (by decide)
theorem en_X3_next_89 : SndE EE S mi_X3_next 89 (.inl (e_ldi 90 2)) := sn_iload_n dX3_next_89 rfl rfl
theorem en_X3_next_90 : SndE EE S mi_X3_next 90 (.inl (e_psh 92 (.int (8)))) := sn_bipush dX3_next_90 rfl rfl
theorem en_X3_next_92 : SndE EE S mi_X3_next 92 (.inl (e_ige 95 113)) := sn_ige dX3_next_92 rfl (by decide)
theorem en_X3_next_95 : SndE EE S mi_X3_next 95 (.inl (e_lda 96 0)) := sn_aload_n dX3_next_95 rfl rfl
theorem en_X3_next_96 : SndE EE S mi_X3_next 96 (.inl (e_lda 97 0)) := sn_aload_n dX3_next_96 rfl rfl
theorem en_X3_next_97 : SndE EE S mi_X3_next 97 (.inl (e_gL 100 3 13)) := sn_gL dX3_next_97 rfl cl_3 (by decide) rfl (Or.inl q866) (Or.inl rfl)
theorem en_X3_next_100 : SndE EE S mi_X3_next 100 (.inl (e_psh 102 (.int (8)))) := sn_bipush dX3_next_100 rfl rfl
theorem en_X3_next_102 : SndE EE S mi_X3_next 102 (.inl (e_lshl 103)) := sn_lshl dX3_next_102 rfl
theorem en_X3_next_103 : SndE EE S mi_X3_next 103 (.inl (e_lda 104 0)) := sn_aload_n dX3_next_103 rfl rfl
theorem en_X3_next_104 : SndE EE S mi_X3_next 104 (.inl (e_ldi 105 2)) := sn_iload_n dX3_next_104 rfl rfl
theorem en_X3_next_105 : SndE EE S mi_X3_next 105 (.inr (.inl (d_cls 3 60, 2, 3))) := sc_virt dX3_next_105 (rcv_cls (r := (RX3, TX3, 61)) rfl ⟨mo_X3_here, nmo_X3_here, q1086, q1088, qs30⟩)
theorem en_X3_next_108 : SndE EE S mi_X3_next 108 (.inl (e_i2l 109)) := sn_i2l dX3_next_108 rfl
theorem en_X3_next_109 : SndE EE S mi_X3_next 109 (.inl (e_lor 110)) := sn_lor dX3_next_109 rfl
theorem en_X3_next_110 : SndE EE S mi_X3_next 110 (.inl (e_pL 113 3 13)) := sn_pL dX3_next_110 rfl cl_3 (by decide) rfl (Or.inl ⟨q866, Or.inl rfl⟩) (Or.inl rfl) (fun _ => ⟨rfl, rfl⟩)
theorem en_X3_next_113 : SndE EE S mi_X3_next 113 (.inl (e_inc 116 2 (1))) := sn_iinc dX3_next_113 rfl rfl rfl (by decide)
theorem en_X3_next_116 : SndE EE S mi_X3_next 116 (.inl (e_goto 78)) := sn_goto dX3_next_116 (by decide)
theorem en_X3_next_119 : SndE EE S mi_X3_next 119 (.inl (e_lda 120 0)) := sn_aload_n dX3_next_119 rfl rfl
theorem en_X3_next_120 : SndE EE S mi_X3_next 120 (.inl (e_ldi 121 2)) := sn_iload_n dX3_next_120 rfl rfl
theorem en_X3_next_121 : SndE EE S mi_X3_next 121 (.inl (e_psh 123 (.int (8)))) := sn_bipush dX3_next_121 rfl rfl
theorem en_X3_next_123 : SndE EE S mi_X3_next 123 (.inl (e_ile 126 130)) := sn_ile dX3_next_123 rfl (by decide)
theorem en_X3_next_126 : SndE EE S mi_X3_next 126 (.inl (e_psh 127 (.int (3)))) := sn_iconst dX3_next_126 rfl rfl
theorem en_X3_next_127 : SndE EE S mi_X3_next 127 (.inl (e_goto 131)) := sn_goto dX3_next_127 (by decide)
theorem en_X3_next_130 : SndE EE S mi_X3_next 130 (.inl (e_psh 131 (.int (1)))) := sn_iconst dX3_next_130 rfl rfl
theorem en_X3_next_131 : SndE EE S mi_X3_next 131 (.inl (e_pI 134 3 10)) := sn_pI dX3_next_131 rfl cl_3 (by decide) rfl (Or.inl ⟨q863, Or.inl rfl⟩) (Or.inl rfl) (fun _ => ⟨rfl, rfl⟩)
theorem en_X3_next_134 : SndE EE S mi_X3_next 134 (.inl (e_goto 232)) := sn_goto dX3_next_134 (by decide)
theorem en_X3_next_137 : SndE EE S mi_X3_next 137 (.inl (e_ldi 138 1)) := sn_iload_n dX3_next_137 rfl rfl
theorem en_X3_next_138 : SndE EE S mi_X3_next 138 (.inr (.inl (fun _ _ => some 62, 1, 3))) := sc_stat dX3_next_138 mo_X3_isDigit nmo_X3_isDigit q1093 q1094 q1095
theorem en_X3_next_141 : SndE EE S mi_X3_next 141 (.inl (e_zeq 144 214)) := sn_zeq dX3_next_141 rfl (by decide)
theorem en_X3_next_144 : SndE EE S mi_X3_next 144 (.inl (e_lda 145 0)) := sn_aload_n dX3_next_144 rfl rfl
theorem en_X3_next_145 : SndE EE S mi_X3_next 145 (.inl (e_ldi 146 2)) := sn_iload_n dX3_next_145 rfl rfl
theorem en_X3_next_146 : SndE EE S mi_X3_next 146 (.inr (.inl (d_cls 3 60, 2, 3))) := sc_virt dX3_next_146 (rcv_cls (r := (RX3, TX3, 61)) rfl ⟨mo_X3_here, nmo_X3_here, q1086, q1088, qs30⟩)
theorem en_X3_next_149 : SndE EE S mi_X3_next 149 (.inr (.inl (fun _ _ => some 62, 1, 3))) := sc_stat dX3_next_149 mo_X3_isDigit nmo_X3_isDigit q1093 q1094 q1095
theorem en_X3_next_152 : SndE EE S mi_X3_next 152 (.inl (e_zeq 155 186)) := sn_zeq dX3_next_152 rfl (by decide)
theorem en_X3_next_155 : SndE EE S mi_X3_next 155 (.inl (e_ldi 156 2)) := sn_iload_n dX3_next_155 rfl rfl
theorem en_X3_next_156 : SndE EE S mi_X3_next 156 (.inl (e_psh 157 (.int (4)))) := sn_iconst dX3_next_156 rfl rfl
theorem en_X3_next_157 : SndE EE S mi_X3_next 157 (.inl (e_ige 160 180)) := sn_ige dX3_next_157 rfl (by decide)
theorem en_X3_next_160 : SndE EE S mi_X3_next 160 (.inl (e_lda 161 0)) := sn_aload_n dX3_next_160 rfl rfl
theorem en_X3_next_161 : SndE EE S mi_X3_next 161 (.inl (e_psh 163 (.int (10)))) := sn_bipush dX3_next_161 rfl rfl
theorem en_X3_next_163 : SndE EE S mi_X3_next 163 (.inl (e_lda 164 0)) := sn_aload_n dX3_next_163 rfl rfl
theorem en_X3_next_164 : SndE EE S mi_X3_next 164 (.inl (e_gI 167 3 12)) := sn_gI dX3_next_164 rfl cl_3 (by decide) rfl (Or.inl q865) (Or.inl rfl)
theorem en_X3_next_167 : SndE EE S mi_X3_next 167 (.inl (e_bin 168 (fun x y => x * y))) := sn_imul dX3_next_167 rfl
theorem en_X3_next_168 : SndE EE S mi_X3_next 168 (.inl (e_lda 169 0)) := sn_aload_n dX3_next_168 rfl rfl
theorem en_X3_next_169 : SndE EE S mi_X3_next 169 (.inl (e_ldi 170 2)) := sn_iload_n dX3_next_169 rfl rfl
theorem en_X3_next_170 : SndE EE S mi_X3_next 170 (.inr (.inl (d_cls 3 60, 2, 3))) := sc_virt dX3_next_170 (rcv_cls (r := (RX3, TX3, 61)) rfl ⟨mo_X3_here, nmo_X3_here, q1086, q1088, qs30⟩)
theorem en_X3_next_173 : SndE EE S mi_X3_next 173 (.inl (e_bin 174 (fun x y => x + y))) := sn_iadd dX3_next_173 rfl
theorem en_X3_next_174 : SndE EE S mi_X3_next 174 (.inl (e_psh 176 (.int (48)))) := sn_bipush dX3_next_174 rfl rfl
theorem en_X3_next_176 : SndE EE S mi_X3_next 176 (.inl (e_bin 177 (fun x y => x - y))) := sn_isub dX3_next_176 rfl
theorem en_X3_next_177 : SndE EE S mi_X3_next 177 (.inl (e_pI 180 3 12)) := sn_pI dX3_next_177 rfl cl_3 (by decide) rfl (Or.inl ⟨q865, Or.inl rfl⟩) (Or.inl rfl) (fun _ => ⟨rfl, rfl⟩)
theorem en_X3_next_180 : SndE EE S mi_X3_next 180 (.inl (e_inc 183 2 (1))) := sn_iinc dX3_next_180 rfl rfl rfl (by decide)
theorem en_X3_next_183 : SndE EE S mi_X3_next 183 (.inl (e_goto 144)) := sn_goto dX3_next_183 (by decide)
theorem en_X3_next_186 : SndE EE S mi_X3_next 186 (.inl (e_lda 187 0)) := sn_aload_n dX3_next_186 rfl rfl
theorem en_X3_next_187 : SndE EE S mi_X3_next 187 (.inl (e_ldi 188 2)) := sn_iload_n dX3_next_187 rfl rfl
theorem en_X3_next_188 : SndE EE S mi_X3_next 188 (.inl (e_psh 189 (.int (4)))) := sn_iconst dX3_next_188 rfl rfl
theorem en_X3_next_189 : SndE EE S mi_X3_next 189 (.inl (e_igt 192 203)) := sn_igt dX3_next_189 rfl (by decide)
theorem en_X3_next_192 : SndE EE S mi_X3_next 192 (.inl (e_lda 193 0)) := sn_aload_n dX3_next_192 rfl rfl
theorem en_X3_next_193 : SndE EE S mi_X3_next 193 (.inl (e_ldi 194 2)) := sn_iload_n dX3_next_193 rfl rfl
theorem en_X3_next_194 : SndE EE S mi_X3_next 194 (.inr (.inl (d_cls 3 60, 2, 3))) := sc_virt dX3_next_194 (rcv_cls (r := (RX3, TX3, 61)) rfl ⟨mo_X3_here, nmo_X3_here, q1086, q1088, qs30⟩)
theorem en_X3_next_197 : SndE EE S mi_X3_next 197 (.inr (.inl (fun _ _ => some 61, 1, 3))) := sc_stat dX3_next_197 mo_X3_isLetter nmo_X3_isLetter q1090 q1091 q1092
theorem en_X3_next_200 : SndE EE S mi_X3_next 200 (.inl (e_zeq 203 207)) := sn_zeq dX3_next_200 rfl (by decide)
theorem en_X3_next_203 : SndE EE S mi_X3_next 203 (.inl (e_psh 204 (.int (3)))) := sn_iconst dX3_next_203 rfl rfl
theorem en_X3_next_204 : SndE EE S mi_X3_next 204 (.inl (e_goto 208)) := sn_goto dX3_next_204 (by decide)
theorem en_X3_next_207 : SndE EE S mi_X3_next 207 (.inl (e_psh 208 (.int (2)))) := sn_iconst dX3_next_207 rfl rfl
theorem en_X3_next_208 : SndE EE S mi_X3_next 208 (.inl (e_pI 211 3 10)) := sn_pI dX3_next_208 rfl cl_3 (by decide) rfl (Or.inl ⟨q863, Or.inl rfl⟩) (Or.inl rfl) (fun _ => ⟨rfl, rfl⟩)
theorem en_X3_next_211 : SndE EE S mi_X3_next 211 (.inl (e_goto 232)) := sn_goto dX3_next_211 (by decide)
theorem en_X3_next_214 : SndE EE S mi_X3_next 214 (.inl (e_psh 215 (.int (1)))) := sn_iconst dX3_next_214 rfl rfl
theorem en_X3_next_215 : SndE EE S mi_X3_next 215 (.inl (e_sti 216 2)) := sn_istore_n dX3_next_215 rfl rfl rfl (by decide)
theorem en_X3_next_216 : SndE EE S mi_X3_next 216 (.inl (e_lda 217 0)) := sn_aload_n dX3_next_216 rfl rfl
theorem en_X3_next_217 : SndE EE S mi_X3_next 217 (.inl (e_ldi 218 1)) := sn_iload_n dX3_next_217 rfl rfl
theorem en_X3_next_218 : SndE EE S mi_X3_next 218 (.inr (.inl (fun _ _ => some 63, 1, 3))) := sc_stat dX3_next_218 mo_X3_isSign nmo_X3_isSign q1096 q1097 q1098
theorem en_X3_next_221 : SndE EE S mi_X3_next 221 (.inl (e_zeq 224 228)) := sn_zeq dX3_next_221 rfl (by decide)
theorem en_X3_next_224 : SndE EE S mi_X3_next 224 (.inl (e_ldi 225 1)) := sn_iload_n dX3_next_224 rfl rfl
theorem en_X3_next_225 : SndE EE S mi_X3_next 225 (.inl (e_goto 229)) := sn_goto dX3_next_225 (by decide)
theorem en_X3_next_228 : SndE EE S mi_X3_next 228 (.inl (e_psh 229 (.int (3)))) := sn_iconst dX3_next_228 rfl rfl
theorem en_X3_next_229 : SndE EE S mi_X3_next 229 (.inl (e_pI 232 3 10)) := sn_pI dX3_next_229 rfl cl_3 (by decide) rfl (Or.inl ⟨q863, Or.inl rfl⟩) (Or.inl rfl) (fun _ => ⟨rfl, rfl⟩)
theorem en_X3_next_232 : SndE EE S mi_X3_next 232 (.inl (e_lda 233 0)) := sn_aload_n dX3_next_232 rfl rfl
theorem en_X3_next_233 : SndE EE S mi_X3_next 233 (.inl (e_gI 236 3 10)) := sn_gI dX3_next_233 rfl cl_3 (by decide) rfl (Or.inl q863) (Or.inl rfl)
theorem en_X3_next_236 : SndE EE S mi_X3_next 236 (.inl (e_psh 237 (.int (3)))) := sn_iconst dX3_next_236 rfl rfl
theorem en_X3_next_237 : SndE EE S mi_X3_next 237 (.inl (e_ieq 240 250)) := sn_ieq dX3_next_237 rfl (by decide)
theorem en_X3_next_240 : SndE EE S mi_X3_next 240 (.inl (e_lda 241 0)) := sn_aload_n dX3_next_240 rfl rfl
theorem en_X3_next_241 : SndE EE S mi_X3_next 241 (.inl (e_dup 242)) := sn_dup dX3_next_241 rfl
theorem en_X3_next_242 : SndE EE S mi_X3_next 242 (.inl (e_gI 245 3 8)) := sn_gI dX3_next_242 rfl cl_3 (by decide) rfl (Or.inl q861) (Or.inl rfl)
theorem en_X3_next_245 : SndE EE S mi_X3_next 245 (.inl (e_ldi 246 2)) := sn_iload_n dX3_next_245 rfl rfl
theorem en_X3_next_246 : SndE EE S mi_X3_next 246 (.inl (e_bin 247 (fun x y => x + y))) := sn_iadd dX3_next_246 rfl
theorem en_X3_next_247 : SndE EE S mi_X3_next 247 (.inl (e_pI 250 3 8)) := sn_pI dX3_next_247 rfl cl_3 (by decide) rfl (Or.inl ⟨q861, Or.inl rfl⟩) (Or.inl rfl) (fun _ => ⟨rfl, rfl⟩)
theorem en_X3_next_250 : SndE EE S mi_X3_next 250 (.inr (.inr 0)) := ⟨dX3_next_250, rfl⟩
theorem sd_X3_next : ∀ pc x, cd_X3_next pc = some x → SndE EE S mi_X3_next pc x := (tN_ok (tN_ok (tN_ok (tN_ok (tN_ok (tN_ok (tN_ok (tL_ok en_X3_next_0) (tL_ok en_X3_next_1)) (tN_ok (tL_ok en_X3_next_2) (tL_ok en_X3_next_5))) (tN_ok (tN_ok (tL_ok en_X3_next_7) (tL_ok en_X3_next_10)) (tN_ok (tL_ok en_X3_next_11) (tL_ok en_X3_next_12)))) (tN_ok (tN_ok (tN_ok (tL_ok en_X3_next_15) (tL_ok en_X3_next_17)) (tN_ok (tL_ok en_X3_next_20) (tL_ok en_X3_next_21))) (tN_ok (tN_ok (tL_ok en_X3_next_22) (tL_ok en_X3_next_25)) (tN_ok (tL_ok en_X3_next_26) (tL_ok en_X3_next_27))))) (tN_ok (tN_ok (tN_ok (tN_ok (tL_ok en_X3_next_30) (tL_ok en_X3_next_33)) (tN_ok (tL_ok en_X3_next_34) (tL_ok en_X3_next_35))) (tN_ok (tN_ok (tL_ok en_X3_next_38) (tL_ok en_X3_next_41)) (tN_ok (tL_ok en_X3_next_42) (tL_ok en_X3_next_43)))) (tN_ok (tN_ok (tN_ok (tL_ok en_X3_next_46) (tL_ok en_X3_next_47)) (tN_ok (tL_ok en_X3_next_48) (tL_ok en_X3_next_49))) (tN_ok (tN_ok (tL_ok en_X3_next_50) (tL_ok en_X3_next_51)) (tN_ok (tL_ok en_X3_next_54) (tN_ok (tL_ok en_X3_next_55) (tL_ok en_X3_next_56))))))) (tN_ok (tN_ok (tN_ok (tN_ok (tN_ok (tL_ok en_X3_next_59) (tL_ok en_X3_next_60)) (tN_ok (tL_ok en_X3_next_63) (tL_ok en_X3_next_64))) (tN_ok (tN_ok (tL_ok en_X3_next_65) (tL_ok en_X3_next_68)) (tN_ok (tL_ok en_X3_next_71) (tL_ok en_X3_next_72)))) (tN_ok (tN_ok (tN_ok (tL_ok en_X3_next_75) (tL_ok en_X3_next_78)) (tN_ok (tL_ok en_X3_next_79) (tL_ok en_X3_next_80))) (tN_ok (tN_ok (tL_ok en_X3_next_83) (tL_ok en_X3_next_86)) (tN_ok (tL_ok en_X3_next_89) (tL_ok en_X3_next_90))))) (tN_ok (tN_ok (tN_ok (tN_ok (tL_ok en_X3_next_92) (tL_ok en_X3_next_95)) (tN_ok (tL_ok en_X3_next_96) (tL_ok en_X3_next_97))) (tN_ok (tN_ok (tL_ok en_X3_next_100) (tL_ok en_X3_next_102)) (tN_ok (tL_ok en_X3_next_103) (tL_ok en_X3_next_104)))) (tN_ok (tN_ok (tN_ok (tL_ok en_X3_next_105) (tL_ok en_X3_next_108)) (tN_ok (tL_ok en_X3_next_109) (tL_ok en_X3_next_110))) (tN_ok (tN_ok (tL_ok en_X3_next_113) (tL_ok en_X3_next_116)) (tN_ok (tL_ok en_X3_next_119) (tN_ok (tL_ok en_X3_next_120) (tL_ok en_X3_next_121)))))))) (tN_ok (tN_ok (tN_ok (tN_ok (tN_ok (tN_ok (tL_ok en_X3_next_123) (tL_ok en_X3_next_126)) (tN_ok (tL_ok en_X3_next_127) (tL_ok en_X3_next_130))) (tN_ok (tN_ok (tL_ok en_X3_next_131) (tL_ok en_X3_next_134)) (tN_ok (tL_ok en_X3_next_137) (tL_ok en_X3_next_138)))) (tN_ok (tN_ok (tN_ok (tL_ok en_X3_next_141) (tL_ok en_X3_next_144)) (tN_ok (tL_ok en_X3_next_145) (tL_ok en_X3_next_146))) (tN_ok (tN_ok (tL_ok en_X3_next_149) (tL_ok en_X3_next_152)) (tN_ok (tL_ok en_X3_next_155) (tL_ok en_X3_next_156))))) (tN_ok (tN_ok (tN_ok (tN_ok (tL_ok en_X3_next_157) (tL_ok en_X3_next_160)) (tN_ok (tL_ok en_X3_next_161) (tL_ok en_X3_next_163))) (tN_ok (tN_ok (tL_ok en_X3_next_164) (tL_ok en_X3_next_167)) (tN_ok (tL_ok en_X3_next_168) (tL_ok en_X3_next_169)))) (tN_ok (tN_ok (tN_ok (tL_ok en_X3_next_170) (tL_ok en_X3_next_173)) (tN_ok (tL_ok en_X3_next_174) (tL_ok en_X3_next_176))) (tN_ok (tN_ok (tL_ok en_X3_next_177) (tL_ok en_X3_next_180)) (tN_ok (tL_ok en_X3_next_183) (tN_ok (tL_ok en_X3_next_186) (tL_ok en_X3_next_187))))))) (tN_ok (tN_ok (tN_ok (tN_ok (tN_ok (tL_ok en_X3_next_188) (tL_ok en_X3_next_189)) (tN_ok (tL_ok en_X3_next_192) (tL_ok en_X3_next_193))) (tN_ok (tN_ok (tL_ok en_X3_next_194) (tL_ok en_X3_next_197)) (tN_ok (tL_ok en_X3_next_200) (tL_ok en_X3_next_203)))) (tN_ok (tN_ok (tN_ok (tL_ok en_X3_next_204) (tL_ok en_X3_next_207)) (tN_ok (tL_ok en_X3_next_208) (tL_ok en_X3_next_211))) (tN_ok (tN_ok (tL_ok en_X3_next_214) (tL_ok en_X3_next_215)) (tN_ok (tL_ok en_X3_next_216) (tL_ok en_X3_next_217))))) (tN_ok (tN_ok (tN_ok (tN_ok (tL_ok en_X3_next_218) (tL_ok en_X3_next_221)) (tN_ok (tL_ok en_X3_next_224) (tL_ok en_X3_next_225))) (tN_ok (tN_ok (tL_ok en_X3_next_228) (tL_ok en_X3_next_229)) (tN_ok (tL_ok en_X3_next_232) (tL_ok en_X3_next_233)))) (tN_ok (tN_ok (tN_ok (tL_ok en_X3_next_236) (tL_ok en_X3_next_237)) (tN_ok (tL_ok en_X3_next_240) (tL_ok en_X3_next_241))) (tN_ok (tN_ok (tL_ok en_X3_next_242) (tL_ok en_X3_next_245)) (tN_ok (tL_ok en_X3_next_246) (tN_ok (tL_ok en_X3_next_247) (tL_ok en_X3_next_250)))))))))
theorem en_X3_here_0 : SndE EE S mi_X3_here 0 (.inl (e_lda 1 0)) := sn_aload_n dX3_here_0 rfl rfl
theorem en_X3_here_1 : SndE EE S mi_X3_here 1 (.inl (e_gI 4 3 8)) := sn_gI dX3_here_1 rfl cl_3 (by decide) rfl (Or.inl q861) (Or.inl rfl)
theorem en_X3_here_4 : SndE EE S mi_X3_here 4 (.inl (e_ldi 5 1)) := sn_iload_n dX3_here_4 rfl rfl
theorem en_X3_here_5 : SndE EE S mi_X3_here 5 (.inl (e_bin 6 (fun x y => x + y))) := sn_iadd dX3_here_5 rfl
theorem en_X3_here_6 : SndE EE S mi_X3_here 6 (.inl (e_lda 7 0)) := sn_aload_n dX3_here_6 rfl rfl
theorem en_X3_here_7 : SndE EE S mi_X3_here 7 (.inl (e_gI 10 3 9)) := sn_gI dX3_here_7 rfl cl_3 (by decide) rfl (Or.inl q862) (Or.inl rfl)
theorem en_X3_here_10 : SndE EE S mi_X3_here 10 (.inl (e_ige 13 27)) := sn_ige dX3_here_10 rfl (by decide)
theorem en_X3_here_13 : SndE EE S mi_X3_here 13 (.inl (e_lda 14 0)) := sn_aload_n dX3_here_13 rfl rfl
theorem en_X3_here_14 : SndE EE S mi_X3_here 14 (.inl (e_gR 17 3 4)) := sn_gR dX3_here_14 rfl cl_3 (by decide) rfl (Or.inl q857) (Or.inl rfl)
theorem en_X3_here_17 : SndE EE S mi_X3_here 17 (.inl (e_lda 18 0)) := sn_aload_n dX3_here_17 rfl rfl
theorem en_X3_here_18 : SndE EE S mi_X3_here 18 (.inl (e_gI 21 3 8)) := sn_gI dX3_here_18 rfl cl_3 (by decide) rfl (Or.inl q861) (Or.inl rfl)
theorem en_X3_here_21 : SndE EE S mi_X3_here 21 (.inl (e_ldi 22 1)) := sn_iload_n dX3_here_21 rfl rfl
theorem en_X3_here_22 : SndE EE S mi_X3_here 22 (.inl (e_bin 23 (fun x y => x + y))) := sn_iadd dX3_here_22 rfl
theorem en_X3_here_23 : SndE EE S mi_X3_here 23 (.inl (e_ald 24 1)) := sn_iald dX3_here_23 rfl
theorem en_X3_here_24 : SndE EE S mi_X3_here 24 (.inl (e_goto 28)) := sn_goto dX3_here_24 (by decide)
theorem en_X3_here_27 : SndE EE S mi_X3_here 27 (.inl (e_psh 28 (.int (-1)))) := sn_iconst dX3_here_27 rfl rfl
theorem en_X3_here_28 : SndE EE S mi_X3_here 28 (.inr (.inr 1)) := ⟨dX3_here_28, rfl⟩
theorem sd_X3_here : ∀ pc x, cd_X3_here pc = some x → SndE EE S mi_X3_here pc x := (tN_ok (tN_ok (tN_ok (tN_ok (tL_ok en_X3_here_0) (tL_ok en_X3_here_1)) (tN_ok (tL_ok en_X3_here_4) (tL_ok en_X3_here_5))) (tN_ok (tN_ok (tL_ok en_X3_here_6) (tL_ok en_X3_here_7)) (tN_ok (tL_ok en_X3_here_10) (tL_ok en_X3_here_13)))) (tN_ok (tN_ok (tN_ok (tL_ok en_X3_here_14) (tL_ok en_X3_here_17)) (tN_ok (tL_ok en_X3_here_18) (tL_ok en_X3_here_21))) (tN_ok (tN_ok (tL_ok en_X3_here_22) (tL_ok en_X3_here_23)) (tN_ok (tL_ok en_X3_here_24) (tN_ok (tL_ok en_X3_here_27) (tL_ok en_X3_here_28))))))
theorem en_X3_isLetter_0 : SndE EE S mi_X3_isLetter 0 (.inl (e_ldi 1 0)) := sn_iload_n dX3_isLetter_0 rfl rfl
theorem en_X3_isLetter_1 : SndE EE S mi_X3_isLetter 1 (.inl (e_psh 3 (.int (97)))) := sn_bipush dX3_isLetter_1 rfl rfl
theorem en_X3_isLetter_3 : SndE EE S mi_X3_isLetter 3 (.inl (e_ilt 6 16)) := sn_ilt dX3_isLetter_3 rfl (by decide)
theorem en_X3_isLetter_6 : SndE EE S mi_X3_isLetter 6 (.inl (e_ldi 7 0)) := sn_iload_n dX3_isLetter_6 rfl rfl
theorem en_X3_isLetter_7 : SndE EE S mi_X3_isLetter 7 (.inl (e_psh 9 (.int (122)))) := sn_bipush dX3_isLetter_7 rfl rfl
theorem en_X3_isLetter_9 : SndE EE S mi_X3_isLetter 9 (.inl (e_igt 12 16)) := sn_igt dX3_isLetter_9 rfl (by decide)
theorem en_X3_isLetter_12 : SndE EE S mi_X3_isLetter 12 (.inl (e_psh 13 (.int (1)))) := sn_iconst dX3_isLetter_12 rfl rfl
theorem en_X3_isLetter_13 : SndE EE S mi_X3_isLetter 13 (.inl (e_goto 17)) := sn_goto dX3_isLetter_13 (by decide)
theorem en_X3_isLetter_16 : SndE EE S mi_X3_isLetter 16 (.inl (e_psh 17 (.int (0)))) := sn_iconst dX3_isLetter_16 rfl rfl
theorem en_X3_isLetter_17 : SndE EE S mi_X3_isLetter 17 (.inr (.inr 2)) := ⟨dX3_isLetter_17, rfl⟩
theorem sd_X3_isLetter : ∀ pc x, cd_X3_isLetter pc = some x → SndE EE S mi_X3_isLetter pc x := (tN_ok (tN_ok (tN_ok (tL_ok en_X3_isLetter_0) (tL_ok en_X3_isLetter_1)) (tN_ok (tL_ok en_X3_isLetter_3) (tN_ok (tL_ok en_X3_isLetter_6) (tL_ok en_X3_isLetter_7)))) (tN_ok (tN_ok (tL_ok en_X3_isLetter_9) (tL_ok en_X3_isLetter_12)) (tN_ok (tL_ok en_X3_isLetter_13) (tN_ok (tL_ok en_X3_isLetter_16) (tL_ok en_X3_isLetter_17)))))
theorem en_X3_isDigit_0 : SndE EE S mi_X3_isDigit 0 (.inl (e_ldi 1 0)) := sn_iload_n dX3_isDigit_0 rfl rfl
theorem en_X3_isDigit_1 : SndE EE S mi_X3_isDigit 1 (.inl (e_psh 3 (.int (48)))) := sn_bipush dX3_isDigit_1 rfl rfl
theorem en_X3_isDigit_3 : SndE EE S mi_X3_isDigit 3 (.inl (e_ilt 6 16)) := sn_ilt dX3_isDigit_3 rfl (by decide)
theorem en_X3_isDigit_6 : SndE EE S mi_X3_isDigit 6 (.inl (e_ldi 7 0)) := sn_iload_n dX3_isDigit_6 rfl rfl
theorem en_X3_isDigit_7 : SndE EE S mi_X3_isDigit 7 (.inl (e_psh 9 (.int (57)))) := sn_bipush dX3_isDigit_7 rfl rfl
theorem en_X3_isDigit_9 : SndE EE S mi_X3_isDigit 9 (.inl (e_igt 12 16)) := sn_igt dX3_isDigit_9 rfl (by decide)
theorem en_X3_isDigit_12 : SndE EE S mi_X3_isDigit 12 (.inl (e_psh 13 (.int (1)))) := sn_iconst dX3_isDigit_12 rfl rfl
theorem en_X3_isDigit_13 : SndE EE S mi_X3_isDigit 13 (.inl (e_goto 17)) := sn_goto dX3_isDigit_13 (by decide)
theorem en_X3_isDigit_16 : SndE EE S mi_X3_isDigit 16 (.inl (e_psh 17 (.int (0)))) := sn_iconst dX3_isDigit_16 rfl rfl
theorem en_X3_isDigit_17 : SndE EE S mi_X3_isDigit 17 (.inr (.inr 2)) := ⟨dX3_isDigit_17, rfl⟩
theorem sd_X3_isDigit : ∀ pc x, cd_X3_isDigit pc = some x → SndE EE S mi_X3_isDigit pc x := (tN_ok (tN_ok (tN_ok (tL_ok en_X3_isDigit_0) (tL_ok en_X3_isDigit_1)) (tN_ok (tL_ok en_X3_isDigit_3) (tN_ok (tL_ok en_X3_isDigit_6) (tL_ok en_X3_isDigit_7)))) (tN_ok (tN_ok (tL_ok en_X3_isDigit_9) (tL_ok en_X3_isDigit_12)) (tN_ok (tL_ok en_X3_isDigit_13) (tN_ok (tL_ok en_X3_isDigit_16) (tL_ok en_X3_isDigit_17)))))
theorem en_X3_isSign_0 : SndE EE S mi_X3_isSign 0 (.inl (e_ldi 1 0)) := sn_iload_n dX3_isSign_0 rfl rfl
theorem en_X3_isSign_1 : SndE EE S mi_X3_isSign 1 (.inl (e_psh 3 (.int (59)))) := sn_bipush dX3_isSign_1 rfl rfl
theorem en_X3_isSign_3 : SndE EE S mi_X3_isSign 3 (.inl (e_ieq 6 48)) := sn_ieq dX3_isSign_3 rfl (by decide)
theorem en_X3_isSign_6 : SndE EE S mi_X3_isSign 6 (.inl (e_ldi 7 0)) := sn_iload_n dX3_isSign_6 rfl rfl
theorem en_X3_isSign_7 : SndE EE S mi_X3_isSign 7 (.inl (e_psh 9 (.int (40)))) := sn_bipush dX3_isSign_7 rfl rfl
theorem en_X3_isSign_9 : SndE EE S mi_X3_isSign 9 (.inl (e_ieq 12 48)) := sn_ieq dX3_isSign_9 rfl (by decide)
theorem en_X3_isSign_12 : SndE EE S mi_X3_isSign 12 (.inl (e_ldi 13 0)) := sn_iload_n dX3_isSign_12 rfl rfl
theorem en_X3_isSign_13 : SndE EE S mi_X3_isSign 13 (.inl (e_psh 15 (.int (41)))) := sn_bipush dX3_isSign_13 rfl rfl
theorem en_X3_isSign_15 : SndE EE S mi_X3_isSign 15 (.inl (e_ieq 18 48)) := sn_ieq dX3_isSign_15 rfl (by decide)
theorem en_X3_isSign_18 : SndE EE S mi_X3_isSign 18 (.inl (e_ldi 19 0)) := sn_iload_n dX3_isSign_18 rfl rfl
theorem en_X3_isSign_19 : SndE EE S mi_X3_isSign 19 (.inl (e_psh 21 (.int (60)))) := sn_bipush dX3_isSign_19 rfl rfl
theorem en_X3_isSign_21 : SndE EE S mi_X3_isSign 21 (.inl (e_ieq 24 48)) := sn_ieq dX3_isSign_21 rfl (by decide)
theorem en_X3_isSign_24 : SndE EE S mi_X3_isSign 24 (.inl (e_ldi 25 0)) := sn_iload_n dX3_isSign_24 rfl rfl
theorem en_X3_isSign_25 : SndE EE S mi_X3_isSign 25 (.inl (e_psh 27 (.int (62)))) := sn_bipush dX3_isSign_25 rfl rfl
theorem en_X3_isSign_27 : SndE EE S mi_X3_isSign 27 (.inl (e_ieq 30 48)) := sn_ieq dX3_isSign_27 rfl (by decide)
theorem en_X3_isSign_30 : SndE EE S mi_X3_isSign 30 (.inl (e_ldi 31 0)) := sn_iload_n dX3_isSign_30 rfl rfl
theorem en_X3_isSign_31 : SndE EE S mi_X3_isSign 31 (.inl (e_psh 33 (.int (61)))) := sn_bipush dX3_isSign_31 rfl rfl
theorem en_X3_isSign_33 : SndE EE S mi_X3_isSign 33 (.inl (e_ieq 36 48)) := sn_ieq dX3_isSign_33 rfl (by decide)
theorem en_X3_isSign_36 : SndE EE S mi_X3_isSign 36 (.inl (e_ldi 37 0)) := sn_iload_n dX3_isSign_36 rfl rfl
theorem en_X3_isSign_37 : SndE EE S mi_X3_isSign 37 (.inl (e_psh 39 (.int (43)))) := sn_bipush dX3_isSign_37 rfl rfl
theorem en_X3_isSign_39 : SndE EE S mi_X3_isSign 39 (.inl (e_ieq 42 48)) := sn_ieq dX3_isSign_39 rfl (by decide)
theorem en_X3_isSign_42 : SndE EE S mi_X3_isSign 42 (.inl (e_ldi 43 0)) := sn_iload_n dX3_isSign_42 rfl rfl
theorem en_X3_isSign_43 : SndE EE S mi_X3_isSign 43 (.inl (e_psh 45 (.int (45)))) := sn_bipush dX3_isSign_43 rfl rfl
theorem en_X3_isSign_45 : SndE EE S mi_X3_isSign 45 (.inl (e_ine 48 52)) := sn_ine dX3_isSign_45 rfl (by decide)
theorem en_X3_isSign_48 : SndE EE S mi_X3_isSign 48 (.inl (e_psh 49 (.int (1)))) := sn_iconst dX3_isSign_48 rfl rfl
theorem en_X3_isSign_49 : SndE EE S mi_X3_isSign 49 (.inl (e_goto 53)) := sn_goto dX3_isSign_49 (by decide)
theorem en_X3_isSign_52 : SndE EE S mi_X3_isSign 52 (.inl (e_psh 53 (.int (0)))) := sn_iconst dX3_isSign_52 rfl rfl
theorem en_X3_isSign_53 : SndE EE S mi_X3_isSign 53 (.inr (.inr 2)) := ⟨dX3_isSign_53, rfl⟩
theorem sd_X3_isSign : ∀ pc x, cd_X3_isSign pc = some x → SndE EE S mi_X3_isSign pc x := (tN_ok (tN_ok (tN_ok (tN_ok (tL_ok en_X3_isSign_0) (tN_ok (tL_ok en_X3_isSign_1) (tL_ok en_X3_isSign_3))) (tN_ok (tN_ok (tL_ok en_X3_isSign_6) (tL_ok en_X3_isSign_7)) (tN_ok (tL_ok en_X3_isSign_9) (tL_ok en_X3_isSign_12)))) (tN_ok (tN_ok (tL_ok en_X3_isSign_13) (tN_ok (tL_ok en_X3_isSign_15) (tL_ok en_X3_isSign_18))) (tN_ok (tN_ok (tL_ok en_X3_isSign_19) (tL_ok en_X3_isSign_21)) (tN_ok (tL_ok en_X3_isSign_24) (tL_ok en_X3_isSign_25))))) (tN_ok (tN_ok (tN_ok (tL_ok en_X3_isSign_27) (tN_ok (tL_ok en_X3_isSign_30) (tL_ok en_X3_isSign_31))) (tN_ok (tN_ok (tL_ok en_X3_isSign_33) (tL_ok en_X3_isSign_36)) (tN_ok (tL_ok en_X3_isSign_37) (tL_ok en_X3_isSign_39)))) (tN_ok (tN_ok (tL_ok en_X3_isSign_42) (tN_ok (tL_ok en_X3_isSign_43) (tL_ok en_X3_isSign_45))) (tN_ok (tN_ok (tL_ok en_X3_isSign_48) (tL_ok en_X3_isSign_49)) (tN_ok (tL_ok en_X3_isSign_52) (tL_ok en_X3_isSign_53))))))
theorem en_X3_isWord_0 : SndE EE S mi_X3_isWord 0 (.inl (e_lda 1 0)) := sn_aload_n dX3_isWord_0 rfl rfl
theorem en_X3_isWord_1 : SndE EE S mi_X3_isWord 1 (.inl (e_gI 4 3 10)) := sn_gI dX3_isWord_1 rfl cl_3 (by decide) rfl (Or.inl q863) (Or.inl rfl)
theorem en_X3_isWord_4 : SndE EE S mi_X3_isWord 4 (.inl (e_psh 5 (.int (1)))) := sn_iconst dX3_isWord_4 rfl rfl
theorem en_X3_isWord_5 : SndE EE S mi_X3_isWord 5 (.inl (e_ine 8 21)) := sn_ine dX3_isWord_5 rfl (by decide)
theorem en_X3_isWord_8 : SndE EE S mi_X3_isWord 8 (.inl (e_lda 9 0)) := sn_aload_n dX3_isWord_8 rfl rfl
theorem en_X3_isWord_9 : SndE EE S mi_X3_isWord 9 (.inl (e_gL 12 3 13)) := sn_gL dX3_isWord_9 rfl cl_3 (by decide) rfl (Or.inl q866) (Or.inl rfl)
theorem en_X3_isWord_12 : SndE EE S mi_X3_isWord 12 (.inl (e_ldl 13 1)) := sn_lload_n dX3_isWord_12 rfl rfl
theorem en_X3_isWord_13 : SndE EE S mi_X3_isWord 13 (.inl (e_lcmp 14)) := sn_lcmp dX3_isWord_13 rfl
theorem en_X3_isWord_14 : SndE EE S mi_X3_isWord 14 (.inl (e_zne 17 21)) := sn_zne dX3_isWord_14 rfl (by decide)
theorem en_X3_isWord_17 : SndE EE S mi_X3_isWord 17 (.inl (e_psh 18 (.int (1)))) := sn_iconst dX3_isWord_17 rfl rfl
theorem en_X3_isWord_18 : SndE EE S mi_X3_isWord 18 (.inl (e_goto 22)) := sn_goto dX3_isWord_18 (by decide)
theorem en_X3_isWord_21 : SndE EE S mi_X3_isWord 21 (.inl (e_psh 22 (.int (0)))) := sn_iconst dX3_isWord_21 rfl rfl
theorem en_X3_isWord_22 : SndE EE S mi_X3_isWord 22 (.inr (.inr 2)) := ⟨dX3_isWord_22, rfl⟩
theorem sd_X3_isWord : ∀ pc x, cd_X3_isWord pc = some x → SndE EE S mi_X3_isWord pc x := (tN_ok (tN_ok (tN_ok (tL_ok en_X3_isWord_0) (tN_ok (tL_ok en_X3_isWord_1) (tL_ok en_X3_isWord_4))) (tN_ok (tL_ok en_X3_isWord_5) (tN_ok (tL_ok en_X3_isWord_8) (tL_ok en_X3_isWord_9)))) (tN_ok (tN_ok (tL_ok en_X3_isWord_12) (tN_ok (tL_ok en_X3_isWord_13) (tL_ok en_X3_isWord_14))) (tN_ok (tN_ok (tL_ok en_X3_isWord_17) (tL_ok en_X3_isWord_18)) (tN_ok (tL_ok en_X3_isWord_21) (tL_ok en_X3_isWord_22)))))
theorem en_X3_wrong_0 : SndE EE S mi_X3_wrong 0 (.inl (e_lda 1 0)) := sn_aload_n dX3_wrong_0 rfl rfl
theorem en_X3_wrong_1 : SndE EE S mi_X3_wrong 1 (.inl (e_gI 4 3 6)) := sn_gI dX3_wrong_1 rfl cl_3 (by decide) rfl (Or.inl q859) (Or.inl rfl)
theorem en_X3_wrong_4 : SndE EE S mi_X3_wrong 4 (.inl (e_zle 7 8)) := sn_zle dX3_wrong_4 rfl (by decide)
theorem en_X3_wrong_7 : SndE EE S mi_X3_wrong 7 (.inr (.inr 0)) := ⟨dX3_wrong_7, rfl⟩
theorem en_X3_wrong_8 : SndE EE S mi_X3_wrong 8 (.inl (e_lda 9 0)) := sn_aload_n dX3_wrong_8 rfl rfl
theorem en_X3_wrong_9 : SndE EE S mi_X3_wrong 9 (.inl (e_lda 10 0)) := sn_aload_n dX3_wrong_9 rfl rfl
theorem en_X3_wrong_10 : SndE EE S mi_X3_wrong 10 (.inl (e_gI 13 3 10)) := sn_gI dX3_wrong_10 rfl cl_3 (by decide) rfl (Or.inl q863) (Or.inl rfl)
theorem en_X3_wrong_13 : SndE EE S mi_X3_wrong 13 (.inl (e_psh 14 (.int (3)))) := sn_iconst dX3_wrong_13 rfl rfl
theorem en_X3_wrong_14 : SndE EE S mi_X3_wrong 14 (.inl (e_ine 17 21)) := sn_ine dX3_wrong_14 rfl (by decide)
theorem en_X3_wrong_17 : SndE EE S mi_X3_wrong 17 (.inl (e_psh 18 (.int (1)))) := sn_iconst dX3_wrong_17 rfl rfl
theorem en_X3_wrong_18 : SndE EE S mi_X3_wrong 18 (.inl (e_goto 22)) := sn_goto dX3_wrong_18 (by decide)
theorem en_X3_wrong_21 : SndE EE S mi_X3_wrong 21 (.inl (e_ldi 22 1)) := sn_iload_n dX3_wrong_21 rfl rfl
theorem en_X3_wrong_22 : SndE EE S mi_X3_wrong 22 (.inl (e_pI 25 3 6)) := sn_pI dX3_wrong_22 rfl cl_3 (by decide) rfl (Or.inl ⟨q859, Or.inl rfl⟩) (Or.inl rfl) (fun _ => ⟨rfl, rfl⟩)
theorem en_X3_wrong_25 : SndE EE S mi_X3_wrong 25 (.inl (e_lda 26 0)) := sn_aload_n dX3_wrong_25 rfl rfl
theorem en_X3_wrong_26 : SndE EE S mi_X3_wrong 26 (.inl (e_lda 27 0)) := sn_aload_n dX3_wrong_26 rfl rfl
theorem en_X3_wrong_27 : SndE EE S mi_X3_wrong 27 (.inl (e_gI 30 3 11)) := sn_gI dX3_wrong_27 rfl cl_3 (by decide) rfl (Or.inl q864) (Or.inl rfl)
theorem en_X3_wrong_30 : SndE EE S mi_X3_wrong 30 (.inl (e_pI 33 3 7)) := sn_pI dX3_wrong_30 rfl cl_3 (by decide) rfl (Or.inl ⟨q860, Or.inl rfl⟩) (Or.inl rfl) (fun _ => ⟨rfl, rfl⟩)
theorem en_X3_wrong_33 : SndE EE S mi_X3_wrong 33 (.inr (.inr 0)) := ⟨dX3_wrong_33, rfl⟩
theorem sd_X3_wrong : ∀ pc x, cd_X3_wrong pc = some x → SndE EE S mi_X3_wrong pc x := (tN_ok (tN_ok (tN_ok (tN_ok (tL_ok en_X3_wrong_0) (tL_ok en_X3_wrong_1)) (tN_ok (tL_ok en_X3_wrong_4) (tL_ok en_X3_wrong_7))) (tN_ok (tN_ok (tL_ok en_X3_wrong_8) (tL_ok en_X3_wrong_9)) (tN_ok (tL_ok en_X3_wrong_10) (tN_ok (tL_ok en_X3_wrong_13) (tL_ok en_X3_wrong_14))))) (tN_ok (tN_ok (tN_ok (tL_ok en_X3_wrong_17) (tL_ok en_X3_wrong_18)) (tN_ok (tL_ok en_X3_wrong_21) (tL_ok en_X3_wrong_22))) (tN_ok (tN_ok (tL_ok en_X3_wrong_25) (tL_ok en_X3_wrong_26)) (tN_ok (tL_ok en_X3_wrong_27) (tN_ok (tL_ok en_X3_wrong_30) (tL_ok en_X3_wrong_33))))))
theorem en_X3_told_0 : SndE EE S mi_X3_told 0 (.inl (e_lda 1 0)) := sn_aload_n dX3_told_0 rfl rfl
theorem en_X3_told_1 : SndE EE S mi_X3_told 1 (.inl (e_gI 4 3 10)) := sn_gI dX3_told_1 rfl cl_3 (by decide) rfl (Or.inl q863) (Or.inl rfl)
theorem en_X3_told_4 : SndE EE S mi_X3_told 4 (.inl (e_psh 5 (.int (2)))) := sn_iconst dX3_told_4 rfl rfl
theorem en_X3_told_5 : SndE EE S mi_X3_told 5 (.inl (e_ieq 8 16)) := sn_ieq dX3_told_5 rfl (by decide)
theorem en_X3_told_8 : SndE EE S mi_X3_told 8 (.inl (e_lda 9 0)) := sn_aload_n dX3_told_8 rfl rfl
theorem en_X3_told_9 : SndE EE S mi_X3_told 9 (.inl (e_psh 10 (.int (2)))) := sn_iconst dX3_told_9 rfl rfl
theorem en_X3_told_10 : SndE EE S mi_X3_told 10 (.inr (.inl (d_cls 3 65, 2, 3))) := sc_virt dX3_told_10 (rcv_cls (r := (RX3, TX3, 61)) rfl ⟨mo_X3_wrong, nmo_X3_wrong, q1104, q1106, qs32⟩)
theorem en_X3_told_13 : SndE EE S mi_X3_told 13 (.inl (e_goto 37)) := sn_goto dX3_told_13 (by decide)
theorem en_X3_told_16 : SndE EE S mi_X3_told 16 (.inl (e_lda 17 0)) := sn_aload_n dX3_told_16 rfl rfl
theorem en_X3_told_17 : SndE EE S mi_X3_told 17 (.inl (e_gI 20 3 12)) := sn_gI dX3_told_17 rfl cl_3 (by decide) rfl (Or.inl q865) (Or.inl rfl)
theorem en_X3_told_20 : SndE EE S mi_X3_told 20 (.inl (e_ldi 21 1)) := sn_iload_n dX3_told_20 rfl rfl
theorem en_X3_told_21 : SndE EE S mi_X3_told 21 (.inl (e_ilt 24 32)) := sn_ilt dX3_told_21 rfl (by decide)
theorem en_X3_told_24 : SndE EE S mi_X3_told 24 (.inl (e_lda 25 0)) := sn_aload_n dX3_told_24 rfl rfl
theorem en_X3_told_25 : SndE EE S mi_X3_told 25 (.inl (e_gI 28 3 12)) := sn_gI dX3_told_25 rfl cl_3 (by decide) rfl (Or.inl q865) (Or.inl rfl)
theorem en_X3_told_28 : SndE EE S mi_X3_told 28 (.inl (e_ldi 29 2)) := sn_iload_n dX3_told_28 rfl rfl
theorem en_X3_told_29 : SndE EE S mi_X3_told 29 (.inl (e_ile 32 37)) := sn_ile dX3_told_29 rfl (by decide)
theorem en_X3_told_32 : SndE EE S mi_X3_told 32 (.inl (e_lda 33 0)) := sn_aload_n dX3_told_32 rfl rfl
theorem en_X3_told_33 : SndE EE S mi_X3_told 33 (.inl (e_psh 34 (.int (3)))) := sn_iconst dX3_told_33 rfl rfl
theorem en_X3_told_34 : SndE EE S mi_X3_told 34 (.inr (.inl (d_cls 3 65, 2, 3))) := sc_virt dX3_told_34 (rcv_cls (r := (RX3, TX3, 61)) rfl ⟨mo_X3_wrong, nmo_X3_wrong, q1104, q1106, qs32⟩)
theorem en_X3_told_37 : SndE EE S mi_X3_told 37 (.inl (e_lda 38 0)) := sn_aload_n dX3_told_37 rfl rfl
theorem en_X3_told_38 : SndE EE S mi_X3_told 38 (.inl (e_gI 41 3 12)) := sn_gI dX3_told_38 rfl cl_3 (by decide) rfl (Or.inl q865) (Or.inl rfl)
theorem en_X3_told_41 : SndE EE S mi_X3_told 41 (.inl (e_sti 42 3)) := sn_istore_n dX3_told_41 rfl rfl rfl (by decide)
theorem en_X3_told_42 : SndE EE S mi_X3_told 42 (.inl (e_lda 43 0)) := sn_aload_n dX3_told_42 rfl rfl
theorem en_X3_told_43 : SndE EE S mi_X3_told 43 (.inl (e_gI 46 3 6)) := sn_gI dX3_told_43 rfl cl_3 (by decide) rfl (Or.inl q859) (Or.inl rfl)
theorem en_X3_told_46 : SndE EE S mi_X3_told 46 (.inl (e_zne 49 53)) := sn_zne dX3_told_46 rfl (by decide)
theorem en_X3_told_49 : SndE EE S mi_X3_told 49 (.inl (e_lda 50 0)) := sn_aload_n dX3_told_49 rfl rfl
theorem en_X3_told_50 : SndE EE S mi_X3_told 50 (.inr (.inl (d_cls 3 59, 1, 3))) := sc_virt dX3_told_50 (rcv_cls (r := (RX3, TX3, 61)) rfl ⟨mo_X3_next, nmo_X3_next, q1082, q1084, qs29⟩)
theorem en_X3_told_53 : SndE EE S mi_X3_told 53 (.inl (e_ldi 54 3)) := sn_iload_n dX3_told_53 rfl rfl
theorem en_X3_told_54 : SndE EE S mi_X3_told 54 (.inr (.inr 1)) := ⟨dX3_told_54, rfl⟩
theorem sd_X3_told : ∀ pc x, cd_X3_told pc = some x → SndE EE S mi_X3_told pc x := (tN_ok (tN_ok (tN_ok (tN_ok (tL_ok en_X3_told_0) (tN_ok (tL_ok en_X3_told_1) (tL_ok en_X3_told_4))) (tN_ok (tN_ok (tL_ok en_X3_told_5) (tL_ok en_X3_told_8)) (tN_ok (tL_ok en_X3_told_9) (tL_ok en_X3_told_10)))) (tN_ok (tN_ok (tL_ok en_X3_told_13) (tN_ok (tL_ok en_X3_told_16) (tL_ok en_X3_told_17))) (tN_ok (tN_ok (tL_ok en_X3_told_20) (tL_ok en_X3_told_21)) (tN_ok (tL_ok en_X3_told_24) (tL_ok en_X3_told_25))))) (tN_ok (tN_ok (tN_ok (tL_ok en_X3_told_28) (tN_ok (tL_ok en_X3_told_29) (tL_ok en_X3_told_32))) (tN_ok (tN_ok (tL_ok en_X3_told_33) (tL_ok en_X3_told_34)) (tN_ok (tL_ok en_X3_told_37) (tL_ok en_X3_told_38)))) (tN_ok (tN_ok (tN_ok (tL_ok en_X3_told_41) (tL_ok en_X3_told_42)) (tN_ok (tL_ok en_X3_told_43) (tL_ok en_X3_told_46))) (tN_ok (tN_ok (tL_ok en_X3_told_49) (tL_ok en_X3_told_50)) (tN_ok (tL_ok en_X3_told_53) (tL_ok en_X3_told_54))))))
theorem en_X3_readE_0 : SndE EE S mi_X3_readE 0 (.inl (e_lda 1 0)) := sn_aload_n dX3_readE_0 rfl rfl
theorem en_X3_readE_1 : SndE EE S mi_X3_readE 1 (.inl (e_psh 2 (.int (0)))) := sn_iconst dX3_readE_1 rfl rfl
theorem en_X3_readE_2 : SndE EE S mi_X3_readE 2 (.inl (e_pI 5 3 29)) := sn_pI dX3_readE_2 rfl cl_3 (by decide) rfl (Or.inl ⟨q882, Or.inl rfl⟩) (Or.inl rfl) (fun _ => ⟨rfl, rfl⟩)
theorem en_X3_readE_5 : SndE EE S mi_X3_readE 5 (.inl (e_lda 6 0)) := sn_aload_n dX3_readE_5 rfl rfl
theorem en_X3_readE_6 : SndE EE S mi_X3_readE 6 (.inl (e_psh 7 (.int (0)))) := sn_iconst dX3_readE_6 rfl rfl
theorem en_X3_readE_7 : SndE EE S mi_X3_readE 7 (.inl (e_pI 10 3 30)) := sn_pI dX3_readE_7 rfl cl_3 (by decide) rfl (Or.inl ⟨q883, Or.inl rfl⟩) (Or.inl rfl) (fun _ => ⟨rfl, rfl⟩)
theorem en_X3_readE_10 : SndE EE S mi_X3_readE 10 (.inl (e_psh 11 (.int (0)))) := sn_iconst dX3_readE_10 rfl rfl
theorem en_X3_readE_11 : SndE EE S mi_X3_readE 11 (.inl (e_sti 12 1)) := sn_istore_n dX3_readE_11 rfl rfl rfl (by decide)
theorem en_X3_readE_12 : SndE EE S mi_X3_readE 12 (.inl (e_psh 13 (.int (1)))) := sn_iconst dX3_readE_12 rfl rfl
theorem en_X3_readE_13 : SndE EE S mi_X3_readE 13 (.inl (e_sti 14 2)) := sn_istore_n dX3_readE_13 rfl rfl rfl (by decide)
theorem en_X3_readE_14 : SndE EE S mi_X3_readE 14 (.inl (e_lda 15 0)) := sn_aload_n dX3_readE_14 rfl rfl
theorem en_X3_readE_15 : SndE EE S mi_X3_readE 15 (.inl (e_gI 18 3 6)) := sn_gI dX3_readE_15 rfl cl_3 (by decide) rfl (Or.inl q859) (Or.inl rfl)
theorem en_X3_readE_18 : SndE EE S mi_X3_readE 18 (.inl (e_zne 21 100)) := sn_zne dX3_readE_18 rfl (by decide)
theorem en_X3_readE_21 : SndE EE S mi_X3_readE 21 (.inl (e_ldi 22 2)) := sn_iload_n dX3_readE_21 rfl rfl
theorem en_X3_readE_22 : SndE EE S mi_X3_readE 22 (.inl (e_zeq 25 100)) := sn_zeq dX3_readE_22 rfl (by decide)
theorem en_X3_readE_25 : SndE EE S mi_X3_readE 25 (.inl (e_ldi 26 1)) := sn_iload_n dX3_readE_25 rfl rfl
theorem en_X3_readE_26 : SndE EE S mi_X3_readE 26 (.inl (e_psh 27 (.int (4)))) := sn_iconst dX3_readE_26 rfl rfl
theorem en_X3_readE_27 : SndE EE S mi_X3_readE 27 (.inl (e_ieq 30 35)) := sn_ieq dX3_readE_27 rfl (by decide)
theorem en_X3_readE_30 : SndE EE S mi_X3_readE 30 (.inl (e_ldi 31 1)) := sn_iload_n dX3_readE_30 rfl rfl
theorem en_X3_readE_31 : SndE EE S mi_X3_readE 31 (.inl (e_psh 32 (.int (5)))) := sn_iconst dX3_readE_31 rfl rfl
theorem en_X3_readE_32 : SndE EE S mi_X3_readE 32 (.inl (e_ine 35 39)) := sn_ine dX3_readE_32 rfl (by decide)
theorem en_X3_readE_35 : SndE EE S mi_X3_readE 35 (.inl (e_psh 36 (.int (1)))) := sn_iconst dX3_readE_35 rfl rfl
theorem en_X3_readE_36 : SndE EE S mi_X3_readE 36 (.inl (e_goto 40)) := sn_goto dX3_readE_36 (by decide)
theorem en_X3_readE_39 : SndE EE S mi_X3_readE 39 (.inl (e_psh 40 (.int (0)))) := sn_iconst dX3_readE_39 rfl rfl
theorem en_X3_readE_40 : SndE EE S mi_X3_readE 40 (.inl (e_sti 41 3)) := sn_istore_n dX3_readE_40 rfl rfl rfl (by decide)
theorem en_X3_readE_41 : SndE EE S mi_X3_readE 41 (.inl (e_ldi 42 3)) := sn_iload_n dX3_readE_41 rfl rfl
theorem en_X3_readE_42 : SndE EE S mi_X3_readE 42 (.inl (e_zeq 45 61)) := sn_zeq dX3_readE_42 rfl (by decide)
theorem en_X3_readE_45 : SndE EE S mi_X3_readE 45 (.inl (e_lda 46 0)) := sn_aload_n dX3_readE_45 rfl rfl
theorem en_X3_readE_46 : SndE EE S mi_X3_readE 46 (.inl (e_gI 49 3 10)) := sn_gI dX3_readE_46 rfl cl_3 (by decide) rfl (Or.inl q863) (Or.inl rfl)
theorem en_X3_readE_49 : SndE EE S mi_X3_readE 49 (.inl (e_psh 51 (.int (59)))) := sn_bipush dX3_readE_49 rfl rfl
theorem en_X3_readE_51 : SndE EE S mi_X3_readE 51 (.inl (e_ine 54 61)) := sn_ine dX3_readE_51 rfl (by decide)
theorem en_X3_readE_54 : SndE EE S mi_X3_readE 54 (.inl (e_lda 55 0)) := sn_aload_n dX3_readE_54 rfl rfl
theorem en_X3_readE_55 : SndE EE S mi_X3_readE 55 (.inr (.inl (d_cls 3 68, 1, 3))) := sc_virt dX3_readE_55 (rcv_cls (r := (RX3, TX3, 61)) rfl ⟨mo_X3_isOpen, nmo_X3_isOpen, q1118, q1120, qs35⟩)
theorem en_X3_readE_58 : SndE EE S mi_X3_readE 58 (.inl (e_zeq 61 65)) := sn_zeq dX3_readE_58 rfl (by decide)
theorem en_X3_readE_61 : SndE EE S mi_X3_readE 61 (.inl (e_psh 62 (.int (1)))) := sn_iconst dX3_readE_61 rfl rfl
theorem en_X3_readE_62 : SndE EE S mi_X3_readE 62 (.inl (e_goto 66)) := sn_goto dX3_readE_62 (by decide)
theorem en_X3_readE_65 : SndE EE S mi_X3_readE 65 (.inl (e_psh 66 (.int (0)))) := sn_iconst dX3_readE_65 rfl rfl
theorem en_X3_readE_66 : SndE EE S mi_X3_readE 66 (.inl (e_sti 67 2)) := sn_istore_n dX3_readE_66 rfl rfl rfl (by decide)
theorem en_X3_readE_67 : SndE EE S mi_X3_readE 67 (.inl (e_ldi 68 2)) := sn_iload_n dX3_readE_67 rfl rfl
theorem en_X3_readE_68 : SndE EE S mi_X3_readE 68 (.inl (e_zne 71 74)) := sn_zne dX3_readE_68 rfl (by decide)
theorem en_X3_readE_71 : SndE EE S mi_X3_readE 71 (.inl (e_goto 14)) := sn_goto dX3_readE_71 (by decide)
theorem en_X3_readE_74 : SndE EE S mi_X3_readE 74 (.inl (e_ldi 75 1)) := sn_iload_n dX3_readE_74 rfl rfl
theorem en_X3_readE_75 : SndE EE S mi_X3_readE 75 (.inl (e_psh 76 (.int (3)))) := sn_iconst dX3_readE_75 rfl rfl
theorem en_X3_readE_76 : SndE EE S mi_X3_readE 76 (.inl (e_ieq 79 83)) := sn_ieq dX3_readE_76 rfl (by decide)
theorem en_X3_readE_79 : SndE EE S mi_X3_readE 79 (.inl (e_ldi 80 3)) := sn_iload_n dX3_readE_79 rfl rfl
theorem en_X3_readE_80 : SndE EE S mi_X3_readE 80 (.inl (e_zeq 83 91)) := sn_zeq dX3_readE_80 rfl (by decide)
theorem en_X3_readE_83 : SndE EE S mi_X3_readE 83 (.inl (e_lda 84 0)) := sn_aload_n dX3_readE_83 rfl rfl
theorem en_X3_readE_84 : SndE EE S mi_X3_readE 84 (.inl (e_ldi 85 1)) := sn_iload_n dX3_readE_84 rfl rfl
theorem en_X3_readE_85 : SndE EE S mi_X3_readE 85 (.inr (.inl (d_cls 3 69, 2, 3))) := sc_virt dX3_readE_85 (rcv_cls (r := (RX3, TX3, 61)) rfl ⟨mo_X3_sign, nmo_X3_sign, q1122, q1124, qs36⟩)
theorem en_X3_readE_88 : SndE EE S mi_X3_readE 88 (.inl (e_goto 96)) := sn_goto dX3_readE_88 (by decide)
theorem en_X3_readE_91 : SndE EE S mi_X3_readE 91 (.inl (e_lda 92 0)) := sn_aload_n dX3_readE_91 rfl rfl
theorem en_X3_readE_92 : SndE EE S mi_X3_readE 92 (.inl (e_ldi 93 1)) := sn_iload_n dX3_readE_92 rfl rfl
theorem en_X3_readE_93 : SndE EE S mi_X3_readE 93 (.inr (.inl (d_cls 3 75, 2, 3))) := sc_virt dX3_readE_93 (rcv_cls (r := (RX3, TX3, 61)) rfl ⟨mo_X3_operand, nmo_X3_operand, q1148, q1150, qs42⟩)
theorem en_X3_readE_96 : SndE EE S mi_X3_readE 96 (.inl (e_sti 97 1)) := sn_istore_n dX3_readE_96 rfl rfl rfl (by decide)
theorem en_X3_readE_97 : SndE EE S mi_X3_readE 97 (.inl (e_goto 14)) := sn_goto dX3_readE_97 (by decide)
theorem en_X3_readE_100 : SndE EE S mi_X3_readE 100 (.inl (e_lda 101 0)) := sn_aload_n dX3_readE_100 rfl rfl
theorem en_X3_readE_101 : SndE EE S mi_X3_readE 101 (.inl (e_gI 104 3 6)) := sn_gI dX3_readE_101 rfl cl_3 (by decide) rfl (Or.inl q859) (Or.inl rfl)
theorem en_X3_readE_104 : SndE EE S mi_X3_readE 104 (.inl (e_zne 107 112)) := sn_zne dX3_readE_104 rfl (by decide)
theorem en_X3_readE_107 : SndE EE S mi_X3_readE 107 (.inl (e_lda 108 0)) := sn_aload_n dX3_readE_107 rfl rfl
theorem en_X3_readE_108 : SndE EE S mi_X3_readE 108 (.inl (e_psh 109 (.int (0)))) := sn_iconst dX3_readE_108 rfl rfl
theorem en_X3_readE_109 : SndE EE S mi_X3_readE 109 (.inr (.inl (d_cls 3 70, 2, 3))) := sc_virt dX3_readE_109 (rcv_cls (r := (RX3, TX3, 61)) rfl ⟨mo_X3_settle, nmo_X3_settle, q1126, q1128, qs37⟩)
theorem en_X3_readE_112 : SndE EE S mi_X3_readE 112 (.inr (.inr 0)) := ⟨dX3_readE_112, rfl⟩
theorem sd_X3_readE : ∀ pc x, cd_X3_readE pc = some x → SndE EE S mi_X3_readE pc x := (tN_ok (tN_ok (tN_ok (tN_ok (tN_ok (tL_ok en_X3_readE_0) (tN_ok (tL_ok en_X3_readE_1) (tL_ok en_X3_readE_2))) (tN_ok (tN_ok (tL_ok en_X3_readE_5) (tL_ok en_X3_readE_6)) (tN_ok (tL_ok en_X3_readE_7) (tL_ok en_X3_readE_10)))) (tN_ok (tN_ok (tN_ok (tL_ok en_X3_readE_11) (tL_ok en_X3_readE_12)) (tN_ok (tL_ok en_X3_readE_13) (tL_ok en_X3_readE_14))) (tN_ok (tN_ok (tL_ok en_X3_readE_15) (tL_ok en_X3_readE_18)) (tN_ok (tL_ok en_X3_readE_21) (tL_ok en_X3_readE_22))))) (tN_ok (tN_ok (tN_ok (tN_ok (tL_ok en_X3_readE_25) (tL_ok en_X3_readE_26)) (tN_ok (tL_ok en_X3_readE_27) (tL_ok en_X3_readE_30))) (tN_ok (tN_ok (tL_ok en_X3_readE_31) (tL_ok en_X3_readE_32)) (tN_ok (tL_ok en_X3_readE_35) (tL_ok en_X3_readE_36)))) (tN_ok (tN_ok (tN_ok (tL_ok en_X3_readE_39) (tL_ok en_X3_readE_40)) (tN_ok (tL_ok en_X3_readE_41) (tL_ok en_X3_readE_42))) (tN_ok (tN_ok (tL_ok en_X3_readE_45) (tL_ok en_X3_readE_46)) (tN_ok (tL_ok en_X3_readE_49) (tL_ok en_X3_readE_51)))))) (tN_ok (tN_ok (tN_ok (tN_ok (tL_ok en_X3_readE_54) (tN_ok (tL_ok en_X3_readE_55) (tL_ok en_X3_readE_58))) (tN_ok (tN_ok (tL_ok en_X3_readE_61) (tL_ok en_X3_readE_62)) (tN_ok (tL_ok en_X3_readE_65) (tL_ok en_X3_readE_66)))) (tN_ok (tN_ok (tN_ok (tL_ok en_X3_readE_67) (tL_ok en_X3_readE_68)) (tN_ok (tL_ok en_X3_readE_71) (tL_ok en_X3_readE_74))) (tN_ok (tN_ok (tL_ok en_X3_readE_75) (tL_ok en_X3_readE_76)) (tN_ok (tL_ok en_X3_readE_79) (tL_ok en_X3_readE_80))))) (tN_ok (tN_ok (tN_ok (tN_ok (tL_ok en_X3_readE_83) (tL_ok en_X3_readE_84)) (tN_ok (tL_ok en_X3_readE_85) (tL_ok en_X3_readE_88))) (tN_ok (tN_ok (tL_ok en_X3_readE_91) (tL_ok en_X3_readE_92)) (tN_ok (tL_ok en_X3_readE_93) (tL_ok en_X3_readE_96)))) (tN_ok (tN_ok (tN_ok (tL_ok en_X3_readE_97) (tL_ok en_X3_readE_100)) (tN_ok (tL_ok en_X3_readE_101) (tL_ok en_X3_readE_104))) (tN_ok (tN_ok (tL_ok en_X3_readE_107) (tL_ok en_X3_readE_108)) (tN_ok (tL_ok en_X3_readE_109) (tL_ok en_X3_readE_112)))))))
theorem en_X3_isOpen_0 : SndE EE S mi_X3_isOpen 0 (.inl (e_psh 1 (.int (0)))) := sn_iconst dX3_isOpen_0 rfl rfl
theorem en_X3_isOpen_1 : SndE EE S mi_X3_isOpen 1 (.inl (e_sti 2 1)) := sn_istore_n dX3_isOpen_1 rfl rfl rfl (by decide)
theorem en_X3_isOpen_2 : SndE EE S mi_X3_isOpen 2 (.inl (e_psh 3 (.int (0)))) := sn_iconst dX3_isOpen_2 rfl rfl
theorem en_X3_isOpen_3 : SndE EE S mi_X3_isOpen 3 (.inl (e_sti 4 2)) := sn_istore_n dX3_isOpen_3 rfl rfl rfl (by decide)
theorem en_X3_isOpen_4 : SndE EE S mi_X3_isOpen 4 (.inl (e_ldi 5 2)) := sn_iload_n dX3_isOpen_4 rfl rfl
theorem en_X3_isOpen_5 : SndE EE S mi_X3_isOpen 5 (.inl (e_lda 6 0)) := sn_aload_n dX3_isOpen_5 rfl rfl
theorem en_X3_isOpen_6 : SndE EE S mi_X3_isOpen 6 (.inl (e_gI 9 3 29)) := sn_gI dX3_isOpen_6 rfl cl_3 (by decide) rfl (Or.inl q882) (Or.inl rfl)
theorem en_X3_isOpen_9 : SndE EE S mi_X3_isOpen 9 (.inl (e_ige 12 39)) := sn_ige dX3_isOpen_9 rfl (by decide)
theorem en_X3_isOpen_12 : SndE EE S mi_X3_isOpen 12 (.inl (e_ldi 13 1)) := sn_iload_n dX3_isOpen_12 rfl rfl
theorem en_X3_isOpen_13 : SndE EE S mi_X3_isOpen 13 (.inl (e_zne 16 27)) := sn_zne dX3_isOpen_13 rfl (by decide)
theorem en_X3_isOpen_16 : SndE EE S mi_X3_isOpen 16 (.inl (e_lda 17 0)) := sn_aload_n dX3_isOpen_16 rfl rfl
theorem en_X3_isOpen_17 : SndE EE S mi_X3_isOpen 17 (.inl (e_gR 20 3 28)) := sn_gR dX3_isOpen_17 rfl cl_3 (by decide) rfl (Or.inl q881) (Or.inl rfl)
theorem en_X3_isOpen_20 : SndE EE S mi_X3_isOpen 20 (.inl (e_ldi 21 2)) := sn_iload_n dX3_isOpen_20 rfl rfl
theorem en_X3_isOpen_21 : SndE EE S mi_X3_isOpen 21 (.inl (e_ald 22 1)) := sn_iald dX3_isOpen_21 rfl
theorem en_X3_isOpen_22 : SndE EE S mi_X3_isOpen 22 (.inl (e_psh 24 (.int (28)))) := sn_bipush dX3_isOpen_22 rfl rfl
theorem en_X3_isOpen_24 : SndE EE S mi_X3_isOpen 24 (.inl (e_ine 27 31)) := sn_ine dX3_isOpen_24 rfl (by decide)
theorem en_X3_isOpen_27 : SndE EE S mi_X3_isOpen 27 (.inl (e_psh 28 (.int (1)))) := sn_iconst dX3_isOpen_27 rfl rfl
theorem en_X3_isOpen_28 : SndE EE S mi_X3_isOpen 28 (.inl (e_goto 32)) := sn_goto dX3_isOpen_28 (by decide)
theorem en_X3_isOpen_31 : SndE EE S mi_X3_isOpen 31 (.inl (e_psh 32 (.int (0)))) := sn_iconst dX3_isOpen_31 rfl rfl
theorem en_X3_isOpen_32 : SndE EE S mi_X3_isOpen 32 (.inl (e_sti 33 1)) := sn_istore_n dX3_isOpen_32 rfl rfl rfl (by decide)
theorem en_X3_isOpen_33 : SndE EE S mi_X3_isOpen 33 (.inl (e_inc 36 2 (1))) := sn_iinc dX3_isOpen_33 rfl rfl rfl (by decide)
theorem en_X3_isOpen_36 : SndE EE S mi_X3_isOpen 36 (.inl (e_goto 4)) := sn_goto dX3_isOpen_36 (by decide)
theorem en_X3_isOpen_39 : SndE EE S mi_X3_isOpen 39 (.inl (e_ldi 40 1)) := sn_iload_n dX3_isOpen_39 rfl rfl
theorem en_X3_isOpen_40 : SndE EE S mi_X3_isOpen 40 (.inr (.inr 2)) := ⟨dX3_isOpen_40, rfl⟩
theorem sd_X3_isOpen : ∀ pc x, cd_X3_isOpen pc = some x → SndE EE S mi_X3_isOpen pc x := (tN_ok (tN_ok (tN_ok (tN_ok (tL_ok en_X3_isOpen_0) (tN_ok (tL_ok en_X3_isOpen_1) (tL_ok en_X3_isOpen_2))) (tN_ok (tL_ok en_X3_isOpen_3) (tN_ok (tL_ok en_X3_isOpen_4) (tL_ok en_X3_isOpen_5)))) (tN_ok (tN_ok (tL_ok en_X3_isOpen_6) (tN_ok (tL_ok en_X3_isOpen_9) (tL_ok en_X3_isOpen_12))) (tN_ok (tL_ok en_X3_isOpen_13) (tN_ok (tL_ok en_X3_isOpen_16) (tL_ok en_X3_isOpen_17))))) (tN_ok (tN_ok (tN_ok (tL_ok en_X3_isOpen_20) (tN_ok (tL_ok en_X3_isOpen_21) (tL_ok en_X3_isOpen_22))) (tN_ok (tL_ok en_X3_isOpen_24) (tN_ok (tL_ok en_X3_isOpen_27) (tL_ok en_X3_isOpen_28)))) (tN_ok (tN_ok (tL_ok en_X3_isOpen_31) (tN_ok (tL_ok en_X3_isOpen_32) (tL_ok en_X3_isOpen_33))) (tN_ok (tL_ok en_X3_isOpen_36) (tN_ok (tL_ok en_X3_isOpen_39) (tL_ok en_X3_isOpen_40))))))
theorem en_X3_sign_0 : SndE EE S mi_X3_sign 0 (.inl (e_ldi 1 1)) := sn_iload_n dX3_sign_0 rfl rfl
theorem en_X3_sign_1 : SndE EE S mi_X3_sign 1 (.inl (e_psh 2 (.int (5)))) := sn_iconst dX3_sign_1 rfl rfl
theorem en_X3_sign_2 : SndE EE S mi_X3_sign 2 (.inl (e_ieq 5 64)) := sn_ieq dX3_sign_2 rfl (by decide)
theorem en_X3_sign_5 : SndE EE S mi_X3_sign 5 (.inl (e_lda 6 0)) := sn_aload_n dX3_sign_5 rfl rfl
theorem en_X3_sign_6 : SndE EE S mi_X3_sign 6 (.inl (e_gI 9 3 10)) := sn_gI dX3_sign_6 rfl cl_3 (by decide) rfl (Or.inl q863) (Or.inl rfl)
theorem en_X3_sign_9 : SndE EE S mi_X3_sign 9 (.inl (e_psh 11 (.int (43)))) := sn_bipush dX3_sign_9 rfl rfl
theorem en_X3_sign_11 : SndE EE S mi_X3_sign 11 (.inl (e_ieq 14 23)) := sn_ieq dX3_sign_11 rfl (by decide)
theorem en_X3_sign_14 : SndE EE S mi_X3_sign 14 (.inl (e_lda 15 0)) := sn_aload_n dX3_sign_14 rfl rfl
theorem en_X3_sign_15 : SndE EE S mi_X3_sign 15 (.inl (e_gI 18 3 10)) := sn_gI dX3_sign_15 rfl cl_3 (by decide) rfl (Or.inl q863) (Or.inl rfl)
theorem en_X3_sign_18 : SndE EE S mi_X3_sign 18 (.inl (e_psh 20 (.int (45)))) := sn_bipush dX3_sign_18 rfl rfl
theorem en_X3_sign_20 : SndE EE S mi_X3_sign 20 (.inl (e_ine 23 64)) := sn_ine dX3_sign_20 rfl (by decide)
theorem en_X3_sign_23 : SndE EE S mi_X3_sign 23 (.inl (e_lda 24 0)) := sn_aload_n dX3_sign_23 rfl rfl
theorem en_X3_sign_24 : SndE EE S mi_X3_sign 24 (.inl (e_psh 26 (.int (26)))) := sn_bipush dX3_sign_24 rfl rfl
theorem en_X3_sign_26 : SndE EE S mi_X3_sign 26 (.inr (.inl (d_cls 3 70, 2, 3))) := sc_virt dX3_sign_26 (rcv_cls (r := (RX3, TX3, 61)) rfl ⟨mo_X3_settle, nmo_X3_settle, q1126, q1128, qs37⟩)
theorem en_X3_sign_29 : SndE EE S mi_X3_sign 29 (.inl (e_lda 30 0)) := sn_aload_n dX3_sign_29 rfl rfl
theorem en_X3_sign_30 : SndE EE S mi_X3_sign 30 (.inl (e_lda 31 0)) := sn_aload_n dX3_sign_30 rfl rfl
theorem en_X3_sign_31 : SndE EE S mi_X3_sign 31 (.inl (e_gI 34 3 10)) := sn_gI dX3_sign_31 rfl cl_3 (by decide) rfl (Or.inl q863) (Or.inl rfl)
theorem en_X3_sign_34 : SndE EE S mi_X3_sign 34 (.inl (e_psh 36 (.int (43)))) := sn_bipush dX3_sign_34 rfl rfl
theorem en_X3_sign_36 : SndE EE S mi_X3_sign 36 (.inl (e_ine 39 44)) := sn_ine dX3_sign_36 rfl (by decide)
theorem en_X3_sign_39 : SndE EE S mi_X3_sign 39 (.inl (e_psh 41 (.int (26)))) := sn_bipush dX3_sign_39 rfl rfl
theorem en_X3_sign_41 : SndE EE S mi_X3_sign 41 (.inl (e_goto 46)) := sn_goto dX3_sign_41 (by decide)
theorem en_X3_sign_44 : SndE EE S mi_X3_sign 44 (.inl (e_psh 46 (.int (27)))) := sn_bipush dX3_sign_44 rfl rfl
theorem en_X3_sign_46 : SndE EE S mi_X3_sign 46 (.inr (.inl (d_cls 3 73, 2, 3))) := sc_virt dX3_sign_46 (rcv_cls (r := (RX3, TX3, 61)) rfl ⟨mo_X3_hold, nmo_X3_hold, q1138, q1140, qs40⟩)
theorem en_X3_sign_49 : SndE EE S mi_X3_sign 49 (.inl (e_lda 50 0)) := sn_aload_n dX3_sign_49 rfl rfl
theorem en_X3_sign_50 : SndE EE S mi_X3_sign 50 (.inr (.inl (d_cls 3 59, 1, 3))) := sc_virt dX3_sign_50 (rcv_cls (r := (RX3, TX3, 61)) rfl ⟨mo_X3_next, nmo_X3_next, q1082, q1084, qs29⟩)
theorem en_X3_sign_53 : SndE EE S mi_X3_sign 53 (.inl (e_ldi 54 1)) := sn_iload_n dX3_sign_53 rfl rfl
theorem en_X3_sign_54 : SndE EE S mi_X3_sign 54 (.inl (e_psh 55 (.int (3)))) := sn_iconst dX3_sign_54 rfl rfl
theorem en_X3_sign_55 : SndE EE S mi_X3_sign 55 (.inl (e_ine 58 62)) := sn_ine dX3_sign_55 rfl (by decide)
theorem en_X3_sign_58 : SndE EE S mi_X3_sign 58 (.inl (e_psh 59 (.int (1)))) := sn_iconst dX3_sign_58 rfl rfl
theorem en_X3_sign_59 : SndE EE S mi_X3_sign 59 (.inl (e_goto 63)) := sn_goto dX3_sign_59 (by decide)
theorem en_X3_sign_62 : SndE EE S mi_X3_sign 62 (.inl (e_psh 63 (.int (2)))) := sn_iconst dX3_sign_62 rfl rfl
theorem en_X3_sign_63 : SndE EE S mi_X3_sign 63 (.inr (.inr 1)) := ⟨dX3_sign_63, rfl⟩
theorem en_X3_sign_64 : SndE EE S mi_X3_sign 64 (.inl (e_ldi 65 1)) := sn_iload_n dX3_sign_64 rfl rfl
theorem en_X3_sign_65 : SndE EE S mi_X3_sign 65 (.inl (e_psh 66 (.int (3)))) := sn_iconst dX3_sign_65 rfl rfl
theorem en_X3_sign_66 : SndE EE S mi_X3_sign 66 (.inl (e_ine 69 142)) := sn_ine dX3_sign_66 rfl (by decide)
theorem en_X3_sign_69 : SndE EE S mi_X3_sign 69 (.inl (e_lda 70 0)) := sn_aload_n dX3_sign_69 rfl rfl
theorem en_X3_sign_70 : SndE EE S mi_X3_sign 70 (.inl (e_gI 73 3 10)) := sn_gI dX3_sign_70 rfl cl_3 (by decide) rfl (Or.inl q863) (Or.inl rfl)
theorem en_X3_sign_73 : SndE EE S mi_X3_sign 73 (.inl (e_psh 75 (.int (61)))) := sn_bipush dX3_sign_73 rfl rfl
theorem en_X3_sign_75 : SndE EE S mi_X3_sign 75 (.inl (e_ieq 78 96)) := sn_ieq dX3_sign_75 rfl (by decide)
theorem en_X3_sign_78 : SndE EE S mi_X3_sign 78 (.inl (e_lda 79 0)) := sn_aload_n dX3_sign_78 rfl rfl
theorem en_X3_sign_79 : SndE EE S mi_X3_sign 79 (.inl (e_gI 82 3 10)) := sn_gI dX3_sign_79 rfl cl_3 (by decide) rfl (Or.inl q863) (Or.inl rfl)
theorem en_X3_sign_82 : SndE EE S mi_X3_sign 82 (.inl (e_psh 84 (.int (60)))) := sn_bipush dX3_sign_82 rfl rfl
theorem en_X3_sign_84 : SndE EE S mi_X3_sign 84 (.inl (e_ieq 87 96)) := sn_ieq dX3_sign_84 rfl (by decide)
theorem en_X3_sign_87 : SndE EE S mi_X3_sign 87 (.inl (e_lda 88 0)) := sn_aload_n dX3_sign_87 rfl rfl
theorem en_X3_sign_88 : SndE EE S mi_X3_sign 88 (.inl (e_gI 91 3 10)) := sn_gI dX3_sign_88 rfl cl_3 (by decide) rfl (Or.inl q863) (Or.inl rfl)
theorem en_X3_sign_91 : SndE EE S mi_X3_sign 91 (.inl (e_psh 93 (.int (62)))) := sn_bipush dX3_sign_91 rfl rfl
theorem en_X3_sign_93 : SndE EE S mi_X3_sign 93 (.inl (e_ine 96 142)) := sn_ine dX3_sign_93 rfl (by decide)
theorem en_X3_sign_96 : SndE EE S mi_X3_sign 96 (.inl (e_lda 97 0)) := sn_aload_n dX3_sign_96 rfl rfl
theorem en_X3_sign_97 : SndE EE S mi_X3_sign 97 (.inl (e_psh 99 (.int (26)))) := sn_bipush dX3_sign_97 rfl rfl
theorem en_X3_sign_99 : SndE EE S mi_X3_sign 99 (.inr (.inl (d_cls 3 70, 2, 3))) := sc_virt dX3_sign_99 (rcv_cls (r := (RX3, TX3, 61)) rfl ⟨mo_X3_settle, nmo_X3_settle, q1126, q1128, qs37⟩)
theorem en_X3_sign_102 : SndE EE S mi_X3_sign 102 (.inl (e_lda 103 0)) := sn_aload_n dX3_sign_102 rfl rfl
theorem en_X3_sign_103 : SndE EE S mi_X3_sign 103 (.inl (e_lda 104 0)) := sn_aload_n dX3_sign_103 rfl rfl
theorem en_X3_sign_104 : SndE EE S mi_X3_sign 104 (.inl (e_gI 107 3 10)) := sn_gI dX3_sign_104 rfl cl_3 (by decide) rfl (Or.inl q863) (Or.inl rfl)
theorem en_X3_sign_107 : SndE EE S mi_X3_sign 107 (.inl (e_psh 109 (.int (61)))) := sn_bipush dX3_sign_107 rfl rfl
theorem en_X3_sign_109 : SndE EE S mi_X3_sign 109 (.inl (e_ine 112 117)) := sn_ine dX3_sign_109 rfl (by decide)
theorem en_X3_sign_112 : SndE EE S mi_X3_sign 112 (.inl (e_psh 114 (.int (23)))) := sn_bipush dX3_sign_112 rfl rfl
theorem en_X3_sign_114 : SndE EE S mi_X3_sign 114 (.inl (e_goto 133)) := sn_goto dX3_sign_114 (by decide)
theorem en_X3_sign_117 : SndE EE S mi_X3_sign 117 (.inl (e_lda 118 0)) := sn_aload_n dX3_sign_117 rfl rfl
theorem en_X3_sign_118 : SndE EE S mi_X3_sign 118 (.inl (e_gI 121 3 10)) := sn_gI dX3_sign_118 rfl cl_3 (by decide) rfl (Or.inl q863) (Or.inl rfl)
theorem en_X3_sign_121 : SndE EE S mi_X3_sign 121 (.inl (e_psh 123 (.int (60)))) := sn_bipush dX3_sign_121 rfl rfl
theorem en_X3_sign_123 : SndE EE S mi_X3_sign 123 (.inl (e_ine 126 131)) := sn_ine dX3_sign_123 rfl (by decide)
theorem en_X3_sign_126 : SndE EE S mi_X3_sign 126 (.inl (e_psh 128 (.int (24)))) := sn_bipush dX3_sign_126 rfl rfl
theorem en_X3_sign_128 : SndE EE S mi_X3_sign 128 (.inl (e_goto 133)) := sn_goto dX3_sign_128 (by decide)
theorem en_X3_sign_131 : SndE EE S mi_X3_sign 131 (.inl (e_psh 133 (.int (25)))) := sn_bipush dX3_sign_131 rfl rfl
theorem en_X3_sign_133 : SndE EE S mi_X3_sign 133 (.inr (.inl (d_cls 3 73, 2, 3))) := sc_virt dX3_sign_133 (rcv_cls (r := (RX3, TX3, 61)) rfl ⟨mo_X3_hold, nmo_X3_hold, q1138, q1140, qs40⟩)
theorem en_X3_sign_136 : SndE EE S mi_X3_sign 136 (.inl (e_lda 137 0)) := sn_aload_n dX3_sign_136 rfl rfl
theorem en_X3_sign_137 : SndE EE S mi_X3_sign 137 (.inr (.inl (d_cls 3 59, 1, 3))) := sc_virt dX3_sign_137 (rcv_cls (r := (RX3, TX3, 61)) rfl ⟨mo_X3_next, nmo_X3_next, q1082, q1084, qs29⟩)
theorem en_X3_sign_140 : SndE EE S mi_X3_sign 140 (.inl (e_psh 141 (.int (2)))) := sn_iconst dX3_sign_140 rfl rfl
theorem en_X3_sign_141 : SndE EE S mi_X3_sign 141 (.inr (.inr 1)) := ⟨dX3_sign_141, rfl⟩
theorem en_X3_sign_142 : SndE EE S mi_X3_sign 142 (.inl (e_ldi 143 1)) := sn_iload_n dX3_sign_142 rfl rfl
theorem en_X3_sign_143 : SndE EE S mi_X3_sign 143 (.inl (e_psh 144 (.int (3)))) := sn_iconst dX3_sign_143 rfl rfl
theorem en_X3_sign_144 : SndE EE S mi_X3_sign 144 (.inl (e_ieq 147 201)) := sn_ieq dX3_sign_144 rfl (by decide)
theorem en_X3_sign_147 : SndE EE S mi_X3_sign 147 (.inl (e_lda 148 0)) := sn_aload_n dX3_sign_147 rfl rfl
theorem en_X3_sign_148 : SndE EE S mi_X3_sign 148 (.inl (e_psh 151 (.long (6385252)))) := sn_ldc2 dX3_sign_148 rfl q1142
theorem en_X3_sign_151 : SndE EE S mi_X3_sign 151 (.inr (.inl (d_cls 3 64, 2, 3))) := sc_virt dX3_sign_151 (rcv_cls (r := (RX3, TX3, 61)) rfl ⟨mo_X3_isWord, nmo_X3_isWord, q1100, q1102, qs31⟩)
theorem en_X3_sign_154 : SndE EE S mi_X3_sign 154 (.inl (e_zne 157 167)) := sn_zne dX3_sign_154 rfl (by decide)
theorem en_X3_sign_157 : SndE EE S mi_X3_sign 157 (.inl (e_lda 158 0)) := sn_aload_n dX3_sign_157 rfl rfl
theorem en_X3_sign_158 : SndE EE S mi_X3_sign 158 (.inl (e_psh 161 (.long (28530)))) := sn_ldc2 dX3_sign_158 rfl q1143
theorem en_X3_sign_161 : SndE EE S mi_X3_sign 161 (.inr (.inl (d_cls 3 64, 2, 3))) := sc_virt dX3_sign_161 (rcv_cls (r := (RX3, TX3, 61)) rfl ⟨mo_X3_isWord, nmo_X3_isWord, q1100, q1102, qs31⟩)
theorem en_X3_sign_164 : SndE EE S mi_X3_sign 164 (.inl (e_zeq 167 201)) := sn_zeq dX3_sign_164 rfl (by decide)
theorem en_X3_sign_167 : SndE EE S mi_X3_sign 167 (.inl (e_lda 168 0)) := sn_aload_n dX3_sign_167 rfl rfl
theorem en_X3_sign_168 : SndE EE S mi_X3_sign 168 (.inl (e_psh 171 (.long (6385252)))) := sn_ldc2 dX3_sign_168 rfl q1142
theorem en_X3_sign_171 : SndE EE S mi_X3_sign 171 (.inr (.inl (d_cls 3 64, 2, 3))) := sc_virt dX3_sign_171 (rcv_cls (r := (RX3, TX3, 61)) rfl ⟨mo_X3_isWord, nmo_X3_isWord, q1100, q1102, qs31⟩)
theorem en_X3_sign_174 : SndE EE S mi_X3_sign 174 (.inl (e_sti 175 2)) := sn_istore_n dX3_sign_174 rfl rfl rfl (by decide)
theorem en_X3_sign_175 : SndE EE S mi_X3_sign 175 (.inl (e_lda 176 0)) := sn_aload_n dX3_sign_175 rfl rfl
theorem en_X3_sign_176 : SndE EE S mi_X3_sign 176 (.inl (e_ldi 177 2)) := sn_iload_n dX3_sign_176 rfl rfl
theorem en_X3_sign_177 : SndE EE S mi_X3_sign 177 (.inr (.inl (d_cls 3 74, 2, 3))) := sc_virt dX3_sign_177 (rcv_cls (r := (RX3, TX3, 61)) rfl ⟨mo_X3_settleOnes, nmo_X3_settleOnes, q1144, q1146, qs41⟩)
theorem en_X3_sign_180 : SndE EE S mi_X3_sign 180 (.inl (e_lda 181 0)) := sn_aload_n dX3_sign_180 rfl rfl
theorem en_X3_sign_181 : SndE EE S mi_X3_sign 181 (.inl (e_ldi 182 2)) := sn_iload_n dX3_sign_181 rfl rfl
theorem en_X3_sign_182 : SndE EE S mi_X3_sign 182 (.inl (e_zeq 185 190)) := sn_zeq dX3_sign_182 rfl (by decide)
theorem en_X3_sign_185 : SndE EE S mi_X3_sign 185 (.inl (e_psh 187 (.int (22)))) := sn_bipush dX3_sign_185 rfl rfl
theorem en_X3_sign_187 : SndE EE S mi_X3_sign 187 (.inl (e_goto 192)) := sn_goto dX3_sign_187 (by decide)
theorem en_X3_sign_190 : SndE EE S mi_X3_sign 190 (.inl (e_psh 192 (.int (21)))) := sn_bipush dX3_sign_190 rfl rfl
theorem en_X3_sign_192 : SndE EE S mi_X3_sign 192 (.inr (.inl (d_cls 3 73, 2, 3))) := sc_virt dX3_sign_192 (rcv_cls (r := (RX3, TX3, 61)) rfl ⟨mo_X3_hold, nmo_X3_hold, q1138, q1140, qs40⟩)
theorem en_X3_sign_195 : SndE EE S mi_X3_sign 195 (.inl (e_lda 196 0)) := sn_aload_n dX3_sign_195 rfl rfl
theorem en_X3_sign_196 : SndE EE S mi_X3_sign 196 (.inr (.inl (d_cls 3 59, 1, 3))) := sc_virt dX3_sign_196 (rcv_cls (r := (RX3, TX3, 61)) rfl ⟨mo_X3_next, nmo_X3_next, q1082, q1084, qs29⟩)
theorem en_X3_sign_199 : SndE EE S mi_X3_sign 199 (.inl (e_psh 200 (.int (0)))) := sn_iconst dX3_sign_199 rfl rfl
theorem en_X3_sign_200 : SndE EE S mi_X3_sign 200 (.inr (.inr 1)) := ⟨dX3_sign_200, rfl⟩
theorem en_X3_sign_201 : SndE EE S mi_X3_sign 201 (.inl (e_ldi 202 1)) := sn_iload_n dX3_sign_201 rfl rfl
theorem en_X3_sign_202 : SndE EE S mi_X3_sign 202 (.inl (e_psh 203 (.int (3)))) := sn_iconst dX3_sign_202 rfl rfl
theorem en_X3_sign_203 : SndE EE S mi_X3_sign 203 (.inl (e_ieq 206 253)) := sn_ieq dX3_sign_203 rfl (by decide)
theorem en_X3_sign_206 : SndE EE S mi_X3_sign 206 (.inl (e_lda 207 0)) := sn_aload_n dX3_sign_206 rfl rfl
theorem en_X3_sign_207 : SndE EE S mi_X3_sign 207 (.inl (e_gI 210 3 10)) := sn_gI dX3_sign_207 rfl cl_3 (by decide) rfl (Or.inl q863) (Or.inl rfl)
theorem en_X3_sign_210 : SndE EE S mi_X3_sign 210 (.inl (e_psh 212 (.int (41)))) := sn_bipush dX3_sign_210 rfl rfl
theorem en_X3_sign_212 : SndE EE S mi_X3_sign 212 (.inl (e_ine 215 253)) := sn_ine dX3_sign_212 rfl (by decide)
theorem en_X3_sign_215 : SndE EE S mi_X3_sign 215 (.inl (e_lda 216 0)) := sn_aload_n dX3_sign_215 rfl rfl
theorem en_X3_sign_216 : SndE EE S mi_X3_sign 216 (.inr (.inl (d_cls 3 68, 1, 3))) := sc_virt dX3_sign_216 (rcv_cls (r := (RX3, TX3, 61)) rfl ⟨mo_X3_isOpen, nmo_X3_isOpen, q1118, q1120, qs35⟩)
theorem en_X3_sign_219 : SndE EE S mi_X3_sign 219 (.inl (e_zeq 222 253)) := sn_zeq dX3_sign_219 rfl (by decide)
theorem en_X3_sign_222 : SndE EE S mi_X3_sign 222 (.inl (e_lda 223 0)) := sn_aload_n dX3_sign_222 rfl rfl
theorem en_X3_sign_223 : SndE EE S mi_X3_sign 223 (.inl (e_psh 224 (.int (0)))) := sn_iconst dX3_sign_223 rfl rfl
theorem en_X3_sign_224 : SndE EE S mi_X3_sign 224 (.inr (.inl (d_cls 3 70, 2, 3))) := sc_virt dX3_sign_224 (rcv_cls (r := (RX3, TX3, 61)) rfl ⟨mo_X3_settle, nmo_X3_settle, q1126, q1128, qs37⟩)
theorem en_X3_sign_227 : SndE EE S mi_X3_sign 227 (.inl (e_lda 228 0)) := sn_aload_n dX3_sign_227 rfl rfl
theorem en_X3_sign_228 : SndE EE S mi_X3_sign 228 (.inl (e_dup 229)) := sn_dup dX3_sign_228 rfl
theorem en_X3_sign_229 : SndE EE S mi_X3_sign 229 (.inl (e_gI 232 3 29)) := sn_gI dX3_sign_229 rfl cl_3 (by decide) rfl (Or.inl q882) (Or.inl rfl)
theorem en_X3_sign_232 : SndE EE S mi_X3_sign 232 (.inl (e_psh 233 (.int (1)))) := sn_iconst dX3_sign_232 rfl rfl
theorem en_X3_sign_233 : SndE EE S mi_X3_sign 233 (.inl (e_bin 234 (fun x y => x - y))) := sn_isub dX3_sign_233 rfl
theorem en_X3_sign_234 : SndE EE S mi_X3_sign 234 (.inl (e_pI 237 3 29)) := sn_pI dX3_sign_234 rfl cl_3 (by decide) rfl (Or.inl ⟨q882, Or.inl rfl⟩) (Or.inl rfl) (fun _ => ⟨rfl, rfl⟩)
theorem en_X3_sign_237 : SndE EE S mi_X3_sign 237 (.inl (e_lda 238 0)) := sn_aload_n dX3_sign_237 rfl rfl
theorem en_X3_sign_238 : SndE EE S mi_X3_sign 238 (.inl (e_dup 239)) := sn_dup dX3_sign_238 rfl
theorem en_X3_sign_239 : SndE EE S mi_X3_sign 239 (.inl (e_gI 242 3 30)) := sn_gI dX3_sign_239 rfl cl_3 (by decide) rfl (Or.inl q883) (Or.inl rfl)
theorem en_X3_sign_242 : SndE EE S mi_X3_sign 242 (.inl (e_psh 243 (.int (1)))) := sn_iconst dX3_sign_242 rfl rfl
theorem en_X3_sign_243 : SndE EE S mi_X3_sign 243 (.inl (e_bin 244 (fun x y => x - y))) := sn_isub dX3_sign_243 rfl
theorem en_X3_sign_244 : SndE EE S mi_X3_sign 244 (.inl (e_pI 247 3 30)) := sn_pI dX3_sign_244 rfl cl_3 (by decide) rfl (Or.inl ⟨q883, Or.inl rfl⟩) (Or.inl rfl) (fun _ => ⟨rfl, rfl⟩)
theorem en_X3_sign_247 : SndE EE S mi_X3_sign 247 (.inl (e_lda 248 0)) := sn_aload_n dX3_sign_247 rfl rfl
theorem en_X3_sign_248 : SndE EE S mi_X3_sign 248 (.inr (.inl (d_cls 3 59, 1, 3))) := sc_virt dX3_sign_248 (rcv_cls (r := (RX3, TX3, 61)) rfl ⟨mo_X3_next, nmo_X3_next, q1082, q1084, qs29⟩)
theorem en_X3_sign_251 : SndE EE S mi_X3_sign 251 (.inl (e_psh 252 (.int (5)))) := sn_iconst dX3_sign_251 rfl rfl
theorem en_X3_sign_252 : SndE EE S mi_X3_sign 252 (.inr (.inr 1)) := ⟨dX3_sign_252, rfl⟩
theorem en_X3_sign_253 : SndE EE S mi_X3_sign 253 (.inl (e_lda 254 0)) := sn_aload_n dX3_sign_253 rfl rfl
theorem en_X3_sign_254 : SndE EE S mi_X3_sign 254 (.inl (e_psh 255 (.int (2)))) := sn_iconst dX3_sign_254 rfl rfl
theorem en_X3_sign_255 : SndE EE S mi_X3_sign 255 (.inr (.inl (d_cls 3 65, 2, 3))) := sc_virt dX3_sign_255 (rcv_cls (r := (RX3, TX3, 61)) rfl ⟨mo_X3_wrong, nmo_X3_wrong, q1104, q1106, qs32⟩)
theorem en_X3_sign_258 : SndE EE S mi_X3_sign 258 (.inl (e_ldi 259 1)) := sn_iload_n dX3_sign_258 rfl rfl
theorem en_X3_sign_259 : SndE EE S mi_X3_sign 259 (.inr (.inr 1)) := ⟨dX3_sign_259, rfl⟩
theorem sd_X3_sign : ∀ pc x, cd_X3_sign pc = some x → SndE EE S mi_X3_sign pc x := (tN_ok (tN_ok (tN_ok (tN_ok (tN_ok (tN_ok (tN_ok (tL_ok en_X3_sign_0) (tL_ok en_X3_sign_1)) (tN_ok (tL_ok en_X3_sign_2) (tL_ok en_X3_sign_5))) (tN_ok (tN_ok (tL_ok en_X3_sign_6) (tL_ok en_X3_sign_9)) (tN_ok (tL_ok en_X3_sign_11) (tL_ok en_X3_sign_14)))) (tN_ok (tN_ok (tN_ok (tL_ok en_X3_sign_15) (tL_ok en_X3_sign_18)) (tN_ok (tL_ok en_X3_sign_20) (tL_ok en_X3_sign_23))) (tN_ok (tN_ok (tL_ok en_X3_sign_24) (tL_ok en_X3_sign_26)) (tN_ok (tL_ok en_X3_sign_29) (tL_ok en_X3_sign_30))))) (tN_ok (tN_ok (tN_ok (tN_ok (tL_ok en_X3_sign_31) (tL_ok en_X3_sign_34)) (tN_ok (tL_ok en_X3_sign_36) (tL_ok en_X3_sign_39))) (tN_ok (tN_ok (tL_ok en_X3_sign_41) (tL_ok en_X3_sign_44)) (tN_ok (tL_ok en_X3_sign_46) (tL_ok en_X3_sign_49)))) (tN_ok (tN_ok (tN_ok (tL_ok en_X3_sign_50) (tL_ok en_X3_sign_53)) (tN_ok (tL_ok en_X3_sign_54) (tL_ok en_X3_sign_55))) (tN_ok (tN_ok (tL_ok en_X3_sign_58) (tL_ok en_X3_sign_59)) (tN_ok (tL_ok en_X3_sign_62) (tN_ok (tL_ok en_X3_sign_63) (tL_ok en_X3_sign_64))))))) (tN_ok (tN_ok (tN_ok (tN_ok (tN_ok (tL_ok en_X3_sign_65) (tL_ok en_X3_sign_66)) (tN_ok (tL_ok en_X3_sign_69) (tL_ok en_X3_sign_70))) (tN_ok (tN_ok (tL_ok en_X3_sign_73) (tL_ok en_X3_sign_75)) (tN_ok (tL_ok en_X3_sign_78) (tL_ok en_X3_sign_79)))) (tN_ok (tN_ok (tN_ok (tL_ok en_X3_sign_82) (tL_ok en_X3_sign_84)) (tN_ok (tL_ok en_X3_sign_87) (tL_ok en_X3_sign_88))) (tN_ok (tN_ok (tL_ok en_X3_sign_91) (tL_ok en_X3_sign_93)) (tN_ok (tL_ok en_X3_sign_96) (tL_ok en_X3_sign_97))))) (tN_ok (tN_ok (tN_ok (tN_ok (tL_ok en_X3_sign_99) (tL_ok en_X3_sign_102)) (tN_ok (tL_ok en_X3_sign_103) (tL_ok en_X3_sign_104))) (tN_ok (tN_ok (tL_ok en_X3_sign_107) (tL_ok en_X3_sign_109)) (tN_ok (tL_ok en_X3_sign_112) (tL_ok en_X3_sign_114)))) (tN_ok (tN_ok (tN_ok (tL_ok en_X3_sign_117) (tL_ok en_X3_sign_118)) (tN_ok (tL_ok en_X3_sign_121) (tL_ok en_X3_sign_123))) (tN_ok (tN_ok (tL_ok en_X3_sign_126) (tL_ok en_X3_sign_128)) (tN_ok (tL_ok en_X3_sign_131) (tN_ok (tL_ok en_X3_sign_133) (tL_ok en_X3_sign_136)))))))) (tN_ok (tN_ok (tN_ok (tN_ok (tN_ok (tN_ok (tL_ok en_X3_sign_137) (tL_ok en_X3_sign_140)) (tN_ok (tL_ok en_X3_sign_141) (tL_ok en_X3_sign_142))) (tN_ok (tN_ok (tL_ok en_X3_sign_143) (tL_ok en_X3_sign_144)) (tN_ok (tL_ok en_X3_sign_147) (tL_ok en_X3_sign_148)))) (tN_ok (tN_ok (tN_ok (tL_ok en_X3_sign_151) (tL_ok en_X3_sign_154)) (tN_ok (tL_ok en_X3_sign_157) (tL_ok en_X3_sign_158))) (tN_ok (tN_ok (tL_ok en_X3_sign_161) (tL_ok en_X3_sign_164)) (tN_ok (tL_ok en_X3_sign_167) (tL_ok en_X3_sign_168))))) (tN_ok (tN_ok (tN_ok (tN_ok (tL_ok en_X3_sign_171) (tL_ok en_X3_sign_174)) (tN_ok (tL_ok en_X3_sign_175) (tL_ok en_X3_sign_176))) (tN_ok (tN_ok (tL_ok en_X3_sign_177) (tL_ok en_X3_sign_180)) (tN_ok (tL_ok en_X3_sign_181) (tL_ok en_X3_sign_182)))) (tN_ok (tN_ok (tN_ok (tL_ok en_X3_sign_185) (tL_ok en_X3_sign_187)) (tN_ok (tL_ok en_X3_sign_190) (tL_ok en_X3_sign_192))) (tN_ok (tN_ok (tL_ok en_X3_sign_195) (tL_ok en_X3_sign_196)) (tN_ok (tL_ok en_X3_sign_199) (tN_ok (tL_ok en_X3_sign_200) (tL_ok en_X3_sign_201))))))) (tN_ok (tN_ok (tN_ok (tN_ok (tN_ok (tL_ok en_X3_sign_202) (tL_ok en_X3_sign_203)) (tN_ok (tL_ok en_X3_sign_206) (tL_ok en_X3_sign_207))) (tN_ok (tN_ok (tL_ok en_X3_sign_210) (tL_ok en_X3_sign_212)) (tN_ok (tL_ok en_X3_sign_215) (tL_ok en_X3_sign_216)))) (tN_ok (tN_ok (tN_ok (tL_ok en_X3_sign_219) (tL_ok en_X3_sign_222)) (tN_ok (tL_ok en_X3_sign_223) (tL_ok en_X3_sign_224))) (tN_ok (tN_ok (tL_ok en_X3_sign_227) (tL_ok en_X3_sign_228)) (tN_ok (tL_ok en_X3_sign_229) (tL_ok en_X3_sign_232))))) (tN_ok (tN_ok (tN_ok (tN_ok (tL_ok en_X3_sign_233) (tL_ok en_X3_sign_234)) (tN_ok (tL_ok en_X3_sign_237) (tL_ok en_X3_sign_238))) (tN_ok (tN_ok (tL_ok en_X3_sign_239) (tL_ok en_X3_sign_242)) (tN_ok (tL_ok en_X3_sign_243) (tL_ok en_X3_sign_244)))) (tN_ok (tN_ok (tN_ok (tL_ok en_X3_sign_247) (tL_ok en_X3_sign_248)) (tN_ok (tL_ok en_X3_sign_251) (tL_ok en_X3_sign_252))) (tN_ok (tN_ok (tL_ok en_X3_sign_253) (tL_ok en_X3_sign_254)) (tN_ok (tL_ok en_X3_sign_255) (tN_ok (tL_ok en_X3_sign_258) (tL_ok en_X3_sign_259)))))))))
theorem en_X3_settle_0 : SndE EE S mi_X3_settle 0 (.inl (e_lda 1 0)) := sn_aload_n dX3_settle_0 rfl rfl
theorem en_X3_settle_1 : SndE EE S mi_X3_settle 1 (.inl (e_gI 4 3 29)) := sn_gI dX3_settle_1 rfl cl_3 (by decide) rfl (Or.inl q882) (Or.inl rfl)
theorem en_X3_settle_4 : SndE EE S mi_X3_settle 4 (.inl (e_zle 7 45)) := sn_zle dX3_settle_4 rfl (by decide)
theorem en_X3_settle_7 : SndE EE S mi_X3_settle 7 (.inl (e_lda 8 0)) := sn_aload_n dX3_settle_7 rfl rfl
theorem en_X3_settle_8 : SndE EE S mi_X3_settle 8 (.inl (e_gR 11 3 28)) := sn_gR dX3_settle_8 rfl cl_3 (by decide) rfl (Or.inl q881) (Or.inl rfl)
theorem en_X3_settle_11 : SndE EE S mi_X3_settle 11 (.inl (e_lda 12 0)) := sn_aload_n dX3_settle_11 rfl rfl
theorem en_X3_settle_12 : SndE EE S mi_X3_settle 12 (.inl (e_gI 15 3 29)) := sn_gI dX3_settle_12 rfl cl_3 (by decide) rfl (Or.inl q882) (Or.inl rfl)
theorem en_X3_settle_15 : SndE EE S mi_X3_settle 15 (.inl (e_psh 16 (.int (1)))) := sn_iconst dX3_settle_15 rfl rfl
theorem en_X3_settle_16 : SndE EE S mi_X3_settle 16 (.inl (e_bin 17 (fun x y => x - y))) := sn_isub dX3_settle_16 rfl
theorem en_X3_settle_17 : SndE EE S mi_X3_settle 17 (.inl (e_ald 18 1)) := sn_iald dX3_settle_17 rfl
theorem en_X3_settle_18 : SndE EE S mi_X3_settle 18 (.inl (e_psh 20 (.int (28)))) := sn_bipush dX3_settle_18 rfl rfl
theorem en_X3_settle_20 : SndE EE S mi_X3_settle 20 (.inl (e_ieq 23 45)) := sn_ieq dX3_settle_20 rfl (by decide)
theorem en_X3_settle_23 : SndE EE S mi_X3_settle 23 (.inl (e_lda 24 0)) := sn_aload_n dX3_settle_23 rfl rfl
theorem en_X3_settle_24 : SndE EE S mi_X3_settle 24 (.inl (e_gR 27 3 28)) := sn_gR dX3_settle_24 rfl cl_3 (by decide) rfl (Or.inl q881) (Or.inl rfl)
theorem en_X3_settle_27 : SndE EE S mi_X3_settle 27 (.inl (e_lda 28 0)) := sn_aload_n dX3_settle_27 rfl rfl
theorem en_X3_settle_28 : SndE EE S mi_X3_settle 28 (.inl (e_gI 31 3 29)) := sn_gI dX3_settle_28 rfl cl_3 (by decide) rfl (Or.inl q882) (Or.inl rfl)
theorem en_X3_settle_31 : SndE EE S mi_X3_settle 31 (.inl (e_psh 32 (.int (1)))) := sn_iconst dX3_settle_31 rfl rfl
theorem en_X3_settle_32 : SndE EE S mi_X3_settle 32 (.inl (e_bin 33 (fun x y => x - y))) := sn_isub dX3_settle_32 rfl
theorem en_X3_settle_33 : SndE EE S mi_X3_settle 33 (.inl (e_ald 34 1)) := sn_iald dX3_settle_33 rfl
theorem en_X3_settle_34 : SndE EE S mi_X3_settle 34 (.inl (e_ldi 35 1)) := sn_iload_n dX3_settle_34 rfl rfl
theorem en_X3_settle_35 : SndE EE S mi_X3_settle 35 (.inl (e_ilt 38 45)) := sn_ilt dX3_settle_35 rfl (by decide)
theorem en_X3_settle_38 : SndE EE S mi_X3_settle 38 (.inl (e_lda 39 0)) := sn_aload_n dX3_settle_38 rfl rfl
theorem en_X3_settle_39 : SndE EE S mi_X3_settle 39 (.inr (.inl (d_cls 3 71, 1, 3))) := sc_virt dX3_settle_39 (rcv_cls (r := (RX3, TX3, 61)) rfl ⟨mo_X3_pop, nmo_X3_pop, q1130, q1132, qs38⟩)
theorem en_X3_settle_42 : SndE EE S mi_X3_settle 42 (.inl (e_goto 0)) := sn_goto dX3_settle_42 (by decide)
theorem en_X3_settle_45 : SndE EE S mi_X3_settle 45 (.inr (.inr 0)) := ⟨dX3_settle_45, rfl⟩
theorem sd_X3_settle : ∀ pc x, cd_X3_settle pc = some x → SndE EE S mi_X3_settle pc x := (tN_ok (tN_ok (tN_ok (tN_ok (tL_ok en_X3_settle_0) (tN_ok (tL_ok en_X3_settle_1) (tL_ok en_X3_settle_4))) (tN_ok (tL_ok en_X3_settle_7) (tN_ok (tL_ok en_X3_settle_8) (tL_ok en_X3_settle_11)))) (tN_ok (tN_ok (tL_ok en_X3_settle_12) (tN_ok (tL_ok en_X3_settle_15) (tL_ok en_X3_settle_16))) (tN_ok (tL_ok en_X3_settle_17) (tN_ok (tL_ok en_X3_settle_18) (tL_ok en_X3_settle_20))))) (tN_ok (tN_ok (tN_ok (tL_ok en_X3_settle_23) (tN_ok (tL_ok en_X3_settle_24) (tL_ok en_X3_settle_27))) (tN_ok (tL_ok en_X3_settle_28) (tN_ok (tL_ok en_X3_settle_31) (tL_ok en_X3_settle_32)))) (tN_ok (tN_ok (tL_ok en_X3_settle_33) (tN_ok (tL_ok en_X3_settle_34) (tL_ok en_X3_settle_35))) (tN_ok (tN_ok (tL_ok en_X3_settle_38) (tL_ok en_X3_settle_39)) (tN_ok (tL_ok en_X3_settle_42) (tL_ok en_X3_settle_45))))))
theorem en_X3_pop_0 : SndE EE S mi_X3_pop 0 (.inl (e_lda 1 0)) := sn_aload_n dX3_pop_0 rfl rfl
theorem en_X3_pop_1 : SndE EE S mi_X3_pop 1 (.inl (e_dup 2)) := sn_dup dX3_pop_1 rfl
theorem en_X3_pop_2 : SndE EE S mi_X3_pop 2 (.inl (e_gI 5 3 29)) := sn_gI dX3_pop_2 rfl cl_3 (by decide) rfl (Or.inl q882) (Or.inl rfl)
theorem en_X3_pop_5 : SndE EE S mi_X3_pop 5 (.inl (e_psh 6 (.int (1)))) := sn_iconst dX3_pop_5 rfl rfl
theorem en_X3_pop_6 : SndE EE S mi_X3_pop 6 (.inl (e_bin 7 (fun x y => x - y))) := sn_isub dX3_pop_6 rfl
theorem en_X3_pop_7 : SndE EE S mi_X3_pop 7 (.inl (e_pI 10 3 29)) := sn_pI dX3_pop_7 rfl cl_3 (by decide) rfl (Or.inl ⟨q882, Or.inl rfl⟩) (Or.inl rfl) (fun _ => ⟨rfl, rfl⟩)
theorem en_X3_pop_10 : SndE EE S mi_X3_pop 10 (.inl (e_lda 11 0)) := sn_aload_n dX3_pop_10 rfl rfl
theorem en_X3_pop_11 : SndE EE S mi_X3_pop 11 (.inl (e_gR 14 3 28)) := sn_gR dX3_pop_11 rfl cl_3 (by decide) rfl (Or.inl q881) (Or.inl rfl)
theorem en_X3_pop_14 : SndE EE S mi_X3_pop 14 (.inl (e_lda 15 0)) := sn_aload_n dX3_pop_14 rfl rfl
theorem en_X3_pop_15 : SndE EE S mi_X3_pop 15 (.inl (e_gI 18 3 29)) := sn_gI dX3_pop_15 rfl cl_3 (by decide) rfl (Or.inl q882) (Or.inl rfl)
theorem en_X3_pop_18 : SndE EE S mi_X3_pop 18 (.inl (e_ald 19 1)) := sn_iald dX3_pop_18 rfl
theorem en_X3_pop_19 : SndE EE S mi_X3_pop 19 (.inl (e_psh 21 (.int (20)))) := sn_bipush dX3_pop_19 rfl rfl
theorem en_X3_pop_21 : SndE EE S mi_X3_pop 21 (.inl (e_ine 24 34)) := sn_ine dX3_pop_21 rfl (by decide)
theorem en_X3_pop_24 : SndE EE S mi_X3_pop 24 (.inl (e_lda 25 0)) := sn_aload_n dX3_pop_24 rfl rfl
theorem en_X3_pop_25 : SndE EE S mi_X3_pop 25 (.inl (e_dup 26)) := sn_dup dX3_pop_25 rfl
theorem en_X3_pop_26 : SndE EE S mi_X3_pop 26 (.inl (e_gI 29 3 30)) := sn_gI dX3_pop_26 rfl cl_3 (by decide) rfl (Or.inl q883) (Or.inl rfl)
theorem en_X3_pop_29 : SndE EE S mi_X3_pop 29 (.inl (e_psh 30 (.int (1)))) := sn_iconst dX3_pop_29 rfl rfl
theorem en_X3_pop_30 : SndE EE S mi_X3_pop 30 (.inl (e_bin 31 (fun x y => x - y))) := sn_isub dX3_pop_30 rfl
theorem en_X3_pop_31 : SndE EE S mi_X3_pop 31 (.inl (e_pI 34 3 30)) := sn_pI dX3_pop_31 rfl cl_3 (by decide) rfl (Or.inl ⟨q883, Or.inl rfl⟩) (Or.inl rfl) (fun _ => ⟨rfl, rfl⟩)
theorem en_X3_pop_34 : SndE EE S mi_X3_pop 34 (.inl (e_lda 35 0)) := sn_aload_n dX3_pop_34 rfl rfl
theorem en_X3_pop_35 : SndE EE S mi_X3_pop 35 (.inl (e_lda 36 0)) := sn_aload_n dX3_pop_35 rfl rfl
theorem en_X3_pop_36 : SndE EE S mi_X3_pop 36 (.inl (e_gR 39 3 28)) := sn_gR dX3_pop_36 rfl cl_3 (by decide) rfl (Or.inl q881) (Or.inl rfl)
theorem en_X3_pop_39 : SndE EE S mi_X3_pop 39 (.inl (e_lda 40 0)) := sn_aload_n dX3_pop_39 rfl rfl
theorem en_X3_pop_40 : SndE EE S mi_X3_pop 40 (.inl (e_gI 43 3 29)) := sn_gI dX3_pop_40 rfl cl_3 (by decide) rfl (Or.inl q882) (Or.inl rfl)
theorem en_X3_pop_43 : SndE EE S mi_X3_pop 43 (.inl (e_ald 44 1)) := sn_iald dX3_pop_43 rfl
theorem en_X3_pop_44 : SndE EE S mi_X3_pop 44 (.inl (e_psh 45 (.int (0)))) := sn_iconst dX3_pop_44 rfl rfl
theorem en_X3_pop_45 : SndE EE S mi_X3_pop 45 (.inr (.inl (d_cls 3 72, 3, 3))) := sc_virt dX3_pop_45 (rcv_cls (r := (RX3, TX3, 61)) rfl ⟨mo_X3_step, nmo_X3_step, q1134, q1136, qs39⟩)
theorem en_X3_pop_48 : SndE EE S mi_X3_pop 48 (.inr (.inr 0)) := ⟨dX3_pop_48, rfl⟩
theorem sd_X3_pop : ∀ pc x, cd_X3_pop pc = some x → SndE EE S mi_X3_pop pc x := (tN_ok (tN_ok (tN_ok (tN_ok (tL_ok en_X3_pop_0) (tN_ok (tL_ok en_X3_pop_1) (tL_ok en_X3_pop_2))) (tN_ok (tN_ok (tL_ok en_X3_pop_5) (tL_ok en_X3_pop_6)) (tN_ok (tL_ok en_X3_pop_7) (tL_ok en_X3_pop_10)))) (tN_ok (tN_ok (tL_ok en_X3_pop_11) (tN_ok (tL_ok en_X3_pop_14) (tL_ok en_X3_pop_15))) (tN_ok (tN_ok (tL_ok en_X3_pop_18) (tL_ok en_X3_pop_19)) (tN_ok (tL_ok en_X3_pop_21) (tL_ok en_X3_pop_24))))) (tN_ok (tN_ok (tN_ok (tL_ok en_X3_pop_25) (tN_ok (tL_ok en_X3_pop_26) (tL_ok en_X3_pop_29))) (tN_ok (tN_ok (tL_ok en_X3_pop_30) (tL_ok en_X3_pop_31)) (tN_ok (tL_ok en_X3_pop_34) (tL_ok en_X3_pop_35)))) (tN_ok (tN_ok (tL_ok en_X3_pop_36) (tN_ok (tL_ok en_X3_pop_39) (tL_ok en_X3_pop_40))) (tN_ok (tN_ok (tL_ok en_X3_pop_43) (tL_ok en_X3_pop_44)) (tN_ok (tL_ok en_X3_pop_45) (tL_ok en_X3_pop_48))))))
theorem en_X3_step_0 : SndE EE S mi_X3_step 0 (.inl (e_lda 1 0)) := sn_aload_n dX3_step_0 rfl rfl
theorem en_X3_step_1 : SndE EE S mi_X3_step 1 (.inl (e_gR 4 3 25)) := sn_gR dX3_step_1 rfl cl_3 (by decide) rfl (Or.inl q878) (Or.inl rfl)
theorem en_X3_step_4 : SndE EE S mi_X3_step 4 (.inl (e_lda 5 0)) := sn_aload_n dX3_step_4 rfl rfl
theorem en_X3_step_5 : SndE EE S mi_X3_step 5 (.inl (e_gI 8 3 21)) := sn_gI dX3_step_5 rfl cl_3 (by decide) rfl (Or.inl q874) (Or.inl rfl)
theorem en_X3_step_8 : SndE EE S mi_X3_step 8 (.inl (e_ldi 9 1)) := sn_iload_n dX3_step_8 rfl rfl
theorem en_X3_step_9 : SndE EE S mi_X3_step 9 (.inl (e_iast 10)) := sn_iast dX3_step_9 rfl
theorem en_X3_step_10 : SndE EE S mi_X3_step 10 (.inl (e_lda 11 0)) := sn_aload_n dX3_step_10 rfl rfl
theorem en_X3_step_11 : SndE EE S mi_X3_step 11 (.inl (e_gR 14 3 26)) := sn_gR dX3_step_11 rfl cl_3 (by decide) rfl (Or.inl q879) (Or.inl rfl)
theorem en_X3_step_14 : SndE EE S mi_X3_step 14 (.inl (e_lda 15 0)) := sn_aload_n dX3_step_14 rfl rfl
theorem en_X3_step_15 : SndE EE S mi_X3_step 15 (.inl (e_gI 18 3 21)) := sn_gI dX3_step_15 rfl cl_3 (by decide) rfl (Or.inl q874) (Or.inl rfl)
theorem en_X3_step_18 : SndE EE S mi_X3_step 18 (.inl (e_ldi 19 2)) := sn_iload_n dX3_step_18 rfl rfl
theorem en_X3_step_19 : SndE EE S mi_X3_step 19 (.inl (e_iast 20)) := sn_iast dX3_step_19 rfl
theorem en_X3_step_20 : SndE EE S mi_X3_step 20 (.inl (e_lda 21 0)) := sn_aload_n dX3_step_20 rfl rfl
theorem en_X3_step_21 : SndE EE S mi_X3_step 21 (.inl (e_dup 22)) := sn_dup dX3_step_21 rfl
theorem en_X3_step_22 : SndE EE S mi_X3_step 22 (.inl (e_gI 25 3 21)) := sn_gI dX3_step_22 rfl cl_3 (by decide) rfl (Or.inl q874) (Or.inl rfl)
theorem en_X3_step_25 : SndE EE S mi_X3_step 25 (.inl (e_psh 26 (.int (1)))) := sn_iconst dX3_step_25 rfl rfl
theorem en_X3_step_26 : SndE EE S mi_X3_step 26 (.inl (e_bin 27 (fun x y => x + y))) := sn_iadd dX3_step_26 rfl
theorem en_X3_step_27 : SndE EE S mi_X3_step 27 (.inl (e_pI 30 3 21)) := sn_pI dX3_step_27 rfl cl_3 (by decide) rfl (Or.inl ⟨q874, Or.inl rfl⟩) (Or.inl rfl) (fun _ => ⟨rfl, rfl⟩)
theorem en_X3_step_30 : SndE EE S mi_X3_step 30 (.inr (.inr 0)) := ⟨dX3_step_30, rfl⟩
theorem sd_X3_step : ∀ pc x, cd_X3_step pc = some x → SndE EE S mi_X3_step pc x := (tN_ok (tN_ok (tN_ok (tN_ok (tL_ok en_X3_step_0) (tL_ok en_X3_step_1)) (tN_ok (tL_ok en_X3_step_4) (tL_ok en_X3_step_5))) (tN_ok (tN_ok (tL_ok en_X3_step_8) (tL_ok en_X3_step_9)) (tN_ok (tL_ok en_X3_step_10) (tN_ok (tL_ok en_X3_step_11) (tL_ok en_X3_step_14))))) (tN_ok (tN_ok (tN_ok (tL_ok en_X3_step_15) (tL_ok en_X3_step_18)) (tN_ok (tL_ok en_X3_step_19) (tN_ok (tL_ok en_X3_step_20) (tL_ok en_X3_step_21)))) (tN_ok (tN_ok (tL_ok en_X3_step_22) (tL_ok en_X3_step_25)) (tN_ok (tL_ok en_X3_step_26) (tN_ok (tL_ok en_X3_step_27) (tL_ok en_X3_step_30))))))
theorem en_X3_hold_0 : SndE EE S mi_X3_hold 0 (.inl (e_lda 1 0)) := sn_aload_n dX3_hold_0 rfl rfl
theorem en_X3_hold_1 : SndE EE S mi_X3_hold 1 (.inl (e_gR 4 3 28)) := sn_gR dX3_hold_1 rfl cl_3 (by decide) rfl (Or.inl q881) (Or.inl rfl)
theorem en_X3_hold_4 : SndE EE S mi_X3_hold 4 (.inl (e_lda 5 0)) := sn_aload_n dX3_hold_4 rfl rfl
theorem en_X3_hold_5 : SndE EE S mi_X3_hold 5 (.inl (e_gI 8 3 29)) := sn_gI dX3_hold_5 rfl cl_3 (by decide) rfl (Or.inl q882) (Or.inl rfl)
theorem en_X3_hold_8 : SndE EE S mi_X3_hold 8 (.inl (e_ldi 9 1)) := sn_iload_n dX3_hold_8 rfl rfl
theorem en_X3_hold_9 : SndE EE S mi_X3_hold 9 (.inl (e_iast 10)) := sn_iast dX3_hold_9 rfl
theorem en_X3_hold_10 : SndE EE S mi_X3_hold 10 (.inl (e_lda 11 0)) := sn_aload_n dX3_hold_10 rfl rfl
theorem en_X3_hold_11 : SndE EE S mi_X3_hold 11 (.inl (e_dup 12)) := sn_dup dX3_hold_11 rfl
theorem en_X3_hold_12 : SndE EE S mi_X3_hold 12 (.inl (e_gI 15 3 29)) := sn_gI dX3_hold_12 rfl cl_3 (by decide) rfl (Or.inl q882) (Or.inl rfl)
theorem en_X3_hold_15 : SndE EE S mi_X3_hold 15 (.inl (e_psh 16 (.int (1)))) := sn_iconst dX3_hold_15 rfl rfl
theorem en_X3_hold_16 : SndE EE S mi_X3_hold 16 (.inl (e_bin 17 (fun x y => x + y))) := sn_iadd dX3_hold_16 rfl
theorem en_X3_hold_17 : SndE EE S mi_X3_hold 17 (.inl (e_pI 20 3 29)) := sn_pI dX3_hold_17 rfl cl_3 (by decide) rfl (Or.inl ⟨q882, Or.inl rfl⟩) (Or.inl rfl) (fun _ => ⟨rfl, rfl⟩)
theorem en_X3_hold_20 : SndE EE S mi_X3_hold 20 (.inl (e_ldi 21 1)) := sn_iload_n dX3_hold_20 rfl rfl
theorem en_X3_hold_21 : SndE EE S mi_X3_hold 21 (.inl (e_psh 23 (.int (28)))) := sn_bipush dX3_hold_21 rfl rfl
theorem en_X3_hold_23 : SndE EE S mi_X3_hold 23 (.inl (e_ieq 26 32)) := sn_ieq dX3_hold_23 rfl (by decide)
theorem en_X3_hold_26 : SndE EE S mi_X3_hold 26 (.inl (e_ldi 27 1)) := sn_iload_n dX3_hold_26 rfl rfl
theorem en_X3_hold_27 : SndE EE S mi_X3_hold 27 (.inl (e_psh 29 (.int (20)))) := sn_bipush dX3_hold_27 rfl rfl
theorem en_X3_hold_29 : SndE EE S mi_X3_hold 29 (.inl (e_ine 32 42)) := sn_ine dX3_hold_29 rfl (by decide)
theorem en_X3_hold_32 : SndE EE S mi_X3_hold 32 (.inl (e_lda 33 0)) := sn_aload_n dX3_hold_32 rfl rfl
theorem en_X3_hold_33 : SndE EE S mi_X3_hold 33 (.inl (e_dup 34)) := sn_dup dX3_hold_33 rfl
theorem en_X3_hold_34 : SndE EE S mi_X3_hold 34 (.inl (e_gI 37 3 30)) := sn_gI dX3_hold_34 rfl cl_3 (by decide) rfl (Or.inl q883) (Or.inl rfl)
theorem en_X3_hold_37 : SndE EE S mi_X3_hold 37 (.inl (e_psh 38 (.int (1)))) := sn_iconst dX3_hold_37 rfl rfl
theorem en_X3_hold_38 : SndE EE S mi_X3_hold 38 (.inl (e_bin 39 (fun x y => x + y))) := sn_iadd dX3_hold_38 rfl
theorem en_X3_hold_39 : SndE EE S mi_X3_hold 39 (.inl (e_pI 42 3 30)) := sn_pI dX3_hold_39 rfl cl_3 (by decide) rfl (Or.inl ⟨q883, Or.inl rfl⟩) (Or.inl rfl) (fun _ => ⟨rfl, rfl⟩)
theorem en_X3_hold_42 : SndE EE S mi_X3_hold 42 (.inr (.inr 0)) := ⟨dX3_hold_42, rfl⟩
theorem sd_X3_hold : ∀ pc x, cd_X3_hold pc = some x → SndE EE S mi_X3_hold pc x := (tN_ok (tN_ok (tN_ok (tN_ok (tL_ok en_X3_hold_0) (tN_ok (tL_ok en_X3_hold_1) (tL_ok en_X3_hold_4))) (tN_ok (tL_ok en_X3_hold_5) (tN_ok (tL_ok en_X3_hold_8) (tL_ok en_X3_hold_9)))) (tN_ok (tN_ok (tL_ok en_X3_hold_10) (tN_ok (tL_ok en_X3_hold_11) (tL_ok en_X3_hold_12))) (tN_ok (tL_ok en_X3_hold_15) (tN_ok (tL_ok en_X3_hold_16) (tL_ok en_X3_hold_17))))) (tN_ok (tN_ok (tN_ok (tL_ok en_X3_hold_20) (tN_ok (tL_ok en_X3_hold_21) (tL_ok en_X3_hold_23))) (tN_ok (tL_ok en_X3_hold_26) (tN_ok (tL_ok en_X3_hold_27) (tL_ok en_X3_hold_29)))) (tN_ok (tN_ok (tL_ok en_X3_hold_32) (tN_ok (tL_ok en_X3_hold_33) (tL_ok en_X3_hold_34))) (tN_ok (tN_ok (tL_ok en_X3_hold_37) (tL_ok en_X3_hold_38)) (tN_ok (tL_ok en_X3_hold_39) (tL_ok en_X3_hold_42))))))
theorem en_X3_settleOnes_0 : SndE EE S mi_X3_settleOnes 0 (.inl (e_psh 1 (.int (1)))) := sn_iconst dX3_settleOnes_0 rfl rfl
theorem en_X3_settleOnes_1 : SndE EE S mi_X3_settleOnes 1 (.inl (e_sti 2 2)) := sn_istore_n dX3_settleOnes_1 rfl rfl rfl (by decide)
theorem en_X3_settleOnes_2 : SndE EE S mi_X3_settleOnes 2 (.inl (e_ldi 3 2)) := sn_iload_n dX3_settleOnes_2 rfl rfl
theorem en_X3_settleOnes_3 : SndE EE S mi_X3_settleOnes 3 (.inl (e_zeq 6 63)) := sn_zeq dX3_settleOnes_3 rfl (by decide)
theorem en_X3_settleOnes_6 : SndE EE S mi_X3_settleOnes 6 (.inl (e_lda 7 0)) := sn_aload_n dX3_settleOnes_6 rfl rfl
theorem en_X3_settleOnes_7 : SndE EE S mi_X3_settleOnes 7 (.inl (e_gI 10 3 29)) := sn_gI dX3_settleOnes_7 rfl cl_3 (by decide) rfl (Or.inl q882) (Or.inl rfl)
theorem en_X3_settleOnes_10 : SndE EE S mi_X3_settleOnes 10 (.inl (e_zne 13 18)) := sn_zne dX3_settleOnes_10 rfl (by decide)
theorem en_X3_settleOnes_13 : SndE EE S mi_X3_settleOnes 13 (.inl (e_psh 15 (.int (28)))) := sn_bipush dX3_settleOnes_13 rfl rfl
theorem en_X3_settleOnes_15 : SndE EE S mi_X3_settleOnes 15 (.inl (e_goto 29)) := sn_goto dX3_settleOnes_15 (by decide)
theorem en_X3_settleOnes_18 : SndE EE S mi_X3_settleOnes 18 (.inl (e_lda 19 0)) := sn_aload_n dX3_settleOnes_18 rfl rfl
theorem en_X3_settleOnes_19 : SndE EE S mi_X3_settleOnes 19 (.inl (e_gR 22 3 28)) := sn_gR dX3_settleOnes_19 rfl cl_3 (by decide) rfl (Or.inl q881) (Or.inl rfl)
theorem en_X3_settleOnes_22 : SndE EE S mi_X3_settleOnes 22 (.inl (e_lda 23 0)) := sn_aload_n dX3_settleOnes_22 rfl rfl
theorem en_X3_settleOnes_23 : SndE EE S mi_X3_settleOnes 23 (.inl (e_gI 26 3 29)) := sn_gI dX3_settleOnes_23 rfl cl_3 (by decide) rfl (Or.inl q882) (Or.inl rfl)
theorem en_X3_settleOnes_26 : SndE EE S mi_X3_settleOnes 26 (.inl (e_psh 27 (.int (1)))) := sn_iconst dX3_settleOnes_26 rfl rfl
theorem en_X3_settleOnes_27 : SndE EE S mi_X3_settleOnes 27 (.inl (e_bin 28 (fun x y => x - y))) := sn_isub dX3_settleOnes_27 rfl
theorem en_X3_settleOnes_28 : SndE EE S mi_X3_settleOnes 28 (.inl (e_ald 29 1)) := sn_iald dX3_settleOnes_28 rfl
theorem en_X3_settleOnes_29 : SndE EE S mi_X3_settleOnes 29 (.inl (e_sti 30 3)) := sn_istore_n dX3_settleOnes_29 rfl rfl rfl (by decide)
theorem en_X3_settleOnes_30 : SndE EE S mi_X3_settleOnes 30 (.inl (e_ldi 31 3)) := sn_iload_n dX3_settleOnes_30 rfl rfl
theorem en_X3_settleOnes_31 : SndE EE S mi_X3_settleOnes 31 (.inl (e_psh 33 (.int (28)))) := sn_bipush dX3_settleOnes_31 rfl rfl
theorem en_X3_settleOnes_33 : SndE EE S mi_X3_settleOnes 33 (.inl (e_ieq 36 50)) := sn_ieq dX3_settleOnes_33 rfl (by decide)
theorem en_X3_settleOnes_36 : SndE EE S mi_X3_settleOnes 36 (.inl (e_ldi 37 1)) := sn_iload_n dX3_settleOnes_36 rfl rfl
theorem en_X3_settleOnes_37 : SndE EE S mi_X3_settleOnes 37 (.inl (e_zeq 40 46)) := sn_zeq dX3_settleOnes_37 rfl (by decide)
theorem en_X3_settleOnes_40 : SndE EE S mi_X3_settleOnes 40 (.inl (e_ldi 41 3)) := sn_iload_n dX3_settleOnes_40 rfl rfl
theorem en_X3_settleOnes_41 : SndE EE S mi_X3_settleOnes 41 (.inl (e_psh 43 (.int (21)))) := sn_bipush dX3_settleOnes_41 rfl rfl
theorem en_X3_settleOnes_43 : SndE EE S mi_X3_settleOnes 43 (.inl (e_ieq 46 50)) := sn_ieq dX3_settleOnes_43 rfl (by decide)
theorem en_X3_settleOnes_46 : SndE EE S mi_X3_settleOnes 46 (.inl (e_psh 47 (.int (1)))) := sn_iconst dX3_settleOnes_46 rfl rfl
theorem en_X3_settleOnes_47 : SndE EE S mi_X3_settleOnes 47 (.inl (e_goto 51)) := sn_goto dX3_settleOnes_47 (by decide)
theorem en_X3_settleOnes_50 : SndE EE S mi_X3_settleOnes 50 (.inl (e_psh 51 (.int (0)))) := sn_iconst dX3_settleOnes_50 rfl rfl
theorem en_X3_settleOnes_51 : SndE EE S mi_X3_settleOnes 51 (.inl (e_sti 52 2)) := sn_istore_n dX3_settleOnes_51 rfl rfl rfl (by decide)
theorem en_X3_settleOnes_52 : SndE EE S mi_X3_settleOnes 52 (.inl (e_ldi 53 2)) := sn_iload_n dX3_settleOnes_52 rfl rfl
theorem en_X3_settleOnes_53 : SndE EE S mi_X3_settleOnes 53 (.inl (e_zeq 56 60)) := sn_zeq dX3_settleOnes_53 rfl (by decide)
theorem en_X3_settleOnes_56 : SndE EE S mi_X3_settleOnes 56 (.inl (e_lda 57 0)) := sn_aload_n dX3_settleOnes_56 rfl rfl
theorem en_X3_settleOnes_57 : SndE EE S mi_X3_settleOnes 57 (.inr (.inl (d_cls 3 71, 1, 3))) := sc_virt dX3_settleOnes_57 (rcv_cls (r := (RX3, TX3, 61)) rfl ⟨mo_X3_pop, nmo_X3_pop, q1130, q1132, qs38⟩)
theorem en_X3_settleOnes_60 : SndE EE S mi_X3_settleOnes 60 (.inl (e_goto 2)) := sn_goto dX3_settleOnes_60 (by decide)
theorem en_X3_settleOnes_63 : SndE EE S mi_X3_settleOnes 63 (.inr (.inr 0)) := ⟨dX3_settleOnes_63, rfl⟩
theorem sd_X3_settleOnes : ∀ pc x, cd_X3_settleOnes pc = some x → SndE EE S mi_X3_settleOnes pc x := (tN_ok (tN_ok (tN_ok (tN_ok (tN_ok (tL_ok en_X3_settleOnes_0) (tL_ok en_X3_settleOnes_1)) (tN_ok (tL_ok en_X3_settleOnes_2) (tL_ok en_X3_settleOnes_3))) (tN_ok (tN_ok (tL_ok en_X3_settleOnes_6) (tL_ok en_X3_settleOnes_7)) (tN_ok (tL_ok en_X3_settleOnes_10) (tL_ok en_X3_settleOnes_13)))) (tN_ok (tN_ok (tN_ok (tL_ok en_X3_settleOnes_15) (tL_ok en_X3_settleOnes_18)) (tN_ok (tL_ok en_X3_settleOnes_19) (tL_ok en_X3_settleOnes_22))) (tN_ok (tN_ok (tL_ok en_X3_settleOnes_23) (tL_ok en_X3_settleOnes_26)) (tN_ok (tL_ok en_X3_settleOnes_27) (tN_ok (tL_ok en_X3_settleOnes_28) (tL_ok en_X3_settleOnes_29)))))) (tN_ok (tN_ok (tN_ok (tN_ok (tL_ok en_X3_settleOnes_30) (tL_ok en_X3_settleOnes_31)) (tN_ok (tL_ok en_X3_settleOnes_33) (tL_ok en_X3_settleOnes_36))) (tN_ok (tN_ok (tL_ok en_X3_settleOnes_37) (tL_ok en_X3_settleOnes_40)) (tN_ok (tL_ok en_X3_settleOnes_41) (tN_ok (tL_ok en_X3_settleOnes_43) (tL_ok en_X3_settleOnes_46))))) (tN_ok (tN_ok (tN_ok (tL_ok en_X3_settleOnes_47) (tL_ok en_X3_settleOnes_50)) (tN_ok (tL_ok en_X3_settleOnes_51) (tL_ok en_X3_settleOnes_52))) (tN_ok (tN_ok (tL_ok en_X3_settleOnes_53) (tL_ok en_X3_settleOnes_56)) (tN_ok (tL_ok en_X3_settleOnes_57) (tN_ok (tL_ok en_X3_settleOnes_60) (tL_ok en_X3_settleOnes_63)))))))
theorem en_X3_operand_0 : SndE EE S mi_X3_operand 0 (.inl (e_lda 1 0)) := sn_aload_n dX3_operand_0 rfl rfl
theorem en_X3_operand_1 : SndE EE S mi_X3_operand 1 (.inr (.inl (d_cls 3 76, 1, 3))) := sc_virt dX3_operand_1 (rcv_cls (r := (RX3, TX3, 61)) rfl ⟨mo_X3_named, nmo_X3_named, q1152, q1154, qs43⟩)
theorem en_X3_operand_4 : SndE EE S mi_X3_operand 4 (.inl (e_sti 5 2)) := sn_istore_n dX3_operand_4 rfl rfl rfl (by decide)
theorem en_X3_operand_5 : SndE EE S mi_X3_operand 5 (.inl (e_lda 6 0)) := sn_aload_n dX3_operand_5 rfl rfl
theorem en_X3_operand_6 : SndE EE S mi_X3_operand 6 (.inl (e_gI 9 3 10)) := sn_gI dX3_operand_6 rfl cl_3 (by decide) rfl (Or.inl q863) (Or.inl rfl)
theorem en_X3_operand_9 : SndE EE S mi_X3_operand 9 (.inl (e_psh 10 (.int (2)))) := sn_iconst dX3_operand_9 rfl rfl
theorem en_X3_operand_10 : SndE EE S mi_X3_operand 10 (.inl (e_ieq 13 17)) := sn_ieq dX3_operand_10 rfl (by decide)
theorem en_X3_operand_13 : SndE EE S mi_X3_operand 13 (.inl (e_ldi 14 2)) := sn_iload_n dX3_operand_13 rfl rfl
theorem en_X3_operand_14 : SndE EE S mi_X3_operand 14 (.inl (e_zlt 17 21)) := sn_zlt dX3_operand_14 rfl (by decide)
theorem en_X3_operand_17 : SndE EE S mi_X3_operand 17 (.inl (e_psh 18 (.int (1)))) := sn_iconst dX3_operand_17 rfl rfl
theorem en_X3_operand_18 : SndE EE S mi_X3_operand 18 (.inl (e_goto 22)) := sn_goto dX3_operand_18 (by decide)
theorem en_X3_operand_21 : SndE EE S mi_X3_operand 21 (.inl (e_psh 22 (.int (0)))) := sn_iconst dX3_operand_21 rfl rfl
theorem en_X3_operand_22 : SndE EE S mi_X3_operand 22 (.inl (e_sti 23 3)) := sn_istore_n dX3_operand_22 rfl rfl rfl (by decide)
theorem en_X3_operand_23 : SndE EE S mi_X3_operand 23 (.inl (e_ldi 24 3)) := sn_iload_n dX3_operand_23 rfl rfl
theorem en_X3_operand_24 : SndE EE S mi_X3_operand 24 (.inl (e_zne 27 50)) := sn_zne dX3_operand_24 rfl (by decide)
theorem en_X3_operand_27 : SndE EE S mi_X3_operand 27 (.inl (e_ldi 28 1)) := sn_iload_n dX3_operand_27 rfl rfl
theorem en_X3_operand_28 : SndE EE S mi_X3_operand 28 (.inl (e_zne 31 54)) := sn_zne dX3_operand_28 rfl (by decide)
theorem en_X3_operand_31 : SndE EE S mi_X3_operand 31 (.inl (e_lda 32 0)) := sn_aload_n dX3_operand_31 rfl rfl
theorem en_X3_operand_32 : SndE EE S mi_X3_operand 32 (.inl (e_gI 35 3 10)) := sn_gI dX3_operand_32 rfl cl_3 (by decide) rfl (Or.inl q863) (Or.inl rfl)
theorem en_X3_operand_35 : SndE EE S mi_X3_operand 35 (.inl (e_psh 37 (.int (40)))) := sn_bipush dX3_operand_35 rfl rfl
theorem en_X3_operand_37 : SndE EE S mi_X3_operand 37 (.inl (e_ieq 40 50)) := sn_ieq dX3_operand_37 rfl (by decide)
theorem en_X3_operand_40 : SndE EE S mi_X3_operand 40 (.inl (e_lda 41 0)) := sn_aload_n dX3_operand_40 rfl rfl
theorem en_X3_operand_41 : SndE EE S mi_X3_operand 41 (.inl (e_psh 44 (.long (7237492)))) := sn_ldc2 dX3_operand_41 rfl q1161
theorem en_X3_operand_44 : SndE EE S mi_X3_operand 44 (.inr (.inl (d_cls 3 64, 2, 3))) := sc_virt dX3_operand_44 (rcv_cls (r := (RX3, TX3, 61)) rfl ⟨mo_X3_isWord, nmo_X3_isWord, q1100, q1102, qs31⟩)
theorem en_X3_operand_47 : SndE EE S mi_X3_operand 47 (.inl (e_zeq 50 54)) := sn_zeq dX3_operand_47 rfl (by decide)
theorem en_X3_operand_50 : SndE EE S mi_X3_operand 50 (.inl (e_psh 51 (.int (1)))) := sn_iconst dX3_operand_50 rfl rfl
theorem en_X3_operand_51 : SndE EE S mi_X3_operand 51 (.inl (e_goto 55)) := sn_goto dX3_operand_51 (by decide)
theorem en_X3_operand_54 : SndE EE S mi_X3_operand 54 (.inl (e_psh 55 (.int (0)))) := sn_iconst dX3_operand_54 rfl rfl
theorem en_X3_operand_55 : SndE EE S mi_X3_operand 55 (.inl (e_sti 57 4)) := sn_istore dX3_operand_55 rfl rfl (by decide)
theorem en_X3_operand_57 : SndE EE S mi_X3_operand 57 (.inl (e_ldi 59 4)) := sn_iload dX3_operand_57 rfl
theorem en_X3_operand_59 : SndE EE S mi_X3_operand 59 (.inl (e_zeq 62 88)) := sn_zeq dX3_operand_59 rfl (by decide)
theorem en_X3_operand_62 : SndE EE S mi_X3_operand 62 (.inl (e_ldi 63 1)) := sn_iload_n dX3_operand_62 rfl rfl
theorem en_X3_operand_63 : SndE EE S mi_X3_operand 63 (.inl (e_zne 66 75)) := sn_zne dX3_operand_63 rfl (by decide)
theorem en_X3_operand_66 : SndE EE S mi_X3_operand 66 (.inl (e_lda 67 0)) := sn_aload_n dX3_operand_66 rfl rfl
theorem en_X3_operand_67 : SndE EE S mi_X3_operand 67 (.inl (e_gI 70 3 30)) := sn_gI dX3_operand_67 rfl cl_3 (by decide) rfl (Or.inl q883) (Or.inl rfl)
theorem en_X3_operand_70 : SndE EE S mi_X3_operand 70 (.inl (e_psh 72 (.int (6)))) := sn_bipush dX3_operand_70 rfl rfl
theorem en_X3_operand_72 : SndE EE S mi_X3_operand 72 (.inl (e_ige 75 88)) := sn_ige dX3_operand_72 rfl (by decide)
theorem en_X3_operand_75 : SndE EE S mi_X3_operand 75 (.inl (e_ldi 76 3)) := sn_iload_n dX3_operand_75 rfl rfl
theorem en_X3_operand_76 : SndE EE S mi_X3_operand 76 (.inl (e_zeq 79 93)) := sn_zeq dX3_operand_76 rfl (by decide)
theorem en_X3_operand_79 : SndE EE S mi_X3_operand 79 (.inl (e_lda 80 0)) := sn_aload_n dX3_operand_79 rfl rfl
theorem en_X3_operand_80 : SndE EE S mi_X3_operand 80 (.inl (e_gI 83 3 22)) := sn_gI dX3_operand_80 rfl cl_3 (by decide) rfl (Or.inl q875) (Or.inl rfl)
theorem en_X3_operand_83 : SndE EE S mi_X3_operand 83 (.inl (e_psh 85 (.int (60)))) := sn_bipush dX3_operand_83 rfl rfl
theorem en_X3_operand_85 : SndE EE S mi_X3_operand 85 (.inl (e_ine 88 93)) := sn_ine dX3_operand_85 rfl (by decide)
theorem en_X3_operand_88 : SndE EE S mi_X3_operand 88 (.inl (e_lda 89 0)) := sn_aload_n dX3_operand_88 rfl rfl
theorem en_X3_operand_89 : SndE EE S mi_X3_operand 89 (.inl (e_psh 90 (.int (2)))) := sn_iconst dX3_operand_89 rfl rfl
theorem en_X3_operand_90 : SndE EE S mi_X3_operand 90 (.inr (.inl (d_cls 3 65, 2, 3))) := sc_virt dX3_operand_90 (rcv_cls (r := (RX3, TX3, 61)) rfl ⟨mo_X3_wrong, nmo_X3_wrong, q1104, q1106, qs32⟩)
theorem en_X3_operand_93 : SndE EE S mi_X3_operand 93 (.inl (e_lda 94 0)) := sn_aload_n dX3_operand_93 rfl rfl
theorem en_X3_operand_94 : SndE EE S mi_X3_operand 94 (.inl (e_gI 97 3 6)) := sn_gI dX3_operand_94 rfl cl_3 (by decide) rfl (Or.inl q859) (Or.inl rfl)
theorem en_X3_operand_97 : SndE EE S mi_X3_operand 97 (.inl (e_zle 100 102)) := sn_zle dX3_operand_97 rfl (by decide)
theorem en_X3_operand_100 : SndE EE S mi_X3_operand 100 (.inl (e_ldi 101 1)) := sn_iload_n dX3_operand_100 rfl rfl
theorem en_X3_operand_101 : SndE EE S mi_X3_operand 101 (.inr (.inr 1)) := ⟨dX3_operand_101, rfl⟩
theorem en_X3_operand_102 : SndE EE S mi_X3_operand 102 (.inl (e_ldi 103 3)) := sn_iload_n dX3_operand_102 rfl rfl
theorem en_X3_operand_103 : SndE EE S mi_X3_operand 103 (.inl (e_zne 106 132)) := sn_zne dX3_operand_103 rfl (by decide)
theorem en_X3_operand_106 : SndE EE S mi_X3_operand 106 (.inl (e_lda 107 0)) := sn_aload_n dX3_operand_106 rfl rfl
theorem en_X3_operand_107 : SndE EE S mi_X3_operand 107 (.inl (e_lda 108 0)) := sn_aload_n dX3_operand_107 rfl rfl
theorem en_X3_operand_108 : SndE EE S mi_X3_operand 108 (.inl (e_gI 111 3 10)) := sn_gI dX3_operand_108 rfl cl_3 (by decide) rfl (Or.inl q863) (Or.inl rfl)
theorem en_X3_operand_111 : SndE EE S mi_X3_operand 111 (.inl (e_psh 113 (.int (40)))) := sn_bipush dX3_operand_111 rfl rfl
theorem en_X3_operand_113 : SndE EE S mi_X3_operand 113 (.inl (e_ine 116 121)) := sn_ine dX3_operand_113 rfl (by decide)
theorem en_X3_operand_116 : SndE EE S mi_X3_operand 116 (.inl (e_psh 118 (.int (28)))) := sn_bipush dX3_operand_116 rfl rfl
theorem en_X3_operand_118 : SndE EE S mi_X3_operand 118 (.inl (e_goto 123)) := sn_goto dX3_operand_118 (by decide)
theorem en_X3_operand_121 : SndE EE S mi_X3_operand 121 (.inl (e_psh 123 (.int (20)))) := sn_bipush dX3_operand_121 rfl rfl
theorem en_X3_operand_123 : SndE EE S mi_X3_operand 123 (.inr (.inl (d_cls 3 73, 2, 3))) := sc_virt dX3_operand_123 (rcv_cls (r := (RX3, TX3, 61)) rfl ⟨mo_X3_hold, nmo_X3_hold, q1138, q1140, qs40⟩)
theorem en_X3_operand_126 : SndE EE S mi_X3_operand 126 (.inl (e_lda 127 0)) := sn_aload_n dX3_operand_126 rfl rfl
theorem en_X3_operand_127 : SndE EE S mi_X3_operand 127 (.inr (.inl (d_cls 3 59, 1, 3))) := sc_virt dX3_operand_127 (rcv_cls (r := (RX3, TX3, 61)) rfl ⟨mo_X3_next, nmo_X3_next, q1082, q1084, qs29⟩)
theorem en_X3_operand_130 : SndE EE S mi_X3_operand 130 (.inl (e_psh 131 (.int (0)))) := sn_iconst dX3_operand_130 rfl rfl
theorem en_X3_operand_131 : SndE EE S mi_X3_operand 131 (.inr (.inr 1)) := ⟨dX3_operand_131, rfl⟩
theorem en_X3_operand_132 : SndE EE S mi_X3_operand 132 (.inl (e_lda 133 0)) := sn_aload_n dX3_operand_132 rfl rfl
theorem en_X3_operand_133 : SndE EE S mi_X3_operand 133 (.inl (e_ldi 134 2)) := sn_iload_n dX3_operand_133 rfl rfl
theorem en_X3_operand_134 : SndE EE S mi_X3_operand 134 (.inl (e_zlt 137 144)) := sn_zlt dX3_operand_134 rfl (by decide)
theorem en_X3_operand_137 : SndE EE S mi_X3_operand 137 (.inl (e_psh 139 (.int (10)))) := sn_bipush dX3_operand_137 rfl rfl
theorem en_X3_operand_139 : SndE EE S mi_X3_operand 139 (.inl (e_ldi 140 2)) := sn_iload_n dX3_operand_139 rfl rfl
theorem en_X3_operand_140 : SndE EE S mi_X3_operand 140 (.inl (e_bin 141 (fun x y => x + y))) := sn_iadd dX3_operand_140 rfl
theorem en_X3_operand_141 : SndE EE S mi_X3_operand 141 (.inl (e_goto 145)) := sn_goto dX3_operand_141 (by decide)
theorem en_X3_operand_144 : SndE EE S mi_X3_operand 144 (.inl (e_psh 145 (.int (0)))) := sn_iconst dX3_operand_144 rfl rfl
theorem en_X3_operand_145 : SndE EE S mi_X3_operand 145 (.inl (e_lda 146 0)) := sn_aload_n dX3_operand_145 rfl rfl
theorem en_X3_operand_146 : SndE EE S mi_X3_operand 146 (.inl (e_gI 149 3 12)) := sn_gI dX3_operand_146 rfl cl_3 (by decide) rfl (Or.inl q865) (Or.inl rfl)
theorem en_X3_operand_149 : SndE EE S mi_X3_operand 149 (.inr (.inl (d_cls 3 72, 3, 3))) := sc_virt dX3_operand_149 (rcv_cls (r := (RX3, TX3, 61)) rfl ⟨mo_X3_step, nmo_X3_step, q1134, q1136, qs39⟩)
theorem en_X3_operand_152 : SndE EE S mi_X3_operand 152 (.inl (e_lda 153 0)) := sn_aload_n dX3_operand_152 rfl rfl
theorem en_X3_operand_153 : SndE EE S mi_X3_operand 153 (.inl (e_dup 154)) := sn_dup dX3_operand_153 rfl
theorem en_X3_operand_154 : SndE EE S mi_X3_operand 154 (.inl (e_gI 157 3 22)) := sn_gI dX3_operand_154 rfl cl_3 (by decide) rfl (Or.inl q875) (Or.inl rfl)
theorem en_X3_operand_157 : SndE EE S mi_X3_operand 157 (.inl (e_psh 158 (.int (1)))) := sn_iconst dX3_operand_157 rfl rfl
theorem en_X3_operand_158 : SndE EE S mi_X3_operand 158 (.inl (e_bin 159 (fun x y => x + y))) := sn_iadd dX3_operand_158 rfl
theorem en_X3_operand_159 : SndE EE S mi_X3_operand 159 (.inl (e_pI 162 3 22)) := sn_pI dX3_operand_159 rfl cl_3 (by decide) rfl (Or.inl ⟨q875, Or.inl rfl⟩) (Or.inl rfl) (fun _ => ⟨rfl, rfl⟩)
theorem en_X3_operand_162 : SndE EE S mi_X3_operand 162 (.inl (e_lda 163 0)) := sn_aload_n dX3_operand_162 rfl rfl
theorem en_X3_operand_163 : SndE EE S mi_X3_operand 163 (.inr (.inl (d_cls 3 59, 1, 3))) := sc_virt dX3_operand_163 (rcv_cls (r := (RX3, TX3, 61)) rfl ⟨mo_X3_next, nmo_X3_next, q1082, q1084, qs29⟩)
theorem en_X3_operand_166 : SndE EE S mi_X3_operand 166 (.inl (e_ldi 167 1)) := sn_iload_n dX3_operand_166 rfl rfl
theorem en_X3_operand_167 : SndE EE S mi_X3_operand 167 (.inl (e_psh 168 (.int (2)))) := sn_iconst dX3_operand_167 rfl rfl
theorem en_X3_operand_168 : SndE EE S mi_X3_operand 168 (.inl (e_ine 171 175)) := sn_ine dX3_operand_168 rfl (by decide)
theorem en_X3_operand_171 : SndE EE S mi_X3_operand 171 (.inl (e_psh 172 (.int (4)))) := sn_iconst dX3_operand_171 rfl rfl
theorem en_X3_operand_172 : SndE EE S mi_X3_operand 172 (.inl (e_goto 176)) := sn_goto dX3_operand_172 (by decide)
theorem en_X3_operand_175 : SndE EE S mi_X3_operand 175 (.inl (e_psh 176 (.int (3)))) := sn_iconst dX3_operand_175 rfl rfl
theorem en_X3_operand_176 : SndE EE S mi_X3_operand 176 (.inr (.inr 1)) := ⟨dX3_operand_176, rfl⟩
theorem sd_X3_operand : ∀ pc x, cd_X3_operand pc = some x → SndE EE S mi_X3_operand pc x := (tN_ok (tN_ok (tN_ok (tN_ok (tN_ok (tN_ok (tL_ok en_X3_operand_0) (tL_ok en_X3_operand_1)) (tN_ok (tL_ok en_X3_operand_4) (tN_ok (tL_ok en_X3_operand_5) (tL_ok en_X3_operand_6)))) (tN_ok (tN_ok (tL_ok en_X3_operand_9) (tN_ok (tL_ok en_X3_operand_10) (tL_ok en_X3_operand_13))) (tN_ok (tL_ok en_X3_operand_14) (tN_ok (tL_ok en_X3_operand_17) (tL_ok en_X3_operand_18))))) (tN_ok (tN_ok (tN_ok (tL_ok en_X3_operand_21) (tN_ok (tL_ok en_X3_operand_22) (tL_ok en_X3_operand_23))) (tN_ok (tL_ok en_X3_operand_24) (tN_ok (tL_ok en_X3_operand_27) (tL_ok en_X3_operand_28)))) (tN_ok (tN_ok (tL_ok en_X3_operand_31) (tN_ok (tL_ok en_X3_operand_32) (tL_ok en_X3_operand_35))) (tN_ok (tL_ok en_X3_operand_37) (tN_ok (tL_ok en_X3_operand_40) (tL_ok en_X3_operand_41)))))) (tN_ok (tN_ok (tN_ok (tN_ok (tL_ok en_X3_operand_44) (tL_ok en_X3_operand_47)) (tN_ok (tL_ok en_X3_operand_50) (tN_ok (tL_ok en_X3_operand_51) (tL_ok en_X3_operand_54)))) (tN_ok (tN_ok (tL_ok en_X3_operand_55) (tN_ok (tL_ok en_X3_operand_57) (tL_ok en_X3_operand_59))) (tN_ok (tL_ok en_X3_operand_62) (tN_ok (tL_ok en_X3_operand_63) (tL_ok en_X3_operand_66))))) (tN_ok (tN_ok (tN_ok (tL_ok en_X3_operand_67) (tN_ok (tL_ok en_X3_operand_70) (tL_ok en_X3_operand_72))) (tN_ok (tL_ok en_X3_operand_75) (tN_ok (tL_ok en_X3_operand_76) (tL_ok en_X3_operand_79)))) (tN_ok (tN_ok (tL_ok en_X3_operand_80) (tN_ok (tL_ok en_X3_operand_83) (tL_ok en_X3_operand_85))) (tN_ok (tL_ok en_X3_operand_88) (tN_ok (tL_ok en_X3_operand_89) (tL_ok en_X3_operand_90))))))) (tN_ok (tN_ok (tN_ok (tN_ok (tN_ok (tL_ok en_X3_operand_93) (tL_ok en_X3_operand_94)) (tN_ok (tL_ok en_X3_operand_97) (tN_ok (tL_ok en_X3_operand_100) (tL_ok en_X3_operand_101)))) (tN_ok (tN_ok (tL_ok en_X3_operand_102) (tN_ok (tL_ok en_X3_operand_103) (tL_ok en_X3_operand_106))) (tN_ok (tL_ok en_X3_operand_107) (tN_ok (tL_ok en_X3_operand_108) (tL_ok en_X3_operand_111))))) (tN_ok (tN_ok (tN_ok (tL_ok en_X3_operand_113) (tN_ok (tL_ok en_X3_operand_116) (tL_ok en_X3_operand_118))) (tN_ok (tL_ok en_X3_operand_121) (tN_ok (tL_ok en_X3_operand_123) (tL_ok en_X3_operand_126)))) (tN_ok (tN_ok (tL_ok en_X3_operand_127) (tN_ok (tL_ok en_X3_operand_130) (tL_ok en_X3_operand_131))) (tN_ok (tL_ok en_X3_operand_132) (tN_ok (tL_ok en_X3_operand_133) (tL_ok en_X3_operand_134)))))) (tN_ok (tN_ok (tN_ok (tN_ok (tL_ok en_X3_operand_137) (tL_ok en_X3_operand_139)) (tN_ok (tL_ok en_X3_operand_140) (tN_ok (tL_ok en_X3_operand_141) (tL_ok en_X3_operand_144)))) (tN_ok (tN_ok (tL_ok en_X3_operand_145) (tN_ok (tL_ok en_X3_operand_146) (tL_ok en_X3_operand_149))) (tN_ok (tL_ok en_X3_operand_152) (tN_ok (tL_ok en_X3_operand_153) (tL_ok en_X3_operand_154))))) (tN_ok (tN_ok (tN_ok (tL_ok en_X3_operand_157) (tN_ok (tL_ok en_X3_operand_158) (tL_ok en_X3_operand_159))) (tN_ok (tL_ok en_X3_operand_162) (tN_ok (tL_ok en_X3_operand_163) (tL_ok en_X3_operand_166)))) (tN_ok (tN_ok (tL_ok en_X3_operand_167) (tN_ok (tL_ok en_X3_operand_168) (tL_ok en_X3_operand_171))) (tN_ok (tL_ok en_X3_operand_172) (tN_ok (tL_ok en_X3_operand_175) (tL_ok en_X3_operand_176))))))))
theorem en_X3_named_0 : SndE EE S mi_X3_named 0 (.inl (e_lda 1 0)) := sn_aload_n dX3_named_0 rfl rfl
theorem en_X3_named_1 : SndE EE S mi_X3_named 1 (.inl (e_gI 4 3 10)) := sn_gI dX3_named_1 rfl cl_3 (by decide) rfl (Or.inl q863) (Or.inl rfl)
theorem en_X3_named_4 : SndE EE S mi_X3_named 4 (.inl (e_psh 5 (.int (1)))) := sn_iconst dX3_named_4 rfl rfl
theorem en_X3_named_5 : SndE EE S mi_X3_named 5 (.inl (e_ieq 8 12)) := sn_ieq dX3_named_5 rfl (by decide)
theorem en_X3_named_8 : SndE EE S mi_X3_named 8 (.inl (e_psh 9 (.int (-1)))) := sn_iconst dX3_named_8 rfl rfl
theorem en_X3_named_9 : SndE EE S mi_X3_named 9 (.inl (e_goto 88)) := sn_goto dX3_named_9 (by decide)
theorem en_X3_named_12 : SndE EE S mi_X3_named 12 (.inl (e_lda 13 0)) := sn_aload_n dX3_named_12 rfl rfl
theorem en_X3_named_13 : SndE EE S mi_X3_named 13 (.inl (e_gL 16 3 13)) := sn_gL dX3_named_13 rfl cl_3 (by decide) rfl (Or.inl q866) (Or.inl rfl)
theorem en_X3_named_16 : SndE EE S mi_X3_named 16 (.inl (e_psh 19 (.long (461414298739)))) := sn_ldc2 dX3_named_16 rfl q1156
theorem en_X3_named_19 : SndE EE S mi_X3_named 19 (.inl (e_lcmp 20)) := sn_lcmp dX3_named_19 rfl
theorem en_X3_named_20 : SndE EE S mi_X3_named 20 (.inl (e_zne 23 27)) := sn_zne dX3_named_20 rfl (by decide)
theorem en_X3_named_23 : SndE EE S mi_X3_named 23 (.inl (e_psh 24 (.int (0)))) := sn_iconst dX3_named_23 rfl rfl
theorem en_X3_named_24 : SndE EE S mi_X3_named 24 (.inl (e_goto 88)) := sn_goto dX3_named_24 (by decide)
theorem en_X3_named_27 : SndE EE S mi_X3_named 27 (.inl (e_lda 28 0)) := sn_aload_n dX3_named_27 rfl rfl
theorem en_X3_named_28 : SndE EE S mi_X3_named 28 (.inl (e_gL 31 3 13)) := sn_gL dX3_named_28 rfl cl_3 (by decide) rfl (Or.inl q866) (Or.inl rfl)
theorem en_X3_named_31 : SndE EE S mi_X3_named 31 (.inl (e_psh 34 (.long (126926692381811)))) := sn_ldc2 dX3_named_31 rfl q1157
theorem en_X3_named_34 : SndE EE S mi_X3_named 34 (.inl (e_lcmp 35)) := sn_lcmp dX3_named_34 rfl
theorem en_X3_named_35 : SndE EE S mi_X3_named 35 (.inl (e_zne 38 42)) := sn_zne dX3_named_35 rfl (by decide)
theorem en_X3_named_38 : SndE EE S mi_X3_named 38 (.inl (e_psh 39 (.int (1)))) := sn_iconst dX3_named_38 rfl rfl
theorem en_X3_named_39 : SndE EE S mi_X3_named 39 (.inl (e_goto 88)) := sn_goto dX3_named_39 (by decide)
theorem en_X3_named_42 : SndE EE S mi_X3_named 42 (.inl (e_lda 43 0)) := sn_aload_n dX3_named_42 rfl rfl
theorem en_X3_named_43 : SndE EE S mi_X3_named 43 (.inl (e_gL 46 3 13)) := sn_gL dX3_named_43 rfl cl_3 (by decide) rfl (Or.inl q866) (Or.inl rfl)
theorem en_X3_named_46 : SndE EE S mi_X3_named 46 (.inl (e_psh 49 (.long (448545973619)))) := sn_ldc2 dX3_named_46 rfl q1158
theorem en_X3_named_49 : SndE EE S mi_X3_named 49 (.inl (e_lcmp 50)) := sn_lcmp dX3_named_49 rfl
theorem en_X3_named_50 : SndE EE S mi_X3_named 50 (.inl (e_zne 53 57)) := sn_zne dX3_named_50 rfl (by decide)
theorem en_X3_named_53 : SndE EE S mi_X3_named 53 (.inl (e_psh 54 (.int (2)))) := sn_iconst dX3_named_53 rfl rfl
theorem en_X3_named_54 : SndE EE S mi_X3_named 54 (.inl (e_goto 88)) := sn_goto dX3_named_54 (by decide)
theorem en_X3_named_57 : SndE EE S mi_X3_named 57 (.inl (e_lda 58 0)) := sn_aload_n dX3_named_57 rfl rfl
theorem en_X3_named_58 : SndE EE S mi_X3_named 58 (.inl (e_gL 61 3 13)) := sn_gL dX3_named_58 rfl cl_3 (by decide) rfl (Or.inl q866) (Or.inl rfl)
theorem en_X3_named_61 : SndE EE S mi_X3_named 61 (.inl (e_psh 64 (.long (482855970675)))) := sn_ldc2 dX3_named_61 rfl q1159
theorem en_X3_named_64 : SndE EE S mi_X3_named 64 (.inl (e_lcmp 65)) := sn_lcmp dX3_named_64 rfl
theorem en_X3_named_65 : SndE EE S mi_X3_named 65 (.inl (e_zne 68 72)) := sn_zne dX3_named_65 rfl (by decide)
theorem en_X3_named_68 : SndE EE S mi_X3_named 68 (.inl (e_psh 69 (.int (3)))) := sn_iconst dX3_named_68 rfl rfl
theorem en_X3_named_69 : SndE EE S mi_X3_named 69 (.inl (e_goto 88)) := sn_goto dX3_named_69 (by decide)
theorem en_X3_named_72 : SndE EE S mi_X3_named 72 (.inl (e_lda 73 0)) := sn_aload_n dX3_named_72 rfl rfl
theorem en_X3_named_73 : SndE EE S mi_X3_named 73 (.inl (e_gL 76 3 13)) := sn_gL dX3_named_73 rfl cl_3 (by decide) rfl (Or.inl q866) (Or.inl rfl)
theorem en_X3_named_76 : SndE EE S mi_X3_named 76 (.inl (e_psh 79 (.long (7501166)))) := sn_ldc2 dX3_named_76 rfl q1160
theorem en_X3_named_79 : SndE EE S mi_X3_named 79 (.inl (e_lcmp 80)) := sn_lcmp dX3_named_79 rfl
theorem en_X3_named_80 : SndE EE S mi_X3_named 80 (.inl (e_zne 83 87)) := sn_zne dX3_named_80 rfl (by decide)
theorem en_X3_named_83 : SndE EE S mi_X3_named 83 (.inl (e_psh 84 (.int (4)))) := sn_iconst dX3_named_83 rfl rfl
theorem en_X3_named_84 : SndE EE S mi_X3_named 84 (.inl (e_goto 88)) := sn_goto dX3_named_84 (by decide)
theorem en_X3_named_87 : SndE EE S mi_X3_named 87 (.inl (e_psh 88 (.int (-1)))) := sn_iconst dX3_named_87 rfl rfl
theorem en_X3_named_88 : SndE EE S mi_X3_named 88 (.inr (.inr 1)) := ⟨dX3_named_88, rfl⟩
theorem sd_X3_named : ∀ pc x, cd_X3_named pc = some x → SndE EE S mi_X3_named pc x := (tN_ok (tN_ok (tN_ok (tN_ok (tN_ok (tL_ok en_X3_named_0) (tL_ok en_X3_named_1)) (tN_ok (tL_ok en_X3_named_4) (tN_ok (tL_ok en_X3_named_5) (tL_ok en_X3_named_8)))) (tN_ok (tN_ok (tL_ok en_X3_named_9) (tL_ok en_X3_named_12)) (tN_ok (tL_ok en_X3_named_13) (tN_ok (tL_ok en_X3_named_16) (tL_ok en_X3_named_19))))) (tN_ok (tN_ok (tN_ok (tL_ok en_X3_named_20) (tL_ok en_X3_named_23)) (tN_ok (tL_ok en_X3_named_24) (tN_ok (tL_ok en_X3_named_27) (tL_ok en_X3_named_28)))) (tN_ok (tN_ok (tL_ok en_X3_named_31) (tN_ok (tL_ok en_X3_named_34) (tL_ok en_X3_named_35))) (tN_ok (tL_ok en_X3_named_38) (tN_ok (tL_ok en_X3_named_39) (tL_ok en_X3_named_42)))))) (tN_ok (tN_ok (tN_ok (tN_ok (tL_ok en_X3_named_43) (tL_ok en_X3_named_46)) (tN_ok (tL_ok en_X3_named_49) (tN_ok (tL_ok en_X3_named_50) (tL_ok en_X3_named_53)))) (tN_ok (tN_ok (tL_ok en_X3_named_54) (tN_ok (tL_ok en_X3_named_57) (tL_ok en_X3_named_58))) (tN_ok (tL_ok en_X3_named_61) (tN_ok (tL_ok en_X3_named_64) (tL_ok en_X3_named_65))))) (tN_ok (tN_ok (tN_ok (tL_ok en_X3_named_68) (tL_ok en_X3_named_69)) (tN_ok (tL_ok en_X3_named_72) (tN_ok (tL_ok en_X3_named_73) (tL_ok en_X3_named_76)))) (tN_ok (tN_ok (tL_ok en_X3_named_79) (tN_ok (tL_ok en_X3_named_80) (tL_ok en_X3_named_83))) (tN_ok (tL_ok en_X3_named_84) (tN_ok (tL_ok en_X3_named_87) (tL_ok en_X3_named_88)))))))
theorem en_X3_fault_0 : SndE EE S mi_X3_fault 0 (.inl (e_ldi 1 1)) := sn_iload_n dX3_fault_0 rfl rfl
theorem en_X3_fault_1 : SndE EE S mi_X3_fault 1 (.inl (e_zne 4 11)) := sn_zne dX3_fault_1 rfl (by decide)
theorem en_X3_fault_4 : SndE EE S mi_X3_fault 4 (.inl (e_lda 5 0)) := sn_aload_n dX3_fault_4 rfl rfl
theorem en_X3_fault_5 : SndE EE S mi_X3_fault 5 (.inl (e_gI 8 3 6)) := sn_gI dX3_fault_5 rfl cl_3 (by decide) rfl (Or.inl q859) (Or.inl rfl)
theorem en_X3_fault_8 : SndE EE S mi_X3_fault 8 (.inl (e_goto 24)) := sn_goto dX3_fault_8 (by decide)
theorem en_X3_fault_11 : SndE EE S mi_X3_fault 11 (.inl (e_ldi 12 1)) := sn_iload_n dX3_fault_11 rfl rfl
theorem en_X3_fault_12 : SndE EE S mi_X3_fault 12 (.inl (e_psh 13 (.int (1)))) := sn_iconst dX3_fault_12 rfl rfl
theorem en_X3_fault_13 : SndE EE S mi_X3_fault 13 (.inl (e_ine 16 23)) := sn_ine dX3_fault_13 rfl (by decide)
theorem en_X3_fault_16 : SndE EE S mi_X3_fault 16 (.inl (e_lda 17 0)) := sn_aload_n dX3_fault_16 rfl rfl
theorem en_X3_fault_17 : SndE EE S mi_X3_fault 17 (.inl (e_gI 20 3 7)) := sn_gI dX3_fault_17 rfl cl_3 (by decide) rfl (Or.inl q860) (Or.inl rfl)
theorem en_X3_fault_20 : SndE EE S mi_X3_fault 20 (.inl (e_goto 24)) := sn_goto dX3_fault_20 (by decide)
theorem en_X3_fault_23 : SndE EE S mi_X3_fault 23 (.inl (e_psh 24 (.int (-1)))) := sn_iconst dX3_fault_23 rfl rfl
theorem en_X3_fault_24 : SndE EE S mi_X3_fault 24 (.inr (.inr 1)) := ⟨dX3_fault_24, rfl⟩
theorem sd_X3_fault : ∀ pc x, cd_X3_fault pc = some x → SndE EE S mi_X3_fault pc x := (tN_ok (tN_ok (tN_ok (tL_ok en_X3_fault_0) (tN_ok (tL_ok en_X3_fault_1) (tL_ok en_X3_fault_4))) (tN_ok (tL_ok en_X3_fault_5) (tN_ok (tL_ok en_X3_fault_8) (tL_ok en_X3_fault_11)))) (tN_ok (tN_ok (tL_ok en_X3_fault_12) (tN_ok (tL_ok en_X3_fault_13) (tL_ok en_X3_fault_16))) (tN_ok (tN_ok (tL_ok en_X3_fault_17) (tL_ok en_X3_fault_20)) (tN_ok (tL_ok en_X3_fault_23) (tL_ok en_X3_fault_24)))))
theorem en_X3_leaf_0 : SndE EE S mi_X3_leaf 0 (.inl (e_lda 1 0)) := sn_aload_n dX3_leaf_0 rfl rfl
theorem en_X3_leaf_1 : SndE EE S mi_X3_leaf 1 (.inr (.inl (d_cls 3 58, 1, 3))) := sc_virt dX3_leaf_1 (rcv_cls (r := (RX3, TX3, 61)) rfl ⟨mo_X3_begin, nmo_X3_begin, q1078, q1080, qs28⟩)
theorem en_X3_leaf_4 : SndE EE S mi_X3_leaf 4 (.inl (e_psh 5 (.int (0)))) := sn_iconst dX3_leaf_4 rfl rfl
theorem en_X3_leaf_5 : SndE EE S mi_X3_leaf 5 (.inl (e_sti 6 1)) := sn_istore_n dX3_leaf_5 rfl rfl rfl (by decide)
theorem en_X3_leaf_6 : SndE EE S mi_X3_leaf 6 (.inl (e_ldi 7 1)) := sn_iload_n dX3_leaf_6 rfl rfl
theorem en_X3_leaf_7 : SndE EE S mi_X3_leaf 7 (.inl (e_lda 8 0)) := sn_aload_n dX3_leaf_7 rfl rfl
theorem en_X3_leaf_8 : SndE EE S mi_X3_leaf 8 (.inl (e_gI 11 3 9)) := sn_gI dX3_leaf_8 rfl cl_3 (by decide) rfl (Or.inl q862) (Or.inl rfl)
theorem en_X3_leaf_11 : SndE EE S mi_X3_leaf 11 (.inl (e_ige 14 59)) := sn_ige dX3_leaf_11 rfl (by decide)
theorem en_X3_leaf_14 : SndE EE S mi_X3_leaf 14 (.inl (e_lda 15 0)) := sn_aload_n dX3_leaf_14 rfl rfl
theorem en_X3_leaf_15 : SndE EE S mi_X3_leaf 15 (.inl (e_gI 18 3 6)) := sn_gI dX3_leaf_15 rfl cl_3 (by decide) rfl (Or.inl q859) (Or.inl rfl)
theorem en_X3_leaf_18 : SndE EE S mi_X3_leaf 18 (.inl (e_zne 21 59)) := sn_zne dX3_leaf_18 rfl (by decide)
theorem en_X3_leaf_21 : SndE EE S mi_X3_leaf 21 (.inl (e_ldi 22 1)) := sn_iload_n dX3_leaf_21 rfl rfl
theorem en_X3_leaf_22 : SndE EE S mi_X3_leaf 22 (.inl (e_psh 25 (.int (300)))) := sn_sipush dX3_leaf_22 rfl rfl
theorem en_X3_leaf_25 : SndE EE S mi_X3_leaf 25 (.inl (e_ige 28 43)) := sn_ige dX3_leaf_25 rfl (by decide)
theorem en_X3_leaf_28 : SndE EE S mi_X3_leaf 28 (.inl (e_lda 29 0)) := sn_aload_n dX3_leaf_28 rfl rfl
theorem en_X3_leaf_29 : SndE EE S mi_X3_leaf 29 (.inl (e_gR 32 3 4)) := sn_gR dX3_leaf_29 rfl cl_3 (by decide) rfl (Or.inl q857) (Or.inl rfl)
theorem en_X3_leaf_32 : SndE EE S mi_X3_leaf 32 (.inl (e_ldi 33 1)) := sn_iload_n dX3_leaf_32 rfl rfl
theorem en_X3_leaf_33 : SndE EE S mi_X3_leaf 33 (.inl (e_ald 34 1)) := sn_iald dX3_leaf_33 rfl
theorem en_X3_leaf_34 : SndE EE S mi_X3_leaf 34 (.inr (.inl (fun _ _ => some 79, 1, 3))) := sc_stat dX3_leaf_34 mo_X3_markOf nmo_X3_markOf q1170 q1171 q1172
theorem en_X3_leaf_37 : SndE EE S mi_X3_leaf 37 (.inl (e_zlt 40 43)) := sn_zlt dX3_leaf_37 rfl (by decide)
theorem en_X3_leaf_40 : SndE EE S mi_X3_leaf 40 (.inl (e_goto 53)) := sn_goto dX3_leaf_40 (by decide)
theorem en_X3_leaf_43 : SndE EE S mi_X3_leaf 43 (.inl (e_lda 44 0)) := sn_aload_n dX3_leaf_43 rfl rfl
theorem en_X3_leaf_44 : SndE EE S mi_X3_leaf 44 (.inl (e_psh 45 (.int (1)))) := sn_iconst dX3_leaf_44 rfl rfl
theorem en_X3_leaf_45 : SndE EE S mi_X3_leaf 45 (.inl (e_pI 48 3 6)) := sn_pI dX3_leaf_45 rfl cl_3 (by decide) rfl (Or.inl ⟨q859, Or.inl rfl⟩) (Or.inl rfl) (fun _ => ⟨rfl, rfl⟩)
theorem en_X3_leaf_48 : SndE EE S mi_X3_leaf 48 (.inl (e_lda 49 0)) := sn_aload_n dX3_leaf_48 rfl rfl
theorem en_X3_leaf_49 : SndE EE S mi_X3_leaf 49 (.inl (e_ldi 50 1)) := sn_iload_n dX3_leaf_49 rfl rfl
theorem en_X3_leaf_50 : SndE EE S mi_X3_leaf 50 (.inl (e_pI 53 3 7)) := sn_pI dX3_leaf_50 rfl cl_3 (by decide) rfl (Or.inl ⟨q860, Or.inl rfl⟩) (Or.inl rfl) (fun _ => ⟨rfl, rfl⟩)
theorem en_X3_leaf_53 : SndE EE S mi_X3_leaf 53 (.inl (e_inc 56 1 (1))) := sn_iinc dX3_leaf_53 rfl rfl rfl (by decide)
theorem en_X3_leaf_56 : SndE EE S mi_X3_leaf 56 (.inl (e_goto 6)) := sn_goto dX3_leaf_56 (by decide)
theorem en_X3_leaf_59 : SndE EE S mi_X3_leaf 59 (.inl (e_lda 60 0)) := sn_aload_n dX3_leaf_59 rfl rfl
theorem en_X3_leaf_60 : SndE EE S mi_X3_leaf 60 (.inl (e_gI 63 3 6)) := sn_gI dX3_leaf_60 rfl cl_3 (by decide) rfl (Or.inl q859) (Or.inl rfl)
theorem en_X3_leaf_63 : SndE EE S mi_X3_leaf 63 (.inl (e_zle 66 68)) := sn_zle dX3_leaf_63 rfl (by decide)
theorem en_X3_leaf_66 : SndE EE S mi_X3_leaf 66 (.inl (e_psh 67 (.int (-1)))) := sn_iconst dX3_leaf_66 rfl rfl
theorem en_X3_leaf_67 : SndE EE S mi_X3_leaf 67 (.inr (.inr 1)) := ⟨dX3_leaf_67, rfl⟩
theorem en_X3_leaf_68 : SndE EE S mi_X3_leaf 68 (.inl (e_psh 69 (.int (0)))) := sn_iconst dX3_leaf_68 rfl rfl
theorem en_X3_leaf_69 : SndE EE S mi_X3_leaf 69 (.inl (e_sti 70 1)) := sn_istore_n dX3_leaf_69 rfl rfl rfl (by decide)
theorem en_X3_leaf_70 : SndE EE S mi_X3_leaf 70 (.inl (e_ldi 71 1)) := sn_iload_n dX3_leaf_70 rfl rfl
theorem en_X3_leaf_71 : SndE EE S mi_X3_leaf 71 (.inl (e_lda 72 0)) := sn_aload_n dX3_leaf_71 rfl rfl
theorem en_X3_leaf_72 : SndE EE S mi_X3_leaf 72 (.inl (e_gI 75 3 9)) := sn_gI dX3_leaf_72 rfl cl_3 (by decide) rfl (Or.inl q862) (Or.inl rfl)
theorem en_X3_leaf_75 : SndE EE S mi_X3_leaf 75 (.inl (e_ige 78 99)) := sn_ige dX3_leaf_75 rfl (by decide)
theorem en_X3_leaf_78 : SndE EE S mi_X3_leaf 78 (.inl (e_lda 79 0)) := sn_aload_n dX3_leaf_78 rfl rfl
theorem en_X3_leaf_79 : SndE EE S mi_X3_leaf 79 (.inl (e_gR 82 3 31)) := sn_gR dX3_leaf_79 rfl cl_3 (by decide) rfl (Or.inl q884) (Or.inl rfl)
theorem en_X3_leaf_82 : SndE EE S mi_X3_leaf 82 (.inl (e_ldi 83 1)) := sn_iload_n dX3_leaf_82 rfl rfl
theorem en_X3_leaf_83 : SndE EE S mi_X3_leaf 83 (.inl (e_lda 84 0)) := sn_aload_n dX3_leaf_83 rfl rfl
theorem en_X3_leaf_84 : SndE EE S mi_X3_leaf 84 (.inl (e_gR 87 3 4)) := sn_gR dX3_leaf_84 rfl cl_3 (by decide) rfl (Or.inl q857) (Or.inl rfl)
theorem en_X3_leaf_87 : SndE EE S mi_X3_leaf 87 (.inl (e_ldi 88 1)) := sn_iload_n dX3_leaf_87 rfl rfl
theorem en_X3_leaf_88 : SndE EE S mi_X3_leaf 88 (.inl (e_ald 89 1)) := sn_iald dX3_leaf_88 rfl
theorem en_X3_leaf_89 : SndE EE S mi_X3_leaf 89 (.inr (.inl (fun _ _ => some 79, 1, 3))) := sc_stat dX3_leaf_89 mo_X3_markOf nmo_X3_markOf q1170 q1171 q1172
theorem en_X3_leaf_92 : SndE EE S mi_X3_leaf 92 (.inl (e_iast 93)) := sn_iast dX3_leaf_92 rfl
theorem en_X3_leaf_93 : SndE EE S mi_X3_leaf 93 (.inl (e_inc 96 1 (1))) := sn_iinc dX3_leaf_93 rfl rfl rfl (by decide)
theorem en_X3_leaf_96 : SndE EE S mi_X3_leaf 96 (.inl (e_goto 70)) := sn_goto dX3_leaf_96 (by decide)
theorem en_X3_leaf_99 : SndE EE S mi_X3_leaf 99 (.inl (e_lda 100 0)) := sn_aload_n dX3_leaf_99 rfl rfl
theorem en_X3_leaf_100 : SndE EE S mi_X3_leaf 100 (.inl (e_lda 101 0)) := sn_aload_n dX3_leaf_100 rfl rfl
theorem en_X3_leaf_101 : SndE EE S mi_X3_leaf 101 (.inl (e_gI 104 3 9)) := sn_gI dX3_leaf_101 rfl cl_3 (by decide) rfl (Or.inl q862) (Or.inl rfl)
theorem en_X3_leaf_104 : SndE EE S mi_X3_leaf 104 (.inl (e_pI 107 3 32)) := sn_pI dX3_leaf_104 rfl cl_3 (by decide) rfl (Or.inl ⟨q885, Or.inl rfl⟩) (Or.inl rfl) (fun _ => ⟨rfl, rfl⟩)
theorem en_X3_leaf_107 : SndE EE S mi_X3_leaf 107 (.inl (e_lda 108 0)) := sn_aload_n dX3_leaf_107 rfl rfl
theorem en_X3_leaf_108 : SndE EE S mi_X3_leaf 108 (.inl (e_gI 111 3 32)) := sn_gI dX3_leaf_108 rfl cl_3 (by decide) rfl (Or.inl q885) (Or.inl rfl)
theorem en_X3_leaf_111 : SndE EE S mi_X3_leaf 111 (.inr (.inr 1)) := ⟨dX3_leaf_111, rfl⟩
theorem sd_X3_leaf : ∀ pc x, cd_X3_leaf pc = some x → SndE EE S mi_X3_leaf pc x := (tN_ok (tN_ok (tN_ok (tN_ok (tN_ok (tL_ok en_X3_leaf_0) (tN_ok (tL_ok en_X3_leaf_1) (tL_ok en_X3_leaf_4))) (tN_ok (tN_ok (tL_ok en_X3_leaf_5) (tL_ok en_X3_leaf_6)) (tN_ok (tL_ok en_X3_leaf_7) (tL_ok en_X3_leaf_8)))) (tN_ok (tN_ok (tL_ok en_X3_leaf_11) (tN_ok (tL_ok en_X3_leaf_14) (tL_ok en_X3_leaf_15))) (tN_ok (tN_ok (tL_ok en_X3_leaf_18) (tL_ok en_X3_leaf_21)) (tN_ok (tL_ok en_X3_leaf_22) (tL_ok en_X3_leaf_25))))) (tN_ok (tN_ok (tN_ok (tL_ok en_X3_leaf_28) (tN_ok (tL_ok en_X3_leaf_29) (tL_ok en_X3_leaf_32))) (tN_ok (tN_ok (tL_ok en_X3_leaf_33) (tL_ok en_X3_leaf_34)) (tN_ok (tL_ok en_X3_leaf_37) (tL_ok en_X3_leaf_40)))) (tN_ok (tN_ok (tN_ok (tL_ok en_X3_leaf_43) (tL_ok en_X3_leaf_44)) (tN_ok (tL_ok en_X3_leaf_45) (tL_ok en_X3_leaf_48))) (tN_ok (tN_ok (tL_ok en_X3_leaf_49) (tL_ok en_X3_leaf_50)) (tN_ok (tL_ok en_X3_leaf_53) (tL_ok en_X3_leaf_56)))))) (tN_ok (tN_ok (tN_ok (tN_ok (tL_ok en_X3_leaf_59) (tN_ok (tL_ok en_X3_leaf_60) (tL_ok en_X3_leaf_63))) (tN_ok (tN_ok (tL_ok en_X3_leaf_66) (tL_ok en_X3_leaf_67)) (tN_ok (tL_ok en_X3_leaf_68) (tL_ok en_X3_leaf_69)))) (tN_ok (tN_ok (tL_ok en_X3_leaf_70) (tN_ok (tL_ok en_X3_leaf_71) (tL_ok en_X3_leaf_72))) (tN_ok (tN_ok (tL_ok en_X3_leaf_75) (tL_ok en_X3_leaf_78)) (tN_ok (tL_ok en_X3_leaf_79) (tL_ok en_X3_leaf_82))))) (tN_ok (tN_ok (tN_ok (tL_ok en_X3_leaf_83) (tN_ok (tL_ok en_X3_leaf_84) (tL_ok en_X3_leaf_87))) (tN_ok (tN_ok (tL_ok en_X3_leaf_88) (tL_ok en_X3_leaf_89)) (tN_ok (tL_ok en_X3_leaf_92) (tL_ok en_X3_leaf_93)))) (tN_ok (tN_ok (tN_ok (tL_ok en_X3_leaf_96) (tL_ok en_X3_leaf_99)) (tN_ok (tL_ok en_X3_leaf_100) (tL_ok en_X3_leaf_101))) (tN_ok (tN_ok (tL_ok en_X3_leaf_104) (tL_ok en_X3_leaf_107)) (tN_ok (tL_ok en_X3_leaf_108) (tL_ok en_X3_leaf_111)))))))
theorem en_X3_markOf_0 : SndE EE S mi_X3_markOf 0 (.inl (e_ldi 1 0)) := sn_iload_n dX3_markOf_0 rfl rfl
theorem en_X3_markOf_1 : SndE EE S mi_X3_markOf 1 (.inl (e_psh 3 (.int (46)))) := sn_bipush dX3_markOf_1 rfl rfl
theorem en_X3_markOf_3 : SndE EE S mi_X3_markOf 3 (.inl (e_ine 6 10)) := sn_ine dX3_markOf_3 rfl (by decide)
theorem en_X3_markOf_6 : SndE EE S mi_X3_markOf 6 (.inl (e_psh 7 (.int (4)))) := sn_iconst dX3_markOf_6 rfl rfl
theorem en_X3_markOf_7 : SndE EE S mi_X3_markOf 7 (.inl (e_goto 51)) := sn_goto dX3_markOf_7 (by decide)
theorem en_X3_markOf_10 : SndE EE S mi_X3_markOf 10 (.inl (e_ldi 11 0)) := sn_iload_n dX3_markOf_10 rfl rfl
theorem en_X3_markOf_11 : SndE EE S mi_X3_markOf 11 (.inl (e_psh 13 (.int (107)))) := sn_bipush dX3_markOf_11 rfl rfl
theorem en_X3_markOf_13 : SndE EE S mi_X3_markOf 13 (.inl (e_ine 16 20)) := sn_ine dX3_markOf_13 rfl (by decide)
theorem en_X3_markOf_16 : SndE EE S mi_X3_markOf 16 (.inl (e_psh 17 (.int (0)))) := sn_iconst dX3_markOf_16 rfl rfl
theorem en_X3_markOf_17 : SndE EE S mi_X3_markOf 17 (.inl (e_goto 51)) := sn_goto dX3_markOf_17 (by decide)
theorem en_X3_markOf_20 : SndE EE S mi_X3_markOf 20 (.inl (e_ldi 21 0)) := sn_iload_n dX3_markOf_20 rfl rfl
theorem en_X3_markOf_21 : SndE EE S mi_X3_markOf 21 (.inl (e_psh 23 (.int (115)))) := sn_bipush dX3_markOf_21 rfl rfl
theorem en_X3_markOf_23 : SndE EE S mi_X3_markOf 23 (.inl (e_ine 26 30)) := sn_ine dX3_markOf_23 rfl (by decide)
theorem en_X3_markOf_26 : SndE EE S mi_X3_markOf 26 (.inl (e_psh 27 (.int (1)))) := sn_iconst dX3_markOf_26 rfl rfl
theorem en_X3_markOf_27 : SndE EE S mi_X3_markOf 27 (.inl (e_goto 51)) := sn_goto dX3_markOf_27 (by decide)
theorem en_X3_markOf_30 : SndE EE S mi_X3_markOf 30 (.inl (e_ldi 31 0)) := sn_iload_n dX3_markOf_30 rfl rfl
theorem en_X3_markOf_31 : SndE EE S mi_X3_markOf 31 (.inl (e_psh 33 (.int (111)))) := sn_bipush dX3_markOf_31 rfl rfl
theorem en_X3_markOf_33 : SndE EE S mi_X3_markOf 33 (.inl (e_ine 36 40)) := sn_ine dX3_markOf_33 rfl (by decide)
theorem en_X3_markOf_36 : SndE EE S mi_X3_markOf 36 (.inl (e_psh 37 (.int (2)))) := sn_iconst dX3_markOf_36 rfl rfl
theorem en_X3_markOf_37 : SndE EE S mi_X3_markOf 37 (.inl (e_goto 51)) := sn_goto dX3_markOf_37 (by decide)
theorem en_X3_markOf_40 : SndE EE S mi_X3_markOf 40 (.inl (e_ldi 41 0)) := sn_iload_n dX3_markOf_40 rfl rfl
theorem en_X3_markOf_41 : SndE EE S mi_X3_markOf 41 (.inl (e_psh 43 (.int (112)))) := sn_bipush dX3_markOf_41 rfl rfl
theorem en_X3_markOf_43 : SndE EE S mi_X3_markOf 43 (.inl (e_ine 46 50)) := sn_ine dX3_markOf_43 rfl (by decide)
theorem en_X3_markOf_46 : SndE EE S mi_X3_markOf 46 (.inl (e_psh 47 (.int (3)))) := sn_iconst dX3_markOf_46 rfl rfl
theorem en_X3_markOf_47 : SndE EE S mi_X3_markOf 47 (.inl (e_goto 51)) := sn_goto dX3_markOf_47 (by decide)
theorem en_X3_markOf_50 : SndE EE S mi_X3_markOf 50 (.inl (e_psh 51 (.int (-1)))) := sn_iconst dX3_markOf_50 rfl rfl
theorem en_X3_markOf_51 : SndE EE S mi_X3_markOf 51 (.inr (.inr 1)) := ⟨dX3_markOf_51, rfl⟩
theorem sd_X3_markOf : ∀ pc x, cd_X3_markOf pc = some x → SndE EE S mi_X3_markOf pc x := (tN_ok (tN_ok (tN_ok (tN_ok (tL_ok en_X3_markOf_0) (tN_ok (tL_ok en_X3_markOf_1) (tL_ok en_X3_markOf_3))) (tN_ok (tL_ok en_X3_markOf_6) (tN_ok (tL_ok en_X3_markOf_7) (tL_ok en_X3_markOf_10)))) (tN_ok (tN_ok (tL_ok en_X3_markOf_11) (tN_ok (tL_ok en_X3_markOf_13) (tL_ok en_X3_markOf_16))) (tN_ok (tN_ok (tL_ok en_X3_markOf_17) (tL_ok en_X3_markOf_20)) (tN_ok (tL_ok en_X3_markOf_21) (tL_ok en_X3_markOf_23))))) (tN_ok (tN_ok (tN_ok (tL_ok en_X3_markOf_26) (tN_ok (tL_ok en_X3_markOf_27) (tL_ok en_X3_markOf_30))) (tN_ok (tN_ok (tL_ok en_X3_markOf_31) (tL_ok en_X3_markOf_33)) (tN_ok (tL_ok en_X3_markOf_36) (tL_ok en_X3_markOf_37)))) (tN_ok (tN_ok (tL_ok en_X3_markOf_40) (tN_ok (tL_ok en_X3_markOf_41) (tL_ok en_X3_markOf_43))) (tN_ok (tN_ok (tL_ok en_X3_markOf_46) (tL_ok en_X3_markOf_47)) (tN_ok (tL_ok en_X3_markOf_50) (tL_ok en_X3_markOf_51))))))
theorem en_X3_patch_0 : SndE EE S mi_X3_patch 0 (.inl (e_ldi 1 1)) := sn_iload_n dX3_patch_0 rfl rfl
theorem en_X3_patch_1 : SndE EE S mi_X3_patch 1 (.inl (e_zlt 4 19)) := sn_zlt dX3_patch_1 rfl (by decide)
theorem en_X3_patch_4 : SndE EE S mi_X3_patch 4 (.inl (e_ldi 5 1)) := sn_iload_n dX3_patch_4 rfl rfl
theorem en_X3_patch_5 : SndE EE S mi_X3_patch 5 (.inl (e_psh 6 (.int (3)))) := sn_iconst dX3_patch_5 rfl rfl
theorem en_X3_patch_6 : SndE EE S mi_X3_patch 6 (.inl (e_igt 9 19)) := sn_igt dX3_patch_6 rfl (by decide)
theorem en_X3_patch_9 : SndE EE S mi_X3_patch 9 (.inl (e_ldi 10 2)) := sn_iload_n dX3_patch_9 rfl rfl
theorem en_X3_patch_10 : SndE EE S mi_X3_patch 10 (.inl (e_zlt 13 19)) := sn_zlt dX3_patch_10 rfl (by decide)
theorem en_X3_patch_13 : SndE EE S mi_X3_patch 13 (.inl (e_ldi 14 2)) := sn_iload_n dX3_patch_13 rfl rfl
theorem en_X3_patch_14 : SndE EE S mi_X3_patch 14 (.inl (e_psh 16 (.int (100)))) := sn_bipush dX3_patch_14 rfl rfl
theorem en_X3_patch_16 : SndE EE S mi_X3_patch 16 (.inl (e_ile 19 21)) := sn_ile dX3_patch_16 rfl (by decide)
theorem en_X3_patch_19 : SndE EE S mi_X3_patch 19 (.inl (e_psh 20 (.int (0)))) := sn_iconst dX3_patch_19 rfl rfl
theorem en_X3_patch_20 : SndE EE S mi_X3_patch 20 (.inr (.inr 2)) := ⟨dX3_patch_20, rfl⟩
theorem en_X3_patch_21 : SndE EE S mi_X3_patch 21 (.inl (e_lda 22 0)) := sn_aload_n dX3_patch_21 rfl rfl
theorem en_X3_patch_22 : SndE EE S mi_X3_patch 22 (.inl (e_ldi 23 1)) := sn_iload_n dX3_patch_22 rfl rfl
theorem en_X3_patch_23 : SndE EE S mi_X3_patch 23 (.inl (e_pI 26 3 33)) := sn_pI dX3_patch_23 rfl cl_3 (by decide) rfl (Or.inl ⟨q886, Or.inl rfl⟩) (Or.inl rfl) (fun _ => ⟨rfl, rfl⟩)
theorem en_X3_patch_26 : SndE EE S mi_X3_patch 26 (.inl (e_lda 27 0)) := sn_aload_n dX3_patch_26 rfl rfl
theorem en_X3_patch_27 : SndE EE S mi_X3_patch 27 (.inl (e_ldi 28 2)) := sn_iload_n dX3_patch_27 rfl rfl
theorem en_X3_patch_28 : SndE EE S mi_X3_patch 28 (.inl (e_pI 31 3 34)) := sn_pI dX3_patch_28 rfl cl_3 (by decide) rfl (Or.inl ⟨q887, Or.inl rfl⟩) (Or.inl rfl) (fun _ => ⟨rfl, rfl⟩)
theorem en_X3_patch_31 : SndE EE S mi_X3_patch 31 (.inl (e_psh 32 (.int (1)))) := sn_iconst dX3_patch_31 rfl rfl
theorem en_X3_patch_32 : SndE EE S mi_X3_patch 32 (.inr (.inr 2)) := ⟨dX3_patch_32, rfl⟩
theorem sd_X3_patch : ∀ pc x, cd_X3_patch pc = some x → SndE EE S mi_X3_patch pc x := (tN_ok (tN_ok (tN_ok (tN_ok (tL_ok en_X3_patch_0) (tL_ok en_X3_patch_1)) (tN_ok (tL_ok en_X3_patch_4) (tN_ok (tL_ok en_X3_patch_5) (tL_ok en_X3_patch_6)))) (tN_ok (tN_ok (tL_ok en_X3_patch_9) (tL_ok en_X3_patch_10)) (tN_ok (tL_ok en_X3_patch_13) (tN_ok (tL_ok en_X3_patch_14) (tL_ok en_X3_patch_16))))) (tN_ok (tN_ok (tN_ok (tL_ok en_X3_patch_19) (tL_ok en_X3_patch_20)) (tN_ok (tL_ok en_X3_patch_21) (tN_ok (tL_ok en_X3_patch_22) (tL_ok en_X3_patch_23)))) (tN_ok (tN_ok (tL_ok en_X3_patch_26) (tL_ok en_X3_patch_27)) (tN_ok (tL_ok en_X3_patch_28) (tN_ok (tL_ok en_X3_patch_31) (tL_ok en_X3_patch_32))))))
theorem en_X3_sheet_0 : SndE EE S mi_X3_sheet 0 (.inl (e_ldi 1 2)) := sn_iload_n dX3_sheet_0 rfl rfl
theorem en_X3_sheet_1 : SndE EE S mi_X3_sheet 1 (.inl (e_zlt 4 40)) := sn_zlt dX3_sheet_1 rfl (by decide)
theorem en_X3_sheet_4 : SndE EE S mi_X3_sheet 4 (.inl (e_ldi 5 2)) := sn_iload_n dX3_sheet_4 rfl rfl
theorem en_X3_sheet_5 : SndE EE S mi_X3_sheet 5 (.inl (e_lda 6 0)) := sn_aload_n dX3_sheet_5 rfl rfl
theorem en_X3_sheet_6 : SndE EE S mi_X3_sheet 6 (.inl (e_gI 9 3 14)) := sn_gI dX3_sheet_6 rfl cl_3 (by decide) rfl (Or.inl q867) (Or.inl rfl)
theorem en_X3_sheet_9 : SndE EE S mi_X3_sheet 9 (.inl (e_ige 12 40)) := sn_ige dX3_sheet_9 rfl (by decide)
theorem en_X3_sheet_12 : SndE EE S mi_X3_sheet 12 (.inl (e_ldi 13 1)) := sn_iload_n dX3_sheet_12 rfl rfl
theorem en_X3_sheet_13 : SndE EE S mi_X3_sheet 13 (.inl (e_zlt 16 40)) := sn_zlt dX3_sheet_13 rfl (by decide)
theorem en_X3_sheet_16 : SndE EE S mi_X3_sheet 16 (.inl (e_ldi 17 1)) := sn_iload_n dX3_sheet_16 rfl rfl
theorem en_X3_sheet_17 : SndE EE S mi_X3_sheet 17 (.inl (e_lda 18 0)) := sn_aload_n dX3_sheet_17 rfl rfl
theorem en_X3_sheet_18 : SndE EE S mi_X3_sheet 18 (.inl (e_gI 21 3 32)) := sn_gI dX3_sheet_18 rfl cl_3 (by decide) rfl (Or.inl q885) (Or.inl rfl)
theorem en_X3_sheet_21 : SndE EE S mi_X3_sheet 21 (.inl (e_lda 22 0)) := sn_aload_n dX3_sheet_21 rfl rfl
theorem en_X3_sheet_22 : SndE EE S mi_X3_sheet 22 (.inl (e_gR 25 3 15)) := sn_gR dX3_sheet_22 rfl cl_3 (by decide) rfl (Or.inl q868) (Or.inl rfl)
theorem en_X3_sheet_25 : SndE EE S mi_X3_sheet 25 (.inl (e_ldi 26 2)) := sn_iload_n dX3_sheet_25 rfl rfl
theorem en_X3_sheet_26 : SndE EE S mi_X3_sheet 26 (.inl (e_ald 27 1)) := sn_iald dX3_sheet_26 rfl
theorem en_X3_sheet_27 : SndE EE S mi_X3_sheet 27 (.inl (e_bin 28 (fun x y => x - y))) := sn_isub dX3_sheet_27 rfl
theorem en_X3_sheet_28 : SndE EE S mi_X3_sheet 28 (.inl (e_igt 31 40)) := sn_igt dX3_sheet_28 rfl (by decide)
theorem en_X3_sheet_31 : SndE EE S mi_X3_sheet 31 (.inl (e_ldi 32 3)) := sn_iload_n dX3_sheet_31 rfl rfl
theorem en_X3_sheet_32 : SndE EE S mi_X3_sheet 32 (.inl (e_zlt 35 40)) := sn_zlt dX3_sheet_32 rfl (by decide)
theorem en_X3_sheet_35 : SndE EE S mi_X3_sheet 35 (.inl (e_ldi 36 3)) := sn_iload_n dX3_sheet_35 rfl rfl
theorem en_X3_sheet_36 : SndE EE S mi_X3_sheet 36 (.inl (e_psh 37 (.int (3)))) := sn_iconst dX3_sheet_36 rfl rfl
theorem en_X3_sheet_37 : SndE EE S mi_X3_sheet 37 (.inl (e_ile 40 42)) := sn_ile dX3_sheet_37 rfl (by decide)
theorem en_X3_sheet_40 : SndE EE S mi_X3_sheet 40 (.inl (e_psh 41 (.int (-1)))) := sn_iconst dX3_sheet_40 rfl rfl
theorem en_X3_sheet_41 : SndE EE S mi_X3_sheet 41 (.inr (.inr 1)) := ⟨dX3_sheet_41, rfl⟩
theorem en_X3_sheet_42 : SndE EE S mi_X3_sheet 42 (.inl (e_lda 43 0)) := sn_aload_n dX3_sheet_42 rfl rfl
theorem en_X3_sheet_43 : SndE EE S mi_X3_sheet 43 (.inl (e_ldi 44 1)) := sn_iload_n dX3_sheet_43 rfl rfl
theorem en_X3_sheet_44 : SndE EE S mi_X3_sheet 44 (.inl (e_ldi 45 2)) := sn_iload_n dX3_sheet_44 rfl rfl
theorem en_X3_sheet_45 : SndE EE S mi_X3_sheet 45 (.inl (e_ldi 46 3)) := sn_iload_n dX3_sheet_45 rfl rfl
theorem en_X3_sheet_46 : SndE EE S mi_X3_sheet 46 (.inr (.inl (d_cls 3 82, 4, 3))) := sc_virt dX3_sheet_46 (rcv_cls (r := (RX3, TX3, 61)) rfl ⟨mo_X3_isSheet, nmo_X3_isSheet, q1181, q1183, qs44⟩)
theorem en_X3_sheet_49 : SndE EE S mi_X3_sheet 49 (.inl (e_zeq 52 56)) := sn_zeq dX3_sheet_49 rfl (by decide)
theorem en_X3_sheet_52 : SndE EE S mi_X3_sheet 52 (.inl (e_psh 53 (.int (1)))) := sn_iconst dX3_sheet_52 rfl rfl
theorem en_X3_sheet_53 : SndE EE S mi_X3_sheet 53 (.inl (e_goto 57)) := sn_goto dX3_sheet_53 (by decide)
theorem en_X3_sheet_56 : SndE EE S mi_X3_sheet 56 (.inl (e_psh 57 (.int (0)))) := sn_iconst dX3_sheet_56 rfl rfl
theorem en_X3_sheet_57 : SndE EE S mi_X3_sheet 57 (.inr (.inr 1)) := ⟨dX3_sheet_57, rfl⟩
theorem sd_X3_sheet : ∀ pc x, cd_X3_sheet pc = some x → SndE EE S mi_X3_sheet pc x := (tN_ok (tN_ok (tN_ok (tN_ok (tN_ok (tL_ok en_X3_sheet_0) (tL_ok en_X3_sheet_1)) (tN_ok (tL_ok en_X3_sheet_4) (tL_ok en_X3_sheet_5))) (tN_ok (tN_ok (tL_ok en_X3_sheet_6) (tL_ok en_X3_sheet_9)) (tN_ok (tL_ok en_X3_sheet_12) (tL_ok en_X3_sheet_13)))) (tN_ok (tN_ok (tN_ok (tL_ok en_X3_sheet_16) (tL_ok en_X3_sheet_17)) (tN_ok (tL_ok en_X3_sheet_18) (tL_ok en_X3_sheet_21))) (tN_ok (tN_ok (tL_ok en_X3_sheet_22) (tL_ok en_X3_sheet_25)) (tN_ok (tL_ok en_X3_sheet_26) (tN_ok (tL_ok en_X3_sheet_27) (tL_ok en_X3_sheet_28)))))) (tN_ok (tN_ok (tN_ok (tN_ok (tL_ok en_X3_sheet_31) (tL_ok en_X3_sheet_32)) (tN_ok (tL_ok en_X3_sheet_35) (tL_ok en_X3_sheet_36))) (tN_ok (tN_ok (tL_ok en_X3_sheet_37) (tL_ok en_X3_sheet_40)) (tN_ok (tL_ok en_X3_sheet_41) (tL_ok en_X3_sheet_42)))) (tN_ok (tN_ok (tN_ok (tL_ok en_X3_sheet_43) (tL_ok en_X3_sheet_44)) (tN_ok (tL_ok en_X3_sheet_45) (tL_ok en_X3_sheet_46))) (tN_ok (tN_ok (tL_ok en_X3_sheet_49) (tL_ok en_X3_sheet_52)) (tN_ok (tL_ok en_X3_sheet_53) (tN_ok (tL_ok en_X3_sheet_56) (tL_ok en_X3_sheet_57)))))))
theorem en_X3_isSheet_0 : SndE EE S mi_X3_isSheet 0 (.inl (e_psh 1 (.int (0)))) := sn_iconst dX3_isSheet_0 rfl rfl
theorem en_X3_isSheet_1 : SndE EE S mi_X3_isSheet 1 (.inl (e_sti 3 4)) := sn_istore dX3_isSheet_1 rfl rfl (by decide)
theorem en_X3_isSheet_3 : SndE EE S mi_X3_isSheet 3 (.inl (e_ldi 5 4)) := sn_iload dX3_isSheet_3 rfl
theorem en_X3_isSheet_5 : SndE EE S mi_X3_isSheet 5 (.inl (e_psh 6 (.int (5)))) := sn_iconst dX3_isSheet_5 rfl rfl
theorem en_X3_isSheet_6 : SndE EE S mi_X3_isSheet 6 (.inl (e_ige 9 23)) := sn_ige dX3_isSheet_6 rfl (by decide)
theorem en_X3_isSheet_9 : SndE EE S mi_X3_isSheet 9 (.inl (e_lda 10 0)) := sn_aload_n dX3_isSheet_9 rfl rfl
theorem en_X3_isSheet_10 : SndE EE S mi_X3_isSheet 10 (.inl (e_gR 13 3 35)) := sn_gR dX3_isSheet_10 rfl cl_3 (by decide) rfl (Or.inl q888) (Or.inl rfl)
theorem en_X3_isSheet_13 : SndE EE S mi_X3_isSheet 13 (.inl (e_ldi 15 4)) := sn_iload dX3_isSheet_13 rfl
theorem en_X3_isSheet_15 : SndE EE S mi_X3_isSheet 15 (.inl (e_psh 16 (.int (0)))) := sn_iconst dX3_isSheet_15 rfl rfl
theorem en_X3_isSheet_16 : SndE EE S mi_X3_isSheet 16 (.inl (e_iast 17)) := sn_iast dX3_isSheet_16 rfl
theorem en_X3_isSheet_17 : SndE EE S mi_X3_isSheet 17 (.inl (e_inc 20 4 (1))) := sn_iinc dX3_isSheet_17 rfl rfl rfl (by decide)
theorem en_X3_isSheet_20 : SndE EE S mi_X3_isSheet 20 (.inl (e_goto 3)) := sn_goto dX3_isSheet_20 (by decide)
theorem en_X3_isSheet_23 : SndE EE S mi_X3_isSheet 23 (.inl (e_psh 24 (.int (0)))) := sn_iconst dX3_isSheet_23 rfl rfl
theorem en_X3_isSheet_24 : SndE EE S mi_X3_isSheet 24 (.inl (e_sti 26 4)) := sn_istore dX3_isSheet_24 rfl rfl (by decide)
theorem en_X3_isSheet_26 : SndE EE S mi_X3_isSheet 26 (.inl (e_ldi 27 1)) := sn_iload_n dX3_isSheet_26 rfl rfl
theorem en_X3_isSheet_27 : SndE EE S mi_X3_isSheet 27 (.inl (e_sti 29 5)) := sn_istore dX3_isSheet_27 rfl rfl (by decide)
theorem en_X3_isSheet_29 : SndE EE S mi_X3_isSheet 29 (.inl (e_ldi 31 5)) := sn_iload dX3_isSheet_29 rfl
theorem en_X3_isSheet_31 : SndE EE S mi_X3_isSheet 31 (.inl (e_ldi 32 1)) := sn_iload_n dX3_isSheet_31 rfl rfl
theorem en_X3_isSheet_32 : SndE EE S mi_X3_isSheet 32 (.inl (e_lda 33 0)) := sn_aload_n dX3_isSheet_32 rfl rfl
theorem en_X3_isSheet_33 : SndE EE S mi_X3_isSheet 33 (.inl (e_gR 36 3 15)) := sn_gR dX3_isSheet_33 rfl cl_3 (by decide) rfl (Or.inl q868) (Or.inl rfl)
theorem en_X3_isSheet_36 : SndE EE S mi_X3_isSheet 36 (.inl (e_ldi 37 2)) := sn_iload_n dX3_isSheet_36 rfl rfl
theorem en_X3_isSheet_37 : SndE EE S mi_X3_isSheet 37 (.inl (e_ald 38 1)) := sn_iald dX3_isSheet_37 rfl
theorem en_X3_isSheet_38 : SndE EE S mi_X3_isSheet 38 (.inl (e_bin 39 (fun x y => x + y))) := sn_iadd dX3_isSheet_38 rfl
theorem en_X3_isSheet_39 : SndE EE S mi_X3_isSheet 39 (.inl (e_ige 42 124)) := sn_ige dX3_isSheet_39 rfl (by decide)
theorem en_X3_isSheet_42 : SndE EE S mi_X3_isSheet 42 (.inl (e_lda 43 0)) := sn_aload_n dX3_isSheet_42 rfl rfl
theorem en_X3_isSheet_43 : SndE EE S mi_X3_isSheet 43 (.inl (e_gR 46 3 31)) := sn_gR dX3_isSheet_43 rfl cl_3 (by decide) rfl (Or.inl q884) (Or.inl rfl)
theorem en_X3_isSheet_46 : SndE EE S mi_X3_isSheet 46 (.inl (e_ldi 48 5)) := sn_iload dX3_isSheet_46 rfl
theorem en_X3_isSheet_48 : SndE EE S mi_X3_isSheet 48 (.inl (e_ald 49 1)) := sn_iald dX3_isSheet_48 rfl
theorem en_X3_isSheet_49 : SndE EE S mi_X3_isSheet 49 (.inl (e_psh 50 (.int (4)))) := sn_iconst dX3_isSheet_49 rfl rfl
theorem en_X3_isSheet_50 : SndE EE S mi_X3_isSheet 50 (.inl (e_ine 53 60)) := sn_ine dX3_isSheet_50 rfl (by decide)
theorem en_X3_isSheet_53 : SndE EE S mi_X3_isSheet 53 (.inl (e_ldi 55 4)) := sn_iload dX3_isSheet_53 rfl
theorem en_X3_isSheet_55 : SndE EE S mi_X3_isSheet 55 (.inl (e_psh 56 (.int (1)))) := sn_iconst dX3_isSheet_55 rfl rfl
theorem en_X3_isSheet_56 : SndE EE S mi_X3_isSheet 56 (.inl (e_bin 57 (fun x y => x + y))) := sn_iadd dX3_isSheet_56 rfl
theorem en_X3_isSheet_57 : SndE EE S mi_X3_isSheet 57 (.inl (e_goto 61)) := sn_goto dX3_isSheet_57 (by decide)
theorem en_X3_isSheet_60 : SndE EE S mi_X3_isSheet 60 (.inl (e_psh 61 (.int (0)))) := sn_iconst dX3_isSheet_60 rfl rfl
theorem en_X3_isSheet_61 : SndE EE S mi_X3_isSheet 61 (.inl (e_sti 63 4)) := sn_istore dX3_isSheet_61 rfl rfl (by decide)
theorem en_X3_isSheet_63 : SndE EE S mi_X3_isSheet 63 (.inl (e_lda 64 0)) := sn_aload_n dX3_isSheet_63 rfl rfl
theorem en_X3_isSheet_64 : SndE EE S mi_X3_isSheet 64 (.inl (e_gR 67 3 31)) := sn_gR dX3_isSheet_64 rfl cl_3 (by decide) rfl (Or.inl q884) (Or.inl rfl)
theorem en_X3_isSheet_67 : SndE EE S mi_X3_isSheet 67 (.inl (e_ldi 69 5)) := sn_iload dX3_isSheet_67 rfl
theorem en_X3_isSheet_69 : SndE EE S mi_X3_isSheet 69 (.inl (e_ald 70 1)) := sn_iald dX3_isSheet_69 rfl
theorem en_X3_isSheet_70 : SndE EE S mi_X3_isSheet 70 (.inl (e_psh 71 (.int (4)))) := sn_iconst dX3_isSheet_70 rfl rfl
theorem en_X3_isSheet_71 : SndE EE S mi_X3_isSheet 71 (.inl (e_ige 74 90)) := sn_ige dX3_isSheet_71 rfl (by decide)
theorem en_X3_isSheet_74 : SndE EE S mi_X3_isSheet 74 (.inl (e_lda 75 0)) := sn_aload_n dX3_isSheet_74 rfl rfl
theorem en_X3_isSheet_75 : SndE EE S mi_X3_isSheet 75 (.inl (e_gR 78 3 35)) := sn_gR dX3_isSheet_75 rfl cl_3 (by decide) rfl (Or.inl q888) (Or.inl rfl)
theorem en_X3_isSheet_78 : SndE EE S mi_X3_isSheet 78 (.inl (e_lda 79 0)) := sn_aload_n dX3_isSheet_78 rfl rfl
theorem en_X3_isSheet_79 : SndE EE S mi_X3_isSheet 79 (.inl (e_gR 82 3 31)) := sn_gR dX3_isSheet_79 rfl cl_3 (by decide) rfl (Or.inl q884) (Or.inl rfl)
theorem en_X3_isSheet_82 : SndE EE S mi_X3_isSheet 82 (.inl (e_ldi 84 5)) := sn_iload dX3_isSheet_82 rfl
theorem en_X3_isSheet_84 : SndE EE S mi_X3_isSheet 84 (.inl (e_ald 85 1)) := sn_iald dX3_isSheet_84 rfl
theorem en_X3_isSheet_85 : SndE EE S mi_X3_isSheet 85 (.inl (e_dup2 86)) := sn_dup2 dX3_isSheet_85 rfl
theorem en_X3_isSheet_86 : SndE EE S mi_X3_isSheet 86 (.inl (e_ald 87 1)) := sn_iald dX3_isSheet_86 rfl
theorem en_X3_isSheet_87 : SndE EE S mi_X3_isSheet 87 (.inl (e_psh 88 (.int (1)))) := sn_iconst dX3_isSheet_87 rfl rfl
theorem en_X3_isSheet_88 : SndE EE S mi_X3_isSheet 88 (.inl (e_bin 89 (fun x y => x + y))) := sn_iadd dX3_isSheet_88 rfl
theorem en_X3_isSheet_89 : SndE EE S mi_X3_isSheet 89 (.inl (e_iast 90)) := sn_iast dX3_isSheet_89 rfl
theorem en_X3_isSheet_90 : SndE EE S mi_X3_isSheet 90 (.inl (e_lda 91 0)) := sn_aload_n dX3_isSheet_90 rfl rfl
theorem en_X3_isSheet_91 : SndE EE S mi_X3_isSheet 91 (.inl (e_gR 94 3 35)) := sn_gR dX3_isSheet_91 rfl cl_3 (by decide) rfl (Or.inl q888) (Or.inl rfl)
theorem en_X3_isSheet_94 : SndE EE S mi_X3_isSheet 94 (.inl (e_psh 95 (.int (4)))) := sn_iconst dX3_isSheet_94 rfl rfl
theorem en_X3_isSheet_95 : SndE EE S mi_X3_isSheet 95 (.inl (e_ldi 97 4)) := sn_iload dX3_isSheet_95 rfl
theorem en_X3_isSheet_97 : SndE EE S mi_X3_isSheet 97 (.inl (e_lda 98 0)) := sn_aload_n dX3_isSheet_97 rfl rfl
theorem en_X3_isSheet_98 : SndE EE S mi_X3_isSheet 98 (.inl (e_gR 101 3 35)) := sn_gR dX3_isSheet_98 rfl cl_3 (by decide) rfl (Or.inl q888) (Or.inl rfl)
theorem en_X3_isSheet_101 : SndE EE S mi_X3_isSheet 101 (.inl (e_psh 102 (.int (4)))) := sn_iconst dX3_isSheet_101 rfl rfl
theorem en_X3_isSheet_102 : SndE EE S mi_X3_isSheet 102 (.inl (e_ald 103 1)) := sn_iald dX3_isSheet_102 rfl
theorem en_X3_isSheet_103 : SndE EE S mi_X3_isSheet 103 (.inl (e_ile 106 111)) := sn_ile dX3_isSheet_103 rfl (by decide)
theorem en_X3_isSheet_106 : SndE EE S mi_X3_isSheet 106 (.inl (e_ldi 108 4)) := sn_iload dX3_isSheet_106 rfl
theorem en_X3_isSheet_108 : SndE EE S mi_X3_isSheet 108 (.inl (e_goto 117)) := sn_goto dX3_isSheet_108 (by decide)
theorem en_X3_isSheet_111 : SndE EE S mi_X3_isSheet 111 (.inl (e_lda 112 0)) := sn_aload_n dX3_isSheet_111 rfl rfl
theorem en_X3_isSheet_112 : SndE EE S mi_X3_isSheet 112 (.inl (e_gR 115 3 35)) := sn_gR dX3_isSheet_112 rfl cl_3 (by decide) rfl (Or.inl q888) (Or.inl rfl)
theorem en_X3_isSheet_115 : SndE EE S mi_X3_isSheet 115 (.inl (e_psh 116 (.int (4)))) := sn_iconst dX3_isSheet_115 rfl rfl
theorem en_X3_isSheet_116 : SndE EE S mi_X3_isSheet 116 (.inl (e_ald 117 1)) := sn_iald dX3_isSheet_116 rfl
theorem en_X3_isSheet_117 : SndE EE S mi_X3_isSheet 117 (.inl (e_iast 118)) := sn_iast dX3_isSheet_117 rfl
theorem en_X3_isSheet_118 : SndE EE S mi_X3_isSheet 118 (.inl (e_inc 121 5 (1))) := sn_iinc dX3_isSheet_118 rfl rfl rfl (by decide)
theorem en_X3_isSheet_121 : SndE EE S mi_X3_isSheet 121 (.inl (e_goto 29)) := sn_goto dX3_isSheet_121 (by decide)
theorem en_X3_isSheet_124 : SndE EE S mi_X3_isSheet 124 (.inl (e_ldi 125 3)) := sn_iload_n dX3_isSheet_124 rfl rfl
theorem en_X3_isSheet_125 : SndE EE S mi_X3_isSheet 125 (.inl (e_lda 126 0)) := sn_aload_n dX3_isSheet_125 rfl rfl
theorem en_X3_isSheet_126 : SndE EE S mi_X3_isSheet 126 (.inl (e_gI 129 3 33)) := sn_gI dX3_isSheet_126 rfl cl_3 (by decide) rfl (Or.inl q886) (Or.inl rfl)
theorem en_X3_isSheet_129 : SndE EE S mi_X3_isSheet 129 (.inl (e_igt 132 142)) := sn_igt dX3_isSheet_129 rfl (by decide)
theorem en_X3_isSheet_132 : SndE EE S mi_X3_isSheet 132 (.inl (e_ldi 133 3)) := sn_iload_n dX3_isSheet_132 rfl rfl
theorem en_X3_isSheet_133 : SndE EE S mi_X3_isSheet 133 (.inl (e_lda 134 0)) := sn_aload_n dX3_isSheet_133 rfl rfl
theorem en_X3_isSheet_134 : SndE EE S mi_X3_isSheet 134 (.inl (e_gR 137 3 35)) := sn_gR dX3_isSheet_134 rfl cl_3 (by decide) rfl (Or.inl q888) (Or.inl rfl)
theorem en_X3_isSheet_137 : SndE EE S mi_X3_isSheet 137 (.inl (e_psh 138 (.int (2)))) := sn_iconst dX3_isSheet_137 rfl rfl
theorem en_X3_isSheet_138 : SndE EE S mi_X3_isSheet 138 (.inl (e_ald 139 1)) := sn_iald dX3_isSheet_138 rfl
theorem en_X3_isSheet_139 : SndE EE S mi_X3_isSheet 139 (.inl (e_ile 142 144)) := sn_ile dX3_isSheet_139 rfl (by decide)
theorem en_X3_isSheet_142 : SndE EE S mi_X3_isSheet 142 (.inl (e_psh 143 (.int (0)))) := sn_iconst dX3_isSheet_142 rfl rfl
theorem en_X3_isSheet_143 : SndE EE S mi_X3_isSheet 143 (.inr (.inr 2)) := ⟨dX3_isSheet_143, rfl⟩
theorem en_X3_isSheet_144 : SndE EE S mi_X3_isSheet 144 (.inl (e_lda 145 0)) := sn_aload_n dX3_isSheet_144 rfl rfl
theorem en_X3_isSheet_145 : SndE EE S mi_X3_isSheet 145 (.inl (e_gR 148 3 35)) := sn_gR dX3_isSheet_145 rfl cl_3 (by decide) rfl (Or.inl q888) (Or.inl rfl)
theorem en_X3_isSheet_148 : SndE EE S mi_X3_isSheet 148 (.inl (e_psh 149 (.int (2)))) := sn_iconst dX3_isSheet_148 rfl rfl
theorem en_X3_isSheet_149 : SndE EE S mi_X3_isSheet 149 (.inl (e_dup2 150)) := sn_dup2 dX3_isSheet_149 rfl
theorem en_X3_isSheet_150 : SndE EE S mi_X3_isSheet 150 (.inl (e_ald 151 1)) := sn_iald dX3_isSheet_150 rfl
theorem en_X3_isSheet_151 : SndE EE S mi_X3_isSheet 151 (.inl (e_ldi 152 3)) := sn_iload_n dX3_isSheet_151 rfl rfl
theorem en_X3_isSheet_152 : SndE EE S mi_X3_isSheet 152 (.inl (e_bin 153 (fun x y => x - y))) := sn_isub dX3_isSheet_152 rfl
theorem en_X3_isSheet_153 : SndE EE S mi_X3_isSheet 153 (.inl (e_iast 154)) := sn_iast dX3_isSheet_153 rfl
theorem en_X3_isSheet_154 : SndE EE S mi_X3_isSheet 154 (.inl (e_lda 155 0)) := sn_aload_n dX3_isSheet_154 rfl rfl
theorem en_X3_isSheet_155 : SndE EE S mi_X3_isSheet 155 (.inl (e_gR 158 3 35)) := sn_gR dX3_isSheet_155 rfl cl_3 (by decide) rfl (Or.inl q888) (Or.inl rfl)
theorem en_X3_isSheet_158 : SndE EE S mi_X3_isSheet 158 (.inl (e_psh 159 (.int (3)))) := sn_iconst dX3_isSheet_158 rfl rfl
theorem en_X3_isSheet_159 : SndE EE S mi_X3_isSheet 159 (.inl (e_dup2 160)) := sn_dup2 dX3_isSheet_159 rfl
theorem en_X3_isSheet_160 : SndE EE S mi_X3_isSheet 160 (.inl (e_ald 161 1)) := sn_iald dX3_isSheet_160 rfl
theorem en_X3_isSheet_161 : SndE EE S mi_X3_isSheet 161 (.inl (e_ldi 162 3)) := sn_iload_n dX3_isSheet_161 rfl rfl
theorem en_X3_isSheet_162 : SndE EE S mi_X3_isSheet 162 (.inl (e_bin 163 (fun x y => x + y))) := sn_iadd dX3_isSheet_162 rfl
theorem en_X3_isSheet_163 : SndE EE S mi_X3_isSheet 163 (.inl (e_iast 164)) := sn_iast dX3_isSheet_163 rfl
theorem en_X3_isSheet_164 : SndE EE S mi_X3_isSheet 164 (.inl (e_lda 165 0)) := sn_aload_n dX3_isSheet_164 rfl rfl
theorem en_X3_isSheet_165 : SndE EE S mi_X3_isSheet 165 (.inl (e_ldi 166 2)) := sn_iload_n dX3_isSheet_165 rfl rfl
theorem en_X3_isSheet_166 : SndE EE S mi_X3_isSheet 166 (.inr (.inl (d_cls 3 83, 2, 3))) := sc_virt dX3_isSheet_166 (rcv_cls (r := (RX3, TX3, 61)) rfl ⟨mo_X3_holds, nmo_X3_holds, q1185, q1187, qs45⟩)
theorem en_X3_isSheet_169 : SndE EE S mi_X3_isSheet 169 (.inr (.inr 2)) := ⟨dX3_isSheet_169, rfl⟩
theorem sd_X3_isSheet : ∀ pc x, cd_X3_isSheet pc = some x → SndE EE S mi_X3_isSheet pc x := (tN_ok (tN_ok (tN_ok (tN_ok (tN_ok (tN_ok (tL_ok en_X3_isSheet_0) (tN_ok (tL_ok en_X3_isSheet_1) (tL_ok en_X3_isSheet_3))) (tN_ok (tL_ok en_X3_isSheet_5) (tN_ok (tL_ok en_X3_isSheet_6) (tL_ok en_X3_isSheet_9)))) (tN_ok (tN_ok (tL_ok en_X3_isSheet_10) (tN_ok (tL_ok en_X3_isSheet_13) (tL_ok en_X3_isSheet_15))) (tN_ok (tL_ok en_X3_isSheet_16) (tN_ok (tL_ok en_X3_isSheet_17) (tL_ok en_X3_isSheet_20))))) (tN_ok (tN_ok (tN_ok (tL_ok en_X3_isSheet_23) (tN_ok (tL_ok en_X3_isSheet_24) (tL_ok en_X3_isSheet_26))) (tN_ok (tL_ok en_X3_isSheet_27) (tN_ok (tL_ok en_X3_isSheet_29) (tL_ok en_X3_isSheet_31)))) (tN_ok (tN_ok (tL_ok en_X3_isSheet_32) (tN_ok (tL_ok en_X3_isSheet_33) (tL_ok en_X3_isSheet_36))) (tN_ok (tN_ok (tL_ok en_X3_isSheet_37) (tL_ok en_X3_isSheet_38)) (tN_ok (tL_ok en_X3_isSheet_39) (tL_ok en_X3_isSheet_42)))))) (tN_ok (tN_ok (tN_ok (tN_ok (tL_ok en_X3_isSheet_43) (tN_ok (tL_ok en_X3_isSheet_46) (tL_ok en_X3_isSheet_48))) (tN_ok (tL_ok en_X3_isSheet_49) (tN_ok (tL_ok en_X3_isSheet_50) (tL_ok en_X3_isSheet_53)))) (tN_ok (tN_ok (tL_ok en_X3_isSheet_55) (tN_ok (tL_ok en_X3_isSheet_56) (tL_ok en_X3_isSheet_57))) (tN_ok (tN_ok (tL_ok en_X3_isSheet_60) (tL_ok en_X3_isSheet_61)) (tN_ok (tL_ok en_X3_isSheet_63) (tL_ok en_X3_isSheet_64))))) (tN_ok (tN_ok (tN_ok (tL_ok en_X3_isSheet_67) (tN_ok (tL_ok en_X3_isSheet_69) (tL_ok en_X3_isSheet_70))) (tN_ok (tL_ok en_X3_isSheet_71) (tN_ok (tL_ok en_X3_isSheet_74) (tL_ok en_X3_isSheet_75)))) (tN_ok (tN_ok (tL_ok en_X3_isSheet_78) (tN_ok (tL_ok en_X3_isSheet_79) (tL_ok en_X3_isSheet_82))) (tN_ok (tN_ok (tL_ok en_X3_isSheet_84) (tL_ok en_X3_isSheet_85)) (tN_ok (tL_ok en_X3_isSheet_86) (tL_ok en_X3_isSheet_87))))))) (tN_ok (tN_ok (tN_ok (tN_ok (tN_ok (tL_ok en_X3_isSheet_88) (tN_ok (tL_ok en_X3_isSheet_89) (tL_ok en_X3_isSheet_90))) (tN_ok (tL_ok en_X3_isSheet_91) (tN_ok (tL_ok en_X3_isSheet_94) (tL_ok en_X3_isSheet_95)))) (tN_ok (tN_ok (tL_ok en_X3_isSheet_97) (tN_ok (tL_ok en_X3_isSheet_98) (tL_ok en_X3_isSheet_101))) (tN_ok (tN_ok (tL_ok en_X3_isSheet_102) (tL_ok en_X3_isSheet_103)) (tN_ok (tL_ok en_X3_isSheet_106) (tL_ok en_X3_isSheet_108))))) (tN_ok (tN_ok (tN_ok (tL_ok en_X3_isSheet_111) (tN_ok (tL_ok en_X3_isSheet_112) (tL_ok en_X3_isSheet_115))) (tN_ok (tL_ok en_X3_isSheet_116) (tN_ok (tL_ok en_X3_isSheet_117) (tL_ok en_X3_isSheet_118)))) (tN_ok (tN_ok (tL_ok en_X3_isSheet_121) (tN_ok (tL_ok en_X3_isSheet_124) (tL_ok en_X3_isSheet_125))) (tN_ok (tN_ok (tL_ok en_X3_isSheet_126) (tL_ok en_X3_isSheet_129)) (tN_ok (tL_ok en_X3_isSheet_132) (tL_ok en_X3_isSheet_133)))))) (tN_ok (tN_ok (tN_ok (tN_ok (tL_ok en_X3_isSheet_134) (tN_ok (tL_ok en_X3_isSheet_137) (tL_ok en_X3_isSheet_138))) (tN_ok (tL_ok en_X3_isSheet_139) (tN_ok (tL_ok en_X3_isSheet_142) (tL_ok en_X3_isSheet_143)))) (tN_ok (tN_ok (tL_ok en_X3_isSheet_144) (tN_ok (tL_ok en_X3_isSheet_145) (tL_ok en_X3_isSheet_148))) (tN_ok (tN_ok (tL_ok en_X3_isSheet_149) (tL_ok en_X3_isSheet_150)) (tN_ok (tL_ok en_X3_isSheet_151) (tL_ok en_X3_isSheet_152))))) (tN_ok (tN_ok (tN_ok (tL_ok en_X3_isSheet_153) (tN_ok (tL_ok en_X3_isSheet_154) (tL_ok en_X3_isSheet_155))) (tN_ok (tL_ok en_X3_isSheet_158) (tN_ok (tL_ok en_X3_isSheet_159) (tL_ok en_X3_isSheet_160)))) (tN_ok (tN_ok (tL_ok en_X3_isSheet_161) (tN_ok (tL_ok en_X3_isSheet_162) (tL_ok en_X3_isSheet_163))) (tN_ok (tN_ok (tL_ok en_X3_isSheet_164) (tL_ok en_X3_isSheet_165)) (tN_ok (tL_ok en_X3_isSheet_166) (tL_ok en_X3_isSheet_169))))))))
theorem en_X3_holds_0 : SndE EE S mi_X3_holds 0 (.inl (e_psh 1 (.int (0)))) := sn_iconst dX3_holds_0 rfl rfl
theorem en_X3_holds_1 : SndE EE S mi_X3_holds 1 (.inl (e_sti 2 2)) := sn_istore_n dX3_holds_1 rfl rfl rfl (by decide)
theorem en_X3_holds_2 : SndE EE S mi_X3_holds 2 (.inl (e_lda 3 0)) := sn_aload_n dX3_holds_2 rfl rfl
theorem en_X3_holds_3 : SndE EE S mi_X3_holds 3 (.inl (e_gR 6 3 19)) := sn_gR dX3_holds_3 rfl cl_3 (by decide) rfl (Or.inl q872) (Or.inl rfl)
theorem en_X3_holds_6 : SndE EE S mi_X3_holds 6 (.inl (e_ldi 7 1)) := sn_iload_n dX3_holds_6 rfl rfl
theorem en_X3_holds_7 : SndE EE S mi_X3_holds 7 (.inl (e_ald 8 1)) := sn_iald dX3_holds_7 rfl
theorem en_X3_holds_8 : SndE EE S mi_X3_holds 8 (.inl (e_sti 9 3)) := sn_istore_n dX3_holds_8 rfl rfl rfl (by decide)
theorem en_X3_holds_9 : SndE EE S mi_X3_holds 9 (.inl (e_ldi 10 3)) := sn_iload_n dX3_holds_9 rfl rfl
theorem en_X3_holds_10 : SndE EE S mi_X3_holds 10 (.inl (e_lda 11 0)) := sn_aload_n dX3_holds_10 rfl rfl
theorem en_X3_holds_11 : SndE EE S mi_X3_holds 11 (.inl (e_gR 14 3 19)) := sn_gR dX3_holds_11 rfl cl_3 (by decide) rfl (Or.inl q872) (Or.inl rfl)
theorem en_X3_holds_14 : SndE EE S mi_X3_holds 14 (.inl (e_ldi 15 1)) := sn_iload_n dX3_holds_14 rfl rfl
theorem en_X3_holds_15 : SndE EE S mi_X3_holds 15 (.inl (e_psh 16 (.int (1)))) := sn_iconst dX3_holds_15 rfl rfl
theorem en_X3_holds_16 : SndE EE S mi_X3_holds 16 (.inl (e_bin 17 (fun x y => x + y))) := sn_iadd dX3_holds_16 rfl
theorem en_X3_holds_17 : SndE EE S mi_X3_holds 17 (.inl (e_ald 18 1)) := sn_iald dX3_holds_17 rfl
theorem en_X3_holds_18 : SndE EE S mi_X3_holds 18 (.inl (e_ige 21 313)) := sn_ige dX3_holds_18 rfl (by decide)
theorem en_X3_holds_21 : SndE EE S mi_X3_holds 21 (.inl (e_lda 22 0)) := sn_aload_n dX3_holds_21 rfl rfl
theorem en_X3_holds_22 : SndE EE S mi_X3_holds 22 (.inl (e_gR 25 3 17)) := sn_gR dX3_holds_22 rfl cl_3 (by decide) rfl (Or.inl q870) (Or.inl rfl)
theorem en_X3_holds_25 : SndE EE S mi_X3_holds 25 (.inl (e_ldi 26 3)) := sn_iload_n dX3_holds_25 rfl rfl
theorem en_X3_holds_26 : SndE EE S mi_X3_holds 26 (.inl (e_ald 27 1)) := sn_iald dX3_holds_26 rfl
theorem en_X3_holds_27 : SndE EE S mi_X3_holds 27 (.inl (e_sti 29 4)) := sn_istore dX3_holds_27 rfl rfl (by decide)
theorem en_X3_holds_29 : SndE EE S mi_X3_holds 29 (.inl (e_ldi 31 4)) := sn_iload dX3_holds_29 rfl
theorem en_X3_holds_31 : SndE EE S mi_X3_holds 31 (.inl (e_psh 33 (.int (20)))) := sn_bipush dX3_holds_31 rfl rfl
theorem en_X3_holds_33 : SndE EE S mi_X3_holds 33 (.inl (e_ige 36 72)) := sn_ige dX3_holds_33 rfl (by decide)
theorem en_X3_holds_36 : SndE EE S mi_X3_holds 36 (.inl (e_lda 37 0)) := sn_aload_n dX3_holds_36 rfl rfl
theorem en_X3_holds_37 : SndE EE S mi_X3_holds 37 (.inl (e_gR 40 3 36)) := sn_gR dX3_holds_37 rfl cl_3 (by decide) rfl (Or.inl q889) (Or.inl rfl)
theorem en_X3_holds_40 : SndE EE S mi_X3_holds 40 (.inl (e_ldi 41 2)) := sn_iload_n dX3_holds_40 rfl rfl
theorem en_X3_holds_41 : SndE EE S mi_X3_holds 41 (.inl (e_ldi 43 4)) := sn_iload dX3_holds_41 rfl
theorem en_X3_holds_43 : SndE EE S mi_X3_holds 43 (.inl (e_zne 46 55)) := sn_zne dX3_holds_43 rfl (by decide)
theorem en_X3_holds_46 : SndE EE S mi_X3_holds 46 (.inl (e_lda 47 0)) := sn_aload_n dX3_holds_46 rfl rfl
theorem en_X3_holds_47 : SndE EE S mi_X3_holds 47 (.inl (e_gR 50 3 18)) := sn_gR dX3_holds_47 rfl cl_3 (by decide) rfl (Or.inl q871) (Or.inl rfl)
theorem en_X3_holds_50 : SndE EE S mi_X3_holds 50 (.inl (e_ldi 51 3)) := sn_iload_n dX3_holds_50 rfl rfl
theorem en_X3_holds_51 : SndE EE S mi_X3_holds 51 (.inl (e_ald 52 1)) := sn_iald dX3_holds_51 rfl
theorem en_X3_holds_52 : SndE EE S mi_X3_holds 52 (.inl (e_goto 65)) := sn_goto dX3_holds_52 (by decide)
theorem en_X3_holds_55 : SndE EE S mi_X3_holds 55 (.inl (e_lda 56 0)) := sn_aload_n dX3_holds_55 rfl rfl
theorem en_X3_holds_56 : SndE EE S mi_X3_holds 56 (.inl (e_gR 59 3 35)) := sn_gR dX3_holds_56 rfl cl_3 (by decide) rfl (Or.inl q888) (Or.inl rfl)
theorem en_X3_holds_59 : SndE EE S mi_X3_holds 59 (.inl (e_ldi 61 4)) := sn_iload dX3_holds_59 rfl
theorem en_X3_holds_61 : SndE EE S mi_X3_holds 61 (.inl (e_psh 63 (.int (10)))) := sn_bipush dX3_holds_61 rfl rfl
theorem en_X3_holds_63 : SndE EE S mi_X3_holds 63 (.inl (e_bin 64 (fun x y => x - y))) := sn_isub dX3_holds_63 rfl
theorem en_X3_holds_64 : SndE EE S mi_X3_holds 64 (.inl (e_ald 65 1)) := sn_iald dX3_holds_64 rfl
theorem en_X3_holds_65 : SndE EE S mi_X3_holds 65 (.inl (e_iast 66)) := sn_iast dX3_holds_65 rfl
theorem en_X3_holds_66 : SndE EE S mi_X3_holds 66 (.inl (e_inc 69 2 (1))) := sn_iinc dX3_holds_66 rfl rfl rfl (by decide)
theorem en_X3_holds_69 : SndE EE S mi_X3_holds 69 (.inl (e_goto 307)) := sn_goto dX3_holds_69 (by decide)
theorem en_X3_holds_72 : SndE EE S mi_X3_holds 72 (.inl (e_ldi 74 4)) := sn_iload dX3_holds_72 rfl
theorem en_X3_holds_74 : SndE EE S mi_X3_holds 74 (.inl (e_psh 76 (.int (20)))) := sn_bipush dX3_holds_74 rfl rfl
theorem en_X3_holds_76 : SndE EE S mi_X3_holds 76 (.inl (e_ine 79 100)) := sn_ine dX3_holds_76 rfl (by decide)
theorem en_X3_holds_79 : SndE EE S mi_X3_holds 79 (.inl (e_lda 80 0)) := sn_aload_n dX3_holds_79 rfl rfl
theorem en_X3_holds_80 : SndE EE S mi_X3_holds 80 (.inl (e_gR 83 3 36)) := sn_gR dX3_holds_80 rfl cl_3 (by decide) rfl (Or.inl q889) (Or.inl rfl)
theorem en_X3_holds_83 : SndE EE S mi_X3_holds 83 (.inl (e_ldi 84 2)) := sn_iload_n dX3_holds_83 rfl rfl
theorem en_X3_holds_84 : SndE EE S mi_X3_holds 84 (.inl (e_psh 85 (.int (1)))) := sn_iconst dX3_holds_84 rfl rfl
theorem en_X3_holds_85 : SndE EE S mi_X3_holds 85 (.inl (e_bin 86 (fun x y => x - y))) := sn_isub dX3_holds_85 rfl
theorem en_X3_holds_86 : SndE EE S mi_X3_holds 86 (.inl (e_psh 87 (.int (1)))) := sn_iconst dX3_holds_86 rfl rfl
theorem en_X3_holds_87 : SndE EE S mi_X3_holds 87 (.inl (e_lda 88 0)) := sn_aload_n dX3_holds_87 rfl rfl
theorem en_X3_holds_88 : SndE EE S mi_X3_holds 88 (.inl (e_gR 91 3 36)) := sn_gR dX3_holds_88 rfl cl_3 (by decide) rfl (Or.inl q889) (Or.inl rfl)
theorem en_X3_holds_91 : SndE EE S mi_X3_holds 91 (.inl (e_ldi 92 2)) := sn_iload_n dX3_holds_91 rfl rfl
theorem en_X3_holds_92 : SndE EE S mi_X3_holds 92 (.inl (e_psh 93 (.int (1)))) := sn_iconst dX3_holds_92 rfl rfl
theorem en_X3_holds_93 : SndE EE S mi_X3_holds 93 (.inl (e_bin 94 (fun x y => x - y))) := sn_isub dX3_holds_93 rfl
theorem en_X3_holds_94 : SndE EE S mi_X3_holds 94 (.inl (e_ald 95 1)) := sn_iald dX3_holds_94 rfl
theorem en_X3_holds_95 : SndE EE S mi_X3_holds 95 (.inl (e_bin 96 (fun x y => x - y))) := sn_isub dX3_holds_95 rfl
theorem en_X3_holds_96 : SndE EE S mi_X3_holds 96 (.inl (e_iast 97)) := sn_iast dX3_holds_96 rfl
theorem en_X3_holds_97 : SndE EE S mi_X3_holds 97 (.inl (e_goto 307)) := sn_goto dX3_holds_97 (by decide)
theorem en_X3_holds_100 : SndE EE S mi_X3_holds 100 (.inl (e_inc 103 2 (-1))) := sn_iinc dX3_holds_100 rfl rfl rfl (by decide)
theorem en_X3_holds_103 : SndE EE S mi_X3_holds 103 (.inl (e_lda 104 0)) := sn_aload_n dX3_holds_103 rfl rfl
theorem en_X3_holds_104 : SndE EE S mi_X3_holds 104 (.inl (e_gR 107 3 36)) := sn_gR dX3_holds_104 rfl cl_3 (by decide) rfl (Or.inl q889) (Or.inl rfl)
theorem en_X3_holds_107 : SndE EE S mi_X3_holds 107 (.inl (e_ldi 108 2)) := sn_iload_n dX3_holds_107 rfl rfl
theorem en_X3_holds_108 : SndE EE S mi_X3_holds 108 (.inl (e_psh 109 (.int (1)))) := sn_iconst dX3_holds_108 rfl rfl
theorem en_X3_holds_109 : SndE EE S mi_X3_holds 109 (.inl (e_bin 110 (fun x y => x - y))) := sn_isub dX3_holds_109 rfl
theorem en_X3_holds_110 : SndE EE S mi_X3_holds 110 (.inl (e_ald 111 1)) := sn_iald dX3_holds_110 rfl
theorem en_X3_holds_111 : SndE EE S mi_X3_holds 111 (.inl (e_sti 113 5)) := sn_istore dX3_holds_111 rfl rfl (by decide)
theorem en_X3_holds_113 : SndE EE S mi_X3_holds 113 (.inl (e_lda 114 0)) := sn_aload_n dX3_holds_113 rfl rfl
theorem en_X3_holds_114 : SndE EE S mi_X3_holds 114 (.inl (e_gR 117 3 36)) := sn_gR dX3_holds_114 rfl cl_3 (by decide) rfl (Or.inl q889) (Or.inl rfl)
theorem en_X3_holds_117 : SndE EE S mi_X3_holds 117 (.inl (e_ldi 118 2)) := sn_iload_n dX3_holds_117 rfl rfl
theorem en_X3_holds_118 : SndE EE S mi_X3_holds 118 (.inl (e_ald 119 1)) := sn_iald dX3_holds_118 rfl
theorem en_X3_holds_119 : SndE EE S mi_X3_holds 119 (.inl (e_sti 121 6)) := sn_istore dX3_holds_119 rfl rfl (by decide)
theorem en_X3_holds_121 : SndE EE S mi_X3_holds 121 (.inl (e_ldi 123 4)) := sn_iload dX3_holds_121 rfl
theorem en_X3_holds_123 : SndE EE S mi_X3_holds 123 (.inl (e_tsw (fun x => if x = 21 then 160 else if x = 22 then 184 else if x = 23 then 209 else if x = 24 then 232 else if x = 25 then 255 else if x = 26 then 278 else 294))) := sn_tsw (lo := 21) (ts := [160, 184, 209, 232, 255, 278]) (df := 294) dX3_holds_123 rfl (by decide) (by decide) (by decide) (by decide) (by decide)
theorem en_X3_holds_160 : SndE EE S mi_X3_holds 160 (.inl (e_lda 161 0)) := sn_aload_n dX3_holds_160 rfl rfl
theorem en_X3_holds_161 : SndE EE S mi_X3_holds 161 (.inl (e_gR 164 3 36)) := sn_gR dX3_holds_161 rfl cl_3 (by decide) rfl (Or.inl q889) (Or.inl rfl)
theorem en_X3_holds_164 : SndE EE S mi_X3_holds 164 (.inl (e_ldi 165 2)) := sn_iload_n dX3_holds_164 rfl rfl
theorem en_X3_holds_165 : SndE EE S mi_X3_holds 165 (.inl (e_psh 166 (.int (1)))) := sn_iconst dX3_holds_165 rfl rfl
theorem en_X3_holds_166 : SndE EE S mi_X3_holds 166 (.inl (e_bin 167 (fun x y => x - y))) := sn_isub dX3_holds_166 rfl
theorem en_X3_holds_167 : SndE EE S mi_X3_holds 167 (.inl (e_ldi 169 5)) := sn_iload dX3_holds_167 rfl
theorem en_X3_holds_169 : SndE EE S mi_X3_holds 169 (.inl (e_ldi 171 6)) := sn_iload dX3_holds_169 rfl
theorem en_X3_holds_171 : SndE EE S mi_X3_holds 171 (.inl (e_bin 172 (fun x y => x + y))) := sn_iadd dX3_holds_171 rfl
theorem en_X3_holds_172 : SndE EE S mi_X3_holds 172 (.inl (e_zle 175 179)) := sn_zle dX3_holds_172 rfl (by decide)
theorem en_X3_holds_175 : SndE EE S mi_X3_holds 175 (.inl (e_psh 176 (.int (1)))) := sn_iconst dX3_holds_175 rfl rfl
theorem en_X3_holds_176 : SndE EE S mi_X3_holds 176 (.inl (e_goto 180)) := sn_goto dX3_holds_176 (by decide)
theorem en_X3_holds_179 : SndE EE S mi_X3_holds 179 (.inl (e_psh 180 (.int (0)))) := sn_iconst dX3_holds_179 rfl rfl
theorem en_X3_holds_180 : SndE EE S mi_X3_holds 180 (.inl (e_iast 181)) := sn_iast dX3_holds_180 rfl
theorem en_X3_holds_181 : SndE EE S mi_X3_holds 181 (.inl (e_goto 307)) := sn_goto dX3_holds_181 (by decide)
theorem en_X3_holds_184 : SndE EE S mi_X3_holds 184 (.inl (e_lda 185 0)) := sn_aload_n dX3_holds_184 rfl rfl
theorem en_X3_holds_185 : SndE EE S mi_X3_holds 185 (.inl (e_gR 188 3 36)) := sn_gR dX3_holds_185 rfl cl_3 (by decide) rfl (Or.inl q889) (Or.inl rfl)
theorem en_X3_holds_188 : SndE EE S mi_X3_holds 188 (.inl (e_ldi 189 2)) := sn_iload_n dX3_holds_188 rfl rfl
theorem en_X3_holds_189 : SndE EE S mi_X3_holds 189 (.inl (e_psh 190 (.int (1)))) := sn_iconst dX3_holds_189 rfl rfl
theorem en_X3_holds_190 : SndE EE S mi_X3_holds 190 (.inl (e_bin 191 (fun x y => x - y))) := sn_isub dX3_holds_190 rfl
theorem en_X3_holds_191 : SndE EE S mi_X3_holds 191 (.inl (e_ldi 193 5)) := sn_iload dX3_holds_191 rfl
theorem en_X3_holds_193 : SndE EE S mi_X3_holds 193 (.inl (e_ldi 195 6)) := sn_iload dX3_holds_193 rfl
theorem en_X3_holds_195 : SndE EE S mi_X3_holds 195 (.inl (e_bin 196 (fun x y => x + y))) := sn_iadd dX3_holds_195 rfl
theorem en_X3_holds_196 : SndE EE S mi_X3_holds 196 (.inl (e_psh 197 (.int (1)))) := sn_iconst dX3_holds_196 rfl rfl
theorem en_X3_holds_197 : SndE EE S mi_X3_holds 197 (.inl (e_ile 200 204)) := sn_ile dX3_holds_197 rfl (by decide)
theorem en_X3_holds_200 : SndE EE S mi_X3_holds 200 (.inl (e_psh 201 (.int (1)))) := sn_iconst dX3_holds_200 rfl rfl
theorem en_X3_holds_201 : SndE EE S mi_X3_holds 201 (.inl (e_goto 205)) := sn_goto dX3_holds_201 (by decide)
theorem en_X3_holds_204 : SndE EE S mi_X3_holds 204 (.inl (e_psh 205 (.int (0)))) := sn_iconst dX3_holds_204 rfl rfl
theorem en_X3_holds_205 : SndE EE S mi_X3_holds 205 (.inl (e_iast 206)) := sn_iast dX3_holds_205 rfl
theorem en_X3_holds_206 : SndE EE S mi_X3_holds 206 (.inl (e_goto 307)) := sn_goto dX3_holds_206 (by decide)
theorem en_X3_holds_209 : SndE EE S mi_X3_holds 209 (.inl (e_lda 210 0)) := sn_aload_n dX3_holds_209 rfl rfl
theorem en_X3_holds_210 : SndE EE S mi_X3_holds 210 (.inl (e_gR 213 3 36)) := sn_gR dX3_holds_210 rfl cl_3 (by decide) rfl (Or.inl q889) (Or.inl rfl)
theorem en_X3_holds_213 : SndE EE S mi_X3_holds 213 (.inl (e_ldi 214 2)) := sn_iload_n dX3_holds_213 rfl rfl
theorem en_X3_holds_214 : SndE EE S mi_X3_holds 214 (.inl (e_psh 215 (.int (1)))) := sn_iconst dX3_holds_214 rfl rfl
theorem en_X3_holds_215 : SndE EE S mi_X3_holds 215 (.inl (e_bin 216 (fun x y => x - y))) := sn_isub dX3_holds_215 rfl
theorem en_X3_holds_216 : SndE EE S mi_X3_holds 216 (.inl (e_ldi 218 5)) := sn_iload dX3_holds_216 rfl
theorem en_X3_holds_218 : SndE EE S mi_X3_holds 218 (.inl (e_ldi 220 6)) := sn_iload dX3_holds_218 rfl
theorem en_X3_holds_220 : SndE EE S mi_X3_holds 220 (.inl (e_ine 223 227)) := sn_ine dX3_holds_220 rfl (by decide)
theorem en_X3_holds_223 : SndE EE S mi_X3_holds 223 (.inl (e_psh 224 (.int (1)))) := sn_iconst dX3_holds_223 rfl rfl
theorem en_X3_holds_224 : SndE EE S mi_X3_holds 224 (.inl (e_goto 228)) := sn_goto dX3_holds_224 (by decide)
theorem en_X3_holds_227 : SndE EE S mi_X3_holds 227 (.inl (e_psh 228 (.int (0)))) := sn_iconst dX3_holds_227 rfl rfl
theorem en_X3_holds_228 : SndE EE S mi_X3_holds 228 (.inl (e_iast 229)) := sn_iast dX3_holds_228 rfl
theorem en_X3_holds_229 : SndE EE S mi_X3_holds 229 (.inl (e_goto 307)) := sn_goto dX3_holds_229 (by decide)
theorem en_X3_holds_232 : SndE EE S mi_X3_holds 232 (.inl (e_lda 233 0)) := sn_aload_n dX3_holds_232 rfl rfl
theorem en_X3_holds_233 : SndE EE S mi_X3_holds 233 (.inl (e_gR 236 3 36)) := sn_gR dX3_holds_233 rfl cl_3 (by decide) rfl (Or.inl q889) (Or.inl rfl)
theorem en_X3_holds_236 : SndE EE S mi_X3_holds 236 (.inl (e_ldi 237 2)) := sn_iload_n dX3_holds_236 rfl rfl
theorem en_X3_holds_237 : SndE EE S mi_X3_holds 237 (.inl (e_psh 238 (.int (1)))) := sn_iconst dX3_holds_237 rfl rfl
theorem en_X3_holds_238 : SndE EE S mi_X3_holds 238 (.inl (e_bin 239 (fun x y => x - y))) := sn_isub dX3_holds_238 rfl
theorem en_X3_holds_239 : SndE EE S mi_X3_holds 239 (.inl (e_ldi 241 5)) := sn_iload dX3_holds_239 rfl
theorem en_X3_holds_241 : SndE EE S mi_X3_holds 241 (.inl (e_ldi 243 6)) := sn_iload dX3_holds_241 rfl
theorem en_X3_holds_243 : SndE EE S mi_X3_holds 243 (.inl (e_ige 246 250)) := sn_ige dX3_holds_243 rfl (by decide)
theorem en_X3_holds_246 : SndE EE S mi_X3_holds 246 (.inl (e_psh 247 (.int (1)))) := sn_iconst dX3_holds_246 rfl rfl
theorem en_X3_holds_247 : SndE EE S mi_X3_holds 247 (.inl (e_goto 251)) := sn_goto dX3_holds_247 (by decide)
theorem en_X3_holds_250 : SndE EE S mi_X3_holds 250 (.inl (e_psh 251 (.int (0)))) := sn_iconst dX3_holds_250 rfl rfl
theorem en_X3_holds_251 : SndE EE S mi_X3_holds 251 (.inl (e_iast 252)) := sn_iast dX3_holds_251 rfl
theorem en_X3_holds_252 : SndE EE S mi_X3_holds 252 (.inl (e_goto 307)) := sn_goto dX3_holds_252 (by decide)
theorem en_X3_holds_255 : SndE EE S mi_X3_holds 255 (.inl (e_lda 256 0)) := sn_aload_n dX3_holds_255 rfl rfl
theorem en_X3_holds_256 : SndE EE S mi_X3_holds 256 (.inl (e_gR 259 3 36)) := sn_gR dX3_holds_256 rfl cl_3 (by decide) rfl (Or.inl q889) (Or.inl rfl)
theorem en_X3_holds_259 : SndE EE S mi_X3_holds 259 (.inl (e_ldi 260 2)) := sn_iload_n dX3_holds_259 rfl rfl
theorem en_X3_holds_260 : SndE EE S mi_X3_holds 260 (.inl (e_psh 261 (.int (1)))) := sn_iconst dX3_holds_260 rfl rfl
theorem en_X3_holds_261 : SndE EE S mi_X3_holds 261 (.inl (e_bin 262 (fun x y => x - y))) := sn_isub dX3_holds_261 rfl
theorem en_X3_holds_262 : SndE EE S mi_X3_holds 262 (.inl (e_ldi 264 5)) := sn_iload dX3_holds_262 rfl
theorem en_X3_holds_264 : SndE EE S mi_X3_holds 264 (.inl (e_ldi 266 6)) := sn_iload dX3_holds_264 rfl
theorem en_X3_holds_266 : SndE EE S mi_X3_holds 266 (.inl (e_ile 269 273)) := sn_ile dX3_holds_266 rfl (by decide)
theorem en_X3_holds_269 : SndE EE S mi_X3_holds 269 (.inl (e_psh 270 (.int (1)))) := sn_iconst dX3_holds_269 rfl rfl
theorem en_X3_holds_270 : SndE EE S mi_X3_holds 270 (.inl (e_goto 274)) := sn_goto dX3_holds_270 (by decide)
theorem en_X3_holds_273 : SndE EE S mi_X3_holds 273 (.inl (e_psh 274 (.int (0)))) := sn_iconst dX3_holds_273 rfl rfl
theorem en_X3_holds_274 : SndE EE S mi_X3_holds 274 (.inl (e_iast 275)) := sn_iast dX3_holds_274 rfl
theorem en_X3_holds_275 : SndE EE S mi_X3_holds 275 (.inl (e_goto 307)) := sn_goto dX3_holds_275 (by decide)
theorem en_X3_holds_278 : SndE EE S mi_X3_holds 278 (.inl (e_lda 279 0)) := sn_aload_n dX3_holds_278 rfl rfl
theorem en_X3_holds_279 : SndE EE S mi_X3_holds 279 (.inl (e_gR 282 3 36)) := sn_gR dX3_holds_279 rfl cl_3 (by decide) rfl (Or.inl q889) (Or.inl rfl)
theorem en_X3_holds_282 : SndE EE S mi_X3_holds 282 (.inl (e_ldi 283 2)) := sn_iload_n dX3_holds_282 rfl rfl
theorem en_X3_holds_283 : SndE EE S mi_X3_holds 283 (.inl (e_psh 284 (.int (1)))) := sn_iconst dX3_holds_283 rfl rfl
theorem en_X3_holds_284 : SndE EE S mi_X3_holds 284 (.inl (e_bin 285 (fun x y => x - y))) := sn_isub dX3_holds_284 rfl
theorem en_X3_holds_285 : SndE EE S mi_X3_holds 285 (.inl (e_ldi 287 5)) := sn_iload dX3_holds_285 rfl
theorem en_X3_holds_287 : SndE EE S mi_X3_holds 287 (.inl (e_ldi 289 6)) := sn_iload dX3_holds_287 rfl
theorem en_X3_holds_289 : SndE EE S mi_X3_holds 289 (.inl (e_bin 290 (fun x y => x + y))) := sn_iadd dX3_holds_289 rfl
theorem en_X3_holds_290 : SndE EE S mi_X3_holds 290 (.inl (e_iast 291)) := sn_iast dX3_holds_290 rfl
theorem en_X3_holds_291 : SndE EE S mi_X3_holds 291 (.inl (e_goto 307)) := sn_goto dX3_holds_291 (by decide)
theorem en_X3_holds_294 : SndE EE S mi_X3_holds 294 (.inl (e_lda 295 0)) := sn_aload_n dX3_holds_294 rfl rfl
theorem en_X3_holds_295 : SndE EE S mi_X3_holds 295 (.inl (e_gR 298 3 36)) := sn_gR dX3_holds_295 rfl cl_3 (by decide) rfl (Or.inl q889) (Or.inl rfl)
theorem en_X3_holds_298 : SndE EE S mi_X3_holds 298 (.inl (e_ldi 299 2)) := sn_iload_n dX3_holds_298 rfl rfl
theorem en_X3_holds_299 : SndE EE S mi_X3_holds 299 (.inl (e_psh 300 (.int (1)))) := sn_iconst dX3_holds_299 rfl rfl
theorem en_X3_holds_300 : SndE EE S mi_X3_holds 300 (.inl (e_bin 301 (fun x y => x - y))) := sn_isub dX3_holds_300 rfl
theorem en_X3_holds_301 : SndE EE S mi_X3_holds 301 (.inl (e_ldi 303 5)) := sn_iload dX3_holds_301 rfl
theorem en_X3_holds_303 : SndE EE S mi_X3_holds 303 (.inl (e_ldi 305 6)) := sn_iload dX3_holds_303 rfl
theorem en_X3_holds_305 : SndE EE S mi_X3_holds 305 (.inl (e_bin 306 (fun x y => x - y))) := sn_isub dX3_holds_305 rfl
theorem en_X3_holds_306 : SndE EE S mi_X3_holds 306 (.inl (e_iast 307)) := sn_iast dX3_holds_306 rfl
theorem en_X3_holds_307 : SndE EE S mi_X3_holds 307 (.inl (e_inc 310 3 (1))) := sn_iinc dX3_holds_307 rfl rfl rfl (by decide)
theorem en_X3_holds_310 : SndE EE S mi_X3_holds 310 (.inl (e_goto 9)) := sn_goto dX3_holds_310 (by decide)
theorem en_X3_holds_313 : SndE EE S mi_X3_holds 313 (.inl (e_ldi 314 2)) := sn_iload_n dX3_holds_313 rfl rfl
theorem en_X3_holds_314 : SndE EE S mi_X3_holds 314 (.inl (e_zeq 317 327)) := sn_zeq dX3_holds_314 rfl (by decide)
theorem en_X3_holds_317 : SndE EE S mi_X3_holds 317 (.inl (e_lda 318 0)) := sn_aload_n dX3_holds_317 rfl rfl
theorem en_X3_holds_318 : SndE EE S mi_X3_holds 318 (.inl (e_gR 321 3 36)) := sn_gR dX3_holds_318 rfl cl_3 (by decide) rfl (Or.inl q889) (Or.inl rfl)
theorem en_X3_holds_321 : SndE EE S mi_X3_holds 321 (.inl (e_psh 322 (.int (0)))) := sn_iconst dX3_holds_321 rfl rfl
theorem en_X3_holds_322 : SndE EE S mi_X3_holds 322 (.inl (e_ald 323 1)) := sn_iald dX3_holds_322 rfl
theorem en_X3_holds_323 : SndE EE S mi_X3_holds 323 (.inl (e_psh 324 (.int (1)))) := sn_iconst dX3_holds_323 rfl rfl
theorem en_X3_holds_324 : SndE EE S mi_X3_holds 324 (.inl (e_ine 327 331)) := sn_ine dX3_holds_324 rfl (by decide)
theorem en_X3_holds_327 : SndE EE S mi_X3_holds 327 (.inl (e_psh 328 (.int (1)))) := sn_iconst dX3_holds_327 rfl rfl
theorem en_X3_holds_328 : SndE EE S mi_X3_holds 328 (.inl (e_goto 332)) := sn_goto dX3_holds_328 (by decide)
theorem en_X3_holds_331 : SndE EE S mi_X3_holds 331 (.inl (e_psh 332 (.int (0)))) := sn_iconst dX3_holds_331 rfl rfl
theorem en_X3_holds_332 : SndE EE S mi_X3_holds 332 (.inr (.inr 2)) := ⟨dX3_holds_332, rfl⟩
theorem sd_X3_holds : ∀ pc x, cd_X3_holds pc = some x → SndE EE S mi_X3_holds pc x := (tN_ok (tN_ok (tN_ok (tN_ok (tN_ok (tN_ok (tN_ok (tL_ok en_X3_holds_0) (tL_ok en_X3_holds_1)) (tN_ok (tL_ok en_X3_holds_2) (tN_ok (tL_ok en_X3_holds_3) (tL_ok en_X3_holds_6)))) (tN_ok (tN_ok (tL_ok en_X3_holds_7) (tN_ok (tL_ok en_X3_holds_8) (tL_ok en_X3_holds_9))) (tN_ok (tL_ok en_X3_holds_10) (tN_ok (tL_ok en_X3_holds_11) (tL_ok en_X3_holds_14))))) (tN_ok (tN_ok (tN_ok (tL_ok en_X3_holds_15) (tL_ok en_X3_holds_16)) (tN_ok (tL_ok en_X3_holds_17) (tN_ok (tL_ok en_X3_holds_18) (tL_ok en_X3_holds_21)))) (tN_ok (tN_ok (tL_ok en_X3_holds_22) (tN_ok (tL_ok en_X3_holds_25) (tL_ok en_X3_holds_26))) (tN_ok (tL_ok en_X3_holds_27) (tN_ok (tL_ok en_X3_holds_29) (tL_ok en_X3_holds_31)))))) (tN_ok (tN_ok (tN_ok (tN_ok (tL_ok en_X3_holds_33) (tL_ok en_X3_holds_36)) (tN_ok (tL_ok en_X3_holds_37) (tN_ok (tL_ok en_X3_holds_40) (tL_ok en_X3_holds_41)))) (tN_ok (tN_ok (tL_ok en_X3_holds_43) (tN_ok (tL_ok en_X3_holds_46) (tL_ok en_X3_holds_47))) (tN_ok (tL_ok en_X3_holds_50) (tN_ok (tL_ok en_X3_holds_51) (tL_ok en_X3_holds_52))))) (tN_ok (tN_ok (tN_ok (tL_ok en_X3_holds_55) (tL_ok en_X3_holds_56)) (tN_ok (tL_ok en_X3_holds_59) (tN_ok (tL_ok en_X3_holds_61) (tL_ok en_X3_holds_63)))) (tN_ok (tN_ok (tL_ok en_X3_holds_64) (tN_ok (tL_ok en_X3_holds_65) (tL_ok en_X3_holds_66))) (tN_ok (tL_ok en_X3_holds_69) (tN_ok (tL_ok en_X3_holds_72) (tL_ok en_X3_holds_74))))))) (tN_ok (tN_ok (tN_ok (tN_ok (tN_ok (tL_ok en_X3_holds_76) (tL_ok en_X3_holds_79)) (tN_ok (tL_ok en_X3_holds_80) (tN_ok (tL_ok en_X3_holds_83) (tL_ok en_X3_holds_84)))) (tN_ok (tN_ok (tL_ok en_X3_holds_85) (tN_ok (tL_ok en_X3_holds_86) (tL_ok en_X3_holds_87))) (tN_ok (tL_ok en_X3_holds_88) (tN_ok (tL_ok en_X3_holds_91) (tL_ok en_X3_holds_92))))) (tN_ok (tN_ok (tN_ok (tL_ok en_X3_holds_93) (tL_ok en_X3_holds_94)) (tN_ok (tL_ok en_X3_holds_95) (tN_ok (tL_ok en_X3_holds_96) (tL_ok en_X3_holds_97)))) (tN_ok (tN_ok (tL_ok en_X3_holds_100) (tN_ok (tL_ok en_X3_holds_103) (tL_ok en_X3_holds_104))) (tN_ok (tL_ok en_X3_holds_107) (tN_ok (tL_ok en_X3_holds_108) (tL_ok en_X3_holds_109)))))) (tN_ok (tN_ok (tN_ok (tN_ok (tL_ok en_X3_holds_110) (tL_ok en_X3_holds_111)) (tN_ok (tL_ok en_X3_holds_113) (tN_ok (tL_ok en_X3_holds_114) (tL_ok en_X3_holds_117)))) (tN_ok (tN_ok (tL_ok en_X3_holds_118) (tN_ok (tL_ok en_X3_holds_119) (tL_ok en_X3_holds_121))) (tN_ok (tL_ok en_X3_holds_123) (tN_ok (tL_ok en_X3_holds_160) (tL_ok en_X3_holds_161))))) (tN_ok (tN_ok (tN_ok (tL_ok en_X3_holds_164) (tL_ok en_X3_holds_165)) (tN_ok (tL_ok en_X3_holds_166) (tN_ok (tL_ok en_X3_holds_167) (tL_ok en_X3_holds_169)))) (tN_ok (tN_ok (tL_ok en_X3_holds_171) (tN_ok (tL_ok en_X3_holds_172) (tL_ok en_X3_holds_175))) (tN_ok (tL_ok en_X3_holds_176) (tN_ok (tL_ok en_X3_holds_179) (tL_ok en_X3_holds_180)))))))) (tN_ok (tN_ok (tN_ok (tN_ok (tN_ok (tN_ok (tL_ok en_X3_holds_181) (tL_ok en_X3_holds_184)) (tN_ok (tL_ok en_X3_holds_185) (tN_ok (tL_ok en_X3_holds_188) (tL_ok en_X3_holds_189)))) (tN_ok (tN_ok (tL_ok en_X3_holds_190) (tN_ok (tL_ok en_X3_holds_191) (tL_ok en_X3_holds_193))) (tN_ok (tL_ok en_X3_holds_195) (tN_ok (tL_ok en_X3_holds_196) (tL_ok en_X3_holds_197))))) (tN_ok (tN_ok (tN_ok (tL_ok en_X3_holds_200) (tL_ok en_X3_holds_201)) (tN_ok (tL_ok en_X3_holds_204) (tN_ok (tL_ok en_X3_holds_205) (tL_ok en_X3_holds_206)))) (tN_ok (tN_ok (tL_ok en_X3_holds_209) (tN_ok (tL_ok en_X3_holds_210) (tL_ok en_X3_holds_213))) (tN_ok (tL_ok en_X3_holds_214) (tN_ok (tL_ok en_X3_holds_215) (tL_ok en_X3_holds_216)))))) (tN_ok (tN_ok (tN_ok (tN_ok (tL_ok en_X3_holds_218) (tL_ok en_X3_holds_220)) (tN_ok (tL_ok en_X3_holds_223) (tN_ok (tL_ok en_X3_holds_224) (tL_ok en_X3_holds_227)))) (tN_ok (tN_ok (tL_ok en_X3_holds_228) (tN_ok (tL_ok en_X3_holds_229) (tL_ok en_X3_holds_232))) (tN_ok (tL_ok en_X3_holds_233) (tN_ok (tL_ok en_X3_holds_236) (tL_ok en_X3_holds_237))))) (tN_ok (tN_ok (tN_ok (tL_ok en_X3_holds_238) (tL_ok en_X3_holds_239)) (tN_ok (tL_ok en_X3_holds_241) (tN_ok (tL_ok en_X3_holds_243) (tL_ok en_X3_holds_246)))) (tN_ok (tN_ok (tL_ok en_X3_holds_247) (tN_ok (tL_ok en_X3_holds_250) (tL_ok en_X3_holds_251))) (tN_ok (tL_ok en_X3_holds_252) (tN_ok (tL_ok en_X3_holds_255) (tL_ok en_X3_holds_256))))))) (tN_ok (tN_ok (tN_ok (tN_ok (tN_ok (tL_ok en_X3_holds_259) (tL_ok en_X3_holds_260)) (tN_ok (tL_ok en_X3_holds_261) (tN_ok (tL_ok en_X3_holds_262) (tL_ok en_X3_holds_264)))) (tN_ok (tN_ok (tL_ok en_X3_holds_266) (tN_ok (tL_ok en_X3_holds_269) (tL_ok en_X3_holds_270))) (tN_ok (tL_ok en_X3_holds_273) (tN_ok (tL_ok en_X3_holds_274) (tL_ok en_X3_holds_275))))) (tN_ok (tN_ok (tN_ok (tL_ok en_X3_holds_278) (tL_ok en_X3_holds_279)) (tN_ok (tL_ok en_X3_holds_282) (tN_ok (tL_ok en_X3_holds_283) (tL_ok en_X3_holds_284)))) (tN_ok (tN_ok (tL_ok en_X3_holds_285) (tN_ok (tL_ok en_X3_holds_287) (tL_ok en_X3_holds_289))) (tN_ok (tL_ok en_X3_holds_290) (tN_ok (tL_ok en_X3_holds_291) (tL_ok en_X3_holds_294)))))) (tN_ok (tN_ok (tN_ok (tN_ok (tL_ok en_X3_holds_295) (tL_ok en_X3_holds_298)) (tN_ok (tL_ok en_X3_holds_299) (tN_ok (tL_ok en_X3_holds_300) (tL_ok en_X3_holds_301)))) (tN_ok (tN_ok (tL_ok en_X3_holds_303) (tN_ok (tL_ok en_X3_holds_305) (tL_ok en_X3_holds_306))) (tN_ok (tL_ok en_X3_holds_307) (tN_ok (tL_ok en_X3_holds_310) (tL_ok en_X3_holds_313))))) (tN_ok (tN_ok (tN_ok (tL_ok en_X3_holds_314) (tL_ok en_X3_holds_317)) (tN_ok (tL_ok en_X3_holds_318) (tN_ok (tL_ok en_X3_holds_321) (tL_ok en_X3_holds_322)))) (tN_ok (tN_ok (tL_ok en_X3_holds_323) (tN_ok (tL_ok en_X3_holds_324) (tL_ok en_X3_holds_327))) (tN_ok (tL_ok en_X3_holds_328) (tN_ok (tL_ok en_X3_holds_331) (tL_ok en_X3_holds_332)))))))))
theorem en_X3_worth_0 : SndE EE S mi_X3_worth 0 (.inl (e_lda 1 0)) := sn_aload_n dX3_worth_0 rfl rfl
theorem en_X3_worth_1 : SndE EE S mi_X3_worth 1 (.inr (.inl (d_cls 3 85, 1, 3))) := sc_virt dX3_worth_1 (rcv_cls (r := (RX3, TX3, 61)) rfl ⟨mo_X3_clip, nmo_X3_clip, q1193, q1195, qs46⟩)
theorem en_X3_worth_4 : SndE EE S mi_X3_worth 4 (.inl (e_lda 5 0)) := sn_aload_n dX3_worth_4 rfl rfl
theorem en_X3_worth_5 : SndE EE S mi_X3_worth 5 (.inl (e_gR 8 3 37)) := sn_gR dX3_worth_5 rfl cl_3 (by decide) rfl (Or.inl q890) (Or.inl rfl)
theorem en_X3_worth_8 : SndE EE S mi_X3_worth 8 (.inl (e_psh 9 (.int (0)))) := sn_iconst dX3_worth_8 rfl rfl
theorem en_X3_worth_9 : SndE EE S mi_X3_worth 9 (.inl (e_ald 10 1)) := sn_iald dX3_worth_9 rfl
theorem en_X3_worth_10 : SndE EE S mi_X3_worth 10 (.inr (.inr 1)) := ⟨dX3_worth_10, rfl⟩
theorem sd_X3_worth : ∀ pc x, cd_X3_worth pc = some x → SndE EE S mi_X3_worth pc x := (tN_ok (tN_ok (tL_ok en_X3_worth_0) (tN_ok (tL_ok en_X3_worth_1) (tL_ok en_X3_worth_4))) (tN_ok (tN_ok (tL_ok en_X3_worth_5) (tL_ok en_X3_worth_8)) (tN_ok (tL_ok en_X3_worth_9) (tL_ok en_X3_worth_10))))
theorem en_X3_clip_0 : SndE EE S mi_X3_clip 0 (.inl (e_lda 1 0)) := sn_aload_n dX3_clip_0 rfl rfl
theorem en_X3_clip_1 : SndE EE S mi_X3_clip 1 (.inl (e_gR 4 3 37)) := sn_gR dX3_clip_1 rfl cl_3 (by decide) rfl (Or.inl q890) (Or.inl rfl)
theorem en_X3_clip_4 : SndE EE S mi_X3_clip 4 (.inl (e_lda 5 0)) := sn_aload_n dX3_clip_4 rfl rfl
theorem en_X3_clip_5 : SndE EE S mi_X3_clip 5 (.inl (e_gI 8 3 32)) := sn_gI dX3_clip_5 rfl cl_3 (by decide) rfl (Or.inl q885) (Or.inl rfl)
theorem en_X3_clip_8 : SndE EE S mi_X3_clip 8 (.inl (e_psh 9 (.int (0)))) := sn_iconst dX3_clip_8 rfl rfl
theorem en_X3_clip_9 : SndE EE S mi_X3_clip 9 (.inl (e_iast 10)) := sn_iast dX3_clip_9 rfl
theorem en_X3_clip_10 : SndE EE S mi_X3_clip 10 (.inl (e_lda 11 0)) := sn_aload_n dX3_clip_10 rfl rfl
theorem en_X3_clip_11 : SndE EE S mi_X3_clip 11 (.inl (e_gR 14 3 38)) := sn_gR dX3_clip_11 rfl cl_3 (by decide) rfl (Or.inl q891) (Or.inl rfl)
theorem en_X3_clip_14 : SndE EE S mi_X3_clip 14 (.inl (e_lda 15 0)) := sn_aload_n dX3_clip_14 rfl rfl
theorem en_X3_clip_15 : SndE EE S mi_X3_clip 15 (.inl (e_gI 18 3 32)) := sn_gI dX3_clip_15 rfl cl_3 (by decide) rfl (Or.inl q885) (Or.inl rfl)
theorem en_X3_clip_18 : SndE EE S mi_X3_clip 18 (.inl (e_psh 19 (.int (0)))) := sn_iconst dX3_clip_18 rfl rfl
theorem en_X3_clip_19 : SndE EE S mi_X3_clip 19 (.inl (e_iast 20)) := sn_iast dX3_clip_19 rfl
theorem en_X3_clip_20 : SndE EE S mi_X3_clip 20 (.inl (e_lda 21 0)) := sn_aload_n dX3_clip_20 rfl rfl
theorem en_X3_clip_21 : SndE EE S mi_X3_clip 21 (.inl (e_gI 24 3 32)) := sn_gI dX3_clip_21 rfl cl_3 (by decide) rfl (Or.inl q885) (Or.inl rfl)
theorem en_X3_clip_24 : SndE EE S mi_X3_clip 24 (.inl (e_psh 25 (.int (1)))) := sn_iconst dX3_clip_24 rfl rfl
theorem en_X3_clip_25 : SndE EE S mi_X3_clip 25 (.inl (e_bin 26 (fun x y => x - y))) := sn_isub dX3_clip_25 rfl
theorem en_X3_clip_26 : SndE EE S mi_X3_clip 26 (.inl (e_sti 27 1)) := sn_istore_n dX3_clip_26 rfl rfl rfl (by decide)
theorem en_X3_clip_27 : SndE EE S mi_X3_clip 27 (.inl (e_ldi 28 1)) := sn_iload_n dX3_clip_27 rfl rfl
theorem en_X3_clip_28 : SndE EE S mi_X3_clip 28 (.inl (e_zlt 31 245)) := sn_zlt dX3_clip_28 rfl (by decide)
theorem en_X3_clip_31 : SndE EE S mi_X3_clip 31 (.inl (e_lda 32 0)) := sn_aload_n dX3_clip_31 rfl rfl
theorem en_X3_clip_32 : SndE EE S mi_X3_clip 32 (.inl (e_gR 35 3 37)) := sn_gR dX3_clip_32 rfl cl_3 (by decide) rfl (Or.inl q890) (Or.inl rfl)
theorem en_X3_clip_35 : SndE EE S mi_X3_clip 35 (.inl (e_ldi 36 1)) := sn_iload_n dX3_clip_35 rfl rfl
theorem en_X3_clip_36 : SndE EE S mi_X3_clip 36 (.inl (e_lda 37 0)) := sn_aload_n dX3_clip_36 rfl rfl
theorem en_X3_clip_37 : SndE EE S mi_X3_clip 37 (.inl (e_gR 40 3 37)) := sn_gR dX3_clip_37 rfl cl_3 (by decide) rfl (Or.inl q890) (Or.inl rfl)
theorem en_X3_clip_40 : SndE EE S mi_X3_clip 40 (.inl (e_ldi 41 1)) := sn_iload_n dX3_clip_40 rfl rfl
theorem en_X3_clip_41 : SndE EE S mi_X3_clip 41 (.inl (e_psh 42 (.int (1)))) := sn_iconst dX3_clip_41 rfl rfl
theorem en_X3_clip_42 : SndE EE S mi_X3_clip 42 (.inl (e_bin 43 (fun x y => x + y))) := sn_iadd dX3_clip_42 rfl
theorem en_X3_clip_43 : SndE EE S mi_X3_clip 43 (.inl (e_ald 44 1)) := sn_iald dX3_clip_43 rfl
theorem en_X3_clip_44 : SndE EE S mi_X3_clip 44 (.inl (e_iast 45)) := sn_iast dX3_clip_44 rfl
theorem en_X3_clip_45 : SndE EE S mi_X3_clip 45 (.inl (e_lda 46 0)) := sn_aload_n dX3_clip_45 rfl rfl
theorem en_X3_clip_46 : SndE EE S mi_X3_clip 46 (.inl (e_gR 49 3 38)) := sn_gR dX3_clip_46 rfl cl_3 (by decide) rfl (Or.inl q891) (Or.inl rfl)
theorem en_X3_clip_49 : SndE EE S mi_X3_clip 49 (.inl (e_ldi 50 1)) := sn_iload_n dX3_clip_49 rfl rfl
theorem en_X3_clip_50 : SndE EE S mi_X3_clip 50 (.inl (e_lda 51 0)) := sn_aload_n dX3_clip_50 rfl rfl
theorem en_X3_clip_51 : SndE EE S mi_X3_clip 51 (.inl (e_gR 54 3 38)) := sn_gR dX3_clip_51 rfl cl_3 (by decide) rfl (Or.inl q891) (Or.inl rfl)
theorem en_X3_clip_54 : SndE EE S mi_X3_clip 54 (.inl (e_ldi 55 1)) := sn_iload_n dX3_clip_54 rfl rfl
theorem en_X3_clip_55 : SndE EE S mi_X3_clip 55 (.inl (e_psh 56 (.int (1)))) := sn_iconst dX3_clip_55 rfl rfl
theorem en_X3_clip_56 : SndE EE S mi_X3_clip 56 (.inl (e_bin 57 (fun x y => x + y))) := sn_iadd dX3_clip_56 rfl
theorem en_X3_clip_57 : SndE EE S mi_X3_clip 57 (.inl (e_ald 58 1)) := sn_iald dX3_clip_57 rfl
theorem en_X3_clip_58 : SndE EE S mi_X3_clip 58 (.inl (e_iast 59)) := sn_iast dX3_clip_58 rfl
theorem en_X3_clip_59 : SndE EE S mi_X3_clip 59 (.inl (e_psh 60 (.int (0)))) := sn_iconst dX3_clip_59 rfl rfl
theorem en_X3_clip_60 : SndE EE S mi_X3_clip 60 (.inl (e_sti 61 2)) := sn_istore_n dX3_clip_60 rfl rfl rfl (by decide)
theorem en_X3_clip_61 : SndE EE S mi_X3_clip 61 (.inl (e_ldi 62 2)) := sn_iload_n dX3_clip_61 rfl rfl
theorem en_X3_clip_62 : SndE EE S mi_X3_clip 62 (.inl (e_lda 63 0)) := sn_aload_n dX3_clip_62 rfl rfl
theorem en_X3_clip_63 : SndE EE S mi_X3_clip 63 (.inl (e_gI 66 3 14)) := sn_gI dX3_clip_63 rfl cl_3 (by decide) rfl (Or.inl q867) (Or.inl rfl)
theorem en_X3_clip_66 : SndE EE S mi_X3_clip 66 (.inl (e_ige 69 239)) := sn_ige dX3_clip_66 rfl (by decide)
theorem en_X3_clip_69 : SndE EE S mi_X3_clip 69 (.inl (e_psh 70 (.int (0)))) := sn_iconst dX3_clip_69 rfl rfl
theorem en_X3_clip_70 : SndE EE S mi_X3_clip 70 (.inl (e_sti 71 3)) := sn_istore_n dX3_clip_70 rfl rfl rfl (by decide)
theorem en_X3_clip_71 : SndE EE S mi_X3_clip 71 (.inl (e_ldi 72 3)) := sn_iload_n dX3_clip_71 rfl rfl
theorem en_X3_clip_72 : SndE EE S mi_X3_clip 72 (.inl (e_psh 73 (.int (3)))) := sn_iconst dX3_clip_72 rfl rfl
theorem en_X3_clip_73 : SndE EE S mi_X3_clip 73 (.inl (e_igt 76 233)) := sn_igt dX3_clip_73 rfl (by decide)
theorem en_X3_clip_76 : SndE EE S mi_X3_clip 76 (.inl (e_ldi 77 1)) := sn_iload_n dX3_clip_76 rfl rfl
theorem en_X3_clip_77 : SndE EE S mi_X3_clip 77 (.inl (e_lda 78 0)) := sn_aload_n dX3_clip_77 rfl rfl
theorem en_X3_clip_78 : SndE EE S mi_X3_clip 78 (.inl (e_gR 81 3 15)) := sn_gR dX3_clip_78 rfl cl_3 (by decide) rfl (Or.inl q868) (Or.inl rfl)
theorem en_X3_clip_81 : SndE EE S mi_X3_clip 81 (.inl (e_ldi 82 2)) := sn_iload_n dX3_clip_81 rfl rfl
theorem en_X3_clip_82 : SndE EE S mi_X3_clip 82 (.inl (e_ald 83 1)) := sn_iald dX3_clip_82 rfl
theorem en_X3_clip_83 : SndE EE S mi_X3_clip 83 (.inl (e_bin 84 (fun x y => x + y))) := sn_iadd dX3_clip_83 rfl
theorem en_X3_clip_84 : SndE EE S mi_X3_clip 84 (.inl (e_lda 85 0)) := sn_aload_n dX3_clip_84 rfl rfl
theorem en_X3_clip_85 : SndE EE S mi_X3_clip 85 (.inl (e_gI 88 3 32)) := sn_gI dX3_clip_85 rfl cl_3 (by decide) rfl (Or.inl q885) (Or.inl rfl)
theorem en_X3_clip_88 : SndE EE S mi_X3_clip 88 (.inl (e_igt 91 105)) := sn_igt dX3_clip_88 rfl (by decide)
theorem en_X3_clip_91 : SndE EE S mi_X3_clip 91 (.inl (e_lda 92 0)) := sn_aload_n dX3_clip_91 rfl rfl
theorem en_X3_clip_92 : SndE EE S mi_X3_clip 92 (.inl (e_ldi 93 1)) := sn_iload_n dX3_clip_92 rfl rfl
theorem en_X3_clip_93 : SndE EE S mi_X3_clip 93 (.inl (e_ldi 94 2)) := sn_iload_n dX3_clip_93 rfl rfl
theorem en_X3_clip_94 : SndE EE S mi_X3_clip 94 (.inl (e_ldi 95 3)) := sn_iload_n dX3_clip_94 rfl rfl
theorem en_X3_clip_95 : SndE EE S mi_X3_clip 95 (.inr (.inl (d_cls 3 82, 4, 3))) := sc_virt dX3_clip_95 (rcv_cls (r := (RX3, TX3, 61)) rfl ⟨mo_X3_isSheet, nmo_X3_isSheet, q1181, q1183, qs44⟩)
theorem en_X3_clip_98 : SndE EE S mi_X3_clip 98 (.inl (e_zeq 101 105)) := sn_zeq dX3_clip_98 rfl (by decide)
theorem en_X3_clip_101 : SndE EE S mi_X3_clip 101 (.inl (e_psh 102 (.int (1)))) := sn_iconst dX3_clip_101 rfl rfl
theorem en_X3_clip_102 : SndE EE S mi_X3_clip 102 (.inl (e_goto 106)) := sn_goto dX3_clip_102 (by decide)
theorem en_X3_clip_105 : SndE EE S mi_X3_clip 105 (.inl (e_psh 106 (.int (0)))) := sn_iconst dX3_clip_105 rfl rfl
theorem en_X3_clip_106 : SndE EE S mi_X3_clip 106 (.inl (e_sti 108 4)) := sn_istore dX3_clip_106 rfl rfl (by decide)
theorem en_X3_clip_108 : SndE EE S mi_X3_clip 108 (.inl (e_lda 109 0)) := sn_aload_n dX3_clip_108 rfl rfl
theorem en_X3_clip_109 : SndE EE S mi_X3_clip 109 (.inl (e_gR 112 3 42)) := sn_gR dX3_clip_109 rfl cl_3 (by decide) rfl (Or.inl q895) (Or.inl rfl)
theorem en_X3_clip_112 : SndE EE S mi_X3_clip 112 (.inl (e_ldi 113 1)) := sn_iload_n dX3_clip_112 rfl rfl
theorem en_X3_clip_113 : SndE EE S mi_X3_clip 113 (.inl (e_ldi 114 2)) := sn_iload_n dX3_clip_113 rfl rfl
theorem en_X3_clip_114 : SndE EE S mi_X3_clip 114 (.inl (e_ldi 115 3)) := sn_iload_n dX3_clip_114 rfl rfl
theorem en_X3_clip_115 : SndE EE S mi_X3_clip 115 (.inr (.inl (fun _ _ => some 86, 3, 3))) := sc_stat dX3_clip_115 mo_X3_cell nmo_X3_cell q1197 q1198 q1199
theorem en_X3_clip_118 : SndE EE S mi_X3_clip 118 (.inl (e_ldi 120 4)) := sn_iload dX3_clip_118 rfl
theorem en_X3_clip_120 : SndE EE S mi_X3_clip 120 (.inl (e_zast 121)) := sn_zast dX3_clip_120 rfl
theorem en_X3_clip_121 : SndE EE S mi_X3_clip 121 (.inl (e_ldi 123 4)) := sn_iload dX3_clip_121 rfl
theorem en_X3_clip_123 : SndE EE S mi_X3_clip 123 (.inl (e_zne 126 129)) := sn_zne dX3_clip_123 rfl (by decide)
theorem en_X3_clip_126 : SndE EE S mi_X3_clip 126 (.inl (e_goto 227)) := sn_goto dX3_clip_126 (by decide)
theorem en_X3_clip_129 : SndE EE S mi_X3_clip 129 (.inl (e_lda 130 0)) := sn_aload_n dX3_clip_129 rfl rfl
theorem en_X3_clip_130 : SndE EE S mi_X3_clip 130 (.inl (e_gR 133 3 16)) := sn_gR dX3_clip_130 rfl cl_3 (by decide) rfl (Or.inl q869) (Or.inl rfl)
theorem en_X3_clip_133 : SndE EE S mi_X3_clip 133 (.inl (e_ldi 134 2)) := sn_iload_n dX3_clip_133 rfl rfl
theorem en_X3_clip_134 : SndE EE S mi_X3_clip 134 (.inl (e_ald 135 1)) := sn_iald dX3_clip_134 rfl
theorem en_X3_clip_135 : SndE EE S mi_X3_clip 135 (.inl (e_ldi 136 3)) := sn_iload_n dX3_clip_135 rfl rfl
theorem en_X3_clip_136 : SndE EE S mi_X3_clip 136 (.inl (e_lda 137 0)) := sn_aload_n dX3_clip_136 rfl rfl
theorem en_X3_clip_137 : SndE EE S mi_X3_clip 137 (.inl (e_gI 140 3 34)) := sn_gI dX3_clip_137 rfl cl_3 (by decide) rfl (Or.inl q887) (Or.inl rfl)
theorem en_X3_clip_140 : SndE EE S mi_X3_clip 140 (.inl (e_bin 141 (fun x y => x * y))) := sn_imul dX3_clip_140 rfl
theorem en_X3_clip_141 : SndE EE S mi_X3_clip 141 (.inl (e_bin 142 (fun x y => x - y))) := sn_isub dX3_clip_141 rfl
theorem en_X3_clip_142 : SndE EE S mi_X3_clip 142 (.inl (e_lda 143 0)) := sn_aload_n dX3_clip_142 rfl rfl
theorem en_X3_clip_143 : SndE EE S mi_X3_clip 143 (.inl (e_gR 146 3 37)) := sn_gR dX3_clip_143 rfl cl_3 (by decide) rfl (Or.inl q890) (Or.inl rfl)
theorem en_X3_clip_146 : SndE EE S mi_X3_clip 146 (.inl (e_ldi 147 1)) := sn_iload_n dX3_clip_146 rfl rfl
theorem en_X3_clip_147 : SndE EE S mi_X3_clip 147 (.inl (e_lda 148 0)) := sn_aload_n dX3_clip_147 rfl rfl
theorem en_X3_clip_148 : SndE EE S mi_X3_clip 148 (.inl (e_gR 151 3 15)) := sn_gR dX3_clip_148 rfl cl_3 (by decide) rfl (Or.inl q868) (Or.inl rfl)
theorem en_X3_clip_151 : SndE EE S mi_X3_clip 151 (.inl (e_ldi 152 2)) := sn_iload_n dX3_clip_151 rfl rfl
theorem en_X3_clip_152 : SndE EE S mi_X3_clip 152 (.inl (e_ald 153 1)) := sn_iald dX3_clip_152 rfl
theorem en_X3_clip_153 : SndE EE S mi_X3_clip 153 (.inl (e_bin 154 (fun x y => x + y))) := sn_iadd dX3_clip_153 rfl
theorem en_X3_clip_154 : SndE EE S mi_X3_clip 154 (.inl (e_ald 155 1)) := sn_iald dX3_clip_154 rfl
theorem en_X3_clip_155 : SndE EE S mi_X3_clip 155 (.inl (e_bin 156 (fun x y => x + y))) := sn_iadd dX3_clip_155 rfl
theorem en_X3_clip_156 : SndE EE S mi_X3_clip 156 (.inl (e_sti 158 5)) := sn_istore dX3_clip_156 rfl rfl (by decide)
theorem en_X3_clip_158 : SndE EE S mi_X3_clip 158 (.inl (e_psh 159 (.int (1)))) := sn_iconst dX3_clip_158 rfl rfl
theorem en_X3_clip_159 : SndE EE S mi_X3_clip 159 (.inl (e_lda 160 0)) := sn_aload_n dX3_clip_159 rfl rfl
theorem en_X3_clip_160 : SndE EE S mi_X3_clip 160 (.inl (e_gR 163 3 38)) := sn_gR dX3_clip_160 rfl cl_3 (by decide) rfl (Or.inl q891) (Or.inl rfl)
theorem en_X3_clip_163 : SndE EE S mi_X3_clip 163 (.inl (e_ldi 164 1)) := sn_iload_n dX3_clip_163 rfl rfl
theorem en_X3_clip_164 : SndE EE S mi_X3_clip 164 (.inl (e_lda 165 0)) := sn_aload_n dX3_clip_164 rfl rfl
theorem en_X3_clip_165 : SndE EE S mi_X3_clip 165 (.inl (e_gR 168 3 15)) := sn_gR dX3_clip_165 rfl cl_3 (by decide) rfl (Or.inl q868) (Or.inl rfl)
theorem en_X3_clip_168 : SndE EE S mi_X3_clip 168 (.inl (e_ldi 169 2)) := sn_iload_n dX3_clip_168 rfl rfl
theorem en_X3_clip_169 : SndE EE S mi_X3_clip 169 (.inl (e_ald 170 1)) := sn_iald dX3_clip_169 rfl
theorem en_X3_clip_170 : SndE EE S mi_X3_clip 170 (.inl (e_bin 171 (fun x y => x + y))) := sn_iadd dX3_clip_170 rfl
theorem en_X3_clip_171 : SndE EE S mi_X3_clip 171 (.inl (e_ald 172 1)) := sn_iald dX3_clip_171 rfl
theorem en_X3_clip_172 : SndE EE S mi_X3_clip 172 (.inl (e_bin 173 (fun x y => x + y))) := sn_iadd dX3_clip_172 rfl
theorem en_X3_clip_173 : SndE EE S mi_X3_clip 173 (.inl (e_sti 175 6)) := sn_istore dX3_clip_173 rfl rfl (by decide)
theorem en_X3_clip_175 : SndE EE S mi_X3_clip 175 (.inl (e_ldi 177 5)) := sn_iload dX3_clip_175 rfl
theorem en_X3_clip_177 : SndE EE S mi_X3_clip 177 (.inl (e_lda 178 0)) := sn_aload_n dX3_clip_177 rfl rfl
theorem en_X3_clip_178 : SndE EE S mi_X3_clip 178 (.inl (e_gR 181 3 37)) := sn_gR dX3_clip_178 rfl cl_3 (by decide) rfl (Or.inl q890) (Or.inl rfl)
theorem en_X3_clip_181 : SndE EE S mi_X3_clip 181 (.inl (e_ldi 182 1)) := sn_iload_n dX3_clip_181 rfl rfl
theorem en_X3_clip_182 : SndE EE S mi_X3_clip 182 (.inl (e_ald 183 1)) := sn_iald dX3_clip_182 rfl
theorem en_X3_clip_183 : SndE EE S mi_X3_clip 183 (.inl (e_ilt 186 227)) := sn_ilt dX3_clip_183 rfl (by decide)
theorem en_X3_clip_186 : SndE EE S mi_X3_clip 186 (.inl (e_ldi 188 5)) := sn_iload dX3_clip_186 rfl
theorem en_X3_clip_188 : SndE EE S mi_X3_clip 188 (.inl (e_lda 189 0)) := sn_aload_n dX3_clip_188 rfl rfl
theorem en_X3_clip_189 : SndE EE S mi_X3_clip 189 (.inl (e_gR 192 3 37)) := sn_gR dX3_clip_189 rfl cl_3 (by decide) rfl (Or.inl q890) (Or.inl rfl)
theorem en_X3_clip_192 : SndE EE S mi_X3_clip 192 (.inl (e_ldi 193 1)) := sn_iload_n dX3_clip_192 rfl rfl
theorem en_X3_clip_193 : SndE EE S mi_X3_clip 193 (.inl (e_ald 194 1)) := sn_iald dX3_clip_193 rfl
theorem en_X3_clip_194 : SndE EE S mi_X3_clip 194 (.inl (e_ine 197 211)) := sn_ine dX3_clip_194 rfl (by decide)
theorem en_X3_clip_197 : SndE EE S mi_X3_clip 197 (.inl (e_ldi 199 6)) := sn_iload dX3_clip_197 rfl
theorem en_X3_clip_199 : SndE EE S mi_X3_clip 199 (.inl (e_lda 200 0)) := sn_aload_n dX3_clip_199 rfl rfl
theorem en_X3_clip_200 : SndE EE S mi_X3_clip 200 (.inl (e_gR 203 3 38)) := sn_gR dX3_clip_200 rfl cl_3 (by decide) rfl (Or.inl q891) (Or.inl rfl)
theorem en_X3_clip_203 : SndE EE S mi_X3_clip 203 (.inl (e_ldi 204 1)) := sn_iload_n dX3_clip_203 rfl rfl
theorem en_X3_clip_204 : SndE EE S mi_X3_clip 204 (.inl (e_ald 205 1)) := sn_iald dX3_clip_204 rfl
theorem en_X3_clip_205 : SndE EE S mi_X3_clip 205 (.inl (e_ilt 208 211)) := sn_ilt dX3_clip_205 rfl (by decide)
theorem en_X3_clip_208 : SndE EE S mi_X3_clip 208 (.inl (e_goto 227)) := sn_goto dX3_clip_208 (by decide)
theorem en_X3_clip_211 : SndE EE S mi_X3_clip 211 (.inl (e_lda 212 0)) := sn_aload_n dX3_clip_211 rfl rfl
theorem en_X3_clip_212 : SndE EE S mi_X3_clip 212 (.inl (e_gR 215 3 37)) := sn_gR dX3_clip_212 rfl cl_3 (by decide) rfl (Or.inl q890) (Or.inl rfl)
theorem en_X3_clip_215 : SndE EE S mi_X3_clip 215 (.inl (e_ldi 216 1)) := sn_iload_n dX3_clip_215 rfl rfl
theorem en_X3_clip_216 : SndE EE S mi_X3_clip 216 (.inl (e_ldi 218 5)) := sn_iload dX3_clip_216 rfl
theorem en_X3_clip_218 : SndE EE S mi_X3_clip 218 (.inl (e_iast 219)) := sn_iast dX3_clip_218 rfl
theorem en_X3_clip_219 : SndE EE S mi_X3_clip 219 (.inl (e_lda 220 0)) := sn_aload_n dX3_clip_219 rfl rfl
theorem en_X3_clip_220 : SndE EE S mi_X3_clip 220 (.inl (e_gR 223 3 38)) := sn_gR dX3_clip_220 rfl cl_3 (by decide) rfl (Or.inl q891) (Or.inl rfl)
theorem en_X3_clip_223 : SndE EE S mi_X3_clip 223 (.inl (e_ldi 224 1)) := sn_iload_n dX3_clip_223 rfl rfl
theorem en_X3_clip_224 : SndE EE S mi_X3_clip 224 (.inl (e_ldi 226 6)) := sn_iload dX3_clip_224 rfl
theorem en_X3_clip_226 : SndE EE S mi_X3_clip 226 (.inl (e_iast 227)) := sn_iast dX3_clip_226 rfl
theorem en_X3_clip_227 : SndE EE S mi_X3_clip 227 (.inl (e_inc 230 3 (1))) := sn_iinc dX3_clip_227 rfl rfl rfl (by decide)
theorem en_X3_clip_230 : SndE EE S mi_X3_clip 230 (.inl (e_goto 71)) := sn_goto dX3_clip_230 (by decide)
theorem en_X3_clip_233 : SndE EE S mi_X3_clip 233 (.inl (e_inc 236 2 (1))) := sn_iinc dX3_clip_233 rfl rfl rfl (by decide)
theorem en_X3_clip_236 : SndE EE S mi_X3_clip 236 (.inl (e_goto 61)) := sn_goto dX3_clip_236 (by decide)
theorem en_X3_clip_239 : SndE EE S mi_X3_clip 239 (.inl (e_inc 242 1 (-1))) := sn_iinc dX3_clip_239 rfl rfl rfl (by decide)
theorem en_X3_clip_242 : SndE EE S mi_X3_clip 242 (.inl (e_goto 27)) := sn_goto dX3_clip_242 (by decide)
theorem en_X3_clip_245 : SndE EE S mi_X3_clip 245 (.inl (e_lda 246 0)) := sn_aload_n dX3_clip_245 rfl rfl
theorem en_X3_clip_246 : SndE EE S mi_X3_clip 246 (.inl (e_psh 247 (.int (0)))) := sn_iconst dX3_clip_246 rfl rfl
theorem en_X3_clip_247 : SndE EE S mi_X3_clip 247 (.inl (e_pI 250 3 43)) := sn_pI dX3_clip_247 rfl cl_3 (by decide) rfl (Or.inl ⟨q896, Or.inl rfl⟩) (Or.inl rfl) (fun _ => ⟨rfl, rfl⟩)
theorem en_X3_clip_250 : SndE EE S mi_X3_clip 250 (.inl (e_psh 251 (.int (0)))) := sn_iconst dX3_clip_250 rfl rfl
theorem en_X3_clip_251 : SndE EE S mi_X3_clip 251 (.inl (e_sti 252 1)) := sn_istore_n dX3_clip_251 rfl rfl rfl (by decide)
theorem en_X3_clip_252 : SndE EE S mi_X3_clip 252 (.inl (e_ldi 253 1)) := sn_iload_n dX3_clip_252 rfl rfl
theorem en_X3_clip_253 : SndE EE S mi_X3_clip 253 (.inl (e_lda 254 0)) := sn_aload_n dX3_clip_253 rfl rfl
theorem en_X3_clip_254 : SndE EE S mi_X3_clip 254 (.inl (e_gI 257 3 32)) := sn_gI dX3_clip_254 rfl cl_3 (by decide) rfl (Or.inl q885) (Or.inl rfl)
theorem en_X3_clip_257 : SndE EE S mi_X3_clip 257 (.inl (e_ige 260 461)) := sn_ige dX3_clip_257 rfl (by decide)
theorem en_X3_clip_260 : SndE EE S mi_X3_clip 260 (.inl (e_lda 261 0)) := sn_aload_n dX3_clip_260 rfl rfl
theorem en_X3_clip_261 : SndE EE S mi_X3_clip 261 (.inl (e_gI 264 3 43)) := sn_gI dX3_clip_261 rfl cl_3 (by decide) rfl (Or.inl q896) (Or.inl rfl)
theorem en_X3_clip_264 : SndE EE S mi_X3_clip 264 (.inl (e_sti 265 2)) := sn_istore_n dX3_clip_264 rfl rfl rfl (by decide)
theorem en_X3_clip_265 : SndE EE S mi_X3_clip 265 (.inl (e_psh 266 (.int (0)))) := sn_iconst dX3_clip_265 rfl rfl
theorem en_X3_clip_266 : SndE EE S mi_X3_clip 266 (.inl (e_sti 267 3)) := sn_istore_n dX3_clip_266 rfl rfl rfl (by decide)
theorem en_X3_clip_267 : SndE EE S mi_X3_clip 267 (.inl (e_ldi 268 3)) := sn_iload_n dX3_clip_267 rfl rfl
theorem en_X3_clip_268 : SndE EE S mi_X3_clip 268 (.inl (e_lda 269 0)) := sn_aload_n dX3_clip_268 rfl rfl
theorem en_X3_clip_269 : SndE EE S mi_X3_clip 269 (.inl (e_gI 272 3 14)) := sn_gI dX3_clip_269 rfl cl_3 (by decide) rfl (Or.inl q867) (Or.inl rfl)
theorem en_X3_clip_272 : SndE EE S mi_X3_clip 272 (.inl (e_ige 275 432)) := sn_ige dX3_clip_272 rfl (by decide)
theorem en_X3_clip_275 : SndE EE S mi_X3_clip 275 (.inl (e_lda 276 0)) := sn_aload_n dX3_clip_275 rfl rfl
theorem en_X3_clip_276 : SndE EE S mi_X3_clip 276 (.inl (e_gI 279 3 43)) := sn_gI dX3_clip_276 rfl cl_3 (by decide) rfl (Or.inl q896) (Or.inl rfl)
theorem en_X3_clip_279 : SndE EE S mi_X3_clip 279 (.inl (e_ldi 280 2)) := sn_iload_n dX3_clip_279 rfl rfl
theorem en_X3_clip_280 : SndE EE S mi_X3_clip 280 (.inl (e_ine 283 432)) := sn_ine dX3_clip_280 rfl (by decide)
theorem en_X3_clip_283 : SndE EE S mi_X3_clip 283 (.inl (e_psh 284 (.int (0)))) := sn_iconst dX3_clip_283 rfl rfl
theorem en_X3_clip_284 : SndE EE S mi_X3_clip 284 (.inl (e_sti 286 4)) := sn_istore dX3_clip_284 rfl rfl (by decide)
theorem en_X3_clip_286 : SndE EE S mi_X3_clip 286 (.inl (e_ldi 288 4)) := sn_iload dX3_clip_286 rfl
theorem en_X3_clip_288 : SndE EE S mi_X3_clip 288 (.inl (e_psh 289 (.int (3)))) := sn_iconst dX3_clip_288 rfl rfl
theorem en_X3_clip_289 : SndE EE S mi_X3_clip 289 (.inl (e_igt 292 426)) := sn_igt dX3_clip_289 rfl (by decide)
theorem en_X3_clip_292 : SndE EE S mi_X3_clip 292 (.inl (e_lda 293 0)) := sn_aload_n dX3_clip_292 rfl rfl
theorem en_X3_clip_293 : SndE EE S mi_X3_clip 293 (.inl (e_gI 296 3 43)) := sn_gI dX3_clip_293 rfl cl_3 (by decide) rfl (Or.inl q896) (Or.inl rfl)
theorem en_X3_clip_296 : SndE EE S mi_X3_clip 296 (.inl (e_ldi 297 2)) := sn_iload_n dX3_clip_296 rfl rfl
theorem en_X3_clip_297 : SndE EE S mi_X3_clip 297 (.inl (e_ine 300 426)) := sn_ine dX3_clip_297 rfl (by decide)
theorem en_X3_clip_300 : SndE EE S mi_X3_clip 300 (.inl (e_lda 301 0)) := sn_aload_n dX3_clip_300 rfl rfl
theorem en_X3_clip_301 : SndE EE S mi_X3_clip 301 (.inl (e_gR 304 3 42)) := sn_gR dX3_clip_301 rfl cl_3 (by decide) rfl (Or.inl q895) (Or.inl rfl)
theorem en_X3_clip_304 : SndE EE S mi_X3_clip 304 (.inl (e_ldi 305 1)) := sn_iload_n dX3_clip_304 rfl rfl
theorem en_X3_clip_305 : SndE EE S mi_X3_clip 305 (.inl (e_ldi 306 3)) := sn_iload_n dX3_clip_305 rfl rfl
theorem en_X3_clip_306 : SndE EE S mi_X3_clip 306 (.inl (e_ldi 308 4)) := sn_iload dX3_clip_306 rfl
theorem en_X3_clip_308 : SndE EE S mi_X3_clip 308 (.inr (.inl (fun _ _ => some 86, 3, 3))) := sc_stat dX3_clip_308 mo_X3_cell nmo_X3_cell q1197 q1198 q1199
theorem en_X3_clip_311 : SndE EE S mi_X3_clip 311 (.inl (e_ald 312 3)) := sn_zald dX3_clip_311 rfl
theorem en_X3_clip_312 : SndE EE S mi_X3_clip 312 (.inl (e_zeq 315 420)) := sn_zeq dX3_clip_312 rfl (by decide)
theorem en_X3_clip_315 : SndE EE S mi_X3_clip 315 (.inl (e_lda 316 0)) := sn_aload_n dX3_clip_315 rfl rfl
theorem en_X3_clip_316 : SndE EE S mi_X3_clip 316 (.inl (e_gR 319 3 16)) := sn_gR dX3_clip_316 rfl cl_3 (by decide) rfl (Or.inl q869) (Or.inl rfl)
theorem en_X3_clip_319 : SndE EE S mi_X3_clip 319 (.inl (e_ldi 320 3)) := sn_iload_n dX3_clip_319 rfl rfl
theorem en_X3_clip_320 : SndE EE S mi_X3_clip 320 (.inl (e_ald 321 1)) := sn_iald dX3_clip_320 rfl
theorem en_X3_clip_321 : SndE EE S mi_X3_clip 321 (.inl (e_ldi 323 4)) := sn_iload dX3_clip_321 rfl
theorem en_X3_clip_323 : SndE EE S mi_X3_clip 323 (.inl (e_lda 324 0)) := sn_aload_n dX3_clip_323 rfl rfl
theorem en_X3_clip_324 : SndE EE S mi_X3_clip 324 (.inl (e_gI 327 3 34)) := sn_gI dX3_clip_324 rfl cl_3 (by decide) rfl (Or.inl q887) (Or.inl rfl)
theorem en_X3_clip_327 : SndE EE S mi_X3_clip 327 (.inl (e_bin 328 (fun x y => x * y))) := sn_imul dX3_clip_327 rfl
theorem en_X3_clip_328 : SndE EE S mi_X3_clip 328 (.inl (e_bin 329 (fun x y => x - y))) := sn_isub dX3_clip_328 rfl
theorem en_X3_clip_329 : SndE EE S mi_X3_clip 329 (.inl (e_lda 330 0)) := sn_aload_n dX3_clip_329 rfl rfl
theorem en_X3_clip_330 : SndE EE S mi_X3_clip 330 (.inl (e_gR 333 3 37)) := sn_gR dX3_clip_330 rfl cl_3 (by decide) rfl (Or.inl q890) (Or.inl rfl)
theorem en_X3_clip_333 : SndE EE S mi_X3_clip 333 (.inl (e_ldi 334 1)) := sn_iload_n dX3_clip_333 rfl rfl
theorem en_X3_clip_334 : SndE EE S mi_X3_clip 334 (.inl (e_lda 335 0)) := sn_aload_n dX3_clip_334 rfl rfl
theorem en_X3_clip_335 : SndE EE S mi_X3_clip 335 (.inl (e_gR 338 3 15)) := sn_gR dX3_clip_335 rfl cl_3 (by decide) rfl (Or.inl q868) (Or.inl rfl)
theorem en_X3_clip_338 : SndE EE S mi_X3_clip 338 (.inl (e_ldi 339 3)) := sn_iload_n dX3_clip_338 rfl rfl
theorem en_X3_clip_339 : SndE EE S mi_X3_clip 339 (.inl (e_ald 340 1)) := sn_iald dX3_clip_339 rfl
theorem en_X3_clip_340 : SndE EE S mi_X3_clip 340 (.inl (e_bin 341 (fun x y => x + y))) := sn_iadd dX3_clip_340 rfl
theorem en_X3_clip_341 : SndE EE S mi_X3_clip 341 (.inl (e_ald 342 1)) := sn_iald dX3_clip_341 rfl
theorem en_X3_clip_342 : SndE EE S mi_X3_clip 342 (.inl (e_bin 343 (fun x y => x + y))) := sn_iadd dX3_clip_342 rfl
theorem en_X3_clip_343 : SndE EE S mi_X3_clip 343 (.inl (e_lda 344 0)) := sn_aload_n dX3_clip_343 rfl rfl
theorem en_X3_clip_344 : SndE EE S mi_X3_clip 344 (.inl (e_gR 347 3 37)) := sn_gR dX3_clip_344 rfl cl_3 (by decide) rfl (Or.inl q890) (Or.inl rfl)
theorem en_X3_clip_347 : SndE EE S mi_X3_clip 347 (.inl (e_ldi 348 1)) := sn_iload_n dX3_clip_347 rfl rfl
theorem en_X3_clip_348 : SndE EE S mi_X3_clip 348 (.inl (e_ald 349 1)) := sn_iald dX3_clip_348 rfl
theorem en_X3_clip_349 : SndE EE S mi_X3_clip 349 (.inl (e_ine 352 420)) := sn_ine dX3_clip_349 rfl (by decide)
theorem en_X3_clip_352 : SndE EE S mi_X3_clip 352 (.inl (e_psh 353 (.int (1)))) := sn_iconst dX3_clip_352 rfl rfl
theorem en_X3_clip_353 : SndE EE S mi_X3_clip 353 (.inl (e_lda 354 0)) := sn_aload_n dX3_clip_353 rfl rfl
theorem en_X3_clip_354 : SndE EE S mi_X3_clip 354 (.inl (e_gR 357 3 38)) := sn_gR dX3_clip_354 rfl cl_3 (by decide) rfl (Or.inl q891) (Or.inl rfl)
theorem en_X3_clip_357 : SndE EE S mi_X3_clip 357 (.inl (e_ldi 358 1)) := sn_iload_n dX3_clip_357 rfl rfl
theorem en_X3_clip_358 : SndE EE S mi_X3_clip 358 (.inl (e_lda 359 0)) := sn_aload_n dX3_clip_358 rfl rfl
theorem en_X3_clip_359 : SndE EE S mi_X3_clip 359 (.inl (e_gR 362 3 15)) := sn_gR dX3_clip_359 rfl cl_3 (by decide) rfl (Or.inl q868) (Or.inl rfl)
theorem en_X3_clip_362 : SndE EE S mi_X3_clip 362 (.inl (e_ldi 363 3)) := sn_iload_n dX3_clip_362 rfl rfl
theorem en_X3_clip_363 : SndE EE S mi_X3_clip 363 (.inl (e_ald 364 1)) := sn_iald dX3_clip_363 rfl
theorem en_X3_clip_364 : SndE EE S mi_X3_clip 364 (.inl (e_bin 365 (fun x y => x + y))) := sn_iadd dX3_clip_364 rfl
theorem en_X3_clip_365 : SndE EE S mi_X3_clip 365 (.inl (e_ald 366 1)) := sn_iald dX3_clip_365 rfl
theorem en_X3_clip_366 : SndE EE S mi_X3_clip 366 (.inl (e_bin 367 (fun x y => x + y))) := sn_iadd dX3_clip_366 rfl
theorem en_X3_clip_367 : SndE EE S mi_X3_clip 367 (.inl (e_lda 368 0)) := sn_aload_n dX3_clip_367 rfl rfl
theorem en_X3_clip_368 : SndE EE S mi_X3_clip 368 (.inl (e_gR 371 3 38)) := sn_gR dX3_clip_368 rfl cl_3 (by decide) rfl (Or.inl q891) (Or.inl rfl)
theorem en_X3_clip_371 : SndE EE S mi_X3_clip 371 (.inl (e_ldi 372 1)) := sn_iload_n dX3_clip_371 rfl rfl
theorem en_X3_clip_372 : SndE EE S mi_X3_clip 372 (.inl (e_ald 373 1)) := sn_iald dX3_clip_372 rfl
theorem en_X3_clip_373 : SndE EE S mi_X3_clip 373 (.inl (e_ieq 376 379)) := sn_ieq dX3_clip_373 rfl (by decide)
theorem en_X3_clip_376 : SndE EE S mi_X3_clip 376 (.inl (e_goto 420)) := sn_goto dX3_clip_376 (by decide)
theorem en_X3_clip_379 : SndE EE S mi_X3_clip 379 (.inl (e_lda 380 0)) := sn_aload_n dX3_clip_379 rfl rfl
theorem en_X3_clip_380 : SndE EE S mi_X3_clip 380 (.inl (e_gR 383 3 39)) := sn_gR dX3_clip_380 rfl cl_3 (by decide) rfl (Or.inl q892) (Or.inl rfl)
theorem en_X3_clip_383 : SndE EE S mi_X3_clip 383 (.inl (e_lda 384 0)) := sn_aload_n dX3_clip_383 rfl rfl
theorem en_X3_clip_384 : SndE EE S mi_X3_clip 384 (.inl (e_gI 387 3 43)) := sn_gI dX3_clip_384 rfl cl_3 (by decide) rfl (Or.inl q896) (Or.inl rfl)
theorem en_X3_clip_387 : SndE EE S mi_X3_clip 387 (.inl (e_ldi 388 1)) := sn_iload_n dX3_clip_387 rfl rfl
theorem en_X3_clip_388 : SndE EE S mi_X3_clip 388 (.inl (e_iast 389)) := sn_iast dX3_clip_388 rfl
theorem en_X3_clip_389 : SndE EE S mi_X3_clip 389 (.inl (e_lda 390 0)) := sn_aload_n dX3_clip_389 rfl rfl
theorem en_X3_clip_390 : SndE EE S mi_X3_clip 390 (.inl (e_gR 393 3 40)) := sn_gR dX3_clip_390 rfl cl_3 (by decide) rfl (Or.inl q893) (Or.inl rfl)
theorem en_X3_clip_393 : SndE EE S mi_X3_clip 393 (.inl (e_lda 394 0)) := sn_aload_n dX3_clip_393 rfl rfl
theorem en_X3_clip_394 : SndE EE S mi_X3_clip 394 (.inl (e_gI 397 3 43)) := sn_gI dX3_clip_394 rfl cl_3 (by decide) rfl (Or.inl q896) (Or.inl rfl)
theorem en_X3_clip_397 : SndE EE S mi_X3_clip 397 (.inl (e_ldi 398 3)) := sn_iload_n dX3_clip_397 rfl rfl
theorem en_X3_clip_398 : SndE EE S mi_X3_clip 398 (.inl (e_iast 399)) := sn_iast dX3_clip_398 rfl
theorem en_X3_clip_399 : SndE EE S mi_X3_clip 399 (.inl (e_lda 400 0)) := sn_aload_n dX3_clip_399 rfl rfl
theorem en_X3_clip_400 : SndE EE S mi_X3_clip 400 (.inl (e_gR 403 3 41)) := sn_gR dX3_clip_400 rfl cl_3 (by decide) rfl (Or.inl q894) (Or.inl rfl)
theorem en_X3_clip_403 : SndE EE S mi_X3_clip 403 (.inl (e_lda 404 0)) := sn_aload_n dX3_clip_403 rfl rfl
theorem en_X3_clip_404 : SndE EE S mi_X3_clip 404 (.inl (e_gI 407 3 43)) := sn_gI dX3_clip_404 rfl cl_3 (by decide) rfl (Or.inl q896) (Or.inl rfl)
theorem en_X3_clip_407 : SndE EE S mi_X3_clip 407 (.inl (e_ldi 409 4)) := sn_iload dX3_clip_407 rfl
theorem en_X3_clip_409 : SndE EE S mi_X3_clip 409 (.inl (e_iast 410)) := sn_iast dX3_clip_409 rfl
theorem en_X3_clip_410 : SndE EE S mi_X3_clip 410 (.inl (e_lda 411 0)) := sn_aload_n dX3_clip_410 rfl rfl
theorem en_X3_clip_411 : SndE EE S mi_X3_clip 411 (.inl (e_dup 412)) := sn_dup dX3_clip_411 rfl
theorem en_X3_clip_412 : SndE EE S mi_X3_clip 412 (.inl (e_gI 415 3 43)) := sn_gI dX3_clip_412 rfl cl_3 (by decide) rfl (Or.inl q896) (Or.inl rfl)
theorem en_X3_clip_415 : SndE EE S mi_X3_clip 415 (.inl (e_psh 416 (.int (1)))) := sn_iconst dX3_clip_415 rfl rfl
theorem en_X3_clip_416 : SndE EE S mi_X3_clip 416 (.inl (e_bin 417 (fun x y => x + y))) := sn_iadd dX3_clip_416 rfl
theorem en_X3_clip_417 : SndE EE S mi_X3_clip 417 (.inl (e_pI 420 3 43)) := sn_pI dX3_clip_417 rfl cl_3 (by decide) rfl (Or.inl ⟨q896, Or.inl rfl⟩) (Or.inl rfl) (fun _ => ⟨rfl, rfl⟩)
theorem en_X3_clip_420 : SndE EE S mi_X3_clip 420 (.inl (e_inc 423 4 (1))) := sn_iinc dX3_clip_420 rfl rfl rfl (by decide)
theorem en_X3_clip_423 : SndE EE S mi_X3_clip 423 (.inl (e_goto 286)) := sn_goto dX3_clip_423 (by decide)
theorem en_X3_clip_426 : SndE EE S mi_X3_clip 426 (.inl (e_inc 429 3 (1))) := sn_iinc dX3_clip_426 rfl rfl rfl (by decide)
theorem en_X3_clip_429 : SndE EE S mi_X3_clip 429 (.inl (e_goto 267)) := sn_goto dX3_clip_429 (by decide)
theorem en_X3_clip_432 : SndE EE S mi_X3_clip 432 (.inl (e_ldi 433 1)) := sn_iload_n dX3_clip_432 rfl rfl
theorem en_X3_clip_433 : SndE EE S mi_X3_clip 433 (.inl (e_lda 434 0)) := sn_aload_n dX3_clip_433 rfl rfl
theorem en_X3_clip_434 : SndE EE S mi_X3_clip 434 (.inl (e_gI 437 3 43)) := sn_gI dX3_clip_434 rfl cl_3 (by decide) rfl (Or.inl q896) (Or.inl rfl)
theorem en_X3_clip_437 : SndE EE S mi_X3_clip 437 (.inl (e_ldi 438 2)) := sn_iload_n dX3_clip_437 rfl rfl
theorem en_X3_clip_438 : SndE EE S mi_X3_clip 438 (.inl (e_ile 441 455)) := sn_ile dX3_clip_438 rfl (by decide)
theorem en_X3_clip_441 : SndE EE S mi_X3_clip 441 (.inl (e_lda 442 0)) := sn_aload_n dX3_clip_441 rfl rfl
theorem en_X3_clip_442 : SndE EE S mi_X3_clip 442 (.inl (e_gR 445 3 15)) := sn_gR dX3_clip_442 rfl cl_3 (by decide) rfl (Or.inl q868) (Or.inl rfl)
theorem en_X3_clip_445 : SndE EE S mi_X3_clip 445 (.inl (e_lda 446 0)) := sn_aload_n dX3_clip_445 rfl rfl
theorem en_X3_clip_446 : SndE EE S mi_X3_clip 446 (.inl (e_gR 449 3 40)) := sn_gR dX3_clip_446 rfl cl_3 (by decide) rfl (Or.inl q893) (Or.inl rfl)
theorem en_X3_clip_449 : SndE EE S mi_X3_clip 449 (.inl (e_ldi 450 2)) := sn_iload_n dX3_clip_449 rfl rfl
theorem en_X3_clip_450 : SndE EE S mi_X3_clip 450 (.inl (e_ald 451 1)) := sn_iald dX3_clip_450 rfl
theorem en_X3_clip_451 : SndE EE S mi_X3_clip 451 (.inl (e_ald 452 1)) := sn_iald dX3_clip_451 rfl
theorem en_X3_clip_452 : SndE EE S mi_X3_clip 452 (.inl (e_goto 456)) := sn_goto dX3_clip_452 (by decide)
theorem en_X3_clip_455 : SndE EE S mi_X3_clip 455 (.inl (e_psh 456 (.int (1)))) := sn_iconst dX3_clip_455 rfl rfl
theorem en_X3_clip_456 : SndE EE S mi_X3_clip 456 (.inl (e_bin 457 (fun x y => x + y))) := sn_iadd dX3_clip_456 rfl
theorem en_X3_clip_457 : SndE EE S mi_X3_clip 457 (.inl (e_sti 458 1)) := sn_istore_n dX3_clip_457 rfl rfl rfl (by decide)
theorem en_X3_clip_458 : SndE EE S mi_X3_clip 458 (.inl (e_goto 252)) := sn_goto dX3_clip_458 (by decide)
theorem en_X3_clip_461 : SndE EE S mi_X3_clip 461 (.inr (.inr 0)) := ⟨dX3_clip_461, rfl⟩
theorem sd_X3_clip : ∀ pc x, cd_X3_clip pc = some x → SndE EE S mi_X3_clip pc x := (tN_ok (tN_ok (tN_ok (tN_ok (tN_ok (tN_ok (tN_ok (tN_ok (tL_ok en_X3_clip_0) (tL_ok en_X3_clip_1)) (tN_ok (tL_ok en_X3_clip_4) (tL_ok en_X3_clip_5))) (tN_ok (tN_ok (tL_ok en_X3_clip_8) (tL_ok en_X3_clip_9)) (tN_ok (tL_ok en_X3_clip_10) (tL_ok en_X3_clip_11)))) (tN_ok (tN_ok (tN_ok (tL_ok en_X3_clip_14) (tL_ok en_X3_clip_15)) (tN_ok (tL_ok en_X3_clip_18) (tL_ok en_X3_clip_19))) (tN_ok (tN_ok (tL_ok en_X3_clip_20) (tL_ok en_X3_clip_21)) (tN_ok (tL_ok en_X3_clip_24) (tN_ok (tL_ok en_X3_clip_25) (tL_ok en_X3_clip_26)))))) (tN_ok (tN_ok (tN_ok (tN_ok (tL_ok en_X3_clip_27) (tL_ok en_X3_clip_28)) (tN_ok (tL_ok en_X3_clip_31) (tL_ok en_X3_clip_32))) (tN_ok (tN_ok (tL_ok en_X3_clip_35) (tL_ok en_X3_clip_36)) (tN_ok (tL_ok en_X3_clip_37) (tL_ok en_X3_clip_40)))) (tN_ok (tN_ok (tN_ok (tL_ok en_X3_clip_41) (tL_ok en_X3_clip_42)) (tN_ok (tL_ok en_X3_clip_43) (tL_ok en_X3_clip_44))) (tN_ok (tN_ok (tL_ok en_X3_clip_45) (tL_ok en_X3_clip_46)) (tN_ok (tL_ok en_X3_clip_49) (tN_ok (tL_ok en_X3_clip_50) (tL_ok en_X3_clip_51))))))) (tN_ok (tN_ok (tN_ok (tN_ok (tN_ok (tL_ok en_X3_clip_54) (tL_ok en_X3_clip_55)) (tN_ok (tL_ok en_X3_clip_56) (tL_ok en_X3_clip_57))) (tN_ok (tN_ok (tL_ok en_X3_clip_58) (tL_ok en_X3_clip_59)) (tN_ok (tL_ok en_X3_clip_60) (tL_ok en_X3_clip_61)))) (tN_ok (tN_ok (tN_ok (tL_ok en_X3_clip_62) (tL_ok en_X3_clip_63)) (tN_ok (tL_ok en_X3_clip_66) (tL_ok en_X3_clip_69))) (tN_ok (tN_ok (tL_ok en_X3_clip_70) (tL_ok en_X3_clip_71)) (tN_ok (tL_ok en_X3_clip_72) (tN_ok (tL_ok en_X3_clip_73) (tL_ok en_X3_clip_76)))))) (tN_ok (tN_ok (tN_ok (tN_ok (tL_ok en_X3_clip_77) (tL_ok en_X3_clip_78)) (tN_ok (tL_ok en_X3_clip_81) (tL_ok en_X3_clip_82))) (tN_ok (tN_ok (tL_ok en_X3_clip_83) (tL_ok en_X3_clip_84)) (tN_ok (tL_ok en_X3_clip_85) (tL_ok en_X3_clip_88)))) (tN_ok (tN_ok (tN_ok (tL_ok en_X3_clip_91) (tL_ok en_X3_clip_92)) (tN_ok (tL_ok en_X3_clip_93) (tL_ok en_X3_clip_94))) (tN_ok (tN_ok (tL_ok en_X3_clip_95) (tL_ok en_X3_clip_98)) (tN_ok (tL_ok en_X3_clip_101) (tN_ok (tL_ok en_X3_clip_102) (tL_ok en_X3_clip_105)))))))) (tN_ok (tN_ok (tN_ok (tN_ok (tN_ok (tN_ok (tL_ok en_X3_clip_106) (tL_ok en_X3_clip_108)) (tN_ok (tL_ok en_X3_clip_109) (tL_ok en_X3_clip_112))) (tN_ok (tN_ok (tL_ok en_X3_clip_113) (tL_ok en_X3_clip_114)) (tN_ok (tL_ok en_X3_clip_115) (tL_ok en_X3_clip_118)))) (tN_ok (tN_ok (tN_ok (tL_ok en_X3_clip_120) (tL_ok en_X3_clip_121)) (tN_ok (tL_ok en_X3_clip_123) (tL_ok en_X3_clip_126))) (tN_ok (tN_ok (tL_ok en_X3_clip_129) (tL_ok en_X3_clip_130)) (tN_ok (tL_ok en_X3_clip_133) (tN_ok (tL_ok en_X3_clip_134) (tL_ok en_X3_clip_135)))))) (tN_ok (tN_ok (tN_ok (tN_ok (tL_ok en_X3_clip_136) (tL_ok en_X3_clip_137)) (tN_ok (tL_ok en_X3_clip_140) (tL_ok en_X3_clip_141))) (tN_ok (tN_ok (tL_ok en_X3_clip_142) (tL_ok en_X3_clip_143)) (tN_ok (tL_ok en_X3_clip_146) (tL_ok en_X3_clip_147)))) (tN_ok (tN_ok (tN_ok (tL_ok en_X3_clip_148) (tL_ok en_X3_clip_151)) (tN_ok (tL_ok en_X3_clip_152) (tL_ok en_X3_clip_153))) (tN_ok (tN_ok (tL_ok en_X3_clip_154) (tL_ok en_X3_clip_155)) (tN_ok (tL_ok en_X3_clip_156) (tN_ok (tL_ok en_X3_clip_158) (tL_ok en_X3_clip_159))))))) (tN_ok (tN_ok (tN_ok (tN_ok (tN_ok (tL_ok en_X3_clip_160) (tL_ok en_X3_clip_163)) (tN_ok (tL_ok en_X3_clip_164) (tL_ok en_X3_clip_165))) (tN_ok (tN_ok (tL_ok en_X3_clip_168) (tL_ok en_X3_clip_169)) (tN_ok (tL_ok en_X3_clip_170) (tL_ok en_X3_clip_171)))) (tN_ok (tN_ok (tN_ok (tL_ok en_X3_clip_172) (tL_ok en_X3_clip_173)) (tN_ok (tL_ok en_X3_clip_175) (tL_ok en_X3_clip_177))) (tN_ok (tN_ok (tL_ok en_X3_clip_178) (tL_ok en_X3_clip_181)) (tN_ok (tL_ok en_X3_clip_182) (tN_ok (tL_ok en_X3_clip_183) (tL_ok en_X3_clip_186)))))) (tN_ok (tN_ok (tN_ok (tN_ok (tL_ok en_X3_clip_188) (tL_ok en_X3_clip_189)) (tN_ok (tL_ok en_X3_clip_192) (tL_ok en_X3_clip_193))) (tN_ok (tN_ok (tL_ok en_X3_clip_194) (tL_ok en_X3_clip_197)) (tN_ok (tL_ok en_X3_clip_199) (tL_ok en_X3_clip_200)))) (tN_ok (tN_ok (tN_ok (tL_ok en_X3_clip_203) (tL_ok en_X3_clip_204)) (tN_ok (tL_ok en_X3_clip_205) (tL_ok en_X3_clip_208))) (tN_ok (tN_ok (tL_ok en_X3_clip_211) (tL_ok en_X3_clip_212)) (tN_ok (tL_ok en_X3_clip_215) (tN_ok (tL_ok en_X3_clip_216) (tL_ok en_X3_clip_218))))))))) (tN_ok (tN_ok (tN_ok (tN_ok (tN_ok (tN_ok (tN_ok (tL_ok en_X3_clip_219) (tL_ok en_X3_clip_220)) (tN_ok (tL_ok en_X3_clip_223) (tL_ok en_X3_clip_224))) (tN_ok (tN_ok (tL_ok en_X3_clip_226) (tL_ok en_X3_clip_227)) (tN_ok (tL_ok en_X3_clip_230) (tL_ok en_X3_clip_233)))) (tN_ok (tN_ok (tN_ok (tL_ok en_X3_clip_236) (tL_ok en_X3_clip_239)) (tN_ok (tL_ok en_X3_clip_242) (tL_ok en_X3_clip_245))) (tN_ok (tN_ok (tL_ok en_X3_clip_246) (tL_ok en_X3_clip_247)) (tN_ok (tL_ok en_X3_clip_250) (tN_ok (tL_ok en_X3_clip_251) (tL_ok en_X3_clip_252)))))) (tN_ok (tN_ok (tN_ok (tN_ok (tL_ok en_X3_clip_253) (tL_ok en_X3_clip_254)) (tN_ok (tL_ok en_X3_clip_257) (tL_ok en_X3_clip_260))) (tN_ok (tN_ok (tL_ok en_X3_clip_261) (tL_ok en_X3_clip_264)) (tN_ok (tL_ok en_X3_clip_265) (tL_ok en_X3_clip_266)))) (tN_ok (tN_ok (tN_ok (tL_ok en_X3_clip_267) (tL_ok en_X3_clip_268)) (tN_ok (tL_ok en_X3_clip_269) (tL_ok en_X3_clip_272))) (tN_ok (tN_ok (tL_ok en_X3_clip_275) (tL_ok en_X3_clip_276)) (tN_ok (tL_ok en_X3_clip_279) (tN_ok (tL_ok en_X3_clip_280) (tL_ok en_X3_clip_283))))))) (tN_ok (tN_ok (tN_ok (tN_ok (tN_ok (tL_ok en_X3_clip_284) (tL_ok en_X3_clip_286)) (tN_ok (tL_ok en_X3_clip_288) (tL_ok en_X3_clip_289))) (tN_ok (tN_ok (tL_ok en_X3_clip_292) (tL_ok en_X3_clip_293)) (tN_ok (tL_ok en_X3_clip_296) (tL_ok en_X3_clip_297)))) (tN_ok (tN_ok (tN_ok (tL_ok en_X3_clip_300) (tL_ok en_X3_clip_301)) (tN_ok (tL_ok en_X3_clip_304) (tL_ok en_X3_clip_305))) (tN_ok (tN_ok (tL_ok en_X3_clip_306) (tL_ok en_X3_clip_308)) (tN_ok (tL_ok en_X3_clip_311) (tN_ok (tL_ok en_X3_clip_312) (tL_ok en_X3_clip_315)))))) (tN_ok (tN_ok (tN_ok (tN_ok (tL_ok en_X3_clip_316) (tL_ok en_X3_clip_319)) (tN_ok (tL_ok en_X3_clip_320) (tL_ok en_X3_clip_321))) (tN_ok (tN_ok (tL_ok en_X3_clip_323) (tL_ok en_X3_clip_324)) (tN_ok (tL_ok en_X3_clip_327) (tL_ok en_X3_clip_328)))) (tN_ok (tN_ok (tN_ok (tL_ok en_X3_clip_329) (tL_ok en_X3_clip_330)) (tN_ok (tL_ok en_X3_clip_333) (tL_ok en_X3_clip_334))) (tN_ok (tN_ok (tL_ok en_X3_clip_335) (tL_ok en_X3_clip_338)) (tN_ok (tL_ok en_X3_clip_339) (tN_ok (tL_ok en_X3_clip_340) (tL_ok en_X3_clip_341)))))))) (tN_ok (tN_ok (tN_ok (tN_ok (tN_ok (tN_ok (tL_ok en_X3_clip_342) (tL_ok en_X3_clip_343)) (tN_ok (tL_ok en_X3_clip_344) (tL_ok en_X3_clip_347))) (tN_ok (tN_ok (tL_ok en_X3_clip_348) (tL_ok en_X3_clip_349)) (tN_ok (tL_ok en_X3_clip_352) (tL_ok en_X3_clip_353)))) (tN_ok (tN_ok (tN_ok (tL_ok en_X3_clip_354) (tL_ok en_X3_clip_357)) (tN_ok (tL_ok en_X3_clip_358) (tL_ok en_X3_clip_359))) (tN_ok (tN_ok (tL_ok en_X3_clip_362) (tL_ok en_X3_clip_363)) (tN_ok (tL_ok en_X3_clip_364) (tN_ok (tL_ok en_X3_clip_365) (tL_ok en_X3_clip_366)))))) (tN_ok (tN_ok (tN_ok (tN_ok (tL_ok en_X3_clip_367) (tL_ok en_X3_clip_368)) (tN_ok (tL_ok en_X3_clip_371) (tL_ok en_X3_clip_372))) (tN_ok (tN_ok (tL_ok en_X3_clip_373) (tL_ok en_X3_clip_376)) (tN_ok (tL_ok en_X3_clip_379) (tL_ok en_X3_clip_380)))) (tN_ok (tN_ok (tN_ok (tL_ok en_X3_clip_383) (tL_ok en_X3_clip_384)) (tN_ok (tL_ok en_X3_clip_387) (tL_ok en_X3_clip_388))) (tN_ok (tN_ok (tL_ok en_X3_clip_389) (tL_ok en_X3_clip_390)) (tN_ok (tL_ok en_X3_clip_393) (tN_ok (tL_ok en_X3_clip_394) (tL_ok en_X3_clip_397))))))) (tN_ok (tN_ok (tN_ok (tN_ok (tN_ok (tL_ok en_X3_clip_398) (tL_ok en_X3_clip_399)) (tN_ok (tL_ok en_X3_clip_400) (tL_ok en_X3_clip_403))) (tN_ok (tN_ok (tL_ok en_X3_clip_404) (tL_ok en_X3_clip_407)) (tN_ok (tL_ok en_X3_clip_409) (tL_ok en_X3_clip_410)))) (tN_ok (tN_ok (tN_ok (tL_ok en_X3_clip_411) (tL_ok en_X3_clip_412)) (tN_ok (tL_ok en_X3_clip_415) (tL_ok en_X3_clip_416))) (tN_ok (tN_ok (tL_ok en_X3_clip_417) (tL_ok en_X3_clip_420)) (tN_ok (tL_ok en_X3_clip_423) (tN_ok (tL_ok en_X3_clip_426) (tL_ok en_X3_clip_429)))))) (tN_ok (tN_ok (tN_ok (tN_ok (tL_ok en_X3_clip_432) (tL_ok en_X3_clip_433)) (tN_ok (tL_ok en_X3_clip_434) (tL_ok en_X3_clip_437))) (tN_ok (tN_ok (tL_ok en_X3_clip_438) (tL_ok en_X3_clip_441)) (tN_ok (tL_ok en_X3_clip_442) (tN_ok (tL_ok en_X3_clip_445) (tL_ok en_X3_clip_446))))) (tN_ok (tN_ok (tN_ok (tL_ok en_X3_clip_449) (tL_ok en_X3_clip_450)) (tN_ok (tL_ok en_X3_clip_451) (tL_ok en_X3_clip_452))) (tN_ok (tN_ok (tL_ok en_X3_clip_455) (tL_ok en_X3_clip_456)) (tN_ok (tL_ok en_X3_clip_457) (tN_ok (tL_ok en_X3_clip_458) (tL_ok en_X3_clip_461))))))))))
theorem en_X3_cell_0 : SndE EE S mi_X3_cell 0 (.inl (e_ldi 1 0)) := sn_iload_n dX3_cell_0 rfl rfl
theorem en_X3_cell_1 : SndE EE S mi_X3_cell 1 (.inl (e_psh 3 (.int (8)))) := sn_bipush dX3_cell_1 rfl rfl
theorem en_X3_cell_3 : SndE EE S mi_X3_cell 3 (.inl (e_bin 4 (fun x y => x * y))) := sn_imul dX3_cell_3 rfl
theorem en_X3_cell_4 : SndE EE S mi_X3_cell 4 (.inl (e_ldi 5 1)) := sn_iload_n dX3_cell_4 rfl rfl
theorem en_X3_cell_5 : SndE EE S mi_X3_cell 5 (.inl (e_bin 6 (fun x y => x + y))) := sn_iadd dX3_cell_5 rfl
theorem en_X3_cell_6 : SndE EE S mi_X3_cell 6 (.inl (e_psh 7 (.int (4)))) := sn_iconst dX3_cell_6 rfl rfl
theorem en_X3_cell_7 : SndE EE S mi_X3_cell 7 (.inl (e_bin 8 (fun x y => x * y))) := sn_imul dX3_cell_7 rfl
theorem en_X3_cell_8 : SndE EE S mi_X3_cell 8 (.inl (e_ldi 9 2)) := sn_iload_n dX3_cell_8 rfl rfl
theorem en_X3_cell_9 : SndE EE S mi_X3_cell 9 (.inl (e_bin 10 (fun x y => x + y))) := sn_iadd dX3_cell_9 rfl
theorem en_X3_cell_10 : SndE EE S mi_X3_cell 10 (.inr (.inr 1)) := ⟨dX3_cell_10, rfl⟩
theorem sd_X3_cell : ∀ pc x, cd_X3_cell pc = some x → SndE EE S mi_X3_cell pc x := (tN_ok (tN_ok (tN_ok (tL_ok en_X3_cell_0) (tL_ok en_X3_cell_1)) (tN_ok (tL_ok en_X3_cell_3) (tN_ok (tL_ok en_X3_cell_4) (tL_ok en_X3_cell_5)))) (tN_ok (tN_ok (tL_ok en_X3_cell_6) (tL_ok en_X3_cell_7)) (tN_ok (tL_ok en_X3_cell_8) (tN_ok (tL_ok en_X3_cell_9) (tL_ok en_X3_cell_10)))))
theorem en_X3_sheets_0 : SndE EE S mi_X3_sheets 0 (.inl (e_lda 1 0)) := sn_aload_n dX3_sheets_0 rfl rfl
theorem en_X3_sheets_1 : SndE EE S mi_X3_sheets 1 (.inr (.inl (d_cls 3 85, 1, 3))) := sc_virt dX3_sheets_1 (rcv_cls (r := (RX3, TX3, 61)) rfl ⟨mo_X3_clip, nmo_X3_clip, q1193, q1195, qs46⟩)
theorem en_X3_sheets_4 : SndE EE S mi_X3_sheets 4 (.inl (e_lda 5 0)) := sn_aload_n dX3_sheets_4 rfl rfl
theorem en_X3_sheets_5 : SndE EE S mi_X3_sheets 5 (.inl (e_gI 8 3 43)) := sn_gI dX3_sheets_5 rfl cl_3 (by decide) rfl (Or.inl q896) (Or.inl rfl)
theorem en_X3_sheets_8 : SndE EE S mi_X3_sheets 8 (.inr (.inr 1)) := ⟨dX3_sheets_8, rfl⟩
theorem sd_X3_sheets : ∀ pc x, cd_X3_sheets pc = some x → SndE EE S mi_X3_sheets pc x := (tN_ok (tN_ok (tL_ok en_X3_sheets_0) (tL_ok en_X3_sheets_1)) (tN_ok (tL_ok en_X3_sheets_4) (tN_ok (tL_ok en_X3_sheets_5) (tL_ok en_X3_sheets_8))))
theorem en_X3_clipped_0 : SndE EE S mi_X3_clipped 0 (.inl (e_lda 1 0)) := sn_aload_n dX3_clipped_0 rfl rfl
theorem en_X3_clipped_1 : SndE EE S mi_X3_clipped 1 (.inr (.inl (d_cls 3 85, 1, 3))) := sc_virt dX3_clipped_1 (rcv_cls (r := (RX3, TX3, 61)) rfl ⟨mo_X3_clip, nmo_X3_clip, q1193, q1195, qs46⟩)
theorem en_X3_clipped_4 : SndE EE S mi_X3_clipped 4 (.inl (e_ldi 5 1)) := sn_iload_n dX3_clipped_4 rfl rfl
theorem en_X3_clipped_5 : SndE EE S mi_X3_clipped 5 (.inl (e_zlt 8 16)) := sn_zlt dX3_clipped_5 rfl (by decide)
theorem en_X3_clipped_8 : SndE EE S mi_X3_clipped 8 (.inl (e_ldi 9 1)) := sn_iload_n dX3_clipped_8 rfl rfl
theorem en_X3_clipped_9 : SndE EE S mi_X3_clipped 9 (.inl (e_lda 10 0)) := sn_aload_n dX3_clipped_9 rfl rfl
theorem en_X3_clipped_10 : SndE EE S mi_X3_clipped 10 (.inl (e_gI 13 3 43)) := sn_gI dX3_clipped_10 rfl cl_3 (by decide) rfl (Or.inl q896) (Or.inl rfl)
theorem en_X3_clipped_13 : SndE EE S mi_X3_clipped 13 (.inl (e_ilt 16 20)) := sn_ilt dX3_clipped_13 rfl (by decide)
theorem en_X3_clipped_16 : SndE EE S mi_X3_clipped 16 (.inl (e_psh 17 (.int (-1)))) := sn_iconst dX3_clipped_16 rfl rfl
theorem en_X3_clipped_17 : SndE EE S mi_X3_clipped 17 (.inl (e_goto 62)) := sn_goto dX3_clipped_17 (by decide)
theorem en_X3_clipped_20 : SndE EE S mi_X3_clipped 20 (.inl (e_ldi 21 2)) := sn_iload_n dX3_clipped_20 rfl rfl
theorem en_X3_clipped_21 : SndE EE S mi_X3_clipped 21 (.inl (e_zne 24 33)) := sn_zne dX3_clipped_21 rfl (by decide)
theorem en_X3_clipped_24 : SndE EE S mi_X3_clipped 24 (.inl (e_lda 25 0)) := sn_aload_n dX3_clipped_24 rfl rfl
theorem en_X3_clipped_25 : SndE EE S mi_X3_clipped 25 (.inl (e_gR 28 3 39)) := sn_gR dX3_clipped_25 rfl cl_3 (by decide) rfl (Or.inl q892) (Or.inl rfl)
theorem en_X3_clipped_28 : SndE EE S mi_X3_clipped 28 (.inl (e_ldi 29 1)) := sn_iload_n dX3_clipped_28 rfl rfl
theorem en_X3_clipped_29 : SndE EE S mi_X3_clipped 29 (.inl (e_ald 30 1)) := sn_iald dX3_clipped_29 rfl
theorem en_X3_clipped_30 : SndE EE S mi_X3_clipped 30 (.inl (e_goto 62)) := sn_goto dX3_clipped_30 (by decide)
theorem en_X3_clipped_33 : SndE EE S mi_X3_clipped 33 (.inl (e_ldi 34 2)) := sn_iload_n dX3_clipped_33 rfl rfl
theorem en_X3_clipped_34 : SndE EE S mi_X3_clipped 34 (.inl (e_psh 35 (.int (1)))) := sn_iconst dX3_clipped_34 rfl rfl
theorem en_X3_clipped_35 : SndE EE S mi_X3_clipped 35 (.inl (e_ine 38 47)) := sn_ine dX3_clipped_35 rfl (by decide)
theorem en_X3_clipped_38 : SndE EE S mi_X3_clipped 38 (.inl (e_lda 39 0)) := sn_aload_n dX3_clipped_38 rfl rfl
theorem en_X3_clipped_39 : SndE EE S mi_X3_clipped 39 (.inl (e_gR 42 3 40)) := sn_gR dX3_clipped_39 rfl cl_3 (by decide) rfl (Or.inl q893) (Or.inl rfl)
theorem en_X3_clipped_42 : SndE EE S mi_X3_clipped 42 (.inl (e_ldi 43 1)) := sn_iload_n dX3_clipped_42 rfl rfl
theorem en_X3_clipped_43 : SndE EE S mi_X3_clipped 43 (.inl (e_ald 44 1)) := sn_iald dX3_clipped_43 rfl
theorem en_X3_clipped_44 : SndE EE S mi_X3_clipped 44 (.inl (e_goto 62)) := sn_goto dX3_clipped_44 (by decide)
theorem en_X3_clipped_47 : SndE EE S mi_X3_clipped 47 (.inl (e_ldi 48 2)) := sn_iload_n dX3_clipped_47 rfl rfl
theorem en_X3_clipped_48 : SndE EE S mi_X3_clipped 48 (.inl (e_psh 49 (.int (2)))) := sn_iconst dX3_clipped_48 rfl rfl
theorem en_X3_clipped_49 : SndE EE S mi_X3_clipped 49 (.inl (e_ine 52 61)) := sn_ine dX3_clipped_49 rfl (by decide)
theorem en_X3_clipped_52 : SndE EE S mi_X3_clipped 52 (.inl (e_lda 53 0)) := sn_aload_n dX3_clipped_52 rfl rfl
theorem en_X3_clipped_53 : SndE EE S mi_X3_clipped 53 (.inl (e_gR 56 3 41)) := sn_gR dX3_clipped_53 rfl cl_3 (by decide) rfl (Or.inl q894) (Or.inl rfl)
theorem en_X3_clipped_56 : SndE EE S mi_X3_clipped 56 (.inl (e_ldi 57 1)) := sn_iload_n dX3_clipped_56 rfl rfl
theorem en_X3_clipped_57 : SndE EE S mi_X3_clipped 57 (.inl (e_ald 58 1)) := sn_iald dX3_clipped_57 rfl
theorem en_X3_clipped_58 : SndE EE S mi_X3_clipped 58 (.inl (e_goto 62)) := sn_goto dX3_clipped_58 (by decide)
theorem en_X3_clipped_61 : SndE EE S mi_X3_clipped 61 (.inl (e_psh 62 (.int (-1)))) := sn_iconst dX3_clipped_61 rfl rfl
theorem en_X3_clipped_62 : SndE EE S mi_X3_clipped 62 (.inr (.inr 1)) := ⟨dX3_clipped_62, rfl⟩
theorem sd_X3_clipped : ∀ pc x, cd_X3_clipped pc = some x → SndE EE S mi_X3_clipped pc x := (tN_ok (tN_ok (tN_ok (tN_ok (tN_ok (tL_ok en_X3_clipped_0) (tL_ok en_X3_clipped_1)) (tN_ok (tL_ok en_X3_clipped_4) (tL_ok en_X3_clipped_5))) (tN_ok (tN_ok (tL_ok en_X3_clipped_8) (tL_ok en_X3_clipped_9)) (tN_ok (tL_ok en_X3_clipped_10) (tL_ok en_X3_clipped_13)))) (tN_ok (tN_ok (tN_ok (tL_ok en_X3_clipped_16) (tL_ok en_X3_clipped_17)) (tN_ok (tL_ok en_X3_clipped_20) (tL_ok en_X3_clipped_21))) (tN_ok (tN_ok (tL_ok en_X3_clipped_24) (tL_ok en_X3_clipped_25)) (tN_ok (tL_ok en_X3_clipped_28) (tN_ok (tL_ok en_X3_clipped_29) (tL_ok en_X3_clipped_30)))))) (tN_ok (tN_ok (tN_ok (tN_ok (tL_ok en_X3_clipped_33) (tL_ok en_X3_clipped_34)) (tN_ok (tL_ok en_X3_clipped_35) (tL_ok en_X3_clipped_38))) (tN_ok (tN_ok (tL_ok en_X3_clipped_39) (tL_ok en_X3_clipped_42)) (tN_ok (tL_ok en_X3_clipped_43) (tN_ok (tL_ok en_X3_clipped_44) (tL_ok en_X3_clipped_47))))) (tN_ok (tN_ok (tN_ok (tL_ok en_X3_clipped_48) (tL_ok en_X3_clipped_49)) (tN_ok (tL_ok en_X3_clipped_52) (tL_ok en_X3_clipped_53))) (tN_ok (tN_ok (tL_ok en_X3_clipped_56) (tL_ok en_X3_clipped_57)) (tN_ok (tL_ok en_X3_clipped_58) (tN_ok (tL_ok en_X3_clipped_61) (tL_ok en_X3_clipped_62)))))))
theorem en_X3_veneer_0 : SndE EE S mi_X3_veneer 0 (.inl (e_ldi 1 1)) := sn_iload_n dX3_veneer_0 rfl rfl
theorem en_X3_veneer_1 : SndE EE S mi_X3_veneer 1 (.inl (e_zlt 4 49)) := sn_zlt dX3_veneer_1 rfl (by decide)
theorem en_X3_veneer_4 : SndE EE S mi_X3_veneer 4 (.inl (e_ldi 5 1)) := sn_iload_n dX3_veneer_4 rfl rfl
theorem en_X3_veneer_5 : SndE EE S mi_X3_veneer 5 (.inl (e_psh 7 (.int (6)))) := sn_bipush dX3_veneer_5 rfl rfl
theorem en_X3_veneer_7 : SndE EE S mi_X3_veneer 7 (.inl (e_ige 10 49)) := sn_ige dX3_veneer_7 rfl (by decide)
theorem en_X3_veneer_10 : SndE EE S mi_X3_veneer 10 (.inl (e_ldi 11 2)) := sn_iload_n dX3_veneer_10 rfl rfl
theorem en_X3_veneer_11 : SndE EE S mi_X3_veneer 11 (.inl (e_psh 12 (.int (1)))) := sn_iconst dX3_veneer_11 rfl rfl
theorem en_X3_veneer_12 : SndE EE S mi_X3_veneer 12 (.inl (e_ilt 15 49)) := sn_ilt dX3_veneer_12 rfl (by decide)
theorem en_X3_veneer_15 : SndE EE S mi_X3_veneer 15 (.inl (e_ldi 16 2)) := sn_iload_n dX3_veneer_15 rfl rfl
theorem en_X3_veneer_16 : SndE EE S mi_X3_veneer 16 (.inl (e_psh 18 (.int (90)))) := sn_bipush dX3_veneer_16 rfl rfl
theorem en_X3_veneer_18 : SndE EE S mi_X3_veneer 18 (.inl (e_igt 21 49)) := sn_igt dX3_veneer_18 rfl (by decide)
theorem en_X3_veneer_21 : SndE EE S mi_X3_veneer 21 (.inl (e_ldi 22 3)) := sn_iload_n dX3_veneer_21 rfl rfl
theorem en_X3_veneer_22 : SndE EE S mi_X3_veneer 22 (.inl (e_zlt 25 49)) := sn_zlt dX3_veneer_22 rfl (by decide)
theorem en_X3_veneer_25 : SndE EE S mi_X3_veneer 25 (.inl (e_ldi 26 3)) := sn_iload_n dX3_veneer_25 rfl rfl
theorem en_X3_veneer_26 : SndE EE S mi_X3_veneer 26 (.inl (e_psh 28 (.int (20)))) := sn_bipush dX3_veneer_26 rfl rfl
theorem en_X3_veneer_28 : SndE EE S mi_X3_veneer 28 (.inl (e_igt 31 49)) := sn_igt dX3_veneer_28 rfl (by decide)
theorem en_X3_veneer_31 : SndE EE S mi_X3_veneer 31 (.inl (e_ldi 32 3)) := sn_iload_n dX3_veneer_31 rfl rfl
theorem en_X3_veneer_32 : SndE EE S mi_X3_veneer 32 (.inl (e_ldi 33 2)) := sn_iload_n dX3_veneer_32 rfl rfl
theorem en_X3_veneer_33 : SndE EE S mi_X3_veneer 33 (.inl (e_igt 36 49)) := sn_igt dX3_veneer_33 rfl (by decide)
theorem en_X3_veneer_36 : SndE EE S mi_X3_veneer 36 (.inl (e_ldi 38 4)) := sn_iload dX3_veneer_36 rfl
theorem en_X3_veneer_38 : SndE EE S mi_X3_veneer 38 (.inl (e_zlt 41 49)) := sn_zlt dX3_veneer_38 rfl (by decide)
theorem en_X3_veneer_41 : SndE EE S mi_X3_veneer 41 (.inl (e_ldi 43 4)) := sn_iload dX3_veneer_41 rfl
theorem en_X3_veneer_43 : SndE EE S mi_X3_veneer 43 (.inl (e_psh 46 (.int (1000)))) := sn_sipush dX3_veneer_43 rfl rfl
theorem en_X3_veneer_46 : SndE EE S mi_X3_veneer 46 (.inl (e_ile 49 51)) := sn_ile dX3_veneer_46 rfl (by decide)
theorem en_X3_veneer_49 : SndE EE S mi_X3_veneer 49 (.inl (e_psh 50 (.int (0)))) := sn_iconst dX3_veneer_49 rfl rfl
theorem en_X3_veneer_50 : SndE EE S mi_X3_veneer 50 (.inr (.inr 2)) := ⟨dX3_veneer_50, rfl⟩
theorem en_X3_veneer_51 : SndE EE S mi_X3_veneer 51 (.inl (e_lda 52 0)) := sn_aload_n dX3_veneer_51 rfl rfl
theorem en_X3_veneer_52 : SndE EE S mi_X3_veneer 52 (.inl (e_gR 55 3 44)) := sn_gR dX3_veneer_52 rfl cl_3 (by decide) rfl (Or.inl q897) (Or.inl rfl)
theorem en_X3_veneer_55 : SndE EE S mi_X3_veneer 55 (.inl (e_ldi 56 1)) := sn_iload_n dX3_veneer_55 rfl rfl
theorem en_X3_veneer_56 : SndE EE S mi_X3_veneer 56 (.inl (e_ldi 57 2)) := sn_iload_n dX3_veneer_56 rfl rfl
theorem en_X3_veneer_57 : SndE EE S mi_X3_veneer 57 (.inl (e_iast 58)) := sn_iast dX3_veneer_57 rfl
theorem en_X3_veneer_58 : SndE EE S mi_X3_veneer 58 (.inl (e_lda 59 0)) := sn_aload_n dX3_veneer_58 rfl rfl
theorem en_X3_veneer_59 : SndE EE S mi_X3_veneer 59 (.inl (e_gR 62 3 45)) := sn_gR dX3_veneer_59 rfl cl_3 (by decide) rfl (Or.inl q898) (Or.inl rfl)
theorem en_X3_veneer_62 : SndE EE S mi_X3_veneer 62 (.inl (e_ldi 63 1)) := sn_iload_n dX3_veneer_62 rfl rfl
theorem en_X3_veneer_63 : SndE EE S mi_X3_veneer 63 (.inl (e_ldi 64 3)) := sn_iload_n dX3_veneer_63 rfl rfl
theorem en_X3_veneer_64 : SndE EE S mi_X3_veneer 64 (.inl (e_iast 65)) := sn_iast dX3_veneer_64 rfl
theorem en_X3_veneer_65 : SndE EE S mi_X3_veneer 65 (.inl (e_lda 66 0)) := sn_aload_n dX3_veneer_65 rfl rfl
theorem en_X3_veneer_66 : SndE EE S mi_X3_veneer 66 (.inl (e_gR 69 3 46)) := sn_gR dX3_veneer_66 rfl cl_3 (by decide) rfl (Or.inl q899) (Or.inl rfl)
theorem en_X3_veneer_69 : SndE EE S mi_X3_veneer 69 (.inl (e_ldi 70 1)) := sn_iload_n dX3_veneer_69 rfl rfl
theorem en_X3_veneer_70 : SndE EE S mi_X3_veneer 70 (.inl (e_ldi 72 4)) := sn_iload dX3_veneer_70 rfl
theorem en_X3_veneer_72 : SndE EE S mi_X3_veneer 72 (.inl (e_iast 73)) := sn_iast dX3_veneer_72 rfl
theorem en_X3_veneer_73 : SndE EE S mi_X3_veneer 73 (.inl (e_lda 74 0)) := sn_aload_n dX3_veneer_73 rfl rfl
theorem en_X3_veneer_74 : SndE EE S mi_X3_veneer 74 (.inl (e_gR 77 3 48)) := sn_gR dX3_veneer_74 rfl cl_3 (by decide) rfl (Or.inl q901) (Or.inl rfl)
theorem en_X3_veneer_77 : SndE EE S mi_X3_veneer 77 (.inl (e_ldi 78 1)) := sn_iload_n dX3_veneer_77 rfl rfl
theorem en_X3_veneer_78 : SndE EE S mi_X3_veneer 78 (.inl (e_ldi 80 5)) := sn_iload dX3_veneer_78 rfl
theorem en_X3_veneer_80 : SndE EE S mi_X3_veneer 80 (.inl (e_zast 81)) := sn_zast dX3_veneer_80 rfl
theorem en_X3_veneer_81 : SndE EE S mi_X3_veneer 81 (.inl (e_psh 82 (.int (1)))) := sn_iconst dX3_veneer_81 rfl rfl
theorem en_X3_veneer_82 : SndE EE S mi_X3_veneer 82 (.inr (.inr 2)) := ⟨dX3_veneer_82, rfl⟩
theorem sd_X3_veneer : ∀ pc x, cd_X3_veneer pc = some x → SndE EE S mi_X3_veneer pc x := (tN_ok (tN_ok (tN_ok (tN_ok (tN_ok (tL_ok en_X3_veneer_0) (tN_ok (tL_ok en_X3_veneer_1) (tL_ok en_X3_veneer_4))) (tN_ok (tL_ok en_X3_veneer_5) (tN_ok (tL_ok en_X3_veneer_7) (tL_ok en_X3_veneer_10)))) (tN_ok (tN_ok (tL_ok en_X3_veneer_11) (tN_ok (tL_ok en_X3_veneer_12) (tL_ok en_X3_veneer_15))) (tN_ok (tL_ok en_X3_veneer_16) (tN_ok (tL_ok en_X3_veneer_18) (tL_ok en_X3_veneer_21))))) (tN_ok (tN_ok (tN_ok (tL_ok en_X3_veneer_22) (tN_ok (tL_ok en_X3_veneer_25) (tL_ok en_X3_veneer_26))) (tN_ok (tL_ok en_X3_veneer_28) (tN_ok (tL_ok en_X3_veneer_31) (tL_ok en_X3_veneer_32)))) (tN_ok (tN_ok (tL_ok en_X3_veneer_33) (tN_ok (tL_ok en_X3_veneer_36) (tL_ok en_X3_veneer_38))) (tN_ok (tL_ok en_X3_veneer_41) (tN_ok (tL_ok en_X3_veneer_43) (tL_ok en_X3_veneer_46)))))) (tN_ok (tN_ok (tN_ok (tN_ok (tL_ok en_X3_veneer_49) (tN_ok (tL_ok en_X3_veneer_50) (tL_ok en_X3_veneer_51))) (tN_ok (tL_ok en_X3_veneer_52) (tN_ok (tL_ok en_X3_veneer_55) (tL_ok en_X3_veneer_56)))) (tN_ok (tN_ok (tL_ok en_X3_veneer_57) (tN_ok (tL_ok en_X3_veneer_58) (tL_ok en_X3_veneer_59))) (tN_ok (tL_ok en_X3_veneer_62) (tN_ok (tL_ok en_X3_veneer_63) (tL_ok en_X3_veneer_64))))) (tN_ok (tN_ok (tN_ok (tL_ok en_X3_veneer_65) (tN_ok (tL_ok en_X3_veneer_66) (tL_ok en_X3_veneer_69))) (tN_ok (tL_ok en_X3_veneer_70) (tN_ok (tL_ok en_X3_veneer_72) (tL_ok en_X3_veneer_73)))) (tN_ok (tN_ok (tL_ok en_X3_veneer_74) (tN_ok (tL_ok en_X3_veneer_77) (tL_ok en_X3_veneer_78))) (tN_ok (tL_ok en_X3_veneer_80) (tN_ok (tL_ok en_X3_veneer_81) (tL_ok en_X3_veneer_82)))))))
theorem en_X3_board_0 : SndE EE S mi_X3_board 0 (.inl (e_ldi 1 3)) := sn_iload_n dX3_board_0 rfl rfl
theorem en_X3_board_1 : SndE EE S mi_X3_board 1 (.inl (e_zlt 4 18)) := sn_zlt dX3_board_1 rfl (by decide)
theorem en_X3_board_4 : SndE EE S mi_X3_board 4 (.inl (e_ldi 5 3)) := sn_iload_n dX3_board_4 rfl rfl
theorem en_X3_board_5 : SndE EE S mi_X3_board 5 (.inl (e_psh 6 (.int (2)))) := sn_iconst dX3_board_5 rfl rfl
theorem en_X3_board_6 : SndE EE S mi_X3_board 6 (.inl (e_igt 9 18)) := sn_igt dX3_board_6 rfl (by decide)
theorem en_X3_board_9 : SndE EE S mi_X3_board 9 (.inl (e_lda 10 0)) := sn_aload_n dX3_board_9 rfl rfl
theorem en_X3_board_10 : SndE EE S mi_X3_board 10 (.inl (e_ldi 11 1)) := sn_iload_n dX3_board_10 rfl rfl
theorem en_X3_board_11 : SndE EE S mi_X3_board 11 (.inl (e_ldi 12 2)) := sn_iload_n dX3_board_11 rfl rfl
theorem en_X3_board_12 : SndE EE S mi_X3_board 12 (.inr (.inl (d_cls 3 91, 3, 3))) := sc_virt dX3_board_12 (rcv_cls (r := (RX3, TX3, 61)) rfl ⟨mo_X3_lays, nmo_X3_lays, q1216, q1218, qs47⟩)
theorem en_X3_board_15 : SndE EE S mi_X3_board 15 (.inl (e_zne 18 22)) := sn_zne dX3_board_15 rfl (by decide)
theorem en_X3_board_18 : SndE EE S mi_X3_board 18 (.inl (e_psh 19 (.int (-1)))) := sn_iconst dX3_board_18 rfl rfl
theorem en_X3_board_19 : SndE EE S mi_X3_board 19 (.inl (e_goto 28)) := sn_goto dX3_board_19 (by decide)
theorem en_X3_board_22 : SndE EE S mi_X3_board 22 (.inl (e_lda 23 0)) := sn_aload_n dX3_board_22 rfl rfl
theorem en_X3_board_23 : SndE EE S mi_X3_board 23 (.inl (e_ldi 24 1)) := sn_iload_n dX3_board_23 rfl rfl
theorem en_X3_board_24 : SndE EE S mi_X3_board 24 (.inl (e_ldi 25 3)) := sn_iload_n dX3_board_24 rfl rfl
theorem en_X3_board_25 : SndE EE S mi_X3_board 25 (.inr (.inl (d_cls 3 92, 3, 3))) := sc_virt dX3_board_25 (rcv_cls (r := (RX3, TX3, 61)) rfl ⟨mo_X3_sum, nmo_X3_sum, q1220, q1222, qs48⟩)
theorem en_X3_board_28 : SndE EE S mi_X3_board 28 (.inr (.inr 1)) := ⟨dX3_board_28, rfl⟩
theorem sd_X3_board : ∀ pc x, cd_X3_board pc = some x → SndE EE S mi_X3_board pc x := (tN_ok (tN_ok (tN_ok (tN_ok (tL_ok en_X3_board_0) (tL_ok en_X3_board_1)) (tN_ok (tL_ok en_X3_board_4) (tL_ok en_X3_board_5))) (tN_ok (tN_ok (tL_ok en_X3_board_6) (tL_ok en_X3_board_9)) (tN_ok (tL_ok en_X3_board_10) (tL_ok en_X3_board_11)))) (tN_ok (tN_ok (tN_ok (tL_ok en_X3_board_12) (tL_ok en_X3_board_15)) (tN_ok (tL_ok en_X3_board_18) (tL_ok en_X3_board_19))) (tN_ok (tN_ok (tL_ok en_X3_board_22) (tL_ok en_X3_board_23)) (tN_ok (tL_ok en_X3_board_24) (tN_ok (tL_ok en_X3_board_25) (tL_ok en_X3_board_28))))))
theorem en_X3_lays_0 : SndE EE S mi_X3_lays 0 (.inl (e_ldi 1 1)) := sn_iload_n dX3_lays_0 rfl rfl
theorem en_X3_lays_1 : SndE EE S mi_X3_lays 1 (.inl (e_psh 2 (.int (1)))) := sn_iconst dX3_lays_1 rfl rfl
theorem en_X3_lays_2 : SndE EE S mi_X3_lays 2 (.inl (e_ilt 5 23)) := sn_ilt dX3_lays_2 rfl (by decide)
theorem en_X3_lays_5 : SndE EE S mi_X3_lays 5 (.inl (e_ldi 6 1)) := sn_iload_n dX3_lays_5 rfl rfl
theorem en_X3_lays_6 : SndE EE S mi_X3_lays 6 (.inl (e_psh 8 (.int (9)))) := sn_bipush dX3_lays_6 rfl rfl
theorem en_X3_lays_8 : SndE EE S mi_X3_lays 8 (.inl (e_igt 11 23)) := sn_igt dX3_lays_8 rfl (by decide)
theorem en_X3_lays_11 : SndE EE S mi_X3_lays 11 (.inl (e_ldi 12 2)) := sn_iload_n dX3_lays_11 rfl rfl
theorem en_X3_lays_12 : SndE EE S mi_X3_lays 12 (.inl (e_zlt 15 23)) := sn_zlt dX3_lays_12 rfl (by decide)
theorem en_X3_lays_15 : SndE EE S mi_X3_lays 15 (.inl (e_ldi 16 2)) := sn_iload_n dX3_lays_15 rfl rfl
theorem en_X3_lays_16 : SndE EE S mi_X3_lays 16 (.inl (e_psh 17 (.int (3)))) := sn_iconst dX3_lays_16 rfl rfl
theorem en_X3_lays_17 : SndE EE S mi_X3_lays 17 (.inl (e_ldi 18 1)) := sn_iload_n dX3_lays_17 rfl rfl
theorem en_X3_lays_18 : SndE EE S mi_X3_lays 18 (.inl (e_bin 19 (fun x y => x * y))) := sn_imul dX3_lays_18 rfl
theorem en_X3_lays_19 : SndE EE S mi_X3_lays 19 (.inl (e_bin 20 (fun x y => x >>> (y &&& 31)))) := sn_ishr dX3_lays_19 rfl
theorem en_X3_lays_20 : SndE EE S mi_X3_lays 20 (.inl (e_zeq 23 25)) := sn_zeq dX3_lays_20 rfl (by decide)
theorem en_X3_lays_23 : SndE EE S mi_X3_lays 23 (.inl (e_psh 24 (.int (0)))) := sn_iconst dX3_lays_23 rfl rfl
theorem en_X3_lays_24 : SndE EE S mi_X3_lays 24 (.inr (.inr 2)) := ⟨dX3_lays_24, rfl⟩
theorem en_X3_lays_25 : SndE EE S mi_X3_lays 25 (.inl (e_psh 26 (.int (1)))) := sn_iconst dX3_lays_25 rfl rfl
theorem en_X3_lays_26 : SndE EE S mi_X3_lays 26 (.inl (e_sti 27 3)) := sn_istore_n dX3_lays_26 rfl rfl rfl (by decide)
theorem en_X3_lays_27 : SndE EE S mi_X3_lays 27 (.inl (e_psh 28 (.int (0)))) := sn_iconst dX3_lays_27 rfl rfl
theorem en_X3_lays_28 : SndE EE S mi_X3_lays 28 (.inl (e_sti 30 4)) := sn_istore dX3_lays_28 rfl rfl (by decide)
theorem en_X3_lays_30 : SndE EE S mi_X3_lays 30 (.inl (e_ldi 32 4)) := sn_iload dX3_lays_30 rfl
theorem en_X3_lays_32 : SndE EE S mi_X3_lays 32 (.inl (e_ldi 33 1)) := sn_iload_n dX3_lays_32 rfl rfl
theorem en_X3_lays_33 : SndE EE S mi_X3_lays 33 (.inl (e_ige 36 80)) := sn_ige dX3_lays_33 rfl (by decide)
theorem en_X3_lays_36 : SndE EE S mi_X3_lays 36 (.inl (e_lda 37 0)) := sn_aload_n dX3_lays_36 rfl rfl
theorem en_X3_lays_37 : SndE EE S mi_X3_lays 37 (.inl (e_gR 40 3 47)) := sn_gR dX3_lays_37 rfl cl_3 (by decide) rfl (Or.inl q900) (Or.inl rfl)
theorem en_X3_lays_40 : SndE EE S mi_X3_lays 40 (.inl (e_ldi 42 4)) := sn_iload dX3_lays_40 rfl
theorem en_X3_lays_42 : SndE EE S mi_X3_lays 42 (.inl (e_ldi 43 2)) := sn_iload_n dX3_lays_42 rfl rfl
theorem en_X3_lays_43 : SndE EE S mi_X3_lays 43 (.inl (e_psh 44 (.int (3)))) := sn_iconst dX3_lays_43 rfl rfl
theorem en_X3_lays_44 : SndE EE S mi_X3_lays 44 (.inl (e_ldi 46 4)) := sn_iload dX3_lays_44 rfl
theorem en_X3_lays_46 : SndE EE S mi_X3_lays 46 (.inl (e_bin 47 (fun x y => x * y))) := sn_imul dX3_lays_46 rfl
theorem en_X3_lays_47 : SndE EE S mi_X3_lays 47 (.inl (e_bin 48 (fun x y => x >>> (y &&& 31)))) := sn_ishr dX3_lays_47 rfl
theorem en_X3_lays_48 : SndE EE S mi_X3_lays 48 (.inl (e_psh 50 (.int (7)))) := sn_bipush dX3_lays_48 rfl rfl
theorem en_X3_lays_50 : SndE EE S mi_X3_lays 50 (.inl (e_bin 51 (fun x y => x &&& y))) := sn_iand dX3_lays_50 rfl
theorem en_X3_lays_51 : SndE EE S mi_X3_lays 51 (.inl (e_iast 52)) := sn_iast dX3_lays_51 rfl
theorem en_X3_lays_52 : SndE EE S mi_X3_lays 52 (.inl (e_ldi 53 3)) := sn_iload_n dX3_lays_52 rfl rfl
theorem en_X3_lays_53 : SndE EE S mi_X3_lays 53 (.inl (e_zeq 56 72)) := sn_zeq dX3_lays_53 rfl (by decide)
theorem en_X3_lays_56 : SndE EE S mi_X3_lays 56 (.inl (e_lda 57 0)) := sn_aload_n dX3_lays_56 rfl rfl
theorem en_X3_lays_57 : SndE EE S mi_X3_lays 57 (.inl (e_gR 60 3 47)) := sn_gR dX3_lays_57 rfl cl_3 (by decide) rfl (Or.inl q900) (Or.inl rfl)
theorem en_X3_lays_60 : SndE EE S mi_X3_lays 60 (.inl (e_ldi 62 4)) := sn_iload dX3_lays_60 rfl
theorem en_X3_lays_62 : SndE EE S mi_X3_lays 62 (.inl (e_ald 63 1)) := sn_iald dX3_lays_62 rfl
theorem en_X3_lays_63 : SndE EE S mi_X3_lays 63 (.inl (e_psh 65 (.int (6)))) := sn_bipush dX3_lays_63 rfl rfl
theorem en_X3_lays_65 : SndE EE S mi_X3_lays 65 (.inl (e_ige 68 72)) := sn_ige dX3_lays_65 rfl (by decide)
theorem en_X3_lays_68 : SndE EE S mi_X3_lays 68 (.inl (e_psh 69 (.int (1)))) := sn_iconst dX3_lays_68 rfl rfl
theorem en_X3_lays_69 : SndE EE S mi_X3_lays 69 (.inl (e_goto 73)) := sn_goto dX3_lays_69 (by decide)
theorem en_X3_lays_72 : SndE EE S mi_X3_lays 72 (.inl (e_psh 73 (.int (0)))) := sn_iconst dX3_lays_72 rfl rfl
theorem en_X3_lays_73 : SndE EE S mi_X3_lays 73 (.inl (e_sti 74 3)) := sn_istore_n dX3_lays_73 rfl rfl rfl (by decide)
theorem en_X3_lays_74 : SndE EE S mi_X3_lays 74 (.inl (e_inc 77 4 (1))) := sn_iinc dX3_lays_74 rfl rfl rfl (by decide)
theorem en_X3_lays_77 : SndE EE S mi_X3_lays 77 (.inl (e_goto 30)) := sn_goto dX3_lays_77 (by decide)
theorem en_X3_lays_80 : SndE EE S mi_X3_lays 80 (.inl (e_ldi 81 3)) := sn_iload_n dX3_lays_80 rfl rfl
theorem en_X3_lays_81 : SndE EE S mi_X3_lays 81 (.inr (.inr 2)) := ⟨dX3_lays_81, rfl⟩
theorem sd_X3_lays : ∀ pc x, cd_X3_lays pc = some x → SndE EE S mi_X3_lays pc x := (tN_ok (tN_ok (tN_ok (tN_ok (tN_ok (tL_ok en_X3_lays_0) (tN_ok (tL_ok en_X3_lays_1) (tL_ok en_X3_lays_2))) (tN_ok (tL_ok en_X3_lays_5) (tN_ok (tL_ok en_X3_lays_6) (tL_ok en_X3_lays_8)))) (tN_ok (tN_ok (tL_ok en_X3_lays_11) (tN_ok (tL_ok en_X3_lays_12) (tL_ok en_X3_lays_15))) (tN_ok (tL_ok en_X3_lays_16) (tN_ok (tL_ok en_X3_lays_17) (tL_ok en_X3_lays_18))))) (tN_ok (tN_ok (tN_ok (tL_ok en_X3_lays_19) (tN_ok (tL_ok en_X3_lays_20) (tL_ok en_X3_lays_23))) (tN_ok (tL_ok en_X3_lays_24) (tN_ok (tL_ok en_X3_lays_25) (tL_ok en_X3_lays_26)))) (tN_ok (tN_ok (tL_ok en_X3_lays_27) (tN_ok (tL_ok en_X3_lays_28) (tL_ok en_X3_lays_30))) (tN_ok (tN_ok (tL_ok en_X3_lays_32) (tL_ok en_X3_lays_33)) (tN_ok (tL_ok en_X3_lays_36) (tL_ok en_X3_lays_37)))))) (tN_ok (tN_ok (tN_ok (tN_ok (tL_ok en_X3_lays_40) (tN_ok (tL_ok en_X3_lays_42) (tL_ok en_X3_lays_43))) (tN_ok (tL_ok en_X3_lays_44) (tN_ok (tL_ok en_X3_lays_46) (tL_ok en_X3_lays_47)))) (tN_ok (tN_ok (tL_ok en_X3_lays_48) (tN_ok (tL_ok en_X3_lays_50) (tL_ok en_X3_lays_51))) (tN_ok (tL_ok en_X3_lays_52) (tN_ok (tL_ok en_X3_lays_53) (tL_ok en_X3_lays_56))))) (tN_ok (tN_ok (tN_ok (tL_ok en_X3_lays_57) (tN_ok (tL_ok en_X3_lays_60) (tL_ok en_X3_lays_62))) (tN_ok (tL_ok en_X3_lays_63) (tN_ok (tL_ok en_X3_lays_65) (tL_ok en_X3_lays_68)))) (tN_ok (tN_ok (tL_ok en_X3_lays_69) (tN_ok (tL_ok en_X3_lays_72) (tL_ok en_X3_lays_73))) (tN_ok (tN_ok (tL_ok en_X3_lays_74) (tL_ok en_X3_lays_77)) (tN_ok (tL_ok en_X3_lays_80) (tL_ok en_X3_lays_81)))))))
theorem en_X3_sum_0 : SndE EE S mi_X3_sum 0 (.inl (e_psh 1 (.int (0)))) := sn_iconst dX3_sum_0 rfl rfl
theorem en_X3_sum_1 : SndE EE S mi_X3_sum 1 (.inl (e_sti 2 3)) := sn_istore_n dX3_sum_1 rfl rfl rfl (by decide)
theorem en_X3_sum_2 : SndE EE S mi_X3_sum 2 (.inl (e_psh 3 (.int (0)))) := sn_iconst dX3_sum_2 rfl rfl
theorem en_X3_sum_3 : SndE EE S mi_X3_sum 3 (.inl (e_sti 5 4)) := sn_istore dX3_sum_3 rfl rfl (by decide)
theorem en_X3_sum_5 : SndE EE S mi_X3_sum 5 (.inl (e_ldi 7 4)) := sn_iload dX3_sum_5 rfl
theorem en_X3_sum_7 : SndE EE S mi_X3_sum 7 (.inl (e_ldi 8 1)) := sn_iload_n dX3_sum_7 rfl rfl
theorem en_X3_sum_8 : SndE EE S mi_X3_sum 8 (.inl (e_ige 11 85)) := sn_ige dX3_sum_8 rfl (by decide)
theorem en_X3_sum_11 : SndE EE S mi_X3_sum 11 (.inl (e_ldi 12 3)) := sn_iload_n dX3_sum_11 rfl rfl
theorem en_X3_sum_12 : SndE EE S mi_X3_sum 12 (.inl (e_ldi 13 2)) := sn_iload_n dX3_sum_12 rfl rfl
theorem en_X3_sum_13 : SndE EE S mi_X3_sum 13 (.inl (e_psh 14 (.int (2)))) := sn_iconst dX3_sum_13 rfl rfl
theorem en_X3_sum_14 : SndE EE S mi_X3_sum 14 (.inl (e_ine 17 32)) := sn_ine dX3_sum_14 rfl (by decide)
theorem en_X3_sum_17 : SndE EE S mi_X3_sum 17 (.inl (e_lda 18 0)) := sn_aload_n dX3_sum_17 rfl rfl
theorem en_X3_sum_18 : SndE EE S mi_X3_sum 18 (.inl (e_gR 21 3 46)) := sn_gR dX3_sum_18 rfl cl_3 (by decide) rfl (Or.inl q899) (Or.inl rfl)
theorem en_X3_sum_21 : SndE EE S mi_X3_sum 21 (.inl (e_lda 22 0)) := sn_aload_n dX3_sum_21 rfl rfl
theorem en_X3_sum_22 : SndE EE S mi_X3_sum 22 (.inl (e_gR 25 3 47)) := sn_gR dX3_sum_22 rfl cl_3 (by decide) rfl (Or.inl q900) (Or.inl rfl)
theorem en_X3_sum_25 : SndE EE S mi_X3_sum 25 (.inl (e_ldi 27 4)) := sn_iload dX3_sum_25 rfl
theorem en_X3_sum_27 : SndE EE S mi_X3_sum 27 (.inl (e_ald 28 1)) := sn_iald dX3_sum_27 rfl
theorem en_X3_sum_28 : SndE EE S mi_X3_sum 28 (.inl (e_ald 29 1)) := sn_iald dX3_sum_28 rfl
theorem en_X3_sum_29 : SndE EE S mi_X3_sum 29 (.inl (e_goto 77)) := sn_goto dX3_sum_29 (by decide)
theorem en_X3_sum_32 : SndE EE S mi_X3_sum 32 (.inl (e_lda 33 0)) := sn_aload_n dX3_sum_32 rfl rfl
theorem en_X3_sum_33 : SndE EE S mi_X3_sum 33 (.inl (e_gR 36 3 44)) := sn_gR dX3_sum_33 rfl cl_3 (by decide) rfl (Or.inl q897) (Or.inl rfl)
theorem en_X3_sum_36 : SndE EE S mi_X3_sum 36 (.inl (e_lda 37 0)) := sn_aload_n dX3_sum_36 rfl rfl
theorem en_X3_sum_37 : SndE EE S mi_X3_sum 37 (.inl (e_gR 40 3 47)) := sn_gR dX3_sum_37 rfl cl_3 (by decide) rfl (Or.inl q900) (Or.inl rfl)
theorem en_X3_sum_40 : SndE EE S mi_X3_sum 40 (.inl (e_ldi 42 4)) := sn_iload dX3_sum_40 rfl
theorem en_X3_sum_42 : SndE EE S mi_X3_sum 42 (.inl (e_ald 43 1)) := sn_iald dX3_sum_42 rfl
theorem en_X3_sum_43 : SndE EE S mi_X3_sum 43 (.inl (e_ald 44 1)) := sn_iald dX3_sum_43 rfl
theorem en_X3_sum_44 : SndE EE S mi_X3_sum 44 (.inl (e_ldi 45 2)) := sn_iload_n dX3_sum_44 rfl rfl
theorem en_X3_sum_45 : SndE EE S mi_X3_sum 45 (.inl (e_zne 48 64)) := sn_zne dX3_sum_45 rfl (by decide)
theorem en_X3_sum_48 : SndE EE S mi_X3_sum 48 (.inl (e_lda 49 0)) := sn_aload_n dX3_sum_48 rfl rfl
theorem en_X3_sum_49 : SndE EE S mi_X3_sum 49 (.inl (e_gR 52 3 45)) := sn_gR dX3_sum_49 rfl cl_3 (by decide) rfl (Or.inl q898) (Or.inl rfl)
theorem en_X3_sum_52 : SndE EE S mi_X3_sum 52 (.inl (e_lda 53 0)) := sn_aload_n dX3_sum_52 rfl rfl
theorem en_X3_sum_53 : SndE EE S mi_X3_sum 53 (.inl (e_gR 56 3 47)) := sn_gR dX3_sum_53 rfl cl_3 (by decide) rfl (Or.inl q900) (Or.inl rfl)
theorem en_X3_sum_56 : SndE EE S mi_X3_sum 56 (.inl (e_ldi 58 4)) := sn_iload dX3_sum_56 rfl
theorem en_X3_sum_58 : SndE EE S mi_X3_sum 58 (.inl (e_ald 59 1)) := sn_iald dX3_sum_58 rfl
theorem en_X3_sum_59 : SndE EE S mi_X3_sum 59 (.inl (e_ald 60 1)) := sn_iald dX3_sum_59 rfl
theorem en_X3_sum_60 : SndE EE S mi_X3_sum 60 (.inl (e_un 61 (fun x => -x))) := sn_ineg dX3_sum_60 rfl
theorem en_X3_sum_61 : SndE EE S mi_X3_sum 61 (.inl (e_goto 76)) := sn_goto dX3_sum_61 (by decide)
theorem en_X3_sum_64 : SndE EE S mi_X3_sum 64 (.inl (e_lda 65 0)) := sn_aload_n dX3_sum_64 rfl rfl
theorem en_X3_sum_65 : SndE EE S mi_X3_sum 65 (.inl (e_gR 68 3 45)) := sn_gR dX3_sum_65 rfl cl_3 (by decide) rfl (Or.inl q898) (Or.inl rfl)
theorem en_X3_sum_68 : SndE EE S mi_X3_sum 68 (.inl (e_lda 69 0)) := sn_aload_n dX3_sum_68 rfl rfl
theorem en_X3_sum_69 : SndE EE S mi_X3_sum 69 (.inl (e_gR 72 3 47)) := sn_gR dX3_sum_69 rfl cl_3 (by decide) rfl (Or.inl q900) (Or.inl rfl)
theorem en_X3_sum_72 : SndE EE S mi_X3_sum 72 (.inl (e_ldi 74 4)) := sn_iload dX3_sum_72 rfl
theorem en_X3_sum_74 : SndE EE S mi_X3_sum 74 (.inl (e_ald 75 1)) := sn_iald dX3_sum_74 rfl
theorem en_X3_sum_75 : SndE EE S mi_X3_sum 75 (.inl (e_ald 76 1)) := sn_iald dX3_sum_75 rfl
theorem en_X3_sum_76 : SndE EE S mi_X3_sum 76 (.inl (e_bin 77 (fun x y => x + y))) := sn_iadd dX3_sum_76 rfl
theorem en_X3_sum_77 : SndE EE S mi_X3_sum 77 (.inl (e_bin 78 (fun x y => x + y))) := sn_iadd dX3_sum_77 rfl
theorem en_X3_sum_78 : SndE EE S mi_X3_sum 78 (.inl (e_sti 79 3)) := sn_istore_n dX3_sum_78 rfl rfl rfl (by decide)
theorem en_X3_sum_79 : SndE EE S mi_X3_sum 79 (.inl (e_inc 82 4 (1))) := sn_iinc dX3_sum_79 rfl rfl rfl (by decide)
theorem en_X3_sum_82 : SndE EE S mi_X3_sum 82 (.inl (e_goto 5)) := sn_goto dX3_sum_82 (by decide)
theorem en_X3_sum_85 : SndE EE S mi_X3_sum 85 (.inl (e_ldi 86 3)) := sn_iload_n dX3_sum_85 rfl rfl
theorem en_X3_sum_86 : SndE EE S mi_X3_sum 86 (.inr (.inr 1)) := ⟨dX3_sum_86, rfl⟩
theorem sd_X3_sum : ∀ pc x, cd_X3_sum pc = some x → SndE EE S mi_X3_sum pc x := (tN_ok (tN_ok (tN_ok (tN_ok (tN_ok (tL_ok en_X3_sum_0) (tN_ok (tL_ok en_X3_sum_1) (tL_ok en_X3_sum_2))) (tN_ok (tL_ok en_X3_sum_3) (tN_ok (tL_ok en_X3_sum_5) (tL_ok en_X3_sum_7)))) (tN_ok (tN_ok (tL_ok en_X3_sum_8) (tN_ok (tL_ok en_X3_sum_11) (tL_ok en_X3_sum_12))) (tN_ok (tL_ok en_X3_sum_13) (tN_ok (tL_ok en_X3_sum_14) (tL_ok en_X3_sum_17))))) (tN_ok (tN_ok (tN_ok (tL_ok en_X3_sum_18) (tN_ok (tL_ok en_X3_sum_21) (tL_ok en_X3_sum_22))) (tN_ok (tL_ok en_X3_sum_25) (tN_ok (tL_ok en_X3_sum_27) (tL_ok en_X3_sum_28)))) (tN_ok (tN_ok (tL_ok en_X3_sum_29) (tN_ok (tL_ok en_X3_sum_32) (tL_ok en_X3_sum_33))) (tN_ok (tN_ok (tL_ok en_X3_sum_36) (tL_ok en_X3_sum_37)) (tN_ok (tL_ok en_X3_sum_40) (tL_ok en_X3_sum_42)))))) (tN_ok (tN_ok (tN_ok (tN_ok (tL_ok en_X3_sum_43) (tN_ok (tL_ok en_X3_sum_44) (tL_ok en_X3_sum_45))) (tN_ok (tL_ok en_X3_sum_48) (tN_ok (tL_ok en_X3_sum_49) (tL_ok en_X3_sum_52)))) (tN_ok (tN_ok (tL_ok en_X3_sum_53) (tN_ok (tL_ok en_X3_sum_56) (tL_ok en_X3_sum_58))) (tN_ok (tN_ok (tL_ok en_X3_sum_59) (tL_ok en_X3_sum_60)) (tN_ok (tL_ok en_X3_sum_61) (tL_ok en_X3_sum_64))))) (tN_ok (tN_ok (tN_ok (tL_ok en_X3_sum_65) (tN_ok (tL_ok en_X3_sum_68) (tL_ok en_X3_sum_69))) (tN_ok (tL_ok en_X3_sum_72) (tN_ok (tL_ok en_X3_sum_74) (tL_ok en_X3_sum_75)))) (tN_ok (tN_ok (tL_ok en_X3_sum_76) (tN_ok (tL_ok en_X3_sum_77) (tL_ok en_X3_sum_78))) (tN_ok (tN_ok (tL_ok en_X3_sum_79) (tL_ok en_X3_sum_82)) (tN_ok (tL_ok en_X3_sum_85) (tL_ok en_X3_sum_86)))))))
theorem en_X3_warp_0 : SndE EE S mi_X3_warp 0 (.inl (e_lda 1 0)) := sn_aload_n dX3_warp_0 rfl rfl
theorem en_X3_warp_1 : SndE EE S mi_X3_warp 1 (.inl (e_ldi 2 1)) := sn_iload_n dX3_warp_1 rfl rfl
theorem en_X3_warp_2 : SndE EE S mi_X3_warp 2 (.inl (e_ldi 3 2)) := sn_iload_n dX3_warp_2 rfl rfl
theorem en_X3_warp_3 : SndE EE S mi_X3_warp 3 (.inr (.inl (d_cls 3 91, 3, 3))) := sc_virt dX3_warp_3 (rcv_cls (r := (RX3, TX3, 61)) rfl ⟨mo_X3_lays, nmo_X3_lays, q1216, q1218, qs47⟩)
theorem en_X3_warp_6 : SndE EE S mi_X3_warp 6 (.inl (e_zne 9 13)) := sn_zne dX3_warp_6 rfl (by decide)
theorem en_X3_warp_9 : SndE EE S mi_X3_warp 9 (.inl (e_psh 12 (.int (-2000000)))) := sn_ldcw dX3_warp_9 rfl q1228
theorem en_X3_warp_12 : SndE EE S mi_X3_warp 12 (.inr (.inr 1)) := ⟨dX3_warp_12, rfl⟩
theorem en_X3_warp_13 : SndE EE S mi_X3_warp 13 (.inl (e_psh 14 (.int (0)))) := sn_iconst dX3_warp_13 rfl rfl
theorem en_X3_warp_14 : SndE EE S mi_X3_warp 14 (.inl (e_sti 15 3)) := sn_istore_n dX3_warp_14 rfl rfl rfl (by decide)
theorem en_X3_warp_15 : SndE EE S mi_X3_warp 15 (.inl (e_psh 16 (.int (0)))) := sn_iconst dX3_warp_15 rfl rfl
theorem en_X3_warp_16 : SndE EE S mi_X3_warp 16 (.inl (e_sti 18 4)) := sn_istore dX3_warp_16 rfl rfl (by decide)
theorem en_X3_warp_18 : SndE EE S mi_X3_warp 18 (.inl (e_ldi 20 4)) := sn_iload dX3_warp_18 rfl
theorem en_X3_warp_20 : SndE EE S mi_X3_warp 20 (.inl (e_ldi 21 1)) := sn_iload_n dX3_warp_20 rfl rfl
theorem en_X3_warp_21 : SndE EE S mi_X3_warp 21 (.inl (e_ige 24 130)) := sn_ige dX3_warp_21 rfl (by decide)
theorem en_X3_warp_24 : SndE EE S mi_X3_warp 24 (.inl (e_psh 25 (.int (0)))) := sn_iconst dX3_warp_24 rfl rfl
theorem en_X3_warp_25 : SndE EE S mi_X3_warp 25 (.inl (e_sti 27 5)) := sn_istore dX3_warp_25 rfl rfl (by decide)
theorem en_X3_warp_27 : SndE EE S mi_X3_warp 27 (.inl (e_psh 28 (.int (0)))) := sn_iconst dX3_warp_27 rfl rfl
theorem en_X3_warp_28 : SndE EE S mi_X3_warp 28 (.inl (e_sti 30 6)) := sn_istore dX3_warp_28 rfl rfl (by decide)
theorem en_X3_warp_30 : SndE EE S mi_X3_warp 30 (.inl (e_ldi 32 6)) := sn_iload dX3_warp_30 rfl
theorem en_X3_warp_32 : SndE EE S mi_X3_warp 32 (.inl (e_ldi 33 1)) := sn_iload_n dX3_warp_32 rfl rfl
theorem en_X3_warp_33 : SndE EE S mi_X3_warp 33 (.inl (e_ige 36 93)) := sn_ige dX3_warp_33 rfl (by decide)
theorem en_X3_warp_36 : SndE EE S mi_X3_warp 36 (.inl (e_ldi 38 5)) := sn_iload dX3_warp_36 rfl
theorem en_X3_warp_38 : SndE EE S mi_X3_warp 38 (.inl (e_ldi 40 6)) := sn_iload dX3_warp_38 rfl
theorem en_X3_warp_40 : SndE EE S mi_X3_warp 40 (.inl (e_ldi 42 4)) := sn_iload dX3_warp_40 rfl
theorem en_X3_warp_42 : SndE EE S mi_X3_warp 42 (.inl (e_ige 45 60)) := sn_ige dX3_warp_42 rfl (by decide)
theorem en_X3_warp_45 : SndE EE S mi_X3_warp 45 (.inl (e_lda 46 0)) := sn_aload_n dX3_warp_45 rfl rfl
theorem en_X3_warp_46 : SndE EE S mi_X3_warp 46 (.inl (e_gR 49 3 44)) := sn_gR dX3_warp_46 rfl cl_3 (by decide) rfl (Or.inl q897) (Or.inl rfl)
theorem en_X3_warp_49 : SndE EE S mi_X3_warp 49 (.inl (e_lda 50 0)) := sn_aload_n dX3_warp_49 rfl rfl
theorem en_X3_warp_50 : SndE EE S mi_X3_warp 50 (.inl (e_gR 53 3 47)) := sn_gR dX3_warp_50 rfl cl_3 (by decide) rfl (Or.inl q900) (Or.inl rfl)
theorem en_X3_warp_53 : SndE EE S mi_X3_warp 53 (.inl (e_ldi 55 6)) := sn_iload dX3_warp_53 rfl
theorem en_X3_warp_55 : SndE EE S mi_X3_warp 55 (.inl (e_ald 56 1)) := sn_iald dX3_warp_55 rfl
theorem en_X3_warp_56 : SndE EE S mi_X3_warp 56 (.inl (e_ald 57 1)) := sn_iald dX3_warp_56 rfl
theorem en_X3_warp_57 : SndE EE S mi_X3_warp 57 (.inl (e_goto 84)) := sn_goto dX3_warp_57 (by decide)
theorem en_X3_warp_60 : SndE EE S mi_X3_warp 60 (.inl (e_ldi 62 6)) := sn_iload dX3_warp_60 rfl
theorem en_X3_warp_62 : SndE EE S mi_X3_warp 62 (.inl (e_ldi 64 4)) := sn_iload dX3_warp_62 rfl
theorem en_X3_warp_64 : SndE EE S mi_X3_warp 64 (.inl (e_ile 67 83)) := sn_ile dX3_warp_64 rfl (by decide)
theorem en_X3_warp_67 : SndE EE S mi_X3_warp 67 (.inl (e_lda 68 0)) := sn_aload_n dX3_warp_67 rfl rfl
theorem en_X3_warp_68 : SndE EE S mi_X3_warp 68 (.inl (e_gR 71 3 44)) := sn_gR dX3_warp_68 rfl cl_3 (by decide) rfl (Or.inl q897) (Or.inl rfl)
theorem en_X3_warp_71 : SndE EE S mi_X3_warp 71 (.inl (e_lda 72 0)) := sn_aload_n dX3_warp_71 rfl rfl
theorem en_X3_warp_72 : SndE EE S mi_X3_warp 72 (.inl (e_gR 75 3 47)) := sn_gR dX3_warp_72 rfl cl_3 (by decide) rfl (Or.inl q900) (Or.inl rfl)
theorem en_X3_warp_75 : SndE EE S mi_X3_warp 75 (.inl (e_ldi 77 6)) := sn_iload dX3_warp_75 rfl
theorem en_X3_warp_77 : SndE EE S mi_X3_warp 77 (.inl (e_ald 78 1)) := sn_iald dX3_warp_77 rfl
theorem en_X3_warp_78 : SndE EE S mi_X3_warp 78 (.inl (e_ald 79 1)) := sn_iald dX3_warp_78 rfl
theorem en_X3_warp_79 : SndE EE S mi_X3_warp 79 (.inl (e_un 80 (fun x => -x))) := sn_ineg dX3_warp_79 rfl
theorem en_X3_warp_80 : SndE EE S mi_X3_warp 80 (.inl (e_goto 84)) := sn_goto dX3_warp_80 (by decide)
theorem en_X3_warp_83 : SndE EE S mi_X3_warp 83 (.inl (e_psh 84 (.int (0)))) := sn_iconst dX3_warp_83 rfl rfl
theorem en_X3_warp_84 : SndE EE S mi_X3_warp 84 (.inl (e_bin 85 (fun x y => x + y))) := sn_iadd dX3_warp_84 rfl
theorem en_X3_warp_85 : SndE EE S mi_X3_warp 85 (.inl (e_sti 87 5)) := sn_istore dX3_warp_85 rfl rfl (by decide)
theorem en_X3_warp_87 : SndE EE S mi_X3_warp 87 (.inl (e_inc 90 6 (1))) := sn_iinc dX3_warp_87 rfl rfl rfl (by decide)
theorem en_X3_warp_90 : SndE EE S mi_X3_warp 90 (.inl (e_goto 30)) := sn_goto dX3_warp_90 (by decide)
theorem en_X3_warp_93 : SndE EE S mi_X3_warp 93 (.inl (e_ldi 94 3)) := sn_iload_n dX3_warp_93 rfl rfl
theorem en_X3_warp_94 : SndE EE S mi_X3_warp 94 (.inl (e_ldi 96 4)) := sn_iload dX3_warp_94 rfl
theorem en_X3_warp_96 : SndE EE S mi_X3_warp 96 (.inl (e_psh 97 (.int (2)))) := sn_iconst dX3_warp_96 rfl rfl
theorem en_X3_warp_97 : SndE EE S mi_X3_warp 97 (.inl (e_rem 98)) := sn_irem dX3_warp_97 rfl
theorem en_X3_warp_98 : SndE EE S mi_X3_warp 98 (.inl (e_zne 101 105)) := sn_zne dX3_warp_98 rfl (by decide)
theorem en_X3_warp_101 : SndE EE S mi_X3_warp 101 (.inl (e_psh 102 (.int (1)))) := sn_iconst dX3_warp_101 rfl rfl
theorem en_X3_warp_102 : SndE EE S mi_X3_warp 102 (.inl (e_goto 106)) := sn_goto dX3_warp_102 (by decide)
theorem en_X3_warp_105 : SndE EE S mi_X3_warp 105 (.inl (e_psh 106 (.int (-1)))) := sn_iconst dX3_warp_105 rfl rfl
theorem en_X3_warp_106 : SndE EE S mi_X3_warp 106 (.inl (e_lda 107 0)) := sn_aload_n dX3_warp_106 rfl rfl
theorem en_X3_warp_107 : SndE EE S mi_X3_warp 107 (.inl (e_gR 110 3 44)) := sn_gR dX3_warp_107 rfl cl_3 (by decide) rfl (Or.inl q897) (Or.inl rfl)
theorem en_X3_warp_110 : SndE EE S mi_X3_warp 110 (.inl (e_lda 111 0)) := sn_aload_n dX3_warp_110 rfl rfl
theorem en_X3_warp_111 : SndE EE S mi_X3_warp 111 (.inl (e_gR 114 3 47)) := sn_gR dX3_warp_111 rfl cl_3 (by decide) rfl (Or.inl q900) (Or.inl rfl)
theorem en_X3_warp_114 : SndE EE S mi_X3_warp 114 (.inl (e_ldi 116 4)) := sn_iload dX3_warp_114 rfl
theorem en_X3_warp_116 : SndE EE S mi_X3_warp 116 (.inl (e_ald 117 1)) := sn_iald dX3_warp_116 rfl
theorem en_X3_warp_117 : SndE EE S mi_X3_warp 117 (.inl (e_ald 118 1)) := sn_iald dX3_warp_117 rfl
theorem en_X3_warp_118 : SndE EE S mi_X3_warp 118 (.inl (e_bin 119 (fun x y => x * y))) := sn_imul dX3_warp_118 rfl
theorem en_X3_warp_119 : SndE EE S mi_X3_warp 119 (.inl (e_ldi 121 5)) := sn_iload dX3_warp_119 rfl
theorem en_X3_warp_121 : SndE EE S mi_X3_warp 121 (.inl (e_bin 122 (fun x y => x * y))) := sn_imul dX3_warp_121 rfl
theorem en_X3_warp_122 : SndE EE S mi_X3_warp 122 (.inl (e_bin 123 (fun x y => x + y))) := sn_iadd dX3_warp_122 rfl
theorem en_X3_warp_123 : SndE EE S mi_X3_warp 123 (.inl (e_sti 124 3)) := sn_istore_n dX3_warp_123 rfl rfl rfl (by decide)
theorem en_X3_warp_124 : SndE EE S mi_X3_warp 124 (.inl (e_inc 127 4 (1))) := sn_iinc dX3_warp_124 rfl rfl rfl (by decide)
theorem en_X3_warp_127 : SndE EE S mi_X3_warp 127 (.inl (e_goto 18)) := sn_goto dX3_warp_127 (by decide)
theorem en_X3_warp_130 : SndE EE S mi_X3_warp 130 (.inl (e_ldi 131 3)) := sn_iload_n dX3_warp_130 rfl rfl
theorem en_X3_warp_131 : SndE EE S mi_X3_warp 131 (.inr (.inr 1)) := ⟨dX3_warp_131, rfl⟩
theorem sd_X3_warp : ∀ pc x, cd_X3_warp pc = some x → SndE EE S mi_X3_warp pc x := (tN_ok (tN_ok (tN_ok (tN_ok (tN_ok (tN_ok (tL_ok en_X3_warp_0) (tL_ok en_X3_warp_1)) (tN_ok (tL_ok en_X3_warp_2) (tL_ok en_X3_warp_3))) (tN_ok (tN_ok (tL_ok en_X3_warp_6) (tL_ok en_X3_warp_9)) (tN_ok (tL_ok en_X3_warp_12) (tN_ok (tL_ok en_X3_warp_13) (tL_ok en_X3_warp_14))))) (tN_ok (tN_ok (tN_ok (tL_ok en_X3_warp_15) (tL_ok en_X3_warp_16)) (tN_ok (tL_ok en_X3_warp_18) (tL_ok en_X3_warp_20))) (tN_ok (tN_ok (tL_ok en_X3_warp_21) (tL_ok en_X3_warp_24)) (tN_ok (tL_ok en_X3_warp_25) (tN_ok (tL_ok en_X3_warp_27) (tL_ok en_X3_warp_28)))))) (tN_ok (tN_ok (tN_ok (tN_ok (tL_ok en_X3_warp_30) (tL_ok en_X3_warp_32)) (tN_ok (tL_ok en_X3_warp_33) (tL_ok en_X3_warp_36))) (tN_ok (tN_ok (tL_ok en_X3_warp_38) (tL_ok en_X3_warp_40)) (tN_ok (tL_ok en_X3_warp_42) (tN_ok (tL_ok en_X3_warp_45) (tL_ok en_X3_warp_46))))) (tN_ok (tN_ok (tN_ok (tL_ok en_X3_warp_49) (tL_ok en_X3_warp_50)) (tN_ok (tL_ok en_X3_warp_53) (tN_ok (tL_ok en_X3_warp_55) (tL_ok en_X3_warp_56)))) (tN_ok (tN_ok (tL_ok en_X3_warp_57) (tL_ok en_X3_warp_60)) (tN_ok (tL_ok en_X3_warp_62) (tN_ok (tL_ok en_X3_warp_64) (tL_ok en_X3_warp_67))))))) (tN_ok (tN_ok (tN_ok (tN_ok (tN_ok (tL_ok en_X3_warp_68) (tL_ok en_X3_warp_71)) (tN_ok (tL_ok en_X3_warp_72) (tL_ok en_X3_warp_75))) (tN_ok (tN_ok (tL_ok en_X3_warp_77) (tL_ok en_X3_warp_78)) (tN_ok (tL_ok en_X3_warp_79) (tN_ok (tL_ok en_X3_warp_80) (tL_ok en_X3_warp_83))))) (tN_ok (tN_ok (tN_ok (tL_ok en_X3_warp_84) (tL_ok en_X3_warp_85)) (tN_ok (tL_ok en_X3_warp_87) (tL_ok en_X3_warp_90))) (tN_ok (tN_ok (tL_ok en_X3_warp_93) (tL_ok en_X3_warp_94)) (tN_ok (tL_ok en_X3_warp_96) (tN_ok (tL_ok en_X3_warp_97) (tL_ok en_X3_warp_98)))))) (tN_ok (tN_ok (tN_ok (tN_ok (tL_ok en_X3_warp_101) (tL_ok en_X3_warp_102)) (tN_ok (tL_ok en_X3_warp_105) (tL_ok en_X3_warp_106))) (tN_ok (tN_ok (tL_ok en_X3_warp_107) (tL_ok en_X3_warp_110)) (tN_ok (tL_ok en_X3_warp_111) (tN_ok (tL_ok en_X3_warp_114) (tL_ok en_X3_warp_116))))) (tN_ok (tN_ok (tN_ok (tL_ok en_X3_warp_117) (tL_ok en_X3_warp_118)) (tN_ok (tL_ok en_X3_warp_119) (tN_ok (tL_ok en_X3_warp_121) (tL_ok en_X3_warp_122)))) (tN_ok (tN_ok (tL_ok en_X3_warp_123) (tL_ok en_X3_warp_124)) (tN_ok (tL_ok en_X3_warp_127) (tN_ok (tL_ok en_X3_warp_130) (tL_ok en_X3_warp_131))))))))
theorem en_X3_best_0 : SndE EE S mi_X3_best 0 (.inl (e_ldi 1 1)) := sn_iload_n dX3_best_0 rfl rfl
theorem en_X3_best_1 : SndE EE S mi_X3_best 1 (.inl (e_psh 2 (.int (1)))) := sn_iconst dX3_best_1 rfl rfl
theorem en_X3_best_2 : SndE EE S mi_X3_best 2 (.inl (e_ilt 5 17)) := sn_ilt dX3_best_2 rfl (by decide)
theorem en_X3_best_5 : SndE EE S mi_X3_best 5 (.inl (e_ldi 6 1)) := sn_iload_n dX3_best_5 rfl rfl
theorem en_X3_best_6 : SndE EE S mi_X3_best 6 (.inl (e_psh 8 (.int (9)))) := sn_bipush dX3_best_6 rfl rfl
theorem en_X3_best_8 : SndE EE S mi_X3_best 8 (.inl (e_igt 11 17)) := sn_igt dX3_best_8 rfl (by decide)
theorem en_X3_best_11 : SndE EE S mi_X3_best 11 (.inl (e_ldi 12 1)) := sn_iload_n dX3_best_11 rfl rfl
theorem en_X3_best_12 : SndE EE S mi_X3_best 12 (.inl (e_psh 13 (.int (2)))) := sn_iconst dX3_best_12 rfl rfl
theorem en_X3_best_13 : SndE EE S mi_X3_best 13 (.inl (e_rem 14)) := sn_irem dX3_best_13 rfl
theorem en_X3_best_14 : SndE EE S mi_X3_best 14 (.inl (e_zne 17 19)) := sn_zne dX3_best_14 rfl (by decide)
theorem en_X3_best_17 : SndE EE S mi_X3_best 17 (.inl (e_psh 18 (.int (-1)))) := sn_iconst dX3_best_17 rfl rfl
theorem en_X3_best_18 : SndE EE S mi_X3_best 18 (.inr (.inr 1)) := ⟨dX3_best_18, rfl⟩
theorem en_X3_best_19 : SndE EE S mi_X3_best 19 (.inl (e_ldi 20 1)) := sn_iload_n dX3_best_19 rfl rfl
theorem en_X3_best_20 : SndE EE S mi_X3_best 20 (.inl (e_psh 21 (.int (1)))) := sn_iconst dX3_best_20 rfl rfl
theorem en_X3_best_21 : SndE EE S mi_X3_best 21 (.inl (e_bin 22 (fun x y => x + y))) := sn_iadd dX3_best_21 rfl
theorem en_X3_best_22 : SndE EE S mi_X3_best 22 (.inl (e_psh 23 (.int (2)))) := sn_iconst dX3_best_22 rfl rfl
theorem en_X3_best_23 : SndE EE S mi_X3_best 23 (.inl (e_div 24)) := sn_idiv dX3_best_23 rfl
theorem en_X3_best_24 : SndE EE S mi_X3_best 24 (.inl (e_sti 26 4)) := sn_istore dX3_best_24 rfl rfl (by decide)
theorem en_X3_best_26 : SndE EE S mi_X3_best 26 (.inl (e_psh 27 (.int (1)))) := sn_iconst dX3_best_26 rfl rfl
theorem en_X3_best_27 : SndE EE S mi_X3_best 27 (.inl (e_sti 29 5)) := sn_istore dX3_best_27 rfl rfl (by decide)
theorem en_X3_best_29 : SndE EE S mi_X3_best 29 (.inl (e_psh 30 (.int (0)))) := sn_iconst dX3_best_29 rfl rfl
theorem en_X3_best_30 : SndE EE S mi_X3_best 30 (.inl (e_sti 32 6)) := sn_istore dX3_best_30 rfl rfl (by decide)
theorem en_X3_best_32 : SndE EE S mi_X3_best 32 (.inl (e_ldi 34 6)) := sn_iload dX3_best_32 rfl
theorem en_X3_best_34 : SndE EE S mi_X3_best 34 (.inl (e_ldi 36 4)) := sn_iload dX3_best_34 rfl
theorem en_X3_best_36 : SndE EE S mi_X3_best 36 (.inl (e_ige 39 52)) := sn_ige dX3_best_36 rfl (by decide)
theorem en_X3_best_39 : SndE EE S mi_X3_best 39 (.inl (e_ldi 41 5)) := sn_iload dX3_best_39 rfl
theorem en_X3_best_41 : SndE EE S mi_X3_best 41 (.inl (e_psh 43 (.int (6)))) := sn_bipush dX3_best_41 rfl rfl
theorem en_X3_best_43 : SndE EE S mi_X3_best 43 (.inl (e_bin 44 (fun x y => x * y))) := sn_imul dX3_best_43 rfl
theorem en_X3_best_44 : SndE EE S mi_X3_best 44 (.inl (e_sti 46 5)) := sn_istore dX3_best_44 rfl rfl (by decide)
theorem en_X3_best_46 : SndE EE S mi_X3_best 46 (.inl (e_inc 49 6 (1))) := sn_iinc dX3_best_46 rfl rfl rfl (by decide)
theorem en_X3_best_49 : SndE EE S mi_X3_best 49 (.inl (e_goto 32)) := sn_goto dX3_best_49 (by decide)
theorem en_X3_best_52 : SndE EE S mi_X3_best 52 (.inl (e_psh 53 (.int (-1)))) := sn_iconst dX3_best_52 rfl rfl
theorem en_X3_best_53 : SndE EE S mi_X3_best 53 (.inl (e_sti 55 6)) := sn_istore dX3_best_53 rfl rfl (by decide)
theorem en_X3_best_55 : SndE EE S mi_X3_best 55 (.inl (e_psh 56 (.int (0)))) := sn_iconst dX3_best_55 rfl rfl
theorem en_X3_best_56 : SndE EE S mi_X3_best 56 (.inl (e_sti 58 7)) := sn_istore dX3_best_56 rfl rfl (by decide)
theorem en_X3_best_58 : SndE EE S mi_X3_best 58 (.inl (e_psh 59 (.int (0)))) := sn_iconst dX3_best_58 rfl rfl
theorem en_X3_best_59 : SndE EE S mi_X3_best 59 (.inl (e_sti 61 8)) := sn_istore dX3_best_59 rfl rfl (by decide)
theorem en_X3_best_61 : SndE EE S mi_X3_best 61 (.inl (e_ldi 63 8)) := sn_iload dX3_best_61 rfl
theorem en_X3_best_63 : SndE EE S mi_X3_best 63 (.inl (e_ldi 65 5)) := sn_iload dX3_best_63 rfl
theorem en_X3_best_65 : SndE EE S mi_X3_best 65 (.inl (e_ige 68 226)) := sn_ige dX3_best_65 rfl (by decide)
theorem en_X3_best_68 : SndE EE S mi_X3_best 68 (.inl (e_ldi 70 8)) := sn_iload dX3_best_68 rfl
theorem en_X3_best_70 : SndE EE S mi_X3_best 70 (.inl (e_sti 72 9)) := sn_istore dX3_best_70 rfl rfl (by decide)
theorem en_X3_best_72 : SndE EE S mi_X3_best 72 (.inl (e_ldi 74 4)) := sn_iload dX3_best_72 rfl
theorem en_X3_best_74 : SndE EE S mi_X3_best 74 (.inl (e_psh 75 (.int (1)))) := sn_iconst dX3_best_74 rfl rfl
theorem en_X3_best_75 : SndE EE S mi_X3_best 75 (.inl (e_bin 76 (fun x y => x - y))) := sn_isub dX3_best_75 rfl
theorem en_X3_best_76 : SndE EE S mi_X3_best 76 (.inl (e_sti 78 10)) := sn_istore dX3_best_76 rfl rfl (by decide)
theorem en_X3_best_78 : SndE EE S mi_X3_best 78 (.inl (e_ldi 80 10)) := sn_iload dX3_best_78 rfl
theorem en_X3_best_80 : SndE EE S mi_X3_best 80 (.inl (e_zlt 83 124)) := sn_zlt dX3_best_80 rfl (by decide)
theorem en_X3_best_83 : SndE EE S mi_X3_best 83 (.inl (e_lda 84 0)) := sn_aload_n dX3_best_83 rfl rfl
theorem en_X3_best_84 : SndE EE S mi_X3_best 84 (.inl (e_gR 87 3 47)) := sn_gR dX3_best_84 rfl cl_3 (by decide) rfl (Or.inl q900) (Or.inl rfl)
theorem en_X3_best_87 : SndE EE S mi_X3_best 87 (.inl (e_ldi 89 10)) := sn_iload dX3_best_87 rfl
theorem en_X3_best_89 : SndE EE S mi_X3_best 89 (.inl (e_ldi 91 9)) := sn_iload dX3_best_89 rfl
theorem en_X3_best_91 : SndE EE S mi_X3_best 91 (.inl (e_psh 93 (.int (6)))) := sn_bipush dX3_best_91 rfl rfl
theorem en_X3_best_93 : SndE EE S mi_X3_best 93 (.inl (e_rem 94)) := sn_irem dX3_best_93 rfl
theorem en_X3_best_94 : SndE EE S mi_X3_best 94 (.inl (e_iast 95)) := sn_iast dX3_best_94 rfl
theorem en_X3_best_95 : SndE EE S mi_X3_best 95 (.inl (e_lda 96 0)) := sn_aload_n dX3_best_95 rfl rfl
theorem en_X3_best_96 : SndE EE S mi_X3_best 96 (.inl (e_gR 99 3 47)) := sn_gR dX3_best_96 rfl cl_3 (by decide) rfl (Or.inl q900) (Or.inl rfl)
theorem en_X3_best_99 : SndE EE S mi_X3_best 99 (.inl (e_ldi 100 1)) := sn_iload_n dX3_best_99 rfl rfl
theorem en_X3_best_100 : SndE EE S mi_X3_best 100 (.inl (e_psh 101 (.int (1)))) := sn_iconst dX3_best_100 rfl rfl
theorem en_X3_best_101 : SndE EE S mi_X3_best 101 (.inl (e_bin 102 (fun x y => x - y))) := sn_isub dX3_best_101 rfl
theorem en_X3_best_102 : SndE EE S mi_X3_best 102 (.inl (e_ldi 104 10)) := sn_iload dX3_best_102 rfl
theorem en_X3_best_104 : SndE EE S mi_X3_best 104 (.inl (e_bin 105 (fun x y => x - y))) := sn_isub dX3_best_104 rfl
theorem en_X3_best_105 : SndE EE S mi_X3_best 105 (.inl (e_ldi 107 9)) := sn_iload dX3_best_105 rfl
theorem en_X3_best_107 : SndE EE S mi_X3_best 107 (.inl (e_psh 109 (.int (6)))) := sn_bipush dX3_best_107 rfl rfl
theorem en_X3_best_109 : SndE EE S mi_X3_best 109 (.inl (e_rem 110)) := sn_irem dX3_best_109 rfl
theorem en_X3_best_110 : SndE EE S mi_X3_best 110 (.inl (e_iast 111)) := sn_iast dX3_best_110 rfl
theorem en_X3_best_111 : SndE EE S mi_X3_best 111 (.inl (e_ldi 113 9)) := sn_iload dX3_best_111 rfl
theorem en_X3_best_113 : SndE EE S mi_X3_best 113 (.inl (e_psh 115 (.int (6)))) := sn_bipush dX3_best_113 rfl rfl
theorem en_X3_best_115 : SndE EE S mi_X3_best 115 (.inl (e_div 116)) := sn_idiv dX3_best_115 rfl
theorem en_X3_best_116 : SndE EE S mi_X3_best 116 (.inl (e_sti 118 9)) := sn_istore dX3_best_116 rfl rfl (by decide)
theorem en_X3_best_118 : SndE EE S mi_X3_best 118 (.inl (e_inc 121 10 (-1))) := sn_iinc dX3_best_118 rfl rfl rfl (by decide)
theorem en_X3_best_121 : SndE EE S mi_X3_best 121 (.inl (e_goto 78)) := sn_goto dX3_best_121 (by decide)
theorem en_X3_best_124 : SndE EE S mi_X3_best 124 (.inl (e_lda 125 0)) := sn_aload_n dX3_best_124 rfl rfl
theorem en_X3_best_125 : SndE EE S mi_X3_best 125 (.inl (e_ldi 126 1)) := sn_iload_n dX3_best_125 rfl rfl
theorem en_X3_best_126 : SndE EE S mi_X3_best 126 (.inl (e_psh 127 (.int (2)))) := sn_iconst dX3_best_126 rfl rfl
theorem en_X3_best_127 : SndE EE S mi_X3_best 127 (.inr (.inl (d_cls 3 92, 3, 3))) := sc_virt dX3_best_127 (rcv_cls (r := (RX3, TX3, 61)) rfl ⟨mo_X3_sum, nmo_X3_sum, q1220, q1222, qs48⟩)
theorem en_X3_best_130 : SndE EE S mi_X3_best 130 (.inl (e_sti 132 10)) := sn_istore dX3_best_130 rfl rfl (by decide)
theorem en_X3_best_132 : SndE EE S mi_X3_best 132 (.inl (e_lda 133 0)) := sn_aload_n dX3_best_132 rfl rfl
theorem en_X3_best_133 : SndE EE S mi_X3_best 133 (.inl (e_gR 136 3 48)) := sn_gR dX3_best_133 rfl cl_3 (by decide) rfl (Or.inl q901) (Or.inl rfl)
theorem en_X3_best_136 : SndE EE S mi_X3_best 136 (.inl (e_lda 137 0)) := sn_aload_n dX3_best_136 rfl rfl
theorem en_X3_best_137 : SndE EE S mi_X3_best 137 (.inl (e_gR 140 3 47)) := sn_gR dX3_best_137 rfl cl_3 (by decide) rfl (Or.inl q900) (Or.inl rfl)
theorem en_X3_best_140 : SndE EE S mi_X3_best 140 (.inl (e_psh 141 (.int (0)))) := sn_iconst dX3_best_140 rfl rfl
theorem en_X3_best_141 : SndE EE S mi_X3_best 141 (.inl (e_ald 142 1)) := sn_iald dX3_best_141 rfl
theorem en_X3_best_142 : SndE EE S mi_X3_best 142 (.inl (e_ald 143 3)) := sn_zald dX3_best_142 rfl
theorem en_X3_best_143 : SndE EE S mi_X3_best 143 (.inl (e_zeq 146 220)) := sn_zeq dX3_best_143 rfl (by decide)
theorem en_X3_best_146 : SndE EE S mi_X3_best 146 (.inl (e_lda 147 0)) := sn_aload_n dX3_best_146 rfl rfl
theorem en_X3_best_147 : SndE EE S mi_X3_best 147 (.inl (e_ldi 148 1)) := sn_iload_n dX3_best_147 rfl rfl
theorem en_X3_best_148 : SndE EE S mi_X3_best 148 (.inl (e_psh 149 (.int (0)))) := sn_iconst dX3_best_148 rfl rfl
theorem en_X3_best_149 : SndE EE S mi_X3_best 149 (.inr (.inl (d_cls 3 92, 3, 3))) := sc_virt dX3_best_149 (rcv_cls (r := (RX3, TX3, 61)) rfl ⟨mo_X3_sum, nmo_X3_sum, q1220, q1222, qs48⟩)
theorem en_X3_best_152 : SndE EE S mi_X3_best 152 (.inl (e_ldi 153 2)) := sn_iload_n dX3_best_152 rfl rfl
theorem en_X3_best_153 : SndE EE S mi_X3_best 153 (.inl (e_ilt 156 220)) := sn_ilt dX3_best_153 rfl (by decide)
theorem en_X3_best_156 : SndE EE S mi_X3_best 156 (.inl (e_lda 157 0)) := sn_aload_n dX3_best_156 rfl rfl
theorem en_X3_best_157 : SndE EE S mi_X3_best 157 (.inl (e_ldi 158 1)) := sn_iload_n dX3_best_157 rfl rfl
theorem en_X3_best_158 : SndE EE S mi_X3_best 158 (.inl (e_psh 159 (.int (1)))) := sn_iconst dX3_best_158 rfl rfl
theorem en_X3_best_159 : SndE EE S mi_X3_best 159 (.inr (.inl (d_cls 3 92, 3, 3))) := sc_virt dX3_best_159 (rcv_cls (r := (RX3, TX3, 61)) rfl ⟨mo_X3_sum, nmo_X3_sum, q1220, q1222, qs48⟩)
theorem en_X3_best_162 : SndE EE S mi_X3_best 162 (.inl (e_ldi 163 3)) := sn_iload_n dX3_best_162 rfl rfl
theorem en_X3_best_163 : SndE EE S mi_X3_best 163 (.inl (e_igt 166 220)) := sn_igt dX3_best_163 rfl (by decide)
theorem en_X3_best_166 : SndE EE S mi_X3_best 166 (.inl (e_ldi 168 6)) := sn_iload dX3_best_166 rfl
theorem en_X3_best_168 : SndE EE S mi_X3_best 168 (.inl (e_zlt 171 181)) := sn_zlt dX3_best_168 rfl (by decide)
theorem en_X3_best_171 : SndE EE S mi_X3_best 171 (.inl (e_ldi 173 10)) := sn_iload dX3_best_171 rfl
theorem en_X3_best_173 : SndE EE S mi_X3_best 173 (.inl (e_ldi 175 7)) := sn_iload dX3_best_173 rfl
theorem en_X3_best_175 : SndE EE S mi_X3_best 175 (.inl (e_ilt 178 181)) := sn_ilt dX3_best_175 rfl (by decide)
theorem en_X3_best_178 : SndE EE S mi_X3_best 178 (.inl (e_goto 220)) := sn_goto dX3_best_178 (by decide)
theorem en_X3_best_181 : SndE EE S mi_X3_best 181 (.inl (e_ldi 183 10)) := sn_iload dX3_best_181 rfl
theorem en_X3_best_183 : SndE EE S mi_X3_best 183 (.inl (e_sti 185 7)) := sn_istore dX3_best_183 rfl rfl (by decide)
theorem en_X3_best_185 : SndE EE S mi_X3_best 185 (.inl (e_psh 186 (.int (0)))) := sn_iconst dX3_best_185 rfl rfl
theorem en_X3_best_186 : SndE EE S mi_X3_best 186 (.inl (e_sti 188 6)) := sn_istore dX3_best_186 rfl rfl (by decide)
theorem en_X3_best_188 : SndE EE S mi_X3_best 188 (.inl (e_psh 189 (.int (0)))) := sn_iconst dX3_best_188 rfl rfl
theorem en_X3_best_189 : SndE EE S mi_X3_best 189 (.inl (e_sti 191 11)) := sn_istore dX3_best_189 rfl rfl (by decide)
theorem en_X3_best_191 : SndE EE S mi_X3_best 191 (.inl (e_ldi 193 11)) := sn_iload dX3_best_191 rfl
theorem en_X3_best_193 : SndE EE S mi_X3_best 193 (.inl (e_ldi 194 1)) := sn_iload_n dX3_best_193 rfl rfl
theorem en_X3_best_194 : SndE EE S mi_X3_best 194 (.inl (e_ige 197 220)) := sn_ige dX3_best_194 rfl (by decide)
theorem en_X3_best_197 : SndE EE S mi_X3_best 197 (.inl (e_ldi 199 6)) := sn_iload dX3_best_197 rfl
theorem en_X3_best_199 : SndE EE S mi_X3_best 199 (.inl (e_lda 200 0)) := sn_aload_n dX3_best_199 rfl rfl
theorem en_X3_best_200 : SndE EE S mi_X3_best 200 (.inl (e_gR 203 3 47)) := sn_gR dX3_best_200 rfl cl_3 (by decide) rfl (Or.inl q900) (Or.inl rfl)
theorem en_X3_best_203 : SndE EE S mi_X3_best 203 (.inl (e_ldi 205 11)) := sn_iload dX3_best_203 rfl
theorem en_X3_best_205 : SndE EE S mi_X3_best 205 (.inl (e_ald 206 1)) := sn_iald dX3_best_205 rfl
theorem en_X3_best_206 : SndE EE S mi_X3_best 206 (.inl (e_psh 207 (.int (3)))) := sn_iconst dX3_best_206 rfl rfl
theorem en_X3_best_207 : SndE EE S mi_X3_best 207 (.inl (e_ldi 209 11)) := sn_iload dX3_best_207 rfl
theorem en_X3_best_209 : SndE EE S mi_X3_best 209 (.inl (e_bin 210 (fun x y => x * y))) := sn_imul dX3_best_209 rfl
theorem en_X3_best_210 : SndE EE S mi_X3_best 210 (.inl (e_bin 211 (fun x y => x <<< (y &&& 31)))) := sn_ishl dX3_best_210 rfl
theorem en_X3_best_211 : SndE EE S mi_X3_best 211 (.inl (e_bin 212 (fun x y => x ||| y))) := sn_ior dX3_best_211 rfl
theorem en_X3_best_212 : SndE EE S mi_X3_best 212 (.inl (e_sti 214 6)) := sn_istore dX3_best_212 rfl rfl (by decide)
theorem en_X3_best_214 : SndE EE S mi_X3_best 214 (.inl (e_inc 217 11 (1))) := sn_iinc dX3_best_214 rfl rfl rfl (by decide)
theorem en_X3_best_217 : SndE EE S mi_X3_best 217 (.inl (e_goto 191)) := sn_goto dX3_best_217 (by decide)
theorem en_X3_best_220 : SndE EE S mi_X3_best 220 (.inl (e_inc 223 8 (1))) := sn_iinc dX3_best_220 rfl rfl rfl (by decide)
theorem en_X3_best_223 : SndE EE S mi_X3_best 223 (.inl (e_goto 61)) := sn_goto dX3_best_223 (by decide)
theorem en_X3_best_226 : SndE EE S mi_X3_best 226 (.inl (e_ldi 228 6)) := sn_iload dX3_best_226 rfl
theorem en_X3_best_228 : SndE EE S mi_X3_best 228 (.inr (.inr 1)) := ⟨dX3_best_228, rfl⟩
theorem sd_X3_best : ∀ pc x, cd_X3_best pc = some x → SndE EE S mi_X3_best pc x := (tN_ok (tN_ok (tN_ok (tN_ok (tN_ok (tN_ok (tN_ok (tL_ok en_X3_best_0) (tL_ok en_X3_best_1)) (tN_ok (tL_ok en_X3_best_2) (tL_ok en_X3_best_5))) (tN_ok (tN_ok (tL_ok en_X3_best_6) (tL_ok en_X3_best_8)) (tN_ok (tL_ok en_X3_best_11) (tL_ok en_X3_best_12)))) (tN_ok (tN_ok (tN_ok (tL_ok en_X3_best_13) (tL_ok en_X3_best_14)) (tN_ok (tL_ok en_X3_best_17) (tL_ok en_X3_best_18))) (tN_ok (tN_ok (tL_ok en_X3_best_19) (tL_ok en_X3_best_20)) (tN_ok (tL_ok en_X3_best_21) (tL_ok en_X3_best_22))))) (tN_ok (tN_ok (tN_ok (tN_ok (tL_ok en_X3_best_23) (tL_ok en_X3_best_24)) (tN_ok (tL_ok en_X3_best_26) (tL_ok en_X3_best_27))) (tN_ok (tN_ok (tL_ok en_X3_best_29) (tL_ok en_X3_best_30)) (tN_ok (tL_ok en_X3_best_32) (tL_ok en_X3_best_34)))) (tN_ok (tN_ok (tN_ok (tL_ok en_X3_best_36) (tL_ok en_X3_best_39)) (tN_ok (tL_ok en_X3_best_41) (tL_ok en_X3_best_43))) (tN_ok (tN_ok (tL_ok en_X3_best_44) (tL_ok en_X3_best_46)) (tN_ok (tL_ok en_X3_best_49) (tL_ok en_X3_best_52)))))) (tN_ok (tN_ok (tN_ok (tN_ok (tN_ok (tL_ok en_X3_best_53) (tL_ok en_X3_best_55)) (tN_ok (tL_ok en_X3_best_56) (tL_ok en_X3_best_58))) (tN_ok (tN_ok (tL_ok en_X3_best_59) (tL_ok en_X3_best_61)) (tN_ok (tL_ok en_X3_best_63) (tL_ok en_X3_best_65)))) (tN_ok (tN_ok (tN_ok (tL_ok en_X3_best_68) (tL_ok en_X3_best_70)) (tN_ok (tL_ok en_X3_best_72) (tL_ok en_X3_best_74))) (tN_ok (tN_ok (tL_ok en_X3_best_75) (tL_ok en_X3_best_76)) (tN_ok (tL_ok en_X3_best_78) (tL_ok en_X3_best_80))))) (tN_ok (tN_ok (tN_ok (tN_ok (tL_ok en_X3_best_83) (tL_ok en_X3_best_84)) (tN_ok (tL_ok en_X3_best_87) (tL_ok en_X3_best_89))) (tN_ok (tN_ok (tL_ok en_X3_best_91) (tL_ok en_X3_best_93)) (tN_ok (tL_ok en_X3_best_94) (tL_ok en_X3_best_95)))) (tN_ok (tN_ok (tN_ok (tL_ok en_X3_best_96) (tL_ok en_X3_best_99)) (tN_ok (tL_ok en_X3_best_100) (tL_ok en_X3_best_101))) (tN_ok (tN_ok (tL_ok en_X3_best_102) (tL_ok en_X3_best_104)) (tN_ok (tL_ok en_X3_best_105) (tL_ok en_X3_best_107))))))) (tN_ok (tN_ok (tN_ok (tN_ok (tN_ok (tN_ok (tL_ok en_X3_best_109) (tL_ok en_X3_best_110)) (tN_ok (tL_ok en_X3_best_111) (tL_ok en_X3_best_113))) (tN_ok (tN_ok (tL_ok en_X3_best_115) (tL_ok en_X3_best_116)) (tN_ok (tL_ok en_X3_best_118) (tL_ok en_X3_best_121)))) (tN_ok (tN_ok (tN_ok (tL_ok en_X3_best_124) (tL_ok en_X3_best_125)) (tN_ok (tL_ok en_X3_best_126) (tL_ok en_X3_best_127))) (tN_ok (tN_ok (tL_ok en_X3_best_130) (tL_ok en_X3_best_132)) (tN_ok (tL_ok en_X3_best_133) (tL_ok en_X3_best_136))))) (tN_ok (tN_ok (tN_ok (tN_ok (tL_ok en_X3_best_137) (tL_ok en_X3_best_140)) (tN_ok (tL_ok en_X3_best_141) (tL_ok en_X3_best_142))) (tN_ok (tN_ok (tL_ok en_X3_best_143) (tL_ok en_X3_best_146)) (tN_ok (tL_ok en_X3_best_147) (tL_ok en_X3_best_148)))) (tN_ok (tN_ok (tN_ok (tL_ok en_X3_best_149) (tL_ok en_X3_best_152)) (tN_ok (tL_ok en_X3_best_153) (tL_ok en_X3_best_156))) (tN_ok (tN_ok (tL_ok en_X3_best_157) (tL_ok en_X3_best_158)) (tN_ok (tL_ok en_X3_best_159) (tL_ok en_X3_best_162)))))) (tN_ok (tN_ok (tN_ok (tN_ok (tN_ok (tL_ok en_X3_best_163) (tL_ok en_X3_best_166)) (tN_ok (tL_ok en_X3_best_168) (tL_ok en_X3_best_171))) (tN_ok (tN_ok (tL_ok en_X3_best_173) (tL_ok en_X3_best_175)) (tN_ok (tL_ok en_X3_best_178) (tL_ok en_X3_best_181)))) (tN_ok (tN_ok (tN_ok (tL_ok en_X3_best_183) (tL_ok en_X3_best_185)) (tN_ok (tL_ok en_X3_best_186) (tL_ok en_X3_best_188))) (tN_ok (tN_ok (tL_ok en_X3_best_189) (tL_ok en_X3_best_191)) (tN_ok (tL_ok en_X3_best_193) (tL_ok en_X3_best_194))))) (tN_ok (tN_ok (tN_ok (tN_ok (tL_ok en_X3_best_197) (tL_ok en_X3_best_199)) (tN_ok (tL_ok en_X3_best_200) (tL_ok en_X3_best_203))) (tN_ok (tN_ok (tL_ok en_X3_best_205) (tL_ok en_X3_best_206)) (tN_ok (tL_ok en_X3_best_207) (tL_ok en_X3_best_209)))) (tN_ok (tN_ok (tN_ok (tL_ok en_X3_best_210) (tL_ok en_X3_best_211)) (tN_ok (tL_ok en_X3_best_212) (tL_ok en_X3_best_214))) (tN_ok (tN_ok (tL_ok en_X3_best_217) (tL_ok en_X3_best_220)) (tN_ok (tL_ok en_X3_best_223) (tN_ok (tL_ok en_X3_best_226) (tL_ok en_X3_best_228)))))))))
theorem en_X3_press_0 : SndE EE S mi_X3_press 0 (.inl (e_ldi 1 1)) := sn_iload_n dX3_press_0 rfl rfl
theorem en_X3_press_1 : SndE EE S mi_X3_press 1 (.inl (e_psh 2 (.int (1)))) := sn_iconst dX3_press_1 rfl rfl
theorem en_X3_press_2 : SndE EE S mi_X3_press 2 (.inl (e_ilt 5 45)) := sn_ilt dX3_press_2 rfl (by decide)
theorem en_X3_press_5 : SndE EE S mi_X3_press 5 (.inl (e_ldi 6 1)) := sn_iload_n dX3_press_5 rfl rfl
theorem en_X3_press_6 : SndE EE S mi_X3_press 6 (.inl (e_psh 8 (.int (10)))) := sn_bipush dX3_press_6 rfl rfl
theorem en_X3_press_8 : SndE EE S mi_X3_press 8 (.inl (e_igt 11 45)) := sn_igt dX3_press_8 rfl (by decide)
theorem en_X3_press_11 : SndE EE S mi_X3_press 11 (.inl (e_ldi 12 2)) := sn_iload_n dX3_press_11 rfl rfl
theorem en_X3_press_12 : SndE EE S mi_X3_press 12 (.inl (e_zlt 15 45)) := sn_zlt dX3_press_12 rfl (by decide)
theorem en_X3_press_15 : SndE EE S mi_X3_press 15 (.inl (e_ldi 16 2)) := sn_iload_n dX3_press_15 rfl rfl
theorem en_X3_press_16 : SndE EE S mi_X3_press 16 (.inl (e_psh 18 (.int (100)))) := sn_bipush dX3_press_16 rfl rfl
theorem en_X3_press_18 : SndE EE S mi_X3_press 18 (.inl (e_igt 21 45)) := sn_igt dX3_press_18 rfl (by decide)
theorem en_X3_press_21 : SndE EE S mi_X3_press 21 (.inl (e_ldi 22 3)) := sn_iload_n dX3_press_21 rfl rfl
theorem en_X3_press_22 : SndE EE S mi_X3_press 22 (.inl (e_zlt 25 45)) := sn_zlt dX3_press_22 rfl (by decide)
theorem en_X3_press_25 : SndE EE S mi_X3_press 25 (.inl (e_ldi 26 3)) := sn_iload_n dX3_press_25 rfl rfl
theorem en_X3_press_26 : SndE EE S mi_X3_press 26 (.inl (e_psh 28 (.int (10)))) := sn_bipush dX3_press_26 rfl rfl
theorem en_X3_press_28 : SndE EE S mi_X3_press 28 (.inl (e_igt 31 45)) := sn_igt dX3_press_28 rfl (by decide)
theorem en_X3_press_31 : SndE EE S mi_X3_press 31 (.inl (e_ldi 33 4)) := sn_iload dX3_press_31 rfl
theorem en_X3_press_33 : SndE EE S mi_X3_press 33 (.inl (e_psh 34 (.int (1)))) := sn_iconst dX3_press_33 rfl rfl
theorem en_X3_press_34 : SndE EE S mi_X3_press 34 (.inl (e_ilt 37 45)) := sn_ilt dX3_press_34 rfl (by decide)
theorem en_X3_press_37 : SndE EE S mi_X3_press 37 (.inl (e_ldi 39 4)) := sn_iload dX3_press_37 rfl
theorem en_X3_press_39 : SndE EE S mi_X3_press 39 (.inl (e_psh 42 (.int (1000)))) := sn_sipush dX3_press_39 rfl rfl
theorem en_X3_press_42 : SndE EE S mi_X3_press 42 (.inl (e_ile 45 47)) := sn_ile dX3_press_42 rfl (by decide)
theorem en_X3_press_45 : SndE EE S mi_X3_press 45 (.inl (e_psh 46 (.int (0)))) := sn_iconst dX3_press_45 rfl rfl
theorem en_X3_press_46 : SndE EE S mi_X3_press 46 (.inr (.inr 2)) := ⟨dX3_press_46, rfl⟩
theorem en_X3_press_47 : SndE EE S mi_X3_press 47 (.inl (e_lda 48 0)) := sn_aload_n dX3_press_47 rfl rfl
theorem en_X3_press_48 : SndE EE S mi_X3_press 48 (.inl (e_ldi 49 1)) := sn_iload_n dX3_press_48 rfl rfl
theorem en_X3_press_49 : SndE EE S mi_X3_press 49 (.inl (e_pI 52 3 49)) := sn_pI dX3_press_49 rfl cl_3 (by decide) rfl (Or.inl ⟨q902, Or.inl rfl⟩) (Or.inl rfl) (fun _ => ⟨rfl, rfl⟩)
theorem en_X3_press_52 : SndE EE S mi_X3_press 52 (.inl (e_lda 53 0)) := sn_aload_n dX3_press_52 rfl rfl
theorem en_X3_press_53 : SndE EE S mi_X3_press 53 (.inl (e_ldi 54 2)) := sn_iload_n dX3_press_53 rfl rfl
theorem en_X3_press_54 : SndE EE S mi_X3_press 54 (.inl (e_pI 57 3 50)) := sn_pI dX3_press_54 rfl cl_3 (by decide) rfl (Or.inl ⟨q903, Or.inl rfl⟩) (Or.inl rfl) (fun _ => ⟨rfl, rfl⟩)
theorem en_X3_press_57 : SndE EE S mi_X3_press 57 (.inl (e_lda 58 0)) := sn_aload_n dX3_press_57 rfl rfl
theorem en_X3_press_58 : SndE EE S mi_X3_press 58 (.inl (e_ldi 59 3)) := sn_iload_n dX3_press_58 rfl rfl
theorem en_X3_press_59 : SndE EE S mi_X3_press 59 (.inl (e_pI 62 3 51)) := sn_pI dX3_press_59 rfl cl_3 (by decide) rfl (Or.inl ⟨q904, Or.inl rfl⟩) (Or.inl rfl) (fun _ => ⟨rfl, rfl⟩)
theorem en_X3_press_62 : SndE EE S mi_X3_press 62 (.inl (e_lda 63 0)) := sn_aload_n dX3_press_62 rfl rfl
theorem en_X3_press_63 : SndE EE S mi_X3_press 63 (.inl (e_ldi 65 4)) := sn_iload dX3_press_63 rfl
theorem en_X3_press_65 : SndE EE S mi_X3_press 65 (.inl (e_pI 68 3 52)) := sn_pI dX3_press_65 rfl cl_3 (by decide) rfl (Or.inl ⟨q905, Or.inl rfl⟩) (Or.inl rfl) (fun _ => ⟨rfl, rfl⟩)
theorem en_X3_press_68 : SndE EE S mi_X3_press 68 (.inl (e_psh 69 (.int (1)))) := sn_iconst dX3_press_68 rfl rfl
theorem en_X3_press_69 : SndE EE S mi_X3_press 69 (.inr (.inr 2)) := ⟨dX3_press_69, rfl⟩
theorem sd_X3_press : ∀ pc x, cd_X3_press pc = some x → SndE EE S mi_X3_press pc x := (tN_ok (tN_ok (tN_ok (tN_ok (tN_ok (tL_ok en_X3_press_0) (tL_ok en_X3_press_1)) (tN_ok (tL_ok en_X3_press_2) (tL_ok en_X3_press_5))) (tN_ok (tN_ok (tL_ok en_X3_press_6) (tL_ok en_X3_press_8)) (tN_ok (tL_ok en_X3_press_11) (tN_ok (tL_ok en_X3_press_12) (tL_ok en_X3_press_15))))) (tN_ok (tN_ok (tN_ok (tL_ok en_X3_press_16) (tL_ok en_X3_press_18)) (tN_ok (tL_ok en_X3_press_21) (tN_ok (tL_ok en_X3_press_22) (tL_ok en_X3_press_25)))) (tN_ok (tN_ok (tL_ok en_X3_press_26) (tL_ok en_X3_press_28)) (tN_ok (tL_ok en_X3_press_31) (tN_ok (tL_ok en_X3_press_33) (tL_ok en_X3_press_34)))))) (tN_ok (tN_ok (tN_ok (tN_ok (tL_ok en_X3_press_37) (tL_ok en_X3_press_39)) (tN_ok (tL_ok en_X3_press_42) (tL_ok en_X3_press_45))) (tN_ok (tN_ok (tL_ok en_X3_press_46) (tL_ok en_X3_press_47)) (tN_ok (tL_ok en_X3_press_48) (tN_ok (tL_ok en_X3_press_49) (tL_ok en_X3_press_52))))) (tN_ok (tN_ok (tN_ok (tL_ok en_X3_press_53) (tL_ok en_X3_press_54)) (tN_ok (tL_ok en_X3_press_57) (tN_ok (tL_ok en_X3_press_58) (tL_ok en_X3_press_59)))) (tN_ok (tN_ok (tL_ok en_X3_press_62) (tL_ok en_X3_press_63)) (tN_ok (tL_ok en_X3_press_65) (tN_ok (tL_ok en_X3_press_68) (tL_ok en_X3_press_69)))))))
theorem en_X3_glue_0 : SndE EE S mi_X3_glue 0 (.inl (e_lda 1 0)) := sn_aload_n dX3_glue_0 rfl rfl
theorem en_X3_glue_1 : SndE EE S mi_X3_glue 1 (.inl (e_gI 4 3 53)) := sn_gI dX3_glue_1 rfl cl_3 (by decide) rfl (Or.inl q906) (Or.inl rfl)
theorem en_X3_glue_4 : SndE EE S mi_X3_glue 4 (.inl (e_psh 6 (.int (10)))) := sn_bipush dX3_glue_4 rfl rfl
theorem en_X3_glue_6 : SndE EE S mi_X3_glue 6 (.inl (e_ieq 9 32)) := sn_ieq dX3_glue_6 rfl (by decide)
theorem en_X3_glue_9 : SndE EE S mi_X3_glue 9 (.inl (e_ldi 10 1)) := sn_iload_n dX3_glue_9 rfl rfl
theorem en_X3_glue_10 : SndE EE S mi_X3_glue 10 (.inl (e_psh 11 (.int (1)))) := sn_iconst dX3_glue_10 rfl rfl
theorem en_X3_glue_11 : SndE EE S mi_X3_glue 11 (.inl (e_ilt 14 32)) := sn_ilt dX3_glue_11 rfl (by decide)
theorem en_X3_glue_14 : SndE EE S mi_X3_glue 14 (.inl (e_ldi 15 1)) := sn_iload_n dX3_glue_14 rfl rfl
theorem en_X3_glue_15 : SndE EE S mi_X3_glue 15 (.inl (e_psh 18 (.int (500)))) := sn_sipush dX3_glue_15 rfl rfl
theorem en_X3_glue_18 : SndE EE S mi_X3_glue 18 (.inl (e_igt 21 32)) := sn_igt dX3_glue_18 rfl (by decide)
theorem en_X3_glue_21 : SndE EE S mi_X3_glue 21 (.inl (e_ldi 22 2)) := sn_iload_n dX3_glue_21 rfl rfl
theorem en_X3_glue_22 : SndE EE S mi_X3_glue 22 (.inl (e_zlt 25 32)) := sn_zlt dX3_glue_22 rfl (by decide)
theorem en_X3_glue_25 : SndE EE S mi_X3_glue 25 (.inl (e_ldi 26 2)) := sn_iload_n dX3_glue_25 rfl rfl
theorem en_X3_glue_26 : SndE EE S mi_X3_glue 26 (.inl (e_psh 29 (.int (10000)))) := sn_sipush dX3_glue_26 rfl rfl
theorem en_X3_glue_29 : SndE EE S mi_X3_glue 29 (.inl (e_ile 32 34)) := sn_ile dX3_glue_29 rfl (by decide)
theorem en_X3_glue_32 : SndE EE S mi_X3_glue 32 (.inl (e_psh 33 (.int (-1)))) := sn_iconst dX3_glue_32 rfl rfl
theorem en_X3_glue_33 : SndE EE S mi_X3_glue 33 (.inr (.inr 1)) := ⟨dX3_glue_33, rfl⟩
theorem en_X3_glue_34 : SndE EE S mi_X3_glue 34 (.inl (e_lda 35 0)) := sn_aload_n dX3_glue_34 rfl rfl
theorem en_X3_glue_35 : SndE EE S mi_X3_glue 35 (.inl (e_gR 38 3 54)) := sn_gR dX3_glue_35 rfl cl_3 (by decide) rfl (Or.inl q907) (Or.inl rfl)
theorem en_X3_glue_38 : SndE EE S mi_X3_glue 38 (.inl (e_lda 39 0)) := sn_aload_n dX3_glue_38 rfl rfl
theorem en_X3_glue_39 : SndE EE S mi_X3_glue 39 (.inl (e_gI 42 3 53)) := sn_gI dX3_glue_39 rfl cl_3 (by decide) rfl (Or.inl q906) (Or.inl rfl)
theorem en_X3_glue_42 : SndE EE S mi_X3_glue 42 (.inl (e_ldi 43 1)) := sn_iload_n dX3_glue_42 rfl rfl
theorem en_X3_glue_43 : SndE EE S mi_X3_glue 43 (.inl (e_iast 44)) := sn_iast dX3_glue_43 rfl
theorem en_X3_glue_44 : SndE EE S mi_X3_glue 44 (.inl (e_lda 45 0)) := sn_aload_n dX3_glue_44 rfl rfl
theorem en_X3_glue_45 : SndE EE S mi_X3_glue 45 (.inl (e_gR 48 3 55)) := sn_gR dX3_glue_45 rfl cl_3 (by decide) rfl (Or.inl q908) (Or.inl rfl)
theorem en_X3_glue_48 : SndE EE S mi_X3_glue 48 (.inl (e_lda 49 0)) := sn_aload_n dX3_glue_48 rfl rfl
theorem en_X3_glue_49 : SndE EE S mi_X3_glue 49 (.inl (e_gI 52 3 53)) := sn_gI dX3_glue_49 rfl cl_3 (by decide) rfl (Or.inl q906) (Or.inl rfl)
theorem en_X3_glue_52 : SndE EE S mi_X3_glue 52 (.inl (e_ldi 53 2)) := sn_iload_n dX3_glue_52 rfl rfl
theorem en_X3_glue_53 : SndE EE S mi_X3_glue 53 (.inl (e_iast 54)) := sn_iast dX3_glue_53 rfl
theorem en_X3_glue_54 : SndE EE S mi_X3_glue 54 (.inl (e_lda 55 0)) := sn_aload_n dX3_glue_54 rfl rfl
theorem en_X3_glue_55 : SndE EE S mi_X3_glue 55 (.inl (e_dup 56)) := sn_dup dX3_glue_55 rfl
theorem en_X3_glue_56 : SndE EE S mi_X3_glue 56 (.inl (e_gI 59 3 53)) := sn_gI dX3_glue_56 rfl cl_3 (by decide) rfl (Or.inl q906) (Or.inl rfl)
theorem en_X3_glue_59 : SndE EE S mi_X3_glue 59 (.inl (e_psh 60 (.int (1)))) := sn_iconst dX3_glue_59 rfl rfl
theorem en_X3_glue_60 : SndE EE S mi_X3_glue 60 (.inl (e_bin 61 (fun x y => x + y))) := sn_iadd dX3_glue_60 rfl
theorem en_X3_glue_61 : SndE EE S mi_X3_glue 61 (.inl (e_pI 64 3 53)) := sn_pI dX3_glue_61 rfl cl_3 (by decide) rfl (Or.inl ⟨q906, Or.inl rfl⟩) (Or.inl rfl) (fun _ => ⟨rfl, rfl⟩)
theorem en_X3_glue_64 : SndE EE S mi_X3_glue 64 (.inl (e_lda 65 0)) := sn_aload_n dX3_glue_64 rfl rfl
theorem en_X3_glue_65 : SndE EE S mi_X3_glue 65 (.inl (e_gI 68 3 53)) := sn_gI dX3_glue_65 rfl cl_3 (by decide) rfl (Or.inl q906) (Or.inl rfl)
theorem en_X3_glue_68 : SndE EE S mi_X3_glue 68 (.inl (e_psh 69 (.int (1)))) := sn_iconst dX3_glue_68 rfl rfl
theorem en_X3_glue_69 : SndE EE S mi_X3_glue 69 (.inl (e_bin 70 (fun x y => x - y))) := sn_isub dX3_glue_69 rfl
theorem en_X3_glue_70 : SndE EE S mi_X3_glue 70 (.inr (.inr 1)) := ⟨dX3_glue_70, rfl⟩
theorem sd_X3_glue : ∀ pc x, cd_X3_glue pc = some x → SndE EE S mi_X3_glue pc x := (tN_ok (tN_ok (tN_ok (tN_ok (tN_ok (tL_ok en_X3_glue_0) (tL_ok en_X3_glue_1)) (tN_ok (tL_ok en_X3_glue_4) (tN_ok (tL_ok en_X3_glue_6) (tL_ok en_X3_glue_9)))) (tN_ok (tN_ok (tL_ok en_X3_glue_10) (tL_ok en_X3_glue_11)) (tN_ok (tL_ok en_X3_glue_14) (tN_ok (tL_ok en_X3_glue_15) (tL_ok en_X3_glue_18))))) (tN_ok (tN_ok (tN_ok (tL_ok en_X3_glue_21) (tL_ok en_X3_glue_22)) (tN_ok (tL_ok en_X3_glue_25) (tN_ok (tL_ok en_X3_glue_26) (tL_ok en_X3_glue_29)))) (tN_ok (tN_ok (tL_ok en_X3_glue_32) (tL_ok en_X3_glue_33)) (tN_ok (tL_ok en_X3_glue_34) (tN_ok (tL_ok en_X3_glue_35) (tL_ok en_X3_glue_38)))))) (tN_ok (tN_ok (tN_ok (tN_ok (tL_ok en_X3_glue_39) (tL_ok en_X3_glue_42)) (tN_ok (tL_ok en_X3_glue_43) (tN_ok (tL_ok en_X3_glue_44) (tL_ok en_X3_glue_45)))) (tN_ok (tN_ok (tL_ok en_X3_glue_48) (tL_ok en_X3_glue_49)) (tN_ok (tL_ok en_X3_glue_52) (tN_ok (tL_ok en_X3_glue_53) (tL_ok en_X3_glue_54))))) (tN_ok (tN_ok (tN_ok (tL_ok en_X3_glue_55) (tL_ok en_X3_glue_56)) (tN_ok (tL_ok en_X3_glue_59) (tN_ok (tL_ok en_X3_glue_60) (tL_ok en_X3_glue_61)))) (tN_ok (tN_ok (tL_ok en_X3_glue_64) (tL_ok en_X3_glue_65)) (tN_ok (tL_ok en_X3_glue_68) (tN_ok (tL_ok en_X3_glue_69) (tL_ok en_X3_glue_70)))))))
theorem en_X3_drop_0 : SndE EE S mi_X3_drop 0 (.inl (e_lda 1 0)) := sn_aload_n dX3_drop_0 rfl rfl
theorem en_X3_drop_1 : SndE EE S mi_X3_drop 1 (.inl (e_gI 4 3 53)) := sn_gI dX3_drop_1 rfl cl_3 (by decide) rfl (Or.inl q906) (Or.inl rfl)
theorem en_X3_drop_4 : SndE EE S mi_X3_drop 4 (.inl (e_zne 7 9)) := sn_zne dX3_drop_4 rfl (by decide)
theorem en_X3_drop_7 : SndE EE S mi_X3_drop 7 (.inl (e_psh 8 (.int (0)))) := sn_iconst dX3_drop_7 rfl rfl
theorem en_X3_drop_8 : SndE EE S mi_X3_drop 8 (.inr (.inr 2)) := ⟨dX3_drop_8, rfl⟩
theorem en_X3_drop_9 : SndE EE S mi_X3_drop 9 (.inl (e_lda 10 0)) := sn_aload_n dX3_drop_9 rfl rfl
theorem en_X3_drop_10 : SndE EE S mi_X3_drop 10 (.inl (e_dup 11)) := sn_dup dX3_drop_10 rfl
theorem en_X3_drop_11 : SndE EE S mi_X3_drop 11 (.inl (e_gI 14 3 53)) := sn_gI dX3_drop_11 rfl cl_3 (by decide) rfl (Or.inl q906) (Or.inl rfl)
theorem en_X3_drop_14 : SndE EE S mi_X3_drop 14 (.inl (e_psh 15 (.int (1)))) := sn_iconst dX3_drop_14 rfl rfl
theorem en_X3_drop_15 : SndE EE S mi_X3_drop 15 (.inl (e_bin 16 (fun x y => x - y))) := sn_isub dX3_drop_15 rfl
theorem en_X3_drop_16 : SndE EE S mi_X3_drop 16 (.inl (e_pI 19 3 53)) := sn_pI dX3_drop_16 rfl cl_3 (by decide) rfl (Or.inl ⟨q906, Or.inl rfl⟩) (Or.inl rfl) (fun _ => ⟨rfl, rfl⟩)
theorem en_X3_drop_19 : SndE EE S mi_X3_drop 19 (.inl (e_psh 20 (.int (1)))) := sn_iconst dX3_drop_19 rfl rfl
theorem en_X3_drop_20 : SndE EE S mi_X3_drop 20 (.inr (.inr 2)) := ⟨dX3_drop_20, rfl⟩
theorem sd_X3_drop : ∀ pc x, cd_X3_drop pc = some x → SndE EE S mi_X3_drop pc x := (tN_ok (tN_ok (tN_ok (tL_ok en_X3_drop_0) (tN_ok (tL_ok en_X3_drop_1) (tL_ok en_X3_drop_4))) (tN_ok (tL_ok en_X3_drop_7) (tN_ok (tL_ok en_X3_drop_8) (tL_ok en_X3_drop_9)))) (tN_ok (tN_ok (tL_ok en_X3_drop_10) (tN_ok (tL_ok en_X3_drop_11) (tL_ok en_X3_drop_14))) (tN_ok (tN_ok (tL_ok en_X3_drop_15) (tL_ok en_X3_drop_16)) (tN_ok (tL_ok en_X3_drop_19) (tL_ok en_X3_drop_20)))))
theorem en_X3_plan_0 : SndE EE S mi_X3_plan 0 (.inl (e_lda 1 0)) := sn_aload_n dX3_plan_0 rfl rfl
theorem en_X3_plan_1 : SndE EE S mi_X3_plan 1 (.inr (.inl (d_cls 3 99, 1, 3))) := sc_virt dX3_plan_1 (rcv_cls (r := (RX3, TX3, 61)) rfl ⟨mo_X3_seek, nmo_X3_seek, q1249, q1251, qs49⟩)
theorem en_X3_plan_4 : SndE EE S mi_X3_plan 4 (.inl (e_ldi 5 1)) := sn_iload_n dX3_plan_4 rfl rfl
theorem en_X3_plan_5 : SndE EE S mi_X3_plan 5 (.inl (e_zne 8 18)) := sn_zne dX3_plan_5 rfl (by decide)
theorem en_X3_plan_8 : SndE EE S mi_X3_plan 8 (.inl (e_lda 9 0)) := sn_aload_n dX3_plan_8 rfl rfl
theorem en_X3_plan_9 : SndE EE S mi_X3_plan 9 (.inl (e_gI 12 3 59)) := sn_gI dX3_plan_9 rfl cl_3 (by decide) rfl (Or.inl q912) (Or.inl rfl)
theorem en_X3_plan_12 : SndE EE S mi_X3_plan 12 (.inr (.inl (fun _ _ => some 102, 1, 3))) := sc_stat dX3_plan_12 mo_X3_many nmo_X3_many q1262 q1263 q1264
theorem en_X3_plan_15 : SndE EE S mi_X3_plan 15 (.inl (e_goto 60)) := sn_goto dX3_plan_15 (by decide)
theorem en_X3_plan_18 : SndE EE S mi_X3_plan 18 (.inl (e_ldi 19 1)) := sn_iload_n dX3_plan_18 rfl rfl
theorem en_X3_plan_19 : SndE EE S mi_X3_plan 19 (.inl (e_psh 20 (.int (1)))) := sn_iconst dX3_plan_19 rfl rfl
theorem en_X3_plan_20 : SndE EE S mi_X3_plan 20 (.inl (e_ine 23 30)) := sn_ine dX3_plan_20 rfl (by decide)
theorem en_X3_plan_23 : SndE EE S mi_X3_plan 23 (.inl (e_lda 24 0)) := sn_aload_n dX3_plan_23 rfl rfl
theorem en_X3_plan_24 : SndE EE S mi_X3_plan 24 (.inl (e_gI 27 3 59)) := sn_gI dX3_plan_24 rfl cl_3 (by decide) rfl (Or.inl q912) (Or.inl rfl)
theorem en_X3_plan_27 : SndE EE S mi_X3_plan 27 (.inl (e_goto 60)) := sn_goto dX3_plan_27 (by decide)
theorem en_X3_plan_30 : SndE EE S mi_X3_plan 30 (.inl (e_ldi 31 1)) := sn_iload_n dX3_plan_30 rfl rfl
theorem en_X3_plan_31 : SndE EE S mi_X3_plan 31 (.inl (e_psh 32 (.int (2)))) := sn_iconst dX3_plan_31 rfl rfl
theorem en_X3_plan_32 : SndE EE S mi_X3_plan 32 (.inl (e_ine 35 47)) := sn_ine dX3_plan_32 rfl (by decide)
theorem en_X3_plan_35 : SndE EE S mi_X3_plan 35 (.inl (e_lda 36 0)) := sn_aload_n dX3_plan_35 rfl rfl
theorem en_X3_plan_36 : SndE EE S mi_X3_plan 36 (.inl (e_gR 39 3 56)) := sn_gR dX3_plan_36 rfl cl_3 (by decide) rfl (Or.inl q909) (Or.inl rfl)
theorem en_X3_plan_39 : SndE EE S mi_X3_plan 39 (.inl (e_lda 40 0)) := sn_aload_n dX3_plan_39 rfl rfl
theorem en_X3_plan_40 : SndE EE S mi_X3_plan 40 (.inl (e_gI 43 3 59)) := sn_gI dX3_plan_40 rfl cl_3 (by decide) rfl (Or.inl q912) (Or.inl rfl)
theorem en_X3_plan_43 : SndE EE S mi_X3_plan 43 (.inl (e_ald 44 1)) := sn_iald dX3_plan_43 rfl
theorem en_X3_plan_44 : SndE EE S mi_X3_plan 44 (.inl (e_goto 60)) := sn_goto dX3_plan_44 (by decide)
theorem en_X3_plan_47 : SndE EE S mi_X3_plan 47 (.inl (e_ldi 48 1)) := sn_iload_n dX3_plan_47 rfl rfl
theorem en_X3_plan_48 : SndE EE S mi_X3_plan 48 (.inl (e_psh 49 (.int (3)))) := sn_iconst dX3_plan_48 rfl rfl
theorem en_X3_plan_49 : SndE EE S mi_X3_plan 49 (.inl (e_ine 52 59)) := sn_ine dX3_plan_49 rfl (by decide)
theorem en_X3_plan_52 : SndE EE S mi_X3_plan 52 (.inl (e_lda 53 0)) := sn_aload_n dX3_plan_52 rfl rfl
theorem en_X3_plan_53 : SndE EE S mi_X3_plan 53 (.inl (e_gI 56 3 60)) := sn_gI dX3_plan_53 rfl cl_3 (by decide) rfl (Or.inl q913) (Or.inl rfl)
theorem en_X3_plan_56 : SndE EE S mi_X3_plan 56 (.inl (e_goto 60)) := sn_goto dX3_plan_56 (by decide)
theorem en_X3_plan_59 : SndE EE S mi_X3_plan 59 (.inl (e_psh 60 (.int (-1)))) := sn_iconst dX3_plan_59 rfl rfl
theorem en_X3_plan_60 : SndE EE S mi_X3_plan 60 (.inr (.inr 1)) := ⟨dX3_plan_60, rfl⟩
theorem sd_X3_plan : ∀ pc x, cd_X3_plan pc = some x → SndE EE S mi_X3_plan pc x := (tN_ok (tN_ok (tN_ok (tN_ok (tL_ok en_X3_plan_0) (tN_ok (tL_ok en_X3_plan_1) (tL_ok en_X3_plan_4))) (tN_ok (tN_ok (tL_ok en_X3_plan_5) (tL_ok en_X3_plan_8)) (tN_ok (tL_ok en_X3_plan_9) (tL_ok en_X3_plan_12)))) (tN_ok (tN_ok (tN_ok (tL_ok en_X3_plan_15) (tL_ok en_X3_plan_18)) (tN_ok (tL_ok en_X3_plan_19) (tL_ok en_X3_plan_20))) (tN_ok (tN_ok (tL_ok en_X3_plan_23) (tL_ok en_X3_plan_24)) (tN_ok (tL_ok en_X3_plan_27) (tL_ok en_X3_plan_30))))) (tN_ok (tN_ok (tN_ok (tN_ok (tL_ok en_X3_plan_31) (tL_ok en_X3_plan_32)) (tN_ok (tL_ok en_X3_plan_35) (tL_ok en_X3_plan_36))) (tN_ok (tN_ok (tL_ok en_X3_plan_39) (tL_ok en_X3_plan_40)) (tN_ok (tL_ok en_X3_plan_43) (tL_ok en_X3_plan_44)))) (tN_ok (tN_ok (tN_ok (tL_ok en_X3_plan_47) (tL_ok en_X3_plan_48)) (tN_ok (tL_ok en_X3_plan_49) (tL_ok en_X3_plan_52))) (tN_ok (tN_ok (tL_ok en_X3_plan_53) (tL_ok en_X3_plan_56)) (tN_ok (tL_ok en_X3_plan_59) (tL_ok en_X3_plan_60))))))
theorem en_X3_seek_0 : SndE EE S mi_X3_seek 0 (.inl (e_lda 1 0)) := sn_aload_n dX3_seek_0 rfl rfl
theorem en_X3_seek_1 : SndE EE S mi_X3_seek 1 (.inl (e_psh 2 (.int (0)))) := sn_iconst dX3_seek_1 rfl rfl
theorem en_X3_seek_2 : SndE EE S mi_X3_seek 2 (.inl (e_pI 5 3 59)) := sn_pI dX3_seek_2 rfl cl_3 (by decide) rfl (Or.inl ⟨q912, Or.inl rfl⟩) (Or.inl rfl) (fun _ => ⟨rfl, rfl⟩)
theorem en_X3_seek_5 : SndE EE S mi_X3_seek 5 (.inl (e_lda 6 0)) := sn_aload_n dX3_seek_5 rfl rfl
theorem en_X3_seek_6 : SndE EE S mi_X3_seek 6 (.inl (e_gR 9 3 56)) := sn_gR dX3_seek_6 rfl cl_3 (by decide) rfl (Or.inl q909) (Or.inl rfl)
theorem en_X3_seek_9 : SndE EE S mi_X3_seek 9 (.inl (e_psh 10 (.int (0)))) := sn_iconst dX3_seek_9 rfl rfl
theorem en_X3_seek_10 : SndE EE S mi_X3_seek 10 (.inl (e_psh 11 (.int (0)))) := sn_iconst dX3_seek_10 rfl rfl
theorem en_X3_seek_11 : SndE EE S mi_X3_seek 11 (.inl (e_iast 12)) := sn_iast dX3_seek_11 rfl
theorem en_X3_seek_12 : SndE EE S mi_X3_seek 12 (.inl (e_psh 13 (.int (1)))) := sn_iconst dX3_seek_12 rfl rfl
theorem en_X3_seek_13 : SndE EE S mi_X3_seek 13 (.inl (e_sti 14 1)) := sn_istore_n dX3_seek_13 rfl rfl rfl (by decide)
theorem en_X3_seek_14 : SndE EE S mi_X3_seek 14 (.inl (e_ldi 15 1)) := sn_iload_n dX3_seek_14 rfl rfl
theorem en_X3_seek_15 : SndE EE S mi_X3_seek 15 (.inl (e_psh 16 (.int (1)))) := sn_iconst dX3_seek_15 rfl rfl
theorem en_X3_seek_16 : SndE EE S mi_X3_seek 16 (.inl (e_lda 17 0)) := sn_aload_n dX3_seek_16 rfl rfl
theorem en_X3_seek_17 : SndE EE S mi_X3_seek 17 (.inl (e_gI 20 3 53)) := sn_gI dX3_seek_17 rfl cl_3 (by decide) rfl (Or.inl q906) (Or.inl rfl)
theorem en_X3_seek_20 : SndE EE S mi_X3_seek 20 (.inl (e_bin 21 (fun x y => x <<< (y &&& 31)))) := sn_ishl dX3_seek_20 rfl
theorem en_X3_seek_21 : SndE EE S mi_X3_seek 21 (.inl (e_ige 24 145)) := sn_ige dX3_seek_21 rfl (by decide)
theorem en_X3_seek_24 : SndE EE S mi_X3_seek 24 (.inl (e_lda 25 0)) := sn_aload_n dX3_seek_24 rfl rfl
theorem en_X3_seek_25 : SndE EE S mi_X3_seek 25 (.inl (e_gR 28 3 56)) := sn_gR dX3_seek_25 rfl cl_3 (by decide) rfl (Or.inl q909) (Or.inl rfl)
theorem en_X3_seek_28 : SndE EE S mi_X3_seek 28 (.inl (e_ldi 29 1)) := sn_iload_n dX3_seek_28 rfl rfl
theorem en_X3_seek_29 : SndE EE S mi_X3_seek 29 (.inl (e_psh 32 (.int (1000000000)))) := sn_ldcw dX3_seek_29 rfl q1253
theorem en_X3_seek_32 : SndE EE S mi_X3_seek 32 (.inl (e_iast 33)) := sn_iast dX3_seek_32 rfl
theorem en_X3_seek_33 : SndE EE S mi_X3_seek 33 (.inl (e_ldi 34 1)) := sn_iload_n dX3_seek_33 rfl rfl
theorem en_X3_seek_34 : SndE EE S mi_X3_seek 34 (.inl (e_sti 35 2)) := sn_istore_n dX3_seek_34 rfl rfl rfl (by decide)
theorem en_X3_seek_35 : SndE EE S mi_X3_seek 35 (.inl (e_ldi 36 2)) := sn_iload_n dX3_seek_35 rfl rfl
theorem en_X3_seek_36 : SndE EE S mi_X3_seek 36 (.inl (e_zle 39 81)) := sn_zle dX3_seek_36 rfl (by decide)
theorem en_X3_seek_39 : SndE EE S mi_X3_seek 39 (.inl (e_lda 40 0)) := sn_aload_n dX3_seek_39 rfl rfl
theorem en_X3_seek_40 : SndE EE S mi_X3_seek 40 (.inl (e_ldi 41 1)) := sn_iload_n dX3_seek_40 rfl rfl
theorem en_X3_seek_41 : SndE EE S mi_X3_seek 41 (.inl (e_ldi 42 2)) := sn_iload_n dX3_seek_41 rfl rfl
theorem en_X3_seek_42 : SndE EE S mi_X3_seek 42 (.inr (.inl (d_cls 3 100, 3, 3))) := sc_virt dX3_seek_42 (rcv_cls (r := (RX3, TX3, 61)) rfl ⟨mo_X3_outBy, nmo_X3_outBy, q1254, q1256, qs50⟩)
theorem en_X3_seek_45 : SndE EE S mi_X3_seek 45 (.inl (e_sti 46 3)) := sn_istore_n dX3_seek_45 rfl rfl rfl (by decide)
theorem en_X3_seek_46 : SndE EE S mi_X3_seek 46 (.inl (e_lda 47 0)) := sn_aload_n dX3_seek_46 rfl rfl
theorem en_X3_seek_47 : SndE EE S mi_X3_seek 47 (.inl (e_gR 50 3 56)) := sn_gR dX3_seek_47 rfl cl_3 (by decide) rfl (Or.inl q909) (Or.inl rfl)
theorem en_X3_seek_50 : SndE EE S mi_X3_seek 50 (.inl (e_ldi 51 1)) := sn_iload_n dX3_seek_50 rfl rfl
theorem en_X3_seek_51 : SndE EE S mi_X3_seek 51 (.inl (e_ldi 52 3)) := sn_iload_n dX3_seek_51 rfl rfl
theorem en_X3_seek_52 : SndE EE S mi_X3_seek 52 (.inl (e_lda 53 0)) := sn_aload_n dX3_seek_52 rfl rfl
theorem en_X3_seek_53 : SndE EE S mi_X3_seek 53 (.inl (e_gR 56 3 56)) := sn_gR dX3_seek_53 rfl cl_3 (by decide) rfl (Or.inl q909) (Or.inl rfl)
theorem en_X3_seek_56 : SndE EE S mi_X3_seek 56 (.inl (e_ldi 57 1)) := sn_iload_n dX3_seek_56 rfl rfl
theorem en_X3_seek_57 : SndE EE S mi_X3_seek 57 (.inl (e_ald 58 1)) := sn_iald dX3_seek_57 rfl
theorem en_X3_seek_58 : SndE EE S mi_X3_seek 58 (.inl (e_ige 61 65)) := sn_ige dX3_seek_58 rfl (by decide)
theorem en_X3_seek_61 : SndE EE S mi_X3_seek 61 (.inl (e_ldi 62 3)) := sn_iload_n dX3_seek_61 rfl rfl
theorem en_X3_seek_62 : SndE EE S mi_X3_seek 62 (.inl (e_goto 71)) := sn_goto dX3_seek_62 (by decide)
theorem en_X3_seek_65 : SndE EE S mi_X3_seek 65 (.inl (e_lda 66 0)) := sn_aload_n dX3_seek_65 rfl rfl
theorem en_X3_seek_66 : SndE EE S mi_X3_seek 66 (.inl (e_gR 69 3 56)) := sn_gR dX3_seek_66 rfl cl_3 (by decide) rfl (Or.inl q909) (Or.inl rfl)
theorem en_X3_seek_69 : SndE EE S mi_X3_seek 69 (.inl (e_ldi 70 1)) := sn_iload_n dX3_seek_69 rfl rfl
theorem en_X3_seek_70 : SndE EE S mi_X3_seek 70 (.inl (e_ald 71 1)) := sn_iald dX3_seek_70 rfl
theorem en_X3_seek_71 : SndE EE S mi_X3_seek 71 (.inl (e_iast 72)) := sn_iast dX3_seek_71 rfl
theorem en_X3_seek_72 : SndE EE S mi_X3_seek 72 (.inl (e_ldi 73 2)) := sn_iload_n dX3_seek_72 rfl rfl
theorem en_X3_seek_73 : SndE EE S mi_X3_seek 73 (.inl (e_psh 74 (.int (1)))) := sn_iconst dX3_seek_73 rfl rfl
theorem en_X3_seek_74 : SndE EE S mi_X3_seek 74 (.inl (e_bin 75 (fun x y => x - y))) := sn_isub dX3_seek_74 rfl
theorem en_X3_seek_75 : SndE EE S mi_X3_seek 75 (.inl (e_ldi 76 1)) := sn_iload_n dX3_seek_75 rfl rfl
theorem en_X3_seek_76 : SndE EE S mi_X3_seek 76 (.inl (e_bin 77 (fun x y => x &&& y))) := sn_iand dX3_seek_76 rfl
theorem en_X3_seek_77 : SndE EE S mi_X3_seek 77 (.inl (e_sti 78 2)) := sn_istore_n dX3_seek_77 rfl rfl rfl (by decide)
theorem en_X3_seek_78 : SndE EE S mi_X3_seek 78 (.inl (e_goto 35)) := sn_goto dX3_seek_78 (by decide)
theorem en_X3_seek_81 : SndE EE S mi_X3_seek 81 (.inl (e_ldi 82 1)) := sn_iload_n dX3_seek_81 rfl rfl
theorem en_X3_seek_82 : SndE EE S mi_X3_seek 82 (.inr (.inl (fun _ _ => some 102, 1, 3))) := sc_stat dX3_seek_82 mo_X3_many nmo_X3_many q1262 q1263 q1264
theorem en_X3_seek_85 : SndE EE S mi_X3_seek 85 (.inl (e_sti 86 2)) := sn_istore_n dX3_seek_85 rfl rfl rfl (by decide)
theorem en_X3_seek_86 : SndE EE S mi_X3_seek 86 (.inl (e_lda 87 0)) := sn_aload_n dX3_seek_86 rfl rfl
theorem en_X3_seek_87 : SndE EE S mi_X3_seek 87 (.inl (e_gI 90 3 59)) := sn_gI dX3_seek_87 rfl cl_3 (by decide) rfl (Or.inl q912) (Or.inl rfl)
theorem en_X3_seek_90 : SndE EE S mi_X3_seek 90 (.inr (.inl (fun _ _ => some 102, 1, 3))) := sc_stat dX3_seek_90 mo_X3_many nmo_X3_many q1262 q1263 q1264
theorem en_X3_seek_93 : SndE EE S mi_X3_seek 93 (.inl (e_sti 94 3)) := sn_istore_n dX3_seek_93 rfl rfl rfl (by decide)
theorem en_X3_seek_94 : SndE EE S mi_X3_seek 94 (.inl (e_lda 95 0)) := sn_aload_n dX3_seek_94 rfl rfl
theorem en_X3_seek_95 : SndE EE S mi_X3_seek 95 (.inl (e_gR 98 3 56)) := sn_gR dX3_seek_95 rfl cl_3 (by decide) rfl (Or.inl q909) (Or.inl rfl)
theorem en_X3_seek_98 : SndE EE S mi_X3_seek 98 (.inl (e_ldi 99 1)) := sn_iload_n dX3_seek_98 rfl rfl
theorem en_X3_seek_99 : SndE EE S mi_X3_seek 99 (.inl (e_ald 100 1)) := sn_iald dX3_seek_99 rfl
theorem en_X3_seek_100 : SndE EE S mi_X3_seek 100 (.inl (e_psh 103 (.int (1000000000)))) := sn_ldcw dX3_seek_100 rfl q1253
theorem en_X3_seek_103 : SndE EE S mi_X3_seek 103 (.inl (e_ige 106 139)) := sn_ige dX3_seek_103 rfl (by decide)
theorem en_X3_seek_106 : SndE EE S mi_X3_seek 106 (.inl (e_ldi 107 2)) := sn_iload_n dX3_seek_106 rfl rfl
theorem en_X3_seek_107 : SndE EE S mi_X3_seek 107 (.inl (e_ldi 108 3)) := sn_iload_n dX3_seek_107 rfl rfl
theorem en_X3_seek_108 : SndE EE S mi_X3_seek 108 (.inl (e_igt 111 134)) := sn_igt dX3_seek_108 rfl (by decide)
theorem en_X3_seek_111 : SndE EE S mi_X3_seek 111 (.inl (e_ldi 112 2)) := sn_iload_n dX3_seek_111 rfl rfl
theorem en_X3_seek_112 : SndE EE S mi_X3_seek 112 (.inl (e_ldi 113 3)) := sn_iload_n dX3_seek_112 rfl rfl
theorem en_X3_seek_113 : SndE EE S mi_X3_seek 113 (.inl (e_ine 116 139)) := sn_ine dX3_seek_113 rfl (by decide)
theorem en_X3_seek_116 : SndE EE S mi_X3_seek 116 (.inl (e_lda 117 0)) := sn_aload_n dX3_seek_116 rfl rfl
theorem en_X3_seek_117 : SndE EE S mi_X3_seek 117 (.inl (e_gR 120 3 56)) := sn_gR dX3_seek_117 rfl cl_3 (by decide) rfl (Or.inl q909) (Or.inl rfl)
theorem en_X3_seek_120 : SndE EE S mi_X3_seek 120 (.inl (e_ldi 121 1)) := sn_iload_n dX3_seek_120 rfl rfl
theorem en_X3_seek_121 : SndE EE S mi_X3_seek 121 (.inl (e_ald 122 1)) := sn_iald dX3_seek_121 rfl
theorem en_X3_seek_122 : SndE EE S mi_X3_seek 122 (.inl (e_lda 123 0)) := sn_aload_n dX3_seek_122 rfl rfl
theorem en_X3_seek_123 : SndE EE S mi_X3_seek 123 (.inl (e_gR 126 3 56)) := sn_gR dX3_seek_123 rfl cl_3 (by decide) rfl (Or.inl q909) (Or.inl rfl)
theorem en_X3_seek_126 : SndE EE S mi_X3_seek 126 (.inl (e_lda 127 0)) := sn_aload_n dX3_seek_126 rfl rfl
theorem en_X3_seek_127 : SndE EE S mi_X3_seek 127 (.inl (e_gI 130 3 59)) := sn_gI dX3_seek_127 rfl cl_3 (by decide) rfl (Or.inl q912) (Or.inl rfl)
theorem en_X3_seek_130 : SndE EE S mi_X3_seek 130 (.inl (e_ald 131 1)) := sn_iald dX3_seek_130 rfl
theorem en_X3_seek_131 : SndE EE S mi_X3_seek 131 (.inl (e_ige 134 139)) := sn_ige dX3_seek_131 rfl (by decide)
theorem en_X3_seek_134 : SndE EE S mi_X3_seek 134 (.inl (e_lda 135 0)) := sn_aload_n dX3_seek_134 rfl rfl
theorem en_X3_seek_135 : SndE EE S mi_X3_seek 135 (.inl (e_ldi 136 1)) := sn_iload_n dX3_seek_135 rfl rfl
theorem en_X3_seek_136 : SndE EE S mi_X3_seek 136 (.inl (e_pI 139 3 59)) := sn_pI dX3_seek_136 rfl cl_3 (by decide) rfl (Or.inl ⟨q912, Or.inl rfl⟩) (Or.inl rfl) (fun _ => ⟨rfl, rfl⟩)
theorem en_X3_seek_139 : SndE EE S mi_X3_seek 139 (.inl (e_inc 142 1 (1))) := sn_iinc dX3_seek_139 rfl rfl rfl (by decide)
theorem en_X3_seek_142 : SndE EE S mi_X3_seek 142 (.inl (e_goto 14)) := sn_goto dX3_seek_142 (by decide)
theorem en_X3_seek_145 : SndE EE S mi_X3_seek 145 (.inl (e_lda 146 0)) := sn_aload_n dX3_seek_145 rfl rfl
theorem en_X3_seek_146 : SndE EE S mi_X3_seek 146 (.inl (e_psh 147 (.int (0)))) := sn_iconst dX3_seek_146 rfl rfl
theorem en_X3_seek_147 : SndE EE S mi_X3_seek 147 (.inl (e_pI 150 3 60)) := sn_pI dX3_seek_147 rfl cl_3 (by decide) rfl (Or.inl ⟨q913, Or.inl rfl⟩) (Or.inl rfl) (fun _ => ⟨rfl, rfl⟩)
theorem en_X3_seek_150 : SndE EE S mi_X3_seek 150 (.inl (e_lda 151 0)) := sn_aload_n dX3_seek_150 rfl rfl
theorem en_X3_seek_151 : SndE EE S mi_X3_seek 151 (.inl (e_gI 154 3 59)) := sn_gI dX3_seek_151 rfl cl_3 (by decide) rfl (Or.inl q912) (Or.inl rfl)
theorem en_X3_seek_154 : SndE EE S mi_X3_seek 154 (.inl (e_sti 155 1)) := sn_istore_n dX3_seek_154 rfl rfl rfl (by decide)
theorem en_X3_seek_155 : SndE EE S mi_X3_seek 155 (.inl (e_ldi 156 1)) := sn_iload_n dX3_seek_155 rfl rfl
theorem en_X3_seek_156 : SndE EE S mi_X3_seek 156 (.inl (e_zle 159 243)) := sn_zle dX3_seek_156 rfl (by decide)
theorem en_X3_seek_159 : SndE EE S mi_X3_seek 159 (.inl (e_psh 160 (.int (1)))) := sn_iconst dX3_seek_159 rfl rfl
theorem en_X3_seek_160 : SndE EE S mi_X3_seek 160 (.inl (e_sti 161 2)) := sn_istore_n dX3_seek_160 rfl rfl rfl (by decide)
theorem en_X3_seek_161 : SndE EE S mi_X3_seek 161 (.inl (e_ldi 162 2)) := sn_iload_n dX3_seek_161 rfl rfl
theorem en_X3_seek_162 : SndE EE S mi_X3_seek 162 (.inl (e_ldi 163 1)) := sn_iload_n dX3_seek_162 rfl rfl
theorem en_X3_seek_163 : SndE EE S mi_X3_seek 163 (.inl (e_psh 164 (.int (-1)))) := sn_iconst dX3_seek_163 rfl rfl
theorem en_X3_seek_164 : SndE EE S mi_X3_seek 164 (.inl (e_bin 165 (fun x y => x ^^^ y))) := sn_ixor dX3_seek_164 rfl
theorem en_X3_seek_165 : SndE EE S mi_X3_seek 165 (.inl (e_bin 166 (fun x y => x &&& y))) := sn_iand dX3_seek_165 rfl
theorem en_X3_seek_166 : SndE EE S mi_X3_seek 166 (.inl (e_zne 169 184)) := sn_zne dX3_seek_166 rfl (by decide)
theorem en_X3_seek_169 : SndE EE S mi_X3_seek 169 (.inl (e_lda 170 0)) := sn_aload_n dX3_seek_169 rfl rfl
theorem en_X3_seek_170 : SndE EE S mi_X3_seek 170 (.inl (e_ldi 171 1)) := sn_iload_n dX3_seek_170 rfl rfl
theorem en_X3_seek_171 : SndE EE S mi_X3_seek 171 (.inl (e_ldi 172 2)) := sn_iload_n dX3_seek_171 rfl rfl
theorem en_X3_seek_172 : SndE EE S mi_X3_seek 172 (.inr (.inl (d_cls 3 100, 3, 3))) := sc_virt dX3_seek_172 (rcv_cls (r := (RX3, TX3, 61)) rfl ⟨mo_X3_outBy, nmo_X3_outBy, q1254, q1256, qs50⟩)
theorem en_X3_seek_175 : SndE EE S mi_X3_seek 175 (.inl (e_lda 176 0)) := sn_aload_n dX3_seek_175 rfl rfl
theorem en_X3_seek_176 : SndE EE S mi_X3_seek 176 (.inl (e_gR 179 3 56)) := sn_gR dX3_seek_176 rfl cl_3 (by decide) rfl (Or.inl q909) (Or.inl rfl)
theorem en_X3_seek_179 : SndE EE S mi_X3_seek 179 (.inl (e_ldi 180 1)) := sn_iload_n dX3_seek_179 rfl rfl
theorem en_X3_seek_180 : SndE EE S mi_X3_seek 180 (.inl (e_ald 181 1)) := sn_iald dX3_seek_180 rfl
theorem en_X3_seek_181 : SndE EE S mi_X3_seek 181 (.inl (e_ieq 184 190)) := sn_ieq dX3_seek_181 rfl (by decide)
theorem en_X3_seek_184 : SndE EE S mi_X3_seek 184 (.inl (e_inc 187 2 (1))) := sn_iinc dX3_seek_184 rfl rfl rfl (by decide)
theorem en_X3_seek_187 : SndE EE S mi_X3_seek 187 (.inl (e_goto 161)) := sn_goto dX3_seek_187 (by decide)
theorem en_X3_seek_190 : SndE EE S mi_X3_seek 190 (.inl (e_lda 191 0)) := sn_aload_n dX3_seek_190 rfl rfl
theorem en_X3_seek_191 : SndE EE S mi_X3_seek 191 (.inl (e_gR 194 3 57)) := sn_gR dX3_seek_191 rfl cl_3 (by decide) rfl (Or.inl q910) (Or.inl rfl)
theorem en_X3_seek_194 : SndE EE S mi_X3_seek 194 (.inl (e_lda 195 0)) := sn_aload_n dX3_seek_194 rfl rfl
theorem en_X3_seek_195 : SndE EE S mi_X3_seek 195 (.inl (e_gI 198 3 60)) := sn_gI dX3_seek_195 rfl cl_3 (by decide) rfl (Or.inl q913) (Or.inl rfl)
theorem en_X3_seek_198 : SndE EE S mi_X3_seek 198 (.inl (e_ldi 199 2)) := sn_iload_n dX3_seek_198 rfl rfl
theorem en_X3_seek_199 : SndE EE S mi_X3_seek 199 (.inl (e_iast 200)) := sn_iast dX3_seek_199 rfl
theorem en_X3_seek_200 : SndE EE S mi_X3_seek 200 (.inl (e_lda 201 0)) := sn_aload_n dX3_seek_200 rfl rfl
theorem en_X3_seek_201 : SndE EE S mi_X3_seek 201 (.inl (e_gR 204 3 58)) := sn_gR dX3_seek_201 rfl cl_3 (by decide) rfl (Or.inl q911) (Or.inl rfl)
theorem en_X3_seek_204 : SndE EE S mi_X3_seek 204 (.inl (e_lda 205 0)) := sn_aload_n dX3_seek_204 rfl rfl
theorem en_X3_seek_205 : SndE EE S mi_X3_seek 205 (.inl (e_gI 208 3 60)) := sn_gI dX3_seek_205 rfl cl_3 (by decide) rfl (Or.inl q913) (Or.inl rfl)
theorem en_X3_seek_208 : SndE EE S mi_X3_seek 208 (.inl (e_lda 209 0)) := sn_aload_n dX3_seek_208 rfl rfl
theorem en_X3_seek_209 : SndE EE S mi_X3_seek 209 (.inl (e_ldi 210 2)) := sn_iload_n dX3_seek_209 rfl rfl
theorem en_X3_seek_210 : SndE EE S mi_X3_seek 210 (.inl (e_lda 211 0)) := sn_aload_n dX3_seek_210 rfl rfl
theorem en_X3_seek_211 : SndE EE S mi_X3_seek 211 (.inl (e_gR 214 3 56)) := sn_gR dX3_seek_211 rfl cl_3 (by decide) rfl (Or.inl q909) (Or.inl rfl)
theorem en_X3_seek_214 : SndE EE S mi_X3_seek 214 (.inl (e_ldi 215 1)) := sn_iload_n dX3_seek_214 rfl rfl
theorem en_X3_seek_215 : SndE EE S mi_X3_seek 215 (.inl (e_ldi 216 2)) := sn_iload_n dX3_seek_215 rfl rfl
theorem en_X3_seek_216 : SndE EE S mi_X3_seek 216 (.inl (e_psh 217 (.int (-1)))) := sn_iconst dX3_seek_216 rfl rfl
theorem en_X3_seek_217 : SndE EE S mi_X3_seek 217 (.inl (e_bin 218 (fun x y => x ^^^ y))) := sn_ixor dX3_seek_217 rfl
theorem en_X3_seek_218 : SndE EE S mi_X3_seek 218 (.inl (e_bin 219 (fun x y => x &&& y))) := sn_iand dX3_seek_218 rfl
theorem en_X3_seek_219 : SndE EE S mi_X3_seek 219 (.inl (e_ald 220 1)) := sn_iald dX3_seek_219 rfl
theorem en_X3_seek_220 : SndE EE S mi_X3_seek 220 (.inr (.inl (d_cls 3 101, 3, 3))) := sc_virt dX3_seek_220 (rcv_cls (r := (RX3, TX3, 61)) rfl ⟨mo_X3_putIn, nmo_X3_putIn, q1258, q1260, qs51⟩)
theorem en_X3_seek_223 : SndE EE S mi_X3_seek 223 (.inl (e_iast 224)) := sn_iast dX3_seek_223 rfl
theorem en_X3_seek_224 : SndE EE S mi_X3_seek 224 (.inl (e_lda 225 0)) := sn_aload_n dX3_seek_224 rfl rfl
theorem en_X3_seek_225 : SndE EE S mi_X3_seek 225 (.inl (e_dup 226)) := sn_dup dX3_seek_225 rfl
theorem en_X3_seek_226 : SndE EE S mi_X3_seek 226 (.inl (e_gI 229 3 60)) := sn_gI dX3_seek_226 rfl cl_3 (by decide) rfl (Or.inl q913) (Or.inl rfl)
theorem en_X3_seek_229 : SndE EE S mi_X3_seek 229 (.inl (e_psh 230 (.int (1)))) := sn_iconst dX3_seek_229 rfl rfl
theorem en_X3_seek_230 : SndE EE S mi_X3_seek 230 (.inl (e_bin 231 (fun x y => x + y))) := sn_iadd dX3_seek_230 rfl
theorem en_X3_seek_231 : SndE EE S mi_X3_seek 231 (.inl (e_pI 234 3 60)) := sn_pI dX3_seek_231 rfl cl_3 (by decide) rfl (Or.inl ⟨q913, Or.inl rfl⟩) (Or.inl rfl) (fun _ => ⟨rfl, rfl⟩)
theorem en_X3_seek_234 : SndE EE S mi_X3_seek 234 (.inl (e_ldi 235 1)) := sn_iload_n dX3_seek_234 rfl rfl
theorem en_X3_seek_235 : SndE EE S mi_X3_seek 235 (.inl (e_ldi 236 2)) := sn_iload_n dX3_seek_235 rfl rfl
theorem en_X3_seek_236 : SndE EE S mi_X3_seek 236 (.inl (e_psh 237 (.int (-1)))) := sn_iconst dX3_seek_236 rfl rfl
theorem en_X3_seek_237 : SndE EE S mi_X3_seek 237 (.inl (e_bin 238 (fun x y => x ^^^ y))) := sn_ixor dX3_seek_237 rfl
theorem en_X3_seek_238 : SndE EE S mi_X3_seek 238 (.inl (e_bin 239 (fun x y => x &&& y))) := sn_iand dX3_seek_238 rfl
theorem en_X3_seek_239 : SndE EE S mi_X3_seek 239 (.inl (e_sti 240 1)) := sn_istore_n dX3_seek_239 rfl rfl rfl (by decide)
theorem en_X3_seek_240 : SndE EE S mi_X3_seek 240 (.inl (e_goto 155)) := sn_goto dX3_seek_240 (by decide)
theorem en_X3_seek_243 : SndE EE S mi_X3_seek 243 (.inr (.inr 0)) := ⟨dX3_seek_243, rfl⟩
theorem sd_X3_seek : ∀ pc x, cd_X3_seek pc = some x → SndE EE S mi_X3_seek pc x := (tN_ok (tN_ok (tN_ok (tN_ok (tN_ok (tN_ok (tN_ok (tL_ok en_X3_seek_0) (tL_ok en_X3_seek_1)) (tN_ok (tL_ok en_X3_seek_2) (tL_ok en_X3_seek_5))) (tN_ok (tN_ok (tL_ok en_X3_seek_6) (tL_ok en_X3_seek_9)) (tN_ok (tL_ok en_X3_seek_10) (tN_ok (tL_ok en_X3_seek_11) (tL_ok en_X3_seek_12))))) (tN_ok (tN_ok (tN_ok (tL_ok en_X3_seek_13) (tL_ok en_X3_seek_14)) (tN_ok (tL_ok en_X3_seek_15) (tL_ok en_X3_seek_16))) (tN_ok (tN_ok (tL_ok en_X3_seek_17) (tL_ok en_X3_seek_20)) (tN_ok (tL_ok en_X3_seek_21) (tN_ok (tL_ok en_X3_seek_24) (tL_ok en_X3_seek_25)))))) (tN_ok (tN_ok (tN_ok (tN_ok (tL_ok en_X3_seek_28) (tL_ok en_X3_seek_29)) (tN_ok (tL_ok en_X3_seek_32) (tL_ok en_X3_seek_33))) (tN_ok (tN_ok (tL_ok en_X3_seek_34) (tL_ok en_X3_seek_35)) (tN_ok (tL_ok en_X3_seek_36) (tN_ok (tL_ok en_X3_seek_39) (tL_ok en_X3_seek_40))))) (tN_ok (tN_ok (tN_ok (tL_ok en_X3_seek_41) (tL_ok en_X3_seek_42)) (tN_ok (tL_ok en_X3_seek_45) (tN_ok (tL_ok en_X3_seek_46) (tL_ok en_X3_seek_47)))) (tN_ok (tN_ok (tL_ok en_X3_seek_50) (tL_ok en_X3_seek_51)) (tN_ok (tL_ok en_X3_seek_52) (tN_ok (tL_ok en_X3_seek_53) (tL_ok en_X3_seek_56))))))) (tN_ok (tN_ok (tN_ok (tN_ok (tN_ok (tL_ok en_X3_seek_57) (tL_ok en_X3_seek_58)) (tN_ok (tL_ok en_X3_seek_61) (tL_ok en_X3_seek_62))) (tN_ok (tN_ok (tL_ok en_X3_seek_65) (tL_ok en_X3_seek_66)) (tN_ok (tL_ok en_X3_seek_69) (tN_ok (tL_ok en_X3_seek_70) (tL_ok en_X3_seek_71))))) (tN_ok (tN_ok (tN_ok (tL_ok en_X3_seek_72) (tL_ok en_X3_seek_73)) (tN_ok (tL_ok en_X3_seek_74) (tN_ok (tL_ok en_X3_seek_75) (tL_ok en_X3_seek_76)))) (tN_ok (tN_ok (tL_ok en_X3_seek_77) (tL_ok en_X3_seek_78)) (tN_ok (tL_ok en_X3_seek_81) (tN_ok (tL_ok en_X3_seek_82) (tL_ok en_X3_seek_85)))))) (tN_ok (tN_ok (tN_ok (tN_ok (tL_ok en_X3_seek_86) (tL_ok en_X3_seek_87)) (tN_ok (tL_ok en_X3_seek_90) (tL_ok en_X3_seek_93))) (tN_ok (tN_ok (tL_ok en_X3_seek_94) (tL_ok en_X3_seek_95)) (tN_ok (tL_ok en_X3_seek_98) (tN_ok (tL_ok en_X3_seek_99) (tL_ok en_X3_seek_100))))) (tN_ok (tN_ok (tN_ok (tL_ok en_X3_seek_103) (tL_ok en_X3_seek_106)) (tN_ok (tL_ok en_X3_seek_107) (tN_ok (tL_ok en_X3_seek_108) (tL_ok en_X3_seek_111)))) (tN_ok (tN_ok (tL_ok en_X3_seek_112) (tL_ok en_X3_seek_113)) (tN_ok (tL_ok en_X3_seek_116) (tN_ok (tL_ok en_X3_seek_117) (tL_ok en_X3_seek_120)))))))) (tN_ok (tN_ok (tN_ok (tN_ok (tN_ok (tN_ok (tL_ok en_X3_seek_121) (tL_ok en_X3_seek_122)) (tN_ok (tL_ok en_X3_seek_123) (tL_ok en_X3_seek_126))) (tN_ok (tN_ok (tL_ok en_X3_seek_127) (tL_ok en_X3_seek_130)) (tN_ok (tL_ok en_X3_seek_131) (tN_ok (tL_ok en_X3_seek_134) (tL_ok en_X3_seek_135))))) (tN_ok (tN_ok (tN_ok (tL_ok en_X3_seek_136) (tL_ok en_X3_seek_139)) (tN_ok (tL_ok en_X3_seek_142) (tL_ok en_X3_seek_145))) (tN_ok (tN_ok (tL_ok en_X3_seek_146) (tL_ok en_X3_seek_147)) (tN_ok (tL_ok en_X3_seek_150) (tN_ok (tL_ok en_X3_seek_151) (tL_ok en_X3_seek_154)))))) (tN_ok (tN_ok (tN_ok (tN_ok (tL_ok en_X3_seek_155) (tL_ok en_X3_seek_156)) (tN_ok (tL_ok en_X3_seek_159) (tL_ok en_X3_seek_160))) (tN_ok (tN_ok (tL_ok en_X3_seek_161) (tL_ok en_X3_seek_162)) (tN_ok (tL_ok en_X3_seek_163) (tN_ok (tL_ok en_X3_seek_164) (tL_ok en_X3_seek_165))))) (tN_ok (tN_ok (tN_ok (tL_ok en_X3_seek_166) (tL_ok en_X3_seek_169)) (tN_ok (tL_ok en_X3_seek_170) (tN_ok (tL_ok en_X3_seek_171) (tL_ok en_X3_seek_172)))) (tN_ok (tN_ok (tL_ok en_X3_seek_175) (tL_ok en_X3_seek_176)) (tN_ok (tL_ok en_X3_seek_179) (tN_ok (tL_ok en_X3_seek_180) (tL_ok en_X3_seek_181))))))) (tN_ok (tN_ok (tN_ok (tN_ok (tN_ok (tL_ok en_X3_seek_184) (tL_ok en_X3_seek_187)) (tN_ok (tL_ok en_X3_seek_190) (tL_ok en_X3_seek_191))) (tN_ok (tN_ok (tL_ok en_X3_seek_194) (tL_ok en_X3_seek_195)) (tN_ok (tL_ok en_X3_seek_198) (tN_ok (tL_ok en_X3_seek_199) (tL_ok en_X3_seek_200))))) (tN_ok (tN_ok (tN_ok (tL_ok en_X3_seek_201) (tL_ok en_X3_seek_204)) (tN_ok (tL_ok en_X3_seek_205) (tN_ok (tL_ok en_X3_seek_208) (tL_ok en_X3_seek_209)))) (tN_ok (tN_ok (tL_ok en_X3_seek_210) (tL_ok en_X3_seek_211)) (tN_ok (tL_ok en_X3_seek_214) (tN_ok (tL_ok en_X3_seek_215) (tL_ok en_X3_seek_216)))))) (tN_ok (tN_ok (tN_ok (tN_ok (tL_ok en_X3_seek_217) (tL_ok en_X3_seek_218)) (tN_ok (tL_ok en_X3_seek_219) (tL_ok en_X3_seek_220))) (tN_ok (tN_ok (tL_ok en_X3_seek_223) (tL_ok en_X3_seek_224)) (tN_ok (tL_ok en_X3_seek_225) (tN_ok (tL_ok en_X3_seek_226) (tL_ok en_X3_seek_229))))) (tN_ok (tN_ok (tN_ok (tL_ok en_X3_seek_230) (tL_ok en_X3_seek_231)) (tN_ok (tL_ok en_X3_seek_234) (tN_ok (tL_ok en_X3_seek_235) (tL_ok en_X3_seek_236)))) (tN_ok (tN_ok (tL_ok en_X3_seek_237) (tL_ok en_X3_seek_238)) (tN_ok (tL_ok en_X3_seek_239) (tN_ok (tL_ok en_X3_seek_240) (tL_ok en_X3_seek_243)))))))))
theorem en_X3_outBy_0 : SndE EE S mi_X3_outBy 0 (.inl (e_lda 1 0)) := sn_aload_n dX3_outBy_0 rfl rfl
theorem en_X3_outBy_1 : SndE EE S mi_X3_outBy 1 (.inl (e_gR 4 3 56)) := sn_gR dX3_outBy_1 rfl cl_3 (by decide) rfl (Or.inl q909) (Or.inl rfl)
theorem en_X3_outBy_4 : SndE EE S mi_X3_outBy 4 (.inl (e_ldi 5 1)) := sn_iload_n dX3_outBy_4 rfl rfl
theorem en_X3_outBy_5 : SndE EE S mi_X3_outBy 5 (.inl (e_ldi 6 2)) := sn_iload_n dX3_outBy_5 rfl rfl
theorem en_X3_outBy_6 : SndE EE S mi_X3_outBy 6 (.inl (e_psh 7 (.int (-1)))) := sn_iconst dX3_outBy_6 rfl rfl
theorem en_X3_outBy_7 : SndE EE S mi_X3_outBy 7 (.inl (e_bin 8 (fun x y => x ^^^ y))) := sn_ixor dX3_outBy_7 rfl
theorem en_X3_outBy_8 : SndE EE S mi_X3_outBy 8 (.inl (e_bin 9 (fun x y => x &&& y))) := sn_iand dX3_outBy_8 rfl
theorem en_X3_outBy_9 : SndE EE S mi_X3_outBy 9 (.inl (e_ald 10 1)) := sn_iald dX3_outBy_9 rfl
theorem en_X3_outBy_10 : SndE EE S mi_X3_outBy 10 (.inl (e_sti 11 3)) := sn_istore_n dX3_outBy_10 rfl rfl rfl (by decide)
theorem en_X3_outBy_11 : SndE EE S mi_X3_outBy 11 (.inl (e_ldi 12 3)) := sn_iload_n dX3_outBy_11 rfl rfl
theorem en_X3_outBy_12 : SndE EE S mi_X3_outBy 12 (.inl (e_psh 15 (.int (1000000000)))) := sn_ldcw dX3_outBy_12 rfl q1253
theorem en_X3_outBy_15 : SndE EE S mi_X3_outBy 15 (.inl (e_ine 18 24)) := sn_ine dX3_outBy_15 rfl (by decide)
theorem en_X3_outBy_18 : SndE EE S mi_X3_outBy 18 (.inl (e_psh 21 (.int (1000000000)))) := sn_ldcw dX3_outBy_18 rfl q1253
theorem en_X3_outBy_21 : SndE EE S mi_X3_outBy 21 (.inl (e_goto 30)) := sn_goto dX3_outBy_21 (by decide)
theorem en_X3_outBy_24 : SndE EE S mi_X3_outBy 24 (.inl (e_lda 25 0)) := sn_aload_n dX3_outBy_24 rfl rfl
theorem en_X3_outBy_25 : SndE EE S mi_X3_outBy 25 (.inl (e_ldi 26 2)) := sn_iload_n dX3_outBy_25 rfl rfl
theorem en_X3_outBy_26 : SndE EE S mi_X3_outBy 26 (.inl (e_ldi 27 3)) := sn_iload_n dX3_outBy_26 rfl rfl
theorem en_X3_outBy_27 : SndE EE S mi_X3_outBy 27 (.inr (.inl (d_cls 3 101, 3, 3))) := sc_virt dX3_outBy_27 (rcv_cls (r := (RX3, TX3, 61)) rfl ⟨mo_X3_putIn, nmo_X3_putIn, q1258, q1260, qs51⟩)
theorem en_X3_outBy_30 : SndE EE S mi_X3_outBy 30 (.inl (e_sti 32 4)) := sn_istore dX3_outBy_30 rfl rfl (by decide)
theorem en_X3_outBy_32 : SndE EE S mi_X3_outBy 32 (.inl (e_ldi 34 4)) := sn_iload dX3_outBy_32 rfl
theorem en_X3_outBy_34 : SndE EE S mi_X3_outBy 34 (.inl (e_psh 37 (.int (1000000000)))) := sn_ldcw dX3_outBy_34 rfl q1253
theorem en_X3_outBy_37 : SndE EE S mi_X3_outBy 37 (.inl (e_ine 40 46)) := sn_ine dX3_outBy_37 rfl (by decide)
theorem en_X3_outBy_40 : SndE EE S mi_X3_outBy 40 (.inl (e_psh 43 (.int (1000000000)))) := sn_ldcw dX3_outBy_40 rfl q1253
theorem en_X3_outBy_43 : SndE EE S mi_X3_outBy 43 (.inl (e_goto 54)) := sn_goto dX3_outBy_43 (by decide)
theorem en_X3_outBy_46 : SndE EE S mi_X3_outBy 46 (.inl (e_ldi 48 4)) := sn_iload dX3_outBy_46 rfl
theorem en_X3_outBy_48 : SndE EE S mi_X3_outBy 48 (.inl (e_lda 49 0)) := sn_aload_n dX3_outBy_48 rfl rfl
theorem en_X3_outBy_49 : SndE EE S mi_X3_outBy 49 (.inl (e_ldi 50 2)) := sn_iload_n dX3_outBy_49 rfl rfl
theorem en_X3_outBy_50 : SndE EE S mi_X3_outBy 50 (.inr (.inl (d_cls 3 103, 2, 3))) := sc_virt dX3_outBy_50 (rcv_cls (r := (RX3, TX3, 61)) rfl ⟨mo_X3_lasts, nmo_X3_lasts, q1265, q1267, qs52⟩)
theorem en_X3_outBy_53 : SndE EE S mi_X3_outBy 53 (.inl (e_bin 54 (fun x y => x + y))) := sn_iadd dX3_outBy_53 rfl
theorem en_X3_outBy_54 : SndE EE S mi_X3_outBy 54 (.inr (.inr 1)) := ⟨dX3_outBy_54, rfl⟩
theorem sd_X3_outBy : ∀ pc x, cd_X3_outBy pc = some x → SndE EE S mi_X3_outBy pc x := (tN_ok (tN_ok (tN_ok (tN_ok (tL_ok en_X3_outBy_0) (tN_ok (tL_ok en_X3_outBy_1) (tL_ok en_X3_outBy_4))) (tN_ok (tN_ok (tL_ok en_X3_outBy_5) (tL_ok en_X3_outBy_6)) (tN_ok (tL_ok en_X3_outBy_7) (tL_ok en_X3_outBy_8)))) (tN_ok (tN_ok (tN_ok (tL_ok en_X3_outBy_9) (tL_ok en_X3_outBy_10)) (tN_ok (tL_ok en_X3_outBy_11) (tL_ok en_X3_outBy_12))) (tN_ok (tN_ok (tL_ok en_X3_outBy_15) (tL_ok en_X3_outBy_18)) (tN_ok (tL_ok en_X3_outBy_21) (tL_ok en_X3_outBy_24))))) (tN_ok (tN_ok (tN_ok (tL_ok en_X3_outBy_25) (tN_ok (tL_ok en_X3_outBy_26) (tL_ok en_X3_outBy_27))) (tN_ok (tN_ok (tL_ok en_X3_outBy_30) (tL_ok en_X3_outBy_32)) (tN_ok (tL_ok en_X3_outBy_34) (tL_ok en_X3_outBy_37)))) (tN_ok (tN_ok (tN_ok (tL_ok en_X3_outBy_40) (tL_ok en_X3_outBy_43)) (tN_ok (tL_ok en_X3_outBy_46) (tL_ok en_X3_outBy_48))) (tN_ok (tN_ok (tL_ok en_X3_outBy_49) (tL_ok en_X3_outBy_50)) (tN_ok (tL_ok en_X3_outBy_53) (tL_ok en_X3_outBy_54))))))
theorem en_X3_putIn_0 : SndE EE S mi_X3_putIn 0 (.inl (e_psh 3 (.int (1000000000)))) := sn_ldcw dX3_putIn_0 rfl q1253
theorem en_X3_putIn_3 : SndE EE S mi_X3_putIn 3 (.inl (e_sti 4 3)) := sn_istore_n dX3_putIn_3 rfl rfl rfl (by decide)
theorem en_X3_putIn_4 : SndE EE S mi_X3_putIn 4 (.inl (e_psh 5 (.int (0)))) := sn_iconst dX3_putIn_4 rfl rfl
theorem en_X3_putIn_5 : SndE EE S mi_X3_putIn 5 (.inl (e_sti 7 4)) := sn_istore dX3_putIn_5 rfl rfl (by decide)
theorem en_X3_putIn_7 : SndE EE S mi_X3_putIn 7 (.inl (e_psh 8 (.int (-1)))) := sn_iconst dX3_putIn_7 rfl rfl
theorem en_X3_putIn_8 : SndE EE S mi_X3_putIn 8 (.inl (e_sti 10 5)) := sn_istore dX3_putIn_8 rfl rfl (by decide)
theorem en_X3_putIn_10 : SndE EE S mi_X3_putIn 10 (.inl (e_ldi 11 1)) := sn_iload_n dX3_putIn_10 rfl rfl
theorem en_X3_putIn_11 : SndE EE S mi_X3_putIn 11 (.inr (.inl (fun _ _ => some 102, 1, 3))) := sc_stat dX3_putIn_11 mo_X3_many nmo_X3_many q1262 q1263 q1264
theorem en_X3_putIn_14 : SndE EE S mi_X3_putIn 14 (.inl (e_lda 15 0)) := sn_aload_n dX3_putIn_14 rfl rfl
theorem en_X3_putIn_15 : SndE EE S mi_X3_putIn 15 (.inl (e_gI 18 3 49)) := sn_gI dX3_putIn_15 rfl cl_3 (by decide) rfl (Or.inl q902) (Or.inl rfl)
theorem en_X3_putIn_18 : SndE EE S mi_X3_putIn 18 (.inl (e_igt 21 25)) := sn_igt dX3_putIn_18 rfl (by decide)
theorem en_X3_putIn_21 : SndE EE S mi_X3_putIn 21 (.inl (e_psh 22 (.int (1)))) := sn_iconst dX3_putIn_21 rfl rfl
theorem en_X3_putIn_22 : SndE EE S mi_X3_putIn 22 (.inl (e_goto 26)) := sn_goto dX3_putIn_22 (by decide)
theorem en_X3_putIn_25 : SndE EE S mi_X3_putIn 25 (.inl (e_psh 26 (.int (0)))) := sn_iconst dX3_putIn_25 rfl rfl
theorem en_X3_putIn_26 : SndE EE S mi_X3_putIn 26 (.inl (e_sti 28 6)) := sn_istore dX3_putIn_26 rfl rfl (by decide)
theorem en_X3_putIn_28 : SndE EE S mi_X3_putIn 28 (.inl (e_psh 29 (.int (0)))) := sn_iconst dX3_putIn_28 rfl rfl
theorem en_X3_putIn_29 : SndE EE S mi_X3_putIn 29 (.inl (e_sti 31 7)) := sn_istore dX3_putIn_29 rfl rfl (by decide)
theorem en_X3_putIn_31 : SndE EE S mi_X3_putIn 31 (.inl (e_ldi 33 7)) := sn_iload dX3_putIn_31 rfl
theorem en_X3_putIn_33 : SndE EE S mi_X3_putIn 33 (.inl (e_lda 34 0)) := sn_aload_n dX3_putIn_33 rfl rfl
theorem en_X3_putIn_34 : SndE EE S mi_X3_putIn 34 (.inl (e_gI 37 3 53)) := sn_gI dX3_putIn_34 rfl cl_3 (by decide) rfl (Or.inl q906) (Or.inl rfl)
theorem en_X3_putIn_37 : SndE EE S mi_X3_putIn 37 (.inl (e_ige 40 145)) := sn_ige dX3_putIn_37 rfl (by decide)
theorem en_X3_putIn_40 : SndE EE S mi_X3_putIn 40 (.inl (e_ldi 41 1)) := sn_iload_n dX3_putIn_40 rfl rfl
theorem en_X3_putIn_41 : SndE EE S mi_X3_putIn 41 (.inl (e_ldi 43 7)) := sn_iload dX3_putIn_41 rfl
theorem en_X3_putIn_43 : SndE EE S mi_X3_putIn 43 (.inl (e_bin 44 (fun x y => x >>> (y &&& 31)))) := sn_ishr dX3_putIn_43 rfl
theorem en_X3_putIn_44 : SndE EE S mi_X3_putIn 44 (.inl (e_psh 45 (.int (1)))) := sn_iconst dX3_putIn_44 rfl rfl
theorem en_X3_putIn_45 : SndE EE S mi_X3_putIn 45 (.inl (e_bin 46 (fun x y => x &&& y))) := sn_iand dX3_putIn_45 rfl
theorem en_X3_putIn_46 : SndE EE S mi_X3_putIn 46 (.inl (e_zne 49 52)) := sn_zne dX3_putIn_46 rfl (by decide)
theorem en_X3_putIn_49 : SndE EE S mi_X3_putIn 49 (.inl (e_goto 139)) := sn_goto dX3_putIn_49 (by decide)
theorem en_X3_putIn_52 : SndE EE S mi_X3_putIn 52 (.inl (e_ldi 54 6)) := sn_iload dX3_putIn_52 rfl
theorem en_X3_putIn_54 : SndE EE S mi_X3_putIn 54 (.inl (e_zeq 57 78)) := sn_zeq dX3_putIn_54 rfl (by decide)
theorem en_X3_putIn_57 : SndE EE S mi_X3_putIn 57 (.inl (e_ldi 59 5)) := sn_iload dX3_putIn_57 rfl
theorem en_X3_putIn_59 : SndE EE S mi_X3_putIn 59 (.inl (e_zlt 62 74)) := sn_zlt dX3_putIn_59 rfl (by decide)
theorem en_X3_putIn_62 : SndE EE S mi_X3_putIn 62 (.inl (e_ldi 64 5)) := sn_iload dX3_putIn_62 rfl
theorem en_X3_putIn_64 : SndE EE S mi_X3_putIn 64 (.inl (e_lda 65 0)) := sn_aload_n dX3_putIn_64 rfl rfl
theorem en_X3_putIn_65 : SndE EE S mi_X3_putIn 65 (.inl (e_gR 68 3 54)) := sn_gR dX3_putIn_65 rfl cl_3 (by decide) rfl (Or.inl q907) (Or.inl rfl)
theorem en_X3_putIn_68 : SndE EE S mi_X3_putIn 68 (.inl (e_ldi 70 7)) := sn_iload dX3_putIn_68 rfl
theorem en_X3_putIn_70 : SndE EE S mi_X3_putIn 70 (.inl (e_ald 71 1)) := sn_iald dX3_putIn_70 rfl
theorem en_X3_putIn_71 : SndE EE S mi_X3_putIn 71 (.inl (e_ine 74 78)) := sn_ine dX3_putIn_71 rfl (by decide)
theorem en_X3_putIn_74 : SndE EE S mi_X3_putIn 74 (.inl (e_psh 75 (.int (1)))) := sn_iconst dX3_putIn_74 rfl rfl
theorem en_X3_putIn_75 : SndE EE S mi_X3_putIn 75 (.inl (e_goto 79)) := sn_goto dX3_putIn_75 (by decide)
theorem en_X3_putIn_78 : SndE EE S mi_X3_putIn 78 (.inl (e_psh 79 (.int (0)))) := sn_iconst dX3_putIn_78 rfl rfl
theorem en_X3_putIn_79 : SndE EE S mi_X3_putIn 79 (.inl (e_sti 81 6)) := sn_istore dX3_putIn_79 rfl rfl (by decide)
theorem en_X3_putIn_81 : SndE EE S mi_X3_putIn 81 (.inl (e_lda 82 0)) := sn_aload_n dX3_putIn_81 rfl rfl
theorem en_X3_putIn_82 : SndE EE S mi_X3_putIn 82 (.inl (e_gR 85 3 54)) := sn_gR dX3_putIn_82 rfl cl_3 (by decide) rfl (Or.inl q907) (Or.inl rfl)
theorem en_X3_putIn_85 : SndE EE S mi_X3_putIn 85 (.inl (e_ldi 87 7)) := sn_iload dX3_putIn_85 rfl
theorem en_X3_putIn_87 : SndE EE S mi_X3_putIn 87 (.inl (e_ald 88 1)) := sn_iald dX3_putIn_87 rfl
theorem en_X3_putIn_88 : SndE EE S mi_X3_putIn 88 (.inl (e_sti 90 5)) := sn_istore dX3_putIn_88 rfl rfl (by decide)
theorem en_X3_putIn_90 : SndE EE S mi_X3_putIn 90 (.inl (e_lda 91 0)) := sn_aload_n dX3_putIn_90 rfl rfl
theorem en_X3_putIn_91 : SndE EE S mi_X3_putIn 91 (.inl (e_gR 94 3 55)) := sn_gR dX3_putIn_91 rfl cl_3 (by decide) rfl (Or.inl q908) (Or.inl rfl)
theorem en_X3_putIn_94 : SndE EE S mi_X3_putIn 94 (.inl (e_ldi 96 7)) := sn_iload dX3_putIn_94 rfl
theorem en_X3_putIn_96 : SndE EE S mi_X3_putIn 96 (.inl (e_ald 97 1)) := sn_iald dX3_putIn_96 rfl
theorem en_X3_putIn_97 : SndE EE S mi_X3_putIn 97 (.inl (e_ldi 98 3)) := sn_iload_n dX3_putIn_97 rfl rfl
theorem en_X3_putIn_98 : SndE EE S mi_X3_putIn 98 (.inl (e_ige 101 111)) := sn_ige dX3_putIn_98 rfl (by decide)
theorem en_X3_putIn_101 : SndE EE S mi_X3_putIn 101 (.inl (e_lda 102 0)) := sn_aload_n dX3_putIn_101 rfl rfl
theorem en_X3_putIn_102 : SndE EE S mi_X3_putIn 102 (.inl (e_gR 105 3 55)) := sn_gR dX3_putIn_102 rfl cl_3 (by decide) rfl (Or.inl q908) (Or.inl rfl)
theorem en_X3_putIn_105 : SndE EE S mi_X3_putIn 105 (.inl (e_ldi 107 7)) := sn_iload dX3_putIn_105 rfl
theorem en_X3_putIn_107 : SndE EE S mi_X3_putIn 107 (.inl (e_ald 108 1)) := sn_iald dX3_putIn_107 rfl
theorem en_X3_putIn_108 : SndE EE S mi_X3_putIn 108 (.inl (e_goto 112)) := sn_goto dX3_putIn_108 (by decide)
theorem en_X3_putIn_111 : SndE EE S mi_X3_putIn 111 (.inl (e_ldi 112 3)) := sn_iload_n dX3_putIn_111 rfl rfl
theorem en_X3_putIn_112 : SndE EE S mi_X3_putIn 112 (.inl (e_sti 113 3)) := sn_istore_n dX3_putIn_112 rfl rfl rfl (by decide)
theorem en_X3_putIn_113 : SndE EE S mi_X3_putIn 113 (.inl (e_lda 114 0)) := sn_aload_n dX3_putIn_113 rfl rfl
theorem en_X3_putIn_114 : SndE EE S mi_X3_putIn 114 (.inl (e_gR 117 3 55)) := sn_gR dX3_putIn_114 rfl cl_3 (by decide) rfl (Or.inl q908) (Or.inl rfl)
theorem en_X3_putIn_117 : SndE EE S mi_X3_putIn 117 (.inl (e_ldi 119 7)) := sn_iload dX3_putIn_117 rfl
theorem en_X3_putIn_119 : SndE EE S mi_X3_putIn 119 (.inl (e_ald 120 1)) := sn_iald dX3_putIn_119 rfl
theorem en_X3_putIn_120 : SndE EE S mi_X3_putIn 120 (.inl (e_ldi 122 4)) := sn_iload dX3_putIn_120 rfl
theorem en_X3_putIn_122 : SndE EE S mi_X3_putIn 122 (.inl (e_ile 125 135)) := sn_ile dX3_putIn_122 rfl (by decide)
theorem en_X3_putIn_125 : SndE EE S mi_X3_putIn 125 (.inl (e_lda 126 0)) := sn_aload_n dX3_putIn_125 rfl rfl
theorem en_X3_putIn_126 : SndE EE S mi_X3_putIn 126 (.inl (e_gR 129 3 55)) := sn_gR dX3_putIn_126 rfl cl_3 (by decide) rfl (Or.inl q908) (Or.inl rfl)
theorem en_X3_putIn_129 : SndE EE S mi_X3_putIn 129 (.inl (e_ldi 131 7)) := sn_iload dX3_putIn_129 rfl
theorem en_X3_putIn_131 : SndE EE S mi_X3_putIn 131 (.inl (e_ald 132 1)) := sn_iald dX3_putIn_131 rfl
theorem en_X3_putIn_132 : SndE EE S mi_X3_putIn 132 (.inl (e_goto 137)) := sn_goto dX3_putIn_132 (by decide)
theorem en_X3_putIn_135 : SndE EE S mi_X3_putIn 135 (.inl (e_ldi 137 4)) := sn_iload dX3_putIn_135 rfl
theorem en_X3_putIn_137 : SndE EE S mi_X3_putIn 137 (.inl (e_sti 139 4)) := sn_istore dX3_putIn_137 rfl rfl (by decide)
theorem en_X3_putIn_139 : SndE EE S mi_X3_putIn 139 (.inl (e_inc 142 7 (1))) := sn_iinc dX3_putIn_139 rfl rfl rfl (by decide)
theorem en_X3_putIn_142 : SndE EE S mi_X3_putIn 142 (.inl (e_goto 31)) := sn_goto dX3_putIn_142 (by decide)
theorem en_X3_putIn_145 : SndE EE S mi_X3_putIn 145 (.inl (e_ldi 146 2)) := sn_iload_n dX3_putIn_145 rfl rfl
theorem en_X3_putIn_146 : SndE EE S mi_X3_putIn 146 (.inl (e_ldi 148 4)) := sn_iload dX3_putIn_146 rfl
theorem en_X3_putIn_148 : SndE EE S mi_X3_putIn 148 (.inl (e_ile 151 155)) := sn_ile dX3_putIn_148 rfl (by decide)
theorem en_X3_putIn_151 : SndE EE S mi_X3_putIn 151 (.inl (e_ldi 152 2)) := sn_iload_n dX3_putIn_151 rfl rfl
theorem en_X3_putIn_152 : SndE EE S mi_X3_putIn 152 (.inl (e_goto 157)) := sn_goto dX3_putIn_152 (by decide)
theorem en_X3_putIn_155 : SndE EE S mi_X3_putIn 155 (.inl (e_ldi 157 4)) := sn_iload dX3_putIn_155 rfl
theorem en_X3_putIn_157 : SndE EE S mi_X3_putIn 157 (.inl (e_sti 159 7)) := sn_istore dX3_putIn_157 rfl rfl (by decide)
theorem en_X3_putIn_159 : SndE EE S mi_X3_putIn 159 (.inl (e_ldi 161 6)) := sn_iload dX3_putIn_159 rfl
theorem en_X3_putIn_161 : SndE EE S mi_X3_putIn 161 (.inl (e_zeq 164 180)) := sn_zeq dX3_putIn_161 rfl (by decide)
theorem en_X3_putIn_164 : SndE EE S mi_X3_putIn 164 (.inl (e_ldi 166 7)) := sn_iload dX3_putIn_164 rfl
theorem en_X3_putIn_166 : SndE EE S mi_X3_putIn 166 (.inl (e_ldi 167 3)) := sn_iload_n dX3_putIn_166 rfl rfl
theorem en_X3_putIn_167 : SndE EE S mi_X3_putIn 167 (.inl (e_bin 168 (fun x y => x - y))) := sn_isub dX3_putIn_167 rfl
theorem en_X3_putIn_168 : SndE EE S mi_X3_putIn 168 (.inl (e_lda 169 0)) := sn_aload_n dX3_putIn_168 rfl rfl
theorem en_X3_putIn_169 : SndE EE S mi_X3_putIn 169 (.inl (e_gI 172 3 52)) := sn_gI dX3_putIn_169 rfl cl_3 (by decide) rfl (Or.inl q905) (Or.inl rfl)
theorem en_X3_putIn_172 : SndE EE S mi_X3_putIn 172 (.inl (e_igt 175 180)) := sn_igt dX3_putIn_172 rfl (by decide)
theorem en_X3_putIn_175 : SndE EE S mi_X3_putIn 175 (.inl (e_ldi 177 7)) := sn_iload dX3_putIn_175 rfl
theorem en_X3_putIn_177 : SndE EE S mi_X3_putIn 177 (.inl (e_goto 183)) := sn_goto dX3_putIn_177 (by decide)
theorem en_X3_putIn_180 : SndE EE S mi_X3_putIn 180 (.inl (e_psh 183 (.int (1000000000)))) := sn_ldcw dX3_putIn_180 rfl q1253
theorem en_X3_putIn_183 : SndE EE S mi_X3_putIn 183 (.inr (.inr 1)) := ⟨dX3_putIn_183, rfl⟩
theorem sd_X3_putIn : ∀ pc x, cd_X3_putIn pc = some x → SndE EE S mi_X3_putIn pc x := (tN_ok (tN_ok (tN_ok (tN_ok (tN_ok (tN_ok (tL_ok en_X3_putIn_0) (tL_ok en_X3_putIn_3)) (tN_ok (tL_ok en_X3_putIn_4) (tN_ok (tL_ok en_X3_putIn_5) (tL_ok en_X3_putIn_7)))) (tN_ok (tN_ok (tL_ok en_X3_putIn_8) (tN_ok (tL_ok en_X3_putIn_10) (tL_ok en_X3_putIn_11))) (tN_ok (tL_ok en_X3_putIn_14) (tN_ok (tL_ok en_X3_putIn_15) (tL_ok en_X3_putIn_18))))) (tN_ok (tN_ok (tN_ok (tL_ok en_X3_putIn_21) (tN_ok (tL_ok en_X3_putIn_22) (tL_ok en_X3_putIn_25))) (tN_ok (tL_ok en_X3_putIn_26) (tN_ok (tL_ok en_X3_putIn_28) (tL_ok en_X3_putIn_29)))) (tN_ok (tN_ok (tL_ok en_X3_putIn_31) (tN_ok (tL_ok en_X3_putIn_33) (tL_ok en_X3_putIn_34))) (tN_ok (tL_ok en_X3_putIn_37) (tN_ok (tL_ok en_X3_putIn_40) (tL_ok en_X3_putIn_41)))))) (tN_ok (tN_ok (tN_ok (tN_ok (tL_ok en_X3_putIn_43) (tN_ok (tL_ok en_X3_putIn_44) (tL_ok en_X3_putIn_45))) (tN_ok (tL_ok en_X3_putIn_46) (tN_ok (tL_ok en_X3_putIn_49) (tL_ok en_X3_putIn_52)))) (tN_ok (tN_ok (tL_ok en_X3_putIn_54) (tN_ok (tL_ok en_X3_putIn_57) (tL_ok en_X3_putIn_59))) (tN_ok (tL_ok en_X3_putIn_62) (tN_ok (tL_ok en_X3_putIn_64) (tL_ok en_X3_putIn_65))))) (tN_ok (tN_ok (tN_ok (tL_ok en_X3_putIn_68) (tN_ok (tL_ok en_X3_putIn_70) (tL_ok en_X3_putIn_71))) (tN_ok (tL_ok en_X3_putIn_74) (tN_ok (tL_ok en_X3_putIn_75) (tL_ok en_X3_putIn_78)))) (tN_ok (tN_ok (tL_ok en_X3_putIn_79) (tN_ok (tL_ok en_X3_putIn_81) (tL_ok en_X3_putIn_82))) (tN_ok (tL_ok en_X3_putIn_85) (tN_ok (tL_ok en_X3_putIn_87) (tL_ok en_X3_putIn_88))))))) (tN_ok (tN_ok (tN_ok (tN_ok (tN_ok (tL_ok en_X3_putIn_90) (tL_ok en_X3_putIn_91)) (tN_ok (tL_ok en_X3_putIn_94) (tN_ok (tL_ok en_X3_putIn_96) (tL_ok en_X3_putIn_97)))) (tN_ok (tN_ok (tL_ok en_X3_putIn_98) (tN_ok (tL_ok en_X3_putIn_101) (tL_ok en_X3_putIn_102))) (tN_ok (tL_ok en_X3_putIn_105) (tN_ok (tL_ok en_X3_putIn_107) (tL_ok en_X3_putIn_108))))) (tN_ok (tN_ok (tN_ok (tL_ok en_X3_putIn_111) (tN_ok (tL_ok en_X3_putIn_112) (tL_ok en_X3_putIn_113))) (tN_ok (tL_ok en_X3_putIn_114) (tN_ok (tL_ok en_X3_putIn_117) (tL_ok en_X3_putIn_119)))) (tN_ok (tN_ok (tL_ok en_X3_putIn_120) (tN_ok (tL_ok en_X3_putIn_122) (tL_ok en_X3_putIn_125))) (tN_ok (tL_ok en_X3_putIn_126) (tN_ok (tL_ok en_X3_putIn_129) (tL_ok en_X3_putIn_131)))))) (tN_ok (tN_ok (tN_ok (tN_ok (tL_ok en_X3_putIn_132) (tN_ok (tL_ok en_X3_putIn_135) (tL_ok en_X3_putIn_137))) (tN_ok (tL_ok en_X3_putIn_139) (tN_ok (tL_ok en_X3_putIn_142) (tL_ok en_X3_putIn_145)))) (tN_ok (tN_ok (tL_ok en_X3_putIn_146) (tN_ok (tL_ok en_X3_putIn_148) (tL_ok en_X3_putIn_151))) (tN_ok (tL_ok en_X3_putIn_152) (tN_ok (tL_ok en_X3_putIn_155) (tL_ok en_X3_putIn_157))))) (tN_ok (tN_ok (tN_ok (tL_ok en_X3_putIn_159) (tN_ok (tL_ok en_X3_putIn_161) (tL_ok en_X3_putIn_164))) (tN_ok (tL_ok en_X3_putIn_166) (tN_ok (tL_ok en_X3_putIn_167) (tL_ok en_X3_putIn_168)))) (tN_ok (tN_ok (tL_ok en_X3_putIn_169) (tN_ok (tL_ok en_X3_putIn_172) (tL_ok en_X3_putIn_175))) (tN_ok (tL_ok en_X3_putIn_177) (tN_ok (tL_ok en_X3_putIn_180) (tL_ok en_X3_putIn_183))))))))
theorem en_X3_many_0 : SndE EE S mi_X3_many 0 (.inl (e_psh 1 (.int (0)))) := sn_iconst dX3_many_0 rfl rfl
theorem en_X3_many_1 : SndE EE S mi_X3_many 1 (.inl (e_sti 2 1)) := sn_istore_n dX3_many_1 rfl rfl rfl (by decide)
theorem en_X3_many_2 : SndE EE S mi_X3_many 2 (.inl (e_psh 3 (.int (0)))) := sn_iconst dX3_many_2 rfl rfl
theorem en_X3_many_3 : SndE EE S mi_X3_many 3 (.inl (e_sti 4 2)) := sn_istore_n dX3_many_3 rfl rfl rfl (by decide)
theorem en_X3_many_4 : SndE EE S mi_X3_many 4 (.inl (e_ldi 5 2)) := sn_iload_n dX3_many_4 rfl rfl
theorem en_X3_many_5 : SndE EE S mi_X3_many 5 (.inl (e_psh 7 (.int (10)))) := sn_bipush dX3_many_5 rfl rfl
theorem en_X3_many_7 : SndE EE S mi_X3_many 7 (.inl (e_ige 10 24)) := sn_ige dX3_many_7 rfl (by decide)
theorem en_X3_many_10 : SndE EE S mi_X3_many 10 (.inl (e_ldi 11 1)) := sn_iload_n dX3_many_10 rfl rfl
theorem en_X3_many_11 : SndE EE S mi_X3_many 11 (.inl (e_ldi 12 0)) := sn_iload_n dX3_many_11 rfl rfl
theorem en_X3_many_12 : SndE EE S mi_X3_many 12 (.inl (e_ldi 13 2)) := sn_iload_n dX3_many_12 rfl rfl
theorem en_X3_many_13 : SndE EE S mi_X3_many 13 (.inl (e_bin 14 (fun x y => x >>> (y &&& 31)))) := sn_ishr dX3_many_13 rfl
theorem en_X3_many_14 : SndE EE S mi_X3_many 14 (.inl (e_psh 15 (.int (1)))) := sn_iconst dX3_many_14 rfl rfl
theorem en_X3_many_15 : SndE EE S mi_X3_many 15 (.inl (e_bin 16 (fun x y => x &&& y))) := sn_iand dX3_many_15 rfl
theorem en_X3_many_16 : SndE EE S mi_X3_many 16 (.inl (e_bin 17 (fun x y => x + y))) := sn_iadd dX3_many_16 rfl
theorem en_X3_many_17 : SndE EE S mi_X3_many 17 (.inl (e_sti 18 1)) := sn_istore_n dX3_many_17 rfl rfl rfl (by decide)
theorem en_X3_many_18 : SndE EE S mi_X3_many 18 (.inl (e_inc 21 2 (1))) := sn_iinc dX3_many_18 rfl rfl rfl (by decide)
theorem en_X3_many_21 : SndE EE S mi_X3_many 21 (.inl (e_goto 4)) := sn_goto dX3_many_21 (by decide)
theorem en_X3_many_24 : SndE EE S mi_X3_many 24 (.inl (e_ldi 25 1)) := sn_iload_n dX3_many_24 rfl rfl
theorem en_X3_many_25 : SndE EE S mi_X3_many 25 (.inr (.inr 1)) := ⟨dX3_many_25, rfl⟩
theorem sd_X3_many : ∀ pc x, cd_X3_many pc = some x → SndE EE S mi_X3_many pc x := (tN_ok (tN_ok (tN_ok (tN_ok (tL_ok en_X3_many_0) (tL_ok en_X3_many_1)) (tN_ok (tL_ok en_X3_many_2) (tL_ok en_X3_many_3))) (tN_ok (tN_ok (tL_ok en_X3_many_4) (tL_ok en_X3_many_5)) (tN_ok (tL_ok en_X3_many_7) (tN_ok (tL_ok en_X3_many_10) (tL_ok en_X3_many_11))))) (tN_ok (tN_ok (tN_ok (tL_ok en_X3_many_12) (tL_ok en_X3_many_13)) (tN_ok (tL_ok en_X3_many_14) (tN_ok (tL_ok en_X3_many_15) (tL_ok en_X3_many_16)))) (tN_ok (tN_ok (tL_ok en_X3_many_17) (tL_ok en_X3_many_18)) (tN_ok (tL_ok en_X3_many_21) (tN_ok (tL_ok en_X3_many_24) (tL_ok en_X3_many_25))))))
theorem en_X3_lasts_0 : SndE EE S mi_X3_lasts 0 (.inl (e_psh 1 (.int (0)))) := sn_iconst dX3_lasts_0 rfl rfl
theorem en_X3_lasts_1 : SndE EE S mi_X3_lasts 1 (.inl (e_sti 2 2)) := sn_istore_n dX3_lasts_1 rfl rfl rfl (by decide)
theorem en_X3_lasts_2 : SndE EE S mi_X3_lasts 2 (.inl (e_ldi 3 1)) := sn_iload_n dX3_lasts_2 rfl rfl
theorem en_X3_lasts_3 : SndE EE S mi_X3_lasts 3 (.inl (e_ldi 4 2)) := sn_iload_n dX3_lasts_3 rfl rfl
theorem en_X3_lasts_4 : SndE EE S mi_X3_lasts 4 (.inl (e_bin 5 (fun x y => x >>> (y &&& 31)))) := sn_ishr dX3_lasts_4 rfl
theorem en_X3_lasts_5 : SndE EE S mi_X3_lasts 5 (.inl (e_psh 6 (.int (1)))) := sn_iconst dX3_lasts_5 rfl rfl
theorem en_X3_lasts_6 : SndE EE S mi_X3_lasts 6 (.inl (e_bin 7 (fun x y => x &&& y))) := sn_iand dX3_lasts_6 rfl
theorem en_X3_lasts_7 : SndE EE S mi_X3_lasts 7 (.inl (e_zne 10 16)) := sn_zne dX3_lasts_7 rfl (by decide)
theorem en_X3_lasts_10 : SndE EE S mi_X3_lasts 10 (.inl (e_inc 13 2 (1))) := sn_iinc dX3_lasts_10 rfl rfl rfl (by decide)
theorem en_X3_lasts_13 : SndE EE S mi_X3_lasts 13 (.inl (e_goto 2)) := sn_goto dX3_lasts_13 (by decide)
theorem en_X3_lasts_16 : SndE EE S mi_X3_lasts 16 (.inl (e_lda 17 0)) := sn_aload_n dX3_lasts_16 rfl rfl
theorem en_X3_lasts_17 : SndE EE S mi_X3_lasts 17 (.inl (e_gI 20 3 50)) := sn_gI dX3_lasts_17 rfl cl_3 (by decide) rfl (Or.inl q903) (Or.inl rfl)
theorem en_X3_lasts_20 : SndE EE S mi_X3_lasts 20 (.inl (e_lda 21 0)) := sn_aload_n dX3_lasts_20 rfl rfl
theorem en_X3_lasts_21 : SndE EE S mi_X3_lasts 21 (.inl (e_gI 24 3 51)) := sn_gI dX3_lasts_21 rfl cl_3 (by decide) rfl (Or.inl q904) (Or.inl rfl)
theorem en_X3_lasts_24 : SndE EE S mi_X3_lasts 24 (.inl (e_lda 25 0)) := sn_aload_n dX3_lasts_24 rfl rfl
theorem en_X3_lasts_25 : SndE EE S mi_X3_lasts 25 (.inl (e_gR 28 3 54)) := sn_gR dX3_lasts_25 rfl cl_3 (by decide) rfl (Or.inl q907) (Or.inl rfl)
theorem en_X3_lasts_28 : SndE EE S mi_X3_lasts 28 (.inl (e_ldi 29 2)) := sn_iload_n dX3_lasts_28 rfl rfl
theorem en_X3_lasts_29 : SndE EE S mi_X3_lasts 29 (.inl (e_ald 30 1)) := sn_iald dX3_lasts_29 rfl
theorem en_X3_lasts_30 : SndE EE S mi_X3_lasts 30 (.inl (e_bin 31 (fun x y => x * y))) := sn_imul dX3_lasts_30 rfl
theorem en_X3_lasts_31 : SndE EE S mi_X3_lasts 31 (.inl (e_bin 32 (fun x y => x + y))) := sn_iadd dX3_lasts_31 rfl
theorem en_X3_lasts_32 : SndE EE S mi_X3_lasts 32 (.inr (.inr 1)) := ⟨dX3_lasts_32, rfl⟩
theorem sd_X3_lasts : ∀ pc x, cd_X3_lasts pc = some x → SndE EE S mi_X3_lasts pc x := (tN_ok (tN_ok (tN_ok (tN_ok (tL_ok en_X3_lasts_0) (tL_ok en_X3_lasts_1)) (tN_ok (tL_ok en_X3_lasts_2) (tN_ok (tL_ok en_X3_lasts_3) (tL_ok en_X3_lasts_4)))) (tN_ok (tN_ok (tL_ok en_X3_lasts_5) (tL_ok en_X3_lasts_6)) (tN_ok (tL_ok en_X3_lasts_7) (tN_ok (tL_ok en_X3_lasts_10) (tL_ok en_X3_lasts_13))))) (tN_ok (tN_ok (tN_ok (tL_ok en_X3_lasts_16) (tL_ok en_X3_lasts_17)) (tN_ok (tL_ok en_X3_lasts_20) (tN_ok (tL_ok en_X3_lasts_21) (tL_ok en_X3_lasts_24)))) (tN_ok (tN_ok (tL_ok en_X3_lasts_25) (tN_ok (tL_ok en_X3_lasts_28) (tL_ok en_X3_lasts_29))) (tN_ok (tL_ok en_X3_lasts_30) (tN_ok (tL_ok en_X3_lasts_31) (tL_ok en_X3_lasts_32))))))
theorem en_X3_load_0 : SndE EE S mi_X3_load 0 (.inl (e_lda 1 0)) := sn_aload_n dX3_load_0 rfl rfl
theorem en_X3_load_1 : SndE EE S mi_X3_load 1 (.inr (.inl (d_cls 3 99, 1, 3))) := sc_virt dX3_load_1 (rcv_cls (r := (RX3, TX3, 61)) rfl ⟨mo_X3_seek, nmo_X3_seek, q1249, q1251, qs49⟩)
theorem en_X3_load_4 : SndE EE S mi_X3_load 4 (.inl (e_ldi 5 1)) := sn_iload_n dX3_load_4 rfl rfl
theorem en_X3_load_5 : SndE EE S mi_X3_load 5 (.inl (e_zlt 8 16)) := sn_zlt dX3_load_5 rfl (by decide)
theorem en_X3_load_8 : SndE EE S mi_X3_load 8 (.inl (e_ldi 9 1)) := sn_iload_n dX3_load_8 rfl rfl
theorem en_X3_load_9 : SndE EE S mi_X3_load 9 (.inl (e_lda 10 0)) := sn_aload_n dX3_load_9 rfl rfl
theorem en_X3_load_10 : SndE EE S mi_X3_load 10 (.inl (e_gI 13 3 60)) := sn_gI dX3_load_10 rfl cl_3 (by decide) rfl (Or.inl q913) (Or.inl rfl)
theorem en_X3_load_13 : SndE EE S mi_X3_load 13 (.inl (e_ilt 16 20)) := sn_ilt dX3_load_13 rfl (by decide)
theorem en_X3_load_16 : SndE EE S mi_X3_load 16 (.inl (e_psh 17 (.int (-1)))) := sn_iconst dX3_load_16 rfl rfl
theorem en_X3_load_17 : SndE EE S mi_X3_load 17 (.inl (e_goto 62)) := sn_goto dX3_load_17 (by decide)
theorem en_X3_load_20 : SndE EE S mi_X3_load 20 (.inl (e_ldi 21 2)) := sn_iload_n dX3_load_20 rfl rfl
theorem en_X3_load_21 : SndE EE S mi_X3_load 21 (.inl (e_zne 24 40)) := sn_zne dX3_load_21 rfl (by decide)
theorem en_X3_load_24 : SndE EE S mi_X3_load 24 (.inl (e_lda 25 0)) := sn_aload_n dX3_load_24 rfl rfl
theorem en_X3_load_25 : SndE EE S mi_X3_load 25 (.inl (e_gR 28 3 57)) := sn_gR dX3_load_25 rfl cl_3 (by decide) rfl (Or.inl q910) (Or.inl rfl)
theorem en_X3_load_28 : SndE EE S mi_X3_load 28 (.inl (e_lda 29 0)) := sn_aload_n dX3_load_28 rfl rfl
theorem en_X3_load_29 : SndE EE S mi_X3_load 29 (.inl (e_gI 32 3 60)) := sn_gI dX3_load_29 rfl cl_3 (by decide) rfl (Or.inl q913) (Or.inl rfl)
theorem en_X3_load_32 : SndE EE S mi_X3_load 32 (.inl (e_psh 33 (.int (1)))) := sn_iconst dX3_load_32 rfl rfl
theorem en_X3_load_33 : SndE EE S mi_X3_load 33 (.inl (e_bin 34 (fun x y => x - y))) := sn_isub dX3_load_33 rfl
theorem en_X3_load_34 : SndE EE S mi_X3_load 34 (.inl (e_ldi 35 1)) := sn_iload_n dX3_load_34 rfl rfl
theorem en_X3_load_35 : SndE EE S mi_X3_load 35 (.inl (e_bin 36 (fun x y => x - y))) := sn_isub dX3_load_35 rfl
theorem en_X3_load_36 : SndE EE S mi_X3_load 36 (.inl (e_ald 37 1)) := sn_iald dX3_load_36 rfl
theorem en_X3_load_37 : SndE EE S mi_X3_load 37 (.inl (e_goto 62)) := sn_goto dX3_load_37 (by decide)
theorem en_X3_load_40 : SndE EE S mi_X3_load 40 (.inl (e_ldi 41 2)) := sn_iload_n dX3_load_40 rfl rfl
theorem en_X3_load_41 : SndE EE S mi_X3_load 41 (.inl (e_psh 42 (.int (1)))) := sn_iconst dX3_load_41 rfl rfl
theorem en_X3_load_42 : SndE EE S mi_X3_load 42 (.inl (e_ine 45 61)) := sn_ine dX3_load_42 rfl (by decide)
theorem en_X3_load_45 : SndE EE S mi_X3_load 45 (.inl (e_lda 46 0)) := sn_aload_n dX3_load_45 rfl rfl
theorem en_X3_load_46 : SndE EE S mi_X3_load 46 (.inl (e_gR 49 3 58)) := sn_gR dX3_load_46 rfl cl_3 (by decide) rfl (Or.inl q911) (Or.inl rfl)
theorem en_X3_load_49 : SndE EE S mi_X3_load 49 (.inl (e_lda 50 0)) := sn_aload_n dX3_load_49 rfl rfl
theorem en_X3_load_50 : SndE EE S mi_X3_load 50 (.inl (e_gI 53 3 60)) := sn_gI dX3_load_50 rfl cl_3 (by decide) rfl (Or.inl q913) (Or.inl rfl)
theorem en_X3_load_53 : SndE EE S mi_X3_load 53 (.inl (e_psh 54 (.int (1)))) := sn_iconst dX3_load_53 rfl rfl
theorem en_X3_load_54 : SndE EE S mi_X3_load 54 (.inl (e_bin 55 (fun x y => x - y))) := sn_isub dX3_load_54 rfl
theorem en_X3_load_55 : SndE EE S mi_X3_load 55 (.inl (e_ldi 56 1)) := sn_iload_n dX3_load_55 rfl rfl
theorem en_X3_load_56 : SndE EE S mi_X3_load 56 (.inl (e_bin 57 (fun x y => x - y))) := sn_isub dX3_load_56 rfl
theorem en_X3_load_57 : SndE EE S mi_X3_load 57 (.inl (e_ald 58 1)) := sn_iald dX3_load_57 rfl
theorem en_X3_load_58 : SndE EE S mi_X3_load 58 (.inl (e_goto 62)) := sn_goto dX3_load_58 (by decide)
theorem en_X3_load_61 : SndE EE S mi_X3_load 61 (.inl (e_psh 62 (.int (-1)))) := sn_iconst dX3_load_61 rfl rfl
theorem en_X3_load_62 : SndE EE S mi_X3_load 62 (.inr (.inr 1)) := ⟨dX3_load_62, rfl⟩
theorem sd_X3_load : ∀ pc x, cd_X3_load pc = some x → SndE EE S mi_X3_load pc x := (tN_ok (tN_ok (tN_ok (tN_ok (tN_ok (tL_ok en_X3_load_0) (tL_ok en_X3_load_1)) (tN_ok (tL_ok en_X3_load_4) (tL_ok en_X3_load_5))) (tN_ok (tN_ok (tL_ok en_X3_load_8) (tL_ok en_X3_load_9)) (tN_ok (tL_ok en_X3_load_10) (tN_ok (tL_ok en_X3_load_13) (tL_ok en_X3_load_16))))) (tN_ok (tN_ok (tN_ok (tL_ok en_X3_load_17) (tL_ok en_X3_load_20)) (tN_ok (tL_ok en_X3_load_21) (tL_ok en_X3_load_24))) (tN_ok (tN_ok (tL_ok en_X3_load_25) (tL_ok en_X3_load_28)) (tN_ok (tL_ok en_X3_load_29) (tN_ok (tL_ok en_X3_load_32) (tL_ok en_X3_load_33)))))) (tN_ok (tN_ok (tN_ok (tN_ok (tL_ok en_X3_load_34) (tL_ok en_X3_load_35)) (tN_ok (tL_ok en_X3_load_36) (tL_ok en_X3_load_37))) (tN_ok (tN_ok (tL_ok en_X3_load_40) (tL_ok en_X3_load_41)) (tN_ok (tL_ok en_X3_load_42) (tN_ok (tL_ok en_X3_load_45) (tL_ok en_X3_load_46))))) (tN_ok (tN_ok (tN_ok (tL_ok en_X3_load_49) (tL_ok en_X3_load_50)) (tN_ok (tL_ok en_X3_load_53) (tN_ok (tL_ok en_X3_load_54) (tL_ok en_X3_load_55)))) (tN_ok (tN_ok (tL_ok en_X3_load_56) (tL_ok en_X3_load_57)) (tN_ok (tL_ok en_X3_load_58) (tN_ok (tL_ok en_X3_load_61) (tL_ok en_X3_load_62)))))))
theorem en_X3_about_0 : SndE EE S mi_X3_about 0 (.inl (e_ldi 1 1)) := sn_iload_n dX3_about_0 rfl rfl
theorem en_X3_about_1 : SndE EE S mi_X3_about 1 (.inl (e_zne 4 11)) := sn_zne dX3_about_1 rfl (by decide)
theorem en_X3_about_4 : SndE EE S mi_X3_about 4 (.inl (e_lda 5 0)) := sn_aload_n dX3_about_4 rfl rfl
theorem en_X3_about_5 : SndE EE S mi_X3_about 5 (.inl (e_gI 8 3 14)) := sn_gI dX3_about_5 rfl cl_3 (by decide) rfl (Or.inl q867) (Or.inl rfl)
theorem en_X3_about_8 : SndE EE S mi_X3_about 8 (.inl (e_goto 48)) := sn_goto dX3_about_8 (by decide)
theorem en_X3_about_11 : SndE EE S mi_X3_about 11 (.inl (e_ldi 12 1)) := sn_iload_n dX3_about_11 rfl rfl
theorem en_X3_about_12 : SndE EE S mi_X3_about 12 (.inl (e_psh 13 (.int (1)))) := sn_iconst dX3_about_12 rfl rfl
theorem en_X3_about_13 : SndE EE S mi_X3_about 13 (.inl (e_ine 16 23)) := sn_ine dX3_about_13 rfl (by decide)
theorem en_X3_about_16 : SndE EE S mi_X3_about 16 (.inl (e_lda 17 0)) := sn_aload_n dX3_about_16 rfl rfl
theorem en_X3_about_17 : SndE EE S mi_X3_about 17 (.inl (e_gI 20 3 32)) := sn_gI dX3_about_17 rfl cl_3 (by decide) rfl (Or.inl q885) (Or.inl rfl)
theorem en_X3_about_20 : SndE EE S mi_X3_about 20 (.inl (e_goto 48)) := sn_goto dX3_about_20 (by decide)
theorem en_X3_about_23 : SndE EE S mi_X3_about 23 (.inl (e_ldi 24 1)) := sn_iload_n dX3_about_23 rfl rfl
theorem en_X3_about_24 : SndE EE S mi_X3_about 24 (.inl (e_psh 25 (.int (2)))) := sn_iconst dX3_about_24 rfl rfl
theorem en_X3_about_25 : SndE EE S mi_X3_about 25 (.inl (e_ine 28 35)) := sn_ine dX3_about_25 rfl (by decide)
theorem en_X3_about_28 : SndE EE S mi_X3_about 28 (.inl (e_lda 29 0)) := sn_aload_n dX3_about_28 rfl rfl
theorem en_X3_about_29 : SndE EE S mi_X3_about 29 (.inl (e_gI 32 3 53)) := sn_gI dX3_about_29 rfl cl_3 (by decide) rfl (Or.inl q906) (Or.inl rfl)
theorem en_X3_about_32 : SndE EE S mi_X3_about 32 (.inl (e_goto 48)) := sn_goto dX3_about_32 (by decide)
theorem en_X3_about_35 : SndE EE S mi_X3_about 35 (.inl (e_ldi 36 1)) := sn_iload_n dX3_about_35 rfl rfl
theorem en_X3_about_36 : SndE EE S mi_X3_about 36 (.inl (e_psh 37 (.int (3)))) := sn_iconst dX3_about_36 rfl rfl
theorem en_X3_about_37 : SndE EE S mi_X3_about 37 (.inl (e_ine 40 47)) := sn_ine dX3_about_37 rfl (by decide)
theorem en_X3_about_40 : SndE EE S mi_X3_about 40 (.inl (e_lda 41 0)) := sn_aload_n dX3_about_40 rfl rfl
theorem en_X3_about_41 : SndE EE S mi_X3_about 41 (.inl (e_gI 44 3 5)) := sn_gI dX3_about_41 rfl cl_3 (by decide) rfl (Or.inl q858) (Or.inl rfl)
theorem en_X3_about_44 : SndE EE S mi_X3_about 44 (.inl (e_goto 48)) := sn_goto dX3_about_44 (by decide)
theorem en_X3_about_47 : SndE EE S mi_X3_about 47 (.inl (e_psh 48 (.int (-1)))) := sn_iconst dX3_about_47 rfl rfl
theorem en_X3_about_48 : SndE EE S mi_X3_about 48 (.inr (.inr 1)) := ⟨dX3_about_48, rfl⟩
theorem sd_X3_about : ∀ pc x, cd_X3_about pc = some x → SndE EE S mi_X3_about pc x := (tN_ok (tN_ok (tN_ok (tN_ok (tL_ok en_X3_about_0) (tN_ok (tL_ok en_X3_about_1) (tL_ok en_X3_about_4))) (tN_ok (tL_ok en_X3_about_5) (tN_ok (tL_ok en_X3_about_8) (tL_ok en_X3_about_11)))) (tN_ok (tN_ok (tL_ok en_X3_about_12) (tN_ok (tL_ok en_X3_about_13) (tL_ok en_X3_about_16))) (tN_ok (tL_ok en_X3_about_17) (tN_ok (tL_ok en_X3_about_20) (tL_ok en_X3_about_23))))) (tN_ok (tN_ok (tN_ok (tL_ok en_X3_about_24) (tN_ok (tL_ok en_X3_about_25) (tL_ok en_X3_about_28))) (tN_ok (tL_ok en_X3_about_29) (tN_ok (tL_ok en_X3_about_32) (tL_ok en_X3_about_35)))) (tN_ok (tN_ok (tL_ok en_X3_about_36) (tN_ok (tL_ok en_X3_about_37) (tL_ok en_X3_about_40))) (tN_ok (tN_ok (tL_ok en_X3_about_41) (tL_ok en_X3_about_44)) (tN_ok (tL_ok en_X3_about_47) (tL_ok en_X3_about_48))))))
end ENT
