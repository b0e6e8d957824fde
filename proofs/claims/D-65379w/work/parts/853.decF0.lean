set_option maxRecDepth 100000
set_option maxHeartbeats 4000000
theorem kX2_init_0 : fx_ck cX2_init [(76, .iconst 0, 1), (77, .istore_n 1, 1), (78, .iload_n 1, 1), (79, .aload_n 0, 1), (80, .getfield 33, 3), (83, .arraylength, 1), (84, .if_icmp .ge 16, 3), (87, .aload_n 0, 1), (88, .getfield 33, 3), (91, .iload_n 1, 1), (92, .iconst (-1), 1), (93, .iastore, 1), (94, .iinc 1 1, 3), (97, .goto (-19), 3), (100, .iconst 0, 1), (101, .istore_n 1, 1)] = true := by decide +kernel
theorem dX2_init_76 : fx_dec cX2_init 76 (.iconst 0) 1 77 := ⟨fx_ckat kX2_init_0 0 rfl, rfl⟩
theorem dX2_init_77 : fx_dec cX2_init 77 (.istore_n 1) 1 78 := ⟨fx_ckat kX2_init_0 1 rfl, rfl⟩
theorem dX2_init_78 : fx_dec cX2_init 78 (.iload_n 1) 1 79 := ⟨fx_ckat kX2_init_0 2 rfl, rfl⟩
theorem dX2_init_79 : fx_dec cX2_init 79 (.aload_n 0) 1 80 := ⟨fx_ckat kX2_init_0 3 rfl, rfl⟩
theorem dX2_init_80 : fx_dec cX2_init 80 (.getfield 33) 3 83 := ⟨fx_ckat kX2_init_0 4 rfl, rfl⟩
theorem dX2_init_83 : fx_dec cX2_init 83 (.arraylength) 1 84 := ⟨fx_ckat kX2_init_0 5 rfl, rfl⟩
theorem dX2_init_84 : fx_jmp cX2_init 84 (.if_icmp .ge 16) (16) 100 87 := ⟨fx_ckat kX2_init_0 6 rfl, rfl, rfl⟩
theorem dX2_init_87 : fx_dec cX2_init 87 (.aload_n 0) 1 88 := ⟨fx_ckat kX2_init_0 7 rfl, rfl⟩
theorem dX2_init_88 : fx_dec cX2_init 88 (.getfield 33) 3 91 := ⟨fx_ckat kX2_init_0 8 rfl, rfl⟩
theorem dX2_init_91 : fx_dec cX2_init 91 (.iload_n 1) 1 92 := ⟨fx_ckat kX2_init_0 9 rfl, rfl⟩
theorem dX2_init_92 : fx_dec cX2_init 92 (.iconst (-1)) 1 93 := ⟨fx_ckat kX2_init_0 10 rfl, rfl⟩
theorem dX2_init_93 : fx_dec cX2_init 93 (.iastore) 1 94 := ⟨fx_ckat kX2_init_0 11 rfl, rfl⟩
theorem dX2_init_94 : fx_dec cX2_init 94 (.iinc 1 1) 3 97 := ⟨fx_ckat kX2_init_0 12 rfl, rfl⟩
theorem dX2_init_97 : fx_jmp cX2_init 97 (.goto (-19)) (-19) 78 100 := ⟨fx_ckat kX2_init_0 13 rfl, rfl, rfl⟩
theorem dX2_init_100 : fx_dec cX2_init 100 (.iconst 0) 1 101 := ⟨fx_ckat kX2_init_0 14 rfl, rfl⟩
theorem dX2_init_101 : fx_dec cX2_init 101 (.istore_n 1) 1 102 := ⟨fx_ckat kX2_init_0 15 rfl, rfl⟩
theorem kX2_init_16 : fx_ck cX2_init [(102, .iload_n 1, 1), (103, .sipush 256, 3), (106, .if_icmp .ge 14, 3), (109, .aload_n 0, 1), (110, .iload_n 1, 1), (111, .invokevirtual 36, 3), (114, .iinc 1 1, 3), (117, .goto (-15), 3), (120, .iconst 0, 1), (121, .istore_n 1, 1), (122, .iload_n 1, 1), (123, .sipush 256, 3), (126, .if_icmp .ge 14, 3), (129, .aload_n 0, 1), (130, .iload_n 1, 1), (131, .invokevirtual 40, 3)] = true := by decide +kernel
theorem dX2_init_102 : fx_dec cX2_init 102 (.iload_n 1) 1 103 := ⟨fx_ckat kX2_init_16 0 rfl, rfl⟩
theorem dX2_init_103 : fx_dec cX2_init 103 (.sipush 256) 3 106 := ⟨fx_ckat kX2_init_16 1 rfl, rfl⟩
theorem dX2_init_106 : fx_jmp cX2_init 106 (.if_icmp .ge 14) (14) 120 109 := ⟨fx_ckat kX2_init_16 2 rfl, rfl, rfl⟩
theorem dX2_init_109 : fx_dec cX2_init 109 (.aload_n 0) 1 110 := ⟨fx_ckat kX2_init_16 3 rfl, rfl⟩
theorem dX2_init_110 : fx_dec cX2_init 110 (.iload_n 1) 1 111 := ⟨fx_ckat kX2_init_16 4 rfl, rfl⟩
theorem dX2_init_111 : fx_dec cX2_init 111 (.invokevirtual 36) 3 114 := ⟨fx_ckat kX2_init_16 5 rfl, rfl⟩
theorem dX2_init_114 : fx_dec cX2_init 114 (.iinc 1 1) 3 117 := ⟨fx_ckat kX2_init_16 6 rfl, rfl⟩
theorem dX2_init_117 : fx_jmp cX2_init 117 (.goto (-15)) (-15) 102 120 := ⟨fx_ckat kX2_init_16 7 rfl, rfl, rfl⟩
theorem dX2_init_120 : fx_dec cX2_init 120 (.iconst 0) 1 121 := ⟨fx_ckat kX2_init_16 8 rfl, rfl⟩
theorem dX2_init_121 : fx_dec cX2_init 121 (.istore_n 1) 1 122 := ⟨fx_ckat kX2_init_16 9 rfl, rfl⟩
theorem dX2_init_122 : fx_dec cX2_init 122 (.iload_n 1) 1 123 := ⟨fx_ckat kX2_init_16 10 rfl, rfl⟩
theorem dX2_init_123 : fx_dec cX2_init 123 (.sipush 256) 3 126 := ⟨fx_ckat kX2_init_16 11 rfl, rfl⟩
theorem dX2_init_126 : fx_jmp cX2_init 126 (.if_icmp .ge 14) (14) 140 129 := ⟨fx_ckat kX2_init_16 12 rfl, rfl, rfl⟩
theorem dX2_init_129 : fx_dec cX2_init 129 (.aload_n 0) 1 130 := ⟨fx_ckat kX2_init_16 13 rfl, rfl⟩
theorem dX2_init_130 : fx_dec cX2_init 130 (.iload_n 1) 1 131 := ⟨fx_ckat kX2_init_16 14 rfl, rfl⟩
theorem dX2_init_131 : fx_dec cX2_init 131 (.invokevirtual 40) 3 134 := ⟨fx_ckat kX2_init_16 15 rfl, rfl⟩
theorem kX2_init_32 : fx_ck cX2_init [(134, .iinc 1 1, 3), (137, .goto (-15), 3), (140, .iconst 0, 1), (141, .istore_n 1, 1), (142, .iload_n 1, 1), (143, .sipush 256, 3), (146, .if_icmp .ge 14, 3), (149, .aload_n 0, 1), (150, .iload_n 1, 1), (151, .invokevirtual 43, 3), (154, .iinc 1 1, 3), (157, .goto (-15), 3), (160, .aload_n 0, 1), (161, .getfield 46, 3), (164, .istore_n 1, 1), (165, .iconst 0, 1)] = true := by decide +kernel
theorem dX2_init_134 : fx_dec cX2_init 134 (.iinc 1 1) 3 137 := ⟨fx_ckat kX2_init_32 0 rfl, rfl⟩
theorem dX2_init_137 : fx_jmp cX2_init 137 (.goto (-15)) (-15) 122 140 := ⟨fx_ckat kX2_init_32 1 rfl, rfl, rfl⟩
theorem dX2_init_140 : fx_dec cX2_init 140 (.iconst 0) 1 141 := ⟨fx_ckat kX2_init_32 2 rfl, rfl⟩
theorem dX2_init_141 : fx_dec cX2_init 141 (.istore_n 1) 1 142 := ⟨fx_ckat kX2_init_32 3 rfl, rfl⟩
theorem dX2_init_142 : fx_dec cX2_init 142 (.iload_n 1) 1 143 := ⟨fx_ckat kX2_init_32 4 rfl, rfl⟩
theorem dX2_init_143 : fx_dec cX2_init 143 (.sipush 256) 3 146 := ⟨fx_ckat kX2_init_32 5 rfl, rfl⟩
theorem dX2_init_146 : fx_jmp cX2_init 146 (.if_icmp .ge 14) (14) 160 149 := ⟨fx_ckat kX2_init_32 6 rfl, rfl, rfl⟩
theorem dX2_init_149 : fx_dec cX2_init 149 (.aload_n 0) 1 150 := ⟨fx_ckat kX2_init_32 7 rfl, rfl⟩
theorem dX2_init_150 : fx_dec cX2_init 150 (.iload_n 1) 1 151 := ⟨fx_ckat kX2_init_32 8 rfl, rfl⟩
theorem dX2_init_151 : fx_dec cX2_init 151 (.invokevirtual 43) 3 154 := ⟨fx_ckat kX2_init_32 9 rfl, rfl⟩
theorem dX2_init_154 : fx_dec cX2_init 154 (.iinc 1 1) 3 157 := ⟨fx_ckat kX2_init_32 10 rfl, rfl⟩
theorem dX2_init_157 : fx_jmp cX2_init 157 (.goto (-15)) (-15) 142 160 := ⟨fx_ckat kX2_init_32 11 rfl, rfl, rfl⟩
theorem dX2_init_160 : fx_dec cX2_init 160 (.aload_n 0) 1 161 := ⟨fx_ckat kX2_init_32 12 rfl, rfl⟩
theorem dX2_init_161 : fx_dec cX2_init 161 (.getfield 46) 3 164 := ⟨fx_ckat kX2_init_32 13 rfl, rfl⟩
theorem dX2_init_164 : fx_dec cX2_init 164 (.istore_n 1) 1 165 := ⟨fx_ckat kX2_init_32 14 rfl, rfl⟩
theorem dX2_init_165 : fx_dec cX2_init 165 (.iconst 0) 1 166 := ⟨fx_ckat kX2_init_32 15 rfl, rfl⟩
theorem kX2_init_48 : fx_ck cX2_init [(166, .istore_n 2, 1), (167, .iload_n 2, 1), (168, .iload_n 1, 1), (169, .if_icmp .ge 14, 3), (172, .aload_n 0, 1), (173, .iload_n 2, 1), (174, .invokevirtual 50, 3), (177, .iinc 2 1, 3), (180, .goto (-13), 3), (183, .return_, 1)] = true := by decide +kernel
theorem dX2_init_166 : fx_dec cX2_init 166 (.istore_n 2) 1 167 := ⟨fx_ckat kX2_init_48 0 rfl, rfl⟩
theorem dX2_init_167 : fx_dec cX2_init 167 (.iload_n 2) 1 168 := ⟨fx_ckat kX2_init_48 1 rfl, rfl⟩
theorem dX2_init_168 : fx_dec cX2_init 168 (.iload_n 1) 1 169 := ⟨fx_ckat kX2_init_48 2 rfl, rfl⟩
theorem dX2_init_169 : fx_jmp cX2_init 169 (.if_icmp .ge 14) (14) 183 172 := ⟨fx_ckat kX2_init_48 3 rfl, rfl, rfl⟩
theorem dX2_init_172 : fx_dec cX2_init 172 (.aload_n 0) 1 173 := ⟨fx_ckat kX2_init_48 4 rfl, rfl⟩
theorem dX2_init_173 : fx_dec cX2_init 173 (.iload_n 2) 1 174 := ⟨fx_ckat kX2_init_48 5 rfl, rfl⟩
theorem dX2_init_174 : fx_dec cX2_init 174 (.invokevirtual 50) 3 177 := ⟨fx_ckat kX2_init_48 6 rfl, rfl⟩
theorem dX2_init_177 : fx_dec cX2_init 177 (.iinc 2 1) 3 180 := ⟨fx_ckat kX2_init_48 7 rfl, rfl⟩
theorem dX2_init_180 : fx_jmp cX2_init 180 (.goto (-13)) (-13) 167 183 := ⟨fx_ckat kX2_init_48 8 rfl, rfl, rfl⟩
theorem dX2_init_183 : fx_dec cX2_init 183 (.return_) 1 184 := ⟨fx_ckat kX2_init_48 9 rfl, rfl⟩
