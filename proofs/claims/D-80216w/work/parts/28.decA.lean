theorem d_X_init_0 : decode b_X_init 0 = .ok (.aload_n 0, 1) := by decide +kernel
theorem d_X_init_1 : decode b_X_init 1 = .ok (.invokespecial 67, 3) := by decide +kernel
theorem d_X_init_4 : decode b_X_init 4 = .ok (.aload_n 0, 1) := by decide +kernel
theorem d_X_init_5 : decode b_X_init 5 = .ok (.sipush 257, 3) := by decide +kernel
theorem d_X_init_8 : decode b_X_init 8 = .ok (.newarray .boolean, 2) := by decide +kernel
theorem d_X_init_10 : decode b_X_init 10 = .ok (.putfield 10, 3) := by decide +kernel
theorem d_X_init_13 : decode b_X_init 13 = .ok (.aload_n 0, 1) := by decide +kernel
theorem d_X_init_14 : decode b_X_init 14 = .ok (.iconst 2, 1) := by decide +kernel
theorem d_X_init_15 : decode b_X_init 15 = .ok (.anewarray 27, 3) := by decide +kernel
theorem d_X_init_18 : decode b_X_init 18 = .ok (.putfield 73, 3) := by decide +kernel
theorem d_X_init_21 : decode b_X_init 21 = .ok (.aload_n 0, 1) := by decide +kernel
theorem d_X_init_22 : decode b_X_init 22 = .ok (.iconst 2, 1) := by decide +kernel
theorem d_X_init_23 : decode b_X_init 23 = .ok (.newarray .int, 2) := by decide +kernel
theorem d_X_init_25 : decode b_X_init 25 = .ok (.putfield 77, 3) := by decide +kernel
theorem d_X_init_28 : decode b_X_init 28 = .ok (.aload_n 0, 1) := by decide +kernel
theorem d_X_init_29 : decode b_X_init 29 = .ok (.new 80, 3) := by decide +kernel
theorem d_X_init_32 : decode b_X_init 32 = .ok (.dup, 1) := by decide +kernel
theorem d_X_init_33 : decode b_X_init 33 = .ok (.invokespecial 82, 3) := by decide +kernel
theorem d_X_init_36 : decode b_X_init 36 = .ok (.putfield 83, 3) := by decide +kernel
theorem d_X_init_39 : decode b_X_init 39 = .ok (.aload_n 0, 1) := by decide +kernel
theorem d_X_init_40 : decode b_X_init 40 = .ok (.sipush 300, 3) := by decide +kernel
theorem d_X_init_43 : decode b_X_init 43 = .ok (.newarray .int, 2) := by decide +kernel
theorem d_X_init_45 : decode b_X_init 45 = .ok (.putfield 87, 3) := by decide +kernel
theorem d_X_init_48 : decode b_X_init 48 = .ok (.aload_n 0, 1) := by decide +kernel
theorem d_X_init_49 : decode b_X_init 49 = .ok (.sipush 4096, 3) := by decide +kernel
theorem d_X_init_52 : decode b_X_init 52 = .ok (.newarray .int, 2) := by decide +kernel
theorem d_X_init_54 : decode b_X_init 54 = .ok (.putfield 90, 3) := by decide +kernel
theorem d_X_init_57 : decode b_X_init 57 = .ok (.aload_n 0, 1) := by decide +kernel
theorem d_X_init_58 : decode b_X_init 58 = .ok (.sipush 300, 3) := by decide +kernel
theorem d_X_init_61 : decode b_X_init 61 = .ok (.newarray .int, 2) := by decide +kernel
theorem d_X_init_63 : decode b_X_init 63 = .ok (.putfield 93, 3) := by decide +kernel
theorem d_X_init_66 : decode b_X_init 66 = .ok (.aload_n 0, 1) := by decide +kernel
theorem d_X_init_67 : decode b_X_init 67 = .ok (.sipush 300, 3) := by decide +kernel
theorem d_X_init_70 : decode b_X_init 70 = .ok (.newarray .int, 2) := by decide +kernel
theorem d_X_init_72 : decode b_X_init 72 = .ok (.putfield 96, 3) := by decide +kernel
theorem d_X_init_75 : decode b_X_init 75 = .ok (.aload_n 0, 1) := by decide +kernel
theorem d_X_init_76 : decode b_X_init 76 = .ok (.new 99, 3) := by decide +kernel
theorem d_X_init_79 : decode b_X_init 79 = .ok (.dup, 1) := by decide +kernel
theorem d_X_init_80 : decode b_X_init 80 = .ok (.sipush 4096, 3) := by decide +kernel
theorem d_X_init_83 : decode b_X_init 83 = .ok (.invokespecial 101, 3) := by decide +kernel
theorem d_X_init_86 : decode b_X_init 86 = .ok (.putfield 104, 3) := by decide +kernel
theorem d_X_init_89 : decode b_X_init 89 = .ok (.aload_n 0, 1) := by decide +kernel
theorem d_X_init_90 : decode b_X_init 90 = .ok (.new 99, 3) := by decide +kernel
theorem d_X_init_93 : decode b_X_init 93 = .ok (.dup, 1) := by decide +kernel
theorem d_X_init_94 : decode b_X_init 94 = .ok (.sipush 4096, 3) := by decide +kernel
theorem d_X_init_97 : decode b_X_init 97 = .ok (.invokespecial 101, 3) := by decide +kernel
theorem d_X_init_100 : decode b_X_init 100 = .ok (.putfield 108, 3) := by decide +kernel
theorem d_X_init_103 : decode b_X_init 103 = .ok (.aload_n 0, 1) := by decide +kernel
theorem d_X_init_104 : decode b_X_init 104 = .ok (.new 111, 3) := by decide +kernel
theorem d_X_init_107 : decode b_X_init 107 = .ok (.dup, 1) := by decide +kernel
theorem d_X_init_108 : decode b_X_init 108 = .ok (.aload_n 0, 1) := by decide +kernel
theorem d_X_init_109 : decode b_X_init 109 = .ok (.invokespecial 113, 3) := by decide +kernel
theorem d_X_init_112 : decode b_X_init 112 = .ok (.putfield 116, 3) := by decide +kernel
theorem d_X_init_115 : decode b_X_init 115 = .ok (.aload_n 0, 1) := by decide +kernel
theorem d_X_init_116 : decode b_X_init 116 = .ok (.bipush (-3), 2) := by decide +kernel
theorem d_X_init_118 : decode b_X_init 118 = .ok (.putfield 120, 3) := by decide +kernel
theorem d_X_init_121 : decode b_X_init 121 = .ok (.aload_n 0, 1) := by decide +kernel
theorem d_X_init_122 : decode b_X_init 122 = .ok (.sipush 301, 3) := by decide +kernel
theorem d_X_init_125 : decode b_X_init 125 = .ok (.newarray .int, 2) := by decide +kernel
theorem d_X_init_127 : decode b_X_init 127 = .ok (.putfield 123, 3) := by decide +kernel
theorem d_X_init_130 : decode b_X_init 130 = .ok (.aload_n 0, 1) := by decide +kernel
theorem d_X_init_131 : decode b_X_init 131 = .ok (.sipush 301, 3) := by decide +kernel
theorem d_X_init_134 : decode b_X_init 134 = .ok (.newarray .int, 2) := by decide +kernel
theorem d_X_init_136 : decode b_X_init 136 = .ok (.putfield 126, 3) := by decide +kernel
theorem d_X_init_139 : decode b_X_init 139 = .ok (.aload_n 0, 1) := by decide +kernel
theorem d_X_init_140 : decode b_X_init 140 = .ok (.new 129, 3) := by decide +kernel
theorem d_X_init_143 : decode b_X_init 143 = .ok (.dup, 1) := by decide +kernel
theorem d_X_init_144 : decode b_X_init 144 = .ok (.aload_n 0, 1) := by decide +kernel
theorem d_X_init_145 : decode b_X_init 145 = .ok (.invokespecial 131, 3) := by decide +kernel
theorem d_X_init_148 : decode b_X_init 148 = .ok (.putfield 132, 3) := by decide +kernel
theorem d_X_init_151 : decode b_X_init 151 = .ok (.aload_n 0, 1) := by decide +kernel
theorem d_X_init_152 : decode b_X_init 152 = .ok (.new 136, 3) := by decide +kernel
theorem d_X_init_155 : decode b_X_init 155 = .ok (.dup, 1) := by decide +kernel
theorem d_X_init_156 : decode b_X_init 156 = .ok (.aload_n 0, 1) := by decide +kernel
theorem d_X_init_157 : decode b_X_init 157 = .ok (.invokespecial 138, 3) := by decide +kernel
theorem d_X_init_160 : decode b_X_init 160 = .ok (.putfield 139, 3) := by decide +kernel
theorem d_X_init_163 : decode b_X_init 163 = .ok (.aload_n 0, 1) := by decide +kernel
theorem d_X_init_164 : decode b_X_init 164 = .ok (.new 142, 3) := by decide +kernel
theorem d_X_init_167 : decode b_X_init 167 = .ok (.dup, 1) := by decide +kernel
theorem d_X_init_168 : decode b_X_init 168 = .ok (.invokespecial 144, 3) := by decide +kernel
theorem d_X_init_171 : decode b_X_init 171 = .ok (.putfield 145, 3) := by decide +kernel
theorem d_X_init_174 : decode b_X_init 174 = .ok (.iload_n 1, 1) := by decide +kernel
theorem d_X_init_175 : decode b_X_init 175 = .ok (.iconst 0, 1) := by decide +kernel
theorem d_X_init_176 : decode b_X_init 176 = .ok (.iconst 4, 1) := by decide +kernel
theorem d_X_init_177 : decode b_X_init 177 = .ok (.invokestatic 149, 3) := by decide +kernel
theorem d_X_init_180 : decode b_X_init 180 = .ok (.istore_n 3, 1) := by decide +kernel
theorem d_X_init_181 : decode b_X_init 181 = .ok (.iload_n 2, 1) := by decide +kernel
theorem d_X_init_182 : decode b_X_init 182 = .ok (.bipush 8, 2) := by decide +kernel
theorem d_X_init_184 : decode b_X_init 184 = .ok (.sipush 1500, 3) := by decide +kernel
theorem d_X_init_187 : decode b_X_init 187 = .ok (.invokestatic 149, 3) := by decide +kernel
theorem d_X_init_190 : decode b_X_init 190 = .ok (.istore 4, 2) := by decide +kernel
theorem d_X_init_192 : decode b_X_init 192 = .ok (.aload_n 0, 1) := by decide +kernel
theorem d_X_init_193 : decode b_X_init 193 = .ok (.getfield 73, 3) := by decide +kernel
theorem d_X_init_196 : decode b_X_init 196 = .ok (.iconst 0, 1) := by decide +kernel
theorem d_X_init_197 : decode b_X_init 197 = .ok (.new 27, 3) := by decide +kernel
theorem d_X_init_200 : decode b_X_init 200 = .ok (.dup, 1) := by decide +kernel
theorem d_X_init_201 : decode b_X_init 201 = .ok (.iload_n 3, 1) := by decide +kernel
theorem d_X_init_202 : decode b_X_init 202 = .ok (.iload 4, 2) := by decide +kernel
theorem d_X_init_204 : decode b_X_init 204 = .ok (.invokespecial 153, 3) := by decide +kernel
theorem d_X_init_207 : decode b_X_init 207 = .ok (.aastore, 1) := by decide +kernel
theorem d_X_init_208 : decode b_X_init 208 = .ok (.aload_n 0, 1) := by decide +kernel
theorem d_X_init_209 : decode b_X_init 209 = .ok (.getfield 73, 3) := by decide +kernel
theorem d_X_init_212 : decode b_X_init 212 = .ok (.iconst 1, 1) := by decide +kernel
theorem d_X_init_213 : decode b_X_init 213 = .ok (.new 27, 3) := by decide +kernel
theorem d_X_init_216 : decode b_X_init 216 = .ok (.dup, 1) := by decide +kernel
theorem d_X_init_217 : decode b_X_init 217 = .ok (.iload_n 3, 1) := by decide +kernel
theorem d_X_init_218 : decode b_X_init 218 = .ok (.iload 4, 2) := by decide +kernel
theorem d_X_init_220 : decode b_X_init 220 = .ok (.invokespecial 153, 3) := by decide +kernel
theorem d_X_init_223 : decode b_X_init 223 = .ok (.aastore, 1) := by decide +kernel
theorem d_X_init_224 : decode b_X_init 224 = .ok (.aload_n 0, 1) := by decide +kernel
theorem d_X_init_225 : decode b_X_init 225 = .ok (.new 27, 3) := by decide +kernel
theorem d_X_init_228 : decode b_X_init 228 = .ok (.dup, 1) := by decide +kernel
theorem d_X_init_229 : decode b_X_init 229 = .ok (.iload_n 3, 1) := by decide +kernel
theorem d_X_init_230 : decode b_X_init 230 = .ok (.iload 4, 2) := by decide +kernel
theorem d_X_init_232 : decode b_X_init 232 = .ok (.invokespecial 153, 3) := by decide +kernel
theorem d_X_init_235 : decode b_X_init 235 = .ok (.putfield 156, 3) := by decide +kernel
theorem d_X_init_238 : decode b_X_init 238 = .ok (.return_, 1) := by decide +kernel
theorem d_O_init_0 : decode b_O_init 0 = .ok (.return_, 1) := by decide +kernel
theorem d_AL_init_0 : decode b_AL_init 0 = .ok (.aload_n 0, 1) := by decide +kernel
theorem d_AL_init_1 : decode b_AL_init 1 = .ok (.invokespecial 1, 3) := by decide +kernel
theorem d_AL_init_4 : decode b_AL_init 4 = .ok (.aload_n 0, 1) := by decide +kernel
theorem d_AL_init_5 : decode b_AL_init 5 = .ok (.getstatic 39, 3) := by decide +kernel
theorem d_AL_init_8 : decode b_AL_init 8 = .ok (.putfield 9, 3) := by decide +kernel
theorem d_AL_init_11 : decode b_AL_init 11 = .ok (.return_, 1) := by decide +kernel
theorem d_AbL_init_0 : decode b_AbL_init 0 = .ok (.aload_n 0, 1) := by decide +kernel
theorem d_AbL_init_1 : decode b_AbL_init 1 = .ok (.invokespecial 1, 3) := by decide +kernel
theorem d_AbL_init_4 : decode b_AbL_init 4 = .ok (.aload_n 0, 1) := by decide +kernel
theorem d_AbL_init_5 : decode b_AbL_init 5 = .ok (.iconst 0, 1) := by decide +kernel
theorem d_AbL_init_6 : decode b_AbL_init 6 = .ok (.putfield 7, 3) := by decide +kernel
theorem d_AbL_init_9 : decode b_AbL_init 9 = .ok (.return_, 1) := by decide +kernel
theorem d_AbC_init_0 : decode b_AbC_init 0 = .ok (.aload_n 0, 1) := by decide +kernel
theorem d_AbC_init_1 : decode b_AbC_init 1 = .ok (.invokespecial 1, 3) := by decide +kernel
theorem d_AbC_init_4 : decode b_AbC_init 4 = .ok (.return_, 1) := by decide +kernel
theorem d_Wr_init_0 : decode b_Wr_init 0 = .ok (.aload_n 0, 1) := by decide +kernel
theorem d_Wr_init_1 : decode b_Wr_init 1 = .ok (.invokespecial 3, 3) := by decide +kernel
theorem d_Wr_init_4 : decode b_Wr_init 4 = .ok (.aload_n 0, 1) := by decide +kernel
theorem d_Wr_init_5 : decode b_Wr_init 5 = .ok (.iload_n 1, 1) := by decide +kernel
theorem d_Wr_init_6 : decode b_Wr_init 6 = .ok (.newarray .byte, 2) := by decide +kernel
theorem d_Wr_init_8 : decode b_Wr_init 8 = .ok (.putfield 9, 3) := by decide +kernel
theorem d_Wr_init_11 : decode b_Wr_init 11 = .ok (.return_, 1) := by decide +kernel
theorem d_Ra_init_0 : decode b_Ra_init 0 = .ok (.aload_n 0, 1) := by decide +kernel
theorem d_Ra_init_1 : decode b_Ra_init 1 = .ok (.invokespecial 3, 3) := by decide +kernel
theorem d_Ra_init_4 : decode b_Ra_init 4 = .ok (.return_, 1) := by decide +kernel
theorem d_Re_init_0 : decode b_Re_init 0 = .ok (.aload_n 0, 1) := by decide +kernel
theorem d_Re_init_1 : decode b_Re_init 1 = .ok (.aload_n 1, 1) := by decide +kernel
theorem d_Re_init_2 : decode b_Re_init 2 = .ok (.putfield 1, 3) := by decide +kernel
theorem d_Re_init_5 : decode b_Re_init 5 = .ok (.aload_n 0, 1) := by decide +kernel
theorem d_Re_init_6 : decode b_Re_init 6 = .ok (.invokespecial 7, 3) := by decide +kernel
theorem d_Re_init_9 : decode b_Re_init 9 = .ok (.return_, 1) := by decide +kernel
theorem d_P1_init_0 : decode b_P1_init 0 = .ok (.aload_n 0, 1) := by decide +kernel
theorem d_P1_init_1 : decode b_P1_init 1 = .ok (.aload_n 1, 1) := by decide +kernel
theorem d_P1_init_2 : decode b_P1_init 2 = .ok (.putfield 1, 3) := by decide +kernel
theorem d_P1_init_5 : decode b_P1_init 5 = .ok (.aload_n 0, 1) := by decide +kernel
theorem d_P1_init_6 : decode b_P1_init 6 = .ok (.invokespecial 7, 3) := by decide +kernel
theorem d_P1_init_9 : decode b_P1_init 9 = .ok (.return_, 1) := by decide +kernel
theorem d_P2_init_0 : decode b_P2_init 0 = .ok (.aload_n 0, 1) := by decide +kernel
theorem d_P2_init_1 : decode b_P2_init 1 = .ok (.aload_n 1, 1) := by decide +kernel
theorem d_P2_init_2 : decode b_P2_init 2 = .ok (.putfield 1, 3) := by decide +kernel
theorem d_P2_init_5 : decode b_P2_init 5 = .ok (.aload_n 0, 1) := by decide +kernel
theorem d_P2_init_6 : decode b_P2_init 6 = .ok (.invokespecial 7, 3) := by decide +kernel
theorem d_P2_init_9 : decode b_P2_init 9 = .ok (.return_, 1) := by decide +kernel
theorem d_Su_init_0 : decode b_Su_init 0 = .ok (.aload_n 0, 1) := by decide +kernel
theorem d_Su_init_1 : decode b_Su_init 1 = .ok (.invokespecial 1, 3) := by decide +kernel
theorem d_Su_init_4 : decode b_Su_init 4 = .ok (.return_, 1) := by decide +kernel
theorem d_X_nearest_0 : decode b_X_nearest 0 = .ok (.iload_n 1, 1) := by decide +kernel
theorem d_X_nearest_1 : decode b_X_nearest 1 = .ok (.iload_n 2, 1) := by decide +kernel
theorem d_X_nearest_2 : decode b_X_nearest 2 = .ok (.iload_n 0, 1) := by decide +kernel
theorem d_X_nearest_3 : decode b_X_nearest 3 = .ok (.invokestatic 1, 3) := by decide +kernel
theorem d_X_nearest_6 : decode b_X_nearest 6 = .ok (.invokestatic 7, 3) := by decide +kernel
theorem d_X_nearest_9 : decode b_X_nearest 9 = .ok (.ireturn, 1) := by decide +kernel
theorem d_Ma_min_0 : decode b_Ma_min 0 = .ok (.iload_n 0, 1) := by decide +kernel
theorem d_Ma_min_1 : decode b_Ma_min 1 = .ok (.iload_n 1, 1) := by decide +kernel
theorem d_Ma_min_2 : decode b_Ma_min 2 = .ok (.if_icmp .gt 7, 3) := by decide +kernel
theorem d_Ma_min_5 : decode b_Ma_min 5 = .ok (.iload_n 0, 1) := by decide +kernel
theorem d_Ma_min_6 : decode b_Ma_min 6 = .ok (.goto 4, 3) := by decide +kernel
theorem d_Ma_min_9 : decode b_Ma_min 9 = .ok (.iload_n 1, 1) := by decide +kernel
theorem d_Ma_min_10 : decode b_Ma_min 10 = .ok (.ireturn, 1) := by decide +kernel
theorem d_Ma_max_0 : decode b_Ma_max 0 = .ok (.iload_n 0, 1) := by decide +kernel
theorem d_Ma_max_1 : decode b_Ma_max 1 = .ok (.iload_n 1, 1) := by decide +kernel
theorem d_Ma_max_2 : decode b_Ma_max 2 = .ok (.if_icmp .lt 7, 3) := by decide +kernel
theorem d_Ma_max_5 : decode b_Ma_max 5 = .ok (.iload_n 0, 1) := by decide +kernel
theorem d_Ma_max_6 : decode b_Ma_max 6 = .ok (.goto 4, 3) := by decide +kernel
theorem d_Ma_max_9 : decode b_Ma_max 9 = .ok (.iload_n 1, 1) := by decide +kernel
theorem d_Ma_max_10 : decode b_Ma_max 10 = .ok (.ireturn, 1) := by decide +kernel
theorem d_Mo_init_0 : decode b_Mo_init 0 = .ok (.aload_n 0, 1) := by decide +kernel
theorem d_Mo_init_1 : decode b_Mo_init 1 = .ok (.invokespecial 3, 3) := by decide +kernel
theorem d_Mo_init_4 : decode b_Mo_init 4 = .ok (.aload_n 0, 1) := by decide +kernel
theorem d_Mo_init_5 : decode b_Mo_init 5 = .ok (.iconst 4, 1) := by decide +kernel
theorem d_Mo_init_6 : decode b_Mo_init 6 = .ok (.newarray .int, 2) := by decide +kernel
theorem d_Mo_init_8 : decode b_Mo_init 8 = .ok (.putfield 9, 3) := by decide +kernel
theorem d_Mo_init_11 : decode b_Mo_init 11 = .ok (.aload_n 0, 1) := by decide +kernel
theorem d_Mo_init_12 : decode b_Mo_init 12 = .ok (.iload_n 1, 1) := by decide +kernel
theorem d_Mo_init_13 : decode b_Mo_init 13 = .ok (.putfield 15, 3) := by decide +kernel
theorem d_Mo_init_16 : decode b_Mo_init 16 = .ok (.aload_n 0, 1) := by decide +kernel
theorem d_Mo_init_17 : decode b_Mo_init 17 = .ok (.iload_n 2, 1) := by decide +kernel
theorem d_Mo_init_18 : decode b_Mo_init 18 = .ok (.putfield 19, 3) := by decide +kernel
theorem d_Mo_init_21 : decode b_Mo_init 21 = .ok (.aload_n 0, 1) := by decide +kernel
theorem d_Mo_init_22 : decode b_Mo_init 22 = .ok (.iload_n 2, 1) := by decide +kernel
theorem d_Mo_init_23 : decode b_Mo_init 23 = .ok (.newarray .int, 2) := by decide +kernel
theorem d_Mo_init_25 : decode b_Mo_init 25 = .ok (.putfield 22, 3) := by decide +kernel
theorem d_Mo_init_28 : decode b_Mo_init 28 = .ok (.aload_n 0, 1) := by decide +kernel
theorem d_Mo_init_29 : decode b_Mo_init 29 = .ok (.iload_n 2, 1) := by decide +kernel
theorem d_Mo_init_30 : decode b_Mo_init 30 = .ok (.newarray .int, 2) := by decide +kernel
theorem d_Mo_init_32 : decode b_Mo_init 32 = .ok (.putfield 25, 3) := by decide +kernel
theorem d_Mo_init_35 : decode b_Mo_init 35 = .ok (.aload_n 0, 1) := by decide +kernel
theorem d_Mo_init_36 : decode b_Mo_init 36 = .ok (.iload_n 2, 1) := by decide +kernel
theorem d_Mo_init_37 : decode b_Mo_init 37 = .ok (.newarray .int, 2) := by decide +kernel
theorem d_Mo_init_39 : decode b_Mo_init 39 = .ok (.putfield 28, 3) := by decide +kernel
theorem d_Mo_init_42 : decode b_Mo_init 42 = .ok (.aload_n 0, 1) := by decide +kernel
theorem d_Mo_init_43 : decode b_Mo_init 43 = .ok (.iload_n 2, 1) := by decide +kernel
theorem d_Mo_init_44 : decode b_Mo_init 44 = .ok (.newarray .int, 2) := by decide +kernel
theorem d_Mo_init_46 : decode b_Mo_init 46 = .ok (.putfield 31, 3) := by decide +kernel
theorem d_Mo_init_49 : decode b_Mo_init 49 = .ok (.aload_n 0, 1) := by decide +kernel
theorem d_Mo_init_50 : decode b_Mo_init 50 = .ok (.iload_n 2, 1) := by decide +kernel
theorem d_Mo_init_51 : decode b_Mo_init 51 = .ok (.newarray .int, 2) := by decide +kernel
theorem d_Mo_init_53 : decode b_Mo_init 53 = .ok (.putfield 34, 3) := by decide +kernel
theorem d_Mo_init_56 : decode b_Mo_init 56 = .ok (.aload_n 0, 1) := by decide +kernel
theorem d_Mo_init_57 : decode b_Mo_init 57 = .ok (.invokevirtual 37, 3) := by decide +kernel
theorem d_Mo_init_60 : decode b_Mo_init 60 = .ok (.return_, 1) := by decide +kernel
theorem d_Mo_begin_0 : decode b_Mo_begin 0 = .ok (.aload_n 0, 1) := by decide +kernel
theorem d_Mo_begin_1 : decode b_Mo_begin 1 = .ok (.iconst 1, 1) := by decide +kernel
theorem d_Mo_begin_2 : decode b_Mo_begin 2 = .ok (.putfield 40, 3) := by decide +kernel
theorem d_Mo_begin_5 : decode b_Mo_begin 5 = .ok (.aload_n 0, 1) := by decide +kernel
theorem d_Mo_begin_6 : decode b_Mo_begin 6 = .ok (.getfield 22, 3) := by decide +kernel
theorem d_Mo_begin_9 : decode b_Mo_begin 9 = .ok (.iconst 0, 1) := by decide +kernel
theorem d_Mo_begin_10 : decode b_Mo_begin 10 = .ok (.iconst (-1), 1) := by decide +kernel
theorem d_Mo_begin_11 : decode b_Mo_begin 11 = .ok (.iastore, 1) := by decide +kernel
theorem d_Mo_begin_12 : decode b_Mo_begin 12 = .ok (.aload_n 0, 1) := by decide +kernel
theorem d_Mo_begin_13 : decode b_Mo_begin 13 = .ok (.getfield 25, 3) := by decide +kernel
theorem d_Mo_begin_16 : decode b_Mo_begin 16 = .ok (.iconst 0, 1) := by decide +kernel
theorem d_Mo_begin_17 : decode b_Mo_begin 17 = .ok (.iconst (-1), 1) := by decide +kernel
theorem d_Mo_begin_18 : decode b_Mo_begin 18 = .ok (.iastore, 1) := by decide +kernel
theorem d_Mo_begin_19 : decode b_Mo_begin 19 = .ok (.aload_n 0, 1) := by decide +kernel
theorem d_Mo_begin_20 : decode b_Mo_begin 20 = .ok (.getfield 31, 3) := by decide +kernel
theorem d_Mo_begin_23 : decode b_Mo_begin 23 = .ok (.iconst 0, 1) := by decide +kernel
theorem d_Mo_begin_24 : decode b_Mo_begin 24 = .ok (.iconst 0, 1) := by decide +kernel
theorem d_Mo_begin_25 : decode b_Mo_begin 25 = .ok (.iastore, 1) := by decide +kernel
theorem d_Mo_begin_26 : decode b_Mo_begin 26 = .ok (.aload_n 0, 1) := by decide +kernel
theorem d_Mo_begin_27 : decode b_Mo_begin 27 = .ok (.iconst 0, 1) := by decide +kernel
theorem d_Mo_begin_28 : decode b_Mo_begin 28 = .ok (.putfield 43, 3) := by decide +kernel
theorem d_Mo_begin_31 : decode b_Mo_begin 31 = .ok (.return_, 1) := by decide +kernel
theorem d_X_clear_0 : decode b_X_clear 0 = .ok (.aload_n 0, 1) := by decide +kernel
theorem d_X_clear_1 : decode b_X_clear 1 = .ok (.getfield 160, 3) := by decide +kernel
theorem d_X_clear_4 : decode b_X_clear 4 = .ok (.istore_n 1, 1) := by decide +kernel
theorem d_X_clear_5 : decode b_X_clear 5 = .ok (.aload_n 0, 1) := by decide +kernel
theorem d_X_clear_6 : decode b_X_clear 6 = .ok (.iconst 0, 1) := by decide +kernel
theorem d_X_clear_7 : decode b_X_clear 7 = .ok (.putfield 160, 3) := by decide +kernel
theorem d_X_clear_10 : decode b_X_clear 10 = .ok (.iload_n 1, 1) := by decide +kernel
theorem d_X_clear_11 : decode b_X_clear 11 = .ok (.ireturn, 1) := by decide +kernel
theorem d_X_add_0 : decode b_X_add 0 = .ok (.iload_n 1, 1) := by decide +kernel
theorem d_X_add_1 : decode b_X_add 1 = .ok (.iconst 0, 1) := by decide +kernel
theorem d_X_add_2 : decode b_X_add 2 = .ok (.sipush 255, 3) := by decide +kernel
theorem d_X_add_5 : decode b_X_add 5 = .ok (.invokestatic 163, 3) := by decide +kernel
theorem d_X_add_8 : decode b_X_add 8 = .ok (.ifCond .ne 5, 3) := by decide +kernel
theorem d_X_add_11 : decode b_X_add 11 = .ok (.iconst (-1), 1) := by decide +kernel
theorem d_X_add_12 : decode b_X_add 12 = .ok (.ireturn, 1) := by decide +kernel
theorem d_X_add_13 : decode b_X_add 13 = .ok (.aload_n 0, 1) := by decide +kernel
theorem d_X_add_14 : decode b_X_add 14 = .ok (.getfield 160, 3) := by decide +kernel
theorem d_X_add_17 : decode b_X_add 17 = .ok (.sipush 300, 3) := by decide +kernel
theorem d_X_add_20 : decode b_X_add 20 = .ok (.if_icmp .ne 6, 3) := by decide +kernel
theorem d_X_add_23 : decode b_X_add 23 = .ok (.bipush (-2), 2) := by decide +kernel
theorem d_X_add_25 : decode b_X_add 25 = .ok (.ireturn, 1) := by decide +kernel
theorem d_X_add_26 : decode b_X_add 26 = .ok (.aload_n 0, 1) := by decide +kernel
theorem d_X_add_27 : decode b_X_add 27 = .ok (.getfield 87, 3) := by decide +kernel
theorem d_X_add_30 : decode b_X_add 30 = .ok (.aload_n 0, 1) := by decide +kernel
theorem d_X_add_31 : decode b_X_add 31 = .ok (.dup, 1) := by decide +kernel
theorem d_X_add_32 : decode b_X_add 32 = .ok (.getfield 160, 3) := by decide +kernel
theorem d_X_add_35 : decode b_X_add 35 = .ok (.dup_x1, 1) := by decide +kernel
theorem d_X_add_36 : decode b_X_add 36 = .ok (.iconst 1, 1) := by decide +kernel
theorem d_X_add_37 : decode b_X_add 37 = .ok (.iadd, 1) := by decide +kernel
theorem d_X_add_38 : decode b_X_add 38 = .ok (.putfield 160, 3) := by decide +kernel
theorem d_X_add_41 : decode b_X_add 41 = .ok (.iload_n 1, 1) := by decide +kernel
theorem d_X_add_42 : decode b_X_add 42 = .ok (.iastore, 1) := by decide +kernel
theorem d_X_add_43 : decode b_X_add 43 = .ok (.aload_n 0, 1) := by decide +kernel
theorem d_X_add_44 : decode b_X_add 44 = .ok (.getfield 160, 3) := by decide +kernel
theorem d_X_add_47 : decode b_X_add 47 = .ok (.ireturn, 1) := by decide +kernel
theorem d_X_isIn_0 : decode b_X_isIn 0 = .ok (.iload_n 0, 1) := by decide +kernel
theorem d_X_isIn_1 : decode b_X_isIn 1 = .ok (.iload_n 1, 1) := by decide +kernel
theorem d_X_isIn_2 : decode b_X_isIn 2 = .ok (.if_icmp .lt 12, 3) := by decide +kernel
theorem d_X_isIn_5 : decode b_X_isIn 5 = .ok (.iload_n 0, 1) := by decide +kernel
theorem d_X_isIn_6 : decode b_X_isIn 6 = .ok (.iload_n 2, 1) := by decide +kernel
theorem d_X_isIn_7 : decode b_X_isIn 7 = .ok (.if_icmp .gt 7, 3) := by decide +kernel
theorem d_X_isIn_10 : decode b_X_isIn 10 = .ok (.iconst 1, 1) := by decide +kernel
theorem d_X_isIn_11 : decode b_X_isIn 11 = .ok (.goto 4, 3) := by decide +kernel
theorem d_X_isIn_14 : decode b_X_isIn 14 = .ok (.iconst 0, 1) := by decide +kernel
theorem d_X_isIn_15 : decode b_X_isIn 15 = .ok (.ireturn, 1) := by decide +kernel
theorem d_X_fill_0 : decode b_X_fill 0 = .ok (.iload_n 1, 1) := by decide +kernel
theorem d_X_fill_1 : decode b_X_fill 1 = .ok (.iconst 1, 1) := by decide +kernel
theorem d_X_fill_2 : decode b_X_fill 2 = .ok (.sipush 300, 3) := by decide +kernel
theorem d_X_fill_5 : decode b_X_fill 5 = .ok (.invokestatic 163, 3) := by decide +kernel
theorem d_X_fill_8 : decode b_X_fill 8 = .ok (.ifCond .eq 12, 3) := by decide +kernel
theorem d_X_fill_11 : decode b_X_fill 11 = .ok (.iload_n 3, 1) := by decide +kernel
theorem d_X_fill_12 : decode b_X_fill 12 = .ok (.iconst 0, 1) := by decide +kernel
theorem d_X_fill_13 : decode b_X_fill 13 = .ok (.iconst 3, 1) := by decide +kernel
theorem d_X_fill_14 : decode b_X_fill 14 = .ok (.invokestatic 163, 3) := by decide +kernel
theorem d_X_fill_17 : decode b_X_fill 17 = .ok (.ifCond .ne 5, 3) := by decide +kernel
theorem d_X_fill_20 : decode b_X_fill 20 = .ok (.iconst (-1), 1) := by decide +kernel
theorem d_X_fill_21 : decode b_X_fill 21 = .ok (.ireturn, 1) := by decide +kernel
theorem d_X_fill_22 : decode b_X_fill 22 = .ok (.aload_n 0, 1) := by decide +kernel
theorem d_X_fill_23 : decode b_X_fill 23 = .ok (.getfield 160, 3) := by decide +kernel
theorem d_X_fill_26 : decode b_X_fill 26 = .ok (.iload_n 1, 1) := by decide +kernel
theorem d_X_fill_27 : decode b_X_fill 27 = .ok (.iadd, 1) := by decide +kernel
theorem d_X_fill_28 : decode b_X_fill 28 = .ok (.sipush 300, 3) := by decide +kernel
theorem d_X_fill_31 : decode b_X_fill 31 = .ok (.if_icmp .le 6, 3) := by decide +kernel
theorem d_X_fill_34 : decode b_X_fill 34 = .ok (.bipush (-2), 2) := by decide +kernel
theorem d_X_fill_36 : decode b_X_fill 36 = .ok (.ireturn, 1) := by decide +kernel
theorem d_X_fill_37 : decode b_X_fill 37 = .ok (.iload_n 2, 1) := by decide +kernel
theorem d_X_fill_38 : decode b_X_fill 38 = .ok (.istore 4, 2) := by decide +kernel
theorem d_X_fill_40 : decode b_X_fill 40 = .ok (.iconst 0, 1) := by decide +kernel
theorem d_X_fill_41 : decode b_X_fill 41 = .ok (.istore 5, 2) := by decide +kernel
theorem d_X_fill_43 : decode b_X_fill 43 = .ok (.iconst 0, 1) := by decide +kernel
theorem d_X_fill_44 : decode b_X_fill 44 = .ok (.istore 6, 2) := by decide +kernel
theorem d_X_fill_46 : decode b_X_fill 46 = .ok (.iload 6, 2) := by decide +kernel
theorem d_X_fill_48 : decode b_X_fill 48 = .ok (.iload_n 1, 1) := by decide +kernel
theorem d_X_fill_49 : decode b_X_fill 49 = .ok (.if_icmp .ge 53, 3) := by decide +kernel
theorem d_X_fill_52 : decode b_X_fill 52 = .ok (.iload 4, 2) := by decide +kernel
theorem d_X_fill_54 : decode b_X_fill 54 = .ok (.ldc 167, 2) := by decide +kernel
theorem d_X_fill_56 : decode b_X_fill 56 = .ok (.imul, 1) := by decide +kernel
theorem d_X_fill_57 : decode b_X_fill 57 = .ok (.sipush 12345, 3) := by decide +kernel
theorem d_X_fill_60 : decode b_X_fill 60 = .ok (.iadd, 1) := by decide +kernel
theorem d_X_fill_61 : decode b_X_fill 61 = .ok (.istore 4, 2) := by decide +kernel
theorem d_X_fill_63 : decode b_X_fill 63 = .ok (.aload_n 0, 1) := by decide +kernel
theorem d_X_fill_64 : decode b_X_fill 64 = .ok (.iload 4, 2) := by decide +kernel
theorem d_X_fill_66 : decode b_X_fill 66 = .ok (.bipush 16, 2) := by decide +kernel
theorem d_X_fill_68 : decode b_X_fill 68 = .ok (.iushr, 1) := by decide +kernel
theorem d_X_fill_69 : decode b_X_fill 69 = .ok (.iload_n 2, 1) := by decide +kernel
theorem d_X_fill_70 : decode b_X_fill 70 = .ok (.iload_n 3, 1) := by decide +kernel
theorem d_X_fill_71 : decode b_X_fill 71 = .ok (.iload 5, 2) := by decide +kernel
theorem d_X_fill_73 : decode b_X_fill 73 = .ok (.invokevirtual 168, 3) := by decide +kernel
theorem d_X_fill_76 : decode b_X_fill 76 = .ok (.istore 5, 2) := by decide +kernel
theorem d_X_fill_78 : decode b_X_fill 78 = .ok (.aload_n 0, 1) := by decide +kernel
theorem d_X_fill_79 : decode b_X_fill 79 = .ok (.getfield 87, 3) := by decide +kernel
theorem d_X_fill_82 : decode b_X_fill 82 = .ok (.aload_n 0, 1) := by decide +kernel
theorem d_X_fill_83 : decode b_X_fill 83 = .ok (.dup, 1) := by decide +kernel
theorem d_X_fill_84 : decode b_X_fill 84 = .ok (.getfield 160, 3) := by decide +kernel
theorem d_X_fill_87 : decode b_X_fill 87 = .ok (.dup_x1, 1) := by decide +kernel
theorem d_X_fill_88 : decode b_X_fill 88 = .ok (.iconst 1, 1) := by decide +kernel
theorem d_X_fill_89 : decode b_X_fill 89 = .ok (.iadd, 1) := by decide +kernel
theorem d_X_fill_90 : decode b_X_fill 90 = .ok (.putfield 160, 3) := by decide +kernel
theorem d_X_fill_93 : decode b_X_fill 93 = .ok (.iload 5, 2) := by decide +kernel
theorem d_X_fill_95 : decode b_X_fill 95 = .ok (.iastore, 1) := by decide +kernel
theorem d_X_fill_96 : decode b_X_fill 96 = .ok (.iinc 6 1, 3) := by decide +kernel
theorem d_X_fill_99 : decode b_X_fill 99 = .ok (.goto (-53), 3) := by decide +kernel
theorem d_X_fill_102 : decode b_X_fill 102 = .ok (.aload_n 0, 1) := by decide +kernel
theorem d_X_fill_103 : decode b_X_fill 103 = .ok (.getfield 160, 3) := by decide +kernel
theorem d_X_fill_106 : decode b_X_fill 106 = .ok (.ireturn, 1) := by decide +kernel
theorem d_X_drawn_0 : decode b_X_drawn 0 = .ok (.iload_n 3, 1) := by decide +kernel
theorem d_X_drawn_1 : decode b_X_drawn 1 = .ok (.tableswitch 84 0 2 #[27, 33, 37], 27) := by decide +kernel
theorem d_X_drawn_28 : decode b_X_drawn 28 = .ok (.iload_n 1, 1) := by decide +kernel
theorem d_X_drawn_29 : decode b_X_drawn 29 = .ok (.sipush 255, 3) := by decide +kernel
theorem d_X_drawn_32 : decode b_X_drawn 32 = .ok (.iand, 1) := by decide +kernel
theorem d_X_drawn_33 : decode b_X_drawn 33 = .ok (.ireturn, 1) := by decide +kernel
theorem d_X_drawn_34 : decode b_X_drawn 34 = .ok (.iload_n 1, 1) := by decide +kernel
theorem d_X_drawn_35 : decode b_X_drawn 35 = .ok (.iconst 3, 1) := by decide +kernel
theorem d_X_drawn_36 : decode b_X_drawn 36 = .ok (.iand, 1) := by decide +kernel
theorem d_X_drawn_37 : decode b_X_drawn 37 = .ok (.ireturn, 1) := by decide +kernel
theorem d_X_drawn_38 : decode b_X_drawn 38 = .ok (.aload_n 0, 1) := by decide +kernel
theorem d_X_drawn_39 : decode b_X_drawn 39 = .ok (.getfield 160, 3) := by decide +kernel
theorem d_X_drawn_42 : decode b_X_drawn 42 = .ok (.iconst 1, 1) := by decide +kernel
theorem d_X_drawn_43 : decode b_X_drawn 43 = .ok (.isub, 1) := by decide +kernel
theorem d_X_drawn_44 : decode b_X_drawn 44 = .ok (.iload_n 2, 1) := by decide +kernel
theorem d_X_drawn_45 : decode b_X_drawn 45 = .ok (.bipush 28, 2) := by decide +kernel
theorem d_X_drawn_47 : decode b_X_drawn 47 = .ok (.iushr, 1) := by decide +kernel
theorem d_X_drawn_48 : decode b_X_drawn 48 = .ok (.isub, 1) := by decide +kernel
theorem d_X_drawn_49 : decode b_X_drawn 49 = .ok (.istore 5, 2) := by decide +kernel
theorem d_X_drawn_51 : decode b_X_drawn 51 = .ok (.iload 5, 2) := by decide +kernel
theorem d_X_drawn_53 : decode b_X_drawn 53 = .ok (.ifCond .ge 7, 3) := by decide +kernel
theorem d_X_drawn_56 : decode b_X_drawn 56 = .ok (.iconst 0, 1) := by decide +kernel
theorem d_X_drawn_57 : decode b_X_drawn 57 = .ok (.goto 27, 3) := by decide +kernel
theorem d_X_drawn_60 : decode b_X_drawn 60 = .ok (.aload_n 0, 1) := by decide +kernel
theorem d_X_drawn_61 : decode b_X_drawn 61 = .ok (.getfield 87, 3) := by decide +kernel
theorem d_X_drawn_64 : decode b_X_drawn 64 = .ok (.iload 5, 2) := by decide +kernel
theorem d_X_drawn_66 : decode b_X_drawn 66 = .ok (.iaload, 1) := by decide +kernel
theorem d_X_drawn_67 : decode b_X_drawn 67 = .ok (.iload_n 1, 1) := by decide +kernel
theorem d_X_drawn_68 : decode b_X_drawn 68 = .ok (.bipush 16, 2) := by decide +kernel
theorem d_X_drawn_70 : decode b_X_drawn 70 = .ok (.irem, 1) := by decide +kernel
theorem d_X_drawn_71 : decode b_X_drawn 71 = .ok (.ifCond .ne 7, 3) := by decide +kernel
theorem d_X_drawn_74 : decode b_X_drawn 74 = .ok (.iconst 1, 1) := by decide +kernel
theorem d_X_drawn_75 : decode b_X_drawn 75 = .ok (.goto 4, 3) := by decide +kernel
theorem d_X_drawn_78 : decode b_X_drawn 78 = .ok (.iconst 0, 1) := by decide +kernel
theorem d_X_drawn_79 : decode b_X_drawn 79 = .ok (.iadd, 1) := by decide +kernel
theorem d_X_drawn_80 : decode b_X_drawn 80 = .ok (.sipush 255, 3) := by decide +kernel
theorem d_X_drawn_83 : decode b_X_drawn 83 = .ok (.iand, 1) := by decide +kernel
theorem d_X_drawn_84 : decode b_X_drawn 84 = .ok (.ireturn, 1) := by decide +kernel
theorem d_X_drawn_85 : decode b_X_drawn 85 = .ok (.iload 4, 2) := by decide +kernel
theorem d_X_drawn_87 : decode b_X_drawn 87 = .ok (.iload_n 1, 1) := by decide +kernel
theorem d_X_drawn_88 : decode b_X_drawn 88 = .ok (.iconst 4, 1) := by decide +kernel
theorem d_X_drawn_89 : decode b_X_drawn 89 = .ok (.irem, 1) := by decide +kernel
theorem d_X_drawn_90 : decode b_X_drawn 90 = .ok (.iadd, 1) := by decide +kernel
theorem d_X_drawn_91 : decode b_X_drawn 91 = .ok (.sipush 255, 3) := by decide +kernel
theorem d_X_drawn_94 : decode b_X_drawn 94 = .ok (.iand, 1) := by decide +kernel
theorem d_X_drawn_95 : decode b_X_drawn 95 = .ok (.ireturn, 1) := by decide +kernel
theorem d_X_size_0 : decode b_X_size 0 = .ok (.iload_n 1, 1) := by decide +kernel
theorem d_X_size_1 : decode b_X_size 1 = .ok (.ifCond .ne 10, 3) := by decide +kernel
theorem d_X_size_4 : decode b_X_size 4 = .ok (.aload_n 0, 1) := by decide +kernel
theorem d_X_size_5 : decode b_X_size 5 = .ok (.getfield 160, 3) := by decide +kernel
theorem d_X_size_8 : decode b_X_size 8 = .ok (.goto 28, 3) := by decide +kernel
theorem d_X_size_11 : decode b_X_size 11 = .ok (.iload_n 1, 1) := by decide +kernel
theorem d_X_size_12 : decode b_X_size 12 = .ok (.iconst 1, 1) := by decide +kernel
theorem d_X_size_13 : decode b_X_size 13 = .ok (.if_icmp .ne 10, 3) := by decide +kernel
theorem d_X_size_16 : decode b_X_size 16 = .ok (.aload_n 0, 1) := by decide +kernel
theorem d_X_size_17 : decode b_X_size 17 = .ok (.getfield 172, 3) := by decide +kernel
theorem d_X_size_20 : decode b_X_size 20 = .ok (.goto 16, 3) := by decide +kernel
theorem d_X_size_23 : decode b_X_size 23 = .ok (.iload_n 1, 1) := by decide +kernel
theorem d_X_size_24 : decode b_X_size 24 = .ok (.iconst 2, 1) := by decide +kernel
theorem d_X_size_25 : decode b_X_size 25 = .ok (.if_icmp .ne 10, 3) := by decide +kernel
theorem d_X_size_28 : decode b_X_size 28 = .ok (.aload_n 0, 1) := by decide +kernel
theorem d_X_size_29 : decode b_X_size 29 = .ok (.getfield 175, 3) := by decide +kernel
theorem d_X_size_32 : decode b_X_size 32 = .ok (.goto 4, 3) := by decide +kernel
theorem d_X_size_35 : decode b_X_size 35 = .ok (.iconst (-1), 1) := by decide +kernel
theorem d_X_size_36 : decode b_X_size 36 = .ok (.ireturn, 1) := by decide +kernel
theorem d_X_octet_0 : decode b_X_octet 0 = .ok (.iload_n 1, 1) := by decide +kernel
theorem d_X_octet_1 : decode b_X_octet 1 = .ok (.iconst 0, 1) := by decide +kernel
theorem d_X_octet_2 : decode b_X_octet 2 = .ok (.iconst 2, 1) := by decide +kernel
theorem d_X_octet_3 : decode b_X_octet 3 = .ok (.invokestatic 163, 3) := by decide +kernel
theorem d_X_octet_6 : decode b_X_octet 6 = .ok (.ifCond .eq 28, 3) := by decide +kernel
theorem d_X_octet_9 : decode b_X_octet 9 = .ok (.iload_n 2, 1) := by decide +kernel
theorem d_X_octet_10 : decode b_X_octet 10 = .ok (.iconst 0, 1) := by decide +kernel
theorem d_X_octet_11 : decode b_X_octet 11 = .ok (.aload_n 0, 1) := by decide +kernel
theorem d_X_octet_12 : decode b_X_octet 12 = .ok (.iload_n 1, 1) := by decide +kernel
theorem d_X_octet_13 : decode b_X_octet 13 = .ok (.invokevirtual 178, 3) := by decide +kernel
theorem d_X_octet_16 : decode b_X_octet 16 = .ok (.iconst 1, 1) := by decide +kernel
theorem d_X_octet_17 : decode b_X_octet 17 = .ok (.isub, 1) := by decide +kernel
theorem d_X_octet_18 : decode b_X_octet 18 = .ok (.invokestatic 163, 3) := by decide +kernel
theorem d_X_octet_21 : decode b_X_octet 21 = .ok (.ifCond .eq 13, 3) := by decide +kernel
theorem d_X_octet_24 : decode b_X_octet 24 = .ok (.aload_n 0, 1) := by decide +kernel
theorem d_X_octet_25 : decode b_X_octet 25 = .ok (.iload_n 1, 1) := by decide +kernel
theorem d_X_octet_26 : decode b_X_octet 26 = .ok (.invokevirtual 181, 3) := by decide +kernel
theorem d_X_octet_29 : decode b_X_octet 29 = .ok (.iload_n 2, 1) := by decide +kernel
theorem d_X_octet_30 : decode b_X_octet 30 = .ok (.iaload, 1) := by decide +kernel
theorem d_X_octet_31 : decode b_X_octet 31 = .ok (.goto 4, 3) := by decide +kernel
theorem d_X_octet_34 : decode b_X_octet 34 = .ok (.iconst (-1), 1) := by decide +kernel
theorem d_X_octet_35 : decode b_X_octet 35 = .ok (.ireturn, 1) := by decide +kernel
theorem d_X_row_0 : decode b_X_row 0 = .ok (.iload_n 1, 1) := by decide +kernel
theorem d_X_row_1 : decode b_X_row 1 = .ok (.ifCond .ne 10, 3) := by decide +kernel
theorem d_X_row_4 : decode b_X_row 4 = .ok (.aload_n 0, 1) := by decide +kernel
theorem d_X_row_5 : decode b_X_row 5 = .ok (.getfield 87, 3) := by decide +kernel
theorem d_X_row_8 : decode b_X_row 8 = .ok (.goto 19, 3) := by decide +kernel
theorem d_X_row_11 : decode b_X_row 11 = .ok (.iload_n 1, 1) := by decide +kernel
theorem d_X_row_12 : decode b_X_row 12 = .ok (.iconst 1, 1) := by decide +kernel
theorem d_X_row_13 : decode b_X_row 13 = .ok (.if_icmp .ne 10, 3) := by decide +kernel
theorem d_X_row_16 : decode b_X_row 16 = .ok (.aload_n 0, 1) := by decide +kernel
theorem d_X_row_17 : decode b_X_row 17 = .ok (.getfield 90, 3) := by decide +kernel
theorem d_X_row_20 : decode b_X_row 20 = .ok (.goto 7, 3) := by decide +kernel
theorem d_X_row_23 : decode b_X_row 23 = .ok (.aload_n 0, 1) := by decide +kernel
theorem d_X_row_24 : decode b_X_row 24 = .ok (.getfield 93, 3) := by decide +kernel
theorem d_X_row_27 : decode b_X_row 27 = .ok (.areturn, 1) := by decide +kernel
theorem d_X_alter_0 : decode b_X_alter 0 = .ok (.iload_n 1, 1) := by decide +kernel
theorem d_X_alter_1 : decode b_X_alter 1 = .ok (.iconst 0, 1) := by decide +kernel
theorem d_X_alter_2 : decode b_X_alter 2 = .ok (.aload_n 0, 1) := by decide +kernel
theorem d_X_alter_3 : decode b_X_alter 3 = .ok (.getfield 172, 3) := by decide +kernel
theorem d_X_alter_6 : decode b_X_alter 6 = .ok (.iconst 1, 1) := by decide +kernel
theorem d_X_alter_7 : decode b_X_alter 7 = .ok (.isub, 1) := by decide +kernel
theorem d_X_alter_8 : decode b_X_alter 8 = .ok (.invokestatic 163, 3) := by decide +kernel
theorem d_X_alter_11 : decode b_X_alter 11 = .ok (.ifCond .eq 14, 3) := by decide +kernel
theorem d_X_alter_14 : decode b_X_alter 14 = .ok (.iload_n 2, 1) := by decide +kernel
theorem d_X_alter_15 : decode b_X_alter 15 = .ok (.iconst 0, 1) := by decide +kernel
theorem d_X_alter_16 : decode b_X_alter 16 = .ok (.sipush 255, 3) := by decide +kernel
theorem d_X_alter_19 : decode b_X_alter 19 = .ok (.invokestatic 163, 3) := by decide +kernel
theorem d_X_alter_22 : decode b_X_alter 22 = .ok (.ifCond .ne 5, 3) := by decide +kernel
theorem d_X_alter_25 : decode b_X_alter 25 = .ok (.iconst (-1), 1) := by decide +kernel
theorem d_X_alter_26 : decode b_X_alter 26 = .ok (.ireturn, 1) := by decide +kernel
theorem d_X_alter_27 : decode b_X_alter 27 = .ok (.aload_n 0, 1) := by decide +kernel
theorem d_X_alter_28 : decode b_X_alter 28 = .ok (.getfield 90, 3) := by decide +kernel
theorem d_X_alter_31 : decode b_X_alter 31 = .ok (.iload_n 1, 1) := by decide +kernel
theorem d_X_alter_32 : decode b_X_alter 32 = .ok (.iaload, 1) := by decide +kernel
theorem d_X_alter_33 : decode b_X_alter 33 = .ok (.istore_n 3, 1) := by decide +kernel
theorem d_X_alter_34 : decode b_X_alter 34 = .ok (.aload_n 0, 1) := by decide +kernel
theorem d_X_alter_35 : decode b_X_alter 35 = .ok (.getfield 90, 3) := by decide +kernel
theorem d_X_alter_38 : decode b_X_alter 38 = .ok (.iload_n 1, 1) := by decide +kernel
theorem d_X_alter_39 : decode b_X_alter 39 = .ok (.iload_n 2, 1) := by decide +kernel
theorem d_X_alter_40 : decode b_X_alter 40 = .ok (.iastore, 1) := by decide +kernel
theorem d_X_alter_41 : decode b_X_alter 41 = .ok (.iload_n 3, 1) := by decide +kernel
theorem d_X_alter_42 : decode b_X_alter 42 = .ok (.ireturn, 1) := by decide +kernel
theorem d_X_cut_0 : decode b_X_cut 0 = .ok (.iload_n 1, 1) := by decide +kernel
theorem d_X_cut_1 : decode b_X_cut 1 = .ok (.iconst 0, 1) := by decide +kernel
theorem d_X_cut_2 : decode b_X_cut 2 = .ok (.aload_n 0, 1) := by decide +kernel
theorem d_X_cut_3 : decode b_X_cut 3 = .ok (.getfield 172, 3) := by decide +kernel
theorem d_X_cut_6 : decode b_X_cut 6 = .ok (.invokestatic 163, 3) := by decide +kernel
theorem d_X_cut_9 : decode b_X_cut 9 = .ok (.ifCond .ne 5, 3) := by decide +kernel
theorem d_X_cut_12 : decode b_X_cut 12 = .ok (.iconst (-1), 1) := by decide +kernel
theorem d_X_cut_13 : decode b_X_cut 13 = .ok (.ireturn, 1) := by decide +kernel
theorem d_X_cut_14 : decode b_X_cut 14 = .ok (.aload_n 0, 1) := by decide +kernel
theorem d_X_cut_15 : decode b_X_cut 15 = .ok (.getfield 172, 3) := by decide +kernel
theorem d_X_cut_18 : decode b_X_cut 18 = .ok (.iload_n 1, 1) := by decide +kernel
theorem d_X_cut_19 : decode b_X_cut 19 = .ok (.isub, 1) := by decide +kernel
theorem d_X_cut_20 : decode b_X_cut 20 = .ok (.istore_n 2, 1) := by decide +kernel
theorem d_X_cut_21 : decode b_X_cut 21 = .ok (.aload_n 0, 1) := by decide +kernel
theorem d_X_cut_22 : decode b_X_cut 22 = .ok (.iload_n 1, 1) := by decide +kernel
theorem d_X_cut_23 : decode b_X_cut 23 = .ok (.putfield 172, 3) := by decide +kernel
theorem d_X_cut_26 : decode b_X_cut 26 = .ok (.iload_n 2, 1) := by decide +kernel
theorem d_X_cut_27 : decode b_X_cut 27 = .ok (.ireturn, 1) := by decide +kernel
theorem d_X_pack_0 : decode b_X_pack 0 = .ok (.aload_n 0, 1) := by decide +kernel
theorem d_X_pack_1 : decode b_X_pack 1 = .ok (.getfield 104, 3) := by decide +kernel
theorem d_X_pack_4 : decode b_X_pack 4 = .ok (.invokevirtual 185, 3) := by decide +kernel
theorem d_X_pack_7 : decode b_X_pack 7 = .ok (.aload_n 0, 1) := by decide +kernel
theorem d_X_pack_8 : decode b_X_pack 8 = .ok (.iconst 0, 1) := by decide +kernel
theorem d_X_pack_9 : decode b_X_pack 9 = .ok (.putfield 60, 3) := by decide +kernel
theorem d_X_pack_12 : decode b_X_pack 12 = .ok (.aload_n 0, 1) := by decide +kernel
theorem d_X_pack_13 : decode b_X_pack 13 = .ok (.iconst 0, 1) := by decide +kernel
theorem d_X_pack_14 : decode b_X_pack 14 = .ok (.putfield 188, 3) := by decide +kernel
theorem d_X_pack_17 : decode b_X_pack 17 = .ok (.iconst 0, 1) := by decide +kernel
theorem d_X_pack_18 : decode b_X_pack 18 = .ok (.istore_n 1, 1) := by decide +kernel
theorem d_X_pack_19 : decode b_X_pack 19 = .ok (.iload_n 1, 1) := by decide +kernel
theorem d_X_pack_20 : decode b_X_pack 20 = .ok (.aload_n 0, 1) := by decide +kernel
theorem d_X_pack_21 : decode b_X_pack 21 = .ok (.getfield 160, 3) := by decide +kernel
theorem d_X_pack_24 : decode b_X_pack 24 = .ok (.if_icmp .gt 101, 3) := by decide +kernel
theorem d_X_pack_27 : decode b_X_pack 27 = .ok (.iload_n 1, 1) := by decide +kernel
theorem d_X_pack_28 : decode b_X_pack 28 = .ok (.aload_n 0, 1) := by decide +kernel
theorem d_X_pack_29 : decode b_X_pack 29 = .ok (.getfield 160, 3) := by decide +kernel
theorem d_X_pack_32 : decode b_X_pack 32 = .ok (.if_icmp .ne 9, 3) := by decide +kernel
theorem d_X_pack_35 : decode b_X_pack 35 = .ok (.sipush 256, 3) := by decide +kernel
theorem d_X_pack_38 : decode b_X_pack 38 = .ok (.goto 9, 3) := by decide +kernel
theorem d_X_pack_41 : decode b_X_pack 41 = .ok (.aload_n 0, 1) := by decide +kernel
theorem d_X_pack_42 : decode b_X_pack 42 = .ok (.getfield 87, 3) := by decide +kernel
theorem d_X_pack_45 : decode b_X_pack 45 = .ok (.iload_n 1, 1) := by decide +kernel
theorem d_X_pack_46 : decode b_X_pack 46 = .ok (.iaload, 1) := by decide +kernel
theorem d_X_pack_47 : decode b_X_pack 47 = .ok (.istore_n 2, 1) := by decide +kernel
theorem d_X_pack_48 : decode b_X_pack 48 = .ok (.aload_n 0, 1) := by decide +kernel
theorem d_X_pack_49 : decode b_X_pack 49 = .ok (.aload_n 0, 1) := by decide +kernel
theorem d_X_pack_50 : decode b_X_pack 50 = .ok (.getfield 73, 3) := by decide +kernel
theorem d_X_pack_53 : decode b_X_pack 53 = .ok (.iconst 0, 1) := by decide +kernel
theorem d_X_pack_54 : decode b_X_pack 54 = .ok (.aaload, 1) := by decide +kernel
theorem d_X_pack_55 : decode b_X_pack 55 = .ok (.iload_n 2, 1) := by decide +kernel
theorem d_X_pack_56 : decode b_X_pack 56 = .ok (.aload_n 0, 1) := by decide +kernel
theorem d_X_pack_57 : decode b_X_pack 57 = .ok (.getfield 132, 3) := by decide +kernel
theorem d_X_pack_60 : decode b_X_pack 60 = .ok (.invokevirtual 191, 3) := by decide +kernel
theorem d_X_pack_63 : decode b_X_pack 63 = .ok (.istore_n 3, 1) := by decide +kernel
theorem d_X_pack_64 : decode b_X_pack 64 = .ok (.aload_n 0, 1) := by decide +kernel
theorem d_X_pack_65 : decode b_X_pack 65 = .ok (.getfield 123, 3) := by decide +kernel
theorem d_X_pack_68 : decode b_X_pack 68 = .ok (.iload_n 1, 1) := by decide +kernel
theorem d_X_pack_69 : decode b_X_pack 69 = .ok (.aload_n 0, 1) := by decide +kernel
theorem d_X_pack_70 : decode b_X_pack 70 = .ok (.getfield 22, 3) := by decide +kernel
theorem d_X_pack_73 : decode b_X_pack 73 = .ok (.iastore, 1) := by decide +kernel
theorem d_X_pack_74 : decode b_X_pack 74 = .ok (.aload_n 0, 1) := by decide +kernel
theorem d_X_pack_75 : decode b_X_pack 75 = .ok (.getfield 126, 3) := by decide +kernel
theorem d_X_pack_78 : decode b_X_pack 78 = .ok (.iload_n 1, 1) := by decide +kernel
theorem d_X_pack_79 : decode b_X_pack 79 = .ok (.aload_n 0, 1) := by decide +kernel
theorem d_X_pack_80 : decode b_X_pack 80 = .ok (.getfield 57, 3) := by decide +kernel
theorem d_X_pack_83 : decode b_X_pack 83 = .ok (.iastore, 1) := by decide +kernel
theorem d_X_pack_84 : decode b_X_pack 84 = .ok (.iload_n 1, 1) := by decide +kernel
theorem d_X_pack_85 : decode b_X_pack 85 = .ok (.aload_n 0, 1) := by decide +kernel
theorem d_X_pack_86 : decode b_X_pack 86 = .ok (.getfield 160, 3) := by decide +kernel
theorem d_X_pack_89 : decode b_X_pack 89 = .ok (.if_icmp .ge 30, 3) := by decide +kernel
theorem d_X_pack_92 : decode b_X_pack 92 = .ok (.aload_n 0, 1) := by decide +kernel
theorem d_X_pack_93 : decode b_X_pack 93 = .ok (.getfield 73, 3) := by decide +kernel
theorem d_X_pack_96 : decode b_X_pack 96 = .ok (.iconst 0, 1) := by decide +kernel
theorem d_X_pack_97 : decode b_X_pack 97 = .ok (.aaload, 1) := by decide +kernel
theorem d_X_pack_98 : decode b_X_pack 98 = .ok (.iload_n 3, 1) := by decide +kernel
theorem d_X_pack_99 : decode b_X_pack 99 = .ok (.aload_n 0, 1) := by decide +kernel
theorem d_X_pack_100 : decode b_X_pack 100 = .ok (.getfield 57, 3) := by decide +kernel
theorem d_X_pack_103 : decode b_X_pack 103 = .ok (.invokevirtual 195, 3) := by decide +kernel
theorem d_X_pack_106 : decode b_X_pack 106 = .ok (.ifCond .eq 13, 3) := by decide +kernel
theorem d_X_pack_109 : decode b_X_pack 109 = .ok (.aload_n 0, 1) := by decide +kernel
theorem d_X_pack_110 : decode b_X_pack 110 = .ok (.dup, 1) := by decide +kernel
theorem d_X_pack_111 : decode b_X_pack 111 = .ok (.getfield 188, 3) := by decide +kernel
theorem d_X_pack_114 : decode b_X_pack 114 = .ok (.iconst 1, 1) := by decide +kernel
theorem d_X_pack_115 : decode b_X_pack 115 = .ok (.iadd, 1) := by decide +kernel
theorem d_X_pack_116 : decode b_X_pack 116 = .ok (.putfield 188, 3) := by decide +kernel
theorem d_X_pack_119 : decode b_X_pack 119 = .ok (.iinc 1 1, 3) := by decide +kernel
theorem d_X_pack_122 : decode b_X_pack 122 = .ok (.goto (-103), 3) := by decide +kernel
theorem d_X_pack_125 : decode b_X_pack 125 = .ok (.aload_n 0, 1) := by decide +kernel
theorem d_X_pack_126 : decode b_X_pack 126 = .ok (.getfield 77, 3) := by decide +kernel
theorem d_X_pack_129 : decode b_X_pack 129 = .ok (.iconst 0, 1) := by decide +kernel
theorem d_X_pack_130 : decode b_X_pack 130 = .ok (.dup2, 1) := by decide +kernel
theorem d_X_pack_131 : decode b_X_pack 131 = .ok (.iaload, 1) := by decide +kernel
theorem d_X_pack_132 : decode b_X_pack 132 = .ok (.aload_n 0, 1) := by decide +kernel
theorem d_X_pack_133 : decode b_X_pack 133 = .ok (.getfield 188, 3) := by decide +kernel
theorem d_X_pack_136 : decode b_X_pack 136 = .ok (.iadd, 1) := by decide +kernel
theorem d_X_pack_137 : decode b_X_pack 137 = .ok (.iastore, 1) := by decide +kernel
theorem d_X_pack_138 : decode b_X_pack 138 = .ok (.aload_n 0, 1) := by decide +kernel
theorem d_X_pack_139 : decode b_X_pack 139 = .ok (.aload_n 0, 1) := by decide +kernel
theorem d_X_pack_140 : decode b_X_pack 140 = .ok (.getfield 104, 3) := by decide +kernel
theorem d_X_pack_143 : decode b_X_pack 143 = .ok (.invokevirtual 199, 3) := by decide +kernel
theorem d_X_pack_146 : decode b_X_pack 146 = .ok (.putfield 172, 3) := by decide +kernel
theorem d_X_pack_149 : decode b_X_pack 149 = .ok (.iconst 0, 1) := by decide +kernel
theorem d_X_pack_150 : decode b_X_pack 150 = .ok (.istore_n 1, 1) := by decide +kernel
theorem d_X_pack_151 : decode b_X_pack 151 = .ok (.iload_n 1, 1) := by decide +kernel
theorem d_X_pack_152 : decode b_X_pack 152 = .ok (.aload_n 0, 1) := by decide +kernel
theorem d_X_pack_153 : decode b_X_pack 153 = .ok (.getfield 172, 3) := by decide +kernel
theorem d_X_pack_156 : decode b_X_pack 156 = .ok (.if_icmp .ge 28, 3) := by decide +kernel
theorem d_X_pack_159 : decode b_X_pack 159 = .ok (.aload_n 0, 1) := by decide +kernel
theorem d_X_pack_160 : decode b_X_pack 160 = .ok (.getfield 90, 3) := by decide +kernel
theorem d_X_pack_163 : decode b_X_pack 163 = .ok (.iload_n 1, 1) := by decide +kernel
theorem d_X_pack_164 : decode b_X_pack 164 = .ok (.aload_n 0, 1) := by decide +kernel
theorem d_X_pack_165 : decode b_X_pack 165 = .ok (.getfield 104, 3) := by decide +kernel
theorem d_X_pack_168 : decode b_X_pack 168 = .ok (.getfield 203, 3) := by decide +kernel
theorem d_X_pack_171 : decode b_X_pack 171 = .ok (.iload_n 1, 1) := by decide +kernel
theorem d_X_pack_172 : decode b_X_pack 172 = .ok (.baload, 1) := by decide +kernel
theorem d_X_pack_173 : decode b_X_pack 173 = .ok (.sipush 255, 3) := by decide +kernel
theorem d_X_pack_176 : decode b_X_pack 176 = .ok (.iand, 1) := by decide +kernel
theorem d_X_pack_177 : decode b_X_pack 177 = .ok (.iastore, 1) := by decide +kernel
theorem d_X_pack_178 : decode b_X_pack 178 = .ok (.iinc 1 1, 3) := by decide +kernel
theorem d_X_pack_181 : decode b_X_pack 181 = .ok (.goto (-30), 3) := by decide +kernel
theorem d_X_pack_184 : decode b_X_pack 184 = .ok (.aload_n 0, 1) := by decide +kernel
theorem d_X_pack_185 : decode b_X_pack 185 = .ok (.iconst 1, 1) := by decide +kernel
theorem d_X_pack_186 : decode b_X_pack 186 = .ok (.putfield 206, 3) := by decide +kernel
theorem d_X_pack_189 : decode b_X_pack 189 = .ok (.aload_n 0, 1) := by decide +kernel
theorem d_X_pack_190 : decode b_X_pack 190 = .ok (.aload_n 0, 1) := by decide +kernel
theorem d_X_pack_191 : decode b_X_pack 191 = .ok (.getfield 104, 3) := by decide +kernel
theorem d_X_pack_194 : decode b_X_pack 194 = .ok (.getfield 210, 3) := by decide +kernel
theorem d_X_pack_197 : decode b_X_pack 197 = .ok (.putfield 213, 3) := by decide +kernel
theorem d_X_pack_200 : decode b_X_pack 200 = .ok (.aload_n 0, 1) := by decide +kernel
theorem d_X_pack_201 : decode b_X_pack 201 = .ok (.aload_n 0, 1) := by decide +kernel
theorem d_X_pack_202 : decode b_X_pack 202 = .ok (.getfield 60, 3) := by decide +kernel
theorem d_X_pack_205 : decode b_X_pack 205 = .ok (.putfield 216, 3) := by decide +kernel
theorem d_X_pack_208 : decode b_X_pack 208 = .ok (.aload_n 0, 1) := by decide +kernel
theorem d_X_pack_209 : decode b_X_pack 209 = .ok (.aload_n 0, 1) := by decide +kernel
theorem d_X_pack_210 : decode b_X_pack 210 = .ok (.getfield 160, 3) := by decide +kernel
theorem d_X_pack_213 : decode b_X_pack 213 = .ok (.iconst 1, 1) := by decide +kernel
theorem d_X_pack_214 : decode b_X_pack 214 = .ok (.iadd, 1) := by decide +kernel
theorem d_X_pack_215 : decode b_X_pack 215 = .ok (.putfield 219, 3) := by decide +kernel
theorem d_X_pack_218 : decode b_X_pack 218 = .ok (.aload_n 0, 1) := by decide +kernel
theorem d_X_pack_219 : decode b_X_pack 219 = .ok (.getfield 172, 3) := by decide +kernel
theorem d_X_pack_222 : decode b_X_pack 222 = .ok (.ireturn, 1) := by decide +kernel
theorem d_Wr_begin_0 : decode b_Wr_begin 0 = .ok (.aload_n 0, 1) := by decide +kernel
theorem d_Wr_begin_1 : decode b_Wr_begin 1 = .ok (.invokespecial 15, 3) := by decide +kernel
theorem d_Wr_begin_4 : decode b_Wr_begin 4 = .ok (.aload_n 0, 1) := by decide +kernel
theorem d_Wr_begin_5 : decode b_Wr_begin 5 = .ok (.iconst 0, 1) := by decide +kernel
theorem d_Wr_begin_6 : decode b_Wr_begin 6 = .ok (.putfield 18, 3) := by decide +kernel
theorem d_Wr_begin_9 : decode b_Wr_begin 9 = .ok (.aload_n 0, 1) := by decide +kernel
theorem d_Wr_begin_10 : decode b_Wr_begin 10 = .ok (.iconst 0, 1) := by decide +kernel
theorem d_Wr_begin_11 : decode b_Wr_begin 11 = .ok (.putfield 22, 3) := by decide +kernel
theorem d_Wr_begin_14 : decode b_Wr_begin 14 = .ok (.return_, 1) := by decide +kernel
theorem d_Ra_begin_0 : decode b_Ra_begin 0 = .ok (.aload_n 0, 1) := by decide +kernel
theorem d_Ra_begin_1 : decode b_Ra_begin 1 = .ok (.iconst 0, 1) := by decide +kernel
theorem d_Ra_begin_2 : decode b_Ra_begin 2 = .ok (.putfield 9, 3) := by decide +kernel
theorem d_Ra_begin_5 : decode b_Ra_begin 5 = .ok (.aload_n 0, 1) := by decide +kernel
theorem d_Ra_begin_6 : decode b_Ra_begin 6 = .ok (.ldc 15, 2) := by decide +kernel
theorem d_Ra_begin_8 : decode b_Ra_begin 8 = .ok (.putfield 16, 3) := by decide +kernel
theorem d_Ra_begin_11 : decode b_Ra_begin 11 = .ok (.return_, 1) := by decide +kernel
theorem d_X_tell_0 : decode b_X_tell 0 = .ok (.aload_n 0, 1) := by decide +kernel
theorem d_X_tell_1 : decode b_X_tell 1 = .ok (.getfield 10, 3) := by decide +kernel
theorem d_X_tell_4 : decode b_X_tell 4 = .ok (.iconst 0, 1) := by decide +kernel
theorem d_X_tell_5 : decode b_X_tell 5 = .ok (.invokestatic 16, 3) := by decide +kernel
theorem d_X_tell_8 : decode b_X_tell 8 = .ok (.aload_n 0, 1) := by decide +kernel
theorem d_X_tell_9 : decode b_X_tell 9 = .ok (.iconst 0, 1) := by decide +kernel
theorem d_X_tell_10 : decode b_X_tell 10 = .ok (.putfield 22, 3) := by decide +kernel
theorem d_X_tell_13 : decode b_X_tell 13 = .ok (.aload_n 1, 1) := by decide +kernel
theorem d_X_tell_14 : decode b_X_tell 14 = .ok (.getfield 26, 3) := by decide +kernel
theorem d_X_tell_17 : decode b_X_tell 17 = .ok (.istore 4, 2) := by decide +kernel
theorem d_X_tell_19 : decode b_X_tell 19 = .ok (.iload 4, 2) := by decide +kernel
theorem d_X_tell_21 : decode b_X_tell 21 = .ok (.ifCond .lt 305, 3) := by decide +kernel
theorem d_X_tell_24 : decode b_X_tell 24 = .ok (.aload_n 1, 1) := by decide +kernel
theorem d_X_tell_25 : decode b_X_tell 25 = .ok (.iload 4, 2) := by decide +kernel
theorem d_X_tell_27 : decode b_X_tell 27 = .ok (.invokevirtual 31, 3) := by decide +kernel
theorem d_X_tell_30 : decode b_X_tell 30 = .ok (.istore 5, 2) := by decide +kernel
theorem d_X_tell_32 : decode b_X_tell 32 = .ok (.iconst 0, 1) := by decide +kernel
theorem d_X_tell_33 : decode b_X_tell 33 = .ok (.istore 6, 2) := by decide +kernel
theorem d_X_tell_35 : decode b_X_tell 35 = .ok (.iconst 0, 1) := by decide +kernel
theorem d_X_tell_36 : decode b_X_tell 36 = .ok (.istore 7, 2) := by decide +kernel
theorem d_X_tell_38 : decode b_X_tell 38 = .ok (.aload_n 1, 1) := by decide +kernel
theorem d_X_tell_39 : decode b_X_tell 39 = .ok (.getfield 35, 3) := by decide +kernel
theorem d_X_tell_42 : decode b_X_tell 42 = .ok (.iload 5, 2) := by decide +kernel
theorem d_X_tell_44 : decode b_X_tell 44 = .ok (.iaload, 1) := by decide +kernel
theorem d_X_tell_45 : decode b_X_tell 45 = .ok (.istore 8, 2) := by decide +kernel
theorem d_X_tell_47 : decode b_X_tell 47 = .ok (.iload 8, 2) := by decide +kernel
theorem d_X_tell_49 : decode b_X_tell 49 = .ok (.ifCond .le 48, 3) := by decide +kernel
theorem d_X_tell_52 : decode b_X_tell 52 = .ok (.aload_n 0, 1) := by decide +kernel
theorem d_X_tell_53 : decode b_X_tell 53 = .ok (.getfield 10, 3) := by decide +kernel
theorem d_X_tell_56 : decode b_X_tell 56 = .ok (.aload_n 1, 1) := by decide +kernel
theorem d_X_tell_57 : decode b_X_tell 57 = .ok (.getfield 39, 3) := by decide +kernel
theorem d_X_tell_60 : decode b_X_tell 60 = .ok (.iload 8, 2) := by decide +kernel
theorem d_X_tell_62 : decode b_X_tell 62 = .ok (.iaload, 1) := by decide +kernel
theorem d_X_tell_63 : decode b_X_tell 63 = .ok (.baload, 1) := by decide +kernel
theorem d_X_tell_64 : decode b_X_tell 64 = .ok (.ifCond .eq 6, 3) := by decide +kernel
theorem d_X_tell_67 : decode b_X_tell 67 = .ok (.goto 18, 3) := by decide +kernel
theorem d_X_tell_70 : decode b_X_tell 70 = .ok (.iload 6, 2) := by decide +kernel
theorem d_X_tell_72 : decode b_X_tell 72 = .ok (.aload_n 1, 1) := by decide +kernel
theorem d_X_tell_73 : decode b_X_tell 73 = .ok (.getfield 42, 3) := by decide +kernel
theorem d_X_tell_76 : decode b_X_tell 76 = .ok (.iload 8, 2) := by decide +kernel
theorem d_X_tell_78 : decode b_X_tell 78 = .ok (.iaload, 1) := by decide +kernel
theorem d_X_tell_79 : decode b_X_tell 79 = .ok (.iadd, 1) := by decide +kernel
theorem d_X_tell_80 : decode b_X_tell 80 = .ok (.istore 6, 2) := by decide +kernel
theorem d_X_tell_82 : decode b_X_tell 82 = .ok (.iinc 7 1, 3) := by decide +kernel
theorem d_X_tell_85 : decode b_X_tell 85 = .ok (.aload_n 1, 1) := by decide +kernel
theorem d_X_tell_86 : decode b_X_tell 86 = .ok (.getfield 45, 3) := by decide +kernel
theorem d_X_tell_89 : decode b_X_tell 89 = .ok (.iload 8, 2) := by decide +kernel
theorem d_X_tell_91 : decode b_X_tell 91 = .ok (.iaload, 1) := by decide +kernel
theorem d_X_tell_92 : decode b_X_tell 92 = .ok (.istore 8, 2) := by decide +kernel
theorem d_X_tell_94 : decode b_X_tell 94 = .ok (.goto (-47), 3) := by decide +kernel
theorem d_X_tell_97 : decode b_X_tell 97 = .ok (.iload 7, 2) := by decide +kernel
theorem d_X_tell_99 : decode b_X_tell 99 = .ok (.ifCond .ne 6, 3) := by decide +kernel
theorem d_X_tell_102 : decode b_X_tell 102 = .ok (.goto 218, 3) := by decide +kernel
theorem d_X_tell_105 : decode b_X_tell 105 = .ok (.aload_n 3, 1) := by decide +kernel
theorem d_X_tell_106 : decode b_X_tell 106 = .ok (.iload 6, 2) := by decide +kernel
theorem d_X_tell_108 : decode b_X_tell 108 = .ok (.iload 7, 2) := by decide +kernel
theorem d_X_tell_110 : decode b_X_tell 110 = .ok (.iadd, 1) := by decide +kernel
theorem d_X_tell_111 : decode b_X_tell 111 = .ok (.invokeinterface 48 2, 5) := by decide +kernel
theorem d_X_tell_116 : decode b_X_tell 116 = .ok (.istore 8, 2) := by decide +kernel
theorem d_X_tell_118 : decode b_X_tell 118 = .ok (.iconst 0, 1) := by decide +kernel
theorem d_X_tell_119 : decode b_X_tell 119 = .ok (.istore 9, 2) := by decide +kernel
theorem d_X_tell_121 : decode b_X_tell 121 = .ok (.aload_n 1, 1) := by decide +kernel
theorem d_X_tell_122 : decode b_X_tell 122 = .ok (.getfield 35, 3) := by decide +kernel
theorem d_X_tell_125 : decode b_X_tell 125 = .ok (.iload 5, 2) := by decide +kernel
theorem d_X_tell_127 : decode b_X_tell 127 = .ok (.iaload, 1) := by decide +kernel
theorem d_X_tell_128 : decode b_X_tell 128 = .ok (.istore 10, 2) := by decide +kernel
theorem d_X_tell_130 : decode b_X_tell 130 = .ok (.iload 10, 2) := by decide +kernel
theorem d_X_tell_132 : decode b_X_tell 132 = .ok (.ifCond .le 113, 3) := by decide +kernel
theorem d_X_tell_135 : decode b_X_tell 135 = .ok (.aload_n 0, 1) := by decide +kernel
theorem d_X_tell_136 : decode b_X_tell 136 = .ok (.getfield 10, 3) := by decide +kernel
theorem d_X_tell_139 : decode b_X_tell 139 = .ok (.aload_n 1, 1) := by decide +kernel
theorem d_X_tell_140 : decode b_X_tell 140 = .ok (.getfield 39, 3) := by decide +kernel
theorem d_X_tell_143 : decode b_X_tell 143 = .ok (.iload 10, 2) := by decide +kernel
theorem d_X_tell_145 : decode b_X_tell 145 = .ok (.iaload, 1) := by decide +kernel
theorem d_X_tell_146 : decode b_X_tell 146 = .ok (.baload, 1) := by decide +kernel
theorem d_X_tell_147 : decode b_X_tell 147 = .ok (.ifCond .eq 6, 3) := by decide +kernel
theorem d_X_tell_150 : decode b_X_tell 150 = .ok (.goto 83, 3) := by decide +kernel
theorem d_X_tell_153 : decode b_X_tell 153 = .ok (.iload 8, 2) := by decide +kernel
theorem d_X_tell_155 : decode b_X_tell 155 = .ok (.ifCond .ge 17, 3) := by decide +kernel
theorem d_X_tell_158 : decode b_X_tell 158 = .ok (.aload_n 1, 1) := by decide +kernel
theorem d_X_tell_159 : decode b_X_tell 159 = .ok (.getfield 39, 3) := by decide +kernel
theorem d_X_tell_162 : decode b_X_tell 162 = .ok (.iload 10, 2) := by decide +kernel
theorem d_X_tell_164 : decode b_X_tell 164 = .ok (.iaload, 1) := by decide +kernel
theorem d_X_tell_165 : decode b_X_tell 165 = .ok (.iload_n 2, 1) := by decide +kernel
theorem d_X_tell_166 : decode b_X_tell 166 = .ok (.if_icmp .ne 55, 3) := by decide +kernel
theorem d_X_tell_169 : decode b_X_tell 169 = .ok (.goto 18, 3) := by decide +kernel
theorem d_X_tell_172 : decode b_X_tell 172 = .ok (.iload 8, 2) := by decide +kernel
theorem d_X_tell_174 : decode b_X_tell 174 = .ok (.iload 9, 2) := by decide +kernel
theorem d_X_tell_176 : decode b_X_tell 176 = .ok (.aload_n 1, 1) := by decide +kernel
theorem d_X_tell_177 : decode b_X_tell 177 = .ok (.getfield 42, 3) := by decide +kernel
theorem d_X_tell_180 : decode b_X_tell 180 = .ok (.iload 10, 2) := by decide +kernel
theorem d_X_tell_182 : decode b_X_tell 182 = .ok (.iaload, 1) := by decide +kernel
theorem d_X_tell_183 : decode b_X_tell 183 = .ok (.iadd, 1) := by decide +kernel
theorem d_X_tell_184 : decode b_X_tell 184 = .ok (.if_icmp .ge 37, 3) := by decide +kernel
theorem d_X_tell_187 : decode b_X_tell 187 = .ok (.aload_n 3, 1) := by decide +kernel
theorem d_X_tell_188 : decode b_X_tell 188 = .ok (.iload 9, 2) := by decide +kernel
theorem d_X_tell_190 : decode b_X_tell 190 = .ok (.aload_n 1, 1) := by decide +kernel
theorem d_X_tell_191 : decode b_X_tell 191 = .ok (.getfield 42, 3) := by decide +kernel
theorem d_X_tell_194 : decode b_X_tell 194 = .ok (.iload 10, 2) := by decide +kernel
theorem d_X_tell_196 : decode b_X_tell 196 = .ok (.iaload, 1) := by decide +kernel
theorem d_X_tell_197 : decode b_X_tell 197 = .ok (.iload 6, 2) := by decide +kernel
theorem d_X_tell_199 : decode b_X_tell 199 = .ok (.iload 7, 2) := by decide +kernel
theorem d_X_tell_201 : decode b_X_tell 201 = .ok (.iadd, 1) := by decide +kernel
theorem d_X_tell_202 : decode b_X_tell 202 = .ok (.invokeinterface 53 4, 5) := by decide +kernel
theorem d_X_tell_207 : decode b_X_tell 207 = .ok (.aload_n 0, 1) := by decide +kernel
theorem d_X_tell_208 : decode b_X_tell 208 = .ok (.iload 4, 2) := by decide +kernel
theorem d_X_tell_210 : decode b_X_tell 210 = .ok (.putfield 57, 3) := by decide +kernel
theorem d_X_tell_213 : decode b_X_tell 213 = .ok (.aload_n 1, 1) := by decide +kernel
theorem d_X_tell_214 : decode b_X_tell 214 = .ok (.getfield 39, 3) := by decide +kernel
theorem d_X_tell_217 : decode b_X_tell 217 = .ok (.iload 10, 2) := by decide +kernel
theorem d_X_tell_219 : decode b_X_tell 219 = .ok (.iaload, 1) := by decide +kernel
theorem d_X_tell_220 : decode b_X_tell 220 = .ok (.ireturn, 1) := by decide +kernel
theorem d_X_tell_221 : decode b_X_tell 221 = .ok (.iload 9, 2) := by decide +kernel
theorem d_X_tell_223 : decode b_X_tell 223 = .ok (.aload_n 1, 1) := by decide +kernel
theorem d_X_tell_224 : decode b_X_tell 224 = .ok (.getfield 42, 3) := by decide +kernel
theorem d_X_tell_227 : decode b_X_tell 227 = .ok (.iload 10, 2) := by decide +kernel
theorem d_X_tell_229 : decode b_X_tell 229 = .ok (.iaload, 1) := by decide +kernel
theorem d_X_tell_230 : decode b_X_tell 230 = .ok (.iadd, 1) := by decide +kernel
theorem d_X_tell_231 : decode b_X_tell 231 = .ok (.istore 9, 2) := by decide +kernel
theorem d_X_tell_233 : decode b_X_tell 233 = .ok (.aload_n 1, 1) := by decide +kernel
theorem d_X_tell_234 : decode b_X_tell 234 = .ok (.getfield 45, 3) := by decide +kernel
theorem d_X_tell_237 : decode b_X_tell 237 = .ok (.iload 10, 2) := by decide +kernel
theorem d_X_tell_239 : decode b_X_tell 239 = .ok (.iaload, 1) := by decide +kernel
theorem d_X_tell_240 : decode b_X_tell 240 = .ok (.istore 10, 2) := by decide +kernel
theorem d_X_tell_242 : decode b_X_tell 242 = .ok (.goto (-112), 3) := by decide +kernel
theorem d_X_tell_245 : decode b_X_tell 245 = .ok (.aload_n 3, 1) := by decide +kernel
theorem d_X_tell_246 : decode b_X_tell 246 = .ok (.iload 6, 2) := by decide +kernel
theorem d_X_tell_248 : decode b_X_tell 248 = .ok (.iload 7, 2) := by decide +kernel
theorem d_X_tell_250 : decode b_X_tell 250 = .ok (.iload 6, 2) := by decide +kernel
theorem d_X_tell_252 : decode b_X_tell 252 = .ok (.iload 7, 2) := by decide +kernel
theorem d_X_tell_254 : decode b_X_tell 254 = .ok (.iadd, 1) := by decide +kernel
theorem d_X_tell_255 : decode b_X_tell 255 = .ok (.invokeinterface 53 4, 5) := by decide +kernel
theorem d_X_tell_260 : decode b_X_tell 260 = .ok (.aload_n 0, 1) := by decide +kernel
theorem d_X_tell_261 : decode b_X_tell 261 = .ok (.dup, 1) := by decide +kernel
theorem d_X_tell_262 : decode b_X_tell 262 = .ok (.getfield 60, 3) := by decide +kernel
theorem d_X_tell_265 : decode b_X_tell 265 = .ok (.iconst 1, 1) := by decide +kernel
theorem d_X_tell_266 : decode b_X_tell 266 = .ok (.iadd, 1) := by decide +kernel
theorem d_X_tell_267 : decode b_X_tell 267 = .ok (.putfield 60, 3) := by decide +kernel
theorem d_X_tell_270 : decode b_X_tell 270 = .ok (.aload_n 0, 1) := by decide +kernel
theorem d_X_tell_271 : decode b_X_tell 271 = .ok (.dup, 1) := by decide +kernel
theorem d_X_tell_272 : decode b_X_tell 272 = .ok (.getfield 22, 3) := by decide +kernel
theorem d_X_tell_275 : decode b_X_tell 275 = .ok (.iload 7, 2) := by decide +kernel
theorem d_X_tell_277 : decode b_X_tell 277 = .ok (.iadd, 1) := by decide +kernel
theorem d_X_tell_278 : decode b_X_tell 278 = .ok (.putfield 22, 3) := by decide +kernel
theorem d_X_tell_281 : decode b_X_tell 281 = .ok (.aload_n 1, 1) := by decide +kernel
theorem d_X_tell_282 : decode b_X_tell 282 = .ok (.getfield 35, 3) := by decide +kernel
theorem d_X_tell_285 : decode b_X_tell 285 = .ok (.iload 5, 2) := by decide +kernel
theorem d_X_tell_287 : decode b_X_tell 287 = .ok (.iaload, 1) := by decide +kernel
theorem d_X_tell_288 : decode b_X_tell 288 = .ok (.istore 10, 2) := by decide +kernel
theorem d_X_tell_290 : decode b_X_tell 290 = .ok (.iload 10, 2) := by decide +kernel
theorem d_X_tell_292 : decode b_X_tell 292 = .ok (.ifCond .le 28, 3) := by decide +kernel
theorem d_X_tell_295 : decode b_X_tell 295 = .ok (.aload_n 0, 1) := by decide +kernel
theorem d_X_tell_296 : decode b_X_tell 296 = .ok (.getfield 10, 3) := by decide +kernel
theorem d_X_tell_299 : decode b_X_tell 299 = .ok (.aload_n 1, 1) := by decide +kernel
theorem d_X_tell_300 : decode b_X_tell 300 = .ok (.getfield 39, 3) := by decide +kernel
theorem d_X_tell_303 : decode b_X_tell 303 = .ok (.iload 10, 2) := by decide +kernel
theorem d_X_tell_305 : decode b_X_tell 305 = .ok (.iaload, 1) := by decide +kernel
theorem d_X_tell_306 : decode b_X_tell 306 = .ok (.iconst 1, 1) := by decide +kernel
theorem d_X_tell_307 : decode b_X_tell 307 = .ok (.bastore, 1) := by decide +kernel
theorem d_X_tell_308 : decode b_X_tell 308 = .ok (.aload_n 1, 1) := by decide +kernel
theorem d_X_tell_309 : decode b_X_tell 309 = .ok (.getfield 45, 3) := by decide +kernel
theorem d_X_tell_312 : decode b_X_tell 312 = .ok (.iload 10, 2) := by decide +kernel
theorem d_X_tell_314 : decode b_X_tell 314 = .ok (.iaload, 1) := by decide +kernel
theorem d_X_tell_315 : decode b_X_tell 315 = .ok (.istore 10, 2) := by decide +kernel
theorem d_X_tell_317 : decode b_X_tell 317 = .ok (.goto (-27), 3) := by decide +kernel
theorem d_X_tell_320 : decode b_X_tell 320 = .ok (.iinc 4 (-1), 3) := by decide +kernel
theorem d_X_tell_323 : decode b_X_tell 323 = .ok (.goto (-304), 3) := by decide +kernel
theorem d_X_tell_326 : decode b_X_tell 326 = .ok (.aload_n 0, 1) := by decide +kernel
theorem d_X_tell_327 : decode b_X_tell 327 = .ok (.iload_n 2, 1) := by decide +kernel
theorem d_X_tell_328 : decode b_X_tell 328 = .ok (.aload_n 3, 1) := by decide +kernel
theorem d_X_tell_329 : decode b_X_tell 329 = .ok (.invokevirtual 63, 3) := by decide +kernel
theorem d_X_tell_332 : decode b_X_tell 332 = .ok (.ireturn, 1) := by decide +kernel
theorem d_Ar_fill_0 : decode b_Ar_fill 0 = .ok (.iconst 0, 1) := by decide +kernel
theorem d_Ar_fill_1 : decode b_Ar_fill 1 = .ok (.istore_n 2, 1) := by decide +kernel
theorem d_Ar_fill_2 : decode b_Ar_fill 2 = .ok (.aload_n 0, 1) := by decide +kernel
theorem d_Ar_fill_3 : decode b_Ar_fill 3 = .ok (.arraylength, 1) := by decide +kernel
theorem d_Ar_fill_4 : decode b_Ar_fill 4 = .ok (.istore_n 3, 1) := by decide +kernel
theorem d_Ar_fill_5 : decode b_Ar_fill 5 = .ok (.iload_n 2, 1) := by decide +kernel
theorem d_Ar_fill_6 : decode b_Ar_fill 6 = .ok (.iload_n 3, 1) := by decide +kernel
theorem d_Ar_fill_7 : decode b_Ar_fill 7 = .ok (.if_icmp .ge 13, 3) := by decide +kernel
theorem d_Ar_fill_10 : decode b_Ar_fill 10 = .ok (.aload_n 0, 1) := by decide +kernel
theorem d_Ar_fill_11 : decode b_Ar_fill 11 = .ok (.iload_n 2, 1) := by decide +kernel
theorem d_Ar_fill_12 : decode b_Ar_fill 12 = .ok (.iload_n 1, 1) := by decide +kernel
theorem d_Ar_fill_13 : decode b_Ar_fill 13 = .ok (.bastore, 1) := by decide +kernel
theorem d_Ar_fill_14 : decode b_Ar_fill 14 = .ok (.iinc 2 1, 3) := by decide +kernel
theorem d_Ar_fill_17 : decode b_Ar_fill 17 = .ok (.goto (-12), 3) := by decide +kernel
theorem d_Ar_fill_20 : decode b_Ar_fill 20 = .ok (.return_, 1) := by decide +kernel
theorem d_Mo_context_0 : decode b_Mo_context 0 = .ok (.iconst 0, 1) := by decide +kernel
theorem d_Mo_context_1 : decode b_Mo_context 1 = .ok (.istore_n 2, 1) := by decide +kernel
theorem d_Mo_context_2 : decode b_Mo_context 2 = .ok (.aload_n 0, 1) := by decide +kernel
theorem d_Mo_context_3 : decode b_Mo_context 3 = .ok (.getfield 43, 3) := by decide +kernel
theorem d_Mo_context_6 : decode b_Mo_context 6 = .ok (.iload_n 1, 1) := by decide +kernel
theorem d_Mo_context_7 : decode b_Mo_context 7 = .ok (.isub, 1) := by decide +kernel
theorem d_Mo_context_8 : decode b_Mo_context 8 = .ok (.istore_n 3, 1) := by decide +kernel
theorem d_Mo_context_9 : decode b_Mo_context 9 = .ok (.iload_n 3, 1) := by decide +kernel
theorem d_Mo_context_10 : decode b_Mo_context 10 = .ok (.aload_n 0, 1) := by decide +kernel
theorem d_Mo_context_11 : decode b_Mo_context 11 = .ok (.getfield 43, 3) := by decide +kernel
theorem d_Mo_context_14 : decode b_Mo_context 14 = .ok (.if_icmp .ge 21, 3) := by decide +kernel
theorem d_Mo_context_17 : decode b_Mo_context 17 = .ok (.aload_n 0, 1) := by decide +kernel
theorem d_Mo_context_18 : decode b_Mo_context 18 = .ok (.iload_n 2, 1) := by decide +kernel
theorem d_Mo_context_19 : decode b_Mo_context 19 = .ok (.aload_n 0, 1) := by decide +kernel
theorem d_Mo_context_20 : decode b_Mo_context 20 = .ok (.getfield 9, 3) := by decide +kernel
theorem d_Mo_context_23 : decode b_Mo_context 23 = .ok (.iload_n 3, 1) := by decide +kernel
theorem d_Mo_context_24 : decode b_Mo_context 24 = .ok (.iaload, 1) := by decide +kernel
theorem d_Mo_context_25 : decode b_Mo_context 25 = .ok (.invokevirtual 56, 3) := by decide +kernel
theorem d_Mo_context_28 : decode b_Mo_context 28 = .ok (.istore_n 2, 1) := by decide +kernel
theorem d_Mo_context_29 : decode b_Mo_context 29 = .ok (.iinc 3 1, 3) := by decide +kernel
theorem d_Mo_context_32 : decode b_Mo_context 32 = .ok (.goto (-23), 3) := by decide +kernel
theorem d_Mo_context_35 : decode b_Mo_context 35 = .ok (.iload_n 2, 1) := by decide +kernel
theorem d_Mo_context_36 : decode b_Mo_context 36 = .ok (.ireturn, 1) := by decide +kernel
theorem d_Mo_childOf_0 : decode b_Mo_childOf 0 = .ok (.aload_n 0, 1) := by decide +kernel
theorem d_Mo_childOf_1 : decode b_Mo_childOf 1 = .ok (.getfield 31, 3) := by decide +kernel
theorem d_Mo_childOf_4 : decode b_Mo_childOf 4 = .ok (.iload_n 1, 1) := by decide +kernel
theorem d_Mo_childOf_5 : decode b_Mo_childOf 5 = .ok (.iaload, 1) := by decide +kernel
theorem d_Mo_childOf_6 : decode b_Mo_childOf 6 = .ok (.istore_n 3, 1) := by decide +kernel
theorem d_Mo_childOf_7 : decode b_Mo_childOf 7 = .ok (.iload_n 3, 1) := by decide +kernel
theorem d_Mo_childOf_8 : decode b_Mo_childOf 8 = .ok (.ifCond .le 23, 3) := by decide +kernel
theorem d_Mo_childOf_11 : decode b_Mo_childOf 11 = .ok (.aload_n 0, 1) := by decide +kernel
theorem d_Mo_childOf_12 : decode b_Mo_childOf 12 = .ok (.getfield 25, 3) := by decide +kernel
theorem d_Mo_childOf_15 : decode b_Mo_childOf 15 = .ok (.iload_n 3, 1) := by decide +kernel
theorem d_Mo_childOf_16 : decode b_Mo_childOf 16 = .ok (.iaload, 1) := by decide +kernel
theorem d_Mo_childOf_17 : decode b_Mo_childOf 17 = .ok (.iload_n 2, 1) := by decide +kernel
theorem d_Mo_childOf_18 : decode b_Mo_childOf 18 = .ok (.if_icmp .ge 13, 3) := by decide +kernel
theorem d_Mo_childOf_21 : decode b_Mo_childOf 21 = .ok (.aload_n 0, 1) := by decide +kernel
theorem d_Mo_childOf_22 : decode b_Mo_childOf 22 = .ok (.getfield 34, 3) := by decide +kernel
theorem d_Mo_childOf_25 : decode b_Mo_childOf 25 = .ok (.iload_n 3, 1) := by decide +kernel
theorem d_Mo_childOf_26 : decode b_Mo_childOf 26 = .ok (.iaload, 1) := by decide +kernel
theorem d_Mo_childOf_27 : decode b_Mo_childOf 27 = .ok (.istore_n 3, 1) := by decide +kernel
theorem d_Mo_childOf_28 : decode b_Mo_childOf 28 = .ok (.goto (-21), 3) := by decide +kernel
theorem d_Mo_childOf_31 : decode b_Mo_childOf 31 = .ok (.iload_n 3, 1) := by decide +kernel
theorem d_Mo_childOf_32 : decode b_Mo_childOf 32 = .ok (.ifCond .le 17, 3) := by decide +kernel
theorem d_Mo_childOf_35 : decode b_Mo_childOf 35 = .ok (.aload_n 0, 1) := by decide +kernel
theorem d_Mo_childOf_36 : decode b_Mo_childOf 36 = .ok (.getfield 25, 3) := by decide +kernel
theorem d_Mo_childOf_39 : decode b_Mo_childOf 39 = .ok (.iload_n 3, 1) := by decide +kernel
theorem d_Mo_childOf_40 : decode b_Mo_childOf 40 = .ok (.iaload, 1) := by decide +kernel
theorem d_Mo_childOf_41 : decode b_Mo_childOf 41 = .ok (.iload_n 2, 1) := by decide +kernel
theorem d_Mo_childOf_42 : decode b_Mo_childOf 42 = .ok (.if_icmp .ne 7, 3) := by decide +kernel
theorem d_Mo_childOf_45 : decode b_Mo_childOf 45 = .ok (.iload_n 3, 1) := by decide +kernel
theorem d_Mo_childOf_46 : decode b_Mo_childOf 46 = .ok (.goto 4, 3) := by decide +kernel
theorem d_Mo_childOf_49 : decode b_Mo_childOf 49 = .ok (.iconst 0, 1) := by decide +kernel
theorem d_Mo_childOf_50 : decode b_Mo_childOf 50 = .ok (.ireturn, 1) := by decide +kernel
theorem d_P1_pointed_0 : decode b_P1_pointed 0 = .ok (.iconst (-1), 1) := by decide +kernel
theorem d_P1_pointed_1 : decode b_P1_pointed 1 = .ok (.ireturn, 1) := by decide +kernel
theorem d_P2_pointed_0 : decode b_P2_pointed 0 = .ok (.aload_n 0, 1) := by decide +kernel
theorem d_P2_pointed_1 : decode b_P2_pointed 1 = .ok (.getfield 1, 3) := by decide +kernel
theorem d_P2_pointed_4 : decode b_P2_pointed 4 = .ok (.getfield 13, 3) := by decide +kernel
theorem d_P2_pointed_7 : decode b_P2_pointed 7 = .ok (.iload_n 1, 1) := by decide +kernel
theorem d_P2_pointed_8 : decode b_P2_pointed 8 = .ok (.invokevirtual 19, 3) := by decide +kernel
theorem d_P2_pointed_11 : decode b_P2_pointed 11 = .ok (.ireturn, 1) := by decide +kernel
theorem d_Re_pointed_0 : decode b_Re_pointed 0 = .ok (.aload_n 0, 1) := by decide +kernel
theorem d_Re_pointed_1 : decode b_Re_pointed 1 = .ok (.getfield 16, 3) := by decide +kernel
theorem d_Re_pointed_4 : decode b_Re_pointed 4 = .ok (.aload_n 0, 1) := by decide +kernel
theorem d_Re_pointed_5 : decode b_Re_pointed 5 = .ok (.getfield 36, 3) := by decide +kernel
theorem d_Re_pointed_8 : decode b_Re_pointed 8 = .ok (.isub, 1) := by decide +kernel
theorem d_Re_pointed_9 : decode b_Re_pointed 9 = .ok (.iconst 1, 1) := by decide +kernel
theorem d_Re_pointed_10 : decode b_Re_pointed 10 = .ok (.iadd, 1) := by decide +kernel
theorem d_Re_pointed_11 : decode b_Re_pointed 11 = .ok (.iload_n 1, 1) := by decide +kernel
theorem d_Re_pointed_12 : decode b_Re_pointed 12 = .ok (.imul, 1) := by decide +kernel
theorem d_Re_pointed_13 : decode b_Re_pointed 13 = .ok (.iconst 1, 1) := by decide +kernel
theorem d_Re_pointed_14 : decode b_Re_pointed 14 = .ok (.isub, 1) := by decide +kernel
theorem d_Re_pointed_15 : decode b_Re_pointed 15 = .ok (.aload_n 0, 1) := by decide +kernel
theorem d_Re_pointed_16 : decode b_Re_pointed 16 = .ok (.getfield 39, 3) := by decide +kernel
theorem d_Re_pointed_19 : decode b_Re_pointed 19 = .ok (.aload_n 0, 1) := by decide +kernel
theorem d_Re_pointed_20 : decode b_Re_pointed 20 = .ok (.getfield 36, 3) := by decide +kernel
theorem d_Re_pointed_23 : decode b_Re_pointed 23 = .ok (.isub, 1) := by decide +kernel
theorem d_Re_pointed_24 : decode b_Re_pointed 24 = .ok (.iconst 1, 1) := by decide +kernel
theorem d_Re_pointed_25 : decode b_Re_pointed 25 = .ok (.iadd, 1) := by decide +kernel
theorem d_Re_pointed_26 : decode b_Re_pointed 26 = .ok (.idiv, 1) := by decide +kernel
theorem d_Re_pointed_27 : decode b_Re_pointed 27 = .ok (.ireturn, 1) := by decide +kernel
theorem d_Su_pointed_0 : decode b_Su_pointed 0 = .ok (.iconst (-1), 1) := by decide +kernel
theorem d_Su_pointed_1 : decode b_Su_pointed 1 = .ok (.ireturn, 1) := by decide +kernel
theorem d_P1_take_0 : decode b_P1_take 0 = .ok (.aload_n 0, 1) := by decide +kernel
theorem d_P1_take_1 : decode b_P1_take 1 = .ok (.getfield 1, 3) := by decide +kernel
theorem d_P1_take_4 : decode b_P1_take 4 = .ok (.getfield 13, 3) := by decide +kernel
theorem d_P1_take_7 : decode b_P1_take 7 = .ok (.iload_n 1, 1) := by decide +kernel
theorem d_P1_take_8 : decode b_P1_take 8 = .ok (.iload_n 2, 1) := by decide +kernel
theorem d_P1_take_9 : decode b_P1_take 9 = .ok (.iload_n 3, 1) := by decide +kernel
theorem d_P1_take_10 : decode b_P1_take 10 = .ok (.invokevirtual 19, 3) := by decide +kernel
theorem d_P1_take_13 : decode b_P1_take 13 = .ok (.return_, 1) := by decide +kernel
theorem d_Ra_span_0 : decode b_Ra_span 0 = .ok (.aload_n 0, 1) := by decide +kernel
theorem d_Ra_span_1 : decode b_Ra_span 1 = .ok (.getfield 16, 3) := by decide +kernel
theorem d_Ra_span_4 : decode b_Ra_span 4 = .ok (.aload_n 0, 1) := by decide +kernel
theorem d_Ra_span_5 : decode b_Ra_span 5 = .ok (.getfield 9, 3) := by decide +kernel
theorem d_Ra_span_8 : decode b_Ra_span 8 = .ok (.isub, 1) := by decide +kernel
theorem d_Ra_span_9 : decode b_Ra_span 9 = .ok (.iconst 1, 1) := by decide +kernel
theorem d_Ra_span_10 : decode b_Ra_span 10 = .ok (.iadd, 1) := by decide +kernel
theorem d_Ra_span_11 : decode b_Ra_span 11 = .ok (.istore 4, 2) := by decide +kernel
theorem d_Ra_span_13 : decode b_Ra_span 13 = .ok (.aload_n 0, 1) := by decide +kernel
theorem d_Ra_span_14 : decode b_Ra_span 14 = .ok (.aload_n 0, 1) := by decide +kernel
theorem d_Ra_span_15 : decode b_Ra_span 15 = .ok (.getfield 9, 3) := by decide +kernel
theorem d_Ra_span_18 : decode b_Ra_span 18 = .ok (.iload 4, 2) := by decide +kernel
theorem d_Ra_span_20 : decode b_Ra_span 20 = .ok (.iload_n 1, 1) := by decide +kernel
theorem d_Ra_span_21 : decode b_Ra_span 21 = .ok (.iload_n 2, 1) := by decide +kernel
theorem d_Ra_span_22 : decode b_Ra_span 22 = .ok (.iadd, 1) := by decide +kernel
theorem d_Ra_span_23 : decode b_Ra_span 23 = .ok (.imul, 1) := by decide +kernel
theorem d_Ra_span_24 : decode b_Ra_span 24 = .ok (.iload_n 3, 1) := by decide +kernel
theorem d_Ra_span_25 : decode b_Ra_span 25 = .ok (.idiv, 1) := by decide +kernel
theorem d_Ra_span_26 : decode b_Ra_span 26 = .ok (.iadd, 1) := by decide +kernel
theorem d_Ra_span_27 : decode b_Ra_span 27 = .ok (.iconst 1, 1) := by decide +kernel
theorem d_Ra_span_28 : decode b_Ra_span 28 = .ok (.isub, 1) := by decide +kernel
theorem d_Ra_span_29 : decode b_Ra_span 29 = .ok (.putfield 16, 3) := by decide +kernel
theorem d_Ra_span_32 : decode b_Ra_span 32 = .ok (.aload_n 0, 1) := by decide +kernel
theorem d_Ra_span_33 : decode b_Ra_span 33 = .ok (.dup, 1) := by decide +kernel
theorem d_Ra_span_34 : decode b_Ra_span 34 = .ok (.getfield 9, 3) := by decide +kernel
theorem d_Ra_span_37 : decode b_Ra_span 37 = .ok (.iload 4, 2) := by decide +kernel
theorem d_Ra_span_39 : decode b_Ra_span 39 = .ok (.iload_n 1, 1) := by decide +kernel
theorem d_Ra_span_40 : decode b_Ra_span 40 = .ok (.imul, 1) := by decide +kernel
theorem d_Ra_span_41 : decode b_Ra_span 41 = .ok (.iload_n 3, 1) := by decide +kernel
theorem d_Ra_span_42 : decode b_Ra_span 42 = .ok (.idiv, 1) := by decide +kernel
theorem d_Ra_span_43 : decode b_Ra_span 43 = .ok (.iadd, 1) := by decide +kernel
theorem d_Ra_span_44 : decode b_Ra_span 44 = .ok (.putfield 9, 3) := by decide +kernel
theorem d_Ra_span_47 : decode b_Ra_span 47 = .ok (.aload_n 0, 1) := by decide +kernel
theorem d_Ra_span_48 : decode b_Ra_span 48 = .ok (.getfield 16, 3) := by decide +kernel
theorem d_Ra_span_51 : decode b_Ra_span 51 = .ok (.ldc 19, 2) := by decide +kernel
theorem d_Ra_span_53 : decode b_Ra_span 53 = .ok (.if_icmp .ge 11, 3) := by decide +kernel
theorem d_Ra_span_56 : decode b_Ra_span 56 = .ok (.aload_n 0, 1) := by decide +kernel
theorem d_Ra_span_57 : decode b_Ra_span 57 = .ok (.iconst 0, 1) := by decide +kernel
theorem d_Ra_span_58 : decode b_Ra_span 58 = .ok (.invokevirtual 20, 3) := by decide +kernel
theorem d_Ra_span_61 : decode b_Ra_span 61 = .ok (.goto (-14), 3) := by decide +kernel
theorem d_Ra_span_64 : decode b_Ra_span 64 = .ok (.aload_n 0, 1) := by decide +kernel
theorem d_Ra_span_65 : decode b_Ra_span 65 = .ok (.getfield 9, 3) := by decide +kernel
theorem d_Ra_span_68 : decode b_Ra_span 68 = .ok (.ldc 19, 2) := by decide +kernel
theorem d_Ra_span_70 : decode b_Ra_span 70 = .ok (.if_icmp .lt 12, 3) := by decide +kernel
theorem d_Ra_span_73 : decode b_Ra_span 73 = .ok (.aload_n 0, 1) := by decide +kernel
theorem d_Ra_span_74 : decode b_Ra_span 74 = .ok (.ldc 19, 2) := by decide +kernel
theorem d_Ra_span_76 : decode b_Ra_span 76 = .ok (.invokevirtual 20, 3) := by decide +kernel
theorem d_Ra_span_79 : decode b_Ra_span 79 = .ok (.goto (-32), 3) := by decide +kernel
theorem d_Ra_span_82 : decode b_Ra_span 82 = .ok (.aload_n 0, 1) := by decide +kernel
theorem d_Ra_span_83 : decode b_Ra_span 83 = .ok (.getfield 9, 3) := by decide +kernel
theorem d_Ra_span_86 : decode b_Ra_span 86 = .ok (.sipush 16384, 3) := by decide +kernel
theorem d_Ra_span_89 : decode b_Ra_span 89 = .ok (.if_icmp .lt 22, 3) := by decide +kernel
theorem d_Ra_span_92 : decode b_Ra_span 92 = .ok (.aload_n 0, 1) := by decide +kernel
theorem d_Ra_span_93 : decode b_Ra_span 93 = .ok (.getfield 16, 3) := by decide +kernel
theorem d_Ra_span_96 : decode b_Ra_span 96 = .ok (.ldc 24, 2) := by decide +kernel
theorem d_Ra_span_98 : decode b_Ra_span 98 = .ok (.if_icmp .ge 13, 3) := by decide +kernel
theorem d_Ra_span_101 : decode b_Ra_span 101 = .ok (.aload_n 0, 1) := by decide +kernel
theorem d_Ra_span_102 : decode b_Ra_span 102 = .ok (.sipush 16384, 3) := by decide +kernel
theorem d_Ra_span_105 : decode b_Ra_span 105 = .ok (.invokevirtual 20, 3) := by decide +kernel
theorem d_Ra_span_108 : decode b_Ra_span 108 = .ok (.goto (-61), 3) := by decide +kernel
theorem d_Ra_span_111 : decode b_Ra_span 111 = .ok (.return_, 1) := by decide +kernel
theorem d_Ra_widen_0 : decode b_Ra_widen 0 = .ok (.aload_n 0, 1) := by decide +kernel
theorem d_Ra_widen_1 : decode b_Ra_widen 1 = .ok (.iconst 2, 1) := by decide +kernel
theorem d_Ra_widen_2 : decode b_Ra_widen 2 = .ok (.aload_n 0, 1) := by decide +kernel
theorem d_Ra_widen_3 : decode b_Ra_widen 3 = .ok (.getfield 9, 3) := by decide +kernel
theorem d_Ra_widen_6 : decode b_Ra_widen 6 = .ok (.iload_n 1, 1) := by decide +kernel
theorem d_Ra_widen_7 : decode b_Ra_widen 7 = .ok (.isub, 1) := by decide +kernel
theorem d_Ra_widen_8 : decode b_Ra_widen 8 = .ok (.imul, 1) := by decide +kernel
theorem d_Ra_widen_9 : decode b_Ra_widen 9 = .ok (.putfield 9, 3) := by decide +kernel
theorem d_Ra_widen_12 : decode b_Ra_widen 12 = .ok (.aload_n 0, 1) := by decide +kernel
theorem d_Ra_widen_13 : decode b_Ra_widen 13 = .ok (.iconst 2, 1) := by decide +kernel
theorem d_Ra_widen_14 : decode b_Ra_widen 14 = .ok (.aload_n 0, 1) := by decide +kernel
theorem d_Ra_widen_15 : decode b_Ra_widen 15 = .ok (.getfield 16, 3) := by decide +kernel
theorem d_Ra_widen_18 : decode b_Ra_widen 18 = .ok (.iload_n 1, 1) := by decide +kernel
theorem d_Ra_widen_19 : decode b_Ra_widen 19 = .ok (.isub, 1) := by decide +kernel
theorem d_Ra_widen_20 : decode b_Ra_widen 20 = .ok (.imul, 1) := by decide +kernel
theorem d_Ra_widen_21 : decode b_Ra_widen 21 = .ok (.iconst 1, 1) := by decide +kernel
theorem d_Ra_widen_22 : decode b_Ra_widen 22 = .ok (.iadd, 1) := by decide +kernel
theorem d_Ra_widen_23 : decode b_Ra_widen 23 = .ok (.putfield 16, 3) := by decide +kernel
theorem d_Ra_widen_26 : decode b_Ra_widen 26 = .ok (.aload_n 0, 1) := by decide +kernel
theorem d_Ra_widen_27 : decode b_Ra_widen 27 = .ok (.iload_n 1, 1) := by decide +kernel
theorem d_Ra_widen_28 : decode b_Ra_widen 28 = .ok (.invokevirtual 25, 3) := by decide +kernel
theorem d_Ra_widen_31 : decode b_Ra_widen 31 = .ok (.return_, 1) := by decide +kernel
theorem d_Re_moved_0 : decode b_Re_moved 0 = .ok (.aload_n 0, 1) := by decide +kernel
theorem d_Re_moved_1 : decode b_Re_moved 1 = .ok (.iconst 2, 1) := by decide +kernel
theorem d_Re_moved_2 : decode b_Re_moved 2 = .ok (.aload_n 0, 1) := by decide +kernel
theorem d_Re_moved_3 : decode b_Re_moved 3 = .ok (.getfield 16, 3) := by decide +kernel
theorem d_Re_moved_6 : decode b_Re_moved 6 = .ok (.iload_n 1, 1) := by decide +kernel
theorem d_Re_moved_7 : decode b_Re_moved 7 = .ok (.isub, 1) := by decide +kernel
theorem d_Re_moved_8 : decode b_Re_moved 8 = .ok (.imul, 1) := by decide +kernel
theorem d_Re_moved_9 : decode b_Re_moved 9 = .ok (.aload_n 0, 1) := by decide +kernel
theorem d_Re_moved_10 : decode b_Re_moved 10 = .ok (.invokevirtual 23, 3) := by decide +kernel
theorem d_Re_moved_13 : decode b_Re_moved 13 = .ok (.iadd, 1) := by decide +kernel
theorem d_Re_moved_14 : decode b_Re_moved 14 = .ok (.putfield 16, 3) := by decide +kernel
theorem d_Re_moved_17 : decode b_Re_moved 17 = .ok (.return_, 1) := by decide +kernel
theorem d_Re_next_0 : decode b_Re_next 0 = .ok (.aload_n 0, 1) := by decide +kernel
theorem d_Re_next_1 : decode b_Re_next 1 = .ok (.dup, 1) := by decide +kernel
theorem d_Re_next_2 : decode b_Re_next 2 = .ok (.getfield 20, 3) := by decide +kernel
theorem d_Re_next_5 : decode b_Re_next 5 = .ok (.dup_x1, 1) := by decide +kernel
theorem d_Re_next_6 : decode b_Re_next 6 = .ok (.iconst 1, 1) := by decide +kernel
theorem d_Re_next_7 : decode b_Re_next 7 = .ok (.iadd, 1) := by decide +kernel
theorem d_Re_next_8 : decode b_Re_next 8 = .ok (.putfield 20, 3) := by decide +kernel
theorem d_Re_next_11 : decode b_Re_next 11 = .ok (.istore_n 1, 1) := by decide +kernel
theorem d_Re_next_12 : decode b_Re_next 12 = .ok (.iload_n 1, 1) := by decide +kernel
theorem d_Re_next_13 : decode b_Re_next 13 = .ok (.bipush 8, 2) := by decide +kernel
theorem d_Re_next_15 : decode b_Re_next 15 = .ok (.aload_n 0, 1) := by decide +kernel
theorem d_Re_next_16 : decode b_Re_next 16 = .ok (.getfield 1, 3) := by decide +kernel
theorem d_Re_next_19 : decode b_Re_next 19 = .ok (.getfield 27, 3) := by decide +kernel
theorem d_Re_next_22 : decode b_Re_next 22 = .ok (.imul, 1) := by decide +kernel
theorem d_Re_next_23 : decode b_Re_next 23 = .ok (.if_icmp .ge 28, 3) := by decide +kernel
theorem d_Re_next_26 : decode b_Re_next 26 = .ok (.aload_n 0, 1) := by decide +kernel
theorem d_Re_next_27 : decode b_Re_next 27 = .ok (.getfield 1, 3) := by decide +kernel
theorem d_Re_next_30 : decode b_Re_next 30 = .ok (.getfield 32, 3) := by decide +kernel
theorem d_Re_next_33 : decode b_Re_next 33 = .ok (.iload_n 1, 1) := by decide +kernel
theorem d_Re_next_34 : decode b_Re_next 34 = .ok (.bipush 8, 2) := by decide +kernel
theorem d_Re_next_36 : decode b_Re_next 36 = .ok (.idiv, 1) := by decide +kernel
theorem d_Re_next_37 : decode b_Re_next 37 = .ok (.iaload, 1) := by decide +kernel
theorem d_Re_next_38 : decode b_Re_next 38 = .ok (.bipush 7, 2) := by decide +kernel
theorem d_Re_next_40 : decode b_Re_next 40 = .ok (.iload_n 1, 1) := by decide +kernel
theorem d_Re_next_41 : decode b_Re_next 41 = .ok (.bipush 8, 2) := by decide +kernel
theorem d_Re_next_43 : decode b_Re_next 43 = .ok (.irem, 1) := by decide +kernel
theorem d_Re_next_44 : decode b_Re_next 44 = .ok (.isub, 1) := by decide +kernel
theorem d_Re_next_45 : decode b_Re_next 45 = .ok (.ishr, 1) := by decide +kernel
theorem d_Re_next_46 : decode b_Re_next 46 = .ok (.iconst 1, 1) := by decide +kernel
theorem d_Re_next_47 : decode b_Re_next 47 = .ok (.iand, 1) := by decide +kernel
theorem d_Re_next_48 : decode b_Re_next 48 = .ok (.goto 4, 3) := by decide +kernel
theorem d_Re_next_51 : decode b_Re_next 51 = .ok (.iconst 0, 1) := by decide +kernel
theorem d_Re_next_52 : decode b_Re_next 52 = .ok (.ireturn, 1) := by decide +kernel
theorem d_Wr_moved_0 : decode b_Wr_moved 0 = .ok (.iload_n 1, 1) := by decide +kernel
theorem d_Wr_moved_1 : decode b_Wr_moved 1 = .ok (.sipush 16384, 3) := by decide +kernel
theorem d_Wr_moved_4 : decode b_Wr_moved 4 = .ok (.if_icmp .ne 16, 3) := by decide +kernel
theorem d_Wr_moved_7 : decode b_Wr_moved 7 = .ok (.aload_n 0, 1) := by decide +kernel
theorem d_Wr_moved_8 : decode b_Wr_moved 8 = .ok (.dup, 1) := by decide +kernel
theorem d_Wr_moved_9 : decode b_Wr_moved 9 = .ok (.getfield 22, 3) := by decide +kernel
theorem d_Wr_moved_12 : decode b_Wr_moved 12 = .ok (.iconst 1, 1) := by decide +kernel
theorem d_Wr_moved_13 : decode b_Wr_moved 13 = .ok (.iadd, 1) := by decide +kernel
theorem d_Wr_moved_14 : decode b_Wr_moved 14 = .ok (.putfield 22, 3) := by decide +kernel
theorem d_Wr_moved_17 : decode b_Wr_moved 17 = .ok (.goto 18, 3) := by decide +kernel
theorem d_Wr_moved_20 : decode b_Wr_moved 20 = .ok (.aload_n 0, 1) := by decide +kernel
theorem d_Wr_moved_21 : decode b_Wr_moved 21 = .ok (.iload_n 1, 1) := by decide +kernel
theorem d_Wr_moved_22 : decode b_Wr_moved 22 = .ok (.ldc 25, 2) := by decide +kernel
theorem d_Wr_moved_24 : decode b_Wr_moved 24 = .ok (.if_icmp .ne 7, 3) := by decide +kernel
theorem d_Wr_moved_27 : decode b_Wr_moved 27 = .ok (.iconst 1, 1) := by decide +kernel
theorem d_Wr_moved_28 : decode b_Wr_moved 28 = .ok (.goto 4, 3) := by decide +kernel
theorem d_Wr_moved_31 : decode b_Wr_moved 31 = .ok (.iconst 0, 1) := by decide +kernel
theorem d_Wr_moved_32 : decode b_Wr_moved 32 = .ok (.invokevirtual 26, 3) := by decide +kernel
theorem d_Wr_moved_35 : decode b_Wr_moved 35 = .ok (.return_, 1) := by decide +kernel
theorem d_Wr_put_0 : decode b_Wr_put 0 = .ok (.aload_n 0, 1) := by decide +kernel
theorem d_Wr_put_1 : decode b_Wr_put 1 = .ok (.iload_n 1, 1) := by decide +kernel
theorem d_Wr_put_2 : decode b_Wr_put 2 = .ok (.invokevirtual 30, 3) := by decide +kernel
theorem d_Wr_put_5 : decode b_Wr_put 5 = .ok (.aload_n 0, 1) := by decide +kernel
theorem d_Wr_put_6 : decode b_Wr_put 6 = .ok (.getfield 22, 3) := by decide +kernel
theorem d_Wr_put_9 : decode b_Wr_put 9 = .ok (.ifCond .le 23, 3) := by decide +kernel
theorem d_Wr_put_12 : decode b_Wr_put 12 = .ok (.aload_n 0, 1) := by decide +kernel
theorem d_Wr_put_13 : decode b_Wr_put 13 = .ok (.iconst 1, 1) := by decide +kernel
theorem d_Wr_put_14 : decode b_Wr_put 14 = .ok (.iload_n 1, 1) := by decide +kernel
theorem d_Wr_put_15 : decode b_Wr_put 15 = .ok (.isub, 1) := by decide +kernel
theorem d_Wr_put_16 : decode b_Wr_put 16 = .ok (.invokevirtual 30, 3) := by decide +kernel
theorem d_Wr_put_19 : decode b_Wr_put 19 = .ok (.aload_n 0, 1) := by decide +kernel
theorem d_Wr_put_20 : decode b_Wr_put 20 = .ok (.dup, 1) := by decide +kernel
theorem d_Wr_put_21 : decode b_Wr_put 21 = .ok (.getfield 22, 3) := by decide +kernel
theorem d_Wr_put_24 : decode b_Wr_put 24 = .ok (.iconst 1, 1) := by decide +kernel
theorem d_Wr_put_25 : decode b_Wr_put 25 = .ok (.isub, 1) := by decide +kernel
theorem d_Wr_put_26 : decode b_Wr_put 26 = .ok (.putfield 22, 3) := by decide +kernel
theorem d_Wr_put_29 : decode b_Wr_put 29 = .ok (.goto (-24), 3) := by decide +kernel
theorem d_Wr_put_32 : decode b_Wr_put 32 = .ok (.return_, 1) := by decide +kernel
theorem d_Wr_one_0 : decode b_Wr_one 0 = .ok (.aload_n 0, 1) := by decide +kernel
theorem d_Wr_one_1 : decode b_Wr_one 1 = .ok (.getfield 18, 3) := by decide +kernel
theorem d_Wr_one_4 : decode b_Wr_one 4 = .ok (.bipush 8, 2) := by decide +kernel
theorem d_Wr_one_6 : decode b_Wr_one 6 = .ok (.irem, 1) := by decide +kernel
theorem d_Wr_one_7 : decode b_Wr_one 7 = .ok (.ifCond .ne 16, 3) := by decide +kernel
theorem d_Wr_one_10 : decode b_Wr_one 10 = .ok (.aload_n 0, 1) := by decide +kernel
theorem d_Wr_one_11 : decode b_Wr_one 11 = .ok (.getfield 9, 3) := by decide +kernel
theorem d_Wr_one_14 : decode b_Wr_one 14 = .ok (.aload_n 0, 1) := by decide +kernel
theorem d_Wr_one_15 : decode b_Wr_one 15 = .ok (.getfield 18, 3) := by decide +kernel
theorem d_Wr_one_18 : decode b_Wr_one 18 = .ok (.bipush 8, 2) := by decide +kernel
theorem d_Wr_one_20 : decode b_Wr_one 20 = .ok (.idiv, 1) := by decide +kernel
theorem d_Wr_one_21 : decode b_Wr_one 21 = .ok (.iconst 0, 1) := by decide +kernel
theorem d_Wr_one_22 : decode b_Wr_one 22 = .ok (.bastore, 1) := by decide +kernel
theorem d_Wr_one_23 : decode b_Wr_one 23 = .ok (.aload_n 0, 1) := by decide +kernel
theorem d_Wr_one_24 : decode b_Wr_one 24 = .ok (.getfield 9, 3) := by decide +kernel
theorem d_Wr_one_27 : decode b_Wr_one 27 = .ok (.aload_n 0, 1) := by decide +kernel
theorem d_Wr_one_28 : decode b_Wr_one 28 = .ok (.getfield 18, 3) := by decide +kernel
theorem d_Wr_one_31 : decode b_Wr_one 31 = .ok (.bipush 8, 2) := by decide +kernel
theorem d_Wr_one_33 : decode b_Wr_one 33 = .ok (.idiv, 1) := by decide +kernel
theorem d_Wr_one_34 : decode b_Wr_one 34 = .ok (.dup2, 1) := by decide +kernel
theorem d_Wr_one_35 : decode b_Wr_one 35 = .ok (.baload, 1) := by decide +kernel
theorem d_Wr_one_36 : decode b_Wr_one 36 = .ok (.iload_n 1, 1) := by decide +kernel
theorem d_Wr_one_37 : decode b_Wr_one 37 = .ok (.bipush 7, 2) := by decide +kernel
theorem d_Wr_one_39 : decode b_Wr_one 39 = .ok (.aload_n 0, 1) := by decide +kernel
theorem d_Wr_one_40 : decode b_Wr_one 40 = .ok (.getfield 18, 3) := by decide +kernel
theorem d_Wr_one_43 : decode b_Wr_one 43 = .ok (.bipush 8, 2) := by decide +kernel
theorem d_Wr_one_45 : decode b_Wr_one 45 = .ok (.irem, 1) := by decide +kernel
theorem d_Wr_one_46 : decode b_Wr_one 46 = .ok (.isub, 1) := by decide +kernel
theorem d_Wr_one_47 : decode b_Wr_one 47 = .ok (.ishl, 1) := by decide +kernel
theorem d_Wr_one_48 : decode b_Wr_one 48 = .ok (.ior, 1) := by decide +kernel
theorem d_Wr_one_49 : decode b_Wr_one 49 = .ok (.i2b, 1) := by decide +kernel
theorem d_Wr_one_50 : decode b_Wr_one 50 = .ok (.bastore, 1) := by decide +kernel
theorem d_Wr_one_51 : decode b_Wr_one 51 = .ok (.aload_n 0, 1) := by decide +kernel
theorem d_Wr_one_52 : decode b_Wr_one 52 = .ok (.dup, 1) := by decide +kernel
theorem d_Wr_one_53 : decode b_Wr_one 53 = .ok (.getfield 18, 3) := by decide +kernel
theorem d_Wr_one_56 : decode b_Wr_one 56 = .ok (.iconst 1, 1) := by decide +kernel
theorem d_Wr_one_57 : decode b_Wr_one 57 = .ok (.iadd, 1) := by decide +kernel
theorem d_Wr_one_58 : decode b_Wr_one 58 = .ok (.putfield 18, 3) := by decide +kernel
theorem d_Wr_one_61 : decode b_Wr_one 61 = .ok (.return_, 1) := by decide +kernel
theorem d_P2_take_0 : decode b_P2_take 0 = .ok (.aload_n 0, 1) := by decide +kernel
theorem d_P2_take_1 : decode b_P2_take 1 = .ok (.getfield 1, 3) := by decide +kernel
theorem d_P2_take_4 : decode b_P2_take 4 = .ok (.getfield 13, 3) := by decide +kernel
theorem d_P2_take_7 : decode b_P2_take 7 = .ok (.iload_n 1, 1) := by decide +kernel
theorem d_P2_take_8 : decode b_P2_take 8 = .ok (.iload_n 2, 1) := by decide +kernel
theorem d_P2_take_9 : decode b_P2_take 9 = .ok (.iload_n 3, 1) := by decide +kernel
theorem d_P2_take_10 : decode b_P2_take 10 = .ok (.invokevirtual 25, 3) := by decide +kernel
theorem d_P2_take_13 : decode b_P2_take 13 = .ok (.aload_n 0, 1) := by decide +kernel
theorem d_P2_take_14 : decode b_P2_take 14 = .ok (.getfield 1, 3) := by decide +kernel
theorem d_P2_take_17 : decode b_P2_take 17 = .ok (.getfield 29, 3) := by decide +kernel
theorem d_P2_take_20 : decode b_P2_take 20 = .ok (.iload_n 1, 1) := by decide +kernel
theorem d_P2_take_21 : decode b_P2_take 21 = .ok (.iload_n 2, 1) := by decide +kernel
theorem d_P2_take_22 : decode b_P2_take 22 = .ok (.iload_n 3, 1) := by decide +kernel
theorem d_P2_take_23 : decode b_P2_take 23 = .ok (.invokevirtual 33, 3) := by decide +kernel
theorem d_P2_take_26 : decode b_P2_take 26 = .ok (.return_, 1) := by decide +kernel
theorem d_Su_take_0 : decode b_Su_take 0 = .ok (.iconst 0, 1) := by decide +kernel
theorem d_Su_take_1 : decode b_Su_take 1 = .ok (.istore 4, 2) := by decide +kernel
theorem d_Su_take_3 : decode b_Su_take 3 = .ok (.iload_n 2, 1) := by decide +kernel
theorem d_Su_take_4 : decode b_Su_take 4 = .ok (.iload 4, 2) := by decide +kernel
theorem d_Su_take_6 : decode b_Su_take 6 = .ok (.ishl, 1) := by decide +kernel
theorem d_Su_take_7 : decode b_Su_take 7 = .ok (.iload_n 3, 1) := by decide +kernel
theorem d_Su_take_8 : decode b_Su_take 8 = .ok (.if_icmp .ge 9, 3) := by decide +kernel
theorem d_Su_take_11 : decode b_Su_take 11 = .ok (.iinc 4 1, 3) := by decide +kernel
theorem d_Su_take_14 : decode b_Su_take 14 = .ok (.goto (-11), 3) := by decide +kernel
theorem d_Su_take_17 : decode b_Su_take 17 = .ok (.aload_n 0, 1) := by decide +kernel
theorem d_Su_take_18 : decode b_Su_take 18 = .ok (.dup, 1) := by decide +kernel
theorem d_Su_take_19 : decode b_Su_take 19 = .ok (.getfield 7, 3) := by decide +kernel
theorem d_Su_take_22 : decode b_Su_take 22 = .ok (.iload 4, 2) := by decide +kernel
theorem d_Su_take_24 : decode b_Su_take 24 = .ok (.iadd, 1) := by decide +kernel
theorem d_Su_take_25 : decode b_Su_take 25 = .ok (.putfield 7, 3) := by decide +kernel
theorem d_Su_take_28 : decode b_Su_take 28 = .ok (.return_, 1) := by decide +kernel
theorem d_X_flat_0 : decode b_X_flat 0 = .ok (.sipush 257, 3) := by decide +kernel
theorem d_X_flat_3 : decode b_X_flat 3 = .ok (.aload_n 0, 1) := by decide +kernel
theorem d_X_flat_4 : decode b_X_flat 4 = .ok (.getfield 22, 3) := by decide +kernel
theorem d_X_flat_7 : decode b_X_flat 7 = .ok (.isub, 1) := by decide +kernel
theorem d_X_flat_8 : decode b_X_flat 8 = .ok (.istore_n 3, 1) := by decide +kernel
theorem d_X_flat_9 : decode b_X_flat 9 = .ok (.aload_n 2, 1) := by decide +kernel
theorem d_X_flat_10 : decode b_X_flat 10 = .ok (.iload_n 3, 1) := by decide +kernel
theorem d_X_flat_11 : decode b_X_flat 11 = .ok (.invokeinterface 48 2, 5) := by decide +kernel
theorem d_X_flat_16 : decode b_X_flat 16 = .ok (.istore 4, 2) := by decide +kernel
theorem d_X_flat_18 : decode b_X_flat 18 = .ok (.iconst 0, 1) := by decide +kernel
theorem d_X_flat_19 : decode b_X_flat 19 = .ok (.istore 5, 2) := by decide +kernel
theorem d_X_flat_21 : decode b_X_flat 21 = .ok (.iconst 0, 1) := by decide +kernel
theorem d_X_flat_22 : decode b_X_flat 22 = .ok (.istore 6, 2) := by decide +kernel
theorem d_X_flat_24 : decode b_X_flat 24 = .ok (.aload_n 0, 1) := by decide +kernel
theorem d_X_flat_25 : decode b_X_flat 25 = .ok (.getfield 10, 3) := by decide +kernel
theorem d_X_flat_28 : decode b_X_flat 28 = .ok (.iload 6, 2) := by decide +kernel
theorem d_X_flat_30 : decode b_X_flat 30 = .ok (.baload, 1) := by decide +kernel
theorem d_X_flat_31 : decode b_X_flat 31 = .ok (.ifCond .ne 24, 3) := by decide +kernel
theorem d_X_flat_34 : decode b_X_flat 34 = .ok (.iload 4, 2) := by decide +kernel
theorem d_X_flat_36 : decode b_X_flat 36 = .ok (.ifCond .ge 12, 3) := by decide +kernel
theorem d_X_flat_39 : decode b_X_flat 39 = .ok (.iload 6, 2) := by decide +kernel
theorem d_X_flat_41 : decode b_X_flat 41 = .ok (.iload_n 1, 1) := by decide +kernel
theorem d_X_flat_42 : decode b_X_flat 42 = .ok (.if_icmp .eq 39, 3) := by decide +kernel
theorem d_X_flat_45 : decode b_X_flat 45 = .ok (.goto 10, 3) := by decide +kernel
theorem d_X_flat_48 : decode b_X_flat 48 = .ok (.iload 5, 2) := by decide +kernel
theorem d_X_flat_50 : decode b_X_flat 50 = .ok (.iload 4, 2) := by decide +kernel
theorem d_X_flat_52 : decode b_X_flat 52 = .ok (.if_icmp .ge 29, 3) := by decide +kernel
theorem d_X_flat_55 : decode b_X_flat 55 = .ok (.iload 5, 2) := by decide +kernel
theorem d_X_flat_57 : decode b_X_flat 57 = .ok (.aload_n 0, 1) := by decide +kernel
theorem d_X_flat_58 : decode b_X_flat 58 = .ok (.getfield 10, 3) := by decide +kernel
theorem d_X_flat_61 : decode b_X_flat 61 = .ok (.iload 6, 2) := by decide +kernel
theorem d_X_flat_63 : decode b_X_flat 63 = .ok (.baload, 1) := by decide +kernel
theorem d_X_flat_64 : decode b_X_flat 64 = .ok (.ifCond .eq 7, 3) := by decide +kernel
theorem d_X_flat_67 : decode b_X_flat 67 = .ok (.iconst 0, 1) := by decide +kernel
theorem d_X_flat_68 : decode b_X_flat 68 = .ok (.goto 4, 3) := by decide +kernel
theorem d_X_flat_71 : decode b_X_flat 71 = .ok (.iconst 1, 1) := by decide +kernel
theorem d_X_flat_72 : decode b_X_flat 72 = .ok (.iadd, 1) := by decide +kernel
theorem d_X_flat_73 : decode b_X_flat 73 = .ok (.istore 5, 2) := by decide +kernel
theorem d_X_flat_75 : decode b_X_flat 75 = .ok (.iinc 6 1, 3) := by decide +kernel
theorem d_X_flat_78 : decode b_X_flat 78 = .ok (.goto (-54), 3) := by decide +kernel
theorem d_X_flat_81 : decode b_X_flat 81 = .ok (.aload_n 2, 1) := by decide +kernel
theorem d_X_flat_82 : decode b_X_flat 82 = .ok (.iload 5, 2) := by decide +kernel
theorem d_X_flat_84 : decode b_X_flat 84 = .ok (.iconst 1, 1) := by decide +kernel
theorem d_X_flat_85 : decode b_X_flat 85 = .ok (.iload_n 3, 1) := by decide +kernel
theorem d_X_flat_86 : decode b_X_flat 86 = .ok (.invokeinterface 53 4, 5) := by decide +kernel
theorem d_X_flat_91 : decode b_X_flat 91 = .ok (.aload_n 0, 1) := by decide +kernel
theorem d_X_flat_92 : decode b_X_flat 92 = .ok (.bipush (-3), 2) := by decide +kernel
theorem d_X_flat_94 : decode b_X_flat 94 = .ok (.putfield 57, 3) := by decide +kernel
theorem d_X_flat_97 : decode b_X_flat 97 = .ok (.iload 6, 2) := by decide +kernel
