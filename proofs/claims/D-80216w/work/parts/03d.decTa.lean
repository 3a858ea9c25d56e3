theorem d_T_init_0 : decode b_T_init 0 = .ok (.aload_n 0, 1) := by decide +kernel
theorem d_T_init_1 : decode b_T_init 1 = .ok (.invokespecial 1, 3) := by decide +kernel
theorem d_T_init_4 : decode b_T_init 4 = .ok (.aload_n 0, 1) := by decide +kernel
theorem d_T_init_5 : decode b_T_init 5 = .ok (.sipush 300, 3) := by decide +kernel
theorem d_T_init_8 : decode b_T_init 8 = .ok (.newarray .int, 2) := by decide +kernel
theorem d_T_init_10 : decode b_T_init 10 = .ok (.putfield 7, 3) := by decide +kernel
theorem d_T_init_13 : decode b_T_init 13 = .ok (.aload_n 0, 1) := by decide +kernel
theorem d_T_init_14 : decode b_T_init 14 = .ok (.sipush 6000, 3) := by decide +kernel
theorem d_T_init_17 : decode b_T_init 17 = .ok (.newarray .int, 2) := by decide +kernel
theorem d_T_init_19 : decode b_T_init 19 = .ok (.putfield 13, 3) := by decide +kernel
theorem d_T_init_22 : decode b_T_init 22 = .ok (.aload_n 0, 1) := by decide +kernel
theorem d_T_init_23 : decode b_T_init 23 = .ok (.sipush 300, 3) := by decide +kernel
theorem d_T_init_26 : decode b_T_init 26 = .ok (.newarray .int, 2) := by decide +kernel
theorem d_T_init_28 : decode b_T_init 28 = .ok (.putfield 16, 3) := by decide +kernel
theorem d_T_init_31 : decode b_T_init 31 = .ok (.aload_n 0, 1) := by decide +kernel
theorem d_T_init_32 : decode b_T_init 32 = .ok (.bipush 7, 2) := by decide +kernel
theorem d_T_init_34 : decode b_T_init 34 = .ok (.newarray .int, 2) := by decide +kernel
theorem d_T_init_36 : decode b_T_init 36 = .ok (.putfield 19, 3) := by decide +kernel
theorem d_T_init_39 : decode b_T_init 39 = .ok (.aload_n 0, 1) := by decide +kernel
theorem d_T_init_40 : decode b_T_init 40 = .ok (.sipush 10500, 3) := by decide +kernel
theorem d_T_init_43 : decode b_T_init 43 = .ok (.newarray .int, 2) := by decide +kernel
theorem d_T_init_45 : decode b_T_init 45 = .ok (.putfield 22, 3) := by decide +kernel
theorem d_T_init_48 : decode b_T_init 48 = .ok (.aload_n 0, 1) := by decide +kernel
theorem d_T_init_49 : decode b_T_init 49 = .ok (.sipush 10500, 3) := by decide +kernel
theorem d_T_init_52 : decode b_T_init 52 = .ok (.newarray .int, 2) := by decide +kernel
theorem d_T_init_54 : decode b_T_init 54 = .ok (.putfield 25, 3) := by decide +kernel
theorem d_T_init_57 : decode b_T_init 57 = .ok (.aload_n 0, 1) := by decide +kernel
theorem d_T_init_58 : decode b_T_init 58 = .ok (.sipush 10500, 3) := by decide +kernel
theorem d_T_init_61 : decode b_T_init 61 = .ok (.newarray .int, 2) := by decide +kernel
theorem d_T_init_63 : decode b_T_init 63 = .ok (.putfield 28, 3) := by decide +kernel
theorem d_T_init_66 : decode b_T_init 66 = .ok (.aload_n 0, 1) := by decide +kernel
theorem d_T_init_67 : decode b_T_init 67 = .ok (.bipush 7, 2) := by decide +kernel
theorem d_T_init_69 : decode b_T_init 69 = .ok (.newarray .int, 2) := by decide +kernel
theorem d_T_init_71 : decode b_T_init 71 = .ok (.putfield 31, 3) := by decide +kernel
theorem d_T_init_74 : decode b_T_init 74 = .ok (.aload_n 0, 1) := by decide +kernel
theorem d_T_init_75 : decode b_T_init 75 = .ok (.bipush 28, 2) := by decide +kernel
theorem d_T_init_77 : decode b_T_init 77 = .ok (.newarray .int, 2) := by decide +kernel
theorem d_T_init_79 : decode b_T_init 79 = .ok (.putfield 34, 3) := by decide +kernel
theorem d_T_init_82 : decode b_T_init 82 = .ok (.aload_n 0, 1) := by decide +kernel
theorem d_T_init_83 : decode b_T_init 83 = .ok (.iconst 2, 1) := by decide +kernel
theorem d_T_init_84 : decode b_T_init 84 = .ok (.newarray .int, 2) := by decide +kernel
theorem d_T_init_86 : decode b_T_init 86 = .ok (.putfield 37, 3) := by decide +kernel
theorem d_T_init_89 : decode b_T_init 89 = .ok (.aload_n 0, 1) := by decide +kernel
theorem d_T_init_90 : decode b_T_init 90 = .ok (.sipush 257, 3) := by decide +kernel
theorem d_T_init_93 : decode b_T_init 93 = .ok (.newarray .boolean, 2) := by decide +kernel
theorem d_T_init_95 : decode b_T_init 95 = .ok (.putfield 40, 3) := by decide +kernel
theorem d_T_init_98 : decode b_T_init 98 = .ok (.aload_n 0, 1) := by decide +kernel
theorem d_T_init_99 : decode b_T_init 99 = .ok (.sipush 256, 3) := by decide +kernel
theorem d_T_init_102 : decode b_T_init 102 = .ok (.newarray .int, 2) := by decide +kernel
theorem d_T_init_104 : decode b_T_init 104 = .ok (.putfield 44, 3) := by decide +kernel
theorem d_T_init_107 : decode b_T_init 107 = .ok (.aload_n 0, 1) := by decide +kernel
theorem d_T_init_108 : decode b_T_init 108 = .ok (.sipush 6000, 3) := by decide +kernel
theorem d_T_init_111 : decode b_T_init 111 = .ok (.newarray .int, 2) := by decide +kernel
theorem d_T_init_113 : decode b_T_init 113 = .ok (.putfield 47, 3) := by decide +kernel
theorem d_T_init_116 : decode b_T_init 116 = .ok (.aload_n 0, 1) := by decide +kernel
theorem d_T_init_117 : decode b_T_init 117 = .ok (.sipush 301, 3) := by decide +kernel
theorem d_T_init_120 : decode b_T_init 120 = .ok (.newarray .int, 2) := by decide +kernel
theorem d_T_init_122 : decode b_T_init 122 = .ok (.putfield 50, 3) := by decide +kernel
theorem d_T_init_125 : decode b_T_init 125 = .ok (.aload_n 0, 1) := by decide +kernel
theorem d_T_init_126 : decode b_T_init 126 = .ok (.sipush 301, 3) := by decide +kernel
theorem d_T_init_129 : decode b_T_init 129 = .ok (.newarray .int, 2) := by decide +kernel
theorem d_T_init_131 : decode b_T_init 131 = .ok (.putfield 53, 3) := by decide +kernel
theorem d_T_init_134 : decode b_T_init 134 = .ok (.aload_n 0, 1) := by decide +kernel
theorem d_T_init_135 : decode b_T_init 135 = .ok (.iconst 3, 1) := by decide +kernel
theorem d_T_init_136 : decode b_T_init 136 = .ok (.newarray .int, 2) := by decide +kernel
theorem d_T_init_138 : decode b_T_init 138 = .ok (.putfield 56, 3) := by decide +kernel
theorem d_T_init_141 : decode b_T_init 141 = .ok (.aload_n 0, 1) := by decide +kernel
theorem d_T_init_142 : decode b_T_init 142 = .ok (.sipush 301, 3) := by decide +kernel
theorem d_T_init_145 : decode b_T_init 145 = .ok (.newarray .int, 2) := by decide +kernel
theorem d_T_init_147 : decode b_T_init 147 = .ok (.putfield 59, 3) := by decide +kernel
theorem d_T_init_150 : decode b_T_init 150 = .ok (.aload_n 0, 1) := by decide +kernel
theorem d_T_init_151 : decode b_T_init 151 = .ok (.sipush 301, 3) := by decide +kernel
theorem d_T_init_154 : decode b_T_init 154 = .ok (.newarray .int, 2) := by decide +kernel
theorem d_T_init_156 : decode b_T_init 156 = .ok (.putfield 62, 3) := by decide +kernel
theorem d_T_init_159 : decode b_T_init 159 = .ok (.aload_n 0, 1) := by decide +kernel
theorem d_T_init_160 : decode b_T_init 160 = .ok (.bipush (-3), 2) := by decide +kernel
theorem d_T_init_162 : decode b_T_init 162 = .ok (.putfield 65, 3) := by decide +kernel
theorem d_T_init_165 : decode b_T_init 165 = .ok (.aload_n 0, 1) := by decide +kernel
theorem d_T_init_166 : decode b_T_init 166 = .ok (.sipush 300, 3) := by decide +kernel
theorem d_T_init_169 : decode b_T_init 169 = .ok (.newarray .int, 2) := by decide +kernel
theorem d_T_init_171 : decode b_T_init 171 = .ok (.putfield 69, 3) := by decide +kernel
theorem d_T_init_174 : decode b_T_init 174 = .ok (.aload_n 0, 1) := by decide +kernel
theorem d_T_init_175 : decode b_T_init 175 = .ok (.iload_n 1, 1) := by decide +kernel
theorem d_T_init_176 : decode b_T_init 176 = .ok (.ifCond .ge 7, 3) := by decide +kernel
theorem d_T_init_179 : decode b_T_init 179 = .ok (.iconst 0, 1) := by decide +kernel
theorem d_T_init_180 : decode b_T_init 180 = .ok (.goto 13, 3) := by decide +kernel
theorem d_T_init_183 : decode b_T_init 183 = .ok (.iload_n 1, 1) := by decide +kernel
theorem d_T_init_184 : decode b_T_init 184 = .ok (.iconst 4, 1) := by decide +kernel
theorem d_T_init_185 : decode b_T_init 185 = .ok (.if_icmp .le 7, 3) := by decide +kernel
theorem d_T_init_188 : decode b_T_init 188 = .ok (.iconst 4, 1) := by decide +kernel
theorem d_T_init_189 : decode b_T_init 189 = .ok (.goto 4, 3) := by decide +kernel
theorem d_T_init_192 : decode b_T_init 192 = .ok (.iload_n 1, 1) := by decide +kernel
theorem d_T_init_193 : decode b_T_init 193 = .ok (.putfield 72, 3) := by decide +kernel
theorem d_T_init_196 : decode b_T_init 196 = .ok (.aload_n 0, 1) := by decide +kernel
theorem d_T_init_197 : decode b_T_init 197 = .ok (.iload_n 2, 1) := by decide +kernel
theorem d_T_init_198 : decode b_T_init 198 = .ok (.bipush 8, 2) := by decide +kernel
theorem d_T_init_200 : decode b_T_init 200 = .ok (.if_icmp .ge 8, 3) := by decide +kernel
theorem d_T_init_203 : decode b_T_init 203 = .ok (.bipush 8, 2) := by decide +kernel
theorem d_T_init_205 : decode b_T_init 205 = .ok (.goto 17, 3) := by decide +kernel
theorem d_T_init_208 : decode b_T_init 208 = .ok (.iload_n 2, 1) := by decide +kernel
theorem d_T_init_209 : decode b_T_init 209 = .ok (.sipush 1500, 3) := by decide +kernel
theorem d_T_init_212 : decode b_T_init 212 = .ok (.if_icmp .le 9, 3) := by decide +kernel
theorem d_T_init_215 : decode b_T_init 215 = .ok (.sipush 1500, 3) := by decide +kernel
theorem d_T_init_218 : decode b_T_init 218 = .ok (.goto 4, 3) := by decide +kernel
theorem d_T_init_221 : decode b_T_init 221 = .ok (.iload_n 2, 1) := by decide +kernel
theorem d_T_init_222 : decode b_T_init 222 = .ok (.putfield 75, 3) := by decide +kernel
theorem d_T_init_225 : decode b_T_init 225 = .ok (.aload_n 0, 1) := by decide +kernel
theorem d_T_init_226 : decode b_T_init 226 = .ok (.iconst 0, 1) := by decide +kernel
theorem d_T_init_227 : decode b_T_init 227 = .ok (.invokevirtual 78, 3) := by decide +kernel
theorem d_T_init_230 : decode b_T_init 230 = .ok (.aload_n 0, 1) := by decide +kernel
theorem d_T_init_231 : decode b_T_init 231 = .ok (.iconst 1, 1) := by decide +kernel
theorem d_T_init_232 : decode b_T_init 232 = .ok (.invokevirtual 78, 3) := by decide +kernel
theorem d_T_init_235 : decode b_T_init 235 = .ok (.return_, 1) := by decide +kernel
theorem d_T_begin_0 : decode b_T_begin 0 = .ok (.aload_n 0, 1) := by decide +kernel
theorem d_T_begin_1 : decode b_T_begin 1 = .ok (.getfield 19, 3) := by decide +kernel
theorem d_T_begin_4 : decode b_T_begin 4 = .ok (.iload_n 1, 1) := by decide +kernel
theorem d_T_begin_5 : decode b_T_begin 5 = .ok (.iconst 1, 1) := by decide +kernel
theorem d_T_begin_6 : decode b_T_begin 6 = .ok (.iastore, 1) := by decide +kernel
theorem d_T_begin_7 : decode b_T_begin 7 = .ok (.aload_n 0, 1) := by decide +kernel
theorem d_T_begin_8 : decode b_T_begin 8 = .ok (.getfield 31, 3) := by decide +kernel
theorem d_T_begin_11 : decode b_T_begin 11 = .ok (.iload_n 1, 1) := by decide +kernel
theorem d_T_begin_12 : decode b_T_begin 12 = .ok (.iconst 0, 1) := by decide +kernel
theorem d_T_begin_13 : decode b_T_begin 13 = .ok (.iastore, 1) := by decide +kernel
theorem d_T_begin_14 : decode b_T_begin 14 = .ok (.aload_n 0, 1) := by decide +kernel
theorem d_T_begin_15 : decode b_T_begin 15 = .ok (.getfield 22, 3) := by decide +kernel
theorem d_T_begin_18 : decode b_T_begin 18 = .ok (.sipush 1500, 3) := by decide +kernel
theorem d_T_begin_21 : decode b_T_begin 21 = .ok (.iload_n 1, 1) := by decide +kernel
theorem d_T_begin_22 : decode b_T_begin 22 = .ok (.imul, 1) := by decide +kernel
theorem d_T_begin_23 : decode b_T_begin 23 = .ok (.iconst (-1), 1) := by decide +kernel
theorem d_T_begin_24 : decode b_T_begin 24 = .ok (.iastore, 1) := by decide +kernel
theorem d_T_begin_25 : decode b_T_begin 25 = .ok (.aload_n 0, 1) := by decide +kernel
theorem d_T_begin_26 : decode b_T_begin 26 = .ok (.getfield 25, 3) := by decide +kernel
theorem d_T_begin_29 : decode b_T_begin 29 = .ok (.sipush 1500, 3) := by decide +kernel
theorem d_T_begin_32 : decode b_T_begin 32 = .ok (.iload_n 1, 1) := by decide +kernel
theorem d_T_begin_33 : decode b_T_begin 33 = .ok (.imul, 1) := by decide +kernel
theorem d_T_begin_34 : decode b_T_begin 34 = .ok (.iconst (-1), 1) := by decide +kernel
theorem d_T_begin_35 : decode b_T_begin 35 = .ok (.iastore, 1) := by decide +kernel
theorem d_T_begin_36 : decode b_T_begin 36 = .ok (.aload_n 0, 1) := by decide +kernel
theorem d_T_begin_37 : decode b_T_begin 37 = .ok (.getfield 28, 3) := by decide +kernel
theorem d_T_begin_40 : decode b_T_begin 40 = .ok (.sipush 1500, 3) := by decide +kernel
theorem d_T_begin_43 : decode b_T_begin 43 = .ok (.iload_n 1, 1) := by decide +kernel
theorem d_T_begin_44 : decode b_T_begin 44 = .ok (.imul, 1) := by decide +kernel
theorem d_T_begin_45 : decode b_T_begin 45 = .ok (.iconst 0, 1) := by decide +kernel
theorem d_T_begin_46 : decode b_T_begin 46 = .ok (.iastore, 1) := by decide +kernel
theorem d_T_begin_47 : decode b_T_begin 47 = .ok (.return_, 1) := by decide +kernel
theorem d_T_thrown_0 : decode b_T_thrown 0 = .ok (.aload_n 0, 1) := by decide +kernel
theorem d_T_thrown_1 : decode b_T_thrown 1 = .ok (.getfield 82, 3) := by decide +kernel
theorem d_T_thrown_4 : decode b_T_thrown 4 = .ok (.ireturn, 1) := by decide +kernel
theorem d_T_clear_0 : decode b_T_clear 0 = .ok (.aload_n 0, 1) := by decide +kernel
theorem d_T_clear_1 : decode b_T_clear 1 = .ok (.iconst 0, 1) := by decide +kernel
theorem d_T_clear_2 : decode b_T_clear 2 = .ok (.putfield 82, 3) := by decide +kernel
theorem d_T_clear_5 : decode b_T_clear 5 = .ok (.aload_n 0, 1) := by decide +kernel
theorem d_T_clear_6 : decode b_T_clear 6 = .ok (.getfield 85, 3) := by decide +kernel
theorem d_T_clear_9 : decode b_T_clear 9 = .ok (.istore_n 1, 1) := by decide +kernel
theorem d_T_clear_10 : decode b_T_clear 10 = .ok (.aload_n 0, 1) := by decide +kernel
theorem d_T_clear_11 : decode b_T_clear 11 = .ok (.iconst 0, 1) := by decide +kernel
theorem d_T_clear_12 : decode b_T_clear 12 = .ok (.putfield 85, 3) := by decide +kernel
theorem d_T_clear_15 : decode b_T_clear 15 = .ok (.iload_n 1, 1) := by decide +kernel
theorem d_T_clear_16 : decode b_T_clear 16 = .ok (.ireturn, 1) := by decide +kernel
theorem d_T_add_0 : decode b_T_add 0 = .ok (.aload_n 0, 1) := by decide +kernel
theorem d_T_add_1 : decode b_T_add 1 = .ok (.iconst 0, 1) := by decide +kernel
theorem d_T_add_2 : decode b_T_add 2 = .ok (.putfield 82, 3) := by decide +kernel
theorem d_T_add_5 : decode b_T_add 5 = .ok (.iload_n 1, 1) := by decide +kernel
theorem d_T_add_6 : decode b_T_add 6 = .ok (.iconst 0, 1) := by decide +kernel
theorem d_T_add_7 : decode b_T_add 7 = .ok (.sipush 255, 3) := by decide +kernel
theorem d_T_add_10 : decode b_T_add 10 = .ok (.invokestatic 88, 3) := by decide +kernel
theorem d_T_add_13 : decode b_T_add 13 = .ok (.ifCond .ne 5, 3) := by decide +kernel
theorem d_T_add_16 : decode b_T_add 16 = .ok (.iconst (-1), 1) := by decide +kernel
theorem d_T_add_17 : decode b_T_add 17 = .ok (.ireturn, 1) := by decide +kernel
theorem d_T_add_18 : decode b_T_add 18 = .ok (.aload_n 0, 1) := by decide +kernel
theorem d_T_add_19 : decode b_T_add 19 = .ok (.getfield 85, 3) := by decide +kernel
theorem d_T_add_22 : decode b_T_add 22 = .ok (.sipush 300, 3) := by decide +kernel
theorem d_T_add_25 : decode b_T_add 25 = .ok (.if_icmp .ne 6, 3) := by decide +kernel
theorem d_T_add_28 : decode b_T_add 28 = .ok (.bipush (-2), 2) := by decide +kernel
theorem d_T_add_30 : decode b_T_add 30 = .ok (.ireturn, 1) := by decide +kernel
theorem d_T_add_31 : decode b_T_add 31 = .ok (.aload_n 0, 1) := by decide +kernel
theorem d_T_add_32 : decode b_T_add 32 = .ok (.getfield 7, 3) := by decide +kernel
theorem d_T_add_35 : decode b_T_add 35 = .ok (.aload_n 0, 1) := by decide +kernel
theorem d_T_add_36 : decode b_T_add 36 = .ok (.getfield 85, 3) := by decide +kernel
theorem d_T_add_39 : decode b_T_add 39 = .ok (.iload_n 1, 1) := by decide +kernel
theorem d_T_add_40 : decode b_T_add 40 = .ok (.iastore, 1) := by decide +kernel
theorem d_T_add_41 : decode b_T_add 41 = .ok (.aload_n 0, 1) := by decide +kernel
theorem d_T_add_42 : decode b_T_add 42 = .ok (.dup, 1) := by decide +kernel
theorem d_T_add_43 : decode b_T_add 43 = .ok (.getfield 85, 3) := by decide +kernel
theorem d_T_add_46 : decode b_T_add 46 = .ok (.iconst 1, 1) := by decide +kernel
theorem d_T_add_47 : decode b_T_add 47 = .ok (.iadd, 1) := by decide +kernel
theorem d_T_add_48 : decode b_T_add 48 = .ok (.putfield 85, 3) := by decide +kernel
theorem d_T_add_51 : decode b_T_add 51 = .ok (.aload_n 0, 1) := by decide +kernel
theorem d_T_add_52 : decode b_T_add 52 = .ok (.getfield 85, 3) := by decide +kernel
theorem d_T_add_55 : decode b_T_add 55 = .ok (.ireturn, 1) := by decide +kernel
theorem d_T_in_0 : decode b_T_in 0 = .ok (.iload_n 0, 1) := by decide +kernel
theorem d_T_in_1 : decode b_T_in 1 = .ok (.iload_n 1, 1) := by decide +kernel
theorem d_T_in_2 : decode b_T_in 2 = .ok (.if_icmp .lt 12, 3) := by decide +kernel
theorem d_T_in_5 : decode b_T_in 5 = .ok (.iload_n 0, 1) := by decide +kernel
theorem d_T_in_6 : decode b_T_in 6 = .ok (.iload_n 2, 1) := by decide +kernel
theorem d_T_in_7 : decode b_T_in 7 = .ok (.if_icmp .gt 7, 3) := by decide +kernel
theorem d_T_in_10 : decode b_T_in 10 = .ok (.iconst 1, 1) := by decide +kernel
theorem d_T_in_11 : decode b_T_in 11 = .ok (.goto 4, 3) := by decide +kernel
theorem d_T_in_14 : decode b_T_in 14 = .ok (.iconst 0, 1) := by decide +kernel
theorem d_T_in_15 : decode b_T_in 15 = .ok (.ireturn, 1) := by decide +kernel
theorem d_T_fill_0 : decode b_T_fill 0 = .ok (.aload_n 0, 1) := by decide +kernel
theorem d_T_fill_1 : decode b_T_fill 1 = .ok (.iconst 0, 1) := by decide +kernel
theorem d_T_fill_2 : decode b_T_fill 2 = .ok (.putfield 82, 3) := by decide +kernel
theorem d_T_fill_5 : decode b_T_fill 5 = .ok (.iload_n 1, 1) := by decide +kernel
theorem d_T_fill_6 : decode b_T_fill 6 = .ok (.iconst 1, 1) := by decide +kernel
theorem d_T_fill_7 : decode b_T_fill 7 = .ok (.sipush 300, 3) := by decide +kernel
theorem d_T_fill_10 : decode b_T_fill 10 = .ok (.invokestatic 88, 3) := by decide +kernel
theorem d_T_fill_13 : decode b_T_fill 13 = .ok (.ifCond .eq 12, 3) := by decide +kernel
theorem d_T_fill_16 : decode b_T_fill 16 = .ok (.iload_n 3, 1) := by decide +kernel
theorem d_T_fill_17 : decode b_T_fill 17 = .ok (.iconst 0, 1) := by decide +kernel
theorem d_T_fill_18 : decode b_T_fill 18 = .ok (.iconst 3, 1) := by decide +kernel
theorem d_T_fill_19 : decode b_T_fill 19 = .ok (.invokestatic 88, 3) := by decide +kernel
theorem d_T_fill_22 : decode b_T_fill 22 = .ok (.ifCond .ne 5, 3) := by decide +kernel
theorem d_T_fill_25 : decode b_T_fill 25 = .ok (.iconst (-1), 1) := by decide +kernel
theorem d_T_fill_26 : decode b_T_fill 26 = .ok (.ireturn, 1) := by decide +kernel
theorem d_T_fill_27 : decode b_T_fill 27 = .ok (.aload_n 0, 1) := by decide +kernel
theorem d_T_fill_28 : decode b_T_fill 28 = .ok (.getfield 85, 3) := by decide +kernel
theorem d_T_fill_31 : decode b_T_fill 31 = .ok (.iload_n 1, 1) := by decide +kernel
theorem d_T_fill_32 : decode b_T_fill 32 = .ok (.iadd, 1) := by decide +kernel
theorem d_T_fill_33 : decode b_T_fill 33 = .ok (.sipush 300, 3) := by decide +kernel
theorem d_T_fill_36 : decode b_T_fill 36 = .ok (.if_icmp .le 6, 3) := by decide +kernel
theorem d_T_fill_39 : decode b_T_fill 39 = .ok (.bipush (-2), 2) := by decide +kernel
theorem d_T_fill_41 : decode b_T_fill 41 = .ok (.ireturn, 1) := by decide +kernel
theorem d_T_fill_42 : decode b_T_fill 42 = .ok (.iload_n 2, 1) := by decide +kernel
theorem d_T_fill_43 : decode b_T_fill 43 = .ok (.istore 4, 2) := by decide +kernel
theorem d_T_fill_45 : decode b_T_fill 45 = .ok (.iconst 0, 1) := by decide +kernel
theorem d_T_fill_46 : decode b_T_fill 46 = .ok (.istore 5, 2) := by decide +kernel
theorem d_T_fill_48 : decode b_T_fill 48 = .ok (.iconst 1, 1) := by decide +kernel
theorem d_T_fill_49 : decode b_T_fill 49 = .ok (.iload_n 2, 1) := by decide +kernel
theorem d_T_fill_50 : decode b_T_fill 50 = .ok (.bipush 28, 2) := by decide +kernel
theorem d_T_fill_52 : decode b_T_fill 52 = .ok (.iushr, 1) := by decide +kernel
theorem d_T_fill_53 : decode b_T_fill 53 = .ok (.iadd, 1) := by decide +kernel
theorem d_T_fill_54 : decode b_T_fill 54 = .ok (.istore 6, 2) := by decide +kernel
theorem d_T_fill_56 : decode b_T_fill 56 = .ok (.iconst 0, 1) := by decide +kernel
theorem d_T_fill_57 : decode b_T_fill 57 = .ok (.istore 7, 2) := by decide +kernel
theorem d_T_fill_59 : decode b_T_fill 59 = .ok (.iload 7, 2) := by decide +kernel
theorem d_T_fill_61 : decode b_T_fill 61 = .ok (.iload_n 1, 1) := by decide +kernel
theorem d_T_fill_62 : decode b_T_fill 62 = .ok (.if_icmp .ge 143, 3) := by decide +kernel
theorem d_T_fill_65 : decode b_T_fill 65 = .ok (.iload 4, 2) := by decide +kernel
theorem d_T_fill_67 : decode b_T_fill 67 = .ok (.ldc 92, 2) := by decide +kernel
theorem d_T_fill_69 : decode b_T_fill 69 = .ok (.imul, 1) := by decide +kernel
theorem d_T_fill_70 : decode b_T_fill 70 = .ok (.sipush 12345, 3) := by decide +kernel
theorem d_T_fill_73 : decode b_T_fill 73 = .ok (.iadd, 1) := by decide +kernel
theorem d_T_fill_74 : decode b_T_fill 74 = .ok (.istore 4, 2) := by decide +kernel
theorem d_T_fill_76 : decode b_T_fill 76 = .ok (.iload 4, 2) := by decide +kernel
theorem d_T_fill_78 : decode b_T_fill 78 = .ok (.bipush 16, 2) := by decide +kernel
theorem d_T_fill_80 : decode b_T_fill 80 = .ok (.iushr, 1) := by decide +kernel
theorem d_T_fill_81 : decode b_T_fill 81 = .ok (.istore 8, 2) := by decide +kernel
theorem d_T_fill_83 : decode b_T_fill 83 = .ok (.iload_n 3, 1) := by decide +kernel
theorem d_T_fill_84 : decode b_T_fill 84 = .ok (.iconst 2, 1) := by decide +kernel
theorem d_T_fill_85 : decode b_T_fill 85 = .ok (.if_icmp .ne 51, 3) := by decide +kernel
theorem d_T_fill_88 : decode b_T_fill 88 = .ok (.aload_n 0, 1) := by decide +kernel
theorem d_T_fill_89 : decode b_T_fill 89 = .ok (.getfield 85, 3) := by decide +kernel
theorem d_T_fill_92 : decode b_T_fill 92 = .ok (.iload 6, 2) := by decide +kernel
theorem d_T_fill_94 : decode b_T_fill 94 = .ok (.if_icmp .ge 7, 3) := by decide +kernel
theorem d_T_fill_97 : decode b_T_fill 97 = .ok (.iconst 0, 1) := by decide +kernel
theorem d_T_fill_98 : decode b_T_fill 98 = .ok (.goto 33, 3) := by decide +kernel
theorem d_T_fill_101 : decode b_T_fill 101 = .ok (.aload_n 0, 1) := by decide +kernel
theorem d_T_fill_102 : decode b_T_fill 102 = .ok (.getfield 7, 3) := by decide +kernel
theorem d_T_fill_105 : decode b_T_fill 105 = .ok (.aload_n 0, 1) := by decide +kernel
theorem d_T_fill_106 : decode b_T_fill 106 = .ok (.getfield 85, 3) := by decide +kernel
theorem d_T_fill_109 : decode b_T_fill 109 = .ok (.iload 6, 2) := by decide +kernel
theorem d_T_fill_111 : decode b_T_fill 111 = .ok (.isub, 1) := by decide +kernel
theorem d_T_fill_112 : decode b_T_fill 112 = .ok (.iaload, 1) := by decide +kernel
theorem d_T_fill_113 : decode b_T_fill 113 = .ok (.iload 8, 2) := by decide +kernel
theorem d_T_fill_115 : decode b_T_fill 115 = .ok (.bipush 16, 2) := by decide +kernel
theorem d_T_fill_117 : decode b_T_fill 117 = .ok (.irem, 1) := by decide +kernel
theorem d_T_fill_118 : decode b_T_fill 118 = .ok (.ifCond .ne 7, 3) := by decide +kernel
theorem d_T_fill_121 : decode b_T_fill 121 = .ok (.iconst 1, 1) := by decide +kernel
theorem d_T_fill_122 : decode b_T_fill 122 = .ok (.goto 4, 3) := by decide +kernel
theorem d_T_fill_125 : decode b_T_fill 125 = .ok (.iconst 0, 1) := by decide +kernel
theorem d_T_fill_126 : decode b_T_fill 126 = .ok (.iadd, 1) := by decide +kernel
theorem d_T_fill_127 : decode b_T_fill 127 = .ok (.sipush 256, 3) := by decide +kernel
theorem d_T_fill_130 : decode b_T_fill 130 = .ok (.irem, 1) := by decide +kernel
theorem d_T_fill_131 : decode b_T_fill 131 = .ok (.istore 9, 2) := by decide +kernel
theorem d_T_fill_133 : decode b_T_fill 133 = .ok (.goto 41, 3) := by decide +kernel
theorem d_T_fill_136 : decode b_T_fill 136 = .ok (.iload_n 3, 1) := by decide +kernel
theorem d_T_fill_137 : decode b_T_fill 137 = .ok (.ifCond .ne 12, 3) := by decide +kernel
theorem d_T_fill_140 : decode b_T_fill 140 = .ok (.iload 8, 2) := by decide +kernel
theorem d_T_fill_142 : decode b_T_fill 142 = .ok (.sipush 256, 3) := by decide +kernel
theorem d_T_fill_145 : decode b_T_fill 145 = .ok (.irem, 1) := by decide +kernel
theorem d_T_fill_146 : decode b_T_fill 146 = .ok (.goto 26, 3) := by decide +kernel
theorem d_T_fill_149 : decode b_T_fill 149 = .ok (.iload_n 3, 1) := by decide +kernel
theorem d_T_fill_150 : decode b_T_fill 150 = .ok (.iconst 1, 1) := by decide +kernel
theorem d_T_fill_151 : decode b_T_fill 151 = .ok (.if_icmp .ne 10, 3) := by decide +kernel
theorem d_T_fill_154 : decode b_T_fill 154 = .ok (.iload 8, 2) := by decide +kernel
theorem d_T_fill_156 : decode b_T_fill 156 = .ok (.iconst 4, 1) := by decide +kernel
theorem d_T_fill_157 : decode b_T_fill 157 = .ok (.irem, 1) := by decide +kernel
theorem d_T_fill_158 : decode b_T_fill 158 = .ok (.goto 14, 3) := by decide +kernel
theorem d_T_fill_161 : decode b_T_fill 161 = .ok (.iload 5, 2) := by decide +kernel
theorem d_T_fill_163 : decode b_T_fill 163 = .ok (.iload 8, 2) := by decide +kernel
theorem d_T_fill_165 : decode b_T_fill 165 = .ok (.iconst 4, 1) := by decide +kernel
theorem d_T_fill_166 : decode b_T_fill 166 = .ok (.irem, 1) := by decide +kernel
theorem d_T_fill_167 : decode b_T_fill 167 = .ok (.iadd, 1) := by decide +kernel
theorem d_T_fill_168 : decode b_T_fill 168 = .ok (.sipush 256, 3) := by decide +kernel
theorem d_T_fill_171 : decode b_T_fill 171 = .ok (.irem, 1) := by decide +kernel
theorem d_T_fill_172 : decode b_T_fill 172 = .ok (.istore 9, 2) := by decide +kernel
theorem d_T_fill_174 : decode b_T_fill 174 = .ok (.aload_n 0, 1) := by decide +kernel
theorem d_T_fill_175 : decode b_T_fill 175 = .ok (.getfield 7, 3) := by decide +kernel
theorem d_T_fill_178 : decode b_T_fill 178 = .ok (.aload_n 0, 1) := by decide +kernel
theorem d_T_fill_179 : decode b_T_fill 179 = .ok (.getfield 85, 3) := by decide +kernel
theorem d_T_fill_182 : decode b_T_fill 182 = .ok (.iload 9, 2) := by decide +kernel
theorem d_T_fill_184 : decode b_T_fill 184 = .ok (.iastore, 1) := by decide +kernel
theorem d_T_fill_185 : decode b_T_fill 185 = .ok (.aload_n 0, 1) := by decide +kernel
theorem d_T_fill_186 : decode b_T_fill 186 = .ok (.dup, 1) := by decide +kernel
theorem d_T_fill_187 : decode b_T_fill 187 = .ok (.getfield 85, 3) := by decide +kernel
theorem d_T_fill_190 : decode b_T_fill 190 = .ok (.iconst 1, 1) := by decide +kernel
theorem d_T_fill_191 : decode b_T_fill 191 = .ok (.iadd, 1) := by decide +kernel
theorem d_T_fill_192 : decode b_T_fill 192 = .ok (.putfield 85, 3) := by decide +kernel
theorem d_T_fill_195 : decode b_T_fill 195 = .ok (.iload 9, 2) := by decide +kernel
theorem d_T_fill_197 : decode b_T_fill 197 = .ok (.istore 5, 2) := by decide +kernel
theorem d_T_fill_199 : decode b_T_fill 199 = .ok (.iinc 7 1, 3) := by decide +kernel
theorem d_T_fill_202 : decode b_T_fill 202 = .ok (.goto (-143), 3) := by decide +kernel
theorem d_T_fill_205 : decode b_T_fill 205 = .ok (.aload_n 0, 1) := by decide +kernel
theorem d_T_fill_206 : decode b_T_fill 206 = .ok (.getfield 85, 3) := by decide +kernel
theorem d_T_fill_209 : decode b_T_fill 209 = .ok (.ireturn, 1) := by decide +kernel
theorem d_T_size_0 : decode b_T_size 0 = .ok (.aload_n 0, 1) := by decide +kernel
theorem d_T_size_1 : decode b_T_size 1 = .ok (.iconst 0, 1) := by decide +kernel
theorem d_T_size_2 : decode b_T_size 2 = .ok (.putfield 82, 3) := by decide +kernel
theorem d_T_size_5 : decode b_T_size 5 = .ok (.iload_n 1, 1) := by decide +kernel
theorem d_T_size_6 : decode b_T_size 6 = .ok (.ifCond .ne 10, 3) := by decide +kernel
theorem d_T_size_9 : decode b_T_size 9 = .ok (.aload_n 0, 1) := by decide +kernel
theorem d_T_size_10 : decode b_T_size 10 = .ok (.getfield 85, 3) := by decide +kernel
theorem d_T_size_13 : decode b_T_size 13 = .ok (.goto 28, 3) := by decide +kernel
theorem d_T_size_16 : decode b_T_size 16 = .ok (.iload_n 1, 1) := by decide +kernel
theorem d_T_size_17 : decode b_T_size 17 = .ok (.iconst 1, 1) := by decide +kernel
theorem d_T_size_18 : decode b_T_size 18 = .ok (.if_icmp .ne 10, 3) := by decide +kernel
theorem d_T_size_21 : decode b_T_size 21 = .ok (.aload_n 0, 1) := by decide +kernel
theorem d_T_size_22 : decode b_T_size 22 = .ok (.getfield 93, 3) := by decide +kernel
theorem d_T_size_25 : decode b_T_size 25 = .ok (.goto 16, 3) := by decide +kernel
theorem d_T_size_28 : decode b_T_size 28 = .ok (.iload_n 1, 1) := by decide +kernel
theorem d_T_size_29 : decode b_T_size 29 = .ok (.iconst 2, 1) := by decide +kernel
theorem d_T_size_30 : decode b_T_size 30 = .ok (.if_icmp .ne 10, 3) := by decide +kernel
theorem d_T_size_33 : decode b_T_size 33 = .ok (.aload_n 0, 1) := by decide +kernel
theorem d_T_size_34 : decode b_T_size 34 = .ok (.getfield 96, 3) := by decide +kernel
theorem d_T_size_37 : decode b_T_size 37 = .ok (.goto 4, 3) := by decide +kernel
theorem d_T_size_40 : decode b_T_size 40 = .ok (.iconst (-1), 1) := by decide +kernel
theorem d_T_size_41 : decode b_T_size 41 = .ok (.ireturn, 1) := by decide +kernel
theorem d_T_octet_0 : decode b_T_octet 0 = .ok (.aload_n 0, 1) := by decide +kernel
theorem d_T_octet_1 : decode b_T_octet 1 = .ok (.iconst 0, 1) := by decide +kernel
theorem d_T_octet_2 : decode b_T_octet 2 = .ok (.putfield 82, 3) := by decide +kernel
theorem d_T_octet_5 : decode b_T_octet 5 = .ok (.iload_n 1, 1) := by decide +kernel
theorem d_T_octet_6 : decode b_T_octet 6 = .ok (.ifCond .ne 24, 3) := by decide +kernel
theorem d_T_octet_9 : decode b_T_octet 9 = .ok (.iload_n 2, 1) := by decide +kernel
theorem d_T_octet_10 : decode b_T_octet 10 = .ok (.iconst 0, 1) := by decide +kernel
theorem d_T_octet_11 : decode b_T_octet 11 = .ok (.aload_n 0, 1) := by decide +kernel
theorem d_T_octet_12 : decode b_T_octet 12 = .ok (.getfield 85, 3) := by decide +kernel
theorem d_T_octet_15 : decode b_T_octet 15 = .ok (.iconst 1, 1) := by decide +kernel
theorem d_T_octet_16 : decode b_T_octet 16 = .ok (.isub, 1) := by decide +kernel
theorem d_T_octet_17 : decode b_T_octet 17 = .ok (.invokestatic 88, 3) := by decide +kernel
theorem d_T_octet_20 : decode b_T_octet 20 = .ok (.ifCond .eq 10, 3) := by decide +kernel
theorem d_T_octet_23 : decode b_T_octet 23 = .ok (.aload_n 0, 1) := by decide +kernel
theorem d_T_octet_24 : decode b_T_octet 24 = .ok (.getfield 7, 3) := by decide +kernel
theorem d_T_octet_27 : decode b_T_octet 27 = .ok (.iload_n 2, 1) := by decide +kernel
theorem d_T_octet_28 : decode b_T_octet 28 = .ok (.iaload, 1) := by decide +kernel
theorem d_T_octet_29 : decode b_T_octet 29 = .ok (.ireturn, 1) := by decide +kernel
theorem d_T_octet_30 : decode b_T_octet 30 = .ok (.iload_n 1, 1) := by decide +kernel
theorem d_T_octet_31 : decode b_T_octet 31 = .ok (.iconst 1, 1) := by decide +kernel
theorem d_T_octet_32 : decode b_T_octet 32 = .ok (.if_icmp .ne 24, 3) := by decide +kernel
theorem d_T_octet_35 : decode b_T_octet 35 = .ok (.iload_n 2, 1) := by decide +kernel
theorem d_T_octet_36 : decode b_T_octet 36 = .ok (.iconst 0, 1) := by decide +kernel
theorem d_T_octet_37 : decode b_T_octet 37 = .ok (.aload_n 0, 1) := by decide +kernel
theorem d_T_octet_38 : decode b_T_octet 38 = .ok (.getfield 93, 3) := by decide +kernel
theorem d_T_octet_41 : decode b_T_octet 41 = .ok (.iconst 1, 1) := by decide +kernel
theorem d_T_octet_42 : decode b_T_octet 42 = .ok (.isub, 1) := by decide +kernel
theorem d_T_octet_43 : decode b_T_octet 43 = .ok (.invokestatic 88, 3) := by decide +kernel
theorem d_T_octet_46 : decode b_T_octet 46 = .ok (.ifCond .eq 10, 3) := by decide +kernel
theorem d_T_octet_49 : decode b_T_octet 49 = .ok (.aload_n 0, 1) := by decide +kernel
theorem d_T_octet_50 : decode b_T_octet 50 = .ok (.getfield 13, 3) := by decide +kernel
theorem d_T_octet_53 : decode b_T_octet 53 = .ok (.iload_n 2, 1) := by decide +kernel
theorem d_T_octet_54 : decode b_T_octet 54 = .ok (.iaload, 1) := by decide +kernel
theorem d_T_octet_55 : decode b_T_octet 55 = .ok (.ireturn, 1) := by decide +kernel
theorem d_T_octet_56 : decode b_T_octet 56 = .ok (.iload_n 1, 1) := by decide +kernel
theorem d_T_octet_57 : decode b_T_octet 57 = .ok (.iconst 2, 1) := by decide +kernel
theorem d_T_octet_58 : decode b_T_octet 58 = .ok (.if_icmp .ne 26, 3) := by decide +kernel
theorem d_T_octet_61 : decode b_T_octet 61 = .ok (.iload_n 2, 1) := by decide +kernel
theorem d_T_octet_62 : decode b_T_octet 62 = .ok (.iconst 0, 1) := by decide +kernel
theorem d_T_octet_63 : decode b_T_octet 63 = .ok (.aload_n 0, 1) := by decide +kernel
theorem d_T_octet_64 : decode b_T_octet 64 = .ok (.getfield 96, 3) := by decide +kernel
theorem d_T_octet_67 : decode b_T_octet 67 = .ok (.iconst 1, 1) := by decide +kernel
theorem d_T_octet_68 : decode b_T_octet 68 = .ok (.isub, 1) := by decide +kernel
theorem d_T_octet_69 : decode b_T_octet 69 = .ok (.invokestatic 88, 3) := by decide +kernel
theorem d_T_octet_72 : decode b_T_octet 72 = .ok (.ifCond .eq 12, 3) := by decide +kernel
theorem d_T_octet_75 : decode b_T_octet 75 = .ok (.aload_n 0, 1) := by decide +kernel
theorem d_T_octet_76 : decode b_T_octet 76 = .ok (.getfield 16, 3) := by decide +kernel
theorem d_T_octet_79 : decode b_T_octet 79 = .ok (.iload_n 2, 1) := by decide +kernel
theorem d_T_octet_80 : decode b_T_octet 80 = .ok (.iaload, 1) := by decide +kernel
theorem d_T_octet_81 : decode b_T_octet 81 = .ok (.goto 4, 3) := by decide +kernel
theorem d_T_octet_84 : decode b_T_octet 84 = .ok (.iconst (-1), 1) := by decide +kernel
theorem d_T_octet_85 : decode b_T_octet 85 = .ok (.ireturn, 1) := by decide +kernel
theorem d_T_alter_0 : decode b_T_alter 0 = .ok (.aload_n 0, 1) := by decide +kernel
theorem d_T_alter_1 : decode b_T_alter 1 = .ok (.iconst 0, 1) := by decide +kernel
theorem d_T_alter_2 : decode b_T_alter 2 = .ok (.putfield 82, 3) := by decide +kernel
theorem d_T_alter_5 : decode b_T_alter 5 = .ok (.iload_n 1, 1) := by decide +kernel
theorem d_T_alter_6 : decode b_T_alter 6 = .ok (.iconst 0, 1) := by decide +kernel
theorem d_T_alter_7 : decode b_T_alter 7 = .ok (.aload_n 0, 1) := by decide +kernel
theorem d_T_alter_8 : decode b_T_alter 8 = .ok (.getfield 93, 3) := by decide +kernel
theorem d_T_alter_11 : decode b_T_alter 11 = .ok (.iconst 1, 1) := by decide +kernel
theorem d_T_alter_12 : decode b_T_alter 12 = .ok (.isub, 1) := by decide +kernel
theorem d_T_alter_13 : decode b_T_alter 13 = .ok (.invokestatic 88, 3) := by decide +kernel
theorem d_T_alter_16 : decode b_T_alter 16 = .ok (.ifCond .eq 14, 3) := by decide +kernel
theorem d_T_alter_19 : decode b_T_alter 19 = .ok (.iload_n 2, 1) := by decide +kernel
theorem d_T_alter_20 : decode b_T_alter 20 = .ok (.iconst 0, 1) := by decide +kernel
theorem d_T_alter_21 : decode b_T_alter 21 = .ok (.sipush 255, 3) := by decide +kernel
theorem d_T_alter_24 : decode b_T_alter 24 = .ok (.invokestatic 88, 3) := by decide +kernel
theorem d_T_alter_27 : decode b_T_alter 27 = .ok (.ifCond .ne 5, 3) := by decide +kernel
theorem d_T_alter_30 : decode b_T_alter 30 = .ok (.iconst (-1), 1) := by decide +kernel
theorem d_T_alter_31 : decode b_T_alter 31 = .ok (.ireturn, 1) := by decide +kernel
theorem d_T_alter_32 : decode b_T_alter 32 = .ok (.aload_n 0, 1) := by decide +kernel
theorem d_T_alter_33 : decode b_T_alter 33 = .ok (.getfield 13, 3) := by decide +kernel
theorem d_T_alter_36 : decode b_T_alter 36 = .ok (.iload_n 1, 1) := by decide +kernel
theorem d_T_alter_37 : decode b_T_alter 37 = .ok (.iaload, 1) := by decide +kernel
theorem d_T_alter_38 : decode b_T_alter 38 = .ok (.istore_n 3, 1) := by decide +kernel
theorem d_T_alter_39 : decode b_T_alter 39 = .ok (.aload_n 0, 1) := by decide +kernel
theorem d_T_alter_40 : decode b_T_alter 40 = .ok (.getfield 13, 3) := by decide +kernel
theorem d_T_alter_43 : decode b_T_alter 43 = .ok (.iload_n 1, 1) := by decide +kernel
theorem d_T_alter_44 : decode b_T_alter 44 = .ok (.iload_n 2, 1) := by decide +kernel
theorem d_T_alter_45 : decode b_T_alter 45 = .ok (.iastore, 1) := by decide +kernel
theorem d_T_alter_46 : decode b_T_alter 46 = .ok (.iload_n 3, 1) := by decide +kernel
theorem d_T_alter_47 : decode b_T_alter 47 = .ok (.ireturn, 1) := by decide +kernel
theorem d_T_cut_0 : decode b_T_cut 0 = .ok (.aload_n 0, 1) := by decide +kernel
theorem d_T_cut_1 : decode b_T_cut 1 = .ok (.iconst 0, 1) := by decide +kernel
theorem d_T_cut_2 : decode b_T_cut 2 = .ok (.putfield 82, 3) := by decide +kernel
theorem d_T_cut_5 : decode b_T_cut 5 = .ok (.iload_n 1, 1) := by decide +kernel
theorem d_T_cut_6 : decode b_T_cut 6 = .ok (.iconst 0, 1) := by decide +kernel
theorem d_T_cut_7 : decode b_T_cut 7 = .ok (.aload_n 0, 1) := by decide +kernel
theorem d_T_cut_8 : decode b_T_cut 8 = .ok (.getfield 93, 3) := by decide +kernel
theorem d_T_cut_11 : decode b_T_cut 11 = .ok (.invokestatic 88, 3) := by decide +kernel
theorem d_T_cut_14 : decode b_T_cut 14 = .ok (.ifCond .ne 5, 3) := by decide +kernel
theorem d_T_cut_17 : decode b_T_cut 17 = .ok (.iconst (-1), 1) := by decide +kernel
theorem d_T_cut_18 : decode b_T_cut 18 = .ok (.ireturn, 1) := by decide +kernel
theorem d_T_cut_19 : decode b_T_cut 19 = .ok (.aload_n 0, 1) := by decide +kernel
theorem d_T_cut_20 : decode b_T_cut 20 = .ok (.getfield 93, 3) := by decide +kernel
theorem d_T_cut_23 : decode b_T_cut 23 = .ok (.iload_n 1, 1) := by decide +kernel
theorem d_T_cut_24 : decode b_T_cut 24 = .ok (.isub, 1) := by decide +kernel
theorem d_T_cut_25 : decode b_T_cut 25 = .ok (.istore_n 2, 1) := by decide +kernel
theorem d_T_cut_26 : decode b_T_cut 26 = .ok (.aload_n 0, 1) := by decide +kernel
theorem d_T_cut_27 : decode b_T_cut 27 = .ok (.iload_n 1, 1) := by decide +kernel
theorem d_T_cut_28 : decode b_T_cut 28 = .ok (.putfield 93, 3) := by decide +kernel
theorem d_T_cut_31 : decode b_T_cut 31 = .ok (.iload_n 2, 1) := by decide +kernel
theorem d_T_cut_32 : decode b_T_cut 32 = .ok (.ireturn, 1) := by decide +kernel
theorem d_T_pack_0 : decode b_T_pack 0 = .ok (.aload_n 0, 1) := by decide +kernel
theorem d_T_pack_1 : decode b_T_pack 1 = .ok (.iconst 0, 1) := by decide +kernel
theorem d_T_pack_2 : decode b_T_pack 2 = .ok (.putfield 82, 3) := by decide +kernel
theorem d_T_pack_5 : decode b_T_pack 5 = .ok (.aload_n 0, 1) := by decide +kernel
theorem d_T_pack_6 : decode b_T_pack 6 = .ok (.iconst 0, 1) := by decide +kernel
theorem d_T_pack_7 : decode b_T_pack 7 = .ok (.aload_n 0, 1) := by decide +kernel
theorem d_T_pack_8 : decode b_T_pack 8 = .ok (.getfield 7, 3) := by decide +kernel
theorem d_T_pack_11 : decode b_T_pack 11 = .ok (.aload_n 0, 1) := by decide +kernel
theorem d_T_pack_12 : decode b_T_pack 12 = .ok (.getfield 85, 3) := by decide +kernel
theorem d_T_pack_15 : decode b_T_pack 15 = .ok (.invokevirtual 190, 3) := by decide +kernel
theorem d_T_pack_18 : decode b_T_pack 18 = .ok (.aload_n 0, 1) := by decide +kernel
theorem d_T_pack_19 : decode b_T_pack 19 = .ok (.iconst 1, 1) := by decide +kernel
theorem d_T_pack_20 : decode b_T_pack 20 = .ok (.putfield 194, 3) := by decide +kernel
theorem d_T_pack_23 : decode b_T_pack 23 = .ok (.aload_n 0, 1) := by decide +kernel
theorem d_T_pack_24 : decode b_T_pack 24 = .ok (.getfield 56, 3) := by decide +kernel
theorem d_T_pack_27 : decode b_T_pack 27 = .ok (.iconst 0, 1) := by decide +kernel
theorem d_T_pack_28 : decode b_T_pack 28 = .ok (.aload_n 0, 1) := by decide +kernel
theorem d_T_pack_29 : decode b_T_pack 29 = .ok (.getfield 137, 3) := by decide +kernel
theorem d_T_pack_32 : decode b_T_pack 32 = .ok (.iastore, 1) := by decide +kernel
theorem d_T_pack_33 : decode b_T_pack 33 = .ok (.aload_n 0, 1) := by decide +kernel
theorem d_T_pack_34 : decode b_T_pack 34 = .ok (.getfield 56, 3) := by decide +kernel
theorem d_T_pack_37 : decode b_T_pack 37 = .ok (.iconst 1, 1) := by decide +kernel
theorem d_T_pack_38 : decode b_T_pack 38 = .ok (.aload_n 0, 1) := by decide +kernel
theorem d_T_pack_39 : decode b_T_pack 39 = .ok (.getfield 161, 3) := by decide +kernel
theorem d_T_pack_42 : decode b_T_pack 42 = .ok (.iastore, 1) := by decide +kernel
theorem d_T_pack_43 : decode b_T_pack 43 = .ok (.aload_n 0, 1) := by decide +kernel
theorem d_T_pack_44 : decode b_T_pack 44 = .ok (.getfield 56, 3) := by decide +kernel
theorem d_T_pack_47 : decode b_T_pack 47 = .ok (.iconst 2, 1) := by decide +kernel
theorem d_T_pack_48 : decode b_T_pack 48 = .ok (.aload_n 0, 1) := by decide +kernel
theorem d_T_pack_49 : decode b_T_pack 49 = .ok (.getfield 164, 3) := by decide +kernel
theorem d_T_pack_52 : decode b_T_pack 52 = .ok (.iastore, 1) := by decide +kernel
theorem d_T_pack_53 : decode b_T_pack 53 = .ok (.aload_n 0, 1) := by decide +kernel
theorem d_T_pack_54 : decode b_T_pack 54 = .ok (.getfield 37, 3) := by decide +kernel
theorem d_T_pack_57 : decode b_T_pack 57 = .ok (.iconst 0, 1) := by decide +kernel
theorem d_T_pack_58 : decode b_T_pack 58 = .ok (.dup2, 1) := by decide +kernel
theorem d_T_pack_59 : decode b_T_pack 59 = .ok (.iaload, 1) := by decide +kernel
theorem d_T_pack_60 : decode b_T_pack 60 = .ok (.aload_n 0, 1) := by decide +kernel
theorem d_T_pack_61 : decode b_T_pack 61 = .ok (.getfield 164, 3) := by decide +kernel
theorem d_T_pack_64 : decode b_T_pack 64 = .ok (.iadd, 1) := by decide +kernel
theorem d_T_pack_65 : decode b_T_pack 65 = .ok (.iastore, 1) := by decide +kernel
theorem d_T_pack_66 : decode b_T_pack 66 = .ok (.aload_n 0, 1) := by decide +kernel
theorem d_T_pack_67 : decode b_T_pack 67 = .ok (.aload_n 0, 1) := by decide +kernel
theorem d_T_pack_68 : decode b_T_pack 68 = .ok (.getfield 85, 3) := by decide +kernel
theorem d_T_pack_71 : decode b_T_pack 71 = .ok (.iconst 1, 1) := by decide +kernel
theorem d_T_pack_72 : decode b_T_pack 72 = .ok (.iadd, 1) := by decide +kernel
theorem d_T_pack_73 : decode b_T_pack 73 = .ok (.putfield 197, 3) := by decide +kernel
theorem d_T_pack_76 : decode b_T_pack 76 = .ok (.iconst 0, 1) := by decide +kernel
theorem d_T_pack_77 : decode b_T_pack 77 = .ok (.istore_n 1, 1) := by decide +kernel
theorem d_T_pack_78 : decode b_T_pack 78 = .ok (.iload_n 1, 1) := by decide +kernel
theorem d_T_pack_79 : decode b_T_pack 79 = .ok (.aload_n 0, 1) := by decide +kernel
theorem d_T_pack_80 : decode b_T_pack 80 = .ok (.getfield 197, 3) := by decide +kernel
theorem d_T_pack_83 : decode b_T_pack 83 = .ok (.if_icmp .ge 33, 3) := by decide +kernel
theorem d_T_pack_86 : decode b_T_pack 86 = .ok (.aload_n 0, 1) := by decide +kernel
theorem d_T_pack_87 : decode b_T_pack 87 = .ok (.getfield 59, 3) := by decide +kernel
theorem d_T_pack_90 : decode b_T_pack 90 = .ok (.iload_n 1, 1) := by decide +kernel
theorem d_T_pack_91 : decode b_T_pack 91 = .ok (.aload_n 0, 1) := by decide +kernel
theorem d_T_pack_92 : decode b_T_pack 92 = .ok (.getfield 50, 3) := by decide +kernel
theorem d_T_pack_95 : decode b_T_pack 95 = .ok (.iload_n 1, 1) := by decide +kernel
theorem d_T_pack_96 : decode b_T_pack 96 = .ok (.iaload, 1) := by decide +kernel
theorem d_T_pack_97 : decode b_T_pack 97 = .ok (.iastore, 1) := by decide +kernel
theorem d_T_pack_98 : decode b_T_pack 98 = .ok (.aload_n 0, 1) := by decide +kernel
theorem d_T_pack_99 : decode b_T_pack 99 = .ok (.getfield 62, 3) := by decide +kernel
theorem d_T_pack_102 : decode b_T_pack 102 = .ok (.iload_n 1, 1) := by decide +kernel
theorem d_T_pack_103 : decode b_T_pack 103 = .ok (.aload_n 0, 1) := by decide +kernel
theorem d_T_pack_104 : decode b_T_pack 104 = .ok (.getfield 53, 3) := by decide +kernel
theorem d_T_pack_107 : decode b_T_pack 107 = .ok (.iload_n 1, 1) := by decide +kernel
theorem d_T_pack_108 : decode b_T_pack 108 = .ok (.iaload, 1) := by decide +kernel
theorem d_T_pack_109 : decode b_T_pack 109 = .ok (.iastore, 1) := by decide +kernel
theorem d_T_pack_110 : decode b_T_pack 110 = .ok (.iinc 1 1, 3) := by decide +kernel
theorem d_T_pack_113 : decode b_T_pack 113 = .ok (.goto (-35), 3) := by decide +kernel
theorem d_T_pack_116 : decode b_T_pack 116 = .ok (.aload_n 0, 1) := by decide +kernel
theorem d_T_pack_117 : decode b_T_pack 117 = .ok (.aload_n 0, 1) := by decide +kernel
theorem d_T_pack_118 : decode b_T_pack 118 = .ok (.getfield 137, 3) := by decide +kernel
theorem d_T_pack_121 : decode b_T_pack 121 = .ok (.bipush 7, 2) := by decide +kernel
theorem d_T_pack_123 : decode b_T_pack 123 = .ok (.iadd, 1) := by decide +kernel
theorem d_T_pack_124 : decode b_T_pack 124 = .ok (.bipush 8, 2) := by decide +kernel
theorem d_T_pack_126 : decode b_T_pack 126 = .ok (.idiv, 1) := by decide +kernel
theorem d_T_pack_127 : decode b_T_pack 127 = .ok (.putfield 93, 3) := by decide +kernel
theorem d_T_pack_130 : decode b_T_pack 130 = .ok (.iconst 0, 1) := by decide +kernel
theorem d_T_pack_131 : decode b_T_pack 131 = .ok (.istore_n 1, 1) := by decide +kernel
theorem d_T_pack_132 : decode b_T_pack 132 = .ok (.iload_n 1, 1) := by decide +kernel
theorem d_T_pack_133 : decode b_T_pack 133 = .ok (.aload_n 0, 1) := by decide +kernel
theorem d_T_pack_134 : decode b_T_pack 134 = .ok (.getfield 93, 3) := by decide +kernel
theorem d_T_pack_137 : decode b_T_pack 137 = .ok (.if_icmp .ge 21, 3) := by decide +kernel
theorem d_T_pack_140 : decode b_T_pack 140 = .ok (.aload_n 0, 1) := by decide +kernel
theorem d_T_pack_141 : decode b_T_pack 141 = .ok (.getfield 13, 3) := by decide +kernel
theorem d_T_pack_144 : decode b_T_pack 144 = .ok (.iload_n 1, 1) := by decide +kernel
theorem d_T_pack_145 : decode b_T_pack 145 = .ok (.aload_n 0, 1) := by decide +kernel
theorem d_T_pack_146 : decode b_T_pack 146 = .ok (.getfield 47, 3) := by decide +kernel
theorem d_T_pack_149 : decode b_T_pack 149 = .ok (.iload_n 1, 1) := by decide +kernel
theorem d_T_pack_150 : decode b_T_pack 150 = .ok (.iaload, 1) := by decide +kernel
theorem d_T_pack_151 : decode b_T_pack 151 = .ok (.iastore, 1) := by decide +kernel
theorem d_T_pack_152 : decode b_T_pack 152 = .ok (.iinc 1 1, 3) := by decide +kernel
theorem d_T_pack_155 : decode b_T_pack 155 = .ok (.goto (-23), 3) := by decide +kernel
theorem d_T_pack_158 : decode b_T_pack 158 = .ok (.aload_n 0, 1) := by decide +kernel
theorem d_T_pack_159 : decode b_T_pack 159 = .ok (.getfield 93, 3) := by decide +kernel
theorem d_T_pack_162 : decode b_T_pack 162 = .ok (.ireturn, 1) := by decide +kernel
theorem d_T_writeAll_0 : decode b_T_writeAll 0 = .ok (.aload_n 0, 1) := by decide +kernel
theorem d_T_writeAll_1 : decode b_T_writeAll 1 = .ok (.iconst 0, 1) := by decide +kernel
theorem d_T_writeAll_2 : decode b_T_writeAll 2 = .ok (.putfield 149, 3) := by decide +kernel
theorem d_T_writeAll_5 : decode b_T_writeAll 5 = .ok (.aload_n 0, 1) := by decide +kernel
theorem d_T_writeAll_6 : decode b_T_writeAll 6 = .ok (.ldc 160, 2) := by decide +kernel
theorem d_T_writeAll_8 : decode b_T_writeAll 8 = .ok (.putfield 146, 3) := by decide +kernel
theorem d_T_writeAll_11 : decode b_T_writeAll 11 = .ok (.aload_n 0, 1) := by decide +kernel
theorem d_T_writeAll_12 : decode b_T_writeAll 12 = .ok (.iconst 0, 1) := by decide +kernel
theorem d_T_writeAll_13 : decode b_T_writeAll 13 = .ok (.putfield 143, 3) := by decide +kernel
theorem d_T_writeAll_16 : decode b_T_writeAll 16 = .ok (.aload_n 0, 1) := by decide +kernel
theorem d_T_writeAll_17 : decode b_T_writeAll 17 = .ok (.iconst 0, 1) := by decide +kernel
theorem d_T_writeAll_18 : decode b_T_writeAll 18 = .ok (.putfield 137, 3) := by decide +kernel
theorem d_T_writeAll_21 : decode b_T_writeAll 21 = .ok (.aload_n 0, 1) := by decide +kernel
theorem d_T_writeAll_22 : decode b_T_writeAll 22 = .ok (.iconst 0, 1) := by decide +kernel
theorem d_T_writeAll_23 : decode b_T_writeAll 23 = .ok (.putfield 161, 3) := by decide +kernel
theorem d_T_writeAll_26 : decode b_T_writeAll 26 = .ok (.aload_n 0, 1) := by decide +kernel
theorem d_T_writeAll_27 : decode b_T_writeAll 27 = .ok (.iconst 0, 1) := by decide +kernel
theorem d_T_writeAll_28 : decode b_T_writeAll 28 = .ok (.putfield 164, 3) := by decide +kernel
theorem d_T_writeAll_31 : decode b_T_writeAll 31 = .ok (.iconst 0, 1) := by decide +kernel
theorem d_T_writeAll_32 : decode b_T_writeAll 32 = .ok (.istore 4, 2) := by decide +kernel
theorem d_T_writeAll_34 : decode b_T_writeAll 34 = .ok (.iload 4, 2) := by decide +kernel
theorem d_T_writeAll_36 : decode b_T_writeAll 36 = .ok (.iload_n 3, 1) := by decide +kernel
theorem d_T_writeAll_37 : decode b_T_writeAll 37 = .ok (.if_icmp .gt 187, 3) := by decide +kernel
theorem d_T_writeAll_40 : decode b_T_writeAll 40 = .ok (.iload 4, 2) := by decide +kernel
theorem d_T_writeAll_42 : decode b_T_writeAll 42 = .ok (.iload_n 3, 1) := by decide +kernel
theorem d_T_writeAll_43 : decode b_T_writeAll 43 = .ok (.if_icmp .ge 10, 3) := by decide +kernel
theorem d_T_writeAll_46 : decode b_T_writeAll 46 = .ok (.aload_n 2, 1) := by decide +kernel
theorem d_T_writeAll_47 : decode b_T_writeAll 47 = .ok (.iload 4, 2) := by decide +kernel
theorem d_T_writeAll_49 : decode b_T_writeAll 49 = .ok (.iaload, 1) := by decide +kernel
theorem d_T_writeAll_50 : decode b_T_writeAll 50 = .ok (.goto 6, 3) := by decide +kernel
theorem d_T_writeAll_53 : decode b_T_writeAll 53 = .ok (.sipush 256, 3) := by decide +kernel
theorem d_T_writeAll_56 : decode b_T_writeAll 56 = .ok (.istore 5, 2) := by decide +kernel
theorem d_T_writeAll_58 : decode b_T_writeAll 58 = .ok (.bipush (-3), 2) := by decide +kernel
theorem d_T_writeAll_60 : decode b_T_writeAll 60 = .ok (.istore 6, 2) := by decide +kernel
theorem d_T_writeAll_62 : decode b_T_writeAll 62 = .ok (.aload_n 0, 1) := by decide +kernel
theorem d_T_writeAll_63 : decode b_T_writeAll 63 = .ok (.invokevirtual 167, 3) := by decide +kernel
theorem d_T_writeAll_66 : decode b_T_writeAll 66 = .ok (.aload_n 0, 1) := by decide +kernel
theorem d_T_writeAll_67 : decode b_T_writeAll 67 = .ok (.getfield 31, 3) := by decide +kernel
theorem d_T_writeAll_70 : decode b_T_writeAll 70 = .ok (.iload_n 1, 1) := by decide +kernel
theorem d_T_writeAll_71 : decode b_T_writeAll 71 = .ok (.iaload, 1) := by decide +kernel
theorem d_T_writeAll_72 : decode b_T_writeAll 72 = .ok (.istore 7, 2) := by decide +kernel
theorem d_T_writeAll_74 : decode b_T_writeAll 74 = .ok (.iload 7, 2) := by decide +kernel
theorem d_T_writeAll_76 : decode b_T_writeAll 76 = .ok (.ifCond .lt 62, 3) := by decide +kernel
theorem d_T_writeAll_79 : decode b_T_writeAll 79 = .ok (.iload 6, 2) := by decide +kernel
theorem d_T_writeAll_81 : decode b_T_writeAll 81 = .ok (.ifCond .ge 57, 3) := by decide +kernel
theorem d_T_writeAll_84 : decode b_T_writeAll 84 = .ok (.aload_n 0, 1) := by decide +kernel
theorem d_T_writeAll_85 : decode b_T_writeAll 85 = .ok (.iload_n 1, 1) := by decide +kernel
theorem d_T_writeAll_86 : decode b_T_writeAll 86 = .ok (.iload 7, 2) := by decide +kernel
theorem d_T_writeAll_88 : decode b_T_writeAll 88 = .ok (.invokevirtual 170, 3) := by decide +kernel
theorem d_T_writeAll_91 : decode b_T_writeAll 91 = .ok (.aload_n 0, 1) := by decide +kernel
theorem d_T_writeAll_92 : decode b_T_writeAll 92 = .ok (.getfield 113, 3) := by decide +kernel
theorem d_T_writeAll_95 : decode b_T_writeAll 95 = .ok (.ifCond .le 37, 3) := by decide +kernel
theorem d_T_writeAll_98 : decode b_T_writeAll 98 = .ok (.aload_n 0, 1) := by decide +kernel
theorem d_T_writeAll_99 : decode b_T_writeAll 99 = .ok (.iload 5, 2) := by decide +kernel
theorem d_T_writeAll_101 : decode b_T_writeAll 101 = .ok (.invokevirtual 173, 3) := by decide +kernel
theorem d_T_writeAll_104 : decode b_T_writeAll 104 = .ok (.ifCond .eq 10, 3) := by decide +kernel
theorem d_T_writeAll_107 : decode b_T_writeAll 107 = .ok (.iload 7, 2) := by decide +kernel
theorem d_T_writeAll_109 : decode b_T_writeAll 109 = .ok (.istore 6, 2) := by decide +kernel
theorem d_T_writeAll_111 : decode b_T_writeAll 111 = .ok (.goto 17, 3) := by decide +kernel
theorem d_T_writeAll_114 : decode b_T_writeAll 114 = .ok (.aload_n 0, 1) := by decide +kernel
theorem d_T_writeAll_115 : decode b_T_writeAll 115 = .ok (.dup, 1) := by decide +kernel
theorem d_T_writeAll_116 : decode b_T_writeAll 116 = .ok (.getfield 161, 3) := by decide +kernel
theorem d_T_writeAll_119 : decode b_T_writeAll 119 = .ok (.iconst 1, 1) := by decide +kernel
theorem d_T_writeAll_120 : decode b_T_writeAll 120 = .ok (.iadd, 1) := by decide +kernel
theorem d_T_writeAll_121 : decode b_T_writeAll 121 = .ok (.putfield 161, 3) := by decide +kernel
theorem d_T_writeAll_124 : decode b_T_writeAll 124 = .ok (.aload_n 0, 1) := by decide +kernel
theorem d_T_writeAll_125 : decode b_T_writeAll 125 = .ok (.invokevirtual 177, 3) := by decide +kernel
theorem d_T_writeAll_128 : decode b_T_writeAll 128 = .ok (.aload_n 0, 1) := by decide +kernel
theorem d_T_writeAll_129 : decode b_T_writeAll 129 = .ok (.invokevirtual 180, 3) := by decide +kernel
theorem d_T_writeAll_132 : decode b_T_writeAll 132 = .ok (.iinc 7 (-1), 3) := by decide +kernel
theorem d_T_writeAll_135 : decode b_T_writeAll 135 = .ok (.goto (-61), 3) := by decide +kernel
theorem d_T_writeAll_138 : decode b_T_writeAll 138 = .ok (.aload_n 0, 1) := by decide +kernel
theorem d_T_writeAll_139 : decode b_T_writeAll 139 = .ok (.getfield 50, 3) := by decide +kernel
theorem d_T_writeAll_142 : decode b_T_writeAll 142 = .ok (.iload 4, 2) := by decide +kernel
theorem d_T_writeAll_144 : decode b_T_writeAll 144 = .ok (.aload_n 0, 1) := by decide +kernel
theorem d_T_writeAll_145 : decode b_T_writeAll 145 = .ok (.getfield 103, 3) := by decide +kernel
theorem d_T_writeAll_148 : decode b_T_writeAll 148 = .ok (.iastore, 1) := by decide +kernel
theorem d_T_writeAll_149 : decode b_T_writeAll 149 = .ok (.aload_n 0, 1) := by decide +kernel
theorem d_T_writeAll_150 : decode b_T_writeAll 150 = .ok (.getfield 53, 3) := by decide +kernel
theorem d_T_writeAll_153 : decode b_T_writeAll 153 = .ok (.iload 4, 2) := by decide +kernel
theorem d_T_writeAll_155 : decode b_T_writeAll 155 = .ok (.iload 6, 2) := by decide +kernel
theorem d_T_writeAll_157 : decode b_T_writeAll 157 = .ok (.iastore, 1) := by decide +kernel
theorem d_T_writeAll_158 : decode b_T_writeAll 158 = .ok (.iload 6, 2) := by decide +kernel
theorem d_T_writeAll_160 : decode b_T_writeAll 160 = .ok (.ifCond .ge 13, 3) := by decide +kernel
theorem d_T_writeAll_163 : decode b_T_writeAll 163 = .ok (.aload_n 0, 1) := by decide +kernel
theorem d_T_writeAll_164 : decode b_T_writeAll 164 = .ok (.iload 5, 2) := by decide +kernel
theorem d_T_writeAll_166 : decode b_T_writeAll 166 = .ok (.invokevirtual 183, 3) := by decide +kernel
theorem d_T_writeAll_169 : decode b_T_writeAll 169 = .ok (.aload_n 0, 1) := by decide +kernel
theorem d_T_writeAll_170 : decode b_T_writeAll 170 = .ok (.invokevirtual 180, 3) := by decide +kernel
theorem d_T_writeAll_173 : decode b_T_writeAll 173 = .ok (.iload 4, 2) := by decide +kernel
theorem d_T_writeAll_175 : decode b_T_writeAll 175 = .ok (.iload_n 3, 1) := by decide +kernel
theorem d_T_writeAll_176 : decode b_T_writeAll 176 = .ok (.if_icmp .ge 42, 3) := by decide +kernel
theorem d_T_writeAll_179 : decode b_T_writeAll 179 = .ok (.aload_n 0, 1) := by decide +kernel
theorem d_T_writeAll_180 : decode b_T_writeAll 180 = .ok (.iload_n 1, 1) := by decide +kernel
theorem d_T_writeAll_181 : decode b_T_writeAll 181 = .ok (.iload 5, 2) := by decide +kernel
theorem d_T_writeAll_183 : decode b_T_writeAll 183 = .ok (.iload 6, 2) := by decide +kernel
theorem d_T_writeAll_185 : decode b_T_writeAll 185 = .ok (.ifCond .ge 7, 3) := by decide +kernel
theorem d_T_writeAll_188 : decode b_T_writeAll 188 = .ok (.iconst 0, 1) := by decide +kernel
theorem d_T_writeAll_189 : decode b_T_writeAll 189 = .ok (.goto 5, 3) := by decide +kernel
theorem d_T_writeAll_192 : decode b_T_writeAll 192 = .ok (.iload 6, 2) := by decide +kernel
theorem d_T_writeAll_194 : decode b_T_writeAll 194 = .ok (.invokevirtual 186, 3) := by decide +kernel
theorem d_T_writeAll_197 : decode b_T_writeAll 197 = .ok (.aload_n 0, 1) := by decide +kernel
theorem d_T_writeAll_198 : decode b_T_writeAll 198 = .ok (.dup, 1) := by decide +kernel
theorem d_T_writeAll_199 : decode b_T_writeAll 199 = .ok (.getfield 164, 3) := by decide +kernel
theorem d_T_writeAll_202 : decode b_T_writeAll 202 = .ok (.aload_n 0, 1) := by decide +kernel
theorem d_T_writeAll_203 : decode b_T_writeAll 203 = .ok (.getfield 129, 3) := by decide +kernel
theorem d_T_writeAll_206 : decode b_T_writeAll 206 = .ok (.ifCond .eq 7, 3) := by decide +kernel
theorem d_T_writeAll_209 : decode b_T_writeAll 209 = .ok (.iconst 1, 1) := by decide +kernel
theorem d_T_writeAll_210 : decode b_T_writeAll 210 = .ok (.goto 4, 3) := by decide +kernel
theorem d_T_writeAll_213 : decode b_T_writeAll 213 = .ok (.iconst 0, 1) := by decide +kernel
theorem d_T_writeAll_214 : decode b_T_writeAll 214 = .ok (.iadd, 1) := by decide +kernel
theorem d_T_writeAll_215 : decode b_T_writeAll 215 = .ok (.putfield 164, 3) := by decide +kernel
theorem d_T_writeAll_218 : decode b_T_writeAll 218 = .ok (.iinc 4 1, 3) := by decide +kernel
theorem d_T_writeAll_221 : decode b_T_writeAll 221 = .ok (.goto (-187), 3) := by decide +kernel
theorem d_T_writeAll_224 : decode b_T_writeAll 224 = .ok (.aload_n 0, 1) := by decide +kernel
theorem d_T_writeAll_225 : decode b_T_writeAll 225 = .ok (.dup, 1) := by decide +kernel
theorem d_T_writeAll_226 : decode b_T_writeAll 226 = .ok (.getfield 143, 3) := by decide +kernel
theorem d_T_writeAll_229 : decode b_T_writeAll 229 = .ok (.iconst 1, 1) := by decide +kernel
theorem d_T_writeAll_230 : decode b_T_writeAll 230 = .ok (.iadd, 1) := by decide +kernel
theorem d_T_writeAll_231 : decode b_T_writeAll 231 = .ok (.putfield 143, 3) := by decide +kernel
theorem d_T_writeAll_234 : decode b_T_writeAll 234 = .ok (.aload_n 0, 1) := by decide +kernel
theorem d_T_writeAll_235 : decode b_T_writeAll 235 = .ok (.aload_n 0, 1) := by decide +kernel
theorem d_T_writeAll_236 : decode b_T_writeAll 236 = .ok (.getfield 149, 3) := by decide +kernel
theorem d_T_writeAll_239 : decode b_T_writeAll 239 = .ok (.sipush 16384, 3) := by decide +kernel
theorem d_T_writeAll_242 : decode b_T_writeAll 242 = .ok (.if_icmp .ge 7, 3) := by decide +kernel
theorem d_T_writeAll_245 : decode b_T_writeAll 245 = .ok (.iconst 0, 1) := by decide +kernel
theorem d_T_writeAll_246 : decode b_T_writeAll 246 = .ok (.goto 4, 3) := by decide +kernel
theorem d_T_writeAll_249 : decode b_T_writeAll 249 = .ok (.iconst 1, 1) := by decide +kernel
theorem d_T_writeAll_250 : decode b_T_writeAll 250 = .ok (.invokevirtual 156, 3) := by decide +kernel
theorem d_T_writeAll_253 : decode b_T_writeAll 253 = .ok (.return_, 1) := by decide +kernel
theorem d_T_beginSign_0 : decode b_T_beginSign 0 = .ok (.iconst 0, 1) := by decide +kernel
theorem d_T_beginSign_1 : decode b_T_beginSign 1 = .ok (.istore_n 1, 1) := by decide +kernel
theorem d_T_beginSign_2 : decode b_T_beginSign 2 = .ok (.iload_n 1, 1) := by decide +kernel
theorem d_T_beginSign_3 : decode b_T_beginSign 3 = .ok (.sipush 257, 3) := by decide +kernel
theorem d_T_beginSign_6 : decode b_T_beginSign 6 = .ok (.if_icmp .ge 16, 3) := by decide +kernel
theorem d_T_beginSign_9 : decode b_T_beginSign 9 = .ok (.aload_n 0, 1) := by decide +kernel
theorem d_T_beginSign_10 : decode b_T_beginSign 10 = .ok (.getfield 40, 3) := by decide +kernel
theorem d_T_beginSign_13 : decode b_T_beginSign 13 = .ok (.iload_n 1, 1) := by decide +kernel
theorem d_T_beginSign_14 : decode b_T_beginSign 14 = .ok (.iconst 0, 1) := by decide +kernel
theorem d_T_beginSign_15 : decode b_T_beginSign 15 = .ok (.bastore, 1) := by decide +kernel
theorem d_T_beginSign_16 : decode b_T_beginSign 16 = .ok (.iinc 1 1, 3) := by decide +kernel
theorem d_T_beginSign_19 : decode b_T_beginSign 19 = .ok (.goto (-17), 3) := by decide +kernel
theorem d_T_beginSign_22 : decode b_T_beginSign 22 = .ok (.aload_n 0, 1) := by decide +kernel
theorem d_T_beginSign_23 : decode b_T_beginSign 23 = .ok (.iconst 0, 1) := by decide +kernel
theorem d_T_beginSign_24 : decode b_T_beginSign 24 = .ok (.putfield 103, 3) := by decide +kernel
theorem d_T_beginSign_27 : decode b_T_beginSign 27 = .ok (.return_, 1) := by decide +kernel
theorem d_T_look_0 : decode b_T_look 0 = .ok (.aload_n 0, 1) := by decide +kernel
theorem d_T_look_1 : decode b_T_look 1 = .ok (.iload_n 1, 1) := by decide +kernel
theorem d_T_look_2 : decode b_T_look 2 = .ok (.iload_n 2, 1) := by decide +kernel
theorem d_T_look_3 : decode b_T_look 3 = .ok (.invokevirtual 106, 3) := by decide +kernel
theorem d_T_look_6 : decode b_T_look 6 = .ok (.istore_n 3, 1) := by decide +kernel
theorem d_T_look_7 : decode b_T_look 7 = .ok (.iconst 0, 1) := by decide +kernel
theorem d_T_look_8 : decode b_T_look 8 = .ok (.istore 4, 2) := by decide +kernel
theorem d_T_look_10 : decode b_T_look 10 = .ok (.iload 4, 2) := by decide +kernel
theorem d_T_look_12 : decode b_T_look 12 = .ok (.sipush 256, 3) := by decide +kernel
theorem d_T_look_15 : decode b_T_look 15 = .ok (.if_icmp .ge 17, 3) := by decide +kernel
theorem d_T_look_18 : decode b_T_look 18 = .ok (.aload_n 0, 1) := by decide +kernel
theorem d_T_look_19 : decode b_T_look 19 = .ok (.getfield 44, 3) := by decide +kernel
theorem d_T_look_22 : decode b_T_look 22 = .ok (.iload 4, 2) := by decide +kernel
theorem d_T_look_24 : decode b_T_look 24 = .ok (.iconst 0, 1) := by decide +kernel
theorem d_T_look_25 : decode b_T_look 25 = .ok (.iastore, 1) := by decide +kernel
theorem d_T_look_26 : decode b_T_look 26 = .ok (.iinc 4 1, 3) := by decide +kernel
theorem d_T_look_29 : decode b_T_look 29 = .ok (.goto (-19), 3) := by decide +kernel
theorem d_T_look_32 : decode b_T_look 32 = .ok (.aload_n 0, 1) := by decide +kernel
theorem d_T_look_33 : decode b_T_look 33 = .ok (.iconst 0, 1) := by decide +kernel
theorem d_T_look_34 : decode b_T_look 34 = .ok (.putfield 110, 3) := by decide +kernel
theorem d_T_look_37 : decode b_T_look 37 = .ok (.aload_n 0, 1) := by decide +kernel
theorem d_T_look_38 : decode b_T_look 38 = .ok (.iconst 0, 1) := by decide +kernel
theorem d_T_look_39 : decode b_T_look 39 = .ok (.putfield 113, 3) := by decide +kernel
theorem d_T_look_42 : decode b_T_look 42 = .ok (.iconst 1, 1) := by decide +kernel
theorem d_T_look_43 : decode b_T_look 43 = .ok (.istore 4, 2) := by decide +kernel
theorem d_T_look_45 : decode b_T_look 45 = .ok (.iload 4, 2) := by decide +kernel
theorem d_T_look_47 : decode b_T_look 47 = .ok (.aload_n 0, 1) := by decide +kernel
theorem d_T_look_48 : decode b_T_look 48 = .ok (.getfield 19, 3) := by decide +kernel
theorem d_T_look_51 : decode b_T_look 51 = .ok (.iload_n 1, 1) := by decide +kernel
theorem d_T_look_52 : decode b_T_look 52 = .ok (.iaload, 1) := by decide +kernel
theorem d_T_look_53 : decode b_T_look 53 = .ok (.if_icmp .ge 97, 3) := by decide +kernel
theorem d_T_look_56 : decode b_T_look 56 = .ok (.aload_n 0, 1) := by decide +kernel
theorem d_T_look_57 : decode b_T_look 57 = .ok (.getfield 25, 3) := by decide +kernel
theorem d_T_look_60 : decode b_T_look 60 = .ok (.sipush 1500, 3) := by decide +kernel
theorem d_T_look_63 : decode b_T_look 63 = .ok (.iload_n 1, 1) := by decide +kernel
theorem d_T_look_64 : decode b_T_look 64 = .ok (.imul, 1) := by decide +kernel
theorem d_T_look_65 : decode b_T_look 65 = .ok (.iload 4, 2) := by decide +kernel
theorem d_T_look_67 : decode b_T_look 67 = .ok (.iadd, 1) := by decide +kernel
theorem d_T_look_68 : decode b_T_look 68 = .ok (.iaload, 1) := by decide +kernel
theorem d_T_look_69 : decode b_T_look 69 = .ok (.istore 5, 2) := by decide +kernel
theorem d_T_look_71 : decode b_T_look 71 = .ok (.aload_n 0, 1) := by decide +kernel
theorem d_T_look_72 : decode b_T_look 72 = .ok (.getfield 22, 3) := by decide +kernel
theorem d_T_look_75 : decode b_T_look 75 = .ok (.sipush 1500, 3) := by decide +kernel
theorem d_T_look_78 : decode b_T_look 78 = .ok (.iload_n 1, 1) := by decide +kernel
theorem d_T_look_79 : decode b_T_look 79 = .ok (.imul, 1) := by decide +kernel
theorem d_T_look_80 : decode b_T_look 80 = .ok (.iload 4, 2) := by decide +kernel
theorem d_T_look_82 : decode b_T_look 82 = .ok (.iadd, 1) := by decide +kernel
theorem d_T_look_83 : decode b_T_look 83 = .ok (.iaload, 1) := by decide +kernel
theorem d_T_look_84 : decode b_T_look 84 = .ok (.iload_n 3, 1) := by decide +kernel
theorem d_T_look_85 : decode b_T_look 85 = .ok (.if_icmp .ne 59, 3) := by decide +kernel
theorem d_T_look_88 : decode b_T_look 88 = .ok (.aload_n 0, 1) := by decide +kernel
theorem d_T_look_89 : decode b_T_look 89 = .ok (.getfield 40, 3) := by decide +kernel
theorem d_T_look_92 : decode b_T_look 92 = .ok (.iload 5, 2) := by decide +kernel
theorem d_T_look_94 : decode b_T_look 94 = .ok (.baload, 1) := by decide +kernel
theorem d_T_look_95 : decode b_T_look 95 = .ok (.ifCond .ne 49, 3) := by decide +kernel
theorem d_T_look_98 : decode b_T_look 98 = .ok (.aload_n 0, 1) := by decide +kernel
theorem d_T_look_99 : decode b_T_look 99 = .ok (.getfield 44, 3) := by decide +kernel
theorem d_T_look_102 : decode b_T_look 102 = .ok (.iload 5, 2) := by decide +kernel
theorem d_T_look_104 : decode b_T_look 104 = .ok (.aload_n 0, 1) := by decide +kernel
theorem d_T_look_105 : decode b_T_look 105 = .ok (.getfield 28, 3) := by decide +kernel
theorem d_T_look_108 : decode b_T_look 108 = .ok (.sipush 1500, 3) := by decide +kernel
theorem d_T_look_111 : decode b_T_look 111 = .ok (.iload_n 1, 1) := by decide +kernel
theorem d_T_look_112 : decode b_T_look 112 = .ok (.imul, 1) := by decide +kernel
theorem d_T_look_113 : decode b_T_look 113 = .ok (.iload 4, 2) := by decide +kernel
theorem d_T_look_115 : decode b_T_look 115 = .ok (.iadd, 1) := by decide +kernel
theorem d_T_look_116 : decode b_T_look 116 = .ok (.iaload, 1) := by decide +kernel
theorem d_T_look_117 : decode b_T_look 117 = .ok (.iastore, 1) := by decide +kernel
theorem d_T_look_118 : decode b_T_look 118 = .ok (.aload_n 0, 1) := by decide +kernel
theorem d_T_look_119 : decode b_T_look 119 = .ok (.dup, 1) := by decide +kernel
theorem d_T_look_120 : decode b_T_look 120 = .ok (.getfield 110, 3) := by decide +kernel
theorem d_T_look_123 : decode b_T_look 123 = .ok (.aload_n 0, 1) := by decide +kernel
theorem d_T_look_124 : decode b_T_look 124 = .ok (.getfield 44, 3) := by decide +kernel
theorem d_T_look_127 : decode b_T_look 127 = .ok (.iload 5, 2) := by decide +kernel
theorem d_T_look_129 : decode b_T_look 129 = .ok (.iaload, 1) := by decide +kernel
theorem d_T_look_130 : decode b_T_look 130 = .ok (.iadd, 1) := by decide +kernel
theorem d_T_look_131 : decode b_T_look 131 = .ok (.putfield 110, 3) := by decide +kernel
theorem d_T_look_134 : decode b_T_look 134 = .ok (.aload_n 0, 1) := by decide +kernel
theorem d_T_look_135 : decode b_T_look 135 = .ok (.dup, 1) := by decide +kernel
theorem d_T_look_136 : decode b_T_look 136 = .ok (.getfield 113, 3) := by decide +kernel
theorem d_T_look_139 : decode b_T_look 139 = .ok (.iconst 1, 1) := by decide +kernel
theorem d_T_look_140 : decode b_T_look 140 = .ok (.iadd, 1) := by decide +kernel
theorem d_T_look_141 : decode b_T_look 141 = .ok (.putfield 113, 3) := by decide +kernel
theorem d_T_look_144 : decode b_T_look 144 = .ok (.iinc 4 1, 3) := by decide +kernel
theorem d_T_look_147 : decode b_T_look 147 = .ok (.goto (-102), 3) := by decide +kernel
theorem d_T_look_150 : decode b_T_look 150 = .ok (.return_, 1) := by decide +kernel
theorem d_T_context_0 : decode b_T_context 0 = .ok (.iconst 0, 1) := by decide +kernel
theorem d_T_context_1 : decode b_T_context 1 = .ok (.istore_n 3, 1) := by decide +kernel
theorem d_T_context_2 : decode b_T_context 2 = .ok (.aload_n 0, 1) := by decide +kernel
theorem d_T_context_3 : decode b_T_context 3 = .ok (.getfield 31, 3) := by decide +kernel
theorem d_T_context_6 : decode b_T_context 6 = .ok (.iload_n 1, 1) := by decide +kernel
theorem d_T_context_7 : decode b_T_context 7 = .ok (.iaload, 1) := by decide +kernel
theorem d_T_context_8 : decode b_T_context 8 = .ok (.iload_n 2, 1) := by decide +kernel
theorem d_T_context_9 : decode b_T_context 9 = .ok (.isub, 1) := by decide +kernel
theorem d_T_context_10 : decode b_T_context 10 = .ok (.istore 4, 2) := by decide +kernel
theorem d_T_context_12 : decode b_T_context 12 = .ok (.iload 4, 2) := by decide +kernel
theorem d_T_context_14 : decode b_T_context 14 = .ok (.aload_n 0, 1) := by decide +kernel
theorem d_T_context_15 : decode b_T_context 15 = .ok (.getfield 31, 3) := by decide +kernel
theorem d_T_context_18 : decode b_T_context 18 = .ok (.iload_n 1, 1) := by decide +kernel
theorem d_T_context_19 : decode b_T_context 19 = .ok (.iaload, 1) := by decide +kernel
theorem d_T_context_20 : decode b_T_context 20 = .ok (.if_icmp .ge 27, 3) := by decide +kernel
theorem d_T_context_23 : decode b_T_context 23 = .ok (.aload_n 0, 1) := by decide +kernel
theorem d_T_context_24 : decode b_T_context 24 = .ok (.iload_n 1, 1) := by decide +kernel
theorem d_T_context_25 : decode b_T_context 25 = .ok (.iload_n 3, 1) := by decide +kernel
theorem d_T_context_26 : decode b_T_context 26 = .ok (.aload_n 0, 1) := by decide +kernel
theorem d_T_context_27 : decode b_T_context 27 = .ok (.getfield 34, 3) := by decide +kernel
theorem d_T_context_30 : decode b_T_context 30 = .ok (.iconst 4, 1) := by decide +kernel
theorem d_T_context_31 : decode b_T_context 31 = .ok (.iload_n 1, 1) := by decide +kernel
theorem d_T_context_32 : decode b_T_context 32 = .ok (.imul, 1) := by decide +kernel
theorem d_T_context_33 : decode b_T_context 33 = .ok (.iload 4, 2) := by decide +kernel
theorem d_T_context_35 : decode b_T_context 35 = .ok (.iadd, 1) := by decide +kernel
theorem d_T_context_36 : decode b_T_context 36 = .ok (.iaload, 1) := by decide +kernel
theorem d_T_context_37 : decode b_T_context 37 = .ok (.invokevirtual 99, 3) := by decide +kernel
theorem d_T_context_40 : decode b_T_context 40 = .ok (.istore_n 3, 1) := by decide +kernel
theorem d_T_context_41 : decode b_T_context 41 = .ok (.iinc 4 1, 3) := by decide +kernel
theorem d_T_context_44 : decode b_T_context 44 = .ok (.goto (-32), 3) := by decide +kernel
theorem d_T_context_47 : decode b_T_context 47 = .ok (.iload_n 3, 1) := by decide +kernel
theorem d_T_context_48 : decode b_T_context 48 = .ok (.ireturn, 1) := by decide +kernel
theorem d_T_child_0 : decode b_T_child 0 = .ok (.iconst (-1), 1) := by decide +kernel
theorem d_T_child_1 : decode b_T_child 1 = .ok (.istore 4, 2) := by decide +kernel
theorem d_T_child_3 : decode b_T_child 3 = .ok (.iconst 1, 1) := by decide +kernel
theorem d_T_child_4 : decode b_T_child 4 = .ok (.istore 5, 2) := by decide +kernel
theorem d_T_child_6 : decode b_T_child 6 = .ok (.iload 5, 2) := by decide +kernel
theorem d_T_child_8 : decode b_T_child 8 = .ok (.aload_n 0, 1) := by decide +kernel
theorem d_T_child_9 : decode b_T_child 9 = .ok (.getfield 19, 3) := by decide +kernel
theorem d_T_child_12 : decode b_T_child 12 = .ok (.iload_n 1, 1) := by decide +kernel
theorem d_T_child_13 : decode b_T_child 13 = .ok (.iaload, 1) := by decide +kernel
theorem d_T_child_14 : decode b_T_child 14 = .ok (.if_icmp .ge 52, 3) := by decide +kernel
theorem d_T_child_17 : decode b_T_child 17 = .ok (.aload_n 0, 1) := by decide +kernel
theorem d_T_child_18 : decode b_T_child 18 = .ok (.getfield 22, 3) := by decide +kernel
theorem d_T_child_21 : decode b_T_child 21 = .ok (.sipush 1500, 3) := by decide +kernel
theorem d_T_child_24 : decode b_T_child 24 = .ok (.iload_n 1, 1) := by decide +kernel
theorem d_T_child_25 : decode b_T_child 25 = .ok (.imul, 1) := by decide +kernel
theorem d_T_child_26 : decode b_T_child 26 = .ok (.iload 5, 2) := by decide +kernel
theorem d_T_child_28 : decode b_T_child 28 = .ok (.iadd, 1) := by decide +kernel
theorem d_T_child_29 : decode b_T_child 29 = .ok (.iaload, 1) := by decide +kernel
theorem d_T_child_30 : decode b_T_child 30 = .ok (.iload_n 2, 1) := by decide +kernel
theorem d_T_child_31 : decode b_T_child 31 = .ok (.if_icmp .ne 25, 3) := by decide +kernel
theorem d_T_child_34 : decode b_T_child 34 = .ok (.aload_n 0, 1) := by decide +kernel
theorem d_T_child_35 : decode b_T_child 35 = .ok (.getfield 25, 3) := by decide +kernel
theorem d_T_child_38 : decode b_T_child 38 = .ok (.sipush 1500, 3) := by decide +kernel
theorem d_T_child_41 : decode b_T_child 41 = .ok (.iload_n 1, 1) := by decide +kernel
theorem d_T_child_42 : decode b_T_child 42 = .ok (.imul, 1) := by decide +kernel
theorem d_T_child_43 : decode b_T_child 43 = .ok (.iload 5, 2) := by decide +kernel
theorem d_T_child_45 : decode b_T_child 45 = .ok (.iadd, 1) := by decide +kernel
theorem d_T_child_46 : decode b_T_child 46 = .ok (.iaload, 1) := by decide +kernel
theorem d_T_child_47 : decode b_T_child 47 = .ok (.iload_n 3, 1) := by decide +kernel
theorem d_T_child_48 : decode b_T_child 48 = .ok (.if_icmp .ne 8, 3) := by decide +kernel
theorem d_T_child_51 : decode b_T_child 51 = .ok (.iload 5, 2) := by decide +kernel
theorem d_T_child_53 : decode b_T_child 53 = .ok (.goto 5, 3) := by decide +kernel
theorem d_T_child_56 : decode b_T_child 56 = .ok (.iload 4, 2) := by decide +kernel
theorem d_T_child_58 : decode b_T_child 58 = .ok (.istore 4, 2) := by decide +kernel
theorem d_T_child_60 : decode b_T_child 60 = .ok (.iinc 5 1, 3) := by decide +kernel
theorem d_T_child_63 : decode b_T_child 63 = .ok (.goto (-57), 3) := by decide +kernel
theorem d_T_child_66 : decode b_T_child 66 = .ok (.iload 4, 2) := by decide +kernel
theorem d_T_child_68 : decode b_T_child 68 = .ok (.ireturn, 1) := by decide +kernel
