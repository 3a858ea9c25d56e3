theorem d_T_next_0 : decode b_T_next 0 = .ok (.aload_n 0, 1) := by decide +kernel
theorem d_T_next_1 : decode b_T_next 1 = .ok (.getfield 200, 3) := by decide +kernel
theorem d_T_next_4 : decode b_T_next 4 = .ok (.istore_n 1, 1) := by decide +kernel
theorem d_T_next_5 : decode b_T_next 5 = .ok (.aload_n 0, 1) := by decide +kernel
theorem d_T_next_6 : decode b_T_next 6 = .ok (.dup, 1) := by decide +kernel
theorem d_T_next_7 : decode b_T_next 7 = .ok (.getfield 200, 3) := by decide +kernel
theorem d_T_next_10 : decode b_T_next 10 = .ok (.iconst 1, 1) := by decide +kernel
theorem d_T_next_11 : decode b_T_next 11 = .ok (.iadd, 1) := by decide +kernel
theorem d_T_next_12 : decode b_T_next 12 = .ok (.putfield 200, 3) := by decide +kernel
theorem d_T_next_15 : decode b_T_next 15 = .ok (.iload_n 1, 1) := by decide +kernel
theorem d_T_next_16 : decode b_T_next 16 = .ok (.bipush 8, 2) := by decide +kernel
theorem d_T_next_18 : decode b_T_next 18 = .ok (.aload_n 0, 1) := by decide +kernel
theorem d_T_next_19 : decode b_T_next 19 = .ok (.getfield 93, 3) := by decide +kernel
theorem d_T_next_22 : decode b_T_next 22 = .ok (.imul, 1) := by decide +kernel
theorem d_T_next_23 : decode b_T_next 23 = .ok (.if_icmp .ge 25, 3) := by decide +kernel
theorem d_T_next_26 : decode b_T_next 26 = .ok (.aload_n 0, 1) := by decide +kernel
theorem d_T_next_27 : decode b_T_next 27 = .ok (.getfield 13, 3) := by decide +kernel
theorem d_T_next_30 : decode b_T_next 30 = .ok (.iload_n 1, 1) := by decide +kernel
theorem d_T_next_31 : decode b_T_next 31 = .ok (.bipush 8, 2) := by decide +kernel
theorem d_T_next_33 : decode b_T_next 33 = .ok (.idiv, 1) := by decide +kernel
theorem d_T_next_34 : decode b_T_next 34 = .ok (.iaload, 1) := by decide +kernel
theorem d_T_next_35 : decode b_T_next 35 = .ok (.bipush 7, 2) := by decide +kernel
theorem d_T_next_37 : decode b_T_next 37 = .ok (.iload_n 1, 1) := by decide +kernel
theorem d_T_next_38 : decode b_T_next 38 = .ok (.bipush 8, 2) := by decide +kernel
theorem d_T_next_40 : decode b_T_next 40 = .ok (.irem, 1) := by decide +kernel
theorem d_T_next_41 : decode b_T_next 41 = .ok (.isub, 1) := by decide +kernel
theorem d_T_next_42 : decode b_T_next 42 = .ok (.ishr, 1) := by decide +kernel
theorem d_T_next_43 : decode b_T_next 43 = .ok (.iconst 1, 1) := by decide +kernel
theorem d_T_next_44 : decode b_T_next 44 = .ok (.iand, 1) := by decide +kernel
theorem d_T_next_45 : decode b_T_next 45 = .ok (.goto 4, 3) := by decide +kernel
theorem d_T_next_48 : decode b_T_next 48 = .ok (.iconst 0, 1) := by decide +kernel
theorem d_T_next_49 : decode b_T_next 49 = .ok (.ireturn, 1) := by decide +kernel
theorem d_T_readSign_0 : decode b_T_readSign 0 = .ok (.aload_n 0, 1) := by decide +kernel
theorem d_T_readSign_1 : decode b_T_readSign 1 = .ok (.invokevirtual 167, 3) := by decide +kernel
theorem d_T_readSign_4 : decode b_T_readSign 4 = .ok (.aload_n 0, 1) := by decide +kernel
theorem d_T_readSign_5 : decode b_T_readSign 5 = .ok (.getfield 31, 3) := by decide +kernel
theorem d_T_readSign_8 : decode b_T_readSign 8 = .ok (.iload_n 1, 1) := by decide +kernel
theorem d_T_readSign_9 : decode b_T_readSign 9 = .ok (.iaload, 1) := by decide +kernel
theorem d_T_readSign_10 : decode b_T_readSign 10 = .ok (.istore_n 2, 1) := by decide +kernel
theorem d_T_readSign_11 : decode b_T_readSign 11 = .ok (.iload_n 2, 1) := by decide +kernel
theorem d_T_readSign_12 : decode b_T_readSign 12 = .ok (.ifCond .lt 132, 3) := by decide +kernel
theorem d_T_readSign_15 : decode b_T_readSign 15 = .ok (.aload_n 0, 1) := by decide +kernel
theorem d_T_readSign_16 : decode b_T_readSign 16 = .ok (.iload_n 1, 1) := by decide +kernel
theorem d_T_readSign_17 : decode b_T_readSign 17 = .ok (.iload_n 2, 1) := by decide +kernel
theorem d_T_readSign_18 : decode b_T_readSign 18 = .ok (.invokevirtual 170, 3) := by decide +kernel
theorem d_T_readSign_21 : decode b_T_readSign 21 = .ok (.aload_n 0, 1) := by decide +kernel
theorem d_T_readSign_22 : decode b_T_readSign 22 = .ok (.getfield 113, 3) := by decide +kernel
theorem d_T_readSign_25 : decode b_T_readSign 25 = .ok (.ifCond .le 113, 3) := by decide +kernel
theorem d_T_readSign_28 : decode b_T_readSign 28 = .ok (.aload_n 0, 1) := by decide +kernel
theorem d_T_readSign_29 : decode b_T_readSign 29 = .ok (.aload_n 0, 1) := by decide +kernel
theorem d_T_readSign_30 : decode b_T_readSign 30 = .ok (.getfield 110, 3) := by decide +kernel
theorem d_T_readSign_33 : decode b_T_readSign 33 = .ok (.aload_n 0, 1) := by decide +kernel
theorem d_T_readSign_34 : decode b_T_readSign 34 = .ok (.getfield 113, 3) := by decide +kernel
theorem d_T_readSign_37 : decode b_T_readSign 37 = .ok (.iadd, 1) := by decide +kernel
theorem d_T_readSign_38 : decode b_T_readSign 38 = .ok (.invokevirtual 210, 3) := by decide +kernel
theorem d_T_readSign_41 : decode b_T_readSign 41 = .ok (.istore_n 3, 1) := by decide +kernel
theorem d_T_readSign_42 : decode b_T_readSign 42 = .ok (.sipush 256, 3) := by decide +kernel
theorem d_T_readSign_45 : decode b_T_readSign 45 = .ok (.istore 4, 2) := by decide +kernel
theorem d_T_readSign_47 : decode b_T_readSign 47 = .ok (.iconst 0, 1) := by decide +kernel
theorem d_T_readSign_48 : decode b_T_readSign 48 = .ok (.istore 5, 2) := by decide +kernel
theorem d_T_readSign_50 : decode b_T_readSign 50 = .ok (.iload 5, 2) := by decide +kernel
theorem d_T_readSign_52 : decode b_T_readSign 52 = .ok (.sipush 256, 3) := by decide +kernel
theorem d_T_readSign_55 : decode b_T_readSign 55 = .ok (.if_icmp .ge 54, 3) := by decide +kernel
theorem d_T_readSign_58 : decode b_T_readSign 58 = .ok (.iload 4, 2) := by decide +kernel
theorem d_T_readSign_60 : decode b_T_readSign 60 = .ok (.sipush 256, 3) := by decide +kernel
theorem d_T_readSign_63 : decode b_T_readSign 63 = .ok (.if_icmp .ne 36, 3) := by decide +kernel
theorem d_T_readSign_66 : decode b_T_readSign 66 = .ok (.aload_n 0, 1) := by decide +kernel
theorem d_T_readSign_67 : decode b_T_readSign 67 = .ok (.getfield 44, 3) := by decide +kernel
theorem d_T_readSign_70 : decode b_T_readSign 70 = .ok (.iload 5, 2) := by decide +kernel
theorem d_T_readSign_72 : decode b_T_readSign 72 = .ok (.iaload, 1) := by decide +kernel
theorem d_T_readSign_73 : decode b_T_readSign 73 = .ok (.ifCond .le 26, 3) := by decide +kernel
theorem d_T_readSign_76 : decode b_T_readSign 76 = .ok (.iload_n 3, 1) := by decide +kernel
theorem d_T_readSign_77 : decode b_T_readSign 77 = .ok (.aload_n 0, 1) := by decide +kernel
theorem d_T_readSign_78 : decode b_T_readSign 78 = .ok (.iload 5, 2) := by decide +kernel
theorem d_T_readSign_80 : decode b_T_readSign 80 = .ok (.invokevirtual 119, 3) := by decide +kernel
theorem d_T_readSign_83 : decode b_T_readSign 83 = .ok (.aload_n 0, 1) := by decide +kernel
theorem d_T_readSign_84 : decode b_T_readSign 84 = .ok (.getfield 44, 3) := by decide +kernel
theorem d_T_readSign_87 : decode b_T_readSign 87 = .ok (.iload 5, 2) := by decide +kernel
theorem d_T_readSign_89 : decode b_T_readSign 89 = .ok (.iaload, 1) := by decide +kernel
theorem d_T_readSign_90 : decode b_T_readSign 90 = .ok (.iadd, 1) := by decide +kernel
theorem d_T_readSign_91 : decode b_T_readSign 91 = .ok (.if_icmp .ge 8, 3) := by decide +kernel
theorem d_T_readSign_94 : decode b_T_readSign 94 = .ok (.iload 5, 2) := by decide +kernel
theorem d_T_readSign_96 : decode b_T_readSign 96 = .ok (.goto 5, 3) := by decide +kernel
theorem d_T_readSign_99 : decode b_T_readSign 99 = .ok (.iload 4, 2) := by decide +kernel
theorem d_T_readSign_101 : decode b_T_readSign 101 = .ok (.istore 4, 2) := by decide +kernel
theorem d_T_readSign_103 : decode b_T_readSign 103 = .ok (.iinc 5 1, 3) := by decide +kernel
theorem d_T_readSign_106 : decode b_T_readSign 106 = .ok (.goto (-56), 3) := by decide +kernel
theorem d_T_readSign_109 : decode b_T_readSign 109 = .ok (.aload_n 0, 1) := by decide +kernel
theorem d_T_readSign_110 : decode b_T_readSign 110 = .ok (.iload 4, 2) := by decide +kernel
theorem d_T_readSign_112 : decode b_T_readSign 112 = .ok (.invokevirtual 173, 3) := by decide +kernel
theorem d_T_readSign_115 : decode b_T_readSign 115 = .ok (.istore 5, 2) := by decide +kernel
theorem d_T_readSign_117 : decode b_T_readSign 117 = .ok (.aload_n 0, 1) := by decide +kernel
theorem d_T_readSign_118 : decode b_T_readSign 118 = .ok (.invokevirtual 213, 3) := by decide +kernel
theorem d_T_readSign_121 : decode b_T_readSign 121 = .ok (.iload 5, 2) := by decide +kernel
theorem d_T_readSign_123 : decode b_T_readSign 123 = .ok (.ifCond .eq 11, 3) := by decide +kernel
theorem d_T_readSign_126 : decode b_T_readSign 126 = .ok (.aload_n 0, 1) := by decide +kernel
theorem d_T_readSign_127 : decode b_T_readSign 127 = .ok (.iload_n 2, 1) := by decide +kernel
theorem d_T_readSign_128 : decode b_T_readSign 128 = .ok (.putfield 216, 3) := by decide +kernel
theorem d_T_readSign_131 : decode b_T_readSign 131 = .ok (.iload 4, 2) := by decide +kernel
theorem d_T_readSign_133 : decode b_T_readSign 133 = .ok (.ireturn, 1) := by decide +kernel
theorem d_T_readSign_134 : decode b_T_readSign 134 = .ok (.aload_n 0, 1) := by decide +kernel
theorem d_T_readSign_135 : decode b_T_readSign 135 = .ok (.invokevirtual 177, 3) := by decide +kernel
theorem d_T_readSign_138 : decode b_T_readSign 138 = .ok (.iinc 2 (-1), 3) := by decide +kernel
theorem d_T_readSign_141 : decode b_T_readSign 141 = .ok (.goto (-130), 3) := by decide +kernel
theorem d_T_readSign_144 : decode b_T_readSign 144 = .ok (.aload_n 0, 1) := by decide +kernel
theorem d_T_readSign_145 : decode b_T_readSign 145 = .ok (.iconst 0, 1) := by decide +kernel
theorem d_T_readSign_146 : decode b_T_readSign 146 = .ok (.putfield 216, 3) := by decide +kernel
theorem d_T_readSign_149 : decode b_T_readSign 149 = .ok (.aload_n 0, 1) := by decide +kernel
theorem d_T_readSign_150 : decode b_T_readSign 150 = .ok (.sipush 257, 3) := by decide +kernel
theorem d_T_readSign_153 : decode b_T_readSign 153 = .ok (.aload_n 0, 1) := by decide +kernel
theorem d_T_readSign_154 : decode b_T_readSign 154 = .ok (.getfield 103, 3) := by decide +kernel
theorem d_T_readSign_157 : decode b_T_readSign 157 = .ok (.isub, 1) := by decide +kernel
theorem d_T_readSign_158 : decode b_T_readSign 158 = .ok (.invokevirtual 210, 3) := by decide +kernel
theorem d_T_readSign_161 : decode b_T_readSign 161 = .ok (.istore_n 2, 1) := by decide +kernel
theorem d_T_readSign_162 : decode b_T_readSign 162 = .ok (.iconst 0, 1) := by decide +kernel
theorem d_T_readSign_163 : decode b_T_readSign 163 = .ok (.istore_n 3, 1) := by decide +kernel
theorem d_T_readSign_164 : decode b_T_readSign 164 = .ok (.aload_n 0, 1) := by decide +kernel
theorem d_T_readSign_165 : decode b_T_readSign 165 = .ok (.getfield 40, 3) := by decide +kernel
theorem d_T_readSign_168 : decode b_T_readSign 168 = .ok (.iload_n 3, 1) := by decide +kernel
theorem d_T_readSign_169 : decode b_T_readSign 169 = .ok (.baload, 1) := by decide +kernel
theorem d_T_readSign_170 : decode b_T_readSign 170 = .ok (.ifCond .ne 7, 3) := by decide +kernel
theorem d_T_readSign_173 : decode b_T_readSign 173 = .ok (.iload_n 2, 1) := by decide +kernel
theorem d_T_readSign_174 : decode b_T_readSign 174 = .ok (.ifCond .le 26, 3) := by decide +kernel
theorem d_T_readSign_177 : decode b_T_readSign 177 = .ok (.iload_n 2, 1) := by decide +kernel
theorem d_T_readSign_178 : decode b_T_readSign 178 = .ok (.aload_n 0, 1) := by decide +kernel
theorem d_T_readSign_179 : decode b_T_readSign 179 = .ok (.getfield 40, 3) := by decide +kernel
theorem d_T_readSign_182 : decode b_T_readSign 182 = .ok (.iload_n 3, 1) := by decide +kernel
theorem d_T_readSign_183 : decode b_T_readSign 183 = .ok (.baload, 1) := by decide +kernel
theorem d_T_readSign_184 : decode b_T_readSign 184 = .ok (.ifCond .eq 7, 3) := by decide +kernel
theorem d_T_readSign_187 : decode b_T_readSign 187 = .ok (.iconst 0, 1) := by decide +kernel
theorem d_T_readSign_188 : decode b_T_readSign 188 = .ok (.goto 4, 3) := by decide +kernel
theorem d_T_readSign_191 : decode b_T_readSign 191 = .ok (.iconst 1, 1) := by decide +kernel
theorem d_T_readSign_192 : decode b_T_readSign 192 = .ok (.isub, 1) := by decide +kernel
theorem d_T_readSign_193 : decode b_T_readSign 193 = .ok (.istore_n 2, 1) := by decide +kernel
theorem d_T_readSign_194 : decode b_T_readSign 194 = .ok (.iinc 3 1, 3) := by decide +kernel
theorem d_T_readSign_197 : decode b_T_readSign 197 = .ok (.goto (-33), 3) := by decide +kernel
theorem d_T_readSign_200 : decode b_T_readSign 200 = .ok (.aload_n 0, 1) := by decide +kernel
theorem d_T_readSign_201 : decode b_T_readSign 201 = .ok (.iload_n 3, 1) := by decide +kernel
theorem d_T_readSign_202 : decode b_T_readSign 202 = .ok (.invokevirtual 183, 3) := by decide +kernel
theorem d_T_readSign_205 : decode b_T_readSign 205 = .ok (.aload_n 0, 1) := by decide +kernel
theorem d_T_readSign_206 : decode b_T_readSign 206 = .ok (.invokevirtual 213, 3) := by decide +kernel
theorem d_T_readSign_209 : decode b_T_readSign 209 = .ok (.iload_n 3, 1) := by decide +kernel
theorem d_T_readSign_210 : decode b_T_readSign 210 = .ok (.ireturn, 1) := by decide +kernel
theorem d_T_asked_0 : decode b_T_asked 0 = .ok (.aload_n 0, 1) := by decide +kernel
theorem d_T_asked_1 : decode b_T_asked 1 = .ok (.getfield 203, 3) := by decide +kernel
theorem d_T_asked_4 : decode b_T_asked 4 = .ok (.aload_n 0, 1) := by decide +kernel
theorem d_T_asked_5 : decode b_T_asked 5 = .ok (.getfield 149, 3) := by decide +kernel
theorem d_T_asked_8 : decode b_T_asked 8 = .ok (.isub, 1) := by decide +kernel
theorem d_T_asked_9 : decode b_T_asked 9 = .ok (.iconst 1, 1) := by decide +kernel
theorem d_T_asked_10 : decode b_T_asked 10 = .ok (.iadd, 1) := by decide +kernel
theorem d_T_asked_11 : decode b_T_asked 11 = .ok (.iload_n 1, 1) := by decide +kernel
theorem d_T_asked_12 : decode b_T_asked 12 = .ok (.imul, 1) := by decide +kernel
theorem d_T_asked_13 : decode b_T_asked 13 = .ok (.iconst 1, 1) := by decide +kernel
theorem d_T_asked_14 : decode b_T_asked 14 = .ok (.isub, 1) := by decide +kernel
theorem d_T_asked_15 : decode b_T_asked 15 = .ok (.aload_n 0, 1) := by decide +kernel
theorem d_T_asked_16 : decode b_T_asked 16 = .ok (.getfield 146, 3) := by decide +kernel
theorem d_T_asked_19 : decode b_T_asked 19 = .ok (.aload_n 0, 1) := by decide +kernel
theorem d_T_asked_20 : decode b_T_asked 20 = .ok (.getfield 149, 3) := by decide +kernel
theorem d_T_asked_23 : decode b_T_asked 23 = .ok (.isub, 1) := by decide +kernel
theorem d_T_asked_24 : decode b_T_asked 24 = .ok (.iconst 1, 1) := by decide +kernel
theorem d_T_asked_25 : decode b_T_asked 25 = .ok (.iadd, 1) := by decide +kernel
theorem d_T_asked_26 : decode b_T_asked 26 = .ok (.idiv, 1) := by decide +kernel
theorem d_T_asked_27 : decode b_T_asked 27 = .ok (.ireturn, 1) := by decide +kernel
theorem d_T_read_0 : decode b_T_read 0 = .ok (.aload_n 0, 1) := by decide +kernel
theorem d_T_read_1 : decode b_T_read 1 = .ok (.invokevirtual 152, 3) := by decide +kernel
theorem d_T_read_4 : decode b_T_read 4 = .ok (.iconst 1, 1) := by decide +kernel
theorem d_T_read_5 : decode b_T_read 5 = .ok (.istore_n 1, 1) := by decide +kernel
theorem d_T_read_6 : decode b_T_read 6 = .ok (.iload_n 1, 1) := by decide +kernel
theorem d_T_read_7 : decode b_T_read 7 = .ok (.ifCond .eq 117, 3) := by decide +kernel
theorem d_T_read_10 : decode b_T_read 10 = .ok (.aload_n 0, 1) := by decide +kernel
theorem d_T_read_11 : decode b_T_read 11 = .ok (.getfield 146, 3) := by decide +kernel
theorem d_T_read_14 : decode b_T_read 14 = .ok (.ldc 155, 2) := by decide +kernel
theorem d_T_read_16 : decode b_T_read 16 = .ok (.if_icmp .ge 7, 3) := by decide +kernel
theorem d_T_read_19 : decode b_T_read 19 = .ok (.iconst 0, 1) := by decide +kernel
theorem d_T_read_20 : decode b_T_read 20 = .ok (.goto 43, 3) := by decide +kernel
theorem d_T_read_23 : decode b_T_read 23 = .ok (.aload_n 0, 1) := by decide +kernel
theorem d_T_read_24 : decode b_T_read 24 = .ok (.getfield 149, 3) := by decide +kernel
theorem d_T_read_27 : decode b_T_read 27 = .ok (.ldc 155, 2) := by decide +kernel
theorem d_T_read_29 : decode b_T_read 29 = .ok (.if_icmp .lt 8, 3) := by decide +kernel
theorem d_T_read_32 : decode b_T_read 32 = .ok (.ldc 155, 2) := by decide +kernel
theorem d_T_read_34 : decode b_T_read 34 = .ok (.goto 29, 3) := by decide +kernel
theorem d_T_read_37 : decode b_T_read 37 = .ok (.aload_n 0, 1) := by decide +kernel
theorem d_T_read_38 : decode b_T_read 38 = .ok (.getfield 149, 3) := by decide +kernel
theorem d_T_read_41 : decode b_T_read 41 = .ok (.sipush 16384, 3) := by decide +kernel
theorem d_T_read_44 : decode b_T_read 44 = .ok (.if_icmp .lt 18, 3) := by decide +kernel
theorem d_T_read_47 : decode b_T_read 47 = .ok (.aload_n 0, 1) := by decide +kernel
theorem d_T_read_48 : decode b_T_read 48 = .ok (.getfield 146, 3) := by decide +kernel
theorem d_T_read_51 : decode b_T_read 51 = .ok (.ldc 159, 2) := by decide +kernel
theorem d_T_read_53 : decode b_T_read 53 = .ok (.if_icmp .ge 9, 3) := by decide +kernel
theorem d_T_read_56 : decode b_T_read 56 = .ok (.sipush 16384, 3) := by decide +kernel
theorem d_T_read_59 : decode b_T_read 59 = .ok (.goto 4, 3) := by decide +kernel
theorem d_T_read_62 : decode b_T_read 62 = .ok (.iconst (-1), 1) := by decide +kernel
theorem d_T_read_63 : decode b_T_read 63 = .ok (.istore_n 2, 1) := by decide +kernel
theorem d_T_read_64 : decode b_T_read 64 = .ok (.iload_n 2, 1) := by decide +kernel
theorem d_T_read_65 : decode b_T_read 65 = .ok (.ifCond .lt 7, 3) := by decide +kernel
theorem d_T_read_68 : decode b_T_read 68 = .ok (.iconst 1, 1) := by decide +kernel
theorem d_T_read_69 : decode b_T_read 69 = .ok (.goto 4, 3) := by decide +kernel
theorem d_T_read_72 : decode b_T_read 72 = .ok (.iconst 0, 1) := by decide +kernel
theorem d_T_read_73 : decode b_T_read 73 = .ok (.istore_n 1, 1) := by decide +kernel
theorem d_T_read_74 : decode b_T_read 74 = .ok (.iload_n 1, 1) := by decide +kernel
theorem d_T_read_75 : decode b_T_read 75 = .ok (.ifCond .eq 46, 3) := by decide +kernel
theorem d_T_read_78 : decode b_T_read 78 = .ok (.aload_n 0, 1) := by decide +kernel
theorem d_T_read_79 : decode b_T_read 79 = .ok (.iconst 2, 1) := by decide +kernel
theorem d_T_read_80 : decode b_T_read 80 = .ok (.aload_n 0, 1) := by decide +kernel
theorem d_T_read_81 : decode b_T_read 81 = .ok (.getfield 149, 3) := by decide +kernel
theorem d_T_read_84 : decode b_T_read 84 = .ok (.iload_n 2, 1) := by decide +kernel
theorem d_T_read_85 : decode b_T_read 85 = .ok (.isub, 1) := by decide +kernel
theorem d_T_read_86 : decode b_T_read 86 = .ok (.imul, 1) := by decide +kernel
theorem d_T_read_87 : decode b_T_read 87 = .ok (.putfield 149, 3) := by decide +kernel
theorem d_T_read_90 : decode b_T_read 90 = .ok (.aload_n 0, 1) := by decide +kernel
theorem d_T_read_91 : decode b_T_read 91 = .ok (.iconst 2, 1) := by decide +kernel
theorem d_T_read_92 : decode b_T_read 92 = .ok (.aload_n 0, 1) := by decide +kernel
theorem d_T_read_93 : decode b_T_read 93 = .ok (.getfield 146, 3) := by decide +kernel
theorem d_T_read_96 : decode b_T_read 96 = .ok (.iload_n 2, 1) := by decide +kernel
theorem d_T_read_97 : decode b_T_read 97 = .ok (.isub, 1) := by decide +kernel
theorem d_T_read_98 : decode b_T_read 98 = .ok (.imul, 1) := by decide +kernel
theorem d_T_read_99 : decode b_T_read 99 = .ok (.iconst 1, 1) := by decide +kernel
theorem d_T_read_100 : decode b_T_read 100 = .ok (.iadd, 1) := by decide +kernel
theorem d_T_read_101 : decode b_T_read 101 = .ok (.putfield 146, 3) := by decide +kernel
theorem d_T_read_104 : decode b_T_read 104 = .ok (.aload_n 0, 1) := by decide +kernel
theorem d_T_read_105 : decode b_T_read 105 = .ok (.iconst 2, 1) := by decide +kernel
theorem d_T_read_106 : decode b_T_read 106 = .ok (.aload_n 0, 1) := by decide +kernel
theorem d_T_read_107 : decode b_T_read 107 = .ok (.getfield 203, 3) := by decide +kernel
theorem d_T_read_110 : decode b_T_read 110 = .ok (.iload_n 2, 1) := by decide +kernel
theorem d_T_read_111 : decode b_T_read 111 = .ok (.isub, 1) := by decide +kernel
theorem d_T_read_112 : decode b_T_read 112 = .ok (.imul, 1) := by decide +kernel
theorem d_T_read_113 : decode b_T_read 113 = .ok (.aload_n 0, 1) := by decide +kernel
theorem d_T_read_114 : decode b_T_read 114 = .ok (.invokevirtual 206, 3) := by decide +kernel
theorem d_T_read_117 : decode b_T_read 117 = .ok (.iadd, 1) := by decide +kernel
theorem d_T_read_118 : decode b_T_read 118 = .ok (.putfield 203, 3) := by decide +kernel
theorem d_T_read_121 : decode b_T_read 121 = .ok (.goto (-115), 3) := by decide +kernel
theorem d_T_read_124 : decode b_T_read 124 = .ok (.return_, 1) := by decide +kernel
theorem d_T_place_0 : decode b_T_place 0 = .ok (.aload_n 0, 1) := by decide +kernel
theorem d_T_place_1 : decode b_T_place 1 = .ok (.iconst 0, 1) := by decide +kernel
theorem d_T_place_2 : decode b_T_place 2 = .ok (.putfield 82, 3) := by decide +kernel
theorem d_T_place_5 : decode b_T_place 5 = .ok (.aload_n 0, 1) := by decide +kernel
theorem d_T_place_6 : decode b_T_place 6 = .ok (.getfield 65, 3) := by decide +kernel
theorem d_T_place_9 : decode b_T_place 9 = .ok (.ireturn, 1) := by decide +kernel
theorem d_T_nodes_0 : decode b_T_nodes 0 = .ok (.aload_n 0, 1) := by decide +kernel
theorem d_T_nodes_1 : decode b_T_nodes 1 = .ok (.iconst 0, 1) := by decide +kernel
theorem d_T_nodes_2 : decode b_T_nodes 2 = .ok (.putfield 82, 3) := by decide +kernel
theorem d_T_nodes_5 : decode b_T_nodes 5 = .ok (.iload_n 1, 1) := by decide +kernel
theorem d_T_nodes_6 : decode b_T_nodes 6 = .ok (.iconst 0, 1) := by decide +kernel
theorem d_T_nodes_7 : decode b_T_nodes 7 = .ok (.iconst 1, 1) := by decide +kernel
theorem d_T_nodes_8 : decode b_T_nodes 8 = .ok (.invokestatic 88, 3) := by decide +kernel
theorem d_T_nodes_11 : decode b_T_nodes 11 = .ok (.ifCond .eq 12, 3) := by decide +kernel
theorem d_T_nodes_14 : decode b_T_nodes 14 = .ok (.aload_n 0, 1) := by decide +kernel
theorem d_T_nodes_15 : decode b_T_nodes 15 = .ok (.getfield 19, 3) := by decide +kernel
theorem d_T_nodes_18 : decode b_T_nodes 18 = .ok (.iload_n 1, 1) := by decide +kernel
theorem d_T_nodes_19 : decode b_T_nodes 19 = .ok (.iaload, 1) := by decide +kernel
theorem d_T_nodes_20 : decode b_T_nodes 20 = .ok (.goto 4, 3) := by decide +kernel
theorem d_T_nodes_23 : decode b_T_nodes 23 = .ok (.iconst (-1), 1) := by decide +kernel
theorem d_T_nodes_24 : decode b_T_nodes 24 = .ok (.ireturn, 1) := by decide +kernel
theorem d_T_node_0 : decode b_T_node 0 = .ok (.aload_n 0, 1) := by decide +kernel
theorem d_T_node_1 : decode b_T_node 1 = .ok (.iconst 0, 1) := by decide +kernel
theorem d_T_node_2 : decode b_T_node 2 = .ok (.putfield 82, 3) := by decide +kernel
theorem d_T_node_5 : decode b_T_node 5 = .ok (.iload_n 1, 1) := by decide +kernel
theorem d_T_node_6 : decode b_T_node 6 = .ok (.iconst 0, 1) := by decide +kernel
theorem d_T_node_7 : decode b_T_node 7 = .ok (.iconst 1, 1) := by decide +kernel
theorem d_T_node_8 : decode b_T_node 8 = .ok (.invokestatic 88, 3) := by decide +kernel
theorem d_T_node_11 : decode b_T_node 11 = .ok (.ifCond .eq 12, 3) := by decide +kernel
theorem d_T_node_14 : decode b_T_node 14 = .ok (.iload_n 3, 1) := by decide +kernel
theorem d_T_node_15 : decode b_T_node 15 = .ok (.iconst 0, 1) := by decide +kernel
theorem d_T_node_16 : decode b_T_node 16 = .ok (.iconst 3, 1) := by decide +kernel
theorem d_T_node_17 : decode b_T_node 17 = .ok (.invokestatic 88, 3) := by decide +kernel
theorem d_T_node_20 : decode b_T_node 20 = .ok (.ifCond .ne 5, 3) := by decide +kernel
theorem d_T_node_23 : decode b_T_node 23 = .ok (.iconst (-1), 1) := by decide +kernel
theorem d_T_node_24 : decode b_T_node 24 = .ok (.ireturn, 1) := by decide +kernel
theorem d_T_node_25 : decode b_T_node 25 = .ok (.iload_n 2, 1) := by decide +kernel
theorem d_T_node_26 : decode b_T_node 26 = .ok (.iconst 0, 1) := by decide +kernel
theorem d_T_node_27 : decode b_T_node 27 = .ok (.aload_n 0, 1) := by decide +kernel
theorem d_T_node_28 : decode b_T_node 28 = .ok (.getfield 19, 3) := by decide +kernel
theorem d_T_node_31 : decode b_T_node 31 = .ok (.iload_n 1, 1) := by decide +kernel
theorem d_T_node_32 : decode b_T_node 32 = .ok (.iaload, 1) := by decide +kernel
theorem d_T_node_33 : decode b_T_node 33 = .ok (.iconst 1, 1) := by decide +kernel
theorem d_T_node_34 : decode b_T_node 34 = .ok (.isub, 1) := by decide +kernel
theorem d_T_node_35 : decode b_T_node 35 = .ok (.invokestatic 88, 3) := by decide +kernel
theorem d_T_node_38 : decode b_T_node 38 = .ok (.ifCond .ne 10, 3) := by decide +kernel
theorem d_T_node_41 : decode b_T_node 41 = .ok (.aload_n 0, 1) := by decide +kernel
theorem d_T_node_42 : decode b_T_node 42 = .ok (.iconst 1, 1) := by decide +kernel
theorem d_T_node_43 : decode b_T_node 43 = .ok (.putfield 82, 3) := by decide +kernel
theorem d_T_node_46 : decode b_T_node 46 = .ok (.iconst 0, 1) := by decide +kernel
theorem d_T_node_47 : decode b_T_node 47 = .ok (.ireturn, 1) := by decide +kernel
theorem d_T_node_48 : decode b_T_node 48 = .ok (.sipush 1500, 3) := by decide +kernel
theorem d_T_node_51 : decode b_T_node 51 = .ok (.iload_n 1, 1) := by decide +kernel
theorem d_T_node_52 : decode b_T_node 52 = .ok (.imul, 1) := by decide +kernel
theorem d_T_node_53 : decode b_T_node 53 = .ok (.iload_n 2, 1) := by decide +kernel
theorem d_T_node_54 : decode b_T_node 54 = .ok (.iadd, 1) := by decide +kernel
theorem d_T_node_55 : decode b_T_node 55 = .ok (.istore 4, 2) := by decide +kernel
theorem d_T_node_57 : decode b_T_node 57 = .ok (.iload_n 3, 1) := by decide +kernel
theorem d_T_node_58 : decode b_T_node 58 = .ok (.iconst 3, 1) := by decide +kernel
theorem d_T_node_59 : decode b_T_node 59 = .ok (.if_icmp .ge 40, 3) := by decide +kernel
theorem d_T_node_62 : decode b_T_node 62 = .ok (.iload_n 3, 1) := by decide +kernel
theorem d_T_node_63 : decode b_T_node 63 = .ok (.ifCond .ne 13, 3) := by decide +kernel
theorem d_T_node_66 : decode b_T_node 66 = .ok (.aload_n 0, 1) := by decide +kernel
theorem d_T_node_67 : decode b_T_node 67 = .ok (.getfield 22, 3) := by decide +kernel
theorem d_T_node_70 : decode b_T_node 70 = .ok (.iload 4, 2) := by decide +kernel
theorem d_T_node_72 : decode b_T_node 72 = .ok (.iaload, 1) := by decide +kernel
theorem d_T_node_73 : decode b_T_node 73 = .ok (.goto 25, 3) := by decide +kernel
theorem d_T_node_76 : decode b_T_node 76 = .ok (.iload_n 3, 1) := by decide +kernel
theorem d_T_node_77 : decode b_T_node 77 = .ok (.iconst 1, 1) := by decide +kernel
theorem d_T_node_78 : decode b_T_node 78 = .ok (.if_icmp .ne 13, 3) := by decide +kernel
theorem d_T_node_81 : decode b_T_node 81 = .ok (.aload_n 0, 1) := by decide +kernel
theorem d_T_node_82 : decode b_T_node 82 = .ok (.getfield 25, 3) := by decide +kernel
theorem d_T_node_85 : decode b_T_node 85 = .ok (.iload 4, 2) := by decide +kernel
theorem d_T_node_87 : decode b_T_node 87 = .ok (.iaload, 1) := by decide +kernel
theorem d_T_node_88 : decode b_T_node 88 = .ok (.goto 10, 3) := by decide +kernel
theorem d_T_node_91 : decode b_T_node 91 = .ok (.aload_n 0, 1) := by decide +kernel
theorem d_T_node_92 : decode b_T_node 92 = .ok (.getfield 28, 3) := by decide +kernel
theorem d_T_node_95 : decode b_T_node 95 = .ok (.iload 4, 2) := by decide +kernel
theorem d_T_node_97 : decode b_T_node 97 = .ok (.iaload, 1) := by decide +kernel
theorem d_T_node_98 : decode b_T_node 98 = .ok (.ireturn, 1) := by decide +kernel
theorem d_T_node_99 : decode b_T_node 99 = .ok (.iconst 0, 1) := by decide +kernel
theorem d_T_node_100 : decode b_T_node 100 = .ok (.istore 5, 2) := by decide +kernel
theorem d_T_node_102 : decode b_T_node 102 = .ok (.iload_n 2, 1) := by decide +kernel
theorem d_T_node_103 : decode b_T_node 103 = .ok (.istore 6, 2) := by decide +kernel
theorem d_T_node_105 : decode b_T_node 105 = .ok (.iload 6, 2) := by decide +kernel
theorem d_T_node_107 : decode b_T_node 107 = .ok (.ifCond .le 24, 3) := by decide +kernel
theorem d_T_node_110 : decode b_T_node 110 = .ok (.iinc 5 1, 3) := by decide +kernel
theorem d_T_node_113 : decode b_T_node 113 = .ok (.aload_n 0, 1) := by decide +kernel
theorem d_T_node_114 : decode b_T_node 114 = .ok (.getfield 22, 3) := by decide +kernel
theorem d_T_node_117 : decode b_T_node 117 = .ok (.sipush 1500, 3) := by decide +kernel
theorem d_T_node_120 : decode b_T_node 120 = .ok (.iload_n 1, 1) := by decide +kernel
theorem d_T_node_121 : decode b_T_node 121 = .ok (.imul, 1) := by decide +kernel
theorem d_T_node_122 : decode b_T_node 122 = .ok (.iload 6, 2) := by decide +kernel
theorem d_T_node_124 : decode b_T_node 124 = .ok (.iadd, 1) := by decide +kernel
theorem d_T_node_125 : decode b_T_node 125 = .ok (.iaload, 1) := by decide +kernel
theorem d_T_node_126 : decode b_T_node 126 = .ok (.istore 6, 2) := by decide +kernel
theorem d_T_node_128 : decode b_T_node 128 = .ok (.goto (-23), 3) := by decide +kernel
theorem d_T_node_131 : decode b_T_node 131 = .ok (.iload 5, 2) := by decide +kernel
theorem d_T_node_133 : decode b_T_node 133 = .ok (.ireturn, 1) := by decide +kernel
theorem d_T_latest_0 : decode b_T_latest 0 = .ok (.aload_n 0, 1) := by decide +kernel
theorem d_T_latest_1 : decode b_T_latest 1 = .ok (.iconst 0, 1) := by decide +kernel
theorem d_T_latest_2 : decode b_T_latest 2 = .ok (.putfield 82, 3) := by decide +kernel
theorem d_T_latest_5 : decode b_T_latest 5 = .ok (.iload_n 1, 1) := by decide +kernel
theorem d_T_latest_6 : decode b_T_latest 6 = .ok (.iconst 0, 1) := by decide +kernel
theorem d_T_latest_7 : decode b_T_latest 7 = .ok (.iconst 1, 1) := by decide +kernel
theorem d_T_latest_8 : decode b_T_latest 8 = .ok (.invokestatic 88, 3) := by decide +kernel
theorem d_T_latest_11 : decode b_T_latest 11 = .ok (.ifCond .eq 32, 3) := by decide +kernel
theorem d_T_latest_14 : decode b_T_latest 14 = .ok (.iload_n 2, 1) := by decide +kernel
theorem d_T_latest_15 : decode b_T_latest 15 = .ok (.iconst 0, 1) := by decide +kernel
theorem d_T_latest_16 : decode b_T_latest 16 = .ok (.aload_n 0, 1) := by decide +kernel
theorem d_T_latest_17 : decode b_T_latest 17 = .ok (.getfield 31, 3) := by decide +kernel
theorem d_T_latest_20 : decode b_T_latest 20 = .ok (.iload_n 1, 1) := by decide +kernel
theorem d_T_latest_21 : decode b_T_latest 21 = .ok (.iaload, 1) := by decide +kernel
theorem d_T_latest_22 : decode b_T_latest 22 = .ok (.iconst 1, 1) := by decide +kernel
theorem d_T_latest_23 : decode b_T_latest 23 = .ok (.isub, 1) := by decide +kernel
theorem d_T_latest_24 : decode b_T_latest 24 = .ok (.invokestatic 88, 3) := by decide +kernel
theorem d_T_latest_27 : decode b_T_latest 27 = .ok (.ifCond .eq 16, 3) := by decide +kernel
theorem d_T_latest_30 : decode b_T_latest 30 = .ok (.aload_n 0, 1) := by decide +kernel
theorem d_T_latest_31 : decode b_T_latest 31 = .ok (.getfield 34, 3) := by decide +kernel
theorem d_T_latest_34 : decode b_T_latest 34 = .ok (.iconst 4, 1) := by decide +kernel
theorem d_T_latest_35 : decode b_T_latest 35 = .ok (.iload_n 1, 1) := by decide +kernel
theorem d_T_latest_36 : decode b_T_latest 36 = .ok (.imul, 1) := by decide +kernel
theorem d_T_latest_37 : decode b_T_latest 37 = .ok (.iload_n 2, 1) := by decide +kernel
theorem d_T_latest_38 : decode b_T_latest 38 = .ok (.iadd, 1) := by decide +kernel
theorem d_T_latest_39 : decode b_T_latest 39 = .ok (.iaload, 1) := by decide +kernel
theorem d_T_latest_40 : decode b_T_latest 40 = .ok (.goto 4, 3) := by decide +kernel
theorem d_T_latest_43 : decode b_T_latest 43 = .ok (.iconst (-1), 1) := by decide +kernel
theorem d_T_latest_44 : decode b_T_latest 44 = .ok (.ireturn, 1) := by decide +kernel
theorem d_T_restarted_0 : decode b_T_restarted 0 = .ok (.aload_n 0, 1) := by decide +kernel
theorem d_T_restarted_1 : decode b_T_restarted 1 = .ok (.iconst 0, 1) := by decide +kernel
theorem d_T_restarted_2 : decode b_T_restarted 2 = .ok (.putfield 82, 3) := by decide +kernel
theorem d_T_restarted_5 : decode b_T_restarted 5 = .ok (.iload_n 1, 1) := by decide +kernel
theorem d_T_restarted_6 : decode b_T_restarted 6 = .ok (.iconst 0, 1) := by decide +kernel
theorem d_T_restarted_7 : decode b_T_restarted 7 = .ok (.iconst 1, 1) := by decide +kernel
theorem d_T_restarted_8 : decode b_T_restarted 8 = .ok (.invokestatic 88, 3) := by decide +kernel
theorem d_T_restarted_11 : decode b_T_restarted 11 = .ok (.ifCond .eq 12, 3) := by decide +kernel
theorem d_T_restarted_14 : decode b_T_restarted 14 = .ok (.aload_n 0, 1) := by decide +kernel
theorem d_T_restarted_15 : decode b_T_restarted 15 = .ok (.getfield 37, 3) := by decide +kernel
theorem d_T_restarted_18 : decode b_T_restarted 18 = .ok (.iload_n 1, 1) := by decide +kernel
theorem d_T_restarted_19 : decode b_T_restarted 19 = .ok (.iaload, 1) := by decide +kernel
theorem d_T_restarted_20 : decode b_T_restarted 20 = .ok (.goto 4, 3) := by decide +kernel
theorem d_T_restarted_23 : decode b_T_restarted 23 = .ok (.iconst (-1), 1) := by decide +kernel
theorem d_T_restarted_24 : decode b_T_restarted 24 = .ok (.ireturn, 1) := by decide +kernel
theorem d_T_reset_0 : decode b_T_reset 0 = .ok (.aload_n 0, 1) := by decide +kernel
theorem d_T_reset_1 : decode b_T_reset 1 = .ok (.iconst 0, 1) := by decide +kernel
theorem d_T_reset_2 : decode b_T_reset 2 = .ok (.putfield 82, 3) := by decide +kernel
theorem d_T_reset_5 : decode b_T_reset 5 = .ok (.iload_n 1, 1) := by decide +kernel
theorem d_T_reset_6 : decode b_T_reset 6 = .ok (.iconst 0, 1) := by decide +kernel
theorem d_T_reset_7 : decode b_T_reset 7 = .ok (.iconst 1, 1) := by decide +kernel
theorem d_T_reset_8 : decode b_T_reset 8 = .ok (.invokestatic 88, 3) := by decide +kernel
theorem d_T_reset_11 : decode b_T_reset 11 = .ok (.ifCond .ne 5, 3) := by decide +kernel
theorem d_T_reset_14 : decode b_T_reset 14 = .ok (.iconst (-1), 1) := by decide +kernel
theorem d_T_reset_15 : decode b_T_reset 15 = .ok (.ireturn, 1) := by decide +kernel
theorem d_T_reset_16 : decode b_T_reset 16 = .ok (.aload_n 0, 1) := by decide +kernel
theorem d_T_reset_17 : decode b_T_reset 17 = .ok (.getfield 19, 3) := by decide +kernel
theorem d_T_reset_20 : decode b_T_reset 20 = .ok (.iload_n 1, 1) := by decide +kernel
theorem d_T_reset_21 : decode b_T_reset 21 = .ok (.iaload, 1) := by decide +kernel
theorem d_T_reset_22 : decode b_T_reset 22 = .ok (.istore_n 2, 1) := by decide +kernel
theorem d_T_reset_23 : decode b_T_reset 23 = .ok (.aload_n 0, 1) := by decide +kernel
theorem d_T_reset_24 : decode b_T_reset 24 = .ok (.iload_n 1, 1) := by decide +kernel
theorem d_T_reset_25 : decode b_T_reset 25 = .ok (.invokevirtual 78, 3) := by decide +kernel
theorem d_T_reset_28 : decode b_T_reset 28 = .ok (.iload_n 2, 1) := by decide +kernel
theorem d_T_reset_29 : decode b_T_reset 29 = .ok (.ireturn, 1) := by decide +kernel
theorem d_T_equal_0 : decode b_T_equal 0 = .ok (.aload_n 0, 1) := by decide +kernel
theorem d_T_equal_1 : decode b_T_equal 1 = .ok (.iconst 0, 1) := by decide +kernel
theorem d_T_equal_2 : decode b_T_equal 2 = .ok (.putfield 82, 3) := by decide +kernel
theorem d_T_equal_5 : decode b_T_equal 5 = .ok (.aload_n 0, 1) := by decide +kernel
theorem d_T_equal_6 : decode b_T_equal 6 = .ok (.getfield 19, 3) := by decide +kernel
theorem d_T_equal_9 : decode b_T_equal 9 = .ok (.iconst 0, 1) := by decide +kernel
theorem d_T_equal_10 : decode b_T_equal 10 = .ok (.iaload, 1) := by decide +kernel
theorem d_T_equal_11 : decode b_T_equal 11 = .ok (.aload_n 0, 1) := by decide +kernel
theorem d_T_equal_12 : decode b_T_equal 12 = .ok (.getfield 19, 3) := by decide +kernel
theorem d_T_equal_15 : decode b_T_equal 15 = .ok (.iconst 1, 1) := by decide +kernel
theorem d_T_equal_16 : decode b_T_equal 16 = .ok (.iaload, 1) := by decide +kernel
theorem d_T_equal_17 : decode b_T_equal 17 = .ok (.if_icmp .ne 22, 3) := by decide +kernel
theorem d_T_equal_20 : decode b_T_equal 20 = .ok (.aload_n 0, 1) := by decide +kernel
theorem d_T_equal_21 : decode b_T_equal 21 = .ok (.getfield 31, 3) := by decide +kernel
theorem d_T_equal_24 : decode b_T_equal 24 = .ok (.iconst 0, 1) := by decide +kernel
theorem d_T_equal_25 : decode b_T_equal 25 = .ok (.iaload, 1) := by decide +kernel
theorem d_T_equal_26 : decode b_T_equal 26 = .ok (.aload_n 0, 1) := by decide +kernel
theorem d_T_equal_27 : decode b_T_equal 27 = .ok (.getfield 31, 3) := by decide +kernel
theorem d_T_equal_30 : decode b_T_equal 30 = .ok (.iconst 1, 1) := by decide +kernel
theorem d_T_equal_31 : decode b_T_equal 31 = .ok (.iaload, 1) := by decide +kernel
theorem d_T_equal_32 : decode b_T_equal 32 = .ok (.if_icmp .ne 7, 3) := by decide +kernel
theorem d_T_equal_35 : decode b_T_equal 35 = .ok (.iconst 1, 1) := by decide +kernel
theorem d_T_equal_36 : decode b_T_equal 36 = .ok (.goto 4, 3) := by decide +kernel
theorem d_T_equal_39 : decode b_T_equal 39 = .ok (.iconst 0, 1) := by decide +kernel
theorem d_T_equal_40 : decode b_T_equal 40 = .ok (.istore_n 1, 1) := by decide +kernel
theorem d_T_equal_41 : decode b_T_equal 41 = .ok (.iconst 0, 1) := by decide +kernel
theorem d_T_equal_42 : decode b_T_equal 42 = .ok (.istore_n 2, 1) := by decide +kernel
theorem d_T_equal_43 : decode b_T_equal 43 = .ok (.iload_n 2, 1) := by decide +kernel
theorem d_T_equal_44 : decode b_T_equal 44 = .ok (.aload_n 0, 1) := by decide +kernel
theorem d_T_equal_45 : decode b_T_equal 45 = .ok (.getfield 19, 3) := by decide +kernel
theorem d_T_equal_48 : decode b_T_equal 48 = .ok (.iconst 0, 1) := by decide +kernel
theorem d_T_equal_49 : decode b_T_equal 49 = .ok (.iaload, 1) := by decide +kernel
theorem d_T_equal_50 : decode b_T_equal 50 = .ok (.if_icmp .ge 76, 3) := by decide +kernel
theorem d_T_equal_53 : decode b_T_equal 53 = .ok (.iload_n 1, 1) := by decide +kernel
theorem d_T_equal_54 : decode b_T_equal 54 = .ok (.ifCond .eq 72, 3) := by decide +kernel
theorem d_T_equal_57 : decode b_T_equal 57 = .ok (.aload_n 0, 1) := by decide +kernel
theorem d_T_equal_58 : decode b_T_equal 58 = .ok (.getfield 22, 3) := by decide +kernel
theorem d_T_equal_61 : decode b_T_equal 61 = .ok (.iload_n 2, 1) := by decide +kernel
theorem d_T_equal_62 : decode b_T_equal 62 = .ok (.iaload, 1) := by decide +kernel
theorem d_T_equal_63 : decode b_T_equal 63 = .ok (.aload_n 0, 1) := by decide +kernel
theorem d_T_equal_64 : decode b_T_equal 64 = .ok (.getfield 22, 3) := by decide +kernel
theorem d_T_equal_67 : decode b_T_equal 67 = .ok (.sipush 1500, 3) := by decide +kernel
theorem d_T_equal_70 : decode b_T_equal 70 = .ok (.iload_n 2, 1) := by decide +kernel
theorem d_T_equal_71 : decode b_T_equal 71 = .ok (.iadd, 1) := by decide +kernel
theorem d_T_equal_72 : decode b_T_equal 72 = .ok (.iaload, 1) := by decide +kernel
theorem d_T_equal_73 : decode b_T_equal 73 = .ok (.if_icmp .ne 45, 3) := by decide +kernel
theorem d_T_equal_76 : decode b_T_equal 76 = .ok (.aload_n 0, 1) := by decide +kernel
theorem d_T_equal_77 : decode b_T_equal 77 = .ok (.getfield 25, 3) := by decide +kernel
theorem d_T_equal_80 : decode b_T_equal 80 = .ok (.iload_n 2, 1) := by decide +kernel
theorem d_T_equal_81 : decode b_T_equal 81 = .ok (.iaload, 1) := by decide +kernel
theorem d_T_equal_82 : decode b_T_equal 82 = .ok (.aload_n 0, 1) := by decide +kernel
theorem d_T_equal_83 : decode b_T_equal 83 = .ok (.getfield 25, 3) := by decide +kernel
theorem d_T_equal_86 : decode b_T_equal 86 = .ok (.sipush 1500, 3) := by decide +kernel
theorem d_T_equal_89 : decode b_T_equal 89 = .ok (.iload_n 2, 1) := by decide +kernel
theorem d_T_equal_90 : decode b_T_equal 90 = .ok (.iadd, 1) := by decide +kernel
theorem d_T_equal_91 : decode b_T_equal 91 = .ok (.iaload, 1) := by decide +kernel
theorem d_T_equal_92 : decode b_T_equal 92 = .ok (.if_icmp .ne 26, 3) := by decide +kernel
theorem d_T_equal_95 : decode b_T_equal 95 = .ok (.aload_n 0, 1) := by decide +kernel
theorem d_T_equal_96 : decode b_T_equal 96 = .ok (.getfield 28, 3) := by decide +kernel
theorem d_T_equal_99 : decode b_T_equal 99 = .ok (.iload_n 2, 1) := by decide +kernel
theorem d_T_equal_100 : decode b_T_equal 100 = .ok (.iaload, 1) := by decide +kernel
theorem d_T_equal_101 : decode b_T_equal 101 = .ok (.aload_n 0, 1) := by decide +kernel
theorem d_T_equal_102 : decode b_T_equal 102 = .ok (.getfield 28, 3) := by decide +kernel
theorem d_T_equal_105 : decode b_T_equal 105 = .ok (.sipush 1500, 3) := by decide +kernel
theorem d_T_equal_108 : decode b_T_equal 108 = .ok (.iload_n 2, 1) := by decide +kernel
theorem d_T_equal_109 : decode b_T_equal 109 = .ok (.iadd, 1) := by decide +kernel
theorem d_T_equal_110 : decode b_T_equal 110 = .ok (.iaload, 1) := by decide +kernel
theorem d_T_equal_111 : decode b_T_equal 111 = .ok (.if_icmp .ne 7, 3) := by decide +kernel
theorem d_T_equal_114 : decode b_T_equal 114 = .ok (.iconst 1, 1) := by decide +kernel
theorem d_T_equal_115 : decode b_T_equal 115 = .ok (.goto 4, 3) := by decide +kernel
theorem d_T_equal_118 : decode b_T_equal 118 = .ok (.iconst 0, 1) := by decide +kernel
theorem d_T_equal_119 : decode b_T_equal 119 = .ok (.istore_n 1, 1) := by decide +kernel
theorem d_T_equal_120 : decode b_T_equal 120 = .ok (.iinc 2 1, 3) := by decide +kernel
theorem d_T_equal_123 : decode b_T_equal 123 = .ok (.goto (-80), 3) := by decide +kernel
theorem d_T_equal_126 : decode b_T_equal 126 = .ok (.iconst 0, 1) := by decide +kernel
theorem d_T_equal_127 : decode b_T_equal 127 = .ok (.istore_n 2, 1) := by decide +kernel
theorem d_T_equal_128 : decode b_T_equal 128 = .ok (.iload_n 2, 1) := by decide +kernel
theorem d_T_equal_129 : decode b_T_equal 129 = .ok (.aload_n 0, 1) := by decide +kernel
theorem d_T_equal_130 : decode b_T_equal 130 = .ok (.getfield 31, 3) := by decide +kernel
theorem d_T_equal_133 : decode b_T_equal 133 = .ok (.iconst 0, 1) := by decide +kernel
theorem d_T_equal_134 : decode b_T_equal 134 = .ok (.iaload, 1) := by decide +kernel
theorem d_T_equal_135 : decode b_T_equal 135 = .ok (.if_icmp .ge 36, 3) := by decide +kernel
theorem d_T_equal_138 : decode b_T_equal 138 = .ok (.iload_n 1, 1) := by decide +kernel
theorem d_T_equal_139 : decode b_T_equal 139 = .ok (.ifCond .eq 32, 3) := by decide +kernel
theorem d_T_equal_142 : decode b_T_equal 142 = .ok (.aload_n 0, 1) := by decide +kernel
theorem d_T_equal_143 : decode b_T_equal 143 = .ok (.getfield 34, 3) := by decide +kernel
theorem d_T_equal_146 : decode b_T_equal 146 = .ok (.iload_n 2, 1) := by decide +kernel
theorem d_T_equal_147 : decode b_T_equal 147 = .ok (.iaload, 1) := by decide +kernel
theorem d_T_equal_148 : decode b_T_equal 148 = .ok (.aload_n 0, 1) := by decide +kernel
theorem d_T_equal_149 : decode b_T_equal 149 = .ok (.getfield 34, 3) := by decide +kernel
theorem d_T_equal_152 : decode b_T_equal 152 = .ok (.iconst 4, 1) := by decide +kernel
theorem d_T_equal_153 : decode b_T_equal 153 = .ok (.iload_n 2, 1) := by decide +kernel
theorem d_T_equal_154 : decode b_T_equal 154 = .ok (.iadd, 1) := by decide +kernel
theorem d_T_equal_155 : decode b_T_equal 155 = .ok (.iaload, 1) := by decide +kernel
theorem d_T_equal_156 : decode b_T_equal 156 = .ok (.if_icmp .ne 7, 3) := by decide +kernel
theorem d_T_equal_159 : decode b_T_equal 159 = .ok (.iconst 1, 1) := by decide +kernel
theorem d_T_equal_160 : decode b_T_equal 160 = .ok (.goto 4, 3) := by decide +kernel
theorem d_T_equal_163 : decode b_T_equal 163 = .ok (.iconst 0, 1) := by decide +kernel
theorem d_T_equal_164 : decode b_T_equal 164 = .ok (.istore_n 1, 1) := by decide +kernel
theorem d_T_equal_165 : decode b_T_equal 165 = .ok (.iinc 2 1, 3) := by decide +kernel
theorem d_T_equal_168 : decode b_T_equal 168 = .ok (.goto (-40), 3) := by decide +kernel
theorem d_T_equal_171 : decode b_T_equal 171 = .ok (.iload_n 1, 1) := by decide +kernel
theorem d_T_equal_172 : decode b_T_equal 172 = .ok (.ifCond .eq 7, 3) := by decide +kernel
theorem d_T_equal_175 : decode b_T_equal 175 = .ok (.iconst 1, 1) := by decide +kernel
theorem d_T_equal_176 : decode b_T_equal 176 = .ok (.goto 4, 3) := by decide +kernel
theorem d_T_equal_179 : decode b_T_equal 179 = .ok (.iconst 0, 1) := by decide +kernel
theorem d_T_equal_180 : decode b_T_equal 180 = .ok (.ireturn, 1) := by decide +kernel
theorem d_T_save_0 : decode b_T_save 0 = .ok (.aload_n 0, 1) := by decide +kernel
theorem d_T_save_1 : decode b_T_save 1 = .ok (.iconst 0, 1) := by decide +kernel
theorem d_T_save_2 : decode b_T_save 2 = .ok (.putfield 82, 3) := by decide +kernel
theorem d_T_save_5 : decode b_T_save 5 = .ok (.iload_n 1, 1) := by decide +kernel
theorem d_T_save_6 : decode b_T_save 6 = .ok (.iconst 0, 1) := by decide +kernel
theorem d_T_save_7 : decode b_T_save 7 = .ok (.iconst 1, 1) := by decide +kernel
theorem d_T_save_8 : decode b_T_save 8 = .ok (.invokestatic 88, 3) := by decide +kernel
theorem d_T_save_11 : decode b_T_save 11 = .ok (.ifCond .ne 5, 3) := by decide +kernel
theorem d_T_save_14 : decode b_T_save 14 = .ok (.iconst (-1), 1) := by decide +kernel
theorem d_T_save_15 : decode b_T_save 15 = .ok (.ireturn, 1) := by decide +kernel
theorem d_T_save_16 : decode b_T_save 16 = .ok (.aload_n 0, 1) := by decide +kernel
theorem d_T_save_17 : decode b_T_save 17 = .ok (.getfield 228, 3) := by decide +kernel
theorem d_T_save_20 : decode b_T_save 20 = .ok (.iconst 4, 1) := by decide +kernel
theorem d_T_save_21 : decode b_T_save 21 = .ok (.if_icmp .ne 6, 3) := by decide +kernel
theorem d_T_save_24 : decode b_T_save 24 = .ok (.bipush (-2), 2) := by decide +kernel
theorem d_T_save_26 : decode b_T_save 26 = .ok (.ireturn, 1) := by decide +kernel
theorem d_T_save_27 : decode b_T_save 27 = .ok (.aload_n 0, 1) := by decide +kernel
theorem d_T_save_28 : decode b_T_save 28 = .ok (.iload_n 1, 1) := by decide +kernel
theorem d_T_save_29 : decode b_T_save 29 = .ok (.iconst 3, 1) := by decide +kernel
theorem d_T_save_30 : decode b_T_save 30 = .ok (.aload_n 0, 1) := by decide +kernel
theorem d_T_save_31 : decode b_T_save 31 = .ok (.getfield 228, 3) := by decide +kernel
theorem d_T_save_34 : decode b_T_save 34 = .ok (.iadd, 1) := by decide +kernel
theorem d_T_save_35 : decode b_T_save 35 = .ok (.invokevirtual 219, 3) := by decide +kernel
theorem d_T_save_38 : decode b_T_save 38 = .ok (.aload_n 0, 1) := by decide +kernel
theorem d_T_save_39 : decode b_T_save 39 = .ok (.dup, 1) := by decide +kernel
theorem d_T_save_40 : decode b_T_save 40 = .ok (.getfield 228, 3) := by decide +kernel
theorem d_T_save_43 : decode b_T_save 43 = .ok (.iconst 1, 1) := by decide +kernel
theorem d_T_save_44 : decode b_T_save 44 = .ok (.iadd, 1) := by decide +kernel
theorem d_T_save_45 : decode b_T_save 45 = .ok (.putfield 228, 3) := by decide +kernel
theorem d_T_save_48 : decode b_T_save 48 = .ok (.aload_n 0, 1) := by decide +kernel
theorem d_T_save_49 : decode b_T_save 49 = .ok (.getfield 228, 3) := by decide +kernel
theorem d_T_save_52 : decode b_T_save 52 = .ok (.iconst 1, 1) := by decide +kernel
theorem d_T_save_53 : decode b_T_save 53 = .ok (.isub, 1) := by decide +kernel
theorem d_T_save_54 : decode b_T_save 54 = .ok (.ireturn, 1) := by decide +kernel
theorem d_T_restore_0 : decode b_T_restore 0 = .ok (.aload_n 0, 1) := by decide +kernel
theorem d_T_restore_1 : decode b_T_restore 1 = .ok (.iconst 0, 1) := by decide +kernel
theorem d_T_restore_2 : decode b_T_restore 2 = .ok (.putfield 82, 3) := by decide +kernel
theorem d_T_restore_5 : decode b_T_restore 5 = .ok (.iload_n 1, 1) := by decide +kernel
theorem d_T_restore_6 : decode b_T_restore 6 = .ok (.iconst 0, 1) := by decide +kernel
theorem d_T_restore_7 : decode b_T_restore 7 = .ok (.iconst 1, 1) := by decide +kernel
theorem d_T_restore_8 : decode b_T_restore 8 = .ok (.invokestatic 88, 3) := by decide +kernel
theorem d_T_restore_11 : decode b_T_restore 11 = .ok (.ifCond .eq 17, 3) := by decide +kernel
theorem d_T_restore_14 : decode b_T_restore 14 = .ok (.iload_n 2, 1) := by decide +kernel
theorem d_T_restore_15 : decode b_T_restore 15 = .ok (.iconst 0, 1) := by decide +kernel
theorem d_T_restore_16 : decode b_T_restore 16 = .ok (.aload_n 0, 1) := by decide +kernel
theorem d_T_restore_17 : decode b_T_restore 17 = .ok (.getfield 228, 3) := by decide +kernel
theorem d_T_restore_20 : decode b_T_restore 20 = .ok (.iconst 1, 1) := by decide +kernel
theorem d_T_restore_21 : decode b_T_restore 21 = .ok (.isub, 1) := by decide +kernel
theorem d_T_restore_22 : decode b_T_restore 22 = .ok (.invokestatic 88, 3) := by decide +kernel
theorem d_T_restore_25 : decode b_T_restore 25 = .ok (.ifCond .ne 5, 3) := by decide +kernel
theorem d_T_restore_28 : decode b_T_restore 28 = .ok (.iconst (-1), 1) := by decide +kernel
theorem d_T_restore_29 : decode b_T_restore 29 = .ok (.ireturn, 1) := by decide +kernel
theorem d_T_restore_30 : decode b_T_restore 30 = .ok (.aload_n 0, 1) := by decide +kernel
theorem d_T_restore_31 : decode b_T_restore 31 = .ok (.iconst 3, 1) := by decide +kernel
theorem d_T_restore_32 : decode b_T_restore 32 = .ok (.iload_n 2, 1) := by decide +kernel
theorem d_T_restore_33 : decode b_T_restore 33 = .ok (.iadd, 1) := by decide +kernel
theorem d_T_restore_34 : decode b_T_restore 34 = .ok (.iload_n 1, 1) := by decide +kernel
theorem d_T_restore_35 : decode b_T_restore 35 = .ok (.invokevirtual 219, 3) := by decide +kernel
theorem d_T_restore_38 : decode b_T_restore 38 = .ok (.aload_n 0, 1) := by decide +kernel
theorem d_T_restore_39 : decode b_T_restore 39 = .ok (.getfield 19, 3) := by decide +kernel
theorem d_T_restore_42 : decode b_T_restore 42 = .ok (.iload_n 1, 1) := by decide +kernel
theorem d_T_restore_43 : decode b_T_restore 43 = .ok (.iaload, 1) := by decide +kernel
theorem d_T_restore_44 : decode b_T_restore 44 = .ok (.ireturn, 1) := by decide +kernel
theorem d_T_forget_0 : decode b_T_forget 0 = .ok (.aload_n 0, 1) := by decide +kernel
theorem d_T_forget_1 : decode b_T_forget 1 = .ok (.iconst 0, 1) := by decide +kernel
theorem d_T_forget_2 : decode b_T_forget 2 = .ok (.putfield 82, 3) := by decide +kernel
theorem d_T_forget_5 : decode b_T_forget 5 = .ok (.aload_n 0, 1) := by decide +kernel
theorem d_T_forget_6 : decode b_T_forget 6 = .ok (.getfield 228, 3) := by decide +kernel
theorem d_T_forget_9 : decode b_T_forget 9 = .ok (.istore_n 1, 1) := by decide +kernel
theorem d_T_forget_10 : decode b_T_forget 10 = .ok (.aload_n 0, 1) := by decide +kernel
theorem d_T_forget_11 : decode b_T_forget 11 = .ok (.iconst 0, 1) := by decide +kernel
theorem d_T_forget_12 : decode b_T_forget 12 = .ok (.putfield 228, 3) := by decide +kernel
theorem d_T_forget_15 : decode b_T_forget 15 = .ok (.iload_n 1, 1) := by decide +kernel
theorem d_T_forget_16 : decode b_T_forget 16 = .ok (.ireturn, 1) := by decide +kernel
theorem d_T_cost_0 : decode b_T_cost 0 = .ok (.aload_n 0, 1) := by decide +kernel
theorem d_T_cost_1 : decode b_T_cost 1 = .ok (.iconst 0, 1) := by decide +kernel
theorem d_T_cost_2 : decode b_T_cost 2 = .ok (.putfield 82, 3) := by decide +kernel
theorem d_T_cost_5 : decode b_T_cost 5 = .ok (.iload_n 1, 1) := by decide +kernel
theorem d_T_cost_6 : decode b_T_cost 6 = .ok (.iconst 0, 1) := by decide +kernel
theorem d_T_cost_7 : decode b_T_cost 7 = .ok (.iconst 1, 1) := by decide +kernel
theorem d_T_cost_8 : decode b_T_cost 8 = .ok (.invokestatic 88, 3) := by decide +kernel
theorem d_T_cost_11 : decode b_T_cost 11 = .ok (.ifCond .eq 14, 3) := by decide +kernel
theorem d_T_cost_14 : decode b_T_cost 14 = .ok (.iload_n 2, 1) := by decide +kernel
theorem d_T_cost_15 : decode b_T_cost 15 = .ok (.iconst 0, 1) := by decide +kernel
theorem d_T_cost_16 : decode b_T_cost 16 = .ok (.sipush 256, 3) := by decide +kernel
theorem d_T_cost_19 : decode b_T_cost 19 = .ok (.invokestatic 88, 3) := by decide +kernel
theorem d_T_cost_22 : decode b_T_cost 22 = .ok (.ifCond .ne 5, 3) := by decide +kernel
theorem d_T_cost_25 : decode b_T_cost 25 = .ok (.iconst (-1), 1) := by decide +kernel
theorem d_T_cost_26 : decode b_T_cost 26 = .ok (.ireturn, 1) := by decide +kernel
theorem d_T_cost_27 : decode b_T_cost 27 = .ok (.aload_n 0, 1) := by decide +kernel
theorem d_T_cost_28 : decode b_T_cost 28 = .ok (.invokevirtual 167, 3) := by decide +kernel
theorem d_T_cost_31 : decode b_T_cost 31 = .ok (.iconst 0, 1) := by decide +kernel
theorem d_T_cost_32 : decode b_T_cost 32 = .ok (.istore_n 3, 1) := by decide +kernel
theorem d_T_cost_33 : decode b_T_cost 33 = .ok (.aload_n 0, 1) := by decide +kernel
theorem d_T_cost_34 : decode b_T_cost 34 = .ok (.getfield 31, 3) := by decide +kernel
theorem d_T_cost_37 : decode b_T_cost 37 = .ok (.iload_n 1, 1) := by decide +kernel
theorem d_T_cost_38 : decode b_T_cost 38 = .ok (.iaload, 1) := by decide +kernel
theorem d_T_cost_39 : decode b_T_cost 39 = .ok (.istore 4, 2) := by decide +kernel
theorem d_T_cost_41 : decode b_T_cost 41 = .ok (.iload 4, 2) := by decide +kernel
theorem d_T_cost_43 : decode b_T_cost 43 = .ok (.ifCond .lt 48, 3) := by decide +kernel
theorem d_T_cost_46 : decode b_T_cost 46 = .ok (.aload_n 0, 1) := by decide +kernel
theorem d_T_cost_47 : decode b_T_cost 47 = .ok (.iload_n 1, 1) := by decide +kernel
theorem d_T_cost_48 : decode b_T_cost 48 = .ok (.iload 4, 2) := by decide +kernel
theorem d_T_cost_50 : decode b_T_cost 50 = .ok (.invokevirtual 170, 3) := by decide +kernel
theorem d_T_cost_53 : decode b_T_cost 53 = .ok (.aload_n 0, 1) := by decide +kernel
theorem d_T_cost_54 : decode b_T_cost 54 = .ok (.getfield 113, 3) := by decide +kernel
theorem d_T_cost_57 : decode b_T_cost 57 = .ok (.ifCond .le 28, 3) := by decide +kernel
theorem d_T_cost_60 : decode b_T_cost 60 = .ok (.aload_n 0, 1) := by decide +kernel
theorem d_T_cost_61 : decode b_T_cost 61 = .ok (.iload_n 2, 1) := by decide +kernel
theorem d_T_cost_62 : decode b_T_cost 62 = .ok (.invokevirtual 173, 3) := by decide +kernel
theorem d_T_cost_65 : decode b_T_cost 65 = .ok (.istore 5, 2) := by decide +kernel
theorem d_T_cost_67 : decode b_T_cost 67 = .ok (.iload_n 3, 1) := by decide +kernel
theorem d_T_cost_68 : decode b_T_cost 68 = .ok (.aload_n 0, 1) := by decide +kernel
theorem d_T_cost_69 : decode b_T_cost 69 = .ok (.invokevirtual 231, 3) := by decide +kernel
theorem d_T_cost_72 : decode b_T_cost 72 = .ok (.iadd, 1) := by decide +kernel
theorem d_T_cost_73 : decode b_T_cost 73 = .ok (.istore_n 3, 1) := by decide +kernel
theorem d_T_cost_74 : decode b_T_cost 74 = .ok (.iload 5, 2) := by decide +kernel
theorem d_T_cost_76 : decode b_T_cost 76 = .ok (.ifCond .eq 5, 3) := by decide +kernel
theorem d_T_cost_79 : decode b_T_cost 79 = .ok (.iload_n 3, 1) := by decide +kernel
theorem d_T_cost_80 : decode b_T_cost 80 = .ok (.ireturn, 1) := by decide +kernel
theorem d_T_cost_81 : decode b_T_cost 81 = .ok (.aload_n 0, 1) := by decide +kernel
theorem d_T_cost_82 : decode b_T_cost 82 = .ok (.invokevirtual 177, 3) := by decide +kernel
theorem d_T_cost_85 : decode b_T_cost 85 = .ok (.iinc 4 (-1), 3) := by decide +kernel
theorem d_T_cost_88 : decode b_T_cost 88 = .ok (.goto (-47), 3) := by decide +kernel
theorem d_T_cost_91 : decode b_T_cost 91 = .ok (.aload_n 0, 1) := by decide +kernel
theorem d_T_cost_92 : decode b_T_cost 92 = .ok (.iload_n 2, 1) := by decide +kernel
theorem d_T_cost_93 : decode b_T_cost 93 = .ok (.invokevirtual 183, 3) := by decide +kernel
theorem d_T_cost_96 : decode b_T_cost 96 = .ok (.iload_n 3, 1) := by decide +kernel
theorem d_T_cost_97 : decode b_T_cost 97 = .ok (.aload_n 0, 1) := by decide +kernel
theorem d_T_cost_98 : decode b_T_cost 98 = .ok (.invokevirtual 231, 3) := by decide +kernel
theorem d_T_cost_101 : decode b_T_cost 101 = .ok (.iadd, 1) := by decide +kernel
theorem d_T_cost_102 : decode b_T_cost 102 = .ok (.ireturn, 1) := by decide +kernel
theorem d_T_bitsOf_0 : decode b_T_bitsOf 0 = .ok (.iconst 0, 1) := by decide +kernel
theorem d_T_bitsOf_1 : decode b_T_bitsOf 1 = .ok (.istore_n 1, 1) := by decide +kernel
theorem d_T_bitsOf_2 : decode b_T_bitsOf 2 = .ok (.aload_n 0, 1) := by decide +kernel
theorem d_T_bitsOf_3 : decode b_T_bitsOf 3 = .ok (.getfield 126, 3) := by decide +kernel
theorem d_T_bitsOf_6 : decode b_T_bitsOf 6 = .ok (.iload_n 1, 1) := by decide +kernel
theorem d_T_bitsOf_7 : decode b_T_bitsOf 7 = .ok (.ishl, 1) := by decide +kernel
theorem d_T_bitsOf_8 : decode b_T_bitsOf 8 = .ok (.aload_n 0, 1) := by decide +kernel
theorem d_T_bitsOf_9 : decode b_T_bitsOf 9 = .ok (.getfield 116, 3) := by decide +kernel
theorem d_T_bitsOf_12 : decode b_T_bitsOf 12 = .ok (.if_icmp .ge 9, 3) := by decide +kernel
theorem d_T_bitsOf_15 : decode b_T_bitsOf 15 = .ok (.iinc 1 1, 3) := by decide +kernel
theorem d_T_bitsOf_18 : decode b_T_bitsOf 18 = .ok (.goto (-16), 3) := by decide +kernel
theorem d_T_bitsOf_21 : decode b_T_bitsOf 21 = .ok (.iload_n 1, 1) := by decide +kernel
theorem d_T_bitsOf_22 : decode b_T_bitsOf 22 = .ok (.ireturn, 1) := by decide +kernel
