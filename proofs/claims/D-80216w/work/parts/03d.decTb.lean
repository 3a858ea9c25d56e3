theorem d_T_isFound_0 : decode b_T_isFound 0 = .ok (.aload_n 0, 1) := by decide +kernel
theorem d_T_isFound_1 : decode b_T_isFound 1 = .ok (.aload_n 0, 1) := by decide +kernel
theorem d_T_isFound_2 : decode b_T_isFound 2 = .ok (.getfield 110, 3) := by decide +kernel
theorem d_T_isFound_5 : decode b_T_isFound 5 = .ok (.aload_n 0, 1) := by decide +kernel
theorem d_T_isFound_6 : decode b_T_isFound 6 = .ok (.getfield 113, 3) := by decide +kernel
theorem d_T_isFound_9 : decode b_T_isFound 9 = .ok (.iadd, 1) := by decide +kernel
theorem d_T_isFound_10 : decode b_T_isFound 10 = .ok (.putfield 116, 3) := by decide +kernel
theorem d_T_isFound_13 : decode b_T_isFound 13 = .ok (.iload_n 1, 1) := by decide +kernel
theorem d_T_isFound_14 : decode b_T_isFound 14 = .ok (.sipush 256, 3) := by decide +kernel
theorem d_T_isFound_17 : decode b_T_isFound 17 = .ok (.if_icmp .ge 16, 3) := by decide +kernel
theorem d_T_isFound_20 : decode b_T_isFound 20 = .ok (.aload_n 0, 1) := by decide +kernel
theorem d_T_isFound_21 : decode b_T_isFound 21 = .ok (.getfield 44, 3) := by decide +kernel
theorem d_T_isFound_24 : decode b_T_isFound 24 = .ok (.iload_n 1, 1) := by decide +kernel
theorem d_T_isFound_25 : decode b_T_isFound 25 = .ok (.iaload, 1) := by decide +kernel
theorem d_T_isFound_26 : decode b_T_isFound 26 = .ok (.ifCond .le 7, 3) := by decide +kernel
theorem d_T_isFound_29 : decode b_T_isFound 29 = .ok (.iconst 1, 1) := by decide +kernel
theorem d_T_isFound_30 : decode b_T_isFound 30 = .ok (.goto 4, 3) := by decide +kernel
theorem d_T_isFound_33 : decode b_T_isFound 33 = .ok (.iconst 0, 1) := by decide +kernel
theorem d_T_isFound_34 : decode b_T_isFound 34 = .ok (.istore_n 2, 1) := by decide +kernel
theorem d_T_isFound_35 : decode b_T_isFound 35 = .ok (.aload_n 0, 1) := by decide +kernel
theorem d_T_isFound_36 : decode b_T_isFound 36 = .ok (.iload_n 2, 1) := by decide +kernel
theorem d_T_isFound_37 : decode b_T_isFound 37 = .ok (.ifCond .eq 11, 3) := by decide +kernel
theorem d_T_isFound_40 : decode b_T_isFound 40 = .ok (.aload_n 0, 1) := by decide +kernel
theorem d_T_isFound_41 : decode b_T_isFound 41 = .ok (.iload_n 1, 1) := by decide +kernel
theorem d_T_isFound_42 : decode b_T_isFound 42 = .ok (.invokevirtual 119, 3) := by decide +kernel
theorem d_T_isFound_45 : decode b_T_isFound 45 = .ok (.goto 7, 3) := by decide +kernel
theorem d_T_isFound_48 : decode b_T_isFound 48 = .ok (.aload_n 0, 1) := by decide +kernel
theorem d_T_isFound_49 : decode b_T_isFound 49 = .ok (.getfield 110, 3) := by decide +kernel
theorem d_T_isFound_52 : decode b_T_isFound 52 = .ok (.putfield 123, 3) := by decide +kernel
theorem d_T_isFound_55 : decode b_T_isFound 55 = .ok (.aload_n 0, 1) := by decide +kernel
theorem d_T_isFound_56 : decode b_T_isFound 56 = .ok (.iload_n 2, 1) := by decide +kernel
theorem d_T_isFound_57 : decode b_T_isFound 57 = .ok (.ifCond .eq 12, 3) := by decide +kernel
theorem d_T_isFound_60 : decode b_T_isFound 60 = .ok (.aload_n 0, 1) := by decide +kernel
theorem d_T_isFound_61 : decode b_T_isFound 61 = .ok (.getfield 44, 3) := by decide +kernel
theorem d_T_isFound_64 : decode b_T_isFound 64 = .ok (.iload_n 1, 1) := by decide +kernel
theorem d_T_isFound_65 : decode b_T_isFound 65 = .ok (.iaload, 1) := by decide +kernel
theorem d_T_isFound_66 : decode b_T_isFound 66 = .ok (.goto 7, 3) := by decide +kernel
theorem d_T_isFound_69 : decode b_T_isFound 69 = .ok (.aload_n 0, 1) := by decide +kernel
theorem d_T_isFound_70 : decode b_T_isFound 70 = .ok (.getfield 113, 3) := by decide +kernel
theorem d_T_isFound_73 : decode b_T_isFound 73 = .ok (.putfield 126, 3) := by decide +kernel
theorem d_T_isFound_76 : decode b_T_isFound 76 = .ok (.iload_n 2, 1) := by decide +kernel
theorem d_T_isFound_77 : decode b_T_isFound 77 = .ok (.ireturn, 1) := by decide +kernel
theorem d_T_below_0 : decode b_T_below 0 = .ok (.iconst 0, 1) := by decide +kernel
theorem d_T_below_1 : decode b_T_below 1 = .ok (.istore_n 2, 1) := by decide +kernel
theorem d_T_below_2 : decode b_T_below 2 = .ok (.iconst 0, 1) := by decide +kernel
theorem d_T_below_3 : decode b_T_below 3 = .ok (.istore_n 3, 1) := by decide +kernel
theorem d_T_below_4 : decode b_T_below 4 = .ok (.iload_n 3, 1) := by decide +kernel
theorem d_T_below_5 : decode b_T_below 5 = .ok (.iload_n 1, 1) := by decide +kernel
theorem d_T_below_6 : decode b_T_below 6 = .ok (.if_icmp .ge 18, 3) := by decide +kernel
theorem d_T_below_9 : decode b_T_below 9 = .ok (.iload_n 2, 1) := by decide +kernel
theorem d_T_below_10 : decode b_T_below 10 = .ok (.aload_n 0, 1) := by decide +kernel
theorem d_T_below_11 : decode b_T_below 11 = .ok (.getfield 44, 3) := by decide +kernel
theorem d_T_below_14 : decode b_T_below 14 = .ok (.iload_n 3, 1) := by decide +kernel
theorem d_T_below_15 : decode b_T_below 15 = .ok (.iaload, 1) := by decide +kernel
theorem d_T_below_16 : decode b_T_below 16 = .ok (.iadd, 1) := by decide +kernel
theorem d_T_below_17 : decode b_T_below 17 = .ok (.istore_n 2, 1) := by decide +kernel
theorem d_T_below_18 : decode b_T_below 18 = .ok (.iinc 3 1, 3) := by decide +kernel
theorem d_T_below_21 : decode b_T_below 21 = .ok (.goto (-17), 3) := by decide +kernel
theorem d_T_below_24 : decode b_T_below 24 = .ok (.iload_n 2, 1) := by decide +kernel
theorem d_T_below_25 : decode b_T_below 25 = .ok (.ireturn, 1) := by decide +kernel
theorem d_T_exclude_0 : decode b_T_exclude 0 = .ok (.iconst 0, 1) := by decide +kernel
theorem d_T_exclude_1 : decode b_T_exclude 1 = .ok (.istore_n 1, 1) := by decide +kernel
theorem d_T_exclude_2 : decode b_T_exclude 2 = .ok (.iload_n 1, 1) := by decide +kernel
theorem d_T_exclude_3 : decode b_T_exclude 3 = .ok (.sipush 256, 3) := by decide +kernel
theorem d_T_exclude_6 : decode b_T_exclude 6 = .ok (.if_icmp .ge 35, 3) := by decide +kernel
theorem d_T_exclude_9 : decode b_T_exclude 9 = .ok (.aload_n 0, 1) := by decide +kernel
theorem d_T_exclude_10 : decode b_T_exclude 10 = .ok (.getfield 44, 3) := by decide +kernel
theorem d_T_exclude_13 : decode b_T_exclude 13 = .ok (.iload_n 1, 1) := by decide +kernel
theorem d_T_exclude_14 : decode b_T_exclude 14 = .ok (.iaload, 1) := by decide +kernel
theorem d_T_exclude_15 : decode b_T_exclude 15 = .ok (.ifCond .le 20, 3) := by decide +kernel
theorem d_T_exclude_18 : decode b_T_exclude 18 = .ok (.aload_n 0, 1) := by decide +kernel
theorem d_T_exclude_19 : decode b_T_exclude 19 = .ok (.getfield 40, 3) := by decide +kernel
theorem d_T_exclude_22 : decode b_T_exclude 22 = .ok (.iload_n 1, 1) := by decide +kernel
theorem d_T_exclude_23 : decode b_T_exclude 23 = .ok (.iconst 1, 1) := by decide +kernel
theorem d_T_exclude_24 : decode b_T_exclude 24 = .ok (.bastore, 1) := by decide +kernel
theorem d_T_exclude_25 : decode b_T_exclude 25 = .ok (.aload_n 0, 1) := by decide +kernel
theorem d_T_exclude_26 : decode b_T_exclude 26 = .ok (.dup, 1) := by decide +kernel
theorem d_T_exclude_27 : decode b_T_exclude 27 = .ok (.getfield 103, 3) := by decide +kernel
theorem d_T_exclude_30 : decode b_T_exclude 30 = .ok (.iconst 1, 1) := by decide +kernel
theorem d_T_exclude_31 : decode b_T_exclude 31 = .ok (.iadd, 1) := by decide +kernel
theorem d_T_exclude_32 : decode b_T_exclude 32 = .ok (.putfield 103, 3) := by decide +kernel
theorem d_T_exclude_35 : decode b_T_exclude 35 = .ok (.iinc 1 1, 3) := by decide +kernel
theorem d_T_exclude_38 : decode b_T_exclude 38 = .ok (.goto (-36), 3) := by decide +kernel
theorem d_T_exclude_41 : decode b_T_exclude 41 = .ok (.return_, 1) := by decide +kernel
theorem d_T_write_0 : decode b_T_write 0 = .ok (.aload_n 0, 1) := by decide +kernel
theorem d_T_write_1 : decode b_T_write 1 = .ok (.invokevirtual 152, 3) := by decide +kernel
theorem d_T_write_4 : decode b_T_write 4 = .ok (.iconst 1, 1) := by decide +kernel
theorem d_T_write_5 : decode b_T_write 5 = .ok (.istore_n 1, 1) := by decide +kernel
theorem d_T_write_6 : decode b_T_write 6 = .ok (.iload_n 1, 1) := by decide +kernel
theorem d_T_write_7 : decode b_T_write 7 = .ok (.ifCond .eq 146, 3) := by decide +kernel
theorem d_T_write_10 : decode b_T_write 10 = .ok (.aload_n 0, 1) := by decide +kernel
theorem d_T_write_11 : decode b_T_write 11 = .ok (.getfield 146, 3) := by decide +kernel
theorem d_T_write_14 : decode b_T_write 14 = .ok (.ldc 155, 2) := by decide +kernel
theorem d_T_write_16 : decode b_T_write 16 = .ok (.if_icmp .ge 11, 3) := by decide +kernel
theorem d_T_write_19 : decode b_T_write 19 = .ok (.aload_n 0, 1) := by decide +kernel
theorem d_T_write_20 : decode b_T_write 20 = .ok (.iconst 0, 1) := by decide +kernel
theorem d_T_write_21 : decode b_T_write 21 = .ok (.invokevirtual 156, 3) := by decide +kernel
theorem d_T_write_24 : decode b_T_write 24 = .ok (.goto 100, 3) := by decide +kernel
theorem d_T_write_27 : decode b_T_write 27 = .ok (.aload_n 0, 1) := by decide +kernel
theorem d_T_write_28 : decode b_T_write 28 = .ok (.getfield 149, 3) := by decide +kernel
theorem d_T_write_31 : decode b_T_write 31 = .ok (.ldc 155, 2) := by decide +kernel
theorem d_T_write_33 : decode b_T_write 33 = .ok (.if_icmp .lt 33, 3) := by decide +kernel
theorem d_T_write_36 : decode b_T_write 36 = .ok (.aload_n 0, 1) := by decide +kernel
theorem d_T_write_37 : decode b_T_write 37 = .ok (.iconst 1, 1) := by decide +kernel
theorem d_T_write_38 : decode b_T_write 38 = .ok (.invokevirtual 156, 3) := by decide +kernel
theorem d_T_write_41 : decode b_T_write 41 = .ok (.aload_n 0, 1) := by decide +kernel
theorem d_T_write_42 : decode b_T_write 42 = .ok (.dup, 1) := by decide +kernel
theorem d_T_write_43 : decode b_T_write 43 = .ok (.getfield 149, 3) := by decide +kernel
theorem d_T_write_46 : decode b_T_write 46 = .ok (.ldc 155, 2) := by decide +kernel
theorem d_T_write_48 : decode b_T_write 48 = .ok (.isub, 1) := by decide +kernel
theorem d_T_write_49 : decode b_T_write 49 = .ok (.putfield 149, 3) := by decide +kernel
theorem d_T_write_52 : decode b_T_write 52 = .ok (.aload_n 0, 1) := by decide +kernel
theorem d_T_write_53 : decode b_T_write 53 = .ok (.dup, 1) := by decide +kernel
theorem d_T_write_54 : decode b_T_write 54 = .ok (.getfield 146, 3) := by decide +kernel
theorem d_T_write_57 : decode b_T_write 57 = .ok (.ldc 155, 2) := by decide +kernel
theorem d_T_write_59 : decode b_T_write 59 = .ok (.isub, 1) := by decide +kernel
theorem d_T_write_60 : decode b_T_write 60 = .ok (.putfield 146, 3) := by decide +kernel
theorem d_T_write_63 : decode b_T_write 63 = .ok (.goto 61, 3) := by decide +kernel
theorem d_T_write_66 : decode b_T_write 66 = .ok (.aload_n 0, 1) := by decide +kernel
theorem d_T_write_67 : decode b_T_write 67 = .ok (.getfield 149, 3) := by decide +kernel
theorem d_T_write_70 : decode b_T_write 70 = .ok (.sipush 16384, 3) := by decide +kernel
theorem d_T_write_73 : decode b_T_write 73 = .ok (.if_icmp .lt 49, 3) := by decide +kernel
theorem d_T_write_76 : decode b_T_write 76 = .ok (.aload_n 0, 1) := by decide +kernel
theorem d_T_write_77 : decode b_T_write 77 = .ok (.getfield 146, 3) := by decide +kernel
theorem d_T_write_80 : decode b_T_write 80 = .ok (.ldc 159, 2) := by decide +kernel
theorem d_T_write_82 : decode b_T_write 82 = .ok (.if_icmp .ge 40, 3) := by decide +kernel
theorem d_T_write_85 : decode b_T_write 85 = .ok (.aload_n 0, 1) := by decide +kernel
theorem d_T_write_86 : decode b_T_write 86 = .ok (.dup, 1) := by decide +kernel
theorem d_T_write_87 : decode b_T_write 87 = .ok (.getfield 143, 3) := by decide +kernel
theorem d_T_write_90 : decode b_T_write 90 = .ok (.iconst 1, 1) := by decide +kernel
theorem d_T_write_91 : decode b_T_write 91 = .ok (.iadd, 1) := by decide +kernel
theorem d_T_write_92 : decode b_T_write 92 = .ok (.putfield 143, 3) := by decide +kernel
theorem d_T_write_95 : decode b_T_write 95 = .ok (.aload_n 0, 1) := by decide +kernel
theorem d_T_write_96 : decode b_T_write 96 = .ok (.dup, 1) := by decide +kernel
theorem d_T_write_97 : decode b_T_write 97 = .ok (.getfield 149, 3) := by decide +kernel
theorem d_T_write_100 : decode b_T_write 100 = .ok (.sipush 16384, 3) := by decide +kernel
theorem d_T_write_103 : decode b_T_write 103 = .ok (.isub, 1) := by decide +kernel
theorem d_T_write_104 : decode b_T_write 104 = .ok (.putfield 149, 3) := by decide +kernel
theorem d_T_write_107 : decode b_T_write 107 = .ok (.aload_n 0, 1) := by decide +kernel
theorem d_T_write_108 : decode b_T_write 108 = .ok (.dup, 1) := by decide +kernel
theorem d_T_write_109 : decode b_T_write 109 = .ok (.getfield 146, 3) := by decide +kernel
theorem d_T_write_112 : decode b_T_write 112 = .ok (.sipush 16384, 3) := by decide +kernel
theorem d_T_write_115 : decode b_T_write 115 = .ok (.isub, 1) := by decide +kernel
theorem d_T_write_116 : decode b_T_write 116 = .ok (.putfield 146, 3) := by decide +kernel
theorem d_T_write_119 : decode b_T_write 119 = .ok (.goto 5, 3) := by decide +kernel
theorem d_T_write_122 : decode b_T_write 122 = .ok (.iconst 0, 1) := by decide +kernel
theorem d_T_write_123 : decode b_T_write 123 = .ok (.istore_n 1, 1) := by decide +kernel
theorem d_T_write_124 : decode b_T_write 124 = .ok (.iload_n 1, 1) := by decide +kernel
theorem d_T_write_125 : decode b_T_write 125 = .ok (.ifCond .eq (-119), 3) := by decide +kernel
theorem d_T_write_128 : decode b_T_write 128 = .ok (.aload_n 0, 1) := by decide +kernel
theorem d_T_write_129 : decode b_T_write 129 = .ok (.iconst 2, 1) := by decide +kernel
theorem d_T_write_130 : decode b_T_write 130 = .ok (.aload_n 0, 1) := by decide +kernel
theorem d_T_write_131 : decode b_T_write 131 = .ok (.getfield 149, 3) := by decide +kernel
theorem d_T_write_134 : decode b_T_write 134 = .ok (.imul, 1) := by decide +kernel
theorem d_T_write_135 : decode b_T_write 135 = .ok (.putfield 149, 3) := by decide +kernel
theorem d_T_write_138 : decode b_T_write 138 = .ok (.aload_n 0, 1) := by decide +kernel
theorem d_T_write_139 : decode b_T_write 139 = .ok (.iconst 2, 1) := by decide +kernel
theorem d_T_write_140 : decode b_T_write 140 = .ok (.aload_n 0, 1) := by decide +kernel
theorem d_T_write_141 : decode b_T_write 141 = .ok (.getfield 146, 3) := by decide +kernel
theorem d_T_write_144 : decode b_T_write 144 = .ok (.imul, 1) := by decide +kernel
theorem d_T_write_145 : decode b_T_write 145 = .ok (.iconst 1, 1) := by decide +kernel
theorem d_T_write_146 : decode b_T_write 146 = .ok (.iadd, 1) := by decide +kernel
theorem d_T_write_147 : decode b_T_write 147 = .ok (.putfield 146, 3) := by decide +kernel
theorem d_T_write_150 : decode b_T_write 150 = .ok (.goto (-144), 3) := by decide +kernel
theorem d_T_write_153 : decode b_T_write 153 = .ok (.return_, 1) := by decide +kernel
theorem d_T_narrow_0 : decode b_T_narrow 0 = .ok (.aload_n 0, 1) := by decide +kernel
theorem d_T_narrow_1 : decode b_T_narrow 1 = .ok (.getfield 146, 3) := by decide +kernel
theorem d_T_narrow_4 : decode b_T_narrow 4 = .ok (.aload_n 0, 1) := by decide +kernel
theorem d_T_narrow_5 : decode b_T_narrow 5 = .ok (.getfield 149, 3) := by decide +kernel
theorem d_T_narrow_8 : decode b_T_narrow 8 = .ok (.isub, 1) := by decide +kernel
theorem d_T_narrow_9 : decode b_T_narrow 9 = .ok (.iconst 1, 1) := by decide +kernel
theorem d_T_narrow_10 : decode b_T_narrow 10 = .ok (.iadd, 1) := by decide +kernel
theorem d_T_narrow_11 : decode b_T_narrow 11 = .ok (.istore_n 1, 1) := by decide +kernel
theorem d_T_narrow_12 : decode b_T_narrow 12 = .ok (.aload_n 0, 1) := by decide +kernel
theorem d_T_narrow_13 : decode b_T_narrow 13 = .ok (.aload_n 0, 1) := by decide +kernel
theorem d_T_narrow_14 : decode b_T_narrow 14 = .ok (.getfield 149, 3) := by decide +kernel
theorem d_T_narrow_17 : decode b_T_narrow 17 = .ok (.iload_n 1, 1) := by decide +kernel
theorem d_T_narrow_18 : decode b_T_narrow 18 = .ok (.aload_n 0, 1) := by decide +kernel
theorem d_T_narrow_19 : decode b_T_narrow 19 = .ok (.getfield 123, 3) := by decide +kernel
theorem d_T_narrow_22 : decode b_T_narrow 22 = .ok (.aload_n 0, 1) := by decide +kernel
theorem d_T_narrow_23 : decode b_T_narrow 23 = .ok (.getfield 126, 3) := by decide +kernel
theorem d_T_narrow_26 : decode b_T_narrow 26 = .ok (.iadd, 1) := by decide +kernel
theorem d_T_narrow_27 : decode b_T_narrow 27 = .ok (.imul, 1) := by decide +kernel
theorem d_T_narrow_28 : decode b_T_narrow 28 = .ok (.aload_n 0, 1) := by decide +kernel
theorem d_T_narrow_29 : decode b_T_narrow 29 = .ok (.getfield 116, 3) := by decide +kernel
theorem d_T_narrow_32 : decode b_T_narrow 32 = .ok (.idiv, 1) := by decide +kernel
theorem d_T_narrow_33 : decode b_T_narrow 33 = .ok (.iadd, 1) := by decide +kernel
theorem d_T_narrow_34 : decode b_T_narrow 34 = .ok (.iconst 1, 1) := by decide +kernel
theorem d_T_narrow_35 : decode b_T_narrow 35 = .ok (.isub, 1) := by decide +kernel
theorem d_T_narrow_36 : decode b_T_narrow 36 = .ok (.putfield 146, 3) := by decide +kernel
theorem d_T_narrow_39 : decode b_T_narrow 39 = .ok (.aload_n 0, 1) := by decide +kernel
theorem d_T_narrow_40 : decode b_T_narrow 40 = .ok (.aload_n 0, 1) := by decide +kernel
theorem d_T_narrow_41 : decode b_T_narrow 41 = .ok (.getfield 149, 3) := by decide +kernel
theorem d_T_narrow_44 : decode b_T_narrow 44 = .ok (.iload_n 1, 1) := by decide +kernel
theorem d_T_narrow_45 : decode b_T_narrow 45 = .ok (.aload_n 0, 1) := by decide +kernel
theorem d_T_narrow_46 : decode b_T_narrow 46 = .ok (.getfield 123, 3) := by decide +kernel
theorem d_T_narrow_49 : decode b_T_narrow 49 = .ok (.imul, 1) := by decide +kernel
theorem d_T_narrow_50 : decode b_T_narrow 50 = .ok (.aload_n 0, 1) := by decide +kernel
theorem d_T_narrow_51 : decode b_T_narrow 51 = .ok (.getfield 116, 3) := by decide +kernel
theorem d_T_narrow_54 : decode b_T_narrow 54 = .ok (.idiv, 1) := by decide +kernel
theorem d_T_narrow_55 : decode b_T_narrow 55 = .ok (.iadd, 1) := by decide +kernel
theorem d_T_narrow_56 : decode b_T_narrow 56 = .ok (.putfield 149, 3) := by decide +kernel
theorem d_T_narrow_59 : decode b_T_narrow 59 = .ok (.return_, 1) := by decide +kernel
theorem d_T_put_0 : decode b_T_put 0 = .ok (.aload_n 0, 1) := by decide +kernel
theorem d_T_put_1 : decode b_T_put 1 = .ok (.iload_n 1, 1) := by decide +kernel
theorem d_T_put_2 : decode b_T_put 2 = .ok (.invokevirtual 140, 3) := by decide +kernel
theorem d_T_put_5 : decode b_T_put 5 = .ok (.aload_n 0, 1) := by decide +kernel
theorem d_T_put_6 : decode b_T_put 6 = .ok (.getfield 143, 3) := by decide +kernel
theorem d_T_put_9 : decode b_T_put 9 = .ok (.ifCond .le 23, 3) := by decide +kernel
theorem d_T_put_12 : decode b_T_put 12 = .ok (.aload_n 0, 1) := by decide +kernel
theorem d_T_put_13 : decode b_T_put 13 = .ok (.iconst 1, 1) := by decide +kernel
theorem d_T_put_14 : decode b_T_put 14 = .ok (.iload_n 1, 1) := by decide +kernel
theorem d_T_put_15 : decode b_T_put 15 = .ok (.isub, 1) := by decide +kernel
theorem d_T_put_16 : decode b_T_put 16 = .ok (.invokevirtual 140, 3) := by decide +kernel
theorem d_T_put_19 : decode b_T_put 19 = .ok (.aload_n 0, 1) := by decide +kernel
theorem d_T_put_20 : decode b_T_put 20 = .ok (.dup, 1) := by decide +kernel
theorem d_T_put_21 : decode b_T_put 21 = .ok (.getfield 143, 3) := by decide +kernel
theorem d_T_put_24 : decode b_T_put 24 = .ok (.iconst 1, 1) := by decide +kernel
theorem d_T_put_25 : decode b_T_put 25 = .ok (.isub, 1) := by decide +kernel
theorem d_T_put_26 : decode b_T_put 26 = .ok (.putfield 143, 3) := by decide +kernel
theorem d_T_put_29 : decode b_T_put 29 = .ok (.goto (-24), 3) := by decide +kernel
theorem d_T_put_32 : decode b_T_put 32 = .ok (.return_, 1) := by decide +kernel
theorem d_T_bit_0 : decode b_T_bit 0 = .ok (.aload_n 0, 1) := by decide +kernel
theorem d_T_bit_1 : decode b_T_bit 1 = .ok (.getfield 137, 3) := by decide +kernel
theorem d_T_bit_4 : decode b_T_bit 4 = .ok (.bipush 8, 2) := by decide +kernel
theorem d_T_bit_6 : decode b_T_bit 6 = .ok (.irem, 1) := by decide +kernel
theorem d_T_bit_7 : decode b_T_bit 7 = .ok (.ifCond .ne 16, 3) := by decide +kernel
theorem d_T_bit_10 : decode b_T_bit 10 = .ok (.aload_n 0, 1) := by decide +kernel
theorem d_T_bit_11 : decode b_T_bit 11 = .ok (.getfield 47, 3) := by decide +kernel
theorem d_T_bit_14 : decode b_T_bit 14 = .ok (.aload_n 0, 1) := by decide +kernel
theorem d_T_bit_15 : decode b_T_bit 15 = .ok (.getfield 137, 3) := by decide +kernel
theorem d_T_bit_18 : decode b_T_bit 18 = .ok (.bipush 8, 2) := by decide +kernel
theorem d_T_bit_20 : decode b_T_bit 20 = .ok (.idiv, 1) := by decide +kernel
theorem d_T_bit_21 : decode b_T_bit 21 = .ok (.iconst 0, 1) := by decide +kernel
theorem d_T_bit_22 : decode b_T_bit 22 = .ok (.iastore, 1) := by decide +kernel
theorem d_T_bit_23 : decode b_T_bit 23 = .ok (.aload_n 0, 1) := by decide +kernel
theorem d_T_bit_24 : decode b_T_bit 24 = .ok (.getfield 47, 3) := by decide +kernel
theorem d_T_bit_27 : decode b_T_bit 27 = .ok (.aload_n 0, 1) := by decide +kernel
theorem d_T_bit_28 : decode b_T_bit 28 = .ok (.getfield 137, 3) := by decide +kernel
theorem d_T_bit_31 : decode b_T_bit 31 = .ok (.bipush 8, 2) := by decide +kernel
theorem d_T_bit_33 : decode b_T_bit 33 = .ok (.idiv, 1) := by decide +kernel
theorem d_T_bit_34 : decode b_T_bit 34 = .ok (.dup2, 1) := by decide +kernel
theorem d_T_bit_35 : decode b_T_bit 35 = .ok (.iaload, 1) := by decide +kernel
theorem d_T_bit_36 : decode b_T_bit 36 = .ok (.iload_n 1, 1) := by decide +kernel
theorem d_T_bit_37 : decode b_T_bit 37 = .ok (.bipush 7, 2) := by decide +kernel
theorem d_T_bit_39 : decode b_T_bit 39 = .ok (.aload_n 0, 1) := by decide +kernel
theorem d_T_bit_40 : decode b_T_bit 40 = .ok (.getfield 137, 3) := by decide +kernel
theorem d_T_bit_43 : decode b_T_bit 43 = .ok (.bipush 8, 2) := by decide +kernel
theorem d_T_bit_45 : decode b_T_bit 45 = .ok (.irem, 1) := by decide +kernel
theorem d_T_bit_46 : decode b_T_bit 46 = .ok (.isub, 1) := by decide +kernel
theorem d_T_bit_47 : decode b_T_bit 47 = .ok (.ishl, 1) := by decide +kernel
theorem d_T_bit_48 : decode b_T_bit 48 = .ok (.ior, 1) := by decide +kernel
theorem d_T_bit_49 : decode b_T_bit 49 = .ok (.iastore, 1) := by decide +kernel
theorem d_T_bit_50 : decode b_T_bit 50 = .ok (.aload_n 0, 1) := by decide +kernel
theorem d_T_bit_51 : decode b_T_bit 51 = .ok (.dup, 1) := by decide +kernel
theorem d_T_bit_52 : decode b_T_bit 52 = .ok (.getfield 137, 3) := by decide +kernel
theorem d_T_bit_55 : decode b_T_bit 55 = .ok (.iconst 1, 1) := by decide +kernel
theorem d_T_bit_56 : decode b_T_bit 56 = .ok (.iadd, 1) := by decide +kernel
theorem d_T_bit_57 : decode b_T_bit 57 = .ok (.putfield 137, 3) := by decide +kernel
theorem d_T_bit_60 : decode b_T_bit 60 = .ok (.return_, 1) := by decide +kernel
theorem d_T_flat_0 : decode b_T_flat 0 = .ok (.aload_n 0, 1) := by decide +kernel
theorem d_T_flat_1 : decode b_T_flat 1 = .ok (.sipush 257, 3) := by decide +kernel
theorem d_T_flat_4 : decode b_T_flat 4 = .ok (.aload_n 0, 1) := by decide +kernel
theorem d_T_flat_5 : decode b_T_flat 5 = .ok (.getfield 103, 3) := by decide +kernel
theorem d_T_flat_8 : decode b_T_flat 8 = .ok (.isub, 1) := by decide +kernel
theorem d_T_flat_9 : decode b_T_flat 9 = .ok (.putfield 116, 3) := by decide +kernel
theorem d_T_flat_12 : decode b_T_flat 12 = .ok (.aload_n 0, 1) := by decide +kernel
theorem d_T_flat_13 : decode b_T_flat 13 = .ok (.iconst 1, 1) := by decide +kernel
theorem d_T_flat_14 : decode b_T_flat 14 = .ok (.putfield 126, 3) := by decide +kernel
theorem d_T_flat_17 : decode b_T_flat 17 = .ok (.aload_n 0, 1) := by decide +kernel
theorem d_T_flat_18 : decode b_T_flat 18 = .ok (.iconst 0, 1) := by decide +kernel
theorem d_T_flat_19 : decode b_T_flat 19 = .ok (.putfield 123, 3) := by decide +kernel
theorem d_T_flat_22 : decode b_T_flat 22 = .ok (.iconst 0, 1) := by decide +kernel
theorem d_T_flat_23 : decode b_T_flat 23 = .ok (.istore_n 2, 1) := by decide +kernel
theorem d_T_flat_24 : decode b_T_flat 24 = .ok (.iload_n 2, 1) := by decide +kernel
theorem d_T_flat_25 : decode b_T_flat 25 = .ok (.iload_n 1, 1) := by decide +kernel
theorem d_T_flat_26 : decode b_T_flat 26 = .ok (.if_icmp .ge 32, 3) := by decide +kernel
theorem d_T_flat_29 : decode b_T_flat 29 = .ok (.aload_n 0, 1) := by decide +kernel
theorem d_T_flat_30 : decode b_T_flat 30 = .ok (.dup, 1) := by decide +kernel
theorem d_T_flat_31 : decode b_T_flat 31 = .ok (.getfield 123, 3) := by decide +kernel
theorem d_T_flat_34 : decode b_T_flat 34 = .ok (.aload_n 0, 1) := by decide +kernel
theorem d_T_flat_35 : decode b_T_flat 35 = .ok (.getfield 40, 3) := by decide +kernel
theorem d_T_flat_38 : decode b_T_flat 38 = .ok (.iload_n 2, 1) := by decide +kernel
theorem d_T_flat_39 : decode b_T_flat 39 = .ok (.baload, 1) := by decide +kernel
theorem d_T_flat_40 : decode b_T_flat 40 = .ok (.ifCond .eq 7, 3) := by decide +kernel
theorem d_T_flat_43 : decode b_T_flat 43 = .ok (.iconst 0, 1) := by decide +kernel
theorem d_T_flat_44 : decode b_T_flat 44 = .ok (.goto 4, 3) := by decide +kernel
theorem d_T_flat_47 : decode b_T_flat 47 = .ok (.iconst 1, 1) := by decide +kernel
theorem d_T_flat_48 : decode b_T_flat 48 = .ok (.iadd, 1) := by decide +kernel
theorem d_T_flat_49 : decode b_T_flat 49 = .ok (.putfield 123, 3) := by decide +kernel
theorem d_T_flat_52 : decode b_T_flat 52 = .ok (.iinc 2 1, 3) := by decide +kernel
theorem d_T_flat_55 : decode b_T_flat 55 = .ok (.goto (-31), 3) := by decide +kernel
theorem d_T_flat_58 : decode b_T_flat 58 = .ok (.return_, 1) := by decide +kernel
theorem d_T_learn_0 : decode b_T_learn 0 = .ok (.aload_n 0, 1) := by decide +kernel
theorem d_T_learn_1 : decode b_T_learn 1 = .ok (.iconst 0, 1) := by decide +kernel
theorem d_T_learn_2 : decode b_T_learn 2 = .ok (.putfield 129, 3) := by decide +kernel
theorem d_T_learn_5 : decode b_T_learn 5 = .ok (.aload_n 0, 1) := by decide +kernel
theorem d_T_learn_6 : decode b_T_learn 6 = .ok (.getfield 31, 3) := by decide +kernel
theorem d_T_learn_9 : decode b_T_learn 9 = .ok (.iload_n 1, 1) := by decide +kernel
theorem d_T_learn_10 : decode b_T_learn 10 = .ok (.iaload, 1) := by decide +kernel
theorem d_T_learn_11 : decode b_T_learn 11 = .ok (.istore 4, 2) := by decide +kernel
theorem d_T_learn_13 : decode b_T_learn 13 = .ok (.iload_n 3, 1) := by decide +kernel
theorem d_T_learn_14 : decode b_T_learn 14 = .ok (.istore 5, 2) := by decide +kernel
theorem d_T_learn_16 : decode b_T_learn 16 = .ok (.iload 5, 2) := by decide +kernel
theorem d_T_learn_18 : decode b_T_learn 18 = .ok (.iload 4, 2) := by decide +kernel
theorem d_T_learn_20 : decode b_T_learn 20 = .ok (.if_icmp .gt 156, 3) := by decide +kernel
theorem d_T_learn_23 : decode b_T_learn 23 = .ok (.aload_n 0, 1) := by decide +kernel
theorem d_T_learn_24 : decode b_T_learn 24 = .ok (.getfield 129, 3) := by decide +kernel
theorem d_T_learn_27 : decode b_T_learn 27 = .ok (.ifCond .ne 149, 3) := by decide +kernel
theorem d_T_learn_30 : decode b_T_learn 30 = .ok (.aload_n 0, 1) := by decide +kernel
theorem d_T_learn_31 : decode b_T_learn 31 = .ok (.iload_n 1, 1) := by decide +kernel
theorem d_T_learn_32 : decode b_T_learn 32 = .ok (.iload 5, 2) := by decide +kernel
theorem d_T_learn_34 : decode b_T_learn 34 = .ok (.invokevirtual 106, 3) := by decide +kernel
theorem d_T_learn_37 : decode b_T_learn 37 = .ok (.istore 6, 2) := by decide +kernel
theorem d_T_learn_39 : decode b_T_learn 39 = .ok (.aload_n 0, 1) := by decide +kernel
theorem d_T_learn_40 : decode b_T_learn 40 = .ok (.iload_n 1, 1) := by decide +kernel
theorem d_T_learn_41 : decode b_T_learn 41 = .ok (.iload 6, 2) := by decide +kernel
theorem d_T_learn_43 : decode b_T_learn 43 = .ok (.iload_n 2, 1) := by decide +kernel
theorem d_T_learn_44 : decode b_T_learn 44 = .ok (.invokevirtual 99, 3) := by decide +kernel
theorem d_T_learn_47 : decode b_T_learn 47 = .ok (.istore 7, 2) := by decide +kernel
theorem d_T_learn_49 : decode b_T_learn 49 = .ok (.iload 7, 2) := by decide +kernel
theorem d_T_learn_51 : decode b_T_learn 51 = .ok (.ifCond .ge 29, 3) := by decide +kernel
theorem d_T_learn_54 : decode b_T_learn 54 = .ok (.aload_n 0, 1) := by decide +kernel
theorem d_T_learn_55 : decode b_T_learn 55 = .ok (.getfield 19, 3) := by decide +kernel
theorem d_T_learn_58 : decode b_T_learn 58 = .ok (.iload_n 1, 1) := by decide +kernel
theorem d_T_learn_59 : decode b_T_learn 59 = .ok (.iaload, 1) := by decide +kernel
theorem d_T_learn_60 : decode b_T_learn 60 = .ok (.aload_n 0, 1) := by decide +kernel
theorem d_T_learn_61 : decode b_T_learn 61 = .ok (.getfield 75, 3) := by decide +kernel
theorem d_T_learn_64 : decode b_T_learn 64 = .ok (.if_icmp .ne 16, 3) := by decide +kernel
theorem d_T_learn_67 : decode b_T_learn 67 = .ok (.aload_n 0, 1) := by decide +kernel
theorem d_T_learn_68 : decode b_T_learn 68 = .ok (.iload_n 1, 1) := by decide +kernel
theorem d_T_learn_69 : decode b_T_learn 69 = .ok (.invokevirtual 78, 3) := by decide +kernel
theorem d_T_learn_72 : decode b_T_learn 72 = .ok (.aload_n 0, 1) := by decide +kernel
theorem d_T_learn_73 : decode b_T_learn 73 = .ok (.iconst 1, 1) := by decide +kernel
theorem d_T_learn_74 : decode b_T_learn 74 = .ok (.putfield 129, 3) := by decide +kernel
theorem d_T_learn_77 : decode b_T_learn 77 = .ok (.goto 93, 3) := by decide +kernel
theorem d_T_learn_80 : decode b_T_learn 80 = .ok (.iload 7, 2) := by decide +kernel
theorem d_T_learn_82 : decode b_T_learn 82 = .ok (.ifCond .ge 64, 3) := by decide +kernel
theorem d_T_learn_85 : decode b_T_learn 85 = .ok (.aload_n 0, 1) := by decide +kernel
theorem d_T_learn_86 : decode b_T_learn 86 = .ok (.getfield 19, 3) := by decide +kernel
theorem d_T_learn_89 : decode b_T_learn 89 = .ok (.iload_n 1, 1) := by decide +kernel
theorem d_T_learn_90 : decode b_T_learn 90 = .ok (.iaload, 1) := by decide +kernel
theorem d_T_learn_91 : decode b_T_learn 91 = .ok (.istore 7, 2) := by decide +kernel
theorem d_T_learn_93 : decode b_T_learn 93 = .ok (.aload_n 0, 1) := by decide +kernel
theorem d_T_learn_94 : decode b_T_learn 94 = .ok (.getfield 19, 3) := by decide +kernel
theorem d_T_learn_97 : decode b_T_learn 97 = .ok (.iload_n 1, 1) := by decide +kernel
theorem d_T_learn_98 : decode b_T_learn 98 = .ok (.dup2, 1) := by decide +kernel
theorem d_T_learn_99 : decode b_T_learn 99 = .ok (.iaload, 1) := by decide +kernel
theorem d_T_learn_100 : decode b_T_learn 100 = .ok (.iconst 1, 1) := by decide +kernel
theorem d_T_learn_101 : decode b_T_learn 101 = .ok (.iadd, 1) := by decide +kernel
theorem d_T_learn_102 : decode b_T_learn 102 = .ok (.iastore, 1) := by decide +kernel
theorem d_T_learn_103 : decode b_T_learn 103 = .ok (.aload_n 0, 1) := by decide +kernel
theorem d_T_learn_104 : decode b_T_learn 104 = .ok (.getfield 22, 3) := by decide +kernel
theorem d_T_learn_107 : decode b_T_learn 107 = .ok (.sipush 1500, 3) := by decide +kernel
theorem d_T_learn_110 : decode b_T_learn 110 = .ok (.iload_n 1, 1) := by decide +kernel
theorem d_T_learn_111 : decode b_T_learn 111 = .ok (.imul, 1) := by decide +kernel
theorem d_T_learn_112 : decode b_T_learn 112 = .ok (.iload 7, 2) := by decide +kernel
theorem d_T_learn_114 : decode b_T_learn 114 = .ok (.iadd, 1) := by decide +kernel
theorem d_T_learn_115 : decode b_T_learn 115 = .ok (.iload 6, 2) := by decide +kernel
theorem d_T_learn_117 : decode b_T_learn 117 = .ok (.iastore, 1) := by decide +kernel
theorem d_T_learn_118 : decode b_T_learn 118 = .ok (.aload_n 0, 1) := by decide +kernel
theorem d_T_learn_119 : decode b_T_learn 119 = .ok (.getfield 25, 3) := by decide +kernel
theorem d_T_learn_122 : decode b_T_learn 122 = .ok (.sipush 1500, 3) := by decide +kernel
theorem d_T_learn_125 : decode b_T_learn 125 = .ok (.iload_n 1, 1) := by decide +kernel
theorem d_T_learn_126 : decode b_T_learn 126 = .ok (.imul, 1) := by decide +kernel
theorem d_T_learn_127 : decode b_T_learn 127 = .ok (.iload 7, 2) := by decide +kernel
theorem d_T_learn_129 : decode b_T_learn 129 = .ok (.iadd, 1) := by decide +kernel
theorem d_T_learn_130 : decode b_T_learn 130 = .ok (.iload_n 2, 1) := by decide +kernel
theorem d_T_learn_131 : decode b_T_learn 131 = .ok (.iastore, 1) := by decide +kernel
theorem d_T_learn_132 : decode b_T_learn 132 = .ok (.aload_n 0, 1) := by decide +kernel
theorem d_T_learn_133 : decode b_T_learn 133 = .ok (.getfield 28, 3) := by decide +kernel
theorem d_T_learn_136 : decode b_T_learn 136 = .ok (.sipush 1500, 3) := by decide +kernel
theorem d_T_learn_139 : decode b_T_learn 139 = .ok (.iload_n 1, 1) := by decide +kernel
theorem d_T_learn_140 : decode b_T_learn 140 = .ok (.imul, 1) := by decide +kernel
theorem d_T_learn_141 : decode b_T_learn 141 = .ok (.iload 7, 2) := by decide +kernel
theorem d_T_learn_143 : decode b_T_learn 143 = .ok (.iadd, 1) := by decide +kernel
theorem d_T_learn_144 : decode b_T_learn 144 = .ok (.iconst 0, 1) := by decide +kernel
theorem d_T_learn_145 : decode b_T_learn 145 = .ok (.iastore, 1) := by decide +kernel
theorem d_T_learn_146 : decode b_T_learn 146 = .ok (.aload_n 0, 1) := by decide +kernel
theorem d_T_learn_147 : decode b_T_learn 147 = .ok (.getfield 28, 3) := by decide +kernel
theorem d_T_learn_150 : decode b_T_learn 150 = .ok (.sipush 1500, 3) := by decide +kernel
theorem d_T_learn_153 : decode b_T_learn 153 = .ok (.iload_n 1, 1) := by decide +kernel
theorem d_T_learn_154 : decode b_T_learn 154 = .ok (.imul, 1) := by decide +kernel
theorem d_T_learn_155 : decode b_T_learn 155 = .ok (.iload 7, 2) := by decide +kernel
theorem d_T_learn_157 : decode b_T_learn 157 = .ok (.iadd, 1) := by decide +kernel
theorem d_T_learn_158 : decode b_T_learn 158 = .ok (.dup2, 1) := by decide +kernel
theorem d_T_learn_159 : decode b_T_learn 159 = .ok (.iaload, 1) := by decide +kernel
theorem d_T_learn_160 : decode b_T_learn 160 = .ok (.iconst 1, 1) := by decide +kernel
theorem d_T_learn_161 : decode b_T_learn 161 = .ok (.iadd, 1) := by decide +kernel
theorem d_T_learn_162 : decode b_T_learn 162 = .ok (.iastore, 1) := by decide +kernel
theorem d_T_learn_163 : decode b_T_learn 163 = .ok (.aload_n 0, 1) := by decide +kernel
theorem d_T_learn_164 : decode b_T_learn 164 = .ok (.iload_n 1, 1) := by decide +kernel
theorem d_T_learn_165 : decode b_T_learn 165 = .ok (.iload 6, 2) := by decide +kernel
theorem d_T_learn_167 : decode b_T_learn 167 = .ok (.invokevirtual 133, 3) := by decide +kernel
theorem d_T_learn_170 : decode b_T_learn 170 = .ok (.iinc 5 1, 3) := by decide +kernel
theorem d_T_learn_173 : decode b_T_learn 173 = .ok (.goto (-157), 3) := by decide +kernel
theorem d_T_learn_176 : decode b_T_learn 176 = .ok (.aload_n 0, 1) := by decide +kernel
theorem d_T_learn_177 : decode b_T_learn 177 = .ok (.getfield 129, 3) := by decide +kernel
theorem d_T_learn_180 : decode b_T_learn 180 = .ok (.ifCond .ne 95, 3) := by decide +kernel
theorem d_T_learn_183 : decode b_T_learn 183 = .ok (.aload_n 0, 1) := by decide +kernel
theorem d_T_learn_184 : decode b_T_learn 184 = .ok (.getfield 72, 3) := by decide +kernel
theorem d_T_learn_187 : decode b_T_learn 187 = .ok (.ifCond .le 88, 3) := by decide +kernel
theorem d_T_learn_190 : decode b_T_learn 190 = .ok (.iload 4, 2) := by decide +kernel
theorem d_T_learn_192 : decode b_T_learn 192 = .ok (.aload_n 0, 1) := by decide +kernel
theorem d_T_learn_193 : decode b_T_learn 193 = .ok (.getfield 72, 3) := by decide +kernel
theorem d_T_learn_196 : decode b_T_learn 196 = .ok (.if_icmp .ne 53, 3) := by decide +kernel
theorem d_T_learn_199 : decode b_T_learn 199 = .ok (.iconst 1, 1) := by decide +kernel
theorem d_T_learn_200 : decode b_T_learn 200 = .ok (.istore 5, 2) := by decide +kernel
theorem d_T_learn_202 : decode b_T_learn 202 = .ok (.iload 5, 2) := by decide +kernel
theorem d_T_learn_204 : decode b_T_learn 204 = .ok (.iload 4, 2) := by decide +kernel
theorem d_T_learn_206 : decode b_T_learn 206 = .ok (.if_icmp .ge 33, 3) := by decide +kernel
theorem d_T_learn_209 : decode b_T_learn 209 = .ok (.aload_n 0, 1) := by decide +kernel
theorem d_T_learn_210 : decode b_T_learn 210 = .ok (.getfield 34, 3) := by decide +kernel
theorem d_T_learn_213 : decode b_T_learn 213 = .ok (.iconst 4, 1) := by decide +kernel
theorem d_T_learn_214 : decode b_T_learn 214 = .ok (.iload_n 1, 1) := by decide +kernel
theorem d_T_learn_215 : decode b_T_learn 215 = .ok (.imul, 1) := by decide +kernel
theorem d_T_learn_216 : decode b_T_learn 216 = .ok (.iload 5, 2) := by decide +kernel
theorem d_T_learn_218 : decode b_T_learn 218 = .ok (.iadd, 1) := by decide +kernel
theorem d_T_learn_219 : decode b_T_learn 219 = .ok (.iconst 1, 1) := by decide +kernel
theorem d_T_learn_220 : decode b_T_learn 220 = .ok (.isub, 1) := by decide +kernel
theorem d_T_learn_221 : decode b_T_learn 221 = .ok (.aload_n 0, 1) := by decide +kernel
theorem d_T_learn_222 : decode b_T_learn 222 = .ok (.getfield 34, 3) := by decide +kernel
theorem d_T_learn_225 : decode b_T_learn 225 = .ok (.iconst 4, 1) := by decide +kernel
theorem d_T_learn_226 : decode b_T_learn 226 = .ok (.iload_n 1, 1) := by decide +kernel
theorem d_T_learn_227 : decode b_T_learn 227 = .ok (.imul, 1) := by decide +kernel
theorem d_T_learn_228 : decode b_T_learn 228 = .ok (.iload 5, 2) := by decide +kernel
theorem d_T_learn_230 : decode b_T_learn 230 = .ok (.iadd, 1) := by decide +kernel
theorem d_T_learn_231 : decode b_T_learn 231 = .ok (.iaload, 1) := by decide +kernel
theorem d_T_learn_232 : decode b_T_learn 232 = .ok (.iastore, 1) := by decide +kernel
theorem d_T_learn_233 : decode b_T_learn 233 = .ok (.iinc 5 1, 3) := by decide +kernel
theorem d_T_learn_236 : decode b_T_learn 236 = .ok (.goto (-34), 3) := by decide +kernel
theorem d_T_learn_239 : decode b_T_learn 239 = .ok (.aload_n 0, 1) := by decide +kernel
theorem d_T_learn_240 : decode b_T_learn 240 = .ok (.getfield 31, 3) := by decide +kernel
theorem d_T_learn_243 : decode b_T_learn 243 = .ok (.iload_n 1, 1) := by decide +kernel
theorem d_T_learn_244 : decode b_T_learn 244 = .ok (.dup2, 1) := by decide +kernel
theorem d_T_learn_245 : decode b_T_learn 245 = .ok (.iaload, 1) := by decide +kernel
theorem d_T_learn_246 : decode b_T_learn 246 = .ok (.iconst 1, 1) := by decide +kernel
theorem d_T_learn_247 : decode b_T_learn 247 = .ok (.isub, 1) := by decide +kernel
theorem d_T_learn_248 : decode b_T_learn 248 = .ok (.iastore, 1) := by decide +kernel
theorem d_T_learn_249 : decode b_T_learn 249 = .ok (.aload_n 0, 1) := by decide +kernel
theorem d_T_learn_250 : decode b_T_learn 250 = .ok (.getfield 34, 3) := by decide +kernel
theorem d_T_learn_253 : decode b_T_learn 253 = .ok (.iconst 4, 1) := by decide +kernel
theorem d_T_learn_254 : decode b_T_learn 254 = .ok (.iload_n 1, 1) := by decide +kernel
theorem d_T_learn_255 : decode b_T_learn 255 = .ok (.imul, 1) := by decide +kernel
theorem d_T_learn_256 : decode b_T_learn 256 = .ok (.aload_n 0, 1) := by decide +kernel
theorem d_T_learn_257 : decode b_T_learn 257 = .ok (.getfield 31, 3) := by decide +kernel
theorem d_T_learn_260 : decode b_T_learn 260 = .ok (.iload_n 1, 1) := by decide +kernel
theorem d_T_learn_261 : decode b_T_learn 261 = .ok (.iaload, 1) := by decide +kernel
theorem d_T_learn_262 : decode b_T_learn 262 = .ok (.iadd, 1) := by decide +kernel
theorem d_T_learn_263 : decode b_T_learn 263 = .ok (.iload_n 2, 1) := by decide +kernel
theorem d_T_learn_264 : decode b_T_learn 264 = .ok (.iastore, 1) := by decide +kernel
theorem d_T_learn_265 : decode b_T_learn 265 = .ok (.aload_n 0, 1) := by decide +kernel
theorem d_T_learn_266 : decode b_T_learn 266 = .ok (.getfield 31, 3) := by decide +kernel
theorem d_T_learn_269 : decode b_T_learn 269 = .ok (.iload_n 1, 1) := by decide +kernel
theorem d_T_learn_270 : decode b_T_learn 270 = .ok (.dup2, 1) := by decide +kernel
theorem d_T_learn_271 : decode b_T_learn 271 = .ok (.iaload, 1) := by decide +kernel
theorem d_T_learn_272 : decode b_T_learn 272 = .ok (.iconst 1, 1) := by decide +kernel
theorem d_T_learn_273 : decode b_T_learn 273 = .ok (.iadd, 1) := by decide +kernel
theorem d_T_learn_274 : decode b_T_learn 274 = .ok (.iastore, 1) := by decide +kernel
theorem d_T_learn_275 : decode b_T_learn 275 = .ok (.return_, 1) := by decide +kernel
theorem d_T_halve_0 : decode b_T_halve 0 = .ok (.iconst 0, 1) := by decide +kernel
theorem d_T_halve_1 : decode b_T_halve 1 = .ok (.istore_n 3, 1) := by decide +kernel
theorem d_T_halve_2 : decode b_T_halve 2 = .ok (.iconst 1, 1) := by decide +kernel
theorem d_T_halve_3 : decode b_T_halve 3 = .ok (.istore 4, 2) := by decide +kernel
theorem d_T_halve_5 : decode b_T_halve 5 = .ok (.iload 4, 2) := by decide +kernel
theorem d_T_halve_7 : decode b_T_halve 7 = .ok (.aload_n 0, 1) := by decide +kernel
theorem d_T_halve_8 : decode b_T_halve 8 = .ok (.getfield 19, 3) := by decide +kernel
theorem d_T_halve_11 : decode b_T_halve 11 = .ok (.iload_n 1, 1) := by decide +kernel
theorem d_T_halve_12 : decode b_T_halve 12 = .ok (.iaload, 1) := by decide +kernel
theorem d_T_halve_13 : decode b_T_halve 13 = .ok (.if_icmp .ge 46, 3) := by decide +kernel
theorem d_T_halve_16 : decode b_T_halve 16 = .ok (.iload_n 3, 1) := by decide +kernel
theorem d_T_halve_17 : decode b_T_halve 17 = .ok (.aload_n 0, 1) := by decide +kernel
theorem d_T_halve_18 : decode b_T_halve 18 = .ok (.getfield 22, 3) := by decide +kernel
theorem d_T_halve_21 : decode b_T_halve 21 = .ok (.sipush 1500, 3) := by decide +kernel
theorem d_T_halve_24 : decode b_T_halve 24 = .ok (.iload_n 1, 1) := by decide +kernel
theorem d_T_halve_25 : decode b_T_halve 25 = .ok (.imul, 1) := by decide +kernel
theorem d_T_halve_26 : decode b_T_halve 26 = .ok (.iload 4, 2) := by decide +kernel
theorem d_T_halve_28 : decode b_T_halve 28 = .ok (.iadd, 1) := by decide +kernel
theorem d_T_halve_29 : decode b_T_halve 29 = .ok (.iaload, 1) := by decide +kernel
theorem d_T_halve_30 : decode b_T_halve 30 = .ok (.iload_n 2, 1) := by decide +kernel
theorem d_T_halve_31 : decode b_T_halve 31 = .ok (.if_icmp .ne 19, 3) := by decide +kernel
theorem d_T_halve_34 : decode b_T_halve 34 = .ok (.aload_n 0, 1) := by decide +kernel
theorem d_T_halve_35 : decode b_T_halve 35 = .ok (.getfield 28, 3) := by decide +kernel
theorem d_T_halve_38 : decode b_T_halve 38 = .ok (.sipush 1500, 3) := by decide +kernel
theorem d_T_halve_41 : decode b_T_halve 41 = .ok (.iload_n 1, 1) := by decide +kernel
theorem d_T_halve_42 : decode b_T_halve 42 = .ok (.imul, 1) := by decide +kernel
theorem d_T_halve_43 : decode b_T_halve 43 = .ok (.iload 4, 2) := by decide +kernel
theorem d_T_halve_45 : decode b_T_halve 45 = .ok (.iadd, 1) := by decide +kernel
theorem d_T_halve_46 : decode b_T_halve 46 = .ok (.iaload, 1) := by decide +kernel
theorem d_T_halve_47 : decode b_T_halve 47 = .ok (.goto 4, 3) := by decide +kernel
theorem d_T_halve_50 : decode b_T_halve 50 = .ok (.iconst 0, 1) := by decide +kernel
theorem d_T_halve_51 : decode b_T_halve 51 = .ok (.iadd, 1) := by decide +kernel
theorem d_T_halve_52 : decode b_T_halve 52 = .ok (.istore_n 3, 1) := by decide +kernel
theorem d_T_halve_53 : decode b_T_halve 53 = .ok (.iinc 4 1, 3) := by decide +kernel
theorem d_T_halve_56 : decode b_T_halve 56 = .ok (.goto (-51), 3) := by decide +kernel
theorem d_T_halve_59 : decode b_T_halve 59 = .ok (.iconst 1, 1) := by decide +kernel
theorem d_T_halve_60 : decode b_T_halve 60 = .ok (.istore 4, 2) := by decide +kernel
theorem d_T_halve_62 : decode b_T_halve 62 = .ok (.iload 4, 2) := by decide +kernel
theorem d_T_halve_64 : decode b_T_halve 64 = .ok (.aload_n 0, 1) := by decide +kernel
theorem d_T_halve_65 : decode b_T_halve 65 = .ok (.getfield 19, 3) := by decide +kernel
theorem d_T_halve_68 : decode b_T_halve 68 = .ok (.iload_n 1, 1) := by decide +kernel
theorem d_T_halve_69 : decode b_T_halve 69 = .ok (.iaload, 1) := by decide +kernel
theorem d_T_halve_70 : decode b_T_halve 70 = .ok (.if_icmp .ge 63, 3) := by decide +kernel
theorem d_T_halve_73 : decode b_T_halve 73 = .ok (.iload_n 3, 1) := by decide +kernel
theorem d_T_halve_74 : decode b_T_halve 74 = .ok (.sipush 200, 3) := by decide +kernel
theorem d_T_halve_77 : decode b_T_halve 77 = .ok (.if_icmp .le 56, 3) := by decide +kernel
theorem d_T_halve_80 : decode b_T_halve 80 = .ok (.aload_n 0, 1) := by decide +kernel
theorem d_T_halve_81 : decode b_T_halve 81 = .ok (.getfield 22, 3) := by decide +kernel
theorem d_T_halve_84 : decode b_T_halve 84 = .ok (.sipush 1500, 3) := by decide +kernel
theorem d_T_halve_87 : decode b_T_halve 87 = .ok (.iload_n 1, 1) := by decide +kernel
theorem d_T_halve_88 : decode b_T_halve 88 = .ok (.imul, 1) := by decide +kernel
theorem d_T_halve_89 : decode b_T_halve 89 = .ok (.iload 4, 2) := by decide +kernel
theorem d_T_halve_91 : decode b_T_halve 91 = .ok (.iadd, 1) := by decide +kernel
theorem d_T_halve_92 : decode b_T_halve 92 = .ok (.iaload, 1) := by decide +kernel
theorem d_T_halve_93 : decode b_T_halve 93 = .ok (.iload_n 2, 1) := by decide +kernel
theorem d_T_halve_94 : decode b_T_halve 94 = .ok (.if_icmp .ne 33, 3) := by decide +kernel
theorem d_T_halve_97 : decode b_T_halve 97 = .ok (.aload_n 0, 1) := by decide +kernel
theorem d_T_halve_98 : decode b_T_halve 98 = .ok (.getfield 28, 3) := by decide +kernel
theorem d_T_halve_101 : decode b_T_halve 101 = .ok (.sipush 1500, 3) := by decide +kernel
theorem d_T_halve_104 : decode b_T_halve 104 = .ok (.iload_n 1, 1) := by decide +kernel
theorem d_T_halve_105 : decode b_T_halve 105 = .ok (.imul, 1) := by decide +kernel
theorem d_T_halve_106 : decode b_T_halve 106 = .ok (.iload 4, 2) := by decide +kernel
theorem d_T_halve_108 : decode b_T_halve 108 = .ok (.iadd, 1) := by decide +kernel
theorem d_T_halve_109 : decode b_T_halve 109 = .ok (.aload_n 0, 1) := by decide +kernel
theorem d_T_halve_110 : decode b_T_halve 110 = .ok (.getfield 28, 3) := by decide +kernel
theorem d_T_halve_113 : decode b_T_halve 113 = .ok (.sipush 1500, 3) := by decide +kernel
theorem d_T_halve_116 : decode b_T_halve 116 = .ok (.iload_n 1, 1) := by decide +kernel
theorem d_T_halve_117 : decode b_T_halve 117 = .ok (.imul, 1) := by decide +kernel
theorem d_T_halve_118 : decode b_T_halve 118 = .ok (.iload 4, 2) := by decide +kernel
theorem d_T_halve_120 : decode b_T_halve 120 = .ok (.iadd, 1) := by decide +kernel
theorem d_T_halve_121 : decode b_T_halve 121 = .ok (.iaload, 1) := by decide +kernel
theorem d_T_halve_122 : decode b_T_halve 122 = .ok (.iconst 1, 1) := by decide +kernel
theorem d_T_halve_123 : decode b_T_halve 123 = .ok (.iadd, 1) := by decide +kernel
theorem d_T_halve_124 : decode b_T_halve 124 = .ok (.iconst 2, 1) := by decide +kernel
theorem d_T_halve_125 : decode b_T_halve 125 = .ok (.idiv, 1) := by decide +kernel
theorem d_T_halve_126 : decode b_T_halve 126 = .ok (.iastore, 1) := by decide +kernel
theorem d_T_halve_127 : decode b_T_halve 127 = .ok (.iinc 4 1, 3) := by decide +kernel
theorem d_T_halve_130 : decode b_T_halve 130 = .ok (.goto (-68), 3) := by decide +kernel
theorem d_T_halve_133 : decode b_T_halve 133 = .ok (.return_, 1) := by decide +kernel
theorem d_T_told_0 : decode b_T_told 0 = .ok (.aload_n 0, 1) := by decide +kernel
theorem d_T_told_1 : decode b_T_told 1 = .ok (.iconst 0, 1) := by decide +kernel
theorem d_T_told_2 : decode b_T_told 2 = .ok (.putfield 82, 3) := by decide +kernel
theorem d_T_told_5 : decode b_T_told 5 = .ok (.iload_n 1, 1) := by decide +kernel
theorem d_T_told_6 : decode b_T_told 6 = .ok (.iconst 0, 1) := by decide +kernel
theorem d_T_told_7 : decode b_T_told 7 = .ok (.iconst 2, 1) := by decide +kernel
theorem d_T_told_8 : decode b_T_told 8 = .ok (.invokestatic 88, 3) := by decide +kernel
theorem d_T_told_11 : decode b_T_told 11 = .ok (.ifCond .ne 7, 3) := by decide +kernel
theorem d_T_told_14 : decode b_T_told 14 = .ok (.iconst (-1), 1) := by decide +kernel
theorem d_T_told_15 : decode b_T_told 15 = .ok (.goto 21, 3) := by decide +kernel
theorem d_T_told_18 : decode b_T_told 18 = .ok (.aload_n 0, 1) := by decide +kernel
theorem d_T_told_19 : decode b_T_told 19 = .ok (.getfield 194, 3) := by decide +kernel
theorem d_T_told_22 : decode b_T_told 22 = .ok (.ifCond .eq 12, 3) := by decide +kernel
theorem d_T_told_25 : decode b_T_told 25 = .ok (.aload_n 0, 1) := by decide +kernel
theorem d_T_told_26 : decode b_T_told 26 = .ok (.getfield 56, 3) := by decide +kernel
theorem d_T_told_29 : decode b_T_told 29 = .ok (.iload_n 1, 1) := by decide +kernel
theorem d_T_told_30 : decode b_T_told 30 = .ok (.iaload, 1) := by decide +kernel
theorem d_T_told_31 : decode b_T_told 31 = .ok (.goto 5, 3) := by decide +kernel
theorem d_T_told_34 : decode b_T_told 34 = .ok (.bipush (-3), 2) := by decide +kernel
theorem d_T_told_36 : decode b_T_told 36 = .ok (.ireturn, 1) := by decide +kernel
theorem d_T_sign_0 : decode b_T_sign 0 = .ok (.aload_n 0, 1) := by decide +kernel
theorem d_T_sign_1 : decode b_T_sign 1 = .ok (.iconst 0, 1) := by decide +kernel
theorem d_T_sign_2 : decode b_T_sign 2 = .ok (.putfield 82, 3) := by decide +kernel
theorem d_T_sign_5 : decode b_T_sign 5 = .ok (.iload_n 1, 1) := by decide +kernel
theorem d_T_sign_6 : decode b_T_sign 6 = .ok (.iconst 0, 1) := by decide +kernel
theorem d_T_sign_7 : decode b_T_sign 7 = .ok (.aload_n 0, 1) := by decide +kernel
theorem d_T_sign_8 : decode b_T_sign 8 = .ok (.getfield 197, 3) := by decide +kernel
theorem d_T_sign_11 : decode b_T_sign 11 = .ok (.iconst 1, 1) := by decide +kernel
theorem d_T_sign_12 : decode b_T_sign 12 = .ok (.isub, 1) := by decide +kernel
theorem d_T_sign_13 : decode b_T_sign 13 = .ok (.invokestatic 88, 3) := by decide +kernel
theorem d_T_sign_16 : decode b_T_sign 16 = .ok (.ifCond .eq 12, 3) := by decide +kernel
theorem d_T_sign_19 : decode b_T_sign 19 = .ok (.iload_n 2, 1) := by decide +kernel
theorem d_T_sign_20 : decode b_T_sign 20 = .ok (.iconst 0, 1) := by decide +kernel
theorem d_T_sign_21 : decode b_T_sign 21 = .ok (.iconst 1, 1) := by decide +kernel
theorem d_T_sign_22 : decode b_T_sign 22 = .ok (.invokestatic 88, 3) := by decide +kernel
theorem d_T_sign_25 : decode b_T_sign 25 = .ok (.ifCond .ne 5, 3) := by decide +kernel
theorem d_T_sign_28 : decode b_T_sign 28 = .ok (.iconst (-1), 1) := by decide +kernel
theorem d_T_sign_29 : decode b_T_sign 29 = .ok (.ireturn, 1) := by decide +kernel
theorem d_T_sign_30 : decode b_T_sign 30 = .ok (.iload_n 2, 1) := by decide +kernel
theorem d_T_sign_31 : decode b_T_sign 31 = .ok (.ifCond .ne 12, 3) := by decide +kernel
theorem d_T_sign_34 : decode b_T_sign 34 = .ok (.aload_n 0, 1) := by decide +kernel
theorem d_T_sign_35 : decode b_T_sign 35 = .ok (.getfield 59, 3) := by decide +kernel
theorem d_T_sign_38 : decode b_T_sign 38 = .ok (.iload_n 1, 1) := by decide +kernel
theorem d_T_sign_39 : decode b_T_sign 39 = .ok (.iaload, 1) := by decide +kernel
theorem d_T_sign_40 : decode b_T_sign 40 = .ok (.goto 9, 3) := by decide +kernel
theorem d_T_sign_43 : decode b_T_sign 43 = .ok (.aload_n 0, 1) := by decide +kernel
theorem d_T_sign_44 : decode b_T_sign 44 = .ok (.getfield 62, 3) := by decide +kernel
theorem d_T_sign_47 : decode b_T_sign 47 = .ok (.iload_n 1, 1) := by decide +kernel
theorem d_T_sign_48 : decode b_T_sign 48 = .ok (.iaload, 1) := by decide +kernel
theorem d_T_sign_49 : decode b_T_sign 49 = .ok (.ireturn, 1) := by decide +kernel
theorem d_T_open_0 : decode b_T_open 0 = .ok (.aload_n 0, 1) := by decide +kernel
theorem d_T_open_1 : decode b_T_open 1 = .ok (.iconst 0, 1) := by decide +kernel
theorem d_T_open_2 : decode b_T_open 2 = .ok (.putfield 82, 3) := by decide +kernel
theorem d_T_open_5 : decode b_T_open 5 = .ok (.aload_n 0, 1) := by decide +kernel
theorem d_T_open_6 : decode b_T_open 6 = .ok (.iconst 1, 1) := by decide +kernel
theorem d_T_open_7 : decode b_T_open 7 = .ok (.iconst 2, 1) := by decide +kernel
theorem d_T_open_8 : decode b_T_open 8 = .ok (.invokevirtual 219, 3) := by decide +kernel
theorem d_T_open_11 : decode b_T_open 11 = .ok (.aload_n 0, 1) := by decide +kernel
theorem d_T_open_12 : decode b_T_open 12 = .ok (.bipush (-3), 2) := by decide +kernel
theorem d_T_open_14 : decode b_T_open 14 = .ok (.putfield 65, 3) := by decide +kernel
theorem d_T_open_17 : decode b_T_open 17 = .ok (.aload_n 0, 1) := by decide +kernel
theorem d_T_open_18 : decode b_T_open 18 = .ok (.iconst 0, 1) := by decide +kernel
theorem d_T_open_19 : decode b_T_open 19 = .ok (.putfield 149, 3) := by decide +kernel
theorem d_T_open_22 : decode b_T_open 22 = .ok (.aload_n 0, 1) := by decide +kernel
theorem d_T_open_23 : decode b_T_open 23 = .ok (.ldc 160, 2) := by decide +kernel
theorem d_T_open_25 : decode b_T_open 25 = .ok (.putfield 146, 3) := by decide +kernel
theorem d_T_open_28 : decode b_T_open 28 = .ok (.aload_n 0, 1) := by decide +kernel
theorem d_T_open_29 : decode b_T_open 29 = .ok (.iconst 0, 1) := by decide +kernel
theorem d_T_open_30 : decode b_T_open 30 = .ok (.putfield 203, 3) := by decide +kernel
theorem d_T_open_33 : decode b_T_open 33 = .ok (.aload_n 0, 1) := by decide +kernel
theorem d_T_open_34 : decode b_T_open 34 = .ok (.iconst 0, 1) := by decide +kernel
theorem d_T_open_35 : decode b_T_open 35 = .ok (.putfield 200, 3) := by decide +kernel
theorem d_T_open_38 : decode b_T_open 38 = .ok (.aload_n 0, 1) := by decide +kernel
theorem d_T_open_39 : decode b_T_open 39 = .ok (.iconst 0, 1) := by decide +kernel
theorem d_T_open_40 : decode b_T_open 40 = .ok (.putfield 222, 3) := by decide +kernel
theorem d_T_open_43 : decode b_T_open 43 = .ok (.iconst 0, 1) := by decide +kernel
theorem d_T_open_44 : decode b_T_open 44 = .ok (.istore_n 1, 1) := by decide +kernel
theorem d_T_open_45 : decode b_T_open 45 = .ok (.iconst 0, 1) := by decide +kernel
theorem d_T_open_46 : decode b_T_open 46 = .ok (.istore_n 2, 1) := by decide +kernel
theorem d_T_open_47 : decode b_T_open 47 = .ok (.iload_n 2, 1) := by decide +kernel
theorem d_T_open_48 : decode b_T_open 48 = .ok (.bipush 16, 2) := by decide +kernel
theorem d_T_open_50 : decode b_T_open 50 = .ok (.if_icmp .ge 24, 3) := by decide +kernel
theorem d_T_open_53 : decode b_T_open 53 = .ok (.aload_n 0, 1) := by decide +kernel
theorem d_T_open_54 : decode b_T_open 54 = .ok (.iconst 2, 1) := by decide +kernel
theorem d_T_open_55 : decode b_T_open 55 = .ok (.aload_n 0, 1) := by decide +kernel
theorem d_T_open_56 : decode b_T_open 56 = .ok (.getfield 203, 3) := by decide +kernel
theorem d_T_open_59 : decode b_T_open 59 = .ok (.imul, 1) := by decide +kernel
theorem d_T_open_60 : decode b_T_open 60 = .ok (.aload_n 0, 1) := by decide +kernel
theorem d_T_open_61 : decode b_T_open 61 = .ok (.invokevirtual 206, 3) := by decide +kernel
theorem d_T_open_64 : decode b_T_open 64 = .ok (.iadd, 1) := by decide +kernel
theorem d_T_open_65 : decode b_T_open 65 = .ok (.putfield 203, 3) := by decide +kernel
theorem d_T_open_68 : decode b_T_open 68 = .ok (.iinc 2 1, 3) := by decide +kernel
theorem d_T_open_71 : decode b_T_open 71 = .ok (.goto (-24), 3) := by decide +kernel
theorem d_T_open_74 : decode b_T_open 74 = .ok (.iconst 0, 1) := by decide +kernel
theorem d_T_open_75 : decode b_T_open 75 = .ok (.istore_n 2, 1) := by decide +kernel
theorem d_T_open_76 : decode b_T_open 76 = .ok (.iload_n 2, 1) := by decide +kernel
theorem d_T_open_77 : decode b_T_open 77 = .ok (.sipush 256, 3) := by decide +kernel
theorem d_T_open_80 : decode b_T_open 80 = .ok (.if_icmp .ge 97, 3) := by decide +kernel
theorem d_T_open_83 : decode b_T_open 83 = .ok (.aload_n 0, 1) := by decide +kernel
theorem d_T_open_84 : decode b_T_open 84 = .ok (.getfield 200, 3) := by decide +kernel
theorem d_T_open_87 : decode b_T_open 87 = .ok (.bipush 8, 2) := by decide +kernel
theorem d_T_open_89 : decode b_T_open 89 = .ok (.aload_n 0, 1) := by decide +kernel
theorem d_T_open_90 : decode b_T_open 90 = .ok (.getfield 93, 3) := by decide +kernel
theorem d_T_open_93 : decode b_T_open 93 = .ok (.imul, 1) := by decide +kernel
theorem d_T_open_94 : decode b_T_open 94 = .ok (.isub, 1) := by decide +kernel
theorem d_T_open_95 : decode b_T_open 95 = .ok (.bipush 16, 2) := by decide +kernel
theorem d_T_open_97 : decode b_T_open 97 = .ok (.if_icmp .le 6, 3) := by decide +kernel
theorem d_T_open_100 : decode b_T_open 100 = .ok (.bipush (-11), 2) := by decide +kernel
theorem d_T_open_102 : decode b_T_open 102 = .ok (.ireturn, 1) := by decide +kernel
theorem d_T_open_103 : decode b_T_open 103 = .ok (.aload_n 0, 1) := by decide +kernel
theorem d_T_open_104 : decode b_T_open 104 = .ok (.iconst 2, 1) := by decide +kernel
theorem d_T_open_105 : decode b_T_open 105 = .ok (.invokevirtual 225, 3) := by decide +kernel
theorem d_T_open_108 : decode b_T_open 108 = .ok (.istore_n 2, 1) := by decide +kernel
theorem d_T_open_109 : decode b_T_open 109 = .ok (.iload_n 2, 1) := by decide +kernel
theorem d_T_open_110 : decode b_T_open 110 = .ok (.sipush 256, 3) := by decide +kernel
theorem d_T_open_113 : decode b_T_open 113 = .ok (.if_icmp .ge (-37), 3) := by decide +kernel
theorem d_T_open_116 : decode b_T_open 116 = .ok (.aload_n 0, 1) := by decide +kernel
theorem d_T_open_117 : decode b_T_open 117 = .ok (.getfield 222, 3) := by decide +kernel
theorem d_T_open_120 : decode b_T_open 120 = .ok (.sipush 300, 3) := by decide +kernel
theorem d_T_open_123 : decode b_T_open 123 = .ok (.if_icmp .ne 6, 3) := by decide +kernel
theorem d_T_open_126 : decode b_T_open 126 = .ok (.bipush (-12), 2) := by decide +kernel
theorem d_T_open_128 : decode b_T_open 128 = .ok (.ireturn, 1) := by decide +kernel
theorem d_T_open_129 : decode b_T_open 129 = .ok (.aload_n 0, 1) := by decide +kernel
theorem d_T_open_130 : decode b_T_open 130 = .ok (.getfield 69, 3) := by decide +kernel
theorem d_T_open_133 : decode b_T_open 133 = .ok (.aload_n 0, 1) := by decide +kernel
theorem d_T_open_134 : decode b_T_open 134 = .ok (.getfield 222, 3) := by decide +kernel
theorem d_T_open_137 : decode b_T_open 137 = .ok (.iload_n 2, 1) := by decide +kernel
theorem d_T_open_138 : decode b_T_open 138 = .ok (.iastore, 1) := by decide +kernel
theorem d_T_open_139 : decode b_T_open 139 = .ok (.aload_n 0, 1) := by decide +kernel
theorem d_T_open_140 : decode b_T_open 140 = .ok (.dup, 1) := by decide +kernel
theorem d_T_open_141 : decode b_T_open 141 = .ok (.getfield 222, 3) := by decide +kernel
theorem d_T_open_144 : decode b_T_open 144 = .ok (.iconst 1, 1) := by decide +kernel
theorem d_T_open_145 : decode b_T_open 145 = .ok (.iadd, 1) := by decide +kernel
theorem d_T_open_146 : decode b_T_open 146 = .ok (.putfield 222, 3) := by decide +kernel
theorem d_T_open_149 : decode b_T_open 149 = .ok (.aload_n 0, 1) := by decide +kernel
theorem d_T_open_150 : decode b_T_open 150 = .ok (.iconst 2, 1) := by decide +kernel
theorem d_T_open_151 : decode b_T_open 151 = .ok (.iload_n 2, 1) := by decide +kernel
theorem d_T_open_152 : decode b_T_open 152 = .ok (.aload_n 0, 1) := by decide +kernel
theorem d_T_open_153 : decode b_T_open 153 = .ok (.getfield 216, 3) := by decide +kernel
theorem d_T_open_156 : decode b_T_open 156 = .ok (.invokevirtual 186, 3) := by decide +kernel
theorem d_T_open_159 : decode b_T_open 159 = .ok (.iload_n 1, 1) := by decide +kernel
theorem d_T_open_160 : decode b_T_open 160 = .ok (.aload_n 0, 1) := by decide +kernel
theorem d_T_open_161 : decode b_T_open 161 = .ok (.getfield 129, 3) := by decide +kernel
theorem d_T_open_164 : decode b_T_open 164 = .ok (.ifCond .eq 7, 3) := by decide +kernel
theorem d_T_open_167 : decode b_T_open 167 = .ok (.iconst 1, 1) := by decide +kernel
theorem d_T_open_168 : decode b_T_open 168 = .ok (.goto 4, 3) := by decide +kernel
theorem d_T_open_171 : decode b_T_open 171 = .ok (.iconst 0, 1) := by decide +kernel
theorem d_T_open_172 : decode b_T_open 172 = .ok (.iadd, 1) := by decide +kernel
theorem d_T_open_173 : decode b_T_open 173 = .ok (.istore_n 1, 1) := by decide +kernel
theorem d_T_open_174 : decode b_T_open 174 = .ok (.goto (-98), 3) := by decide +kernel
theorem d_T_open_177 : decode b_T_open 177 = .ok (.aload_n 0, 1) := by decide +kernel
theorem d_T_open_178 : decode b_T_open 178 = .ok (.iconst 1, 1) := by decide +kernel
theorem d_T_open_179 : decode b_T_open 179 = .ok (.iconst 2, 1) := by decide +kernel
theorem d_T_open_180 : decode b_T_open 180 = .ok (.invokevirtual 219, 3) := by decide +kernel
theorem d_T_open_183 : decode b_T_open 183 = .ok (.aload_n 0, 1) := by decide +kernel
theorem d_T_open_184 : decode b_T_open 184 = .ok (.iconst 2, 1) := by decide +kernel
theorem d_T_open_185 : decode b_T_open 185 = .ok (.aload_n 0, 1) := by decide +kernel
theorem d_T_open_186 : decode b_T_open 186 = .ok (.getfield 69, 3) := by decide +kernel
theorem d_T_open_189 : decode b_T_open 189 = .ok (.aload_n 0, 1) := by decide +kernel
theorem d_T_open_190 : decode b_T_open 190 = .ok (.getfield 222, 3) := by decide +kernel
theorem d_T_open_193 : decode b_T_open 193 = .ok (.invokevirtual 190, 3) := by decide +kernel
theorem d_T_open_196 : decode b_T_open 196 = .ok (.aload_n 0, 1) := by decide +kernel
theorem d_T_open_197 : decode b_T_open 197 = .ok (.getfield 137, 3) := by decide +kernel
theorem d_T_open_200 : decode b_T_open 200 = .ok (.bipush 7, 2) := by decide +kernel
theorem d_T_open_202 : decode b_T_open 202 = .ok (.iadd, 1) := by decide +kernel
theorem d_T_open_203 : decode b_T_open 203 = .ok (.bipush 8, 2) := by decide +kernel
theorem d_T_open_205 : decode b_T_open 205 = .ok (.idiv, 1) := by decide +kernel
theorem d_T_open_206 : decode b_T_open 206 = .ok (.istore_n 3, 1) := by decide +kernel
theorem d_T_open_207 : decode b_T_open 207 = .ok (.iconst 0, 1) := by decide +kernel
theorem d_T_open_208 : decode b_T_open 208 = .ok (.istore 4, 2) := by decide +kernel
theorem d_T_open_210 : decode b_T_open 210 = .ok (.iload 4, 2) := by decide +kernel
theorem d_T_open_212 : decode b_T_open 212 = .ok (.iload_n 3, 1) := by decide +kernel
theorem d_T_open_213 : decode b_T_open 213 = .ok (.if_icmp .ge 35, 3) := by decide +kernel
theorem d_T_open_216 : decode b_T_open 216 = .ok (.iload 4, 2) := by decide +kernel
theorem d_T_open_218 : decode b_T_open 218 = .ok (.aload_n 0, 1) := by decide +kernel
theorem d_T_open_219 : decode b_T_open 219 = .ok (.getfield 93, 3) := by decide +kernel
theorem d_T_open_222 : decode b_T_open 222 = .ok (.if_icmp .ge 26, 3) := by decide +kernel
theorem d_T_open_225 : decode b_T_open 225 = .ok (.aload_n 0, 1) := by decide +kernel
theorem d_T_open_226 : decode b_T_open 226 = .ok (.getfield 47, 3) := by decide +kernel
theorem d_T_open_229 : decode b_T_open 229 = .ok (.iload 4, 2) := by decide +kernel
theorem d_T_open_231 : decode b_T_open 231 = .ok (.iaload, 1) := by decide +kernel
theorem d_T_open_232 : decode b_T_open 232 = .ok (.aload_n 0, 1) := by decide +kernel
theorem d_T_open_233 : decode b_T_open 233 = .ok (.getfield 13, 3) := by decide +kernel
theorem d_T_open_236 : decode b_T_open 236 = .ok (.iload 4, 2) := by decide +kernel
theorem d_T_open_238 : decode b_T_open 238 = .ok (.iaload, 1) := by decide +kernel
theorem d_T_open_239 : decode b_T_open 239 = .ok (.if_icmp .ne 9, 3) := by decide +kernel
theorem d_T_open_242 : decode b_T_open 242 = .ok (.iinc 4 1, 3) := by decide +kernel
theorem d_T_open_245 : decode b_T_open 245 = .ok (.goto (-35), 3) := by decide +kernel
theorem d_T_open_248 : decode b_T_open 248 = .ok (.iload 4, 2) := by decide +kernel
theorem d_T_open_250 : decode b_T_open 250 = .ok (.iload_n 3, 1) := by decide +kernel
theorem d_T_open_251 : decode b_T_open 251 = .ok (.if_icmp .lt 12, 3) := by decide +kernel
theorem d_T_open_254 : decode b_T_open 254 = .ok (.iload 4, 2) := by decide +kernel
theorem d_T_open_256 : decode b_T_open 256 = .ok (.aload_n 0, 1) := by decide +kernel
theorem d_T_open_257 : decode b_T_open 257 = .ok (.getfield 93, 3) := by decide +kernel
theorem d_T_open_260 : decode b_T_open 260 = .ok (.if_icmp .ge 12, 3) := by decide +kernel
theorem d_T_open_263 : decode b_T_open 263 = .ok (.aload_n 0, 1) := by decide +kernel
theorem d_T_open_264 : decode b_T_open 264 = .ok (.iload 4, 2) := by decide +kernel
theorem d_T_open_266 : decode b_T_open 266 = .ok (.putfield 65, 3) := by decide +kernel
theorem d_T_open_269 : decode b_T_open 269 = .ok (.bipush (-13), 2) := by decide +kernel
theorem d_T_open_271 : decode b_T_open 271 = .ok (.ireturn, 1) := by decide +kernel
theorem d_T_open_272 : decode b_T_open 272 = .ok (.aload_n 0, 1) := by decide +kernel
theorem d_T_open_273 : decode b_T_open 273 = .ok (.iconst 2, 1) := by decide +kernel
theorem d_T_open_274 : decode b_T_open 274 = .ok (.iconst 1, 1) := by decide +kernel
theorem d_T_open_275 : decode b_T_open 275 = .ok (.invokevirtual 219, 3) := by decide +kernel
theorem d_T_open_278 : decode b_T_open 278 = .ok (.aload_n 0, 1) := by decide +kernel
theorem d_T_open_279 : decode b_T_open 279 = .ok (.getfield 37, 3) := by decide +kernel
theorem d_T_open_282 : decode b_T_open 282 = .ok (.iconst 1, 1) := by decide +kernel
theorem d_T_open_283 : decode b_T_open 283 = .ok (.dup2, 1) := by decide +kernel
theorem d_T_open_284 : decode b_T_open 284 = .ok (.iaload, 1) := by decide +kernel
theorem d_T_open_285 : decode b_T_open 285 = .ok (.iload_n 1, 1) := by decide +kernel
theorem d_T_open_286 : decode b_T_open 286 = .ok (.iadd, 1) := by decide +kernel
theorem d_T_open_287 : decode b_T_open 287 = .ok (.iastore, 1) := by decide +kernel
theorem d_T_open_288 : decode b_T_open 288 = .ok (.aload_n 0, 1) := by decide +kernel
theorem d_T_open_289 : decode b_T_open 289 = .ok (.aload_n 0, 1) := by decide +kernel
theorem d_T_open_290 : decode b_T_open 290 = .ok (.getfield 222, 3) := by decide +kernel
theorem d_T_open_293 : decode b_T_open 293 = .ok (.putfield 96, 3) := by decide +kernel
theorem d_T_open_296 : decode b_T_open 296 = .ok (.iconst 0, 1) := by decide +kernel
theorem d_T_open_297 : decode b_T_open 297 = .ok (.istore 5, 2) := by decide +kernel
theorem d_T_open_299 : decode b_T_open 299 = .ok (.iload 5, 2) := by decide +kernel
theorem d_T_open_301 : decode b_T_open 301 = .ok (.aload_n 0, 1) := by decide +kernel
theorem d_T_open_302 : decode b_T_open 302 = .ok (.getfield 222, 3) := by decide +kernel
theorem d_T_open_305 : decode b_T_open 305 = .ok (.if_icmp .ge 23, 3) := by decide +kernel
theorem d_T_open_308 : decode b_T_open 308 = .ok (.aload_n 0, 1) := by decide +kernel
theorem d_T_open_309 : decode b_T_open 309 = .ok (.getfield 16, 3) := by decide +kernel
theorem d_T_open_312 : decode b_T_open 312 = .ok (.iload 5, 2) := by decide +kernel
theorem d_T_open_314 : decode b_T_open 314 = .ok (.aload_n 0, 1) := by decide +kernel
theorem d_T_open_315 : decode b_T_open 315 = .ok (.getfield 69, 3) := by decide +kernel
theorem d_T_open_318 : decode b_T_open 318 = .ok (.iload 5, 2) := by decide +kernel
theorem d_T_open_320 : decode b_T_open 320 = .ok (.iaload, 1) := by decide +kernel
theorem d_T_open_321 : decode b_T_open 321 = .ok (.iastore, 1) := by decide +kernel
theorem d_T_open_322 : decode b_T_open 322 = .ok (.iinc 5 1, 3) := by decide +kernel
theorem d_T_open_325 : decode b_T_open 325 = .ok (.goto (-26), 3) := by decide +kernel
theorem d_T_open_328 : decode b_T_open 328 = .ok (.aload_n 0, 1) := by decide +kernel
theorem d_T_open_329 : decode b_T_open 329 = .ok (.getfield 222, 3) := by decide +kernel
theorem d_T_open_332 : decode b_T_open 332 = .ok (.ireturn, 1) := by decide +kernel
theorem d_T_copy_0 : decode b_T_copy 0 = .ok (.aload_n 0, 1) := by decide +kernel
theorem d_T_copy_1 : decode b_T_copy 1 = .ok (.getfield 19, 3) := by decide +kernel
theorem d_T_copy_4 : decode b_T_copy 4 = .ok (.iload_n 2, 1) := by decide +kernel
theorem d_T_copy_5 : decode b_T_copy 5 = .ok (.aload_n 0, 1) := by decide +kernel
theorem d_T_copy_6 : decode b_T_copy 6 = .ok (.getfield 19, 3) := by decide +kernel
theorem d_T_copy_9 : decode b_T_copy 9 = .ok (.iload_n 1, 1) := by decide +kernel
theorem d_T_copy_10 : decode b_T_copy 10 = .ok (.iaload, 1) := by decide +kernel
theorem d_T_copy_11 : decode b_T_copy 11 = .ok (.iastore, 1) := by decide +kernel
theorem d_T_copy_12 : decode b_T_copy 12 = .ok (.aload_n 0, 1) := by decide +kernel
theorem d_T_copy_13 : decode b_T_copy 13 = .ok (.getfield 31, 3) := by decide +kernel
theorem d_T_copy_16 : decode b_T_copy 16 = .ok (.iload_n 2, 1) := by decide +kernel
theorem d_T_copy_17 : decode b_T_copy 17 = .ok (.aload_n 0, 1) := by decide +kernel
theorem d_T_copy_18 : decode b_T_copy 18 = .ok (.getfield 31, 3) := by decide +kernel
theorem d_T_copy_21 : decode b_T_copy 21 = .ok (.iload_n 1, 1) := by decide +kernel
theorem d_T_copy_22 : decode b_T_copy 22 = .ok (.iaload, 1) := by decide +kernel
theorem d_T_copy_23 : decode b_T_copy 23 = .ok (.iastore, 1) := by decide +kernel
theorem d_T_copy_24 : decode b_T_copy 24 = .ok (.iconst 0, 1) := by decide +kernel
theorem d_T_copy_25 : decode b_T_copy 25 = .ok (.istore_n 3, 1) := by decide +kernel
theorem d_T_copy_26 : decode b_T_copy 26 = .ok (.iload_n 3, 1) := by decide +kernel
theorem d_T_copy_27 : decode b_T_copy 27 = .ok (.aload_n 0, 1) := by decide +kernel
theorem d_T_copy_28 : decode b_T_copy 28 = .ok (.getfield 19, 3) := by decide +kernel
theorem d_T_copy_31 : decode b_T_copy 31 = .ok (.iload_n 1, 1) := by decide +kernel
theorem d_T_copy_32 : decode b_T_copy 32 = .ok (.iaload, 1) := by decide +kernel
theorem d_T_copy_33 : decode b_T_copy 33 = .ok (.if_icmp .ge 81, 3) := by decide +kernel
theorem d_T_copy_36 : decode b_T_copy 36 = .ok (.aload_n 0, 1) := by decide +kernel
theorem d_T_copy_37 : decode b_T_copy 37 = .ok (.getfield 22, 3) := by decide +kernel
theorem d_T_copy_40 : decode b_T_copy 40 = .ok (.sipush 1500, 3) := by decide +kernel
theorem d_T_copy_43 : decode b_T_copy 43 = .ok (.iload_n 2, 1) := by decide +kernel
theorem d_T_copy_44 : decode b_T_copy 44 = .ok (.imul, 1) := by decide +kernel
theorem d_T_copy_45 : decode b_T_copy 45 = .ok (.iload_n 3, 1) := by decide +kernel
theorem d_T_copy_46 : decode b_T_copy 46 = .ok (.iadd, 1) := by decide +kernel
theorem d_T_copy_47 : decode b_T_copy 47 = .ok (.aload_n 0, 1) := by decide +kernel
theorem d_T_copy_48 : decode b_T_copy 48 = .ok (.getfield 22, 3) := by decide +kernel
theorem d_T_copy_51 : decode b_T_copy 51 = .ok (.sipush 1500, 3) := by decide +kernel
theorem d_T_copy_54 : decode b_T_copy 54 = .ok (.iload_n 1, 1) := by decide +kernel
theorem d_T_copy_55 : decode b_T_copy 55 = .ok (.imul, 1) := by decide +kernel
theorem d_T_copy_56 : decode b_T_copy 56 = .ok (.iload_n 3, 1) := by decide +kernel
theorem d_T_copy_57 : decode b_T_copy 57 = .ok (.iadd, 1) := by decide +kernel
theorem d_T_copy_58 : decode b_T_copy 58 = .ok (.iaload, 1) := by decide +kernel
theorem d_T_copy_59 : decode b_T_copy 59 = .ok (.iastore, 1) := by decide +kernel
theorem d_T_copy_60 : decode b_T_copy 60 = .ok (.aload_n 0, 1) := by decide +kernel
theorem d_T_copy_61 : decode b_T_copy 61 = .ok (.getfield 25, 3) := by decide +kernel
theorem d_T_copy_64 : decode b_T_copy 64 = .ok (.sipush 1500, 3) := by decide +kernel
theorem d_T_copy_67 : decode b_T_copy 67 = .ok (.iload_n 2, 1) := by decide +kernel
theorem d_T_copy_68 : decode b_T_copy 68 = .ok (.imul, 1) := by decide +kernel
theorem d_T_copy_69 : decode b_T_copy 69 = .ok (.iload_n 3, 1) := by decide +kernel
theorem d_T_copy_70 : decode b_T_copy 70 = .ok (.iadd, 1) := by decide +kernel
theorem d_T_copy_71 : decode b_T_copy 71 = .ok (.aload_n 0, 1) := by decide +kernel
theorem d_T_copy_72 : decode b_T_copy 72 = .ok (.getfield 25, 3) := by decide +kernel
theorem d_T_copy_75 : decode b_T_copy 75 = .ok (.sipush 1500, 3) := by decide +kernel
theorem d_T_copy_78 : decode b_T_copy 78 = .ok (.iload_n 1, 1) := by decide +kernel
theorem d_T_copy_79 : decode b_T_copy 79 = .ok (.imul, 1) := by decide +kernel
theorem d_T_copy_80 : decode b_T_copy 80 = .ok (.iload_n 3, 1) := by decide +kernel
theorem d_T_copy_81 : decode b_T_copy 81 = .ok (.iadd, 1) := by decide +kernel
theorem d_T_copy_82 : decode b_T_copy 82 = .ok (.iaload, 1) := by decide +kernel
theorem d_T_copy_83 : decode b_T_copy 83 = .ok (.iastore, 1) := by decide +kernel
theorem d_T_copy_84 : decode b_T_copy 84 = .ok (.aload_n 0, 1) := by decide +kernel
theorem d_T_copy_85 : decode b_T_copy 85 = .ok (.getfield 28, 3) := by decide +kernel
theorem d_T_copy_88 : decode b_T_copy 88 = .ok (.sipush 1500, 3) := by decide +kernel
theorem d_T_copy_91 : decode b_T_copy 91 = .ok (.iload_n 2, 1) := by decide +kernel
theorem d_T_copy_92 : decode b_T_copy 92 = .ok (.imul, 1) := by decide +kernel
theorem d_T_copy_93 : decode b_T_copy 93 = .ok (.iload_n 3, 1) := by decide +kernel
theorem d_T_copy_94 : decode b_T_copy 94 = .ok (.iadd, 1) := by decide +kernel
theorem d_T_copy_95 : decode b_T_copy 95 = .ok (.aload_n 0, 1) := by decide +kernel
theorem d_T_copy_96 : decode b_T_copy 96 = .ok (.getfield 28, 3) := by decide +kernel
theorem d_T_copy_99 : decode b_T_copy 99 = .ok (.sipush 1500, 3) := by decide +kernel
theorem d_T_copy_102 : decode b_T_copy 102 = .ok (.iload_n 1, 1) := by decide +kernel
theorem d_T_copy_103 : decode b_T_copy 103 = .ok (.imul, 1) := by decide +kernel
theorem d_T_copy_104 : decode b_T_copy 104 = .ok (.iload_n 3, 1) := by decide +kernel
theorem d_T_copy_105 : decode b_T_copy 105 = .ok (.iadd, 1) := by decide +kernel
theorem d_T_copy_106 : decode b_T_copy 106 = .ok (.iaload, 1) := by decide +kernel
theorem d_T_copy_107 : decode b_T_copy 107 = .ok (.iastore, 1) := by decide +kernel
theorem d_T_copy_108 : decode b_T_copy 108 = .ok (.iinc 3 1, 3) := by decide +kernel
theorem d_T_copy_111 : decode b_T_copy 111 = .ok (.goto (-85), 3) := by decide +kernel
theorem d_T_copy_114 : decode b_T_copy 114 = .ok (.iconst 0, 1) := by decide +kernel
theorem d_T_copy_115 : decode b_T_copy 115 = .ok (.istore_n 3, 1) := by decide +kernel
theorem d_T_copy_116 : decode b_T_copy 116 = .ok (.iload_n 3, 1) := by decide +kernel
theorem d_T_copy_117 : decode b_T_copy 117 = .ok (.aload_n 0, 1) := by decide +kernel
theorem d_T_copy_118 : decode b_T_copy 118 = .ok (.getfield 31, 3) := by decide +kernel
theorem d_T_copy_121 : decode b_T_copy 121 = .ok (.iload_n 1, 1) := by decide +kernel
theorem d_T_copy_122 : decode b_T_copy 122 = .ok (.iaload, 1) := by decide +kernel
theorem d_T_copy_123 : decode b_T_copy 123 = .ok (.if_icmp .ge 29, 3) := by decide +kernel
theorem d_T_copy_126 : decode b_T_copy 126 = .ok (.aload_n 0, 1) := by decide +kernel
theorem d_T_copy_127 : decode b_T_copy 127 = .ok (.getfield 34, 3) := by decide +kernel
theorem d_T_copy_130 : decode b_T_copy 130 = .ok (.iconst 4, 1) := by decide +kernel
theorem d_T_copy_131 : decode b_T_copy 131 = .ok (.iload_n 2, 1) := by decide +kernel
theorem d_T_copy_132 : decode b_T_copy 132 = .ok (.imul, 1) := by decide +kernel
theorem d_T_copy_133 : decode b_T_copy 133 = .ok (.iload_n 3, 1) := by decide +kernel
theorem d_T_copy_134 : decode b_T_copy 134 = .ok (.iadd, 1) := by decide +kernel
theorem d_T_copy_135 : decode b_T_copy 135 = .ok (.aload_n 0, 1) := by decide +kernel
theorem d_T_copy_136 : decode b_T_copy 136 = .ok (.getfield 34, 3) := by decide +kernel
theorem d_T_copy_139 : decode b_T_copy 139 = .ok (.iconst 4, 1) := by decide +kernel
theorem d_T_copy_140 : decode b_T_copy 140 = .ok (.iload_n 1, 1) := by decide +kernel
theorem d_T_copy_141 : decode b_T_copy 141 = .ok (.imul, 1) := by decide +kernel
theorem d_T_copy_142 : decode b_T_copy 142 = .ok (.iload_n 3, 1) := by decide +kernel
theorem d_T_copy_143 : decode b_T_copy 143 = .ok (.iadd, 1) := by decide +kernel
theorem d_T_copy_144 : decode b_T_copy 144 = .ok (.iaload, 1) := by decide +kernel
theorem d_T_copy_145 : decode b_T_copy 145 = .ok (.iastore, 1) := by decide +kernel
theorem d_T_copy_146 : decode b_T_copy 146 = .ok (.iinc 3 1, 3) := by decide +kernel
theorem d_T_copy_149 : decode b_T_copy 149 = .ok (.goto (-33), 3) := by decide +kernel
theorem d_T_copy_152 : decode b_T_copy 152 = .ok (.return_, 1) := by decide +kernel
