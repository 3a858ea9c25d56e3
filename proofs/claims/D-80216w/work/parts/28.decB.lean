theorem d_X_flat_99 : decode b_X_flat 99 = .ok (.ireturn, 1) := by decide +kernel
theorem d_Mo_learns_0 : decode b_Mo_learns 0 = .ok (.iload_n 2, 1) := by decide +kernel
theorem d_Mo_learns_1 : decode b_Mo_learns 1 = .ok (.iconst 0, 1) := by decide +kernel
theorem d_Mo_learns_2 : decode b_Mo_learns 2 = .ok (.invokestatic 60, 3) := by decide +kernel
theorem d_Mo_learns_5 : decode b_Mo_learns 5 = .ok (.istore_n 3, 1) := by decide +kernel
theorem d_Mo_learns_6 : decode b_Mo_learns 6 = .ok (.iload_n 3, 1) := by decide +kernel
theorem d_Mo_learns_7 : decode b_Mo_learns 7 = .ok (.aload_n 0, 1) := by decide +kernel
theorem d_Mo_learns_8 : decode b_Mo_learns 8 = .ok (.getfield 43, 3) := by decide +kernel
theorem d_Mo_learns_11 : decode b_Mo_learns 11 = .ok (.if_icmp .gt 74, 3) := by decide +kernel
theorem d_Mo_learns_14 : decode b_Mo_learns 14 = .ok (.aload_n 0, 1) := by decide +kernel
theorem d_Mo_learns_15 : decode b_Mo_learns 15 = .ok (.iload_n 3, 1) := by decide +kernel
theorem d_Mo_learns_16 : decode b_Mo_learns 16 = .ok (.invokevirtual 65, 3) := by decide +kernel
theorem d_Mo_learns_19 : decode b_Mo_learns 19 = .ok (.istore 4, 2) := by decide +kernel
theorem d_Mo_learns_21 : decode b_Mo_learns 21 = .ok (.aload_n 0, 1) := by decide +kernel
theorem d_Mo_learns_22 : decode b_Mo_learns 22 = .ok (.iload 4, 2) := by decide +kernel
theorem d_Mo_learns_24 : decode b_Mo_learns 24 = .ok (.iload_n 1, 1) := by decide +kernel
theorem d_Mo_learns_25 : decode b_Mo_learns 25 = .ok (.invokevirtual 56, 3) := by decide +kernel
theorem d_Mo_learns_28 : decode b_Mo_learns 28 = .ok (.istore 5, 2) := by decide +kernel
theorem d_Mo_learns_30 : decode b_Mo_learns 30 = .ok (.iload 5, 2) := by decide +kernel
theorem d_Mo_learns_32 : decode b_Mo_learns 32 = .ok (.ifCond .le 17, 3) := by decide +kernel
theorem d_Mo_learns_35 : decode b_Mo_learns 35 = .ok (.aload_n 0, 1) := by decide +kernel
theorem d_Mo_learns_36 : decode b_Mo_learns 36 = .ok (.getfield 28, 3) := by decide +kernel
theorem d_Mo_learns_39 : decode b_Mo_learns 39 = .ok (.iload 5, 2) := by decide +kernel
theorem d_Mo_learns_41 : decode b_Mo_learns 41 = .ok (.dup2, 1) := by decide +kernel
theorem d_Mo_learns_42 : decode b_Mo_learns 42 = .ok (.iaload, 1) := by decide +kernel
theorem d_Mo_learns_43 : decode b_Mo_learns 43 = .ok (.iconst 1, 1) := by decide +kernel
theorem d_Mo_learns_44 : decode b_Mo_learns 44 = .ok (.iadd, 1) := by decide +kernel
theorem d_Mo_learns_45 : decode b_Mo_learns 45 = .ok (.iastore, 1) := by decide +kernel
theorem d_Mo_learns_46 : decode b_Mo_learns 46 = .ok (.goto 27, 3) := by decide +kernel
theorem d_Mo_learns_49 : decode b_Mo_learns 49 = .ok (.aload_n 0, 1) := by decide +kernel
theorem d_Mo_learns_50 : decode b_Mo_learns 50 = .ok (.getfield 40, 3) := by decide +kernel
theorem d_Mo_learns_53 : decode b_Mo_learns 53 = .ok (.aload_n 0, 1) := by decide +kernel
theorem d_Mo_learns_54 : decode b_Mo_learns 54 = .ok (.getfield 19, 3) := by decide +kernel
theorem d_Mo_learns_57 : decode b_Mo_learns 57 = .ok (.if_icmp .ne 9, 3) := by decide +kernel
theorem d_Mo_learns_60 : decode b_Mo_learns 60 = .ok (.aload_n 0, 1) := by decide +kernel
theorem d_Mo_learns_61 : decode b_Mo_learns 61 = .ok (.invokevirtual 37, 3) := by decide +kernel
theorem d_Mo_learns_64 : decode b_Mo_learns 64 = .ok (.iconst 1, 1) := by decide +kernel
theorem d_Mo_learns_65 : decode b_Mo_learns 65 = .ok (.ireturn, 1) := by decide +kernel
theorem d_Mo_learns_66 : decode b_Mo_learns 66 = .ok (.aload_n 0, 1) := by decide +kernel
theorem d_Mo_learns_67 : decode b_Mo_learns 67 = .ok (.iload 4, 2) := by decide +kernel
theorem d_Mo_learns_69 : decode b_Mo_learns 69 = .ok (.iload_n 1, 1) := by decide +kernel
theorem d_Mo_learns_70 : decode b_Mo_learns 70 = .ok (.invokevirtual 69, 3) := by decide +kernel
theorem d_Mo_learns_73 : decode b_Mo_learns 73 = .ok (.aload_n 0, 1) := by decide +kernel
theorem d_Mo_learns_74 : decode b_Mo_learns 74 = .ok (.iload 4, 2) := by decide +kernel
theorem d_Mo_learns_76 : decode b_Mo_learns 76 = .ok (.invokevirtual 73, 3) := by decide +kernel
theorem d_Mo_learns_79 : decode b_Mo_learns 79 = .ok (.iinc 3 1, 3) := by decide +kernel
theorem d_Mo_learns_82 : decode b_Mo_learns 82 = .ok (.goto (-76), 3) := by decide +kernel
theorem d_Mo_learns_85 : decode b_Mo_learns 85 = .ok (.aload_n 0, 1) := by decide +kernel
theorem d_Mo_learns_86 : decode b_Mo_learns 86 = .ok (.iload_n 1, 1) := by decide +kernel
theorem d_Mo_learns_87 : decode b_Mo_learns 87 = .ok (.invokevirtual 77, 3) := by decide +kernel
theorem d_Mo_learns_90 : decode b_Mo_learns 90 = .ok (.iconst 0, 1) := by decide +kernel
theorem d_Mo_learns_91 : decode b_Mo_learns 91 = .ok (.ireturn, 1) := by decide +kernel
theorem d_Mo_bear_0 : decode b_Mo_bear 0 = .ok (.aload_n 0, 1) := by decide +kernel
theorem d_Mo_bear_1 : decode b_Mo_bear 1 = .ok (.dup, 1) := by decide +kernel
theorem d_Mo_bear_2 : decode b_Mo_bear 2 = .ok (.getfield 40, 3) := by decide +kernel
theorem d_Mo_bear_5 : decode b_Mo_bear 5 = .ok (.dup_x1, 1) := by decide +kernel
theorem d_Mo_bear_6 : decode b_Mo_bear 6 = .ok (.iconst 1, 1) := by decide +kernel
theorem d_Mo_bear_7 : decode b_Mo_bear 7 = .ok (.iadd, 1) := by decide +kernel
theorem d_Mo_bear_8 : decode b_Mo_bear 8 = .ok (.putfield 40, 3) := by decide +kernel
theorem d_Mo_bear_11 : decode b_Mo_bear 11 = .ok (.istore_n 3, 1) := by decide +kernel
theorem d_Mo_bear_12 : decode b_Mo_bear 12 = .ok (.aload_n 0, 1) := by decide +kernel
theorem d_Mo_bear_13 : decode b_Mo_bear 13 = .ok (.getfield 22, 3) := by decide +kernel
theorem d_Mo_bear_16 : decode b_Mo_bear 16 = .ok (.iload_n 3, 1) := by decide +kernel
theorem d_Mo_bear_17 : decode b_Mo_bear 17 = .ok (.iload_n 1, 1) := by decide +kernel
theorem d_Mo_bear_18 : decode b_Mo_bear 18 = .ok (.iastore, 1) := by decide +kernel
theorem d_Mo_bear_19 : decode b_Mo_bear 19 = .ok (.aload_n 0, 1) := by decide +kernel
theorem d_Mo_bear_20 : decode b_Mo_bear 20 = .ok (.getfield 25, 3) := by decide +kernel
theorem d_Mo_bear_23 : decode b_Mo_bear 23 = .ok (.iload_n 3, 1) := by decide +kernel
theorem d_Mo_bear_24 : decode b_Mo_bear 24 = .ok (.iload_n 2, 1) := by decide +kernel
theorem d_Mo_bear_25 : decode b_Mo_bear 25 = .ok (.iastore, 1) := by decide +kernel
theorem d_Mo_bear_26 : decode b_Mo_bear 26 = .ok (.aload_n 0, 1) := by decide +kernel
theorem d_Mo_bear_27 : decode b_Mo_bear 27 = .ok (.getfield 28, 3) := by decide +kernel
theorem d_Mo_bear_30 : decode b_Mo_bear 30 = .ok (.iload_n 3, 1) := by decide +kernel
theorem d_Mo_bear_31 : decode b_Mo_bear 31 = .ok (.iconst 1, 1) := by decide +kernel
theorem d_Mo_bear_32 : decode b_Mo_bear 32 = .ok (.iastore, 1) := by decide +kernel
theorem d_Mo_bear_33 : decode b_Mo_bear 33 = .ok (.aload_n 0, 1) := by decide +kernel
theorem d_Mo_bear_34 : decode b_Mo_bear 34 = .ok (.getfield 31, 3) := by decide +kernel
theorem d_Mo_bear_37 : decode b_Mo_bear 37 = .ok (.iload_n 3, 1) := by decide +kernel
theorem d_Mo_bear_38 : decode b_Mo_bear 38 = .ok (.iconst 0, 1) := by decide +kernel
theorem d_Mo_bear_39 : decode b_Mo_bear 39 = .ok (.iastore, 1) := by decide +kernel
theorem d_Mo_bear_40 : decode b_Mo_bear 40 = .ok (.iconst 0, 1) := by decide +kernel
theorem d_Mo_bear_41 : decode b_Mo_bear 41 = .ok (.istore 4, 2) := by decide +kernel
theorem d_Mo_bear_43 : decode b_Mo_bear 43 = .ok (.aload_n 0, 1) := by decide +kernel
theorem d_Mo_bear_44 : decode b_Mo_bear 44 = .ok (.getfield 31, 3) := by decide +kernel
theorem d_Mo_bear_47 : decode b_Mo_bear 47 = .ok (.iload_n 1, 1) := by decide +kernel
theorem d_Mo_bear_48 : decode b_Mo_bear 48 = .ok (.iaload, 1) := by decide +kernel
theorem d_Mo_bear_49 : decode b_Mo_bear 49 = .ok (.istore 5, 2) := by decide +kernel
theorem d_Mo_bear_51 : decode b_Mo_bear 51 = .ok (.iload 5, 2) := by decide +kernel
theorem d_Mo_bear_53 : decode b_Mo_bear 53 = .ok (.ifCond .le 30, 3) := by decide +kernel
theorem d_Mo_bear_56 : decode b_Mo_bear 56 = .ok (.aload_n 0, 1) := by decide +kernel
theorem d_Mo_bear_57 : decode b_Mo_bear 57 = .ok (.getfield 25, 3) := by decide +kernel
theorem d_Mo_bear_60 : decode b_Mo_bear 60 = .ok (.iload 5, 2) := by decide +kernel
theorem d_Mo_bear_62 : decode b_Mo_bear 62 = .ok (.iaload, 1) := by decide +kernel
theorem d_Mo_bear_63 : decode b_Mo_bear 63 = .ok (.iload_n 2, 1) := by decide +kernel
theorem d_Mo_bear_64 : decode b_Mo_bear 64 = .ok (.if_icmp .ge 19, 3) := by decide +kernel
theorem d_Mo_bear_67 : decode b_Mo_bear 67 = .ok (.iload 5, 2) := by decide +kernel
theorem d_Mo_bear_69 : decode b_Mo_bear 69 = .ok (.istore 4, 2) := by decide +kernel
theorem d_Mo_bear_71 : decode b_Mo_bear 71 = .ok (.aload_n 0, 1) := by decide +kernel
theorem d_Mo_bear_72 : decode b_Mo_bear 72 = .ok (.getfield 34, 3) := by decide +kernel
theorem d_Mo_bear_75 : decode b_Mo_bear 75 = .ok (.iload 5, 2) := by decide +kernel
theorem d_Mo_bear_77 : decode b_Mo_bear 77 = .ok (.iaload, 1) := by decide +kernel
theorem d_Mo_bear_78 : decode b_Mo_bear 78 = .ok (.istore 5, 2) := by decide +kernel
theorem d_Mo_bear_80 : decode b_Mo_bear 80 = .ok (.goto (-29), 3) := by decide +kernel
theorem d_Mo_bear_83 : decode b_Mo_bear 83 = .ok (.aload_n 0, 1) := by decide +kernel
theorem d_Mo_bear_84 : decode b_Mo_bear 84 = .ok (.getfield 34, 3) := by decide +kernel
theorem d_Mo_bear_87 : decode b_Mo_bear 87 = .ok (.iload_n 3, 1) := by decide +kernel
theorem d_Mo_bear_88 : decode b_Mo_bear 88 = .ok (.iload 5, 2) := by decide +kernel
theorem d_Mo_bear_90 : decode b_Mo_bear 90 = .ok (.iastore, 1) := by decide +kernel
theorem d_Mo_bear_91 : decode b_Mo_bear 91 = .ok (.iload 4, 2) := by decide +kernel
theorem d_Mo_bear_93 : decode b_Mo_bear 93 = .ok (.ifCond .le 14, 3) := by decide +kernel
theorem d_Mo_bear_96 : decode b_Mo_bear 96 = .ok (.aload_n 0, 1) := by decide +kernel
theorem d_Mo_bear_97 : decode b_Mo_bear 97 = .ok (.getfield 34, 3) := by decide +kernel
theorem d_Mo_bear_100 : decode b_Mo_bear 100 = .ok (.iload 4, 2) := by decide +kernel
theorem d_Mo_bear_102 : decode b_Mo_bear 102 = .ok (.iload_n 3, 1) := by decide +kernel
theorem d_Mo_bear_103 : decode b_Mo_bear 103 = .ok (.iastore, 1) := by decide +kernel
theorem d_Mo_bear_104 : decode b_Mo_bear 104 = .ok (.goto 10, 3) := by decide +kernel
theorem d_Mo_bear_107 : decode b_Mo_bear 107 = .ok (.aload_n 0, 1) := by decide +kernel
theorem d_Mo_bear_108 : decode b_Mo_bear 108 = .ok (.getfield 31, 3) := by decide +kernel
theorem d_Mo_bear_111 : decode b_Mo_bear 111 = .ok (.iload_n 1, 1) := by decide +kernel
theorem d_Mo_bear_112 : decode b_Mo_bear 112 = .ok (.iload_n 3, 1) := by decide +kernel
theorem d_Mo_bear_113 : decode b_Mo_bear 113 = .ok (.iastore, 1) := by decide +kernel
theorem d_Mo_bear_114 : decode b_Mo_bear 114 = .ok (.return_, 1) := by decide +kernel
theorem d_Mo_halve_0 : decode b_Mo_halve 0 = .ok (.iconst 0, 1) := by decide +kernel
theorem d_Mo_halve_1 : decode b_Mo_halve 1 = .ok (.istore_n 2, 1) := by decide +kernel
theorem d_Mo_halve_2 : decode b_Mo_halve 2 = .ok (.aload_n 0, 1) := by decide +kernel
theorem d_Mo_halve_3 : decode b_Mo_halve 3 = .ok (.getfield 31, 3) := by decide +kernel
theorem d_Mo_halve_6 : decode b_Mo_halve 6 = .ok (.iload_n 1, 1) := by decide +kernel
theorem d_Mo_halve_7 : decode b_Mo_halve 7 = .ok (.iaload, 1) := by decide +kernel
theorem d_Mo_halve_8 : decode b_Mo_halve 8 = .ok (.istore_n 3, 1) := by decide +kernel
theorem d_Mo_halve_9 : decode b_Mo_halve 9 = .ok (.iload_n 3, 1) := by decide +kernel
theorem d_Mo_halve_10 : decode b_Mo_halve 10 = .ok (.ifCond .le 22, 3) := by decide +kernel
theorem d_Mo_halve_13 : decode b_Mo_halve 13 = .ok (.iload_n 2, 1) := by decide +kernel
theorem d_Mo_halve_14 : decode b_Mo_halve 14 = .ok (.aload_n 0, 1) := by decide +kernel
theorem d_Mo_halve_15 : decode b_Mo_halve 15 = .ok (.getfield 28, 3) := by decide +kernel
theorem d_Mo_halve_18 : decode b_Mo_halve 18 = .ok (.iload_n 3, 1) := by decide +kernel
theorem d_Mo_halve_19 : decode b_Mo_halve 19 = .ok (.iaload, 1) := by decide +kernel
theorem d_Mo_halve_20 : decode b_Mo_halve 20 = .ok (.iadd, 1) := by decide +kernel
theorem d_Mo_halve_21 : decode b_Mo_halve 21 = .ok (.istore_n 2, 1) := by decide +kernel
theorem d_Mo_halve_22 : decode b_Mo_halve 22 = .ok (.aload_n 0, 1) := by decide +kernel
theorem d_Mo_halve_23 : decode b_Mo_halve 23 = .ok (.getfield 34, 3) := by decide +kernel
theorem d_Mo_halve_26 : decode b_Mo_halve 26 = .ok (.iload_n 3, 1) := by decide +kernel
theorem d_Mo_halve_27 : decode b_Mo_halve 27 = .ok (.iaload, 1) := by decide +kernel
theorem d_Mo_halve_28 : decode b_Mo_halve 28 = .ok (.istore_n 3, 1) := by decide +kernel
theorem d_Mo_halve_29 : decode b_Mo_halve 29 = .ok (.goto (-20), 3) := by decide +kernel
theorem d_Mo_halve_32 : decode b_Mo_halve 32 = .ok (.aload_n 0, 1) := by decide +kernel
theorem d_Mo_halve_33 : decode b_Mo_halve 33 = .ok (.getfield 31, 3) := by decide +kernel
theorem d_Mo_halve_36 : decode b_Mo_halve 36 = .ok (.iload_n 1, 1) := by decide +kernel
theorem d_Mo_halve_37 : decode b_Mo_halve 37 = .ok (.iaload, 1) := by decide +kernel
theorem d_Mo_halve_38 : decode b_Mo_halve 38 = .ok (.istore_n 3, 1) := by decide +kernel
theorem d_Mo_halve_39 : decode b_Mo_halve 39 = .ok (.iload_n 3, 1) := by decide +kernel
theorem d_Mo_halve_40 : decode b_Mo_halve 40 = .ok (.ifCond .le 36, 3) := by decide +kernel
theorem d_Mo_halve_43 : decode b_Mo_halve 43 = .ok (.iload_n 2, 1) := by decide +kernel
theorem d_Mo_halve_44 : decode b_Mo_halve 44 = .ok (.sipush 200, 3) := by decide +kernel
theorem d_Mo_halve_47 : decode b_Mo_halve 47 = .ok (.if_icmp .le 29, 3) := by decide +kernel
theorem d_Mo_halve_50 : decode b_Mo_halve 50 = .ok (.aload_n 0, 1) := by decide +kernel
theorem d_Mo_halve_51 : decode b_Mo_halve 51 = .ok (.getfield 28, 3) := by decide +kernel
theorem d_Mo_halve_54 : decode b_Mo_halve 54 = .ok (.iload_n 3, 1) := by decide +kernel
theorem d_Mo_halve_55 : decode b_Mo_halve 55 = .ok (.aload_n 0, 1) := by decide +kernel
theorem d_Mo_halve_56 : decode b_Mo_halve 56 = .ok (.getfield 28, 3) := by decide +kernel
theorem d_Mo_halve_59 : decode b_Mo_halve 59 = .ok (.iload_n 3, 1) := by decide +kernel
theorem d_Mo_halve_60 : decode b_Mo_halve 60 = .ok (.iaload, 1) := by decide +kernel
theorem d_Mo_halve_61 : decode b_Mo_halve 61 = .ok (.iconst 1, 1) := by decide +kernel
theorem d_Mo_halve_62 : decode b_Mo_halve 62 = .ok (.iadd, 1) := by decide +kernel
theorem d_Mo_halve_63 : decode b_Mo_halve 63 = .ok (.iconst 2, 1) := by decide +kernel
theorem d_Mo_halve_64 : decode b_Mo_halve 64 = .ok (.idiv, 1) := by decide +kernel
theorem d_Mo_halve_65 : decode b_Mo_halve 65 = .ok (.iastore, 1) := by decide +kernel
theorem d_Mo_halve_66 : decode b_Mo_halve 66 = .ok (.aload_n 0, 1) := by decide +kernel
theorem d_Mo_halve_67 : decode b_Mo_halve 67 = .ok (.getfield 34, 3) := by decide +kernel
theorem d_Mo_halve_70 : decode b_Mo_halve 70 = .ok (.iload_n 3, 1) := by decide +kernel
theorem d_Mo_halve_71 : decode b_Mo_halve 71 = .ok (.iaload, 1) := by decide +kernel
theorem d_Mo_halve_72 : decode b_Mo_halve 72 = .ok (.istore_n 3, 1) := by decide +kernel
theorem d_Mo_halve_73 : decode b_Mo_halve 73 = .ok (.goto (-34), 3) := by decide +kernel
theorem d_Mo_halve_76 : decode b_Mo_halve 76 = .ok (.return_, 1) := by decide +kernel
theorem d_Mo_remember_0 : decode b_Mo_remember 0 = .ok (.aload_n 0, 1) := by decide +kernel
theorem d_Mo_remember_1 : decode b_Mo_remember 1 = .ok (.getfield 15, 3) := by decide +kernel
theorem d_Mo_remember_4 : decode b_Mo_remember 4 = .ok (.ifCond .ne 4, 3) := by decide +kernel
theorem d_Mo_remember_7 : decode b_Mo_remember 7 = .ok (.return_, 1) := by decide +kernel
theorem d_Mo_remember_8 : decode b_Mo_remember 8 = .ok (.aload_n 0, 1) := by decide +kernel
theorem d_Mo_remember_9 : decode b_Mo_remember 9 = .ok (.getfield 43, 3) := by decide +kernel
theorem d_Mo_remember_12 : decode b_Mo_remember 12 = .ok (.aload_n 0, 1) := by decide +kernel
theorem d_Mo_remember_13 : decode b_Mo_remember 13 = .ok (.getfield 15, 3) := by decide +kernel
theorem d_Mo_remember_16 : decode b_Mo_remember 16 = .ok (.if_icmp .ne 32, 3) := by decide +kernel
theorem d_Mo_remember_19 : decode b_Mo_remember 19 = .ok (.aload_n 0, 1) := by decide +kernel
theorem d_Mo_remember_20 : decode b_Mo_remember 20 = .ok (.getfield 9, 3) := by decide +kernel
theorem d_Mo_remember_23 : decode b_Mo_remember 23 = .ok (.iconst 1, 1) := by decide +kernel
theorem d_Mo_remember_24 : decode b_Mo_remember 24 = .ok (.aload_n 0, 1) := by decide +kernel
theorem d_Mo_remember_25 : decode b_Mo_remember 25 = .ok (.getfield 9, 3) := by decide +kernel
theorem d_Mo_remember_28 : decode b_Mo_remember 28 = .ok (.iconst 0, 1) := by decide +kernel
theorem d_Mo_remember_29 : decode b_Mo_remember 29 = .ok (.aload_n 0, 1) := by decide +kernel
theorem d_Mo_remember_30 : decode b_Mo_remember 30 = .ok (.getfield 15, 3) := by decide +kernel
theorem d_Mo_remember_33 : decode b_Mo_remember 33 = .ok (.iconst 1, 1) := by decide +kernel
theorem d_Mo_remember_34 : decode b_Mo_remember 34 = .ok (.isub, 1) := by decide +kernel
theorem d_Mo_remember_35 : decode b_Mo_remember 35 = .ok (.invokestatic 46, 3) := by decide +kernel
theorem d_Mo_remember_38 : decode b_Mo_remember 38 = .ok (.aload_n 0, 1) := by decide +kernel
theorem d_Mo_remember_39 : decode b_Mo_remember 39 = .ok (.dup, 1) := by decide +kernel
theorem d_Mo_remember_40 : decode b_Mo_remember 40 = .ok (.getfield 43, 3) := by decide +kernel
theorem d_Mo_remember_43 : decode b_Mo_remember 43 = .ok (.iconst 1, 1) := by decide +kernel
theorem d_Mo_remember_44 : decode b_Mo_remember 44 = .ok (.isub, 1) := by decide +kernel
theorem d_Mo_remember_45 : decode b_Mo_remember 45 = .ok (.putfield 43, 3) := by decide +kernel
theorem d_Mo_remember_48 : decode b_Mo_remember 48 = .ok (.aload_n 0, 1) := by decide +kernel
theorem d_Mo_remember_49 : decode b_Mo_remember 49 = .ok (.getfield 9, 3) := by decide +kernel
theorem d_Mo_remember_52 : decode b_Mo_remember 52 = .ok (.aload_n 0, 1) := by decide +kernel
theorem d_Mo_remember_53 : decode b_Mo_remember 53 = .ok (.dup, 1) := by decide +kernel
theorem d_Mo_remember_54 : decode b_Mo_remember 54 = .ok (.getfield 43, 3) := by decide +kernel
theorem d_Mo_remember_57 : decode b_Mo_remember 57 = .ok (.dup_x1, 1) := by decide +kernel
theorem d_Mo_remember_58 : decode b_Mo_remember 58 = .ok (.iconst 1, 1) := by decide +kernel
theorem d_Mo_remember_59 : decode b_Mo_remember 59 = .ok (.iadd, 1) := by decide +kernel
theorem d_Mo_remember_60 : decode b_Mo_remember 60 = .ok (.putfield 43, 3) := by decide +kernel
theorem d_Mo_remember_63 : decode b_Mo_remember 63 = .ok (.iload_n 1, 1) := by decide +kernel
theorem d_Mo_remember_64 : decode b_Mo_remember 64 = .ok (.iastore, 1) := by decide +kernel
theorem d_Mo_remember_65 : decode b_Mo_remember 65 = .ok (.return_, 1) := by decide +kernel
theorem d_Wr_end_0 : decode b_Wr_end 0 = .ok (.aload_n 0, 1) := by decide +kernel
theorem d_Wr_end_1 : decode b_Wr_end 1 = .ok (.dup, 1) := by decide +kernel
theorem d_Wr_end_2 : decode b_Wr_end 2 = .ok (.getfield 22, 3) := by decide +kernel
theorem d_Wr_end_5 : decode b_Wr_end 5 = .ok (.iconst 1, 1) := by decide +kernel
theorem d_Wr_end_6 : decode b_Wr_end 6 = .ok (.iadd, 1) := by decide +kernel
theorem d_Wr_end_7 : decode b_Wr_end 7 = .ok (.putfield 22, 3) := by decide +kernel
theorem d_Wr_end_10 : decode b_Wr_end 10 = .ok (.aload_n 0, 1) := by decide +kernel
theorem d_Wr_end_11 : decode b_Wr_end 11 = .ok (.aload_n 0, 1) := by decide +kernel
theorem d_Wr_end_12 : decode b_Wr_end 12 = .ok (.getfield 33, 3) := by decide +kernel
theorem d_Wr_end_15 : decode b_Wr_end 15 = .ok (.sipush 16384, 3) := by decide +kernel
theorem d_Wr_end_18 : decode b_Wr_end 18 = .ok (.if_icmp .ge 7, 3) := by decide +kernel
theorem d_Wr_end_21 : decode b_Wr_end 21 = .ok (.iconst 0, 1) := by decide +kernel
theorem d_Wr_end_22 : decode b_Wr_end 22 = .ok (.goto 4, 3) := by decide +kernel
theorem d_Wr_end_25 : decode b_Wr_end 25 = .ok (.iconst 1, 1) := by decide +kernel
theorem d_Wr_end_26 : decode b_Wr_end 26 = .ok (.invokevirtual 26, 3) := by decide +kernel
theorem d_Wr_end_29 : decode b_Wr_end 29 = .ok (.aload_n 0, 1) := by decide +kernel
theorem d_Wr_end_30 : decode b_Wr_end 30 = .ok (.getfield 18, 3) := by decide +kernel
theorem d_Wr_end_33 : decode b_Wr_end 33 = .ok (.bipush 7, 2) := by decide +kernel
theorem d_Wr_end_35 : decode b_Wr_end 35 = .ok (.iadd, 1) := by decide +kernel
theorem d_Wr_end_36 : decode b_Wr_end 36 = .ok (.bipush 8, 2) := by decide +kernel
theorem d_Wr_end_38 : decode b_Wr_end 38 = .ok (.idiv, 1) := by decide +kernel
theorem d_Wr_end_39 : decode b_Wr_end 39 = .ok (.ireturn, 1) := by decide +kernel
theorem d_X_open_0 : decode b_X_open 0 = .ok (.aload_n 0, 1) := by decide +kernel
theorem d_X_open_1 : decode b_X_open 1 = .ok (.bipush (-3), 2) := by decide +kernel
theorem d_X_open_3 : decode b_X_open 3 = .ok (.putfield 120, 3) := by decide +kernel
theorem d_X_open_6 : decode b_X_open 6 = .ok (.aload_n 0, 1) := by decide +kernel
theorem d_X_open_7 : decode b_X_open 7 = .ok (.getfield 156, 3) := by decide +kernel
theorem d_X_open_10 : decode b_X_open 10 = .ok (.aload_n 0, 1) := by decide +kernel
theorem d_X_open_11 : decode b_X_open 11 = .ok (.getfield 73, 3) := by decide +kernel
theorem d_X_open_14 : decode b_X_open 14 = .ok (.iconst 1, 1) := by decide +kernel
theorem d_X_open_15 : decode b_X_open 15 = .ok (.aaload, 1) := by decide +kernel
theorem d_X_open_16 : decode b_X_open 16 = .ok (.invokevirtual 222, 3) := by decide +kernel
theorem d_X_open_19 : decode b_X_open 19 = .ok (.aload_n 0, 1) := by decide +kernel
theorem d_X_open_20 : decode b_X_open 20 = .ok (.getfield 116, 3) := by decide +kernel
theorem d_X_open_23 : decode b_X_open 23 = .ok (.invokevirtual 225, 3) := by decide +kernel
theorem d_X_open_26 : decode b_X_open 26 = .ok (.aload_n 0, 1) := by decide +kernel
theorem d_X_open_27 : decode b_X_open 27 = .ok (.getfield 108, 3) := by decide +kernel
theorem d_X_open_30 : decode b_X_open 30 = .ok (.invokevirtual 185, 3) := by decide +kernel
theorem d_X_open_33 : decode b_X_open 33 = .ok (.iconst 0, 1) := by decide +kernel
theorem d_X_open_34 : decode b_X_open 34 = .ok (.istore_n 1, 1) := by decide +kernel
theorem d_X_open_35 : decode b_X_open 35 = .ok (.iconst 0, 1) := by decide +kernel
theorem d_X_open_36 : decode b_X_open 36 = .ok (.istore_n 2, 1) := by decide +kernel
theorem d_X_open_37 : decode b_X_open 37 = .ok (.iconst 0, 1) := by decide +kernel
theorem d_X_open_38 : decode b_X_open 38 = .ok (.istore_n 3, 1) := by decide +kernel
theorem d_X_open_39 : decode b_X_open 39 = .ok (.iconst 1, 1) := by decide +kernel
theorem d_X_open_40 : decode b_X_open 40 = .ok (.istore 4, 2) := by decide +kernel
theorem d_X_open_42 : decode b_X_open 42 = .ok (.iload 4, 2) := by decide +kernel
theorem d_X_open_44 : decode b_X_open 44 = .ok (.ifCond .eq 115, 3) := by decide +kernel
theorem d_X_open_47 : decode b_X_open 47 = .ok (.aload_n 0, 1) := by decide +kernel
theorem d_X_open_48 : decode b_X_open 48 = .ok (.getfield 116, 3) := by decide +kernel
theorem d_X_open_51 : decode b_X_open 51 = .ok (.invokevirtual 226, 3) := by decide +kernel
theorem d_X_open_54 : decode b_X_open 54 = .ok (.ifCond .eq 8, 3) := by decide +kernel
theorem d_X_open_57 : decode b_X_open 57 = .ok (.iconst 1, 1) := by decide +kernel
theorem d_X_open_58 : decode b_X_open 58 = .ok (.istore_n 3, 1) := by decide +kernel
theorem d_X_open_59 : decode b_X_open 59 = .ok (.goto 100, 3) := by decide +kernel
theorem d_X_open_62 : decode b_X_open 62 = .ok (.aload_n 0, 1) := by decide +kernel
theorem d_X_open_63 : decode b_X_open 63 = .ok (.aload_n 0, 1) := by decide +kernel
theorem d_X_open_64 : decode b_X_open 64 = .ok (.getfield 73, 3) := by decide +kernel
theorem d_X_open_67 : decode b_X_open 67 = .ok (.iconst 1, 1) := by decide +kernel
theorem d_X_open_68 : decode b_X_open 68 = .ok (.aaload, 1) := by decide +kernel
theorem d_X_open_69 : decode b_X_open 69 = .ok (.iconst (-1), 1) := by decide +kernel
theorem d_X_open_70 : decode b_X_open 70 = .ok (.aload_n 0, 1) := by decide +kernel
theorem d_X_open_71 : decode b_X_open 71 = .ok (.getfield 139, 3) := by decide +kernel
theorem d_X_open_74 : decode b_X_open 74 = .ok (.invokevirtual 191, 3) := by decide +kernel
theorem d_X_open_77 : decode b_X_open 77 = .ok (.istore 5, 2) := by decide +kernel
theorem d_X_open_79 : decode b_X_open 79 = .ok (.iload 5, 2) := by decide +kernel
theorem d_X_open_81 : decode b_X_open 81 = .ok (.sipush 256, 3) := by decide +kernel
theorem d_X_open_84 : decode b_X_open 84 = .ok (.if_icmp .ge 15, 3) := by decide +kernel
theorem d_X_open_87 : decode b_X_open 87 = .ok (.iload_n 1, 1) := by decide +kernel
theorem d_X_open_88 : decode b_X_open 88 = .ok (.sipush 300, 3) := by decide +kernel
theorem d_X_open_91 : decode b_X_open 91 = .ok (.if_icmp .ne 8, 3) := by decide +kernel
theorem d_X_open_94 : decode b_X_open 94 = .ok (.iconst 2, 1) := by decide +kernel
theorem d_X_open_95 : decode b_X_open 95 = .ok (.istore_n 3, 1) := by decide +kernel
theorem d_X_open_96 : decode b_X_open 96 = .ok (.goto 63, 3) := by decide +kernel
theorem d_X_open_99 : decode b_X_open 99 = .ok (.iload 5, 2) := by decide +kernel
theorem d_X_open_101 : decode b_X_open 101 = .ok (.sipush 256, 3) := by decide +kernel
theorem d_X_open_104 : decode b_X_open 104 = .ok (.if_icmp .ge 7, 3) := by decide +kernel
theorem d_X_open_107 : decode b_X_open 107 = .ok (.iconst 1, 1) := by decide +kernel
theorem d_X_open_108 : decode b_X_open 108 = .ok (.goto 4, 3) := by decide +kernel
theorem d_X_open_111 : decode b_X_open 111 = .ok (.iconst 0, 1) := by decide +kernel
theorem d_X_open_112 : decode b_X_open 112 = .ok (.istore 4, 2) := by decide +kernel
theorem d_X_open_114 : decode b_X_open 114 = .ok (.iload 4, 2) := by decide +kernel
theorem d_X_open_116 : decode b_X_open 116 = .ok (.ifCond .eq 40, 3) := by decide +kernel
theorem d_X_open_119 : decode b_X_open 119 = .ok (.aload_n 0, 1) := by decide +kernel
theorem d_X_open_120 : decode b_X_open 120 = .ok (.getfield 96, 3) := by decide +kernel
theorem d_X_open_123 : decode b_X_open 123 = .ok (.iload_n 1, 1) := by decide +kernel
theorem d_X_open_124 : decode b_X_open 124 = .ok (.iinc 1 1, 3) := by decide +kernel
theorem d_X_open_127 : decode b_X_open 127 = .ok (.iload 5, 2) := by decide +kernel
theorem d_X_open_129 : decode b_X_open 129 = .ok (.iastore, 1) := by decide +kernel
theorem d_X_open_130 : decode b_X_open 130 = .ok (.iload_n 2, 1) := by decide +kernel
theorem d_X_open_131 : decode b_X_open 131 = .ok (.aload_n 0, 1) := by decide +kernel
theorem d_X_open_132 : decode b_X_open 132 = .ok (.getfield 73, 3) := by decide +kernel
theorem d_X_open_135 : decode b_X_open 135 = .ok (.iconst 1, 1) := by decide +kernel
theorem d_X_open_136 : decode b_X_open 136 = .ok (.aaload, 1) := by decide +kernel
theorem d_X_open_137 : decode b_X_open 137 = .ok (.iload 5, 2) := by decide +kernel
theorem d_X_open_139 : decode b_X_open 139 = .ok (.aload_n 0, 1) := by decide +kernel
theorem d_X_open_140 : decode b_X_open 140 = .ok (.getfield 57, 3) := by decide +kernel
theorem d_X_open_143 : decode b_X_open 143 = .ok (.invokevirtual 195, 3) := by decide +kernel
theorem d_X_open_146 : decode b_X_open 146 = .ok (.ifCond .eq 7, 3) := by decide +kernel
theorem d_X_open_149 : decode b_X_open 149 = .ok (.iconst 1, 1) := by decide +kernel
theorem d_X_open_150 : decode b_X_open 150 = .ok (.goto 4, 3) := by decide +kernel
theorem d_X_open_153 : decode b_X_open 153 = .ok (.iconst 0, 1) := by decide +kernel
theorem d_X_open_154 : decode b_X_open 154 = .ok (.iadd, 1) := by decide +kernel
theorem d_X_open_155 : decode b_X_open 155 = .ok (.istore_n 2, 1) := by decide +kernel
theorem d_X_open_156 : decode b_X_open 156 = .ok (.goto (-114), 3) := by decide +kernel
theorem d_X_open_159 : decode b_X_open 159 = .ok (.iload_n 3, 1) := by decide +kernel
theorem d_X_open_160 : decode b_X_open 160 = .ok (.ifCond .ne 12, 3) := by decide +kernel
theorem d_X_open_163 : decode b_X_open 163 = .ok (.aload_n 0, 1) := by decide +kernel
theorem d_X_open_164 : decode b_X_open 164 = .ok (.invokevirtual 230, 3) := by decide +kernel
theorem d_X_open_167 : decode b_X_open 167 = .ok (.ifCond .ne 5, 3) := by decide +kernel
theorem d_X_open_170 : decode b_X_open 170 = .ok (.iconst 3, 1) := by decide +kernel
theorem d_X_open_171 : decode b_X_open 171 = .ok (.istore_n 3, 1) := by decide +kernel
theorem d_X_open_172 : decode b_X_open 172 = .ok (.iload_n 3, 1) := by decide +kernel
theorem d_X_open_173 : decode b_X_open 173 = .ok (.ifCond .le 21, 3) := by decide +kernel
theorem d_X_open_176 : decode b_X_open 176 = .ok (.aload_n 0, 1) := by decide +kernel
theorem d_X_open_177 : decode b_X_open 177 = .ok (.getfield 73, 3) := by decide +kernel
theorem d_X_open_180 : decode b_X_open 180 = .ok (.iconst 1, 1) := by decide +kernel
theorem d_X_open_181 : decode b_X_open 181 = .ok (.aaload, 1) := by decide +kernel
theorem d_X_open_182 : decode b_X_open 182 = .ok (.aload_n 0, 1) := by decide +kernel
theorem d_X_open_183 : decode b_X_open 183 = .ok (.getfield 156, 3) := by decide +kernel
theorem d_X_open_186 : decode b_X_open 186 = .ok (.invokevirtual 222, 3) := by decide +kernel
theorem d_X_open_189 : decode b_X_open 189 = .ok (.bipush (-10), 2) := by decide +kernel
theorem d_X_open_191 : decode b_X_open 191 = .ok (.iload_n 3, 1) := by decide +kernel
theorem d_X_open_192 : decode b_X_open 192 = .ok (.isub, 1) := by decide +kernel
theorem d_X_open_193 : decode b_X_open 193 = .ok (.ireturn, 1) := by decide +kernel
theorem d_X_open_194 : decode b_X_open 194 = .ok (.aload_n 0, 1) := by decide +kernel
theorem d_X_open_195 : decode b_X_open 195 = .ok (.getfield 77, 3) := by decide +kernel
theorem d_X_open_198 : decode b_X_open 198 = .ok (.iconst 1, 1) := by decide +kernel
theorem d_X_open_199 : decode b_X_open 199 = .ok (.dup2, 1) := by decide +kernel
theorem d_X_open_200 : decode b_X_open 200 = .ok (.iaload, 1) := by decide +kernel
theorem d_X_open_201 : decode b_X_open 201 = .ok (.iload_n 2, 1) := by decide +kernel
theorem d_X_open_202 : decode b_X_open 202 = .ok (.iadd, 1) := by decide +kernel
theorem d_X_open_203 : decode b_X_open 203 = .ok (.iastore, 1) := by decide +kernel
theorem d_X_open_204 : decode b_X_open 204 = .ok (.aload_n 0, 1) := by decide +kernel
theorem d_X_open_205 : decode b_X_open 205 = .ok (.getfield 96, 3) := by decide +kernel
theorem d_X_open_208 : decode b_X_open 208 = .ok (.iconst 0, 1) := by decide +kernel
theorem d_X_open_209 : decode b_X_open 209 = .ok (.aload_n 0, 1) := by decide +kernel
theorem d_X_open_210 : decode b_X_open 210 = .ok (.getfield 93, 3) := by decide +kernel
theorem d_X_open_213 : decode b_X_open 213 = .ok (.iconst 0, 1) := by decide +kernel
theorem d_X_open_214 : decode b_X_open 214 = .ok (.iload_n 1, 1) := by decide +kernel
theorem d_X_open_215 : decode b_X_open 215 = .ok (.invokestatic 233, 3) := by decide +kernel
theorem d_X_open_218 : decode b_X_open 218 = .ok (.aload_n 0, 1) := by decide +kernel
theorem d_X_open_219 : decode b_X_open 219 = .ok (.iload_n 1, 1) := by decide +kernel
theorem d_X_open_220 : decode b_X_open 220 = .ok (.putfield 175, 3) := by decide +kernel
theorem d_X_open_223 : decode b_X_open 223 = .ok (.iload_n 1, 1) := by decide +kernel
theorem d_X_open_224 : decode b_X_open 224 = .ok (.ireturn, 1) := by decide +kernel
theorem d_Mo_take_0 : decode b_Mo_take 0 = .ok (.aload_n 0, 1) := by decide +kernel
theorem d_Mo_take_1 : decode b_Mo_take 1 = .ok (.aload_n 1, 1) := by decide +kernel
theorem d_Mo_take_2 : decode b_Mo_take 2 = .ok (.getfield 40, 3) := by decide +kernel
theorem d_Mo_take_5 : decode b_Mo_take 5 = .ok (.putfield 40, 3) := by decide +kernel
theorem d_Mo_take_8 : decode b_Mo_take 8 = .ok (.aload_n 0, 1) := by decide +kernel
theorem d_Mo_take_9 : decode b_Mo_take 9 = .ok (.aload_n 1, 1) := by decide +kernel
theorem d_Mo_take_10 : decode b_Mo_take 10 = .ok (.getfield 43, 3) := by decide +kernel
theorem d_Mo_take_13 : decode b_Mo_take 13 = .ok (.putfield 43, 3) := by decide +kernel
theorem d_Mo_take_16 : decode b_Mo_take 16 = .ok (.aload_n 1, 1) := by decide +kernel
theorem d_Mo_take_17 : decode b_Mo_take 17 = .ok (.getfield 22, 3) := by decide +kernel
theorem d_Mo_take_20 : decode b_Mo_take 20 = .ok (.iconst 0, 1) := by decide +kernel
theorem d_Mo_take_21 : decode b_Mo_take 21 = .ok (.aload_n 0, 1) := by decide +kernel
theorem d_Mo_take_22 : decode b_Mo_take 22 = .ok (.getfield 22, 3) := by decide +kernel
theorem d_Mo_take_25 : decode b_Mo_take 25 = .ok (.iconst 0, 1) := by decide +kernel
theorem d_Mo_take_26 : decode b_Mo_take 26 = .ok (.aload_n 0, 1) := by decide +kernel
theorem d_Mo_take_27 : decode b_Mo_take 27 = .ok (.getfield 40, 3) := by decide +kernel
theorem d_Mo_take_30 : decode b_Mo_take 30 = .ok (.invokestatic 46, 3) := by decide +kernel
theorem d_Mo_take_33 : decode b_Mo_take 33 = .ok (.aload_n 1, 1) := by decide +kernel
theorem d_Mo_take_34 : decode b_Mo_take 34 = .ok (.getfield 25, 3) := by decide +kernel
theorem d_Mo_take_37 : decode b_Mo_take 37 = .ok (.iconst 0, 1) := by decide +kernel
theorem d_Mo_take_38 : decode b_Mo_take 38 = .ok (.aload_n 0, 1) := by decide +kernel
theorem d_Mo_take_39 : decode b_Mo_take 39 = .ok (.getfield 25, 3) := by decide +kernel
theorem d_Mo_take_42 : decode b_Mo_take 42 = .ok (.iconst 0, 1) := by decide +kernel
theorem d_Mo_take_43 : decode b_Mo_take 43 = .ok (.aload_n 0, 1) := by decide +kernel
theorem d_Mo_take_44 : decode b_Mo_take 44 = .ok (.getfield 40, 3) := by decide +kernel
theorem d_Mo_take_47 : decode b_Mo_take 47 = .ok (.invokestatic 46, 3) := by decide +kernel
theorem d_Mo_take_50 : decode b_Mo_take 50 = .ok (.aload_n 1, 1) := by decide +kernel
theorem d_Mo_take_51 : decode b_Mo_take 51 = .ok (.getfield 28, 3) := by decide +kernel
theorem d_Mo_take_54 : decode b_Mo_take 54 = .ok (.iconst 0, 1) := by decide +kernel
theorem d_Mo_take_55 : decode b_Mo_take 55 = .ok (.aload_n 0, 1) := by decide +kernel
theorem d_Mo_take_56 : decode b_Mo_take 56 = .ok (.getfield 28, 3) := by decide +kernel
theorem d_Mo_take_59 : decode b_Mo_take 59 = .ok (.iconst 0, 1) := by decide +kernel
theorem d_Mo_take_60 : decode b_Mo_take 60 = .ok (.aload_n 0, 1) := by decide +kernel
theorem d_Mo_take_61 : decode b_Mo_take 61 = .ok (.getfield 40, 3) := by decide +kernel
theorem d_Mo_take_64 : decode b_Mo_take 64 = .ok (.invokestatic 46, 3) := by decide +kernel
theorem d_Mo_take_67 : decode b_Mo_take 67 = .ok (.aload_n 1, 1) := by decide +kernel
theorem d_Mo_take_68 : decode b_Mo_take 68 = .ok (.getfield 31, 3) := by decide +kernel
theorem d_Mo_take_71 : decode b_Mo_take 71 = .ok (.iconst 0, 1) := by decide +kernel
theorem d_Mo_take_72 : decode b_Mo_take 72 = .ok (.aload_n 0, 1) := by decide +kernel
theorem d_Mo_take_73 : decode b_Mo_take 73 = .ok (.getfield 31, 3) := by decide +kernel
theorem d_Mo_take_76 : decode b_Mo_take 76 = .ok (.iconst 0, 1) := by decide +kernel
theorem d_Mo_take_77 : decode b_Mo_take 77 = .ok (.aload_n 0, 1) := by decide +kernel
theorem d_Mo_take_78 : decode b_Mo_take 78 = .ok (.getfield 40, 3) := by decide +kernel
theorem d_Mo_take_81 : decode b_Mo_take 81 = .ok (.invokestatic 46, 3) := by decide +kernel
theorem d_Mo_take_84 : decode b_Mo_take 84 = .ok (.aload_n 1, 1) := by decide +kernel
theorem d_Mo_take_85 : decode b_Mo_take 85 = .ok (.getfield 34, 3) := by decide +kernel
theorem d_Mo_take_88 : decode b_Mo_take 88 = .ok (.iconst 0, 1) := by decide +kernel
theorem d_Mo_take_89 : decode b_Mo_take 89 = .ok (.aload_n 0, 1) := by decide +kernel
theorem d_Mo_take_90 : decode b_Mo_take 90 = .ok (.getfield 34, 3) := by decide +kernel
theorem d_Mo_take_93 : decode b_Mo_take 93 = .ok (.iconst 0, 1) := by decide +kernel
theorem d_Mo_take_94 : decode b_Mo_take 94 = .ok (.aload_n 0, 1) := by decide +kernel
theorem d_Mo_take_95 : decode b_Mo_take 95 = .ok (.getfield 40, 3) := by decide +kernel
theorem d_Mo_take_98 : decode b_Mo_take 98 = .ok (.invokestatic 46, 3) := by decide +kernel
theorem d_Mo_take_101 : decode b_Mo_take 101 = .ok (.aload_n 1, 1) := by decide +kernel
theorem d_Mo_take_102 : decode b_Mo_take 102 = .ok (.getfield 9, 3) := by decide +kernel
theorem d_Mo_take_105 : decode b_Mo_take 105 = .ok (.iconst 0, 1) := by decide +kernel
theorem d_Mo_take_106 : decode b_Mo_take 106 = .ok (.aload_n 0, 1) := by decide +kernel
theorem d_Mo_take_107 : decode b_Mo_take 107 = .ok (.getfield 9, 3) := by decide +kernel
theorem d_Mo_take_110 : decode b_Mo_take 110 = .ok (.iconst 0, 1) := by decide +kernel
theorem d_Mo_take_111 : decode b_Mo_take 111 = .ok (.iconst 4, 1) := by decide +kernel
theorem d_Mo_take_112 : decode b_Mo_take 112 = .ok (.invokestatic 46, 3) := by decide +kernel
theorem d_Mo_take_115 : decode b_Mo_take 115 = .ok (.return_, 1) := by decide +kernel
theorem d_Re_begin_0 : decode b_Re_begin 0 = .ok (.aload_n 0, 1) := by decide +kernel
theorem d_Re_begin_1 : decode b_Re_begin 1 = .ok (.invokespecial 13, 3) := by decide +kernel
theorem d_Re_begin_4 : decode b_Re_begin 4 = .ok (.aload_n 0, 1) := by decide +kernel
theorem d_Re_begin_5 : decode b_Re_begin 5 = .ok (.iconst 0, 1) := by decide +kernel
theorem d_Re_begin_6 : decode b_Re_begin 6 = .ok (.putfield 16, 3) := by decide +kernel
theorem d_Re_begin_9 : decode b_Re_begin 9 = .ok (.aload_n 0, 1) := by decide +kernel
theorem d_Re_begin_10 : decode b_Re_begin 10 = .ok (.iconst 0, 1) := by decide +kernel
theorem d_Re_begin_11 : decode b_Re_begin 11 = .ok (.putfield 20, 3) := by decide +kernel
theorem d_Re_begin_14 : decode b_Re_begin 14 = .ok (.iconst 0, 1) := by decide +kernel
theorem d_Re_begin_15 : decode b_Re_begin 15 = .ok (.istore_n 1, 1) := by decide +kernel
theorem d_Re_begin_16 : decode b_Re_begin 16 = .ok (.iload_n 1, 1) := by decide +kernel
theorem d_Re_begin_17 : decode b_Re_begin 17 = .ok (.bipush 16, 2) := by decide +kernel
theorem d_Re_begin_19 : decode b_Re_begin 19 = .ok (.if_icmp .ge 24, 3) := by decide +kernel
theorem d_Re_begin_22 : decode b_Re_begin 22 = .ok (.aload_n 0, 1) := by decide +kernel
theorem d_Re_begin_23 : decode b_Re_begin 23 = .ok (.iconst 2, 1) := by decide +kernel
theorem d_Re_begin_24 : decode b_Re_begin 24 = .ok (.aload_n 0, 1) := by decide +kernel
theorem d_Re_begin_25 : decode b_Re_begin 25 = .ok (.getfield 16, 3) := by decide +kernel
theorem d_Re_begin_28 : decode b_Re_begin 28 = .ok (.imul, 1) := by decide +kernel
theorem d_Re_begin_29 : decode b_Re_begin 29 = .ok (.aload_n 0, 1) := by decide +kernel
theorem d_Re_begin_30 : decode b_Re_begin 30 = .ok (.invokevirtual 23, 3) := by decide +kernel
theorem d_Re_begin_33 : decode b_Re_begin 33 = .ok (.iadd, 1) := by decide +kernel
theorem d_Re_begin_34 : decode b_Re_begin 34 = .ok (.putfield 16, 3) := by decide +kernel
theorem d_Re_begin_37 : decode b_Re_begin 37 = .ok (.iinc 1 1, 3) := by decide +kernel
theorem d_Re_begin_40 : decode b_Re_begin 40 = .ok (.goto (-24), 3) := by decide +kernel
theorem d_Re_begin_43 : decode b_Re_begin 43 = .ok (.return_, 1) := by decide +kernel
theorem d_Re_isBeyond_0 : decode b_Re_isBeyond 0 = .ok (.aload_n 0, 1) := by decide +kernel
theorem d_Re_isBeyond_1 : decode b_Re_isBeyond 1 = .ok (.getfield 20, 3) := by decide +kernel
theorem d_Re_isBeyond_4 : decode b_Re_isBeyond 4 = .ok (.bipush 8, 2) := by decide +kernel
theorem d_Re_isBeyond_6 : decode b_Re_isBeyond 6 = .ok (.aload_n 0, 1) := by decide +kernel
theorem d_Re_isBeyond_7 : decode b_Re_isBeyond 7 = .ok (.getfield 1, 3) := by decide +kernel
theorem d_Re_isBeyond_10 : decode b_Re_isBeyond 10 = .ok (.getfield 27, 3) := by decide +kernel
theorem d_Re_isBeyond_13 : decode b_Re_isBeyond 13 = .ok (.imul, 1) := by decide +kernel
theorem d_Re_isBeyond_14 : decode b_Re_isBeyond 14 = .ok (.isub, 1) := by decide +kernel
theorem d_Re_isBeyond_15 : decode b_Re_isBeyond 15 = .ok (.bipush 16, 2) := by decide +kernel
theorem d_Re_isBeyond_17 : decode b_Re_isBeyond 17 = .ok (.if_icmp .le 7, 3) := by decide +kernel
theorem d_Re_isBeyond_20 : decode b_Re_isBeyond 20 = .ok (.iconst 1, 1) := by decide +kernel
theorem d_Re_isBeyond_21 : decode b_Re_isBeyond 21 = .ok (.goto 4, 3) := by decide +kernel
theorem d_Re_isBeyond_24 : decode b_Re_isBeyond 24 = .ok (.iconst 0, 1) := by decide +kernel
theorem d_Re_isBeyond_25 : decode b_Re_isBeyond 25 = .ok (.ireturn, 1) := by decide +kernel
theorem d_X_isAsWritten_0 : decode b_X_isAsWritten 0 = .ok (.aload_n 0, 1) := by decide +kernel
theorem d_X_isAsWritten_1 : decode b_X_isAsWritten 1 = .ok (.getfield 108, 3) := by decide +kernel
theorem d_X_isAsWritten_4 : decode b_X_isAsWritten 4 = .ok (.invokevirtual 199, 3) := by decide +kernel
theorem d_X_isAsWritten_7 : decode b_X_isAsWritten 7 = .ok (.istore_n 1, 1) := by decide +kernel
theorem d_X_isAsWritten_8 : decode b_X_isAsWritten 8 = .ok (.iconst 0, 1) := by decide +kernel
theorem d_X_isAsWritten_9 : decode b_X_isAsWritten 9 = .ok (.istore_n 2, 1) := by decide +kernel
theorem d_X_isAsWritten_10 : decode b_X_isAsWritten 10 = .ok (.iload_n 2, 1) := by decide +kernel
theorem d_X_isAsWritten_11 : decode b_X_isAsWritten 11 = .ok (.iload_n 1, 1) := by decide +kernel
theorem d_X_isAsWritten_12 : decode b_X_isAsWritten 12 = .ok (.if_icmp .ge 39, 3) := by decide +kernel
theorem d_X_isAsWritten_15 : decode b_X_isAsWritten 15 = .ok (.iload_n 2, 1) := by decide +kernel
theorem d_X_isAsWritten_16 : decode b_X_isAsWritten 16 = .ok (.aload_n 0, 1) := by decide +kernel
theorem d_X_isAsWritten_17 : decode b_X_isAsWritten 17 = .ok (.getfield 172, 3) := by decide +kernel
theorem d_X_isAsWritten_20 : decode b_X_isAsWritten 20 = .ok (.if_icmp .ge 31, 3) := by decide +kernel
theorem d_X_isAsWritten_23 : decode b_X_isAsWritten 23 = .ok (.aload_n 0, 1) := by decide +kernel
theorem d_X_isAsWritten_24 : decode b_X_isAsWritten 24 = .ok (.getfield 90, 3) := by decide +kernel
theorem d_X_isAsWritten_27 : decode b_X_isAsWritten 27 = .ok (.iload_n 2, 1) := by decide +kernel
theorem d_X_isAsWritten_28 : decode b_X_isAsWritten 28 = .ok (.iaload, 1) := by decide +kernel
theorem d_X_isAsWritten_29 : decode b_X_isAsWritten 29 = .ok (.aload_n 0, 1) := by decide +kernel
theorem d_X_isAsWritten_30 : decode b_X_isAsWritten 30 = .ok (.getfield 108, 3) := by decide +kernel
theorem d_X_isAsWritten_33 : decode b_X_isAsWritten 33 = .ok (.getfield 203, 3) := by decide +kernel
theorem d_X_isAsWritten_36 : decode b_X_isAsWritten 36 = .ok (.iload_n 2, 1) := by decide +kernel
theorem d_X_isAsWritten_37 : decode b_X_isAsWritten 37 = .ok (.baload, 1) := by decide +kernel
theorem d_X_isAsWritten_38 : decode b_X_isAsWritten 38 = .ok (.sipush 255, 3) := by decide +kernel
theorem d_X_isAsWritten_41 : decode b_X_isAsWritten 41 = .ok (.iand, 1) := by decide +kernel
theorem d_X_isAsWritten_42 : decode b_X_isAsWritten 42 = .ok (.if_icmp .ne 9, 3) := by decide +kernel
theorem d_X_isAsWritten_45 : decode b_X_isAsWritten 45 = .ok (.iinc 2 1, 3) := by decide +kernel
theorem d_X_isAsWritten_48 : decode b_X_isAsWritten 48 = .ok (.goto (-38), 3) := by decide +kernel
theorem d_X_isAsWritten_51 : decode b_X_isAsWritten 51 = .ok (.iload_n 2, 1) := by decide +kernel
theorem d_X_isAsWritten_52 : decode b_X_isAsWritten 52 = .ok (.iload_n 1, 1) := by decide +kernel
theorem d_X_isAsWritten_53 : decode b_X_isAsWritten 53 = .ok (.if_icmp .ne 13, 3) := by decide +kernel
theorem d_X_isAsWritten_56 : decode b_X_isAsWritten 56 = .ok (.iload_n 2, 1) := by decide +kernel
theorem d_X_isAsWritten_57 : decode b_X_isAsWritten 57 = .ok (.aload_n 0, 1) := by decide +kernel
theorem d_X_isAsWritten_58 : decode b_X_isAsWritten 58 = .ok (.getfield 172, 3) := by decide +kernel
theorem d_X_isAsWritten_61 : decode b_X_isAsWritten 61 = .ok (.if_icmp .ne 5, 3) := by decide +kernel
theorem d_X_isAsWritten_64 : decode b_X_isAsWritten 64 = .ok (.iconst 1, 1) := by decide +kernel
theorem d_X_isAsWritten_65 : decode b_X_isAsWritten 65 = .ok (.ireturn, 1) := by decide +kernel
theorem d_X_isAsWritten_66 : decode b_X_isAsWritten 66 = .ok (.aload_n 0, 1) := by decide +kernel
theorem d_X_isAsWritten_67 : decode b_X_isAsWritten 67 = .ok (.iload_n 2, 1) := by decide +kernel
theorem d_X_isAsWritten_68 : decode b_X_isAsWritten 68 = .ok (.putfield 120, 3) := by decide +kernel
theorem d_X_isAsWritten_71 : decode b_X_isAsWritten 71 = .ok (.iconst 0, 1) := by decide +kernel
theorem d_X_isAsWritten_72 : decode b_X_isAsWritten 72 = .ok (.ireturn, 1) := by decide +kernel
theorem d_X_place_0 : decode b_X_place 0 = .ok (.aload_n 0, 1) := by decide +kernel
theorem d_X_place_1 : decode b_X_place 1 = .ok (.getfield 120, 3) := by decide +kernel
theorem d_X_place_4 : decode b_X_place 4 = .ok (.ireturn, 1) := by decide +kernel
theorem d_X_told_0 : decode b_X_told 0 = .ok (.iload_n 1, 1) := by decide +kernel
theorem d_X_told_1 : decode b_X_told 1 = .ok (.iconst 0, 1) := by decide +kernel
theorem d_X_told_2 : decode b_X_told 2 = .ok (.iconst 2, 1) := by decide +kernel
theorem d_X_told_3 : decode b_X_told 3 = .ok (.invokestatic 163, 3) := by decide +kernel
theorem d_X_told_6 : decode b_X_told 6 = .ok (.ifCond .ne 5, 3) := by decide +kernel
theorem d_X_told_9 : decode b_X_told 9 = .ok (.iconst (-1), 1) := by decide +kernel
theorem d_X_told_10 : decode b_X_told 10 = .ok (.ireturn, 1) := by decide +kernel
theorem d_X_told_11 : decode b_X_told 11 = .ok (.aload_n 0, 1) := by decide +kernel
theorem d_X_told_12 : decode b_X_told 12 = .ok (.getfield 206, 3) := by decide +kernel
theorem d_X_told_15 : decode b_X_told 15 = .ok (.ifCond .ne 6, 3) := by decide +kernel
theorem d_X_told_18 : decode b_X_told 18 = .ok (.bipush (-3), 2) := by decide +kernel
theorem d_X_told_20 : decode b_X_told 20 = .ok (.ireturn, 1) := by decide +kernel
theorem d_X_told_21 : decode b_X_told 21 = .ok (.iload_n 1, 1) := by decide +kernel
theorem d_X_told_22 : decode b_X_told 22 = .ok (.ifCond .ne 10, 3) := by decide +kernel
theorem d_X_told_25 : decode b_X_told 25 = .ok (.aload_n 0, 1) := by decide +kernel
theorem d_X_told_26 : decode b_X_told 26 = .ok (.getfield 213, 3) := by decide +kernel
theorem d_X_told_29 : decode b_X_told 29 = .ok (.goto 19, 3) := by decide +kernel
theorem d_X_told_32 : decode b_X_told 32 = .ok (.iload_n 1, 1) := by decide +kernel
theorem d_X_told_33 : decode b_X_told 33 = .ok (.iconst 1, 1) := by decide +kernel
theorem d_X_told_34 : decode b_X_told 34 = .ok (.if_icmp .ne 10, 3) := by decide +kernel
theorem d_X_told_37 : decode b_X_told 37 = .ok (.aload_n 0, 1) := by decide +kernel
theorem d_X_told_38 : decode b_X_told 38 = .ok (.getfield 216, 3) := by decide +kernel
theorem d_X_told_41 : decode b_X_told 41 = .ok (.goto 7, 3) := by decide +kernel
theorem d_X_told_44 : decode b_X_told 44 = .ok (.aload_n 0, 1) := by decide +kernel
theorem d_X_told_45 : decode b_X_told 45 = .ok (.getfield 188, 3) := by decide +kernel
theorem d_X_told_48 : decode b_X_told 48 = .ok (.ireturn, 1) := by decide +kernel
theorem d_X_sign_0 : decode b_X_sign 0 = .ok (.aload_n 0, 1) := by decide +kernel
theorem d_X_sign_1 : decode b_X_sign 1 = .ok (.getfield 206, 3) := by decide +kernel
theorem d_X_sign_4 : decode b_X_sign 4 = .ok (.ifCond .eq 26, 3) := by decide +kernel
theorem d_X_sign_7 : decode b_X_sign 7 = .ok (.iload_n 1, 1) := by decide +kernel
theorem d_X_sign_8 : decode b_X_sign 8 = .ok (.iconst 0, 1) := by decide +kernel
theorem d_X_sign_9 : decode b_X_sign 9 = .ok (.aload_n 0, 1) := by decide +kernel
theorem d_X_sign_10 : decode b_X_sign 10 = .ok (.getfield 219, 3) := by decide +kernel
theorem d_X_sign_13 : decode b_X_sign 13 = .ok (.iconst 1, 1) := by decide +kernel
theorem d_X_sign_14 : decode b_X_sign 14 = .ok (.isub, 1) := by decide +kernel
theorem d_X_sign_15 : decode b_X_sign 15 = .ok (.invokestatic 163, 3) := by decide +kernel
theorem d_X_sign_18 : decode b_X_sign 18 = .ok (.ifCond .eq 12, 3) := by decide +kernel
theorem d_X_sign_21 : decode b_X_sign 21 = .ok (.iload_n 2, 1) := by decide +kernel
theorem d_X_sign_22 : decode b_X_sign 22 = .ok (.iconst 0, 1) := by decide +kernel
theorem d_X_sign_23 : decode b_X_sign 23 = .ok (.iconst 1, 1) := by decide +kernel
theorem d_X_sign_24 : decode b_X_sign 24 = .ok (.invokestatic 163, 3) := by decide +kernel
theorem d_X_sign_27 : decode b_X_sign 27 = .ok (.ifCond .ne 5, 3) := by decide +kernel
theorem d_X_sign_30 : decode b_X_sign 30 = .ok (.iconst (-1), 1) := by decide +kernel
theorem d_X_sign_31 : decode b_X_sign 31 = .ok (.ireturn, 1) := by decide +kernel
theorem d_X_sign_32 : decode b_X_sign 32 = .ok (.iload_n 2, 1) := by decide +kernel
theorem d_X_sign_33 : decode b_X_sign 33 = .ok (.ifCond .ne 12, 3) := by decide +kernel
theorem d_X_sign_36 : decode b_X_sign 36 = .ok (.aload_n 0, 1) := by decide +kernel
theorem d_X_sign_37 : decode b_X_sign 37 = .ok (.getfield 123, 3) := by decide +kernel
theorem d_X_sign_40 : decode b_X_sign 40 = .ok (.iload_n 1, 1) := by decide +kernel
theorem d_X_sign_41 : decode b_X_sign 41 = .ok (.iaload, 1) := by decide +kernel
theorem d_X_sign_42 : decode b_X_sign 42 = .ok (.goto 9, 3) := by decide +kernel
theorem d_X_sign_45 : decode b_X_sign 45 = .ok (.aload_n 0, 1) := by decide +kernel
theorem d_X_sign_46 : decode b_X_sign 46 = .ok (.getfield 126, 3) := by decide +kernel
theorem d_X_sign_49 : decode b_X_sign 49 = .ok (.iload_n 1, 1) := by decide +kernel
theorem d_X_sign_50 : decode b_X_sign 50 = .ok (.iaload, 1) := by decide +kernel
theorem d_X_sign_51 : decode b_X_sign 51 = .ok (.ireturn, 1) := by decide +kernel
theorem d_X_nodes_0 : decode b_X_nodes 0 = .ok (.iload_n 1, 1) := by decide +kernel
theorem d_X_nodes_1 : decode b_X_nodes 1 = .ok (.invokestatic 239, 3) := by decide +kernel
theorem d_X_nodes_4 : decode b_X_nodes 4 = .ok (.ifCond .eq 15, 3) := by decide +kernel
theorem d_X_nodes_7 : decode b_X_nodes 7 = .ok (.aload_n 0, 1) := by decide +kernel
theorem d_X_nodes_8 : decode b_X_nodes 8 = .ok (.getfield 73, 3) := by decide +kernel
theorem d_X_nodes_11 : decode b_X_nodes 11 = .ok (.iload_n 1, 1) := by decide +kernel
theorem d_X_nodes_12 : decode b_X_nodes 12 = .ok (.aaload, 1) := by decide +kernel
theorem d_X_nodes_13 : decode b_X_nodes 13 = .ok (.getfield 243, 3) := by decide +kernel
theorem d_X_nodes_16 : decode b_X_nodes 16 = .ok (.goto 4, 3) := by decide +kernel
theorem d_X_nodes_19 : decode b_X_nodes 19 = .ok (.iconst (-1), 1) := by decide +kernel
theorem d_X_nodes_20 : decode b_X_nodes 20 = .ok (.ireturn, 1) := by decide +kernel
theorem d_X_isEnd_0 : decode b_X_isEnd 0 = .ok (.iload_n 0, 1) := by decide +kernel
theorem d_X_isEnd_1 : decode b_X_isEnd 1 = .ok (.iconst 0, 1) := by decide +kernel
theorem d_X_isEnd_2 : decode b_X_isEnd 2 = .ok (.iconst 1, 1) := by decide +kernel
theorem d_X_isEnd_3 : decode b_X_isEnd 3 = .ok (.invokestatic 163, 3) := by decide +kernel
theorem d_X_isEnd_6 : decode b_X_isEnd 6 = .ok (.ireturn, 1) := by decide +kernel
theorem d_X_latest_0 : decode b_X_latest 0 = .ok (.iload_n 1, 1) := by decide +kernel
theorem d_X_latest_1 : decode b_X_latest 1 = .ok (.invokestatic 239, 3) := by decide +kernel
theorem d_X_latest_4 : decode b_X_latest 4 = .ok (.ifCond .eq 36, 3) := by decide +kernel
theorem d_X_latest_7 : decode b_X_latest 7 = .ok (.iload_n 2, 1) := by decide +kernel
theorem d_X_latest_8 : decode b_X_latest 8 = .ok (.iconst 0, 1) := by decide +kernel
theorem d_X_latest_9 : decode b_X_latest 9 = .ok (.aload_n 0, 1) := by decide +kernel
theorem d_X_latest_10 : decode b_X_latest 10 = .ok (.getfield 73, 3) := by decide +kernel
theorem d_X_latest_13 : decode b_X_latest 13 = .ok (.iload_n 1, 1) := by decide +kernel
theorem d_X_latest_14 : decode b_X_latest 14 = .ok (.aaload, 1) := by decide +kernel
theorem d_X_latest_15 : decode b_X_latest 15 = .ok (.getfield 26, 3) := by decide +kernel
theorem d_X_latest_18 : decode b_X_latest 18 = .ok (.iconst 1, 1) := by decide +kernel
theorem d_X_latest_19 : decode b_X_latest 19 = .ok (.isub, 1) := by decide +kernel
theorem d_X_latest_20 : decode b_X_latest 20 = .ok (.invokestatic 163, 3) := by decide +kernel
theorem d_X_latest_23 : decode b_X_latest 23 = .ok (.ifCond .eq 17, 3) := by decide +kernel
theorem d_X_latest_26 : decode b_X_latest 26 = .ok (.aload_n 0, 1) := by decide +kernel
theorem d_X_latest_27 : decode b_X_latest 27 = .ok (.getfield 73, 3) := by decide +kernel
theorem d_X_latest_30 : decode b_X_latest 30 = .ok (.iload_n 1, 1) := by decide +kernel
theorem d_X_latest_31 : decode b_X_latest 31 = .ok (.aaload, 1) := by decide +kernel
theorem d_X_latest_32 : decode b_X_latest 32 = .ok (.getfield 251, 3) := by decide +kernel
theorem d_X_latest_35 : decode b_X_latest 35 = .ok (.iload_n 2, 1) := by decide +kernel
theorem d_X_latest_36 : decode b_X_latest 36 = .ok (.iaload, 1) := by decide +kernel
theorem d_X_latest_37 : decode b_X_latest 37 = .ok (.goto 4, 3) := by decide +kernel
theorem d_X_latest_40 : decode b_X_latest 40 = .ok (.iconst (-1), 1) := by decide +kernel
theorem d_X_latest_41 : decode b_X_latest 41 = .ok (.ireturn, 1) := by decide +kernel
theorem d_X_restarted_0 : decode b_X_restarted 0 = .ok (.iload_n 1, 1) := by decide +kernel
theorem d_X_restarted_1 : decode b_X_restarted 1 = .ok (.invokestatic 239, 3) := by decide +kernel
theorem d_X_restarted_4 : decode b_X_restarted 4 = .ok (.ifCond .eq 12, 3) := by decide +kernel
theorem d_X_restarted_7 : decode b_X_restarted 7 = .ok (.aload_n 0, 1) := by decide +kernel
theorem d_X_restarted_8 : decode b_X_restarted 8 = .ok (.getfield 77, 3) := by decide +kernel
theorem d_X_restarted_11 : decode b_X_restarted 11 = .ok (.iload_n 1, 1) := by decide +kernel
theorem d_X_restarted_12 : decode b_X_restarted 12 = .ok (.iaload, 1) := by decide +kernel
theorem d_X_restarted_13 : decode b_X_restarted 13 = .ok (.goto 4, 3) := by decide +kernel
theorem d_X_restarted_16 : decode b_X_restarted 16 = .ok (.iconst (-1), 1) := by decide +kernel
theorem d_X_restarted_17 : decode b_X_restarted 17 = .ok (.ireturn, 1) := by decide +kernel
theorem d_X_reset_0 : decode b_X_reset 0 = .ok (.iload_n 1, 1) := by decide +kernel
theorem d_X_reset_1 : decode b_X_reset 1 = .ok (.invokestatic 239, 3) := by decide +kernel
theorem d_X_reset_4 : decode b_X_reset 4 = .ok (.ifCond .ne 5, 3) := by decide +kernel
theorem d_X_reset_7 : decode b_X_reset 7 = .ok (.iconst (-1), 1) := by decide +kernel
theorem d_X_reset_8 : decode b_X_reset 8 = .ok (.ireturn, 1) := by decide +kernel
theorem d_X_reset_9 : decode b_X_reset 9 = .ok (.aload_n 0, 1) := by decide +kernel
theorem d_X_reset_10 : decode b_X_reset 10 = .ok (.getfield 73, 3) := by decide +kernel
theorem d_X_reset_13 : decode b_X_reset 13 = .ok (.iload_n 1, 1) := by decide +kernel
theorem d_X_reset_14 : decode b_X_reset 14 = .ok (.aaload, 1) := by decide +kernel
theorem d_X_reset_15 : decode b_X_reset 15 = .ok (.getfield 243, 3) := by decide +kernel
theorem d_X_reset_18 : decode b_X_reset 18 = .ok (.istore_n 2, 1) := by decide +kernel
theorem d_X_reset_19 : decode b_X_reset 19 = .ok (.aload_n 0, 1) := by decide +kernel
theorem d_X_reset_20 : decode b_X_reset 20 = .ok (.getfield 73, 3) := by decide +kernel
theorem d_X_reset_23 : decode b_X_reset 23 = .ok (.iload_n 1, 1) := by decide +kernel
theorem d_X_reset_24 : decode b_X_reset 24 = .ok (.aaload, 1) := by decide +kernel
theorem d_X_reset_25 : decode b_X_reset 25 = .ok (.invokevirtual 254, 3) := by decide +kernel
theorem d_X_reset_28 : decode b_X_reset 28 = .ok (.iload_n 2, 1) := by decide +kernel
theorem d_X_reset_29 : decode b_X_reset 29 = .ok (.ireturn, 1) := by decide +kernel
theorem d_X_equal_0 : decode b_X_equal 0 = .ok (.aload_n 0, 1) := by decide +kernel
theorem d_X_equal_1 : decode b_X_equal 1 = .ok (.getfield 73, 3) := by decide +kernel
theorem d_X_equal_4 : decode b_X_equal 4 = .ok (.iconst 0, 1) := by decide +kernel
theorem d_X_equal_5 : decode b_X_equal 5 = .ok (.aaload, 1) := by decide +kernel
theorem d_X_equal_6 : decode b_X_equal 6 = .ok (.aload_n 0, 1) := by decide +kernel
theorem d_X_equal_7 : decode b_X_equal 7 = .ok (.getfield 73, 3) := by decide +kernel
theorem d_X_equal_10 : decode b_X_equal 10 = .ok (.iconst 1, 1) := by decide +kernel
theorem d_X_equal_11 : decode b_X_equal 11 = .ok (.aaload, 1) := by decide +kernel
theorem d_X_equal_12 : decode b_X_equal 12 = .ok (.invokevirtual 255, 3) := by decide +kernel
theorem d_X_equal_15 : decode b_X_equal 15 = .ok (.ifCond .eq 7, 3) := by decide +kernel
theorem d_X_equal_18 : decode b_X_equal 18 = .ok (.iconst 1, 1) := by decide +kernel
theorem d_X_equal_19 : decode b_X_equal 19 = .ok (.goto 4, 3) := by decide +kernel
theorem d_X_equal_22 : decode b_X_equal 22 = .ok (.iconst 0, 1) := by decide +kernel
theorem d_X_equal_23 : decode b_X_equal 23 = .ok (.ireturn, 1) := by decide +kernel
theorem d_Mo_isLike_0 : decode b_Mo_isLike 0 = .ok (.aload_n 0, 1) := by decide +kernel
theorem d_Mo_isLike_1 : decode b_Mo_isLike 1 = .ok (.getfield 40, 3) := by decide +kernel
theorem d_Mo_isLike_4 : decode b_Mo_isLike 4 = .ok (.aload_n 1, 1) := by decide +kernel
theorem d_Mo_isLike_5 : decode b_Mo_isLike 5 = .ok (.getfield 40, 3) := by decide +kernel
theorem d_Mo_isLike_8 : decode b_Mo_isLike 8 = .ok (.if_icmp .ne 90, 3) := by decide +kernel
theorem d_Mo_isLike_11 : decode b_Mo_isLike 11 = .ok (.aload_n 0, 1) := by decide +kernel
theorem d_Mo_isLike_12 : decode b_Mo_isLike 12 = .ok (.getfield 43, 3) := by decide +kernel
theorem d_Mo_isLike_15 : decode b_Mo_isLike 15 = .ok (.aload_n 1, 1) := by decide +kernel
theorem d_Mo_isLike_16 : decode b_Mo_isLike 16 = .ok (.getfield 43, 3) := by decide +kernel
theorem d_Mo_isLike_19 : decode b_Mo_isLike 19 = .ok (.if_icmp .ne 79, 3) := by decide +kernel
theorem d_Mo_isLike_22 : decode b_Mo_isLike 22 = .ok (.aload_n 0, 1) := by decide +kernel
theorem d_Mo_isLike_23 : decode b_Mo_isLike 23 = .ok (.getfield 22, 3) := by decide +kernel
theorem d_Mo_isLike_26 : decode b_Mo_isLike 26 = .ok (.aload_n 1, 1) := by decide +kernel
theorem d_Mo_isLike_27 : decode b_Mo_isLike 27 = .ok (.getfield 22, 3) := by decide +kernel
theorem d_Mo_isLike_30 : decode b_Mo_isLike 30 = .ok (.aload_n 0, 1) := by decide +kernel
theorem d_Mo_isLike_31 : decode b_Mo_isLike 31 = .ok (.getfield 40, 3) := by decide +kernel
theorem d_Mo_isLike_34 : decode b_Mo_isLike 34 = .ok (.invokestatic 52, 3) := by decide +kernel
theorem d_Mo_isLike_37 : decode b_Mo_isLike 37 = .ok (.ifCond .eq 61, 3) := by decide +kernel
theorem d_Mo_isLike_40 : decode b_Mo_isLike 40 = .ok (.aload_n 0, 1) := by decide +kernel
theorem d_Mo_isLike_41 : decode b_Mo_isLike 41 = .ok (.getfield 25, 3) := by decide +kernel
theorem d_Mo_isLike_44 : decode b_Mo_isLike 44 = .ok (.aload_n 1, 1) := by decide +kernel
theorem d_Mo_isLike_45 : decode b_Mo_isLike 45 = .ok (.getfield 25, 3) := by decide +kernel
theorem d_Mo_isLike_48 : decode b_Mo_isLike 48 = .ok (.aload_n 0, 1) := by decide +kernel
theorem d_Mo_isLike_49 : decode b_Mo_isLike 49 = .ok (.getfield 40, 3) := by decide +kernel
theorem d_Mo_isLike_52 : decode b_Mo_isLike 52 = .ok (.invokestatic 52, 3) := by decide +kernel
theorem d_Mo_isLike_55 : decode b_Mo_isLike 55 = .ok (.ifCond .eq 43, 3) := by decide +kernel
theorem d_Mo_isLike_58 : decode b_Mo_isLike 58 = .ok (.aload_n 0, 1) := by decide +kernel
theorem d_Mo_isLike_59 : decode b_Mo_isLike 59 = .ok (.getfield 28, 3) := by decide +kernel
theorem d_Mo_isLike_62 : decode b_Mo_isLike 62 = .ok (.aload_n 1, 1) := by decide +kernel
theorem d_Mo_isLike_63 : decode b_Mo_isLike 63 = .ok (.getfield 28, 3) := by decide +kernel
theorem d_Mo_isLike_66 : decode b_Mo_isLike 66 = .ok (.aload_n 0, 1) := by decide +kernel
theorem d_Mo_isLike_67 : decode b_Mo_isLike 67 = .ok (.getfield 40, 3) := by decide +kernel
theorem d_Mo_isLike_70 : decode b_Mo_isLike 70 = .ok (.invokestatic 52, 3) := by decide +kernel
theorem d_Mo_isLike_73 : decode b_Mo_isLike 73 = .ok (.ifCond .eq 25, 3) := by decide +kernel
theorem d_Mo_isLike_76 : decode b_Mo_isLike 76 = .ok (.aload_n 0, 1) := by decide +kernel
theorem d_Mo_isLike_77 : decode b_Mo_isLike 77 = .ok (.getfield 9, 3) := by decide +kernel
theorem d_Mo_isLike_80 : decode b_Mo_isLike 80 = .ok (.aload_n 1, 1) := by decide +kernel
theorem d_Mo_isLike_81 : decode b_Mo_isLike 81 = .ok (.getfield 9, 3) := by decide +kernel
theorem d_Mo_isLike_84 : decode b_Mo_isLike 84 = .ok (.aload_n 0, 1) := by decide +kernel
theorem d_Mo_isLike_85 : decode b_Mo_isLike 85 = .ok (.getfield 43, 3) := by decide +kernel
theorem d_Mo_isLike_88 : decode b_Mo_isLike 88 = .ok (.invokestatic 52, 3) := by decide +kernel
theorem d_Mo_isLike_91 : decode b_Mo_isLike 91 = .ok (.ifCond .eq 7, 3) := by decide +kernel
theorem d_Mo_isLike_94 : decode b_Mo_isLike 94 = .ok (.iconst 1, 1) := by decide +kernel
theorem d_Mo_isLike_95 : decode b_Mo_isLike 95 = .ok (.goto 4, 3) := by decide +kernel
theorem d_Mo_isLike_98 : decode b_Mo_isLike 98 = .ok (.iconst 0, 1) := by decide +kernel
theorem d_Mo_isLike_99 : decode b_Mo_isLike 99 = .ok (.ireturn, 1) := by decide +kernel
theorem d_Mo_areLike_0 : decode b_Mo_areLike 0 = .ok (.iconst 0, 1) := by decide +kernel
theorem d_Mo_areLike_1 : decode b_Mo_areLike 1 = .ok (.istore_n 3, 1) := by decide +kernel
theorem d_Mo_areLike_2 : decode b_Mo_areLike 2 = .ok (.iload_n 3, 1) := by decide +kernel
theorem d_Mo_areLike_3 : decode b_Mo_areLike 3 = .ok (.iload_n 2, 1) := by decide +kernel
theorem d_Mo_areLike_4 : decode b_Mo_areLike 4 = .ok (.if_icmp .ge 20, 3) := by decide +kernel
theorem d_Mo_areLike_7 : decode b_Mo_areLike 7 = .ok (.aload_n 0, 1) := by decide +kernel
theorem d_Mo_areLike_8 : decode b_Mo_areLike 8 = .ok (.iload_n 3, 1) := by decide +kernel
theorem d_Mo_areLike_9 : decode b_Mo_areLike 9 = .ok (.iaload, 1) := by decide +kernel
theorem d_Mo_areLike_10 : decode b_Mo_areLike 10 = .ok (.aload_n 1, 1) := by decide +kernel
theorem d_Mo_areLike_11 : decode b_Mo_areLike 11 = .ok (.iload_n 3, 1) := by decide +kernel
theorem d_Mo_areLike_12 : decode b_Mo_areLike 12 = .ok (.iaload, 1) := by decide +kernel
theorem d_Mo_areLike_13 : decode b_Mo_areLike 13 = .ok (.if_icmp .eq 5, 3) := by decide +kernel
theorem d_Mo_areLike_16 : decode b_Mo_areLike 16 = .ok (.iconst 0, 1) := by decide +kernel
theorem d_Mo_areLike_17 : decode b_Mo_areLike 17 = .ok (.ireturn, 1) := by decide +kernel
theorem d_Mo_areLike_18 : decode b_Mo_areLike 18 = .ok (.iinc 3 1, 3) := by decide +kernel
theorem d_Mo_areLike_21 : decode b_Mo_areLike 21 = .ok (.goto (-19), 3) := by decide +kernel
theorem d_Mo_areLike_24 : decode b_Mo_areLike 24 = .ok (.iconst 1, 1) := by decide +kernel
theorem d_Mo_areLike_25 : decode b_Mo_areLike 25 = .ok (.ireturn, 1) := by decide +kernel
theorem d_X_save_0 : decode b_X_save 0 = .ok (.iload_n 1, 1) := by decide +kernel
theorem d_X_save_1 : decode b_X_save 1 = .ok (.invokestatic 239, 3) := by decide +kernel
theorem d_X_save_4 : decode b_X_save 4 = .ok (.ifCond .ne 5, 3) := by decide +kernel
theorem d_X_save_7 : decode b_X_save 7 = .ok (.iconst (-1), 1) := by decide +kernel
theorem d_X_save_8 : decode b_X_save 8 = .ok (.ireturn, 1) := by decide +kernel
theorem d_X_save_9 : decode b_X_save 9 = .ok (.aload_n 0, 1) := by decide +kernel
theorem d_X_save_10 : decode b_X_save 10 = .ok (.getfield 83, 3) := by decide +kernel
theorem d_X_save_13 : decode b_X_save 13 = .ok (.invokeinterface 259 1, 5) := by decide +kernel
theorem d_X_save_18 : decode b_X_save 18 = .ok (.iconst 4, 1) := by decide +kernel
theorem d_X_save_19 : decode b_X_save 19 = .ok (.if_icmp .ne 6, 3) := by decide +kernel
theorem d_X_save_22 : decode b_X_save 22 = .ok (.bipush (-2), 2) := by decide +kernel
theorem d_X_save_24 : decode b_X_save 24 = .ok (.ireturn, 1) := by decide +kernel
theorem d_X_save_25 : decode b_X_save 25 = .ok (.new 27, 3) := by decide +kernel
theorem d_X_save_28 : decode b_X_save 28 = .ok (.dup, 1) := by decide +kernel
theorem d_X_save_29 : decode b_X_save 29 = .ok (.aload_n 0, 1) := by decide +kernel
theorem d_X_save_30 : decode b_X_save 30 = .ok (.getfield 73, 3) := by decide +kernel
theorem d_X_save_33 : decode b_X_save 33 = .ok (.iload_n 1, 1) := by decide +kernel
theorem d_X_save_34 : decode b_X_save 34 = .ok (.aaload, 1) := by decide +kernel
theorem d_X_save_35 : decode b_X_save 35 = .ok (.getfield 263, 3) := by decide +kernel
theorem d_X_save_38 : decode b_X_save 38 = .ok (.aload_n 0, 1) := by decide +kernel
theorem d_X_save_39 : decode b_X_save 39 = .ok (.getfield 73, 3) := by decide +kernel
theorem d_X_save_42 : decode b_X_save 42 = .ok (.iload_n 1, 1) := by decide +kernel
theorem d_X_save_43 : decode b_X_save 43 = .ok (.aaload, 1) := by decide +kernel
theorem d_X_save_44 : decode b_X_save 44 = .ok (.getfield 266, 3) := by decide +kernel
theorem d_X_save_47 : decode b_X_save 47 = .ok (.invokespecial 153, 3) := by decide +kernel
theorem d_X_save_50 : decode b_X_save 50 = .ok (.astore_n 2, 1) := by decide +kernel
theorem d_X_save_51 : decode b_X_save 51 = .ok (.aload_n 2, 1) := by decide +kernel
theorem d_X_save_52 : decode b_X_save 52 = .ok (.aload_n 0, 1) := by decide +kernel
theorem d_X_save_53 : decode b_X_save 53 = .ok (.getfield 73, 3) := by decide +kernel
theorem d_X_save_56 : decode b_X_save 56 = .ok (.iload_n 1, 1) := by decide +kernel
theorem d_X_save_57 : decode b_X_save 57 = .ok (.aaload, 1) := by decide +kernel
theorem d_X_save_58 : decode b_X_save 58 = .ok (.invokevirtual 222, 3) := by decide +kernel
theorem d_X_save_61 : decode b_X_save 61 = .ok (.aload_n 0, 1) := by decide +kernel
theorem d_X_save_62 : decode b_X_save 62 = .ok (.getfield 83, 3) := by decide +kernel
theorem d_X_save_65 : decode b_X_save 65 = .ok (.aload_n 2, 1) := by decide +kernel
theorem d_X_save_66 : decode b_X_save 66 = .ok (.invokeinterface 269 2, 5) := by decide +kernel
theorem d_X_save_71 : decode b_X_save 71 = .ok (.pop, 1) := by decide +kernel
theorem d_X_save_72 : decode b_X_save 72 = .ok (.aload_n 0, 1) := by decide +kernel
theorem d_X_save_73 : decode b_X_save 73 = .ok (.getfield 83, 3) := by decide +kernel
theorem d_X_save_76 : decode b_X_save 76 = .ok (.invokeinterface 259 1, 5) := by decide +kernel
theorem d_X_save_81 : decode b_X_save 81 = .ok (.iconst 1, 1) := by decide +kernel
theorem d_X_save_82 : decode b_X_save 82 = .ok (.isub, 1) := by decide +kernel
theorem d_X_save_83 : decode b_X_save 83 = .ok (.ireturn, 1) := by decide +kernel
theorem d_AL_size_0 : decode b_AL_size 0 = .ok (.aload_n 0, 1) := by decide +kernel
theorem d_AL_size_1 : decode b_AL_size 1 = .ok (.getfield 48, 3) := by decide +kernel
theorem d_AL_size_4 : decode b_AL_size 4 = .ok (.ireturn, 1) := by decide +kernel
theorem d_AL_add_0 : decode b_AL_add 0 = .ok (.aload_n 0, 1) := by decide +kernel
theorem d_AL_add_1 : decode b_AL_add 1 = .ok (.dup, 1) := by decide +kernel
theorem d_AL_add_2 : decode b_AL_add 2 = .ok (.getfield 63, 3) := by decide +kernel
theorem d_AL_add_5 : decode b_AL_add 5 = .ok (.iconst 1, 1) := by decide +kernel
theorem d_AL_add_6 : decode b_AL_add 6 = .ok (.iadd, 1) := by decide +kernel
theorem d_AL_add_7 : decode b_AL_add 7 = .ok (.putfield 63, 3) := by decide +kernel
theorem d_AL_add_10 : decode b_AL_add 10 = .ok (.aload_n 0, 1) := by decide +kernel
theorem d_AL_add_11 : decode b_AL_add 11 = .ok (.aload_n 1, 1) := by decide +kernel
theorem d_AL_add_12 : decode b_AL_add 12 = .ok (.aload_n 0, 1) := by decide +kernel
theorem d_AL_add_13 : decode b_AL_add 13 = .ok (.getfield 9, 3) := by decide +kernel
theorem d_AL_add_16 : decode b_AL_add 16 = .ok (.aload_n 0, 1) := by decide +kernel
theorem d_AL_add_17 : decode b_AL_add 17 = .ok (.getfield 48, 3) := by decide +kernel
theorem d_AL_add_20 : decode b_AL_add 20 = .ok (.invokevirtual 131, 3) := by decide +kernel
theorem d_AL_add_23 : decode b_AL_add 23 = .ok (.iconst 1, 1) := by decide +kernel
theorem d_AL_add_24 : decode b_AL_add 24 = .ok (.ireturn, 1) := by decide +kernel
theorem d_AL_add2_0 : decode b_AL_add2 0 = .ok (.iload_n 3, 1) := by decide +kernel
theorem d_AL_add2_1 : decode b_AL_add2 1 = .ok (.aload_n 2, 1) := by decide +kernel
theorem d_AL_add2_2 : decode b_AL_add2 2 = .ok (.arraylength, 1) := by decide +kernel
theorem d_AL_add2_3 : decode b_AL_add2 3 = .ok (.if_icmp .ne 8, 3) := by decide +kernel
theorem d_AL_add2_6 : decode b_AL_add2 6 = .ok (.aload_n 0, 1) := by decide +kernel
theorem d_AL_add2_7 : decode b_AL_add2 7 = .ok (.invokevirtual 129, 3) := by decide +kernel
theorem d_AL_add2_10 : decode b_AL_add2 10 = .ok (.astore_n 2, 1) := by decide +kernel
theorem d_AL_add2_11 : decode b_AL_add2 11 = .ok (.aload_n 2, 1) := by decide +kernel
theorem d_AL_add2_12 : decode b_AL_add2 12 = .ok (.iload_n 3, 1) := by decide +kernel
theorem d_AL_add2_13 : decode b_AL_add2 13 = .ok (.aload_n 1, 1) := by decide +kernel
theorem d_AL_add2_14 : decode b_AL_add2 14 = .ok (.aastore, 1) := by decide +kernel
theorem d_AL_add2_15 : decode b_AL_add2 15 = .ok (.aload_n 0, 1) := by decide +kernel
theorem d_AL_add2_16 : decode b_AL_add2 16 = .ok (.iload_n 3, 1) := by decide +kernel
theorem d_AL_add2_17 : decode b_AL_add2 17 = .ok (.iconst 1, 1) := by decide +kernel
theorem d_AL_add2_18 : decode b_AL_add2 18 = .ok (.iadd, 1) := by decide +kernel
theorem d_AL_add2_19 : decode b_AL_add2 19 = .ok (.putfield 48, 3) := by decide +kernel
theorem d_AL_add2_22 : decode b_AL_add2 22 = .ok (.return_, 1) := by decide +kernel
theorem d_AL_grow_0 : decode b_AL_grow 0 = .ok (.aload_n 0, 1) := by decide +kernel
theorem d_AL_grow_1 : decode b_AL_grow 1 = .ok (.aload_n 0, 1) := by decide +kernel
theorem d_AL_grow_2 : decode b_AL_grow 2 = .ok (.getfield 48, 3) := by decide +kernel
theorem d_AL_grow_5 : decode b_AL_grow 5 = .ok (.iconst 1, 1) := by decide +kernel
theorem d_AL_grow_6 : decode b_AL_grow 6 = .ok (.iadd, 1) := by decide +kernel
theorem d_AL_grow_7 : decode b_AL_grow 7 = .ok (.invokevirtual 69, 3) := by decide +kernel
theorem d_AL_grow_10 : decode b_AL_grow 10 = .ok (.areturn, 1) := by decide +kernel
theorem d_AL_grow2_0 : decode b_AL_grow2 0 = .ok (.aload_n 0, 1) := by decide +kernel
theorem d_AL_grow2_1 : decode b_AL_grow2 1 = .ok (.getfield 9, 3) := by decide +kernel
theorem d_AL_grow2_4 : decode b_AL_grow2 4 = .ok (.arraylength, 1) := by decide +kernel
theorem d_AL_grow2_5 : decode b_AL_grow2 5 = .ok (.istore_n 2, 1) := by decide +kernel
theorem d_AL_grow2_6 : decode b_AL_grow2 6 = .ok (.iload_n 2, 1) := by decide +kernel
theorem d_AL_grow2_7 : decode b_AL_grow2 7 = .ok (.ifCond .gt 13, 3) := by decide +kernel
theorem d_AL_grow2_10 : decode b_AL_grow2 10 = .ok (.aload_n 0, 1) := by decide +kernel
theorem d_AL_grow2_11 : decode b_AL_grow2 11 = .ok (.getfield 9, 3) := by decide +kernel
theorem d_AL_grow2_14 : decode b_AL_grow2 14 = .ok (.getstatic 39, 3) := by decide +kernel
theorem d_AL_grow2_17 : decode b_AL_grow2 17 = .ok (.if_acmp .eq 28, 3) := by decide +kernel
theorem d_AL_grow2_20 : decode b_AL_grow2 20 = .ok (.iload_n 2, 1) := by decide +kernel
theorem d_AL_grow2_21 : decode b_AL_grow2 21 = .ok (.iload_n 1, 1) := by decide +kernel
theorem d_AL_grow2_22 : decode b_AL_grow2 22 = .ok (.iload_n 2, 1) := by decide +kernel
theorem d_AL_grow2_23 : decode b_AL_grow2 23 = .ok (.isub, 1) := by decide +kernel
theorem d_AL_grow2_24 : decode b_AL_grow2 24 = .ok (.iload_n 2, 1) := by decide +kernel
theorem d_AL_grow2_25 : decode b_AL_grow2 25 = .ok (.iconst 1, 1) := by decide +kernel
theorem d_AL_grow2_26 : decode b_AL_grow2 26 = .ok (.ishr, 1) := by decide +kernel
theorem d_AL_grow2_27 : decode b_AL_grow2 27 = .ok (.invokestatic 73, 3) := by decide +kernel
theorem d_AL_grow2_30 : decode b_AL_grow2 30 = .ok (.istore_n 3, 1) := by decide +kernel
theorem d_AL_grow2_31 : decode b_AL_grow2 31 = .ok (.aload_n 0, 1) := by decide +kernel
theorem d_AL_grow2_32 : decode b_AL_grow2 32 = .ok (.aload_n 0, 1) := by decide +kernel
theorem d_AL_grow2_33 : decode b_AL_grow2 33 = .ok (.getfield 9, 3) := by decide +kernel
theorem d_AL_grow2_36 : decode b_AL_grow2 36 = .ok (.iload_n 3, 1) := by decide +kernel
theorem d_AL_grow2_37 : decode b_AL_grow2 37 = .ok (.invokestatic 66, 3) := by decide +kernel
theorem d_AL_grow2_40 : decode b_AL_grow2 40 = .ok (.dup_x1, 1) := by decide +kernel
theorem d_AL_grow2_41 : decode b_AL_grow2 41 = .ok (.putfield 9, 3) := by decide +kernel
theorem d_AL_grow2_44 : decode b_AL_grow2 44 = .ok (.areturn, 1) := by decide +kernel
theorem d_AL_grow2_45 : decode b_AL_grow2 45 = .ok (.aload_n 0, 1) := by decide +kernel
theorem d_AL_grow2_46 : decode b_AL_grow2 46 = .ok (.bipush 10, 2) := by decide +kernel
theorem d_AL_grow2_48 : decode b_AL_grow2 48 = .ok (.iload_n 1, 1) := by decide +kernel
theorem d_AL_grow2_49 : decode b_AL_grow2 49 = .ok (.invokestatic 79, 3) := by decide +kernel
theorem d_AL_grow2_52 : decode b_AL_grow2 52 = .ok (.anewarray 7, 3) := by decide +kernel
theorem d_AL_grow2_55 : decode b_AL_grow2 55 = .ok (.dup_x1, 1) := by decide +kernel
theorem d_AL_grow2_56 : decode b_AL_grow2 56 = .ok (.putfield 9, 3) := by decide +kernel
theorem d_AL_grow2_59 : decode b_AL_grow2 59 = .ok (.areturn, 1) := by decide +kernel
theorem d_AS_newLength_0 : decode b_AS_newLength 0 = .ok (.iload_n 0, 1) := by decide +kernel
theorem d_AS_newLength_1 : decode b_AS_newLength 1 = .ok (.iload_n 1, 1) := by decide +kernel
theorem d_AS_newLength_2 : decode b_AS_newLength 2 = .ok (.iload_n 2, 1) := by decide +kernel
theorem d_AS_newLength_3 : decode b_AS_newLength 3 = .ok (.invokestatic 194, 3) := by decide +kernel
theorem d_AS_newLength_6 : decode b_AS_newLength 6 = .ok (.iadd, 1) := by decide +kernel
theorem d_AS_newLength_7 : decode b_AS_newLength 7 = .ok (.istore_n 3, 1) := by decide +kernel
theorem d_AS_newLength_8 : decode b_AS_newLength 8 = .ok (.iconst 0, 1) := by decide +kernel
theorem d_AS_newLength_9 : decode b_AS_newLength 9 = .ok (.iload_n 3, 1) := by decide +kernel
theorem d_AS_newLength_10 : decode b_AS_newLength 10 = .ok (.if_icmp .ge 11, 3) := by decide +kernel
theorem d_AS_newLength_13 : decode b_AS_newLength 13 = .ok (.iload_n 3, 1) := by decide +kernel
theorem d_AS_newLength_14 : decode b_AS_newLength 14 = .ok (.ldc 200, 2) := by decide +kernel
theorem d_AS_newLength_16 : decode b_AS_newLength 16 = .ok (.if_icmp .gt 5, 3) := by decide +kernel
theorem d_AS_newLength_19 : decode b_AS_newLength 19 = .ok (.iload_n 3, 1) := by decide +kernel
theorem d_AS_newLength_20 : decode b_AS_newLength 20 = .ok (.ireturn, 1) := by decide +kernel
theorem d_AS_newLength_21 : decode b_AS_newLength 21 = .ok (.iload_n 0, 1) := by decide +kernel
theorem d_AS_newLength_22 : decode b_AS_newLength 22 = .ok (.iload_n 1, 1) := by decide +kernel
theorem d_AS_newLength_23 : decode b_AS_newLength 23 = .ok (.invokestatic 201, 3) := by decide +kernel
theorem d_AS_newLength_26 : decode b_AS_newLength 26 = .ok (.ireturn, 1) := by decide +kernel
theorem d_AS_hugeLength_0 : decode b_AS_hugeLength 0 = .ok (.iload_n 0, 1) := by decide +kernel
theorem d_AS_hugeLength_1 : decode b_AS_hugeLength 1 = .ok (.iload_n 1, 1) := by decide +kernel
theorem d_AS_hugeLength_2 : decode b_AS_hugeLength 2 = .ok (.iadd, 1) := by decide +kernel
theorem d_AS_hugeLength_3 : decode b_AS_hugeLength 3 = .ok (.istore_n 2, 1) := by decide +kernel
theorem d_AS_hugeLength_4 : decode b_AS_hugeLength 4 = .ok (.iload_n 2, 1) := by decide +kernel
theorem d_AS_hugeLength_5 : decode b_AS_hugeLength 5 = .ok (.ifCond .ge 44, 3) := by decide +kernel
theorem d_AS_hugeLength_8 : decode b_AS_hugeLength 8 = .ok (.new 204, 3) := by decide +kernel
theorem d_AS_hugeLength_11 : decode b_AS_hugeLength 11 = .ok (.dup, 1) := by decide +kernel
theorem d_AS_hugeLength_12 : decode b_AS_hugeLength 12 = .ok (.new 89, 3) := by decide +kernel
theorem d_AS_hugeLength_15 : decode b_AS_hugeLength 15 = .ok (.dup, 1) := by decide +kernel
theorem d_AS_hugeLength_16 : decode b_AS_hugeLength 16 = .ok (.invokespecial 91, 3) := by decide +kernel
theorem d_AS_hugeLength_19 : decode b_AS_hugeLength 19 = .ok (.ldc 206, 2) := by decide +kernel
theorem d_AS_hugeLength_21 : decode b_AS_hugeLength 21 = .ok (.invokevirtual 94, 3) := by decide +kernel
theorem d_AS_hugeLength_24 : decode b_AS_hugeLength 24 = .ok (.iload_n 0, 1) := by decide +kernel
theorem d_AS_hugeLength_25 : decode b_AS_hugeLength 25 = .ok (.invokevirtual 98, 3) := by decide +kernel
theorem d_AS_hugeLength_28 : decode b_AS_hugeLength 28 = .ok (.ldc 208, 2) := by decide +kernel
theorem d_AS_hugeLength_30 : decode b_AS_hugeLength 30 = .ok (.invokevirtual 94, 3) := by decide +kernel
theorem d_AS_hugeLength_33 : decode b_AS_hugeLength 33 = .ok (.iload_n 1, 1) := by decide +kernel
theorem d_AS_hugeLength_34 : decode b_AS_hugeLength 34 = .ok (.invokevirtual 98, 3) := by decide +kernel
theorem d_AS_hugeLength_37 : decode b_AS_hugeLength 37 = .ok (.ldc 210, 2) := by decide +kernel
theorem d_AS_hugeLength_39 : decode b_AS_hugeLength 39 = .ok (.invokevirtual 94, 3) := by decide +kernel
theorem d_AS_hugeLength_42 : decode b_AS_hugeLength 42 = .ok (.invokevirtual 101, 3) := by decide +kernel
theorem d_AS_hugeLength_45 : decode b_AS_hugeLength 45 = .ok (.invokespecial 212, 3) := by decide +kernel
theorem d_AS_hugeLength_48 : decode b_AS_hugeLength 48 = .ok (.athrow, 1) := by decide +kernel
theorem d_AS_hugeLength_49 : decode b_AS_hugeLength 49 = .ok (.iload_n 2, 1) := by decide +kernel
theorem d_AS_hugeLength_50 : decode b_AS_hugeLength 50 = .ok (.ldc 200, 2) := by decide +kernel
theorem d_AS_hugeLength_52 : decode b_AS_hugeLength 52 = .ok (.if_icmp .gt 6, 3) := by decide +kernel
theorem d_AS_hugeLength_55 : decode b_AS_hugeLength 55 = .ok (.ldc 200, 2) := by decide +kernel
theorem d_AS_hugeLength_57 : decode b_AS_hugeLength 57 = .ok (.ireturn, 1) := by decide +kernel
theorem d_AS_hugeLength_58 : decode b_AS_hugeLength 58 = .ok (.iload_n 2, 1) := by decide +kernel
theorem d_AS_hugeLength_59 : decode b_AS_hugeLength 59 = .ok (.ireturn, 1) := by decide +kernel
theorem d_Ar_copyOf_0 : decode b_Ar_copyOf 0 = .ok (.aload_n 0, 1) := by decide +kernel
theorem d_Ar_copyOf_1 : decode b_Ar_copyOf 1 = .ok (.iload_n 1, 1) := by decide +kernel
theorem d_Ar_copyOf_2 : decode b_Ar_copyOf 2 = .ok (.aload_n 0, 1) := by decide +kernel
theorem d_Ar_copyOf_3 : decode b_Ar_copyOf 3 = .ok (.invokevirtual 86, 3) := by decide +kernel
theorem d_Ar_copyOf_6 : decode b_Ar_copyOf 6 = .ok (.invokestatic 300, 3) := by decide +kernel
theorem d_Ar_copyOf_9 : decode b_Ar_copyOf 9 = .ok (.areturn, 1) := by decide +kernel
theorem d_Ar_copyOf2_0 : decode b_Ar_copyOf2 0 = .ok (.aload_n 2, 1) := by decide +kernel
theorem d_Ar_copyOf2_1 : decode b_Ar_copyOf2 1 = .ok (.ldc 110, 2) := by decide +kernel
theorem d_Ar_copyOf2_3 : decode b_Ar_copyOf2 3 = .ok (.if_acmp .ne 10, 3) := by decide +kernel
theorem d_Ar_copyOf2_6 : decode b_Ar_copyOf2 6 = .ok (.iload_n 1, 1) := by decide +kernel
theorem d_Ar_copyOf2_7 : decode b_Ar_copyOf2 7 = .ok (.anewarray 2, 3) := by decide +kernel
theorem d_Ar_copyOf2_10 : decode b_Ar_copyOf2 10 = .ok (.goto 14, 3) := by decide +kernel
theorem d_Ar_copyOf2_13 : decode b_Ar_copyOf2 13 = .ok (.aload_n 2, 1) := by decide +kernel
theorem d_Ar_copyOf2_14 : decode b_Ar_copyOf2 14 = .ok (.invokevirtual 90, 3) := by decide +kernel
theorem d_Ar_copyOf2_17 : decode b_Ar_copyOf2 17 = .ok (.iload_n 1, 1) := by decide +kernel
theorem d_Ar_copyOf2_18 : decode b_Ar_copyOf2 18 = .ok (.invokestatic 95, 3) := by decide +kernel
theorem d_Ar_copyOf2_21 : decode b_Ar_copyOf2 21 = .ok (.checkcast 110, 3) := by decide +kernel
theorem d_Ar_copyOf2_24 : decode b_Ar_copyOf2 24 = .ok (.astore_n 3, 1) := by decide +kernel
theorem d_Ar_copyOf2_25 : decode b_Ar_copyOf2 25 = .ok (.aload_n 0, 1) := by decide +kernel
theorem d_Ar_copyOf2_26 : decode b_Ar_copyOf2 26 = .ok (.iconst 0, 1) := by decide +kernel
theorem d_Ar_copyOf2_27 : decode b_Ar_copyOf2 27 = .ok (.aload_n 3, 1) := by decide +kernel
theorem d_Ar_copyOf2_28 : decode b_Ar_copyOf2 28 = .ok (.iconst 0, 1) := by decide +kernel
theorem d_Ar_copyOf2_29 : decode b_Ar_copyOf2 29 = .ok (.aload_n 0, 1) := by decide +kernel
theorem d_Ar_copyOf2_30 : decode b_Ar_copyOf2 30 = .ok (.arraylength, 1) := by decide +kernel
theorem d_Ar_copyOf2_31 : decode b_Ar_copyOf2 31 = .ok (.iload_n 1, 1) := by decide +kernel
theorem d_Ar_copyOf2_32 : decode b_Ar_copyOf2 32 = .ok (.invokestatic 304, 3) := by decide +kernel
theorem d_Ar_copyOf2_35 : decode b_Ar_copyOf2 35 = .ok (.invokestatic 150, 3) := by decide +kernel
theorem d_Ar_copyOf2_38 : decode b_Ar_copyOf2 38 = .ok (.aload_n 3, 1) := by decide +kernel
theorem d_Ar_copyOf2_39 : decode b_Ar_copyOf2 39 = .ok (.areturn, 1) := by decide +kernel
theorem d_X_restore_0 : decode b_X_restore 0 = .ok (.iload_n 1, 1) := by decide +kernel
theorem d_X_restore_1 : decode b_X_restore 1 = .ok (.invokestatic 239, 3) := by decide +kernel
theorem d_X_restore_4 : decode b_X_restore 4 = .ok (.ifCond .eq 22, 3) := by decide +kernel
theorem d_X_restore_7 : decode b_X_restore 7 = .ok (.iload_n 2, 1) := by decide +kernel
theorem d_X_restore_8 : decode b_X_restore 8 = .ok (.iconst 0, 1) := by decide +kernel
theorem d_X_restore_9 : decode b_X_restore 9 = .ok (.aload_n 0, 1) := by decide +kernel
theorem d_X_restore_10 : decode b_X_restore 10 = .ok (.getfield 83, 3) := by decide +kernel
theorem d_X_restore_13 : decode b_X_restore 13 = .ok (.invokeinterface 259 1, 5) := by decide +kernel
theorem d_X_restore_18 : decode b_X_restore 18 = .ok (.iconst 1, 1) := by decide +kernel
theorem d_X_restore_19 : decode b_X_restore 19 = .ok (.isub, 1) := by decide +kernel
theorem d_X_restore_20 : decode b_X_restore 20 = .ok (.invokestatic 163, 3) := by decide +kernel
theorem d_X_restore_23 : decode b_X_restore 23 = .ok (.ifCond .ne 5, 3) := by decide +kernel
theorem d_X_restore_26 : decode b_X_restore 26 = .ok (.iconst (-1), 1) := by decide +kernel
theorem d_X_restore_27 : decode b_X_restore 27 = .ok (.ireturn, 1) := by decide +kernel
theorem d_X_restore_28 : decode b_X_restore 28 = .ok (.aload_n 0, 1) := by decide +kernel
theorem d_X_restore_29 : decode b_X_restore 29 = .ok (.getfield 73, 3) := by decide +kernel
theorem d_X_restore_32 : decode b_X_restore 32 = .ok (.iload_n 1, 1) := by decide +kernel
theorem d_X_restore_33 : decode b_X_restore 33 = .ok (.aaload, 1) := by decide +kernel
theorem d_X_restore_34 : decode b_X_restore 34 = .ok (.aload_n 0, 1) := by decide +kernel
theorem d_X_restore_35 : decode b_X_restore 35 = .ok (.getfield 83, 3) := by decide +kernel
theorem d_X_restore_38 : decode b_X_restore 38 = .ok (.iload_n 2, 1) := by decide +kernel
theorem d_X_restore_39 : decode b_X_restore 39 = .ok (.invokeinterface 273 2, 5) := by decide +kernel
theorem d_X_restore_44 : decode b_X_restore 44 = .ok (.checkcast 27, 3) := by decide +kernel
theorem d_X_restore_47 : decode b_X_restore 47 = .ok (.invokevirtual 222, 3) := by decide +kernel
theorem d_X_restore_50 : decode b_X_restore 50 = .ok (.aload_n 0, 1) := by decide +kernel
theorem d_X_restore_51 : decode b_X_restore 51 = .ok (.getfield 73, 3) := by decide +kernel
theorem d_X_restore_54 : decode b_X_restore 54 = .ok (.iload_n 1, 1) := by decide +kernel
theorem d_X_restore_55 : decode b_X_restore 55 = .ok (.aaload, 1) := by decide +kernel
theorem d_X_restore_56 : decode b_X_restore 56 = .ok (.getfield 243, 3) := by decide +kernel
theorem d_X_restore_59 : decode b_X_restore 59 = .ok (.ireturn, 1) := by decide +kernel
theorem d_AL_get_0 : decode b_AL_get 0 = .ok (.iload_n 1, 1) := by decide +kernel
theorem d_AL_get_1 : decode b_AL_get 1 = .ok (.aload_n 0, 1) := by decide +kernel
theorem d_AL_get_2 : decode b_AL_get 2 = .ok (.getfield 48, 3) := by decide +kernel
theorem d_AL_get_5 : decode b_AL_get 5 = .ok (.invokestatic 118, 3) := by decide +kernel
theorem d_AL_get_8 : decode b_AL_get 8 = .ok (.pop, 1) := by decide +kernel
theorem d_AL_get_9 : decode b_AL_get 9 = .ok (.aload_n 0, 1) := by decide +kernel
theorem d_AL_get_10 : decode b_AL_get 10 = .ok (.iload_n 1, 1) := by decide +kernel
theorem d_AL_get_11 : decode b_AL_get 11 = .ok (.invokevirtual 123, 3) := by decide +kernel
theorem d_AL_get_14 : decode b_AL_get 14 = .ok (.areturn, 1) := by decide +kernel
theorem d_Ob_checkIndex_0 : decode b_Ob_checkIndex 0 = .ok (.iload_n 0, 1) := by decide +kernel
theorem d_Ob_checkIndex_1 : decode b_Ob_checkIndex 1 = .ok (.iload_n 1, 1) := by decide +kernel
theorem d_Ob_checkIndex_2 : decode b_Ob_checkIndex 2 = .ok (.aconst_null, 1) := by decide +kernel
theorem d_Ob_checkIndex_3 : decode b_Ob_checkIndex 3 = .ok (.invokestatic 105, 3) := by decide +kernel
theorem d_Ob_checkIndex_6 : decode b_Ob_checkIndex 6 = .ok (.ireturn, 1) := by decide +kernel
theorem d_Pr_checkIndex_0 : decode b_Pr_checkIndex 0 = .ok (.iload_n 0, 1) := by decide +kernel
theorem d_Pr_checkIndex_1 : decode b_Pr_checkIndex 1 = .ok (.ifCond .lt 8, 3) := by decide +kernel
theorem d_Pr_checkIndex_4 : decode b_Pr_checkIndex 4 = .ok (.iload_n 0, 1) := by decide +kernel
theorem d_Pr_checkIndex_5 : decode b_Pr_checkIndex 5 = .ok (.iload_n 1, 1) := by decide +kernel
theorem d_Pr_checkIndex_6 : decode b_Pr_checkIndex 6 = .ok (.if_icmp .lt 10, 3) := by decide +kernel
theorem d_Pr_checkIndex_9 : decode b_Pr_checkIndex 9 = .ok (.aload_n 2, 1) := by decide +kernel
theorem d_Pr_checkIndex_10 : decode b_Pr_checkIndex 10 = .ok (.iload_n 0, 1) := by decide +kernel
theorem d_Pr_checkIndex_11 : decode b_Pr_checkIndex 11 = .ok (.iload_n 1, 1) := by decide +kernel
theorem d_Pr_checkIndex_12 : decode b_Pr_checkIndex 12 = .ok (.invokestatic 95, 3) := by decide +kernel
theorem d_Pr_checkIndex_15 : decode b_Pr_checkIndex 15 = .ok (.athrow, 1) := by decide +kernel
theorem d_Pr_checkIndex_16 : decode b_Pr_checkIndex 16 = .ok (.iload_n 0, 1) := by decide +kernel
theorem d_Pr_checkIndex_17 : decode b_Pr_checkIndex 17 = .ok (.ireturn, 1) := by decide +kernel
theorem d_AL_elementData_0 : decode b_AL_elementData 0 = .ok (.aload_n 0, 1) := by decide +kernel
theorem d_AL_elementData_1 : decode b_AL_elementData 1 = .ok (.getfield 9, 3) := by decide +kernel
theorem d_AL_elementData_4 : decode b_AL_elementData 4 = .ok (.iload_n 1, 1) := by decide +kernel
theorem d_AL_elementData_5 : decode b_AL_elementData 5 = .ok (.aaload, 1) := by decide +kernel
theorem d_AL_elementData_6 : decode b_AL_elementData 6 = .ok (.areturn, 1) := by decide +kernel
theorem d_X_forget_0 : decode b_X_forget 0 = .ok (.aload_n 0, 1) := by decide +kernel
theorem d_X_forget_1 : decode b_X_forget 1 = .ok (.getfield 83, 3) := by decide +kernel
theorem d_X_forget_4 : decode b_X_forget 4 = .ok (.invokeinterface 259 1, 5) := by decide +kernel
theorem d_X_forget_9 : decode b_X_forget 9 = .ok (.istore_n 1, 1) := by decide +kernel
theorem d_X_forget_10 : decode b_X_forget 10 = .ok (.aload_n 0, 1) := by decide +kernel
theorem d_X_forget_11 : decode b_X_forget 11 = .ok (.getfield 83, 3) := by decide +kernel
theorem d_X_forget_14 : decode b_X_forget 14 = .ok (.invokeinterface 277 1, 5) := by decide +kernel
theorem d_X_forget_19 : decode b_X_forget 19 = .ok (.iload_n 1, 1) := by decide +kernel
theorem d_X_forget_20 : decode b_X_forget 20 = .ok (.ireturn, 1) := by decide +kernel
theorem d_AL_clear_0 : decode b_AL_clear 0 = .ok (.aload_n 0, 1) := by decide +kernel
theorem d_AL_clear_1 : decode b_AL_clear 1 = .ok (.dup, 1) := by decide +kernel
theorem d_AL_clear_2 : decode b_AL_clear 2 = .ok (.getfield 63, 3) := by decide +kernel
theorem d_AL_clear_5 : decode b_AL_clear 5 = .ok (.iconst 1, 1) := by decide +kernel
theorem d_AL_clear_6 : decode b_AL_clear 6 = .ok (.iadd, 1) := by decide +kernel
theorem d_AL_clear_7 : decode b_AL_clear 7 = .ok (.putfield 63, 3) := by decide +kernel
theorem d_AL_clear_10 : decode b_AL_clear 10 = .ok (.aload_n 0, 1) := by decide +kernel
theorem d_AL_clear_11 : decode b_AL_clear 11 = .ok (.getfield 9, 3) := by decide +kernel
theorem d_AL_clear_14 : decode b_AL_clear 14 = .ok (.astore_n 1, 1) := by decide +kernel
theorem d_AL_clear_15 : decode b_AL_clear 15 = .ok (.aload_n 0, 1) := by decide +kernel
theorem d_AL_clear_16 : decode b_AL_clear 16 = .ok (.getfield 48, 3) := by decide +kernel
theorem d_AL_clear_19 : decode b_AL_clear 19 = .ok (.istore_n 2, 1) := by decide +kernel
theorem d_AL_clear_20 : decode b_AL_clear 20 = .ok (.aload_n 0, 1) := by decide +kernel
theorem d_AL_clear_21 : decode b_AL_clear 21 = .ok (.iconst 0, 1) := by decide +kernel
theorem d_AL_clear_22 : decode b_AL_clear 22 = .ok (.dup_x1, 1) := by decide +kernel
theorem d_AL_clear_23 : decode b_AL_clear 23 = .ok (.putfield 48, 3) := by decide +kernel
theorem d_AL_clear_26 : decode b_AL_clear 26 = .ok (.istore_n 3, 1) := by decide +kernel
theorem d_AL_clear_27 : decode b_AL_clear 27 = .ok (.iload_n 3, 1) := by decide +kernel
theorem d_AL_clear_28 : decode b_AL_clear 28 = .ok (.iload_n 2, 1) := by decide +kernel
theorem d_AL_clear_29 : decode b_AL_clear 29 = .ok (.if_icmp .ge 13, 3) := by decide +kernel
theorem d_AL_clear_32 : decode b_AL_clear 32 = .ok (.aload_n 1, 1) := by decide +kernel
theorem d_AL_clear_33 : decode b_AL_clear 33 = .ok (.iload_n 3, 1) := by decide +kernel
theorem d_AL_clear_34 : decode b_AL_clear 34 = .ok (.aconst_null, 1) := by decide +kernel
theorem d_AL_clear_35 : decode b_AL_clear 35 = .ok (.aastore, 1) := by decide +kernel
theorem d_AL_clear_36 : decode b_AL_clear 36 = .ok (.iinc 3 1, 3) := by decide +kernel
theorem d_AL_clear_39 : decode b_AL_clear 39 = .ok (.goto (-12), 3) := by decide +kernel
theorem d_AL_clear_42 : decode b_AL_clear 42 = .ok (.return_, 1) := by decide +kernel
theorem d_X_cost_0 : decode b_X_cost 0 = .ok (.iload_n 1, 1) := by decide +kernel
theorem d_X_cost_1 : decode b_X_cost 1 = .ok (.invokestatic 239, 3) := by decide +kernel
theorem d_X_cost_4 : decode b_X_cost 4 = .ok (.ifCond .eq 14, 3) := by decide +kernel
theorem d_X_cost_7 : decode b_X_cost 7 = .ok (.iload_n 2, 1) := by decide +kernel
theorem d_X_cost_8 : decode b_X_cost 8 = .ok (.iconst 0, 1) := by decide +kernel
theorem d_X_cost_9 : decode b_X_cost 9 = .ok (.sipush 256, 3) := by decide +kernel
theorem d_X_cost_12 : decode b_X_cost 12 = .ok (.invokestatic 163, 3) := by decide +kernel
theorem d_X_cost_15 : decode b_X_cost 15 = .ok (.ifCond .ne 5, 3) := by decide +kernel
theorem d_X_cost_18 : decode b_X_cost 18 = .ok (.iconst (-1), 1) := by decide +kernel
theorem d_X_cost_19 : decode b_X_cost 19 = .ok (.ireturn, 1) := by decide +kernel
theorem d_X_cost_20 : decode b_X_cost 20 = .ok (.aload_n 0, 1) := by decide +kernel
theorem d_X_cost_21 : decode b_X_cost 21 = .ok (.getfield 145, 3) := by decide +kernel
theorem d_X_cost_24 : decode b_X_cost 24 = .ok (.iconst 0, 1) := by decide +kernel
theorem d_X_cost_25 : decode b_X_cost 25 = .ok (.putfield 280, 3) := by decide +kernel
theorem d_X_cost_28 : decode b_X_cost 28 = .ok (.aload_n 0, 1) := by decide +kernel
theorem d_X_cost_29 : decode b_X_cost 29 = .ok (.aload_n 0, 1) := by decide +kernel
theorem d_X_cost_30 : decode b_X_cost 30 = .ok (.getfield 73, 3) := by decide +kernel
theorem d_X_cost_33 : decode b_X_cost 33 = .ok (.iload_n 1, 1) := by decide +kernel
theorem d_X_cost_34 : decode b_X_cost 34 = .ok (.aaload, 1) := by decide +kernel
theorem d_X_cost_35 : decode b_X_cost 35 = .ok (.iload_n 2, 1) := by decide +kernel
theorem d_X_cost_36 : decode b_X_cost 36 = .ok (.aload_n 0, 1) := by decide +kernel
theorem d_X_cost_37 : decode b_X_cost 37 = .ok (.getfield 145, 3) := by decide +kernel
theorem d_X_cost_40 : decode b_X_cost 40 = .ok (.invokevirtual 191, 3) := by decide +kernel
theorem d_X_cost_43 : decode b_X_cost 43 = .ok (.istore_n 3, 1) := by decide +kernel
theorem d_X_cost_44 : decode b_X_cost 44 = .ok (.iload_n 3, 1) := by decide +kernel
theorem d_X_cost_45 : decode b_X_cost 45 = .ok (.iload_n 2, 1) := by decide +kernel
theorem d_X_cost_46 : decode b_X_cost 46 = .ok (.if_icmp .ne 13, 3) := by decide +kernel
theorem d_X_cost_49 : decode b_X_cost 49 = .ok (.aload_n 0, 1) := by decide +kernel
theorem d_X_cost_50 : decode b_X_cost 50 = .ok (.getfield 145, 3) := by decide +kernel
theorem d_X_cost_53 : decode b_X_cost 53 = .ok (.getfield 280, 3) := by decide +kernel
theorem d_X_cost_56 : decode b_X_cost 56 = .ok (.goto 4, 3) := by decide +kernel
theorem d_X_cost_59 : decode b_X_cost 59 = .ok (.iconst (-1), 1) := by decide +kernel
theorem d_X_cost_60 : decode b_X_cost 60 = .ok (.ireturn, 1) := by decide +kernel
theorem d_L_cell_0 : decode b_L_cell 0 = .ok (.iload_n 1, 1) := by decide +kernel
theorem d_L_cell_1 : decode b_L_cell 1 = .ok (.aload_n 0, 1) := by decide +kernel
theorem d_L_cell_2 : decode b_L_cell 2 = .ok (.arraylength, 1) := by decide +kernel
theorem d_L_cell_3 : decode b_L_cell 3 = .ok (.if_icmp .ge 9, 3) := by decide +kernel
theorem d_L_cell_6 : decode b_L_cell 6 = .ok (.aload_n 0, 1) := by decide +kernel
theorem d_L_cell_7 : decode b_L_cell 7 = .ok (.iload_n 1, 1) := by decide +kernel
theorem d_L_cell_8 : decode b_L_cell 8 = .ok (.iaload, 1) := by decide +kernel
theorem d_L_cell_9 : decode b_L_cell 9 = .ok (.goto 4, 3) := by decide +kernel
theorem d_L_cell_12 : decode b_L_cell 12 = .ok (.iconst 0, 1) := by decide +kernel
theorem d_L_cell_13 : decode b_L_cell 13 = .ok (.ireturn, 1) := by decide +kernel
theorem d_L_node_0 : decode b_L_node 0 = .ok (.aload 4, 2) := by decide +kernel
theorem d_L_node_2 : decode b_L_node 2 = .ok (.iconst 0, 1) := by decide +kernel
theorem d_L_node_3 : decode b_L_node 3 = .ok (.aload_n 0, 1) := by decide +kernel
theorem d_L_node_4 : decode b_L_node 4 = .ok (.iload_n 1, 1) := by decide +kernel
theorem d_L_node_5 : decode b_L_node 5 = .ok (.iload_n 2, 1) := by decide +kernel
theorem d_L_node_6 : decode b_L_node 6 = .ok (.iload_n 3, 1) := by decide +kernel
theorem d_L_node_7 : decode b_L_node 7 = .ok (.invokevirtual 7, 3) := by decide +kernel
theorem d_L_node_10 : decode b_L_node 10 = .ok (.i2l, 1) := by decide +kernel
theorem d_L_node_11 : decode b_L_node 11 = .ok (.lastore, 1) := by decide +kernel
theorem d_L_node_12 : decode b_L_node 12 = .ok (.goto 7, 3) := by decide +kernel
theorem d_L_node_15 : decode b_L_node 15 = .ok (.astore 5, 2) := by decide +kernel
theorem d_L_node_17 : decode b_L_node 17 = .ok (.iconst 1, 1) := by decide +kernel
theorem d_L_node_18 : decode b_L_node 18 = .ok (.ireturn, 1) := by decide +kernel
theorem d_L_node_19 : decode b_L_node 19 = .ok (.iconst 0, 1) := by decide +kernel
theorem d_L_node_20 : decode b_L_node 20 = .ok (.ireturn, 1) := by decide +kernel
theorem d_Ai_init_0 : decode b_Ai_init 0 = .ok (.aload_n 0, 1) := by decide +kernel
theorem d_Ai_init_1 : decode b_Ai_init 1 = .ok (.aload_n 1, 1) := by decide +kernel
theorem d_Ai_init_2 : decode b_Ai_init 2 = .ok (.invokespecial 7, 3) := by decide +kernel
theorem d_Ai_init_5 : decode b_Ai_init 5 = .ok (.return_, 1) := by decide +kernel
theorem d_Io_init_0 : decode b_Io_init 0 = .ok (.aload_n 0, 1) := by decide +kernel
theorem d_Io_init_1 : decode b_Io_init 1 = .ok (.aload_n 1, 1) := by decide +kernel
theorem d_Io_init_2 : decode b_Io_init 2 = .ok (.invokespecial 7, 3) := by decide +kernel
theorem d_Io_init_5 : decode b_Io_init 5 = .ok (.return_, 1) := by decide +kernel
theorem d_Rt_init_0 : decode b_Rt_init 0 = .ok (.aload_n 0, 1) := by decide +kernel
theorem d_Rt_init_1 : decode b_Rt_init 1 = .ok (.aload_n 1, 1) := by decide +kernel
theorem d_Rt_init_2 : decode b_Rt_init 2 = .ok (.invokespecial 7, 3) := by decide +kernel
theorem d_Rt_init_5 : decode b_Rt_init 5 = .ok (.return_, 1) := by decide +kernel
theorem d_Ex_init_0 : decode b_Ex_init 0 = .ok (.aload_n 0, 1) := by decide +kernel
theorem d_Ex_init_1 : decode b_Ex_init 1 = .ok (.aload_n 1, 1) := by decide +kernel
theorem d_Ex_init_2 : decode b_Ex_init 2 = .ok (.invokespecial 7, 3) := by decide +kernel
theorem d_Ex_init_5 : decode b_Ex_init 5 = .ok (.return_, 1) := by decide +kernel
theorem d_Th_init_0 : decode b_Th_init 0 = .ok (.aload_n 0, 1) := by decide +kernel
theorem d_Th_init_1 : decode b_Th_init 1 = .ok (.invokespecial 1, 3) := by decide +kernel
theorem d_Th_init_4 : decode b_Th_init 4 = .ok (.aload_n 0, 1) := by decide +kernel
theorem d_Th_init_5 : decode b_Th_init 5 = .ok (.aload_n 0, 1) := by decide +kernel
theorem d_Th_init_6 : decode b_Th_init 6 = .ok (.putfield 7, 3) := by decide +kernel
theorem d_Th_init_9 : decode b_Th_init 9 = .ok (.aload_n 0, 1) := by decide +kernel
theorem d_Th_init_10 : decode b_Th_init 10 = .ok (.getstatic 13, 3) := by decide +kernel
theorem d_Th_init_13 : decode b_Th_init 13 = .ok (.putfield 17, 3) := by decide +kernel
theorem d_Th_init_16 : decode b_Th_init 16 = .ok (.aload_n 0, 1) := by decide +kernel
theorem d_Th_init_17 : decode b_Th_init 17 = .ok (.getstatic 20, 3) := by decide +kernel
theorem d_Th_init_20 : decode b_Th_init 20 = .ok (.putfield 24, 3) := by decide +kernel
theorem d_Th_init_23 : decode b_Th_init 23 = .ok (.aload_n 0, 1) := by decide +kernel
theorem d_Th_init_24 : decode b_Th_init 24 = .ok (.invokevirtual 27, 3) := by decide +kernel
theorem d_Th_init_27 : decode b_Th_init 27 = .ok (.pop, 1) := by decide +kernel
theorem d_Th_init_28 : decode b_Th_init 28 = .ok (.aload_n 0, 1) := by decide +kernel
theorem d_Th_init_29 : decode b_Th_init 29 = .ok (.aload_n 1, 1) := by decide +kernel
theorem d_Th_init_30 : decode b_Th_init 30 = .ok (.putfield 31, 3) := by decide +kernel
theorem d_Th_init_33 : decode b_Th_init 33 = .ok (.return_, 1) := by decide +kernel
theorem d_Th_fillInStackTrace_0 : decode b_Th_fillInStackTrace 0 = .ok (.aload_n 0, 1) := by decide +kernel
theorem d_Th_fillInStackTrace_1 : decode b_Th_fillInStackTrace 1 = .ok (.getfield 17, 3) := by decide +kernel
theorem d_Th_fillInStackTrace_4 : decode b_Th_fillInStackTrace 4 = .ok (.ifnonnull 10, 3) := by decide +kernel
theorem d_Th_fillInStackTrace_7 : decode b_Th_fillInStackTrace 7 = .ok (.aload_n 0, 1) := by decide +kernel
theorem d_Th_fillInStackTrace_8 : decode b_Th_fillInStackTrace 8 = .ok (.getfield 198, 3) := by decide +kernel
theorem d_Th_fillInStackTrace_11 : decode b_Th_fillInStackTrace 11 = .ok (.ifnull 16, 3) := by decide +kernel
theorem d_Th_fillInStackTrace_14 : decode b_Th_fillInStackTrace 14 = .ok (.aload_n 0, 1) := by decide +kernel
theorem d_Th_fillInStackTrace_15 : decode b_Th_fillInStackTrace 15 = .ok (.iconst 0, 1) := by decide +kernel
theorem d_Th_fillInStackTrace_16 : decode b_Th_fillInStackTrace 16 = .ok (.invokevirtual 202, 3) := by decide +kernel
theorem d_Th_fillInStackTrace_19 : decode b_Th_fillInStackTrace 19 = .ok (.pop, 1) := by decide +kernel
theorem d_Th_fillInStackTrace_20 : decode b_Th_fillInStackTrace 20 = .ok (.aload_n 0, 1) := by decide +kernel
theorem d_Th_fillInStackTrace_21 : decode b_Th_fillInStackTrace 21 = .ok (.getstatic 13, 3) := by decide +kernel
theorem d_Th_fillInStackTrace_24 : decode b_Th_fillInStackTrace 24 = .ok (.putfield 17, 3) := by decide +kernel
theorem d_Th_fillInStackTrace_27 : decode b_Th_fillInStackTrace 27 = .ok (.aload_n 0, 1) := by decide +kernel
theorem d_Th_fillInStackTrace_28 : decode b_Th_fillInStackTrace 28 = .ok (.areturn, 1) := by decide +kernel
theorem d_Th_init2_0 : decode b_Th_init2 0 = .ok (.aload_n 0, 1) := by decide +kernel
theorem d_Th_init2_1 : decode b_Th_init2 1 = .ok (.invokespecial 1, 3) := by decide +kernel
theorem d_Th_init2_4 : decode b_Th_init2 4 = .ok (.aload_n 0, 1) := by decide +kernel
theorem d_Th_init2_5 : decode b_Th_init2 5 = .ok (.aload_n 0, 1) := by decide +kernel
theorem d_Th_init2_6 : decode b_Th_init2 6 = .ok (.putfield 7, 3) := by decide +kernel
theorem d_Th_init2_9 : decode b_Th_init2 9 = .ok (.aload_n 0, 1) := by decide +kernel
theorem d_Th_init2_10 : decode b_Th_init2 10 = .ok (.getstatic 13, 3) := by decide +kernel
theorem d_Th_init2_13 : decode b_Th_init2 13 = .ok (.putfield 17, 3) := by decide +kernel
theorem d_Th_init2_16 : decode b_Th_init2 16 = .ok (.aload_n 0, 1) := by decide +kernel
theorem d_Th_init2_17 : decode b_Th_init2 17 = .ok (.getstatic 20, 3) := by decide +kernel
theorem d_Th_init2_20 : decode b_Th_init2 20 = .ok (.putfield 24, 3) := by decide +kernel
theorem d_Th_init2_23 : decode b_Th_init2 23 = .ok (.aload_n 0, 1) := by decide +kernel
theorem d_Th_init2_24 : decode b_Th_init2 24 = .ok (.invokevirtual 27, 3) := by decide +kernel
theorem d_Th_init2_27 : decode b_Th_init2 27 = .ok (.pop, 1) := by decide +kernel
theorem d_Th_init2_28 : decode b_Th_init2 28 = .ok (.return_, 1) := by decide +kernel
theorem d_X_node_0 : decode b_X_node 0 = .ok (.iload_n 1, 1) := by decide +kernel
theorem d_X_node_1 : decode b_X_node 1 = .ok (.invokestatic 239, 3) := by decide +kernel
theorem d_X_node_4 : decode b_X_node 4 = .ok (.ifCond .eq 12, 3) := by decide +kernel
theorem d_X_node_7 : decode b_X_node 7 = .ok (.iload_n 3, 1) := by decide +kernel
theorem d_X_node_8 : decode b_X_node 8 = .ok (.iconst 0, 1) := by decide +kernel
theorem d_X_node_9 : decode b_X_node 9 = .ok (.iconst 3, 1) := by decide +kernel
theorem d_X_node_10 : decode b_X_node 10 = .ok (.invokestatic 163, 3) := by decide +kernel
theorem d_X_node_13 : decode b_X_node 13 = .ok (.ifCond .ne 5, 3) := by decide +kernel
theorem d_X_node_16 : decode b_X_node 16 = .ok (.iconst (-1), 1) := by decide +kernel
theorem d_X_node_17 : decode b_X_node 17 = .ok (.ireturn, 1) := by decide +kernel
theorem d_X_node_18 : decode b_X_node 18 = .ok (.aload_n 0, 1) := by decide +kernel
theorem d_X_node_19 : decode b_X_node 19 = .ok (.getfield 73, 3) := by decide +kernel
theorem d_X_node_22 : decode b_X_node 22 = .ok (.iload_n 1, 1) := by decide +kernel
theorem d_X_node_23 : decode b_X_node 23 = .ok (.aaload, 1) := by decide +kernel
theorem d_X_node_24 : decode b_X_node 24 = .ok (.astore 4, 2) := by decide +kernel
theorem d_X_node_26 : decode b_X_node 26 = .ok (.iload_n 2, 1) := by decide +kernel
theorem d_X_node_27 : decode b_X_node 27 = .ok (.iconst 0, 1) := by decide +kernel
theorem d_X_node_28 : decode b_X_node 28 = .ok (.aload 4, 2) := by decide +kernel
theorem d_X_node_30 : decode b_X_node 30 = .ok (.getfield 243, 3) := by decide +kernel
theorem d_X_node_33 : decode b_X_node 33 = .ok (.iconst 1, 1) := by decide +kernel
theorem d_X_node_34 : decode b_X_node 34 = .ok (.isub, 1) := by decide +kernel
theorem d_X_node_35 : decode b_X_node 35 = .ok (.invokestatic 163, 3) := by decide +kernel
theorem d_X_node_38 : decode b_X_node 38 = .ok (.ifCond .ne 11, 3) := by decide +kernel
theorem d_X_node_41 : decode b_X_node 41 = .ok (.new 245, 3) := by decide +kernel
theorem d_X_node_44 : decode b_X_node 44 = .ok (.dup, 1) := by decide +kernel
theorem d_X_node_45 : decode b_X_node 45 = .ok (.invokespecial 247, 3) := by decide +kernel
theorem d_X_node_48 : decode b_X_node 48 = .ok (.athrow, 1) := by decide +kernel
theorem d_X_node_49 : decode b_X_node 49 = .ok (.iload_n 3, 1) := by decide +kernel
theorem d_X_node_50 : decode b_X_node 50 = .ok (.tableswitch 58 0 2 #[26, 34, 42], 26) := by decide +kernel
theorem d_X_node_76 : decode b_X_node 76 = .ok (.aload 4, 2) := by decide +kernel
theorem d_X_node_78 : decode b_X_node 78 = .ok (.getfield 248, 3) := by decide +kernel
theorem d_X_node_81 : decode b_X_node 81 = .ok (.iload_n 2, 1) := by decide +kernel
theorem d_X_node_82 : decode b_X_node 82 = .ok (.iaload, 1) := by decide +kernel
theorem d_X_node_83 : decode b_X_node 83 = .ok (.ireturn, 1) := by decide +kernel
theorem d_X_node_84 : decode b_X_node 84 = .ok (.aload 4, 2) := by decide +kernel
theorem d_X_node_86 : decode b_X_node 86 = .ok (.getfield 39, 3) := by decide +kernel
theorem d_X_node_89 : decode b_X_node 89 = .ok (.iload_n 2, 1) := by decide +kernel
theorem d_X_node_90 : decode b_X_node 90 = .ok (.iaload, 1) := by decide +kernel
theorem d_X_node_91 : decode b_X_node 91 = .ok (.ireturn, 1) := by decide +kernel
theorem d_X_node_92 : decode b_X_node 92 = .ok (.iload_n 2, 1) := by decide +kernel
theorem d_X_node_93 : decode b_X_node 93 = .ok (.ifCond .ne 7, 3) := by decide +kernel
theorem d_X_node_96 : decode b_X_node 96 = .ok (.iconst 0, 1) := by decide +kernel
theorem d_X_node_97 : decode b_X_node 97 = .ok (.goto 10, 3) := by decide +kernel
theorem d_X_node_100 : decode b_X_node 100 = .ok (.aload 4, 2) := by decide +kernel
theorem d_X_node_102 : decode b_X_node 102 = .ok (.getfield 42, 3) := by decide +kernel
theorem d_X_node_105 : decode b_X_node 105 = .ok (.iload_n 2, 1) := by decide +kernel
theorem d_X_node_106 : decode b_X_node 106 = .ok (.iaload, 1) := by decide +kernel
theorem d_X_node_107 : decode b_X_node 107 = .ok (.ireturn, 1) := by decide +kernel
theorem d_X_node_108 : decode b_X_node 108 = .ok (.iconst 0, 1) := by decide +kernel
theorem d_X_node_109 : decode b_X_node 109 = .ok (.istore 5, 2) := by decide +kernel
theorem d_X_node_111 : decode b_X_node 111 = .ok (.iload_n 2, 1) := by decide +kernel
theorem d_X_node_112 : decode b_X_node 112 = .ok (.istore 6, 2) := by decide +kernel
theorem d_X_node_114 : decode b_X_node 114 = .ok (.iload 6, 2) := by decide +kernel
theorem d_X_node_116 : decode b_X_node 116 = .ok (.ifCond .le 19, 3) := by decide +kernel
theorem d_X_node_119 : decode b_X_node 119 = .ok (.iinc 5 1, 3) := by decide +kernel
theorem d_X_node_122 : decode b_X_node 122 = .ok (.aload 4, 2) := by decide +kernel
theorem d_X_node_124 : decode b_X_node 124 = .ok (.getfield 248, 3) := by decide +kernel
theorem d_X_node_127 : decode b_X_node 127 = .ok (.iload 6, 2) := by decide +kernel
theorem d_X_node_129 : decode b_X_node 129 = .ok (.iaload, 1) := by decide +kernel
theorem d_X_node_130 : decode b_X_node 130 = .ok (.istore 6, 2) := by decide +kernel
theorem d_X_node_132 : decode b_X_node 132 = .ok (.goto (-18), 3) := by decide +kernel
theorem d_X_node_135 : decode b_X_node 135 = .ok (.iload 5, 2) := by decide +kernel
theorem d_X_node_137 : decode b_X_node 137 = .ok (.ireturn, 1) := by decide +kernel
theorem d_Ai_init2_0 : decode b_Ai_init2 0 = .ok (.aload_n 0, 1) := by decide +kernel
theorem d_Ai_init2_1 : decode b_Ai_init2 1 = .ok (.invokespecial 1, 3) := by decide +kernel
theorem d_Ai_init2_4 : decode b_Ai_init2 4 = .ok (.return_, 1) := by decide +kernel
theorem d_Io_init2_0 : decode b_Io_init2 0 = .ok (.aload_n 0, 1) := by decide +kernel
theorem d_Io_init2_1 : decode b_Io_init2 1 = .ok (.invokespecial 1, 3) := by decide +kernel
theorem d_Io_init2_4 : decode b_Io_init2 4 = .ok (.return_, 1) := by decide +kernel
theorem d_Rt_init2_0 : decode b_Rt_init2 0 = .ok (.aload_n 0, 1) := by decide +kernel
theorem d_Rt_init2_1 : decode b_Rt_init2 1 = .ok (.invokespecial 1, 3) := by decide +kernel
theorem d_Rt_init2_4 : decode b_Rt_init2 4 = .ok (.return_, 1) := by decide +kernel
theorem d_Ex_init2_0 : decode b_Ex_init2 0 = .ok (.aload_n 0, 1) := by decide +kernel
theorem d_Ex_init2_1 : decode b_Ex_init2 1 = .ok (.invokespecial 1, 3) := by decide +kernel
theorem d_Ex_init2_4 : decode b_Ex_init2 4 = .ok (.return_, 1) := by decide +kernel
