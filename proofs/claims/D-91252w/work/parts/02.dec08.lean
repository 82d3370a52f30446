set_option maxRecDepth 100000
theorem dX5_both_20 : decode cX5_both 20 = .ok (.ldc 161, 2) := by decide +kernel
theorem dX5_both_22 : decode cX5_both 22 = .ok (.invokevirtual 93, 3) := by decide +kernel
theorem dX5_both_25 : decode cX5_both 25 = .ok (.ifCond .eq 20, 3) := by decide +kernel
theorem dX5_both_28 : decode cX5_both 28 = .ok (.aload_n 0, 1) := by decide +kernel
theorem dX5_both_29 : decode cX5_both 29 = .ok (.invokevirtual 88, 3) := by decide +kernel
theorem dX5_both_32 : decode cX5_both 32 = .ok (.aload_n 2, 1) := by decide +kernel
theorem dX5_both_33 : decode cX5_both 33 = .ok (.aload_n 0, 1) := by decide +kernel
theorem dX5_both_34 : decode cX5_both 34 = .ok (.iload_n 1, 1) := by decide +kernel
theorem dX5_both_35 : decode cX5_both 35 = .ok (.invokevirtual 158, 3) := by decide +kernel
theorem dX5_both_38 : decode cX5_both 38 = .ok (.invokevirtual 124, 3) := by decide +kernel
theorem dX5_both_41 : decode cX5_both 41 = .ok (.pop, 1) := by decide +kernel
theorem dX5_both_42 : decode cX5_both 42 = .ok (.goto (-23), 3) := by decide +kernel
theorem dX5_both_45 : decode cX5_both 45 = .ok (.aload_n 2, 1) := by decide +kernel
theorem dX5_both_46 : decode cX5_both 46 = .ok (.invokevirtual 97, 3) := by decide +kernel
theorem dX5_both_49 : decode cX5_both 49 = .ok (.iconst 1, 1) := by decide +kernel
theorem dX5_both_50 : decode cX5_both 50 = .ok (.if_icmp .ne 14, 3) := by decide +kernel
theorem dX5_both_53 : decode cX5_both 53 = .ok (.aload_n 2, 1) := by decide +kernel
theorem dX5_both_54 : decode cX5_both 54 = .ok (.iconst 0, 1) := by decide +kernel
theorem dX5_both_55 : decode cX5_both 55 = .ok (.invokevirtual 147, 3) := by decide +kernel
theorem dX5_both_58 : decode cX5_both 58 = .ok (.checkcast 151, 3) := by decide +kernel
theorem dX5_both_61 : decode cX5_both 61 = .ok (.goto 16, 3) := by decide +kernel
theorem dX5_both_64 : decode cX5_both 64 = .ok (.new 153, 3) := by decide +kernel
theorem dX5_both_67 : decode cX5_both 67 = .ok (.dup, 1) := by decide +kernel
theorem dX5_both_68 : decode cX5_both 68 = .ok (.aload_n 0, 1) := by decide +kernel
theorem dX5_both_69 : decode cX5_both 69 = .ok (.getfield 3, 3) := by decide +kernel
theorem dX5_both_72 : decode cX5_both 72 = .ok (.aload_n 2, 1) := by decide +kernel
theorem dX5_both_73 : decode cX5_both 73 = .ok (.iconst 1, 1) := by decide +kernel
theorem dX5_both_74 : decode cX5_both 74 = .ok (.invokespecial 155, 3) := by decide +kernel
theorem dX5_both_77 : decode cX5_both 77 = .ok (.areturn, 1) := by decide +kernel
theorem dX5_one_0 : decode cX5_one 0 = .ok (.aload_n 0, 1) := by decide +kernel
theorem dX5_one_1 : decode cX5_one 1 = .ok (.iload_n 1, 1) := by decide +kernel
theorem dX5_one_2 : decode cX5_one 2 = .ok (.invokevirtual 139, 3) := by decide +kernel
theorem dX5_one_5 : decode cX5_one 5 = .ok (.aload_n 0, 1) := by decide +kernel
theorem dX5_one_6 : decode cX5_one 6 = .ok (.ldc 137, 2) := by decide +kernel
theorem dX5_one_8 : decode cX5_one 8 = .ok (.invokevirtual 93, 3) := by decide +kernel
theorem dX5_one_11 : decode cX5_one 11 = .ok (.ifCond .eq 26, 3) := by decide +kernel
theorem dX5_one_14 : decode cX5_one 14 = .ok (.aload_n 0, 1) := by decide +kernel
theorem dX5_one_15 : decode cX5_one 15 = .ok (.invokevirtual 88, 3) := by decide +kernel
theorem dX5_one_18 : decode cX5_one 18 = .ok (.new 163, 3) := by decide +kernel
theorem dX5_one_21 : decode cX5_one 21 = .ok (.dup, 1) := by decide +kernel
theorem dX5_one_22 : decode cX5_one 22 = .ok (.aload_n 0, 1) := by decide +kernel
theorem dX5_one_23 : decode cX5_one 23 = .ok (.getfield 3, 3) := by decide +kernel
theorem dX5_one_26 : decode cX5_one 26 = .ok (.aload_n 0, 1) := by decide +kernel
theorem dX5_one_27 : decode cX5_one 27 = .ok (.iload_n 1, 1) := by decide +kernel
theorem dX5_one_28 : decode cX5_one 28 = .ok (.iconst 1, 1) := by decide +kernel
theorem dX5_one_29 : decode cX5_one 29 = .ok (.iadd, 1) := by decide +kernel
theorem dX5_one_30 : decode cX5_one 30 = .ok (.invokevirtual 158, 3) := by decide +kernel
theorem dX5_one_33 : decode cX5_one 33 = .ok (.invokespecial 165, 3) := by decide +kernel
theorem dX5_one_36 : decode cX5_one 36 = .ok (.areturn, 1) := by decide +kernel
theorem dX5_one_37 : decode cX5_one 37 = .ok (.aload_n 0, 1) := by decide +kernel
theorem dX5_one_38 : decode cX5_one 38 = .ok (.getfield 48, 3) := by decide +kernel
theorem dX5_one_41 : decode cX5_one 41 = .ok (.bipush 40, 2) := by decide +kernel
theorem dX5_one_43 : decode cX5_one 43 = .ok (.if_icmp .ne 35, 3) := by decide +kernel
theorem dX5_one_46 : decode cX5_one 46 = .ok (.aload_n 0, 1) := by decide +kernel
theorem dX5_one_47 : decode cX5_one 47 = .ok (.invokevirtual 88, 3) := by decide +kernel
theorem dX5_one_50 : decode cX5_one 50 = .ok (.aload_n 0, 1) := by decide +kernel
theorem dX5_one_51 : decode cX5_one 51 = .ok (.iload_n 1, 1) := by decide +kernel
theorem dX5_one_52 : decode cX5_one 52 = .ok (.iconst 1, 1) := by decide +kernel
theorem dX5_one_53 : decode cX5_one 53 = .ok (.iadd, 1) := by decide +kernel
theorem dX5_one_54 : decode cX5_one 54 = .ok (.invokevirtual 105, 3) := by decide +kernel
theorem dX5_one_57 : decode cX5_one 57 = .ok (.astore_n 2, 1) := by decide +kernel
theorem dX5_one_58 : decode cX5_one 58 = .ok (.aload_n 0, 1) := by decide +kernel
theorem dX5_one_59 : decode cX5_one 59 = .ok (.getfield 48, 3) := by decide +kernel
theorem dX5_one_62 : decode cX5_one 62 = .ok (.bipush 41, 2) := by decide +kernel
theorem dX5_one_64 : decode cX5_one 64 = .ok (.if_icmp .eq 8, 3) := by decide +kernel
theorem dX5_one_67 : decode cX5_one 67 = .ok (.aload_n 0, 1) := by decide +kernel
theorem dX5_one_68 : decode cX5_one 68 = .ok (.invokevirtual 101, 3) := by decide +kernel
theorem dX5_one_71 : decode cX5_one 71 = .ok (.athrow, 1) := by decide +kernel
theorem dX5_one_72 : decode cX5_one 72 = .ok (.aload_n 0, 1) := by decide +kernel
theorem dX5_one_73 : decode cX5_one 73 = .ok (.invokevirtual 88, 3) := by decide +kernel
theorem dX5_one_76 : decode cX5_one 76 = .ok (.aload_n 2, 1) := by decide +kernel
theorem dX5_one_77 : decode cX5_one 77 = .ok (.areturn, 1) := by decide +kernel
theorem dX5_one_78 : decode cX5_one 78 = .ok (.aload_n 0, 1) := by decide +kernel
theorem dX5_one_79 : decode cX5_one 79 = .ok (.invokevirtual 168, 3) := by decide +kernel
theorem dX5_one_82 : decode cX5_one 82 = .ok (.astore_n 2, 1) := by decide +kernel
theorem dX5_one_83 : decode cX5_one 83 = .ok (.aload_n 0, 1) := by decide +kernel
theorem dX5_one_84 : decode cX5_one 84 = .ok (.getfield 48, 3) := by decide +kernel
theorem dX5_one_87 : decode cX5_one 87 = .ok (.bipush 60, 2) := by decide +kernel
theorem dX5_one_89 : decode cX5_one 89 = .ok (.if_icmp .eq 23, 3) := by decide +kernel
theorem dX5_one_92 : decode cX5_one 92 = .ok (.aload_n 0, 1) := by decide +kernel
theorem dX5_one_93 : decode cX5_one 93 = .ok (.getfield 48, 3) := by decide +kernel
theorem dX5_one_96 : decode cX5_one 96 = .ok (.bipush 62, 2) := by decide +kernel
theorem dX5_one_98 : decode cX5_one 98 = .ok (.if_icmp .eq 14, 3) := by decide +kernel
theorem dX5_one_101 : decode cX5_one 101 = .ok (.aload_n 0, 1) := by decide +kernel
theorem dX5_one_102 : decode cX5_one 102 = .ok (.getfield 48, 3) := by decide +kernel
theorem dX5_one_105 : decode cX5_one 105 = .ok (.bipush 61, 2) := by decide +kernel
theorem dX5_one_107 : decode cX5_one 107 = .ok (.if_icmp .eq 5, 3) := by decide +kernel
theorem dX5_one_110 : decode cX5_one 110 = .ok (.aload_n 2, 1) := by decide +kernel
theorem dX5_one_111 : decode cX5_one 111 = .ok (.areturn, 1) := by decide +kernel
theorem dX5_one_112 : decode cX5_one 112 = .ok (.aload_n 0, 1) := by decide +kernel
theorem dX5_one_113 : decode cX5_one 113 = .ok (.getfield 48, 3) := by decide +kernel
theorem dX5_one_116 : decode cX5_one 116 = .ok (.istore_n 3, 1) := by decide +kernel
theorem dX5_one_117 : decode cX5_one 117 = .ok (.aload_n 0, 1) := by decide +kernel
theorem dX5_one_118 : decode cX5_one 118 = .ok (.invokevirtual 88, 3) := by decide +kernel
theorem dX5_one_121 : decode cX5_one 121 = .ok (.new 172, 3) := by decide +kernel
theorem dX5_one_124 : decode cX5_one 124 = .ok (.dup, 1) := by decide +kernel
theorem dX5_one_125 : decode cX5_one 125 = .ok (.aload_n 0, 1) := by decide +kernel
theorem dX5_one_126 : decode cX5_one 126 = .ok (.getfield 3, 3) := by decide +kernel
theorem dX5_one_129 : decode cX5_one 129 = .ok (.aload_n 2, 1) := by decide +kernel
theorem dX5_one_130 : decode cX5_one 130 = .ok (.iload_n 3, 1) := by decide +kernel
theorem dX5_one_131 : decode cX5_one 131 = .ok (.aload_n 0, 1) := by decide +kernel
theorem dX5_one_132 : decode cX5_one 132 = .ok (.invokevirtual 168, 3) := by decide +kernel
theorem dX5_one_135 : decode cX5_one 135 = .ok (.invokespecial 174, 3) := by decide +kernel
theorem dX5_one_138 : decode cX5_one 138 = .ok (.areturn, 1) := by decide +kernel
theorem dX5_sum_0 : decode cX5_sum 0 = .ok (.aload_n 0, 1) := by decide +kernel
theorem dX5_sum_1 : decode cX5_sum 1 = .ok (.invokevirtual 177, 3) := by decide +kernel
theorem dX5_sum_4 : decode cX5_sum 4 = .ok (.astore_n 1, 1) := by decide +kernel
theorem dX5_sum_5 : decode cX5_sum 5 = .ok (.aload_n 0, 1) := by decide +kernel
theorem dX5_sum_6 : decode cX5_sum 6 = .ok (.getfield 48, 3) := by decide +kernel
theorem dX5_sum_9 : decode cX5_sum 9 = .ok (.bipush 43, 2) := by decide +kernel
theorem dX5_sum_11 : decode cX5_sum 11 = .ok (.if_icmp .eq 12, 3) := by decide +kernel
theorem dX5_sum_14 : decode cX5_sum 14 = .ok (.aload_n 0, 1) := by decide +kernel
theorem dX5_sum_15 : decode cX5_sum 15 = .ok (.getfield 48, 3) := by decide +kernel
theorem dX5_sum_18 : decode cX5_sum 18 = .ok (.bipush 45, 2) := by decide +kernel
theorem dX5_sum_20 : decode cX5_sum 20 = .ok (.if_icmp .ne 33, 3) := by decide +kernel
theorem dX5_sum_23 : decode cX5_sum 23 = .ok (.aload_n 0, 1) := by decide +kernel
theorem dX5_sum_24 : decode cX5_sum 24 = .ok (.getfield 48, 3) := by decide +kernel
theorem dX5_sum_27 : decode cX5_sum 27 = .ok (.istore_n 2, 1) := by decide +kernel
theorem dX5_sum_28 : decode cX5_sum 28 = .ok (.aload_n 0, 1) := by decide +kernel
theorem dX5_sum_29 : decode cX5_sum 29 = .ok (.invokevirtual 88, 3) := by decide +kernel
theorem dX5_sum_32 : decode cX5_sum 32 = .ok (.new 172, 3) := by decide +kernel
theorem dX5_sum_35 : decode cX5_sum 35 = .ok (.dup, 1) := by decide +kernel
theorem dX5_sum_36 : decode cX5_sum 36 = .ok (.aload_n 0, 1) := by decide +kernel
theorem dX5_sum_37 : decode cX5_sum 37 = .ok (.getfield 3, 3) := by decide +kernel
theorem dX5_sum_40 : decode cX5_sum 40 = .ok (.aload_n 1, 1) := by decide +kernel
theorem dX5_sum_41 : decode cX5_sum 41 = .ok (.iload_n 2, 1) := by decide +kernel
theorem dX5_sum_42 : decode cX5_sum 42 = .ok (.aload_n 0, 1) := by decide +kernel
theorem dX5_sum_43 : decode cX5_sum 43 = .ok (.invokevirtual 177, 3) := by decide +kernel
theorem dX5_sum_46 : decode cX5_sum 46 = .ok (.invokespecial 174, 3) := by decide +kernel
theorem dX5_sum_49 : decode cX5_sum 49 = .ok (.astore_n 1, 1) := by decide +kernel
theorem dX5_sum_50 : decode cX5_sum 50 = .ok (.goto (-45), 3) := by decide +kernel
theorem dX5_sum_53 : decode cX5_sum 53 = .ok (.aload_n 1, 1) := by decide +kernel
theorem dX5_sum_54 : decode cX5_sum 54 = .ok (.areturn, 1) := by decide +kernel
theorem dX5_term_0 : decode cX5_term 0 = .ok (.aload_n 0, 1) := by decide +kernel
theorem dX5_term_1 : decode cX5_term 1 = .ok (.invokevirtual 133, 3) := by decide +kernel
theorem dX5_term_4 : decode cX5_term 4 = .ok (.ifCond .eq 12, 3) := by decide +kernel
theorem dX5_term_7 : decode cX5_term 7 = .ok (.aload_n 0, 1) := by decide +kernel
theorem dX5_term_8 : decode cX5_term 8 = .ok (.getfield 180, 3) := by decide +kernel
theorem dX5_term_11 : decode cX5_term 11 = .ok (.bipush 80, 2) := by decide +kernel
theorem dX5_term_13 : decode cX5_term 13 = .ok (.if_icmp .ne 8, 3) := by decide +kernel
theorem dX5_term_16 : decode cX5_term 16 = .ok (.aload_n 0, 1) := by decide +kernel
theorem dX5_term_17 : decode cX5_term 17 = .ok (.invokevirtual 101, 3) := by decide +kernel
theorem dX5_term_20 : decode cX5_term 20 = .ok (.athrow, 1) := by decide +kernel
theorem dX5_term_21 : decode cX5_term 21 = .ok (.aload_n 0, 1) := by decide +kernel
theorem dX5_term_22 : decode cX5_term 22 = .ok (.dup, 1) := by decide +kernel
theorem dX5_term_23 : decode cX5_term 23 = .ok (.getfield 180, 3) := by decide +kernel
theorem dX5_term_26 : decode cX5_term 26 = .ok (.iconst 1, 1) := by decide +kernel
theorem dX5_term_27 : decode cX5_term 27 = .ok (.iadd, 1) := by decide +kernel
theorem dX5_term_28 : decode cX5_term 28 = .ok (.putfield 180, 3) := by decide +kernel
theorem dX5_term_31 : decode cX5_term 31 = .ok (.aload_n 0, 1) := by decide +kernel
theorem dX5_term_32 : decode cX5_term 32 = .ok (.getfield 48, 3) := by decide +kernel
theorem dX5_term_35 : decode cX5_term 35 = .ok (.iconst 2, 1) := by decide +kernel
theorem dX5_term_36 : decode cX5_term 36 = .ok (.if_icmp .ne 21, 3) := by decide +kernel
theorem dX5_term_39 : decode cX5_term 39 = .ok (.new 183, 3) := by decide +kernel
theorem dX5_term_42 : decode cX5_term 42 = .ok (.dup, 1) := by decide +kernel
theorem dX5_term_43 : decode cX5_term 43 = .ok (.aload_n 0, 1) := by decide +kernel
theorem dX5_term_44 : decode cX5_term 44 = .ok (.getfield 3, 3) := by decide +kernel
theorem dX5_term_47 : decode cX5_term 47 = .ok (.aload_n 0, 1) := by decide +kernel
theorem dX5_term_48 : decode cX5_term 48 = .ok (.getfield 69, 3) := by decide +kernel
theorem dX5_term_51 : decode cX5_term 51 = .ok (.invokespecial 185, 3) := by decide +kernel
theorem dX5_term_54 : decode cX5_term 54 = .ok (.goto 21, 3) := by decide +kernel
theorem dX5_term_57 : decode cX5_term 57 = .ok (.new 188, 3) := by decide +kernel
theorem dX5_term_60 : decode cX5_term 60 = .ok (.dup, 1) := by decide +kernel
theorem dX5_term_61 : decode cX5_term 61 = .ok (.aload_n 0, 1) := by decide +kernel
theorem dX5_term_62 : decode cX5_term 62 = .ok (.getfield 3, 3) := by decide +kernel
theorem dX5_term_65 : decode cX5_term 65 = .ok (.aload_n 0, 1) := by decide +kernel
theorem dX5_term_66 : decode cX5_term 66 = .ok (.getfield 17, 3) := by decide +kernel
theorem dX5_term_69 : decode cX5_term 69 = .ok (.invokestatic 127, 3) := by decide +kernel
theorem dX5_term_72 : decode cX5_term 72 = .ok (.invokespecial 190, 3) := by decide +kernel
theorem dX5_term_75 : decode cX5_term 75 = .ok (.astore_n 1, 1) := by decide +kernel
theorem dX5_term_76 : decode cX5_term 76 = .ok (.aload_n 0, 1) := by decide +kernel
theorem dX5_term_77 : decode cX5_term 77 = .ok (.invokevirtual 88, 3) := by decide +kernel
theorem dX5_term_80 : decode cX5_term 80 = .ok (.aload_n 1, 1) := by decide +kernel
theorem dX5_term_81 : decode cX5_term 81 = .ok (.areturn, 1) := by decide +kernel
theorem dX6_init_0 : decode cX6_init 0 = .ok (.aload_n 0, 1) := by decide +kernel
theorem dX6_init_1 : decode cX6_init 1 = .ok (.aconst_null, 1) := by decide +kernel
theorem dX6_init_2 : decode cX6_init 2 = .ok (.aconst_null, 1) := by decide +kernel
theorem dX6_init_3 : decode cX6_init 3 = .ok (.iconst 0, 1) := by decide +kernel
theorem dX6_init_4 : decode cX6_init 4 = .ok (.iconst 0, 1) := by decide +kernel
theorem dX6_init_5 : decode cX6_init 5 = .ok (.invokespecial 1, 3) := by decide +kernel
theorem dX6_init_8 : decode cX6_init 8 = .ok (.aload_n 0, 1) := by decide +kernel
theorem dX6_init_9 : decode cX6_init 9 = .ok (.iload_n 1, 1) := by decide +kernel
theorem dX6_init_10 : decode cX6_init 10 = .ok (.putfield 7, 3) := by decide +kernel
theorem dX6_init_13 : decode cX6_init 13 = .ok (.aload_n 0, 1) := by decide +kernel
theorem dX6_init_14 : decode cX6_init 14 = .ok (.iload_n 2, 1) := by decide +kernel
theorem dX6_init_15 : decode cX6_init 15 = .ok (.putfield 13, 3) := by decide +kernel
theorem dX6_init_18 : decode cX6_init 18 = .ok (.return_, 1) := by decide +kernel
theorem dX7_init_0 : decode cX7_init 0 = .ok (.aload_n 0, 1) := by decide +kernel
theorem dX7_init_1 : decode cX7_init 1 = .ok (.aload_n 1, 1) := by decide +kernel
theorem dX7_init_2 : decode cX7_init 2 = .ok (.putfield 1, 3) := by decide +kernel
theorem dX7_init_5 : decode cX7_init 5 = .ok (.aload_n 0, 1) := by decide +kernel
theorem dX7_init_6 : decode cX7_init 6 = .ok (.invokespecial 7, 3) := by decide +kernel
theorem dX7_init_9 : decode cX7_init 9 = .ok (.return_, 1) := by decide +kernel
theorem dX8_init_0 : decode cX8_init 0 = .ok (.aload_n 0, 1) := by decide +kernel
theorem dX8_init_1 : decode cX8_init 1 = .ok (.aload_n 1, 1) := by decide +kernel
theorem dX8_init_2 : decode cX8_init 2 = .ok (.putfield 1, 3) := by decide +kernel
theorem dX8_init_5 : decode cX8_init 5 = .ok (.aload_n 0, 1) := by decide +kernel
theorem dX8_init_6 : decode cX8_init 6 = .ok (.aload_n 1, 1) := by decide +kernel
theorem dX8_init_7 : decode cX8_init 7 = .ok (.invokespecial 7, 3) := by decide +kernel
theorem dX8_init_10 : decode cX8_init 10 = .ok (.aload_n 0, 1) := by decide +kernel
theorem dX8_init_11 : decode cX8_init 11 = .ok (.aload_n 2, 1) := by decide +kernel
theorem dX8_init_12 : decode cX8_init 12 = .ok (.putfield 13, 3) := by decide +kernel
theorem dX8_init_15 : decode cX8_init 15 = .ok (.return_, 1) := by decide +kernel
theorem dX8_of_0 : decode cX8_of 0 = .ok (.aload_n 0, 1) := by decide +kernel
theorem dX8_of_1 : decode cX8_of 1 = .ok (.getfield 13, 3) := by decide +kernel
theorem dX8_of_4 : decode cX8_of 4 = .ok (.aload_n 1, 1) := by decide +kernel
theorem dX8_of_5 : decode cX8_of 5 = .ok (.invokevirtual 17, 3) := by decide +kernel
theorem dX8_of_8 : decode cX8_of 8 = .ok (.ifCond .ne 7, 3) := by decide +kernel
theorem dX8_of_11 : decode cX8_of 11 = .ok (.iconst 1, 1) := by decide +kernel
theorem dX8_of_12 : decode cX8_of 12 = .ok (.goto 4, 3) := by decide +kernel
theorem dX8_of_15 : decode cX8_of 15 = .ok (.iconst 0, 1) := by decide +kernel
theorem dX8_of_16 : decode cX8_of 16 = .ok (.ireturn, 1) := by decide +kernel
theorem dX9_init_0 : decode cX9_init 0 = .ok (.aload_n 0, 1) := by decide +kernel
theorem dX9_init_1 : decode cX9_init 1 = .ok (.aload_n 1, 1) := by decide +kernel
theorem dX9_init_2 : decode cX9_init 2 = .ok (.putfield 1, 3) := by decide +kernel
theorem dX9_init_5 : decode cX9_init 5 = .ok (.aload_n 0, 1) := by decide +kernel
theorem dX9_init_6 : decode cX9_init 6 = .ok (.aload_n 1, 1) := by decide +kernel
theorem dX9_init_7 : decode cX9_init 7 = .ok (.invokespecial 7, 3) := by decide +kernel
theorem dX9_init_10 : decode cX9_init 10 = .ok (.aload_n 0, 1) := by decide +kernel
theorem dX9_init_11 : decode cX9_init 11 = .ok (.iload_n 2, 1) := by decide +kernel
theorem dX9_init_12 : decode cX9_init 12 = .ok (.putfield 13, 3) := by decide +kernel
theorem dX9_init_15 : decode cX9_init 15 = .ok (.return_, 1) := by decide +kernel
theorem dX9_of_0 : decode cX9_of 0 = .ok (.aload_n 0, 1) := by decide +kernel
theorem dX9_of_1 : decode cX9_of 1 = .ok (.getfield 13, 3) := by decide +kernel
theorem dX9_of_4 : decode cX9_of 4 = .ok (.ireturn, 1) := by decide +kernel
