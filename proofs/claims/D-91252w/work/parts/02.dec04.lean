set_option maxRecDepth 100000
theorem dX0_swap_2_127 : decode cX0_swap_2 127 = .ok (.iinc 4 1, 3) := by decide +kernel
theorem dX0_swap_2_130 : decode cX0_swap_2 130 = .ok (.goto (-102), 3) := by decide +kernel
theorem dX0_swap_2_133 : decode cX0_swap_2 133 = .ok (.iload_n 3, 1) := by decide +kernel
theorem dX0_swap_2_134 : decode cX0_swap_2 134 = .ok (.ireturn, 1) := by decide +kernel
theorem dX0_about_0 : decode cX0_about 0 = .ok (.iload_n 1, 1) := by decide +kernel
theorem dX0_about_1 : decode cX0_about 1 = .ok (.tableswitch 90 0 7 #[47, 52, 57, 62, 67, 75, 80, 85], 47) := by decide +kernel
theorem dX0_about_48 : decode cX0_about 48 = .ok (.aload_n 0, 1) := by decide +kernel
theorem dX0_about_49 : decode cX0_about 49 = .ok (.getfield 92, 3) := by decide +kernel
theorem dX0_about_52 : decode cX0_about 52 = .ok (.ireturn, 1) := by decide +kernel
theorem dX0_about_53 : decode cX0_about 53 = .ok (.aload_n 0, 1) := by decide +kernel
theorem dX0_about_54 : decode cX0_about 54 = .ok (.getfield 95, 3) := by decide +kernel
theorem dX0_about_57 : decode cX0_about 57 = .ok (.ireturn, 1) := by decide +kernel
theorem dX0_about_58 : decode cX0_about 58 = .ok (.aload_n 0, 1) := by decide +kernel
theorem dX0_about_59 : decode cX0_about 59 = .ok (.getfield 116, 3) := by decide +kernel
theorem dX0_about_62 : decode cX0_about 62 = .ok (.ireturn, 1) := by decide +kernel
theorem dX0_about_63 : decode cX0_about 63 = .ok (.aload_n 0, 1) := by decide +kernel
theorem dX0_about_64 : decode cX0_about 64 = .ok (.getfield 122, 3) := by decide +kernel
theorem dX0_about_67 : decode cX0_about 67 = .ok (.ireturn, 1) := by decide +kernel
theorem dX0_about_68 : decode cX0_about 68 = .ok (.aload_n 0, 1) := by decide +kernel
theorem dX0_about_69 : decode cX0_about 69 = .ok (.getfield 22, 3) := by decide +kernel
theorem dX0_about_72 : decode cX0_about 72 = .ok (.invokevirtual 189, 3) := by decide +kernel
theorem dX0_about_75 : decode cX0_about 75 = .ok (.ireturn, 1) := by decide +kernel
theorem dX0_about_76 : decode cX0_about 76 = .ok (.aload_n 0, 1) := by decide +kernel
theorem dX0_about_77 : decode cX0_about 77 = .ok (.getfield 201, 3) := by decide +kernel
theorem dX0_about_80 : decode cX0_about 80 = .ok (.ireturn, 1) := by decide +kernel
theorem dX0_about_81 : decode cX0_about 81 = .ok (.aload_n 0, 1) := by decide +kernel
theorem dX0_about_82 : decode cX0_about 82 = .ok (.getfield 271, 3) := by decide +kernel
theorem dX0_about_85 : decode cX0_about 85 = .ok (.ireturn, 1) := by decide +kernel
theorem dX0_about_86 : decode cX0_about 86 = .ok (.aload_n 0, 1) := by decide +kernel
theorem dX0_about_87 : decode cX0_about 87 = .ok (.getfield 176, 3) := by decide +kernel
theorem dX0_about_90 : decode cX0_about 90 = .ok (.ireturn, 1) := by decide +kernel
theorem dX0_about_91 : decode cX0_about 91 = .ok (.iconst (-1), 1) := by decide +kernel
theorem dX0_about_92 : decode cX0_about 92 = .ok (.ireturn, 1) := by decide +kernel
theorem dX1_init_0 : decode cX1_init 0 = .ok (.aload_n 0, 1) := by decide +kernel
theorem dX1_init_1 : decode cX1_init 1 = .ok (.aload_n 1, 1) := by decide +kernel
theorem dX1_init_2 : decode cX1_init 2 = .ok (.putfield 1, 3) := by decide +kernel
theorem dX1_init_5 : decode cX1_init 5 = .ok (.aload_n 0, 1) := by decide +kernel
theorem dX1_init_6 : decode cX1_init 6 = .ok (.invokespecial 7, 3) := by decide +kernel
theorem dX1_init_9 : decode cX1_init 9 = .ok (.return_, 1) := by decide +kernel
theorem dX10_init_0 : decode cX10_init 0 = .ok (.aload_n 0, 1) := by decide +kernel
theorem dX10_init_1 : decode cX10_init 1 = .ok (.aload_n 1, 1) := by decide +kernel
theorem dX10_init_2 : decode cX10_init 2 = .ok (.putfield 1, 3) := by decide +kernel
theorem dX10_init_5 : decode cX10_init 5 = .ok (.aload_n 0, 1) := by decide +kernel
theorem dX10_init_6 : decode cX10_init 6 = .ok (.aload_n 1, 1) := by decide +kernel
theorem dX10_init_7 : decode cX10_init 7 = .ok (.invokespecial 7, 3) := by decide +kernel
theorem dX10_init_10 : decode cX10_init 10 = .ok (.aload_n 0, 1) := by decide +kernel
theorem dX10_init_11 : decode cX10_init 11 = .ok (.aload_n 2, 1) := by decide +kernel
theorem dX10_init_12 : decode cX10_init 12 = .ok (.putfield 13, 3) := by decide +kernel
theorem dX10_init_15 : decode cX10_init 15 = .ok (.return_, 1) := by decide +kernel
theorem dX10_of_0 : decode cX10_of 0 = .ok (.aload_n 0, 1) := by decide +kernel
theorem dX10_of_1 : decode cX10_of 1 = .ok (.getfield 13, 3) := by decide +kernel
theorem dX10_of_4 : decode cX10_of 4 = .ok (.aload_n 0, 1) := by decide +kernel
theorem dX10_of_5 : decode cX10_of 5 = .ok (.getfield 1, 3) := by decide +kernel
theorem dX10_of_8 : decode cX10_of 8 = .ok (.aload_n 1, 1) := by decide +kernel
theorem dX10_of_9 : decode cX10_of 9 = .ok (.invokevirtual 17, 3) := by decide +kernel
theorem dX10_of_12 : decode cX10_of 12 = .ok (.ireturn, 1) := by decide +kernel
theorem dX11_init_0 : decode cX11_init 0 = .ok (.aload_n 0, 1) := by decide +kernel
theorem dX11_init_1 : decode cX11_init 1 = .ok (.aload_n 1, 1) := by decide +kernel
theorem dX11_init_2 : decode cX11_init 2 = .ok (.putfield 1, 3) := by decide +kernel
theorem dX11_init_5 : decode cX11_init 5 = .ok (.aload_n 0, 1) := by decide +kernel
theorem dX11_init_6 : decode cX11_init 6 = .ok (.aload_n 1, 1) := by decide +kernel
theorem dX11_init_7 : decode cX11_init 7 = .ok (.invokespecial 7, 3) := by decide +kernel
theorem dX11_init_10 : decode cX11_init 10 = .ok (.aload_n 0, 1) := by decide +kernel
theorem dX11_init_11 : decode cX11_init 11 = .ok (.aload_n 2, 1) := by decide +kernel
theorem dX11_init_12 : decode cX11_init 12 = .ok (.putfield 13, 3) := by decide +kernel
theorem dX11_init_15 : decode cX11_init 15 = .ok (.aload_n 0, 1) := by decide +kernel
theorem dX11_init_16 : decode cX11_init 16 = .ok (.iload_n 3, 1) := by decide +kernel
theorem dX11_init_17 : decode cX11_init 17 = .ok (.putfield 17, 3) := by decide +kernel
theorem dX11_init_20 : decode cX11_init 20 = .ok (.aload_n 0, 1) := by decide +kernel
theorem dX11_init_21 : decode cX11_init 21 = .ok (.aload 4, 2) := by decide +kernel
theorem dX11_init_23 : decode cX11_init 23 = .ok (.putfield 21, 3) := by decide +kernel
theorem dX11_init_26 : decode cX11_init 26 = .ok (.return_, 1) := by decide +kernel
theorem dX11_of_0 : decode cX11_of 0 = .ok (.aload_n 0, 1) := by decide +kernel
theorem dX11_of_1 : decode cX11_of 1 = .ok (.getfield 13, 3) := by decide +kernel
theorem dX11_of_4 : decode cX11_of 4 = .ok (.aload_n 1, 1) := by decide +kernel
theorem dX11_of_5 : decode cX11_of 5 = .ok (.invokevirtual 24, 3) := by decide +kernel
theorem dX11_of_8 : decode cX11_of 8 = .ok (.istore_n 2, 1) := by decide +kernel
theorem dX11_of_9 : decode cX11_of 9 = .ok (.aload_n 0, 1) := by decide +kernel
theorem dX11_of_10 : decode cX11_of 10 = .ok (.getfield 21, 3) := by decide +kernel
theorem dX11_of_13 : decode cX11_of 13 = .ok (.aload_n 1, 1) := by decide +kernel
theorem dX11_of_14 : decode cX11_of 14 = .ok (.invokevirtual 24, 3) := by decide +kernel
theorem dX11_of_17 : decode cX11_of 17 = .ok (.istore_n 3, 1) := by decide +kernel
theorem dX11_of_18 : decode cX11_of 18 = .ok (.aload_n 0, 1) := by decide +kernel
theorem dX11_of_19 : decode cX11_of 19 = .ok (.getfield 17, 3) := by decide +kernel
theorem dX11_of_22 : decode cX11_of 22 = .ok (.lookupswitch 72 #[(43, 42), (45, 46), (60, 50), (62, 61)], 42) := by decide +kernel
theorem dX11_of_64 : decode cX11_of 64 = .ok (.iload_n 2, 1) := by decide +kernel
theorem dX11_of_65 : decode cX11_of 65 = .ok (.iload_n 3, 1) := by decide +kernel
theorem dX11_of_66 : decode cX11_of 66 = .ok (.iadd, 1) := by decide +kernel
theorem dX11_of_67 : decode cX11_of 67 = .ok (.ireturn, 1) := by decide +kernel
theorem dX11_of_68 : decode cX11_of 68 = .ok (.iload_n 2, 1) := by decide +kernel
theorem dX11_of_69 : decode cX11_of 69 = .ok (.iload_n 3, 1) := by decide +kernel
theorem dX11_of_70 : decode cX11_of 70 = .ok (.isub, 1) := by decide +kernel
theorem dX11_of_71 : decode cX11_of 71 = .ok (.ireturn, 1) := by decide +kernel
theorem dX11_of_72 : decode cX11_of 72 = .ok (.iload_n 2, 1) := by decide +kernel
theorem dX11_of_73 : decode cX11_of 73 = .ok (.iload_n 3, 1) := by decide +kernel
theorem dX11_of_74 : decode cX11_of 74 = .ok (.if_icmp .ge 7, 3) := by decide +kernel
theorem dX11_of_77 : decode cX11_of 77 = .ok (.iconst 1, 1) := by decide +kernel
theorem dX11_of_78 : decode cX11_of 78 = .ok (.goto 4, 3) := by decide +kernel
theorem dX11_of_81 : decode cX11_of 81 = .ok (.iconst 0, 1) := by decide +kernel
theorem dX11_of_82 : decode cX11_of 82 = .ok (.ireturn, 1) := by decide +kernel
theorem dX11_of_83 : decode cX11_of 83 = .ok (.iload_n 2, 1) := by decide +kernel
theorem dX11_of_84 : decode cX11_of 84 = .ok (.iload_n 3, 1) := by decide +kernel
theorem dX11_of_85 : decode cX11_of 85 = .ok (.if_icmp .le 7, 3) := by decide +kernel
theorem dX11_of_88 : decode cX11_of 88 = .ok (.iconst 1, 1) := by decide +kernel
theorem dX11_of_89 : decode cX11_of 89 = .ok (.goto 4, 3) := by decide +kernel
theorem dX11_of_92 : decode cX11_of 92 = .ok (.iconst 0, 1) := by decide +kernel
theorem dX11_of_93 : decode cX11_of 93 = .ok (.ireturn, 1) := by decide +kernel
theorem dX11_of_94 : decode cX11_of 94 = .ok (.iload_n 2, 1) := by decide +kernel
theorem dX11_of_95 : decode cX11_of 95 = .ok (.iload_n 3, 1) := by decide +kernel
theorem dX11_of_96 : decode cX11_of 96 = .ok (.if_icmp .ne 7, 3) := by decide +kernel
theorem dX11_of_99 : decode cX11_of 99 = .ok (.iconst 1, 1) := by decide +kernel
theorem dX11_of_100 : decode cX11_of 100 = .ok (.goto 4, 3) := by decide +kernel
theorem dX11_of_103 : decode cX11_of 103 = .ok (.iconst 0, 1) := by decide +kernel
theorem dX11_of_104 : decode cX11_of 104 = .ok (.ireturn, 1) := by decide +kernel
theorem dX12_init_0 : decode cX12_init 0 = .ok (.aload_n 0, 1) := by decide +kernel
theorem dX12_init_1 : decode cX12_init 1 = .ok (.aload_n 1, 1) := by decide +kernel
theorem dX12_init_2 : decode cX12_init 2 = .ok (.putfield 1, 3) := by decide +kernel
theorem dX12_init_5 : decode cX12_init 5 = .ok (.aload_n 0, 1) := by decide +kernel
theorem dX12_init_6 : decode cX12_init 6 = .ok (.aload_n 1, 1) := by decide +kernel
theorem dX12_init_7 : decode cX12_init 7 = .ok (.invokespecial 7, 3) := by decide +kernel
theorem dX12_init_10 : decode cX12_init 10 = .ok (.aload_n 0, 1) := by decide +kernel
theorem dX12_init_11 : decode cX12_init 11 = .ok (.aload_n 2, 1) := by decide +kernel
theorem dX12_init_12 : decode cX12_init 12 = .ok (.putfield 13, 3) := by decide +kernel
theorem dX12_init_15 : decode cX12_init 15 = .ok (.aload_n 0, 1) := by decide +kernel
theorem dX12_init_16 : decode cX12_init 16 = .ok (.iload_n 3, 1) := by decide +kernel
theorem dX12_init_17 : decode cX12_init 17 = .ok (.putfield 17, 3) := by decide +kernel
theorem dX12_init_20 : decode cX12_init 20 = .ok (.return_, 1) := by decide +kernel
theorem dX12_of_0 : decode cX12_of 0 = .ok (.aload_n 0, 1) := by decide +kernel
theorem dX12_of_1 : decode cX12_of 1 = .ok (.getfield 17, 3) := by decide +kernel
theorem dX12_of_4 : decode cX12_of 4 = .ok (.istore_n 2, 1) := by decide +kernel
theorem dX12_of_5 : decode cX12_of 5 = .ok (.iconst 0, 1) := by decide +kernel
theorem dX12_of_6 : decode cX12_of 6 = .ok (.istore_n 3, 1) := by decide +kernel
theorem dX12_of_7 : decode cX12_of 7 = .ok (.iload_n 3, 1) := by decide +kernel
theorem dX12_of_8 : decode cX12_of 8 = .ok (.aload_n 0, 1) := by decide +kernel
theorem dX12_of_9 : decode cX12_of 9 = .ok (.getfield 13, 3) := by decide +kernel
theorem dX12_of_12 : decode cX12_of 12 = .ok (.invokevirtual 21, 3) := by decide +kernel
theorem dX12_of_15 : decode cX12_of 15 = .ok (.if_icmp .ge 41, 3) := by decide +kernel
theorem dX12_of_18 : decode cX12_of 18 = .ok (.iload_n 2, 1) := by decide +kernel
theorem dX12_of_19 : decode cX12_of 19 = .ok (.aload_n 0, 1) := by decide +kernel
theorem dX12_of_20 : decode cX12_of 20 = .ok (.getfield 17, 3) := by decide +kernel
theorem dX12_of_23 : decode cX12_of 23 = .ok (.if_icmp .ne 33, 3) := by decide +kernel
theorem dX12_of_26 : decode cX12_of 26 = .ok (.aload_n 0, 1) := by decide +kernel
theorem dX12_of_27 : decode cX12_of 27 = .ok (.getfield 13, 3) := by decide +kernel
theorem dX12_of_30 : decode cX12_of 30 = .ok (.iload_n 3, 1) := by decide +kernel
theorem dX12_of_31 : decode cX12_of 31 = .ok (.invokevirtual 27, 3) := by decide +kernel
theorem dX12_of_34 : decode cX12_of 34 = .ok (.checkcast 8, 3) := by decide +kernel
theorem dX12_of_37 : decode cX12_of 37 = .ok (.aload_n 1, 1) := by decide +kernel
theorem dX12_of_38 : decode cX12_of 38 = .ok (.invokevirtual 31, 3) := by decide +kernel
theorem dX12_of_41 : decode cX12_of 41 = .ok (.ifCond .eq 7, 3) := by decide +kernel
theorem dX12_of_44 : decode cX12_of 44 = .ok (.iconst 1, 1) := by decide +kernel
theorem dX12_of_45 : decode cX12_of 45 = .ok (.goto 4, 3) := by decide +kernel
theorem dX12_of_48 : decode cX12_of 48 = .ok (.iconst 0, 1) := by decide +kernel
theorem dX12_of_49 : decode cX12_of 49 = .ok (.istore_n 2, 1) := by decide +kernel
theorem dX12_of_50 : decode cX12_of 50 = .ok (.iinc 3 1, 3) := by decide +kernel
theorem dX12_of_53 : decode cX12_of 53 = .ok (.goto (-46), 3) := by decide +kernel
theorem dX12_of_56 : decode cX12_of 56 = .ok (.iload_n 2, 1) := by decide +kernel
theorem dX12_of_57 : decode cX12_of 57 = .ok (.ifCond .eq 7, 3) := by decide +kernel
theorem dX12_of_60 : decode cX12_of 60 = .ok (.iconst 1, 1) := by decide +kernel
theorem dX12_of_61 : decode cX12_of 61 = .ok (.goto 4, 3) := by decide +kernel
theorem dX12_of_64 : decode cX12_of 64 = .ok (.iconst 0, 1) := by decide +kernel
theorem dX12_of_65 : decode cX12_of 65 = .ok (.ireturn, 1) := by decide +kernel
theorem dX13_init_0 : decode cX13_init 0 = .ok (.aload_n 0, 1) := by decide +kernel
theorem dX13_init_1 : decode cX13_init 1 = .ok (.invokespecial 1, 3) := by decide +kernel
theorem dX13_init_4 : decode cX13_init 4 = .ok (.aload_n 0, 1) := by decide +kernel
theorem dX13_init_5 : decode cX13_init 5 = .ok (.aload_n 1, 1) := by decide +kernel
theorem dX13_init_6 : decode cX13_init 6 = .ok (.putfield 7, 3) := by decide +kernel
theorem dX13_init_9 : decode cX13_init 9 = .ok (.aload_n 0, 1) := by decide +kernel
theorem dX13_init_10 : decode cX13_init 10 = .ok (.iload_n 2, 1) := by decide +kernel
theorem dX13_init_11 : decode cX13_init 11 = .ok (.putfield 13, 3) := by decide +kernel
theorem dX13_init_14 : decode cX13_init 14 = .ok (.aload_n 0, 1) := by decide +kernel
theorem dX13_init_15 : decode cX13_init 15 = .ok (.iload_n 3, 1) := by decide +kernel
theorem dX13_init_16 : decode cX13_init 16 = .ok (.putfield 17, 3) := by decide +kernel
theorem dX13_init_19 : decode cX13_init 19 = .ok (.return_, 1) := by decide +kernel
theorem dX14_of_0 : decode cX14_of 0 = .ok (.aload_n 2, 1) := by decide +kernel
theorem dX14_of_1 : decode cX14_of 1 = .ok (.getfield 7, 3) := by decide +kernel
theorem dX14_of_4 : decode cX14_of 4 = .ok (.getfield 13, 3) := by decide +kernel
theorem dX14_of_7 : decode cX14_of 7 = .ok (.iconst 1, 1) := by decide +kernel
theorem dX14_of_8 : decode cX14_of 8 = .ok (.if_icmp .ne 7, 3) := by decide +kernel
theorem dX14_of_11 : decode cX14_of 11 = .ok (.lconst 1, 1) := by decide +kernel
theorem dX14_of_12 : decode cX14_of 12 = .ok (.goto 4, 3) := by decide +kernel
theorem dX14_of_15 : decode cX14_of 15 = .ok (.lconst 0, 1) := by decide +kernel
theorem dX14_of_16 : decode cX14_of 16 = .ok (.lreturn, 1) := by decide +kernel
theorem dX15_of_0 : decode cX15_of 0 = .ok (.aload_n 2, 1) := by decide +kernel
theorem dX15_of_1 : decode cX15_of 1 = .ok (.getfield 7, 3) := by decide +kernel
theorem dX15_of_4 : decode cX15_of 4 = .ok (.getfield 13, 3) := by decide +kernel
theorem dX15_of_7 : decode cX15_of 7 = .ok (.iconst 2, 1) := by decide +kernel
theorem dX15_of_8 : decode cX15_of 8 = .ok (.if_icmp .ne 7, 3) := by decide +kernel
theorem dX15_of_11 : decode cX15_of 11 = .ok (.lconst 1, 1) := by decide +kernel
theorem dX15_of_12 : decode cX15_of 12 = .ok (.goto 4, 3) := by decide +kernel
theorem dX15_of_15 : decode cX15_of 15 = .ok (.lconst 0, 1) := by decide +kernel
theorem dX15_of_16 : decode cX15_of 16 = .ok (.lreturn, 1) := by decide +kernel
theorem dX16_of_0 : decode cX16_of 0 = .ok (.aload_n 2, 1) := by decide +kernel
theorem dX16_of_1 : decode cX16_of 1 = .ok (.getfield 9, 3) := by decide +kernel
theorem dX16_of_4 : decode cX16_of 4 = .ok (.getfield 15, 3) := by decide +kernel
theorem dX16_of_7 : decode cX16_of 7 = .ok (.sipush 365, 3) := by decide +kernel
theorem dX16_of_10 : decode cX16_of 10 = .ok (.idiv, 1) := by decide +kernel
theorem dX16_of_11 : decode cX16_of 11 = .ok (.i2l, 1) := by decide +kernel
theorem dX16_of_12 : decode cX16_of 12 = .ok (.lreturn, 1) := by decide +kernel
theorem dX17_of_0 : decode cX17_of 0 = .ok (.aload_n 1, 1) := by decide +kernel
theorem dX17_of_1 : decode cX17_of 1 = .ok (.aload_n 2, 1) := by decide +kernel
theorem dX17_of_2 : decode cX17_of 2 = .ok (.getfield 9, 3) := by decide +kernel
theorem dX17_of_5 : decode cX17_of 5 = .ok (.getfield 15, 3) := by decide +kernel
theorem dX17_of_8 : decode cX17_of 8 = .ok (.aload_n 2, 1) := by decide +kernel
theorem dX17_of_9 : decode cX17_of 9 = .ok (.getfield 9, 3) := by decide +kernel
theorem dX17_of_12 : decode cX17_of 12 = .ok (.getfield 21, 3) := by decide +kernel
theorem dX17_of_15 : decode cX17_of 15 = .ok (.sipush 365, 3) := by decide +kernel
theorem dX17_of_18 : decode cX17_of 18 = .ok (.idiv, 1) := by decide +kernel
theorem dX17_of_19 : decode cX17_of 19 = .ok (.bipush 99, 2) := by decide +kernel
theorem dX17_of_21 : decode cX17_of 21 = .ok (.invokevirtual 24, 3) := by decide +kernel
theorem dX17_of_24 : decode cX17_of 24 = .ok (.lreturn, 1) := by decide +kernel
theorem dX18_of_0 : decode cX18_of 0 = .ok (.aload_n 1, 1) := by decide +kernel
theorem dX18_of_1 : decode cX18_of 1 = .ok (.aload_n 2, 1) := by decide +kernel
theorem dX18_of_2 : decode cX18_of 2 = .ok (.getfield 7, 3) := by decide +kernel
theorem dX18_of_5 : decode cX18_of 5 = .ok (.getfield 13, 3) := by decide +kernel
theorem dX18_of_8 : decode cX18_of 8 = .ok (.aload_n 2, 1) := by decide +kernel
theorem dX18_of_9 : decode cX18_of 9 = .ok (.getfield 19, 3) := by decide +kernel
theorem dX18_of_12 : decode cX18_of 12 = .ok (.invokevirtual 22, 3) := by decide +kernel
theorem dX18_of_15 : decode cX18_of 15 = .ok (.ifCond .eq 7, 3) := by decide +kernel
theorem dX18_of_18 : decode cX18_of 18 = .ok (.lconst 1, 1) := by decide +kernel
theorem dX18_of_19 : decode cX18_of 19 = .ok (.goto 4, 3) := by decide +kernel
theorem dX18_of_22 : decode cX18_of 22 = .ok (.lconst 0, 1) := by decide +kernel
theorem dX18_of_23 : decode cX18_of 23 = .ok (.lreturn, 1) := by decide +kernel
theorem dX19_of_0 : decode cX19_of 0 = .ok (.aload_n 1, 1) := by decide +kernel
theorem dX19_of_1 : decode cX19_of 1 = .ok (.getfield 7, 3) := by decide +kernel
theorem dX19_of_4 : decode cX19_of 4 = .ok (.aload_n 2, 1) := by decide +kernel
theorem dX19_of_5 : decode cX19_of 5 = .ok (.getfield 13, 3) := by decide +kernel
theorem dX19_of_8 : decode cX19_of 8 = .ok (.getfield 19, 3) := by decide +kernel
theorem dX19_of_11 : decode cX19_of 11 = .ok (.iaload, 1) := by decide +kernel
theorem dX19_of_12 : decode cX19_of 12 = .ok (.i2l, 1) := by decide +kernel
theorem dX19_of_13 : decode cX19_of 13 = .ok (.lreturn, 1) := by decide +kernel
theorem dX2_values_0 : decode cX2_values 0 = .ok (.getstatic 31, 3) := by decide +kernel
theorem dX2_values_3 : decode cX2_values 3 = .ok (.invokevirtual 35, 3) := by decide +kernel
theorem dX2_values_6 : decode cX2_values 6 = .ok (.checkcast 36, 3) := by decide +kernel
theorem dX2_values_9 : decode cX2_values 9 = .ok (.areturn, 1) := by decide +kernel
theorem dX2_find_0 : decode cX2_find 0 = .ok (.aload_n 0, 1) := by decide +kernel
theorem dX2_find_1 : decode cX2_find 1 = .ok (.astore_n 1, 1) := by decide +kernel
theorem dX2_find_2 : decode cX2_find 2 = .ok (.iconst (-1), 1) := by decide +kernel
theorem dX2_find_3 : decode cX2_find 3 = .ok (.istore_n 2, 1) := by decide +kernel
theorem dX2_find_4 : decode cX2_find 4 = .ok (.aload_n 1, 1) := by decide +kernel
theorem dX2_find_5 : decode cX2_find 5 = .ok (.invokevirtual 64, 3) := by decide +kernel
theorem dX2_find_8 : decode cX2_find 8 = .ok (.lookupswitch 210 #[(-1268788519, 84), (3079268, 198), (3198773, 154), (3704893, 140), (98367357, 98), (99044836, 168), (102984967, 183), (106934601, 112), (113319054, 126)], 84) := by decide +kernel
theorem dX2_find_92 : decode cX2_find 92 = .ok (.aload_n 1, 1) := by decide +kernel
theorem dX2_find_93 : decode cX2_find 93 = .ok (.ldc 70, 2) := by decide +kernel
theorem dX2_find_95 : decode cX2_find 95 = .ok (.invokevirtual 72, 3) := by decide +kernel
theorem dX2_find_98 : decode cX2_find 98 = .ok (.ifCond .eq 120, 3) := by decide +kernel
theorem dX2_find_101 : decode cX2_find 101 = .ok (.iconst 0, 1) := by decide +kernel
theorem dX2_find_102 : decode cX2_find 102 = .ok (.istore_n 2, 1) := by decide +kernel
theorem dX2_find_103 : decode cX2_find 103 = .ok (.goto 115, 3) := by decide +kernel
theorem dX2_find_106 : decode cX2_find 106 = .ok (.aload_n 1, 1) := by decide +kernel
theorem dX2_find_107 : decode cX2_find 107 = .ok (.ldc 76, 2) := by decide +kernel
theorem dX2_find_109 : decode cX2_find 109 = .ok (.invokevirtual 72, 3) := by decide +kernel
theorem dX2_find_112 : decode cX2_find 112 = .ok (.ifCond .eq 106, 3) := by decide +kernel
theorem dX2_find_115 : decode cX2_find 115 = .ok (.iconst 1, 1) := by decide +kernel
theorem dX2_find_116 : decode cX2_find 116 = .ok (.istore_n 2, 1) := by decide +kernel
theorem dX2_find_117 : decode cX2_find 117 = .ok (.goto 101, 3) := by decide +kernel
theorem dX2_find_120 : decode cX2_find 120 = .ok (.aload_n 1, 1) := by decide +kernel
theorem dX2_find_121 : decode cX2_find 121 = .ok (.ldc 78, 2) := by decide +kernel
theorem dX2_find_123 : decode cX2_find 123 = .ok (.invokevirtual 72, 3) := by decide +kernel
theorem dX2_find_126 : decode cX2_find 126 = .ok (.ifCond .eq 92, 3) := by decide +kernel
theorem dX2_find_129 : decode cX2_find 129 = .ok (.iconst 2, 1) := by decide +kernel
theorem dX2_find_130 : decode cX2_find 130 = .ok (.istore_n 2, 1) := by decide +kernel
theorem dX2_find_131 : decode cX2_find 131 = .ok (.goto 87, 3) := by decide +kernel
theorem dX2_find_134 : decode cX2_find 134 = .ok (.aload_n 1, 1) := by decide +kernel
theorem dX2_find_135 : decode cX2_find 135 = .ok (.ldc 80, 2) := by decide +kernel
theorem dX2_find_137 : decode cX2_find 137 = .ok (.invokevirtual 72, 3) := by decide +kernel
theorem dX2_find_140 : decode cX2_find 140 = .ok (.ifCond .eq 78, 3) := by decide +kernel
theorem dX2_find_143 : decode cX2_find 143 = .ok (.iconst 3, 1) := by decide +kernel
theorem dX2_find_144 : decode cX2_find 144 = .ok (.istore_n 2, 1) := by decide +kernel
theorem dX2_find_145 : decode cX2_find 145 = .ok (.goto 73, 3) := by decide +kernel
theorem dX2_find_148 : decode cX2_find 148 = .ok (.aload_n 1, 1) := by decide +kernel
theorem dX2_find_149 : decode cX2_find 149 = .ok (.ldc 82, 2) := by decide +kernel
theorem dX2_find_151 : decode cX2_find 151 = .ok (.invokevirtual 72, 3) := by decide +kernel
theorem dX2_find_154 : decode cX2_find 154 = .ok (.ifCond .eq 64, 3) := by decide +kernel
theorem dX2_find_157 : decode cX2_find 157 = .ok (.iconst 4, 1) := by decide +kernel
theorem dX2_find_158 : decode cX2_find 158 = .ok (.istore_n 2, 1) := by decide +kernel
theorem dX2_find_159 : decode cX2_find 159 = .ok (.goto 59, 3) := by decide +kernel
theorem dX2_find_162 : decode cX2_find 162 = .ok (.aload_n 1, 1) := by decide +kernel
theorem dX2_find_163 : decode cX2_find 163 = .ok (.ldc 84, 2) := by decide +kernel
theorem dX2_find_165 : decode cX2_find 165 = .ok (.invokevirtual 72, 3) := by decide +kernel
theorem dX2_find_168 : decode cX2_find 168 = .ok (.ifCond .eq 50, 3) := by decide +kernel
theorem dX2_find_171 : decode cX2_find 171 = .ok (.iconst 5, 1) := by decide +kernel
theorem dX2_find_172 : decode cX2_find 172 = .ok (.istore_n 2, 1) := by decide +kernel
theorem dX2_find_173 : decode cX2_find 173 = .ok (.goto 45, 3) := by decide +kernel
theorem dX2_find_176 : decode cX2_find 176 = .ok (.aload_n 1, 1) := by decide +kernel
theorem dX2_find_177 : decode cX2_find 177 = .ok (.ldc 86, 2) := by decide +kernel
theorem dX2_find_179 : decode cX2_find 179 = .ok (.invokevirtual 72, 3) := by decide +kernel
theorem dX2_find_182 : decode cX2_find 182 = .ok (.ifCond .eq 36, 3) := by decide +kernel
theorem dX2_find_185 : decode cX2_find 185 = .ok (.bipush 6, 2) := by decide +kernel
theorem dX2_find_187 : decode cX2_find 187 = .ok (.istore_n 2, 1) := by decide +kernel
theorem dX2_find_188 : decode cX2_find 188 = .ok (.goto 30, 3) := by decide +kernel
theorem dX2_find_191 : decode cX2_find 191 = .ok (.aload_n 1, 1) := by decide +kernel
theorem dX2_find_192 : decode cX2_find 192 = .ok (.ldc 88, 2) := by decide +kernel
theorem dX2_find_194 : decode cX2_find 194 = .ok (.invokevirtual 72, 3) := by decide +kernel
theorem dX2_find_197 : decode cX2_find 197 = .ok (.ifCond .eq 21, 3) := by decide +kernel
theorem dX2_find_200 : decode cX2_find 200 = .ok (.bipush 7, 2) := by decide +kernel
theorem dX2_find_202 : decode cX2_find 202 = .ok (.istore_n 2, 1) := by decide +kernel
theorem dX2_find_203 : decode cX2_find 203 = .ok (.goto 15, 3) := by decide +kernel
theorem dX2_find_206 : decode cX2_find 206 = .ok (.aload_n 1, 1) := by decide +kernel
theorem dX2_find_207 : decode cX2_find 207 = .ok (.ldc 90, 2) := by decide +kernel
theorem dX2_find_209 : decode cX2_find 209 = .ok (.invokevirtual 72, 3) := by decide +kernel
theorem dX2_find_212 : decode cX2_find 212 = .ok (.ifCond .eq 6, 3) := by decide +kernel
theorem dX2_find_215 : decode cX2_find 215 = .ok (.bipush 8, 2) := by decide +kernel
theorem dX2_find_217 : decode cX2_find 217 = .ok (.istore_n 2, 1) := by decide +kernel
theorem dX2_find_218 : decode cX2_find 218 = .ok (.iload_n 2, 1) := by decide +kernel
theorem dX2_find_219 : decode cX2_find 219 = .ok (.tableswitch 85 0 8 #[49, 53, 57, 61, 65, 69, 73, 77, 81], 49) := by decide +kernel
theorem dX2_find_268 : decode cX2_find 268 = .ok (.getstatic 3, 3) := by decide +kernel
theorem dX2_find_271 : decode cX2_find 271 = .ok (.areturn, 1) := by decide +kernel
theorem dX2_find_272 : decode cX2_find 272 = .ok (.getstatic 7, 3) := by decide +kernel
theorem dX2_find_275 : decode cX2_find 275 = .ok (.areturn, 1) := by decide +kernel
theorem dX2_find_276 : decode cX2_find 276 = .ok (.getstatic 10, 3) := by decide +kernel
theorem dX2_find_279 : decode cX2_find 279 = .ok (.areturn, 1) := by decide +kernel
theorem dX2_find_280 : decode cX2_find 280 = .ok (.getstatic 13, 3) := by decide +kernel
theorem dX2_find_283 : decode cX2_find 283 = .ok (.areturn, 1) := by decide +kernel
theorem dX2_find_284 : decode cX2_find 284 = .ok (.getstatic 16, 3) := by decide +kernel
theorem dX2_find_287 : decode cX2_find 287 = .ok (.areturn, 1) := by decide +kernel
theorem dX2_find_288 : decode cX2_find 288 = .ok (.getstatic 19, 3) := by decide +kernel
theorem dX2_find_291 : decode cX2_find 291 = .ok (.areturn, 1) := by decide +kernel
theorem dX2_find_292 : decode cX2_find 292 = .ok (.getstatic 22, 3) := by decide +kernel
theorem dX2_find_295 : decode cX2_find 295 = .ok (.areturn, 1) := by decide +kernel
theorem dX2_find_296 : decode cX2_find 296 = .ok (.getstatic 25, 3) := by decide +kernel
theorem dX2_find_299 : decode cX2_find 299 = .ok (.areturn, 1) := by decide +kernel
theorem dX2_find_300 : decode cX2_find 300 = .ok (.getstatic 28, 3) := by decide +kernel
theorem dX2_find_303 : decode cX2_find 303 = .ok (.areturn, 1) := by decide +kernel
theorem dX2_find_304 : decode cX2_find 304 = .ok (.aconst_null, 1) := by decide +kernel
theorem dX2_find_305 : decode cX2_find 305 = .ok (.areturn, 1) := by decide +kernel
theorem dX2_told_0 : decode cX2_told 0 = .ok (.ldc2_w 52, 3) := by decide +kernel
theorem dX2_told_3 : decode cX2_told 3 = .ok (.aload_n 0, 1) := by decide +kernel
theorem dX2_told_4 : decode cX2_told 4 = .ok (.aload_n 1, 1) := by decide +kernel
theorem dX2_told_5 : decode cX2_told 5 = .ok (.aload_n 2, 1) := by decide +kernel
theorem dX2_told_6 : decode cX2_told 6 = .ok (.invokevirtual 54, 3) := by decide +kernel
theorem dX2_told_9 : decode cX2_told 9 = .ok (.invokestatic 58, 3) := by decide +kernel
theorem dX2_told_12 : decode cX2_told 12 = .ok (.l2i, 1) := by decide +kernel
theorem dX2_told_13 : decode cX2_told 13 = .ok (.ireturn, 1) := by decide +kernel
theorem dX20_of_0 : decode cX20_of 0 = .ok (.aload_n 2, 1) := by decide +kernel
theorem dX20_of_1 : decode cX20_of 1 = .ok (.getfield 7, 3) := by decide +kernel
theorem dX20_of_4 : decode cX20_of 4 = .ok (.i2l, 1) := by decide +kernel
theorem dX20_of_5 : decode cX20_of 5 = .ok (.lreturn, 1) := by decide +kernel
theorem dX21_of_0 : decode cX21_of 0 = .ok (.aload_n 2, 1) := by decide +kernel
theorem dX21_of_1 : decode cX21_of 1 = .ok (.getfield 7, 3) := by decide +kernel
theorem dX21_of_4 : decode cX21_of 4 = .ok (.i2l, 1) := by decide +kernel
theorem dX21_of_5 : decode cX21_of 5 = .ok (.lreturn, 1) := by decide +kernel
theorem dX22_of_0 : decode cX22_of 0 = .ok (.aload_n 2, 1) := by decide +kernel
theorem dX22_of_1 : decode cX22_of 1 = .ok (.getfield 7, 3) := by decide +kernel
theorem dX22_of_4 : decode cX22_of 4 = .ok (.ifCond .eq 7, 3) := by decide +kernel
theorem dX22_of_7 : decode cX22_of 7 = .ok (.lconst 1, 1) := by decide +kernel
theorem dX22_of_8 : decode cX22_of 8 = .ok (.goto 4, 3) := by decide +kernel
theorem dX22_of_11 : decode cX22_of 11 = .ok (.lconst 0, 1) := by decide +kernel
theorem dX22_of_12 : decode cX22_of 12 = .ok (.lreturn, 1) := by decide +kernel
theorem dX3_init_0 : decode cX3_init 0 = .ok (.aload_n 0, 1) := by decide +kernel
theorem dX3_init_1 : decode cX3_init 1 = .ok (.invokespecial 1, 3) := by decide +kernel
theorem dX3_init_4 : decode cX3_init 4 = .ok (.aload_n 0, 1) := by decide +kernel
theorem dX3_init_5 : decode cX3_init 5 = .ok (.bipush 24, 2) := by decide +kernel
theorem dX3_init_7 : decode cX3_init 7 = .ok (.newarray .int, 2) := by decide +kernel
theorem dX3_init_9 : decode cX3_init 9 = .ok (.putfield 7, 3) := by decide +kernel
theorem dX3_init_12 : decode cX3_init 12 = .ok (.aload_n 0, 1) := by decide +kernel
theorem dX3_init_13 : decode cX3_init 13 = .ok (.bipush 24, 2) := by decide +kernel
theorem dX3_init_15 : decode cX3_init 15 = .ok (.newarray .int, 2) := by decide +kernel
theorem dX3_init_17 : decode cX3_init 17 = .ok (.putfield 13, 3) := by decide +kernel
theorem dX3_init_20 : decode cX3_init 20 = .ok (.aload_n 0, 1) := by decide +kernel
theorem dX3_init_21 : decode cX3_init 21 = .ok (.bipush 24, 2) := by decide +kernel
theorem dX3_init_23 : decode cX3_init 23 = .ok (.newarray .int, 2) := by decide +kernel
theorem dX3_init_25 : decode cX3_init 25 = .ok (.putfield 16, 3) := by decide +kernel
theorem dX3_init_28 : decode cX3_init 28 = .ok (.aload_n 0, 1) := by decide +kernel
theorem dX3_init_29 : decode cX3_init 29 = .ok (.bipush 8, 2) := by decide +kernel
theorem dX3_init_31 : decode cX3_init 31 = .ok (.newarray .int, 2) := by decide +kernel
theorem dX3_init_33 : decode cX3_init 33 = .ok (.putfield 19, 3) := by decide +kernel
theorem dX3_init_36 : decode cX3_init 36 = .ok (.aload_n 0, 1) := by decide +kernel
theorem dX3_init_37 : decode cX3_init 37 = .ok (.bipush 8, 2) := by decide +kernel
theorem dX3_init_39 : decode cX3_init 39 = .ok (.newarray .int, 2) := by decide +kernel
theorem dX3_init_41 : decode cX3_init 41 = .ok (.putfield 22, 3) := by decide +kernel
theorem dX3_init_44 : decode cX3_init 44 = .ok (.aload_n 0, 1) := by decide +kernel
theorem dX3_init_45 : decode cX3_init 45 = .ok (.bipush 100, 2) := by decide +kernel
theorem dX3_init_47 : decode cX3_init 47 = .ok (.newarray .int, 2) := by decide +kernel
theorem dX3_init_49 : decode cX3_init 49 = .ok (.putfield 25, 3) := by decide +kernel
theorem dX3_init_52 : decode cX3_init 52 = .ok (.aload_n 0, 1) := by decide +kernel
theorem dX3_init_53 : decode cX3_init 53 = .ok (.bipush 60, 2) := by decide +kernel
theorem dX3_init_55 : decode cX3_init 55 = .ok (.newarray .int, 2) := by decide +kernel
theorem dX3_init_57 : decode cX3_init 57 = .ok (.putfield 28, 3) := by decide +kernel
theorem dX3_init_60 : decode cX3_init 60 = .ok (.aload_n 0, 1) := by decide +kernel
theorem dX3_init_61 : decode cX3_init 61 = .ok (.bipush 60, 2) := by decide +kernel
theorem dX3_init_63 : decode cX3_init 63 = .ok (.newarray .int, 2) := by decide +kernel
theorem dX3_init_65 : decode cX3_init 65 = .ok (.putfield 31, 3) := by decide +kernel
theorem dX3_init_68 : decode cX3_init 68 = .ok (.aload_n 0, 1) := by decide +kernel
theorem dX3_init_69 : decode cX3_init 69 = .ok (.bipush 60, 2) := by decide +kernel
theorem dX3_init_71 : decode cX3_init 71 = .ok (.newarray .int, 2) := by decide +kernel
theorem dX3_init_73 : decode cX3_init 73 = .ok (.putfield 34, 3) := by decide +kernel
theorem dX3_init_76 : decode cX3_init 76 = .ok (.aload_n 0, 1) := by decide +kernel
theorem dX3_init_77 : decode cX3_init 77 = .ok (.bipush 60, 2) := by decide +kernel
theorem dX3_init_79 : decode cX3_init 79 = .ok (.newarray .int, 2) := by decide +kernel
theorem dX3_init_81 : decode cX3_init 81 = .ok (.putfield 37, 3) := by decide +kernel
theorem dX3_init_84 : decode cX3_init 84 = .ok (.aload_n 0, 1) := by decide +kernel
theorem dX3_init_85 : decode cX3_init 85 = .ok (.bipush 60, 2) := by decide +kernel
theorem dX3_init_87 : decode cX3_init 87 = .ok (.newarray .int, 2) := by decide +kernel
theorem dX3_init_89 : decode cX3_init 89 = .ok (.putfield 40, 3) := by decide +kernel
theorem dX3_init_92 : decode cX3_init 92 = .ok (.aload_n 0, 1) := by decide +kernel
theorem dX3_init_93 : decode cX3_init 93 = .ok (.bipush 60, 2) := by decide +kernel
theorem dX3_init_95 : decode cX3_init 95 = .ok (.newarray .int, 2) := by decide +kernel
theorem dX3_init_97 : decode cX3_init 97 = .ok (.putfield 43, 3) := by decide +kernel
theorem dX3_init_100 : decode cX3_init 100 = .ok (.aload_n 0, 1) := by decide +kernel
theorem dX3_init_101 : decode cX3_init 101 = .ok (.bipush 60, 2) := by decide +kernel
theorem dX3_init_103 : decode cX3_init 103 = .ok (.newarray .int, 2) := by decide +kernel
theorem dX3_init_105 : decode cX3_init 105 = .ok (.putfield 46, 3) := by decide +kernel
theorem dX3_init_108 : decode cX3_init 108 = .ok (.aload_n 0, 1) := by decide +kernel
theorem dX3_init_109 : decode cX3_init 109 = .ok (.bipush 60, 2) := by decide +kernel
theorem dX3_init_111 : decode cX3_init 111 = .ok (.newarray .int, 2) := by decide +kernel
theorem dX3_init_113 : decode cX3_init 113 = .ok (.putfield 49, 3) := by decide +kernel
theorem dX3_init_116 : decode cX3_init 116 = .ok (.aload_n 0, 1) := by decide +kernel
theorem dX3_init_117 : decode cX3_init 117 = .ok (.bipush 60, 2) := by decide +kernel
theorem dX3_init_119 : decode cX3_init 119 = .ok (.newarray .int, 2) := by decide +kernel
theorem dX3_init_121 : decode cX3_init 121 = .ok (.putfield 52, 3) := by decide +kernel
theorem dX3_init_124 : decode cX3_init 124 = .ok (.aload_n 0, 1) := by decide +kernel
theorem dX3_init_125 : decode cX3_init 125 = .ok (.bipush 60, 2) := by decide +kernel
theorem dX3_init_127 : decode cX3_init 127 = .ok (.newarray .boolean, 2) := by decide +kernel
theorem dX3_init_129 : decode cX3_init 129 = .ok (.putfield 55, 3) := by decide +kernel
theorem dX3_init_132 : decode cX3_init 132 = .ok (.aload_n 0, 1) := by decide +kernel
theorem dX3_init_133 : decode cX3_init 133 = .ok (.sipush 620, 3) := by decide +kernel
theorem dX3_init_136 : decode cX3_init 136 = .ok (.newarray .byte, 2) := by decide +kernel
theorem dX3_init_138 : decode cX3_init 138 = .ok (.putfield 59, 3) := by decide +kernel
theorem dX3_init_141 : decode cX3_init 141 = .ok (.aload_n 0, 1) := by decide +kernel
theorem dX3_init_142 : decode cX3_init 142 = .ok (.sipush 600, 3) := by decide +kernel
theorem dX3_init_145 : decode cX3_init 145 = .ok (.newarray .byte, 2) := by decide +kernel
theorem dX3_init_147 : decode cX3_init 147 = .ok (.putfield 63, 3) := by decide +kernel
theorem dX3_init_150 : decode cX3_init 150 = .ok (.aload_n 0, 1) := by decide +kernel
theorem dX3_init_151 : decode cX3_init 151 = .ok (.iconst (-1), 1) := by decide +kernel
theorem dX3_init_152 : decode cX3_init 152 = .ok (.putfield 66, 3) := by decide +kernel
theorem dX3_init_155 : decode cX3_init 155 = .ok (.aload_n 0, 1) := by decide +kernel
theorem dX3_init_156 : decode cX3_init 156 = .ok (.iconst 2, 1) := by decide +kernel
theorem dX3_init_157 : decode cX3_init 157 = .ok (.newarray .int, 2) := by decide +kernel
theorem dX3_init_159 : decode cX3_init 159 = .ok (.putfield 70, 3) := by decide +kernel
theorem dX3_init_162 : decode cX3_init 162 = .ok (.aload_n 0, 1) := by decide +kernel
theorem dX3_init_163 : decode cX3_init 163 = .ok (.bipush 32, 2) := by decide +kernel
theorem dX3_init_165 : decode cX3_init 165 = .ok (.newarray .int, 2) := by decide +kernel
theorem dX3_init_167 : decode cX3_init 167 = .ok (.putfield 73, 3) := by decide +kernel
theorem dX3_init_170 : decode cX3_init 170 = .ok (.aload_n 0, 1) := by decide +kernel
theorem dX3_init_171 : decode cX3_init 171 = .ok (.bipush 32, 2) := by decide +kernel
theorem dX3_init_173 : decode cX3_init 173 = .ok (.newarray .int, 2) := by decide +kernel
theorem dX3_init_175 : decode cX3_init 175 = .ok (.putfield 76, 3) := by decide +kernel
theorem dX3_init_178 : decode cX3_init 178 = .ok (.aload_n 0, 1) := by decide +kernel
theorem dX3_init_179 : decode cX3_init 179 = .ok (.bipush 32, 2) := by decide +kernel
theorem dX3_init_181 : decode cX3_init 181 = .ok (.newarray .int, 2) := by decide +kernel
theorem dX3_init_183 : decode cX3_init 183 = .ok (.putfield 79, 3) := by decide +kernel
theorem dX3_init_186 : decode cX3_init 186 = .ok (.aload_n 0, 1) := by decide +kernel
theorem dX3_init_187 : decode cX3_init 187 = .ok (.bipush 32, 2) := by decide +kernel
theorem dX3_init_189 : decode cX3_init 189 = .ok (.newarray .int, 2) := by decide +kernel
theorem dX3_init_191 : decode cX3_init 191 = .ok (.putfield 82, 3) := by decide +kernel
theorem dX3_init_194 : decode cX3_init 194 = .ok (.aload_n 0, 1) := by decide +kernel
theorem dX3_init_195 : decode cX3_init 195 = .ok (.sipush 1200, 3) := by decide +kernel
theorem dX3_init_198 : decode cX3_init 198 = .ok (.newarray .int, 2) := by decide +kernel
theorem dX3_init_200 : decode cX3_init 200 = .ok (.putfield 85, 3) := by decide +kernel
theorem dX3_init_203 : decode cX3_init 203 = .ok (.aload_n 0, 1) := by decide +kernel
theorem dX3_init_204 : decode cX3_init 204 = .ok (.sipush 1200, 3) := by decide +kernel
theorem dX3_init_207 : decode cX3_init 207 = .ok (.newarray .int, 2) := by decide +kernel
theorem dX3_init_209 : decode cX3_init 209 = .ok (.putfield 88, 3) := by decide +kernel
theorem dX3_init_212 : decode cX3_init 212 = .ok (.aload_n 0, 1) := by decide +kernel
theorem dX3_init_213 : decode cX3_init 213 = .ok (.bipush 60, 2) := by decide +kernel
theorem dX3_init_215 : decode cX3_init 215 = .ok (.newarray .int, 2) := by decide +kernel
theorem dX3_init_217 : decode cX3_init 217 = .ok (.putfield 91, 3) := by decide +kernel
theorem dX3_init_220 : decode cX3_init 220 = .ok (.aload_n 0, 1) := by decide +kernel
theorem dX3_init_221 : decode cX3_init 221 = .ok (.bipush 100, 2) := by decide +kernel
theorem dX3_init_223 : decode cX3_init 223 = .ok (.newarray .int, 2) := by decide +kernel
theorem dX3_init_225 : decode cX3_init 225 = .ok (.putfield 94, 3) := by decide +kernel
theorem dX3_init_228 : decode cX3_init 228 = .ok (.aload_n 0, 1) := by decide +kernel
theorem dX3_init_229 : decode cX3_init 229 = .ok (.bipush 9, 2) := by decide +kernel
theorem dX3_init_231 : decode cX3_init 231 = .ok (.newarray .int, 2) := by decide +kernel
theorem dX3_init_233 : decode cX3_init 233 = .ok (.putfield 97, 3) := by decide +kernel
theorem dX3_init_236 : decode cX3_init 236 = .ok (.aload_n 0, 1) := by decide +kernel
theorem dX3_init_237 : decode cX3_init 237 = .ok (.bipush 30, 2) := by decide +kernel
theorem dX3_init_239 : decode cX3_init 239 = .ok (.newarray .int, 2) := by decide +kernel
theorem dX3_init_241 : decode cX3_init 241 = .ok (.putfield 100, 3) := by decide +kernel
theorem dX3_init_244 : decode cX3_init 244 = .ok (.aload_n 0, 1) := by decide +kernel
theorem dX3_init_245 : decode cX3_init 245 = .ok (.bipush 24, 2) := by decide +kernel
theorem dX3_init_247 : decode cX3_init 247 = .ok (.newarray .long, 2) := by decide +kernel
theorem dX3_init_249 : decode cX3_init 249 = .ok (.putfield 103, 3) := by decide +kernel
theorem dX3_init_252 : decode cX3_init 252 = .ok (.aload_n 0, 1) := by decide +kernel
theorem dX3_init_253 : decode cX3_init 253 = .ok (.bipush 24, 2) := by decide +kernel
theorem dX3_init_255 : decode cX3_init 255 = .ok (.newarray .long, 2) := by decide +kernel
theorem dX3_init_257 : decode cX3_init 257 = .ok (.putfield 107, 3) := by decide +kernel
theorem dX3_init_260 : decode cX3_init 260 = .ok (.aload_n 0, 1) := by decide +kernel
theorem dX3_init_261 : decode cX3_init 261 = .ok (.bipush 24, 2) := by decide +kernel
theorem dX3_init_263 : decode cX3_init 263 = .ok (.newarray .boolean, 2) := by decide +kernel
theorem dX3_init_265 : decode cX3_init 265 = .ok (.putfield 110, 3) := by decide +kernel
theorem dX3_init_268 : decode cX3_init 268 = .ok (.aload_n 0, 1) := by decide +kernel
theorem dX3_init_269 : decode cX3_init 269 = .ok (.bipush 64, 2) := by decide +kernel
theorem dX3_init_271 : decode cX3_init 271 = .ok (.newarray .int, 2) := by decide +kernel
theorem dX3_init_273 : decode cX3_init 273 = .ok (.putfield 113, 3) := by decide +kernel
theorem dX3_init_276 : decode cX3_init 276 = .ok (.aload_n 0, 1) := by decide +kernel
theorem dX3_init_277 : decode cX3_init 277 = .ok (.sipush 2304, 3) := by decide +kernel
theorem dX3_init_280 : decode cX3_init 280 = .ok (.newarray .int, 2) := by decide +kernel
theorem dX3_init_282 : decode cX3_init 282 = .ok (.putfield 116, 3) := by decide +kernel
theorem dX3_init_285 : decode cX3_init 285 = .ok (.iconst 0, 1) := by decide +kernel
theorem dX3_init_286 : decode cX3_init 286 = .ok (.istore_n 1, 1) := by decide +kernel
theorem dX3_init_287 : decode cX3_init 287 = .ok (.iload_n 1, 1) := by decide +kernel
theorem dX3_init_288 : decode cX3_init 288 = .ok (.bipush 100, 2) := by decide +kernel
theorem dX3_init_290 : decode cX3_init 290 = .ok (.if_icmp .ge 17, 3) := by decide +kernel
theorem dX3_init_293 : decode cX3_init 293 = .ok (.aload_n 0, 1) := by decide +kernel
theorem dX3_init_294 : decode cX3_init 294 = .ok (.getfield 25, 3) := by decide +kernel
theorem dX3_init_297 : decode cX3_init 297 = .ok (.iload_n 1, 1) := by decide +kernel
theorem dX3_init_298 : decode cX3_init 298 = .ok (.bipush 100, 2) := by decide +kernel
theorem dX3_init_300 : decode cX3_init 300 = .ok (.iastore, 1) := by decide +kernel
theorem dX3_init_301 : decode cX3_init 301 = .ok (.iinc 1 1, 3) := by decide +kernel
theorem dX3_init_304 : decode cX3_init 304 = .ok (.goto (-17), 3) := by decide +kernel
theorem dX3_init_307 : decode cX3_init 307 = .ok (.return_, 1) := by decide +kernel
theorem dX3_person_0 : decode cX3_person 0 = .ok (.iload_n 1, 1) := by decide +kernel
theorem dX3_person_1 : decode cX3_person 1 = .ok (.iconst (-1), 1) := by decide +kernel
theorem dX3_person_2 : decode cX3_person 2 = .ok (.if_icmp .lt 33, 3) := by decide +kernel
theorem dX3_person_5 : decode cX3_person 5 = .ok (.iload_n 1, 1) := by decide +kernel
theorem dX3_person_6 : decode cX3_person 6 = .ok (.aload_n 0, 1) := by decide +kernel
theorem dX3_person_7 : decode cX3_person 7 = .ok (.getfield 119, 3) := by decide +kernel
theorem dX3_person_10 : decode cX3_person 10 = .ok (.if_icmp .ge 25, 3) := by decide +kernel
theorem dX3_person_13 : decode cX3_person 13 = .ok (.iload_n 2, 1) := by decide +kernel
theorem dX3_person_14 : decode cX3_person 14 = .ok (.iconst (-1), 1) := by decide +kernel
theorem dX3_person_15 : decode cX3_person 15 = .ok (.if_icmp .lt 20, 3) := by decide +kernel
theorem dX3_person_18 : decode cX3_person 18 = .ok (.iload_n 2, 1) := by decide +kernel
theorem dX3_person_19 : decode cX3_person 19 = .ok (.aload_n 0, 1) := by decide +kernel
theorem dX3_person_20 : decode cX3_person 20 = .ok (.getfield 119, 3) := by decide +kernel
theorem dX3_person_23 : decode cX3_person 23 = .ok (.if_icmp .ge 12, 3) := by decide +kernel
theorem dX3_person_26 : decode cX3_person 26 = .ok (.aload_n 0, 1) := by decide +kernel
theorem dX3_person_27 : decode cX3_person 27 = .ok (.getfield 119, 3) := by decide +kernel
theorem dX3_person_30 : decode cX3_person 30 = .ok (.bipush 24, 2) := by decide +kernel
theorem dX3_person_32 : decode cX3_person 32 = .ok (.if_icmp .ne 5, 3) := by decide +kernel
theorem dX3_person_35 : decode cX3_person 35 = .ok (.iconst (-1), 1) := by decide +kernel
theorem dX3_person_36 : decode cX3_person 36 = .ok (.ireturn, 1) := by decide +kernel
theorem dX3_person_37 : decode cX3_person 37 = .ok (.aload_n 0, 1) := by decide +kernel
theorem dX3_person_38 : decode cX3_person 38 = .ok (.getfield 7, 3) := by decide +kernel
theorem dX3_person_41 : decode cX3_person 41 = .ok (.aload_n 0, 1) := by decide +kernel
theorem dX3_person_42 : decode cX3_person 42 = .ok (.getfield 119, 3) := by decide +kernel
theorem dX3_person_45 : decode cX3_person 45 = .ok (.iload_n 1, 1) := by decide +kernel
theorem dX3_person_46 : decode cX3_person 46 = .ok (.iastore, 1) := by decide +kernel
theorem dX3_person_47 : decode cX3_person 47 = .ok (.aload_n 0, 1) := by decide +kernel
theorem dX3_person_48 : decode cX3_person 48 = .ok (.getfield 13, 3) := by decide +kernel
theorem dX3_person_51 : decode cX3_person 51 = .ok (.aload_n 0, 1) := by decide +kernel
theorem dX3_person_52 : decode cX3_person 52 = .ok (.getfield 119, 3) := by decide +kernel
theorem dX3_person_55 : decode cX3_person 55 = .ok (.iload_n 2, 1) := by decide +kernel
theorem dX3_person_56 : decode cX3_person 56 = .ok (.iastore, 1) := by decide +kernel
theorem dX3_person_57 : decode cX3_person 57 = .ok (.aload_n 0, 1) := by decide +kernel
theorem dX3_person_58 : decode cX3_person 58 = .ok (.getfield 16, 3) := by decide +kernel
theorem dX3_person_61 : decode cX3_person 61 = .ok (.aload_n 0, 1) := by decide +kernel
theorem dX3_person_62 : decode cX3_person 62 = .ok (.getfield 119, 3) := by decide +kernel
theorem dX3_person_65 : decode cX3_person 65 = .ok (.iconst (-1), 1) := by decide +kernel
theorem dX3_person_66 : decode cX3_person 66 = .ok (.iastore, 1) := by decide +kernel
theorem dX3_person_67 : decode cX3_person 67 = .ok (.aload_n 0, 1) := by decide +kernel
theorem dX3_person_68 : decode cX3_person 68 = .ok (.dup, 1) := by decide +kernel
theorem dX3_person_69 : decode cX3_person 69 = .ok (.getfield 119, 3) := by decide +kernel
theorem dX3_person_72 : decode cX3_person 72 = .ok (.iconst 1, 1) := by decide +kernel
theorem dX3_person_73 : decode cX3_person 73 = .ok (.iadd, 1) := by decide +kernel
theorem dX3_person_74 : decode cX3_person 74 = .ok (.putfield 119, 3) := by decide +kernel
theorem dX3_person_77 : decode cX3_person 77 = .ok (.aload_n 0, 1) := by decide +kernel
theorem dX3_person_78 : decode cX3_person 78 = .ok (.getfield 119, 3) := by decide +kernel
theorem dX3_person_81 : decode cX3_person 81 = .ok (.iconst 1, 1) := by decide +kernel
theorem dX3_person_82 : decode cX3_person 82 = .ok (.isub, 1) := by decide +kernel
theorem dX3_person_83 : decode cX3_person 83 = .ok (.ireturn, 1) := by decide +kernel
theorem dX3_dead_0 : decode cX3_dead 0 = .ok (.aload_n 0, 1) := by decide +kernel
theorem dX3_dead_1 : decode cX3_dead 1 = .ok (.iload_n 1, 1) := by decide +kernel
theorem dX3_dead_2 : decode cX3_dead 2 = .ok (.invokevirtual 127, 3) := by decide +kernel
theorem dX3_dead_5 : decode cX3_dead 5 = .ok (.ifCond .eq 19, 3) := by decide +kernel
theorem dX3_dead_8 : decode cX3_dead 8 = .ok (.aload_n 0, 1) := by decide +kernel
theorem dX3_dead_9 : decode cX3_dead 9 = .ok (.getfield 16, 3) := by decide +kernel
theorem dX3_dead_12 : decode cX3_dead 12 = .ok (.iload_n 1, 1) := by decide +kernel
theorem dX3_dead_13 : decode cX3_dead 13 = .ok (.iaload, 1) := by decide +kernel
theorem dX3_dead_14 : decode cX3_dead 14 = .ok (.ifCond .ge 10, 3) := by decide +kernel
theorem dX3_dead_17 : decode cX3_dead 17 = .ok (.iload_n 2, 1) := by decide +kernel
theorem dX3_dead_18 : decode cX3_dead 18 = .ok (.invokestatic 131, 3) := by decide +kernel
theorem dX3_dead_21 : decode cX3_dead 21 = .ok (.ifCond .ne 5, 3) := by decide +kernel
theorem dX3_dead_24 : decode cX3_dead 24 = .ok (.iconst 0, 1) := by decide +kernel
theorem dX3_dead_25 : decode cX3_dead 25 = .ok (.ireturn, 1) := by decide +kernel
theorem dX3_dead_26 : decode cX3_dead 26 = .ok (.aload_n 0, 1) := by decide +kernel
theorem dX3_dead_27 : decode cX3_dead 27 = .ok (.getfield 16, 3) := by decide +kernel
theorem dX3_dead_30 : decode cX3_dead 30 = .ok (.iload_n 1, 1) := by decide +kernel
theorem dX3_dead_31 : decode cX3_dead 31 = .ok (.iload_n 2, 1) := by decide +kernel
theorem dX3_dead_32 : decode cX3_dead 32 = .ok (.iastore, 1) := by decide +kernel
theorem dX3_dead_33 : decode cX3_dead 33 = .ok (.iconst 1, 1) := by decide +kernel
theorem dX3_dead_34 : decode cX3_dead 34 = .ok (.ireturn, 1) := by decide +kernel
theorem dX3_isPerson_0 : decode cX3_isPerson 0 = .ok (.iload_n 1, 1) := by decide +kernel
theorem dX3_isPerson_1 : decode cX3_isPerson 1 = .ok (.ifCond .lt 15, 3) := by decide +kernel
theorem dX3_isPerson_4 : decode cX3_isPerson 4 = .ok (.iload_n 1, 1) := by decide +kernel
theorem dX3_isPerson_5 : decode cX3_isPerson 5 = .ok (.aload_n 0, 1) := by decide +kernel
theorem dX3_isPerson_6 : decode cX3_isPerson 6 = .ok (.getfield 119, 3) := by decide +kernel
theorem dX3_isPerson_9 : decode cX3_isPerson 9 = .ok (.if_icmp .ge 7, 3) := by decide +kernel
theorem dX3_isPerson_12 : decode cX3_isPerson 12 = .ok (.iconst 1, 1) := by decide +kernel
theorem dX3_isPerson_13 : decode cX3_isPerson 13 = .ok (.goto 4, 3) := by decide +kernel
theorem dX3_isPerson_16 : decode cX3_isPerson 16 = .ok (.iconst 0, 1) := by decide +kernel
theorem dX3_isPerson_17 : decode cX3_isPerson 17 = .ok (.ireturn, 1) := by decide +kernel
theorem dX3_isDay_0 : decode cX3_isDay 0 = .ok (.iload_n 0, 1) := by decide +kernel
theorem dX3_isDay_1 : decode cX3_isDay 1 = .ok (.ifCond .lt 13, 3) := by decide +kernel
theorem dX3_isDay_4 : decode cX3_isDay 4 = .ok (.iload_n 0, 1) := by decide +kernel
theorem dX3_isDay_5 : decode cX3_isDay 5 = .ok (.ldc 125, 2) := by decide +kernel
theorem dX3_isDay_7 : decode cX3_isDay 7 = .ok (.if_icmp .gt 7, 3) := by decide +kernel
theorem dX3_isDay_10 : decode cX3_isDay 10 = .ok (.iconst 1, 1) := by decide +kernel
theorem dX3_isDay_11 : decode cX3_isDay 11 = .ok (.goto 4, 3) := by decide +kernel
theorem dX3_isDay_14 : decode cX3_isDay 14 = .ok (.iconst 0, 1) := by decide +kernel
theorem dX3_isDay_15 : decode cX3_isDay 15 = .ok (.ireturn, 1) := by decide +kernel
theorem dX3_house_0 : decode cX3_house 0 = .ok (.aload_n 0, 1) := by decide +kernel
theorem dX3_house_1 : decode cX3_house 1 = .ok (.iload_n 1, 1) := by decide +kernel
theorem dX3_house_2 : decode cX3_house 2 = .ok (.invokevirtual 127, 3) := by decide +kernel
theorem dX3_house_5 : decode cX3_house 5 = .ok (.ifCond .eq 19, 3) := by decide +kernel
theorem dX3_house_8 : decode cX3_house 8 = .ok (.iload_n 2, 1) := by decide +kernel
theorem dX3_house_9 : decode cX3_house 9 = .ok (.invokestatic 134, 3) := by decide +kernel
theorem dX3_house_12 : decode cX3_house 12 = .ok (.ifCond .eq 12, 3) := by decide +kernel
theorem dX3_house_15 : decode cX3_house 15 = .ok (.aload_n 0, 1) := by decide +kernel
theorem dX3_house_16 : decode cX3_house 16 = .ok (.getfield 122, 3) := by decide +kernel
theorem dX3_house_19 : decode cX3_house 19 = .ok (.bipush 8, 2) := by decide +kernel
theorem dX3_house_21 : decode cX3_house 21 = .ok (.if_icmp .ne 5, 3) := by decide +kernel
theorem dX3_house_24 : decode cX3_house 24 = .ok (.iconst (-1), 1) := by decide +kernel
theorem dX3_house_25 : decode cX3_house 25 = .ok (.ireturn, 1) := by decide +kernel
theorem dX3_house_26 : decode cX3_house 26 = .ok (.aload_n 0, 1) := by decide +kernel
theorem dX3_house_27 : decode cX3_house 27 = .ok (.getfield 19, 3) := by decide +kernel
theorem dX3_house_30 : decode cX3_house 30 = .ok (.aload_n 0, 1) := by decide +kernel
theorem dX3_house_31 : decode cX3_house 31 = .ok (.getfield 122, 3) := by decide +kernel
theorem dX3_house_34 : decode cX3_house 34 = .ok (.iload_n 1, 1) := by decide +kernel
theorem dX3_house_35 : decode cX3_house 35 = .ok (.iastore, 1) := by decide +kernel
theorem dX3_house_36 : decode cX3_house 36 = .ok (.aload_n 0, 1) := by decide +kernel
theorem dX3_house_37 : decode cX3_house 37 = .ok (.getfield 22, 3) := by decide +kernel
theorem dX3_house_40 : decode cX3_house 40 = .ok (.aload_n 0, 1) := by decide +kernel
theorem dX3_house_41 : decode cX3_house 41 = .ok (.getfield 122, 3) := by decide +kernel
theorem dX3_house_44 : decode cX3_house 44 = .ok (.iload_n 2, 1) := by decide +kernel
theorem dX3_house_45 : decode cX3_house 45 = .ok (.iastore, 1) := by decide +kernel
theorem dX3_house_46 : decode cX3_house 46 = .ok (.aload_n 0, 1) := by decide +kernel
theorem dX3_house_47 : decode cX3_house 47 = .ok (.dup, 1) := by decide +kernel
theorem dX3_house_48 : decode cX3_house 48 = .ok (.getfield 122, 3) := by decide +kernel
theorem dX3_house_51 : decode cX3_house 51 = .ok (.iconst 1, 1) := by decide +kernel
theorem dX3_house_52 : decode cX3_house 52 = .ok (.iadd, 1) := by decide +kernel
theorem dX3_house_53 : decode cX3_house 53 = .ok (.putfield 122, 3) := by decide +kernel
theorem dX3_house_56 : decode cX3_house 56 = .ok (.aload_n 0, 1) := by decide +kernel
theorem dX3_house_57 : decode cX3_house 57 = .ok (.getfield 122, 3) := by decide +kernel
theorem dX3_house_60 : decode cX3_house 60 = .ok (.iconst 1, 1) := by decide +kernel
theorem dX3_house_61 : decode cX3_house 61 = .ok (.isub, 1) := by decide +kernel
theorem dX3_house_62 : decode cX3_house 62 = .ok (.ireturn, 1) := by decide +kernel
theorem dX3_isSum_0 : decode cX3_isSum 0 = .ok (.iload_n 0, 1) := by decide +kernel
theorem dX3_isSum_1 : decode cX3_isSum 1 = .ok (.ifCond .lt 13, 3) := by decide +kernel
theorem dX3_isSum_4 : decode cX3_isSum 4 = .ok (.iload_n 0, 1) := by decide +kernel
theorem dX3_isSum_5 : decode cX3_isSum 5 = .ok (.ldc 126, 2) := by decide +kernel
theorem dX3_isSum_7 : decode cX3_isSum 7 = .ok (.if_icmp .gt 7, 3) := by decide +kernel
theorem dX3_isSum_10 : decode cX3_isSum 10 = .ok (.iconst 1, 1) := by decide +kernel
theorem dX3_isSum_11 : decode cX3_isSum 11 = .ok (.goto 4, 3) := by decide +kernel
theorem dX3_isSum_14 : decode cX3_isSum 14 = .ok (.iconst 0, 1) := by decide +kernel
theorem dX3_isSum_15 : decode cX3_isSum 15 = .ok (.ireturn, 1) := by decide +kernel
theorem dX3_level_0 : decode cX3_level 0 = .ok (.iload_n 1, 1) := by decide +kernel
theorem dX3_level_1 : decode cX3_level 1 = .ok (.invokestatic 137, 3) := by decide +kernel
theorem dX3_level_4 : decode cX3_level 4 = .ok (.ifCond .eq 15, 3) := by decide +kernel
theorem dX3_level_7 : decode cX3_level 7 = .ok (.iload_n 2, 1) := by decide +kernel
theorem dX3_level_8 : decode cX3_level 8 = .ok (.iconst 1, 1) := by decide +kernel
theorem dX3_level_9 : decode cX3_level 9 = .ok (.if_icmp .lt 10, 3) := by decide +kernel
theorem dX3_level_12 : decode cX3_level 12 = .ok (.iload_n 2, 1) := by decide +kernel
theorem dX3_level_13 : decode cX3_level 13 = .ok (.sipush 10000, 3) := by decide +kernel
theorem dX3_level_16 : decode cX3_level 16 = .ok (.if_icmp .le 5, 3) := by decide +kernel
theorem dX3_level_19 : decode cX3_level 19 = .ok (.iconst 0, 1) := by decide +kernel
theorem dX3_level_20 : decode cX3_level 20 = .ok (.ireturn, 1) := by decide +kernel
theorem dX3_level_21 : decode cX3_level 21 = .ok (.aload_n 0, 1) := by decide +kernel
theorem dX3_level_22 : decode cX3_level 22 = .ok (.getfield 25, 3) := by decide +kernel
theorem dX3_level_25 : decode cX3_level 25 = .ok (.iload_n 1, 1) := by decide +kernel
theorem dX3_level_26 : decode cX3_level 26 = .ok (.iload_n 2, 1) := by decide +kernel
theorem dX3_level_27 : decode cX3_level 27 = .ok (.iastore, 1) := by decide +kernel
theorem dX3_level_28 : decode cX3_level 28 = .ok (.iconst 1, 1) := by decide +kernel
theorem dX3_level_29 : decode cX3_level 29 = .ok (.ireturn, 1) := by decide +kernel
theorem dX3_isYear_0 : decode cX3_isYear 0 = .ok (.iload_n 0, 1) := by decide +kernel
theorem dX3_isYear_1 : decode cX3_isYear 1 = .ok (.ifCond .lt 13, 3) := by decide +kernel
theorem dX3_isYear_4 : decode cX3_isYear 4 = .ok (.iload_n 0, 1) := by decide +kernel
theorem dX3_isYear_5 : decode cX3_isYear 5 = .ok (.bipush 100, 2) := by decide +kernel
theorem dX3_isYear_7 : decode cX3_isYear 7 = .ok (.if_icmp .ge 7, 3) := by decide +kernel
theorem dX3_isYear_10 : decode cX3_isYear 10 = .ok (.iconst 1, 1) := by decide +kernel
theorem dX3_isYear_11 : decode cX3_isYear 11 = .ok (.goto 4, 3) := by decide +kernel
theorem dX3_isYear_14 : decode cX3_isYear 14 = .ok (.iconst 0, 1) := by decide +kernel
theorem dX3_isYear_15 : decode cX3_isYear 15 = .ok (.ireturn, 1) := by decide +kernel
theorem dX3_money_0 : decode cX3_money 0 = .ok (.iload_n 1, 1) := by decide +kernel
theorem dX3_money_1 : decode cX3_money 1 = .ok (.invokestatic 134, 3) := by decide +kernel
theorem dX3_money_4 : decode cX3_money 4 = .ok (.ifCond .eq 27, 3) := by decide +kernel
theorem dX3_money_7 : decode cX3_money 7 = .ok (.iload_n 2, 1) := by decide +kernel
theorem dX3_money_8 : decode cX3_money 8 = .ok (.invokestatic 137, 3) := by decide +kernel
theorem dX3_money_11 : decode cX3_money 11 = .ok (.ifCond .eq 20, 3) := by decide +kernel
theorem dX3_money_14 : decode cX3_money 14 = .ok (.iload_n 3, 1) := by decide +kernel
theorem dX3_money_15 : decode cX3_money 15 = .ok (.invokestatic 137, 3) := by decide +kernel
theorem dX3_money_18 : decode cX3_money 18 = .ok (.ifCond .eq 13, 3) := by decide +kernel
theorem dX3_money_21 : decode cX3_money 21 = .ok (.aload_n 0, 1) := by decide +kernel
theorem dX3_money_22 : decode cX3_money 22 = .ok (.iload_n 1, 1) := by decide +kernel
theorem dX3_money_23 : decode cX3_money 23 = .ok (.iload_n 2, 1) := by decide +kernel
theorem dX3_money_24 : decode cX3_money 24 = .ok (.iload_n 3, 1) := by decide +kernel
theorem dX3_money_25 : decode cX3_money 25 = .ok (.invokevirtual 140, 3) := by decide +kernel
theorem dX3_money_28 : decode cX3_money 28 = .ok (.goto 6, 3) := by decide +kernel
theorem dX3_money_31 : decode cX3_money 31 = .ok (.ldc2_w 144, 3) := by decide +kernel
theorem dX3_money_34 : decode cX3_money 34 = .ok (.lreturn, 1) := by decide +kernel
theorem dX3_turned_0 : decode cX3_turned 0 = .ok (.iload_n 1, 1) := by decide +kernel
theorem dX3_turned_1 : decode cX3_turned 1 = .ok (.i2l, 1) := by decide +kernel
theorem dX3_turned_2 : decode cX3_turned 2 = .ok (.aload_n 0, 1) := by decide +kernel
theorem dX3_turned_3 : decode cX3_turned 3 = .ok (.getfield 25, 3) := by decide +kernel
theorem dX3_turned_6 : decode cX3_turned 6 = .ok (.iload_n 3, 1) := by decide +kernel
theorem dX3_turned_7 : decode cX3_turned 7 = .ok (.iaload, 1) := by decide +kernel
theorem dX3_turned_8 : decode cX3_turned 8 = .ok (.i2l, 1) := by decide +kernel
theorem dX3_turned_9 : decode cX3_turned 9 = .ok (.lmul, 1) := by decide +kernel
theorem dX3_turned_10 : decode cX3_turned 10 = .ok (.aload_n 0, 1) := by decide +kernel
theorem dX3_turned_11 : decode cX3_turned 11 = .ok (.getfield 25, 3) := by decide +kernel
theorem dX3_turned_14 : decode cX3_turned 14 = .ok (.iload_n 2, 1) := by decide +kernel
theorem dX3_turned_15 : decode cX3_turned 15 = .ok (.iaload, 1) := by decide +kernel
theorem dX3_turned_16 : decode cX3_turned 16 = .ok (.i2l, 1) := by decide +kernel
theorem dX3_turned_17 : decode cX3_turned 17 = .ok (.ldiv, 1) := by decide +kernel
theorem dX3_turned_18 : decode cX3_turned 18 = .ok (.lreturn, 1) := by decide +kernel
theorem dX3_paper_0 : decode cX3_paper 0 = .ok (.aload_n 0, 1) := by decide +kernel
theorem dX3_paper_1 : decode cX3_paper 1 = .ok (.iload_n 1, 1) := by decide +kernel
theorem dX3_paper_2 : decode cX3_paper 2 = .ok (.invokevirtual 146, 3) := by decide +kernel
theorem dX3_paper_5 : decode cX3_paper 5 = .ok (.ifCond .eq 66, 3) := by decide +kernel
theorem dX3_paper_8 : decode cX3_paper 8 = .ok (.aload_n 0, 1) := by decide +kernel
theorem dX3_paper_9 : decode cX3_paper 9 = .ok (.iload_n 2, 1) := by decide +kernel
theorem dX3_paper_10 : decode cX3_paper 10 = .ok (.invokevirtual 127, 3) := by decide +kernel
theorem dX3_paper_13 : decode cX3_paper 13 = .ok (.ifCond .eq 58, 3) := by decide +kernel
theorem dX3_paper_16 : decode cX3_paper 16 = .ok (.aload_n 0, 1) := by decide +kernel
theorem dX3_paper_17 : decode cX3_paper 17 = .ok (.iload_n 3, 1) := by decide +kernel
theorem dX3_paper_18 : decode cX3_paper 18 = .ok (.invokevirtual 127, 3) := by decide +kernel
theorem dX3_paper_21 : decode cX3_paper 21 = .ok (.ifCond .eq 50, 3) := by decide +kernel
theorem dX3_paper_24 : decode cX3_paper 24 = .ok (.iload_n 2, 1) := by decide +kernel
theorem dX3_paper_25 : decode cX3_paper 25 = .ok (.iload_n 3, 1) := by decide +kernel
theorem dX3_paper_26 : decode cX3_paper 26 = .ok (.if_icmp .eq 45, 3) := by decide +kernel
theorem dX3_paper_29 : decode cX3_paper 29 = .ok (.iload 4, 2) := by decide +kernel
theorem dX3_paper_31 : decode cX3_paper 31 = .ok (.ifCond .lt 40, 3) := by decide +kernel
theorem dX3_paper_34 : decode cX3_paper 34 = .ok (.iload 4, 2) := by decide +kernel
theorem dX3_paper_36 : decode cX3_paper 36 = .ok (.aload_n 0, 1) := by decide +kernel
theorem dX3_paper_37 : decode cX3_paper 37 = .ok (.getfield 149, 3) := by decide +kernel
theorem dX3_paper_40 : decode cX3_paper 40 = .ok (.if_icmp .gt 31, 3) := by decide +kernel
theorem dX3_paper_43 : decode cX3_paper 43 = .ok (.iload 5, 2) := by decide +kernel
theorem dX3_paper_45 : decode cX3_paper 45 = .ok (.ifCond .lt 26, 3) := by decide +kernel
theorem dX3_paper_48 : decode cX3_paper 48 = .ok (.iload 5, 2) := by decide +kernel
theorem dX3_paper_50 : decode cX3_paper 50 = .ok (.iconst 2, 1) := by decide +kernel
theorem dX3_paper_51 : decode cX3_paper 51 = .ok (.if_icmp .gt 20, 3) := by decide +kernel
theorem dX3_paper_54 : decode cX3_paper 54 = .ok (.iload 6, 2) := by decide +kernel
theorem dX3_paper_56 : decode cX3_paper 56 = .ok (.invokestatic 134, 3) := by decide +kernel
theorem dX3_paper_59 : decode cX3_paper 59 = .ok (.ifCond .eq 12, 3) := by decide +kernel
theorem dX3_paper_62 : decode cX3_paper 62 = .ok (.aload_n 0, 1) := by decide +kernel
theorem dX3_paper_63 : decode cX3_paper 63 = .ok (.getfield 152, 3) := by decide +kernel
theorem dX3_paper_66 : decode cX3_paper 66 = .ok (.bipush 60, 2) := by decide +kernel
theorem dX3_paper_68 : decode cX3_paper 68 = .ok (.if_icmp .ne 5, 3) := by decide +kernel
theorem dX3_paper_71 : decode cX3_paper 71 = .ok (.iconst (-1), 1) := by decide +kernel
theorem dX3_paper_72 : decode cX3_paper 72 = .ok (.ireturn, 1) := by decide +kernel
theorem dX3_paper_73 : decode cX3_paper 73 = .ok (.aload_n 0, 1) := by decide +kernel
theorem dX3_paper_74 : decode cX3_paper 74 = .ok (.getfield 28, 3) := by decide +kernel
theorem dX3_paper_77 : decode cX3_paper 77 = .ok (.aload_n 0, 1) := by decide +kernel
theorem dX3_paper_78 : decode cX3_paper 78 = .ok (.getfield 152, 3) := by decide +kernel
theorem dX3_paper_81 : decode cX3_paper 81 = .ok (.iload_n 1, 1) := by decide +kernel
theorem dX3_paper_82 : decode cX3_paper 82 = .ok (.iastore, 1) := by decide +kernel
theorem dX3_paper_83 : decode cX3_paper 83 = .ok (.aload_n 0, 1) := by decide +kernel
theorem dX3_paper_84 : decode cX3_paper 84 = .ok (.getfield 31, 3) := by decide +kernel
theorem dX3_paper_87 : decode cX3_paper 87 = .ok (.aload_n 0, 1) := by decide +kernel
theorem dX3_paper_88 : decode cX3_paper 88 = .ok (.getfield 152, 3) := by decide +kernel
theorem dX3_paper_91 : decode cX3_paper 91 = .ok (.iload_n 2, 1) := by decide +kernel
theorem dX3_paper_92 : decode cX3_paper 92 = .ok (.iastore, 1) := by decide +kernel
theorem dX3_paper_93 : decode cX3_paper 93 = .ok (.aload_n 0, 1) := by decide +kernel
theorem dX3_paper_94 : decode cX3_paper 94 = .ok (.getfield 34, 3) := by decide +kernel
theorem dX3_paper_97 : decode cX3_paper 97 = .ok (.aload_n 0, 1) := by decide +kernel
theorem dX3_paper_98 : decode cX3_paper 98 = .ok (.getfield 152, 3) := by decide +kernel
theorem dX3_paper_101 : decode cX3_paper 101 = .ok (.iload_n 3, 1) := by decide +kernel
theorem dX3_paper_102 : decode cX3_paper 102 = .ok (.iastore, 1) := by decide +kernel
theorem dX3_paper_103 : decode cX3_paper 103 = .ok (.aload_n 0, 1) := by decide +kernel
theorem dX3_paper_104 : decode cX3_paper 104 = .ok (.getfield 37, 3) := by decide +kernel
theorem dX3_paper_107 : decode cX3_paper 107 = .ok (.aload_n 0, 1) := by decide +kernel
theorem dX3_paper_108 : decode cX3_paper 108 = .ok (.getfield 152, 3) := by decide +kernel
theorem dX3_paper_111 : decode cX3_paper 111 = .ok (.iload 4, 2) := by decide +kernel
theorem dX3_paper_113 : decode cX3_paper 113 = .ok (.iastore, 1) := by decide +kernel
theorem dX3_paper_114 : decode cX3_paper 114 = .ok (.aload_n 0, 1) := by decide +kernel
theorem dX3_paper_115 : decode cX3_paper 115 = .ok (.getfield 40, 3) := by decide +kernel
theorem dX3_paper_118 : decode cX3_paper 118 = .ok (.aload_n 0, 1) := by decide +kernel
theorem dX3_paper_119 : decode cX3_paper 119 = .ok (.getfield 152, 3) := by decide +kernel
theorem dX3_paper_122 : decode cX3_paper 122 = .ok (.iload 5, 2) := by decide +kernel
theorem dX3_paper_124 : decode cX3_paper 124 = .ok (.iastore, 1) := by decide +kernel
theorem dX3_paper_125 : decode cX3_paper 125 = .ok (.aload_n 0, 1) := by decide +kernel
theorem dX3_paper_126 : decode cX3_paper 126 = .ok (.getfield 43, 3) := by decide +kernel
theorem dX3_paper_129 : decode cX3_paper 129 = .ok (.aload_n 0, 1) := by decide +kernel
theorem dX3_paper_130 : decode cX3_paper 130 = .ok (.getfield 152, 3) := by decide +kernel
theorem dX3_paper_133 : decode cX3_paper 133 = .ok (.iload 6, 2) := by decide +kernel
theorem dX3_paper_135 : decode cX3_paper 135 = .ok (.iastore, 1) := by decide +kernel
theorem dX3_paper_136 : decode cX3_paper 136 = .ok (.aload_n 0, 1) := by decide +kernel
theorem dX3_paper_137 : decode cX3_paper 137 = .ok (.getfield 46, 3) := by decide +kernel
theorem dX3_paper_140 : decode cX3_paper 140 = .ok (.aload_n 0, 1) := by decide +kernel
theorem dX3_paper_141 : decode cX3_paper 141 = .ok (.getfield 152, 3) := by decide +kernel
theorem dX3_paper_144 : decode cX3_paper 144 = .ok (.aload_n 0, 1) := by decide +kernel
theorem dX3_paper_145 : decode cX3_paper 145 = .ok (.getfield 149, 3) := by decide +kernel
theorem dX3_paper_148 : decode cX3_paper 148 = .ok (.iastore, 1) := by decide +kernel
theorem dX3_paper_149 : decode cX3_paper 149 = .ok (.aload_n 0, 1) := by decide +kernel
theorem dX3_paper_150 : decode cX3_paper 150 = .ok (.getfield 49, 3) := by decide +kernel
theorem dX3_paper_153 : decode cX3_paper 153 = .ok (.aload_n 0, 1) := by decide +kernel
theorem dX3_paper_154 : decode cX3_paper 154 = .ok (.getfield 152, 3) := by decide +kernel
theorem dX3_paper_157 : decode cX3_paper 157 = .ok (.iconst (-1), 1) := by decide +kernel
theorem dX3_paper_158 : decode cX3_paper 158 = .ok (.iastore, 1) := by decide +kernel
theorem dX3_paper_159 : decode cX3_paper 159 = .ok (.aload_n 0, 1) := by decide +kernel
theorem dX3_paper_160 : decode cX3_paper 160 = .ok (.dup, 1) := by decide +kernel
theorem dX3_paper_161 : decode cX3_paper 161 = .ok (.getfield 152, 3) := by decide +kernel
theorem dX3_paper_164 : decode cX3_paper 164 = .ok (.iconst 1, 1) := by decide +kernel
theorem dX3_paper_165 : decode cX3_paper 165 = .ok (.iadd, 1) := by decide +kernel
theorem dX3_paper_166 : decode cX3_paper 166 = .ok (.putfield 152, 3) := by decide +kernel
theorem dX3_paper_169 : decode cX3_paper 169 = .ok (.aload_n 0, 1) := by decide +kernel
theorem dX3_paper_170 : decode cX3_paper 170 = .ok (.getfield 152, 3) := by decide +kernel
theorem dX3_paper_173 : decode cX3_paper 173 = .ok (.iconst 1, 1) := by decide +kernel
theorem dX3_paper_174 : decode cX3_paper 174 = .ok (.isub, 1) := by decide +kernel
theorem dX3_paper_175 : decode cX3_paper 175 = .ok (.ireturn, 1) := by decide +kernel
theorem dX3_isHouse_0 : decode cX3_isHouse 0 = .ok (.iload_n 1, 1) := by decide +kernel
theorem dX3_isHouse_1 : decode cX3_isHouse 1 = .ok (.ifCond .lt 15, 3) := by decide +kernel
theorem dX3_isHouse_4 : decode cX3_isHouse 4 = .ok (.iload_n 1, 1) := by decide +kernel
theorem dX3_isHouse_5 : decode cX3_isHouse 5 = .ok (.aload_n 0, 1) := by decide +kernel
theorem dX3_isHouse_6 : decode cX3_isHouse 6 = .ok (.getfield 122, 3) := by decide +kernel
theorem dX3_isHouse_9 : decode cX3_isHouse 9 = .ok (.if_icmp .ge 7, 3) := by decide +kernel
theorem dX3_isHouse_12 : decode cX3_isHouse 12 = .ok (.iconst 1, 1) := by decide +kernel
theorem dX3_isHouse_13 : decode cX3_isHouse 13 = .ok (.goto 4, 3) := by decide +kernel
theorem dX3_isHouse_16 : decode cX3_isHouse 16 = .ok (.iconst 0, 1) := by decide +kernel
theorem dX3_isHouse_17 : decode cX3_isHouse 17 = .ok (.ireturn, 1) := by decide +kernel
theorem dX3_isFalse_0 : decode cX3_isFalse 0 = .ok (.aload_n 0, 1) := by decide +kernel
theorem dX3_isFalse_1 : decode cX3_isFalse 1 = .ok (.iload_n 1, 1) := by decide +kernel
theorem dX3_isFalse_2 : decode cX3_isFalse 2 = .ok (.invokevirtual 155, 3) := by decide +kernel
theorem dX3_isFalse_5 : decode cX3_isFalse 5 = .ok (.ifCond .eq 12, 3) := by decide +kernel
theorem dX3_isFalse_8 : decode cX3_isFalse 8 = .ok (.aload_n 0, 1) := by decide +kernel
theorem dX3_isFalse_9 : decode cX3_isFalse 9 = .ok (.getfield 49, 3) := by decide +kernel
theorem dX3_isFalse_12 : decode cX3_isFalse 12 = .ok (.iload_n 1, 1) := by decide +kernel
theorem dX3_isFalse_13 : decode cX3_isFalse 13 = .ok (.iaload, 1) := by decide +kernel
theorem dX3_isFalse_14 : decode cX3_isFalse 14 = .ok (.ifCond .lt 5, 3) := by decide +kernel
theorem dX3_isFalse_17 : decode cX3_isFalse 17 = .ok (.iconst 0, 1) := by decide +kernel
theorem dX3_isFalse_18 : decode cX3_isFalse 18 = .ok (.ireturn, 1) := by decide +kernel
theorem dX3_isFalse_19 : decode cX3_isFalse 19 = .ok (.aload_n 0, 1) := by decide +kernel
theorem dX3_isFalse_20 : decode cX3_isFalse 20 = .ok (.getfield 49, 3) := by decide +kernel
theorem dX3_isFalse_23 : decode cX3_isFalse 23 = .ok (.iload_n 1, 1) := by decide +kernel
theorem dX3_isFalse_24 : decode cX3_isFalse 24 = .ok (.aload_n 0, 1) := by decide +kernel
theorem dX3_isFalse_25 : decode cX3_isFalse 25 = .ok (.getfield 149, 3) := by decide +kernel
theorem dX3_isFalse_28 : decode cX3_isFalse 28 = .ok (.iastore, 1) := by decide +kernel
theorem dX3_isFalse_29 : decode cX3_isFalse 29 = .ok (.iconst 1, 1) := by decide +kernel
theorem dX3_isFalse_30 : decode cX3_isFalse 30 = .ok (.ireturn, 1) := by decide +kernel
theorem dX3_isPaper_0 : decode cX3_isPaper 0 = .ok (.iload_n 1, 1) := by decide +kernel
theorem dX3_isPaper_1 : decode cX3_isPaper 1 = .ok (.ifCond .lt 15, 3) := by decide +kernel
theorem dX3_isPaper_4 : decode cX3_isPaper 4 = .ok (.iload_n 1, 1) := by decide +kernel
theorem dX3_isPaper_5 : decode cX3_isPaper 5 = .ok (.aload_n 0, 1) := by decide +kernel
theorem dX3_isPaper_6 : decode cX3_isPaper 6 = .ok (.getfield 152, 3) := by decide +kernel
theorem dX3_isPaper_9 : decode cX3_isPaper 9 = .ok (.if_icmp .ge 7, 3) := by decide +kernel
theorem dX3_isPaper_12 : decode cX3_isPaper 12 = .ok (.iconst 1, 1) := by decide +kernel
theorem dX3_isPaper_13 : decode cX3_isPaper 13 = .ok (.goto 4, 3) := by decide +kernel
theorem dX3_isPaper_16 : decode cX3_isPaper 16 = .ok (.iconst 0, 1) := by decide +kernel
theorem dX3_isPaper_17 : decode cX3_isPaper 17 = .ok (.ireturn, 1) := by decide +kernel
theorem dX3_later_0 : decode cX3_later 0 = .ok (.iload_n 1, 1) := by decide +kernel
theorem dX3_later_1 : decode cX3_later 1 = .ok (.ifCond .lt 21, 3) := by decide +kernel
theorem dX3_later_4 : decode cX3_later 4 = .ok (.iload_n 1, 1) := by decide +kernel
theorem dX3_later_5 : decode cX3_later 5 = .ok (.sipush 1000, 3) := by decide +kernel
theorem dX3_later_8 : decode cX3_later 8 = .ok (.if_icmp .gt 14, 3) := by decide +kernel
theorem dX3_later_11 : decode cX3_later 11 = .ok (.aload_n 0, 1) := by decide +kernel
theorem dX3_later_12 : decode cX3_later 12 = .ok (.getfield 149, 3) := by decide +kernel
theorem dX3_later_15 : decode cX3_later 15 = .ok (.iload_n 1, 1) := by decide +kernel
theorem dX3_later_16 : decode cX3_later 16 = .ok (.iadd, 1) := by decide +kernel
theorem dX3_later_17 : decode cX3_later 17 = .ok (.ldc 125, 2) := by decide +kernel
theorem dX3_later_19 : decode cX3_later 19 = .ok (.if_icmp .le 5, 3) := by decide +kernel
theorem dX3_later_22 : decode cX3_later 22 = .ok (.iconst (-1), 1) := by decide +kernel
theorem dX3_later_23 : decode cX3_later 23 = .ok (.ireturn, 1) := by decide +kernel
theorem dX3_later_24 : decode cX3_later 24 = .ok (.aload_n 0, 1) := by decide +kernel
theorem dX3_later_25 : decode cX3_later 25 = .ok (.dup, 1) := by decide +kernel
theorem dX3_later_26 : decode cX3_later 26 = .ok (.getfield 149, 3) := by decide +kernel
theorem dX3_later_29 : decode cX3_later 29 = .ok (.iload_n 1, 1) := by decide +kernel
theorem dX3_later_30 : decode cX3_later 30 = .ok (.iadd, 1) := by decide +kernel
theorem dX3_later_31 : decode cX3_later 31 = .ok (.putfield 149, 3) := by decide +kernel
theorem dX3_later_34 : decode cX3_later 34 = .ok (.aload_n 0, 1) := by decide +kernel
theorem dX3_later_35 : decode cX3_later 35 = .ok (.getfield 149, 3) := by decide +kernel
theorem dX3_later_38 : decode cX3_later 38 = .ok (.ireturn, 1) := by decide +kernel
theorem dX3_holder_0 : decode cX3_holder 0 = .ok (.aload_n 0, 1) := by decide +kernel
theorem dX3_holder_1 : decode cX3_holder 1 = .ok (.iload_n 1, 1) := by decide +kernel
theorem dX3_holder_2 : decode cX3_holder 2 = .ok (.invokevirtual 146, 3) := by decide +kernel
theorem dX3_holder_5 : decode cX3_holder 5 = .ok (.ifCond .eq 13, 3) := by decide +kernel
theorem dX3_holder_8 : decode cX3_holder 8 = .ok (.aload_n 0, 1) := by decide +kernel
theorem dX3_holder_9 : decode cX3_holder 9 = .ok (.iload_n 1, 1) := by decide +kernel
theorem dX3_holder_10 : decode cX3_holder 10 = .ok (.iload_n 2, 1) := by decide +kernel
theorem dX3_holder_11 : decode cX3_holder 11 = .ok (.iload_n 3, 1) := by decide +kernel
theorem dX3_holder_12 : decode cX3_holder 12 = .ok (.invokevirtual 165, 3) := by decide +kernel
theorem dX3_holder_15 : decode cX3_holder 15 = .ok (.goto 4, 3) := by decide +kernel
theorem dX3_holder_18 : decode cX3_holder 18 = .ok (.iconst (-1), 1) := by decide +kernel
theorem dX3_holder_19 : decode cX3_holder 19 = .ok (.ireturn, 1) := by decide +kernel
theorem dX3_follow_0 : decode cX3_follow 0 = .ok (.aload_n 0, 1) := by decide +kernel
theorem dX3_follow_1 : decode cX3_follow 1 = .ok (.iconst 0, 1) := by decide +kernel
theorem dX3_follow_2 : decode cX3_follow 2 = .ok (.putfield 158, 3) := by decide +kernel
theorem dX3_follow_5 : decode cX3_follow 5 = .ok (.iconst 0, 1) := by decide +kernel
theorem dX3_follow_6 : decode cX3_follow 6 = .ok (.istore 4, 2) := by decide +kernel
theorem dX3_follow_8 : decode cX3_follow 8 = .ok (.iload 4, 2) := by decide +kernel
theorem dX3_follow_10 : decode cX3_follow 10 = .ok (.aload_n 0, 1) := by decide +kernel
theorem dX3_follow_11 : decode cX3_follow 11 = .ok (.getfield 152, 3) := by decide +kernel
theorem dX3_follow_14 : decode cX3_follow 14 = .ok (.if_icmp .ge 109, 3) := by decide +kernel
theorem dX3_follow_17 : decode cX3_follow 17 = .ok (.aload_n 0, 1) := by decide +kernel
theorem dX3_follow_18 : decode cX3_follow 18 = .ok (.getfield 28, 3) := by decide +kernel
theorem dX3_follow_21 : decode cX3_follow 21 = .ok (.iload 4, 2) := by decide +kernel
theorem dX3_follow_23 : decode cX3_follow 23 = .ok (.iaload, 1) := by decide +kernel
theorem dX3_follow_24 : decode cX3_follow 24 = .ok (.iload_n 1, 1) := by decide +kernel
theorem dX3_follow_25 : decode cX3_follow 25 = .ok (.if_icmp .ne 92, 3) := by decide +kernel
theorem dX3_follow_28 : decode cX3_follow 28 = .ok (.aload_n 0, 1) := by decide +kernel
theorem dX3_follow_29 : decode cX3_follow 29 = .ok (.iload 4, 2) := by decide +kernel
theorem dX3_follow_31 : decode cX3_follow 31 = .ok (.iload_n 3, 1) := by decide +kernel
theorem dX3_follow_32 : decode cX3_follow 32 = .ok (.invokevirtual 161, 3) := by decide +kernel
theorem dX3_follow_35 : decode cX3_follow 35 = .ok (.ifCond .ne 6, 3) := by decide +kernel
theorem dX3_follow_38 : decode cX3_follow 38 = .ok (.goto 79, 3) := by decide +kernel
theorem dX3_follow_41 : decode cX3_follow 41 = .ok (.aload_n 0, 1) := by decide +kernel
theorem dX3_follow_42 : decode cX3_follow 42 = .ok (.getfield 158, 3) := by decide +kernel
theorem dX3_follow_45 : decode cX3_follow 45 = .ok (.istore 5, 2) := by decide +kernel
theorem dX3_follow_47 : decode cX3_follow 47 = .ok (.iload 5, 2) := by decide +kernel
theorem dX3_follow_49 : decode cX3_follow 49 = .ok (.ifCond .le 49, 3) := by decide +kernel
theorem dX3_follow_52 : decode cX3_follow 52 = .ok (.aload_n 0, 1) := by decide +kernel
theorem dX3_follow_53 : decode cX3_follow 53 = .ok (.getfield 37, 3) := by decide +kernel
theorem dX3_follow_56 : decode cX3_follow 56 = .ok (.aload_n 0, 1) := by decide +kernel
theorem dX3_follow_57 : decode cX3_follow 57 = .ok (.getfield 52, 3) := by decide +kernel
theorem dX3_follow_60 : decode cX3_follow 60 = .ok (.iload 5, 2) := by decide +kernel
theorem dX3_follow_62 : decode cX3_follow 62 = .ok (.iconst 1, 1) := by decide +kernel
theorem dX3_follow_63 : decode cX3_follow 63 = .ok (.isub, 1) := by decide +kernel
theorem dX3_follow_64 : decode cX3_follow 64 = .ok (.iaload, 1) := by decide +kernel
theorem dX3_follow_65 : decode cX3_follow 65 = .ok (.iaload, 1) := by decide +kernel
theorem dX3_follow_66 : decode cX3_follow 66 = .ok (.aload_n 0, 1) := by decide +kernel
theorem dX3_follow_67 : decode cX3_follow 67 = .ok (.getfield 37, 3) := by decide +kernel
