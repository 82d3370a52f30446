set_option maxRecDepth 100000
theorem dX3_gets_0 : decode cX3_gets 0 = .ok (.aload_n 0, 1) := by decide +kernel
theorem dX3_gets_1 : decode cX3_gets 1 = .ok (.getfield 103, 3) := by decide +kernel
theorem dX3_gets_4 : decode cX3_gets 4 = .ok (.iload_n 1, 1) := by decide +kernel
theorem dX3_gets_5 : decode cX3_gets 5 = .ok (.laload, 1) := by decide +kernel
theorem dX3_gets_6 : decode cX3_gets 6 = .ok (.lload 4, 2) := by decide +kernel
theorem dX3_gets_8 : decode cX3_gets 8 = .ok (.lmul, 1) := by decide +kernel
theorem dX3_gets_9 : decode cX3_gets 9 = .ok (.lload_n 2, 1) := by decide +kernel
theorem dX3_gets_10 : decode cX3_gets 10 = .ok (.aload_n 0, 1) := by decide +kernel
theorem dX3_gets_11 : decode cX3_gets 11 = .ok (.getfield 107, 3) := by decide +kernel
theorem dX3_gets_14 : decode cX3_gets 14 = .ok (.iload_n 1, 1) := by decide +kernel
theorem dX3_gets_15 : decode cX3_gets 15 = .ok (.laload, 1) := by decide +kernel
theorem dX3_gets_16 : decode cX3_gets 16 = .ok (.lmul, 1) := by decide +kernel
theorem dX3_gets_17 : decode cX3_gets 17 = .ok (.ladd, 1) := by decide +kernel
theorem dX3_gets_18 : decode cX3_gets 18 = .ok (.lstore 6, 2) := by decide +kernel
theorem dX3_gets_20 : decode cX3_gets 20 = .ok (.aload_n 0, 1) := by decide +kernel
theorem dX3_gets_21 : decode cX3_gets 21 = .ok (.getfield 107, 3) := by decide +kernel
theorem dX3_gets_24 : decode cX3_gets 24 = .ok (.iload_n 1, 1) := by decide +kernel
theorem dX3_gets_25 : decode cX3_gets 25 = .ok (.laload, 1) := by decide +kernel
theorem dX3_gets_26 : decode cX3_gets 26 = .ok (.lload 4, 2) := by decide +kernel
theorem dX3_gets_28 : decode cX3_gets 28 = .ok (.lmul, 1) := by decide +kernel
theorem dX3_gets_29 : decode cX3_gets 29 = .ok (.lstore 8, 2) := by decide +kernel
theorem dX3_gets_31 : decode cX3_gets 31 = .ok (.lload 6, 2) := by decide +kernel
theorem dX3_gets_33 : decode cX3_gets 33 = .ok (.lload 8, 2) := by decide +kernel
theorem dX3_gets_35 : decode cX3_gets 35 = .ok (.invokestatic 339, 3) := by decide +kernel
theorem dX3_gets_38 : decode cX3_gets 38 = .ok (.lstore 10, 2) := by decide +kernel
theorem dX3_gets_40 : decode cX3_gets 40 = .ok (.aload_n 0, 1) := by decide +kernel
theorem dX3_gets_41 : decode cX3_gets 41 = .ok (.getfield 103, 3) := by decide +kernel
theorem dX3_gets_44 : decode cX3_gets 44 = .ok (.iload_n 1, 1) := by decide +kernel
theorem dX3_gets_45 : decode cX3_gets 45 = .ok (.lload 6, 2) := by decide +kernel
theorem dX3_gets_47 : decode cX3_gets 47 = .ok (.lload 10, 2) := by decide +kernel
theorem dX3_gets_49 : decode cX3_gets 49 = .ok (.ldiv, 1) := by decide +kernel
theorem dX3_gets_50 : decode cX3_gets 50 = .ok (.lastore, 1) := by decide +kernel
theorem dX3_gets_51 : decode cX3_gets 51 = .ok (.aload_n 0, 1) := by decide +kernel
theorem dX3_gets_52 : decode cX3_gets 52 = .ok (.getfield 107, 3) := by decide +kernel
theorem dX3_gets_55 : decode cX3_gets 55 = .ok (.iload_n 1, 1) := by decide +kernel
theorem dX3_gets_56 : decode cX3_gets 56 = .ok (.lload 8, 2) := by decide +kernel
theorem dX3_gets_58 : decode cX3_gets 58 = .ok (.lload 10, 2) := by decide +kernel
theorem dX3_gets_60 : decode cX3_gets 60 = .ok (.ldiv, 1) := by decide +kernel
theorem dX3_gets_61 : decode cX3_gets 61 = .ok (.lastore, 1) := by decide +kernel
theorem dX3_gets_62 : decode cX3_gets 62 = .ok (.return_, 1) := by decide +kernel
theorem dX3_divisor_0 : decode cX3_divisor 0 = .ok (.lload_n 0, 1) := by decide +kernel
theorem dX3_divisor_1 : decode cX3_divisor 1 = .ok (.lstore 4, 2) := by decide +kernel
theorem dX3_divisor_3 : decode cX3_divisor 3 = .ok (.lload_n 2, 1) := by decide +kernel
theorem dX3_divisor_4 : decode cX3_divisor 4 = .ok (.lstore 6, 2) := by decide +kernel
theorem dX3_divisor_6 : decode cX3_divisor 6 = .ok (.lload 6, 2) := by decide +kernel
theorem dX3_divisor_8 : decode cX3_divisor 8 = .ok (.lconst 0, 1) := by decide +kernel
theorem dX3_divisor_9 : decode cX3_divisor 9 = .ok (.lcmp, 1) := by decide +kernel
theorem dX3_divisor_10 : decode cX3_divisor 10 = .ok (.ifCond .eq 21, 3) := by decide +kernel
theorem dX3_divisor_13 : decode cX3_divisor 13 = .ok (.lload 4, 2) := by decide +kernel
theorem dX3_divisor_15 : decode cX3_divisor 15 = .ok (.lload 6, 2) := by decide +kernel
theorem dX3_divisor_17 : decode cX3_divisor 17 = .ok (.lrem, 1) := by decide +kernel
theorem dX3_divisor_18 : decode cX3_divisor 18 = .ok (.lstore 8, 2) := by decide +kernel
theorem dX3_divisor_20 : decode cX3_divisor 20 = .ok (.lload 6, 2) := by decide +kernel
theorem dX3_divisor_22 : decode cX3_divisor 22 = .ok (.lstore 4, 2) := by decide +kernel
theorem dX3_divisor_24 : decode cX3_divisor 24 = .ok (.lload 8, 2) := by decide +kernel
theorem dX3_divisor_26 : decode cX3_divisor 26 = .ok (.lstore 6, 2) := by decide +kernel
theorem dX3_divisor_28 : decode cX3_divisor 28 = .ok (.goto (-22), 3) := by decide +kernel
theorem dX3_divisor_31 : decode cX3_divisor 31 = .ok (.lload 4, 2) := by decide +kernel
theorem dX3_divisor_33 : decode cX3_divisor 33 = .ok (.lreturn, 1) := by decide +kernel
theorem dX3_want_0 : decode cX3_want 0 = .ok (.aload_n 0, 1) := by decide +kernel
theorem dX3_want_1 : decode cX3_want 1 = .ok (.iload_n 1, 1) := by decide +kernel
theorem dX3_want_2 : decode cX3_want 2 = .ok (.invokevirtual 146, 3) := by decide +kernel
theorem dX3_want_5 : decode cX3_want 5 = .ok (.ifCond .eq 36, 3) := by decide +kernel
theorem dX3_want_8 : decode cX3_want 8 = .ok (.aload_n 0, 1) := by decide +kernel
theorem dX3_want_9 : decode cX3_want 9 = .ok (.iload_n 2, 1) := by decide +kernel
theorem dX3_want_10 : decode cX3_want 10 = .ok (.invokevirtual 146, 3) := by decide +kernel
theorem dX3_want_13 : decode cX3_want 13 = .ok (.ifCond .eq 28, 3) := by decide +kernel
theorem dX3_want_16 : decode cX3_want 16 = .ok (.iload_n 1, 1) := by decide +kernel
theorem dX3_want_17 : decode cX3_want 17 = .ok (.iload_n 2, 1) := by decide +kernel
theorem dX3_want_18 : decode cX3_want 18 = .ok (.if_icmp .eq 23, 3) := by decide +kernel
theorem dX3_want_21 : decode cX3_want 21 = .ok (.iload_n 3, 1) := by decide +kernel
theorem dX3_want_22 : decode cX3_want 22 = .ok (.ifCond .lt 19, 3) := by decide +kernel
theorem dX3_want_25 : decode cX3_want 25 = .ok (.iload_n 3, 1) := by decide +kernel
theorem dX3_want_26 : decode cX3_want 26 = .ok (.sipush 1000, 3) := by decide +kernel
theorem dX3_want_29 : decode cX3_want 29 = .ok (.if_icmp .gt 12, 3) := by decide +kernel
theorem dX3_want_32 : decode cX3_want 32 = .ok (.aload_n 0, 1) := by decide +kernel
theorem dX3_want_33 : decode cX3_want 33 = .ok (.getfield 353, 3) := by decide +kernel
theorem dX3_want_36 : decode cX3_want 36 = .ok (.bipush 40, 2) := by decide +kernel
theorem dX3_want_38 : decode cX3_want 38 = .ok (.if_icmp .ne 5, 3) := by decide +kernel
theorem dX3_want_41 : decode cX3_want 41 = .ok (.iconst (-1), 1) := by decide +kernel
theorem dX3_want_42 : decode cX3_want 42 = .ok (.ireturn, 1) := by decide +kernel
theorem dX3_want_43 : decode cX3_want 43 = .ok (.aload_n 0, 1) := by decide +kernel
theorem dX3_want_44 : decode cX3_want 44 = .ok (.getfield 113, 3) := by decide +kernel
theorem dX3_want_47 : decode cX3_want 47 = .ok (.bipush 8, 2) := by decide +kernel
theorem dX3_want_49 : decode cX3_want 49 = .ok (.iload_n 1, 1) := by decide +kernel
theorem dX3_want_50 : decode cX3_want 50 = .ok (.imul, 1) := by decide +kernel
theorem dX3_want_51 : decode cX3_want 51 = .ok (.iload_n 2, 1) := by decide +kernel
theorem dX3_want_52 : decode cX3_want 52 = .ok (.iadd, 1) := by decide +kernel
theorem dX3_want_53 : decode cX3_want 53 = .ok (.iload_n 3, 1) := by decide +kernel
theorem dX3_want_54 : decode cX3_want 54 = .ok (.iastore, 1) := by decide +kernel
theorem dX3_want_55 : decode cX3_want 55 = .ok (.aload_n 0, 1) := by decide +kernel
theorem dX3_want_56 : decode cX3_want 56 = .ok (.dup, 1) := by decide +kernel
theorem dX3_want_57 : decode cX3_want 57 = .ok (.getfield 353, 3) := by decide +kernel
theorem dX3_want_60 : decode cX3_want 60 = .ok (.iconst 1, 1) := by decide +kernel
theorem dX3_want_61 : decode cX3_want 61 = .ok (.iadd, 1) := by decide +kernel
theorem dX3_want_62 : decode cX3_want 62 = .ok (.putfield 353, 3) := by decide +kernel
theorem dX3_want_65 : decode cX3_want 65 = .ok (.aload_n 0, 1) := by decide +kernel
theorem dX3_want_66 : decode cX3_want 66 = .ok (.getfield 353, 3) := by decide +kernel
theorem dX3_want_69 : decode cX3_want 69 = .ok (.ireturn, 1) := by decide +kernel
theorem dX3_joy_0 : decode cX3_joy 0 = .ok (.aload_n 0, 1) := by decide +kernel
theorem dX3_joy_1 : decode cX3_joy 1 = .ok (.invokevirtual 359, 3) := by decide +kernel
theorem dX3_joy_4 : decode cX3_joy 4 = .ok (.ireturn, 1) := by decide +kernel
theorem dX3_solve_0 : decode cX3_solve 0 = .ok (.aload_n 0, 1) := by decide +kernel
theorem dX3_solve_1 : decode cX3_solve 1 = .ok (.getfield 122, 3) := by decide +kernel
theorem dX3_solve_4 : decode cX3_solve 4 = .ok (.istore_n 1, 1) := by decide +kernel
theorem dX3_solve_5 : decode cX3_solve 5 = .ok (.iload_n 1, 1) := by decide +kernel
theorem dX3_solve_6 : decode cX3_solve 6 = .ok (.ifCond .lt 172, 3) := by decide +kernel
theorem dX3_solve_9 : decode cX3_solve 9 = .ok (.iconst 0, 1) := by decide +kernel
theorem dX3_solve_10 : decode cX3_solve 10 = .ok (.istore_n 2, 1) := by decide +kernel
theorem dX3_solve_11 : decode cX3_solve 11 = .ok (.iload_n 2, 1) := by decide +kernel
theorem dX3_solve_12 : decode cX3_solve 12 = .ok (.iconst 1, 1) := by decide +kernel
theorem dX3_solve_13 : decode cX3_solve 13 = .ok (.aload_n 0, 1) := by decide +kernel
theorem dX3_solve_14 : decode cX3_solve 14 = .ok (.getfield 122, 3) := by decide +kernel
theorem dX3_solve_17 : decode cX3_solve 17 = .ok (.ishl, 1) := by decide +kernel
theorem dX3_solve_18 : decode cX3_solve 18 = .ok (.if_icmp .ge 154, 3) := by decide +kernel
theorem dX3_solve_21 : decode cX3_solve 21 = .ok (.iload_n 1, 1) := by decide +kernel
theorem dX3_solve_22 : decode cX3_solve 22 = .ok (.aload_n 0, 1) := by decide +kernel
theorem dX3_solve_23 : decode cX3_solve 23 = .ok (.getfield 122, 3) := by decide +kernel
theorem dX3_solve_26 : decode cX3_solve 26 = .ok (.if_icmp .ne 7, 3) := by decide +kernel
theorem dX3_solve_29 : decode cX3_solve 29 = .ok (.iconst 0, 1) := by decide +kernel
theorem dX3_solve_30 : decode cX3_solve 30 = .ok (.goto 4, 3) := by decide +kernel
theorem dX3_solve_33 : decode cX3_solve 33 = .ok (.iconst (-1), 1) := by decide +kernel
theorem dX3_solve_34 : decode cX3_solve 34 = .ok (.istore_n 3, 1) := by decide +kernel
theorem dX3_solve_35 : decode cX3_solve 35 = .ok (.iconst 0, 1) := by decide +kernel
theorem dX3_solve_36 : decode cX3_solve 36 = .ok (.istore 4, 2) := by decide +kernel
theorem dX3_solve_38 : decode cX3_solve 38 = .ok (.iload 4, 2) := by decide +kernel
theorem dX3_solve_40 : decode cX3_solve 40 = .ok (.aload_n 0, 1) := by decide +kernel
theorem dX3_solve_41 : decode cX3_solve 41 = .ok (.getfield 122, 3) := by decide +kernel
theorem dX3_solve_44 : decode cX3_solve 44 = .ok (.if_icmp .ge 109, 3) := by decide +kernel
theorem dX3_solve_47 : decode cX3_solve 47 = .ok (.iload_n 1, 1) := by decide +kernel
theorem dX3_solve_48 : decode cX3_solve 48 = .ok (.aload_n 0, 1) := by decide +kernel
theorem dX3_solve_49 : decode cX3_solve 49 = .ok (.getfield 122, 3) := by decide +kernel
theorem dX3_solve_52 : decode cX3_solve 52 = .ok (.if_icmp .ge 101, 3) := by decide +kernel
theorem dX3_solve_55 : decode cX3_solve 55 = .ok (.iload_n 2, 1) := by decide +kernel
theorem dX3_solve_56 : decode cX3_solve 56 = .ok (.iload 4, 2) := by decide +kernel
theorem dX3_solve_58 : decode cX3_solve 58 = .ok (.ishr, 1) := by decide +kernel
theorem dX3_solve_59 : decode cX3_solve 59 = .ok (.iconst 1, 1) := by decide +kernel
theorem dX3_solve_60 : decode cX3_solve 60 = .ok (.iand, 1) := by decide +kernel
theorem dX3_solve_61 : decode cX3_solve 61 = .ok (.iconst 1, 1) := by decide +kernel
theorem dX3_solve_62 : decode cX3_solve 62 = .ok (.if_icmp .eq 85, 3) := by decide +kernel
theorem dX3_solve_65 : decode cX3_solve 65 = .ok (.aload_n 0, 1) := by decide +kernel
theorem dX3_solve_66 : decode cX3_solve 66 = .ok (.iload_n 1, 1) := by decide +kernel
theorem dX3_solve_67 : decode cX3_solve 67 = .ok (.iload 4, 2) := by decide +kernel
theorem dX3_solve_69 : decode cX3_solve 69 = .ok (.invokevirtual 356, 3) := by decide +kernel
theorem dX3_solve_72 : decode cX3_solve 72 = .ok (.ifCond .eq 75, 3) := by decide +kernel
theorem dX3_solve_75 : decode cX3_solve 75 = .ok (.aload_n 0, 1) := by decide +kernel
theorem dX3_solve_76 : decode cX3_solve 76 = .ok (.getfield 116, 3) := by decide +kernel
theorem dX3_solve_79 : decode cX3_solve 79 = .ok (.sipush 256, 3) := by decide +kernel
theorem dX3_solve_82 : decode cX3_solve 82 = .ok (.iload_n 1, 1) := by decide +kernel
theorem dX3_solve_83 : decode cX3_solve 83 = .ok (.iconst 1, 1) := by decide +kernel
theorem dX3_solve_84 : decode cX3_solve 84 = .ok (.iadd, 1) := by decide +kernel
theorem dX3_solve_85 : decode cX3_solve 85 = .ok (.imul, 1) := by decide +kernel
theorem dX3_solve_86 : decode cX3_solve 86 = .ok (.iload_n 2, 1) := by decide +kernel
theorem dX3_solve_87 : decode cX3_solve 87 = .ok (.iconst 1, 1) := by decide +kernel
theorem dX3_solve_88 : decode cX3_solve 88 = .ok (.iload 4, 2) := by decide +kernel
theorem dX3_solve_90 : decode cX3_solve 90 = .ok (.ishl, 1) := by decide +kernel
theorem dX3_solve_91 : decode cX3_solve 91 = .ok (.ior, 1) := by decide +kernel
theorem dX3_solve_92 : decode cX3_solve 92 = .ok (.iadd, 1) := by decide +kernel
theorem dX3_solve_93 : decode cX3_solve 93 = .ok (.iaload, 1) := by decide +kernel
theorem dX3_solve_94 : decode cX3_solve 94 = .ok (.ifCond .ge 6, 3) := by decide +kernel
theorem dX3_solve_97 : decode cX3_solve 97 = .ok (.goto 50, 3) := by decide +kernel
theorem dX3_solve_100 : decode cX3_solve 100 = .ok (.aload_n 0, 1) := by decide +kernel
theorem dX3_solve_101 : decode cX3_solve 101 = .ok (.getfield 113, 3) := by decide +kernel
theorem dX3_solve_104 : decode cX3_solve 104 = .ok (.bipush 8, 2) := by decide +kernel
theorem dX3_solve_106 : decode cX3_solve 106 = .ok (.iload_n 1, 1) := by decide +kernel
theorem dX3_solve_107 : decode cX3_solve 107 = .ok (.imul, 1) := by decide +kernel
theorem dX3_solve_108 : decode cX3_solve 108 = .ok (.iload 4, 2) := by decide +kernel
theorem dX3_solve_110 : decode cX3_solve 110 = .ok (.iadd, 1) := by decide +kernel
theorem dX3_solve_111 : decode cX3_solve 111 = .ok (.iaload, 1) := by decide +kernel
theorem dX3_solve_112 : decode cX3_solve 112 = .ok (.aload_n 0, 1) := by decide +kernel
theorem dX3_solve_113 : decode cX3_solve 113 = .ok (.getfield 116, 3) := by decide +kernel
theorem dX3_solve_116 : decode cX3_solve 116 = .ok (.sipush 256, 3) := by decide +kernel
theorem dX3_solve_119 : decode cX3_solve 119 = .ok (.iload_n 1, 1) := by decide +kernel
theorem dX3_solve_120 : decode cX3_solve 120 = .ok (.iconst 1, 1) := by decide +kernel
theorem dX3_solve_121 : decode cX3_solve 121 = .ok (.iadd, 1) := by decide +kernel
theorem dX3_solve_122 : decode cX3_solve 122 = .ok (.imul, 1) := by decide +kernel
theorem dX3_solve_123 : decode cX3_solve 123 = .ok (.iload_n 2, 1) := by decide +kernel
theorem dX3_solve_124 : decode cX3_solve 124 = .ok (.iconst 1, 1) := by decide +kernel
theorem dX3_solve_125 : decode cX3_solve 125 = .ok (.iload 4, 2) := by decide +kernel
theorem dX3_solve_127 : decode cX3_solve 127 = .ok (.ishl, 1) := by decide +kernel
theorem dX3_solve_128 : decode cX3_solve 128 = .ok (.ior, 1) := by decide +kernel
theorem dX3_solve_129 : decode cX3_solve 129 = .ok (.iadd, 1) := by decide +kernel
theorem dX3_solve_130 : decode cX3_solve 130 = .ok (.iaload, 1) := by decide +kernel
theorem dX3_solve_131 : decode cX3_solve 131 = .ok (.iadd, 1) := by decide +kernel
theorem dX3_solve_132 : decode cX3_solve 132 = .ok (.istore 5, 2) := by decide +kernel
theorem dX3_solve_134 : decode cX3_solve 134 = .ok (.iload 5, 2) := by decide +kernel
theorem dX3_solve_136 : decode cX3_solve 136 = .ok (.iload_n 3, 1) := by decide +kernel
theorem dX3_solve_137 : decode cX3_solve 137 = .ok (.if_icmp .le 8, 3) := by decide +kernel
theorem dX3_solve_140 : decode cX3_solve 140 = .ok (.iload 5, 2) := by decide +kernel
theorem dX3_solve_142 : decode cX3_solve 142 = .ok (.goto 4, 3) := by decide +kernel
theorem dX3_solve_145 : decode cX3_solve 145 = .ok (.iload_n 3, 1) := by decide +kernel
theorem dX3_solve_146 : decode cX3_solve 146 = .ok (.istore_n 3, 1) := by decide +kernel
theorem dX3_solve_147 : decode cX3_solve 147 = .ok (.iinc 4 1, 3) := by decide +kernel
theorem dX3_solve_150 : decode cX3_solve 150 = .ok (.goto (-112), 3) := by decide +kernel
theorem dX3_solve_153 : decode cX3_solve 153 = .ok (.aload_n 0, 1) := by decide +kernel
theorem dX3_solve_154 : decode cX3_solve 154 = .ok (.getfield 116, 3) := by decide +kernel
theorem dX3_solve_157 : decode cX3_solve 157 = .ok (.sipush 256, 3) := by decide +kernel
theorem dX3_solve_160 : decode cX3_solve 160 = .ok (.iload_n 1, 1) := by decide +kernel
theorem dX3_solve_161 : decode cX3_solve 161 = .ok (.imul, 1) := by decide +kernel
theorem dX3_solve_162 : decode cX3_solve 162 = .ok (.iload_n 2, 1) := by decide +kernel
theorem dX3_solve_163 : decode cX3_solve 163 = .ok (.iadd, 1) := by decide +kernel
theorem dX3_solve_164 : decode cX3_solve 164 = .ok (.iload_n 3, 1) := by decide +kernel
theorem dX3_solve_165 : decode cX3_solve 165 = .ok (.iastore, 1) := by decide +kernel
theorem dX3_solve_166 : decode cX3_solve 166 = .ok (.iinc 2 1, 3) := by decide +kernel
theorem dX3_solve_169 : decode cX3_solve 169 = .ok (.goto (-158), 3) := by decide +kernel
theorem dX3_solve_172 : decode cX3_solve 172 = .ok (.iinc 1 (-1), 3) := by decide +kernel
theorem dX3_solve_175 : decode cX3_solve 175 = .ok (.goto (-170), 3) := by decide +kernel
theorem dX3_solve_178 : decode cX3_solve 178 = .ok (.aload_n 0, 1) := by decide +kernel
theorem dX3_solve_179 : decode cX3_solve 179 = .ok (.getfield 116, 3) := by decide +kernel
theorem dX3_solve_182 : decode cX3_solve 182 = .ok (.iconst 0, 1) := by decide +kernel
theorem dX3_solve_183 : decode cX3_solve 183 = .ok (.iaload, 1) := by decide +kernel
theorem dX3_solve_184 : decode cX3_solve 184 = .ok (.ireturn, 1) := by decide +kernel
theorem dX3_mayGet_0 : decode cX3_mayGet 0 = .ok (.iload_n 1, 1) := by decide +kernel
theorem dX3_mayGet_1 : decode cX3_mayGet 1 = .ok (.iload_n 2, 1) := by decide +kernel
theorem dX3_mayGet_2 : decode cX3_mayGet 2 = .ok (.if_icmp .eq 17, 3) := by decide +kernel
theorem dX3_mayGet_5 : decode cX3_mayGet 5 = .ok (.aload_n 0, 1) := by decide +kernel
theorem dX3_mayGet_6 : decode cX3_mayGet 6 = .ok (.getfield 113, 3) := by decide +kernel
theorem dX3_mayGet_9 : decode cX3_mayGet 9 = .ok (.bipush 8, 2) := by decide +kernel
theorem dX3_mayGet_11 : decode cX3_mayGet 11 = .ok (.iload_n 1, 1) := by decide +kernel
theorem dX3_mayGet_12 : decode cX3_mayGet 12 = .ok (.imul, 1) := by decide +kernel
theorem dX3_mayGet_13 : decode cX3_mayGet 13 = .ok (.iload_n 2, 1) := by decide +kernel
theorem dX3_mayGet_14 : decode cX3_mayGet 14 = .ok (.iadd, 1) := by decide +kernel
theorem dX3_mayGet_15 : decode cX3_mayGet 15 = .ok (.iaload, 1) := by decide +kernel
theorem dX3_mayGet_16 : decode cX3_mayGet 16 = .ok (.ifCond .le 7, 3) := by decide +kernel
theorem dX3_mayGet_19 : decode cX3_mayGet 19 = .ok (.iconst 1, 1) := by decide +kernel
theorem dX3_mayGet_20 : decode cX3_mayGet 20 = .ok (.goto 4, 3) := by decide +kernel
theorem dX3_mayGet_23 : decode cX3_mayGet 23 = .ok (.iconst 0, 1) := by decide +kernel
theorem dX3_mayGet_24 : decode cX3_mayGet 24 = .ok (.ireturn, 1) := by decide +kernel
theorem dX3_swap_0 : decode cX3_swap 0 = .ok (.aload_n 0, 1) := by decide +kernel
theorem dX3_swap_1 : decode cX3_swap 1 = .ok (.iload_n 1, 1) := by decide +kernel
theorem dX3_swap_2 : decode cX3_swap 2 = .ok (.invokevirtual 146, 3) := by decide +kernel
theorem dX3_swap_5 : decode cX3_swap 5 = .ok (.ifCond .ne 5, 3) := by decide +kernel
theorem dX3_swap_8 : decode cX3_swap 8 = .ok (.iconst (-1), 1) := by decide +kernel
theorem dX3_swap_9 : decode cX3_swap 9 = .ok (.ireturn, 1) := by decide +kernel
theorem dX3_swap_10 : decode cX3_swap 10 = .ok (.aload_n 0, 1) := by decide +kernel
theorem dX3_swap_11 : decode cX3_swap 11 = .ok (.invokevirtual 359, 3) := by decide +kernel
theorem dX3_swap_14 : decode cX3_swap 14 = .ok (.istore_n 2, 1) := by decide +kernel
theorem dX3_swap_15 : decode cX3_swap 15 = .ok (.iconst 0, 1) := by decide +kernel
theorem dX3_swap_16 : decode cX3_swap 16 = .ok (.istore_n 3, 1) := by decide +kernel
theorem dX3_swap_17 : decode cX3_swap 17 = .ok (.iconst (-1), 1) := by decide +kernel
theorem dX3_swap_18 : decode cX3_swap 18 = .ok (.istore 4, 2) := by decide +kernel
theorem dX3_swap_20 : decode cX3_swap 20 = .ok (.iconst 0, 1) := by decide +kernel
theorem dX3_swap_21 : decode cX3_swap 21 = .ok (.istore 5, 2) := by decide +kernel
theorem dX3_swap_23 : decode cX3_swap 23 = .ok (.iload 5, 2) := by decide +kernel
theorem dX3_swap_25 : decode cX3_swap 25 = .ok (.iload_n 1, 1) := by decide +kernel
theorem dX3_swap_26 : decode cX3_swap 26 = .ok (.if_icmp .gt 123, 3) := by decide +kernel
theorem dX3_swap_29 : decode cX3_swap 29 = .ok (.iconst 0, 1) := by decide +kernel
theorem dX3_swap_30 : decode cX3_swap 30 = .ok (.istore 4, 2) := by decide +kernel
theorem dX3_swap_32 : decode cX3_swap 32 = .ok (.iload_n 3, 1) := by decide +kernel
theorem dX3_swap_33 : decode cX3_swap 33 = .ok (.iload 4, 2) := by decide +kernel
theorem dX3_swap_35 : decode cX3_swap 35 = .ok (.ishr, 1) := by decide +kernel
theorem dX3_swap_36 : decode cX3_swap 36 = .ok (.iconst 1, 1) := by decide +kernel
theorem dX3_swap_37 : decode cX3_swap 37 = .ok (.iand, 1) := by decide +kernel
theorem dX3_swap_38 : decode cX3_swap 38 = .ok (.iconst 1, 1) := by decide +kernel
theorem dX3_swap_39 : decode cX3_swap 39 = .ok (.if_icmp .eq 75, 3) := by decide +kernel
theorem dX3_swap_42 : decode cX3_swap 42 = .ok (.aload_n 0, 1) := by decide +kernel
theorem dX3_swap_43 : decode cX3_swap 43 = .ok (.iload 5, 2) := by decide +kernel
theorem dX3_swap_45 : decode cX3_swap 45 = .ok (.iload 4, 2) := by decide +kernel
theorem dX3_swap_47 : decode cX3_swap 47 = .ok (.invokevirtual 356, 3) := by decide +kernel
theorem dX3_swap_50 : decode cX3_swap 50 = .ok (.ifCond .eq 64, 3) := by decide +kernel
theorem dX3_swap_53 : decode cX3_swap 53 = .ok (.aload_n 0, 1) := by decide +kernel
theorem dX3_swap_54 : decode cX3_swap 54 = .ok (.getfield 116, 3) := by decide +kernel
theorem dX3_swap_57 : decode cX3_swap 57 = .ok (.sipush 256, 3) := by decide +kernel
theorem dX3_swap_60 : decode cX3_swap 60 = .ok (.iload 5, 2) := by decide +kernel
theorem dX3_swap_62 : decode cX3_swap 62 = .ok (.iconst 1, 1) := by decide +kernel
theorem dX3_swap_63 : decode cX3_swap 63 = .ok (.iadd, 1) := by decide +kernel
theorem dX3_swap_64 : decode cX3_swap 64 = .ok (.imul, 1) := by decide +kernel
theorem dX3_swap_65 : decode cX3_swap 65 = .ok (.iload_n 3, 1) := by decide +kernel
theorem dX3_swap_66 : decode cX3_swap 66 = .ok (.iconst 1, 1) := by decide +kernel
theorem dX3_swap_67 : decode cX3_swap 67 = .ok (.iload 4, 2) := by decide +kernel
theorem dX3_swap_69 : decode cX3_swap 69 = .ok (.ishl, 1) := by decide +kernel
theorem dX3_swap_70 : decode cX3_swap 70 = .ok (.ior, 1) := by decide +kernel
theorem dX3_swap_71 : decode cX3_swap 71 = .ok (.iadd, 1) := by decide +kernel
theorem dX3_swap_72 : decode cX3_swap 72 = .ok (.iaload, 1) := by decide +kernel
theorem dX3_swap_73 : decode cX3_swap 73 = .ok (.ifCond .lt 41, 3) := by decide +kernel
theorem dX3_swap_76 : decode cX3_swap 76 = .ok (.aload_n 0, 1) := by decide +kernel
theorem dX3_swap_77 : decode cX3_swap 77 = .ok (.getfield 113, 3) := by decide +kernel
theorem dX3_swap_80 : decode cX3_swap 80 = .ok (.bipush 8, 2) := by decide +kernel
theorem dX3_swap_82 : decode cX3_swap 82 = .ok (.iload 5, 2) := by decide +kernel
theorem dX3_swap_84 : decode cX3_swap 84 = .ok (.imul, 1) := by decide +kernel
theorem dX3_swap_85 : decode cX3_swap 85 = .ok (.iload 4, 2) := by decide +kernel
theorem dX3_swap_87 : decode cX3_swap 87 = .ok (.iadd, 1) := by decide +kernel
theorem dX3_swap_88 : decode cX3_swap 88 = .ok (.iaload, 1) := by decide +kernel
theorem dX3_swap_89 : decode cX3_swap 89 = .ok (.aload_n 0, 1) := by decide +kernel
theorem dX3_swap_90 : decode cX3_swap 90 = .ok (.getfield 116, 3) := by decide +kernel
theorem dX3_swap_93 : decode cX3_swap 93 = .ok (.sipush 256, 3) := by decide +kernel
theorem dX3_swap_96 : decode cX3_swap 96 = .ok (.iload 5, 2) := by decide +kernel
theorem dX3_swap_98 : decode cX3_swap 98 = .ok (.iconst 1, 1) := by decide +kernel
theorem dX3_swap_99 : decode cX3_swap 99 = .ok (.iadd, 1) := by decide +kernel
theorem dX3_swap_100 : decode cX3_swap 100 = .ok (.imul, 1) := by decide +kernel
theorem dX3_swap_101 : decode cX3_swap 101 = .ok (.iload_n 3, 1) := by decide +kernel
theorem dX3_swap_102 : decode cX3_swap 102 = .ok (.iconst 1, 1) := by decide +kernel
theorem dX3_swap_103 : decode cX3_swap 103 = .ok (.iload 4, 2) := by decide +kernel
theorem dX3_swap_105 : decode cX3_swap 105 = .ok (.ishl, 1) := by decide +kernel
theorem dX3_swap_106 : decode cX3_swap 106 = .ok (.ior, 1) := by decide +kernel
theorem dX3_swap_107 : decode cX3_swap 107 = .ok (.iadd, 1) := by decide +kernel
theorem dX3_swap_108 : decode cX3_swap 108 = .ok (.iaload, 1) := by decide +kernel
theorem dX3_swap_109 : decode cX3_swap 109 = .ok (.iadd, 1) := by decide +kernel
theorem dX3_swap_110 : decode cX3_swap 110 = .ok (.iload_n 2, 1) := by decide +kernel
theorem dX3_swap_111 : decode cX3_swap 111 = .ok (.if_icmp .eq 9, 3) := by decide +kernel
theorem dX3_swap_114 : decode cX3_swap 114 = .ok (.iinc 4 1, 3) := by decide +kernel
theorem dX3_swap_117 : decode cX3_swap 117 = .ok (.goto (-85), 3) := by decide +kernel
theorem dX3_swap_120 : decode cX3_swap 120 = .ok (.iload_n 2, 1) := by decide +kernel
theorem dX3_swap_121 : decode cX3_swap 121 = .ok (.aload_n 0, 1) := by decide +kernel
theorem dX3_swap_122 : decode cX3_swap 122 = .ok (.getfield 113, 3) := by decide +kernel
theorem dX3_swap_125 : decode cX3_swap 125 = .ok (.bipush 8, 2) := by decide +kernel
theorem dX3_swap_127 : decode cX3_swap 127 = .ok (.iload 5, 2) := by decide +kernel
theorem dX3_swap_129 : decode cX3_swap 129 = .ok (.imul, 1) := by decide +kernel
theorem dX3_swap_130 : decode cX3_swap 130 = .ok (.iload 4, 2) := by decide +kernel
theorem dX3_swap_132 : decode cX3_swap 132 = .ok (.iadd, 1) := by decide +kernel
theorem dX3_swap_133 : decode cX3_swap 133 = .ok (.iaload, 1) := by decide +kernel
theorem dX3_swap_134 : decode cX3_swap 134 = .ok (.isub, 1) := by decide +kernel
theorem dX3_swap_135 : decode cX3_swap 135 = .ok (.istore_n 2, 1) := by decide +kernel
theorem dX3_swap_136 : decode cX3_swap 136 = .ok (.iload_n 3, 1) := by decide +kernel
theorem dX3_swap_137 : decode cX3_swap 137 = .ok (.iconst 1, 1) := by decide +kernel
theorem dX3_swap_138 : decode cX3_swap 138 = .ok (.iload 4, 2) := by decide +kernel
theorem dX3_swap_140 : decode cX3_swap 140 = .ok (.ishl, 1) := by decide +kernel
theorem dX3_swap_141 : decode cX3_swap 141 = .ok (.ior, 1) := by decide +kernel
theorem dX3_swap_142 : decode cX3_swap 142 = .ok (.istore_n 3, 1) := by decide +kernel
theorem dX3_swap_143 : decode cX3_swap 143 = .ok (.iinc 5 1, 3) := by decide +kernel
theorem dX3_swap_146 : decode cX3_swap 146 = .ok (.goto (-123), 3) := by decide +kernel
theorem dX3_swap_149 : decode cX3_swap 149 = .ok (.iload 4, 2) := by decide +kernel
theorem dX3_swap_151 : decode cX3_swap 151 = .ok (.ireturn, 1) := by decide +kernel
theorem dX3_about_0 : decode cX3_about 0 = .ok (.iload_n 1, 1) := by decide +kernel
theorem dX3_about_1 : decode cX3_about 1 = .ok (.tableswitch 92 0 7 #[47, 52, 57, 62, 67, 77, 82, 87], 47) := by decide +kernel
theorem dX3_about_48 : decode cX3_about 48 = .ok (.aload_n 0, 1) := by decide +kernel
theorem dX3_about_49 : decode cX3_about 49 = .ok (.getfield 119, 3) := by decide +kernel
theorem dX3_about_52 : decode cX3_about 52 = .ok (.ireturn, 1) := by decide +kernel
theorem dX3_about_53 : decode cX3_about 53 = .ok (.aload_n 0, 1) := by decide +kernel
theorem dX3_about_54 : decode cX3_about 54 = .ok (.getfield 122, 3) := by decide +kernel
theorem dX3_about_57 : decode cX3_about 57 = .ok (.ireturn, 1) := by decide +kernel
theorem dX3_about_58 : decode cX3_about 58 = .ok (.aload_n 0, 1) := by decide +kernel
theorem dX3_about_59 : decode cX3_about 59 = .ok (.getfield 152, 3) := by decide +kernel
theorem dX3_about_62 : decode cX3_about 62 = .ok (.ireturn, 1) := by decide +kernel
theorem dX3_about_63 : decode cX3_about 63 = .ok (.aload_n 0, 1) := by decide +kernel
theorem dX3_about_64 : decode cX3_about 64 = .ok (.getfield 149, 3) := by decide +kernel
theorem dX3_about_67 : decode cX3_about 67 = .ok (.ireturn, 1) := by decide +kernel
theorem dX3_about_68 : decode cX3_about 68 = .ok (.aload_n 0, 1) := by decide +kernel
theorem dX3_about_69 : decode cX3_about 69 = .ok (.getfield 70, 3) := by decide +kernel
theorem dX3_about_72 : decode cX3_about 72 = .ok (.aload_n 0, 1) := by decide +kernel
theorem dX3_about_73 : decode cX3_about 73 = .ok (.getfield 236, 3) := by decide +kernel
theorem dX3_about_76 : decode cX3_about 76 = .ok (.iaload, 1) := by decide +kernel
theorem dX3_about_77 : decode cX3_about 77 = .ok (.ireturn, 1) := by decide +kernel
theorem dX3_about_78 : decode cX3_about 78 = .ok (.aload_n 0, 1) := by decide +kernel
theorem dX3_about_79 : decode cX3_about 79 = .ok (.getfield 315, 3) := by decide +kernel
theorem dX3_about_82 : decode cX3_about 82 = .ok (.ireturn, 1) := by decide +kernel
theorem dX3_about_83 : decode cX3_about 83 = .ok (.aload_n 0, 1) := by decide +kernel
theorem dX3_about_84 : decode cX3_about 84 = .ok (.getfield 353, 3) := by decide +kernel
theorem dX3_about_87 : decode cX3_about 87 = .ok (.ireturn, 1) := by decide +kernel
theorem dX3_about_88 : decode cX3_about 88 = .ok (.aload_n 0, 1) := by decide +kernel
theorem dX3_about_89 : decode cX3_about 89 = .ok (.getfield 233, 3) := by decide +kernel
theorem dX3_about_92 : decode cX3_about 92 = .ok (.ireturn, 1) := by decide +kernel
theorem dX3_about_93 : decode cX3_about 93 = .ok (.iconst (-1), 1) := by decide +kernel
theorem dX3_about_94 : decode cX3_about 94 = .ok (.ireturn, 1) := by decide +kernel
theorem dX3_feed_0 : decode cX3_feed 0 = .ok (.aload_n 0, 1) := by decide +kernel
theorem dX3_feed_1 : decode cX3_feed 1 = .ok (.getfield 233, 3) := by decide +kernel
theorem dX3_feed_4 : decode cX3_feed 4 = .ok (.bipush 20, 2) := by decide +kernel
theorem dX3_feed_6 : decode cX3_feed 6 = .ok (.iadd, 1) := by decide +kernel
theorem dX3_feed_7 : decode cX3_feed 7 = .ok (.sipush 600, 3) := by decide +kernel
theorem dX3_feed_10 : decode cX3_feed 10 = .ok (.if_icmp .le 5, 3) := by decide +kernel
theorem dX3_feed_13 : decode cX3_feed 13 = .ok (.iconst (-1), 1) := by decide +kernel
theorem dX3_feed_14 : decode cX3_feed 14 = .ok (.ireturn, 1) := by decide +kernel
theorem dX3_feed_15 : decode cX3_feed 15 = .ok (.iconst 0, 1) := by decide +kernel
theorem dX3_feed_16 : decode cX3_feed 16 = .ok (.istore 6, 2) := by decide +kernel
theorem dX3_feed_18 : decode cX3_feed 18 = .ok (.iload 6, 2) := by decide +kernel
theorem dX3_feed_20 : decode cX3_feed 20 = .ok (.bipush 20, 2) := by decide +kernel
theorem dX3_feed_22 : decode cX3_feed 22 = .ok (.if_icmp .ge 83, 3) := by decide +kernel
theorem dX3_feed_25 : decode cX3_feed 25 = .ok (.iload 6, 2) := by decide +kernel
theorem dX3_feed_27 : decode cX3_feed 27 = .ok (.iconst 4, 1) := by decide +kernel
theorem dX3_feed_28 : decode cX3_feed 28 = .ok (.if_icmp .ge 7, 3) := by decide +kernel
theorem dX3_feed_31 : decode cX3_feed 31 = .ok (.iload_n 1, 1) := by decide +kernel
theorem dX3_feed_32 : decode cX3_feed 32 = .ok (.goto 39, 3) := by decide +kernel
theorem dX3_feed_35 : decode cX3_feed 35 = .ok (.iload 6, 2) := by decide +kernel
theorem dX3_feed_37 : decode cX3_feed 37 = .ok (.bipush 8, 2) := by decide +kernel
theorem dX3_feed_39 : decode cX3_feed 39 = .ok (.if_icmp .ge 7, 3) := by decide +kernel
theorem dX3_feed_42 : decode cX3_feed 42 = .ok (.iload_n 2, 1) := by decide +kernel
theorem dX3_feed_43 : decode cX3_feed 43 = .ok (.goto 28, 3) := by decide +kernel
theorem dX3_feed_46 : decode cX3_feed 46 = .ok (.iload 6, 2) := by decide +kernel
theorem dX3_feed_48 : decode cX3_feed 48 = .ok (.bipush 12, 2) := by decide +kernel
theorem dX3_feed_50 : decode cX3_feed 50 = .ok (.if_icmp .ge 7, 3) := by decide +kernel
theorem dX3_feed_53 : decode cX3_feed 53 = .ok (.iload_n 3, 1) := by decide +kernel
theorem dX3_feed_54 : decode cX3_feed 54 = .ok (.goto 17, 3) := by decide +kernel
theorem dX3_feed_57 : decode cX3_feed 57 = .ok (.iload 6, 2) := by decide +kernel
theorem dX3_feed_59 : decode cX3_feed 59 = .ok (.bipush 16, 2) := by decide +kernel
theorem dX3_feed_61 : decode cX3_feed 61 = .ok (.if_icmp .ge 8, 3) := by decide +kernel
theorem dX3_feed_64 : decode cX3_feed 64 = .ok (.iload 4, 2) := by decide +kernel
theorem dX3_feed_66 : decode cX3_feed 66 = .ok (.goto 5, 3) := by decide +kernel
theorem dX3_feed_69 : decode cX3_feed 69 = .ok (.iload 5, 2) := by decide +kernel
theorem dX3_feed_71 : decode cX3_feed 71 = .ok (.istore 7, 2) := by decide +kernel
theorem dX3_feed_73 : decode cX3_feed 73 = .ok (.aload_n 0, 1) := by decide +kernel
theorem dX3_feed_74 : decode cX3_feed 74 = .ok (.getfield 59, 3) := by decide +kernel
theorem dX3_feed_77 : decode cX3_feed 77 = .ok (.aload_n 0, 1) := by decide +kernel
theorem dX3_feed_78 : decode cX3_feed 78 = .ok (.getfield 233, 3) := by decide +kernel
theorem dX3_feed_81 : decode cX3_feed 81 = .ok (.iload 6, 2) := by decide +kernel
theorem dX3_feed_83 : decode cX3_feed 83 = .ok (.iadd, 1) := by decide +kernel
theorem dX3_feed_84 : decode cX3_feed 84 = .ok (.iload 7, 2) := by decide +kernel
theorem dX3_feed_86 : decode cX3_feed 86 = .ok (.bipush 24, 2) := by decide +kernel
theorem dX3_feed_88 : decode cX3_feed 88 = .ok (.bipush 8, 2) := by decide +kernel
theorem dX3_feed_90 : decode cX3_feed 90 = .ok (.iload 6, 2) := by decide +kernel
theorem dX3_feed_92 : decode cX3_feed 92 = .ok (.iconst 3, 1) := by decide +kernel
theorem dX3_feed_93 : decode cX3_feed 93 = .ok (.iand, 1) := by decide +kernel
theorem dX3_feed_94 : decode cX3_feed 94 = .ok (.imul, 1) := by decide +kernel
theorem dX3_feed_95 : decode cX3_feed 95 = .ok (.isub, 1) := by decide +kernel
theorem dX3_feed_96 : decode cX3_feed 96 = .ok (.ishr, 1) := by decide +kernel
theorem dX3_feed_97 : decode cX3_feed 97 = .ok (.i2b, 1) := by decide +kernel
theorem dX3_feed_98 : decode cX3_feed 98 = .ok (.bastore, 1) := by decide +kernel
theorem dX3_feed_99 : decode cX3_feed 99 = .ok (.iinc 6 1, 3) := by decide +kernel
theorem dX3_feed_102 : decode cX3_feed 102 = .ok (.goto (-84), 3) := by decide +kernel
theorem dX3_feed_105 : decode cX3_feed 105 = .ok (.aload_n 0, 1) := by decide +kernel
theorem dX3_feed_106 : decode cX3_feed 106 = .ok (.dup, 1) := by decide +kernel
theorem dX3_feed_107 : decode cX3_feed 107 = .ok (.getfield 233, 3) := by decide +kernel
theorem dX3_feed_110 : decode cX3_feed 110 = .ok (.bipush 20, 2) := by decide +kernel
theorem dX3_feed_112 : decode cX3_feed 112 = .ok (.iadd, 1) := by decide +kernel
theorem dX3_feed_113 : decode cX3_feed 113 = .ok (.putfield 233, 3) := by decide +kernel
theorem dX3_feed_116 : decode cX3_feed 116 = .ok (.aload_n 0, 1) := by decide +kernel
theorem dX3_feed_117 : decode cX3_feed 117 = .ok (.getfield 233, 3) := by decide +kernel
theorem dX3_feed_120 : decode cX3_feed 120 = .ok (.ireturn, 1) := by decide +kernel
theorem dX3_end_0 : decode cX3_end 0 = .ok (.iload_n 1, 1) := by decide +kernel
theorem dX3_end_1 : decode cX3_end 1 = .ok (.ifCond .lt 11, 3) := by decide +kernel
theorem dX3_end_4 : decode cX3_end 4 = .ok (.iload_n 1, 1) := by decide +kernel
theorem dX3_end_5 : decode cX3_end 5 = .ok (.aload_n 0, 1) := by decide +kernel
theorem dX3_end_6 : decode cX3_end 6 = .ok (.getfield 233, 3) := by decide +kernel
theorem dX3_end_9 : decode cX3_end 9 = .ok (.if_icmp .le 5, 3) := by decide +kernel
theorem dX3_end_12 : decode cX3_end 12 = .ok (.iconst (-1), 1) := by decide +kernel
theorem dX3_end_13 : decode cX3_end 13 = .ok (.ireturn, 1) := by decide +kernel
theorem dX3_end_14 : decode cX3_end 14 = .ok (.aload_n 0, 1) := by decide +kernel
theorem dX3_end_15 : decode cX3_end 15 = .ok (.iload_n 1, 1) := by decide +kernel
theorem dX3_end_16 : decode cX3_end 16 = .ok (.putfield 233, 3) := by decide +kernel
theorem dX3_end_19 : decode cX3_end 19 = .ok (.iload_n 1, 1) := by decide +kernel
theorem dX3_end_20 : decode cX3_end 20 = .ok (.ireturn, 1) := by decide +kernel
theorem dX4_init_0 : decode cX4_init 0 = .ok (.aload_n 0, 1) := by decide +kernel
theorem dX4_init_1 : decode cX4_init 1 = .ok (.invokespecial 3, 3) := by decide +kernel
theorem dX4_init_4 : decode cX4_init 4 = .ok (.aload_n 0, 1) := by decide +kernel
theorem dX4_init_5 : decode cX4_init 5 = .ok (.iconst (-1), 1) := by decide +kernel
theorem dX4_init_6 : decode cX4_init 6 = .ok (.putfield 9, 3) := by decide +kernel
theorem dX4_init_9 : decode cX4_init 9 = .ok (.aload_n 0, 1) := by decide +kernel
theorem dX4_init_10 : decode cX4_init 10 = .ok (.iload_n 1, 1) := by decide +kernel
theorem dX4_init_11 : decode cX4_init 11 = .ok (.putfield 15, 3) := by decide +kernel
theorem dX4_init_14 : decode cX4_init 14 = .ok (.aload_n 0, 1) := by decide +kernel
theorem dX4_init_15 : decode cX4_init 15 = .ok (.iload_n 2, 1) := by decide +kernel
theorem dX4_init_16 : decode cX4_init 16 = .ok (.putfield 18, 3) := by decide +kernel
theorem dX4_init_19 : decode cX4_init 19 = .ok (.aload_n 0, 1) := by decide +kernel
theorem dX4_init_20 : decode cX4_init 20 = .ok (.iload_n 3, 1) := by decide +kernel
theorem dX4_init_21 : decode cX4_init 21 = .ok (.putfield 21, 3) := by decide +kernel
theorem dX4_init_24 : decode cX4_init 24 = .ok (.aload_n 0, 1) := by decide +kernel
theorem dX4_init_25 : decode cX4_init 25 = .ok (.iload 4, 2) := by decide +kernel
theorem dX4_init_27 : decode cX4_init 27 = .ok (.putfield 24, 3) := by decide +kernel
theorem dX4_init_30 : decode cX4_init 30 = .ok (.aload_n 0, 1) := by decide +kernel
theorem dX4_init_31 : decode cX4_init 31 = .ok (.iload 5, 2) := by decide +kernel
theorem dX4_init_33 : decode cX4_init 33 = .ok (.putfield 27, 3) := by decide +kernel
theorem dX4_init_36 : decode cX4_init 36 = .ok (.aload_n 0, 1) := by decide +kernel
theorem dX4_init_37 : decode cX4_init 37 = .ok (.iload 6, 2) := by decide +kernel
theorem dX4_init_39 : decode cX4_init 39 = .ok (.putfield 30, 3) := by decide +kernel
theorem dX4_init_42 : decode cX4_init 42 = .ok (.aload_n 0, 1) := by decide +kernel
theorem dX4_init_43 : decode cX4_init 43 = .ok (.iload 7, 2) := by decide +kernel
theorem dX4_init_45 : decode cX4_init 45 = .ok (.putfield 33, 3) := by decide +kernel
theorem dX4_init_48 : decode cX4_init 48 = .ok (.aload_n 0, 1) := by decide +kernel
theorem dX4_init_49 : decode cX4_init 49 = .ok (.iload 8, 2) := by decide +kernel
theorem dX4_init_51 : decode cX4_init 51 = .ok (.putfield 36, 3) := by decide +kernel
theorem dX4_init_54 : decode cX4_init 54 = .ok (.return_, 1) := by decide +kernel
theorem dX4_counts_0 : decode cX4_counts 0 = .ok (.aload_n 0, 1) := by decide +kernel
theorem dX4_counts_1 : decode cX4_counts 1 = .ok (.getfield 36, 3) := by decide +kernel
theorem dX4_counts_4 : decode cX4_counts 4 = .ok (.iload_n 1, 1) := by decide +kernel
theorem dX4_counts_5 : decode cX4_counts 5 = .ok (.if_icmp .gt 22, 3) := by decide +kernel
theorem dX4_counts_8 : decode cX4_counts 8 = .ok (.aload_n 0, 1) := by decide +kernel
theorem dX4_counts_9 : decode cX4_counts 9 = .ok (.getfield 9, 3) := by decide +kernel
theorem dX4_counts_12 : decode cX4_counts 12 = .ok (.ifCond .lt 11, 3) := by decide +kernel
theorem dX4_counts_15 : decode cX4_counts 15 = .ok (.aload_n 0, 1) := by decide +kernel
theorem dX4_counts_16 : decode cX4_counts 16 = .ok (.getfield 9, 3) := by decide +kernel
theorem dX4_counts_19 : decode cX4_counts 19 = .ok (.iload_n 1, 1) := by decide +kernel
theorem dX4_counts_20 : decode cX4_counts 20 = .ok (.if_icmp .le 7, 3) := by decide +kernel
theorem dX4_counts_23 : decode cX4_counts 23 = .ok (.iconst 1, 1) := by decide +kernel
theorem dX4_counts_24 : decode cX4_counts 24 = .ok (.goto 4, 3) := by decide +kernel
theorem dX4_counts_27 : decode cX4_counts 27 = .ok (.iconst 0, 1) := by decide +kernel
theorem dX4_counts_28 : decode cX4_counts 28 = .ok (.ireturn, 1) := by decide +kernel
theorem dX5_init_0 : decode cX5_init 0 = .ok (.aload_n 0, 1) := by decide +kernel
theorem dX5_init_1 : decode cX5_init 1 = .ok (.aload_n 1, 1) := by decide +kernel
theorem dX5_init_2 : decode cX5_init 2 = .ok (.putfield 3, 3) := by decide +kernel
theorem dX5_init_5 : decode cX5_init 5 = .ok (.aload_n 0, 1) := by decide +kernel
theorem dX5_init_6 : decode cX5_init 6 = .ok (.invokespecial 9, 3) := by decide +kernel
theorem dX5_init_9 : decode cX5_init 9 = .ok (.aload_n 0, 1) := by decide +kernel
theorem dX5_init_10 : decode cX5_init 10 = .ok (.ldc 15, 2) := by decide +kernel
theorem dX5_init_12 : decode cX5_init 12 = .ok (.putfield 17, 3) := by decide +kernel
theorem dX5_init_15 : decode cX5_init 15 = .ok (.aload_n 0, 1) := by decide +kernel
theorem dX5_init_16 : decode cX5_init 16 = .ok (.new 21, 3) := by decide +kernel
theorem dX5_init_19 : decode cX5_init 19 = .ok (.dup, 1) := by decide +kernel
theorem dX5_init_20 : decode cX5_init 20 = .ok (.iconst 2, 1) := by decide +kernel
theorem dX5_init_21 : decode cX5_init 21 = .ok (.invokespecial 23, 3) := by decide +kernel
theorem dX5_init_24 : decode cX5_init 24 = .ok (.putfield 26, 3) := by decide +kernel
theorem dX5_init_27 : decode cX5_init 27 = .ok (.return_, 1) := by decide +kernel
theorem dX5_text_0 : decode cX5_text 0 = .ok (.aload_n 0, 1) := by decide +kernel
theorem dX5_text_1 : decode cX5_text 1 = .ok (.invokevirtual 88, 3) := by decide +kernel
theorem dX5_text_4 : decode cX5_text 4 = .ok (.aload_n 0, 1) := by decide +kernel
theorem dX5_text_5 : decode cX5_text 5 = .ok (.getfield 48, 3) := by decide +kernel
theorem dX5_text_8 : decode cX5_text 8 = .ok (.ifCond .eq 214, 3) := by decide +kernel
theorem dX5_text_11 : decode cX5_text 11 = .ok (.aload_n 0, 1) := by decide +kernel
theorem dX5_text_12 : decode cX5_text 12 = .ok (.ldc 91, 2) := by decide +kernel
theorem dX5_text_14 : decode cX5_text 14 = .ok (.invokevirtual 93, 3) := by decide +kernel
theorem dX5_text_17 : decode cX5_text 17 = .ok (.ifCond .eq 15, 3) := by decide +kernel
theorem dX5_text_20 : decode cX5_text 20 = .ok (.aload_n 0, 1) := by decide +kernel
theorem dX5_text_21 : decode cX5_text 21 = .ok (.getfield 26, 3) := by decide +kernel
theorem dX5_text_24 : decode cX5_text 24 = .ok (.invokevirtual 97, 3) := by decide +kernel
theorem dX5_text_27 : decode cX5_text 27 = .ok (.bipush 16, 2) := by decide +kernel
theorem dX5_text_29 : decode cX5_text 29 = .ok (.if_icmp .ne 8, 3) := by decide +kernel
theorem dX5_text_32 : decode cX5_text 32 = .ok (.aload_n 0, 1) := by decide +kernel
theorem dX5_text_33 : decode cX5_text 33 = .ok (.invokevirtual 101, 3) := by decide +kernel
theorem dX5_text_36 : decode cX5_text 36 = .ok (.athrow, 1) := by decide +kernel
theorem dX5_text_37 : decode cX5_text 37 = .ok (.aload_n 0, 1) := by decide +kernel
theorem dX5_text_38 : decode cX5_text 38 = .ok (.invokevirtual 88, 3) := by decide +kernel
theorem dX5_text_41 : decode cX5_text 41 = .ok (.aload_n 0, 1) := by decide +kernel
theorem dX5_text_42 : decode cX5_text 42 = .ok (.iconst 0, 1) := by decide +kernel
theorem dX5_text_43 : decode cX5_text 43 = .ok (.invokevirtual 105, 3) := by decide +kernel
theorem dX5_text_46 : decode cX5_text 46 = .ok (.astore_n 1, 1) := by decide +kernel
theorem dX5_text_47 : decode cX5_text 47 = .ok (.aload_n 0, 1) := by decide +kernel
theorem dX5_text_48 : decode cX5_text 48 = .ok (.ldc 109, 2) := by decide +kernel
theorem dX5_text_50 : decode cX5_text 50 = .ok (.invokevirtual 93, 3) := by decide +kernel
theorem dX5_text_53 : decode cX5_text 53 = .ok (.ifCond .ne 8, 3) := by decide +kernel
theorem dX5_text_56 : decode cX5_text 56 = .ok (.aload_n 0, 1) := by decide +kernel
theorem dX5_text_57 : decode cX5_text 57 = .ok (.invokevirtual 101, 3) := by decide +kernel
theorem dX5_text_60 : decode cX5_text 60 = .ok (.athrow, 1) := by decide +kernel
theorem dX5_text_61 : decode cX5_text 61 = .ok (.aload_n 0, 1) := by decide +kernel
theorem dX5_text_62 : decode cX5_text 62 = .ok (.invokevirtual 88, 3) := by decide +kernel
theorem dX5_text_65 : decode cX5_text 65 = .ok (.aload_n 0, 1) := by decide +kernel
theorem dX5_text_66 : decode cX5_text 66 = .ok (.ldc 111, 2) := by decide +kernel
theorem dX5_text_68 : decode cX5_text 68 = .ok (.invokevirtual 93, 3) := by decide +kernel
theorem dX5_text_71 : decode cX5_text 71 = .ok (.ifCond .eq 7, 3) := by decide +kernel
theorem dX5_text_74 : decode cX5_text 74 = .ok (.iconst 1, 1) := by decide +kernel
theorem dX5_text_75 : decode cX5_text 75 = .ok (.goto 43, 3) := by decide +kernel
theorem dX5_text_78 : decode cX5_text 78 = .ok (.aload_n 0, 1) := by decide +kernel
theorem dX5_text_79 : decode cX5_text 79 = .ok (.ldc 113, 2) := by decide +kernel
theorem dX5_text_81 : decode cX5_text 81 = .ok (.invokevirtual 93, 3) := by decide +kernel
theorem dX5_text_84 : decode cX5_text 84 = .ok (.ifCond .eq 7, 3) := by decide +kernel
theorem dX5_text_87 : decode cX5_text 87 = .ok (.iconst 2, 1) := by decide +kernel
theorem dX5_text_88 : decode cX5_text 88 = .ok (.goto 30, 3) := by decide +kernel
theorem dX5_text_91 : decode cX5_text 91 = .ok (.aload_n 0, 1) := by decide +kernel
theorem dX5_text_92 : decode cX5_text 92 = .ok (.ldc 115, 2) := by decide +kernel
theorem dX5_text_94 : decode cX5_text 94 = .ok (.invokevirtual 93, 3) := by decide +kernel
theorem dX5_text_97 : decode cX5_text 97 = .ok (.ifCond .eq 7, 3) := by decide +kernel
theorem dX5_text_100 : decode cX5_text 100 = .ok (.iconst 3, 1) := by decide +kernel
theorem dX5_text_101 : decode cX5_text 101 = .ok (.goto 17, 3) := by decide +kernel
theorem dX5_text_104 : decode cX5_text 104 = .ok (.aload_n 0, 1) := by decide +kernel
theorem dX5_text_105 : decode cX5_text 105 = .ok (.ldc 117, 2) := by decide +kernel
theorem dX5_text_107 : decode cX5_text 107 = .ok (.invokevirtual 93, 3) := by decide +kernel
theorem dX5_text_110 : decode cX5_text 110 = .ok (.ifCond .eq 7, 3) := by decide +kernel
theorem dX5_text_113 : decode cX5_text 113 = .ok (.iconst 4, 1) := by decide +kernel
theorem dX5_text_114 : decode cX5_text 114 = .ok (.goto 4, 3) := by decide +kernel
theorem dX5_text_117 : decode cX5_text 117 = .ok (.iconst 0, 1) := by decide +kernel
theorem dX5_text_118 : decode cX5_text 118 = .ok (.istore_n 2, 1) := by decide +kernel
theorem dX5_text_119 : decode cX5_text 119 = .ok (.iconst 0, 1) := by decide +kernel
theorem dX5_text_120 : decode cX5_text 120 = .ok (.istore_n 3, 1) := by decide +kernel
theorem dX5_text_121 : decode cX5_text 121 = .ok (.iload_n 2, 1) := by decide +kernel
theorem dX5_text_122 : decode cX5_text 122 = .ok (.ifCond .ne 8, 3) := by decide +kernel
theorem dX5_text_125 : decode cX5_text 125 = .ok (.aload_n 0, 1) := by decide +kernel
theorem dX5_text_126 : decode cX5_text 126 = .ok (.invokevirtual 101, 3) := by decide +kernel
theorem dX5_text_129 : decode cX5_text 129 = .ok (.athrow, 1) := by decide +kernel
theorem dX5_text_130 : decode cX5_text 130 = .ok (.aload_n 0, 1) := by decide +kernel
theorem dX5_text_131 : decode cX5_text 131 = .ok (.invokevirtual 88, 3) := by decide +kernel
theorem dX5_text_134 : decode cX5_text 134 = .ok (.iload_n 2, 1) := by decide +kernel
theorem dX5_text_135 : decode cX5_text 135 = .ok (.iconst 3, 1) := by decide +kernel
theorem dX5_text_136 : decode cX5_text 136 = .ok (.if_icmp .ne 47, 3) := by decide +kernel
theorem dX5_text_139 : decode cX5_text 139 = .ok (.aload_n 0, 1) := by decide +kernel
theorem dX5_text_140 : decode cX5_text 140 = .ok (.getfield 48, 3) := by decide +kernel
theorem dX5_text_143 : decode cX5_text 143 = .ok (.iconst 2, 1) := by decide +kernel
theorem dX5_text_144 : decode cX5_text 144 = .ok (.if_icmp .eq 8, 3) := by decide +kernel
theorem dX5_text_147 : decode cX5_text 147 = .ok (.aload_n 0, 1) := by decide +kernel
theorem dX5_text_148 : decode cX5_text 148 = .ok (.invokevirtual 101, 3) := by decide +kernel
theorem dX5_text_151 : decode cX5_text 151 = .ok (.athrow, 1) := by decide +kernel
theorem dX5_text_152 : decode cX5_text 152 = .ok (.aload_n 0, 1) := by decide +kernel
theorem dX5_text_153 : decode cX5_text 153 = .ok (.getfield 69, 3) := by decide +kernel
theorem dX5_text_156 : decode cX5_text 156 = .ok (.bipush 100, 2) := by decide +kernel
theorem dX5_text_158 : decode cX5_text 158 = .ok (.if_icmp .le 16, 3) := by decide +kernel
theorem dX5_text_161 : decode cX5_text 161 = .ok (.new 79, 3) := by decide +kernel
theorem dX5_text_164 : decode cX5_text 164 = .ok (.dup, 1) := by decide +kernel
theorem dX5_text_165 : decode cX5_text 165 = .ok (.iconst 3, 1) := by decide +kernel
theorem dX5_text_166 : decode cX5_text 166 = .ok (.aload_n 0, 1) := by decide +kernel
theorem dX5_text_167 : decode cX5_text 167 = .ok (.getfield 45, 3) := by decide +kernel
theorem dX5_text_170 : decode cX5_text 170 = .ok (.invokespecial 81, 3) := by decide +kernel
theorem dX5_text_173 : decode cX5_text 173 = .ok (.athrow, 1) := by decide +kernel
theorem dX5_text_174 : decode cX5_text 174 = .ok (.aload_n 0, 1) := by decide +kernel
theorem dX5_text_175 : decode cX5_text 175 = .ok (.getfield 69, 3) := by decide +kernel
theorem dX5_text_178 : decode cX5_text 178 = .ok (.istore_n 3, 1) := by decide +kernel
theorem dX5_text_179 : decode cX5_text 179 = .ok (.aload_n 0, 1) := by decide +kernel
theorem dX5_text_180 : decode cX5_text 180 = .ok (.invokevirtual 88, 3) := by decide +kernel
theorem dX5_text_183 : decode cX5_text 183 = .ok (.aload_n 0, 1) := by decide +kernel
theorem dX5_text_184 : decode cX5_text 184 = .ok (.getfield 48, 3) := by decide +kernel
theorem dX5_text_187 : decode cX5_text 187 = .ok (.bipush 59, 2) := by decide +kernel
theorem dX5_text_189 : decode cX5_text 189 = .ok (.if_icmp .eq 8, 3) := by decide +kernel
theorem dX5_text_192 : decode cX5_text 192 = .ok (.aload_n 0, 1) := by decide +kernel
theorem dX5_text_193 : decode cX5_text 193 = .ok (.invokevirtual 101, 3) := by decide +kernel
theorem dX5_text_196 : decode cX5_text 196 = .ok (.athrow, 1) := by decide +kernel
theorem dX5_text_197 : decode cX5_text 197 = .ok (.aload_n 0, 1) := by decide +kernel
theorem dX5_text_198 : decode cX5_text 198 = .ok (.invokevirtual 88, 3) := by decide +kernel
theorem dX5_text_201 : decode cX5_text 201 = .ok (.aload_n 0, 1) := by decide +kernel
theorem dX5_text_202 : decode cX5_text 202 = .ok (.getfield 26, 3) := by decide +kernel
theorem dX5_text_205 : decode cX5_text 205 = .ok (.new 119, 3) := by decide +kernel
theorem dX5_text_208 : decode cX5_text 208 = .ok (.dup, 1) := by decide +kernel
theorem dX5_text_209 : decode cX5_text 209 = .ok (.aload_n 1, 1) := by decide +kernel
theorem dX5_text_210 : decode cX5_text 210 = .ok (.iload_n 2, 1) := by decide +kernel
theorem dX5_text_211 : decode cX5_text 211 = .ok (.iload_n 3, 1) := by decide +kernel
theorem dX5_text_212 : decode cX5_text 212 = .ok (.invokespecial 121, 3) := by decide +kernel
theorem dX5_text_215 : decode cX5_text 215 = .ok (.invokevirtual 124, 3) := by decide +kernel
theorem dX5_text_218 : decode cX5_text 218 = .ok (.pop, 1) := by decide +kernel
theorem dX5_text_219 : decode cX5_text 219 = .ok (.goto (-215), 3) := by decide +kernel
theorem dX5_text_222 : decode cX5_text 222 = .ok (.aload_n 0, 1) := by decide +kernel
theorem dX5_text_223 : decode cX5_text 223 = .ok (.getfield 26, 3) := by decide +kernel
theorem dX5_text_226 : decode cX5_text 226 = .ok (.areturn, 1) := by decide +kernel
theorem dX5_next_0 : decode cX5_next 0 = .ok (.aload_n 0, 1) := by decide +kernel
theorem dX5_next_1 : decode cX5_next 1 = .ok (.iconst 0, 1) := by decide +kernel
theorem dX5_next_2 : decode cX5_next 2 = .ok (.invokevirtual 41, 3) := by decide +kernel
theorem dX5_next_5 : decode cX5_next 5 = .ok (.bipush 32, 2) := by decide +kernel
theorem dX5_next_7 : decode cX5_next 7 = .ok (.if_icmp .eq 13, 3) := by decide +kernel
theorem dX5_next_10 : decode cX5_next 10 = .ok (.aload_n 0, 1) := by decide +kernel
theorem dX5_next_11 : decode cX5_next 11 = .ok (.iconst 0, 1) := by decide +kernel
theorem dX5_next_12 : decode cX5_next 12 = .ok (.invokevirtual 41, 3) := by decide +kernel
theorem dX5_next_15 : decode cX5_next 15 = .ok (.bipush 10, 2) := by decide +kernel
theorem dX5_next_17 : decode cX5_next 17 = .ok (.if_icmp .ne 16, 3) := by decide +kernel
theorem dX5_next_20 : decode cX5_next 20 = .ok (.aload_n 0, 1) := by decide +kernel
theorem dX5_next_21 : decode cX5_next 21 = .ok (.dup, 1) := by decide +kernel
theorem dX5_next_22 : decode cX5_next 22 = .ok (.getfield 30, 3) := by decide +kernel
theorem dX5_next_25 : decode cX5_next 25 = .ok (.iconst 1, 1) := by decide +kernel
theorem dX5_next_26 : decode cX5_next 26 = .ok (.iadd, 1) := by decide +kernel
theorem dX5_next_27 : decode cX5_next 27 = .ok (.putfield 30, 3) := by decide +kernel
theorem dX5_next_30 : decode cX5_next 30 = .ok (.goto (-30), 3) := by decide +kernel
theorem dX5_next_33 : decode cX5_next 33 = .ok (.aload_n 0, 1) := by decide +kernel
theorem dX5_next_34 : decode cX5_next 34 = .ok (.aload_n 0, 1) := by decide +kernel
theorem dX5_next_35 : decode cX5_next 35 = .ok (.getfield 30, 3) := by decide +kernel
theorem dX5_next_38 : decode cX5_next 38 = .ok (.putfield 45, 3) := by decide +kernel
theorem dX5_next_41 : decode cX5_next 41 = .ok (.aload_n 0, 1) := by decide +kernel
theorem dX5_next_42 : decode cX5_next 42 = .ok (.iconst 0, 1) := by decide +kernel
theorem dX5_next_43 : decode cX5_next 43 = .ok (.invokevirtual 41, 3) := by decide +kernel
theorem dX5_next_46 : decode cX5_next 46 = .ok (.istore_n 1, 1) := by decide +kernel
theorem dX5_next_47 : decode cX5_next 47 = .ok (.iconst 0, 1) := by decide +kernel
theorem dX5_next_48 : decode cX5_next 48 = .ok (.istore_n 2, 1) := by decide +kernel
theorem dX5_next_49 : decode cX5_next 49 = .ok (.aload_n 0, 1) := by decide +kernel
theorem dX5_next_50 : decode cX5_next 50 = .ok (.iconst 3, 1) := by decide +kernel
theorem dX5_next_51 : decode cX5_next 51 = .ok (.putfield 48, 3) := by decide +kernel
theorem dX5_next_54 : decode cX5_next 54 = .ok (.iload_n 1, 1) := by decide +kernel
theorem dX5_next_55 : decode cX5_next 55 = .ok (.ifCond .ge 11, 3) := by decide +kernel
theorem dX5_next_58 : decode cX5_next 58 = .ok (.aload_n 0, 1) := by decide +kernel
theorem dX5_next_59 : decode cX5_next 59 = .ok (.iconst 0, 1) := by decide +kernel
theorem dX5_next_60 : decode cX5_next 60 = .ok (.putfield 48, 3) := by decide +kernel
theorem dX5_next_63 : decode cX5_next 63 = .ok (.goto 167, 3) := by decide +kernel
theorem dX5_next_66 : decode cX5_next 66 = .ok (.aload_n 0, 1) := by decide +kernel
theorem dX5_next_67 : decode cX5_next 67 = .ok (.iconst 0, 1) := by decide +kernel
theorem dX5_next_68 : decode cX5_next 68 = .ok (.invokevirtual 51, 3) := by decide +kernel
theorem dX5_next_71 : decode cX5_next 71 = .ok (.ifCond .eq 67, 3) := by decide +kernel
theorem dX5_next_74 : decode cX5_next 74 = .ok (.new 55, 3) := by decide +kernel
theorem dX5_next_77 : decode cX5_next 77 = .ok (.dup, 1) := by decide +kernel
theorem dX5_next_78 : decode cX5_next 78 = .ok (.bipush 8, 2) := by decide +kernel
theorem dX5_next_80 : decode cX5_next 80 = .ok (.invokespecial 57, 3) := by decide +kernel
theorem dX5_next_83 : decode cX5_next 83 = .ok (.astore_n 3, 1) := by decide +kernel
theorem dX5_next_84 : decode cX5_next 84 = .ok (.aload_n 0, 1) := by decide +kernel
theorem dX5_next_85 : decode cX5_next 85 = .ok (.iload_n 2, 1) := by decide +kernel
theorem dX5_next_86 : decode cX5_next 86 = .ok (.invokevirtual 51, 3) := by decide +kernel
theorem dX5_next_89 : decode cX5_next 89 = .ok (.ifCond .eq 26, 3) := by decide +kernel
theorem dX5_next_92 : decode cX5_next 92 = .ok (.iload_n 2, 1) := by decide +kernel
theorem dX5_next_93 : decode cX5_next 93 = .ok (.bipush 8, 2) := by decide +kernel
theorem dX5_next_95 : decode cX5_next 95 = .ok (.if_icmp .ge 14, 3) := by decide +kernel
theorem dX5_next_98 : decode cX5_next 98 = .ok (.aload_n 3, 1) := by decide +kernel
theorem dX5_next_99 : decode cX5_next 99 = .ok (.aload_n 0, 1) := by decide +kernel
theorem dX5_next_100 : decode cX5_next 100 = .ok (.iload_n 2, 1) := by decide +kernel
theorem dX5_next_101 : decode cX5_next 101 = .ok (.invokevirtual 41, 3) := by decide +kernel
theorem dX5_next_104 : decode cX5_next 104 = .ok (.i2c, 1) := by decide +kernel
theorem dX5_next_105 : decode cX5_next 105 = .ok (.invokevirtual 58, 3) := by decide +kernel
theorem dX5_next_108 : decode cX5_next 108 = .ok (.pop, 1) := by decide +kernel
theorem dX5_next_109 : decode cX5_next 109 = .ok (.iinc 2 1, 3) := by decide +kernel
theorem dX5_next_112 : decode cX5_next 112 = .ok (.goto (-28), 3) := by decide +kernel
theorem dX5_next_115 : decode cX5_next 115 = .ok (.iload_n 2, 1) := by decide +kernel
theorem dX5_next_116 : decode cX5_next 116 = .ok (.bipush 8, 2) := by decide +kernel
theorem dX5_next_118 : decode cX5_next 118 = .ok (.if_icmp .le 4, 3) := by decide +kernel
theorem dX5_next_121 : decode cX5_next 121 = .ok (.return_, 1) := by decide +kernel
theorem dX5_next_122 : decode cX5_next 122 = .ok (.aload_n 0, 1) := by decide +kernel
theorem dX5_next_123 : decode cX5_next 123 = .ok (.aload_n 3, 1) := by decide +kernel
theorem dX5_next_124 : decode cX5_next 124 = .ok (.invokevirtual 62, 3) := by decide +kernel
theorem dX5_next_127 : decode cX5_next 127 = .ok (.putfield 17, 3) := by decide +kernel
theorem dX5_next_130 : decode cX5_next 130 = .ok (.aload_n 0, 1) := by decide +kernel
theorem dX5_next_131 : decode cX5_next 131 = .ok (.iconst 1, 1) := by decide +kernel
theorem dX5_next_132 : decode cX5_next 132 = .ok (.putfield 48, 3) := by decide +kernel
theorem dX5_next_135 : decode cX5_next 135 = .ok (.goto 95, 3) := by decide +kernel
theorem dX5_next_138 : decode cX5_next 138 = .ok (.aload_n 0, 1) := by decide +kernel
theorem dX5_next_139 : decode cX5_next 139 = .ok (.iconst 0, 1) := by decide +kernel
theorem dX5_next_140 : decode cX5_next 140 = .ok (.invokevirtual 66, 3) := by decide +kernel
theorem dX5_next_143 : decode cX5_next 143 = .ok (.ifCond .eq 71, 3) := by decide +kernel
theorem dX5_next_146 : decode cX5_next 146 = .ok (.aload_n 0, 1) := by decide +kernel
theorem dX5_next_147 : decode cX5_next 147 = .ok (.iconst 0, 1) := by decide +kernel
theorem dX5_next_148 : decode cX5_next 148 = .ok (.putfield 69, 3) := by decide +kernel
theorem dX5_next_151 : decode cX5_next 151 = .ok (.aload_n 0, 1) := by decide +kernel
theorem dX5_next_152 : decode cX5_next 152 = .ok (.iload_n 2, 1) := by decide +kernel
theorem dX5_next_153 : decode cX5_next 153 = .ok (.invokevirtual 66, 3) := by decide +kernel
theorem dX5_next_156 : decode cX5_next 156 = .ok (.ifCond .eq 35, 3) := by decide +kernel
theorem dX5_next_159 : decode cX5_next 159 = .ok (.iload_n 2, 1) := by decide +kernel
theorem dX5_next_160 : decode cX5_next 160 = .ok (.bipush 7, 2) := by decide +kernel
theorem dX5_next_162 : decode cX5_next 162 = .ok (.if_icmp .ge 23, 3) := by decide +kernel
theorem dX5_next_165 : decode cX5_next 165 = .ok (.aload_n 0, 1) := by decide +kernel
theorem dX5_next_166 : decode cX5_next 166 = .ok (.bipush 10, 2) := by decide +kernel
theorem dX5_next_168 : decode cX5_next 168 = .ok (.aload_n 0, 1) := by decide +kernel
theorem dX5_next_169 : decode cX5_next 169 = .ok (.getfield 69, 3) := by decide +kernel
theorem dX5_next_172 : decode cX5_next 172 = .ok (.imul, 1) := by decide +kernel
theorem dX5_next_173 : decode cX5_next 173 = .ok (.aload_n 0, 1) := by decide +kernel
theorem dX5_next_174 : decode cX5_next 174 = .ok (.iload_n 2, 1) := by decide +kernel
theorem dX5_next_175 : decode cX5_next 175 = .ok (.invokevirtual 41, 3) := by decide +kernel
theorem dX5_next_178 : decode cX5_next 178 = .ok (.iadd, 1) := by decide +kernel
theorem dX5_next_179 : decode cX5_next 179 = .ok (.bipush 48, 2) := by decide +kernel
theorem dX5_next_181 : decode cX5_next 181 = .ok (.isub, 1) := by decide +kernel
theorem dX5_next_182 : decode cX5_next 182 = .ok (.putfield 69, 3) := by decide +kernel
theorem dX5_next_185 : decode cX5_next 185 = .ok (.iinc 2 1, 3) := by decide +kernel
theorem dX5_next_188 : decode cX5_next 188 = .ok (.goto (-37), 3) := by decide +kernel
theorem dX5_next_191 : decode cX5_next 191 = .ok (.iload_n 2, 1) := by decide +kernel
theorem dX5_next_192 : decode cX5_next 192 = .ok (.bipush 7, 2) := by decide +kernel
theorem dX5_next_194 : decode cX5_next 194 = .ok (.if_icmp .gt 11, 3) := by decide +kernel
theorem dX5_next_197 : decode cX5_next 197 = .ok (.aload_n 0, 1) := by decide +kernel
theorem dX5_next_198 : decode cX5_next 198 = .ok (.iload_n 2, 1) := by decide +kernel
theorem dX5_next_199 : decode cX5_next 199 = .ok (.invokevirtual 51, 3) := by decide +kernel
theorem dX5_next_202 : decode cX5_next 202 = .ok (.ifCond .eq 4, 3) := by decide +kernel
theorem dX5_next_205 : decode cX5_next 205 = .ok (.return_, 1) := by decide +kernel
theorem dX5_next_206 : decode cX5_next 206 = .ok (.aload_n 0, 1) := by decide +kernel
theorem dX5_next_207 : decode cX5_next 207 = .ok (.iconst 2, 1) := by decide +kernel
theorem dX5_next_208 : decode cX5_next 208 = .ok (.putfield 48, 3) := by decide +kernel
theorem dX5_next_211 : decode cX5_next 211 = .ok (.goto 19, 3) := by decide +kernel
theorem dX5_next_214 : decode cX5_next 214 = .ok (.ldc 72, 2) := by decide +kernel
theorem dX5_next_216 : decode cX5_next 216 = .ok (.iload_n 1, 1) := by decide +kernel
theorem dX5_next_217 : decode cX5_next 217 = .ok (.invokevirtual 74, 3) := by decide +kernel
theorem dX5_next_220 : decode cX5_next 220 = .ok (.ifCond .lt 10, 3) := by decide +kernel
theorem dX5_next_223 : decode cX5_next 223 = .ok (.aload_n 0, 1) := by decide +kernel
theorem dX5_next_224 : decode cX5_next 224 = .ok (.iload_n 1, 1) := by decide +kernel
theorem dX5_next_225 : decode cX5_next 225 = .ok (.putfield 48, 3) := by decide +kernel
theorem dX5_next_228 : decode cX5_next 228 = .ok (.iconst 1, 1) := by decide +kernel
theorem dX5_next_229 : decode cX5_next 229 = .ok (.istore_n 2, 1) := by decide +kernel
theorem dX5_next_230 : decode cX5_next 230 = .ok (.aload_n 0, 1) := by decide +kernel
theorem dX5_next_231 : decode cX5_next 231 = .ok (.dup, 1) := by decide +kernel
theorem dX5_next_232 : decode cX5_next 232 = .ok (.getfield 30, 3) := by decide +kernel
theorem dX5_next_235 : decode cX5_next 235 = .ok (.iload_n 2, 1) := by decide +kernel
theorem dX5_next_236 : decode cX5_next 236 = .ok (.iadd, 1) := by decide +kernel
theorem dX5_next_237 : decode cX5_next 237 = .ok (.putfield 30, 3) := by decide +kernel
theorem dX5_next_240 : decode cX5_next 240 = .ok (.return_, 1) := by decide +kernel
theorem dX5_here_0 : decode cX5_here 0 = .ok (.aload_n 0, 1) := by decide +kernel
theorem dX5_here_1 : decode cX5_here 1 = .ok (.getfield 30, 3) := by decide +kernel
theorem dX5_here_4 : decode cX5_here 4 = .ok (.iload_n 1, 1) := by decide +kernel
theorem dX5_here_5 : decode cX5_here 5 = .ok (.iadd, 1) := by decide +kernel
theorem dX5_here_6 : decode cX5_here 6 = .ok (.aload_n 0, 1) := by decide +kernel
theorem dX5_here_7 : decode cX5_here 7 = .ok (.getfield 3, 3) := by decide +kernel
theorem dX5_here_10 : decode cX5_here 10 = .ok (.getfield 34, 3) := by decide +kernel
theorem dX5_here_13 : decode cX5_here 13 = .ok (.if_icmp .ge 24, 3) := by decide +kernel
theorem dX5_here_16 : decode cX5_here 16 = .ok (.aload_n 0, 1) := by decide +kernel
theorem dX5_here_17 : decode cX5_here 17 = .ok (.getfield 3, 3) := by decide +kernel
theorem dX5_here_20 : decode cX5_here 20 = .ok (.getfield 37, 3) := by decide +kernel
theorem dX5_here_23 : decode cX5_here 23 = .ok (.aload_n 0, 1) := by decide +kernel
theorem dX5_here_24 : decode cX5_here 24 = .ok (.getfield 30, 3) := by decide +kernel
theorem dX5_here_27 : decode cX5_here 27 = .ok (.iload_n 1, 1) := by decide +kernel
theorem dX5_here_28 : decode cX5_here 28 = .ok (.iadd, 1) := by decide +kernel
theorem dX5_here_29 : decode cX5_here 29 = .ok (.baload, 1) := by decide +kernel
theorem dX5_here_30 : decode cX5_here 30 = .ok (.sipush 255, 3) := by decide +kernel
theorem dX5_here_33 : decode cX5_here 33 = .ok (.iand, 1) := by decide +kernel
theorem dX5_here_34 : decode cX5_here 34 = .ok (.goto 4, 3) := by decide +kernel
theorem dX5_here_37 : decode cX5_here 37 = .ok (.iconst (-1), 1) := by decide +kernel
theorem dX5_here_38 : decode cX5_here 38 = .ok (.ireturn, 1) := by decide +kernel
theorem dX5_isLetter_0 : decode cX5_isLetter 0 = .ok (.aload_n 0, 1) := by decide +kernel
theorem dX5_isLetter_1 : decode cX5_isLetter 1 = .ok (.iload_n 1, 1) := by decide +kernel
theorem dX5_isLetter_2 : decode cX5_isLetter 2 = .ok (.invokevirtual 41, 3) := by decide +kernel
theorem dX5_isLetter_5 : decode cX5_isLetter 5 = .ok (.bipush 97, 2) := by decide +kernel
theorem dX5_isLetter_7 : decode cX5_isLetter 7 = .ok (.if_icmp .lt 17, 3) := by decide +kernel
theorem dX5_isLetter_10 : decode cX5_isLetter 10 = .ok (.aload_n 0, 1) := by decide +kernel
theorem dX5_isLetter_11 : decode cX5_isLetter 11 = .ok (.iload_n 1, 1) := by decide +kernel
theorem dX5_isLetter_12 : decode cX5_isLetter 12 = .ok (.invokevirtual 41, 3) := by decide +kernel
theorem dX5_isLetter_15 : decode cX5_isLetter 15 = .ok (.bipush 122, 2) := by decide +kernel
theorem dX5_isLetter_17 : decode cX5_isLetter 17 = .ok (.if_icmp .gt 7, 3) := by decide +kernel
theorem dX5_isLetter_20 : decode cX5_isLetter 20 = .ok (.iconst 1, 1) := by decide +kernel
theorem dX5_isLetter_21 : decode cX5_isLetter 21 = .ok (.goto 4, 3) := by decide +kernel
theorem dX5_isLetter_24 : decode cX5_isLetter 24 = .ok (.iconst 0, 1) := by decide +kernel
theorem dX5_isLetter_25 : decode cX5_isLetter 25 = .ok (.ireturn, 1) := by decide +kernel
theorem dX5_isDigit_0 : decode cX5_isDigit 0 = .ok (.aload_n 0, 1) := by decide +kernel
theorem dX5_isDigit_1 : decode cX5_isDigit 1 = .ok (.iload_n 1, 1) := by decide +kernel
theorem dX5_isDigit_2 : decode cX5_isDigit 2 = .ok (.invokevirtual 41, 3) := by decide +kernel
theorem dX5_isDigit_5 : decode cX5_isDigit 5 = .ok (.bipush 48, 2) := by decide +kernel
theorem dX5_isDigit_7 : decode cX5_isDigit 7 = .ok (.if_icmp .lt 17, 3) := by decide +kernel
theorem dX5_isDigit_10 : decode cX5_isDigit 10 = .ok (.aload_n 0, 1) := by decide +kernel
theorem dX5_isDigit_11 : decode cX5_isDigit 11 = .ok (.iload_n 1, 1) := by decide +kernel
theorem dX5_isDigit_12 : decode cX5_isDigit 12 = .ok (.invokevirtual 41, 3) := by decide +kernel
theorem dX5_isDigit_15 : decode cX5_isDigit 15 = .ok (.bipush 57, 2) := by decide +kernel
theorem dX5_isDigit_17 : decode cX5_isDigit 17 = .ok (.if_icmp .gt 7, 3) := by decide +kernel
theorem dX5_isDigit_20 : decode cX5_isDigit 20 = .ok (.iconst 1, 1) := by decide +kernel
theorem dX5_isDigit_21 : decode cX5_isDigit 21 = .ok (.goto 4, 3) := by decide +kernel
theorem dX5_isDigit_24 : decode cX5_isDigit 24 = .ok (.iconst 0, 1) := by decide +kernel
theorem dX5_isDigit_25 : decode cX5_isDigit 25 = .ok (.ireturn, 1) := by decide +kernel
theorem dX5_is_0 : decode cX5_is 0 = .ok (.aload_n 0, 1) := by decide +kernel
theorem dX5_is_1 : decode cX5_is 1 = .ok (.getfield 48, 3) := by decide +kernel
theorem dX5_is_4 : decode cX5_is 4 = .ok (.iconst 1, 1) := by decide +kernel
theorem dX5_is_5 : decode cX5_is 5 = .ok (.if_icmp .ne 18, 3) := by decide +kernel
theorem dX5_is_8 : decode cX5_is 8 = .ok (.aload_n 0, 1) := by decide +kernel
theorem dX5_is_9 : decode cX5_is 9 = .ok (.getfield 17, 3) := by decide +kernel
theorem dX5_is_12 : decode cX5_is 12 = .ok (.aload_n 1, 1) := by decide +kernel
theorem dX5_is_13 : decode cX5_is 13 = .ok (.invokevirtual 84, 3) := by decide +kernel
theorem dX5_is_16 : decode cX5_is 16 = .ok (.ifCond .eq 7, 3) := by decide +kernel
theorem dX5_is_19 : decode cX5_is 19 = .ok (.iconst 1, 1) := by decide +kernel
theorem dX5_is_20 : decode cX5_is 20 = .ok (.goto 4, 3) := by decide +kernel
theorem dX5_is_23 : decode cX5_is 23 = .ok (.iconst 0, 1) := by decide +kernel
theorem dX5_is_24 : decode cX5_is 24 = .ok (.ireturn, 1) := by decide +kernel
theorem dX5_wrong_0 : decode cX5_wrong 0 = .ok (.new 79, 3) := by decide +kernel
theorem dX5_wrong_3 : decode cX5_wrong 3 = .ok (.dup, 1) := by decide +kernel
theorem dX5_wrong_4 : decode cX5_wrong 4 = .ok (.aload_n 0, 1) := by decide +kernel
theorem dX5_wrong_5 : decode cX5_wrong 5 = .ok (.getfield 48, 3) := by decide +kernel
theorem dX5_wrong_8 : decode cX5_wrong 8 = .ok (.iconst 3, 1) := by decide +kernel
theorem dX5_wrong_9 : decode cX5_wrong 9 = .ok (.if_icmp .ne 7, 3) := by decide +kernel
theorem dX5_wrong_12 : decode cX5_wrong 12 = .ok (.iconst 1, 1) := by decide +kernel
theorem dX5_wrong_13 : decode cX5_wrong 13 = .ok (.goto 4, 3) := by decide +kernel
theorem dX5_wrong_16 : decode cX5_wrong 16 = .ok (.iconst 2, 1) := by decide +kernel
theorem dX5_wrong_17 : decode cX5_wrong 17 = .ok (.aload_n 0, 1) := by decide +kernel
theorem dX5_wrong_18 : decode cX5_wrong 18 = .ok (.getfield 45, 3) := by decide +kernel
theorem dX5_wrong_21 : decode cX5_wrong 21 = .ok (.invokespecial 81, 3) := by decide +kernel
theorem dX5_wrong_24 : decode cX5_wrong 24 = .ok (.areturn, 1) := by decide +kernel
theorem dX5_either_0 : decode cX5_either 0 = .ok (.aload_n 0, 1) := by decide +kernel
theorem dX5_either_1 : decode cX5_either 1 = .ok (.iload_n 1, 1) := by decide +kernel
theorem dX5_either_2 : decode cX5_either 2 = .ok (.invokevirtual 139, 3) := by decide +kernel
theorem dX5_either_5 : decode cX5_either 5 = .ok (.new 21, 3) := by decide +kernel
theorem dX5_either_8 : decode cX5_either 8 = .ok (.dup, 1) := by decide +kernel
theorem dX5_either_9 : decode cX5_either 9 = .ok (.iconst 2, 1) := by decide +kernel
theorem dX5_either_10 : decode cX5_either 10 = .ok (.invokespecial 23, 3) := by decide +kernel
theorem dX5_either_13 : decode cX5_either 13 = .ok (.astore_n 2, 1) := by decide +kernel
theorem dX5_either_14 : decode cX5_either 14 = .ok (.aload_n 2, 1) := by decide +kernel
theorem dX5_either_15 : decode cX5_either 15 = .ok (.aload_n 0, 1) := by decide +kernel
theorem dX5_either_16 : decode cX5_either 16 = .ok (.iload_n 1, 1) := by decide +kernel
theorem dX5_either_17 : decode cX5_either 17 = .ok (.invokevirtual 142, 3) := by decide +kernel
theorem dX5_either_20 : decode cX5_either 20 = .ok (.invokevirtual 124, 3) := by decide +kernel
theorem dX5_either_23 : decode cX5_either 23 = .ok (.pop, 1) := by decide +kernel
theorem dX5_either_24 : decode cX5_either 24 = .ok (.aload_n 0, 1) := by decide +kernel
theorem dX5_either_25 : decode cX5_either 25 = .ok (.ldc 145, 2) := by decide +kernel
theorem dX5_either_27 : decode cX5_either 27 = .ok (.invokevirtual 93, 3) := by decide +kernel
theorem dX5_either_30 : decode cX5_either 30 = .ok (.ifCond .eq 20, 3) := by decide +kernel
theorem dX5_either_33 : decode cX5_either 33 = .ok (.aload_n 0, 1) := by decide +kernel
theorem dX5_either_34 : decode cX5_either 34 = .ok (.invokevirtual 88, 3) := by decide +kernel
theorem dX5_either_37 : decode cX5_either 37 = .ok (.aload_n 2, 1) := by decide +kernel
theorem dX5_either_38 : decode cX5_either 38 = .ok (.aload_n 0, 1) := by decide +kernel
theorem dX5_either_39 : decode cX5_either 39 = .ok (.iload_n 1, 1) := by decide +kernel
theorem dX5_either_40 : decode cX5_either 40 = .ok (.invokevirtual 142, 3) := by decide +kernel
theorem dX5_either_43 : decode cX5_either 43 = .ok (.invokevirtual 124, 3) := by decide +kernel
theorem dX5_either_46 : decode cX5_either 46 = .ok (.pop, 1) := by decide +kernel
theorem dX5_either_47 : decode cX5_either 47 = .ok (.goto (-23), 3) := by decide +kernel
theorem dX5_either_50 : decode cX5_either 50 = .ok (.aload_n 2, 1) := by decide +kernel
theorem dX5_either_51 : decode cX5_either 51 = .ok (.invokevirtual 97, 3) := by decide +kernel
theorem dX5_either_54 : decode cX5_either 54 = .ok (.iconst 1, 1) := by decide +kernel
theorem dX5_either_55 : decode cX5_either 55 = .ok (.if_icmp .ne 14, 3) := by decide +kernel
theorem dX5_either_58 : decode cX5_either 58 = .ok (.aload_n 2, 1) := by decide +kernel
theorem dX5_either_59 : decode cX5_either 59 = .ok (.iconst 0, 1) := by decide +kernel
theorem dX5_either_60 : decode cX5_either 60 = .ok (.invokevirtual 147, 3) := by decide +kernel
theorem dX5_either_63 : decode cX5_either 63 = .ok (.checkcast 151, 3) := by decide +kernel
theorem dX5_either_66 : decode cX5_either 66 = .ok (.goto 16, 3) := by decide +kernel
theorem dX5_either_69 : decode cX5_either 69 = .ok (.new 153, 3) := by decide +kernel
theorem dX5_either_72 : decode cX5_either 72 = .ok (.dup, 1) := by decide +kernel
theorem dX5_either_73 : decode cX5_either 73 = .ok (.aload_n 0, 1) := by decide +kernel
theorem dX5_either_74 : decode cX5_either 74 = .ok (.getfield 3, 3) := by decide +kernel
theorem dX5_either_77 : decode cX5_either 77 = .ok (.aload_n 2, 1) := by decide +kernel
theorem dX5_either_78 : decode cX5_either 78 = .ok (.iconst 0, 1) := by decide +kernel
theorem dX5_either_79 : decode cX5_either 79 = .ok (.invokespecial 155, 3) := by decide +kernel
theorem dX5_either_82 : decode cX5_either 82 = .ok (.areturn, 1) := by decide +kernel
theorem dX5_deep_0 : decode cX5_deep 0 = .ok (.aload_n 0, 1) := by decide +kernel
theorem dX5_deep_1 : decode cX5_deep 1 = .ok (.invokevirtual 133, 3) := by decide +kernel
theorem dX5_deep_4 : decode cX5_deep 4 = .ok (.ifCond .ne 21, 3) := by decide +kernel
theorem dX5_deep_7 : decode cX5_deep 7 = .ok (.aload_n 0, 1) := by decide +kernel
theorem dX5_deep_8 : decode cX5_deep 8 = .ok (.getfield 48, 3) := by decide +kernel
theorem dX5_deep_11 : decode cX5_deep 11 = .ok (.bipush 40, 2) := by decide +kernel
theorem dX5_deep_13 : decode cX5_deep 13 = .ok (.if_icmp .eq 12, 3) := by decide +kernel
theorem dX5_deep_16 : decode cX5_deep 16 = .ok (.aload_n 0, 1) := by decide +kernel
theorem dX5_deep_17 : decode cX5_deep 17 = .ok (.ldc 137, 2) := by decide +kernel
theorem dX5_deep_19 : decode cX5_deep 19 = .ok (.invokevirtual 93, 3) := by decide +kernel
theorem dX5_deep_22 : decode cX5_deep 22 = .ok (.ifCond .eq 9, 3) := by decide +kernel
theorem dX5_deep_25 : decode cX5_deep 25 = .ok (.iload_n 1, 1) := by decide +kernel
theorem dX5_deep_26 : decode cX5_deep 26 = .ok (.bipush 6, 2) := by decide +kernel
theorem dX5_deep_28 : decode cX5_deep 28 = .ok (.if_icmp .lt 8, 3) := by decide +kernel
theorem dX5_deep_31 : decode cX5_deep 31 = .ok (.aload_n 0, 1) := by decide +kernel
theorem dX5_deep_32 : decode cX5_deep 32 = .ok (.invokevirtual 101, 3) := by decide +kernel
theorem dX5_deep_35 : decode cX5_deep 35 = .ok (.athrow, 1) := by decide +kernel
theorem dX5_deep_36 : decode cX5_deep 36 = .ok (.return_, 1) := by decide +kernel
theorem dX5_isTerm_0 : decode cX5_isTerm 0 = .ok (.aload_n 0, 1) := by decide +kernel
theorem dX5_isTerm_1 : decode cX5_isTerm 1 = .ok (.getfield 48, 3) := by decide +kernel
theorem dX5_isTerm_4 : decode cX5_isTerm 4 = .ok (.iconst 2, 1) := by decide +kernel
theorem dX5_isTerm_5 : decode cX5_isTerm 5 = .ok (.if_icmp .eq 21, 3) := by decide +kernel
theorem dX5_isTerm_8 : decode cX5_isTerm 8 = .ok (.aload_n 0, 1) := by decide +kernel
theorem dX5_isTerm_9 : decode cX5_isTerm 9 = .ok (.getfield 48, 3) := by decide +kernel
theorem dX5_isTerm_12 : decode cX5_isTerm 12 = .ok (.iconst 1, 1) := by decide +kernel
theorem dX5_isTerm_13 : decode cX5_isTerm 13 = .ok (.if_icmp .ne 17, 3) := by decide +kernel
theorem dX5_isTerm_16 : decode cX5_isTerm 16 = .ok (.aload_n 0, 1) := by decide +kernel
theorem dX5_isTerm_17 : decode cX5_isTerm 17 = .ok (.getfield 17, 3) := by decide +kernel
theorem dX5_isTerm_20 : decode cX5_isTerm 20 = .ok (.invokestatic 127, 3) := by decide +kernel
theorem dX5_isTerm_23 : decode cX5_isTerm 23 = .ok (.ifnull 7, 3) := by decide +kernel
theorem dX5_isTerm_26 : decode cX5_isTerm 26 = .ok (.iconst 1, 1) := by decide +kernel
theorem dX5_isTerm_27 : decode cX5_isTerm 27 = .ok (.goto 4, 3) := by decide +kernel
theorem dX5_isTerm_30 : decode cX5_isTerm 30 = .ok (.iconst 0, 1) := by decide +kernel
theorem dX5_isTerm_31 : decode cX5_isTerm 31 = .ok (.ireturn, 1) := by decide +kernel
theorem dX5_both_0 : decode cX5_both 0 = .ok (.new 21, 3) := by decide +kernel
theorem dX5_both_3 : decode cX5_both 3 = .ok (.dup, 1) := by decide +kernel
theorem dX5_both_4 : decode cX5_both 4 = .ok (.iconst 2, 1) := by decide +kernel
theorem dX5_both_5 : decode cX5_both 5 = .ok (.invokespecial 23, 3) := by decide +kernel
theorem dX5_both_8 : decode cX5_both 8 = .ok (.astore_n 2, 1) := by decide +kernel
theorem dX5_both_9 : decode cX5_both 9 = .ok (.aload_n 2, 1) := by decide +kernel
theorem dX5_both_10 : decode cX5_both 10 = .ok (.aload_n 0, 1) := by decide +kernel
theorem dX5_both_11 : decode cX5_both 11 = .ok (.iload_n 1, 1) := by decide +kernel
theorem dX5_both_12 : decode cX5_both 12 = .ok (.invokevirtual 158, 3) := by decide +kernel
theorem dX5_both_15 : decode cX5_both 15 = .ok (.invokevirtual 124, 3) := by decide +kernel
theorem dX5_both_18 : decode cX5_both 18 = .ok (.pop, 1) := by decide +kernel
theorem dX5_both_19 : decode cX5_both 19 = .ok (.aload_n 0, 1) := by decide +kernel
