set_option maxRecDepth 100000
theorem dX3_follow_70 : decode cX3_follow 70 = .ok (.iload 4, 2) := by decide +kernel
theorem dX3_follow_72 : decode cX3_follow 72 = .ok (.iaload, 1) := by decide +kernel
theorem dX3_follow_73 : decode cX3_follow 73 = .ok (.if_icmp .le 25, 3) := by decide +kernel
theorem dX3_follow_76 : decode cX3_follow 76 = .ok (.aload_n 0, 1) := by decide +kernel
theorem dX3_follow_77 : decode cX3_follow 77 = .ok (.getfield 52, 3) := by decide +kernel
theorem dX3_follow_80 : decode cX3_follow 80 = .ok (.iload 5, 2) := by decide +kernel
theorem dX3_follow_82 : decode cX3_follow 82 = .ok (.aload_n 0, 1) := by decide +kernel
theorem dX3_follow_83 : decode cX3_follow 83 = .ok (.getfield 52, 3) := by decide +kernel
theorem dX3_follow_86 : decode cX3_follow 86 = .ok (.iload 5, 2) := by decide +kernel
theorem dX3_follow_88 : decode cX3_follow 88 = .ok (.iconst 1, 1) := by decide +kernel
theorem dX3_follow_89 : decode cX3_follow 89 = .ok (.isub, 1) := by decide +kernel
theorem dX3_follow_90 : decode cX3_follow 90 = .ok (.iaload, 1) := by decide +kernel
theorem dX3_follow_91 : decode cX3_follow 91 = .ok (.iastore, 1) := by decide +kernel
theorem dX3_follow_92 : decode cX3_follow 92 = .ok (.iinc 5 (-1), 3) := by decide +kernel
theorem dX3_follow_95 : decode cX3_follow 95 = .ok (.goto (-48), 3) := by decide +kernel
theorem dX3_follow_98 : decode cX3_follow 98 = .ok (.aload_n 0, 1) := by decide +kernel
theorem dX3_follow_99 : decode cX3_follow 99 = .ok (.getfield 52, 3) := by decide +kernel
theorem dX3_follow_102 : decode cX3_follow 102 = .ok (.iload 5, 2) := by decide +kernel
theorem dX3_follow_104 : decode cX3_follow 104 = .ok (.iload 4, 2) := by decide +kernel
theorem dX3_follow_106 : decode cX3_follow 106 = .ok (.iastore, 1) := by decide +kernel
theorem dX3_follow_107 : decode cX3_follow 107 = .ok (.aload_n 0, 1) := by decide +kernel
theorem dX3_follow_108 : decode cX3_follow 108 = .ok (.dup, 1) := by decide +kernel
theorem dX3_follow_109 : decode cX3_follow 109 = .ok (.getfield 158, 3) := by decide +kernel
theorem dX3_follow_112 : decode cX3_follow 112 = .ok (.iconst 1, 1) := by decide +kernel
theorem dX3_follow_113 : decode cX3_follow 113 = .ok (.iadd, 1) := by decide +kernel
theorem dX3_follow_114 : decode cX3_follow 114 = .ok (.putfield 158, 3) := by decide +kernel
theorem dX3_follow_117 : decode cX3_follow 117 = .ok (.iinc 4 1, 3) := by decide +kernel
theorem dX3_follow_120 : decode cX3_follow 120 = .ok (.goto (-112), 3) := by decide +kernel
theorem dX3_follow_123 : decode cX3_follow 123 = .ok (.aload_n 0, 1) := by decide +kernel
theorem dX3_follow_124 : decode cX3_follow 124 = .ok (.getfield 19, 3) := by decide +kernel
theorem dX3_follow_127 : decode cX3_follow 127 = .ok (.iload_n 1, 1) := by decide +kernel
theorem dX3_follow_128 : decode cX3_follow 128 = .ok (.iaload, 1) := by decide +kernel
theorem dX3_follow_129 : decode cX3_follow 129 = .ok (.istore 4, 2) := by decide +kernel
theorem dX3_follow_131 : decode cX3_follow 131 = .ok (.iload 4, 2) := by decide +kernel
theorem dX3_follow_133 : decode cX3_follow 133 = .ok (.istore 5, 2) := by decide +kernel
theorem dX3_follow_135 : decode cX3_follow 135 = .ok (.iconst 0, 1) := by decide +kernel
theorem dX3_follow_136 : decode cX3_follow 136 = .ok (.istore 6, 2) := by decide +kernel
theorem dX3_follow_138 : decode cX3_follow 138 = .ok (.iload 6, 2) := by decide +kernel
theorem dX3_follow_140 : decode cX3_follow 140 = .ok (.aload_n 0, 1) := by decide +kernel
theorem dX3_follow_141 : decode cX3_follow 141 = .ok (.getfield 158, 3) := by decide +kernel
theorem dX3_follow_144 : decode cX3_follow 144 = .ok (.if_icmp .ge 76, 3) := by decide +kernel
theorem dX3_follow_147 : decode cX3_follow 147 = .ok (.aload_n 0, 1) := by decide +kernel
theorem dX3_follow_148 : decode cX3_follow 148 = .ok (.getfield 52, 3) := by decide +kernel
theorem dX3_follow_151 : decode cX3_follow 151 = .ok (.iload 6, 2) := by decide +kernel
theorem dX3_follow_153 : decode cX3_follow 153 = .ok (.iaload, 1) := by decide +kernel
theorem dX3_follow_154 : decode cX3_follow 154 = .ok (.istore 7, 2) := by decide +kernel
theorem dX3_follow_156 : decode cX3_follow 156 = .ok (.aload_n 0, 1) := by decide +kernel
theorem dX3_follow_157 : decode cX3_follow 157 = .ok (.getfield 55, 3) := by decide +kernel
theorem dX3_follow_160 : decode cX3_follow 160 = .ok (.iload 7, 2) := by decide +kernel
theorem dX3_follow_162 : decode cX3_follow 162 = .ok (.aload_n 0, 1) := by decide +kernel
theorem dX3_follow_163 : decode cX3_follow 163 = .ok (.getfield 31, 3) := by decide +kernel
theorem dX3_follow_166 : decode cX3_follow 166 = .ok (.iload 7, 2) := by decide +kernel
theorem dX3_follow_168 : decode cX3_follow 168 = .ok (.iaload, 1) := by decide +kernel
theorem dX3_follow_169 : decode cX3_follow 169 = .ok (.iload 4, 2) := by decide +kernel
theorem dX3_follow_171 : decode cX3_follow 171 = .ok (.if_icmp .eq 7, 3) := by decide +kernel
theorem dX3_follow_174 : decode cX3_follow 174 = .ok (.iconst 1, 1) := by decide +kernel
theorem dX3_follow_175 : decode cX3_follow 175 = .ok (.goto 4, 3) := by decide +kernel
theorem dX3_follow_178 : decode cX3_follow 178 = .ok (.iconst 0, 1) := by decide +kernel
theorem dX3_follow_179 : decode cX3_follow 179 = .ok (.bastore, 1) := by decide +kernel
theorem dX3_follow_180 : decode cX3_follow 180 = .ok (.aload_n 0, 1) := by decide +kernel
theorem dX3_follow_181 : decode cX3_follow 181 = .ok (.getfield 55, 3) := by decide +kernel
theorem dX3_follow_184 : decode cX3_follow 184 = .ok (.iload 7, 2) := by decide +kernel
theorem dX3_follow_186 : decode cX3_follow 186 = .ok (.baload, 1) := by decide +kernel
theorem dX3_follow_187 : decode cX3_follow 187 = .ok (.ifCond .ne 12, 3) := by decide +kernel
theorem dX3_follow_190 : decode cX3_follow 190 = .ok (.aload_n 0, 1) := by decide +kernel
theorem dX3_follow_191 : decode cX3_follow 191 = .ok (.getfield 34, 3) := by decide +kernel
theorem dX3_follow_194 : decode cX3_follow 194 = .ok (.iload 7, 2) := by decide +kernel
theorem dX3_follow_196 : decode cX3_follow 196 = .ok (.iaload, 1) := by decide +kernel
theorem dX3_follow_197 : decode cX3_follow 197 = .ok (.istore 4, 2) := by decide +kernel
theorem dX3_follow_199 : decode cX3_follow 199 = .ok (.aload_n 0, 1) := by decide +kernel
theorem dX3_follow_200 : decode cX3_follow 200 = .ok (.getfield 37, 3) := by decide +kernel
theorem dX3_follow_203 : decode cX3_follow 203 = .ok (.iload 7, 2) := by decide +kernel
theorem dX3_follow_205 : decode cX3_follow 205 = .ok (.iaload, 1) := by decide +kernel
theorem dX3_follow_206 : decode cX3_follow 206 = .ok (.iload_n 2, 1) := by decide +kernel
theorem dX3_follow_207 : decode cX3_follow 207 = .ok (.if_icmp .gt 7, 3) := by decide +kernel
theorem dX3_follow_210 : decode cX3_follow 210 = .ok (.iload 4, 2) := by decide +kernel
theorem dX3_follow_212 : decode cX3_follow 212 = .ok (.istore 5, 2) := by decide +kernel
theorem dX3_follow_214 : decode cX3_follow 214 = .ok (.iinc 6 1, 3) := by decide +kernel
theorem dX3_follow_217 : decode cX3_follow 217 = .ok (.goto (-79), 3) := by decide +kernel
theorem dX3_follow_220 : decode cX3_follow 220 = .ok (.iload 5, 2) := by decide +kernel
theorem dX3_follow_222 : decode cX3_follow 222 = .ok (.ireturn, 1) := by decide +kernel
theorem dX3_counts_0 : decode cX3_counts 0 = .ok (.aload_n 0, 1) := by decide +kernel
theorem dX3_counts_1 : decode cX3_counts 1 = .ok (.getfield 46, 3) := by decide +kernel
theorem dX3_counts_4 : decode cX3_counts 4 = .ok (.iload_n 1, 1) := by decide +kernel
theorem dX3_counts_5 : decode cX3_counts 5 = .ok (.iaload, 1) := by decide +kernel
theorem dX3_counts_6 : decode cX3_counts 6 = .ok (.iload_n 2, 1) := by decide +kernel
theorem dX3_counts_7 : decode cX3_counts 7 = .ok (.if_icmp .gt 26, 3) := by decide +kernel
theorem dX3_counts_10 : decode cX3_counts 10 = .ok (.aload_n 0, 1) := by decide +kernel
theorem dX3_counts_11 : decode cX3_counts 11 = .ok (.getfield 49, 3) := by decide +kernel
theorem dX3_counts_14 : decode cX3_counts 14 = .ok (.iload_n 1, 1) := by decide +kernel
theorem dX3_counts_15 : decode cX3_counts 15 = .ok (.iaload, 1) := by decide +kernel
theorem dX3_counts_16 : decode cX3_counts 16 = .ok (.ifCond .lt 13, 3) := by decide +kernel
theorem dX3_counts_19 : decode cX3_counts 19 = .ok (.aload_n 0, 1) := by decide +kernel
theorem dX3_counts_20 : decode cX3_counts 20 = .ok (.getfield 49, 3) := by decide +kernel
theorem dX3_counts_23 : decode cX3_counts 23 = .ok (.iload_n 1, 1) := by decide +kernel
theorem dX3_counts_24 : decode cX3_counts 24 = .ok (.iaload, 1) := by decide +kernel
theorem dX3_counts_25 : decode cX3_counts 25 = .ok (.iload_n 2, 1) := by decide +kernel
theorem dX3_counts_26 : decode cX3_counts 26 = .ok (.if_icmp .le 7, 3) := by decide +kernel
theorem dX3_counts_29 : decode cX3_counts 29 = .ok (.iconst 1, 1) := by decide +kernel
theorem dX3_counts_30 : decode cX3_counts 30 = .ok (.goto 4, 3) := by decide +kernel
theorem dX3_counts_33 : decode cX3_counts 33 = .ok (.iconst 0, 1) := by decide +kernel
theorem dX3_counts_34 : decode cX3_counts 34 = .ok (.ireturn, 1) := by decide +kernel
theorem dX3_loose_0 : decode cX3_loose 0 = .ok (.aload_n 0, 1) := by decide +kernel
theorem dX3_loose_1 : decode cX3_loose 1 = .ok (.iload_n 1, 1) := by decide +kernel
theorem dX3_loose_2 : decode cX3_loose 2 = .ok (.invokevirtual 155, 3) := by decide +kernel
theorem dX3_loose_5 : decode cX3_loose 5 = .ok (.ifCond .eq 12, 3) := by decide +kernel
theorem dX3_loose_8 : decode cX3_loose 8 = .ok (.aload_n 0, 1) := by decide +kernel
theorem dX3_loose_9 : decode cX3_loose 9 = .ok (.iload_n 1, 1) := by decide +kernel
theorem dX3_loose_10 : decode cX3_loose 10 = .ok (.iload_n 2, 1) := by decide +kernel
theorem dX3_loose_11 : decode cX3_loose 11 = .ok (.invokevirtual 161, 3) := by decide +kernel
theorem dX3_loose_14 : decode cX3_loose 14 = .ok (.ifCond .ne 5, 3) := by decide +kernel
theorem dX3_loose_17 : decode cX3_loose 17 = .ok (.iconst (-1), 1) := by decide +kernel
theorem dX3_loose_18 : decode cX3_loose 18 = .ok (.ireturn, 1) := by decide +kernel
theorem dX3_loose_19 : decode cX3_loose 19 = .ok (.aload_n 0, 1) := by decide +kernel
theorem dX3_loose_20 : decode cX3_loose 20 = .ok (.aload_n 0, 1) := by decide +kernel
theorem dX3_loose_21 : decode cX3_loose 21 = .ok (.getfield 28, 3) := by decide +kernel
theorem dX3_loose_24 : decode cX3_loose 24 = .ok (.iload_n 1, 1) := by decide +kernel
theorem dX3_loose_25 : decode cX3_loose 25 = .ok (.iaload, 1) := by decide +kernel
theorem dX3_loose_26 : decode cX3_loose 26 = .ok (.iconst 0, 1) := by decide +kernel
theorem dX3_loose_27 : decode cX3_loose 27 = .ok (.iload_n 2, 1) := by decide +kernel
theorem dX3_loose_28 : decode cX3_loose 28 = .ok (.invokevirtual 165, 3) := by decide +kernel
theorem dX3_loose_31 : decode cX3_loose 31 = .ok (.pop, 1) := by decide +kernel
theorem dX3_loose_32 : decode cX3_loose 32 = .ok (.aload_n 0, 1) := by decide +kernel
theorem dX3_loose_33 : decode cX3_loose 33 = .ok (.getfield 55, 3) := by decide +kernel
theorem dX3_loose_36 : decode cX3_loose 36 = .ok (.iload_n 1, 1) := by decide +kernel
theorem dX3_loose_37 : decode cX3_loose 37 = .ok (.baload, 1) := by decide +kernel
theorem dX3_loose_38 : decode cX3_loose 38 = .ok (.ifCond .eq 7, 3) := by decide +kernel
theorem dX3_loose_41 : decode cX3_loose 41 = .ok (.iconst 1, 1) := by decide +kernel
theorem dX3_loose_42 : decode cX3_loose 42 = .ok (.goto 4, 3) := by decide +kernel
theorem dX3_loose_45 : decode cX3_loose 45 = .ok (.iconst 0, 1) := by decide +kernel
theorem dX3_loose_46 : decode cX3_loose 46 = .ok (.ireturn, 1) := by decide +kernel
theorem dX3_law_0 : decode cX3_law 0 = .ok (.aload_n 0, 1) := by decide +kernel
theorem dX3_law_1 : decode cX3_law 1 = .ok (.iconst 0, 1) := by decide +kernel
theorem dX3_law_2 : decode cX3_law 2 = .ok (.putfield 172, 3) := by decide +kernel
theorem dX3_law_5 : decode cX3_law 5 = .ok (.aload_n 0, 1) := by decide +kernel
theorem dX3_law_6 : decode cX3_law 6 = .ok (.iconst (-1), 1) := by decide +kernel
theorem dX3_law_7 : decode cX3_law 7 = .ok (.putfield 66, 3) := by decide +kernel
theorem dX3_law_10 : decode cX3_law 10 = .ok (.aload_n 0, 1) := by decide +kernel
theorem dX3_law_11 : decode cX3_law 11 = .ok (.aload_n 0, 1) := by decide +kernel
theorem dX3_law_12 : decode cX3_law 12 = .ok (.getfield 233, 3) := by decide +kernel
theorem dX3_law_15 : decode cX3_law 15 = .ok (.putfield 169, 3) := by decide +kernel
theorem dX3_law_18 : decode cX3_law 18 = .ok (.iconst 0, 1) := by decide +kernel
theorem dX3_law_19 : decode cX3_law 19 = .ok (.istore_n 1, 1) := by decide +kernel
theorem dX3_law_20 : decode cX3_law 20 = .ok (.iload_n 1, 1) := by decide +kernel
theorem dX3_law_21 : decode cX3_law 21 = .ok (.aload_n 0, 1) := by decide +kernel
theorem dX3_law_22 : decode cX3_law 22 = .ok (.getfield 169, 3) := by decide +kernel
theorem dX3_law_25 : decode cX3_law 25 = .ok (.if_icmp .ge 21, 3) := by decide +kernel
theorem dX3_law_28 : decode cX3_law 28 = .ok (.aload_n 0, 1) := by decide +kernel
theorem dX3_law_29 : decode cX3_law 29 = .ok (.getfield 63, 3) := by decide +kernel
theorem dX3_law_32 : decode cX3_law 32 = .ok (.iload_n 1, 1) := by decide +kernel
theorem dX3_law_33 : decode cX3_law 33 = .ok (.aload_n 0, 1) := by decide +kernel
theorem dX3_law_34 : decode cX3_law 34 = .ok (.getfield 59, 3) := by decide +kernel
theorem dX3_law_37 : decode cX3_law 37 = .ok (.iload_n 1, 1) := by decide +kernel
theorem dX3_law_38 : decode cX3_law 38 = .ok (.baload, 1) := by decide +kernel
theorem dX3_law_39 : decode cX3_law 39 = .ok (.bastore, 1) := by decide +kernel
theorem dX3_law_40 : decode cX3_law 40 = .ok (.iinc 1 1, 3) := by decide +kernel
theorem dX3_law_43 : decode cX3_law 43 = .ok (.goto (-23), 3) := by decide +kernel
theorem dX3_law_46 : decode cX3_law 46 = .ok (.aload_n 0, 1) := by decide +kernel
theorem dX3_law_47 : decode cX3_law 47 = .ok (.iconst 0, 1) := by decide +kernel
theorem dX3_law_48 : decode cX3_law 48 = .ok (.putfield 233, 3) := by decide +kernel
theorem dX3_law_51 : decode cX3_law 51 = .ok (.aload_n 0, 1) := by decide +kernel
theorem dX3_law_52 : decode cX3_law 52 = .ok (.iconst 0, 1) := by decide +kernel
theorem dX3_law_53 : decode cX3_law 53 = .ok (.putfield 175, 3) := by decide +kernel
theorem dX3_law_56 : decode cX3_law 56 = .ok (.aload_n 0, 1) := by decide +kernel
theorem dX3_law_57 : decode cX3_law 57 = .ok (.iconst 1, 1) := by decide +kernel
theorem dX3_law_58 : decode cX3_law 58 = .ok (.aload_n 0, 1) := by decide +kernel
theorem dX3_law_59 : decode cX3_law 59 = .ok (.getfield 236, 3) := by decide +kernel
theorem dX3_law_62 : decode cX3_law 62 = .ok (.isub, 1) := by decide +kernel
theorem dX3_law_63 : decode cX3_law 63 = .ok (.putfield 239, 3) := by decide +kernel
theorem dX3_law_66 : decode cX3_law 66 = .ok (.aload_n 0, 1) := by decide +kernel
theorem dX3_law_67 : decode cX3_law 67 = .ok (.getfield 70, 3) := by decide +kernel
theorem dX3_law_70 : decode cX3_law 70 = .ok (.aload_n 0, 1) := by decide +kernel
theorem dX3_law_71 : decode cX3_law 71 = .ok (.getfield 239, 3) := by decide +kernel
theorem dX3_law_74 : decode cX3_law 74 = .ok (.iconst 0, 1) := by decide +kernel
theorem dX3_law_75 : decode cX3_law 75 = .ok (.iastore, 1) := by decide +kernel
theorem dX3_law_76 : decode cX3_law 76 = .ok (.aload_n 0, 1) := by decide +kernel
theorem dX3_law_77 : decode cX3_law 77 = .ok (.iconst 0, 1) := by decide +kernel
theorem dX3_law_78 : decode cX3_law 78 = .ok (.putfield 242, 3) := by decide +kernel
theorem dX3_law_81 : decode cX3_law 81 = .ok (.aload_n 0, 1) := by decide +kernel
theorem dX3_law_82 : decode cX3_law 82 = .ok (.iconst 0, 1) := by decide +kernel
theorem dX3_law_83 : decode cX3_law 83 = .ok (.putfield 245, 3) := by decide +kernel
theorem dX3_law_86 : decode cX3_law 86 = .ok (.aload_n 0, 1) := by decide +kernel
theorem dX3_law_87 : decode cX3_law 87 = .ok (.invokevirtual 209, 3) := by decide +kernel
theorem dX3_law_90 : decode cX3_law 90 = .ok (.aload_n 0, 1) := by decide +kernel
theorem dX3_law_91 : decode cX3_law 91 = .ok (.invokevirtual 205, 3) := by decide +kernel
theorem dX3_law_94 : decode cX3_law 94 = .ok (.ifCond .eq 17, 3) := by decide +kernel
theorem dX3_law_97 : decode cX3_law 97 = .ok (.aload_n 0, 1) := by decide +kernel
theorem dX3_law_98 : decode cX3_law 98 = .ok (.getfield 185, 3) := by decide +kernel
theorem dX3_law_101 : decode cX3_law 101 = .ok (.ifCond .eq 10, 3) := by decide +kernel
theorem dX3_law_104 : decode cX3_law 104 = .ok (.aload_n 0, 1) := by decide +kernel
theorem dX3_law_105 : decode cX3_law 105 = .ok (.invokevirtual 248, 3) := by decide +kernel
theorem dX3_law_108 : decode cX3_law 108 = .ok (.goto (-18), 3) := by decide +kernel
theorem dX3_law_111 : decode cX3_law 111 = .ok (.aload_n 0, 1) := by decide +kernel
theorem dX3_law_112 : decode cX3_law 112 = .ok (.invokevirtual 205, 3) := by decide +kernel
theorem dX3_law_115 : decode cX3_law 115 = .ok (.ifCond .ne 5, 3) := by decide +kernel
theorem dX3_law_118 : decode cX3_law 118 = .ok (.iconst (-1), 1) := by decide +kernel
theorem dX3_law_119 : decode cX3_law 119 = .ok (.ireturn, 1) := by decide +kernel
theorem dX3_law_120 : decode cX3_law 120 = .ok (.aload_n 0, 1) := by decide +kernel
theorem dX3_law_121 : decode cX3_law 121 = .ok (.aload_n 0, 1) := by decide +kernel
theorem dX3_law_122 : decode cX3_law 122 = .ok (.getfield 239, 3) := by decide +kernel
theorem dX3_law_125 : decode cX3_law 125 = .ok (.putfield 236, 3) := by decide +kernel
theorem dX3_law_128 : decode cX3_law 128 = .ok (.aload_n 0, 1) := by decide +kernel
theorem dX3_law_129 : decode cX3_law 129 = .ok (.getfield 70, 3) := by decide +kernel
theorem dX3_law_132 : decode cX3_law 132 = .ok (.aload_n 0, 1) := by decide +kernel
theorem dX3_law_133 : decode cX3_law 133 = .ok (.getfield 236, 3) := by decide +kernel
theorem dX3_law_136 : decode cX3_law 136 = .ok (.iaload, 1) := by decide +kernel
theorem dX3_law_137 : decode cX3_law 137 = .ok (.ireturn, 1) := by decide +kernel
theorem dX3_next_0 : decode cX3_next 0 = .ok (.aload_n 0, 1) := by decide +kernel
theorem dX3_next_1 : decode cX3_next 1 = .ok (.aload_n 0, 1) := by decide +kernel
theorem dX3_next_2 : decode cX3_next 2 = .ok (.getfield 175, 3) := by decide +kernel
theorem dX3_next_5 : decode cX3_next 5 = .ok (.putfield 178, 3) := by decide +kernel
theorem dX3_next_8 : decode cX3_next 8 = .ok (.aload_n 0, 1) := by decide +kernel
theorem dX3_next_9 : decode cX3_next 9 = .ok (.getfield 178, 3) := by decide +kernel
theorem dX3_next_12 : decode cX3_next 12 = .ok (.aload_n 0, 1) := by decide +kernel
theorem dX3_next_13 : decode cX3_next 13 = .ok (.getfield 169, 3) := by decide +kernel
theorem dX3_next_16 : decode cX3_next 16 = .ok (.if_icmp .ge 42, 3) := by decide +kernel
theorem dX3_next_19 : decode cX3_next 19 = .ok (.aload_n 0, 1) := by decide +kernel
theorem dX3_next_20 : decode cX3_next 20 = .ok (.aload_n 0, 1) := by decide +kernel
theorem dX3_next_21 : decode cX3_next 21 = .ok (.getfield 178, 3) := by decide +kernel
theorem dX3_next_24 : decode cX3_next 24 = .ok (.invokevirtual 181, 3) := by decide +kernel
theorem dX3_next_27 : decode cX3_next 27 = .ok (.bipush 32, 2) := by decide +kernel
theorem dX3_next_29 : decode cX3_next 29 = .ok (.if_icmp .eq 16, 3) := by decide +kernel
theorem dX3_next_32 : decode cX3_next 32 = .ok (.aload_n 0, 1) := by decide +kernel
theorem dX3_next_33 : decode cX3_next 33 = .ok (.aload_n 0, 1) := by decide +kernel
theorem dX3_next_34 : decode cX3_next 34 = .ok (.getfield 178, 3) := by decide +kernel
theorem dX3_next_37 : decode cX3_next 37 = .ok (.invokevirtual 181, 3) := by decide +kernel
theorem dX3_next_40 : decode cX3_next 40 = .ok (.bipush 10, 2) := by decide +kernel
theorem dX3_next_42 : decode cX3_next 42 = .ok (.if_icmp .ne 16, 3) := by decide +kernel
theorem dX3_next_45 : decode cX3_next 45 = .ok (.aload_n 0, 1) := by decide +kernel
theorem dX3_next_46 : decode cX3_next 46 = .ok (.dup, 1) := by decide +kernel
theorem dX3_next_47 : decode cX3_next 47 = .ok (.getfield 178, 3) := by decide +kernel
theorem dX3_next_50 : decode cX3_next 50 = .ok (.iconst 1, 1) := by decide +kernel
theorem dX3_next_51 : decode cX3_next 51 = .ok (.iadd, 1) := by decide +kernel
theorem dX3_next_52 : decode cX3_next 52 = .ok (.putfield 178, 3) := by decide +kernel
theorem dX3_next_55 : decode cX3_next 55 = .ok (.goto (-47), 3) := by decide +kernel
theorem dX3_next_58 : decode cX3_next 58 = .ok (.aload_n 0, 1) := by decide +kernel
theorem dX3_next_59 : decode cX3_next 59 = .ok (.aload_n 0, 1) := by decide +kernel
theorem dX3_next_60 : decode cX3_next 60 = .ok (.getfield 178, 3) := by decide +kernel
theorem dX3_next_63 : decode cX3_next 63 = .ok (.invokevirtual 181, 3) := by decide +kernel
theorem dX3_next_66 : decode cX3_next 66 = .ok (.istore_n 1, 1) := by decide +kernel
theorem dX3_next_67 : decode cX3_next 67 = .ok (.aload_n 0, 1) := by decide +kernel
theorem dX3_next_68 : decode cX3_next 68 = .ok (.aload_n 0, 1) := by decide +kernel
theorem dX3_next_69 : decode cX3_next 69 = .ok (.getfield 178, 3) := by decide +kernel
theorem dX3_next_72 : decode cX3_next 72 = .ok (.iconst 1, 1) := by decide +kernel
theorem dX3_next_73 : decode cX3_next 73 = .ok (.iadd, 1) := by decide +kernel
theorem dX3_next_74 : decode cX3_next 74 = .ok (.putfield 175, 3) := by decide +kernel
theorem dX3_next_77 : decode cX3_next 77 = .ok (.aload_n 0, 1) := by decide +kernel
theorem dX3_next_78 : decode cX3_next 78 = .ok (.getfield 178, 3) := by decide +kernel
theorem dX3_next_81 : decode cX3_next 81 = .ok (.aload_n 0, 1) := by decide +kernel
theorem dX3_next_82 : decode cX3_next 82 = .ok (.getfield 169, 3) := by decide +kernel
theorem dX3_next_85 : decode cX3_next 85 = .ok (.if_icmp .lt 27, 3) := by decide +kernel
theorem dX3_next_88 : decode cX3_next 88 = .ok (.aload_n 0, 1) := by decide +kernel
theorem dX3_next_89 : decode cX3_next 89 = .ok (.iconst 0, 1) := by decide +kernel
theorem dX3_next_90 : decode cX3_next 90 = .ok (.putfield 185, 3) := by decide +kernel
theorem dX3_next_93 : decode cX3_next 93 = .ok (.aload_n 0, 1) := by decide +kernel
theorem dX3_next_94 : decode cX3_next 94 = .ok (.aload_n 0, 1) := by decide +kernel
theorem dX3_next_95 : decode cX3_next 95 = .ok (.getfield 169, 3) := by decide +kernel
theorem dX3_next_98 : decode cX3_next 98 = .ok (.putfield 178, 3) := by decide +kernel
theorem dX3_next_101 : decode cX3_next 101 = .ok (.aload_n 0, 1) := by decide +kernel
theorem dX3_next_102 : decode cX3_next 102 = .ok (.aload_n 0, 1) := by decide +kernel
theorem dX3_next_103 : decode cX3_next 103 = .ok (.getfield 169, 3) := by decide +kernel
theorem dX3_next_106 : decode cX3_next 106 = .ok (.putfield 175, 3) := by decide +kernel
theorem dX3_next_109 : decode cX3_next 109 = .ok (.goto 297, 3) := by decide +kernel
theorem dX3_next_112 : decode cX3_next 112 = .ok (.iload_n 1, 1) := by decide +kernel
theorem dX3_next_113 : decode cX3_next 113 = .ok (.invokestatic 188, 3) := by decide +kernel
theorem dX3_next_116 : decode cX3_next 116 = .ok (.ifCond .eq 109, 3) := by decide +kernel
theorem dX3_next_119 : decode cX3_next 119 = .ok (.aload_n 0, 1) := by decide +kernel
theorem dX3_next_120 : decode cX3_next 120 = .ok (.aload_n 0, 1) := by decide +kernel
theorem dX3_next_121 : decode cX3_next 121 = .ok (.getfield 175, 3) := by decide +kernel
theorem dX3_next_124 : decode cX3_next 124 = .ok (.invokevirtual 181, 3) := by decide +kernel
theorem dX3_next_127 : decode cX3_next 127 = .ok (.invokestatic 188, 3) := by decide +kernel
theorem dX3_next_130 : decode cX3_next 130 = .ok (.ifCond .eq 16, 3) := by decide +kernel
theorem dX3_next_133 : decode cX3_next 133 = .ok (.aload_n 0, 1) := by decide +kernel
theorem dX3_next_134 : decode cX3_next 134 = .ok (.dup, 1) := by decide +kernel
theorem dX3_next_135 : decode cX3_next 135 = .ok (.getfield 175, 3) := by decide +kernel
theorem dX3_next_138 : decode cX3_next 138 = .ok (.iconst 1, 1) := by decide +kernel
theorem dX3_next_139 : decode cX3_next 139 = .ok (.iadd, 1) := by decide +kernel
theorem dX3_next_140 : decode cX3_next 140 = .ok (.putfield 175, 3) := by decide +kernel
theorem dX3_next_143 : decode cX3_next 143 = .ok (.goto (-24), 3) := by decide +kernel
theorem dX3_next_146 : decode cX3_next 146 = .ok (.aload_n 0, 1) := by decide +kernel
theorem dX3_next_147 : decode cX3_next 147 = .ok (.lconst 0, 1) := by decide +kernel
theorem dX3_next_148 : decode cX3_next 148 = .ok (.putfield 191, 3) := by decide +kernel
theorem dX3_next_151 : decode cX3_next 151 = .ok (.aload_n 0, 1) := by decide +kernel
theorem dX3_next_152 : decode cX3_next 152 = .ok (.getfield 178, 3) := by decide +kernel
theorem dX3_next_155 : decode cX3_next 155 = .ok (.istore_n 2, 1) := by decide +kernel
theorem dX3_next_156 : decode cX3_next 156 = .ok (.iload_n 2, 1) := by decide +kernel
theorem dX3_next_157 : decode cX3_next 157 = .ok (.aload_n 0, 1) := by decide +kernel
theorem dX3_next_158 : decode cX3_next 158 = .ok (.getfield 175, 3) := by decide +kernel
theorem dX3_next_161 : decode cX3_next 161 = .ok (.if_icmp .ge 38, 3) := by decide +kernel
theorem dX3_next_164 : decode cX3_next 164 = .ok (.iload_n 2, 1) := by decide +kernel
theorem dX3_next_165 : decode cX3_next 165 = .ok (.aload_n 0, 1) := by decide +kernel
theorem dX3_next_166 : decode cX3_next 166 = .ok (.getfield 178, 3) := by decide +kernel
theorem dX3_next_169 : decode cX3_next 169 = .ok (.bipush 8, 2) := by decide +kernel
theorem dX3_next_171 : decode cX3_next 171 = .ok (.iadd, 1) := by decide +kernel
theorem dX3_next_172 : decode cX3_next 172 = .ok (.if_icmp .ge 27, 3) := by decide +kernel
theorem dX3_next_175 : decode cX3_next 175 = .ok (.aload_n 0, 1) := by decide +kernel
theorem dX3_next_176 : decode cX3_next 176 = .ok (.aload_n 0, 1) := by decide +kernel
theorem dX3_next_177 : decode cX3_next 177 = .ok (.getfield 191, 3) := by decide +kernel
theorem dX3_next_180 : decode cX3_next 180 = .ok (.bipush 8, 2) := by decide +kernel
theorem dX3_next_182 : decode cX3_next 182 = .ok (.lshl, 1) := by decide +kernel
theorem dX3_next_183 : decode cX3_next 183 = .ok (.aload_n 0, 1) := by decide +kernel
theorem dX3_next_184 : decode cX3_next 184 = .ok (.iload_n 2, 1) := by decide +kernel
theorem dX3_next_185 : decode cX3_next 185 = .ok (.invokevirtual 181, 3) := by decide +kernel
theorem dX3_next_188 : decode cX3_next 188 = .ok (.i2l, 1) := by decide +kernel
theorem dX3_next_189 : decode cX3_next 189 = .ok (.lor, 1) := by decide +kernel
theorem dX3_next_190 : decode cX3_next 190 = .ok (.putfield 191, 3) := by decide +kernel
theorem dX3_next_193 : decode cX3_next 193 = .ok (.iinc 2 1, 3) := by decide +kernel
theorem dX3_next_196 : decode cX3_next 196 = .ok (.goto (-40), 3) := by decide +kernel
theorem dX3_next_199 : decode cX3_next 199 = .ok (.aload_n 0, 1) := by decide +kernel
theorem dX3_next_200 : decode cX3_next 200 = .ok (.aload_n 0, 1) := by decide +kernel
theorem dX3_next_201 : decode cX3_next 201 = .ok (.getfield 175, 3) := by decide +kernel
theorem dX3_next_204 : decode cX3_next 204 = .ok (.aload_n 0, 1) := by decide +kernel
theorem dX3_next_205 : decode cX3_next 205 = .ok (.getfield 178, 3) := by decide +kernel
theorem dX3_next_208 : decode cX3_next 208 = .ok (.isub, 1) := by decide +kernel
theorem dX3_next_209 : decode cX3_next 209 = .ok (.bipush 8, 2) := by decide +kernel
theorem dX3_next_211 : decode cX3_next 211 = .ok (.if_icmp .le 7, 3) := by decide +kernel
theorem dX3_next_214 : decode cX3_next 214 = .ok (.iconst 1, 1) := by decide +kernel
theorem dX3_next_215 : decode cX3_next 215 = .ok (.goto 4, 3) := by decide +kernel
theorem dX3_next_218 : decode cX3_next 218 = .ok (.iconst 2, 1) := by decide +kernel
theorem dX3_next_219 : decode cX3_next 219 = .ok (.putfield 185, 3) := by decide +kernel
theorem dX3_next_222 : decode cX3_next 222 = .ok (.goto 184, 3) := by decide +kernel
theorem dX3_next_225 : decode cX3_next 225 = .ok (.iload_n 1, 1) := by decide +kernel
theorem dX3_next_226 : decode cX3_next 226 = .ok (.invokestatic 195, 3) := by decide +kernel
theorem dX3_next_229 : decode cX3_next 229 = .ok (.ifCond .eq 120, 3) := by decide +kernel
theorem dX3_next_232 : decode cX3_next 232 = .ok (.aload_n 0, 1) := by decide +kernel
theorem dX3_next_233 : decode cX3_next 233 = .ok (.iconst 0, 1) := by decide +kernel
theorem dX3_next_234 : decode cX3_next 234 = .ok (.putfield 198, 3) := by decide +kernel
theorem dX3_next_237 : decode cX3_next 237 = .ok (.aload_n 0, 1) := by decide +kernel
theorem dX3_next_238 : decode cX3_next 238 = .ok (.aload_n 0, 1) := by decide +kernel
theorem dX3_next_239 : decode cX3_next 239 = .ok (.getfield 178, 3) := by decide +kernel
theorem dX3_next_242 : decode cX3_next 242 = .ok (.putfield 175, 3) := by decide +kernel
theorem dX3_next_245 : decode cX3_next 245 = .ok (.aload_n 0, 1) := by decide +kernel
theorem dX3_next_246 : decode cX3_next 246 = .ok (.aload_n 0, 1) := by decide +kernel
theorem dX3_next_247 : decode cX3_next 247 = .ok (.getfield 175, 3) := by decide +kernel
theorem dX3_next_250 : decode cX3_next 250 = .ok (.invokevirtual 181, 3) := by decide +kernel
theorem dX3_next_253 : decode cX3_next 253 = .ok (.invokestatic 195, 3) := by decide +kernel
theorem dX3_next_256 : decode cX3_next 256 = .ok (.ifCond .eq 53, 3) := by decide +kernel
theorem dX3_next_259 : decode cX3_next 259 = .ok (.aload_n 0, 1) := by decide +kernel
theorem dX3_next_260 : decode cX3_next 260 = .ok (.getfield 175, 3) := by decide +kernel
theorem dX3_next_263 : decode cX3_next 263 = .ok (.aload_n 0, 1) := by decide +kernel
theorem dX3_next_264 : decode cX3_next 264 = .ok (.getfield 178, 3) := by decide +kernel
theorem dX3_next_267 : decode cX3_next 267 = .ok (.isub, 1) := by decide +kernel
theorem dX3_next_268 : decode cX3_next 268 = .ok (.bipush 7, 2) := by decide +kernel
theorem dX3_next_270 : decode cX3_next 270 = .ok (.if_icmp .ge 26, 3) := by decide +kernel
theorem dX3_next_273 : decode cX3_next 273 = .ok (.aload_n 0, 1) := by decide +kernel
theorem dX3_next_274 : decode cX3_next 274 = .ok (.bipush 10, 2) := by decide +kernel
theorem dX3_next_276 : decode cX3_next 276 = .ok (.aload_n 0, 1) := by decide +kernel
theorem dX3_next_277 : decode cX3_next 277 = .ok (.getfield 198, 3) := by decide +kernel
theorem dX3_next_280 : decode cX3_next 280 = .ok (.imul, 1) := by decide +kernel
theorem dX3_next_281 : decode cX3_next 281 = .ok (.aload_n 0, 1) := by decide +kernel
theorem dX3_next_282 : decode cX3_next 282 = .ok (.aload_n 0, 1) := by decide +kernel
theorem dX3_next_283 : decode cX3_next 283 = .ok (.getfield 175, 3) := by decide +kernel
theorem dX3_next_286 : decode cX3_next 286 = .ok (.invokevirtual 181, 3) := by decide +kernel
theorem dX3_next_289 : decode cX3_next 289 = .ok (.iadd, 1) := by decide +kernel
theorem dX3_next_290 : decode cX3_next 290 = .ok (.bipush 48, 2) := by decide +kernel
theorem dX3_next_292 : decode cX3_next 292 = .ok (.isub, 1) := by decide +kernel
theorem dX3_next_293 : decode cX3_next 293 = .ok (.putfield 198, 3) := by decide +kernel
theorem dX3_next_296 : decode cX3_next 296 = .ok (.aload_n 0, 1) := by decide +kernel
theorem dX3_next_297 : decode cX3_next 297 = .ok (.dup, 1) := by decide +kernel
theorem dX3_next_298 : decode cX3_next 298 = .ok (.getfield 175, 3) := by decide +kernel
theorem dX3_next_301 : decode cX3_next 301 = .ok (.iconst 1, 1) := by decide +kernel
theorem dX3_next_302 : decode cX3_next 302 = .ok (.iadd, 1) := by decide +kernel
theorem dX3_next_303 : decode cX3_next 303 = .ok (.putfield 175, 3) := by decide +kernel
theorem dX3_next_306 : decode cX3_next 306 = .ok (.goto (-61), 3) := by decide +kernel
theorem dX3_next_309 : decode cX3_next 309 = .ok (.aload_n 0, 1) := by decide +kernel
theorem dX3_next_310 : decode cX3_next 310 = .ok (.aload_n 0, 1) := by decide +kernel
theorem dX3_next_311 : decode cX3_next 311 = .ok (.getfield 175, 3) := by decide +kernel
theorem dX3_next_314 : decode cX3_next 314 = .ok (.aload_n 0, 1) := by decide +kernel
theorem dX3_next_315 : decode cX3_next 315 = .ok (.getfield 178, 3) := by decide +kernel
theorem dX3_next_318 : decode cX3_next 318 = .ok (.isub, 1) := by decide +kernel
theorem dX3_next_319 : decode cX3_next 319 = .ok (.bipush 7, 2) := by decide +kernel
theorem dX3_next_321 : decode cX3_next 321 = .ok (.if_icmp .gt 17, 3) := by decide +kernel
theorem dX3_next_324 : decode cX3_next 324 = .ok (.aload_n 0, 1) := by decide +kernel
theorem dX3_next_325 : decode cX3_next 325 = .ok (.aload_n 0, 1) := by decide +kernel
theorem dX3_next_326 : decode cX3_next 326 = .ok (.getfield 175, 3) := by decide +kernel
theorem dX3_next_329 : decode cX3_next 329 = .ok (.invokevirtual 181, 3) := by decide +kernel
theorem dX3_next_332 : decode cX3_next 332 = .ok (.invokestatic 188, 3) := by decide +kernel
theorem dX3_next_335 : decode cX3_next 335 = .ok (.ifCond .eq 7, 3) := by decide +kernel
theorem dX3_next_338 : decode cX3_next 338 = .ok (.iconst 1, 1) := by decide +kernel
theorem dX3_next_339 : decode cX3_next 339 = .ok (.goto 4, 3) := by decide +kernel
theorem dX3_next_342 : decode cX3_next 342 = .ok (.iconst 3, 1) := by decide +kernel
theorem dX3_next_343 : decode cX3_next 343 = .ok (.putfield 185, 3) := by decide +kernel
theorem dX3_next_346 : decode cX3_next 346 = .ok (.goto 60, 3) := by decide +kernel
theorem dX3_next_349 : decode cX3_next 349 = .ok (.aload_n 0, 1) := by decide +kernel
theorem dX3_next_350 : decode cX3_next 350 = .ok (.iload_n 1, 1) := by decide +kernel
theorem dX3_next_351 : decode cX3_next 351 = .ok (.bipush 59, 2) := by decide +kernel
theorem dX3_next_353 : decode cX3_next 353 = .ok (.if_icmp .eq 45, 3) := by decide +kernel
theorem dX3_next_356 : decode cX3_next 356 = .ok (.iload_n 1, 1) := by decide +kernel
theorem dX3_next_357 : decode cX3_next 357 = .ok (.bipush 40, 2) := by decide +kernel
theorem dX3_next_359 : decode cX3_next 359 = .ok (.if_icmp .eq 39, 3) := by decide +kernel
theorem dX3_next_362 : decode cX3_next 362 = .ok (.iload_n 1, 1) := by decide +kernel
theorem dX3_next_363 : decode cX3_next 363 = .ok (.bipush 41, 2) := by decide +kernel
theorem dX3_next_365 : decode cX3_next 365 = .ok (.if_icmp .eq 33, 3) := by decide +kernel
theorem dX3_next_368 : decode cX3_next 368 = .ok (.iload_n 1, 1) := by decide +kernel
theorem dX3_next_369 : decode cX3_next 369 = .ok (.bipush 60, 2) := by decide +kernel
theorem dX3_next_371 : decode cX3_next 371 = .ok (.if_icmp .eq 27, 3) := by decide +kernel
theorem dX3_next_374 : decode cX3_next 374 = .ok (.iload_n 1, 1) := by decide +kernel
theorem dX3_next_375 : decode cX3_next 375 = .ok (.bipush 62, 2) := by decide +kernel
theorem dX3_next_377 : decode cX3_next 377 = .ok (.if_icmp .eq 21, 3) := by decide +kernel
theorem dX3_next_380 : decode cX3_next 380 = .ok (.iload_n 1, 1) := by decide +kernel
theorem dX3_next_381 : decode cX3_next 381 = .ok (.bipush 61, 2) := by decide +kernel
theorem dX3_next_383 : decode cX3_next 383 = .ok (.if_icmp .eq 15, 3) := by decide +kernel
theorem dX3_next_386 : decode cX3_next 386 = .ok (.iload_n 1, 1) := by decide +kernel
theorem dX3_next_387 : decode cX3_next 387 = .ok (.bipush 43, 2) := by decide +kernel
theorem dX3_next_389 : decode cX3_next 389 = .ok (.if_icmp .eq 9, 3) := by decide +kernel
theorem dX3_next_392 : decode cX3_next 392 = .ok (.iload_n 1, 1) := by decide +kernel
theorem dX3_next_393 : decode cX3_next 393 = .ok (.bipush 45, 2) := by decide +kernel
theorem dX3_next_395 : decode cX3_next 395 = .ok (.if_icmp .ne 7, 3) := by decide +kernel
theorem dX3_next_398 : decode cX3_next 398 = .ok (.iconst 4, 1) := by decide +kernel
theorem dX3_next_399 : decode cX3_next 399 = .ok (.goto 4, 3) := by decide +kernel
theorem dX3_next_402 : decode cX3_next 402 = .ok (.iconst 1, 1) := by decide +kernel
theorem dX3_next_403 : decode cX3_next 403 = .ok (.putfield 185, 3) := by decide +kernel
theorem dX3_next_406 : decode cX3_next 406 = .ok (.return_, 1) := by decide +kernel
theorem dX3_sign_0 : decode cX3_sign 0 = .ok (.iload_n 1, 1) := by decide +kernel
theorem dX3_sign_1 : decode cX3_sign 1 = .ok (.aload_n 0, 1) := by decide +kernel
theorem dX3_sign_2 : decode cX3_sign 2 = .ok (.getfield 169, 3) := by decide +kernel
theorem dX3_sign_5 : decode cX3_sign 5 = .ok (.if_icmp .ge 16, 3) := by decide +kernel
theorem dX3_sign_8 : decode cX3_sign 8 = .ok (.aload_n 0, 1) := by decide +kernel
theorem dX3_sign_9 : decode cX3_sign 9 = .ok (.getfield 63, 3) := by decide +kernel
theorem dX3_sign_12 : decode cX3_sign 12 = .ok (.iload_n 1, 1) := by decide +kernel
theorem dX3_sign_13 : decode cX3_sign 13 = .ok (.baload, 1) := by decide +kernel
theorem dX3_sign_14 : decode cX3_sign 14 = .ok (.sipush 255, 3) := by decide +kernel
theorem dX3_sign_17 : decode cX3_sign 17 = .ok (.iand, 1) := by decide +kernel
theorem dX3_sign_18 : decode cX3_sign 18 = .ok (.goto 4, 3) := by decide +kernel
theorem dX3_sign_21 : decode cX3_sign 21 = .ok (.iconst 0, 1) := by decide +kernel
theorem dX3_sign_22 : decode cX3_sign 22 = .ok (.ireturn, 1) := by decide +kernel
theorem dX3_isLetter_0 : decode cX3_isLetter 0 = .ok (.iload_n 0, 1) := by decide +kernel
theorem dX3_isLetter_1 : decode cX3_isLetter 1 = .ok (.bipush 97, 2) := by decide +kernel
theorem dX3_isLetter_3 : decode cX3_isLetter 3 = .ok (.if_icmp .lt 13, 3) := by decide +kernel
theorem dX3_isLetter_6 : decode cX3_isLetter 6 = .ok (.iload_n 0, 1) := by decide +kernel
theorem dX3_isLetter_7 : decode cX3_isLetter 7 = .ok (.bipush 122, 2) := by decide +kernel
theorem dX3_isLetter_9 : decode cX3_isLetter 9 = .ok (.if_icmp .gt 7, 3) := by decide +kernel
theorem dX3_isLetter_12 : decode cX3_isLetter 12 = .ok (.iconst 1, 1) := by decide +kernel
theorem dX3_isLetter_13 : decode cX3_isLetter 13 = .ok (.goto 4, 3) := by decide +kernel
theorem dX3_isLetter_16 : decode cX3_isLetter 16 = .ok (.iconst 0, 1) := by decide +kernel
theorem dX3_isLetter_17 : decode cX3_isLetter 17 = .ok (.ireturn, 1) := by decide +kernel
theorem dX3_isDigit_0 : decode cX3_isDigit 0 = .ok (.iload_n 0, 1) := by decide +kernel
theorem dX3_isDigit_1 : decode cX3_isDigit 1 = .ok (.bipush 48, 2) := by decide +kernel
theorem dX3_isDigit_3 : decode cX3_isDigit 3 = .ok (.if_icmp .lt 13, 3) := by decide +kernel
theorem dX3_isDigit_6 : decode cX3_isDigit 6 = .ok (.iload_n 0, 1) := by decide +kernel
theorem dX3_isDigit_7 : decode cX3_isDigit 7 = .ok (.bipush 57, 2) := by decide +kernel
theorem dX3_isDigit_9 : decode cX3_isDigit 9 = .ok (.if_icmp .gt 7, 3) := by decide +kernel
theorem dX3_isDigit_12 : decode cX3_isDigit 12 = .ok (.iconst 1, 1) := by decide +kernel
theorem dX3_isDigit_13 : decode cX3_isDigit 13 = .ok (.goto 4, 3) := by decide +kernel
theorem dX3_isDigit_16 : decode cX3_isDigit 16 = .ok (.iconst 0, 1) := by decide +kernel
theorem dX3_isDigit_17 : decode cX3_isDigit 17 = .ok (.ireturn, 1) := by decide +kernel
theorem dX3_isGood_0 : decode cX3_isGood 0 = .ok (.aload_n 0, 1) := by decide +kernel
theorem dX3_isGood_1 : decode cX3_isGood 1 = .ok (.getfield 172, 3) := by decide +kernel
theorem dX3_isGood_4 : decode cX3_isGood 4 = .ok (.ifCond .ne 7, 3) := by decide +kernel
theorem dX3_isGood_7 : decode cX3_isGood 7 = .ok (.iconst 1, 1) := by decide +kernel
theorem dX3_isGood_8 : decode cX3_isGood 8 = .ok (.goto 4, 3) := by decide +kernel
theorem dX3_isGood_11 : decode cX3_isGood 11 = .ok (.iconst 0, 1) := by decide +kernel
theorem dX3_isGood_12 : decode cX3_isGood 12 = .ok (.ireturn, 1) := by decide +kernel
theorem dX3_readLine_0 : decode cX3_readLine 0 = .ok (.aload_n 0, 1) := by decide +kernel
theorem dX3_readLine_1 : decode cX3_readLine 1 = .ok (.ldc2_w 251, 3) := by decide +kernel
theorem dX3_readLine_4 : decode cX3_readLine 4 = .ok (.invokevirtual 253, 3) := by decide +kernel
theorem dX3_readLine_7 : decode cX3_readLine 7 = .ok (.ifCond .eq 17, 3) := by decide +kernel
theorem dX3_readLine_10 : decode cX3_readLine 10 = .ok (.aload_n 0, 1) := by decide +kernel
theorem dX3_readLine_11 : decode cX3_readLine 11 = .ok (.getfield 70, 3) := by decide +kernel
theorem dX3_readLine_14 : decode cX3_readLine 14 = .ok (.aload_n 0, 1) := by decide +kernel
theorem dX3_readLine_15 : decode cX3_readLine 15 = .ok (.getfield 239, 3) := by decide +kernel
theorem dX3_readLine_18 : decode cX3_readLine 18 = .ok (.iaload, 1) := by decide +kernel
theorem dX3_readLine_19 : decode cX3_readLine 19 = .ok (.bipush 16, 2) := by decide +kernel
theorem dX3_readLine_21 : decode cX3_readLine 21 = .ok (.if_icmp .ne 7, 3) := by decide +kernel
theorem dX3_readLine_24 : decode cX3_readLine 24 = .ok (.aload_n 0, 1) := by decide +kernel
theorem dX3_readLine_25 : decode cX3_readLine 25 = .ok (.invokevirtual 212, 3) := by decide +kernel
theorem dX3_readLine_28 : decode cX3_readLine 28 = .ok (.aload_n 0, 1) := by decide +kernel
theorem dX3_readLine_29 : decode cX3_readLine 29 = .ok (.invokevirtual 205, 3) := by decide +kernel
theorem dX3_readLine_32 : decode cX3_readLine 32 = .ok (.ifCond .ne 4, 3) := by decide +kernel
theorem dX3_readLine_35 : decode cX3_readLine 35 = .ok (.return_, 1) := by decide +kernel
theorem dX3_readLine_36 : decode cX3_readLine 36 = .ok (.bipush 16, 2) := by decide +kernel
theorem dX3_readLine_38 : decode cX3_readLine 38 = .ok (.aload_n 0, 1) := by decide +kernel
theorem dX3_readLine_39 : decode cX3_readLine 39 = .ok (.getfield 239, 3) := by decide +kernel
theorem dX3_readLine_42 : decode cX3_readLine 42 = .ok (.imul, 1) := by decide +kernel
theorem dX3_readLine_43 : decode cX3_readLine 43 = .ok (.aload_n 0, 1) := by decide +kernel
theorem dX3_readLine_44 : decode cX3_readLine 44 = .ok (.getfield 70, 3) := by decide +kernel
theorem dX3_readLine_47 : decode cX3_readLine 47 = .ok (.aload_n 0, 1) := by decide +kernel
theorem dX3_readLine_48 : decode cX3_readLine 48 = .ok (.getfield 239, 3) := by decide +kernel
theorem dX3_readLine_51 : decode cX3_readLine 51 = .ok (.iaload, 1) := by decide +kernel
theorem dX3_readLine_52 : decode cX3_readLine 52 = .ok (.iadd, 1) := by decide +kernel
theorem dX3_readLine_53 : decode cX3_readLine 53 = .ok (.istore_n 1, 1) := by decide +kernel
theorem dX3_readLine_54 : decode cX3_readLine 54 = .ok (.aload_n 0, 1) := by decide +kernel
theorem dX3_readLine_55 : decode cX3_readLine 55 = .ok (.invokevirtual 209, 3) := by decide +kernel
theorem dX3_readLine_58 : decode cX3_readLine 58 = .ok (.aload_n 0, 1) := by decide +kernel
theorem dX3_readLine_59 : decode cX3_readLine 59 = .ok (.getfield 79, 3) := by decide +kernel
theorem dX3_readLine_62 : decode cX3_readLine 62 = .ok (.iload_n 1, 1) := by decide +kernel
theorem dX3_readLine_63 : decode cX3_readLine 63 = .ok (.aload_n 0, 1) := by decide +kernel
theorem dX3_readLine_64 : decode cX3_readLine 64 = .ok (.getfield 242, 3) := by decide +kernel
theorem dX3_readLine_67 : decode cX3_readLine 67 = .ok (.iastore, 1) := by decide +kernel
theorem dX3_readLine_68 : decode cX3_readLine 68 = .ok (.aload_n 0, 1) := by decide +kernel
theorem dX3_readLine_69 : decode cX3_readLine 69 = .ok (.invokevirtual 257, 3) := by decide +kernel
theorem dX3_readLine_72 : decode cX3_readLine 72 = .ok (.aload_n 0, 1) := by decide +kernel
theorem dX3_readLine_73 : decode cX3_readLine 73 = .ok (.getfield 82, 3) := by decide +kernel
theorem dX3_readLine_76 : decode cX3_readLine 76 = .ok (.iload_n 1, 1) := by decide +kernel
theorem dX3_readLine_77 : decode cX3_readLine 77 = .ok (.aload_n 0, 1) := by decide +kernel
theorem dX3_readLine_78 : decode cX3_readLine 78 = .ok (.getfield 242, 3) := by decide +kernel
theorem dX3_readLine_81 : decode cX3_readLine 81 = .ok (.iastore, 1) := by decide +kernel
theorem dX3_readLine_82 : decode cX3_readLine 82 = .ok (.aload_n 0, 1) := by decide +kernel
theorem dX3_readLine_83 : decode cX3_readLine 83 = .ok (.aload_n 0, 1) := by decide +kernel
theorem dX3_readLine_84 : decode cX3_readLine 84 = .ok (.ldc2_w 260, 3) := by decide +kernel
theorem dX3_readLine_87 : decode cX3_readLine 87 = .ok (.invokevirtual 253, 3) := by decide +kernel
theorem dX3_readLine_90 : decode cX3_readLine 90 = .ok (.invokevirtual 262, 3) := by decide +kernel
theorem dX3_readLine_93 : decode cX3_readLine 93 = .ok (.aload_n 0, 1) := by decide +kernel
theorem dX3_readLine_94 : decode cX3_readLine 94 = .ok (.invokevirtual 205, 3) := by decide +kernel
theorem dX3_readLine_97 : decode cX3_readLine 97 = .ok (.ifCond .ne 4, 3) := by decide +kernel
theorem dX3_readLine_100 : decode cX3_readLine 100 = .ok (.return_, 1) := by decide +kernel
theorem dX3_readLine_101 : decode cX3_readLine 101 = .ok (.aload_n 0, 1) := by decide +kernel
theorem dX3_readLine_102 : decode cX3_readLine 102 = .ok (.getfield 73, 3) := by decide +kernel
theorem dX3_readLine_105 : decode cX3_readLine 105 = .ok (.iload_n 1, 1) := by decide +kernel
theorem dX3_readLine_106 : decode cX3_readLine 106 = .ok (.aload_n 0, 1) := by decide +kernel
theorem dX3_readLine_107 : decode cX3_readLine 107 = .ok (.ldc2_w 266, 3) := by decide +kernel
theorem dX3_readLine_110 : decode cX3_readLine 110 = .ok (.invokevirtual 253, 3) := by decide +kernel
theorem dX3_readLine_113 : decode cX3_readLine 113 = .ok (.ifCond .eq 7, 3) := by decide +kernel
theorem dX3_readLine_116 : decode cX3_readLine 116 = .ok (.iconst 1, 1) := by decide +kernel
theorem dX3_readLine_117 : decode cX3_readLine 117 = .ok (.goto 46, 3) := by decide +kernel
theorem dX3_readLine_120 : decode cX3_readLine 120 = .ok (.aload_n 0, 1) := by decide +kernel
theorem dX3_readLine_121 : decode cX3_readLine 121 = .ok (.ldc2_w 268, 3) := by decide +kernel
theorem dX3_readLine_124 : decode cX3_readLine 124 = .ok (.invokevirtual 253, 3) := by decide +kernel
theorem dX3_readLine_127 : decode cX3_readLine 127 = .ok (.ifCond .eq 7, 3) := by decide +kernel
theorem dX3_readLine_130 : decode cX3_readLine 130 = .ok (.iconst 2, 1) := by decide +kernel
theorem dX3_readLine_131 : decode cX3_readLine 131 = .ok (.goto 32, 3) := by decide +kernel
theorem dX3_readLine_134 : decode cX3_readLine 134 = .ok (.aload_n 0, 1) := by decide +kernel
theorem dX3_readLine_135 : decode cX3_readLine 135 = .ok (.ldc2_w 270, 3) := by decide +kernel
theorem dX3_readLine_138 : decode cX3_readLine 138 = .ok (.invokevirtual 253, 3) := by decide +kernel
theorem dX3_readLine_141 : decode cX3_readLine 141 = .ok (.ifCond .eq 7, 3) := by decide +kernel
theorem dX3_readLine_144 : decode cX3_readLine 144 = .ok (.iconst 3, 1) := by decide +kernel
theorem dX3_readLine_145 : decode cX3_readLine 145 = .ok (.goto 18, 3) := by decide +kernel
theorem dX3_readLine_148 : decode cX3_readLine 148 = .ok (.aload_n 0, 1) := by decide +kernel
theorem dX3_readLine_149 : decode cX3_readLine 149 = .ok (.ldc2_w 272, 3) := by decide +kernel
theorem dX3_readLine_152 : decode cX3_readLine 152 = .ok (.invokevirtual 253, 3) := by decide +kernel
theorem dX3_readLine_155 : decode cX3_readLine 155 = .ok (.ifCond .eq 7, 3) := by decide +kernel
theorem dX3_readLine_158 : decode cX3_readLine 158 = .ok (.iconst 4, 1) := by decide +kernel
theorem dX3_readLine_159 : decode cX3_readLine 159 = .ok (.goto 4, 3) := by decide +kernel
theorem dX3_readLine_162 : decode cX3_readLine 162 = .ok (.iconst 0, 1) := by decide +kernel
theorem dX3_readLine_163 : decode cX3_readLine 163 = .ok (.iastore, 1) := by decide +kernel
theorem dX3_readLine_164 : decode cX3_readLine 164 = .ok (.aload_n 0, 1) := by decide +kernel
theorem dX3_readLine_165 : decode cX3_readLine 165 = .ok (.getfield 76, 3) := by decide +kernel
theorem dX3_readLine_168 : decode cX3_readLine 168 = .ok (.iload_n 1, 1) := by decide +kernel
theorem dX3_readLine_169 : decode cX3_readLine 169 = .ok (.iconst 0, 1) := by decide +kernel
theorem dX3_readLine_170 : decode cX3_readLine 170 = .ok (.iastore, 1) := by decide +kernel
theorem dX3_readLine_171 : decode cX3_readLine 171 = .ok (.aload_n 0, 1) := by decide +kernel
theorem dX3_readLine_172 : decode cX3_readLine 172 = .ok (.aload_n 0, 1) := by decide +kernel
theorem dX3_readLine_173 : decode cX3_readLine 173 = .ok (.getfield 73, 3) := by decide +kernel
theorem dX3_readLine_176 : decode cX3_readLine 176 = .ok (.iload_n 1, 1) := by decide +kernel
theorem dX3_readLine_177 : decode cX3_readLine 177 = .ok (.iaload, 1) := by decide +kernel
theorem dX3_readLine_178 : decode cX3_readLine 178 = .ok (.ifCond .le 7, 3) := by decide +kernel
theorem dX3_readLine_181 : decode cX3_readLine 181 = .ok (.iconst 1, 1) := by decide +kernel
theorem dX3_readLine_182 : decode cX3_readLine 182 = .ok (.goto 4, 3) := by decide +kernel
theorem dX3_readLine_185 : decode cX3_readLine 185 = .ok (.iconst 0, 1) := by decide +kernel
theorem dX3_readLine_186 : decode cX3_readLine 186 = .ok (.invokevirtual 262, 3) := by decide +kernel
theorem dX3_readLine_189 : decode cX3_readLine 189 = .ok (.aload_n 0, 1) := by decide +kernel
theorem dX3_readLine_190 : decode cX3_readLine 190 = .ok (.invokevirtual 205, 3) := by decide +kernel
theorem dX3_readLine_193 : decode cX3_readLine 193 = .ok (.ifCond .eq 66, 3) := by decide +kernel
theorem dX3_readLine_196 : decode cX3_readLine 196 = .ok (.aload_n 0, 1) := by decide +kernel
theorem dX3_readLine_197 : decode cX3_readLine 197 = .ok (.getfield 73, 3) := by decide +kernel
theorem dX3_readLine_200 : decode cX3_readLine 200 = .ok (.iload_n 1, 1) := by decide +kernel
theorem dX3_readLine_201 : decode cX3_readLine 201 = .ok (.iaload, 1) := by decide +kernel
theorem dX3_readLine_202 : decode cX3_readLine 202 = .ok (.iconst 3, 1) := by decide +kernel
theorem dX3_readLine_203 : decode cX3_readLine 203 = .ok (.if_icmp .ne 56, 3) := by decide +kernel
theorem dX3_readLine_206 : decode cX3_readLine 206 = .ok (.aload_n 0, 1) := by decide +kernel
theorem dX3_readLine_207 : decode cX3_readLine 207 = .ok (.getfield 185, 3) := by decide +kernel
theorem dX3_readLine_210 : decode cX3_readLine 210 = .ok (.iconst 3, 1) := by decide +kernel
theorem dX3_readLine_211 : decode cX3_readLine 211 = .ok (.if_icmp .ne 21, 3) := by decide +kernel
theorem dX3_readLine_214 : decode cX3_readLine 214 = .ok (.aload_n 0, 1) := by decide +kernel
theorem dX3_readLine_215 : decode cX3_readLine 215 = .ok (.getfield 198, 3) := by decide +kernel
theorem dX3_readLine_218 : decode cX3_readLine 218 = .ok (.bipush 100, 2) := by decide +kernel
theorem dX3_readLine_220 : decode cX3_readLine 220 = .ok (.if_icmp .le 12, 3) := by decide +kernel
theorem dX3_readLine_223 : decode cX3_readLine 223 = .ok (.aload_n 0, 1) := by decide +kernel
theorem dX3_readLine_224 : decode cX3_readLine 224 = .ok (.iconst 3, 1) := by decide +kernel
theorem dX3_readLine_225 : decode cX3_readLine 225 = .ok (.aload_n 0, 1) := by decide +kernel
theorem dX3_readLine_226 : decode cX3_readLine 226 = .ok (.getfield 178, 3) := by decide +kernel
theorem dX3_readLine_229 : decode cX3_readLine 229 = .ok (.invokevirtual 201, 3) := by decide +kernel
theorem dX3_readLine_232 : decode cX3_readLine 232 = .ok (.aload_n 0, 1) := by decide +kernel
theorem dX3_readLine_233 : decode cX3_readLine 233 = .ok (.getfield 76, 3) := by decide +kernel
theorem dX3_readLine_236 : decode cX3_readLine 236 = .ok (.iload_n 1, 1) := by decide +kernel
theorem dX3_readLine_237 : decode cX3_readLine 237 = .ok (.aload_n 0, 1) := by decide +kernel
theorem dX3_readLine_238 : decode cX3_readLine 238 = .ok (.getfield 198, 3) := by decide +kernel
theorem dX3_readLine_241 : decode cX3_readLine 241 = .ok (.iastore, 1) := by decide +kernel
theorem dX3_readLine_242 : decode cX3_readLine 242 = .ok (.aload_n 0, 1) := by decide +kernel
theorem dX3_readLine_243 : decode cX3_readLine 243 = .ok (.aload_n 0, 1) := by decide +kernel
theorem dX3_readLine_244 : decode cX3_readLine 244 = .ok (.getfield 185, 3) := by decide +kernel
theorem dX3_readLine_247 : decode cX3_readLine 247 = .ok (.iconst 3, 1) := by decide +kernel
theorem dX3_readLine_248 : decode cX3_readLine 248 = .ok (.if_icmp .ne 7, 3) := by decide +kernel
theorem dX3_readLine_251 : decode cX3_readLine 251 = .ok (.iconst 1, 1) := by decide +kernel
theorem dX3_readLine_252 : decode cX3_readLine 252 = .ok (.goto 4, 3) := by decide +kernel
theorem dX3_readLine_255 : decode cX3_readLine 255 = .ok (.iconst 0, 1) := by decide +kernel
theorem dX3_readLine_256 : decode cX3_readLine 256 = .ok (.invokevirtual 262, 3) := by decide +kernel
theorem dX3_readLine_259 : decode cX3_readLine 259 = .ok (.aload_n 0, 1) := by decide +kernel
theorem dX3_readLine_260 : decode cX3_readLine 260 = .ok (.aload_n 0, 1) := by decide +kernel
theorem dX3_readLine_261 : decode cX3_readLine 261 = .ok (.bipush 59, 2) := by decide +kernel
theorem dX3_readLine_263 : decode cX3_readLine 263 = .ok (.invokevirtual 274, 3) := by decide +kernel
theorem dX3_readLine_266 : decode cX3_readLine 266 = .ok (.invokevirtual 262, 3) := by decide +kernel
theorem dX3_readLine_269 : decode cX3_readLine 269 = .ok (.aload_n 0, 1) := by decide +kernel
theorem dX3_readLine_270 : decode cX3_readLine 270 = .ok (.getfield 70, 3) := by decide +kernel
theorem dX3_readLine_273 : decode cX3_readLine 273 = .ok (.aload_n 0, 1) := by decide +kernel
theorem dX3_readLine_274 : decode cX3_readLine 274 = .ok (.getfield 239, 3) := by decide +kernel
theorem dX3_readLine_277 : decode cX3_readLine 277 = .ok (.dup2, 1) := by decide +kernel
theorem dX3_readLine_278 : decode cX3_readLine 278 = .ok (.iaload, 1) := by decide +kernel
theorem dX3_readLine_279 : decode cX3_readLine 279 = .ok (.iconst 1, 1) := by decide +kernel
theorem dX3_readLine_280 : decode cX3_readLine 280 = .ok (.iadd, 1) := by decide +kernel
theorem dX3_readLine_281 : decode cX3_readLine 281 = .ok (.iastore, 1) := by decide +kernel
theorem dX3_readLine_282 : decode cX3_readLine 282 = .ok (.return_, 1) := by decide +kernel
theorem dX3_isWord_0 : decode cX3_isWord 0 = .ok (.aload_n 0, 1) := by decide +kernel
theorem dX3_isWord_1 : decode cX3_isWord 1 = .ok (.getfield 185, 3) := by decide +kernel
theorem dX3_isWord_4 : decode cX3_isWord 4 = .ok (.iconst 2, 1) := by decide +kernel
theorem dX3_isWord_5 : decode cX3_isWord 5 = .ok (.if_icmp .ne 16, 3) := by decide +kernel
theorem dX3_isWord_8 : decode cX3_isWord 8 = .ok (.aload_n 0, 1) := by decide +kernel
theorem dX3_isWord_9 : decode cX3_isWord 9 = .ok (.getfield 191, 3) := by decide +kernel
theorem dX3_isWord_12 : decode cX3_isWord 12 = .ok (.lload_n 1, 1) := by decide +kernel
theorem dX3_isWord_13 : decode cX3_isWord 13 = .ok (.lcmp, 1) := by decide +kernel
theorem dX3_isWord_14 : decode cX3_isWord 14 = .ok (.ifCond .ne 7, 3) := by decide +kernel
theorem dX3_isWord_17 : decode cX3_isWord 17 = .ok (.iconst 1, 1) := by decide +kernel
theorem dX3_isWord_18 : decode cX3_isWord 18 = .ok (.goto 4, 3) := by decide +kernel
theorem dX3_isWord_21 : decode cX3_isWord 21 = .ok (.iconst 0, 1) := by decide +kernel
theorem dX3_isWord_22 : decode cX3_isWord 22 = .ok (.ireturn, 1) := by decide +kernel
theorem dX3_wrong_0 : decode cX3_wrong 0 = .ok (.aload_n 0, 1) := by decide +kernel
theorem dX3_wrong_1 : decode cX3_wrong 1 = .ok (.aload_n 0, 1) := by decide +kernel
theorem dX3_wrong_2 : decode cX3_wrong 2 = .ok (.getfield 185, 3) := by decide +kernel
theorem dX3_wrong_5 : decode cX3_wrong 5 = .ok (.iconst 1, 1) := by decide +kernel
theorem dX3_wrong_6 : decode cX3_wrong 6 = .ok (.if_icmp .ne 7, 3) := by decide +kernel
theorem dX3_wrong_9 : decode cX3_wrong 9 = .ok (.iconst 1, 1) := by decide +kernel
theorem dX3_wrong_10 : decode cX3_wrong 10 = .ok (.goto 4, 3) := by decide +kernel
theorem dX3_wrong_13 : decode cX3_wrong 13 = .ok (.iconst 2, 1) := by decide +kernel
theorem dX3_wrong_14 : decode cX3_wrong 14 = .ok (.aload_n 0, 1) := by decide +kernel
theorem dX3_wrong_15 : decode cX3_wrong 15 = .ok (.getfield 178, 3) := by decide +kernel
theorem dX3_wrong_18 : decode cX3_wrong 18 = .ok (.invokevirtual 201, 3) := by decide +kernel
theorem dX3_wrong_21 : decode cX3_wrong 21 = .ok (.return_, 1) := by decide +kernel
theorem dX3_fails_0 : decode cX3_fails 0 = .ok (.aload_n 0, 1) := by decide +kernel
theorem dX3_fails_1 : decode cX3_fails 1 = .ok (.getfield 172, 3) := by decide +kernel
theorem dX3_fails_4 : decode cX3_fails 4 = .ok (.ifCond .le 4, 3) := by decide +kernel
theorem dX3_fails_7 : decode cX3_fails 7 = .ok (.return_, 1) := by decide +kernel
theorem dX3_fails_8 : decode cX3_fails 8 = .ok (.aload_n 0, 1) := by decide +kernel
theorem dX3_fails_9 : decode cX3_fails 9 = .ok (.iload_n 1, 1) := by decide +kernel
theorem dX3_fails_10 : decode cX3_fails 10 = .ok (.putfield 172, 3) := by decide +kernel
theorem dX3_fails_13 : decode cX3_fails 13 = .ok (.aload_n 0, 1) := by decide +kernel
theorem dX3_fails_14 : decode cX3_fails 14 = .ok (.iload_n 2, 1) := by decide +kernel
theorem dX3_fails_15 : decode cX3_fails 15 = .ok (.putfield 66, 3) := by decide +kernel
theorem dX3_fails_18 : decode cX3_fails 18 = .ok (.return_, 1) := by decide +kernel
theorem dX3_e_0 : decode cX3_e 0 = .ok (.aload_n 0, 1) := by decide +kernel
theorem dX3_e_1 : decode cX3_e 1 = .ok (.iconst 0, 1) := by decide +kernel
theorem dX3_e_2 : decode cX3_e 2 = .ok (.putfield 277, 3) := by decide +kernel
theorem dX3_e_5 : decode cX3_e 5 = .ok (.aload_n 0, 1) := by decide +kernel
theorem dX3_e_6 : decode cX3_e 6 = .ok (.iconst 0, 1) := by decide +kernel
theorem dX3_e_7 : decode cX3_e 7 = .ok (.putfield 280, 3) := by decide +kernel
theorem dX3_e_10 : decode cX3_e 10 = .ok (.aload_n 0, 1) := by decide +kernel
theorem dX3_e_11 : decode cX3_e 11 = .ok (.iconst 5, 1) := by decide +kernel
theorem dX3_e_12 : decode cX3_e 12 = .ok (.invokevirtual 283, 3) := by decide +kernel
theorem dX3_e_15 : decode cX3_e 15 = .ok (.iconst 1, 1) := by decide +kernel
theorem dX3_e_16 : decode cX3_e 16 = .ok (.istore_n 1, 1) := by decide +kernel
theorem dX3_e_17 : decode cX3_e 17 = .ok (.aload_n 0, 1) := by decide +kernel
theorem dX3_e_18 : decode cX3_e 18 = .ok (.invokevirtual 205, 3) := by decide +kernel
theorem dX3_e_21 : decode cX3_e 21 = .ok (.ifCond .eq 29, 3) := by decide +kernel
theorem dX3_e_24 : decode cX3_e 24 = .ok (.aload_n 0, 1) := by decide +kernel
theorem dX3_e_25 : decode cX3_e 25 = .ok (.getfield 277, 3) := by decide +kernel
theorem dX3_e_28 : decode cX3_e 28 = .ok (.ifCond .le 22, 3) := by decide +kernel
theorem dX3_e_31 : decode cX3_e 31 = .ok (.iload_n 1, 1) := by decide +kernel
theorem dX3_e_32 : decode cX3_e 32 = .ok (.ifCond .eq 10, 3) := by decide +kernel
theorem dX3_e_35 : decode cX3_e 35 = .ok (.aload_n 0, 1) := by decide +kernel
theorem dX3_e_36 : decode cX3_e 36 = .ok (.invokevirtual 287, 3) := by decide +kernel
theorem dX3_e_39 : decode cX3_e 39 = .ok (.goto 7, 3) := by decide +kernel
theorem dX3_e_42 : decode cX3_e 42 = .ok (.aload_n 0, 1) := by decide +kernel
theorem dX3_e_43 : decode cX3_e 43 = .ok (.invokevirtual 290, 3) := by decide +kernel
theorem dX3_e_46 : decode cX3_e 46 = .ok (.istore_n 1, 1) := by decide +kernel
theorem dX3_e_47 : decode cX3_e 47 = .ok (.goto (-30), 3) := by decide +kernel
theorem dX3_e_50 : decode cX3_e 50 = .ok (.return_, 1) := by decide +kernel
theorem dX3_pile_0 : decode cX3_pile 0 = .ok (.aload_n 0, 1) := by decide +kernel
theorem dX3_pile_1 : decode cX3_pile 1 = .ok (.getfield 91, 3) := by decide +kernel
theorem dX3_pile_4 : decode cX3_pile 4 = .ok (.aload_n 0, 1) := by decide +kernel
theorem dX3_pile_5 : decode cX3_pile 5 = .ok (.getfield 277, 3) := by decide +kernel
theorem dX3_pile_8 : decode cX3_pile 8 = .ok (.iload_n 1, 1) := by decide +kernel
theorem dX3_pile_9 : decode cX3_pile 9 = .ok (.iastore, 1) := by decide +kernel
theorem dX3_pile_10 : decode cX3_pile 10 = .ok (.aload_n 0, 1) := by decide +kernel
theorem dX3_pile_11 : decode cX3_pile 11 = .ok (.dup, 1) := by decide +kernel
theorem dX3_pile_12 : decode cX3_pile 12 = .ok (.getfield 277, 3) := by decide +kernel
theorem dX3_pile_15 : decode cX3_pile 15 = .ok (.iconst 1, 1) := by decide +kernel
theorem dX3_pile_16 : decode cX3_pile 16 = .ok (.iadd, 1) := by decide +kernel
theorem dX3_pile_17 : decode cX3_pile 17 = .ok (.putfield 277, 3) := by decide +kernel
theorem dX3_pile_20 : decode cX3_pile 20 = .ok (.return_, 1) := by decide +kernel
theorem dX3_one_0 : decode cX3_one 0 = .ok (.aload_n 0, 1) := by decide +kernel
theorem dX3_one_1 : decode cX3_one 1 = .ok (.bipush 40, 2) := by decide +kernel
theorem dX3_one_3 : decode cX3_one 3 = .ok (.invokevirtual 274, 3) := by decide +kernel
theorem dX3_one_6 : decode cX3_one 6 = .ok (.ifCond .ne 13, 3) := by decide +kernel
theorem dX3_one_9 : decode cX3_one 9 = .ok (.aload_n 0, 1) := by decide +kernel
theorem dX3_one_10 : decode cX3_one 10 = .ok (.ldc2_w 293, 3) := by decide +kernel
theorem dX3_one_13 : decode cX3_one 13 = .ok (.invokevirtual 253, 3) := by decide +kernel
theorem dX3_one_16 : decode cX3_one 16 = .ok (.ifCond .eq 50, 3) := by decide +kernel
theorem dX3_one_19 : decode cX3_one 19 = .ok (.aload_n 0, 1) := by decide +kernel
theorem dX3_one_20 : decode cX3_one 20 = .ok (.aload_n 0, 1) := by decide +kernel
theorem dX3_one_21 : decode cX3_one 21 = .ok (.bipush 40, 2) := by decide +kernel
theorem dX3_one_23 : decode cX3_one 23 = .ok (.invokevirtual 274, 3) := by decide +kernel
theorem dX3_one_26 : decode cX3_one 26 = .ok (.ifCond .eq 7, 3) := by decide +kernel
theorem dX3_one_29 : decode cX3_one 29 = .ok (.iconst 4, 1) := by decide +kernel
theorem dX3_one_30 : decode cX3_one 30 = .ok (.goto 4, 3) := by decide +kernel
theorem dX3_one_33 : decode cX3_one 33 = .ok (.iconst 3, 1) := by decide +kernel
theorem dX3_one_34 : decode cX3_one 34 = .ok (.invokevirtual 283, 3) := by decide +kernel
theorem dX3_one_37 : decode cX3_one 37 = .ok (.aload_n 0, 1) := by decide +kernel
theorem dX3_one_38 : decode cX3_one 38 = .ok (.invokevirtual 209, 3) := by decide +kernel
theorem dX3_one_41 : decode cX3_one 41 = .ok (.aload_n 0, 1) := by decide +kernel
theorem dX3_one_42 : decode cX3_one 42 = .ok (.dup, 1) := by decide +kernel
theorem dX3_one_43 : decode cX3_one 43 = .ok (.getfield 280, 3) := by decide +kernel
theorem dX3_one_46 : decode cX3_one 46 = .ok (.iconst 1, 1) := by decide +kernel
theorem dX3_one_47 : decode cX3_one 47 = .ok (.iadd, 1) := by decide +kernel
theorem dX3_one_48 : decode cX3_one 48 = .ok (.putfield 280, 3) := by decide +kernel
theorem dX3_one_51 : decode cX3_one 51 = .ok (.aload_n 0, 1) := by decide +kernel
theorem dX3_one_52 : decode cX3_one 52 = .ok (.getfield 280, 3) := by decide +kernel
theorem dX3_one_55 : decode cX3_one 55 = .ok (.bipush 6, 2) := by decide +kernel
theorem dX3_one_57 : decode cX3_one 57 = .ok (.if_icmp .lt 7, 3) := by decide +kernel
theorem dX3_one_60 : decode cX3_one 60 = .ok (.aload_n 0, 1) := by decide +kernel
theorem dX3_one_61 : decode cX3_one 61 = .ok (.invokevirtual 212, 3) := by decide +kernel
theorem dX3_one_64 : decode cX3_one 64 = .ok (.iconst 1, 1) := by decide +kernel
theorem dX3_one_65 : decode cX3_one 65 = .ok (.ireturn, 1) := by decide +kernel
theorem dX3_one_66 : decode cX3_one 66 = .ok (.aload_n 0, 1) := by decide +kernel
theorem dX3_one_67 : decode cX3_one 67 = .ok (.invokevirtual 295, 3) := by decide +kernel
theorem dX3_one_70 : decode cX3_one 70 = .ok (.aload_n 0, 1) := by decide +kernel
theorem dX3_one_71 : decode cX3_one 71 = .ok (.invokevirtual 205, 3) := by decide +kernel
theorem dX3_one_74 : decode cX3_one 74 = .ok (.ifCond .ne 5, 3) := by decide +kernel
theorem dX3_one_77 : decode cX3_one 77 = .ok (.iconst 1, 1) := by decide +kernel
theorem dX3_one_78 : decode cX3_one 78 = .ok (.ireturn, 1) := by decide +kernel
theorem dX3_one_79 : decode cX3_one 79 = .ok (.aload_n 0, 1) := by decide +kernel
theorem dX3_one_80 : decode cX3_one 80 = .ok (.bipush 60, 2) := by decide +kernel
theorem dX3_one_82 : decode cX3_one 82 = .ok (.invokevirtual 274, 3) := by decide +kernel
theorem dX3_one_85 : decode cX3_one 85 = .ok (.ifCond .ne 23, 3) := by decide +kernel
theorem dX3_one_88 : decode cX3_one 88 = .ok (.aload_n 0, 1) := by decide +kernel
theorem dX3_one_89 : decode cX3_one 89 = .ok (.bipush 62, 2) := by decide +kernel
theorem dX3_one_91 : decode cX3_one 91 = .ok (.invokevirtual 274, 3) := by decide +kernel
theorem dX3_one_94 : decode cX3_one 94 = .ok (.ifCond .ne 14, 3) := by decide +kernel
theorem dX3_one_97 : decode cX3_one 97 = .ok (.aload_n 0, 1) := by decide +kernel
theorem dX3_one_98 : decode cX3_one 98 = .ok (.bipush 61, 2) := by decide +kernel
theorem dX3_one_100 : decode cX3_one 100 = .ok (.invokevirtual 274, 3) := by decide +kernel
theorem dX3_one_103 : decode cX3_one 103 = .ok (.ifCond .ne 5, 3) := by decide +kernel
theorem dX3_one_106 : decode cX3_one 106 = .ok (.iconst 0, 1) := by decide +kernel
theorem dX3_one_107 : decode cX3_one 107 = .ok (.ireturn, 1) := by decide +kernel
theorem dX3_one_108 : decode cX3_one 108 = .ok (.aload_n 0, 1) := by decide +kernel
theorem dX3_one_109 : decode cX3_one 109 = .ok (.aload_n 0, 1) := by decide +kernel
theorem dX3_one_110 : decode cX3_one 110 = .ok (.getfield 178, 3) := by decide +kernel
theorem dX3_one_113 : decode cX3_one 113 = .ok (.invokevirtual 181, 3) := by decide +kernel
theorem dX3_one_116 : decode cX3_one 116 = .ok (.istore_n 1, 1) := by decide +kernel
theorem dX3_one_117 : decode cX3_one 117 = .ok (.aload_n 0, 1) := by decide +kernel
theorem dX3_one_118 : decode cX3_one 118 = .ok (.invokevirtual 209, 3) := by decide +kernel
theorem dX3_one_121 : decode cX3_one 121 = .ok (.aload_n 0, 1) := by decide +kernel
theorem dX3_one_122 : decode cX3_one 122 = .ok (.invokevirtual 295, 3) := by decide +kernel
theorem dX3_one_125 : decode cX3_one 125 = .ok (.aload_n 0, 1) := by decide +kernel
theorem dX3_one_126 : decode cX3_one 126 = .ok (.invokevirtual 205, 3) := by decide +kernel
theorem dX3_one_129 : decode cX3_one 129 = .ok (.ifCond .eq 9, 3) := by decide +kernel
theorem dX3_one_132 : decode cX3_one 132 = .ok (.aload_n 0, 1) := by decide +kernel
theorem dX3_one_133 : decode cX3_one 133 = .ok (.iload_n 1, 1) := by decide +kernel
theorem dX3_one_134 : decode cX3_one 134 = .ok (.iconst 0, 1) := by decide +kernel
theorem dX3_one_135 : decode cX3_one 135 = .ok (.invokevirtual 298, 3) := by decide +kernel
theorem dX3_one_138 : decode cX3_one 138 = .ok (.iconst 0, 1) := by decide +kernel
theorem dX3_one_139 : decode cX3_one 139 = .ok (.ireturn, 1) := by decide +kernel
theorem dX3_is_0 : decode cX3_is 0 = .ok (.aload_n 0, 1) := by decide +kernel
theorem dX3_is_1 : decode cX3_is 1 = .ok (.getfield 185, 3) := by decide +kernel
theorem dX3_is_4 : decode cX3_is 4 = .ok (.iconst 4, 1) := by decide +kernel
theorem dX3_is_5 : decode cX3_is 5 = .ok (.if_icmp .ne 19, 3) := by decide +kernel
theorem dX3_is_8 : decode cX3_is 8 = .ok (.aload_n 0, 1) := by decide +kernel
theorem dX3_is_9 : decode cX3_is 9 = .ok (.aload_n 0, 1) := by decide +kernel
theorem dX3_is_10 : decode cX3_is 10 = .ok (.getfield 178, 3) := by decide +kernel
theorem dX3_is_13 : decode cX3_is 13 = .ok (.invokevirtual 181, 3) := by decide +kernel
theorem dX3_is_16 : decode cX3_is 16 = .ok (.iload_n 1, 1) := by decide +kernel
theorem dX3_is_17 : decode cX3_is 17 = .ok (.if_icmp .ne 7, 3) := by decide +kernel
theorem dX3_is_20 : decode cX3_is 20 = .ok (.iconst 1, 1) := by decide +kernel
theorem dX3_is_21 : decode cX3_is 21 = .ok (.goto 4, 3) := by decide +kernel
theorem dX3_is_24 : decode cX3_is 24 = .ok (.iconst 0, 1) := by decide +kernel
theorem dX3_is_25 : decode cX3_is 25 = .ok (.ireturn, 1) := by decide +kernel
theorem dX3_readSum_0 : decode cX3_readSum 0 = .ok (.aload_n 0, 1) := by decide +kernel
theorem dX3_readSum_1 : decode cX3_readSum 1 = .ok (.invokevirtual 301, 3) := by decide +kernel
theorem dX3_readSum_4 : decode cX3_readSum 4 = .ok (.aload_n 0, 1) := by decide +kernel
theorem dX3_readSum_5 : decode cX3_readSum 5 = .ok (.invokevirtual 205, 3) := by decide +kernel
theorem dX3_readSum_8 : decode cX3_readSum 8 = .ok (.ifCond .eq 54, 3) := by decide +kernel
theorem dX3_readSum_11 : decode cX3_readSum 11 = .ok (.aload_n 0, 1) := by decide +kernel
theorem dX3_readSum_12 : decode cX3_readSum 12 = .ok (.bipush 43, 2) := by decide +kernel
theorem dX3_readSum_14 : decode cX3_readSum 14 = .ok (.invokevirtual 274, 3) := by decide +kernel
theorem dX3_readSum_17 : decode cX3_readSum 17 = .ok (.ifCond .ne 12, 3) := by decide +kernel
theorem dX3_readSum_20 : decode cX3_readSum 20 = .ok (.aload_n 0, 1) := by decide +kernel
theorem dX3_readSum_21 : decode cX3_readSum 21 = .ok (.bipush 45, 2) := by decide +kernel
theorem dX3_readSum_23 : decode cX3_readSum 23 = .ok (.invokevirtual 274, 3) := by decide +kernel
theorem dX3_readSum_26 : decode cX3_readSum 26 = .ok (.ifCond .eq 36, 3) := by decide +kernel
theorem dX3_readSum_29 : decode cX3_readSum 29 = .ok (.aload_n 0, 1) := by decide +kernel
theorem dX3_readSum_30 : decode cX3_readSum 30 = .ok (.aload_n 0, 1) := by decide +kernel
theorem dX3_readSum_31 : decode cX3_readSum 31 = .ok (.getfield 178, 3) := by decide +kernel
theorem dX3_readSum_34 : decode cX3_readSum 34 = .ok (.invokevirtual 181, 3) := by decide +kernel
theorem dX3_readSum_37 : decode cX3_readSum 37 = .ok (.istore_n 1, 1) := by decide +kernel
theorem dX3_readSum_38 : decode cX3_readSum 38 = .ok (.aload_n 0, 1) := by decide +kernel
theorem dX3_readSum_39 : decode cX3_readSum 39 = .ok (.invokevirtual 209, 3) := by decide +kernel
theorem dX3_readSum_42 : decode cX3_readSum 42 = .ok (.aload_n 0, 1) := by decide +kernel
theorem dX3_readSum_43 : decode cX3_readSum 43 = .ok (.invokevirtual 301, 3) := by decide +kernel
theorem dX3_readSum_46 : decode cX3_readSum 46 = .ok (.aload_n 0, 1) := by decide +kernel
theorem dX3_readSum_47 : decode cX3_readSum 47 = .ok (.invokevirtual 205, 3) := by decide +kernel
theorem dX3_readSum_50 : decode cX3_readSum 50 = .ok (.ifCond .eq 9, 3) := by decide +kernel
theorem dX3_readSum_53 : decode cX3_readSum 53 = .ok (.aload_n 0, 1) := by decide +kernel
theorem dX3_readSum_54 : decode cX3_readSum 54 = .ok (.iload_n 1, 1) := by decide +kernel
theorem dX3_readSum_55 : decode cX3_readSum 55 = .ok (.iconst 0, 1) := by decide +kernel
theorem dX3_readSum_56 : decode cX3_readSum 56 = .ok (.invokevirtual 298, 3) := by decide +kernel
theorem dX3_readSum_59 : decode cX3_readSum 59 = .ok (.goto (-55), 3) := by decide +kernel
theorem dX3_readSum_62 : decode cX3_readSum 62 = .ok (.return_, 1) := by decide +kernel
theorem dX3_readTerm_0 : decode cX3_readTerm 0 = .ok (.aload_n 0, 1) := by decide +kernel
theorem dX3_readTerm_1 : decode cX3_readTerm 1 = .ok (.invokevirtual 304, 3) := by decide +kernel
theorem dX3_readTerm_4 : decode cX3_readTerm 4 = .ok (.istore_n 1, 1) := by decide +kernel
theorem dX3_readTerm_5 : decode cX3_readTerm 5 = .ok (.aload_n 0, 1) := by decide +kernel
theorem dX3_readTerm_6 : decode cX3_readTerm 6 = .ok (.getfield 185, 3) := by decide +kernel
theorem dX3_readTerm_9 : decode cX3_readTerm 9 = .ok (.iconst 3, 1) := by decide +kernel
theorem dX3_readTerm_10 : decode cX3_readTerm 10 = .ok (.if_icmp .eq 7, 3) := by decide +kernel
theorem dX3_readTerm_13 : decode cX3_readTerm 13 = .ok (.iload_n 1, 1) := by decide +kernel
theorem dX3_readTerm_14 : decode cX3_readTerm 14 = .ok (.ifCond .lt 12, 3) := by decide +kernel
theorem dX3_readTerm_17 : decode cX3_readTerm 17 = .ok (.aload_n 0, 1) := by decide +kernel
theorem dX3_readTerm_18 : decode cX3_readTerm 18 = .ok (.getfield 245, 3) := by decide +kernel
theorem dX3_readTerm_21 : decode cX3_readTerm 21 = .ok (.bipush 80, 2) := by decide +kernel
theorem dX3_readTerm_23 : decode cX3_readTerm 23 = .ok (.if_icmp .ne 7, 3) := by decide +kernel
theorem dX3_readTerm_26 : decode cX3_readTerm 26 = .ok (.aload_n 0, 1) := by decide +kernel
theorem dX3_readTerm_27 : decode cX3_readTerm 27 = .ok (.invokevirtual 212, 3) := by decide +kernel
theorem dX3_readTerm_30 : decode cX3_readTerm 30 = .ok (.aload_n 0, 1) := by decide +kernel
theorem dX3_readTerm_31 : decode cX3_readTerm 31 = .ok (.invokevirtual 205, 3) := by decide +kernel
theorem dX3_readTerm_34 : decode cX3_readTerm 34 = .ok (.ifCond .ne 4, 3) := by decide +kernel
theorem dX3_readTerm_37 : decode cX3_readTerm 37 = .ok (.return_, 1) := by decide +kernel
theorem dX3_readTerm_38 : decode cX3_readTerm 38 = .ok (.aload_n 0, 1) := by decide +kernel
theorem dX3_readTerm_39 : decode cX3_readTerm 39 = .ok (.dup, 1) := by decide +kernel
theorem dX3_readTerm_40 : decode cX3_readTerm 40 = .ok (.getfield 245, 3) := by decide +kernel
theorem dX3_readTerm_43 : decode cX3_readTerm 43 = .ok (.iconst 1, 1) := by decide +kernel
theorem dX3_readTerm_44 : decode cX3_readTerm 44 = .ok (.iadd, 1) := by decide +kernel
theorem dX3_readTerm_45 : decode cX3_readTerm 45 = .ok (.putfield 245, 3) := by decide +kernel
theorem dX3_readTerm_48 : decode cX3_readTerm 48 = .ok (.aload_n 0, 1) := by decide +kernel
theorem dX3_readTerm_49 : decode cX3_readTerm 49 = .ok (.iload_n 1, 1) := by decide +kernel
theorem dX3_readTerm_50 : decode cX3_readTerm 50 = .ok (.ifCond .ge 8, 3) := by decide +kernel
theorem dX3_readTerm_53 : decode cX3_readTerm 53 = .ok (.bipush 110, 2) := by decide +kernel
theorem dX3_readTerm_55 : decode cX3_readTerm 55 = .ok (.goto 5, 3) := by decide +kernel
theorem dX3_readTerm_58 : decode cX3_readTerm 58 = .ok (.bipush 116, 2) := by decide +kernel
theorem dX3_readTerm_60 : decode cX3_readTerm 60 = .ok (.iload_n 1, 1) := by decide +kernel
theorem dX3_readTerm_61 : decode cX3_readTerm 61 = .ok (.ifCond .ge 10, 3) := by decide +kernel
theorem dX3_readTerm_64 : decode cX3_readTerm 64 = .ok (.aload_n 0, 1) := by decide +kernel
theorem dX3_readTerm_65 : decode cX3_readTerm 65 = .ok (.getfield 198, 3) := by decide +kernel
theorem dX3_readTerm_68 : decode cX3_readTerm 68 = .ok (.goto 4, 3) := by decide +kernel
theorem dX3_readTerm_71 : decode cX3_readTerm 71 = .ok (.iload_n 1, 1) := by decide +kernel
theorem dX3_readTerm_72 : decode cX3_readTerm 72 = .ok (.invokevirtual 298, 3) := by decide +kernel
theorem dX3_readTerm_75 : decode cX3_readTerm 75 = .ok (.aload_n 0, 1) := by decide +kernel
theorem dX3_readTerm_76 : decode cX3_readTerm 76 = .ok (.invokevirtual 209, 3) := by decide +kernel
theorem dX3_readTerm_79 : decode cX3_readTerm 79 = .ok (.return_, 1) := by decide +kernel
theorem dX3_termHere_0 : decode cX3_termHere 0 = .ok (.aload_n 0, 1) := by decide +kernel
theorem dX3_termHere_1 : decode cX3_termHere 1 = .ok (.getfield 185, 3) := by decide +kernel
theorem dX3_termHere_4 : decode cX3_termHere 4 = .ok (.iconst 2, 1) := by decide +kernel
theorem dX3_termHere_5 : decode cX3_termHere 5 = .ok (.if_icmp .eq 5, 3) := by decide +kernel
theorem dX3_termHere_8 : decode cX3_termHere 8 = .ok (.iconst (-1), 1) := by decide +kernel
theorem dX3_termHere_9 : decode cX3_termHere 9 = .ok (.ireturn, 1) := by decide +kernel
theorem dX3_termHere_10 : decode cX3_termHere 10 = .ok (.aload_n 0, 1) := by decide +kernel
theorem dX3_termHere_11 : decode cX3_termHere 11 = .ok (.getfield 191, 3) := by decide +kernel
theorem dX3_termHere_14 : decode cX3_termHere 14 = .ok (.ldc2_w 215, 3) := by decide +kernel
theorem dX3_termHere_17 : decode cX3_termHere 17 = .ok (.lcmp, 1) := by decide +kernel
theorem dX3_termHere_18 : decode cX3_termHere 18 = .ok (.ifCond .ne 7, 3) := by decide +kernel
theorem dX3_termHere_21 : decode cX3_termHere 21 = .ok (.iconst 0, 1) := by decide +kernel
theorem dX3_termHere_22 : decode cX3_termHere 22 = .ok (.goto 64, 3) := by decide +kernel
theorem dX3_termHere_25 : decode cX3_termHere 25 = .ok (.aload_n 0, 1) := by decide +kernel
theorem dX3_termHere_26 : decode cX3_termHere 26 = .ok (.getfield 191, 3) := by decide +kernel
theorem dX3_termHere_29 : decode cX3_termHere 29 = .ok (.ldc2_w 217, 3) := by decide +kernel
theorem dX3_termHere_32 : decode cX3_termHere 32 = .ok (.lcmp, 1) := by decide +kernel
theorem dX3_termHere_33 : decode cX3_termHere 33 = .ok (.ifCond .ne 7, 3) := by decide +kernel
theorem dX3_termHere_36 : decode cX3_termHere 36 = .ok (.iconst 1, 1) := by decide +kernel
theorem dX3_termHere_37 : decode cX3_termHere 37 = .ok (.goto 49, 3) := by decide +kernel
theorem dX3_termHere_40 : decode cX3_termHere 40 = .ok (.aload_n 0, 1) := by decide +kernel
theorem dX3_termHere_41 : decode cX3_termHere 41 = .ok (.getfield 191, 3) := by decide +kernel
theorem dX3_termHere_44 : decode cX3_termHere 44 = .ok (.ldc2_w 219, 3) := by decide +kernel
theorem dX3_termHere_47 : decode cX3_termHere 47 = .ok (.lcmp, 1) := by decide +kernel
theorem dX3_termHere_48 : decode cX3_termHere 48 = .ok (.ifCond .ne 7, 3) := by decide +kernel
theorem dX3_termHere_51 : decode cX3_termHere 51 = .ok (.iconst 2, 1) := by decide +kernel
theorem dX3_termHere_52 : decode cX3_termHere 52 = .ok (.goto 34, 3) := by decide +kernel
theorem dX3_termHere_55 : decode cX3_termHere 55 = .ok (.aload_n 0, 1) := by decide +kernel
theorem dX3_termHere_56 : decode cX3_termHere 56 = .ok (.getfield 191, 3) := by decide +kernel
theorem dX3_termHere_59 : decode cX3_termHere 59 = .ok (.ldc2_w 221, 3) := by decide +kernel
theorem dX3_termHere_62 : decode cX3_termHere 62 = .ok (.lcmp, 1) := by decide +kernel
theorem dX3_termHere_63 : decode cX3_termHere 63 = .ok (.ifCond .ne 7, 3) := by decide +kernel
theorem dX3_termHere_66 : decode cX3_termHere 66 = .ok (.iconst 3, 1) := by decide +kernel
theorem dX3_termHere_67 : decode cX3_termHere 67 = .ok (.goto 19, 3) := by decide +kernel
theorem dX3_termHere_70 : decode cX3_termHere 70 = .ok (.aload_n 0, 1) := by decide +kernel
theorem dX3_termHere_71 : decode cX3_termHere 71 = .ok (.getfield 191, 3) := by decide +kernel
theorem dX3_termHere_74 : decode cX3_termHere 74 = .ok (.ldc2_w 223, 3) := by decide +kernel
theorem dX3_termHere_77 : decode cX3_termHere 77 = .ok (.lcmp, 1) := by decide +kernel
theorem dX3_termHere_78 : decode cX3_termHere 78 = .ok (.ifCond .ne 7, 3) := by decide +kernel
theorem dX3_termHere_81 : decode cX3_termHere 81 = .ok (.iconst 4, 1) := by decide +kernel
theorem dX3_termHere_82 : decode cX3_termHere 82 = .ok (.goto 4, 3) := by decide +kernel
theorem dX3_termHere_85 : decode cX3_termHere 85 = .ok (.iconst (-1), 1) := by decide +kernel
theorem dX3_termHere_86 : decode cX3_termHere 86 = .ok (.istore_n 1, 1) := by decide +kernel
theorem dX3_termHere_87 : decode cX3_termHere 87 = .ok (.iload_n 1, 1) := by decide +kernel
theorem dX3_termHere_88 : decode cX3_termHere 88 = .ok (.ifCond .lt 7, 3) := by decide +kernel
theorem dX3_termHere_91 : decode cX3_termHere 91 = .ok (.iload_n 1, 1) := by decide +kernel
theorem dX3_termHere_92 : decode cX3_termHere 92 = .ok (.goto 67, 3) := by decide +kernel
theorem dX3_termHere_95 : decode cX3_termHere 95 = .ok (.aload_n 0, 1) := by decide +kernel
theorem dX3_termHere_96 : decode cX3_termHere 96 = .ok (.getfield 191, 3) := by decide +kernel
theorem dX3_termHere_99 : decode cX3_termHere 99 = .ok (.ldc2_w 225, 3) := by decide +kernel
theorem dX3_termHere_102 : decode cX3_termHere 102 = .ok (.lcmp, 1) := by decide +kernel
theorem dX3_termHere_103 : decode cX3_termHere 103 = .ok (.ifCond .ne 7, 3) := by decide +kernel
theorem dX3_termHere_106 : decode cX3_termHere 106 = .ok (.iconst 5, 1) := by decide +kernel
theorem dX3_termHere_107 : decode cX3_termHere 107 = .ok (.goto 52, 3) := by decide +kernel
theorem dX3_termHere_110 : decode cX3_termHere 110 = .ok (.aload_n 0, 1) := by decide +kernel
theorem dX3_termHere_111 : decode cX3_termHere 111 = .ok (.getfield 191, 3) := by decide +kernel
theorem dX3_termHere_114 : decode cX3_termHere 114 = .ok (.ldc2_w 227, 3) := by decide +kernel
theorem dX3_termHere_117 : decode cX3_termHere 117 = .ok (.lcmp, 1) := by decide +kernel
theorem dX3_termHere_118 : decode cX3_termHere 118 = .ok (.ifCond .ne 8, 3) := by decide +kernel
theorem dX3_termHere_121 : decode cX3_termHere 121 = .ok (.bipush 6, 2) := by decide +kernel
theorem dX3_termHere_123 : decode cX3_termHere 123 = .ok (.goto 36, 3) := by decide +kernel
theorem dX3_termHere_126 : decode cX3_termHere 126 = .ok (.aload_n 0, 1) := by decide +kernel
theorem dX3_termHere_127 : decode cX3_termHere 127 = .ok (.getfield 191, 3) := by decide +kernel
theorem dX3_termHere_130 : decode cX3_termHere 130 = .ok (.ldc2_w 229, 3) := by decide +kernel
