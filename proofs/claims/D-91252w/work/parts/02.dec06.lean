set_option maxRecDepth 100000
theorem dX3_termHere_133 : decode cX3_termHere 133 = .ok (.lcmp, 1) := by decide +kernel
theorem dX3_termHere_134 : decode cX3_termHere 134 = .ok (.ifCond .ne 8, 3) := by decide +kernel
theorem dX3_termHere_137 : decode cX3_termHere 137 = .ok (.bipush 7, 2) := by decide +kernel
theorem dX3_termHere_139 : decode cX3_termHere 139 = .ok (.goto 20, 3) := by decide +kernel
theorem dX3_termHere_142 : decode cX3_termHere 142 = .ok (.aload_n 0, 1) := by decide +kernel
theorem dX3_termHere_143 : decode cX3_termHere 143 = .ok (.getfield 191, 3) := by decide +kernel
theorem dX3_termHere_146 : decode cX3_termHere 146 = .ok (.ldc2_w 231, 3) := by decide +kernel
theorem dX3_termHere_149 : decode cX3_termHere 149 = .ok (.lcmp, 1) := by decide +kernel
theorem dX3_termHere_150 : decode cX3_termHere 150 = .ok (.ifCond .ne 8, 3) := by decide +kernel
theorem dX3_termHere_153 : decode cX3_termHere 153 = .ok (.bipush 8, 2) := by decide +kernel
theorem dX3_termHere_155 : decode cX3_termHere 155 = .ok (.goto 4, 3) := by decide +kernel
theorem dX3_termHere_158 : decode cX3_termHere 158 = .ok (.iconst (-1), 1) := by decide +kernel
theorem dX3_termHere_159 : decode cX3_termHere 159 = .ok (.ireturn, 1) := by decide +kernel
theorem dX3_step_0 : decode cX3_step 0 = .ok (.aload_n 0, 1) := by decide +kernel
theorem dX3_step_1 : decode cX3_step 1 = .ok (.getfield 85, 3) := by decide +kernel
theorem dX3_step_4 : decode cX3_step 4 = .ok (.sipush 600, 3) := by decide +kernel
theorem dX3_step_7 : decode cX3_step 7 = .ok (.aload_n 0, 1) := by decide +kernel
theorem dX3_step_8 : decode cX3_step 8 = .ok (.getfield 239, 3) := by decide +kernel
theorem dX3_step_11 : decode cX3_step 11 = .ok (.imul, 1) := by decide +kernel
theorem dX3_step_12 : decode cX3_step 12 = .ok (.aload_n 0, 1) := by decide +kernel
theorem dX3_step_13 : decode cX3_step 13 = .ok (.getfield 242, 3) := by decide +kernel
theorem dX3_step_16 : decode cX3_step 16 = .ok (.iadd, 1) := by decide +kernel
theorem dX3_step_17 : decode cX3_step 17 = .ok (.iload_n 1, 1) := by decide +kernel
theorem dX3_step_18 : decode cX3_step 18 = .ok (.iastore, 1) := by decide +kernel
theorem dX3_step_19 : decode cX3_step 19 = .ok (.aload_n 0, 1) := by decide +kernel
theorem dX3_step_20 : decode cX3_step 20 = .ok (.getfield 88, 3) := by decide +kernel
theorem dX3_step_23 : decode cX3_step 23 = .ok (.sipush 600, 3) := by decide +kernel
theorem dX3_step_26 : decode cX3_step 26 = .ok (.aload_n 0, 1) := by decide +kernel
theorem dX3_step_27 : decode cX3_step 27 = .ok (.getfield 239, 3) := by decide +kernel
theorem dX3_step_30 : decode cX3_step 30 = .ok (.imul, 1) := by decide +kernel
theorem dX3_step_31 : decode cX3_step 31 = .ok (.aload_n 0, 1) := by decide +kernel
theorem dX3_step_32 : decode cX3_step 32 = .ok (.getfield 242, 3) := by decide +kernel
theorem dX3_step_35 : decode cX3_step 35 = .ok (.iadd, 1) := by decide +kernel
theorem dX3_step_36 : decode cX3_step 36 = .ok (.iload_n 2, 1) := by decide +kernel
theorem dX3_step_37 : decode cX3_step 37 = .ok (.iastore, 1) := by decide +kernel
theorem dX3_step_38 : decode cX3_step 38 = .ok (.aload_n 0, 1) := by decide +kernel
theorem dX3_step_39 : decode cX3_step 39 = .ok (.dup, 1) := by decide +kernel
theorem dX3_step_40 : decode cX3_step 40 = .ok (.getfield 242, 3) := by decide +kernel
theorem dX3_step_43 : decode cX3_step 43 = .ok (.iconst 1, 1) := by decide +kernel
theorem dX3_step_44 : decode cX3_step 44 = .ok (.iadd, 1) := by decide +kernel
theorem dX3_step_45 : decode cX3_step 45 = .ok (.putfield 242, 3) := by decide +kernel
theorem dX3_step_48 : decode cX3_step 48 = .ok (.return_, 1) := by decide +kernel
theorem dX3_behind_0 : decode cX3_behind 0 = .ok (.aload_n 0, 1) := by decide +kernel
theorem dX3_behind_1 : decode cX3_behind 1 = .ok (.ldc2_w 308, 3) := by decide +kernel
theorem dX3_behind_4 : decode cX3_behind 4 = .ok (.invokevirtual 253, 3) := by decide +kernel
theorem dX3_behind_7 : decode cX3_behind 7 = .ok (.ifCond .eq 7, 3) := by decide +kernel
theorem dX3_behind_10 : decode cX3_behind 10 = .ok (.iconst 2, 1) := by decide +kernel
theorem dX3_behind_11 : decode cX3_behind 11 = .ok (.goto 18, 3) := by decide +kernel
theorem dX3_behind_14 : decode cX3_behind 14 = .ok (.aload_n 0, 1) := by decide +kernel
theorem dX3_behind_15 : decode cX3_behind 15 = .ok (.ldc2_w 310, 3) := by decide +kernel
theorem dX3_behind_18 : decode cX3_behind 18 = .ok (.invokevirtual 253, 3) := by decide +kernel
theorem dX3_behind_21 : decode cX3_behind 21 = .ok (.ifCond .eq 7, 3) := by decide +kernel
theorem dX3_behind_24 : decode cX3_behind 24 = .ok (.iconst 1, 1) := by decide +kernel
theorem dX3_behind_25 : decode cX3_behind 25 = .ok (.goto 4, 3) := by decide +kernel
theorem dX3_behind_28 : decode cX3_behind 28 = .ok (.iconst 0, 1) := by decide +kernel
theorem dX3_behind_29 : decode cX3_behind 29 = .ok (.istore_n 1, 1) := by decide +kernel
theorem dX3_behind_30 : decode cX3_behind 30 = .ok (.aload_n 0, 1) := by decide +kernel
theorem dX3_behind_31 : decode cX3_behind 31 = .ok (.getfield 91, 3) := by decide +kernel
theorem dX3_behind_34 : decode cX3_behind 34 = .ok (.aload_n 0, 1) := by decide +kernel
theorem dX3_behind_35 : decode cX3_behind 35 = .ok (.getfield 277, 3) := by decide +kernel
theorem dX3_behind_38 : decode cX3_behind 38 = .ok (.iconst 1, 1) := by decide +kernel
theorem dX3_behind_39 : decode cX3_behind 39 = .ok (.isub, 1) := by decide +kernel
theorem dX3_behind_40 : decode cX3_behind 40 = .ok (.iaload, 1) := by decide +kernel
theorem dX3_behind_41 : decode cX3_behind 41 = .ok (.iconst 3, 1) := by decide +kernel
theorem dX3_behind_42 : decode cX3_behind 42 = .ok (.if_icmp .gt 97, 3) := by decide +kernel
theorem dX3_behind_45 : decode cX3_behind 45 = .ok (.aload_n 0, 1) := by decide +kernel
theorem dX3_behind_46 : decode cX3_behind 46 = .ok (.getfield 91, 3) := by decide +kernel
theorem dX3_behind_49 : decode cX3_behind 49 = .ok (.aload_n 0, 1) := by decide +kernel
theorem dX3_behind_50 : decode cX3_behind 50 = .ok (.getfield 277, 3) := by decide +kernel
theorem dX3_behind_53 : decode cX3_behind 53 = .ok (.iconst 1, 1) := by decide +kernel
theorem dX3_behind_54 : decode cX3_behind 54 = .ok (.isub, 1) := by decide +kernel
theorem dX3_behind_55 : decode cX3_behind 55 = .ok (.iaload, 1) := by decide +kernel
theorem dX3_behind_56 : decode cX3_behind 56 = .ok (.iload_n 1, 1) := by decide +kernel
theorem dX3_behind_57 : decode cX3_behind 57 = .ok (.if_icmp .lt 82, 3) := by decide +kernel
theorem dX3_behind_60 : decode cX3_behind 60 = .ok (.aload_n 0, 1) := by decide +kernel
theorem dX3_behind_61 : decode cX3_behind 61 = .ok (.dup, 1) := by decide +kernel
theorem dX3_behind_62 : decode cX3_behind 62 = .ok (.getfield 277, 3) := by decide +kernel
theorem dX3_behind_65 : decode cX3_behind 65 = .ok (.iconst 1, 1) := by decide +kernel
theorem dX3_behind_66 : decode cX3_behind 66 = .ok (.isub, 1) := by decide +kernel
theorem dX3_behind_67 : decode cX3_behind 67 = .ok (.putfield 277, 3) := by decide +kernel
theorem dX3_behind_70 : decode cX3_behind 70 = .ok (.aload_n 0, 1) := by decide +kernel
theorem dX3_behind_71 : decode cX3_behind 71 = .ok (.getfield 91, 3) := by decide +kernel
theorem dX3_behind_74 : decode cX3_behind 74 = .ok (.aload_n 0, 1) := by decide +kernel
theorem dX3_behind_75 : decode cX3_behind 75 = .ok (.getfield 277, 3) := by decide +kernel
theorem dX3_behind_78 : decode cX3_behind 78 = .ok (.iaload, 1) := by decide +kernel
theorem dX3_behind_79 : decode cX3_behind 79 = .ok (.iconst 3, 1) := by decide +kernel
theorem dX3_behind_80 : decode cX3_behind 80 = .ok (.if_icmp .ne 13, 3) := by decide +kernel
theorem dX3_behind_83 : decode cX3_behind 83 = .ok (.aload_n 0, 1) := by decide +kernel
theorem dX3_behind_84 : decode cX3_behind 84 = .ok (.dup, 1) := by decide +kernel
theorem dX3_behind_85 : decode cX3_behind 85 = .ok (.getfield 280, 3) := by decide +kernel
theorem dX3_behind_88 : decode cX3_behind 88 = .ok (.iconst 1, 1) := by decide +kernel
theorem dX3_behind_89 : decode cX3_behind 89 = .ok (.isub, 1) := by decide +kernel
theorem dX3_behind_90 : decode cX3_behind 90 = .ok (.putfield 280, 3) := by decide +kernel
theorem dX3_behind_93 : decode cX3_behind 93 = .ok (.aload_n 0, 1) := by decide +kernel
theorem dX3_behind_94 : decode cX3_behind 94 = .ok (.aload_n 0, 1) := by decide +kernel
theorem dX3_behind_95 : decode cX3_behind 95 = .ok (.getfield 91, 3) := by decide +kernel
theorem dX3_behind_98 : decode cX3_behind 98 = .ok (.aload_n 0, 1) := by decide +kernel
theorem dX3_behind_99 : decode cX3_behind 99 = .ok (.getfield 277, 3) := by decide +kernel
theorem dX3_behind_102 : decode cX3_behind 102 = .ok (.iaload, 1) := by decide +kernel
theorem dX3_behind_103 : decode cX3_behind 103 = .ok (.iconst 3, 1) := by decide +kernel
theorem dX3_behind_104 : decode cX3_behind 104 = .ok (.if_icmp .ne 8, 3) := by decide +kernel
theorem dX3_behind_107 : decode cX3_behind 107 = .ok (.bipush 126, 2) := by decide +kernel
theorem dX3_behind_109 : decode cX3_behind 109 = .ok (.goto 23, 3) := by decide +kernel
theorem dX3_behind_112 : decode cX3_behind 112 = .ok (.aload_n 0, 1) := by decide +kernel
theorem dX3_behind_113 : decode cX3_behind 113 = .ok (.getfield 91, 3) := by decide +kernel
theorem dX3_behind_116 : decode cX3_behind 116 = .ok (.aload_n 0, 1) := by decide +kernel
theorem dX3_behind_117 : decode cX3_behind 117 = .ok (.getfield 277, 3) := by decide +kernel
theorem dX3_behind_120 : decode cX3_behind 120 = .ok (.iaload, 1) := by decide +kernel
theorem dX3_behind_121 : decode cX3_behind 121 = .ok (.iconst 2, 1) := by decide +kernel
theorem dX3_behind_122 : decode cX3_behind 122 = .ok (.if_icmp .ne 8, 3) := by decide +kernel
theorem dX3_behind_125 : decode cX3_behind 125 = .ok (.bipush 38, 2) := by decide +kernel
theorem dX3_behind_127 : decode cX3_behind 127 = .ok (.goto 5, 3) := by decide +kernel
theorem dX3_behind_130 : decode cX3_behind 130 = .ok (.bipush 124, 2) := by decide +kernel
theorem dX3_behind_132 : decode cX3_behind 132 = .ok (.iconst 0, 1) := by decide +kernel
theorem dX3_behind_133 : decode cX3_behind 133 = .ok (.invokevirtual 298, 3) := by decide +kernel
theorem dX3_behind_136 : decode cX3_behind 136 = .ok (.goto (-106), 3) := by decide +kernel
theorem dX3_behind_139 : decode cX3_behind 139 = .ok (.iload_n 1, 1) := by decide +kernel
theorem dX3_behind_140 : decode cX3_behind 140 = .ok (.ifCond .le 14, 3) := by decide +kernel
theorem dX3_behind_143 : decode cX3_behind 143 = .ok (.aload_n 0, 1) := by decide +kernel
theorem dX3_behind_144 : decode cX3_behind 144 = .ok (.iload_n 1, 1) := by decide +kernel
theorem dX3_behind_145 : decode cX3_behind 145 = .ok (.invokevirtual 283, 3) := by decide +kernel
theorem dX3_behind_148 : decode cX3_behind 148 = .ok (.aload_n 0, 1) := by decide +kernel
theorem dX3_behind_149 : decode cX3_behind 149 = .ok (.invokevirtual 209, 3) := by decide +kernel
theorem dX3_behind_152 : decode cX3_behind 152 = .ok (.iconst 1, 1) := by decide +kernel
theorem dX3_behind_153 : decode cX3_behind 153 = .ok (.ireturn, 1) := by decide +kernel
theorem dX3_behind_154 : decode cX3_behind 154 = .ok (.aload_n 0, 1) := by decide +kernel
theorem dX3_behind_155 : decode cX3_behind 155 = .ok (.dup, 1) := by decide +kernel
theorem dX3_behind_156 : decode cX3_behind 156 = .ok (.getfield 277, 3) := by decide +kernel
theorem dX3_behind_159 : decode cX3_behind 159 = .ok (.iconst 1, 1) := by decide +kernel
theorem dX3_behind_160 : decode cX3_behind 160 = .ok (.isub, 1) := by decide +kernel
theorem dX3_behind_161 : decode cX3_behind 161 = .ok (.putfield 277, 3) := by decide +kernel
theorem dX3_behind_164 : decode cX3_behind 164 = .ok (.aload_n 0, 1) := by decide +kernel
theorem dX3_behind_165 : decode cX3_behind 165 = .ok (.getfield 91, 3) := by decide +kernel
theorem dX3_behind_168 : decode cX3_behind 168 = .ok (.aload_n 0, 1) := by decide +kernel
theorem dX3_behind_169 : decode cX3_behind 169 = .ok (.getfield 277, 3) := by decide +kernel
theorem dX3_behind_172 : decode cX3_behind 172 = .ok (.iaload, 1) := by decide +kernel
theorem dX3_behind_173 : decode cX3_behind 173 = .ok (.iconst 4, 1) := by decide +kernel
theorem dX3_behind_174 : decode cX3_behind 174 = .ok (.if_icmp .ne 23, 3) := by decide +kernel
theorem dX3_behind_177 : decode cX3_behind 177 = .ok (.aload_n 0, 1) := by decide +kernel
theorem dX3_behind_178 : decode cX3_behind 178 = .ok (.dup, 1) := by decide +kernel
theorem dX3_behind_179 : decode cX3_behind 179 = .ok (.getfield 280, 3) := by decide +kernel
theorem dX3_behind_182 : decode cX3_behind 182 = .ok (.iconst 1, 1) := by decide +kernel
theorem dX3_behind_183 : decode cX3_behind 183 = .ok (.isub, 1) := by decide +kernel
theorem dX3_behind_184 : decode cX3_behind 184 = .ok (.putfield 280, 3) := by decide +kernel
theorem dX3_behind_187 : decode cX3_behind 187 = .ok (.aload_n 0, 1) := by decide +kernel
theorem dX3_behind_188 : decode cX3_behind 188 = .ok (.aload_n 0, 1) := by decide +kernel
theorem dX3_behind_189 : decode cX3_behind 189 = .ok (.bipush 41, 2) := by decide +kernel
theorem dX3_behind_191 : decode cX3_behind 191 = .ok (.invokevirtual 274, 3) := by decide +kernel
theorem dX3_behind_194 : decode cX3_behind 194 = .ok (.invokevirtual 262, 3) := by decide +kernel
theorem dX3_behind_197 : decode cX3_behind 197 = .ok (.iconst 0, 1) := by decide +kernel
theorem dX3_behind_198 : decode cX3_behind 198 = .ok (.ireturn, 1) := by decide +kernel
theorem dX3_must_0 : decode cX3_must 0 = .ok (.aload_n 0, 1) := by decide +kernel
theorem dX3_must_1 : decode cX3_must 1 = .ok (.invokevirtual 205, 3) := by decide +kernel
theorem dX3_must_4 : decode cX3_must 4 = .ok (.ifCond .ne 4, 3) := by decide +kernel
theorem dX3_must_7 : decode cX3_must 7 = .ok (.return_, 1) := by decide +kernel
theorem dX3_must_8 : decode cX3_must 8 = .ok (.iload_n 1, 1) := by decide +kernel
theorem dX3_must_9 : decode cX3_must 9 = .ok (.ifCond .eq 10, 3) := by decide +kernel
theorem dX3_must_12 : decode cX3_must 12 = .ok (.aload_n 0, 1) := by decide +kernel
theorem dX3_must_13 : decode cX3_must 13 = .ok (.invokevirtual 209, 3) := by decide +kernel
theorem dX3_must_16 : decode cX3_must 16 = .ok (.goto 7, 3) := by decide +kernel
theorem dX3_must_19 : decode cX3_must 19 = .ok (.aload_n 0, 1) := by decide +kernel
theorem dX3_must_20 : decode cX3_must 20 = .ok (.invokevirtual 212, 3) := by decide +kernel
theorem dX3_must_23 : decode cX3_must 23 = .ok (.return_, 1) := by decide +kernel
theorem dX3_fault_0 : decode cX3_fault 0 = .ok (.iload_n 1, 1) := by decide +kernel
theorem dX3_fault_1 : decode cX3_fault 1 = .ok (.ifCond .ne 10, 3) := by decide +kernel
theorem dX3_fault_4 : decode cX3_fault 4 = .ok (.aload_n 0, 1) := by decide +kernel
theorem dX3_fault_5 : decode cX3_fault 5 = .ok (.getfield 172, 3) := by decide +kernel
theorem dX3_fault_8 : decode cX3_fault 8 = .ok (.goto 16, 3) := by decide +kernel
theorem dX3_fault_11 : decode cX3_fault 11 = .ok (.iload_n 1, 1) := by decide +kernel
theorem dX3_fault_12 : decode cX3_fault 12 = .ok (.iconst 1, 1) := by decide +kernel
theorem dX3_fault_13 : decode cX3_fault 13 = .ok (.if_icmp .ne 10, 3) := by decide +kernel
theorem dX3_fault_16 : decode cX3_fault 16 = .ok (.aload_n 0, 1) := by decide +kernel
theorem dX3_fault_17 : decode cX3_fault 17 = .ok (.getfield 66, 3) := by decide +kernel
theorem dX3_fault_20 : decode cX3_fault 20 = .ok (.goto 4, 3) := by decide +kernel
theorem dX3_fault_23 : decode cX3_fault 23 = .ok (.iconst (-1), 1) := by decide +kernel
theorem dX3_fault_24 : decode cX3_fault 24 = .ok (.ireturn, 1) := by decide +kernel
theorem dX3_claim_0 : decode cX3_claim 0 = .ok (.aload_n 0, 1) := by decide +kernel
theorem dX3_claim_1 : decode cX3_claim 1 = .ok (.iload_n 1, 1) := by decide +kernel
theorem dX3_claim_2 : decode cX3_claim 2 = .ok (.invokevirtual 155, 3) := by decide +kernel
theorem dX3_claim_5 : decode cX3_claim 5 = .ok (.ifCond .eq 12, 3) := by decide +kernel
theorem dX3_claim_8 : decode cX3_claim 8 = .ok (.aload_n 0, 1) := by decide +kernel
theorem dX3_claim_9 : decode cX3_claim 9 = .ok (.getfield 315, 3) := by decide +kernel
theorem dX3_claim_12 : decode cX3_claim 12 = .ok (.bipush 30, 2) := by decide +kernel
theorem dX3_claim_14 : decode cX3_claim 14 = .ok (.if_icmp .ne 5, 3) := by decide +kernel
theorem dX3_claim_17 : decode cX3_claim 17 = .ok (.iconst (-1), 1) := by decide +kernel
theorem dX3_claim_18 : decode cX3_claim 18 = .ok (.ireturn, 1) := by decide +kernel
theorem dX3_claim_19 : decode cX3_claim 19 = .ok (.iconst 0, 1) := by decide +kernel
theorem dX3_claim_20 : decode cX3_claim 20 = .ok (.istore_n 2, 1) := by decide +kernel
theorem dX3_claim_21 : decode cX3_claim 21 = .ok (.iload_n 2, 1) := by decide +kernel
theorem dX3_claim_22 : decode cX3_claim 22 = .ok (.aload_n 0, 1) := by decide +kernel
theorem dX3_claim_23 : decode cX3_claim 23 = .ok (.getfield 315, 3) := by decide +kernel
theorem dX3_claim_26 : decode cX3_claim 26 = .ok (.if_icmp .ge 21, 3) := by decide +kernel
theorem dX3_claim_29 : decode cX3_claim 29 = .ok (.aload_n 0, 1) := by decide +kernel
theorem dX3_claim_30 : decode cX3_claim 30 = .ok (.getfield 100, 3) := by decide +kernel
theorem dX3_claim_33 : decode cX3_claim 33 = .ok (.iload_n 2, 1) := by decide +kernel
theorem dX3_claim_34 : decode cX3_claim 34 = .ok (.iaload, 1) := by decide +kernel
theorem dX3_claim_35 : decode cX3_claim 35 = .ok (.iload_n 1, 1) := by decide +kernel
theorem dX3_claim_36 : decode cX3_claim 36 = .ok (.if_icmp .ne 5, 3) := by decide +kernel
theorem dX3_claim_39 : decode cX3_claim 39 = .ok (.iconst (-1), 1) := by decide +kernel
theorem dX3_claim_40 : decode cX3_claim 40 = .ok (.ireturn, 1) := by decide +kernel
theorem dX3_claim_41 : decode cX3_claim 41 = .ok (.iinc 2 1, 3) := by decide +kernel
theorem dX3_claim_44 : decode cX3_claim 44 = .ok (.goto (-23), 3) := by decide +kernel
theorem dX3_claim_47 : decode cX3_claim 47 = .ok (.aload_n 0, 1) := by decide +kernel
theorem dX3_claim_48 : decode cX3_claim 48 = .ok (.getfield 100, 3) := by decide +kernel
theorem dX3_claim_51 : decode cX3_claim 51 = .ok (.aload_n 0, 1) := by decide +kernel
theorem dX3_claim_52 : decode cX3_claim 52 = .ok (.getfield 315, 3) := by decide +kernel
theorem dX3_claim_55 : decode cX3_claim 55 = .ok (.iload_n 1, 1) := by decide +kernel
theorem dX3_claim_56 : decode cX3_claim 56 = .ok (.iastore, 1) := by decide +kernel
theorem dX3_claim_57 : decode cX3_claim 57 = .ok (.aload_n 0, 1) := by decide +kernel
theorem dX3_claim_58 : decode cX3_claim 58 = .ok (.dup, 1) := by decide +kernel
theorem dX3_claim_59 : decode cX3_claim 59 = .ok (.getfield 315, 3) := by decide +kernel
theorem dX3_claim_62 : decode cX3_claim 62 = .ok (.iconst 1, 1) := by decide +kernel
theorem dX3_claim_63 : decode cX3_claim 63 = .ok (.iadd, 1) := by decide +kernel
theorem dX3_claim_64 : decode cX3_claim 64 = .ok (.putfield 315, 3) := by decide +kernel
theorem dX3_claim_67 : decode cX3_claim 67 = .ok (.aload_n 0, 1) := by decide +kernel
theorem dX3_claim_68 : decode cX3_claim 68 = .ok (.getfield 315, 3) := by decide +kernel
theorem dX3_claim_71 : decode cX3_claim 71 = .ok (.iconst 1, 1) := by decide +kernel
theorem dX3_claim_72 : decode cX3_claim 72 = .ok (.isub, 1) := by decide +kernel
theorem dX3_claim_73 : decode cX3_claim 73 = .ok (.ireturn, 1) := by decide +kernel
theorem dX3_ruling_0 : decode cX3_ruling 0 = .ok (.aload_n 0, 1) := by decide +kernel
theorem dX3_ruling_1 : decode cX3_ruling 1 = .ok (.iload_n 1, 1) := by decide +kernel
theorem dX3_ruling_2 : decode cX3_ruling 2 = .ok (.iload_n 2, 1) := by decide +kernel
theorem dX3_ruling_3 : decode cX3_ruling 3 = .ok (.invokevirtual 331, 3) := by decide +kernel
theorem dX3_ruling_6 : decode cX3_ruling 6 = .ok (.ifCond .ne 5, 3) := by decide +kernel
theorem dX3_ruling_9 : decode cX3_ruling 9 = .ok (.iconst (-1), 1) := by decide +kernel
theorem dX3_ruling_10 : decode cX3_ruling 10 = .ok (.ireturn, 1) := by decide +kernel
theorem dX3_ruling_11 : decode cX3_ruling 11 = .ok (.aload_n 0, 1) := by decide +kernel
theorem dX3_ruling_12 : decode cX3_ruling 12 = .ok (.invokevirtual 334, 3) := by decide +kernel
theorem dX3_ruling_15 : decode cX3_ruling 15 = .ok (.istore_n 3, 1) := by decide +kernel
theorem dX3_ruling_16 : decode cX3_ruling 16 = .ok (.iload_n 3, 1) := by decide +kernel
theorem dX3_ruling_17 : decode cX3_ruling 17 = .ok (.ifCond .ge 7, 3) := by decide +kernel
theorem dX3_ruling_20 : decode cX3_ruling 20 = .ok (.iconst 4, 1) := by decide +kernel
theorem dX3_ruling_21 : decode cX3_ruling 21 = .ok (.goto 9, 3) := by decide +kernel
theorem dX3_ruling_24 : decode cX3_ruling 24 = .ok (.aload_n 0, 1) := by decide +kernel
theorem dX3_ruling_25 : decode cX3_ruling 25 = .ok (.getfield 73, 3) := by decide +kernel
theorem dX3_ruling_28 : decode cX3_ruling 28 = .ok (.iload_n 3, 1) := by decide +kernel
theorem dX3_ruling_29 : decode cX3_ruling 29 = .ok (.iaload, 1) := by decide +kernel
theorem dX3_ruling_30 : decode cX3_ruling 30 = .ok (.ireturn, 1) := by decide +kernel
theorem dX3_look_0 : decode cX3_look 0 = .ok (.iload_n 1, 1) := by decide +kernel
theorem dX3_look_1 : decode cX3_look 1 = .ok (.ifCond .lt 25, 3) := by decide +kernel
theorem dX3_look_4 : decode cX3_look 4 = .ok (.iload_n 1, 1) := by decide +kernel
theorem dX3_look_5 : decode cX3_look 5 = .ok (.aload_n 0, 1) := by decide +kernel
theorem dX3_look_6 : decode cX3_look 6 = .ok (.getfield 315, 3) := by decide +kernel
theorem dX3_look_9 : decode cX3_look 9 = .ok (.if_icmp .ge 17, 3) := by decide +kernel
theorem dX3_look_12 : decode cX3_look 12 = .ok (.aload_n 0, 1) := by decide +kernel
theorem dX3_look_13 : decode cX3_look 13 = .ok (.aload_n 0, 1) := by decide +kernel
theorem dX3_look_14 : decode cX3_look 14 = .ok (.getfield 100, 3) := by decide +kernel
theorem dX3_look_17 : decode cX3_look 17 = .ok (.iload_n 1, 1) := by decide +kernel
theorem dX3_look_18 : decode cX3_look 18 = .ok (.iaload, 1) := by decide +kernel
theorem dX3_look_19 : decode cX3_look 19 = .ok (.iload_n 2, 1) := by decide +kernel
theorem dX3_look_20 : decode cX3_look 20 = .ok (.invokevirtual 318, 3) := by decide +kernel
theorem dX3_look_23 : decode cX3_look 23 = .ok (.ifCond .eq 5, 3) := by decide +kernel
theorem dX3_look_26 : decode cX3_look 26 = .ok (.iconst 0, 1) := by decide +kernel
theorem dX3_look_27 : decode cX3_look 27 = .ok (.ireturn, 1) := by decide +kernel
theorem dX3_look_28 : decode cX3_look 28 = .ok (.aload_n 0, 1) := by decide +kernel
theorem dX3_look_29 : decode cX3_look 29 = .ok (.getfield 100, 3) := by decide +kernel
theorem dX3_look_32 : decode cX3_look 32 = .ok (.iload_n 1, 1) := by decide +kernel
theorem dX3_look_33 : decode cX3_look 33 = .ok (.iaload, 1) := by decide +kernel
theorem dX3_look_34 : decode cX3_look 34 = .ok (.istore_n 3, 1) := by decide +kernel
theorem dX3_look_35 : decode cX3_look 35 = .ok (.aload_n 0, 1) := by decide +kernel
theorem dX3_look_36 : decode cX3_look 36 = .ok (.getfield 28, 3) := by decide +kernel
theorem dX3_look_39 : decode cX3_look 39 = .ok (.iload_n 3, 1) := by decide +kernel
theorem dX3_look_40 : decode cX3_look 40 = .ok (.iaload, 1) := by decide +kernel
theorem dX3_look_41 : decode cX3_look 41 = .ok (.istore 4, 2) := by decide +kernel
theorem dX3_look_43 : decode cX3_look 43 = .ok (.aload_n 0, 1) := by decide +kernel
theorem dX3_look_44 : decode cX3_look 44 = .ok (.iload 4, 2) := by decide +kernel
theorem dX3_look_46 : decode cX3_look 46 = .ok (.iload_n 2, 1) := by decide +kernel
theorem dX3_look_47 : decode cX3_look 47 = .ok (.iload_n 2, 1) := by decide +kernel
theorem dX3_look_48 : decode cX3_look 48 = .ok (.invokevirtual 165, 3) := by decide +kernel
theorem dX3_look_51 : decode cX3_look 51 = .ok (.istore 5, 2) := by decide +kernel
theorem dX3_look_53 : decode cX3_look 53 = .ok (.iconst 0, 1) := by decide +kernel
theorem dX3_look_54 : decode cX3_look 54 = .ok (.istore 6, 2) := by decide +kernel
theorem dX3_look_56 : decode cX3_look 56 = .ok (.iconst 0, 1) := by decide +kernel
theorem dX3_look_57 : decode cX3_look 57 = .ok (.istore 7, 2) := by decide +kernel
theorem dX3_look_59 : decode cX3_look 59 = .ok (.iconst 0, 1) := by decide +kernel
theorem dX3_look_60 : decode cX3_look 60 = .ok (.istore 8, 2) := by decide +kernel
theorem dX3_look_62 : decode cX3_look 62 = .ok (.iconst 0, 1) := by decide +kernel
theorem dX3_look_63 : decode cX3_look 63 = .ok (.istore 9, 2) := by decide +kernel
theorem dX3_look_65 : decode cX3_look 65 = .ok (.iload 9, 2) := by decide +kernel
theorem dX3_look_67 : decode cX3_look 67 = .ok (.aload_n 0, 1) := by decide +kernel
theorem dX3_look_68 : decode cX3_look 68 = .ok (.getfield 158, 3) := by decide +kernel
theorem dX3_look_71 : decode cX3_look 71 = .ok (.if_icmp .ge 102, 3) := by decide +kernel
theorem dX3_look_74 : decode cX3_look 74 = .ok (.aload_n 0, 1) := by decide +kernel
theorem dX3_look_75 : decode cX3_look 75 = .ok (.getfield 52, 3) := by decide +kernel
theorem dX3_look_78 : decode cX3_look 78 = .ok (.iload 9, 2) := by decide +kernel
theorem dX3_look_80 : decode cX3_look 80 = .ok (.iaload, 1) := by decide +kernel
theorem dX3_look_81 : decode cX3_look 81 = .ok (.istore 10, 2) := by decide +kernel
theorem dX3_look_83 : decode cX3_look 83 = .ok (.iload 10, 2) := by decide +kernel
theorem dX3_look_85 : decode cX3_look 85 = .ok (.iload_n 3, 1) := by decide +kernel
theorem dX3_look_86 : decode cX3_look 86 = .ok (.if_icmp .ne 9, 3) := by decide +kernel
theorem dX3_look_89 : decode cX3_look 89 = .ok (.iconst 1, 1) := by decide +kernel
theorem dX3_look_90 : decode cX3_look 90 = .ok (.istore 8, 2) := by decide +kernel
theorem dX3_look_92 : decode cX3_look 92 = .ok (.goto 75, 3) := by decide +kernel
theorem dX3_look_95 : decode cX3_look 95 = .ok (.iload 8, 2) := by decide +kernel
theorem dX3_look_97 : decode cX3_look 97 = .ok (.ifCond .ne 41, 3) := by decide +kernel
theorem dX3_look_100 : decode cX3_look 100 = .ok (.aload_n 0, 1) := by decide +kernel
theorem dX3_look_101 : decode cX3_look 101 = .ok (.getfield 55, 3) := by decide +kernel
theorem dX3_look_104 : decode cX3_look 104 = .ok (.iload 10, 2) := by decide +kernel
theorem dX3_look_106 : decode cX3_look 106 = .ok (.baload, 1) := by decide +kernel
theorem dX3_look_107 : decode cX3_look 107 = .ok (.ifCond .ne 31, 3) := by decide +kernel
theorem dX3_look_110 : decode cX3_look 110 = .ok (.aload_n 0, 1) := by decide +kernel
theorem dX3_look_111 : decode cX3_look 111 = .ok (.getfield 34, 3) := by decide +kernel
theorem dX3_look_114 : decode cX3_look 114 = .ok (.iload 10, 2) := by decide +kernel
theorem dX3_look_116 : decode cX3_look 116 = .ok (.iaload, 1) := by decide +kernel
theorem dX3_look_117 : decode cX3_look 117 = .ok (.aload_n 0, 1) := by decide +kernel
theorem dX3_look_118 : decode cX3_look 118 = .ok (.getfield 31, 3) := by decide +kernel
theorem dX3_look_121 : decode cX3_look 121 = .ok (.iload_n 3, 1) := by decide +kernel
theorem dX3_look_122 : decode cX3_look 122 = .ok (.iaload, 1) := by decide +kernel
theorem dX3_look_123 : decode cX3_look 123 = .ok (.if_icmp .ne 15, 3) := by decide +kernel
theorem dX3_look_126 : decode cX3_look 126 = .ok (.aload_n 0, 1) := by decide +kernel
theorem dX3_look_127 : decode cX3_look 127 = .ok (.getfield 37, 3) := by decide +kernel
theorem dX3_look_130 : decode cX3_look 130 = .ok (.iload 10, 2) := by decide +kernel
theorem dX3_look_132 : decode cX3_look 132 = .ok (.iaload, 1) := by decide +kernel
theorem dX3_look_133 : decode cX3_look 133 = .ok (.istore 6, 2) := by decide +kernel
theorem dX3_look_135 : decode cX3_look 135 = .ok (.goto 32, 3) := by decide +kernel
theorem dX3_look_138 : decode cX3_look 138 = .ok (.iload 8, 2) := by decide +kernel
theorem dX3_look_140 : decode cX3_look 140 = .ok (.ifCond .eq 27, 3) := by decide +kernel
theorem dX3_look_143 : decode cX3_look 143 = .ok (.aload_n 0, 1) := by decide +kernel
theorem dX3_look_144 : decode cX3_look 144 = .ok (.getfield 55, 3) := by decide +kernel
theorem dX3_look_147 : decode cX3_look 147 = .ok (.iload 10, 2) := by decide +kernel
theorem dX3_look_149 : decode cX3_look 149 = .ok (.baload, 1) := by decide +kernel
theorem dX3_look_150 : decode cX3_look 150 = .ok (.ifCond .ne 17, 3) := by decide +kernel
theorem dX3_look_153 : decode cX3_look 153 = .ok (.aload_n 0, 1) := by decide +kernel
theorem dX3_look_154 : decode cX3_look 154 = .ok (.getfield 37, 3) := by decide +kernel
theorem dX3_look_157 : decode cX3_look 157 = .ok (.iload 10, 2) := by decide +kernel
theorem dX3_look_159 : decode cX3_look 159 = .ok (.iaload, 1) := by decide +kernel
theorem dX3_look_160 : decode cX3_look 160 = .ok (.iload_n 2, 1) := by decide +kernel
theorem dX3_look_161 : decode cX3_look 161 = .ok (.if_icmp .gt 6, 3) := by decide +kernel
theorem dX3_look_164 : decode cX3_look 164 = .ok (.iinc 7 1, 3) := by decide +kernel
theorem dX3_look_167 : decode cX3_look 167 = .ok (.iinc 9 1, 3) := by decide +kernel
theorem dX3_look_170 : decode cX3_look 170 = .ok (.goto (-105), 3) := by decide +kernel
theorem dX3_look_173 : decode cX3_look 173 = .ok (.aload_n 0, 1) := by decide +kernel
theorem dX3_look_174 : decode cX3_look 174 = .ok (.getfield 97, 3) := by decide +kernel
theorem dX3_look_177 : decode cX3_look 177 = .ok (.iconst 0, 1) := by decide +kernel
theorem dX3_look_178 : decode cX3_look 178 = .ok (.aload_n 0, 1) := by decide +kernel
theorem dX3_look_179 : decode cX3_look 179 = .ok (.getfield 40, 3) := by decide +kernel
theorem dX3_look_182 : decode cX3_look 182 = .ok (.iload_n 3, 1) := by decide +kernel
theorem dX3_look_183 : decode cX3_look 183 = .ok (.iaload, 1) := by decide +kernel
theorem dX3_look_184 : decode cX3_look 184 = .ok (.iconst 1, 1) := by decide +kernel
theorem dX3_look_185 : decode cX3_look 185 = .ok (.if_icmp .ne 7, 3) := by decide +kernel
theorem dX3_look_188 : decode cX3_look 188 = .ok (.iconst 1, 1) := by decide +kernel
theorem dX3_look_189 : decode cX3_look 189 = .ok (.goto 4, 3) := by decide +kernel
theorem dX3_look_192 : decode cX3_look 192 = .ok (.iconst 0, 1) := by decide +kernel
theorem dX3_look_193 : decode cX3_look 193 = .ok (.iastore, 1) := by decide +kernel
theorem dX3_look_194 : decode cX3_look 194 = .ok (.aload_n 0, 1) := by decide +kernel
theorem dX3_look_195 : decode cX3_look 195 = .ok (.getfield 97, 3) := by decide +kernel
theorem dX3_look_198 : decode cX3_look 198 = .ok (.iconst 1, 1) := by decide +kernel
theorem dX3_look_199 : decode cX3_look 199 = .ok (.aload_n 0, 1) := by decide +kernel
theorem dX3_look_200 : decode cX3_look 200 = .ok (.getfield 40, 3) := by decide +kernel
theorem dX3_look_203 : decode cX3_look 203 = .ok (.iload_n 3, 1) := by decide +kernel
theorem dX3_look_204 : decode cX3_look 204 = .ok (.iaload, 1) := by decide +kernel
theorem dX3_look_205 : decode cX3_look 205 = .ok (.iconst 2, 1) := by decide +kernel
theorem dX3_look_206 : decode cX3_look 206 = .ok (.if_icmp .ne 7, 3) := by decide +kernel
theorem dX3_look_209 : decode cX3_look 209 = .ok (.iconst 1, 1) := by decide +kernel
theorem dX3_look_210 : decode cX3_look 210 = .ok (.goto 4, 3) := by decide +kernel
theorem dX3_look_213 : decode cX3_look 213 = .ok (.iconst 0, 1) := by decide +kernel
theorem dX3_look_214 : decode cX3_look 214 = .ok (.iastore, 1) := by decide +kernel
theorem dX3_look_215 : decode cX3_look 215 = .ok (.aload_n 0, 1) := by decide +kernel
theorem dX3_look_216 : decode cX3_look 216 = .ok (.aload_n 0, 1) := by decide +kernel
theorem dX3_look_217 : decode cX3_look 217 = .ok (.getfield 43, 3) := by decide +kernel
theorem dX3_look_220 : decode cX3_look 220 = .ok (.iload_n 3, 1) := by decide +kernel
theorem dX3_look_221 : decode cX3_look 221 = .ok (.iaload, 1) := by decide +kernel
theorem dX3_look_222 : decode cX3_look 222 = .ok (.aload_n 0, 1) := by decide +kernel
theorem dX3_look_223 : decode cX3_look 223 = .ok (.getfield 37, 3) := by decide +kernel
theorem dX3_look_226 : decode cX3_look 226 = .ok (.iload_n 3, 1) := by decide +kernel
theorem dX3_look_227 : decode cX3_look 227 = .ok (.iaload, 1) := by decide +kernel
theorem dX3_look_228 : decode cX3_look 228 = .ok (.sipush 365, 3) := by decide +kernel
theorem dX3_look_231 : decode cX3_look 231 = .ok (.idiv, 1) := by decide +kernel
theorem dX3_look_232 : decode cX3_look 232 = .ok (.bipush 99, 2) := by decide +kernel
theorem dX3_look_234 : decode cX3_look 234 = .ok (.invokevirtual 140, 3) := by decide +kernel
theorem dX3_look_237 : decode cX3_look 237 = .ok (.lstore 9, 2) := by decide +kernel
theorem dX3_look_239 : decode cX3_look 239 = .ok (.aload_n 0, 1) := by decide +kernel
theorem dX3_look_240 : decode cX3_look 240 = .ok (.getfield 97, 3) := by decide +kernel
theorem dX3_look_243 : decode cX3_look 243 = .ok (.iconst 2, 1) := by decide +kernel
theorem dX3_look_244 : decode cX3_look 244 = .ok (.lload 9, 2) := by decide +kernel
theorem dX3_look_246 : decode cX3_look 246 = .ok (.ldc2_w 322, 3) := by decide +kernel
theorem dX3_look_249 : decode cX3_look 249 = .ok (.lcmp, 1) := by decide +kernel
theorem dX3_look_250 : decode cX3_look 250 = .ok (.ifCond .le 9, 3) := by decide +kernel
theorem dX3_look_253 : decode cX3_look 253 = .ok (.ldc_w 324, 3) := by decide +kernel
theorem dX3_look_256 : decode cX3_look 256 = .ok (.goto 6, 3) := by decide +kernel
theorem dX3_look_259 : decode cX3_look 259 = .ok (.lload 9, 2) := by decide +kernel
theorem dX3_look_261 : decode cX3_look 261 = .ok (.l2i, 1) := by decide +kernel
theorem dX3_look_262 : decode cX3_look 262 = .ok (.iastore, 1) := by decide +kernel
theorem dX3_look_263 : decode cX3_look 263 = .ok (.aload_n 0, 1) := by decide +kernel
theorem dX3_look_264 : decode cX3_look 264 = .ok (.getfield 97, 3) := by decide +kernel
theorem dX3_look_267 : decode cX3_look 267 = .ok (.iconst 3, 1) := by decide +kernel
theorem dX3_look_268 : decode cX3_look 268 = .ok (.aload_n 0, 1) := by decide +kernel
theorem dX3_look_269 : decode cX3_look 269 = .ok (.getfield 22, 3) := by decide +kernel
theorem dX3_look_272 : decode cX3_look 272 = .ok (.iload 4, 2) := by decide +kernel
theorem dX3_look_274 : decode cX3_look 274 = .ok (.iaload, 1) := by decide +kernel
theorem dX3_look_275 : decode cX3_look 275 = .ok (.iastore, 1) := by decide +kernel
theorem dX3_look_276 : decode cX3_look 276 = .ok (.aload_n 0, 1) := by decide +kernel
theorem dX3_look_277 : decode cX3_look 277 = .ok (.getfield 97, 3) := by decide +kernel
theorem dX3_look_280 : decode cX3_look 280 = .ok (.iconst 4, 1) := by decide +kernel
theorem dX3_look_281 : decode cX3_look 281 = .ok (.aload_n 0, 1) := by decide +kernel
theorem dX3_look_282 : decode cX3_look 282 = .ok (.getfield 37, 3) := by decide +kernel
theorem dX3_look_285 : decode cX3_look 285 = .ok (.iload_n 3, 1) := by decide +kernel
theorem dX3_look_286 : decode cX3_look 286 = .ok (.iaload, 1) := by decide +kernel
theorem dX3_look_287 : decode cX3_look 287 = .ok (.sipush 365, 3) := by decide +kernel
theorem dX3_look_290 : decode cX3_look 290 = .ok (.idiv, 1) := by decide +kernel
theorem dX3_look_291 : decode cX3_look 291 = .ok (.iastore, 1) := by decide +kernel
theorem dX3_look_292 : decode cX3_look 292 = .ok (.aload_n 0, 1) := by decide +kernel
theorem dX3_look_293 : decode cX3_look 293 = .ok (.getfield 97, 3) := by decide +kernel
theorem dX3_look_296 : decode cX3_look 296 = .ok (.iconst 5, 1) := by decide +kernel
theorem dX3_look_297 : decode cX3_look 297 = .ok (.aload_n 0, 1) := by decide +kernel
theorem dX3_look_298 : decode cX3_look 298 = .ok (.getfield 37, 3) := by decide +kernel
theorem dX3_look_301 : decode cX3_look 301 = .ok (.iload_n 3, 1) := by decide +kernel
theorem dX3_look_302 : decode cX3_look 302 = .ok (.iaload, 1) := by decide +kernel
theorem dX3_look_303 : decode cX3_look 303 = .ok (.iload 6, 2) := by decide +kernel
theorem dX3_look_305 : decode cX3_look 305 = .ok (.isub, 1) := by decide +kernel
theorem dX3_look_306 : decode cX3_look 306 = .ok (.sipush 365, 3) := by decide +kernel
theorem dX3_look_309 : decode cX3_look 309 = .ok (.idiv, 1) := by decide +kernel
theorem dX3_look_310 : decode cX3_look 310 = .ok (.iastore, 1) := by decide +kernel
theorem dX3_look_311 : decode cX3_look 311 = .ok (.aload_n 0, 1) := by decide +kernel
theorem dX3_look_312 : decode cX3_look 312 = .ok (.getfield 97, 3) := by decide +kernel
theorem dX3_look_315 : decode cX3_look 315 = .ok (.bipush 6, 2) := by decide +kernel
theorem dX3_look_317 : decode cX3_look 317 = .ok (.iload 7, 2) := by decide +kernel
theorem dX3_look_319 : decode cX3_look 319 = .ok (.iastore, 1) := by decide +kernel
theorem dX3_look_320 : decode cX3_look 320 = .ok (.aload_n 0, 1) := by decide +kernel
theorem dX3_look_321 : decode cX3_look 321 = .ok (.getfield 97, 3) := by decide +kernel
theorem dX3_look_324 : decode cX3_look 324 = .ok (.bipush 7, 2) := by decide +kernel
theorem dX3_look_326 : decode cX3_look 326 = .ok (.iload 5, 2) := by decide +kernel
theorem dX3_look_328 : decode cX3_look 328 = .ok (.aload_n 0, 1) := by decide +kernel
theorem dX3_look_329 : decode cX3_look 329 = .ok (.getfield 34, 3) := by decide +kernel
theorem dX3_look_332 : decode cX3_look 332 = .ok (.iload_n 3, 1) := by decide +kernel
theorem dX3_look_333 : decode cX3_look 333 = .ok (.iaload, 1) := by decide +kernel
theorem dX3_look_334 : decode cX3_look 334 = .ok (.if_icmp .ne 7, 3) := by decide +kernel
theorem dX3_look_337 : decode cX3_look 337 = .ok (.iconst 1, 1) := by decide +kernel
theorem dX3_look_338 : decode cX3_look 338 = .ok (.goto 4, 3) := by decide +kernel
theorem dX3_look_341 : decode cX3_look 341 = .ok (.iconst 0, 1) := by decide +kernel
theorem dX3_look_342 : decode cX3_look 342 = .ok (.iastore, 1) := by decide +kernel
theorem dX3_look_343 : decode cX3_look 343 = .ok (.aload_n 0, 1) := by decide +kernel
theorem dX3_look_344 : decode cX3_look 344 = .ok (.getfield 97, 3) := by decide +kernel
theorem dX3_look_347 : decode cX3_look 347 = .ok (.bipush 8, 2) := by decide +kernel
theorem dX3_look_349 : decode cX3_look 349 = .ok (.aload_n 0, 1) := by decide +kernel
theorem dX3_look_350 : decode cX3_look 350 = .ok (.aload_n 0, 1) := by decide +kernel
theorem dX3_look_351 : decode cX3_look 351 = .ok (.getfield 31, 3) := by decide +kernel
theorem dX3_look_354 : decode cX3_look 354 = .ok (.iload_n 3, 1) := by decide +kernel
theorem dX3_look_355 : decode cX3_look 355 = .ok (.iaload, 1) := by decide +kernel
theorem dX3_look_356 : decode cX3_look 356 = .ok (.iload_n 2, 1) := by decide +kernel
theorem dX3_look_357 : decode cX3_look 357 = .ok (.invokevirtual 325, 3) := by decide +kernel
theorem dX3_look_360 : decode cX3_look 360 = .ok (.ifCond .eq 7, 3) := by decide +kernel
theorem dX3_look_363 : decode cX3_look 363 = .ok (.iconst 1, 1) := by decide +kernel
theorem dX3_look_364 : decode cX3_look 364 = .ok (.goto 4, 3) := by decide +kernel
theorem dX3_look_367 : decode cX3_look 367 = .ok (.iconst 0, 1) := by decide +kernel
theorem dX3_look_368 : decode cX3_look 368 = .ok (.iastore, 1) := by decide +kernel
theorem dX3_look_369 : decode cX3_look 369 = .ok (.iconst 1, 1) := by decide +kernel
theorem dX3_look_370 : decode cX3_look 370 = .ok (.ireturn, 1) := by decide +kernel
theorem dX3_isDead_0 : decode cX3_isDead 0 = .ok (.aload_n 0, 1) := by decide +kernel
theorem dX3_isDead_1 : decode cX3_isDead 1 = .ok (.getfield 16, 3) := by decide +kernel
theorem dX3_isDead_4 : decode cX3_isDead 4 = .ok (.iload_n 1, 1) := by decide +kernel
theorem dX3_isDead_5 : decode cX3_isDead 5 = .ok (.iaload, 1) := by decide +kernel
theorem dX3_isDead_6 : decode cX3_isDead 6 = .ok (.ifCond .lt 17, 3) := by decide +kernel
theorem dX3_isDead_9 : decode cX3_isDead 9 = .ok (.aload_n 0, 1) := by decide +kernel
theorem dX3_isDead_10 : decode cX3_isDead 10 = .ok (.getfield 16, 3) := by decide +kernel
theorem dX3_isDead_13 : decode cX3_isDead 13 = .ok (.iload_n 1, 1) := by decide +kernel
theorem dX3_isDead_14 : decode cX3_isDead 14 = .ok (.iaload, 1) := by decide +kernel
theorem dX3_isDead_15 : decode cX3_isDead 15 = .ok (.iload_n 2, 1) := by decide +kernel
theorem dX3_isDead_16 : decode cX3_isDead 16 = .ok (.if_icmp .gt 7, 3) := by decide +kernel
theorem dX3_isDead_19 : decode cX3_isDead 19 = .ok (.iconst 1, 1) := by decide +kernel
theorem dX3_isDead_20 : decode cX3_isDead 20 = .ok (.goto 4, 3) := by decide +kernel
theorem dX3_isDead_23 : decode cX3_isDead 23 = .ok (.iconst 0, 1) := by decide +kernel
theorem dX3_isDead_24 : decode cX3_isDead 24 = .ok (.ireturn, 1) := by decide +kernel
theorem dX3_lineFor_0 : decode cX3_lineFor 0 = .ok (.bipush 16, 2) := by decide +kernel
theorem dX3_lineFor_2 : decode cX3_lineFor 2 = .ok (.aload_n 0, 1) := by decide +kernel
theorem dX3_lineFor_3 : decode cX3_lineFor 3 = .ok (.getfield 236, 3) := by decide +kernel
theorem dX3_lineFor_6 : decode cX3_lineFor 6 = .ok (.imul, 1) := by decide +kernel
theorem dX3_lineFor_7 : decode cX3_lineFor 7 = .ok (.istore_n 1, 1) := by decide +kernel
theorem dX3_lineFor_8 : decode cX3_lineFor 8 = .ok (.iload_n 1, 1) := by decide +kernel
theorem dX3_lineFor_9 : decode cX3_lineFor 9 = .ok (.bipush 16, 2) := by decide +kernel
theorem dX3_lineFor_11 : decode cX3_lineFor 11 = .ok (.aload_n 0, 1) := by decide +kernel
theorem dX3_lineFor_12 : decode cX3_lineFor 12 = .ok (.getfield 236, 3) := by decide +kernel
theorem dX3_lineFor_15 : decode cX3_lineFor 15 = .ok (.imul, 1) := by decide +kernel
theorem dX3_lineFor_16 : decode cX3_lineFor 16 = .ok (.aload_n 0, 1) := by decide +kernel
theorem dX3_lineFor_17 : decode cX3_lineFor 17 = .ok (.getfield 70, 3) := by decide +kernel
theorem dX3_lineFor_20 : decode cX3_lineFor 20 = .ok (.aload_n 0, 1) := by decide +kernel
theorem dX3_lineFor_21 : decode cX3_lineFor 21 = .ok (.getfield 236, 3) := by decide +kernel
theorem dX3_lineFor_24 : decode cX3_lineFor 24 = .ok (.iaload, 1) := by decide +kernel
theorem dX3_lineFor_25 : decode cX3_lineFor 25 = .ok (.iadd, 1) := by decide +kernel
theorem dX3_lineFor_26 : decode cX3_lineFor 26 = .ok (.if_icmp .ge 19, 3) := by decide +kernel
theorem dX3_lineFor_29 : decode cX3_lineFor 29 = .ok (.aload_n 0, 1) := by decide +kernel
theorem dX3_lineFor_30 : decode cX3_lineFor 30 = .ok (.iload_n 1, 1) := by decide +kernel
theorem dX3_lineFor_31 : decode cX3_lineFor 31 = .ok (.invokevirtual 328, 3) := by decide +kernel
theorem dX3_lineFor_34 : decode cX3_lineFor 34 = .ok (.ifCond .eq 5, 3) := by decide +kernel
theorem dX3_lineFor_37 : decode cX3_lineFor 37 = .ok (.iload_n 1, 1) := by decide +kernel
theorem dX3_lineFor_38 : decode cX3_lineFor 38 = .ok (.ireturn, 1) := by decide +kernel
theorem dX3_lineFor_39 : decode cX3_lineFor 39 = .ok (.iinc 1 1, 3) := by decide +kernel
theorem dX3_lineFor_42 : decode cX3_lineFor 42 = .ok (.goto (-34), 3) := by decide +kernel
theorem dX3_lineFor_45 : decode cX3_lineFor 45 = .ok (.iconst (-1), 1) := by decide +kernel
theorem dX3_lineFor_46 : decode cX3_lineFor 46 = .ok (.ireturn, 1) := by decide +kernel
theorem dX3_holds_0 : decode cX3_holds 0 = .ok (.iconst 0, 1) := by decide +kernel
theorem dX3_holds_1 : decode cX3_holds 1 = .ok (.istore_n 2, 1) := by decide +kernel
theorem dX3_holds_2 : decode cX3_holds 2 = .ok (.sipush 600, 3) := by decide +kernel
theorem dX3_holds_5 : decode cX3_holds 5 = .ok (.aload_n 0, 1) := by decide +kernel
theorem dX3_holds_6 : decode cX3_holds 6 = .ok (.getfield 236, 3) := by decide +kernel
theorem dX3_holds_9 : decode cX3_holds 9 = .ok (.imul, 1) := by decide +kernel
theorem dX3_holds_10 : decode cX3_holds 10 = .ok (.aload_n 0, 1) := by decide +kernel
theorem dX3_holds_11 : decode cX3_holds 11 = .ok (.getfield 79, 3) := by decide +kernel
theorem dX3_holds_14 : decode cX3_holds 14 = .ok (.iload_n 1, 1) := by decide +kernel
theorem dX3_holds_15 : decode cX3_holds 15 = .ok (.iaload, 1) := by decide +kernel
theorem dX3_holds_16 : decode cX3_holds 16 = .ok (.iadd, 1) := by decide +kernel
theorem dX3_holds_17 : decode cX3_holds 17 = .ok (.istore_n 3, 1) := by decide +kernel
theorem dX3_holds_18 : decode cX3_holds 18 = .ok (.iload_n 3, 1) := by decide +kernel
theorem dX3_holds_19 : decode cX3_holds 19 = .ok (.sipush 600, 3) := by decide +kernel
theorem dX3_holds_22 : decode cX3_holds 22 = .ok (.aload_n 0, 1) := by decide +kernel
theorem dX3_holds_23 : decode cX3_holds 23 = .ok (.getfield 236, 3) := by decide +kernel
theorem dX3_holds_26 : decode cX3_holds 26 = .ok (.imul, 1) := by decide +kernel
theorem dX3_holds_27 : decode cX3_holds 27 = .ok (.aload_n 0, 1) := by decide +kernel
theorem dX3_holds_28 : decode cX3_holds 28 = .ok (.getfield 82, 3) := by decide +kernel
theorem dX3_holds_31 : decode cX3_holds 31 = .ok (.iload_n 1, 1) := by decide +kernel
theorem dX3_holds_32 : decode cX3_holds 32 = .ok (.iaload, 1) := by decide +kernel
theorem dX3_holds_33 : decode cX3_holds 33 = .ok (.iadd, 1) := by decide +kernel
theorem dX3_holds_34 : decode cX3_holds 34 = .ok (.if_icmp .ge 134, 3) := by decide +kernel
theorem dX3_holds_37 : decode cX3_holds 37 = .ok (.aload_n 0, 1) := by decide +kernel
theorem dX3_holds_38 : decode cX3_holds 38 = .ok (.getfield 85, 3) := by decide +kernel
theorem dX3_holds_41 : decode cX3_holds 41 = .ok (.iload_n 3, 1) := by decide +kernel
theorem dX3_holds_42 : decode cX3_holds 42 = .ok (.iaload, 1) := by decide +kernel
theorem dX3_holds_43 : decode cX3_holds 43 = .ok (.istore 4, 2) := by decide +kernel
theorem dX3_holds_45 : decode cX3_holds 45 = .ok (.iload 4, 2) := by decide +kernel
theorem dX3_holds_47 : decode cX3_holds 47 = .ok (.bipush 126, 2) := by decide +kernel
theorem dX3_holds_49 : decode cX3_holds 49 = .ok (.if_icmp .ne 30, 3) := by decide +kernel
theorem dX3_holds_52 : decode cX3_holds 52 = .ok (.aload_n 0, 1) := by decide +kernel
theorem dX3_holds_53 : decode cX3_holds 53 = .ok (.getfield 94, 3) := by decide +kernel
theorem dX3_holds_56 : decode cX3_holds 56 = .ok (.iload_n 2, 1) := by decide +kernel
theorem dX3_holds_57 : decode cX3_holds 57 = .ok (.iconst 1, 1) := by decide +kernel
theorem dX3_holds_58 : decode cX3_holds 58 = .ok (.isub, 1) := by decide +kernel
theorem dX3_holds_59 : decode cX3_holds 59 = .ok (.aload_n 0, 1) := by decide +kernel
theorem dX3_holds_60 : decode cX3_holds 60 = .ok (.getfield 94, 3) := by decide +kernel
theorem dX3_holds_63 : decode cX3_holds 63 = .ok (.iload_n 2, 1) := by decide +kernel
theorem dX3_holds_64 : decode cX3_holds 64 = .ok (.iconst 1, 1) := by decide +kernel
theorem dX3_holds_65 : decode cX3_holds 65 = .ok (.isub, 1) := by decide +kernel
theorem dX3_holds_66 : decode cX3_holds 66 = .ok (.iaload, 1) := by decide +kernel
theorem dX3_holds_67 : decode cX3_holds 67 = .ok (.ifCond .ne 7, 3) := by decide +kernel
theorem dX3_holds_70 : decode cX3_holds 70 = .ok (.iconst 1, 1) := by decide +kernel
theorem dX3_holds_71 : decode cX3_holds 71 = .ok (.goto 4, 3) := by decide +kernel
theorem dX3_holds_74 : decode cX3_holds 74 = .ok (.iconst 0, 1) := by decide +kernel
theorem dX3_holds_75 : decode cX3_holds 75 = .ok (.iastore, 1) := by decide +kernel
theorem dX3_holds_76 : decode cX3_holds 76 = .ok (.goto 86, 3) := by decide +kernel
theorem dX3_holds_79 : decode cX3_holds 79 = .ok (.iload 4, 2) := by decide +kernel
theorem dX3_holds_81 : decode cX3_holds 81 = .ok (.bipush 110, 2) := by decide +kernel
theorem dX3_holds_83 : decode cX3_holds 83 = .ok (.if_icmp .eq 10, 3) := by decide +kernel
theorem dX3_holds_86 : decode cX3_holds 86 = .ok (.iload 4, 2) := by decide +kernel
theorem dX3_holds_88 : decode cX3_holds 88 = .ok (.bipush 116, 2) := by decide +kernel
theorem dX3_holds_90 : decode cX3_holds 90 = .ok (.if_icmp .ne 42, 3) := by decide +kernel
theorem dX3_holds_93 : decode cX3_holds 93 = .ok (.aload_n 0, 1) := by decide +kernel
theorem dX3_holds_94 : decode cX3_holds 94 = .ok (.getfield 94, 3) := by decide +kernel
theorem dX3_holds_97 : decode cX3_holds 97 = .ok (.iload_n 2, 1) := by decide +kernel
theorem dX3_holds_98 : decode cX3_holds 98 = .ok (.iload 4, 2) := by decide +kernel
theorem dX3_holds_100 : decode cX3_holds 100 = .ok (.bipush 110, 2) := by decide +kernel
theorem dX3_holds_102 : decode cX3_holds 102 = .ok (.if_icmp .ne 12, 3) := by decide +kernel
theorem dX3_holds_105 : decode cX3_holds 105 = .ok (.aload_n 0, 1) := by decide +kernel
theorem dX3_holds_106 : decode cX3_holds 106 = .ok (.getfield 88, 3) := by decide +kernel
theorem dX3_holds_109 : decode cX3_holds 109 = .ok (.iload_n 3, 1) := by decide +kernel
theorem dX3_holds_110 : decode cX3_holds 110 = .ok (.iaload, 1) := by decide +kernel
theorem dX3_holds_111 : decode cX3_holds 111 = .ok (.goto 14, 3) := by decide +kernel
theorem dX3_holds_114 : decode cX3_holds 114 = .ok (.aload_n 0, 1) := by decide +kernel
theorem dX3_holds_115 : decode cX3_holds 115 = .ok (.getfield 97, 3) := by decide +kernel
theorem dX3_holds_118 : decode cX3_holds 118 = .ok (.aload_n 0, 1) := by decide +kernel
theorem dX3_holds_119 : decode cX3_holds 119 = .ok (.getfield 88, 3) := by decide +kernel
theorem dX3_holds_122 : decode cX3_holds 122 = .ok (.iload_n 3, 1) := by decide +kernel
theorem dX3_holds_123 : decode cX3_holds 123 = .ok (.iaload, 1) := by decide +kernel
theorem dX3_holds_124 : decode cX3_holds 124 = .ok (.iaload, 1) := by decide +kernel
theorem dX3_holds_125 : decode cX3_holds 125 = .ok (.iastore, 1) := by decide +kernel
theorem dX3_holds_126 : decode cX3_holds 126 = .ok (.iinc 2 1, 3) := by decide +kernel
theorem dX3_holds_129 : decode cX3_holds 129 = .ok (.goto 33, 3) := by decide +kernel
theorem dX3_holds_132 : decode cX3_holds 132 = .ok (.iinc 2 (-1), 3) := by decide +kernel
theorem dX3_holds_135 : decode cX3_holds 135 = .ok (.aload_n 0, 1) := by decide +kernel
theorem dX3_holds_136 : decode cX3_holds 136 = .ok (.getfield 94, 3) := by decide +kernel
theorem dX3_holds_139 : decode cX3_holds 139 = .ok (.iload_n 2, 1) := by decide +kernel
theorem dX3_holds_140 : decode cX3_holds 140 = .ok (.iconst 1, 1) := by decide +kernel
theorem dX3_holds_141 : decode cX3_holds 141 = .ok (.isub, 1) := by decide +kernel
theorem dX3_holds_142 : decode cX3_holds 142 = .ok (.iload 4, 2) := by decide +kernel
theorem dX3_holds_144 : decode cX3_holds 144 = .ok (.aload_n 0, 1) := by decide +kernel
theorem dX3_holds_145 : decode cX3_holds 145 = .ok (.getfield 94, 3) := by decide +kernel
theorem dX3_holds_148 : decode cX3_holds 148 = .ok (.iload_n 2, 1) := by decide +kernel
theorem dX3_holds_149 : decode cX3_holds 149 = .ok (.iconst 1, 1) := by decide +kernel
theorem dX3_holds_150 : decode cX3_holds 150 = .ok (.isub, 1) := by decide +kernel
theorem dX3_holds_151 : decode cX3_holds 151 = .ok (.iaload, 1) := by decide +kernel
theorem dX3_holds_152 : decode cX3_holds 152 = .ok (.aload_n 0, 1) := by decide +kernel
theorem dX3_holds_153 : decode cX3_holds 153 = .ok (.getfield 94, 3) := by decide +kernel
theorem dX3_holds_156 : decode cX3_holds 156 = .ok (.iload_n 2, 1) := by decide +kernel
theorem dX3_holds_157 : decode cX3_holds 157 = .ok (.iaload, 1) := by decide +kernel
theorem dX3_holds_158 : decode cX3_holds 158 = .ok (.invokestatic 312, 3) := by decide +kernel
theorem dX3_holds_161 : decode cX3_holds 161 = .ok (.iastore, 1) := by decide +kernel
theorem dX3_holds_162 : decode cX3_holds 162 = .ok (.iinc 3 1, 3) := by decide +kernel
theorem dX3_holds_165 : decode cX3_holds 165 = .ok (.goto (-147), 3) := by decide +kernel
theorem dX3_holds_168 : decode cX3_holds 168 = .ok (.aload_n 0, 1) := by decide +kernel
theorem dX3_holds_169 : decode cX3_holds 169 = .ok (.getfield 94, 3) := by decide +kernel
theorem dX3_holds_172 : decode cX3_holds 172 = .ok (.iconst 0, 1) := by decide +kernel
theorem dX3_holds_173 : decode cX3_holds 173 = .ok (.iaload, 1) := by decide +kernel
theorem dX3_holds_174 : decode cX3_holds 174 = .ok (.ifCond .eq 7, 3) := by decide +kernel
theorem dX3_holds_177 : decode cX3_holds 177 = .ok (.iconst 1, 1) := by decide +kernel
theorem dX3_holds_178 : decode cX3_holds 178 = .ok (.goto 4, 3) := by decide +kernel
theorem dX3_holds_181 : decode cX3_holds 181 = .ok (.iconst 0, 1) := by decide +kernel
theorem dX3_holds_182 : decode cX3_holds 182 = .ok (.ireturn, 1) := by decide +kernel
theorem dX3_two_0 : decode cX3_two 0 = .ok (.iload_n 0, 1) := by decide +kernel
theorem dX3_two_1 : decode cX3_two 1 = .ok (.lookupswitch 114 #[(38, 100), (43, 59), (45, 63), (60, 67), (61, 89), (62, 78)], 59) := by decide +kernel
theorem dX3_two_60 : decode cX3_two 60 = .ok (.iload_n 1, 1) := by decide +kernel
theorem dX3_two_61 : decode cX3_two 61 = .ok (.iload_n 2, 1) := by decide +kernel
theorem dX3_two_62 : decode cX3_two 62 = .ok (.iadd, 1) := by decide +kernel
theorem dX3_two_63 : decode cX3_two 63 = .ok (.ireturn, 1) := by decide +kernel
theorem dX3_two_64 : decode cX3_two 64 = .ok (.iload_n 1, 1) := by decide +kernel
theorem dX3_two_65 : decode cX3_two 65 = .ok (.iload_n 2, 1) := by decide +kernel
theorem dX3_two_66 : decode cX3_two 66 = .ok (.isub, 1) := by decide +kernel
theorem dX3_two_67 : decode cX3_two 67 = .ok (.ireturn, 1) := by decide +kernel
theorem dX3_two_68 : decode cX3_two 68 = .ok (.iload_n 1, 1) := by decide +kernel
theorem dX3_two_69 : decode cX3_two 69 = .ok (.iload_n 2, 1) := by decide +kernel
theorem dX3_two_70 : decode cX3_two 70 = .ok (.if_icmp .ge 7, 3) := by decide +kernel
theorem dX3_two_73 : decode cX3_two 73 = .ok (.iconst 1, 1) := by decide +kernel
theorem dX3_two_74 : decode cX3_two 74 = .ok (.goto 4, 3) := by decide +kernel
theorem dX3_two_77 : decode cX3_two 77 = .ok (.iconst 0, 1) := by decide +kernel
theorem dX3_two_78 : decode cX3_two 78 = .ok (.ireturn, 1) := by decide +kernel
theorem dX3_two_79 : decode cX3_two 79 = .ok (.iload_n 1, 1) := by decide +kernel
theorem dX3_two_80 : decode cX3_two 80 = .ok (.iload_n 2, 1) := by decide +kernel
theorem dX3_two_81 : decode cX3_two 81 = .ok (.if_icmp .le 7, 3) := by decide +kernel
theorem dX3_two_84 : decode cX3_two 84 = .ok (.iconst 1, 1) := by decide +kernel
theorem dX3_two_85 : decode cX3_two 85 = .ok (.goto 4, 3) := by decide +kernel
theorem dX3_two_88 : decode cX3_two 88 = .ok (.iconst 0, 1) := by decide +kernel
theorem dX3_two_89 : decode cX3_two 89 = .ok (.ireturn, 1) := by decide +kernel
theorem dX3_two_90 : decode cX3_two 90 = .ok (.iload_n 1, 1) := by decide +kernel
theorem dX3_two_91 : decode cX3_two 91 = .ok (.iload_n 2, 1) := by decide +kernel
theorem dX3_two_92 : decode cX3_two 92 = .ok (.if_icmp .ne 7, 3) := by decide +kernel
theorem dX3_two_95 : decode cX3_two 95 = .ok (.iconst 1, 1) := by decide +kernel
theorem dX3_two_96 : decode cX3_two 96 = .ok (.goto 4, 3) := by decide +kernel
theorem dX3_two_99 : decode cX3_two 99 = .ok (.iconst 0, 1) := by decide +kernel
theorem dX3_two_100 : decode cX3_two 100 = .ok (.ireturn, 1) := by decide +kernel
theorem dX3_two_101 : decode cX3_two 101 = .ok (.iload_n 1, 1) := by decide +kernel
theorem dX3_two_102 : decode cX3_two 102 = .ok (.ifCond .eq 11, 3) := by decide +kernel
theorem dX3_two_105 : decode cX3_two 105 = .ok (.iload_n 2, 1) := by decide +kernel
theorem dX3_two_106 : decode cX3_two 106 = .ok (.ifCond .eq 7, 3) := by decide +kernel
theorem dX3_two_109 : decode cX3_two 109 = .ok (.iconst 1, 1) := by decide +kernel
theorem dX3_two_110 : decode cX3_two 110 = .ok (.goto 4, 3) := by decide +kernel
theorem dX3_two_113 : decode cX3_two 113 = .ok (.iconst 0, 1) := by decide +kernel
theorem dX3_two_114 : decode cX3_two 114 = .ok (.ireturn, 1) := by decide +kernel
theorem dX3_two_115 : decode cX3_two 115 = .ok (.iload_n 1, 1) := by decide +kernel
theorem dX3_two_116 : decode cX3_two 116 = .ok (.ifCond .ne 7, 3) := by decide +kernel
theorem dX3_two_119 : decode cX3_two 119 = .ok (.iload_n 2, 1) := by decide +kernel
theorem dX3_two_120 : decode cX3_two 120 = .ok (.ifCond .eq 7, 3) := by decide +kernel
theorem dX3_two_123 : decode cX3_two 123 = .ok (.iconst 1, 1) := by decide +kernel
theorem dX3_two_124 : decode cX3_two 124 = .ok (.goto 4, 3) := by decide +kernel
theorem dX3_two_127 : decode cX3_two 127 = .ok (.iconst 0, 1) := by decide +kernel
theorem dX3_two_128 : decode cX3_two 128 = .ok (.ireturn, 1) := by decide +kernel
theorem dX3_sum_0 : decode cX3_sum 0 = .ok (.aload_n 0, 1) := by decide +kernel
theorem dX3_sum_1 : decode cX3_sum 1 = .ok (.iload_n 1, 1) := by decide +kernel
theorem dX3_sum_2 : decode cX3_sum 2 = .ok (.iload_n 2, 1) := by decide +kernel
theorem dX3_sum_3 : decode cX3_sum 3 = .ok (.invokevirtual 331, 3) := by decide +kernel
theorem dX3_sum_6 : decode cX3_sum 6 = .ok (.ifCond .ne 5, 3) := by decide +kernel
theorem dX3_sum_9 : decode cX3_sum 9 = .ok (.iconst (-1), 1) := by decide +kernel
theorem dX3_sum_10 : decode cX3_sum 10 = .ok (.ireturn, 1) := by decide +kernel
theorem dX3_sum_11 : decode cX3_sum 11 = .ok (.aload_n 0, 1) := by decide +kernel
theorem dX3_sum_12 : decode cX3_sum 12 = .ok (.invokevirtual 334, 3) := by decide +kernel
theorem dX3_sum_15 : decode cX3_sum 15 = .ok (.istore_n 3, 1) := by decide +kernel
theorem dX3_sum_16 : decode cX3_sum 16 = .ok (.iload_n 3, 1) := by decide +kernel
theorem dX3_sum_17 : decode cX3_sum 17 = .ok (.ifCond .ge 7, 3) := by decide +kernel
theorem dX3_sum_20 : decode cX3_sum 20 = .ok (.iconst 0, 1) := by decide +kernel
theorem dX3_sum_21 : decode cX3_sum 21 = .ok (.goto 23, 3) := by decide +kernel
theorem dX3_sum_24 : decode cX3_sum 24 = .ok (.aload_n 0, 1) := by decide +kernel
theorem dX3_sum_25 : decode cX3_sum 25 = .ok (.getfield 97, 3) := by decide +kernel
theorem dX3_sum_28 : decode cX3_sum 28 = .ok (.iconst 3, 1) := by decide +kernel
theorem dX3_sum_29 : decode cX3_sum 29 = .ok (.iaload, 1) := by decide +kernel
theorem dX3_sum_30 : decode cX3_sum 30 = .ok (.i2l, 1) := by decide +kernel
theorem dX3_sum_31 : decode cX3_sum 31 = .ok (.aload_n 0, 1) := by decide +kernel
theorem dX3_sum_32 : decode cX3_sum 32 = .ok (.getfield 76, 3) := by decide +kernel
theorem dX3_sum_35 : decode cX3_sum 35 = .ok (.iload_n 3, 1) := by decide +kernel
theorem dX3_sum_36 : decode cX3_sum 36 = .ok (.iaload, 1) := by decide +kernel
theorem dX3_sum_37 : decode cX3_sum 37 = .ok (.i2l, 1) := by decide +kernel
theorem dX3_sum_38 : decode cX3_sum 38 = .ok (.lmul, 1) := by decide +kernel
theorem dX3_sum_39 : decode cX3_sum 39 = .ok (.ldc2_w 337, 3) := by decide +kernel
theorem dX3_sum_42 : decode cX3_sum 42 = .ok (.ldiv, 1) := by decide +kernel
theorem dX3_sum_43 : decode cX3_sum 43 = .ok (.l2i, 1) := by decide +kernel
theorem dX3_sum_44 : decode cX3_sum 44 = .ok (.ireturn, 1) := by decide +kernel
theorem dX3_term_0 : decode cX3_term 0 = .ok (.iload_n 2, 1) := by decide +kernel
theorem dX3_term_1 : decode cX3_term 1 = .ok (.ifCond .lt 18, 3) := by decide +kernel
theorem dX3_term_4 : decode cX3_term 4 = .ok (.iload_n 2, 1) := by decide +kernel
theorem dX3_term_5 : decode cX3_term 5 = .ok (.bipush 8, 2) := by decide +kernel
theorem dX3_term_7 : decode cX3_term 7 = .ok (.if_icmp .gt 12, 3) := by decide +kernel
theorem dX3_term_10 : decode cX3_term 10 = .ok (.aload_n 0, 1) := by decide +kernel
theorem dX3_term_11 : decode cX3_term 11 = .ok (.iload_n 1, 1) := by decide +kernel
theorem dX3_term_12 : decode cX3_term 12 = .ok (.iload_n 3, 1) := by decide +kernel
theorem dX3_term_13 : decode cX3_term 13 = .ok (.invokevirtual 331, 3) := by decide +kernel
theorem dX3_term_16 : decode cX3_term 16 = .ok (.ifCond .ne 7, 3) := by decide +kernel
theorem dX3_term_19 : decode cX3_term 19 = .ok (.iconst (-1), 1) := by decide +kernel
theorem dX3_term_20 : decode cX3_term 20 = .ok (.goto 9, 3) := by decide +kernel
theorem dX3_term_23 : decode cX3_term 23 = .ok (.aload_n 0, 1) := by decide +kernel
theorem dX3_term_24 : decode cX3_term 24 = .ok (.getfield 97, 3) := by decide +kernel
theorem dX3_term_27 : decode cX3_term 27 = .ok (.iload_n 2, 1) := by decide +kernel
theorem dX3_term_28 : decode cX3_term 28 = .ok (.iaload, 1) := by decide +kernel
theorem dX3_term_29 : decode cX3_term 29 = .ok (.ireturn, 1) := by decide +kernel
theorem dX3_share_0 : decode cX3_share 0 = .ok (.aload_n 0, 1) := by decide +kernel
theorem dX3_share_1 : decode cX3_share 1 = .ok (.iload_n 1, 1) := by decide +kernel
theorem dX3_share_2 : decode cX3_share 2 = .ok (.invokevirtual 127, 3) := by decide +kernel
theorem dX3_share_5 : decode cX3_share 5 = .ok (.ifCond .eq 29, 3) := by decide +kernel
theorem dX3_share_8 : decode cX3_share 8 = .ok (.aload_n 0, 1) := by decide +kernel
theorem dX3_share_9 : decode cX3_share 9 = .ok (.iload_n 2, 1) := by decide +kernel
theorem dX3_share_10 : decode cX3_share 10 = .ok (.invokevirtual 127, 3) := by decide +kernel
theorem dX3_share_13 : decode cX3_share 13 = .ok (.ifCond .eq 21, 3) := by decide +kernel
theorem dX3_share_16 : decode cX3_share 16 = .ok (.iload_n 3, 1) := by decide +kernel
theorem dX3_share_17 : decode cX3_share 17 = .ok (.invokestatic 131, 3) := by decide +kernel
theorem dX3_share_20 : decode cX3_share 20 = .ok (.ifCond .eq 14, 3) := by decide +kernel
theorem dX3_share_23 : decode cX3_share 23 = .ok (.iload 4, 2) := by decide +kernel
theorem dX3_share_25 : decode cX3_share 25 = .ok (.ifCond .lt 9, 3) := by decide +kernel
theorem dX3_share_28 : decode cX3_share 28 = .ok (.iload 4, 2) := by decide +kernel
theorem dX3_share_30 : decode cX3_share 30 = .ok (.iconst 1, 1) := by decide +kernel
theorem dX3_share_31 : decode cX3_share 31 = .ok (.if_icmp .le 7, 3) := by decide +kernel
theorem dX3_share_34 : decode cX3_share 34 = .ok (.ldc2_w 144, 3) := by decide +kernel
theorem dX3_share_37 : decode cX3_share 37 = .ok (.lreturn, 1) := by decide +kernel
theorem dX3_share_38 : decode cX3_share 38 = .ok (.aload_n 0, 1) := by decide +kernel
theorem dX3_share_39 : decode cX3_share 39 = .ok (.iload_n 1, 1) := by decide +kernel
theorem dX3_share_40 : decode cX3_share 40 = .ok (.iload_n 3, 1) := by decide +kernel
theorem dX3_share_41 : decode cX3_share 41 = .ok (.invokevirtual 350, 3) := by decide +kernel
theorem dX3_share_44 : decode cX3_share 44 = .ok (.iload 4, 2) := by decide +kernel
theorem dX3_share_46 : decode cX3_share 46 = .ok (.ifCond .ne 12, 3) := by decide +kernel
theorem dX3_share_49 : decode cX3_share 49 = .ok (.aload_n 0, 1) := by decide +kernel
theorem dX3_share_50 : decode cX3_share 50 = .ok (.getfield 103, 3) := by decide +kernel
theorem dX3_share_53 : decode cX3_share 53 = .ok (.iload_n 2, 1) := by decide +kernel
theorem dX3_share_54 : decode cX3_share 54 = .ok (.laload, 1) := by decide +kernel
theorem dX3_share_55 : decode cX3_share 55 = .ok (.goto 9, 3) := by decide +kernel
theorem dX3_share_58 : decode cX3_share 58 = .ok (.aload_n 0, 1) := by decide +kernel
theorem dX3_share_59 : decode cX3_share 59 = .ok (.getfield 107, 3) := by decide +kernel
theorem dX3_share_62 : decode cX3_share 62 = .ok (.iload_n 2, 1) := by decide +kernel
theorem dX3_share_63 : decode cX3_share 63 = .ok (.laload, 1) := by decide +kernel
theorem dX3_share_64 : decode cX3_share 64 = .ok (.lreturn, 1) := by decide +kernel
theorem dX3_handDown_0 : decode cX3_handDown 0 = .ok (.aload_n 0, 1) := by decide +kernel
theorem dX3_handDown_1 : decode cX3_handDown 1 = .ok (.getfield 119, 3) := by decide +kernel
theorem dX3_handDown_4 : decode cX3_handDown 4 = .ok (.iconst 1, 1) := by decide +kernel
theorem dX3_handDown_5 : decode cX3_handDown 5 = .ok (.isub, 1) := by decide +kernel
theorem dX3_handDown_6 : decode cX3_handDown 6 = .ok (.istore_n 3, 1) := by decide +kernel
theorem dX3_handDown_7 : decode cX3_handDown 7 = .ok (.iload_n 3, 1) := by decide +kernel
theorem dX3_handDown_8 : decode cX3_handDown 8 = .ok (.ifCond .lt 103, 3) := by decide +kernel
theorem dX3_handDown_11 : decode cX3_handDown 11 = .ok (.aload_n 0, 1) := by decide +kernel
theorem dX3_handDown_12 : decode cX3_handDown 12 = .ok (.getfield 110, 3) := by decide +kernel
theorem dX3_handDown_15 : decode cX3_handDown 15 = .ok (.iload_n 3, 1) := by decide +kernel
theorem dX3_handDown_16 : decode cX3_handDown 16 = .ok (.aload_n 0, 1) := by decide +kernel
theorem dX3_handDown_17 : decode cX3_handDown 17 = .ok (.iload_n 3, 1) := by decide +kernel
theorem dX3_handDown_18 : decode cX3_handDown 18 = .ok (.iload_n 2, 1) := by decide +kernel
theorem dX3_handDown_19 : decode cX3_handDown 19 = .ok (.invokevirtual 325, 3) := by decide +kernel
theorem dX3_handDown_22 : decode cX3_handDown 22 = .ok (.ifCond .ne 7, 3) := by decide +kernel
theorem dX3_handDown_25 : decode cX3_handDown 25 = .ok (.iconst 1, 1) := by decide +kernel
theorem dX3_handDown_26 : decode cX3_handDown 26 = .ok (.goto 4, 3) := by decide +kernel
theorem dX3_handDown_29 : decode cX3_handDown 29 = .ok (.iconst 0, 1) := by decide +kernel
theorem dX3_handDown_30 : decode cX3_handDown 30 = .ok (.bastore, 1) := by decide +kernel
theorem dX3_handDown_31 : decode cX3_handDown 31 = .ok (.iload_n 3, 1) := by decide +kernel
theorem dX3_handDown_32 : decode cX3_handDown 32 = .ok (.iconst 1, 1) := by decide +kernel
theorem dX3_handDown_33 : decode cX3_handDown 33 = .ok (.iadd, 1) := by decide +kernel
theorem dX3_handDown_34 : decode cX3_handDown 34 = .ok (.istore 4, 2) := by decide +kernel
theorem dX3_handDown_36 : decode cX3_handDown 36 = .ok (.iload 4, 2) := by decide +kernel
theorem dX3_handDown_38 : decode cX3_handDown 38 = .ok (.aload_n 0, 1) := by decide +kernel
theorem dX3_handDown_39 : decode cX3_handDown 39 = .ok (.getfield 119, 3) := by decide +kernel
theorem dX3_handDown_42 : decode cX3_handDown 42 = .ok (.if_icmp .ge 49, 3) := by decide +kernel
theorem dX3_handDown_45 : decode cX3_handDown 45 = .ok (.aload_n 0, 1) := by decide +kernel
theorem dX3_handDown_46 : decode cX3_handDown 46 = .ok (.getfield 110, 3) := by decide +kernel
theorem dX3_handDown_49 : decode cX3_handDown 49 = .ok (.iload_n 3, 1) := by decide +kernel
theorem dX3_handDown_50 : decode cX3_handDown 50 = .ok (.aload_n 0, 1) := by decide +kernel
theorem dX3_handDown_51 : decode cX3_handDown 51 = .ok (.getfield 110, 3) := by decide +kernel
theorem dX3_handDown_54 : decode cX3_handDown 54 = .ok (.iload_n 3, 1) := by decide +kernel
theorem dX3_handDown_55 : decode cX3_handDown 55 = .ok (.baload, 1) := by decide +kernel
theorem dX3_handDown_56 : decode cX3_handDown 56 = .ok (.ifCond .ne 23, 3) := by decide +kernel
theorem dX3_handDown_59 : decode cX3_handDown 59 = .ok (.aload_n 0, 1) := by decide +kernel
theorem dX3_handDown_60 : decode cX3_handDown 60 = .ok (.iload 4, 2) := by decide +kernel
theorem dX3_handDown_62 : decode cX3_handDown 62 = .ok (.iload_n 3, 1) := by decide +kernel
theorem dX3_handDown_63 : decode cX3_handDown 63 = .ok (.invokevirtual 343, 3) := by decide +kernel
theorem dX3_handDown_66 : decode cX3_handDown 66 = .ok (.ifCond .eq 17, 3) := by decide +kernel
theorem dX3_handDown_69 : decode cX3_handDown 69 = .ok (.aload_n 0, 1) := by decide +kernel
theorem dX3_handDown_70 : decode cX3_handDown 70 = .ok (.getfield 110, 3) := by decide +kernel
theorem dX3_handDown_73 : decode cX3_handDown 73 = .ok (.iload 4, 2) := by decide +kernel
theorem dX3_handDown_75 : decode cX3_handDown 75 = .ok (.baload, 1) := by decide +kernel
theorem dX3_handDown_76 : decode cX3_handDown 76 = .ok (.ifCond .eq 7, 3) := by decide +kernel
theorem dX3_handDown_79 : decode cX3_handDown 79 = .ok (.iconst 1, 1) := by decide +kernel
theorem dX3_handDown_80 : decode cX3_handDown 80 = .ok (.goto 4, 3) := by decide +kernel
theorem dX3_handDown_83 : decode cX3_handDown 83 = .ok (.iconst 0, 1) := by decide +kernel
theorem dX3_handDown_84 : decode cX3_handDown 84 = .ok (.bastore, 1) := by decide +kernel
theorem dX3_handDown_85 : decode cX3_handDown 85 = .ok (.iinc 4 1, 3) := by decide +kernel
theorem dX3_handDown_88 : decode cX3_handDown 88 = .ok (.goto (-52), 3) := by decide +kernel
theorem dX3_handDown_91 : decode cX3_handDown 91 = .ok (.aload_n 0, 1) := by decide +kernel
theorem dX3_handDown_92 : decode cX3_handDown 92 = .ok (.getfield 103, 3) := by decide +kernel
theorem dX3_handDown_95 : decode cX3_handDown 95 = .ok (.iload_n 3, 1) := by decide +kernel
theorem dX3_handDown_96 : decode cX3_handDown 96 = .ok (.lconst 0, 1) := by decide +kernel
theorem dX3_handDown_97 : decode cX3_handDown 97 = .ok (.lastore, 1) := by decide +kernel
theorem dX3_handDown_98 : decode cX3_handDown 98 = .ok (.aload_n 0, 1) := by decide +kernel
theorem dX3_handDown_99 : decode cX3_handDown 99 = .ok (.getfield 107, 3) := by decide +kernel
theorem dX3_handDown_102 : decode cX3_handDown 102 = .ok (.iload_n 3, 1) := by decide +kernel
theorem dX3_handDown_103 : decode cX3_handDown 103 = .ok (.lconst 1, 1) := by decide +kernel
theorem dX3_handDown_104 : decode cX3_handDown 104 = .ok (.lastore, 1) := by decide +kernel
theorem dX3_handDown_105 : decode cX3_handDown 105 = .ok (.iinc 3 (-1), 3) := by decide +kernel
theorem dX3_handDown_108 : decode cX3_handDown 108 = .ok (.goto (-101), 3) := by decide +kernel
theorem dX3_handDown_111 : decode cX3_handDown 111 = .ok (.aload_n 0, 1) := by decide +kernel
theorem dX3_handDown_112 : decode cX3_handDown 112 = .ok (.getfield 103, 3) := by decide +kernel
theorem dX3_handDown_115 : decode cX3_handDown 115 = .ok (.iload_n 1, 1) := by decide +kernel
theorem dX3_handDown_116 : decode cX3_handDown 116 = .ok (.lconst 1, 1) := by decide +kernel
theorem dX3_handDown_117 : decode cX3_handDown 117 = .ok (.lastore, 1) := by decide +kernel
theorem dX3_handDown_118 : decode cX3_handDown 118 = .ok (.iload_n 1, 1) := by decide +kernel
theorem dX3_handDown_119 : decode cX3_handDown 119 = .ok (.istore_n 3, 1) := by decide +kernel
theorem dX3_handDown_120 : decode cX3_handDown 120 = .ok (.iload_n 3, 1) := by decide +kernel
theorem dX3_handDown_121 : decode cX3_handDown 121 = .ok (.aload_n 0, 1) := by decide +kernel
theorem dX3_handDown_122 : decode cX3_handDown 122 = .ok (.getfield 119, 3) := by decide +kernel
theorem dX3_handDown_125 : decode cX3_handDown 125 = .ok (.if_icmp .ge 161, 3) := by decide +kernel
theorem dX3_handDown_128 : decode cX3_handDown 128 = .ok (.aload_n 0, 1) := by decide +kernel
theorem dX3_handDown_129 : decode cX3_handDown 129 = .ok (.getfield 103, 3) := by decide +kernel
theorem dX3_handDown_132 : decode cX3_handDown 132 = .ok (.iload_n 3, 1) := by decide +kernel
theorem dX3_handDown_133 : decode cX3_handDown 133 = .ok (.laload, 1) := by decide +kernel
theorem dX3_handDown_134 : decode cX3_handDown 134 = .ok (.lconst 0, 1) := by decide +kernel
theorem dX3_handDown_135 : decode cX3_handDown 135 = .ok (.lcmp, 1) := by decide +kernel
theorem dX3_handDown_136 : decode cX3_handDown 136 = .ok (.ifCond .eq 144, 3) := by decide +kernel
theorem dX3_handDown_139 : decode cX3_handDown 139 = .ok (.aload_n 0, 1) := by decide +kernel
theorem dX3_handDown_140 : decode cX3_handDown 140 = .ok (.iload_n 3, 1) := by decide +kernel
theorem dX3_handDown_141 : decode cX3_handDown 141 = .ok (.iload_n 2, 1) := by decide +kernel
theorem dX3_handDown_142 : decode cX3_handDown 142 = .ok (.invokevirtual 325, 3) := by decide +kernel
theorem dX3_handDown_145 : decode cX3_handDown 145 = .ok (.ifCond .ne 6, 3) := by decide +kernel
theorem dX3_handDown_148 : decode cX3_handDown 148 = .ok (.goto 132, 3) := by decide +kernel
theorem dX3_handDown_151 : decode cX3_handDown 151 = .ok (.iconst 0, 1) := by decide +kernel
theorem dX3_handDown_152 : decode cX3_handDown 152 = .ok (.istore 4, 2) := by decide +kernel
theorem dX3_handDown_154 : decode cX3_handDown 154 = .ok (.iload_n 3, 1) := by decide +kernel
theorem dX3_handDown_155 : decode cX3_handDown 155 = .ok (.iconst 1, 1) := by decide +kernel
theorem dX3_handDown_156 : decode cX3_handDown 156 = .ok (.iadd, 1) := by decide +kernel
theorem dX3_handDown_157 : decode cX3_handDown 157 = .ok (.istore 5, 2) := by decide +kernel
theorem dX3_handDown_159 : decode cX3_handDown 159 = .ok (.iload 5, 2) := by decide +kernel
theorem dX3_handDown_161 : decode cX3_handDown 161 = .ok (.aload_n 0, 1) := by decide +kernel
theorem dX3_handDown_162 : decode cX3_handDown 162 = .ok (.getfield 119, 3) := by decide +kernel
theorem dX3_handDown_165 : decode cX3_handDown 165 = .ok (.if_icmp .ge 39, 3) := by decide +kernel
theorem dX3_handDown_168 : decode cX3_handDown 168 = .ok (.iload 4, 2) := by decide +kernel
theorem dX3_handDown_170 : decode cX3_handDown 170 = .ok (.aload_n 0, 1) := by decide +kernel
theorem dX3_handDown_171 : decode cX3_handDown 171 = .ok (.iload 5, 2) := by decide +kernel
theorem dX3_handDown_173 : decode cX3_handDown 173 = .ok (.iload_n 3, 1) := by decide +kernel
theorem dX3_handDown_174 : decode cX3_handDown 174 = .ok (.invokevirtual 343, 3) := by decide +kernel
theorem dX3_handDown_177 : decode cX3_handDown 177 = .ok (.ifCond .eq 17, 3) := by decide +kernel
theorem dX3_handDown_180 : decode cX3_handDown 180 = .ok (.aload_n 0, 1) := by decide +kernel
theorem dX3_handDown_181 : decode cX3_handDown 181 = .ok (.getfield 110, 3) := by decide +kernel
theorem dX3_handDown_184 : decode cX3_handDown 184 = .ok (.iload 5, 2) := by decide +kernel
theorem dX3_handDown_186 : decode cX3_handDown 186 = .ok (.baload, 1) := by decide +kernel
theorem dX3_handDown_187 : decode cX3_handDown 187 = .ok (.ifCond .eq 7, 3) := by decide +kernel
theorem dX3_handDown_190 : decode cX3_handDown 190 = .ok (.iconst 1, 1) := by decide +kernel
theorem dX3_handDown_191 : decode cX3_handDown 191 = .ok (.goto 4, 3) := by decide +kernel
theorem dX3_handDown_194 : decode cX3_handDown 194 = .ok (.iconst 0, 1) := by decide +kernel
theorem dX3_handDown_195 : decode cX3_handDown 195 = .ok (.iadd, 1) := by decide +kernel
theorem dX3_handDown_196 : decode cX3_handDown 196 = .ok (.istore 4, 2) := by decide +kernel
theorem dX3_handDown_198 : decode cX3_handDown 198 = .ok (.iinc 5 1, 3) := by decide +kernel
theorem dX3_handDown_201 : decode cX3_handDown 201 = .ok (.goto (-42), 3) := by decide +kernel
theorem dX3_handDown_204 : decode cX3_handDown 204 = .ok (.iload_n 3, 1) := by decide +kernel
theorem dX3_handDown_205 : decode cX3_handDown 205 = .ok (.iconst 1, 1) := by decide +kernel
theorem dX3_handDown_206 : decode cX3_handDown 206 = .ok (.iadd, 1) := by decide +kernel
theorem dX3_handDown_207 : decode cX3_handDown 207 = .ok (.istore 5, 2) := by decide +kernel
theorem dX3_handDown_209 : decode cX3_handDown 209 = .ok (.iload 5, 2) := by decide +kernel
theorem dX3_handDown_211 : decode cX3_handDown 211 = .ok (.aload_n 0, 1) := by decide +kernel
theorem dX3_handDown_212 : decode cX3_handDown 212 = .ok (.getfield 119, 3) := by decide +kernel
theorem dX3_handDown_215 : decode cX3_handDown 215 = .ok (.if_icmp .ge 51, 3) := by decide +kernel
theorem dX3_handDown_218 : decode cX3_handDown 218 = .ok (.aload_n 0, 1) := by decide +kernel
theorem dX3_handDown_219 : decode cX3_handDown 219 = .ok (.iload 5, 2) := by decide +kernel
theorem dX3_handDown_221 : decode cX3_handDown 221 = .ok (.iload_n 3, 1) := by decide +kernel
theorem dX3_handDown_222 : decode cX3_handDown 222 = .ok (.invokevirtual 343, 3) := by decide +kernel
theorem dX3_handDown_225 : decode cX3_handDown 225 = .ok (.ifCond .eq 35, 3) := by decide +kernel
theorem dX3_handDown_228 : decode cX3_handDown 228 = .ok (.aload_n 0, 1) := by decide +kernel
theorem dX3_handDown_229 : decode cX3_handDown 229 = .ok (.getfield 110, 3) := by decide +kernel
theorem dX3_handDown_232 : decode cX3_handDown 232 = .ok (.iload 5, 2) := by decide +kernel
theorem dX3_handDown_234 : decode cX3_handDown 234 = .ok (.baload, 1) := by decide +kernel
theorem dX3_handDown_235 : decode cX3_handDown 235 = .ok (.ifCond .eq 25, 3) := by decide +kernel
theorem dX3_handDown_238 : decode cX3_handDown 238 = .ok (.aload_n 0, 1) := by decide +kernel
theorem dX3_handDown_239 : decode cX3_handDown 239 = .ok (.iload 5, 2) := by decide +kernel
theorem dX3_handDown_241 : decode cX3_handDown 241 = .ok (.aload_n 0, 1) := by decide +kernel
theorem dX3_handDown_242 : decode cX3_handDown 242 = .ok (.getfield 103, 3) := by decide +kernel
theorem dX3_handDown_245 : decode cX3_handDown 245 = .ok (.iload_n 3, 1) := by decide +kernel
theorem dX3_handDown_246 : decode cX3_handDown 246 = .ok (.laload, 1) := by decide +kernel
theorem dX3_handDown_247 : decode cX3_handDown 247 = .ok (.aload_n 0, 1) := by decide +kernel
theorem dX3_handDown_248 : decode cX3_handDown 248 = .ok (.getfield 107, 3) := by decide +kernel
theorem dX3_handDown_251 : decode cX3_handDown 251 = .ok (.iload_n 3, 1) := by decide +kernel
theorem dX3_handDown_252 : decode cX3_handDown 252 = .ok (.laload, 1) := by decide +kernel
theorem dX3_handDown_253 : decode cX3_handDown 253 = .ok (.iload 4, 2) := by decide +kernel
theorem dX3_handDown_255 : decode cX3_handDown 255 = .ok (.i2l, 1) := by decide +kernel
theorem dX3_handDown_256 : decode cX3_handDown 256 = .ok (.lmul, 1) := by decide +kernel
theorem dX3_handDown_257 : decode cX3_handDown 257 = .ok (.invokevirtual 346, 3) := by decide +kernel
theorem dX3_handDown_260 : decode cX3_handDown 260 = .ok (.iinc 5 1, 3) := by decide +kernel
theorem dX3_handDown_263 : decode cX3_handDown 263 = .ok (.goto (-54), 3) := by decide +kernel
theorem dX3_handDown_266 : decode cX3_handDown 266 = .ok (.aload_n 0, 1) := by decide +kernel
theorem dX3_handDown_267 : decode cX3_handDown 267 = .ok (.getfield 103, 3) := by decide +kernel
theorem dX3_handDown_270 : decode cX3_handDown 270 = .ok (.iload_n 3, 1) := by decide +kernel
theorem dX3_handDown_271 : decode cX3_handDown 271 = .ok (.lconst 0, 1) := by decide +kernel
theorem dX3_handDown_272 : decode cX3_handDown 272 = .ok (.lastore, 1) := by decide +kernel
theorem dX3_handDown_273 : decode cX3_handDown 273 = .ok (.aload_n 0, 1) := by decide +kernel
theorem dX3_handDown_274 : decode cX3_handDown 274 = .ok (.getfield 107, 3) := by decide +kernel
theorem dX3_handDown_277 : decode cX3_handDown 277 = .ok (.iload_n 3, 1) := by decide +kernel
theorem dX3_handDown_278 : decode cX3_handDown 278 = .ok (.lconst 1, 1) := by decide +kernel
theorem dX3_handDown_279 : decode cX3_handDown 279 = .ok (.lastore, 1) := by decide +kernel
theorem dX3_handDown_280 : decode cX3_handDown 280 = .ok (.iinc 3 1, 3) := by decide +kernel
theorem dX3_handDown_283 : decode cX3_handDown 283 = .ok (.goto (-163), 3) := by decide +kernel
theorem dX3_handDown_286 : decode cX3_handDown 286 = .ok (.return_, 1) := by decide +kernel
theorem dX3_isChild_0 : decode cX3_isChild 0 = .ok (.aload_n 0, 1) := by decide +kernel
theorem dX3_isChild_1 : decode cX3_isChild 1 = .ok (.getfield 7, 3) := by decide +kernel
theorem dX3_isChild_4 : decode cX3_isChild 4 = .ok (.iload_n 1, 1) := by decide +kernel
theorem dX3_isChild_5 : decode cX3_isChild 5 = .ok (.iaload, 1) := by decide +kernel
theorem dX3_isChild_6 : decode cX3_isChild 6 = .ok (.iload_n 2, 1) := by decide +kernel
theorem dX3_isChild_7 : decode cX3_isChild 7 = .ok (.if_icmp .eq 13, 3) := by decide +kernel
theorem dX3_isChild_10 : decode cX3_isChild 10 = .ok (.aload_n 0, 1) := by decide +kernel
theorem dX3_isChild_11 : decode cX3_isChild 11 = .ok (.getfield 13, 3) := by decide +kernel
theorem dX3_isChild_14 : decode cX3_isChild 14 = .ok (.iload_n 1, 1) := by decide +kernel
theorem dX3_isChild_15 : decode cX3_isChild 15 = .ok (.iaload, 1) := by decide +kernel
theorem dX3_isChild_16 : decode cX3_isChild 16 = .ok (.iload_n 2, 1) := by decide +kernel
theorem dX3_isChild_17 : decode cX3_isChild 17 = .ok (.if_icmp .ne 7, 3) := by decide +kernel
theorem dX3_isChild_20 : decode cX3_isChild 20 = .ok (.iconst 1, 1) := by decide +kernel
theorem dX3_isChild_21 : decode cX3_isChild 21 = .ok (.goto 4, 3) := by decide +kernel
theorem dX3_isChild_24 : decode cX3_isChild 24 = .ok (.iconst 0, 1) := by decide +kernel
theorem dX3_isChild_25 : decode cX3_isChild 25 = .ok (.ireturn, 1) := by decide +kernel
