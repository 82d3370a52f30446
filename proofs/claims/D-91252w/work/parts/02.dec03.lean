set_option maxRecDepth 100000
theorem dX0_loose_32 : decode cX0_loose 32 = .ok (.getfield 141, 3) := by decide +kernel
theorem dX0_loose_35 : decode cX0_loose 35 = .ok (.ifCond .eq 7, 3) := by decide +kernel
theorem dX0_loose_38 : decode cX0_loose 38 = .ok (.iconst 1, 1) := by decide +kernel
theorem dX0_loose_39 : decode cX0_loose 39 = .ok (.goto 4, 3) := by decide +kernel
theorem dX0_loose_42 : decode cX0_loose 42 = .ok (.iconst 0, 1) := by decide +kernel
theorem dX0_loose_43 : decode cX0_loose 43 = .ok (.ireturn, 1) := by decide +kernel
theorem dX0_feed_0 : decode cX0_feed 0 = .ok (.aload_n 0, 1) := by decide +kernel
theorem dX0_feed_1 : decode cX0_feed 1 = .ok (.getfield 176, 3) := by decide +kernel
theorem dX0_feed_4 : decode cX0_feed 4 = .ok (.bipush 20, 2) := by decide +kernel
theorem dX0_feed_6 : decode cX0_feed 6 = .ok (.iadd, 1) := by decide +kernel
theorem dX0_feed_7 : decode cX0_feed 7 = .ok (.sipush 600, 3) := by decide +kernel
theorem dX0_feed_10 : decode cX0_feed 10 = .ok (.if_icmp .le 5, 3) := by decide +kernel
theorem dX0_feed_13 : decode cX0_feed 13 = .ok (.iconst (-1), 1) := by decide +kernel
theorem dX0_feed_14 : decode cX0_feed 14 = .ok (.ireturn, 1) := by decide +kernel
theorem dX0_feed_15 : decode cX0_feed 15 = .ok (.iconst 5, 1) := by decide +kernel
theorem dX0_feed_16 : decode cX0_feed 16 = .ok (.newarray .int, 2) := by decide +kernel
theorem dX0_feed_18 : decode cX0_feed 18 = .ok (.dup, 1) := by decide +kernel
theorem dX0_feed_19 : decode cX0_feed 19 = .ok (.iconst 0, 1) := by decide +kernel
theorem dX0_feed_20 : decode cX0_feed 20 = .ok (.iload_n 1, 1) := by decide +kernel
theorem dX0_feed_21 : decode cX0_feed 21 = .ok (.iastore, 1) := by decide +kernel
theorem dX0_feed_22 : decode cX0_feed 22 = .ok (.dup, 1) := by decide +kernel
theorem dX0_feed_23 : decode cX0_feed 23 = .ok (.iconst 1, 1) := by decide +kernel
theorem dX0_feed_24 : decode cX0_feed 24 = .ok (.iload_n 2, 1) := by decide +kernel
theorem dX0_feed_25 : decode cX0_feed 25 = .ok (.iastore, 1) := by decide +kernel
theorem dX0_feed_26 : decode cX0_feed 26 = .ok (.dup, 1) := by decide +kernel
theorem dX0_feed_27 : decode cX0_feed 27 = .ok (.iconst 2, 1) := by decide +kernel
theorem dX0_feed_28 : decode cX0_feed 28 = .ok (.iload_n 3, 1) := by decide +kernel
theorem dX0_feed_29 : decode cX0_feed 29 = .ok (.iastore, 1) := by decide +kernel
theorem dX0_feed_30 : decode cX0_feed 30 = .ok (.dup, 1) := by decide +kernel
theorem dX0_feed_31 : decode cX0_feed 31 = .ok (.iconst 3, 1) := by decide +kernel
theorem dX0_feed_32 : decode cX0_feed 32 = .ok (.iload 4, 2) := by decide +kernel
theorem dX0_feed_34 : decode cX0_feed 34 = .ok (.iastore, 1) := by decide +kernel
theorem dX0_feed_35 : decode cX0_feed 35 = .ok (.dup, 1) := by decide +kernel
theorem dX0_feed_36 : decode cX0_feed 36 = .ok (.iconst 4, 1) := by decide +kernel
theorem dX0_feed_37 : decode cX0_feed 37 = .ok (.iload 5, 2) := by decide +kernel
theorem dX0_feed_39 : decode cX0_feed 39 = .ok (.iastore, 1) := by decide +kernel
theorem dX0_feed_40 : decode cX0_feed 40 = .ok (.astore 6, 2) := by decide +kernel
theorem dX0_feed_42 : decode cX0_feed 42 = .ok (.aload 6, 2) := by decide +kernel
theorem dX0_feed_44 : decode cX0_feed 44 = .ok (.astore 7, 2) := by decide +kernel
theorem dX0_feed_46 : decode cX0_feed 46 = .ok (.aload 7, 2) := by decide +kernel
theorem dX0_feed_48 : decode cX0_feed 48 = .ok (.arraylength, 1) := by decide +kernel
theorem dX0_feed_49 : decode cX0_feed 49 = .ok (.istore 8, 2) := by decide +kernel
theorem dX0_feed_51 : decode cX0_feed 51 = .ok (.iconst 0, 1) := by decide +kernel
theorem dX0_feed_52 : decode cX0_feed 52 = .ok (.istore 9, 2) := by decide +kernel
theorem dX0_feed_54 : decode cX0_feed 54 = .ok (.iload 9, 2) := by decide +kernel
theorem dX0_feed_56 : decode cX0_feed 56 = .ok (.iload 8, 2) := by decide +kernel
theorem dX0_feed_58 : decode cX0_feed 58 = .ok (.if_icmp .ge 56, 3) := by decide +kernel
theorem dX0_feed_61 : decode cX0_feed 61 = .ok (.aload 7, 2) := by decide +kernel
theorem dX0_feed_63 : decode cX0_feed 63 = .ok (.iload 9, 2) := by decide +kernel
theorem dX0_feed_65 : decode cX0_feed 65 = .ok (.iaload, 1) := by decide +kernel
theorem dX0_feed_66 : decode cX0_feed 66 = .ok (.istore 10, 2) := by decide +kernel
theorem dX0_feed_68 : decode cX0_feed 68 = .ok (.bipush 24, 2) := by decide +kernel
theorem dX0_feed_70 : decode cX0_feed 70 = .ok (.istore 11, 2) := by decide +kernel
theorem dX0_feed_72 : decode cX0_feed 72 = .ok (.iload 11, 2) := by decide +kernel
theorem dX0_feed_74 : decode cX0_feed 74 = .ok (.ifCond .lt 34, 3) := by decide +kernel
theorem dX0_feed_77 : decode cX0_feed 77 = .ok (.aload_n 0, 1) := by decide +kernel
theorem dX0_feed_78 : decode cX0_feed 78 = .ok (.getfield 9, 3) := by decide +kernel
theorem dX0_feed_81 : decode cX0_feed 81 = .ok (.aload_n 0, 1) := by decide +kernel
theorem dX0_feed_82 : decode cX0_feed 82 = .ok (.getfield 176, 3) := by decide +kernel
theorem dX0_feed_85 : decode cX0_feed 85 = .ok (.iload 10, 2) := by decide +kernel
theorem dX0_feed_87 : decode cX0_feed 87 = .ok (.iload 11, 2) := by decide +kernel
theorem dX0_feed_89 : decode cX0_feed 89 = .ok (.ishr, 1) := by decide +kernel
theorem dX0_feed_90 : decode cX0_feed 90 = .ok (.i2b, 1) := by decide +kernel
theorem dX0_feed_91 : decode cX0_feed 91 = .ok (.bastore, 1) := by decide +kernel
theorem dX0_feed_92 : decode cX0_feed 92 = .ok (.aload_n 0, 1) := by decide +kernel
theorem dX0_feed_93 : decode cX0_feed 93 = .ok (.dup, 1) := by decide +kernel
theorem dX0_feed_94 : decode cX0_feed 94 = .ok (.getfield 176, 3) := by decide +kernel
theorem dX0_feed_97 : decode cX0_feed 97 = .ok (.iconst 1, 1) := by decide +kernel
theorem dX0_feed_98 : decode cX0_feed 98 = .ok (.iadd, 1) := by decide +kernel
theorem dX0_feed_99 : decode cX0_feed 99 = .ok (.putfield 176, 3) := by decide +kernel
theorem dX0_feed_102 : decode cX0_feed 102 = .ok (.iinc 11 (-8), 3) := by decide +kernel
theorem dX0_feed_105 : decode cX0_feed 105 = .ok (.goto (-33), 3) := by decide +kernel
theorem dX0_feed_108 : decode cX0_feed 108 = .ok (.iinc 9 1, 3) := by decide +kernel
theorem dX0_feed_111 : decode cX0_feed 111 = .ok (.goto (-57), 3) := by decide +kernel
theorem dX0_feed_114 : decode cX0_feed 114 = .ok (.aload_n 0, 1) := by decide +kernel
theorem dX0_feed_115 : decode cX0_feed 115 = .ok (.getfield 176, 3) := by decide +kernel
theorem dX0_feed_118 : decode cX0_feed 118 = .ok (.ireturn, 1) := by decide +kernel
theorem dX0_end_0 : decode cX0_end 0 = .ok (.iload_n 1, 1) := by decide +kernel
theorem dX0_end_1 : decode cX0_end 1 = .ok (.ifCond .lt 11, 3) := by decide +kernel
theorem dX0_end_4 : decode cX0_end 4 = .ok (.iload_n 1, 1) := by decide +kernel
theorem dX0_end_5 : decode cX0_end 5 = .ok (.aload_n 0, 1) := by decide +kernel
theorem dX0_end_6 : decode cX0_end 6 = .ok (.getfield 176, 3) := by decide +kernel
theorem dX0_end_9 : decode cX0_end 9 = .ok (.if_icmp .le 5, 3) := by decide +kernel
theorem dX0_end_12 : decode cX0_end 12 = .ok (.iconst (-1), 1) := by decide +kernel
theorem dX0_end_13 : decode cX0_end 13 = .ok (.ireturn, 1) := by decide +kernel
theorem dX0_end_14 : decode cX0_end 14 = .ok (.aload_n 0, 1) := by decide +kernel
theorem dX0_end_15 : decode cX0_end 15 = .ok (.iload_n 1, 1) := by decide +kernel
theorem dX0_end_16 : decode cX0_end 16 = .ok (.putfield 176, 3) := by decide +kernel
theorem dX0_end_19 : decode cX0_end 19 = .ok (.iload_n 1, 1) := by decide +kernel
theorem dX0_end_20 : decode cX0_end 20 = .ok (.ireturn, 1) := by decide +kernel
theorem dX0_law_0 : decode cX0_law 0 = .ok (.aload_n 0, 1) := by decide +kernel
theorem dX0_law_1 : decode cX0_law 1 = .ok (.iconst 0, 1) := by decide +kernel
theorem dX0_law_2 : decode cX0_law 2 = .ok (.putfield 179, 3) := by decide +kernel
theorem dX0_law_5 : decode cX0_law 5 = .ok (.aload_n 0, 1) := by decide +kernel
theorem dX0_law_6 : decode cX0_law 6 = .ok (.iconst (-1), 1) := by decide +kernel
theorem dX0_law_7 : decode cX0_law 7 = .ok (.putfield 13, 3) := by decide +kernel
theorem dX0_law_10 : decode cX0_law 10 = .ok (.aload_n 0, 1) := by decide +kernel
theorem dX0_law_11 : decode cX0_law 11 = .ok (.new 182, 3) := by decide +kernel
theorem dX0_law_14 : decode cX0_law 14 = .ok (.dup, 1) := by decide +kernel
theorem dX0_law_15 : decode cX0_law 15 = .ok (.aload_n 0, 1) := by decide +kernel
theorem dX0_law_16 : decode cX0_law 16 = .ok (.invokespecial 184, 3) := by decide +kernel
theorem dX0_law_19 : decode cX0_law 19 = .ok (.invokevirtual 185, 3) := by decide +kernel
theorem dX0_law_22 : decode cX0_law 22 = .ok (.putfield 22, 3) := by decide +kernel
theorem dX0_law_25 : decode cX0_law 25 = .ok (.aload_n 0, 1) := by decide +kernel
theorem dX0_law_26 : decode cX0_law 26 = .ok (.getfield 22, 3) := by decide +kernel
theorem dX0_law_29 : decode cX0_law 29 = .ok (.invokevirtual 189, 3) := by decide +kernel
theorem dX0_law_32 : decode cX0_law 32 = .ok (.istore_n 1, 1) := by decide +kernel
theorem dX0_law_33 : decode cX0_law 33 = .ok (.aload_n 0, 1) := by decide +kernel
theorem dX0_law_34 : decode cX0_law 34 = .ok (.iconst 0, 1) := by decide +kernel
theorem dX0_law_35 : decode cX0_law 35 = .ok (.putfield 176, 3) := by decide +kernel
theorem dX0_law_38 : decode cX0_law 38 = .ok (.iload_n 1, 1) := by decide +kernel
theorem dX0_law_39 : decode cX0_law 39 = .ok (.ireturn, 1) := by decide +kernel
theorem dX0_law_40 : decode cX0_law 40 = .ok (.astore_n 1, 1) := by decide +kernel
theorem dX0_law_41 : decode cX0_law 41 = .ok (.aload_n 0, 1) := by decide +kernel
theorem dX0_law_42 : decode cX0_law 42 = .ok (.aload_n 1, 1) := by decide +kernel
theorem dX0_law_43 : decode cX0_law 43 = .ok (.getfield 195, 3) := by decide +kernel
theorem dX0_law_46 : decode cX0_law 46 = .ok (.putfield 179, 3) := by decide +kernel
theorem dX0_law_49 : decode cX0_law 49 = .ok (.aload_n 0, 1) := by decide +kernel
theorem dX0_law_50 : decode cX0_law 50 = .ok (.aload_n 1, 1) := by decide +kernel
theorem dX0_law_51 : decode cX0_law 51 = .ok (.getfield 198, 3) := by decide +kernel
theorem dX0_law_54 : decode cX0_law 54 = .ok (.putfield 13, 3) := by decide +kernel
theorem dX0_law_57 : decode cX0_law 57 = .ok (.iconst (-1), 1) := by decide +kernel
theorem dX0_law_58 : decode cX0_law 58 = .ok (.istore_n 2, 1) := by decide +kernel
theorem dX0_law_59 : decode cX0_law 59 = .ok (.aload_n 0, 1) := by decide +kernel
theorem dX0_law_60 : decode cX0_law 60 = .ok (.iconst 0, 1) := by decide +kernel
theorem dX0_law_61 : decode cX0_law 61 = .ok (.putfield 176, 3) := by decide +kernel
theorem dX0_law_64 : decode cX0_law 64 = .ok (.iload_n 2, 1) := by decide +kernel
theorem dX0_law_65 : decode cX0_law 65 = .ok (.ireturn, 1) := by decide +kernel
theorem dX0_law_66 : decode cX0_law 66 = .ok (.astore_n 3, 1) := by decide +kernel
theorem dX0_law_67 : decode cX0_law 67 = .ok (.aload_n 0, 1) := by decide +kernel
theorem dX0_law_68 : decode cX0_law 68 = .ok (.iconst 0, 1) := by decide +kernel
theorem dX0_law_69 : decode cX0_law 69 = .ok (.putfield 176, 3) := by decide +kernel
theorem dX0_law_72 : decode cX0_law 72 = .ok (.aload_n 3, 1) := by decide +kernel
theorem dX0_law_73 : decode cX0_law 73 = .ok (.athrow, 1) := by decide +kernel
theorem dX0_fault_0 : decode cX0_fault 0 = .ok (.iload_n 1, 1) := by decide +kernel
theorem dX0_fault_1 : decode cX0_fault 1 = .ok (.ifCond .ne 10, 3) := by decide +kernel
theorem dX0_fault_4 : decode cX0_fault 4 = .ok (.aload_n 0, 1) := by decide +kernel
theorem dX0_fault_5 : decode cX0_fault 5 = .ok (.getfield 179, 3) := by decide +kernel
theorem dX0_fault_8 : decode cX0_fault 8 = .ok (.goto 16, 3) := by decide +kernel
theorem dX0_fault_11 : decode cX0_fault 11 = .ok (.iload_n 1, 1) := by decide +kernel
theorem dX0_fault_12 : decode cX0_fault 12 = .ok (.iconst 1, 1) := by decide +kernel
theorem dX0_fault_13 : decode cX0_fault 13 = .ok (.if_icmp .ne 10, 3) := by decide +kernel
theorem dX0_fault_16 : decode cX0_fault 16 = .ok (.aload_n 0, 1) := by decide +kernel
theorem dX0_fault_17 : decode cX0_fault 17 = .ok (.getfield 13, 3) := by decide +kernel
theorem dX0_fault_20 : decode cX0_fault 20 = .ok (.goto 4, 3) := by decide +kernel
theorem dX0_fault_23 : decode cX0_fault 23 = .ok (.iconst (-1), 1) := by decide +kernel
theorem dX0_fault_24 : decode cX0_fault 24 = .ok (.ireturn, 1) := by decide +kernel
theorem dX0_claim_0 : decode cX0_claim 0 = .ok (.aload_n 0, 1) := by decide +kernel
theorem dX0_claim_1 : decode cX0_claim 1 = .ok (.getfield 201, 3) := by decide +kernel
theorem dX0_claim_4 : decode cX0_claim 4 = .ok (.bipush 30, 2) := by decide +kernel
theorem dX0_claim_6 : decode cX0_claim 6 = .ok (.if_icmp .eq 11, 3) := by decide +kernel
theorem dX0_claim_9 : decode cX0_claim 9 = .ok (.aload_n 0, 1) := by decide +kernel
theorem dX0_claim_10 : decode cX0_claim 10 = .ok (.iload_n 1, 1) := by decide +kernel
theorem dX0_claim_11 : decode cX0_claim 11 = .ok (.invokevirtual 128, 3) := by decide +kernel
theorem dX0_claim_14 : decode cX0_claim 14 = .ok (.ifnonnull 5, 3) := by decide +kernel
theorem dX0_claim_17 : decode cX0_claim 17 = .ok (.iconst (-1), 1) := by decide +kernel
theorem dX0_claim_18 : decode cX0_claim 18 = .ok (.ireturn, 1) := by decide +kernel
theorem dX0_claim_19 : decode cX0_claim 19 = .ok (.iconst 0, 1) := by decide +kernel
theorem dX0_claim_20 : decode cX0_claim 20 = .ok (.istore_n 2, 1) := by decide +kernel
theorem dX0_claim_21 : decode cX0_claim 21 = .ok (.iload_n 2, 1) := by decide +kernel
theorem dX0_claim_22 : decode cX0_claim 22 = .ok (.aload_n 0, 1) := by decide +kernel
theorem dX0_claim_23 : decode cX0_claim 23 = .ok (.getfield 201, 3) := by decide +kernel
theorem dX0_claim_26 : decode cX0_claim 26 = .ok (.if_icmp .ge 21, 3) := by decide +kernel
theorem dX0_claim_29 : decode cX0_claim 29 = .ok (.aload_n 0, 1) := by decide +kernel
theorem dX0_claim_30 : decode cX0_claim 30 = .ok (.getfield 51, 3) := by decide +kernel
theorem dX0_claim_33 : decode cX0_claim 33 = .ok (.iload_n 2, 1) := by decide +kernel
theorem dX0_claim_34 : decode cX0_claim 34 = .ok (.iaload, 1) := by decide +kernel
theorem dX0_claim_35 : decode cX0_claim 35 = .ok (.iload_n 1, 1) := by decide +kernel
theorem dX0_claim_36 : decode cX0_claim 36 = .ok (.if_icmp .ne 5, 3) := by decide +kernel
theorem dX0_claim_39 : decode cX0_claim 39 = .ok (.iconst (-1), 1) := by decide +kernel
theorem dX0_claim_40 : decode cX0_claim 40 = .ok (.ireturn, 1) := by decide +kernel
theorem dX0_claim_41 : decode cX0_claim 41 = .ok (.iinc 2 1, 3) := by decide +kernel
theorem dX0_claim_44 : decode cX0_claim 44 = .ok (.goto (-23), 3) := by decide +kernel
theorem dX0_claim_47 : decode cX0_claim 47 = .ok (.aload_n 0, 1) := by decide +kernel
theorem dX0_claim_48 : decode cX0_claim 48 = .ok (.getfield 51, 3) := by decide +kernel
theorem dX0_claim_51 : decode cX0_claim 51 = .ok (.aload_n 0, 1) := by decide +kernel
theorem dX0_claim_52 : decode cX0_claim 52 = .ok (.getfield 201, 3) := by decide +kernel
theorem dX0_claim_55 : decode cX0_claim 55 = .ok (.iload_n 1, 1) := by decide +kernel
theorem dX0_claim_56 : decode cX0_claim 56 = .ok (.iastore, 1) := by decide +kernel
theorem dX0_claim_57 : decode cX0_claim 57 = .ok (.aload_n 0, 1) := by decide +kernel
theorem dX0_claim_58 : decode cX0_claim 58 = .ok (.dup, 1) := by decide +kernel
theorem dX0_claim_59 : decode cX0_claim 59 = .ok (.getfield 201, 3) := by decide +kernel
theorem dX0_claim_62 : decode cX0_claim 62 = .ok (.iconst 1, 1) := by decide +kernel
theorem dX0_claim_63 : decode cX0_claim 63 = .ok (.iadd, 1) := by decide +kernel
theorem dX0_claim_64 : decode cX0_claim 64 = .ok (.putfield 201, 3) := by decide +kernel
theorem dX0_claim_67 : decode cX0_claim 67 = .ok (.aload_n 0, 1) := by decide +kernel
theorem dX0_claim_68 : decode cX0_claim 68 = .ok (.getfield 201, 3) := by decide +kernel
theorem dX0_claim_71 : decode cX0_claim 71 = .ok (.iconst 1, 1) := by decide +kernel
theorem dX0_claim_72 : decode cX0_claim 72 = .ok (.isub, 1) := by decide +kernel
theorem dX0_claim_73 : decode cX0_claim 73 = .ok (.ireturn, 1) := by decide +kernel
theorem dX0_ruling_0 : decode cX0_ruling 0 = .ok (.aload_n 0, 1) := by decide +kernel
theorem dX0_ruling_1 : decode cX0_ruling 1 = .ok (.iload_n 1, 1) := by decide +kernel
theorem dX0_ruling_2 : decode cX0_ruling 2 = .ok (.iload_n 2, 1) := by decide +kernel
theorem dX0_ruling_3 : decode cX0_ruling 3 = .ok (.invokevirtual 234, 3) := by decide +kernel
theorem dX0_ruling_6 : decode cX0_ruling 6 = .ok (.ifCond .ne 5, 3) := by decide +kernel
theorem dX0_ruling_9 : decode cX0_ruling 9 = .ok (.iconst (-1), 1) := by decide +kernel
theorem dX0_ruling_10 : decode cX0_ruling 10 = .ok (.ireturn, 1) := by decide +kernel
theorem dX0_ruling_11 : decode cX0_ruling 11 = .ok (.aload_n 0, 1) := by decide +kernel
theorem dX0_ruling_12 : decode cX0_ruling 12 = .ok (.invokevirtual 238, 3) := by decide +kernel
theorem dX0_ruling_15 : decode cX0_ruling 15 = .ok (.astore_n 3, 1) := by decide +kernel
theorem dX0_ruling_16 : decode cX0_ruling 16 = .ok (.aload_n 3, 1) := by decide +kernel
theorem dX0_ruling_17 : decode cX0_ruling 17 = .ok (.ifnonnull 7, 3) := by decide +kernel
theorem dX0_ruling_20 : decode cX0_ruling 20 = .ok (.iconst 4, 1) := by decide +kernel
theorem dX0_ruling_21 : decode cX0_ruling 21 = .ok (.goto 7, 3) := by decide +kernel
theorem dX0_ruling_24 : decode cX0_ruling 24 = .ok (.aload_n 3, 1) := by decide +kernel
theorem dX0_ruling_25 : decode cX0_ruling 25 = .ok (.getfield 242, 3) := by decide +kernel
theorem dX0_ruling_28 : decode cX0_ruling 28 = .ok (.ireturn, 1) := by decide +kernel
theorem dX0_looks_0 : decode cX0_looks 0 = .ok (.iload_n 1, 1) := by decide +kernel
theorem dX0_looks_1 : decode cX0_looks 1 = .ok (.ifCond .lt 29, 3) := by decide +kernel
theorem dX0_looks_4 : decode cX0_looks 4 = .ok (.iload_n 1, 1) := by decide +kernel
theorem dX0_looks_5 : decode cX0_looks 5 = .ok (.aload_n 0, 1) := by decide +kernel
theorem dX0_looks_6 : decode cX0_looks 6 = .ok (.getfield 201, 3) := by decide +kernel
theorem dX0_looks_9 : decode cX0_looks 9 = .ok (.if_icmp .ge 21, 3) := by decide +kernel
theorem dX0_looks_12 : decode cX0_looks 12 = .ok (.aload_n 0, 1) := by decide +kernel
theorem dX0_looks_13 : decode cX0_looks 13 = .ok (.getfield 47, 3) := by decide +kernel
theorem dX0_looks_16 : decode cX0_looks 16 = .ok (.aload_n 0, 1) := by decide +kernel
theorem dX0_looks_17 : decode cX0_looks 17 = .ok (.getfield 51, 3) := by decide +kernel
theorem dX0_looks_20 : decode cX0_looks 20 = .ok (.iload_n 1, 1) := by decide +kernel
theorem dX0_looks_21 : decode cX0_looks 21 = .ok (.iaload, 1) := by decide +kernel
theorem dX0_looks_22 : decode cX0_looks 22 = .ok (.aaload, 1) := by decide +kernel
theorem dX0_looks_23 : decode cX0_looks 23 = .ok (.iload_n 2, 1) := by decide +kernel
theorem dX0_looks_24 : decode cX0_looks 24 = .ok (.invokevirtual 170, 3) := by decide +kernel
theorem dX0_looks_27 : decode cX0_looks 27 = .ok (.ifCond .ne 5, 3) := by decide +kernel
theorem dX0_looks_30 : decode cX0_looks 30 = .ok (.iconst 0, 1) := by decide +kernel
theorem dX0_looks_31 : decode cX0_looks 31 = .ok (.ireturn, 1) := by decide +kernel
theorem dX0_looks_32 : decode cX0_looks 32 = .ok (.aload_n 0, 1) := by decide +kernel
theorem dX0_looks_33 : decode cX0_looks 33 = .ok (.getfield 47, 3) := by decide +kernel
theorem dX0_looks_36 : decode cX0_looks 36 = .ok (.aload_n 0, 1) := by decide +kernel
theorem dX0_looks_37 : decode cX0_looks 37 = .ok (.getfield 51, 3) := by decide +kernel
theorem dX0_looks_40 : decode cX0_looks 40 = .ok (.iload_n 1, 1) := by decide +kernel
theorem dX0_looks_41 : decode cX0_looks 41 = .ok (.iaload, 1) := by decide +kernel
theorem dX0_looks_42 : decode cX0_looks 42 = .ok (.aaload, 1) := by decide +kernel
theorem dX0_looks_43 : decode cX0_looks 43 = .ok (.astore_n 3, 1) := by decide +kernel
theorem dX0_looks_44 : decode cX0_looks 44 = .ok (.aload_n 0, 1) := by decide +kernel
theorem dX0_looks_45 : decode cX0_looks 45 = .ok (.aload_n 3, 1) := by decide +kernel
theorem dX0_looks_46 : decode cX0_looks 46 = .ok (.getfield 167, 3) := by decide +kernel
theorem dX0_looks_49 : decode cX0_looks 49 = .ok (.iload_n 2, 1) := by decide +kernel
theorem dX0_looks_50 : decode cX0_looks 50 = .ok (.iload_n 2, 1) := by decide +kernel
theorem dX0_looks_51 : decode cX0_looks 51 = .ok (.aload_n 3, 1) := by decide +kernel
theorem dX0_looks_52 : decode cX0_looks 52 = .ok (.invokevirtual 172, 3) := by decide +kernel
theorem dX0_looks_55 : decode cX0_looks 55 = .ok (.aload_n 0, 1) := by decide +kernel
theorem dX0_looks_56 : decode cX0_looks 56 = .ok (.getfield 59, 3) := by decide +kernel
theorem dX0_looks_59 : decode cX0_looks 59 = .ok (.aload_n 3, 1) := by decide +kernel
theorem dX0_looks_60 : decode cX0_looks 60 = .ok (.putfield 204, 3) := by decide +kernel
theorem dX0_looks_63 : decode cX0_looks 63 = .ok (.aload_n 0, 1) := by decide +kernel
theorem dX0_looks_64 : decode cX0_looks 64 = .ok (.getfield 59, 3) := by decide +kernel
theorem dX0_looks_67 : decode cX0_looks 67 = .ok (.iload_n 2, 1) := by decide +kernel
theorem dX0_looks_68 : decode cX0_looks 68 = .ok (.putfield 208, 3) := by decide +kernel
theorem dX0_looks_71 : decode cX0_looks 71 = .ok (.aload_n 0, 1) := by decide +kernel
theorem dX0_looks_72 : decode cX0_looks 72 = .ok (.getfield 59, 3) := by decide +kernel
theorem dX0_looks_75 : decode cX0_looks 75 = .ok (.aload_n 3, 1) := by decide +kernel
theorem dX0_looks_76 : decode cX0_looks 76 = .ok (.getfield 155, 3) := by decide +kernel
theorem dX0_looks_79 : decode cX0_looks 79 = .ok (.aload_n 0, 1) := by decide +kernel
theorem dX0_looks_80 : decode cX0_looks 80 = .ok (.getfield 145, 3) := by decide +kernel
theorem dX0_looks_83 : decode cX0_looks 83 = .ok (.isub, 1) := by decide +kernel
theorem dX0_looks_84 : decode cX0_looks 84 = .ok (.sipush 365, 3) := by decide +kernel
theorem dX0_looks_87 : decode cX0_looks 87 = .ok (.idiv, 1) := by decide +kernel
theorem dX0_looks_88 : decode cX0_looks 88 = .ok (.putfield 211, 3) := by decide +kernel
theorem dX0_looks_91 : decode cX0_looks 91 = .ok (.aload_n 0, 1) := by decide +kernel
theorem dX0_looks_92 : decode cX0_looks 92 = .ok (.getfield 59, 3) := by decide +kernel
theorem dX0_looks_95 : decode cX0_looks 95 = .ok (.aload_n 0, 1) := by decide +kernel
theorem dX0_looks_96 : decode cX0_looks 96 = .ok (.getfield 148, 3) := by decide +kernel
theorem dX0_looks_99 : decode cX0_looks 99 = .ok (.putfield 212, 3) := by decide +kernel
theorem dX0_looks_102 : decode cX0_looks 102 = .ok (.aload_n 0, 1) := by decide +kernel
theorem dX0_looks_103 : decode cX0_looks 103 = .ok (.getfield 59, 3) := by decide +kernel
theorem dX0_looks_106 : decode cX0_looks 106 = .ok (.aload_n 0, 1) := by decide +kernel
theorem dX0_looks_107 : decode cX0_looks 107 = .ok (.getfield 135, 3) := by decide +kernel
theorem dX0_looks_110 : decode cX0_looks 110 = .ok (.aload_n 3, 1) := by decide +kernel
theorem dX0_looks_111 : decode cX0_looks 111 = .ok (.getfield 164, 3) := by decide +kernel
theorem dX0_looks_114 : decode cX0_looks 114 = .ok (.if_icmp .ne 7, 3) := by decide +kernel
theorem dX0_looks_117 : decode cX0_looks 117 = .ok (.iconst 1, 1) := by decide +kernel
theorem dX0_looks_118 : decode cX0_looks 118 = .ok (.goto 4, 3) := by decide +kernel
theorem dX0_looks_121 : decode cX0_looks 121 = .ok (.iconst 0, 1) := by decide +kernel
theorem dX0_looks_122 : decode cX0_looks 122 = .ok (.putfield 215, 3) := by decide +kernel
theorem dX0_looks_125 : decode cX0_looks 125 = .ok (.aload_n 0, 1) := by decide +kernel
theorem dX0_looks_126 : decode cX0_looks 126 = .ok (.getfield 141, 3) := by decide +kernel
theorem dX0_looks_129 : decode cX0_looks 129 = .ok (.ifCond .ne 7, 3) := by decide +kernel
theorem dX0_looks_132 : decode cX0_looks 132 = .ok (.iconst 1, 1) := by decide +kernel
theorem dX0_looks_133 : decode cX0_looks 133 = .ok (.goto 4, 3) := by decide +kernel
theorem dX0_looks_136 : decode cX0_looks 136 = .ok (.iconst 0, 1) := by decide +kernel
theorem dX0_looks_137 : decode cX0_looks 137 = .ok (.ireturn, 1) := by decide +kernel
theorem dX0_line_0 : decode cX0_line 0 = .ok (.iconst 0, 1) := by decide +kernel
theorem dX0_line_1 : decode cX0_line 1 = .ok (.istore_n 1, 1) := by decide +kernel
theorem dX0_line_2 : decode cX0_line 2 = .ok (.iload_n 1, 1) := by decide +kernel
theorem dX0_line_3 : decode cX0_line 3 = .ok (.aload_n 0, 1) := by decide +kernel
theorem dX0_line_4 : decode cX0_line 4 = .ok (.getfield 22, 3) := by decide +kernel
theorem dX0_line_7 : decode cX0_line 7 = .ok (.invokevirtual 189, 3) := by decide +kernel
theorem dX0_line_10 : decode cX0_line 10 = .ok (.if_icmp .ge 45, 3) := by decide +kernel
theorem dX0_line_13 : decode cX0_line 13 = .ok (.aload_n 0, 1) := by decide +kernel
theorem dX0_line_14 : decode cX0_line 14 = .ok (.getfield 22, 3) := by decide +kernel
theorem dX0_line_17 : decode cX0_line 17 = .ok (.iload_n 1, 1) := by decide +kernel
theorem dX0_line_18 : decode cX0_line 18 = .ok (.invokevirtual 218, 3) := by decide +kernel
theorem dX0_line_21 : decode cX0_line 21 = .ok (.checkcast 222, 3) := by decide +kernel
theorem dX0_line_24 : decode cX0_line 24 = .ok (.getfield 224, 3) := by decide +kernel
theorem dX0_line_27 : decode cX0_line 27 = .ok (.aload_n 0, 1) := by decide +kernel
theorem dX0_line_28 : decode cX0_line 28 = .ok (.getfield 59, 3) := by decide +kernel
theorem dX0_line_31 : decode cX0_line 31 = .ok (.invokevirtual 228, 3) := by decide +kernel
theorem dX0_line_34 : decode cX0_line 34 = .ok (.ifCond .eq 15, 3) := by decide +kernel
theorem dX0_line_37 : decode cX0_line 37 = .ok (.aload_n 0, 1) := by decide +kernel
theorem dX0_line_38 : decode cX0_line 38 = .ok (.getfield 22, 3) := by decide +kernel
theorem dX0_line_41 : decode cX0_line 41 = .ok (.iload_n 1, 1) := by decide +kernel
theorem dX0_line_42 : decode cX0_line 42 = .ok (.invokevirtual 218, 3) := by decide +kernel
theorem dX0_line_45 : decode cX0_line 45 = .ok (.checkcast 222, 3) := by decide +kernel
theorem dX0_line_48 : decode cX0_line 48 = .ok (.areturn, 1) := by decide +kernel
theorem dX0_line_49 : decode cX0_line 49 = .ok (.iinc 1 1, 3) := by decide +kernel
theorem dX0_line_52 : decode cX0_line 52 = .ok (.goto (-50), 3) := by decide +kernel
theorem dX0_line_55 : decode cX0_line 55 = .ok (.aconst_null, 1) := by decide +kernel
theorem dX0_line_56 : decode cX0_line 56 = .ok (.areturn, 1) := by decide +kernel
theorem dX0_isDead_0 : decode cX0_isDead 0 = .ok (.aload_n 0, 1) := by decide +kernel
theorem dX0_isDead_1 : decode cX0_isDead 1 = .ok (.getfield 33, 3) := by decide +kernel
theorem dX0_isDead_4 : decode cX0_isDead 4 = .ok (.iload_n 1, 1) := by decide +kernel
theorem dX0_isDead_5 : decode cX0_isDead 5 = .ok (.iaload, 1) := by decide +kernel
theorem dX0_isDead_6 : decode cX0_isDead 6 = .ok (.ifCond .lt 17, 3) := by decide +kernel
theorem dX0_isDead_9 : decode cX0_isDead 9 = .ok (.aload_n 0, 1) := by decide +kernel
theorem dX0_isDead_10 : decode cX0_isDead 10 = .ok (.getfield 33, 3) := by decide +kernel
theorem dX0_isDead_13 : decode cX0_isDead 13 = .ok (.iload_n 1, 1) := by decide +kernel
theorem dX0_isDead_14 : decode cX0_isDead 14 = .ok (.iaload, 1) := by decide +kernel
theorem dX0_isDead_15 : decode cX0_isDead 15 = .ok (.iload_n 2, 1) := by decide +kernel
theorem dX0_isDead_16 : decode cX0_isDead 16 = .ok (.if_icmp .gt 7, 3) := by decide +kernel
theorem dX0_isDead_19 : decode cX0_isDead 19 = .ok (.iconst 1, 1) := by decide +kernel
theorem dX0_isDead_20 : decode cX0_isDead 20 = .ok (.goto 4, 3) := by decide +kernel
theorem dX0_isDead_23 : decode cX0_isDead 23 = .ok (.iconst 0, 1) := by decide +kernel
theorem dX0_isDead_24 : decode cX0_isDead 24 = .ok (.ireturn, 1) := by decide +kernel
theorem dX0_sum_0 : decode cX0_sum 0 = .ok (.aload_n 0, 1) := by decide +kernel
theorem dX0_sum_1 : decode cX0_sum 1 = .ok (.iload_n 1, 1) := by decide +kernel
theorem dX0_sum_2 : decode cX0_sum 2 = .ok (.iload_n 2, 1) := by decide +kernel
theorem dX0_sum_3 : decode cX0_sum 3 = .ok (.invokevirtual 234, 3) := by decide +kernel
theorem dX0_sum_6 : decode cX0_sum 6 = .ok (.ifCond .ne 5, 3) := by decide +kernel
theorem dX0_sum_9 : decode cX0_sum 9 = .ok (.iconst (-1), 1) := by decide +kernel
theorem dX0_sum_10 : decode cX0_sum 10 = .ok (.ireturn, 1) := by decide +kernel
theorem dX0_sum_11 : decode cX0_sum 11 = .ok (.aload_n 0, 1) := by decide +kernel
theorem dX0_sum_12 : decode cX0_sum 12 = .ok (.invokevirtual 238, 3) := by decide +kernel
theorem dX0_sum_15 : decode cX0_sum 15 = .ok (.astore_n 3, 1) := by decide +kernel
theorem dX0_sum_16 : decode cX0_sum 16 = .ok (.aload_n 3, 1) := by decide +kernel
theorem dX0_sum_17 : decode cX0_sum 17 = .ok (.ifnonnull 7, 3) := by decide +kernel
theorem dX0_sum_20 : decode cX0_sum 20 = .ok (.iconst 0, 1) := by decide +kernel
theorem dX0_sum_21 : decode cX0_sum 21 = .ok (.goto 30, 3) := by decide +kernel
theorem dX0_sum_24 : decode cX0_sum 24 = .ok (.aload_n 0, 1) := by decide +kernel
theorem dX0_sum_25 : decode cX0_sum 25 = .ok (.getfield 39, 3) := by decide +kernel
theorem dX0_sum_28 : decode cX0_sum 28 = .ok (.aload_n 0, 1) := by decide +kernel
theorem dX0_sum_29 : decode cX0_sum 29 = .ok (.getfield 59, 3) := by decide +kernel
theorem dX0_sum_32 : decode cX0_sum 32 = .ok (.getfield 204, 3) := by decide +kernel
theorem dX0_sum_35 : decode cX0_sum 35 = .ok (.getfield 167, 3) := by decide +kernel
theorem dX0_sum_38 : decode cX0_sum 38 = .ok (.iaload, 1) := by decide +kernel
theorem dX0_sum_39 : decode cX0_sum 39 = .ok (.i2l, 1) := by decide +kernel
theorem dX0_sum_40 : decode cX0_sum 40 = .ok (.aload_n 3, 1) := by decide +kernel
theorem dX0_sum_41 : decode cX0_sum 41 = .ok (.getfield 245, 3) := by decide +kernel
theorem dX0_sum_44 : decode cX0_sum 44 = .ok (.i2l, 1) := by decide +kernel
theorem dX0_sum_45 : decode cX0_sum 45 = .ok (.lmul, 1) := by decide +kernel
theorem dX0_sum_46 : decode cX0_sum 46 = .ok (.ldc2_w 247, 3) := by decide +kernel
theorem dX0_sum_49 : decode cX0_sum 49 = .ok (.ldiv, 1) := by decide +kernel
theorem dX0_sum_50 : decode cX0_sum 50 = .ok (.l2i, 1) := by decide +kernel
theorem dX0_sum_51 : decode cX0_sum 51 = .ok (.ireturn, 1) := by decide +kernel
theorem dX0_term_0 : decode cX0_term 0 = .ok (.iload_n 2, 1) := by decide +kernel
theorem dX0_term_1 : decode cX0_term 1 = .ok (.ifCond .lt 21, 3) := by decide +kernel
theorem dX0_term_4 : decode cX0_term 4 = .ok (.iload_n 2, 1) := by decide +kernel
theorem dX0_term_5 : decode cX0_term 5 = .ok (.aload_n 0, 1) := by decide +kernel
theorem dX0_term_6 : decode cX0_term 6 = .ok (.getfield 69, 3) := by decide +kernel
theorem dX0_term_9 : decode cX0_term 9 = .ok (.arraylength, 1) := by decide +kernel
theorem dX0_term_10 : decode cX0_term 10 = .ok (.if_icmp .ge 12, 3) := by decide +kernel
theorem dX0_term_13 : decode cX0_term 13 = .ok (.aload_n 0, 1) := by decide +kernel
theorem dX0_term_14 : decode cX0_term 14 = .ok (.iload_n 1, 1) := by decide +kernel
theorem dX0_term_15 : decode cX0_term 15 = .ok (.iload_n 3, 1) := by decide +kernel
theorem dX0_term_16 : decode cX0_term 16 = .ok (.invokevirtual 234, 3) := by decide +kernel
theorem dX0_term_19 : decode cX0_term 19 = .ok (.ifCond .ne 7, 3) := by decide +kernel
theorem dX0_term_22 : decode cX0_term 22 = .ok (.iconst (-1), 1) := by decide +kernel
theorem dX0_term_23 : decode cX0_term 23 = .ok (.goto 17, 3) := by decide +kernel
theorem dX0_term_26 : decode cX0_term 26 = .ok (.aload_n 0, 1) := by decide +kernel
theorem dX0_term_27 : decode cX0_term 27 = .ok (.getfield 69, 3) := by decide +kernel
theorem dX0_term_30 : decode cX0_term 30 = .ok (.iload_n 2, 1) := by decide +kernel
theorem dX0_term_31 : decode cX0_term 31 = .ok (.aaload, 1) := by decide +kernel
theorem dX0_term_32 : decode cX0_term 32 = .ok (.aload_n 0, 1) := by decide +kernel
theorem dX0_term_33 : decode cX0_term 33 = .ok (.aload_n 0, 1) := by decide +kernel
theorem dX0_term_34 : decode cX0_term 34 = .ok (.getfield 59, 3) := by decide +kernel
theorem dX0_term_37 : decode cX0_term 37 = .ok (.invokevirtual 249, 3) := by decide +kernel
theorem dX0_term_40 : decode cX0_term 40 = .ok (.ireturn, 1) := by decide +kernel
theorem dX0_share_0 : decode cX0_share 0 = .ok (.aload_n 0, 1) := by decide +kernel
theorem dX0_share_1 : decode cX0_share 1 = .ok (.iload_n 1, 1) := by decide +kernel
theorem dX0_share_2 : decode cX0_share 2 = .ok (.invokevirtual 99, 3) := by decide +kernel
theorem dX0_share_5 : decode cX0_share 5 = .ok (.ifCond .eq 29, 3) := by decide +kernel
theorem dX0_share_8 : decode cX0_share 8 = .ok (.aload_n 0, 1) := by decide +kernel
theorem dX0_share_9 : decode cX0_share 9 = .ok (.iload_n 2, 1) := by decide +kernel
theorem dX0_share_10 : decode cX0_share 10 = .ok (.invokevirtual 99, 3) := by decide +kernel
theorem dX0_share_13 : decode cX0_share 13 = .ok (.ifCond .eq 21, 3) := by decide +kernel
theorem dX0_share_16 : decode cX0_share 16 = .ok (.iload_n 3, 1) := by decide +kernel
theorem dX0_share_17 : decode cX0_share 17 = .ok (.invokestatic 103, 3) := by decide +kernel
theorem dX0_share_20 : decode cX0_share 20 = .ok (.ifCond .eq 14, 3) := by decide +kernel
theorem dX0_share_23 : decode cX0_share 23 = .ok (.iload 4, 2) := by decide +kernel
theorem dX0_share_25 : decode cX0_share 25 = .ok (.ifCond .lt 9, 3) := by decide +kernel
theorem dX0_share_28 : decode cX0_share 28 = .ok (.iload 4, 2) := by decide +kernel
theorem dX0_share_30 : decode cX0_share 30 = .ok (.iconst 1, 1) := by decide +kernel
theorem dX0_share_31 : decode cX0_share 31 = .ok (.if_icmp .le 7, 3) := by decide +kernel
theorem dX0_share_34 : decode cX0_share 34 = .ok (.ldc2_w 110, 3) := by decide +kernel
theorem dX0_share_37 : decode cX0_share 37 = .ok (.lreturn, 1) := by decide +kernel
theorem dX0_share_38 : decode cX0_share 38 = .ok (.aload_n 0, 1) := by decide +kernel
theorem dX0_share_39 : decode cX0_share 39 = .ok (.iload_n 1, 1) := by decide +kernel
theorem dX0_share_40 : decode cX0_share 40 = .ok (.iload_n 3, 1) := by decide +kernel
theorem dX0_share_41 : decode cX0_share 41 = .ok (.invokevirtual 267, 3) := by decide +kernel
theorem dX0_share_44 : decode cX0_share 44 = .ok (.iload 4, 2) := by decide +kernel
theorem dX0_share_46 : decode cX0_share 46 = .ok (.ifCond .ne 12, 3) := by decide +kernel
theorem dX0_share_49 : decode cX0_share 49 = .ok (.aload_n 0, 1) := by decide +kernel
theorem dX0_share_50 : decode cX0_share 50 = .ok (.getfield 73, 3) := by decide +kernel
theorem dX0_share_53 : decode cX0_share 53 = .ok (.iload_n 2, 1) := by decide +kernel
theorem dX0_share_54 : decode cX0_share 54 = .ok (.laload, 1) := by decide +kernel
theorem dX0_share_55 : decode cX0_share 55 = .ok (.goto 9, 3) := by decide +kernel
theorem dX0_share_58 : decode cX0_share 58 = .ok (.aload_n 0, 1) := by decide +kernel
theorem dX0_share_59 : decode cX0_share 59 = .ok (.getfield 77, 3) := by decide +kernel
theorem dX0_share_62 : decode cX0_share 62 = .ok (.iload_n 2, 1) := by decide +kernel
theorem dX0_share_63 : decode cX0_share 63 = .ok (.laload, 1) := by decide +kernel
theorem dX0_share_64 : decode cX0_share 64 = .ok (.lreturn, 1) := by decide +kernel
theorem dX0_hand_0 : decode cX0_hand 0 = .ok (.aload_n 0, 1) := by decide +kernel
theorem dX0_hand_1 : decode cX0_hand 1 = .ok (.getfield 92, 3) := by decide +kernel
theorem dX0_hand_4 : decode cX0_hand 4 = .ok (.iconst 1, 1) := by decide +kernel
theorem dX0_hand_5 : decode cX0_hand 5 = .ok (.isub, 1) := by decide +kernel
theorem dX0_hand_6 : decode cX0_hand 6 = .ok (.istore_n 3, 1) := by decide +kernel
theorem dX0_hand_7 : decode cX0_hand 7 = .ok (.iload_n 3, 1) := by decide +kernel
theorem dX0_hand_8 : decode cX0_hand 8 = .ok (.ifCond .lt 112, 3) := by decide +kernel
theorem dX0_hand_11 : decode cX0_hand 11 = .ok (.aload_n 0, 1) := by decide +kernel
theorem dX0_hand_12 : decode cX0_hand 12 = .ok (.getfield 80, 3) := by decide +kernel
theorem dX0_hand_15 : decode cX0_hand 15 = .ok (.iload_n 3, 1) := by decide +kernel
theorem dX0_hand_16 : decode cX0_hand 16 = .ok (.aload_n 0, 1) := by decide +kernel
theorem dX0_hand_17 : decode cX0_hand 17 = .ok (.iload_n 3, 1) := by decide +kernel
theorem dX0_hand_18 : decode cX0_hand 18 = .ok (.iload_n 2, 1) := by decide +kernel
theorem dX0_hand_19 : decode cX0_hand 19 = .ok (.invokevirtual 257, 3) := by decide +kernel
theorem dX0_hand_22 : decode cX0_hand 22 = .ok (.ifCond .ne 7, 3) := by decide +kernel
theorem dX0_hand_25 : decode cX0_hand 25 = .ok (.iconst 1, 1) := by decide +kernel
theorem dX0_hand_26 : decode cX0_hand 26 = .ok (.goto 4, 3) := by decide +kernel
theorem dX0_hand_29 : decode cX0_hand 29 = .ok (.iconst 0, 1) := by decide +kernel
theorem dX0_hand_30 : decode cX0_hand 30 = .ok (.bastore, 1) := by decide +kernel
theorem dX0_hand_31 : decode cX0_hand 31 = .ok (.iload_n 3, 1) := by decide +kernel
theorem dX0_hand_32 : decode cX0_hand 32 = .ok (.iconst 1, 1) := by decide +kernel
theorem dX0_hand_33 : decode cX0_hand 33 = .ok (.iadd, 1) := by decide +kernel
theorem dX0_hand_34 : decode cX0_hand 34 = .ok (.istore 4, 2) := by decide +kernel
theorem dX0_hand_36 : decode cX0_hand 36 = .ok (.iload 4, 2) := by decide +kernel
theorem dX0_hand_38 : decode cX0_hand 38 = .ok (.aload_n 0, 1) := by decide +kernel
theorem dX0_hand_39 : decode cX0_hand 39 = .ok (.getfield 92, 3) := by decide +kernel
theorem dX0_hand_42 : decode cX0_hand 42 = .ok (.if_icmp .ge 49, 3) := by decide +kernel
theorem dX0_hand_45 : decode cX0_hand 45 = .ok (.aload_n 0, 1) := by decide +kernel
theorem dX0_hand_46 : decode cX0_hand 46 = .ok (.getfield 80, 3) := by decide +kernel
theorem dX0_hand_49 : decode cX0_hand 49 = .ok (.iload_n 3, 1) := by decide +kernel
theorem dX0_hand_50 : decode cX0_hand 50 = .ok (.aload_n 0, 1) := by decide +kernel
theorem dX0_hand_51 : decode cX0_hand 51 = .ok (.getfield 80, 3) := by decide +kernel
theorem dX0_hand_54 : decode cX0_hand 54 = .ok (.iload_n 3, 1) := by decide +kernel
theorem dX0_hand_55 : decode cX0_hand 55 = .ok (.baload, 1) := by decide +kernel
theorem dX0_hand_56 : decode cX0_hand 56 = .ok (.ifCond .ne 23, 3) := by decide +kernel
theorem dX0_hand_59 : decode cX0_hand 59 = .ok (.aload_n 0, 1) := by decide +kernel
theorem dX0_hand_60 : decode cX0_hand 60 = .ok (.iload 4, 2) := by decide +kernel
theorem dX0_hand_62 : decode cX0_hand 62 = .ok (.iload_n 3, 1) := by decide +kernel
theorem dX0_hand_63 : decode cX0_hand 63 = .ok (.invokevirtual 260, 3) := by decide +kernel
theorem dX0_hand_66 : decode cX0_hand 66 = .ok (.ifCond .eq 17, 3) := by decide +kernel
theorem dX0_hand_69 : decode cX0_hand 69 = .ok (.aload_n 0, 1) := by decide +kernel
theorem dX0_hand_70 : decode cX0_hand 70 = .ok (.getfield 80, 3) := by decide +kernel
theorem dX0_hand_73 : decode cX0_hand 73 = .ok (.iload 4, 2) := by decide +kernel
theorem dX0_hand_75 : decode cX0_hand 75 = .ok (.baload, 1) := by decide +kernel
theorem dX0_hand_76 : decode cX0_hand 76 = .ok (.ifCond .eq 7, 3) := by decide +kernel
theorem dX0_hand_79 : decode cX0_hand 79 = .ok (.iconst 1, 1) := by decide +kernel
theorem dX0_hand_80 : decode cX0_hand 80 = .ok (.goto 4, 3) := by decide +kernel
theorem dX0_hand_83 : decode cX0_hand 83 = .ok (.iconst 0, 1) := by decide +kernel
theorem dX0_hand_84 : decode cX0_hand 84 = .ok (.bastore, 1) := by decide +kernel
theorem dX0_hand_85 : decode cX0_hand 85 = .ok (.iinc 4 1, 3) := by decide +kernel
theorem dX0_hand_88 : decode cX0_hand 88 = .ok (.goto (-52), 3) := by decide +kernel
theorem dX0_hand_91 : decode cX0_hand 91 = .ok (.aload_n 0, 1) := by decide +kernel
theorem dX0_hand_92 : decode cX0_hand 92 = .ok (.getfield 73, 3) := by decide +kernel
theorem dX0_hand_95 : decode cX0_hand 95 = .ok (.iload_n 3, 1) := by decide +kernel
theorem dX0_hand_96 : decode cX0_hand 96 = .ok (.iload_n 3, 1) := by decide +kernel
theorem dX0_hand_97 : decode cX0_hand 97 = .ok (.iload_n 1, 1) := by decide +kernel
theorem dX0_hand_98 : decode cX0_hand 98 = .ok (.if_icmp .ne 7, 3) := by decide +kernel
theorem dX0_hand_101 : decode cX0_hand 101 = .ok (.lconst 1, 1) := by decide +kernel
theorem dX0_hand_102 : decode cX0_hand 102 = .ok (.goto 4, 3) := by decide +kernel
theorem dX0_hand_105 : decode cX0_hand 105 = .ok (.lconst 0, 1) := by decide +kernel
theorem dX0_hand_106 : decode cX0_hand 106 = .ok (.lastore, 1) := by decide +kernel
theorem dX0_hand_107 : decode cX0_hand 107 = .ok (.aload_n 0, 1) := by decide +kernel
theorem dX0_hand_108 : decode cX0_hand 108 = .ok (.getfield 77, 3) := by decide +kernel
theorem dX0_hand_111 : decode cX0_hand 111 = .ok (.iload_n 3, 1) := by decide +kernel
theorem dX0_hand_112 : decode cX0_hand 112 = .ok (.lconst 1, 1) := by decide +kernel
theorem dX0_hand_113 : decode cX0_hand 113 = .ok (.lastore, 1) := by decide +kernel
theorem dX0_hand_114 : decode cX0_hand 114 = .ok (.iinc 3 (-1), 3) := by decide +kernel
theorem dX0_hand_117 : decode cX0_hand 117 = .ok (.goto (-110), 3) := by decide +kernel
theorem dX0_hand_120 : decode cX0_hand 120 = .ok (.iconst 0, 1) := by decide +kernel
theorem dX0_hand_121 : decode cX0_hand 121 = .ok (.istore_n 3, 1) := by decide +kernel
theorem dX0_hand_122 : decode cX0_hand 122 = .ok (.iload_n 3, 1) := by decide +kernel
theorem dX0_hand_123 : decode cX0_hand 123 = .ok (.aload_n 0, 1) := by decide +kernel
theorem dX0_hand_124 : decode cX0_hand 124 = .ok (.getfield 92, 3) := by decide +kernel
theorem dX0_hand_127 : decode cX0_hand 127 = .ok (.if_icmp .ge 161, 3) := by decide +kernel
theorem dX0_hand_130 : decode cX0_hand 130 = .ok (.aload_n 0, 1) := by decide +kernel
theorem dX0_hand_131 : decode cX0_hand 131 = .ok (.getfield 73, 3) := by decide +kernel
theorem dX0_hand_134 : decode cX0_hand 134 = .ok (.iload_n 3, 1) := by decide +kernel
theorem dX0_hand_135 : decode cX0_hand 135 = .ok (.laload, 1) := by decide +kernel
theorem dX0_hand_136 : decode cX0_hand 136 = .ok (.lconst 0, 1) := by decide +kernel
theorem dX0_hand_137 : decode cX0_hand 137 = .ok (.lcmp, 1) := by decide +kernel
theorem dX0_hand_138 : decode cX0_hand 138 = .ok (.ifCond .eq 144, 3) := by decide +kernel
theorem dX0_hand_141 : decode cX0_hand 141 = .ok (.aload_n 0, 1) := by decide +kernel
theorem dX0_hand_142 : decode cX0_hand 142 = .ok (.iload_n 3, 1) := by decide +kernel
theorem dX0_hand_143 : decode cX0_hand 143 = .ok (.iload_n 2, 1) := by decide +kernel
theorem dX0_hand_144 : decode cX0_hand 144 = .ok (.invokevirtual 257, 3) := by decide +kernel
theorem dX0_hand_147 : decode cX0_hand 147 = .ok (.ifCond .ne 6, 3) := by decide +kernel
theorem dX0_hand_150 : decode cX0_hand 150 = .ok (.goto 132, 3) := by decide +kernel
theorem dX0_hand_153 : decode cX0_hand 153 = .ok (.iconst 0, 1) := by decide +kernel
theorem dX0_hand_154 : decode cX0_hand 154 = .ok (.istore 4, 2) := by decide +kernel
theorem dX0_hand_156 : decode cX0_hand 156 = .ok (.iload_n 3, 1) := by decide +kernel
theorem dX0_hand_157 : decode cX0_hand 157 = .ok (.iconst 1, 1) := by decide +kernel
theorem dX0_hand_158 : decode cX0_hand 158 = .ok (.iadd, 1) := by decide +kernel
theorem dX0_hand_159 : decode cX0_hand 159 = .ok (.istore 5, 2) := by decide +kernel
theorem dX0_hand_161 : decode cX0_hand 161 = .ok (.iload 5, 2) := by decide +kernel
theorem dX0_hand_163 : decode cX0_hand 163 = .ok (.aload_n 0, 1) := by decide +kernel
theorem dX0_hand_164 : decode cX0_hand 164 = .ok (.getfield 92, 3) := by decide +kernel
theorem dX0_hand_167 : decode cX0_hand 167 = .ok (.if_icmp .ge 39, 3) := by decide +kernel
theorem dX0_hand_170 : decode cX0_hand 170 = .ok (.iload 4, 2) := by decide +kernel
theorem dX0_hand_172 : decode cX0_hand 172 = .ok (.aload_n 0, 1) := by decide +kernel
theorem dX0_hand_173 : decode cX0_hand 173 = .ok (.iload 5, 2) := by decide +kernel
theorem dX0_hand_175 : decode cX0_hand 175 = .ok (.iload_n 3, 1) := by decide +kernel
theorem dX0_hand_176 : decode cX0_hand 176 = .ok (.invokevirtual 260, 3) := by decide +kernel
theorem dX0_hand_179 : decode cX0_hand 179 = .ok (.ifCond .eq 17, 3) := by decide +kernel
theorem dX0_hand_182 : decode cX0_hand 182 = .ok (.aload_n 0, 1) := by decide +kernel
theorem dX0_hand_183 : decode cX0_hand 183 = .ok (.getfield 80, 3) := by decide +kernel
theorem dX0_hand_186 : decode cX0_hand 186 = .ok (.iload 5, 2) := by decide +kernel
theorem dX0_hand_188 : decode cX0_hand 188 = .ok (.baload, 1) := by decide +kernel
theorem dX0_hand_189 : decode cX0_hand 189 = .ok (.ifCond .eq 7, 3) := by decide +kernel
theorem dX0_hand_192 : decode cX0_hand 192 = .ok (.iconst 1, 1) := by decide +kernel
theorem dX0_hand_193 : decode cX0_hand 193 = .ok (.goto 4, 3) := by decide +kernel
theorem dX0_hand_196 : decode cX0_hand 196 = .ok (.iconst 0, 1) := by decide +kernel
theorem dX0_hand_197 : decode cX0_hand 197 = .ok (.iadd, 1) := by decide +kernel
theorem dX0_hand_198 : decode cX0_hand 198 = .ok (.istore 4, 2) := by decide +kernel
theorem dX0_hand_200 : decode cX0_hand 200 = .ok (.iinc 5 1, 3) := by decide +kernel
theorem dX0_hand_203 : decode cX0_hand 203 = .ok (.goto (-42), 3) := by decide +kernel
theorem dX0_hand_206 : decode cX0_hand 206 = .ok (.iload_n 3, 1) := by decide +kernel
theorem dX0_hand_207 : decode cX0_hand 207 = .ok (.iconst 1, 1) := by decide +kernel
theorem dX0_hand_208 : decode cX0_hand 208 = .ok (.iadd, 1) := by decide +kernel
theorem dX0_hand_209 : decode cX0_hand 209 = .ok (.istore 5, 2) := by decide +kernel
theorem dX0_hand_211 : decode cX0_hand 211 = .ok (.iload 5, 2) := by decide +kernel
theorem dX0_hand_213 : decode cX0_hand 213 = .ok (.aload_n 0, 1) := by decide +kernel
theorem dX0_hand_214 : decode cX0_hand 214 = .ok (.getfield 92, 3) := by decide +kernel
theorem dX0_hand_217 : decode cX0_hand 217 = .ok (.if_icmp .ge 51, 3) := by decide +kernel
theorem dX0_hand_220 : decode cX0_hand 220 = .ok (.aload_n 0, 1) := by decide +kernel
theorem dX0_hand_221 : decode cX0_hand 221 = .ok (.iload 5, 2) := by decide +kernel
theorem dX0_hand_223 : decode cX0_hand 223 = .ok (.iload_n 3, 1) := by decide +kernel
theorem dX0_hand_224 : decode cX0_hand 224 = .ok (.invokevirtual 260, 3) := by decide +kernel
theorem dX0_hand_227 : decode cX0_hand 227 = .ok (.ifCond .eq 35, 3) := by decide +kernel
theorem dX0_hand_230 : decode cX0_hand 230 = .ok (.aload_n 0, 1) := by decide +kernel
theorem dX0_hand_231 : decode cX0_hand 231 = .ok (.getfield 80, 3) := by decide +kernel
theorem dX0_hand_234 : decode cX0_hand 234 = .ok (.iload 5, 2) := by decide +kernel
theorem dX0_hand_236 : decode cX0_hand 236 = .ok (.baload, 1) := by decide +kernel
theorem dX0_hand_237 : decode cX0_hand 237 = .ok (.ifCond .eq 25, 3) := by decide +kernel
theorem dX0_hand_240 : decode cX0_hand 240 = .ok (.aload_n 0, 1) := by decide +kernel
theorem dX0_hand_241 : decode cX0_hand 241 = .ok (.iload 5, 2) := by decide +kernel
theorem dX0_hand_243 : decode cX0_hand 243 = .ok (.aload_n 0, 1) := by decide +kernel
theorem dX0_hand_244 : decode cX0_hand 244 = .ok (.getfield 73, 3) := by decide +kernel
theorem dX0_hand_247 : decode cX0_hand 247 = .ok (.iload_n 3, 1) := by decide +kernel
theorem dX0_hand_248 : decode cX0_hand 248 = .ok (.laload, 1) := by decide +kernel
theorem dX0_hand_249 : decode cX0_hand 249 = .ok (.aload_n 0, 1) := by decide +kernel
theorem dX0_hand_250 : decode cX0_hand 250 = .ok (.getfield 77, 3) := by decide +kernel
theorem dX0_hand_253 : decode cX0_hand 253 = .ok (.iload_n 3, 1) := by decide +kernel
theorem dX0_hand_254 : decode cX0_hand 254 = .ok (.laload, 1) := by decide +kernel
theorem dX0_hand_255 : decode cX0_hand 255 = .ok (.iload 4, 2) := by decide +kernel
theorem dX0_hand_257 : decode cX0_hand 257 = .ok (.i2l, 1) := by decide +kernel
theorem dX0_hand_258 : decode cX0_hand 258 = .ok (.lmul, 1) := by decide +kernel
theorem dX0_hand_259 : decode cX0_hand 259 = .ok (.invokevirtual 263, 3) := by decide +kernel
theorem dX0_hand_262 : decode cX0_hand 262 = .ok (.iinc 5 1, 3) := by decide +kernel
theorem dX0_hand_265 : decode cX0_hand 265 = .ok (.goto (-54), 3) := by decide +kernel
theorem dX0_hand_268 : decode cX0_hand 268 = .ok (.aload_n 0, 1) := by decide +kernel
theorem dX0_hand_269 : decode cX0_hand 269 = .ok (.getfield 73, 3) := by decide +kernel
theorem dX0_hand_272 : decode cX0_hand 272 = .ok (.iload_n 3, 1) := by decide +kernel
theorem dX0_hand_273 : decode cX0_hand 273 = .ok (.lconst 0, 1) := by decide +kernel
theorem dX0_hand_274 : decode cX0_hand 274 = .ok (.lastore, 1) := by decide +kernel
theorem dX0_hand_275 : decode cX0_hand 275 = .ok (.aload_n 0, 1) := by decide +kernel
theorem dX0_hand_276 : decode cX0_hand 276 = .ok (.getfield 77, 3) := by decide +kernel
theorem dX0_hand_279 : decode cX0_hand 279 = .ok (.iload_n 3, 1) := by decide +kernel
theorem dX0_hand_280 : decode cX0_hand 280 = .ok (.lconst 1, 1) := by decide +kernel
theorem dX0_hand_281 : decode cX0_hand 281 = .ok (.lastore, 1) := by decide +kernel
theorem dX0_hand_282 : decode cX0_hand 282 = .ok (.iinc 3 1, 3) := by decide +kernel
theorem dX0_hand_285 : decode cX0_hand 285 = .ok (.goto (-163), 3) := by decide +kernel
theorem dX0_hand_288 : decode cX0_hand 288 = .ok (.return_, 1) := by decide +kernel
theorem dX0_isChild_0 : decode cX0_isChild 0 = .ok (.aload_n 0, 1) := by decide +kernel
theorem dX0_isChild_1 : decode cX0_isChild 1 = .ok (.getfield 26, 3) := by decide +kernel
theorem dX0_isChild_4 : decode cX0_isChild 4 = .ok (.iload_n 1, 1) := by decide +kernel
theorem dX0_isChild_5 : decode cX0_isChild 5 = .ok (.iaload, 1) := by decide +kernel
theorem dX0_isChild_6 : decode cX0_isChild 6 = .ok (.iload_n 2, 1) := by decide +kernel
theorem dX0_isChild_7 : decode cX0_isChild 7 = .ok (.if_icmp .eq 13, 3) := by decide +kernel
theorem dX0_isChild_10 : decode cX0_isChild 10 = .ok (.aload_n 0, 1) := by decide +kernel
theorem dX0_isChild_11 : decode cX0_isChild 11 = .ok (.getfield 30, 3) := by decide +kernel
theorem dX0_isChild_14 : decode cX0_isChild 14 = .ok (.iload_n 1, 1) := by decide +kernel
theorem dX0_isChild_15 : decode cX0_isChild 15 = .ok (.iaload, 1) := by decide +kernel
theorem dX0_isChild_16 : decode cX0_isChild 16 = .ok (.iload_n 2, 1) := by decide +kernel
theorem dX0_isChild_17 : decode cX0_isChild 17 = .ok (.if_icmp .ne 7, 3) := by decide +kernel
theorem dX0_isChild_20 : decode cX0_isChild 20 = .ok (.iconst 1, 1) := by decide +kernel
theorem dX0_isChild_21 : decode cX0_isChild 21 = .ok (.goto 4, 3) := by decide +kernel
theorem dX0_isChild_24 : decode cX0_isChild 24 = .ok (.iconst 0, 1) := by decide +kernel
theorem dX0_isChild_25 : decode cX0_isChild 25 = .ok (.ireturn, 1) := by decide +kernel
theorem dX0_add_0 : decode cX0_add 0 = .ok (.aload_n 0, 1) := by decide +kernel
theorem dX0_add_1 : decode cX0_add 1 = .ok (.getfield 77, 3) := by decide +kernel
theorem dX0_add_4 : decode cX0_add 4 = .ok (.iload_n 1, 1) := by decide +kernel
theorem dX0_add_5 : decode cX0_add 5 = .ok (.laload, 1) := by decide +kernel
theorem dX0_add_6 : decode cX0_add 6 = .ok (.lload 4, 2) := by decide +kernel
theorem dX0_add_8 : decode cX0_add 8 = .ok (.invokestatic 253, 3) := by decide +kernel
theorem dX0_add_11 : decode cX0_add 11 = .ok (.lstore 6, 2) := by decide +kernel
theorem dX0_add_13 : decode cX0_add 13 = .ok (.aload_n 0, 1) := by decide +kernel
theorem dX0_add_14 : decode cX0_add 14 = .ok (.getfield 73, 3) := by decide +kernel
theorem dX0_add_17 : decode cX0_add 17 = .ok (.iload_n 1, 1) := by decide +kernel
theorem dX0_add_18 : decode cX0_add 18 = .ok (.laload, 1) := by decide +kernel
theorem dX0_add_19 : decode cX0_add 19 = .ok (.lload 4, 2) := by decide +kernel
theorem dX0_add_21 : decode cX0_add 21 = .ok (.lload 6, 2) := by decide +kernel
theorem dX0_add_23 : decode cX0_add 23 = .ok (.ldiv, 1) := by decide +kernel
theorem dX0_add_24 : decode cX0_add 24 = .ok (.lmul, 1) := by decide +kernel
theorem dX0_add_25 : decode cX0_add 25 = .ok (.lload_n 2, 1) := by decide +kernel
theorem dX0_add_26 : decode cX0_add 26 = .ok (.aload_n 0, 1) := by decide +kernel
theorem dX0_add_27 : decode cX0_add 27 = .ok (.getfield 77, 3) := by decide +kernel
theorem dX0_add_30 : decode cX0_add 30 = .ok (.iload_n 1, 1) := by decide +kernel
theorem dX0_add_31 : decode cX0_add 31 = .ok (.laload, 1) := by decide +kernel
theorem dX0_add_32 : decode cX0_add 32 = .ok (.lload 6, 2) := by decide +kernel
theorem dX0_add_34 : decode cX0_add 34 = .ok (.ldiv, 1) := by decide +kernel
theorem dX0_add_35 : decode cX0_add 35 = .ok (.lmul, 1) := by decide +kernel
theorem dX0_add_36 : decode cX0_add 36 = .ok (.ladd, 1) := by decide +kernel
theorem dX0_add_37 : decode cX0_add 37 = .ok (.lstore 8, 2) := by decide +kernel
theorem dX0_add_39 : decode cX0_add 39 = .ok (.aload_n 0, 1) := by decide +kernel
theorem dX0_add_40 : decode cX0_add 40 = .ok (.getfield 77, 3) := by decide +kernel
theorem dX0_add_43 : decode cX0_add 43 = .ok (.iload_n 1, 1) := by decide +kernel
theorem dX0_add_44 : decode cX0_add 44 = .ok (.laload, 1) := by decide +kernel
theorem dX0_add_45 : decode cX0_add 45 = .ok (.lload 6, 2) := by decide +kernel
theorem dX0_add_47 : decode cX0_add 47 = .ok (.ldiv, 1) := by decide +kernel
theorem dX0_add_48 : decode cX0_add 48 = .ok (.lload 4, 2) := by decide +kernel
theorem dX0_add_50 : decode cX0_add 50 = .ok (.lmul, 1) := by decide +kernel
theorem dX0_add_51 : decode cX0_add 51 = .ok (.lstore 10, 2) := by decide +kernel
theorem dX0_add_53 : decode cX0_add 53 = .ok (.lload 8, 2) := by decide +kernel
theorem dX0_add_55 : decode cX0_add 55 = .ok (.lload 10, 2) := by decide +kernel
theorem dX0_add_57 : decode cX0_add 57 = .ok (.invokestatic 253, 3) := by decide +kernel
theorem dX0_add_60 : decode cX0_add 60 = .ok (.lstore 12, 2) := by decide +kernel
theorem dX0_add_62 : decode cX0_add 62 = .ok (.aload_n 0, 1) := by decide +kernel
theorem dX0_add_63 : decode cX0_add 63 = .ok (.getfield 73, 3) := by decide +kernel
theorem dX0_add_66 : decode cX0_add 66 = .ok (.iload_n 1, 1) := by decide +kernel
theorem dX0_add_67 : decode cX0_add 67 = .ok (.lload 8, 2) := by decide +kernel
theorem dX0_add_69 : decode cX0_add 69 = .ok (.lload 12, 2) := by decide +kernel
theorem dX0_add_71 : decode cX0_add 71 = .ok (.ldiv, 1) := by decide +kernel
theorem dX0_add_72 : decode cX0_add 72 = .ok (.lastore, 1) := by decide +kernel
theorem dX0_add_73 : decode cX0_add 73 = .ok (.aload_n 0, 1) := by decide +kernel
theorem dX0_add_74 : decode cX0_add 74 = .ok (.getfield 77, 3) := by decide +kernel
theorem dX0_add_77 : decode cX0_add 77 = .ok (.iload_n 1, 1) := by decide +kernel
theorem dX0_add_78 : decode cX0_add 78 = .ok (.lload 10, 2) := by decide +kernel
theorem dX0_add_80 : decode cX0_add 80 = .ok (.lload 12, 2) := by decide +kernel
theorem dX0_add_82 : decode cX0_add 82 = .ok (.ldiv, 1) := by decide +kernel
theorem dX0_add_83 : decode cX0_add 83 = .ok (.lastore, 1) := by decide +kernel
theorem dX0_add_84 : decode cX0_add 84 = .ok (.return_, 1) := by decide +kernel
theorem dX0_common_0 : decode cX0_common 0 = .ok (.lload_n 2, 1) := by decide +kernel
theorem dX0_common_1 : decode cX0_common 1 = .ok (.lconst 0, 1) := by decide +kernel
theorem dX0_common_2 : decode cX0_common 2 = .ok (.lcmp, 1) := by decide +kernel
theorem dX0_common_3 : decode cX0_common 3 = .ok (.ifCond .ne 7, 3) := by decide +kernel
theorem dX0_common_6 : decode cX0_common 6 = .ok (.lload_n 0, 1) := by decide +kernel
theorem dX0_common_7 : decode cX0_common 7 = .ok (.goto 10, 3) := by decide +kernel
theorem dX0_common_10 : decode cX0_common 10 = .ok (.lload_n 2, 1) := by decide +kernel
theorem dX0_common_11 : decode cX0_common 11 = .ok (.lload_n 0, 1) := by decide +kernel
theorem dX0_common_12 : decode cX0_common 12 = .ok (.lload_n 2, 1) := by decide +kernel
theorem dX0_common_13 : decode cX0_common 13 = .ok (.lrem, 1) := by decide +kernel
theorem dX0_common_14 : decode cX0_common 14 = .ok (.invokestatic 253, 3) := by decide +kernel
theorem dX0_common_17 : decode cX0_common 17 = .ok (.lreturn, 1) := by decide +kernel
theorem dX0_want_0 : decode cX0_want 0 = .ok (.aload_n 0, 1) := by decide +kernel
theorem dX0_want_1 : decode cX0_want 1 = .ok (.getfield 271, 3) := by decide +kernel
theorem dX0_want_4 : decode cX0_want 4 = .ok (.bipush 40, 2) := by decide +kernel
theorem dX0_want_6 : decode cX0_want 6 = .ok (.if_icmp .eq 35, 3) := by decide +kernel
theorem dX0_want_9 : decode cX0_want 9 = .ok (.aload_n 0, 1) := by decide +kernel
theorem dX0_want_10 : decode cX0_want 10 = .ok (.iload_n 1, 1) := by decide +kernel
theorem dX0_want_11 : decode cX0_want 11 = .ok (.invokevirtual 119, 3) := by decide +kernel
theorem dX0_want_14 : decode cX0_want 14 = .ok (.ifCond .eq 27, 3) := by decide +kernel
theorem dX0_want_17 : decode cX0_want 17 = .ok (.aload_n 0, 1) := by decide +kernel
theorem dX0_want_18 : decode cX0_want 18 = .ok (.iload_n 2, 1) := by decide +kernel
theorem dX0_want_19 : decode cX0_want 19 = .ok (.invokevirtual 119, 3) := by decide +kernel
theorem dX0_want_22 : decode cX0_want 22 = .ok (.ifCond .eq 19, 3) := by decide +kernel
theorem dX0_want_25 : decode cX0_want 25 = .ok (.iload_n 1, 1) := by decide +kernel
theorem dX0_want_26 : decode cX0_want 26 = .ok (.iload_n 2, 1) := by decide +kernel
theorem dX0_want_27 : decode cX0_want 27 = .ok (.if_icmp .eq 14, 3) := by decide +kernel
theorem dX0_want_30 : decode cX0_want 30 = .ok (.iload_n 3, 1) := by decide +kernel
theorem dX0_want_31 : decode cX0_want 31 = .ok (.ifCond .lt 10, 3) := by decide +kernel
theorem dX0_want_34 : decode cX0_want 34 = .ok (.iload_n 3, 1) := by decide +kernel
theorem dX0_want_35 : decode cX0_want 35 = .ok (.sipush 1000, 3) := by decide +kernel
theorem dX0_want_38 : decode cX0_want 38 = .ok (.if_icmp .le 5, 3) := by decide +kernel
theorem dX0_want_41 : decode cX0_want 41 = .ok (.iconst (-1), 1) := by decide +kernel
theorem dX0_want_42 : decode cX0_want 42 = .ok (.ireturn, 1) := by decide +kernel
theorem dX0_want_43 : decode cX0_want 43 = .ok (.aload_n 0, 1) := by decide +kernel
theorem dX0_want_44 : decode cX0_want 44 = .ok (.getfield 86, 3) := by decide +kernel
theorem dX0_want_47 : decode cX0_want 47 = .ok (.iload_n 1, 1) := by decide +kernel
theorem dX0_want_48 : decode cX0_want 48 = .ok (.aaload, 1) := by decide +kernel
theorem dX0_want_49 : decode cX0_want 49 = .ok (.iload_n 2, 1) := by decide +kernel
theorem dX0_want_50 : decode cX0_want 50 = .ok (.iload_n 3, 1) := by decide +kernel
theorem dX0_want_51 : decode cX0_want 51 = .ok (.iastore, 1) := by decide +kernel
theorem dX0_want_52 : decode cX0_want 52 = .ok (.aload_n 0, 1) := by decide +kernel
theorem dX0_want_53 : decode cX0_want 53 = .ok (.dup, 1) := by decide +kernel
theorem dX0_want_54 : decode cX0_want 54 = .ok (.getfield 271, 3) := by decide +kernel
theorem dX0_want_57 : decode cX0_want 57 = .ok (.iconst 1, 1) := by decide +kernel
theorem dX0_want_58 : decode cX0_want 58 = .ok (.iadd, 1) := by decide +kernel
theorem dX0_want_59 : decode cX0_want 59 = .ok (.putfield 271, 3) := by decide +kernel
theorem dX0_want_62 : decode cX0_want 62 = .ok (.aload_n 0, 1) := by decide +kernel
theorem dX0_want_63 : decode cX0_want 63 = .ok (.getfield 271, 3) := by decide +kernel
theorem dX0_want_66 : decode cX0_want 66 = .ok (.ireturn, 1) := by decide +kernel
theorem dX0_joy_0 : decode cX0_joy 0 = .ok (.aload_n 0, 1) := by decide +kernel
theorem dX0_joy_1 : decode cX0_joy 1 = .ok (.invokevirtual 283, 3) := by decide +kernel
theorem dX0_joy_4 : decode cX0_joy 4 = .ok (.aload_n 0, 1) := by decide +kernel
theorem dX0_joy_5 : decode cX0_joy 5 = .ok (.getfield 89, 3) := by decide +kernel
theorem dX0_joy_8 : decode cX0_joy 8 = .ok (.iconst 0, 1) := by decide +kernel
theorem dX0_joy_9 : decode cX0_joy 9 = .ok (.aaload, 1) := by decide +kernel
theorem dX0_joy_10 : decode cX0_joy 10 = .ok (.iconst 1, 1) := by decide +kernel
theorem dX0_joy_11 : decode cX0_joy 11 = .ok (.aload_n 0, 1) := by decide +kernel
theorem dX0_joy_12 : decode cX0_joy 12 = .ok (.getfield 95, 3) := by decide +kernel
theorem dX0_joy_15 : decode cX0_joy 15 = .ok (.ishl, 1) := by decide +kernel
theorem dX0_joy_16 : decode cX0_joy 16 = .ok (.iconst 1, 1) := by decide +kernel
theorem dX0_joy_17 : decode cX0_joy 17 = .ok (.isub, 1) := by decide +kernel
theorem dX0_joy_18 : decode cX0_joy 18 = .ok (.iaload, 1) := by decide +kernel
theorem dX0_joy_19 : decode cX0_joy 19 = .ok (.ireturn, 1) := by decide +kernel
theorem dX0_swap_0 : decode cX0_swap 0 = .ok (.aload_n 0, 1) := by decide +kernel
theorem dX0_swap_1 : decode cX0_swap 1 = .ok (.getfield 95, 3) := by decide +kernel
theorem dX0_swap_4 : decode cX0_swap 4 = .ok (.istore_n 1, 1) := by decide +kernel
theorem dX0_swap_5 : decode cX0_swap 5 = .ok (.iload_n 1, 1) := by decide +kernel
theorem dX0_swap_6 : decode cX0_swap 6 = .ok (.ifCond .lt 145, 3) := by decide +kernel
theorem dX0_swap_9 : decode cX0_swap 9 = .ok (.iconst 0, 1) := by decide +kernel
theorem dX0_swap_10 : decode cX0_swap 10 = .ok (.istore_n 2, 1) := by decide +kernel
theorem dX0_swap_11 : decode cX0_swap 11 = .ok (.iload_n 2, 1) := by decide +kernel
theorem dX0_swap_12 : decode cX0_swap 12 = .ok (.iconst 1, 1) := by decide +kernel
theorem dX0_swap_13 : decode cX0_swap 13 = .ok (.aload_n 0, 1) := by decide +kernel
theorem dX0_swap_14 : decode cX0_swap 14 = .ok (.getfield 95, 3) := by decide +kernel
theorem dX0_swap_17 : decode cX0_swap 17 = .ok (.ishl, 1) := by decide +kernel
theorem dX0_swap_18 : decode cX0_swap 18 = .ok (.if_icmp .ge 127, 3) := by decide +kernel
theorem dX0_swap_21 : decode cX0_swap 21 = .ok (.aload_n 0, 1) := by decide +kernel
theorem dX0_swap_22 : decode cX0_swap 22 = .ok (.getfield 89, 3) := by decide +kernel
theorem dX0_swap_25 : decode cX0_swap 25 = .ok (.iload_n 1, 1) := by decide +kernel
theorem dX0_swap_26 : decode cX0_swap 26 = .ok (.aaload, 1) := by decide +kernel
theorem dX0_swap_27 : decode cX0_swap 27 = .ok (.iload_n 2, 1) := by decide +kernel
theorem dX0_swap_28 : decode cX0_swap 28 = .ok (.iload_n 1, 1) := by decide +kernel
theorem dX0_swap_29 : decode cX0_swap 29 = .ok (.aload_n 0, 1) := by decide +kernel
theorem dX0_swap_30 : decode cX0_swap 30 = .ok (.getfield 95, 3) := by decide +kernel
theorem dX0_swap_33 : decode cX0_swap 33 = .ok (.if_icmp .ne 7, 3) := by decide +kernel
theorem dX0_swap_36 : decode cX0_swap 36 = .ok (.iconst 0, 1) := by decide +kernel
theorem dX0_swap_37 : decode cX0_swap 37 = .ok (.goto 4, 3) := by decide +kernel
theorem dX0_swap_40 : decode cX0_swap 40 = .ok (.iconst (-1), 1) := by decide +kernel
theorem dX0_swap_41 : decode cX0_swap 41 = .ok (.iastore, 1) := by decide +kernel
theorem dX0_swap_42 : decode cX0_swap 42 = .ok (.iconst 0, 1) := by decide +kernel
theorem dX0_swap_43 : decode cX0_swap 43 = .ok (.istore_n 3, 1) := by decide +kernel
theorem dX0_swap_44 : decode cX0_swap 44 = .ok (.iload_n 1, 1) := by decide +kernel
theorem dX0_swap_45 : decode cX0_swap 45 = .ok (.aload_n 0, 1) := by decide +kernel
theorem dX0_swap_46 : decode cX0_swap 46 = .ok (.getfield 95, 3) := by decide +kernel
theorem dX0_swap_49 : decode cX0_swap 49 = .ok (.if_icmp .ge 90, 3) := by decide +kernel
theorem dX0_swap_52 : decode cX0_swap 52 = .ok (.iload_n 3, 1) := by decide +kernel
theorem dX0_swap_53 : decode cX0_swap 53 = .ok (.aload_n 0, 1) := by decide +kernel
theorem dX0_swap_54 : decode cX0_swap 54 = .ok (.getfield 95, 3) := by decide +kernel
theorem dX0_swap_57 : decode cX0_swap 57 = .ok (.if_icmp .ge 82, 3) := by decide +kernel
theorem dX0_swap_60 : decode cX0_swap 60 = .ok (.iload_n 2, 1) := by decide +kernel
theorem dX0_swap_61 : decode cX0_swap 61 = .ok (.iload_n 3, 1) := by decide +kernel
theorem dX0_swap_62 : decode cX0_swap 62 = .ok (.ishr, 1) := by decide +kernel
theorem dX0_swap_63 : decode cX0_swap 63 = .ok (.iconst 1, 1) := by decide +kernel
theorem dX0_swap_64 : decode cX0_swap 64 = .ok (.iand, 1) := by decide +kernel
theorem dX0_swap_65 : decode cX0_swap 65 = .ok (.ifCond .eq 68, 3) := by decide +kernel
theorem dX0_swap_68 : decode cX0_swap 68 = .ok (.aload_n 0, 1) := by decide +kernel
theorem dX0_swap_69 : decode cX0_swap 69 = .ok (.iload_n 1, 1) := by decide +kernel
theorem dX0_swap_70 : decode cX0_swap 70 = .ok (.iload_n 3, 1) := by decide +kernel
theorem dX0_swap_71 : decode cX0_swap 71 = .ok (.invokevirtual 274, 3) := by decide +kernel
theorem dX0_swap_74 : decode cX0_swap 74 = .ok (.ifCond .ne 6, 3) := by decide +kernel
theorem dX0_swap_77 : decode cX0_swap 77 = .ok (.goto 56, 3) := by decide +kernel
theorem dX0_swap_80 : decode cX0_swap 80 = .ok (.aload_n 0, 1) := by decide +kernel
theorem dX0_swap_81 : decode cX0_swap 81 = .ok (.getfield 89, 3) := by decide +kernel
theorem dX0_swap_84 : decode cX0_swap 84 = .ok (.iload_n 1, 1) := by decide +kernel
theorem dX0_swap_85 : decode cX0_swap 85 = .ok (.iconst 1, 1) := by decide +kernel
theorem dX0_swap_86 : decode cX0_swap 86 = .ok (.iadd, 1) := by decide +kernel
theorem dX0_swap_87 : decode cX0_swap 87 = .ok (.aaload, 1) := by decide +kernel
theorem dX0_swap_88 : decode cX0_swap 88 = .ok (.iload_n 2, 1) := by decide +kernel
theorem dX0_swap_89 : decode cX0_swap 89 = .ok (.iconst 1, 1) := by decide +kernel
theorem dX0_swap_90 : decode cX0_swap 90 = .ok (.iload_n 3, 1) := by decide +kernel
theorem dX0_swap_91 : decode cX0_swap 91 = .ok (.ishl, 1) := by decide +kernel
theorem dX0_swap_92 : decode cX0_swap 92 = .ok (.iconst (-1), 1) := by decide +kernel
theorem dX0_swap_93 : decode cX0_swap 93 = .ok (.ixor, 1) := by decide +kernel
theorem dX0_swap_94 : decode cX0_swap 94 = .ok (.iand, 1) := by decide +kernel
theorem dX0_swap_95 : decode cX0_swap 95 = .ok (.iaload, 1) := by decide +kernel
theorem dX0_swap_96 : decode cX0_swap 96 = .ok (.istore 4, 2) := by decide +kernel
theorem dX0_swap_98 : decode cX0_swap 98 = .ok (.iload 4, 2) := by decide +kernel
theorem dX0_swap_100 : decode cX0_swap 100 = .ok (.ifCond .lt 33, 3) := by decide +kernel
theorem dX0_swap_103 : decode cX0_swap 103 = .ok (.aload_n 0, 1) := by decide +kernel
theorem dX0_swap_104 : decode cX0_swap 104 = .ok (.getfield 89, 3) := by decide +kernel
theorem dX0_swap_107 : decode cX0_swap 107 = .ok (.iload_n 1, 1) := by decide +kernel
theorem dX0_swap_108 : decode cX0_swap 108 = .ok (.aaload, 1) := by decide +kernel
theorem dX0_swap_109 : decode cX0_swap 109 = .ok (.iload_n 2, 1) := by decide +kernel
theorem dX0_swap_110 : decode cX0_swap 110 = .ok (.aload_n 0, 1) := by decide +kernel
theorem dX0_swap_111 : decode cX0_swap 111 = .ok (.getfield 89, 3) := by decide +kernel
theorem dX0_swap_114 : decode cX0_swap 114 = .ok (.iload_n 1, 1) := by decide +kernel
theorem dX0_swap_115 : decode cX0_swap 115 = .ok (.aaload, 1) := by decide +kernel
theorem dX0_swap_116 : decode cX0_swap 116 = .ok (.iload_n 2, 1) := by decide +kernel
theorem dX0_swap_117 : decode cX0_swap 117 = .ok (.iaload, 1) := by decide +kernel
theorem dX0_swap_118 : decode cX0_swap 118 = .ok (.iload 4, 2) := by decide +kernel
theorem dX0_swap_120 : decode cX0_swap 120 = .ok (.aload_n 0, 1) := by decide +kernel
theorem dX0_swap_121 : decode cX0_swap 121 = .ok (.getfield 86, 3) := by decide +kernel
theorem dX0_swap_124 : decode cX0_swap 124 = .ok (.iload_n 1, 1) := by decide +kernel
theorem dX0_swap_125 : decode cX0_swap 125 = .ok (.aaload, 1) := by decide +kernel
theorem dX0_swap_126 : decode cX0_swap 126 = .ok (.iload_n 3, 1) := by decide +kernel
theorem dX0_swap_127 : decode cX0_swap 127 = .ok (.iaload, 1) := by decide +kernel
theorem dX0_swap_128 : decode cX0_swap 128 = .ok (.iadd, 1) := by decide +kernel
theorem dX0_swap_129 : decode cX0_swap 129 = .ok (.invokestatic 277, 3) := by decide +kernel
theorem dX0_swap_132 : decode cX0_swap 132 = .ok (.iastore, 1) := by decide +kernel
theorem dX0_swap_133 : decode cX0_swap 133 = .ok (.iinc 3 1, 3) := by decide +kernel
theorem dX0_swap_136 : decode cX0_swap 136 = .ok (.goto (-92), 3) := by decide +kernel
theorem dX0_swap_139 : decode cX0_swap 139 = .ok (.iinc 2 1, 3) := by decide +kernel
theorem dX0_swap_142 : decode cX0_swap 142 = .ok (.goto (-131), 3) := by decide +kernel
theorem dX0_swap_145 : decode cX0_swap 145 = .ok (.iinc 1 (-1), 3) := by decide +kernel
theorem dX0_swap_148 : decode cX0_swap 148 = .ok (.goto (-143), 3) := by decide +kernel
theorem dX0_swap_151 : decode cX0_swap 151 = .ok (.return_, 1) := by decide +kernel
theorem dX0_canHave_0 : decode cX0_canHave 0 = .ok (.iload_n 1, 1) := by decide +kernel
theorem dX0_canHave_1 : decode cX0_canHave 1 = .ok (.iload_n 2, 1) := by decide +kernel
theorem dX0_canHave_2 : decode cX0_canHave 2 = .ok (.if_icmp .eq 14, 3) := by decide +kernel
theorem dX0_canHave_5 : decode cX0_canHave 5 = .ok (.aload_n 0, 1) := by decide +kernel
theorem dX0_canHave_6 : decode cX0_canHave 6 = .ok (.getfield 86, 3) := by decide +kernel
theorem dX0_canHave_9 : decode cX0_canHave 9 = .ok (.iload_n 1, 1) := by decide +kernel
theorem dX0_canHave_10 : decode cX0_canHave 10 = .ok (.aaload, 1) := by decide +kernel
theorem dX0_canHave_11 : decode cX0_canHave 11 = .ok (.iload_n 2, 1) := by decide +kernel
theorem dX0_canHave_12 : decode cX0_canHave 12 = .ok (.iaload, 1) := by decide +kernel
theorem dX0_canHave_13 : decode cX0_canHave 13 = .ok (.ifCond .le 7, 3) := by decide +kernel
theorem dX0_canHave_16 : decode cX0_canHave 16 = .ok (.iconst 1, 1) := by decide +kernel
theorem dX0_canHave_17 : decode cX0_canHave 17 = .ok (.goto 4, 3) := by decide +kernel
theorem dX0_canHave_20 : decode cX0_canHave 20 = .ok (.iconst 0, 1) := by decide +kernel
theorem dX0_canHave_21 : decode cX0_canHave 21 = .ok (.ireturn, 1) := by decide +kernel
theorem dX0_swap_2_0 : decode cX0_swap_2 0 = .ok (.aload_n 0, 1) := by decide +kernel
theorem dX0_swap_2_1 : decode cX0_swap_2 1 = .ok (.iload_n 1, 1) := by decide +kernel
theorem dX0_swap_2_2 : decode cX0_swap_2 2 = .ok (.invokevirtual 119, 3) := by decide +kernel
theorem dX0_swap_2_5 : decode cX0_swap_2 5 = .ok (.ifCond .ne 5, 3) := by decide +kernel
theorem dX0_swap_2_8 : decode cX0_swap_2 8 = .ok (.iconst (-1), 1) := by decide +kernel
theorem dX0_swap_2_9 : decode cX0_swap_2 9 = .ok (.ireturn, 1) := by decide +kernel
theorem dX0_swap_2_10 : decode cX0_swap_2 10 = .ok (.aload_n 0, 1) := by decide +kernel
theorem dX0_swap_2_11 : decode cX0_swap_2 11 = .ok (.invokevirtual 283, 3) := by decide +kernel
theorem dX0_swap_2_14 : decode cX0_swap_2 14 = .ok (.iconst 1, 1) := by decide +kernel
theorem dX0_swap_2_15 : decode cX0_swap_2 15 = .ok (.aload_n 0, 1) := by decide +kernel
theorem dX0_swap_2_16 : decode cX0_swap_2 16 = .ok (.getfield 95, 3) := by decide +kernel
theorem dX0_swap_2_19 : decode cX0_swap_2 19 = .ok (.ishl, 1) := by decide +kernel
theorem dX0_swap_2_20 : decode cX0_swap_2 20 = .ok (.iconst 1, 1) := by decide +kernel
theorem dX0_swap_2_21 : decode cX0_swap_2 21 = .ok (.isub, 1) := by decide +kernel
theorem dX0_swap_2_22 : decode cX0_swap_2 22 = .ok (.istore_n 2, 1) := by decide +kernel
theorem dX0_swap_2_23 : decode cX0_swap_2 23 = .ok (.iconst (-1), 1) := by decide +kernel
theorem dX0_swap_2_24 : decode cX0_swap_2 24 = .ok (.istore_n 3, 1) := by decide +kernel
theorem dX0_swap_2_25 : decode cX0_swap_2 25 = .ok (.iconst 0, 1) := by decide +kernel
theorem dX0_swap_2_26 : decode cX0_swap_2 26 = .ok (.istore 4, 2) := by decide +kernel
theorem dX0_swap_2_28 : decode cX0_swap_2 28 = .ok (.iload 4, 2) := by decide +kernel
theorem dX0_swap_2_30 : decode cX0_swap_2 30 = .ok (.iload_n 1, 1) := by decide +kernel
theorem dX0_swap_2_31 : decode cX0_swap_2 31 = .ok (.if_icmp .gt 102, 3) := by decide +kernel
theorem dX0_swap_2_34 : decode cX0_swap_2 34 = .ok (.iconst 0, 1) := by decide +kernel
theorem dX0_swap_2_35 : decode cX0_swap_2 35 = .ok (.istore_n 3, 1) := by decide +kernel
theorem dX0_swap_2_36 : decode cX0_swap_2 36 = .ok (.iload_n 2, 1) := by decide +kernel
theorem dX0_swap_2_37 : decode cX0_swap_2 37 = .ok (.iload_n 3, 1) := by decide +kernel
theorem dX0_swap_2_38 : decode cX0_swap_2 38 = .ok (.ishr, 1) := by decide +kernel
theorem dX0_swap_2_39 : decode cX0_swap_2 39 = .ok (.iconst 1, 1) := by decide +kernel
theorem dX0_swap_2_40 : decode cX0_swap_2 40 = .ok (.iand, 1) := by decide +kernel
theorem dX0_swap_2_41 : decode cX0_swap_2 41 = .ok (.ifCond .eq 72, 3) := by decide +kernel
theorem dX0_swap_2_44 : decode cX0_swap_2 44 = .ok (.aload_n 0, 1) := by decide +kernel
theorem dX0_swap_2_45 : decode cX0_swap_2 45 = .ok (.iload 4, 2) := by decide +kernel
theorem dX0_swap_2_47 : decode cX0_swap_2 47 = .ok (.iload_n 3, 1) := by decide +kernel
theorem dX0_swap_2_48 : decode cX0_swap_2 48 = .ok (.invokevirtual 274, 3) := by decide +kernel
theorem dX0_swap_2_51 : decode cX0_swap_2 51 = .ok (.ifCond .eq 62, 3) := by decide +kernel
theorem dX0_swap_2_54 : decode cX0_swap_2 54 = .ok (.aload_n 0, 1) := by decide +kernel
theorem dX0_swap_2_55 : decode cX0_swap_2 55 = .ok (.getfield 89, 3) := by decide +kernel
theorem dX0_swap_2_58 : decode cX0_swap_2 58 = .ok (.iload 4, 2) := by decide +kernel
theorem dX0_swap_2_60 : decode cX0_swap_2 60 = .ok (.iconst 1, 1) := by decide +kernel
theorem dX0_swap_2_61 : decode cX0_swap_2 61 = .ok (.iadd, 1) := by decide +kernel
theorem dX0_swap_2_62 : decode cX0_swap_2 62 = .ok (.aaload, 1) := by decide +kernel
theorem dX0_swap_2_63 : decode cX0_swap_2 63 = .ok (.iload_n 2, 1) := by decide +kernel
theorem dX0_swap_2_64 : decode cX0_swap_2 64 = .ok (.iconst 1, 1) := by decide +kernel
theorem dX0_swap_2_65 : decode cX0_swap_2 65 = .ok (.iload_n 3, 1) := by decide +kernel
theorem dX0_swap_2_66 : decode cX0_swap_2 66 = .ok (.ishl, 1) := by decide +kernel
theorem dX0_swap_2_67 : decode cX0_swap_2 67 = .ok (.iconst (-1), 1) := by decide +kernel
theorem dX0_swap_2_68 : decode cX0_swap_2 68 = .ok (.ixor, 1) := by decide +kernel
theorem dX0_swap_2_69 : decode cX0_swap_2 69 = .ok (.iand, 1) := by decide +kernel
theorem dX0_swap_2_70 : decode cX0_swap_2 70 = .ok (.iaload, 1) := by decide +kernel
theorem dX0_swap_2_71 : decode cX0_swap_2 71 = .ok (.ifCond .lt 42, 3) := by decide +kernel
theorem dX0_swap_2_74 : decode cX0_swap_2 74 = .ok (.aload_n 0, 1) := by decide +kernel
theorem dX0_swap_2_75 : decode cX0_swap_2 75 = .ok (.getfield 89, 3) := by decide +kernel
theorem dX0_swap_2_78 : decode cX0_swap_2 78 = .ok (.iload 4, 2) := by decide +kernel
theorem dX0_swap_2_80 : decode cX0_swap_2 80 = .ok (.iconst 1, 1) := by decide +kernel
theorem dX0_swap_2_81 : decode cX0_swap_2 81 = .ok (.iadd, 1) := by decide +kernel
theorem dX0_swap_2_82 : decode cX0_swap_2 82 = .ok (.aaload, 1) := by decide +kernel
theorem dX0_swap_2_83 : decode cX0_swap_2 83 = .ok (.iload_n 2, 1) := by decide +kernel
theorem dX0_swap_2_84 : decode cX0_swap_2 84 = .ok (.iconst 1, 1) := by decide +kernel
theorem dX0_swap_2_85 : decode cX0_swap_2 85 = .ok (.iload_n 3, 1) := by decide +kernel
theorem dX0_swap_2_86 : decode cX0_swap_2 86 = .ok (.ishl, 1) := by decide +kernel
theorem dX0_swap_2_87 : decode cX0_swap_2 87 = .ok (.iconst (-1), 1) := by decide +kernel
theorem dX0_swap_2_88 : decode cX0_swap_2 88 = .ok (.ixor, 1) := by decide +kernel
theorem dX0_swap_2_89 : decode cX0_swap_2 89 = .ok (.iand, 1) := by decide +kernel
theorem dX0_swap_2_90 : decode cX0_swap_2 90 = .ok (.iaload, 1) := by decide +kernel
theorem dX0_swap_2_91 : decode cX0_swap_2 91 = .ok (.aload_n 0, 1) := by decide +kernel
theorem dX0_swap_2_92 : decode cX0_swap_2 92 = .ok (.getfield 86, 3) := by decide +kernel
theorem dX0_swap_2_95 : decode cX0_swap_2 95 = .ok (.iload 4, 2) := by decide +kernel
theorem dX0_swap_2_97 : decode cX0_swap_2 97 = .ok (.aaload, 1) := by decide +kernel
theorem dX0_swap_2_98 : decode cX0_swap_2 98 = .ok (.iload_n 3, 1) := by decide +kernel
theorem dX0_swap_2_99 : decode cX0_swap_2 99 = .ok (.iaload, 1) := by decide +kernel
theorem dX0_swap_2_100 : decode cX0_swap_2 100 = .ok (.iadd, 1) := by decide +kernel
theorem dX0_swap_2_101 : decode cX0_swap_2 101 = .ok (.aload_n 0, 1) := by decide +kernel
theorem dX0_swap_2_102 : decode cX0_swap_2 102 = .ok (.getfield 89, 3) := by decide +kernel
theorem dX0_swap_2_105 : decode cX0_swap_2 105 = .ok (.iload 4, 2) := by decide +kernel
theorem dX0_swap_2_107 : decode cX0_swap_2 107 = .ok (.aaload, 1) := by decide +kernel
theorem dX0_swap_2_108 : decode cX0_swap_2 108 = .ok (.iload_n 2, 1) := by decide +kernel
theorem dX0_swap_2_109 : decode cX0_swap_2 109 = .ok (.iaload, 1) := by decide +kernel
theorem dX0_swap_2_110 : decode cX0_swap_2 110 = .ok (.if_icmp .eq 9, 3) := by decide +kernel
theorem dX0_swap_2_113 : decode cX0_swap_2 113 = .ok (.iinc 3 1, 3) := by decide +kernel
theorem dX0_swap_2_116 : decode cX0_swap_2 116 = .ok (.goto (-80), 3) := by decide +kernel
theorem dX0_swap_2_119 : decode cX0_swap_2 119 = .ok (.iload_n 2, 1) := by decide +kernel
theorem dX0_swap_2_120 : decode cX0_swap_2 120 = .ok (.iconst 1, 1) := by decide +kernel
theorem dX0_swap_2_121 : decode cX0_swap_2 121 = .ok (.iload_n 3, 1) := by decide +kernel
theorem dX0_swap_2_122 : decode cX0_swap_2 122 = .ok (.ishl, 1) := by decide +kernel
theorem dX0_swap_2_123 : decode cX0_swap_2 123 = .ok (.iconst (-1), 1) := by decide +kernel
theorem dX0_swap_2_124 : decode cX0_swap_2 124 = .ok (.ixor, 1) := by decide +kernel
theorem dX0_swap_2_125 : decode cX0_swap_2 125 = .ok (.iand, 1) := by decide +kernel
theorem dX0_swap_2_126 : decode cX0_swap_2 126 = .ok (.istore_n 2, 1) := by decide +kernel
