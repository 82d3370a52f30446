set_option maxRecDepth 100000
theorem dJ0_init_0 : decode cJ0_init 0 = .ok (.aload_n 0, 1) := by decide +kernel
theorem dJ0_init_1 : decode cJ0_init 1 = .ok (.invokespecial 1, 3) := by decide +kernel
theorem dJ0_init_4 : decode cJ0_init 4 = .ok (.return_, 1) := by decide +kernel
theorem dJ1_init_0 : decode cJ1_init 0 = .ok (.aload_n 0, 1) := by decide +kernel
theorem dJ1_init_1 : decode cJ1_init 1 = .ok (.invokespecial 1, 3) := by decide +kernel
theorem dJ1_init_4 : decode cJ1_init 4 = .ok (.aload_n 0, 1) := by decide +kernel
theorem dJ1_init_5 : decode cJ1_init 5 = .ok (.iconst 0, 1) := by decide +kernel
theorem dJ1_init_6 : decode cJ1_init 6 = .ok (.putfield 7, 3) := by decide +kernel
theorem dJ1_init_9 : decode cJ1_init 9 = .ok (.return_, 1) := by decide +kernel
theorem dJ10_canEncode_0 : decode cJ10_canEncode 0 = .ok (.iload_n 0, 1) := by decide +kernel
theorem dJ10_canEncode_1 : decode cJ10_canEncode 1 = .ok (.sipush 255, 3) := by decide +kernel
theorem dJ10_canEncode_4 : decode cJ10_canEncode 4 = .ok (.if_icmp .gt 7, 3) := by decide +kernel
theorem dJ10_canEncode_7 : decode cJ10_canEncode 7 = .ok (.iconst 1, 1) := by decide +kernel
theorem dJ10_canEncode_8 : decode cJ10_canEncode 8 = .ok (.goto 4, 3) := by decide +kernel
theorem dJ10_canEncode_11 : decode cJ10_canEncode 11 = .ok (.iconst 0, 1) := by decide +kernel
theorem dJ10_canEncode_12 : decode cJ10_canEncode 12 = .ok (.ireturn, 1) := by decide +kernel
theorem dJ10_inflate_0 : decode cJ10_inflate 0 = .ok (.aload_n 0, 1) := by decide +kernel
theorem dJ10_inflate_1 : decode cJ10_inflate 1 = .ok (.iload_n 1, 1) := by decide +kernel
theorem dJ10_inflate_2 : decode cJ10_inflate 2 = .ok (.aload_n 2, 1) := by decide +kernel
theorem dJ10_inflate_3 : decode cJ10_inflate 3 = .ok (.iload_n 3, 1) := by decide +kernel
theorem dJ10_inflate_4 : decode cJ10_inflate 4 = .ok (.iload 4, 2) := by decide +kernel
theorem dJ10_inflate_6 : decode cJ10_inflate 6 = .ok (.invokestatic 240, 3) := by decide +kernel
theorem dJ10_inflate_9 : decode cJ10_inflate 9 = .ok (.return_, 1) := by decide +kernel
theorem dJ10_indexOf_0 : decode cJ10_indexOf 0 = .ok (.iload_n 1, 1) := by decide +kernel
theorem dJ10_indexOf_1 : decode cJ10_indexOf 1 = .ok (.invokestatic 88, 3) := by decide +kernel
theorem dJ10_indexOf_4 : decode cJ10_indexOf 4 = .ok (.ifCond .ne 5, 3) := by decide +kernel
theorem dJ10_indexOf_7 : decode cJ10_indexOf 7 = .ok (.iconst (-1), 1) := by decide +kernel
theorem dJ10_indexOf_8 : decode cJ10_indexOf 8 = .ok (.ireturn, 1) := by decide +kernel
theorem dJ10_indexOf_9 : decode cJ10_indexOf 9 = .ok (.iload_n 2, 1) := by decide +kernel
theorem dJ10_indexOf_10 : decode cJ10_indexOf 10 = .ok (.iconst 0, 1) := by decide +kernel
theorem dJ10_indexOf_11 : decode cJ10_indexOf 11 = .ok (.invokestatic 92, 3) := by decide +kernel
theorem dJ10_indexOf_14 : decode cJ10_indexOf 14 = .ok (.istore_n 2, 1) := by decide +kernel
theorem dJ10_indexOf_15 : decode cJ10_indexOf 15 = .ok (.iload_n 3, 1) := by decide +kernel
theorem dJ10_indexOf_16 : decode cJ10_indexOf 16 = .ok (.aload_n 0, 1) := by decide +kernel
theorem dJ10_indexOf_17 : decode cJ10_indexOf 17 = .ok (.arraylength, 1) := by decide +kernel
theorem dJ10_indexOf_18 : decode cJ10_indexOf 18 = .ok (.invokestatic 38, 3) := by decide +kernel
theorem dJ10_indexOf_21 : decode cJ10_indexOf 21 = .ok (.istore_n 3, 1) := by decide +kernel
theorem dJ10_indexOf_22 : decode cJ10_indexOf 22 = .ok (.iload_n 2, 1) := by decide +kernel
theorem dJ10_indexOf_23 : decode cJ10_indexOf 23 = .ok (.iload_n 3, 1) := by decide +kernel
theorem dJ10_indexOf_24 : decode cJ10_indexOf 24 = .ok (.if_icmp .lt 5, 3) := by decide +kernel
theorem dJ10_indexOf_27 : decode cJ10_indexOf 27 = .ok (.iconst (-1), 1) := by decide +kernel
theorem dJ10_indexOf_28 : decode cJ10_indexOf 28 = .ok (.ireturn, 1) := by decide +kernel
theorem dJ10_indexOf_29 : decode cJ10_indexOf 29 = .ok (.aload_n 0, 1) := by decide +kernel
theorem dJ10_indexOf_30 : decode cJ10_indexOf 30 = .ok (.iload_n 1, 1) := by decide +kernel
theorem dJ10_indexOf_31 : decode cJ10_indexOf 31 = .ok (.iload_n 2, 1) := by decide +kernel
theorem dJ10_indexOf_32 : decode cJ10_indexOf 32 = .ok (.iload_n 3, 1) := by decide +kernel
theorem dJ10_indexOf_33 : decode cJ10_indexOf 33 = .ok (.invokestatic 95, 3) := by decide +kernel
theorem dJ10_indexOf_36 : decode cJ10_indexOf 36 = .ok (.ireturn, 1) := by decide +kernel
theorem dJ10_canEncode_2_0 : decode cJ10_canEncode_2 0 = .ok (.iload_n 0, 1) := by decide +kernel
theorem dJ10_canEncode_2_1 : decode cJ10_canEncode_2 1 = .ok (.ifCond .lt 14, 3) := by decide +kernel
theorem dJ10_canEncode_2_4 : decode cJ10_canEncode_2 4 = .ok (.iload_n 0, 1) := by decide +kernel
theorem dJ10_canEncode_2_5 : decode cJ10_canEncode_2 5 = .ok (.sipush 255, 3) := by decide +kernel
theorem dJ10_canEncode_2_8 : decode cJ10_canEncode_2 8 = .ok (.if_icmp .gt 7, 3) := by decide +kernel
theorem dJ10_canEncode_2_11 : decode cJ10_canEncode_2 11 = .ok (.iconst 1, 1) := by decide +kernel
theorem dJ10_canEncode_2_12 : decode cJ10_canEncode_2 12 = .ok (.goto 4, 3) := by decide +kernel
theorem dJ10_canEncode_2_15 : decode cJ10_canEncode_2 15 = .ok (.iconst 0, 1) := by decide +kernel
theorem dJ10_canEncode_2_16 : decode cJ10_canEncode_2 16 = .ok (.ireturn, 1) := by decide +kernel
theorem dJ10_indexOfChar_0 : decode cJ10_indexOfChar 0 = .ok (.iload_n 1, 1) := by decide +kernel
theorem dJ10_indexOfChar_1 : decode cJ10_indexOfChar 1 = .ok (.i2b, 1) := by decide +kernel
theorem dJ10_indexOfChar_2 : decode cJ10_indexOfChar 2 = .ok (.istore 4, 2) := by decide +kernel
theorem dJ10_indexOfChar_4 : decode cJ10_indexOfChar 4 = .ok (.iload_n 2, 1) := by decide +kernel
theorem dJ10_indexOfChar_5 : decode cJ10_indexOfChar 5 = .ok (.istore 5, 2) := by decide +kernel
theorem dJ10_indexOfChar_7 : decode cJ10_indexOfChar 7 = .ok (.iload 5, 2) := by decide +kernel
theorem dJ10_indexOfChar_9 : decode cJ10_indexOfChar 9 = .ok (.iload_n 3, 1) := by decide +kernel
theorem dJ10_indexOfChar_10 : decode cJ10_indexOfChar 10 = .ok (.if_icmp .ge 21, 3) := by decide +kernel
theorem dJ10_indexOfChar_13 : decode cJ10_indexOfChar 13 = .ok (.aload_n 0, 1) := by decide +kernel
theorem dJ10_indexOfChar_14 : decode cJ10_indexOfChar 14 = .ok (.iload 5, 2) := by decide +kernel
theorem dJ10_indexOfChar_16 : decode cJ10_indexOfChar 16 = .ok (.baload, 1) := by decide +kernel
theorem dJ10_indexOfChar_17 : decode cJ10_indexOfChar 17 = .ok (.iload 4, 2) := by decide +kernel
theorem dJ10_indexOfChar_19 : decode cJ10_indexOfChar 19 = .ok (.if_icmp .ne 6, 3) := by decide +kernel
theorem dJ10_indexOfChar_22 : decode cJ10_indexOfChar 22 = .ok (.iload 5, 2) := by decide +kernel
theorem dJ10_indexOfChar_24 : decode cJ10_indexOfChar 24 = .ok (.ireturn, 1) := by decide +kernel
theorem dJ10_indexOfChar_25 : decode cJ10_indexOfChar 25 = .ok (.iinc 5 1, 3) := by decide +kernel
theorem dJ10_indexOfChar_28 : decode cJ10_indexOfChar 28 = .ok (.goto (-21), 3) := by decide +kernel
theorem dJ10_indexOfChar_31 : decode cJ10_indexOfChar 31 = .ok (.iconst (-1), 1) := by decide +kernel
theorem dJ10_indexOfChar_32 : decode cJ10_indexOfChar 32 = .ok (.ireturn, 1) := by decide +kernel
theorem dJ10_equals_0 : decode cJ10_equals 0 = .ok (.aload_n 0, 1) := by decide +kernel
theorem dJ10_equals_1 : decode cJ10_equals 1 = .ok (.arraylength, 1) := by decide +kernel
theorem dJ10_equals_2 : decode cJ10_equals 2 = .ok (.aload_n 1, 1) := by decide +kernel
theorem dJ10_equals_3 : decode cJ10_equals 3 = .ok (.arraylength, 1) := by decide +kernel
theorem dJ10_equals_4 : decode cJ10_equals 4 = .ok (.if_icmp .ne 30, 3) := by decide +kernel
theorem dJ10_equals_7 : decode cJ10_equals 7 = .ok (.iconst 0, 1) := by decide +kernel
theorem dJ10_equals_8 : decode cJ10_equals 8 = .ok (.istore_n 2, 1) := by decide +kernel
theorem dJ10_equals_9 : decode cJ10_equals 9 = .ok (.iload_n 2, 1) := by decide +kernel
theorem dJ10_equals_10 : decode cJ10_equals 10 = .ok (.aload_n 0, 1) := by decide +kernel
theorem dJ10_equals_11 : decode cJ10_equals 11 = .ok (.arraylength, 1) := by decide +kernel
theorem dJ10_equals_12 : decode cJ10_equals 12 = .ok (.if_icmp .ge 20, 3) := by decide +kernel
theorem dJ10_equals_15 : decode cJ10_equals 15 = .ok (.aload_n 0, 1) := by decide +kernel
theorem dJ10_equals_16 : decode cJ10_equals 16 = .ok (.iload_n 2, 1) := by decide +kernel
theorem dJ10_equals_17 : decode cJ10_equals 17 = .ok (.baload, 1) := by decide +kernel
theorem dJ10_equals_18 : decode cJ10_equals 18 = .ok (.aload_n 1, 1) := by decide +kernel
theorem dJ10_equals_19 : decode cJ10_equals 19 = .ok (.iload_n 2, 1) := by decide +kernel
theorem dJ10_equals_20 : decode cJ10_equals 20 = .ok (.baload, 1) := by decide +kernel
theorem dJ10_equals_21 : decode cJ10_equals 21 = .ok (.if_icmp .eq 5, 3) := by decide +kernel
theorem dJ10_equals_24 : decode cJ10_equals 24 = .ok (.iconst 0, 1) := by decide +kernel
theorem dJ10_equals_25 : decode cJ10_equals 25 = .ok (.ireturn, 1) := by decide +kernel
theorem dJ10_equals_26 : decode cJ10_equals 26 = .ok (.iinc 2 1, 3) := by decide +kernel
theorem dJ10_equals_29 : decode cJ10_equals 29 = .ok (.goto (-20), 3) := by decide +kernel
theorem dJ10_equals_32 : decode cJ10_equals 32 = .ok (.iconst 1, 1) := by decide +kernel
theorem dJ10_equals_33 : decode cJ10_equals 33 = .ok (.ireturn, 1) := by decide +kernel
theorem dJ10_equals_34 : decode cJ10_equals 34 = .ok (.iconst 0, 1) := by decide +kernel
theorem dJ10_equals_35 : decode cJ10_equals 35 = .ok (.ireturn, 1) := by decide +kernel
theorem dJ10_hashCode_0 : decode cJ10_hashCode 0 = .ok (.aload_n 0, 1) := by decide +kernel
theorem dJ10_hashCode_1 : decode cJ10_hashCode 1 = .ok (.arraylength, 1) := by decide +kernel
theorem dJ10_hashCode_2 : decode cJ10_hashCode 2 = .ok (.lookupswitch 40 #[(0, 26), (1, 30)], 26) := by decide +kernel
theorem dJ10_hashCode_28 : decode cJ10_hashCode 28 = .ok (.iconst 0, 1) := by decide +kernel
theorem dJ10_hashCode_29 : decode cJ10_hashCode 29 = .ok (.goto 22, 3) := by decide +kernel
theorem dJ10_hashCode_32 : decode cJ10_hashCode 32 = .ok (.aload_n 0, 1) := by decide +kernel
theorem dJ10_hashCode_33 : decode cJ10_hashCode 33 = .ok (.iconst 0, 1) := by decide +kernel
theorem dJ10_hashCode_34 : decode cJ10_hashCode 34 = .ok (.baload, 1) := by decide +kernel
theorem dJ10_hashCode_35 : decode cJ10_hashCode 35 = .ok (.sipush 255, 3) := by decide +kernel
theorem dJ10_hashCode_38 : decode cJ10_hashCode 38 = .ok (.iand, 1) := by decide +kernel
theorem dJ10_hashCode_39 : decode cJ10_hashCode 39 = .ok (.goto 12, 3) := by decide +kernel
theorem dJ10_hashCode_42 : decode cJ10_hashCode 42 = .ok (.aload_n 0, 1) := by decide +kernel
theorem dJ10_hashCode_43 : decode cJ10_hashCode 43 = .ok (.iconst 0, 1) := by decide +kernel
theorem dJ10_hashCode_44 : decode cJ10_hashCode 44 = .ok (.aload_n 0, 1) := by decide +kernel
theorem dJ10_hashCode_45 : decode cJ10_hashCode 45 = .ok (.arraylength, 1) := by decide +kernel
theorem dJ10_hashCode_46 : decode cJ10_hashCode 46 = .ok (.iconst 0, 1) := by decide +kernel
theorem dJ10_hashCode_47 : decode cJ10_hashCode 47 = .ok (.iconst 4, 1) := by decide +kernel
theorem dJ10_hashCode_48 : decode cJ10_hashCode 48 = .ok (.invokestatic 84, 3) := by decide +kernel
theorem dJ10_hashCode_51 : decode cJ10_hashCode 51 = .ok (.ireturn, 1) := by decide +kernel
theorem dJ11_checkFromIndexSize_0 : decode cJ11_checkFromIndexSize 0 = .ok (.iload_n 2, 1) := by decide +kernel
theorem dJ11_checkFromIndexSize_1 : decode cJ11_checkFromIndexSize 1 = .ok (.iload_n 0, 1) := by decide +kernel
theorem dJ11_checkFromIndexSize_2 : decode cJ11_checkFromIndexSize 2 = .ok (.ior, 1) := by decide +kernel
theorem dJ11_checkFromIndexSize_3 : decode cJ11_checkFromIndexSize 3 = .ok (.iload_n 1, 1) := by decide +kernel
theorem dJ11_checkFromIndexSize_4 : decode cJ11_checkFromIndexSize 4 = .ok (.ior, 1) := by decide +kernel
theorem dJ11_checkFromIndexSize_5 : decode cJ11_checkFromIndexSize 5 = .ok (.ifCond .lt 10, 3) := by decide +kernel
theorem dJ11_checkFromIndexSize_8 : decode cJ11_checkFromIndexSize 8 = .ok (.iload_n 1, 1) := by decide +kernel
theorem dJ11_checkFromIndexSize_9 : decode cJ11_checkFromIndexSize 9 = .ok (.iload_n 2, 1) := by decide +kernel
theorem dJ11_checkFromIndexSize_10 : decode cJ11_checkFromIndexSize 10 = .ok (.iload_n 0, 1) := by decide +kernel
theorem dJ11_checkFromIndexSize_11 : decode cJ11_checkFromIndexSize 11 = .ok (.isub, 1) := by decide +kernel
theorem dJ11_checkFromIndexSize_12 : decode cJ11_checkFromIndexSize 12 = .ok (.if_icmp .le 11, 3) := by decide +kernel
theorem dJ11_checkFromIndexSize_15 : decode cJ11_checkFromIndexSize 15 = .ok (.aload_n 3, 1) := by decide +kernel
theorem dJ11_checkFromIndexSize_16 : decode cJ11_checkFromIndexSize 16 = .ok (.iload_n 0, 1) := by decide +kernel
theorem dJ11_checkFromIndexSize_17 : decode cJ11_checkFromIndexSize 17 = .ok (.iload_n 1, 1) := by decide +kernel
theorem dJ11_checkFromIndexSize_18 : decode cJ11_checkFromIndexSize 18 = .ok (.iload_n 2, 1) := by decide +kernel
theorem dJ11_checkFromIndexSize_19 : decode cJ11_checkFromIndexSize 19 = .ok (.invokestatic 103, 3) := by decide +kernel
theorem dJ11_checkFromIndexSize_22 : decode cJ11_checkFromIndexSize 22 = .ok (.athrow, 1) := by decide +kernel
theorem dJ11_checkFromIndexSize_23 : decode cJ11_checkFromIndexSize 23 = .ok (.iload_n 0, 1) := by decide +kernel
theorem dJ11_checkFromIndexSize_24 : decode cJ11_checkFromIndexSize 24 = .ok (.ireturn, 1) := by decide +kernel
theorem dJ11_checkIndex_0 : decode cJ11_checkIndex 0 = .ok (.iload_n 0, 1) := by decide +kernel
theorem dJ11_checkIndex_1 : decode cJ11_checkIndex 1 = .ok (.ifCond .lt 8, 3) := by decide +kernel
theorem dJ11_checkIndex_4 : decode cJ11_checkIndex 4 = .ok (.iload_n 0, 1) := by decide +kernel
theorem dJ11_checkIndex_5 : decode cJ11_checkIndex 5 = .ok (.iload_n 1, 1) := by decide +kernel
theorem dJ11_checkIndex_6 : decode cJ11_checkIndex 6 = .ok (.if_icmp .lt 10, 3) := by decide +kernel
theorem dJ11_checkIndex_9 : decode cJ11_checkIndex 9 = .ok (.aload_n 2, 1) := by decide +kernel
theorem dJ11_checkIndex_10 : decode cJ11_checkIndex 10 = .ok (.iload_n 0, 1) := by decide +kernel
theorem dJ11_checkIndex_11 : decode cJ11_checkIndex 11 = .ok (.iload_n 1, 1) := by decide +kernel
theorem dJ11_checkIndex_12 : decode cJ11_checkIndex 12 = .ok (.invokestatic 95, 3) := by decide +kernel
theorem dJ11_checkIndex_15 : decode cJ11_checkIndex 15 = .ok (.athrow, 1) := by decide +kernel
theorem dJ11_checkIndex_16 : decode cJ11_checkIndex 16 = .ok (.iload_n 0, 1) := by decide +kernel
theorem dJ11_checkIndex_17 : decode cJ11_checkIndex 17 = .ok (.ireturn, 1) := by decide +kernel
theorem dJ11_checkFromToIndex_0 : decode cJ11_checkFromToIndex 0 = .ok (.iload_n 0, 1) := by decide +kernel
theorem dJ11_checkFromToIndex_1 : decode cJ11_checkFromToIndex 1 = .ok (.ifCond .lt 13, 3) := by decide +kernel
theorem dJ11_checkFromToIndex_4 : decode cJ11_checkFromToIndex 4 = .ok (.iload_n 0, 1) := by decide +kernel
theorem dJ11_checkFromToIndex_5 : decode cJ11_checkFromToIndex 5 = .ok (.iload_n 1, 1) := by decide +kernel
theorem dJ11_checkFromToIndex_6 : decode cJ11_checkFromToIndex 6 = .ok (.if_icmp .gt 8, 3) := by decide +kernel
theorem dJ11_checkFromToIndex_9 : decode cJ11_checkFromToIndex 9 = .ok (.iload_n 1, 1) := by decide +kernel
theorem dJ11_checkFromToIndex_10 : decode cJ11_checkFromToIndex 10 = .ok (.iload_n 2, 1) := by decide +kernel
theorem dJ11_checkFromToIndex_11 : decode cJ11_checkFromToIndex 11 = .ok (.if_icmp .le 11, 3) := by decide +kernel
theorem dJ11_checkFromToIndex_14 : decode cJ11_checkFromToIndex 14 = .ok (.aload_n 3, 1) := by decide +kernel
theorem dJ11_checkFromToIndex_15 : decode cJ11_checkFromToIndex 15 = .ok (.iload_n 0, 1) := by decide +kernel
theorem dJ11_checkFromToIndex_16 : decode cJ11_checkFromToIndex 16 = .ok (.iload_n 1, 1) := by decide +kernel
theorem dJ11_checkFromToIndex_17 : decode cJ11_checkFromToIndex 17 = .ok (.iload_n 2, 1) := by decide +kernel
theorem dJ11_checkFromToIndex_18 : decode cJ11_checkFromToIndex 18 = .ok (.invokestatic 99, 3) := by decide +kernel
theorem dJ11_checkFromToIndex_21 : decode cJ11_checkFromToIndex 21 = .ok (.athrow, 1) := by decide +kernel
theorem dJ11_checkFromToIndex_22 : decode cJ11_checkFromToIndex 22 = .ok (.iload_n 0, 1) := by decide +kernel
theorem dJ11_checkFromToIndex_23 : decode cJ11_checkFromToIndex 23 = .ok (.ireturn, 1) := by decide +kernel
theorem dJ12_isValidCodePoint_0 : decode cJ12_isValidCodePoint 0 = .ok (.iload_n 0, 1) := by decide +kernel
theorem dJ12_isValidCodePoint_1 : decode cJ12_isValidCodePoint 1 = .ok (.bipush 16, 2) := by decide +kernel
theorem dJ12_isValidCodePoint_3 : decode cJ12_isValidCodePoint 3 = .ok (.iushr, 1) := by decide +kernel
theorem dJ12_isValidCodePoint_4 : decode cJ12_isValidCodePoint 4 = .ok (.istore_n 1, 1) := by decide +kernel
theorem dJ12_isValidCodePoint_5 : decode cJ12_isValidCodePoint 5 = .ok (.iload_n 1, 1) := by decide +kernel
theorem dJ12_isValidCodePoint_6 : decode cJ12_isValidCodePoint 6 = .ok (.bipush 17, 2) := by decide +kernel
theorem dJ12_isValidCodePoint_8 : decode cJ12_isValidCodePoint 8 = .ok (.if_icmp .ge 7, 3) := by decide +kernel
theorem dJ12_isValidCodePoint_11 : decode cJ12_isValidCodePoint 11 = .ok (.iconst 1, 1) := by decide +kernel
theorem dJ12_isValidCodePoint_12 : decode cJ12_isValidCodePoint 12 = .ok (.goto 4, 3) := by decide +kernel
theorem dJ12_isValidCodePoint_15 : decode cJ12_isValidCodePoint 15 = .ok (.iconst 0, 1) := by decide +kernel
theorem dJ12_isValidCodePoint_16 : decode cJ12_isValidCodePoint 16 = .ok (.ireturn, 1) := by decide +kernel
theorem dJ12_highSurrogate_0 : decode cJ12_highSurrogate 0 = .ok (.iload_n 0, 1) := by decide +kernel
theorem dJ12_highSurrogate_1 : decode cJ12_highSurrogate 1 = .ok (.bipush 10, 2) := by decide +kernel
theorem dJ12_highSurrogate_3 : decode cJ12_highSurrogate 3 = .ok (.iushr, 1) := by decide +kernel
theorem dJ12_highSurrogate_4 : decode cJ12_highSurrogate 4 = .ok (.ldc 110, 2) := by decide +kernel
theorem dJ12_highSurrogate_6 : decode cJ12_highSurrogate 6 = .ok (.iadd, 1) := by decide +kernel
theorem dJ12_highSurrogate_7 : decode cJ12_highSurrogate 7 = .ok (.i2c, 1) := by decide +kernel
theorem dJ12_highSurrogate_8 : decode cJ12_highSurrogate 8 = .ok (.ireturn, 1) := by decide +kernel
theorem dJ12_lowSurrogate_0 : decode cJ12_lowSurrogate 0 = .ok (.iload_n 0, 1) := by decide +kernel
theorem dJ12_lowSurrogate_1 : decode cJ12_lowSurrogate 1 = .ok (.sipush 1023, 3) := by decide +kernel
theorem dJ12_lowSurrogate_4 : decode cJ12_lowSurrogate 4 = .ok (.iand, 1) := by decide +kernel
theorem dJ12_lowSurrogate_5 : decode cJ12_lowSurrogate 5 = .ok (.ldc 76, 2) := by decide +kernel
theorem dJ12_lowSurrogate_7 : decode cJ12_lowSurrogate 7 = .ok (.iadd, 1) := by decide +kernel
theorem dJ12_lowSurrogate_8 : decode cJ12_lowSurrogate 8 = .ok (.i2c, 1) := by decide +kernel
theorem dJ12_lowSurrogate_9 : decode cJ12_lowSurrogate 9 = .ok (.ireturn, 1) := by decide +kernel
theorem dJ13_init_0 : decode cJ13_init 0 = .ok (.aload_n 0, 1) := by decide +kernel
theorem dJ13_init_1 : decode cJ13_init 1 = .ok (.invokespecial 1, 3) := by decide +kernel
theorem dJ13_init_4 : decode cJ13_init 4 = .ok (.aload_n 0, 1) := by decide +kernel
theorem dJ13_init_5 : decode cJ13_init 5 = .ok (.aload_n 0, 1) := by decide +kernel
theorem dJ13_init_6 : decode cJ13_init 6 = .ok (.putfield 7, 3) := by decide +kernel
theorem dJ13_init_9 : decode cJ13_init 9 = .ok (.aload_n 0, 1) := by decide +kernel
theorem dJ13_init_10 : decode cJ13_init 10 = .ok (.getstatic 13, 3) := by decide +kernel
theorem dJ13_init_13 : decode cJ13_init 13 = .ok (.putfield 17, 3) := by decide +kernel
theorem dJ13_init_16 : decode cJ13_init 16 = .ok (.aload_n 0, 1) := by decide +kernel
theorem dJ13_init_17 : decode cJ13_init 17 = .ok (.getstatic 20, 3) := by decide +kernel
theorem dJ13_init_20 : decode cJ13_init 20 = .ok (.putfield 24, 3) := by decide +kernel
theorem dJ13_init_23 : decode cJ13_init 23 = .ok (.aload_n 0, 1) := by decide +kernel
theorem dJ13_init_24 : decode cJ13_init 24 = .ok (.invokevirtual 27, 3) := by decide +kernel
theorem dJ13_init_27 : decode cJ13_init 27 = .ok (.pop, 1) := by decide +kernel
theorem dJ13_init_28 : decode cJ13_init 28 = .ok (.return_, 1) := by decide +kernel
theorem dJ13_init_2_0 : decode cJ13_init_2 0 = .ok (.aload_n 0, 1) := by decide +kernel
theorem dJ13_init_2_1 : decode cJ13_init_2 1 = .ok (.invokespecial 1, 3) := by decide +kernel
theorem dJ13_init_2_4 : decode cJ13_init_2 4 = .ok (.aload_n 0, 1) := by decide +kernel
theorem dJ13_init_2_5 : decode cJ13_init_2 5 = .ok (.aload_n 0, 1) := by decide +kernel
theorem dJ13_init_2_6 : decode cJ13_init_2 6 = .ok (.putfield 7, 3) := by decide +kernel
theorem dJ13_init_2_9 : decode cJ13_init_2 9 = .ok (.aload_n 0, 1) := by decide +kernel
theorem dJ13_init_2_10 : decode cJ13_init_2 10 = .ok (.getstatic 13, 3) := by decide +kernel
theorem dJ13_init_2_13 : decode cJ13_init_2 13 = .ok (.putfield 17, 3) := by decide +kernel
theorem dJ13_init_2_16 : decode cJ13_init_2 16 = .ok (.aload_n 0, 1) := by decide +kernel
theorem dJ13_init_2_17 : decode cJ13_init_2 17 = .ok (.getstatic 20, 3) := by decide +kernel
theorem dJ13_init_2_20 : decode cJ13_init_2 20 = .ok (.putfield 24, 3) := by decide +kernel
theorem dJ13_init_2_23 : decode cJ13_init_2 23 = .ok (.iload 4, 2) := by decide +kernel
theorem dJ13_init_2_25 : decode cJ13_init_2 25 = .ok (.ifCond .eq 11, 3) := by decide +kernel
theorem dJ13_init_2_28 : decode cJ13_init_2 28 = .ok (.aload_n 0, 1) := by decide +kernel
theorem dJ13_init_2_29 : decode cJ13_init_2 29 = .ok (.invokevirtual 27, 3) := by decide +kernel
theorem dJ13_init_2_32 : decode cJ13_init_2 32 = .ok (.pop, 1) := by decide +kernel
theorem dJ13_init_2_33 : decode cJ13_init_2 33 = .ok (.goto 8, 3) := by decide +kernel
theorem dJ13_init_2_36 : decode cJ13_init_2 36 = .ok (.aload_n 0, 1) := by decide +kernel
theorem dJ13_init_2_37 : decode cJ13_init_2 37 = .ok (.aconst_null, 1) := by decide +kernel
theorem dJ13_init_2_38 : decode cJ13_init_2 38 = .ok (.putfield 17, 3) := by decide +kernel
theorem dJ13_init_2_41 : decode cJ13_init_2 41 = .ok (.aload_n 0, 1) := by decide +kernel
theorem dJ13_init_2_42 : decode cJ13_init_2 42 = .ok (.aload_n 1, 1) := by decide +kernel
theorem dJ13_init_2_43 : decode cJ13_init_2 43 = .ok (.putfield 31, 3) := by decide +kernel
theorem dJ13_init_2_46 : decode cJ13_init_2 46 = .ok (.aload_n 0, 1) := by decide +kernel
theorem dJ13_init_2_47 : decode cJ13_init_2 47 = .ok (.aload_n 2, 1) := by decide +kernel
theorem dJ13_init_2_48 : decode cJ13_init_2 48 = .ok (.putfield 7, 3) := by decide +kernel
theorem dJ13_init_2_51 : decode cJ13_init_2 51 = .ok (.iload_n 3, 1) := by decide +kernel
theorem dJ13_init_2_52 : decode cJ13_init_2 52 = .ok (.ifCond .ne 8, 3) := by decide +kernel
theorem dJ13_init_2_55 : decode cJ13_init_2 55 = .ok (.aload_n 0, 1) := by decide +kernel
theorem dJ13_init_2_56 : decode cJ13_init_2 56 = .ok (.aconst_null, 1) := by decide +kernel
theorem dJ13_init_2_57 : decode cJ13_init_2 57 = .ok (.putfield 24, 3) := by decide +kernel
theorem dJ13_init_2_60 : decode cJ13_init_2 60 = .ok (.return_, 1) := by decide +kernel
theorem dJ14_init_0 : decode cJ14_init 0 = .ok (.aload_n 0, 1) := by decide +kernel
theorem dJ14_init_1 : decode cJ14_init 1 = .ok (.aload_n 1, 1) := by decide +kernel
theorem dJ14_init_2 : decode cJ14_init 2 = .ok (.aload_n 2, 1) := by decide +kernel
theorem dJ14_init_3 : decode cJ14_init 3 = .ok (.iload_n 3, 1) := by decide +kernel
theorem dJ14_init_4 : decode cJ14_init 4 = .ok (.iload 4, 2) := by decide +kernel
theorem dJ14_init_6 : decode cJ14_init 6 = .ok (.invokespecial 16, 3) := by decide +kernel
theorem dJ14_init_9 : decode cJ14_init 9 = .ok (.return_, 1) := by decide +kernel
theorem dJ15_checkIndex_0 : decode cJ15_checkIndex 0 = .ok (.iload_n 0, 1) := by decide +kernel
theorem dJ15_checkIndex_1 : decode cJ15_checkIndex 1 = .ok (.iload_n 1, 1) := by decide +kernel
theorem dJ15_checkIndex_2 : decode cJ15_checkIndex 2 = .ok (.aconst_null, 1) := by decide +kernel
theorem dJ15_checkIndex_3 : decode cJ15_checkIndex 3 = .ok (.invokestatic 105, 3) := by decide +kernel
theorem dJ15_checkIndex_6 : decode cJ15_checkIndex 6 = .ok (.ireturn, 1) := by decide +kernel
theorem dJ16_init_0 : decode cJ16_init 0 = .ok (.return_, 1) := by decide +kernel
theorem dJ17_getUTF16Char_0 : decode cJ17_getUTF16Char 0 = .ok (.aload_n 1, 1) := by decide +kernel
theorem dJ17_getUTF16Char_1 : decode cJ17_getUTF16Char 1 = .ok (.iload_n 2, 1) := by decide +kernel
theorem dJ17_getUTF16Char_2 : decode cJ17_getUTF16Char 2 = .ok (.invokestatic 185, 3) := by decide +kernel
theorem dJ17_getUTF16Char_5 : decode cJ17_getUTF16Char 5 = .ok (.ireturn, 1) := by decide +kernel
theorem dJ2_init_0 : decode cJ2_init 0 = .ok (.aload_n 0, 1) := by decide +kernel
theorem dJ2_init_1 : decode cJ2_init 1 = .ok (.invokespecial 1, 3) := by decide +kernel
theorem dJ2_init_4 : decode cJ2_init 4 = .ok (.iload_n 1, 1) := by decide +kernel
theorem dJ2_init_5 : decode cJ2_init 5 = .ok (.ifCond .le 14, 3) := by decide +kernel
theorem dJ2_init_8 : decode cJ2_init 8 = .ok (.aload_n 0, 1) := by decide +kernel
theorem dJ2_init_9 : decode cJ2_init 9 = .ok (.iload_n 1, 1) := by decide +kernel
theorem dJ2_init_10 : decode cJ2_init 10 = .ok (.anewarray 7, 3) := by decide +kernel
theorem dJ2_init_13 : decode cJ2_init 13 = .ok (.putfield 9, 3) := by decide +kernel
theorem dJ2_init_16 : decode cJ2_init 16 = .ok (.goto 44, 3) := by decide +kernel
theorem dJ2_init_19 : decode cJ2_init 19 = .ok (.iload_n 1, 1) := by decide +kernel
theorem dJ2_init_20 : decode cJ2_init 20 = .ok (.ifCond .ne 13, 3) := by decide +kernel
theorem dJ2_init_23 : decode cJ2_init 23 = .ok (.aload_n 0, 1) := by decide +kernel
theorem dJ2_init_24 : decode cJ2_init 24 = .ok (.getstatic 15, 3) := by decide +kernel
theorem dJ2_init_27 : decode cJ2_init 27 = .ok (.putfield 9, 3) := by decide +kernel
theorem dJ2_init_30 : decode cJ2_init 30 = .ok (.goto 30, 3) := by decide +kernel
theorem dJ2_init_33 : decode cJ2_init 33 = .ok (.new 18, 3) := by decide +kernel
theorem dJ2_init_36 : decode cJ2_init 36 = .ok (.dup, 1) := by decide +kernel
theorem dJ2_init_37 : decode cJ2_init 37 = .ok (.new 20, 3) := by decide +kernel
theorem dJ2_init_40 : decode cJ2_init 40 = .ok (.dup, 1) := by decide +kernel
theorem dJ2_init_41 : decode cJ2_init 41 = .ok (.invokespecial 22, 3) := by decide +kernel
theorem dJ2_init_44 : decode cJ2_init 44 = .ok (.ldc 23, 2) := by decide +kernel
theorem dJ2_init_46 : decode cJ2_init 46 = .ok (.invokevirtual 25, 3) := by decide +kernel
theorem dJ2_init_49 : decode cJ2_init 49 = .ok (.iload_n 1, 1) := by decide +kernel
theorem dJ2_init_50 : decode cJ2_init 50 = .ok (.invokevirtual 29, 3) := by decide +kernel
theorem dJ2_init_53 : decode cJ2_init 53 = .ok (.invokevirtual 32, 3) := by decide +kernel
theorem dJ2_init_56 : decode cJ2_init 56 = .ok (.invokespecial 36, 3) := by decide +kernel
theorem dJ2_init_59 : decode cJ2_init 59 = .ok (.athrow, 1) := by decide +kernel
theorem dJ2_init_60 : decode cJ2_init 60 = .ok (.return_, 1) := by decide +kernel
theorem dJ2_size_0 : decode cJ2_size 0 = .ok (.aload_n 0, 1) := by decide +kernel
theorem dJ2_size_1 : decode cJ2_size 1 = .ok (.getfield 48, 3) := by decide +kernel
theorem dJ2_size_4 : decode cJ2_size 4 = .ok (.ireturn, 1) := by decide +kernel
theorem dJ2_add_0 : decode cJ2_add 0 = .ok (.aload_n 0, 1) := by decide +kernel
theorem dJ2_add_1 : decode cJ2_add 1 = .ok (.dup, 1) := by decide +kernel
theorem dJ2_add_2 : decode cJ2_add 2 = .ok (.getfield 63, 3) := by decide +kernel
theorem dJ2_add_5 : decode cJ2_add 5 = .ok (.iconst 1, 1) := by decide +kernel
theorem dJ2_add_6 : decode cJ2_add 6 = .ok (.iadd, 1) := by decide +kernel
theorem dJ2_add_7 : decode cJ2_add 7 = .ok (.putfield 63, 3) := by decide +kernel
theorem dJ2_add_10 : decode cJ2_add 10 = .ok (.aload_n 0, 1) := by decide +kernel
theorem dJ2_add_11 : decode cJ2_add 11 = .ok (.aload_n 1, 1) := by decide +kernel
theorem dJ2_add_12 : decode cJ2_add 12 = .ok (.aload_n 0, 1) := by decide +kernel
theorem dJ2_add_13 : decode cJ2_add 13 = .ok (.getfield 9, 3) := by decide +kernel
theorem dJ2_add_16 : decode cJ2_add 16 = .ok (.aload_n 0, 1) := by decide +kernel
theorem dJ2_add_17 : decode cJ2_add 17 = .ok (.getfield 48, 3) := by decide +kernel
theorem dJ2_add_20 : decode cJ2_add 20 = .ok (.invokevirtual 131, 3) := by decide +kernel
theorem dJ2_add_23 : decode cJ2_add 23 = .ok (.iconst 1, 1) := by decide +kernel
theorem dJ2_add_24 : decode cJ2_add 24 = .ok (.ireturn, 1) := by decide +kernel
theorem dJ2_add_2_0 : decode cJ2_add_2 0 = .ok (.iload_n 3, 1) := by decide +kernel
theorem dJ2_add_2_1 : decode cJ2_add_2 1 = .ok (.aload_n 2, 1) := by decide +kernel
theorem dJ2_add_2_2 : decode cJ2_add_2 2 = .ok (.arraylength, 1) := by decide +kernel
theorem dJ2_add_2_3 : decode cJ2_add_2 3 = .ok (.if_icmp .ne 8, 3) := by decide +kernel
theorem dJ2_add_2_6 : decode cJ2_add_2 6 = .ok (.aload_n 0, 1) := by decide +kernel
theorem dJ2_add_2_7 : decode cJ2_add_2 7 = .ok (.invokevirtual 129, 3) := by decide +kernel
theorem dJ2_add_2_10 : decode cJ2_add_2 10 = .ok (.astore_n 2, 1) := by decide +kernel
theorem dJ2_add_2_11 : decode cJ2_add_2 11 = .ok (.aload_n 2, 1) := by decide +kernel
theorem dJ2_add_2_12 : decode cJ2_add_2 12 = .ok (.iload_n 3, 1) := by decide +kernel
theorem dJ2_add_2_13 : decode cJ2_add_2 13 = .ok (.aload_n 1, 1) := by decide +kernel
theorem dJ2_add_2_14 : decode cJ2_add_2 14 = .ok (.aastore, 1) := by decide +kernel
theorem dJ2_add_2_15 : decode cJ2_add_2 15 = .ok (.aload_n 0, 1) := by decide +kernel
theorem dJ2_add_2_16 : decode cJ2_add_2 16 = .ok (.iload_n 3, 1) := by decide +kernel
theorem dJ2_add_2_17 : decode cJ2_add_2 17 = .ok (.iconst 1, 1) := by decide +kernel
theorem dJ2_add_2_18 : decode cJ2_add_2 18 = .ok (.iadd, 1) := by decide +kernel
theorem dJ2_add_2_19 : decode cJ2_add_2 19 = .ok (.putfield 48, 3) := by decide +kernel
theorem dJ2_add_2_22 : decode cJ2_add_2 22 = .ok (.return_, 1) := by decide +kernel
theorem dJ2_grow_0 : decode cJ2_grow 0 = .ok (.aload_n 0, 1) := by decide +kernel
theorem dJ2_grow_1 : decode cJ2_grow 1 = .ok (.aload_n 0, 1) := by decide +kernel
theorem dJ2_grow_2 : decode cJ2_grow 2 = .ok (.getfield 48, 3) := by decide +kernel
theorem dJ2_grow_5 : decode cJ2_grow 5 = .ok (.iconst 1, 1) := by decide +kernel
theorem dJ2_grow_6 : decode cJ2_grow 6 = .ok (.iadd, 1) := by decide +kernel
theorem dJ2_grow_7 : decode cJ2_grow 7 = .ok (.invokevirtual 69, 3) := by decide +kernel
theorem dJ2_grow_10 : decode cJ2_grow 10 = .ok (.areturn, 1) := by decide +kernel
theorem dJ2_grow_2_0 : decode cJ2_grow_2 0 = .ok (.aload_n 0, 1) := by decide +kernel
theorem dJ2_grow_2_1 : decode cJ2_grow_2 1 = .ok (.getfield 9, 3) := by decide +kernel
theorem dJ2_grow_2_4 : decode cJ2_grow_2 4 = .ok (.arraylength, 1) := by decide +kernel
theorem dJ2_grow_2_5 : decode cJ2_grow_2 5 = .ok (.istore_n 2, 1) := by decide +kernel
theorem dJ2_grow_2_6 : decode cJ2_grow_2 6 = .ok (.iload_n 2, 1) := by decide +kernel
theorem dJ2_grow_2_7 : decode cJ2_grow_2 7 = .ok (.ifCond .gt 13, 3) := by decide +kernel
theorem dJ2_grow_2_10 : decode cJ2_grow_2 10 = .ok (.aload_n 0, 1) := by decide +kernel
theorem dJ2_grow_2_11 : decode cJ2_grow_2 11 = .ok (.getfield 9, 3) := by decide +kernel
theorem dJ2_grow_2_14 : decode cJ2_grow_2 14 = .ok (.getstatic 39, 3) := by decide +kernel
theorem dJ2_grow_2_17 : decode cJ2_grow_2 17 = .ok (.if_acmp .eq 28, 3) := by decide +kernel
theorem dJ2_grow_2_20 : decode cJ2_grow_2 20 = .ok (.iload_n 2, 1) := by decide +kernel
theorem dJ2_grow_2_21 : decode cJ2_grow_2 21 = .ok (.iload_n 1, 1) := by decide +kernel
theorem dJ2_grow_2_22 : decode cJ2_grow_2 22 = .ok (.iload_n 2, 1) := by decide +kernel
theorem dJ2_grow_2_23 : decode cJ2_grow_2 23 = .ok (.isub, 1) := by decide +kernel
theorem dJ2_grow_2_24 : decode cJ2_grow_2 24 = .ok (.iload_n 2, 1) := by decide +kernel
theorem dJ2_grow_2_25 : decode cJ2_grow_2 25 = .ok (.iconst 1, 1) := by decide +kernel
theorem dJ2_grow_2_26 : decode cJ2_grow_2 26 = .ok (.ishr, 1) := by decide +kernel
theorem dJ2_grow_2_27 : decode cJ2_grow_2 27 = .ok (.invokestatic 73, 3) := by decide +kernel
theorem dJ2_grow_2_30 : decode cJ2_grow_2 30 = .ok (.istore_n 3, 1) := by decide +kernel
theorem dJ2_grow_2_31 : decode cJ2_grow_2 31 = .ok (.aload_n 0, 1) := by decide +kernel
theorem dJ2_grow_2_32 : decode cJ2_grow_2 32 = .ok (.aload_n 0, 1) := by decide +kernel
theorem dJ2_grow_2_33 : decode cJ2_grow_2 33 = .ok (.getfield 9, 3) := by decide +kernel
theorem dJ2_grow_2_36 : decode cJ2_grow_2 36 = .ok (.iload_n 3, 1) := by decide +kernel
theorem dJ2_grow_2_37 : decode cJ2_grow_2 37 = .ok (.invokestatic 66, 3) := by decide +kernel
theorem dJ2_grow_2_40 : decode cJ2_grow_2 40 = .ok (.dup_x1, 1) := by decide +kernel
theorem dJ2_grow_2_41 : decode cJ2_grow_2 41 = .ok (.putfield 9, 3) := by decide +kernel
theorem dJ2_grow_2_44 : decode cJ2_grow_2 44 = .ok (.areturn, 1) := by decide +kernel
theorem dJ2_grow_2_45 : decode cJ2_grow_2 45 = .ok (.aload_n 0, 1) := by decide +kernel
theorem dJ2_grow_2_46 : decode cJ2_grow_2 46 = .ok (.bipush 10, 2) := by decide +kernel
theorem dJ2_grow_2_48 : decode cJ2_grow_2 48 = .ok (.iload_n 1, 1) := by decide +kernel
theorem dJ2_grow_2_49 : decode cJ2_grow_2 49 = .ok (.invokestatic 79, 3) := by decide +kernel
theorem dJ2_grow_2_52 : decode cJ2_grow_2 52 = .ok (.anewarray 7, 3) := by decide +kernel
theorem dJ2_grow_2_55 : decode cJ2_grow_2 55 = .ok (.dup_x1, 1) := by decide +kernel
theorem dJ2_grow_2_56 : decode cJ2_grow_2 56 = .ok (.putfield 9, 3) := by decide +kernel
theorem dJ2_grow_2_59 : decode cJ2_grow_2 59 = .ok (.areturn, 1) := by decide +kernel
theorem dJ2_get_0 : decode cJ2_get 0 = .ok (.iload_n 1, 1) := by decide +kernel
theorem dJ2_get_1 : decode cJ2_get 1 = .ok (.aload_n 0, 1) := by decide +kernel
theorem dJ2_get_2 : decode cJ2_get 2 = .ok (.getfield 48, 3) := by decide +kernel
theorem dJ2_get_5 : decode cJ2_get 5 = .ok (.invokestatic 118, 3) := by decide +kernel
theorem dJ2_get_8 : decode cJ2_get 8 = .ok (.pop, 1) := by decide +kernel
theorem dJ2_get_9 : decode cJ2_get 9 = .ok (.aload_n 0, 1) := by decide +kernel
theorem dJ2_get_10 : decode cJ2_get 10 = .ok (.iload_n 1, 1) := by decide +kernel
theorem dJ2_get_11 : decode cJ2_get 11 = .ok (.invokevirtual 123, 3) := by decide +kernel
theorem dJ2_get_14 : decode cJ2_get 14 = .ok (.areturn, 1) := by decide +kernel
theorem dJ2_elementData_0 : decode cJ2_elementData 0 = .ok (.aload_n 0, 1) := by decide +kernel
theorem dJ2_elementData_1 : decode cJ2_elementData 1 = .ok (.getfield 9, 3) := by decide +kernel
theorem dJ2_elementData_4 : decode cJ2_elementData 4 = .ok (.iload_n 1, 1) := by decide +kernel
theorem dJ2_elementData_5 : decode cJ2_elementData 5 = .ok (.aaload, 1) := by decide +kernel
theorem dJ2_elementData_6 : decode cJ2_elementData 6 = .ok (.areturn, 1) := by decide +kernel
theorem dJ3_init_0 : decode cJ3_init 0 = .ok (.aload_n 0, 1) := by decide +kernel
theorem dJ3_init_1 : decode cJ3_init 1 = .ok (.invokespecial 3, 3) := by decide +kernel
theorem dJ3_init_4 : decode cJ3_init 4 = .ok (.getstatic 18, 3) := by decide +kernel
theorem dJ3_init_7 : decode cJ3_init 7 = .ok (.ifCond .eq 18, 3) := by decide +kernel
theorem dJ3_init_10 : decode cJ3_init 10 = .ok (.aload_n 0, 1) := by decide +kernel
theorem dJ3_init_11 : decode cJ3_init 11 = .ok (.iload_n 1, 1) := by decide +kernel
theorem dJ3_init_12 : decode cJ3_init 12 = .ok (.newarray .byte, 2) := by decide +kernel
theorem dJ3_init_14 : decode cJ3_init 14 = .ok (.putfield 15, 3) := by decide +kernel
theorem dJ3_init_17 : decode cJ3_init 17 = .ok (.aload_n 0, 1) := by decide +kernel
theorem dJ3_init_18 : decode cJ3_init 18 = .ok (.iconst 0, 1) := by decide +kernel
theorem dJ3_init_19 : decode cJ3_init 19 = .ok (.putfield 22, 3) := by decide +kernel
theorem dJ3_init_22 : decode cJ3_init 22 = .ok (.goto 16, 3) := by decide +kernel
theorem dJ3_init_25 : decode cJ3_init 25 = .ok (.aload_n 0, 1) := by decide +kernel
theorem dJ3_init_26 : decode cJ3_init 26 = .ok (.iload_n 1, 1) := by decide +kernel
theorem dJ3_init_27 : decode cJ3_init 27 = .ok (.invokestatic 26, 3) := by decide +kernel
theorem dJ3_init_30 : decode cJ3_init 30 = .ok (.putfield 15, 3) := by decide +kernel
theorem dJ3_init_33 : decode cJ3_init 33 = .ok (.aload_n 0, 1) := by decide +kernel
theorem dJ3_init_34 : decode cJ3_init 34 = .ok (.iconst 1, 1) := by decide +kernel
theorem dJ3_init_35 : decode cJ3_init 35 = .ok (.putfield 22, 3) := by decide +kernel
theorem dJ3_init_38 : decode cJ3_init 38 = .ok (.return_, 1) := by decide +kernel
theorem dJ3_append_0 : decode cJ3_append 0 = .ok (.aload_n 0, 1) := by decide +kernel
theorem dJ3_append_1 : decode cJ3_append 1 = .ok (.aload_n 0, 1) := by decide +kernel
theorem dJ3_append_2 : decode cJ3_append 2 = .ok (.getfield 79, 3) := by decide +kernel
theorem dJ3_append_5 : decode cJ3_append 5 = .ok (.iconst 1, 1) := by decide +kernel
theorem dJ3_append_6 : decode cJ3_append 6 = .ok (.iadd, 1) := by decide +kernel
theorem dJ3_append_7 : decode cJ3_append 7 = .ok (.invokevirtual 100, 3) := by decide +kernel
theorem dJ3_append_10 : decode cJ3_append 10 = .ok (.aload_n 0, 1) := by decide +kernel
theorem dJ3_append_11 : decode cJ3_append 11 = .ok (.invokevirtual 83, 3) := by decide +kernel
theorem dJ3_append_14 : decode cJ3_append 14 = .ok (.ifCond .eq 31, 3) := by decide +kernel
theorem dJ3_append_17 : decode cJ3_append 17 = .ok (.iload_n 1, 1) := by decide +kernel
theorem dJ3_append_18 : decode cJ3_append 18 = .ok (.invokestatic 191, 3) := by decide +kernel
theorem dJ3_append_21 : decode cJ3_append 21 = .ok (.ifCond .eq 24, 3) := by decide +kernel
theorem dJ3_append_24 : decode cJ3_append 24 = .ok (.aload_n 0, 1) := by decide +kernel
theorem dJ3_append_25 : decode cJ3_append 25 = .ok (.getfield 15, 3) := by decide +kernel
theorem dJ3_append_28 : decode cJ3_append 28 = .ok (.aload_n 0, 1) := by decide +kernel
theorem dJ3_append_29 : decode cJ3_append 29 = .ok (.dup, 1) := by decide +kernel
theorem dJ3_append_30 : decode cJ3_append 30 = .ok (.getfield 79, 3) := by decide +kernel
theorem dJ3_append_33 : decode cJ3_append 33 = .ok (.dup_x1, 1) := by decide +kernel
theorem dJ3_append_34 : decode cJ3_append 34 = .ok (.iconst 1, 1) := by decide +kernel
theorem dJ3_append_35 : decode cJ3_append 35 = .ok (.iadd, 1) := by decide +kernel
theorem dJ3_append_36 : decode cJ3_append 36 = .ok (.putfield 79, 3) := by decide +kernel
theorem dJ3_append_39 : decode cJ3_append 39 = .ok (.iload_n 1, 1) := by decide +kernel
theorem dJ3_append_40 : decode cJ3_append 40 = .ok (.i2b, 1) := by decide +kernel
theorem dJ3_append_41 : decode cJ3_append 41 = .ok (.bastore, 1) := by decide +kernel
theorem dJ3_append_42 : decode cJ3_append 42 = .ok (.goto 33, 3) := by decide +kernel
theorem dJ3_append_45 : decode cJ3_append 45 = .ok (.aload_n 0, 1) := by decide +kernel
theorem dJ3_append_46 : decode cJ3_append 46 = .ok (.invokevirtual 83, 3) := by decide +kernel
theorem dJ3_append_49 : decode cJ3_append 49 = .ok (.ifCond .eq 7, 3) := by decide +kernel
theorem dJ3_append_52 : decode cJ3_append 52 = .ok (.aload_n 0, 1) := by decide +kernel
theorem dJ3_append_53 : decode cJ3_append 53 = .ok (.invokevirtual 195, 3) := by decide +kernel
theorem dJ3_append_56 : decode cJ3_append 56 = .ok (.aload_n 0, 1) := by decide +kernel
theorem dJ3_append_57 : decode cJ3_append 57 = .ok (.getfield 15, 3) := by decide +kernel
theorem dJ3_append_60 : decode cJ3_append 60 = .ok (.aload_n 0, 1) := by decide +kernel
theorem dJ3_append_61 : decode cJ3_append 61 = .ok (.dup, 1) := by decide +kernel
theorem dJ3_append_62 : decode cJ3_append 62 = .ok (.getfield 79, 3) := by decide +kernel
theorem dJ3_append_65 : decode cJ3_append 65 = .ok (.dup_x1, 1) := by decide +kernel
theorem dJ3_append_66 : decode cJ3_append 66 = .ok (.iconst 1, 1) := by decide +kernel
theorem dJ3_append_67 : decode cJ3_append 67 = .ok (.iadd, 1) := by decide +kernel
theorem dJ3_append_68 : decode cJ3_append 68 = .ok (.putfield 79, 3) := by decide +kernel
theorem dJ3_append_71 : decode cJ3_append 71 = .ok (.iload_n 1, 1) := by decide +kernel
theorem dJ3_append_72 : decode cJ3_append 72 = .ok (.invokestatic 197, 3) := by decide +kernel
theorem dJ3_append_75 : decode cJ3_append 75 = .ok (.aload_n 0, 1) := by decide +kernel
theorem dJ3_append_76 : decode cJ3_append 76 = .ok (.areturn, 1) := by decide +kernel
theorem dJ3_ensureCapacityInternal_0 : decode cJ3_ensureCapacityInternal 0 = .ok (.aload_n 0, 1) := by decide +kernel
theorem dJ3_ensureCapacityInternal_1 : decode cJ3_ensureCapacityInternal 1 = .ok (.getfield 15, 3) := by decide +kernel
theorem dJ3_ensureCapacityInternal_4 : decode cJ3_ensureCapacityInternal 4 = .ok (.arraylength, 1) := by decide +kernel
theorem dJ3_ensureCapacityInternal_5 : decode cJ3_ensureCapacityInternal 5 = .ok (.aload_n 0, 1) := by decide +kernel
theorem dJ3_ensureCapacityInternal_6 : decode cJ3_ensureCapacityInternal 6 = .ok (.getfield 22, 3) := by decide +kernel
theorem dJ3_ensureCapacityInternal_9 : decode cJ3_ensureCapacityInternal 9 = .ok (.ishr, 1) := by decide +kernel
theorem dJ3_ensureCapacityInternal_10 : decode cJ3_ensureCapacityInternal 10 = .ok (.istore_n 2, 1) := by decide +kernel
theorem dJ3_ensureCapacityInternal_11 : decode cJ3_ensureCapacityInternal 11 = .ok (.iload_n 1, 1) := by decide +kernel
theorem dJ3_ensureCapacityInternal_12 : decode cJ3_ensureCapacityInternal 12 = .ok (.iload_n 2, 1) := by decide +kernel
theorem dJ3_ensureCapacityInternal_13 : decode cJ3_ensureCapacityInternal 13 = .ok (.isub, 1) := by decide +kernel
theorem dJ3_ensureCapacityInternal_14 : decode cJ3_ensureCapacityInternal 14 = .ok (.ifCond .le 24, 3) := by decide +kernel
theorem dJ3_ensureCapacityInternal_17 : decode cJ3_ensureCapacityInternal 17 = .ok (.aload_n 0, 1) := by decide +kernel
theorem dJ3_ensureCapacityInternal_18 : decode cJ3_ensureCapacityInternal 18 = .ok (.aload_n 0, 1) := by decide +kernel
theorem dJ3_ensureCapacityInternal_19 : decode cJ3_ensureCapacityInternal 19 = .ok (.getfield 15, 3) := by decide +kernel
theorem dJ3_ensureCapacityInternal_22 : decode cJ3_ensureCapacityInternal 22 = .ok (.aload_n 0, 1) := by decide +kernel
theorem dJ3_ensureCapacityInternal_23 : decode cJ3_ensureCapacityInternal 23 = .ok (.iload_n 1, 1) := by decide +kernel
theorem dJ3_ensureCapacityInternal_24 : decode cJ3_ensureCapacityInternal 24 = .ok (.invokevirtual 104, 3) := by decide +kernel
theorem dJ3_ensureCapacityInternal_27 : decode cJ3_ensureCapacityInternal 27 = .ok (.aload_n 0, 1) := by decide +kernel
theorem dJ3_ensureCapacityInternal_28 : decode cJ3_ensureCapacityInternal 28 = .ok (.getfield 22, 3) := by decide +kernel
theorem dJ3_ensureCapacityInternal_31 : decode cJ3_ensureCapacityInternal 31 = .ok (.ishl, 1) := by decide +kernel
theorem dJ3_ensureCapacityInternal_32 : decode cJ3_ensureCapacityInternal 32 = .ok (.invokestatic 108, 3) := by decide +kernel
theorem dJ3_ensureCapacityInternal_35 : decode cJ3_ensureCapacityInternal 35 = .ok (.putfield 15, 3) := by decide +kernel
theorem dJ3_ensureCapacityInternal_38 : decode cJ3_ensureCapacityInternal 38 = .ok (.return_, 1) := by decide +kernel
theorem dJ3_newCapacity_0 : decode cJ3_newCapacity 0 = .ok (.aload_n 0, 1) := by decide +kernel
theorem dJ3_newCapacity_1 : decode cJ3_newCapacity 1 = .ok (.getfield 15, 3) := by decide +kernel
theorem dJ3_newCapacity_4 : decode cJ3_newCapacity 4 = .ok (.arraylength, 1) := by decide +kernel
theorem dJ3_newCapacity_5 : decode cJ3_newCapacity 5 = .ok (.istore_n 2, 1) := by decide +kernel
theorem dJ3_newCapacity_6 : decode cJ3_newCapacity 6 = .ok (.iload_n 1, 1) := by decide +kernel
theorem dJ3_newCapacity_7 : decode cJ3_newCapacity 7 = .ok (.aload_n 0, 1) := by decide +kernel
theorem dJ3_newCapacity_8 : decode cJ3_newCapacity 8 = .ok (.getfield 22, 3) := by decide +kernel
theorem dJ3_newCapacity_11 : decode cJ3_newCapacity 11 = .ok (.ishl, 1) := by decide +kernel
theorem dJ3_newCapacity_12 : decode cJ3_newCapacity 12 = .ok (.istore_n 3, 1) := by decide +kernel
theorem dJ3_newCapacity_13 : decode cJ3_newCapacity 13 = .ok (.iload_n 3, 1) := by decide +kernel
theorem dJ3_newCapacity_14 : decode cJ3_newCapacity 14 = .ok (.iload_n 2, 1) := by decide +kernel
theorem dJ3_newCapacity_15 : decode cJ3_newCapacity 15 = .ok (.isub, 1) := by decide +kernel
theorem dJ3_newCapacity_16 : decode cJ3_newCapacity 16 = .ok (.istore 4, 2) := by decide +kernel
theorem dJ3_newCapacity_18 : decode cJ3_newCapacity 18 = .ok (.iload_n 2, 1) := by decide +kernel
theorem dJ3_newCapacity_19 : decode cJ3_newCapacity 19 = .ok (.iload 4, 2) := by decide +kernel
theorem dJ3_newCapacity_21 : decode cJ3_newCapacity 21 = .ok (.iload_n 2, 1) := by decide +kernel
theorem dJ3_newCapacity_22 : decode cJ3_newCapacity 22 = .ok (.iconst 2, 1) := by decide +kernel
theorem dJ3_newCapacity_23 : decode cJ3_newCapacity 23 = .ok (.aload_n 0, 1) := by decide +kernel
theorem dJ3_newCapacity_24 : decode cJ3_newCapacity 24 = .ok (.getfield 22, 3) := by decide +kernel
theorem dJ3_newCapacity_27 : decode cJ3_newCapacity 27 = .ok (.ishl, 1) := by decide +kernel
theorem dJ3_newCapacity_28 : decode cJ3_newCapacity 28 = .ok (.iadd, 1) := by decide +kernel
theorem dJ3_newCapacity_29 : decode cJ3_newCapacity 29 = .ok (.invokestatic 114, 3) := by decide +kernel
theorem dJ3_newCapacity_32 : decode cJ3_newCapacity 32 = .ok (.istore 5, 2) := by decide +kernel
theorem dJ3_newCapacity_34 : decode cJ3_newCapacity 34 = .ok (.iload 5, 2) := by decide +kernel
theorem dJ3_newCapacity_36 : decode cJ3_newCapacity 36 = .ok (.ldc 39, 2) := by decide +kernel
theorem dJ3_newCapacity_38 : decode cJ3_newCapacity 38 = .ok (.if_icmp .ne 13, 3) := by decide +kernel
theorem dJ3_newCapacity_41 : decode cJ3_newCapacity 41 = .ok (.new 120, 3) := by decide +kernel
theorem dJ3_newCapacity_44 : decode cJ3_newCapacity 44 = .ok (.dup, 1) := by decide +kernel
theorem dJ3_newCapacity_45 : decode cJ3_newCapacity 45 = .ok (.ldc 122, 2) := by decide +kernel
theorem dJ3_newCapacity_47 : decode cJ3_newCapacity 47 = .ok (.invokespecial 124, 3) := by decide +kernel
theorem dJ3_newCapacity_50 : decode cJ3_newCapacity 50 = .ok (.athrow, 1) := by decide +kernel
theorem dJ3_newCapacity_51 : decode cJ3_newCapacity 51 = .ok (.iload 5, 2) := by decide +kernel
theorem dJ3_newCapacity_53 : decode cJ3_newCapacity 53 = .ok (.aload_n 0, 1) := by decide +kernel
theorem dJ3_newCapacity_54 : decode cJ3_newCapacity 54 = .ok (.getfield 22, 3) := by decide +kernel
theorem dJ3_newCapacity_57 : decode cJ3_newCapacity 57 = .ok (.ishr, 1) := by decide +kernel
theorem dJ3_newCapacity_58 : decode cJ3_newCapacity 58 = .ok (.ireturn, 1) := by decide +kernel
theorem dJ3_isLatin1_0 : decode cJ3_isLatin1 0 = .ok (.getstatic 18, 3) := by decide +kernel
theorem dJ3_isLatin1_3 : decode cJ3_isLatin1 3 = .ok (.ifCond .eq 14, 3) := by decide +kernel
theorem dJ3_isLatin1_6 : decode cJ3_isLatin1 6 = .ok (.aload_n 0, 1) := by decide +kernel
theorem dJ3_isLatin1_7 : decode cJ3_isLatin1 7 = .ok (.getfield 22, 3) := by decide +kernel
theorem dJ3_isLatin1_10 : decode cJ3_isLatin1 10 = .ok (.ifCond .ne 7, 3) := by decide +kernel
theorem dJ3_isLatin1_13 : decode cJ3_isLatin1 13 = .ok (.iconst 1, 1) := by decide +kernel
theorem dJ3_isLatin1_14 : decode cJ3_isLatin1 14 = .ok (.goto 4, 3) := by decide +kernel
theorem dJ3_isLatin1_17 : decode cJ3_isLatin1 17 = .ok (.iconst 0, 1) := by decide +kernel
theorem dJ3_isLatin1_18 : decode cJ3_isLatin1 18 = .ok (.ireturn, 1) := by decide +kernel
theorem dJ3_inflate_0 : decode cJ3_inflate 0 = .ok (.aload_n 0, 1) := by decide +kernel
theorem dJ3_inflate_1 : decode cJ3_inflate 1 = .ok (.invokevirtual 83, 3) := by decide +kernel
theorem dJ3_inflate_4 : decode cJ3_inflate 4 = .ok (.ifCond .ne 4, 3) := by decide +kernel
theorem dJ3_inflate_7 : decode cJ3_inflate 7 = .ok (.return_, 1) := by decide +kernel
theorem dJ3_inflate_8 : decode cJ3_inflate 8 = .ok (.aload_n 0, 1) := by decide +kernel
theorem dJ3_inflate_9 : decode cJ3_inflate 9 = .ok (.getfield 15, 3) := by decide +kernel
theorem dJ3_inflate_12 : decode cJ3_inflate 12 = .ok (.arraylength, 1) := by decide +kernel
theorem dJ3_inflate_13 : decode cJ3_inflate 13 = .ok (.invokestatic 26, 3) := by decide +kernel
theorem dJ3_inflate_16 : decode cJ3_inflate 16 = .ok (.astore_n 1, 1) := by decide +kernel
theorem dJ3_inflate_17 : decode cJ3_inflate 17 = .ok (.aload_n 0, 1) := by decide +kernel
theorem dJ3_inflate_18 : decode cJ3_inflate 18 = .ok (.getfield 15, 3) := by decide +kernel
theorem dJ3_inflate_21 : decode cJ3_inflate 21 = .ok (.iconst 0, 1) := by decide +kernel
theorem dJ3_inflate_22 : decode cJ3_inflate 22 = .ok (.aload_n 1, 1) := by decide +kernel
theorem dJ3_inflate_23 : decode cJ3_inflate 23 = .ok (.iconst 0, 1) := by decide +kernel
theorem dJ3_inflate_24 : decode cJ3_inflate 24 = .ok (.aload_n 0, 1) := by decide +kernel
theorem dJ3_inflate_25 : decode cJ3_inflate 25 = .ok (.getfield 79, 3) := by decide +kernel
theorem dJ3_inflate_28 : decode cJ3_inflate 28 = .ok (.invokestatic 125, 3) := by decide +kernel
theorem dJ3_inflate_31 : decode cJ3_inflate 31 = .ok (.aload_n 0, 1) := by decide +kernel
theorem dJ3_inflate_32 : decode cJ3_inflate 32 = .ok (.aload_n 1, 1) := by decide +kernel
theorem dJ3_inflate_33 : decode cJ3_inflate 33 = .ok (.putfield 15, 3) := by decide +kernel
theorem dJ3_inflate_36 : decode cJ3_inflate 36 = .ok (.aload_n 0, 1) := by decide +kernel
theorem dJ3_inflate_37 : decode cJ3_inflate 37 = .ok (.iconst 1, 1) := by decide +kernel
theorem dJ3_inflate_38 : decode cJ3_inflate 38 = .ok (.putfield 22, 3) := by decide +kernel
theorem dJ3_inflate_41 : decode cJ3_inflate 41 = .ok (.return_, 1) := by decide +kernel
theorem dJ3_getValue_0 : decode cJ3_getValue 0 = .ok (.aload_n 0, 1) := by decide +kernel
theorem dJ3_getValue_1 : decode cJ3_getValue 1 = .ok (.getfield 15, 3) := by decide +kernel
theorem dJ3_getValue_4 : decode cJ3_getValue 4 = .ok (.areturn, 1) := by decide +kernel
theorem dJ3_length_0 : decode cJ3_length 0 = .ok (.aload_n 0, 1) := by decide +kernel
theorem dJ3_length_1 : decode cJ3_length 1 = .ok (.getfield 79, 3) := by decide +kernel
theorem dJ3_length_4 : decode cJ3_length 4 = .ok (.ireturn, 1) := by decide +kernel
theorem dJ4_init_0 : decode cJ4_init 0 = .ok (.aload_n 0, 1) := by decide +kernel
theorem dJ4_init_1 : decode cJ4_init 1 = .ok (.iload_n 1, 1) := by decide +kernel
theorem dJ4_init_2 : decode cJ4_init 2 = .ok (.invokespecial 1, 3) := by decide +kernel
theorem dJ4_init_5 : decode cJ4_init 5 = .ok (.return_, 1) := by decide +kernel
theorem dJ4_append_0 : decode cJ4_append 0 = .ok (.aload_n 0, 1) := by decide +kernel
theorem dJ4_append_1 : decode cJ4_append 1 = .ok (.iload_n 1, 1) := by decide +kernel
theorem dJ4_append_2 : decode cJ4_append 2 = .ok (.invokespecial 50, 3) := by decide +kernel
theorem dJ4_append_5 : decode cJ4_append 5 = .ok (.pop, 1) := by decide +kernel
theorem dJ4_append_6 : decode cJ4_append 6 = .ok (.aload_n 0, 1) := by decide +kernel
theorem dJ4_append_7 : decode cJ4_append 7 = .ok (.areturn, 1) := by decide +kernel
theorem dJ4_toString_0 : decode cJ4_toString 0 = .ok (.new 18, 3) := by decide +kernel
theorem dJ4_toString_3 : decode cJ4_toString 3 = .ok (.dup, 1) := by decide +kernel
theorem dJ4_toString_4 : decode cJ4_toString 4 = .ok (.aload_n 0, 1) := by decide +kernel
theorem dJ4_toString_5 : decode cJ4_toString 5 = .ok (.invokespecial 137, 3) := by decide +kernel
theorem dJ4_toString_8 : decode cJ4_toString 8 = .ok (.areturn, 1) := by decide +kernel
theorem dJ4_length_0 : decode cJ4_length 0 = .ok (.aload_n 0, 1) := by decide +kernel
theorem dJ4_length_1 : decode cJ4_length 1 = .ok (.invokespecial 343, 3) := by decide +kernel
theorem dJ4_length_4 : decode cJ4_length 4 = .ok (.ireturn, 1) := by decide +kernel
theorem dJ5_checkBoundsOffCount_0 : decode cJ5_checkBoundsOffCount 0 = .ok (.iload_n 0, 1) := by decide +kernel
theorem dJ5_checkBoundsOffCount_1 : decode cJ5_checkBoundsOffCount 1 = .ok (.iload_n 1, 1) := by decide +kernel
theorem dJ5_checkBoundsOffCount_2 : decode cJ5_checkBoundsOffCount 2 = .ok (.iload_n 2, 1) := by decide +kernel
theorem dJ5_checkBoundsOffCount_3 : decode cJ5_checkBoundsOffCount 3 = .ok (.getstatic 1053, 3) := by decide +kernel
theorem dJ5_checkBoundsOffCount_6 : decode cJ5_checkBoundsOffCount 6 = .ok (.invokestatic 1065, 3) := by decide +kernel
theorem dJ5_checkBoundsOffCount_9 : decode cJ5_checkBoundsOffCount 9 = .ok (.ireturn, 1) := by decide +kernel
theorem dJ5_checkIndex_0 : decode cJ5_checkIndex 0 = .ok (.iload_n 0, 1) := by decide +kernel
theorem dJ5_checkIndex_1 : decode cJ5_checkIndex 1 = .ok (.iload_n 1, 1) := by decide +kernel
theorem dJ5_checkIndex_2 : decode cJ5_checkIndex 2 = .ok (.getstatic 1053, 3) := by decide +kernel
theorem dJ5_checkIndex_5 : decode cJ5_checkIndex 5 = .ok (.invokestatic 1059, 3) := by decide +kernel
theorem dJ5_checkIndex_8 : decode cJ5_checkIndex 8 = .ok (.pop, 1) := by decide +kernel
theorem dJ5_checkIndex_9 : decode cJ5_checkIndex 9 = .ok (.return_, 1) := by decide +kernel
theorem dJ5_init_0 : decode cJ5_init 0 = .ok (.aload_n 0, 1) := by decide +kernel
theorem dJ5_init_1 : decode cJ5_init 1 = .ok (.aload_n 1, 1) := by decide +kernel
theorem dJ5_init_2 : decode cJ5_init 2 = .ok (.aconst_null, 1) := by decide +kernel
theorem dJ5_init_3 : decode cJ5_init 3 = .ok (.invokespecial 489, 3) := by decide +kernel
theorem dJ5_init_6 : decode cJ5_init 6 = .ok (.return_, 1) := by decide +kernel
theorem dJ5_init_2_0 : decode cJ5_init_2 0 = .ok (.aload_n 0, 1) := by decide +kernel
theorem dJ5_init_2_1 : decode cJ5_init_2 1 = .ok (.invokespecial 1, 3) := by decide +kernel
theorem dJ5_init_2_4 : decode cJ5_init_2 4 = .ok (.aload_n 1, 1) := by decide +kernel
theorem dJ5_init_2_5 : decode cJ5_init_2 5 = .ok (.invokevirtual 552, 3) := by decide +kernel
theorem dJ5_init_2_8 : decode cJ5_init_2 8 = .ok (.astore_n 3, 1) := by decide +kernel
theorem dJ5_init_2_9 : decode cJ5_init_2 9 = .ok (.aload_n 1, 1) := by decide +kernel
theorem dJ5_init_2_10 : decode cJ5_init_2 10 = .ok (.invokevirtual 549, 3) := by decide +kernel
theorem dJ5_init_2_13 : decode cJ5_init_2 13 = .ok (.istore 4, 2) := by decide +kernel
theorem dJ5_init_2_15 : decode cJ5_init_2 15 = .ok (.aload_n 1, 1) := by decide +kernel
theorem dJ5_init_2_16 : decode cJ5_init_2 16 = .ok (.invokevirtual 1047, 3) := by decide +kernel
theorem dJ5_init_2_19 : decode cJ5_init_2 19 = .ok (.ifCond .eq 22, 3) := by decide +kernel
theorem dJ5_init_2_22 : decode cJ5_init_2 22 = .ok (.aload_n 0, 1) := by decide +kernel
theorem dJ5_init_2_23 : decode cJ5_init_2 23 = .ok (.iconst 0, 1) := by decide +kernel
theorem dJ5_init_2_24 : decode cJ5_init_2 24 = .ok (.putfield 15, 3) := by decide +kernel
theorem dJ5_init_2_27 : decode cJ5_init_2 27 = .ok (.aload_n 0, 1) := by decide +kernel
theorem dJ5_init_2_28 : decode cJ5_init_2 28 = .ok (.aload_n 3, 1) := by decide +kernel
theorem dJ5_init_2_29 : decode cJ5_init_2 29 = .ok (.iconst 0, 1) := by decide +kernel
theorem dJ5_init_2_30 : decode cJ5_init_2 30 = .ok (.iload 4, 2) := by decide +kernel
theorem dJ5_init_2_32 : decode cJ5_init_2 32 = .ok (.invokestatic 54, 3) := by decide +kernel
theorem dJ5_init_2_35 : decode cJ5_init_2 35 = .ok (.putfield 9, 3) := by decide +kernel
theorem dJ5_init_2_38 : decode cJ5_init_2 38 = .ok (.goto 59, 3) := by decide +kernel
theorem dJ5_init_2_41 : decode cJ5_init_2 41 = .ok (.getstatic 38, 3) := by decide +kernel
theorem dJ5_init_2_44 : decode cJ5_init_2 44 = .ok (.ifCond .eq 35, 3) := by decide +kernel
theorem dJ5_init_2_47 : decode cJ5_init_2 47 = .ok (.aload_n 1, 1) := by decide +kernel
theorem dJ5_init_2_48 : decode cJ5_init_2 48 = .ok (.getfield 1048, 3) := by decide +kernel
theorem dJ5_init_2_51 : decode cJ5_init_2 51 = .ok (.ifCond .eq 28, 3) := by decide +kernel
theorem dJ5_init_2_54 : decode cJ5_init_2 54 = .ok (.aload_n 0, 1) := by decide +kernel
theorem dJ5_init_2_55 : decode cJ5_init_2 55 = .ok (.aload_n 3, 1) := by decide +kernel
theorem dJ5_init_2_56 : decode cJ5_init_2 56 = .ok (.iconst 0, 1) := by decide +kernel
theorem dJ5_init_2_57 : decode cJ5_init_2 57 = .ok (.iload 4, 2) := by decide +kernel
theorem dJ5_init_2_59 : decode cJ5_init_2 59 = .ok (.invokestatic 1051, 3) := by decide +kernel
theorem dJ5_init_2_62 : decode cJ5_init_2 62 = .ok (.putfield 9, 3) := by decide +kernel
theorem dJ5_init_2_65 : decode cJ5_init_2 65 = .ok (.aload_n 0, 1) := by decide +kernel
theorem dJ5_init_2_66 : decode cJ5_init_2 66 = .ok (.aload_n 0, 1) := by decide +kernel
theorem dJ5_init_2_67 : decode cJ5_init_2 67 = .ok (.getfield 9, 3) := by decide +kernel
theorem dJ5_init_2_70 : decode cJ5_init_2 70 = .ok (.iload 4, 2) := by decide +kernel
theorem dJ5_init_2_72 : decode cJ5_init_2 72 = .ok (.invokestatic 47, 3) := by decide +kernel
theorem dJ5_init_2_75 : decode cJ5_init_2 75 = .ok (.putfield 15, 3) := by decide +kernel
theorem dJ5_init_2_78 : decode cJ5_init_2 78 = .ok (.return_, 1) := by decide +kernel
theorem dJ5_init_2_79 : decode cJ5_init_2 79 = .ok (.aload_n 0, 1) := by decide +kernel
theorem dJ5_init_2_80 : decode cJ5_init_2 80 = .ok (.iconst 1, 1) := by decide +kernel
theorem dJ5_init_2_81 : decode cJ5_init_2 81 = .ok (.putfield 15, 3) := by decide +kernel
theorem dJ5_init_2_84 : decode cJ5_init_2 84 = .ok (.aload_n 0, 1) := by decide +kernel
theorem dJ5_init_2_85 : decode cJ5_init_2 85 = .ok (.aload_n 3, 1) := by decide +kernel
theorem dJ5_init_2_86 : decode cJ5_init_2 86 = .ok (.iconst 0, 1) := by decide +kernel
theorem dJ5_init_2_87 : decode cJ5_init_2 87 = .ok (.iload 4, 2) := by decide +kernel
theorem dJ5_init_2_89 : decode cJ5_init_2 89 = .ok (.iconst 1, 1) := by decide +kernel
theorem dJ5_init_2_90 : decode cJ5_init_2 90 = .ok (.ishl, 1) := by decide +kernel
theorem dJ5_init_2_91 : decode cJ5_init_2 91 = .ok (.invokestatic 54, 3) := by decide +kernel
theorem dJ5_init_2_94 : decode cJ5_init_2 94 = .ok (.putfield 9, 3) := by decide +kernel
theorem dJ5_init_2_97 : decode cJ5_init_2 97 = .ok (.return_, 1) := by decide +kernel
theorem dJ5_indexOf_0 : decode cJ5_indexOf 0 = .ok (.aload_n 0, 1) := by decide +kernel
theorem dJ5_indexOf_1 : decode cJ5_indexOf 1 = .ok (.iload_n 1, 1) := by decide +kernel
theorem dJ5_indexOf_2 : decode cJ5_indexOf 2 = .ok (.iconst 0, 1) := by decide +kernel
theorem dJ5_indexOf_3 : decode cJ5_indexOf 3 = .ok (.invokevirtual 633, 3) := by decide +kernel
theorem dJ5_indexOf_6 : decode cJ5_indexOf 6 = .ok (.ireturn, 1) := by decide +kernel
theorem dJ5_indexOf_2_0 : decode cJ5_indexOf_2 0 = .ok (.aload_n 0, 1) := by decide +kernel
theorem dJ5_indexOf_2_1 : decode cJ5_indexOf_2 1 = .ok (.invokevirtual 492, 3) := by decide +kernel
theorem dJ5_indexOf_2_4 : decode cJ5_indexOf_2 4 = .ok (.ifCond .eq 19, 3) := by decide +kernel
theorem dJ5_indexOf_2_7 : decode cJ5_indexOf_2 7 = .ok (.aload_n 0, 1) := by decide +kernel
theorem dJ5_indexOf_2_8 : decode cJ5_indexOf_2 8 = .ok (.getfield 9, 3) := by decide +kernel
theorem dJ5_indexOf_2_11 : decode cJ5_indexOf_2 11 = .ok (.iload_n 1, 1) := by decide +kernel
theorem dJ5_indexOf_2_12 : decode cJ5_indexOf_2 12 = .ok (.iload_n 2, 1) := by decide +kernel
theorem dJ5_indexOf_2_13 : decode cJ5_indexOf_2 13 = .ok (.aload_n 0, 1) := by decide +kernel
theorem dJ5_indexOf_2_14 : decode cJ5_indexOf_2 14 = .ok (.invokevirtual 505, 3) := by decide +kernel
theorem dJ5_indexOf_2_17 : decode cJ5_indexOf_2 17 = .ok (.invokestatic 637, 3) := by decide +kernel
theorem dJ5_indexOf_2_20 : decode cJ5_indexOf_2 20 = .ok (.goto 16, 3) := by decide +kernel
theorem dJ5_indexOf_2_23 : decode cJ5_indexOf_2 23 = .ok (.aload_n 0, 1) := by decide +kernel
theorem dJ5_indexOf_2_24 : decode cJ5_indexOf_2 24 = .ok (.getfield 9, 3) := by decide +kernel
theorem dJ5_indexOf_2_27 : decode cJ5_indexOf_2 27 = .ok (.iload_n 1, 1) := by decide +kernel
theorem dJ5_indexOf_2_28 : decode cJ5_indexOf_2 28 = .ok (.iload_n 2, 1) := by decide +kernel
theorem dJ5_indexOf_2_29 : decode cJ5_indexOf_2 29 = .ok (.aload_n 0, 1) := by decide +kernel
theorem dJ5_indexOf_2_30 : decode cJ5_indexOf_2 30 = .ok (.invokevirtual 505, 3) := by decide +kernel
theorem dJ5_indexOf_2_33 : decode cJ5_indexOf_2 33 = .ok (.invokestatic 640, 3) := by decide +kernel
theorem dJ5_indexOf_2_36 : decode cJ5_indexOf_2 36 = .ok (.ireturn, 1) := by decide +kernel
theorem dJ5_isLatin1_0 : decode cJ5_isLatin1 0 = .ok (.getstatic 38, 3) := by decide +kernel
theorem dJ5_isLatin1_3 : decode cJ5_isLatin1 3 = .ok (.ifCond .eq 14, 3) := by decide +kernel
theorem dJ5_isLatin1_6 : decode cJ5_isLatin1 6 = .ok (.aload_n 0, 1) := by decide +kernel
theorem dJ5_isLatin1_7 : decode cJ5_isLatin1 7 = .ok (.getfield 15, 3) := by decide +kernel
theorem dJ5_isLatin1_10 : decode cJ5_isLatin1 10 = .ok (.ifCond .ne 7, 3) := by decide +kernel
theorem dJ5_isLatin1_13 : decode cJ5_isLatin1 13 = .ok (.iconst 1, 1) := by decide +kernel
theorem dJ5_isLatin1_14 : decode cJ5_isLatin1 14 = .ok (.goto 4, 3) := by decide +kernel
theorem dJ5_isLatin1_17 : decode cJ5_isLatin1 17 = .ok (.iconst 0, 1) := by decide +kernel
theorem dJ5_isLatin1_18 : decode cJ5_isLatin1 18 = .ok (.ireturn, 1) := by decide +kernel
theorem dJ5_length_0 : decode cJ5_length 0 = .ok (.aload_n 0, 1) := by decide +kernel
theorem dJ5_length_1 : decode cJ5_length 1 = .ok (.getfield 9, 3) := by decide +kernel
theorem dJ5_length_4 : decode cJ5_length 4 = .ok (.arraylength, 1) := by decide +kernel
theorem dJ5_length_5 : decode cJ5_length 5 = .ok (.aload_n 0, 1) := by decide +kernel
theorem dJ5_length_6 : decode cJ5_length 6 = .ok (.invokevirtual 335, 3) := by decide +kernel
theorem dJ5_length_9 : decode cJ5_length 9 = .ok (.ishr, 1) := by decide +kernel
theorem dJ5_length_10 : decode cJ5_length 10 = .ok (.ireturn, 1) := by decide +kernel
theorem dJ5_coder_0 : decode cJ5_coder 0 = .ok (.getstatic 38, 3) := by decide +kernel
theorem dJ5_coder_3 : decode cJ5_coder 3 = .ok (.ifCond .eq 10, 3) := by decide +kernel
theorem dJ5_coder_6 : decode cJ5_coder 6 = .ok (.aload_n 0, 1) := by decide +kernel
theorem dJ5_coder_7 : decode cJ5_coder 7 = .ok (.getfield 15, 3) := by decide +kernel
theorem dJ5_coder_10 : decode cJ5_coder 10 = .ok (.goto 4, 3) := by decide +kernel
theorem dJ5_coder_13 : decode cJ5_coder 13 = .ok (.iconst 1, 1) := by decide +kernel
theorem dJ5_coder_14 : decode cJ5_coder 14 = .ok (.ireturn, 1) := by decide +kernel
theorem dJ5_checkBoundsBeginEnd_0 : decode cJ5_checkBoundsBeginEnd 0 = .ok (.iload_n 0, 1) := by decide +kernel
theorem dJ5_checkBoundsBeginEnd_1 : decode cJ5_checkBoundsBeginEnd 1 = .ok (.iload_n 1, 1) := by decide +kernel
theorem dJ5_checkBoundsBeginEnd_2 : decode cJ5_checkBoundsBeginEnd 2 = .ok (.iload_n 2, 1) := by decide +kernel
theorem dJ5_checkBoundsBeginEnd_3 : decode cJ5_checkBoundsBeginEnd 3 = .ok (.getstatic 1053, 3) := by decide +kernel
theorem dJ5_checkBoundsBeginEnd_6 : decode cJ5_checkBoundsBeginEnd 6 = .ok (.invokestatic 1062, 3) := by decide +kernel
theorem dJ5_checkBoundsBeginEnd_9 : decode cJ5_checkBoundsBeginEnd 9 = .ok (.pop, 1) := by decide +kernel
theorem dJ5_checkBoundsBeginEnd_10 : decode cJ5_checkBoundsBeginEnd 10 = .ok (.return_, 1) := by decide +kernel
theorem dJ5_equals_0 : decode cJ5_equals 0 = .ok (.aload_n 0, 1) := by decide +kernel
theorem dJ5_equals_1 : decode cJ5_equals 1 = .ok (.aload_n 1, 1) := by decide +kernel
theorem dJ5_equals_2 : decode cJ5_equals 2 = .ok (.if_acmp .ne 5, 3) := by decide +kernel
theorem dJ5_equals_5 : decode cJ5_equals 5 = .ok (.iconst 1, 1) := by decide +kernel
theorem dJ5_equals_6 : decode cJ5_equals 6 = .ok (.ireturn, 1) := by decide +kernel
theorem dJ5_equals_7 : decode cJ5_equals 7 = .ok (.aload_n 1, 1) := by decide +kernel
theorem dJ5_equals_8 : decode cJ5_equals 8 = .ok (.instanceof 10, 3) := by decide +kernel
theorem dJ5_equals_11 : decode cJ5_equals 11 = .ok (.ifCond .eq 43, 3) := by decide +kernel
theorem dJ5_equals_14 : decode cJ5_equals 14 = .ok (.aload_n 1, 1) := by decide +kernel
theorem dJ5_equals_15 : decode cJ5_equals 15 = .ok (.checkcast 10, 3) := by decide +kernel
theorem dJ5_equals_18 : decode cJ5_equals 18 = .ok (.astore_n 2, 1) := by decide +kernel
theorem dJ5_equals_19 : decode cJ5_equals 19 = .ok (.getstatic 38, 3) := by decide +kernel
theorem dJ5_equals_22 : decode cJ5_equals 22 = .ok (.ifCond .eq 14, 3) := by decide +kernel
theorem dJ5_equals_25 : decode cJ5_equals 25 = .ok (.aload_n 0, 1) := by decide +kernel
theorem dJ5_equals_26 : decode cJ5_equals 26 = .ok (.getfield 15, 3) := by decide +kernel
theorem dJ5_equals_29 : decode cJ5_equals 29 = .ok (.aload_n 2, 1) := by decide +kernel
theorem dJ5_equals_30 : decode cJ5_equals 30 = .ok (.getfield 15, 3) := by decide +kernel
theorem dJ5_equals_33 : decode cJ5_equals 33 = .ok (.if_icmp .ne 21, 3) := by decide +kernel
theorem dJ5_equals_36 : decode cJ5_equals 36 = .ok (.aload_n 0, 1) := by decide +kernel
theorem dJ5_equals_37 : decode cJ5_equals 37 = .ok (.getfield 9, 3) := by decide +kernel
theorem dJ5_equals_40 : decode cJ5_equals 40 = .ok (.aload_n 2, 1) := by decide +kernel
theorem dJ5_equals_41 : decode cJ5_equals 41 = .ok (.getfield 9, 3) := by decide +kernel
theorem dJ5_equals_44 : decode cJ5_equals 44 = .ok (.invokestatic 541, 3) := by decide +kernel
theorem dJ5_equals_47 : decode cJ5_equals 47 = .ok (.ifCond .eq 7, 3) := by decide +kernel
theorem dJ5_equals_50 : decode cJ5_equals 50 = .ok (.iconst 1, 1) := by decide +kernel
theorem dJ5_equals_51 : decode cJ5_equals 51 = .ok (.goto 4, 3) := by decide +kernel
theorem dJ5_equals_54 : decode cJ5_equals 54 = .ok (.iconst 0, 1) := by decide +kernel
theorem dJ5_equals_55 : decode cJ5_equals 55 = .ok (.ireturn, 1) := by decide +kernel
theorem dJ5_hashCode_0 : decode cJ5_hashCode 0 = .ok (.aload_n 0, 1) := by decide +kernel
theorem dJ5_hashCode_1 : decode cJ5_hashCode 1 = .ok (.getfield 19, 3) := by decide +kernel
theorem dJ5_hashCode_4 : decode cJ5_hashCode 4 = .ok (.istore_n 1, 1) := by decide +kernel
theorem dJ5_hashCode_5 : decode cJ5_hashCode 5 = .ok (.iload_n 1, 1) := by decide +kernel
theorem dJ5_hashCode_6 : decode cJ5_hashCode 6 = .ok (.ifCond .ne 52, 3) := by decide +kernel
theorem dJ5_hashCode_9 : decode cJ5_hashCode 9 = .ok (.aload_n 0, 1) := by decide +kernel
theorem dJ5_hashCode_10 : decode cJ5_hashCode 10 = .ok (.getfield 23, 3) := by decide +kernel
theorem dJ5_hashCode_13 : decode cJ5_hashCode 13 = .ok (.ifCond .ne 45, 3) := by decide +kernel
theorem dJ5_hashCode_16 : decode cJ5_hashCode 16 = .ok (.aload_n 0, 1) := by decide +kernel
theorem dJ5_hashCode_17 : decode cJ5_hashCode 17 = .ok (.invokevirtual 492, 3) := by decide +kernel
theorem dJ5_hashCode_20 : decode cJ5_hashCode 20 = .ok (.ifCond .eq 13, 3) := by decide +kernel
theorem dJ5_hashCode_23 : decode cJ5_hashCode 23 = .ok (.aload_n 0, 1) := by decide +kernel
theorem dJ5_hashCode_24 : decode cJ5_hashCode 24 = .ok (.getfield 9, 3) := by decide +kernel
theorem dJ5_hashCode_27 : decode cJ5_hashCode 27 = .ok (.invokestatic 628, 3) := by decide +kernel
theorem dJ5_hashCode_30 : decode cJ5_hashCode 30 = .ok (.goto 10, 3) := by decide +kernel
theorem dJ5_hashCode_33 : decode cJ5_hashCode 33 = .ok (.aload_n 0, 1) := by decide +kernel
theorem dJ5_hashCode_34 : decode cJ5_hashCode 34 = .ok (.getfield 9, 3) := by decide +kernel
theorem dJ5_hashCode_37 : decode cJ5_hashCode 37 = .ok (.invokestatic 632, 3) := by decide +kernel
theorem dJ5_hashCode_40 : decode cJ5_hashCode 40 = .ok (.istore_n 1, 1) := by decide +kernel
theorem dJ5_hashCode_41 : decode cJ5_hashCode 41 = .ok (.iload_n 1, 1) := by decide +kernel
theorem dJ5_hashCode_42 : decode cJ5_hashCode 42 = .ok (.ifCond .ne 11, 3) := by decide +kernel
theorem dJ5_hashCode_45 : decode cJ5_hashCode 45 = .ok (.aload_n 0, 1) := by decide +kernel
theorem dJ5_hashCode_46 : decode cJ5_hashCode 46 = .ok (.iconst 1, 1) := by decide +kernel
theorem dJ5_hashCode_47 : decode cJ5_hashCode 47 = .ok (.putfield 23, 3) := by decide +kernel
theorem dJ5_hashCode_50 : decode cJ5_hashCode 50 = .ok (.goto 8, 3) := by decide +kernel
theorem dJ5_hashCode_53 : decode cJ5_hashCode 53 = .ok (.aload_n 0, 1) := by decide +kernel
theorem dJ5_hashCode_54 : decode cJ5_hashCode 54 = .ok (.iload_n 1, 1) := by decide +kernel
theorem dJ5_hashCode_55 : decode cJ5_hashCode 55 = .ok (.putfield 19, 3) := by decide +kernel
theorem dJ5_hashCode_58 : decode cJ5_hashCode 58 = .ok (.iload_n 1, 1) := by decide +kernel
theorem dJ5_hashCode_59 : decode cJ5_hashCode 59 = .ok (.ireturn, 1) := by decide +kernel
theorem dJ6_newBytesFor_0 : decode cJ6_newBytesFor 0 = .ok (.iload_n 0, 1) := by decide +kernel
theorem dJ6_newBytesFor_1 : decode cJ6_newBytesFor 1 = .ok (.invokestatic 11, 3) := by decide +kernel
theorem dJ6_newBytesFor_4 : decode cJ6_newBytesFor 4 = .ok (.newarray .byte, 2) := by decide +kernel
theorem dJ6_newBytesFor_6 : decode cJ6_newBytesFor 6 = .ok (.areturn, 1) := by decide +kernel
theorem dJ6_newBytesLength_0 : decode cJ6_newBytesLength 0 = .ok (.iload_n 0, 1) := by decide +kernel
theorem dJ6_newBytesLength_1 : decode cJ6_newBytesLength 1 = .ok (.ifCond .ge 11, 3) := by decide +kernel
theorem dJ6_newBytesLength_4 : decode cJ6_newBytesLength 4 = .ok (.new 17, 3) := by decide +kernel
theorem dJ6_newBytesLength_7 : decode cJ6_newBytesLength 7 = .ok (.dup, 1) := by decide +kernel
theorem dJ6_newBytesLength_8 : decode cJ6_newBytesLength 8 = .ok (.invokespecial 19, 3) := by decide +kernel
theorem dJ6_newBytesLength_11 : decode cJ6_newBytesLength 11 = .ok (.athrow, 1) := by decide +kernel
theorem dJ6_newBytesLength_12 : decode cJ6_newBytesLength 12 = .ok (.iload_n 0, 1) := by decide +kernel
theorem dJ6_newBytesLength_13 : decode cJ6_newBytesLength 13 = .ok (.ldc 20, 2) := by decide +kernel
theorem dJ6_newBytesLength_15 : decode cJ6_newBytesLength 15 = .ok (.if_icmp .lt 40, 3) := by decide +kernel
theorem dJ6_newBytesLength_18 : decode cJ6_newBytesLength 18 = .ok (.new 21, 3) := by decide +kernel
theorem dJ6_newBytesLength_21 : decode cJ6_newBytesLength 21 = .ok (.dup, 1) := by decide +kernel
theorem dJ6_newBytesLength_22 : decode cJ6_newBytesLength 22 = .ok (.new 23, 3) := by decide +kernel
theorem dJ6_newBytesLength_25 : decode cJ6_newBytesLength 25 = .ok (.dup, 1) := by decide +kernel
theorem dJ6_newBytesLength_26 : decode cJ6_newBytesLength 26 = .ok (.invokespecial 25, 3) := by decide +kernel
theorem dJ6_newBytesLength_29 : decode cJ6_newBytesLength 29 = .ok (.ldc 26, 2) := by decide +kernel
theorem dJ6_newBytesLength_31 : decode cJ6_newBytesLength 31 = .ok (.invokevirtual 28, 3) := by decide +kernel
theorem dJ6_newBytesLength_34 : decode cJ6_newBytesLength 34 = .ok (.iload_n 0, 1) := by decide +kernel
theorem dJ6_newBytesLength_35 : decode cJ6_newBytesLength 35 = .ok (.invokevirtual 32, 3) := by decide +kernel
theorem dJ6_newBytesLength_38 : decode cJ6_newBytesLength 38 = .ok (.ldc 35, 2) := by decide +kernel
theorem dJ6_newBytesLength_40 : decode cJ6_newBytesLength 40 = .ok (.invokevirtual 28, 3) := by decide +kernel
theorem dJ6_newBytesLength_43 : decode cJ6_newBytesLength 43 = .ok (.ldc 20, 2) := by decide +kernel
theorem dJ6_newBytesLength_45 : decode cJ6_newBytesLength 45 = .ok (.invokevirtual 32, 3) := by decide +kernel
theorem dJ6_newBytesLength_48 : decode cJ6_newBytesLength 48 = .ok (.invokevirtual 37, 3) := by decide +kernel
theorem dJ6_newBytesLength_51 : decode cJ6_newBytesLength 51 = .ok (.invokespecial 41, 3) := by decide +kernel
theorem dJ6_newBytesLength_54 : decode cJ6_newBytesLength 54 = .ok (.athrow, 1) := by decide +kernel
theorem dJ6_newBytesLength_55 : decode cJ6_newBytesLength 55 = .ok (.iload_n 0, 1) := by decide +kernel
theorem dJ6_newBytesLength_56 : decode cJ6_newBytesLength 56 = .ok (.iconst 1, 1) := by decide +kernel
theorem dJ6_newBytesLength_57 : decode cJ6_newBytesLength 57 = .ok (.ishl, 1) := by decide +kernel
theorem dJ6_newBytesLength_58 : decode cJ6_newBytesLength 58 = .ok (.ireturn, 1) := by decide +kernel
theorem dJ6_inflate_0 : decode cJ6_inflate 0 = .ok (.iload_n 3, 1) := by decide +kernel
theorem dJ6_inflate_1 : decode cJ6_inflate 1 = .ok (.iload 4, 2) := by decide +kernel
theorem dJ6_inflate_3 : decode cJ6_inflate 3 = .ok (.aload_n 2, 1) := by decide +kernel
theorem dJ6_inflate_4 : decode cJ6_inflate 4 = .ok (.invokestatic 173, 3) := by decide +kernel
theorem dJ6_inflate_7 : decode cJ6_inflate 7 = .ok (.iconst 0, 1) := by decide +kernel
theorem dJ6_inflate_8 : decode cJ6_inflate 8 = .ok (.istore 5, 2) := by decide +kernel
theorem dJ6_inflate_10 : decode cJ6_inflate 10 = .ok (.iload 5, 2) := by decide +kernel
theorem dJ6_inflate_12 : decode cJ6_inflate 12 = .ok (.iload 4, 2) := by decide +kernel
theorem dJ6_inflate_14 : decode cJ6_inflate 14 = .ok (.if_icmp .ge 27, 3) := by decide +kernel
theorem dJ6_inflate_17 : decode cJ6_inflate 17 = .ok (.aload_n 2, 1) := by decide +kernel
theorem dJ6_inflate_18 : decode cJ6_inflate 18 = .ok (.iload_n 3, 1) := by decide +kernel
theorem dJ6_inflate_19 : decode cJ6_inflate 19 = .ok (.iinc 3 1, 3) := by decide +kernel
theorem dJ6_inflate_22 : decode cJ6_inflate 22 = .ok (.aload_n 0, 1) := by decide +kernel
theorem dJ6_inflate_23 : decode cJ6_inflate 23 = .ok (.iload_n 1, 1) := by decide +kernel
theorem dJ6_inflate_24 : decode cJ6_inflate 24 = .ok (.iinc 1 1, 3) := by decide +kernel
theorem dJ6_inflate_27 : decode cJ6_inflate 27 = .ok (.baload, 1) := by decide +kernel
theorem dJ6_inflate_28 : decode cJ6_inflate 28 = .ok (.sipush 255, 3) := by decide +kernel
theorem dJ6_inflate_31 : decode cJ6_inflate 31 = .ok (.iand, 1) := by decide +kernel
theorem dJ6_inflate_32 : decode cJ6_inflate 32 = .ok (.invokestatic 111, 3) := by decide +kernel
theorem dJ6_inflate_35 : decode cJ6_inflate 35 = .ok (.iinc 5 1, 3) := by decide +kernel
theorem dJ6_inflate_38 : decode cJ6_inflate 38 = .ok (.goto (-28), 3) := by decide +kernel
theorem dJ6_inflate_41 : decode cJ6_inflate 41 = .ok (.return_, 1) := by decide +kernel
theorem dJ6_checkBoundsOffCount_0 : decode cJ6_checkBoundsOffCount 0 = .ok (.iload_n 0, 1) := by decide +kernel
theorem dJ6_checkBoundsOffCount_1 : decode cJ6_checkBoundsOffCount 1 = .ok (.iload_n 1, 1) := by decide +kernel
theorem dJ6_checkBoundsOffCount_2 : decode cJ6_checkBoundsOffCount 2 = .ok (.aload_n 2, 1) := by decide +kernel
theorem dJ6_checkBoundsOffCount_3 : decode cJ6_checkBoundsOffCount 3 = .ok (.invokestatic 48, 3) := by decide +kernel
theorem dJ6_checkBoundsOffCount_6 : decode cJ6_checkBoundsOffCount 6 = .ok (.invokestatic 419, 3) := by decide +kernel
theorem dJ6_checkBoundsOffCount_9 : decode cJ6_checkBoundsOffCount 9 = .ok (.pop, 1) := by decide +kernel
theorem dJ6_checkBoundsOffCount_10 : decode cJ6_checkBoundsOffCount 10 = .ok (.return_, 1) := by decide +kernel
theorem dJ6_length_0 : decode cJ6_length 0 = .ok (.aload_n 0, 1) := by decide +kernel
theorem dJ6_length_1 : decode cJ6_length 1 = .ok (.arraylength, 1) := by decide +kernel
theorem dJ6_length_2 : decode cJ6_length 2 = .ok (.iconst 1, 1) := by decide +kernel
theorem dJ6_length_3 : decode cJ6_length 3 = .ok (.ishr, 1) := by decide +kernel
theorem dJ6_length_4 : decode cJ6_length 4 = .ok (.ireturn, 1) := by decide +kernel
theorem dJ6_putChar_0 : decode cJ6_putChar 0 = .ok (.getstatic 44, 3) := by decide +kernel
theorem dJ6_putChar_3 : decode cJ6_putChar 3 = .ok (.ifCond .ne 25, 3) := by decide +kernel
theorem dJ6_putChar_6 : decode cJ6_putChar 6 = .ok (.iload_n 1, 1) := by decide +kernel
theorem dJ6_putChar_7 : decode cJ6_putChar 7 = .ok (.ifCond .lt 11, 3) := by decide +kernel
theorem dJ6_putChar_10 : decode cJ6_putChar 10 = .ok (.iload_n 1, 1) := by decide +kernel
theorem dJ6_putChar_11 : decode cJ6_putChar 11 = .ok (.aload_n 0, 1) := by decide +kernel
theorem dJ6_putChar_12 : decode cJ6_putChar 12 = .ok (.invokestatic 48, 3) := by decide +kernel
theorem dJ6_putChar_15 : decode cJ6_putChar 15 = .ok (.if_icmp .lt 13, 3) := by decide +kernel
theorem dJ6_putChar_18 : decode cJ6_putChar 18 = .ok (.new 52, 3) := by decide +kernel
theorem dJ6_putChar_21 : decode cJ6_putChar 21 = .ok (.dup, 1) := by decide +kernel
theorem dJ6_putChar_22 : decode cJ6_putChar 22 = .ok (.ldc 54, 2) := by decide +kernel
theorem dJ6_putChar_24 : decode cJ6_putChar 24 = .ok (.invokespecial 56, 3) := by decide +kernel
theorem dJ6_putChar_27 : decode cJ6_putChar 27 = .ok (.athrow, 1) := by decide +kernel
theorem dJ6_putChar_28 : decode cJ6_putChar 28 = .ok (.iload_n 1, 1) := by decide +kernel
theorem dJ6_putChar_29 : decode cJ6_putChar 29 = .ok (.iconst 1, 1) := by decide +kernel
theorem dJ6_putChar_30 : decode cJ6_putChar 30 = .ok (.ishl, 1) := by decide +kernel
theorem dJ6_putChar_31 : decode cJ6_putChar 31 = .ok (.istore_n 1, 1) := by decide +kernel
theorem dJ6_putChar_32 : decode cJ6_putChar 32 = .ok (.aload_n 0, 1) := by decide +kernel
theorem dJ6_putChar_33 : decode cJ6_putChar 33 = .ok (.iload_n 1, 1) := by decide +kernel
theorem dJ6_putChar_34 : decode cJ6_putChar 34 = .ok (.iinc 1 1, 3) := by decide +kernel
theorem dJ6_putChar_37 : decode cJ6_putChar 37 = .ok (.iload_n 2, 1) := by decide +kernel
theorem dJ6_putChar_38 : decode cJ6_putChar 38 = .ok (.getstatic 59, 3) := by decide +kernel
theorem dJ6_putChar_41 : decode cJ6_putChar 41 = .ok (.ishr, 1) := by decide +kernel
theorem dJ6_putChar_42 : decode cJ6_putChar 42 = .ok (.i2b, 1) := by decide +kernel
theorem dJ6_putChar_43 : decode cJ6_putChar 43 = .ok (.bastore, 1) := by decide +kernel
theorem dJ6_putChar_44 : decode cJ6_putChar 44 = .ok (.aload_n 0, 1) := by decide +kernel
theorem dJ6_putChar_45 : decode cJ6_putChar 45 = .ok (.iload_n 1, 1) := by decide +kernel
theorem dJ6_putChar_46 : decode cJ6_putChar 46 = .ok (.iload_n 2, 1) := by decide +kernel
theorem dJ6_putChar_47 : decode cJ6_putChar 47 = .ok (.getstatic 63, 3) := by decide +kernel
theorem dJ6_putChar_50 : decode cJ6_putChar 50 = .ok (.ishr, 1) := by decide +kernel
theorem dJ6_putChar_51 : decode cJ6_putChar 51 = .ok (.i2b, 1) := by decide +kernel
theorem dJ6_putChar_52 : decode cJ6_putChar 52 = .ok (.bastore, 1) := by decide +kernel
theorem dJ6_putChar_53 : decode cJ6_putChar 53 = .ok (.return_, 1) := by decide +kernel
theorem dJ6_putCharSB_0 : decode cJ6_putCharSB 0 = .ok (.iload_n 1, 1) := by decide +kernel
theorem dJ6_putCharSB_1 : decode cJ6_putCharSB 1 = .ok (.aload_n 0, 1) := by decide +kernel
theorem dJ6_putCharSB_2 : decode cJ6_putCharSB 2 = .ok (.invokestatic 67, 3) := by decide +kernel
theorem dJ6_putCharSB_5 : decode cJ6_putCharSB 5 = .ok (.aload_n 0, 1) := by decide +kernel
theorem dJ6_putCharSB_6 : decode cJ6_putCharSB 6 = .ok (.iload_n 1, 1) := by decide +kernel
theorem dJ6_putCharSB_7 : decode cJ6_putCharSB 7 = .ok (.iload_n 2, 1) := by decide +kernel
theorem dJ6_putCharSB_8 : decode cJ6_putCharSB 8 = .ok (.invokestatic 111, 3) := by decide +kernel
theorem dJ6_putCharSB_11 : decode cJ6_putCharSB 11 = .ok (.return_, 1) := by decide +kernel
theorem dJ6_checkIndex_0 : decode cJ6_checkIndex 0 = .ok (.iload_n 0, 1) := by decide +kernel
theorem dJ6_checkIndex_1 : decode cJ6_checkIndex 1 = .ok (.aload_n 1, 1) := by decide +kernel
theorem dJ6_checkIndex_2 : decode cJ6_checkIndex 2 = .ok (.invokestatic 48, 3) := by decide +kernel
theorem dJ6_checkIndex_5 : decode cJ6_checkIndex 5 = .ok (.invokestatic 414, 3) := by decide +kernel
theorem dJ6_checkIndex_8 : decode cJ6_checkIndex 8 = .ok (.return_, 1) := by decide +kernel
theorem dJ6_compress_0 : decode cJ6_compress 0 = .ok (.iload_n 2, 1) := by decide +kernel
theorem dJ6_compress_1 : decode cJ6_compress 1 = .ok (.newarray .byte, 2) := by decide +kernel
theorem dJ6_compress_3 : decode cJ6_compress 3 = .ok (.astore_n 3, 1) := by decide +kernel
theorem dJ6_compress_4 : decode cJ6_compress 4 = .ok (.aload_n 0, 1) := by decide +kernel
theorem dJ6_compress_5 : decode cJ6_compress 5 = .ok (.iload_n 1, 1) := by decide +kernel
theorem dJ6_compress_6 : decode cJ6_compress 6 = .ok (.aload_n 3, 1) := by decide +kernel
theorem dJ6_compress_7 : decode cJ6_compress 7 = .ok (.iconst 0, 1) := by decide +kernel
theorem dJ6_compress_8 : decode cJ6_compress 8 = .ok (.iload_n 2, 1) := by decide +kernel
theorem dJ6_compress_9 : decode cJ6_compress 9 = .ok (.invokestatic 123, 3) := by decide +kernel
theorem dJ6_compress_12 : decode cJ6_compress 12 = .ok (.istore 4, 2) := by decide +kernel
theorem dJ6_compress_14 : decode cJ6_compress 14 = .ok (.iload 4, 2) := by decide +kernel
theorem dJ6_compress_16 : decode cJ6_compress 16 = .ok (.iload_n 2, 1) := by decide +kernel
theorem dJ6_compress_17 : decode cJ6_compress 17 = .ok (.if_icmp .eq 47, 3) := by decide +kernel
theorem dJ6_compress_20 : decode cJ6_compress 20 = .ok (.aload_n 0, 1) := by decide +kernel
theorem dJ6_compress_21 : decode cJ6_compress 21 = .ok (.iload_n 1, 1) := by decide +kernel
theorem dJ6_compress_22 : decode cJ6_compress 22 = .ok (.iconst 1, 1) := by decide +kernel
theorem dJ6_compress_23 : decode cJ6_compress 23 = .ok (.ishl, 1) := by decide +kernel
theorem dJ6_compress_24 : decode cJ6_compress 24 = .ok (.iload_n 1, 1) := by decide +kernel
theorem dJ6_compress_25 : decode cJ6_compress 25 = .ok (.iload_n 2, 1) := by decide +kernel
theorem dJ6_compress_26 : decode cJ6_compress 26 = .ok (.iadd, 1) := by decide +kernel
theorem dJ6_compress_27 : decode cJ6_compress 27 = .ok (.invokestatic 11, 3) := by decide +kernel
theorem dJ6_compress_30 : decode cJ6_compress 30 = .ok (.invokestatic 126, 3) := by decide +kernel
theorem dJ6_compress_33 : decode cJ6_compress 33 = .ok (.astore 5, 2) := by decide +kernel
theorem dJ6_compress_35 : decode cJ6_compress 35 = .ok (.aload 5, 2) := by decide +kernel
theorem dJ6_compress_37 : decode cJ6_compress 37 = .ok (.iload 4, 2) := by decide +kernel
theorem dJ6_compress_39 : decode cJ6_compress 39 = .ok (.invokestatic 71, 3) := by decide +kernel
theorem dJ6_compress_42 : decode cJ6_compress 42 = .ok (.sipush 255, 3) := by decide +kernel
theorem dJ6_compress_45 : decode cJ6_compress 45 = .ok (.if_icmp .gt 16, 3) := by decide +kernel
theorem dJ6_compress_48 : decode cJ6_compress 48 = .ok (.aload 5, 2) := by decide +kernel
theorem dJ6_compress_50 : decode cJ6_compress 50 = .ok (.iconst 0, 1) := by decide +kernel
theorem dJ6_compress_51 : decode cJ6_compress 51 = .ok (.aload_n 3, 1) := by decide +kernel
theorem dJ6_compress_52 : decode cJ6_compress 52 = .ok (.iconst 0, 1) := by decide +kernel
theorem dJ6_compress_53 : decode cJ6_compress 53 = .ok (.iload_n 2, 1) := by decide +kernel
theorem dJ6_compress_54 : decode cJ6_compress 54 = .ok (.invokestatic 123, 3) := by decide +kernel
theorem dJ6_compress_57 : decode cJ6_compress 57 = .ok (.iload_n 2, 1) := by decide +kernel
theorem dJ6_compress_58 : decode cJ6_compress 58 = .ok (.if_icmp .eq 6, 3) := by decide +kernel
theorem dJ6_compress_61 : decode cJ6_compress 61 = .ok (.aload 5, 2) := by decide +kernel
theorem dJ6_compress_63 : decode cJ6_compress 63 = .ok (.areturn, 1) := by decide +kernel
theorem dJ6_compress_64 : decode cJ6_compress 64 = .ok (.aload_n 3, 1) := by decide +kernel
theorem dJ6_compress_65 : decode cJ6_compress 65 = .ok (.areturn, 1) := by decide +kernel
theorem dJ6_compress_2_0 : decode cJ6_compress_2 0 = .ok (.iload_n 1, 1) := by decide +kernel
theorem dJ6_compress_2_1 : decode cJ6_compress_2 1 = .ok (.iload 4, 2) := by decide +kernel
theorem dJ6_compress_2_3 : decode cJ6_compress_2 3 = .ok (.aload_n 0, 1) := by decide +kernel
theorem dJ6_compress_2_4 : decode cJ6_compress_2 4 = .ok (.invokestatic 173, 3) := by decide +kernel
theorem dJ6_compress_2_7 : decode cJ6_compress_2 7 = .ok (.iconst 0, 1) := by decide +kernel
theorem dJ6_compress_2_8 : decode cJ6_compress_2 8 = .ok (.istore 5, 2) := by decide +kernel
theorem dJ6_compress_2_10 : decode cJ6_compress_2 10 = .ok (.iload 5, 2) := by decide +kernel
theorem dJ6_compress_2_12 : decode cJ6_compress_2 12 = .ok (.iload 4, 2) := by decide +kernel
theorem dJ6_compress_2_14 : decode cJ6_compress_2 14 = .ok (.if_icmp .ge 39, 3) := by decide +kernel
theorem dJ6_compress_2_17 : decode cJ6_compress_2 17 = .ok (.aload_n 0, 1) := by decide +kernel
theorem dJ6_compress_2_18 : decode cJ6_compress_2 18 = .ok (.iload_n 1, 1) := by decide +kernel
theorem dJ6_compress_2_19 : decode cJ6_compress_2 19 = .ok (.invokestatic 71, 3) := by decide +kernel
